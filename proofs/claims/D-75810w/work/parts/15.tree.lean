set_option maxRecDepth 100000
set_option maxHeartbeats 10000000
theorem mo_J23_init : MOk yJ23_init 0 := by decide +kernel
theorem mc_J23_init : MC yJ23_init cJ23_init 1 0 := ⟨q1372, q148, q1373, rfl, mo_J23_init⟩
theorem ct_J24 : CL[23]? = some (RJ24, TJ24, 9) := rfl
theorem ck_J24 : ClsOk RJ24 TJ24 9 tyJ24 := ⟨in_J24, tyJ24_ok, nmJ24⟩
theorem fo_J24_4_java_util_TreeMap : FieldOk "java/util/TreeMap" 23 4 RJ24 TJ24 9 := ⟨ct_J24, Nat.le_of_ble_eq_true rfl, Or.inl rfl⟩
theorem fl_java_util_TreeMap_7_J24 : Cond.fieldLink "java/util/TreeMap" 7 "java/util/TreeMap" (TJ24 4).2.1 (TJ24 4).2.2.1 ∈ lw_all ∨ ∃ host, Cond.fieldLinkNest "java/util/TreeMap" 7 "java/util/TreeMap" (TJ24 4).2.1 (TJ24 4).2.2.1 host ∈ lw_tbl := Or.inl q1377
theorem fo_J24_5_java_util_TreeMap : FieldOk "java/util/TreeMap" 23 5 RJ24 TJ24 9 := ⟨ct_J24, Nat.le_of_ble_eq_true rfl, Or.inl rfl⟩
theorem fl_java_util_TreeMap_13_J24 : Cond.fieldLink "java/util/TreeMap" 13 "java/util/TreeMap" (TJ24 5).2.1 (TJ24 5).2.2.1 ∈ lw_all ∨ ∃ host, Cond.fieldLinkNest "java/util/TreeMap" 13 "java/util/TreeMap" (TJ24 5).2.1 (TJ24 5).2.2.1 host ∈ lw_tbl := Or.inl q1378
theorem fo_J24_2_java_util_TreeMap : FieldOk "java/util/TreeMap" 23 2 RJ24 TJ24 9 := ⟨ct_J24, Nat.le_of_ble_eq_true rfl, Or.inl rfl⟩
theorem fl_java_util_TreeMap_16_J24 : Cond.fieldLink "java/util/TreeMap" 16 "java/util/TreeMap" (TJ24 2).2.1 (TJ24 2).2.2.1 ∈ lw_all ∨ ∃ host, Cond.fieldLinkNest "java/util/TreeMap" 16 "java/util/TreeMap" (TJ24 2).2.1 (TJ24 2).2.2.1 host ∈ lw_tbl := Or.inl q1375
theorem mo_J20_compareTo : MOk yJ20_compareTo 1 := by decide +kernel
theorem moi_java_lang_Comparable_compareTo__Ljava_lang_Object__I : MOk ({ cls := "java/lang/Comparable", name := "compareTo", desc := "(Ljava/lang/Object;)I" } : MethodName) 1 := by decide +kernel
theorem ct_J25 : CL[24]? = some (RJ25, TJ25, 6) := rfl
theorem ck_J25 : ClsOk RJ25 TJ25 6 tyJ25 := ⟨in_J25, tyJ25_ok, nmJ25⟩
theorem fo_J25_5_java_util_TreeMap_Entry : FieldOk "java/util/TreeMap$Entry" 24 5 RJ25 TJ25 6 := ⟨ct_J25, Nat.le_of_ble_eq_true rfl, Or.inl rfl⟩
theorem fl_java_util_TreeMap_Entry_9_J25 : Cond.fieldLink "java/util/TreeMap$Entry" 9 "java/util/TreeMap$Entry" (TJ25 5).2.1 (TJ25 5).2.2.1 ∈ lw_all ∨ ∃ host, Cond.fieldLinkNest "java/util/TreeMap$Entry" 9 "java/util/TreeMap$Entry" (TJ25 5).2.1 (TJ25 5).2.2.1 host ∈ lw_tbl := Or.inl q1514
theorem fo_J25_0_java_util_TreeMap_Entry : FieldOk "java/util/TreeMap$Entry" 24 0 RJ25 TJ25 6 := ⟨ct_J25, Nat.le_of_ble_eq_true rfl, Or.inl rfl⟩
theorem fl_java_util_TreeMap_Entry_15_J25 : Cond.fieldLink "java/util/TreeMap$Entry" 15 "java/util/TreeMap$Entry" (TJ25 0).2.1 (TJ25 0).2.2.1 ∈ lw_all ∨ ∃ host, Cond.fieldLinkNest "java/util/TreeMap$Entry" 15 "java/util/TreeMap$Entry" (TJ25 0).2.1 (TJ25 0).2.2.1 host ∈ lw_tbl := Or.inl q1506
theorem fo_J25_1_java_util_TreeMap_Entry : FieldOk "java/util/TreeMap$Entry" 24 1 RJ25 TJ25 6 := ⟨ct_J25, Nat.le_of_ble_eq_true rfl, Or.inl rfl⟩
theorem fl_java_util_TreeMap_Entry_19_J25 : Cond.fieldLink "java/util/TreeMap$Entry" 19 "java/util/TreeMap$Entry" (TJ25 1).2.1 (TJ25 1).2.2.1 ∈ lw_all ∨ ∃ host, Cond.fieldLinkNest "java/util/TreeMap$Entry" 19 "java/util/TreeMap$Entry" (TJ25 1).2.1 (TJ25 1).2.2.1 host ∈ lw_tbl := Or.inl q1508
theorem fo_J25_4_java_util_TreeMap_Entry : FieldOk "java/util/TreeMap$Entry" 24 4 RJ25 TJ25 6 := ⟨ct_J25, Nat.le_of_ble_eq_true rfl, Or.inl rfl⟩
theorem fl_java_util_TreeMap_Entry_22_J25 : Cond.fieldLink "java/util/TreeMap$Entry" 22 "java/util/TreeMap$Entry" (TJ25 4).2.1 (TJ25 4).2.2.1 ∈ lw_all ∨ ∃ host, Cond.fieldLinkNest "java/util/TreeMap$Entry" 22 "java/util/TreeMap$Entry" (TJ25 4).2.1 (TJ25 4).2.2.1 host ∈ lw_tbl := Or.inl q1512
theorem mo_J24_compare : MOk yJ24_compare 2 := by decide +kernel
theorem mi_J24_compare : MI yJ24_compare "java/util/TreeMap" cJ24_compare 3 (some .int) 2 := ⟨q1492, q1493, q149, q1494, rfl, mo_J24_compare⟩
theorem df_J25 : ∀ j, j < 6 → defaultValue (tyJ25 j) = vp_V [va_rf none, va_rf none, va_rf none, va_rf none, va_rf none, .int 0] j := fun j hj => by rcases (show j = 0 ∨ j = 1 ∨ j = 2 ∨ j = 3 ∨ j = 4 ∨ j = 5 by omega) with rfl | rfl | rfl | rfl | rfl | rfl <;> rfl
theorem mo_J25_init : MOk yJ25_init 3 := by decide +kernel
theorem mc_J25_init : MC yJ25_init cJ25_init 4 3 := ⟨q1503, q151, q1504, rfl, mo_J25_init⟩
theorem fo_J24_3_java_util_TreeMap : FieldOk "java/util/TreeMap" 23 3 RJ24 TJ24 9 := ⟨ct_J24, Nat.le_of_ble_eq_true rfl, Or.inl rfl⟩
theorem fl_java_util_TreeMap_101_J24 : Cond.fieldLink "java/util/TreeMap" 101 "java/util/TreeMap" (TJ24 3).2.1 (TJ24 3).2.2.1 ∈ lw_all ∨ ∃ host, Cond.fieldLinkNest "java/util/TreeMap" 101 "java/util/TreeMap" (TJ24 3).2.1 (TJ24 3).2.2.1 host ∈ lw_tbl := Or.inl q1376
theorem fl_java_util_TreeMap_124_J25 : Cond.fieldLink "java/util/TreeMap" 124 "java/util/TreeMap$Entry" (TJ25 4).2.1 (TJ25 4).2.2.1 ∈ lw_all ∨ ∃ host, Cond.fieldLinkNest "java/util/TreeMap" 124 "java/util/TreeMap$Entry" (TJ25 4).2.1 (TJ25 4).2.2.1 host ∈ lw_tbl := Or.inl q1513
theorem fo_J25_2_java_util_TreeMap_Entry : FieldOk "java/util/TreeMap$Entry" 24 2 RJ25 TJ25 6 := ⟨ct_J25, Nat.le_of_ble_eq_true rfl, Or.inl rfl⟩
theorem fl_java_util_TreeMap_111_J25 : Cond.fieldLink "java/util/TreeMap" 111 "java/util/TreeMap$Entry" (TJ25 2).2.1 (TJ25 2).2.2.1 ∈ lw_all ∨ ∃ host, Cond.fieldLinkNest "java/util/TreeMap" 111 "java/util/TreeMap$Entry" (TJ25 2).2.1 (TJ25 2).2.2.1 host ∈ lw_tbl := Or.inl q1510
theorem fo_J25_3_java_util_TreeMap_Entry : FieldOk "java/util/TreeMap$Entry" 24 3 RJ25 TJ25 6 := ⟨ct_J25, Nat.le_of_ble_eq_true rfl, Or.inl rfl⟩
theorem fl_java_util_TreeMap_114_J25 : Cond.fieldLink "java/util/TreeMap" 114 "java/util/TreeMap$Entry" (TJ25 3).2.1 (TJ25 3).2.2.1 ∈ lw_all ∨ ∃ host, Cond.fieldLinkNest "java/util/TreeMap" 114 "java/util/TreeMap$Entry" (TJ25 3).2.1 (TJ25 3).2.2.1 host ∈ lw_tbl := Or.inl q1511
theorem fl_java_util_TreeMap_290_J25 : Cond.fieldLink "java/util/TreeMap" 290 "java/util/TreeMap$Entry" (TJ25 5).2.1 (TJ25 5).2.2.1 ∈ lw_all ∨ ∃ host, Cond.fieldLinkNest "java/util/TreeMap" 290 "java/util/TreeMap$Entry" (TJ25 5).2.1 (TJ25 5).2.2.1 host ∈ lw_tbl := Or.inl q1515
theorem mo_J24_parentOf : MOk yJ24_parentOf 1 := by decide +kernel
theorem ms_J24_parentOf : MS yJ24_parentOf cJ24_parentOf 1 (some (.object "java/util/TreeMap$Entry")) 1 := ⟨q1541, q149, q1542, mo_J24_parentOf⟩
theorem mo_J24_setColor : MOk yJ24_setColor 2 := by decide +kernel
theorem ms_J24_setColor : MS yJ24_setColor cJ24_setColor 2 none 2 := ⟨q1553, q149, q1554, mo_J24_setColor⟩
theorem mo_J24_rotateLeft : MOk yJ24_rotateLeft 1 := by decide +kernel
theorem mi_J24_rotateLeft : MI yJ24_rotateLeft "java/util/TreeMap" cJ24_rotateLeft 3 none 1 := ⟨q1557, qs26, q149, q1558, rfl, mo_J24_rotateLeft⟩
theorem mo_J24_rotateRight : MOk yJ24_rotateRight 1 := by decide +kernel
theorem mi_J24_rotateRight : MI yJ24_rotateRight "java/util/TreeMap" cJ24_rotateRight 3 none 1 := ⟨q1561, qs27, q149, q1562, rfl, mo_J24_rotateRight⟩
theorem mo_J24_leftOf : MOk yJ24_leftOf 1 := by decide +kernel
theorem ms_J24_leftOf : MS yJ24_leftOf cJ24_leftOf 1 (some (.object "java/util/TreeMap$Entry")) 1 := ⟨q1544, q149, q1545, mo_J24_leftOf⟩
theorem mo_J24_colorOf : MOk yJ24_colorOf 1 := by decide +kernel
theorem ms_J24_colorOf : MS yJ24_colorOf cJ24_colorOf 1 (some .boolean) 1 := ⟨q1550, q149, q1551, mo_J24_colorOf⟩
theorem mo_J24_rightOf : MOk yJ24_rightOf 1 := by decide +kernel
theorem ms_J24_rightOf : MS yJ24_rightOf cJ24_rightOf 1 (some (.object "java/util/TreeMap$Entry")) 1 := ⟨q1547, q149, q1548, mo_J24_rightOf⟩
theorem mo_J24_fixAfterInsertion : MOk yJ24_fixAfterInsertion 1 := by decide +kernel
theorem mi_J24_fixAfterInsertion : MI yJ24_fixAfterInsertion "java/util/TreeMap" cJ24_fixAfterInsertion 3 none 1 := ⟨q1538, qs25, q149, q1539, rfl, mo_J24_fixAfterInsertion⟩
theorem fl_java_util_TreeMap_105_J25 : Cond.fieldLink "java/util/TreeMap" 105 "java/util/TreeMap$Entry" (TJ25 0).2.1 (TJ25 0).2.2.1 ∈ lw_all ∨ ∃ host, Cond.fieldLinkNest "java/util/TreeMap" 105 "java/util/TreeMap$Entry" (TJ25 0).2.1 (TJ25 0).2.2.1 host ∈ lw_tbl := Or.inl q1507
theorem fl_java_util_TreeMap_58_J25 : Cond.fieldLink "java/util/TreeMap" 58 "java/util/TreeMap$Entry" (TJ25 1).2.1 (TJ25 1).2.2.1 ∈ lw_all ∨ ∃ host, Cond.fieldLinkNest "java/util/TreeMap" 58 "java/util/TreeMap$Entry" (TJ25 1).2.1 (TJ25 1).2.2.1 host ∈ lw_tbl := Or.inl q1509
theorem mo_J24_addEntry : MOk yJ24_addEntry 4 := by decide +kernel
theorem mi_J24_addEntry : MI yJ24_addEntry "java/util/TreeMap" cJ24_addEntry 6 none 4 := ⟨q1534, qs24, q149, q1535, rfl, mo_J24_addEntry⟩
theorem mo_J18_requireNonNull : MOk yJ18_requireNonNull 1 := by decide +kernel
theorem ms_J18_requireNonNull : MS yJ18_requireNonNull cJ18_requireNonNull 1 (some (.object "java/lang/Object")) 1 := ⟨q1530, q138, q1531, mo_J18_requireNonNull⟩
theorem mo_J24_addEntryToEmptyMap : MOk yJ24_addEntryToEmptyMap 2 := by decide +kernel
theorem mi_J24_addEntryToEmptyMap : MI yJ24_addEntryToEmptyMap "java/util/TreeMap" cJ24_addEntryToEmptyMap 3 none 2 := ⟨q1489, qs23, q149, q1490, rfl, mo_J24_addEntryToEmptyMap⟩
theorem mo_J24_put_2 : MOk yJ24_put_2 3 := by decide +kernel
theorem mi_J24_put_2 : MI yJ24_put_2 "java/util/TreeMap" cJ24_put_2 10 (some (.object "java/lang/Object")) 3 := ⟨q1485, qs22, q149, q1486, rfl, mo_J24_put_2⟩
theorem mo_J24_getEntry : MOk yJ24_getEntry 1 := by decide +kernel
theorem mi_J24_getEntry : MI yJ24_getEntry "java/util/TreeMap" cJ24_getEntry 5 (some (.object "java/util/TreeMap$Entry")) 1 := ⟨q1661, q1662, q149, q1663, rfl, mo_J24_getEntry⟩
theorem ct_J37 : CL[25]? = some (RJ37, TJ37, 1) := rfl
theorem ck_J37 : ClsOk RJ37 TJ37 1 tyJ37 := ⟨in_J37, tyJ37_ok, nmJ37⟩
theorem fo_J37_0_java_util_TreeMap_EntrySet : FieldOk "java/util/TreeMap$EntrySet" 25 0 RJ37 TJ37 1 := ⟨ct_J37, Nat.le_of_ble_eq_true rfl, Or.inl rfl⟩
theorem fl_java_util_TreeMap_EntrySet_1_J37 : Cond.fieldLink "java/util/TreeMap$EntrySet" 1 "java/util/TreeMap$EntrySet" (TJ37 0).2.1 (TJ37 0).2.2.1 ∈ lw_all ∨ ∃ host, Cond.fieldLinkNest "java/util/TreeMap$EntrySet" 1 "java/util/TreeMap$EntrySet" (TJ37 0).2.1 (TJ37 0).2.2.1 host ∈ lw_tbl := Or.inl q2114
theorem mo_J35_init : MOk yJ35_init 0 := by decide +kernel
theorem mc_J35_init : MC yJ35_init cJ35_init 1 0 := ⟨q2096, q167, q2097, rfl, mo_J35_init⟩
theorem fo_J24_6_java_util_TreeMap : FieldOk "java/util/TreeMap" 23 6 RJ24 TJ24 9 := ⟨ct_J24, Nat.le_of_ble_eq_true rfl, Or.inl rfl⟩
theorem fl_java_util_TreeMap_188_J24 : Cond.fieldLink "java/util/TreeMap" 188 "java/util/TreeMap" (TJ24 6).2.1 (TJ24 6).2.2.1 ∈ lw_all ∨ ∃ host, Cond.fieldLinkNest "java/util/TreeMap" 188 "java/util/TreeMap" (TJ24 6).2.1 (TJ24 6).2.2.1 host ∈ lw_tbl := Or.inl q1380
theorem df_J37 : ∀ j, j < 1 → defaultValue (tyJ37 j) = vp_V [va_rf none] j := fun j hj => by rcases (show j = 0 by omega) with rfl <;> rfl
theorem mo_J37_init : MOk yJ37_init 1 := by decide +kernel
theorem mc_J37_init : MC yJ37_init cJ37_init 2 1 := ⟨q2111, q169, q2112, rfl, mo_J37_init⟩
theorem ct_J41 : CL[26]? = some (RJ41, TJ41, 4) := rfl
theorem ck_J41 : ClsOk RJ41 TJ41 4 tyJ41 := ⟨in_J41, tyJ41_ok, nmJ41⟩
theorem fo_J41_3_java_util_TreeMap_PrivateEntryIterator : FieldOk "java/util/TreeMap$PrivateEntryIterator" 26 3 RJ41 TJ41 4 := ⟨ct_J41, Nat.le_of_ble_eq_true rfl, Or.inl rfl⟩
theorem fl_java_util_TreeMap_PrivateEntryIterator_1_J41 : Cond.fieldLink "java/util/TreeMap$PrivateEntryIterator" 1 "java/util/TreeMap$PrivateEntryIterator" (TJ41 3).2.1 (TJ41 3).2.2.1 ∈ lw_all ∨ ∃ host, Cond.fieldLinkNest "java/util/TreeMap$PrivateEntryIterator" 1 "java/util/TreeMap$PrivateEntryIterator" (TJ41 3).2.1 (TJ41 3).2.2.1 host ∈ lw_tbl := Or.inl q2175
theorem fl_java_util_TreeMap_PrivateEntryIterator_13_J24 : Cond.fieldLink "java/util/TreeMap$PrivateEntryIterator" 13 "java/util/TreeMap" (TJ24 5).2.1 (TJ24 5).2.2.1 ∈ lw_all ∨ ∃ host, Cond.fieldLinkNest "java/util/TreeMap$PrivateEntryIterator" 13 "java/util/TreeMap" (TJ24 5).2.1 (TJ24 5).2.2.1 host ∈ lw_tbl := Or.inr ⟨_, q1379⟩
theorem fo_J41_2_java_util_TreeMap_PrivateEntryIterator : FieldOk "java/util/TreeMap$PrivateEntryIterator" 26 2 RJ41 TJ41 4 := ⟨ct_J41, Nat.le_of_ble_eq_true rfl, Or.inl rfl⟩
theorem fl_java_util_TreeMap_PrivateEntryIterator_19_J41 : Cond.fieldLink "java/util/TreeMap$PrivateEntryIterator" 19 "java/util/TreeMap$PrivateEntryIterator" (TJ41 2).2.1 (TJ41 2).2.2.1 ∈ lw_all ∨ ∃ host, Cond.fieldLinkNest "java/util/TreeMap$PrivateEntryIterator" 19 "java/util/TreeMap$PrivateEntryIterator" (TJ41 2).2.1 (TJ41 2).2.2.1 host ∈ lw_tbl := Or.inl q2174
theorem fo_J41_1_java_util_TreeMap_PrivateEntryIterator : FieldOk "java/util/TreeMap$PrivateEntryIterator" 26 1 RJ41 TJ41 4 := ⟨ct_J41, Nat.le_of_ble_eq_true rfl, Or.inl rfl⟩
theorem fl_java_util_TreeMap_PrivateEntryIterator_22_J41 : Cond.fieldLink "java/util/TreeMap$PrivateEntryIterator" 22 "java/util/TreeMap$PrivateEntryIterator" (TJ41 1).2.1 (TJ41 1).2.2.1 ∈ lw_all ∨ ∃ host, Cond.fieldLinkNest "java/util/TreeMap$PrivateEntryIterator" 22 "java/util/TreeMap$PrivateEntryIterator" (TJ41 1).2.1 (TJ41 1).2.2.1 host ∈ lw_tbl := Or.inl q2173
theorem fo_J41_0_java_util_TreeMap_PrivateEntryIterator : FieldOk "java/util/TreeMap$PrivateEntryIterator" 26 0 RJ41 TJ41 4 := ⟨ct_J41, Nat.le_of_ble_eq_true rfl, Or.inl rfl⟩
theorem fl_java_util_TreeMap_PrivateEntryIterator_26_J41 : Cond.fieldLink "java/util/TreeMap$PrivateEntryIterator" 26 "java/util/TreeMap$PrivateEntryIterator" (TJ41 0).2.1 (TJ41 0).2.2.1 ∈ lw_all ∨ ∃ host, Cond.fieldLinkNest "java/util/TreeMap$PrivateEntryIterator" 26 "java/util/TreeMap$PrivateEntryIterator" (TJ41 0).2.1 (TJ41 0).2.2.1 host ∈ lw_tbl := Or.inl q2172
theorem mo_J40_init : MOk yJ40_init 2 := by decide +kernel
theorem mc_J40_init : MC yJ40_init cJ40_init 3 2 := ⟨q2169, q172, q2170, rfl, mo_J40_init⟩
theorem df_J41 : ∀ j, j < 4 → defaultValue (tyJ41 j) = vp_V [va_rf none, va_rf none, .int 0, va_rf none] j := fun j hj => by rcases (show j = 0 ∨ j = 1 ∨ j = 2 ∨ j = 3 by omega) with rfl | rfl | rfl | rfl <;> rfl
theorem mo_J24_getFirstEntry : MOk yJ24_getFirstEntry 0 := by decide +kernel
theorem mi_J24_getFirstEntry : MI yJ24_getFirstEntry "java/util/TreeMap" cJ24_getFirstEntry 2 (some (.object "java/util/TreeMap$Entry")) 0 := ⟨q2162, q2163, q149, q2164, rfl, mo_J24_getFirstEntry⟩
theorem mo_J41_init : MOk yJ41_init 2 := by decide +kernel
theorem mc_J41_init : MC yJ41_init cJ41_init 3 2 := ⟨q2166, q173, q2167, rfl, mo_J41_init⟩
theorem mo_J20_numberOfLeadingZeros : MOk yJ20_numberOfLeadingZeros 1 := by decide +kernel
theorem ms_J20_numberOfLeadingZeros : MS yJ20_numberOfLeadingZeros cJ20_numberOfLeadingZeros 2 (some .int) 1 := ⟨q1207, q140, q1208, mo_J20_numberOfLeadingZeros⟩
theorem mo_J24_successor : MOk yJ24_successor 1 := by decide +kernel
theorem ms_J24_successor : MS yJ24_successor cJ24_successor 3 (some (.object "java/util/TreeMap$Entry")) 1 := ⟨q2316, q149, q2317, mo_J24_successor⟩
theorem mo_J40_nextEntry : MOk yJ40_nextEntry 0 := by decide +kernel
theorem mo_J41_next_2 : MOk yJ41_next_2 0 := by decide +kernel
theorem mi_J41_next_2 : MI yJ41_next_2 "java/util/TreeMap$EntryIterator" cJ41_next_2 1 (some (.object "java/util/Map$Entry")) 0 := ⟨q2306, q2307, q173, q2308, rfl, mo_J41_next_2⟩
theorem mo_J24_buildFromSorted_2 : MOk yJ24_buildFromSorted_2 7 := by decide +kernel
theorem mi_J24_buildFromSorted_2 : MI yJ24_buildFromSorted_2 "java/util/TreeMap" cJ24_buildFromSorted_2 14 (some (.object "java/util/TreeMap$Entry")) 7 := ⟨q2195, qs33, q149, q2196, rfl, mo_J24_buildFromSorted_2⟩
theorem mo_J25_getValue : MOk yJ25_getValue 0 := by decide +kernel
theorem moi_java_util_Map_Entry_getValue___Ljava_lang_Object_ : MOk ({ cls := "java/util/Map$Entry", name := "getValue", desc := "()Ljava/lang/Object;" } : MethodName) 0 := by decide +kernel
theorem mo_J25_getKey : MOk yJ25_getKey 0 := by decide +kernel
theorem moi_java_util_Map_Entry_getKey___Ljava_lang_Object_ : MOk ({ cls := "java/util/Map$Entry", name := "getKey", desc := "()Ljava/lang/Object;" } : MethodName) 0 := by decide +kernel
theorem mo_J41_next : MOk yJ41_next 0 := by decide +kernel
theorem moi_java_util_Iterator_next___Ljava_lang_Object_ : MOk ({ cls := "java/util/Iterator", name := "next", desc := "()Ljava/lang/Object;" } : MethodName) 0 := by decide +kernel
theorem mo_J24_computeRedLevel : MOk yJ24_computeRedLevel 1 := by decide +kernel
theorem ms_J24_computeRedLevel : MS yJ24_computeRedLevel cJ24_computeRedLevel 1 (some .int) 1 := ⟨q2190, q149, q2191, mo_J24_computeRedLevel⟩
theorem mo_J18_equals : MOk yJ18_equals 2 := by decide +kernel
theorem ms_J18_equals : MS yJ18_equals cJ18_equals 2 (some .boolean) 2 := ⟨q2078, q138, q2079, mo_J18_equals⟩
theorem mo_J24_buildFromSorted : MOk yJ24_buildFromSorted 4 := by decide +kernel
theorem mi_J24_buildFromSorted : MI yJ24_buildFromSorted "java/util/TreeMap" cJ24_buildFromSorted 5 none 4 := ⟨q2187, qs32, q149, q2188, rfl, mo_J24_buildFromSorted⟩
theorem mo_J37_iterator : MOk yJ37_iterator 0 := by decide +kernel
theorem moi_java_util_Set_iterator___Ljava_util_Iterator_ : MOk ({ cls := "java/util/Set", name := "iterator", desc := "()Ljava/util/Iterator;" } : MethodName) 0 := by decide +kernel
theorem mo_J24_entrySet : MOk yJ24_entrySet 0 := by decide +kernel
theorem moi_java_util_Map_entrySet___Ljava_util_Set_ : MOk ({ cls := "java/util/Map", name := "entrySet", desc := "()Ljava/util/Set;" } : MethodName) 0 := by decide +kernel
theorem mo_J24_comparator : MOk yJ24_comparator 0 := by decide +kernel
theorem moi_java_util_SortedMap_comparator___Ljava_util_Comparator_ : MOk ({ cls := "java/util/SortedMap", name := "comparator", desc := "()Ljava/util/Comparator;" } : MethodName) 0 := by decide +kernel
theorem mo_J24_size : MOk yJ24_size 0 := by decide +kernel
theorem moi_java_util_Map_size___I : MOk ({ cls := "java/util/Map", name := "size", desc := "()I" } : MethodName) 0 := by decide +kernel
theorem mo_J24_key : MOk yJ24_key 1 := by decide +kernel
theorem ms_J24_key : MS yJ24_key cJ24_key 1 (some (.object "java/lang/Object")) 1 := ⟨q2727, q149, q2728, mo_J24_key⟩
abbrev rmJ24_init : Room := { frames := 3, cells := 0, slots := 0, locals := 60 }
theorem m_J24_init {S : Sx} (hS0 : Sok S) (v0 : Nat) (h : hH) (Q : hH → Prop) (hk : f_J24_init S.E v0 h Q) : Ct S yJ24_init (ws_ yJ24_init cJ24_init 1 none) rmJ24_init ([aR (some v0)].map vv) h (qV Q) := by
  refine Ct.of hS0 (by decide +kernel) rfl (Nat.le_of_ble_eq_true rfl) fun x hxS F hnm => ?_
  subst hxS
  unfold f_J24_init at hk
  exact g_aload_n F dJ24_init_0 rfl 0 rfl <|
g_callv0 (g_I F dJ24_init_1 q1371 mc_J23_init (rm' := rmJ23_init) ⟨Nat.le_of_ble_eq_true rfl, Nat.le_of_ble_eq_true rfl⟩ ⟨Nat.le_refl 0, Nat.le_refl 0⟩ (As := []) (rest := []) rfl rfl (Nat.le_of_ble_eq_true rfl) (m_J23_init F.ok v0 h _ hk)) ⟨rfl, rfl⟩ fun h1 hk =>
g_aload_n F dJ24_init_4 rfl 0 rfl <|
g_iconst F dJ24_init_5 ic_0 <|
g_putV F dJ24_init_6 fo_J24_4_java_util_TreeMap ck_J24 fl_java_util_TreeMap_7_J24 rfl (v := aI (0:Int32)) (fit_i (0:Int32)) hk fun h2 hk =>
g_aload_n F dJ24_init_9 rfl 0 rfl <|
g_iconst F dJ24_init_10 ic_0 <|
g_putV F dJ24_init_11 fo_J24_5_java_util_TreeMap ck_J24 fl_java_util_TreeMap_13_J24 rfl (v := aI (0:Int32)) (fit_i (0:Int32)) hk fun h3 hk =>
g_aload_n F dJ24_init_14 rfl 0 rfl <|
g_null F dJ24_init_15 <|
g_putF F dJ24_init_16 fo_J24_2_java_util_TreeMap ck_J24 q1375 rfl hnm rfl (v := aR none) (fit_rf "java/util/Comparator" none) hk fun h4 hk =>
g_vret F dJ24_init_19 (Nat.le_refl 0) (Nat.le_refl 0) hk
abbrev rmJ24_compare : Room := { frames := 5, cells := 0, slots := 0, locals := 103 }
theorem m_J24_compare {S : Sx} (hS0 : Sok S) (v0 : Nat) (v1 : Option Nat) (v2 : Option Nat) (h : hH) (Q : Int32 → hH → Prop) (hk : f_J24_compare S.E v0 v1 v2 h Q) : Ct S yJ24_compare (ws_ yJ24_compare cJ24_compare 3 (some .int)) rmJ24_compare ([aR (some v0), aR v1, aR v2].map vv) h (qI Q) := by
  refine Ct.of hS0 (by decide +kernel) rfl (Nat.le_of_ble_eq_true rfl) fun x hxS F hnm => ?_
  subst hxS
  unfold f_J24_compare at hk
  exact g_aload_n F dJ24_compare_0 rfl 0 rfl <|
g_getR F dJ24_compare_1 fo_J24_2_java_util_TreeMap in_J24 fl_java_util_TreeMap_16_J24 hk fun x1 hk =>
g_ifnonnull F dJ24_compare_4 (tgt := 20) rfl (fun hc => have hk := hk.2 hc
False.elim hk) (fun hc => have hk := hk.1 hc
g_aload_n F dJ24_compare_7 rfl 1 rfl <|
g_castY F dJ24_compare_8 q1495 q1107 ct_J20 hk fun hk =>
g_aload_n F dJ24_compare_11 rfl 2 rfl <|
g_calli05 (g_F (y0 := ({ cls := "java/lang/Comparable", name := "compareTo", desc := "(Ljava/lang/Object;)I" } : MethodName)) F dJ24_compare_12 q1497 q1110 q1108 q140 q1112 (F.face q1088 q1087 q1111 q1109 q1107 ⟨by decide, by decide⟩) moi_java_lang_Comparable_compareTo__Ljava_lang_Object__I ct_J20 (rm' := rmJ20_compareTo) ⟨Nat.le_of_ble_eq_true rfl, Nat.le_of_ble_eq_true rfl⟩ ⟨Nat.le_refl 0, Nat.le_refl 0⟩ (As := [aR v2]) (rest := []) rfl rfl (Nat.le_of_ble_eq_true rfl) hk (fun a4 hk => m_J20_compareTo F.ok a4 v2 h _ hk)) ⟨rfl, rfl⟩ fun x3 h2 hk =>
g_goto F dJ24_compare_17 (tgt := 31) rfl <|
g_iret F dJ24_compare_31 (Nat.le_refl 0) (Nat.le_refl 0) hk)
abbrev rmJ25_init : Room := { frames := 2, cells := 0, slots := 0, locals := 40 }
theorem m_J25_init {S : Sx} (hS0 : Sok S) (v0 : Nat) (v1 : Option Nat) (v2 : Option Nat) (v3 : Option Nat) (h : hH) (Q : hH → Prop) (hk : f_J25_init S.E v0 v1 v2 v3 h Q) : Ct S yJ25_init (ws_ yJ25_init cJ25_init 4 none) rmJ25_init ([aR (some v0), aR v1, aR v2, aR v3].map vv) h (qV Q) := by
  refine Ct.of hS0 (by decide +kernel) rfl (Nat.le_of_ble_eq_true rfl) fun x hxS F hnm => ?_
  subst hxS
  unfold f_J25_init at hk
  exact g_aload_n F dJ25_init_0 rfl 0 rfl <|
g_objInit (rest := []) F dJ25_init_1 q1505 q182 q_objcode (Nat.le_of_ble_eq_true rfl) (Nat.le_of_ble_eq_true rfl) <|
g_aload_n F dJ25_init_4 rfl 0 rfl <|
g_iconst F dJ25_init_5 ic_1 <|
g_putV F dJ25_init_6 fo_J25_5_java_util_TreeMap_Entry ck_J25 fl_java_util_TreeMap_Entry_9_J25 rfl (v := aI (1:Int32)) ⟨rfl, rfl⟩ hk fun h1 hk =>
g_aload_n F dJ25_init_9 rfl 0 rfl <|
g_aload_n F dJ25_init_10 rfl 1 rfl <|
g_putV F dJ25_init_11 fo_J25_0_java_util_TreeMap_Entry ck_J25 fl_java_util_TreeMap_Entry_15_J25 rfl (v := aR v1) (fit_rf "java/lang/Object" v1) hk fun h2 hk =>
g_aload_n F dJ25_init_14 rfl 0 rfl <|
g_aload_n F dJ25_init_15 rfl 2 rfl <|
g_putV F dJ25_init_16 fo_J25_1_java_util_TreeMap_Entry ck_J25 fl_java_util_TreeMap_Entry_19_J25 rfl (v := aR v2) (fit_rf "java/lang/Object" v2) hk fun h3 hk =>
g_aload_n F dJ25_init_19 rfl 0 rfl <|
g_aload_n F dJ25_init_20 rfl 3 rfl <|
g_putV F dJ25_init_21 fo_J25_4_java_util_TreeMap_Entry ck_J25 fl_java_util_TreeMap_Entry_22_J25 rfl (v := aR v3) (fit_rf "java/util/TreeMap$Entry" v3) hk fun h4 hk =>
g_vret F dJ25_init_24 (Nat.le_refl 0) (Nat.le_refl 0) hk
abbrev rmJ24_addEntryToEmptyMap : Room := { frames := 6, cells := 1, slots := 6, locals := 125 }
theorem m_J24_addEntryToEmptyMap {S : Sx} (hS0 : Sok S) (v0 : Nat) (v1 : Option Nat) (v2 : Option Nat) (h : hH) (Q : hH → Prop) (hk : f_J24_addEntryToEmptyMap S.E v0 v1 v2 h Q) : Ct S yJ24_addEntryToEmptyMap (ws_ yJ24_addEntryToEmptyMap cJ24_addEntryToEmptyMap 3 none) rmJ24_addEntryToEmptyMap ([aR (some v0), aR v1, aR v2].map vv) h (qV Q) := by
  refine Ct.of hS0 (by decide +kernel) rfl (Nat.le_of_ble_eq_true rfl) fun x hxS F hnm => ?_
  subst hxS
  unfold f_J24_addEntryToEmptyMap at hk
  have hM : 0 + 1 ≤ 1 := by omega
  have hS : 0 + 6 ≤ 6 := by omega
  refine G.widen (c' := 0 + 0) (k' := 0 + 0) (Nat.le_refl 0) (Nat.le_refl 0) ?_
  exact g_aload_n F dJ24_addEntryToEmptyMap_0 rfl 0 rfl <|
g_aload_n F dJ24_addEntryToEmptyMap_1 rfl 1 rfl <|
g_aload_n F dJ24_addEntryToEmptyMap_2 rfl 1 rfl <|
g_calli0 (g_V F dJ24_addEntryToEmptyMap_3 q1491 mi_J24_compare ct_J24 (rm' := rmJ24_compare) ⟨Nat.le_of_ble_eq_true rfl, Nat.le_of_ble_eq_true rfl⟩ ⟨show 0 + 0 + 0 ≤ 1 by omega, show 0 + 0 + 0 ≤ 6 by omega⟩ (As := [aR v1, aR v1]) (rest := []) rfl rfl (Nat.le_of_ble_eq_true rfl) hk (fun a3 hk => m_J24_compare F.ok a3 v1 v1 h _ hk)) ⟨rfl, rfl⟩ fun x2 h1 hk =>
g_pop F dJ24_addEntryToEmptyMap_6 rfl <|
g_aload_n F dJ24_addEntryToEmptyMap_7 rfl 0 rfl <|
g_new (fs := [va_rf none, va_rf none, va_rf none, va_rf none, va_rf none, .int 0]) F dJ24_addEntryToEmptyMap_8 ck_J25 ct_J25 q1500 q1501 q151 df_J25 (show 0 + 0 + 1 ≤ 1 by omega) (show 0 + 0 + 6 ≤ 6 by omega) hk fun q4 h5 hk =>
g_dup F dJ24_addEntryToEmptyMap_11 rfl <|
g_aload_n F dJ24_addEntryToEmptyMap_12 rfl 1 rfl <|
g_aload_n F dJ24_addEntryToEmptyMap_13 rfl 2 rfl <|
g_null F dJ24_addEntryToEmptyMap_14 <|
g_callv0 (g_I F dJ24_addEntryToEmptyMap_15 q1502 mc_J25_init (rm' := rmJ25_init) ⟨Nat.le_of_ble_eq_true rfl, Nat.le_of_ble_eq_true rfl⟩ ⟨show 0 + 0 + 1 + 0 ≤ 1 by omega, show 0 + 0 + 6 + 0 ≤ 6 by omega⟩ (As := [aR v1, aR v2, aR none]) (rest := [aR (some q4), aR (some v0)]) rfl rfl (Nat.le_of_ble_eq_true rfl) (m_J25_init F.ok q4 v1 v2 none h5 _ hk)) ⟨rfl, rfl⟩ fun h6 hk =>
g_putV F dJ24_addEntryToEmptyMap_18 fo_J24_3_java_util_TreeMap ck_J24 fl_java_util_TreeMap_101_J24 rfl (v := aR (some q4)) (fit_rf "java/util/TreeMap$Entry" (some q4)) hk fun h7 hk =>
g_aload_n F dJ24_addEntryToEmptyMap_21 rfl 0 rfl <|
g_iconst F dJ24_addEntryToEmptyMap_22 ic_1 <|
g_putV F dJ24_addEntryToEmptyMap_23 fo_J24_4_java_util_TreeMap ck_J24 fl_java_util_TreeMap_7_J24 rfl (v := aI (1:Int32)) (fit_i (1:Int32)) hk fun h8 hk =>
g_aload_n F dJ24_addEntryToEmptyMap_26 rfl 0 rfl <|
g_dup F dJ24_addEntryToEmptyMap_27 rfl <|
g_getI F dJ24_addEntryToEmptyMap_28 fo_J24_5_java_util_TreeMap in_J24 fl_java_util_TreeMap_13_J24 hk fun x9 hk =>
g_iconst F dJ24_addEntryToEmptyMap_31 ic_1 <|
g_iadd F dJ24_addEntryToEmptyMap_32 <|
g_putV F dJ24_addEntryToEmptyMap_33 fo_J24_5_java_util_TreeMap ck_J24 fl_java_util_TreeMap_13_J24 rfl (v := aI (x9 + (1:Int32))) (fit_i (x9 + (1:Int32))) hk fun h10 hk =>
g_vret F dJ24_addEntryToEmptyMap_36 (show 0 + 0 + 1 ≤ 1 by omega) (show 0 + 0 + 6 ≤ 6 by omega) hk
abbrev rmJ24_parentOf : Room := { frames := 2, cells := 0, slots := 0, locals := 40 }
theorem m_J24_parentOf {S : Sx} (hS0 : Sok S) (v0 : Option Nat) (h : hH) (Q : Option Nat → hH → Prop) (hk : f_J24_parentOf S.E v0 h Q) : Ct S yJ24_parentOf (ws_ yJ24_parentOf cJ24_parentOf 1 (some (.object "java/util/TreeMap$Entry"))) rmJ24_parentOf ([aR v0].map vv) h (qR Q) := by
  refine Ct.of hS0 (by decide +kernel) rfl (Nat.le_of_ble_eq_true rfl) fun x hxS F hnm => ?_
  subst hxS
  unfold f_J24_parentOf at hk
  exact g_aload_n F dJ24_parentOf_0 rfl 0 rfl <|
g_ifnonnull F dJ24_parentOf_1 (tgt := 8) rfl (fun hc => have hk := hk.2 hc
g_aload_n F dJ24_parentOf_8 rfl 0 rfl <|
g_getR F dJ24_parentOf_9 fo_J25_4_java_util_TreeMap_Entry in_J25 fl_java_util_TreeMap_124_J25 hk fun x1 hk =>
g_aret F (Or.inl ⟨_, rfl⟩) dJ24_parentOf_12 (Nat.le_refl 0) (Nat.le_refl 0) hk) (fun hc => have hk := hk.1 hc
g_null F dJ24_parentOf_4 <|
g_goto F dJ24_parentOf_5 (tgt := 12) rfl <|
g_aret F (Or.inl ⟨_, rfl⟩) dJ24_parentOf_12 (Nat.le_refl 0) (Nat.le_refl 0) hk)
abbrev rmJ24_leftOf : Room := { frames := 2, cells := 0, slots := 0, locals := 40 }
theorem m_J24_leftOf {S : Sx} (hS0 : Sok S) (v0 : Option Nat) (h : hH) (Q : Option Nat → hH → Prop) (hk : f_J24_leftOf S.E v0 h Q) : Ct S yJ24_leftOf (ws_ yJ24_leftOf cJ24_leftOf 1 (some (.object "java/util/TreeMap$Entry"))) rmJ24_leftOf ([aR v0].map vv) h (qR Q) := by
  refine Ct.of hS0 (by decide +kernel) rfl (Nat.le_of_ble_eq_true rfl) fun x hxS F hnm => ?_
  subst hxS
  unfold f_J24_leftOf at hk
  exact g_aload_n F dJ24_leftOf_0 rfl 0 rfl <|
g_ifnonnull F dJ24_leftOf_1 (tgt := 8) rfl (fun hc => have hk := hk.2 hc
g_aload_n F dJ24_leftOf_8 rfl 0 rfl <|
g_getR F dJ24_leftOf_9 fo_J25_2_java_util_TreeMap_Entry in_J25 fl_java_util_TreeMap_111_J25 hk fun x1 hk =>
g_aret F (Or.inl ⟨_, rfl⟩) dJ24_leftOf_12 (Nat.le_refl 0) (Nat.le_refl 0) hk) (fun hc => have hk := hk.1 hc
g_null F dJ24_leftOf_4 <|
g_goto F dJ24_leftOf_5 (tgt := 12) rfl <|
g_aret F (Or.inl ⟨_, rfl⟩) dJ24_leftOf_12 (Nat.le_refl 0) (Nat.le_refl 0) hk)
abbrev rmJ24_rightOf : Room := { frames := 2, cells := 0, slots := 0, locals := 40 }
theorem m_J24_rightOf {S : Sx} (hS0 : Sok S) (v0 : Option Nat) (h : hH) (Q : Option Nat → hH → Prop) (hk : f_J24_rightOf S.E v0 h Q) : Ct S yJ24_rightOf (ws_ yJ24_rightOf cJ24_rightOf 1 (some (.object "java/util/TreeMap$Entry"))) rmJ24_rightOf ([aR v0].map vv) h (qR Q) := by
  refine Ct.of hS0 (by decide +kernel) rfl (Nat.le_of_ble_eq_true rfl) fun x hxS F hnm => ?_
  subst hxS
  unfold f_J24_rightOf at hk
  exact g_aload_n F dJ24_rightOf_0 rfl 0 rfl <|
g_ifnonnull F dJ24_rightOf_1 (tgt := 8) rfl (fun hc => have hk := hk.2 hc
g_aload_n F dJ24_rightOf_8 rfl 0 rfl <|
g_getR F dJ24_rightOf_9 fo_J25_3_java_util_TreeMap_Entry in_J25 fl_java_util_TreeMap_114_J25 hk fun x1 hk =>
g_aret F (Or.inl ⟨_, rfl⟩) dJ24_rightOf_12 (Nat.le_refl 0) (Nat.le_refl 0) hk) (fun hc => have hk := hk.1 hc
g_null F dJ24_rightOf_4 <|
g_goto F dJ24_rightOf_5 (tgt := 12) rfl <|
g_aret F (Or.inl ⟨_, rfl⟩) dJ24_rightOf_12 (Nat.le_refl 0) (Nat.le_refl 0) hk)
abbrev rmJ24_colorOf : Room := { frames := 2, cells := 0, slots := 0, locals := 40 }
theorem m_J24_colorOf {S : Sx} (hS0 : Sok S) (v0 : Option Nat) (h : hH) (Q : Int32 → hH → Prop) (hk : f_J24_colorOf S.E v0 h Q) : Ct S yJ24_colorOf (ws_ yJ24_colorOf cJ24_colorOf 1 (some .boolean)) rmJ24_colorOf ([aR v0].map vv) h (qI Q) := by
  refine Ct.of hS0 (by decide +kernel) rfl (Nat.le_of_ble_eq_true rfl) fun x hxS F hnm => ?_
  subst hxS
  unfold f_J24_colorOf at hk
  exact g_aload_n F dJ24_colorOf_0 rfl 0 rfl <|
g_ifnonnull F dJ24_colorOf_1 (tgt := 8) rfl (fun hc => have hk := hk.2 hc
g_aload_n F dJ24_colorOf_8 rfl 0 rfl <|
g_getI F dJ24_colorOf_9 fo_J25_5_java_util_TreeMap_Entry in_J25 fl_java_util_TreeMap_290_J25 hk fun x1 hk =>
g_zret F dJ24_colorOf_12 (Nat.le_refl 0) (Nat.le_refl 0) hk.1 hk.2) (fun hc => have hk := hk.1 hc
g_iconst F dJ24_colorOf_4 ic_1 <|
g_goto F dJ24_colorOf_5 (tgt := 12) rfl <|
g_zret F dJ24_colorOf_12 (Nat.le_refl 0) (Nat.le_refl 0) rfl hk)
abbrev rmJ24_setColor : Room := { frames := 2, cells := 0, slots := 0, locals := 40 }
theorem m_J24_setColor {S : Sx} (hS0 : Sok S) (v0 : Option Nat) (v1 : Int32) (h : hH) (Q : hH → Prop) (hk : f_J24_setColor S.E v0 v1 h Q) : Ct S yJ24_setColor (ws_ yJ24_setColor cJ24_setColor 2 none) rmJ24_setColor ([aR v0, aI v1].map vv) h (qV Q) := by
  refine Ct.of hS0 (by decide +kernel) rfl (Nat.le_of_ble_eq_true rfl) fun x hxS F hnm => ?_
  subst hxS
  unfold f_J24_setColor at hk
  exact g_aload_n F dJ24_setColor_0 rfl 0 rfl <|
g_ifnull F dJ24_setColor_1 (tgt := 9) rfl (fun hc => have hk := hk.1 hc
g_vret F dJ24_setColor_9 (Nat.le_refl 0) (Nat.le_refl 0) hk) (fun hc => have hk := hk.2 hc
g_aload_n F dJ24_setColor_4 rfl 0 rfl <|
g_iload_n F dJ24_setColor_5 rfl 1 rfl <|
g_putV F dJ24_setColor_6 fo_J25_5_java_util_TreeMap_Entry ck_J25 fl_java_util_TreeMap_290_J25 rfl (v := aI v1) hk.1 hk.2 fun h1 hk =>
g_vret F dJ24_setColor_9 (Nat.le_refl 0) (Nat.le_refl 0) hk)
abbrev rmJ24_rotateLeft : Room := { frames := 2, cells := 0, slots := 0, locals := 40 }
theorem s_J24_rotateLeft_j85 {x : Cx} (F : Fx x cJ24_rotateLeft "java/util/TreeMap" 3 none rmJ24_rotateLeft) {v0 : Nat} {Q : hH → Prop} (l1 : Option Nat) (l2 : Option Nat) (h : hH) (hk : f_J24_rotateLeft_j85 x.S.E v0 Q l1 l2 h) : G x (xQ x rmJ24_rotateLeft (qV Q)) 85 [(1, aR l1), (2, aR l2)] [] h 0 0 := by
  unfold f_J24_rotateLeft_j85 at hk
  exact g_aload_n F dJ24_rotateLeft_85 rfl 1 rfl <|
g_aload_n F dJ24_rotateLeft_86 rfl 0 rfl <|
g_putV F dJ24_rotateLeft_87 fo_J25_2_java_util_TreeMap_Entry ck_J25 fl_java_util_TreeMap_111_J25 rfl (v := aR l1) (fit_rf "java/util/TreeMap$Entry" l1) hk fun h1 hk =>
g_aload_n F dJ24_rotateLeft_90 rfl 0 rfl <|
g_aload_n F dJ24_rotateLeft_91 rfl 1 rfl <|
g_putV F dJ24_rotateLeft_92 fo_J25_4_java_util_TreeMap_Entry ck_J25 fl_java_util_TreeMap_124_J25 rfl (v := aR l2) (fit_rf "java/util/TreeMap$Entry" l2) hk fun h2 hk =>
g_vret F dJ24_rotateLeft_95 (Nat.le_refl 0) (Nat.le_refl 0) hk
theorem s_J24_rotateLeft_j32 {x : Cx} (F : Fx x cJ24_rotateLeft "java/util/TreeMap" 3 none rmJ24_rotateLeft) {v0 : Nat} {Q : hH → Prop} (l1 : Option Nat) (l2 : Option Nat) (h : hH) (hk : f_J24_rotateLeft_j32 x.S.E v0 Q l1 l2 h) : G x (xQ x rmJ24_rotateLeft (qV Q)) 32 [(0, aR (some v0)), (1, aR l1), (2, aR l2)] [] h 0 0 := by
  unfold f_J24_rotateLeft_j32 at hk
  exact g_aload_n F dJ24_rotateLeft_32 rfl 2 rfl <|
g_aload_n F dJ24_rotateLeft_33 rfl 1 rfl <|
g_getR F dJ24_rotateLeft_34 fo_J25_4_java_util_TreeMap_Entry in_J25 fl_java_util_TreeMap_124_J25 hk fun x3 hk =>
g_putV F dJ24_rotateLeft_37 fo_J25_4_java_util_TreeMap_Entry ck_J25 fl_java_util_TreeMap_124_J25 rfl (v := aR x3) (fit_rf "java/util/TreeMap$Entry" x3) hk fun h4 hk =>
g_aload_n F dJ24_rotateLeft_40 rfl 1 rfl <|
g_getR F dJ24_rotateLeft_41 fo_J25_4_java_util_TreeMap_Entry in_J25 fl_java_util_TreeMap_124_J25 hk fun x5 hk =>
g_ifnonnull F dJ24_rotateLeft_44 (tgt := 55) rfl (fun hc => have hk := hk.2 hc
g_aload_n F dJ24_rotateLeft_55 rfl 1 rfl <|
g_getR F dJ24_rotateLeft_56 fo_J25_4_java_util_TreeMap_Entry in_J25 fl_java_util_TreeMap_124_J25 hk fun x6 hk =>
g_getR F dJ24_rotateLeft_59 fo_J25_2_java_util_TreeMap_Entry in_J25 fl_java_util_TreeMap_111_J25 hk fun x7 hk =>
g_aload_n F dJ24_rotateLeft_62 rfl 1 rfl <|
g_acmp_ne F dJ24_rotateLeft_63 (tgt := 77) rfl (fun hc => have hk := hk.2 hc
g_aload_n F dJ24_rotateLeft_77 rfl 1 rfl <|
g_getR F dJ24_rotateLeft_78 fo_J25_4_java_util_TreeMap_Entry in_J25 fl_java_util_TreeMap_124_J25 hk fun x8 hk =>
g_aload_n F dJ24_rotateLeft_81 rfl 2 rfl <|
g_putV F dJ24_rotateLeft_82 fo_J25_3_java_util_TreeMap_Entry ck_J25 fl_java_util_TreeMap_114_J25 rfl (v := aR l2) (fit_rf "java/util/TreeMap$Entry" l2) hk fun h9 hk =>
G.fewer [1, 2] rfl <| s_J24_rotateLeft_j85 F l1 l2 h9 hk ) (fun hc => have hk := hk.1 hc
g_aload_n F dJ24_rotateLeft_66 rfl 1 rfl <|
g_getR F dJ24_rotateLeft_67 fo_J25_4_java_util_TreeMap_Entry in_J25 fl_java_util_TreeMap_124_J25 hk fun x10 hk =>
g_aload_n F dJ24_rotateLeft_70 rfl 2 rfl <|
g_putV F dJ24_rotateLeft_71 fo_J25_2_java_util_TreeMap_Entry ck_J25 fl_java_util_TreeMap_111_J25 rfl (v := aR l2) (fit_rf "java/util/TreeMap$Entry" l2) hk fun h11 hk =>
g_goto F dJ24_rotateLeft_74 (tgt := 85) rfl <|
G.fewer [1, 2] rfl <| s_J24_rotateLeft_j85 F l1 l2 h11 hk )) (fun hc => have hk := hk.1 hc
g_aload_n F dJ24_rotateLeft_47 rfl 0 rfl <|
g_aload_n F dJ24_rotateLeft_48 rfl 2 rfl <|
g_putV F dJ24_rotateLeft_49 fo_J24_3_java_util_TreeMap ck_J24 fl_java_util_TreeMap_101_J24 rfl (v := aR l2) (fit_rf "java/util/TreeMap$Entry" l2) hk fun h12 hk =>
g_goto F dJ24_rotateLeft_52 (tgt := 85) rfl <|
G.fewer [1, 2] rfl <| s_J24_rotateLeft_j85 F l1 l2 h12 hk )
theorem m_J24_rotateLeft {S : Sx} (hS0 : Sok S) (v0 : Nat) (v1 : Option Nat) (h : hH) (Q : hH → Prop) (hk : f_J24_rotateLeft S.E v0 v1 h Q) : Ct S yJ24_rotateLeft (ws_ yJ24_rotateLeft cJ24_rotateLeft 3 none) rmJ24_rotateLeft ([aR (some v0), aR v1].map vv) h (qV Q) := by
  refine Ct.of hS0 (by decide +kernel) rfl (Nat.le_of_ble_eq_true rfl) fun x hxS F hnm => ?_
  subst hxS
  unfold f_J24_rotateLeft at hk
  exact g_aload_n F dJ24_rotateLeft_0 rfl 1 rfl <|
g_ifnull F dJ24_rotateLeft_1 (tgt := 95) rfl (fun hc => have hk := hk.1 hc
g_vret F dJ24_rotateLeft_95 (Nat.le_refl 0) (Nat.le_refl 0) hk) (fun hc => have hk := hk.2 hc
g_aload_n F dJ24_rotateLeft_4 rfl 1 rfl <|
g_getR F dJ24_rotateLeft_5 fo_J25_3_java_util_TreeMap_Entry in_J25 fl_java_util_TreeMap_114_J25 hk fun x13 hk =>
g_astore_n F dJ24_rotateLeft_8 rfl (Nat.le_of_ble_eq_true rfl) rfl <|
g_aload_n F dJ24_rotateLeft_9 rfl 2 rfl <|
g_aload_n F dJ24_rotateLeft_10 rfl 0 rfl <|
g_getR F dJ24_rotateLeft_11 fo_J25_2_java_util_TreeMap_Entry in_J25 fl_java_util_TreeMap_111_J25 hk fun x14 hk =>
g_putV F dJ24_rotateLeft_14 fo_J25_3_java_util_TreeMap_Entry ck_J25 fl_java_util_TreeMap_114_J25 rfl (v := aR x14) (fit_rf "java/util/TreeMap$Entry" x14) hk fun h15 hk =>
g_aload_n F dJ24_rotateLeft_17 rfl 0 rfl <|
g_getR F dJ24_rotateLeft_18 fo_J25_2_java_util_TreeMap_Entry in_J25 fl_java_util_TreeMap_111_J25 hk fun x16 hk =>
g_ifnull F dJ24_rotateLeft_21 (tgt := 32) rfl (fun hc => have hk := hk.1 hc
G.fewer [1, 2, 0] rfl <| s_J24_rotateLeft_j32 F v1 x13 h15 hk ) (fun hc => have hk := hk.2 hc
g_aload_n F dJ24_rotateLeft_24 rfl 0 rfl <|
g_getR F dJ24_rotateLeft_25 fo_J25_2_java_util_TreeMap_Entry in_J25 fl_java_util_TreeMap_111_J25 hk fun x17 hk =>
g_aload_n F dJ24_rotateLeft_28 rfl 2 rfl <|
g_putV F dJ24_rotateLeft_29 fo_J25_4_java_util_TreeMap_Entry ck_J25 fl_java_util_TreeMap_124_J25 rfl (v := aR v1) (fit_rf "java/util/TreeMap$Entry" v1) hk fun h18 hk =>
G.fewer [1, 2, 0] rfl <| s_J24_rotateLeft_j32 F v1 x13 h18 hk ))
abbrev rmJ24_rotateRight : Room := { frames := 2, cells := 0, slots := 0, locals := 40 }
theorem s_J24_rotateRight_j85 {x : Cx} (F : Fx x cJ24_rotateRight "java/util/TreeMap" 3 none rmJ24_rotateRight) {v0 : Nat} {Q : hH → Prop} (l1 : Option Nat) (l2 : Option Nat) (h : hH) (hk : f_J24_rotateRight_j85 x.S.E v0 Q l1 l2 h) : G x (xQ x rmJ24_rotateRight (qV Q)) 85 [(1, aR l1), (2, aR l2)] [] h 0 0 := by
  unfold f_J24_rotateRight_j85 at hk
  exact g_aload_n F dJ24_rotateRight_85 rfl 1 rfl <|
g_aload_n F dJ24_rotateRight_86 rfl 0 rfl <|
g_putV F dJ24_rotateRight_87 fo_J25_3_java_util_TreeMap_Entry ck_J25 fl_java_util_TreeMap_114_J25 rfl (v := aR l1) (fit_rf "java/util/TreeMap$Entry" l1) hk fun h1 hk =>
g_aload_n F dJ24_rotateRight_90 rfl 0 rfl <|
g_aload_n F dJ24_rotateRight_91 rfl 1 rfl <|
g_putV F dJ24_rotateRight_92 fo_J25_4_java_util_TreeMap_Entry ck_J25 fl_java_util_TreeMap_124_J25 rfl (v := aR l2) (fit_rf "java/util/TreeMap$Entry" l2) hk fun h2 hk =>
g_vret F dJ24_rotateRight_95 (Nat.le_refl 0) (Nat.le_refl 0) hk
theorem s_J24_rotateRight_j32 {x : Cx} (F : Fx x cJ24_rotateRight "java/util/TreeMap" 3 none rmJ24_rotateRight) {v0 : Nat} {Q : hH → Prop} (l1 : Option Nat) (l2 : Option Nat) (h : hH) (hk : f_J24_rotateRight_j32 x.S.E v0 Q l1 l2 h) : G x (xQ x rmJ24_rotateRight (qV Q)) 32 [(0, aR (some v0)), (1, aR l1), (2, aR l2)] [] h 0 0 := by
  unfold f_J24_rotateRight_j32 at hk
  exact g_aload_n F dJ24_rotateRight_32 rfl 2 rfl <|
g_aload_n F dJ24_rotateRight_33 rfl 1 rfl <|
g_getR F dJ24_rotateRight_34 fo_J25_4_java_util_TreeMap_Entry in_J25 fl_java_util_TreeMap_124_J25 hk fun x3 hk =>
g_putV F dJ24_rotateRight_37 fo_J25_4_java_util_TreeMap_Entry ck_J25 fl_java_util_TreeMap_124_J25 rfl (v := aR x3) (fit_rf "java/util/TreeMap$Entry" x3) hk fun h4 hk =>
g_aload_n F dJ24_rotateRight_40 rfl 1 rfl <|
g_getR F dJ24_rotateRight_41 fo_J25_4_java_util_TreeMap_Entry in_J25 fl_java_util_TreeMap_124_J25 hk fun x5 hk =>
g_ifnonnull F dJ24_rotateRight_44 (tgt := 55) rfl (fun hc => have hk := hk.2 hc
g_aload_n F dJ24_rotateRight_55 rfl 1 rfl <|
g_getR F dJ24_rotateRight_56 fo_J25_4_java_util_TreeMap_Entry in_J25 fl_java_util_TreeMap_124_J25 hk fun x6 hk =>
g_getR F dJ24_rotateRight_59 fo_J25_3_java_util_TreeMap_Entry in_J25 fl_java_util_TreeMap_114_J25 hk fun x7 hk =>
g_aload_n F dJ24_rotateRight_62 rfl 1 rfl <|
g_acmp_ne F dJ24_rotateRight_63 (tgt := 77) rfl (fun hc => have hk := hk.2 hc
g_aload_n F dJ24_rotateRight_77 rfl 1 rfl <|
g_getR F dJ24_rotateRight_78 fo_J25_4_java_util_TreeMap_Entry in_J25 fl_java_util_TreeMap_124_J25 hk fun x8 hk =>
g_aload_n F dJ24_rotateRight_81 rfl 2 rfl <|
g_putV F dJ24_rotateRight_82 fo_J25_2_java_util_TreeMap_Entry ck_J25 fl_java_util_TreeMap_111_J25 rfl (v := aR l2) (fit_rf "java/util/TreeMap$Entry" l2) hk fun h9 hk =>
G.fewer [1, 2] rfl <| s_J24_rotateRight_j85 F l1 l2 h9 hk ) (fun hc => have hk := hk.1 hc
g_aload_n F dJ24_rotateRight_66 rfl 1 rfl <|
g_getR F dJ24_rotateRight_67 fo_J25_4_java_util_TreeMap_Entry in_J25 fl_java_util_TreeMap_124_J25 hk fun x10 hk =>
g_aload_n F dJ24_rotateRight_70 rfl 2 rfl <|
g_putV F dJ24_rotateRight_71 fo_J25_3_java_util_TreeMap_Entry ck_J25 fl_java_util_TreeMap_114_J25 rfl (v := aR l2) (fit_rf "java/util/TreeMap$Entry" l2) hk fun h11 hk =>
g_goto F dJ24_rotateRight_74 (tgt := 85) rfl <|
G.fewer [1, 2] rfl <| s_J24_rotateRight_j85 F l1 l2 h11 hk )) (fun hc => have hk := hk.1 hc
g_aload_n F dJ24_rotateRight_47 rfl 0 rfl <|
g_aload_n F dJ24_rotateRight_48 rfl 2 rfl <|
g_putV F dJ24_rotateRight_49 fo_J24_3_java_util_TreeMap ck_J24 fl_java_util_TreeMap_101_J24 rfl (v := aR l2) (fit_rf "java/util/TreeMap$Entry" l2) hk fun h12 hk =>
g_goto F dJ24_rotateRight_52 (tgt := 85) rfl <|
G.fewer [1, 2] rfl <| s_J24_rotateRight_j85 F l1 l2 h12 hk )
theorem m_J24_rotateRight {S : Sx} (hS0 : Sok S) (v0 : Nat) (v1 : Option Nat) (h : hH) (Q : hH → Prop) (hk : f_J24_rotateRight S.E v0 v1 h Q) : Ct S yJ24_rotateRight (ws_ yJ24_rotateRight cJ24_rotateRight 3 none) rmJ24_rotateRight ([aR (some v0), aR v1].map vv) h (qV Q) := by
  refine Ct.of hS0 (by decide +kernel) rfl (Nat.le_of_ble_eq_true rfl) fun x hxS F hnm => ?_
  subst hxS
  unfold f_J24_rotateRight at hk
  exact g_aload_n F dJ24_rotateRight_0 rfl 1 rfl <|
g_ifnull F dJ24_rotateRight_1 (tgt := 95) rfl (fun hc => have hk := hk.1 hc
g_vret F dJ24_rotateRight_95 (Nat.le_refl 0) (Nat.le_refl 0) hk) (fun hc => have hk := hk.2 hc
g_aload_n F dJ24_rotateRight_4 rfl 1 rfl <|
g_getR F dJ24_rotateRight_5 fo_J25_2_java_util_TreeMap_Entry in_J25 fl_java_util_TreeMap_111_J25 hk fun x13 hk =>
g_astore_n F dJ24_rotateRight_8 rfl (Nat.le_of_ble_eq_true rfl) rfl <|
g_aload_n F dJ24_rotateRight_9 rfl 2 rfl <|
g_aload_n F dJ24_rotateRight_10 rfl 0 rfl <|
g_getR F dJ24_rotateRight_11 fo_J25_3_java_util_TreeMap_Entry in_J25 fl_java_util_TreeMap_114_J25 hk fun x14 hk =>
g_putV F dJ24_rotateRight_14 fo_J25_2_java_util_TreeMap_Entry ck_J25 fl_java_util_TreeMap_111_J25 rfl (v := aR x14) (fit_rf "java/util/TreeMap$Entry" x14) hk fun h15 hk =>
g_aload_n F dJ24_rotateRight_17 rfl 0 rfl <|
g_getR F dJ24_rotateRight_18 fo_J25_3_java_util_TreeMap_Entry in_J25 fl_java_util_TreeMap_114_J25 hk fun x16 hk =>
g_ifnull F dJ24_rotateRight_21 (tgt := 32) rfl (fun hc => have hk := hk.1 hc
G.fewer [1, 2, 0] rfl <| s_J24_rotateRight_j32 F v1 x13 h15 hk ) (fun hc => have hk := hk.2 hc
g_aload_n F dJ24_rotateRight_24 rfl 0 rfl <|
g_getR F dJ24_rotateRight_25 fo_J25_3_java_util_TreeMap_Entry in_J25 fl_java_util_TreeMap_114_J25 hk fun x17 hk =>
g_aload_n F dJ24_rotateRight_28 rfl 2 rfl <|
g_putV F dJ24_rotateRight_29 fo_J25_4_java_util_TreeMap_Entry ck_J25 fl_java_util_TreeMap_124_J25 rfl (v := aR v1) (fit_rf "java/util/TreeMap$Entry" v1) hk fun h18 hk =>
G.fewer [1, 2, 0] rfl <| s_J24_rotateRight_j32 F v1 x13 h18 hk ))
abbrev rmJ24_fixAfterInsertion : Room := { frames := 3, cells := 0, slots := 0, locals := 62 }
theorem s_J24_fixAfterInsertion_j225 {x : Cx} (F : Fx x cJ24_fixAfterInsertion "java/util/TreeMap" 3 none rmJ24_fixAfterInsertion) {v0 : Nat} {Q : hH → Prop} {K5 : Option Nat → hH → Prop} (l1 : Option Nat) (h : hH) (hk : f_J24_fixAfterInsertion_j225 x.S.E v0 Q K5 l1 h) (hK5 : ∀ (l1 : Option Nat) (h : hH), K5 l1 h → G x (xQ x rmJ24_fixAfterInsertion (qV Q)) 5 [(0, aR (some v0)), (1, aR l1)] [] h 0 0) : G x (xQ x rmJ24_fixAfterInsertion (qV Q)) 225 [(0, aR (some v0)), (1, aR l1)] [] h 0 0 := by
  unfold f_J24_fixAfterInsertion_j225 at hk
  exact g_aload_n F dJ24_fixAfterInsertion_225 rfl 1 rfl <|
g_callr0 (g_S F dJ24_fixAfterInsertion_226 q1540 ms_J24_parentOf (rm' := rmJ24_parentOf) ⟨Nat.le_of_ble_eq_true rfl, Nat.le_of_ble_eq_true rfl⟩ ⟨Nat.le_refl 0, Nat.le_refl 0⟩ (As := [aR l1]) (rest := []) rfl rfl (Nat.le_of_ble_eq_true rfl) (m_J24_parentOf F.ok l1 h _ hk)) ⟨rfl, rfl⟩ fun x2 h1 hk =>
g_iconst F dJ24_fixAfterInsertion_229 ic_1 <|
g_callv0 (g_S F dJ24_fixAfterInsertion_230 q1552 ms_J24_setColor (rm' := rmJ24_setColor) ⟨Nat.le_of_ble_eq_true rfl, Nat.le_of_ble_eq_true rfl⟩ ⟨Nat.le_refl 0, Nat.le_refl 0⟩ (As := [aR x2, aI (1:Int32)]) (rest := []) rfl rfl (Nat.le_of_ble_eq_true rfl) (m_J24_setColor F.ok x2 (1:Int32) h1 _ hk)) ⟨rfl, rfl⟩ fun h3 hk =>
g_aload_n F dJ24_fixAfterInsertion_233 rfl 1 rfl <|
g_callr0 (g_S F dJ24_fixAfterInsertion_234 q1540 ms_J24_parentOf (rm' := rmJ24_parentOf) ⟨Nat.le_of_ble_eq_true rfl, Nat.le_of_ble_eq_true rfl⟩ ⟨Nat.le_refl 0, Nat.le_refl 0⟩ (As := [aR l1]) (rest := []) rfl rfl (Nat.le_of_ble_eq_true rfl) (m_J24_parentOf F.ok l1 h3 _ hk)) ⟨rfl, rfl⟩ fun x5 h4 hk =>
g_callr0 (g_S F dJ24_fixAfterInsertion_237 q1540 ms_J24_parentOf (rm' := rmJ24_parentOf) ⟨Nat.le_of_ble_eq_true rfl, Nat.le_of_ble_eq_true rfl⟩ ⟨Nat.le_refl 0, Nat.le_refl 0⟩ (As := [aR x5]) (rest := []) rfl rfl (Nat.le_of_ble_eq_true rfl) (m_J24_parentOf F.ok x5 h4 _ hk)) ⟨rfl, rfl⟩ fun x7 h6 hk =>
g_iconst F dJ24_fixAfterInsertion_240 ic_0 <|
g_callv0 (g_S F dJ24_fixAfterInsertion_241 q1552 ms_J24_setColor (rm' := rmJ24_setColor) ⟨Nat.le_of_ble_eq_true rfl, Nat.le_of_ble_eq_true rfl⟩ ⟨Nat.le_refl 0, Nat.le_refl 0⟩ (As := [aR x7, aI (0:Int32)]) (rest := []) rfl rfl (Nat.le_of_ble_eq_true rfl) (m_J24_setColor F.ok x7 (0:Int32) h6 _ hk)) ⟨rfl, rfl⟩ fun h8 hk =>
g_aload_n F dJ24_fixAfterInsertion_244 rfl 0 rfl <|
g_aload_n F dJ24_fixAfterInsertion_245 rfl 1 rfl <|
g_callr0 (g_S F dJ24_fixAfterInsertion_246 q1540 ms_J24_parentOf (rm' := rmJ24_parentOf) ⟨Nat.le_of_ble_eq_true rfl, Nat.le_of_ble_eq_true rfl⟩ ⟨Nat.le_refl 0, Nat.le_refl 0⟩ (As := [aR l1]) (rest := [aR (some v0)]) rfl rfl (Nat.le_of_ble_eq_true rfl) (m_J24_parentOf F.ok l1 h8 _ hk)) ⟨rfl, rfl⟩ fun x10 h9 hk =>
g_callr0 (g_S F dJ24_fixAfterInsertion_249 q1540 ms_J24_parentOf (rm' := rmJ24_parentOf) ⟨Nat.le_of_ble_eq_true rfl, Nat.le_of_ble_eq_true rfl⟩ ⟨Nat.le_refl 0, Nat.le_refl 0⟩ (As := [aR x10]) (rest := [aR (some v0)]) rfl rfl (Nat.le_of_ble_eq_true rfl) (m_J24_parentOf F.ok x10 h9 _ hk)) ⟨rfl, rfl⟩ fun x12 h11 hk =>
g_callv0 (g_V F dJ24_fixAfterInsertion_252 q1555 mi_J24_rotateLeft ct_J24 (rm' := rmJ24_rotateLeft) ⟨Nat.le_of_ble_eq_true rfl, Nat.le_of_ble_eq_true rfl⟩ ⟨Nat.le_refl 0, Nat.le_refl 0⟩ (As := [aR x12]) (rest := []) rfl rfl (Nat.le_of_ble_eq_true rfl) hk (fun a14 hk => m_J24_rotateLeft F.ok a14 x12 h11 _ hk)) ⟨rfl, rfl⟩ fun h13 hk =>
g_goto F dJ24_fixAfterInsertion_255 (tgt := 5) rfl <|
hK5 l1 h13 hk
theorem s_J24_fixAfterInsertion_j118 {x : Cx} (F : Fx x cJ24_fixAfterInsertion "java/util/TreeMap" 3 none rmJ24_fixAfterInsertion) {v0 : Nat} {Q : hH → Prop} {K5 : Option Nat → hH → Prop} (l1 : Option Nat) (h : hH) (hk : f_J24_fixAfterInsertion_j118 x.S.E v0 Q K5 l1 h) (hK5 : ∀ (l1 : Option Nat) (h : hH), K5 l1 h → G x (xQ x rmJ24_fixAfterInsertion (qV Q)) 5 [(0, aR (some v0)), (1, aR l1)] [] h 0 0) : G x (xQ x rmJ24_fixAfterInsertion (qV Q)) 118 [(0, aR (some v0)), (1, aR l1)] [] h 0 0 := by
  unfold f_J24_fixAfterInsertion_j118 at hk
  exact g_aload_n F dJ24_fixAfterInsertion_118 rfl 1 rfl <|
g_callr0 (g_S F dJ24_fixAfterInsertion_119 q1540 ms_J24_parentOf (rm' := rmJ24_parentOf) ⟨Nat.le_of_ble_eq_true rfl, Nat.le_of_ble_eq_true rfl⟩ ⟨Nat.le_refl 0, Nat.le_refl 0⟩ (As := [aR l1]) (rest := []) rfl rfl (Nat.le_of_ble_eq_true rfl) (m_J24_parentOf F.ok l1 h _ hk)) ⟨rfl, rfl⟩ fun x16 h15 hk =>
g_iconst F dJ24_fixAfterInsertion_122 ic_1 <|
g_callv0 (g_S F dJ24_fixAfterInsertion_123 q1552 ms_J24_setColor (rm' := rmJ24_setColor) ⟨Nat.le_of_ble_eq_true rfl, Nat.le_of_ble_eq_true rfl⟩ ⟨Nat.le_refl 0, Nat.le_refl 0⟩ (As := [aR x16, aI (1:Int32)]) (rest := []) rfl rfl (Nat.le_of_ble_eq_true rfl) (m_J24_setColor F.ok x16 (1:Int32) h15 _ hk)) ⟨rfl, rfl⟩ fun h17 hk =>
g_aload_n F dJ24_fixAfterInsertion_126 rfl 1 rfl <|
g_callr0 (g_S F dJ24_fixAfterInsertion_127 q1540 ms_J24_parentOf (rm' := rmJ24_parentOf) ⟨Nat.le_of_ble_eq_true rfl, Nat.le_of_ble_eq_true rfl⟩ ⟨Nat.le_refl 0, Nat.le_refl 0⟩ (As := [aR l1]) (rest := []) rfl rfl (Nat.le_of_ble_eq_true rfl) (m_J24_parentOf F.ok l1 h17 _ hk)) ⟨rfl, rfl⟩ fun x19 h18 hk =>
g_callr0 (g_S F dJ24_fixAfterInsertion_130 q1540 ms_J24_parentOf (rm' := rmJ24_parentOf) ⟨Nat.le_of_ble_eq_true rfl, Nat.le_of_ble_eq_true rfl⟩ ⟨Nat.le_refl 0, Nat.le_refl 0⟩ (As := [aR x19]) (rest := []) rfl rfl (Nat.le_of_ble_eq_true rfl) (m_J24_parentOf F.ok x19 h18 _ hk)) ⟨rfl, rfl⟩ fun x21 h20 hk =>
g_iconst F dJ24_fixAfterInsertion_133 ic_0 <|
g_callv0 (g_S F dJ24_fixAfterInsertion_134 q1552 ms_J24_setColor (rm' := rmJ24_setColor) ⟨Nat.le_of_ble_eq_true rfl, Nat.le_of_ble_eq_true rfl⟩ ⟨Nat.le_refl 0, Nat.le_refl 0⟩ (As := [aR x21, aI (0:Int32)]) (rest := []) rfl rfl (Nat.le_of_ble_eq_true rfl) (m_J24_setColor F.ok x21 (0:Int32) h20 _ hk)) ⟨rfl, rfl⟩ fun h22 hk =>
g_aload_n F dJ24_fixAfterInsertion_137 rfl 0 rfl <|
g_aload_n F dJ24_fixAfterInsertion_138 rfl 1 rfl <|
g_callr0 (g_S F dJ24_fixAfterInsertion_139 q1540 ms_J24_parentOf (rm' := rmJ24_parentOf) ⟨Nat.le_of_ble_eq_true rfl, Nat.le_of_ble_eq_true rfl⟩ ⟨Nat.le_refl 0, Nat.le_refl 0⟩ (As := [aR l1]) (rest := [aR (some v0)]) rfl rfl (Nat.le_of_ble_eq_true rfl) (m_J24_parentOf F.ok l1 h22 _ hk)) ⟨rfl, rfl⟩ fun x24 h23 hk =>
g_callr0 (g_S F dJ24_fixAfterInsertion_142 q1540 ms_J24_parentOf (rm' := rmJ24_parentOf) ⟨Nat.le_of_ble_eq_true rfl, Nat.le_of_ble_eq_true rfl⟩ ⟨Nat.le_refl 0, Nat.le_refl 0⟩ (As := [aR x24]) (rest := [aR (some v0)]) rfl rfl (Nat.le_of_ble_eq_true rfl) (m_J24_parentOf F.ok x24 h23 _ hk)) ⟨rfl, rfl⟩ fun x26 h25 hk =>
g_callv0 (g_V F dJ24_fixAfterInsertion_145 q1559 mi_J24_rotateRight ct_J24 (rm' := rmJ24_rotateRight) ⟨Nat.le_of_ble_eq_true rfl, Nat.le_of_ble_eq_true rfl⟩ ⟨Nat.le_refl 0, Nat.le_refl 0⟩ (As := [aR x26]) (rest := []) rfl rfl (Nat.le_of_ble_eq_true rfl) hk (fun a28 hk => m_J24_rotateRight F.ok a28 x26 h25 _ hk)) ⟨rfl, rfl⟩ fun h27 hk =>
g_goto F dJ24_fixAfterInsertion_148 (tgt := 5) rfl <|
hK5 l1 h27 hk
theorem s_J24_fixAfterInsertion_l5 {x : Cx} (F : Fx x cJ24_fixAfterInsertion "java/util/TreeMap" 3 none rmJ24_fixAfterInsertion) {v0 : Nat} {Q : hH → Prop} {K258 : hH → Prop} (n : Nat) (l1 : Option Nat) (h : hH) (hk : f_J24_fixAfterInsertion_l5 x.S.E v0 Q K258 n l1 h) (hK258 : ∀ (h : hH), K258 h → G x (xQ x rmJ24_fixAfterInsertion (qV Q)) 258 [(0, aR (some v0))] [] h 0 0) : G x (xQ x rmJ24_fixAfterInsertion (qV Q)) 5 [(0, aR (some v0)), (1, aR l1)] [] h 0 0 := by
  induction n generalizing l1 h with
  | zero => exact False.elim hk
  | succ n ih =>
    unfold f_J24_fixAfterInsertion_l5 at hk
    exact g_aload_n F dJ24_fixAfterInsertion_5 rfl 1 rfl <|
g_ifnull F dJ24_fixAfterInsertion_6 (tgt := 258) rfl (fun hc => have hk := hk.1 hc
G.fewer [0] rfl <| hK258 h hk) (fun hc => have hk := hk.2 hc
g_aload_n F dJ24_fixAfterInsertion_9 rfl 1 rfl <|
g_aload_n F dJ24_fixAfterInsertion_10 rfl 0 rfl <|
g_getR F dJ24_fixAfterInsertion_11 fo_J24_3_java_util_TreeMap in_J24 fl_java_util_TreeMap_101_J24 hk fun x29 hk =>
g_acmp_eq F dJ24_fixAfterInsertion_14 (tgt := 258) rfl (fun hc => have hk := hk.1 hc
G.fewer [0] rfl <| hK258 h hk) (fun hc => have hk := hk.2 hc
g_aload_n F dJ24_fixAfterInsertion_17 rfl 1 rfl <|
g_getR F dJ24_fixAfterInsertion_18 fo_J25_4_java_util_TreeMap_Entry in_J25 fl_java_util_TreeMap_124_J25 hk fun x30 hk =>
g_getI F dJ24_fixAfterInsertion_21 fo_J25_5_java_util_TreeMap_Entry in_J25 fl_java_util_TreeMap_290_J25 hk fun x31 hk =>
g_if_ne F dJ24_fixAfterInsertion_24 (tgt := 258) rfl (fun hc => have hk := hk.2 hc
G.fewer [0] rfl <| hK258 h hk) (fun hc => have hk := hk.1 hc
g_aload_n F dJ24_fixAfterInsertion_27 rfl 1 rfl <|
g_callr0 (g_S F dJ24_fixAfterInsertion_28 q1540 ms_J24_parentOf (rm' := rmJ24_parentOf) ⟨Nat.le_of_ble_eq_true rfl, Nat.le_of_ble_eq_true rfl⟩ ⟨Nat.le_refl 0, Nat.le_refl 0⟩ (As := [aR l1]) (rest := []) rfl rfl (Nat.le_of_ble_eq_true rfl) (m_J24_parentOf F.ok l1 h _ hk)) ⟨rfl, rfl⟩ fun x33 h32 hk =>
g_aload_n F dJ24_fixAfterInsertion_31 rfl 1 rfl <|
g_callr0 (g_S F dJ24_fixAfterInsertion_32 q1540 ms_J24_parentOf (rm' := rmJ24_parentOf) ⟨Nat.le_of_ble_eq_true rfl, Nat.le_of_ble_eq_true rfl⟩ ⟨Nat.le_refl 0, Nat.le_refl 0⟩ (As := [aR l1]) (rest := [aR x33]) rfl rfl (Nat.le_of_ble_eq_true rfl) (m_J24_parentOf F.ok l1 h32 _ hk)) ⟨rfl, rfl⟩ fun x35 h34 hk =>
g_callr0 (g_S F dJ24_fixAfterInsertion_35 q1540 ms_J24_parentOf (rm' := rmJ24_parentOf) ⟨Nat.le_of_ble_eq_true rfl, Nat.le_of_ble_eq_true rfl⟩ ⟨Nat.le_refl 0, Nat.le_refl 0⟩ (As := [aR x35]) (rest := [aR x33]) rfl rfl (Nat.le_of_ble_eq_true rfl) (m_J24_parentOf F.ok x35 h34 _ hk)) ⟨rfl, rfl⟩ fun x37 h36 hk =>
g_callr0 (g_S F dJ24_fixAfterInsertion_38 q1543 ms_J24_leftOf (rm' := rmJ24_leftOf) ⟨Nat.le_of_ble_eq_true rfl, Nat.le_of_ble_eq_true rfl⟩ ⟨Nat.le_refl 0, Nat.le_refl 0⟩ (As := [aR x37]) (rest := [aR x33]) rfl rfl (Nat.le_of_ble_eq_true rfl) (m_J24_leftOf F.ok x37 h36 _ hk)) ⟨rfl, rfl⟩ fun x39 h38 hk =>
g_acmp_ne F dJ24_fixAfterInsertion_41 (tgt := 151) rfl (fun hc => have hk := hk.2 hc
g_aload_n F dJ24_fixAfterInsertion_151 rfl 1 rfl <|
g_callr0 (g_S F dJ24_fixAfterInsertion_152 q1540 ms_J24_parentOf (rm' := rmJ24_parentOf) ⟨Nat.le_of_ble_eq_true rfl, Nat.le_of_ble_eq_true rfl⟩ ⟨Nat.le_refl 0, Nat.le_refl 0⟩ (As := [aR l1]) (rest := []) rfl rfl (Nat.le_of_ble_eq_true rfl) (m_J24_parentOf F.ok l1 h38 _ hk)) ⟨rfl, rfl⟩ fun x41 h40 hk =>
g_callr0 (g_S F dJ24_fixAfterInsertion_155 q1540 ms_J24_parentOf (rm' := rmJ24_parentOf) ⟨Nat.le_of_ble_eq_true rfl, Nat.le_of_ble_eq_true rfl⟩ ⟨Nat.le_refl 0, Nat.le_refl 0⟩ (As := [aR x41]) (rest := []) rfl rfl (Nat.le_of_ble_eq_true rfl) (m_J24_parentOf F.ok x41 h40 _ hk)) ⟨rfl, rfl⟩ fun x43 h42 hk =>
g_callr0 (g_S F dJ24_fixAfterInsertion_158 q1543 ms_J24_leftOf (rm' := rmJ24_leftOf) ⟨Nat.le_of_ble_eq_true rfl, Nat.le_of_ble_eq_true rfl⟩ ⟨Nat.le_refl 0, Nat.le_refl 0⟩ (As := [aR x43]) (rest := []) rfl rfl (Nat.le_of_ble_eq_true rfl) (m_J24_leftOf F.ok x43 h42 _ hk)) ⟨rfl, rfl⟩ fun x45 h44 hk =>
g_astore_n F dJ24_fixAfterInsertion_161 rfl (Nat.le_of_ble_eq_true rfl) rfl <|
g_aload_n F dJ24_fixAfterInsertion_162 rfl 0 rfl <|
g_calli0 (g_S F dJ24_fixAfterInsertion_163 q1549 ms_J24_colorOf (rm' := rmJ24_colorOf) ⟨Nat.le_of_ble_eq_true rfl, Nat.le_of_ble_eq_true rfl⟩ ⟨Nat.le_refl 0, Nat.le_refl 0⟩ (As := [aR x45]) (rest := []) rfl rfl (Nat.le_of_ble_eq_true rfl) (m_J24_colorOf F.ok x45 h44 _ hk)) ⟨rfl, rfl⟩ fun x47 h46 hk =>
g_if_ne F dJ24_fixAfterInsertion_166 (tgt := 204) rfl (fun hc => have hk := hk.2 hc
g_aload_n F dJ24_fixAfterInsertion_204 rfl 2 rfl <|
g_aload_n F dJ24_fixAfterInsertion_205 rfl 2 rfl <|
g_callr0 (g_S F dJ24_fixAfterInsertion_206 q1540 ms_J24_parentOf (rm' := rmJ24_parentOf) ⟨Nat.le_of_ble_eq_true rfl, Nat.le_of_ble_eq_true rfl⟩ ⟨Nat.le_refl 0, Nat.le_refl 0⟩ (As := [aR l1]) (rest := [aR l1]) rfl rfl (Nat.le_of_ble_eq_true rfl) (m_J24_parentOf F.ok l1 h46 _ hk)) ⟨rfl, rfl⟩ fun x49 h48 hk =>
g_callr0 (g_S F dJ24_fixAfterInsertion_209 q1543 ms_J24_leftOf (rm' := rmJ24_leftOf) ⟨Nat.le_of_ble_eq_true rfl, Nat.le_of_ble_eq_true rfl⟩ ⟨Nat.le_refl 0, Nat.le_refl 0⟩ (As := [aR x49]) (rest := [aR l1]) rfl rfl (Nat.le_of_ble_eq_true rfl) (m_J24_leftOf F.ok x49 h48 _ hk)) ⟨rfl, rfl⟩ fun x51 h50 hk =>
g_acmp_ne F dJ24_fixAfterInsertion_212 (tgt := 225) rfl (fun hc => have hk := hk.2 hc
G.fewer [1, 2] rfl <| s_J24_fixAfterInsertion_j225 F l1 h50 hk ih) (fun hc => have hk := hk.1 hc
g_aload_n F dJ24_fixAfterInsertion_215 rfl 2 rfl <|
g_callr0 (g_S F dJ24_fixAfterInsertion_216 q1540 ms_J24_parentOf (rm' := rmJ24_parentOf) ⟨Nat.le_of_ble_eq_true rfl, Nat.le_of_ble_eq_true rfl⟩ ⟨Nat.le_refl 0, Nat.le_refl 0⟩ (As := [aR l1]) (rest := []) rfl rfl (Nat.le_of_ble_eq_true rfl) (m_J24_parentOf F.ok l1 h50 _ hk)) ⟨rfl, rfl⟩ fun x53 h52 hk =>
g_astore_n F dJ24_fixAfterInsertion_219 rfl (Nat.le_of_ble_eq_true rfl) rfl <|
g_aload_n F dJ24_fixAfterInsertion_220 rfl 2 rfl <|
g_aload_n F dJ24_fixAfterInsertion_221 rfl 0 rfl <|
g_callv0 (g_V F dJ24_fixAfterInsertion_222 q1559 mi_J24_rotateRight ct_J24 (rm' := rmJ24_rotateRight) ⟨Nat.le_of_ble_eq_true rfl, Nat.le_of_ble_eq_true rfl⟩ ⟨Nat.le_refl 0, Nat.le_refl 0⟩ (As := [aR x53]) (rest := []) rfl rfl (Nat.le_of_ble_eq_true rfl) hk (fun a55 hk => m_J24_rotateRight F.ok a55 x53 h52 _ hk)) ⟨rfl, rfl⟩ fun h54 hk =>
G.fewer [2, 0] rfl <| s_J24_fixAfterInsertion_j225 F x53 h54 hk ih)) (fun hc => have hk := hk.1 hc
g_aload_n F dJ24_fixAfterInsertion_169 rfl 2 rfl <|
g_callr0 (g_S F dJ24_fixAfterInsertion_170 q1540 ms_J24_parentOf (rm' := rmJ24_parentOf) ⟨Nat.le_of_ble_eq_true rfl, Nat.le_of_ble_eq_true rfl⟩ ⟨Nat.le_refl 0, Nat.le_refl 0⟩ (As := [aR l1]) (rest := []) rfl rfl (Nat.le_of_ble_eq_true rfl) (m_J24_parentOf F.ok l1 h46 _ hk)) ⟨rfl, rfl⟩ fun x57 h56 hk =>
g_iconst F dJ24_fixAfterInsertion_173 ic_1 <|
g_callv0 (g_S F dJ24_fixAfterInsertion_174 q1552 ms_J24_setColor (rm' := rmJ24_setColor) ⟨Nat.le_of_ble_eq_true rfl, Nat.le_of_ble_eq_true rfl⟩ ⟨Nat.le_refl 0, Nat.le_refl 0⟩ (As := [aR x57, aI (1:Int32)]) (rest := []) rfl rfl (Nat.le_of_ble_eq_true rfl) (m_J24_setColor F.ok x57 (1:Int32) h56 _ hk)) ⟨rfl, rfl⟩ fun h58 hk =>
g_aload_n F dJ24_fixAfterInsertion_177 rfl 0 rfl <|
g_iconst F dJ24_fixAfterInsertion_178 ic_1 <|
g_callv0 (g_S F dJ24_fixAfterInsertion_179 q1552 ms_J24_setColor (rm' := rmJ24_setColor) ⟨Nat.le_of_ble_eq_true rfl, Nat.le_of_ble_eq_true rfl⟩ ⟨Nat.le_refl 0, Nat.le_refl 0⟩ (As := [aR x45, aI (1:Int32)]) (rest := []) rfl rfl (Nat.le_of_ble_eq_true rfl) (m_J24_setColor F.ok x45 (1:Int32) h58 _ hk)) ⟨rfl, rfl⟩ fun h59 hk =>
g_aload_n F dJ24_fixAfterInsertion_182 rfl 2 rfl <|
g_callr0 (g_S F dJ24_fixAfterInsertion_183 q1540 ms_J24_parentOf (rm' := rmJ24_parentOf) ⟨Nat.le_of_ble_eq_true rfl, Nat.le_of_ble_eq_true rfl⟩ ⟨Nat.le_refl 0, Nat.le_refl 0⟩ (As := [aR l1]) (rest := []) rfl rfl (Nat.le_of_ble_eq_true rfl) (m_J24_parentOf F.ok l1 h59 _ hk)) ⟨rfl, rfl⟩ fun x61 h60 hk =>
g_callr0 (g_S F dJ24_fixAfterInsertion_186 q1540 ms_J24_parentOf (rm' := rmJ24_parentOf) ⟨Nat.le_of_ble_eq_true rfl, Nat.le_of_ble_eq_true rfl⟩ ⟨Nat.le_refl 0, Nat.le_refl 0⟩ (As := [aR x61]) (rest := []) rfl rfl (Nat.le_of_ble_eq_true rfl) (m_J24_parentOf F.ok x61 h60 _ hk)) ⟨rfl, rfl⟩ fun x63 h62 hk =>
g_iconst F dJ24_fixAfterInsertion_189 ic_0 <|
g_callv0 (g_S F dJ24_fixAfterInsertion_190 q1552 ms_J24_setColor (rm' := rmJ24_setColor) ⟨Nat.le_of_ble_eq_true rfl, Nat.le_of_ble_eq_true rfl⟩ ⟨Nat.le_refl 0, Nat.le_refl 0⟩ (As := [aR x63, aI (0:Int32)]) (rest := []) rfl rfl (Nat.le_of_ble_eq_true rfl) (m_J24_setColor F.ok x63 (0:Int32) h62 _ hk)) ⟨rfl, rfl⟩ fun h64 hk =>
g_aload_n F dJ24_fixAfterInsertion_193 rfl 2 rfl <|
g_callr0 (g_S F dJ24_fixAfterInsertion_194 q1540 ms_J24_parentOf (rm' := rmJ24_parentOf) ⟨Nat.le_of_ble_eq_true rfl, Nat.le_of_ble_eq_true rfl⟩ ⟨Nat.le_refl 0, Nat.le_refl 0⟩ (As := [aR l1]) (rest := []) rfl rfl (Nat.le_of_ble_eq_true rfl) (m_J24_parentOf F.ok l1 h64 _ hk)) ⟨rfl, rfl⟩ fun x66 h65 hk =>
g_callr0 (g_S F dJ24_fixAfterInsertion_197 q1540 ms_J24_parentOf (rm' := rmJ24_parentOf) ⟨Nat.le_of_ble_eq_true rfl, Nat.le_of_ble_eq_true rfl⟩ ⟨Nat.le_refl 0, Nat.le_refl 0⟩ (As := [aR x66]) (rest := []) rfl rfl (Nat.le_of_ble_eq_true rfl) (m_J24_parentOf F.ok x66 h65 _ hk)) ⟨rfl, rfl⟩ fun x68 h67 hk =>
g_astore_n F dJ24_fixAfterInsertion_200 rfl (Nat.le_of_ble_eq_true rfl) rfl <|
g_goto F dJ24_fixAfterInsertion_201 (tgt := 255) rfl <|
g_goto F dJ24_fixAfterInsertion_255 (tgt := 5) rfl <|
G.fewer [2, 0] rfl <| ih x68 h67 hk)) (fun hc => have hk := hk.1 hc
g_aload_n F dJ24_fixAfterInsertion_44 rfl 1 rfl <|
g_callr0 (g_S F dJ24_fixAfterInsertion_45 q1540 ms_J24_parentOf (rm' := rmJ24_parentOf) ⟨Nat.le_of_ble_eq_true rfl, Nat.le_of_ble_eq_true rfl⟩ ⟨Nat.le_refl 0, Nat.le_refl 0⟩ (As := [aR l1]) (rest := []) rfl rfl (Nat.le_of_ble_eq_true rfl) (m_J24_parentOf F.ok l1 h38 _ hk)) ⟨rfl, rfl⟩ fun x70 h69 hk =>
g_callr0 (g_S F dJ24_fixAfterInsertion_48 q1540 ms_J24_parentOf (rm' := rmJ24_parentOf) ⟨Nat.le_of_ble_eq_true rfl, Nat.le_of_ble_eq_true rfl⟩ ⟨Nat.le_refl 0, Nat.le_refl 0⟩ (As := [aR x70]) (rest := []) rfl rfl (Nat.le_of_ble_eq_true rfl) (m_J24_parentOf F.ok x70 h69 _ hk)) ⟨rfl, rfl⟩ fun x72 h71 hk =>
g_callr0 (g_S F dJ24_fixAfterInsertion_51 q1546 ms_J24_rightOf (rm' := rmJ24_rightOf) ⟨Nat.le_of_ble_eq_true rfl, Nat.le_of_ble_eq_true rfl⟩ ⟨Nat.le_refl 0, Nat.le_refl 0⟩ (As := [aR x72]) (rest := []) rfl rfl (Nat.le_of_ble_eq_true rfl) (m_J24_rightOf F.ok x72 h71 _ hk)) ⟨rfl, rfl⟩ fun x74 h73 hk =>
g_astore_n F dJ24_fixAfterInsertion_54 rfl (Nat.le_of_ble_eq_true rfl) rfl <|
g_aload_n F dJ24_fixAfterInsertion_55 rfl 0 rfl <|
g_calli0 (g_S F dJ24_fixAfterInsertion_56 q1549 ms_J24_colorOf (rm' := rmJ24_colorOf) ⟨Nat.le_of_ble_eq_true rfl, Nat.le_of_ble_eq_true rfl⟩ ⟨Nat.le_refl 0, Nat.le_refl 0⟩ (As := [aR x74]) (rest := []) rfl rfl (Nat.le_of_ble_eq_true rfl) (m_J24_colorOf F.ok x74 h73 _ hk)) ⟨rfl, rfl⟩ fun x76 h75 hk =>
g_if_ne F dJ24_fixAfterInsertion_59 (tgt := 97) rfl (fun hc => have hk := hk.2 hc
g_aload_n F dJ24_fixAfterInsertion_97 rfl 2 rfl <|
g_aload_n F dJ24_fixAfterInsertion_98 rfl 2 rfl <|
g_callr0 (g_S F dJ24_fixAfterInsertion_99 q1540 ms_J24_parentOf (rm' := rmJ24_parentOf) ⟨Nat.le_of_ble_eq_true rfl, Nat.le_of_ble_eq_true rfl⟩ ⟨Nat.le_refl 0, Nat.le_refl 0⟩ (As := [aR l1]) (rest := [aR l1]) rfl rfl (Nat.le_of_ble_eq_true rfl) (m_J24_parentOf F.ok l1 h75 _ hk)) ⟨rfl, rfl⟩ fun x78 h77 hk =>
g_callr0 (g_S F dJ24_fixAfterInsertion_102 q1546 ms_J24_rightOf (rm' := rmJ24_rightOf) ⟨Nat.le_of_ble_eq_true rfl, Nat.le_of_ble_eq_true rfl⟩ ⟨Nat.le_refl 0, Nat.le_refl 0⟩ (As := [aR x78]) (rest := [aR l1]) rfl rfl (Nat.le_of_ble_eq_true rfl) (m_J24_rightOf F.ok x78 h77 _ hk)) ⟨rfl, rfl⟩ fun x80 h79 hk =>
g_acmp_ne F dJ24_fixAfterInsertion_105 (tgt := 118) rfl (fun hc => have hk := hk.2 hc
G.fewer [1, 2] rfl <| s_J24_fixAfterInsertion_j118 F l1 h79 hk ih) (fun hc => have hk := hk.1 hc
g_aload_n F dJ24_fixAfterInsertion_108 rfl 2 rfl <|
g_callr0 (g_S F dJ24_fixAfterInsertion_109 q1540 ms_J24_parentOf (rm' := rmJ24_parentOf) ⟨Nat.le_of_ble_eq_true rfl, Nat.le_of_ble_eq_true rfl⟩ ⟨Nat.le_refl 0, Nat.le_refl 0⟩ (As := [aR l1]) (rest := []) rfl rfl (Nat.le_of_ble_eq_true rfl) (m_J24_parentOf F.ok l1 h79 _ hk)) ⟨rfl, rfl⟩ fun x82 h81 hk =>
g_astore_n F dJ24_fixAfterInsertion_112 rfl (Nat.le_of_ble_eq_true rfl) rfl <|
g_aload_n F dJ24_fixAfterInsertion_113 rfl 2 rfl <|
g_aload_n F dJ24_fixAfterInsertion_114 rfl 0 rfl <|
g_callv0 (g_V F dJ24_fixAfterInsertion_115 q1555 mi_J24_rotateLeft ct_J24 (rm' := rmJ24_rotateLeft) ⟨Nat.le_of_ble_eq_true rfl, Nat.le_of_ble_eq_true rfl⟩ ⟨Nat.le_refl 0, Nat.le_refl 0⟩ (As := [aR x82]) (rest := []) rfl rfl (Nat.le_of_ble_eq_true rfl) hk (fun a84 hk => m_J24_rotateLeft F.ok a84 x82 h81 _ hk)) ⟨rfl, rfl⟩ fun h83 hk =>
G.fewer [2, 0] rfl <| s_J24_fixAfterInsertion_j118 F x82 h83 hk ih)) (fun hc => have hk := hk.1 hc
g_aload_n F dJ24_fixAfterInsertion_62 rfl 2 rfl <|
g_callr0 (g_S F dJ24_fixAfterInsertion_63 q1540 ms_J24_parentOf (rm' := rmJ24_parentOf) ⟨Nat.le_of_ble_eq_true rfl, Nat.le_of_ble_eq_true rfl⟩ ⟨Nat.le_refl 0, Nat.le_refl 0⟩ (As := [aR l1]) (rest := []) rfl rfl (Nat.le_of_ble_eq_true rfl) (m_J24_parentOf F.ok l1 h75 _ hk)) ⟨rfl, rfl⟩ fun x86 h85 hk =>
g_iconst F dJ24_fixAfterInsertion_66 ic_1 <|
g_callv0 (g_S F dJ24_fixAfterInsertion_67 q1552 ms_J24_setColor (rm' := rmJ24_setColor) ⟨Nat.le_of_ble_eq_true rfl, Nat.le_of_ble_eq_true rfl⟩ ⟨Nat.le_refl 0, Nat.le_refl 0⟩ (As := [aR x86, aI (1:Int32)]) (rest := []) rfl rfl (Nat.le_of_ble_eq_true rfl) (m_J24_setColor F.ok x86 (1:Int32) h85 _ hk)) ⟨rfl, rfl⟩ fun h87 hk =>
g_aload_n F dJ24_fixAfterInsertion_70 rfl 0 rfl <|
g_iconst F dJ24_fixAfterInsertion_71 ic_1 <|
g_callv0 (g_S F dJ24_fixAfterInsertion_72 q1552 ms_J24_setColor (rm' := rmJ24_setColor) ⟨Nat.le_of_ble_eq_true rfl, Nat.le_of_ble_eq_true rfl⟩ ⟨Nat.le_refl 0, Nat.le_refl 0⟩ (As := [aR x74, aI (1:Int32)]) (rest := []) rfl rfl (Nat.le_of_ble_eq_true rfl) (m_J24_setColor F.ok x74 (1:Int32) h87 _ hk)) ⟨rfl, rfl⟩ fun h88 hk =>
g_aload_n F dJ24_fixAfterInsertion_75 rfl 2 rfl <|
g_callr0 (g_S F dJ24_fixAfterInsertion_76 q1540 ms_J24_parentOf (rm' := rmJ24_parentOf) ⟨Nat.le_of_ble_eq_true rfl, Nat.le_of_ble_eq_true rfl⟩ ⟨Nat.le_refl 0, Nat.le_refl 0⟩ (As := [aR l1]) (rest := []) rfl rfl (Nat.le_of_ble_eq_true rfl) (m_J24_parentOf F.ok l1 h88 _ hk)) ⟨rfl, rfl⟩ fun x90 h89 hk =>
g_callr0 (g_S F dJ24_fixAfterInsertion_79 q1540 ms_J24_parentOf (rm' := rmJ24_parentOf) ⟨Nat.le_of_ble_eq_true rfl, Nat.le_of_ble_eq_true rfl⟩ ⟨Nat.le_refl 0, Nat.le_refl 0⟩ (As := [aR x90]) (rest := []) rfl rfl (Nat.le_of_ble_eq_true rfl) (m_J24_parentOf F.ok x90 h89 _ hk)) ⟨rfl, rfl⟩ fun x92 h91 hk =>
g_iconst F dJ24_fixAfterInsertion_82 ic_0 <|
g_callv0 (g_S F dJ24_fixAfterInsertion_83 q1552 ms_J24_setColor (rm' := rmJ24_setColor) ⟨Nat.le_of_ble_eq_true rfl, Nat.le_of_ble_eq_true rfl⟩ ⟨Nat.le_refl 0, Nat.le_refl 0⟩ (As := [aR x92, aI (0:Int32)]) (rest := []) rfl rfl (Nat.le_of_ble_eq_true rfl) (m_J24_setColor F.ok x92 (0:Int32) h91 _ hk)) ⟨rfl, rfl⟩ fun h93 hk =>
g_aload_n F dJ24_fixAfterInsertion_86 rfl 2 rfl <|
g_callr0 (g_S F dJ24_fixAfterInsertion_87 q1540 ms_J24_parentOf (rm' := rmJ24_parentOf) ⟨Nat.le_of_ble_eq_true rfl, Nat.le_of_ble_eq_true rfl⟩ ⟨Nat.le_refl 0, Nat.le_refl 0⟩ (As := [aR l1]) (rest := []) rfl rfl (Nat.le_of_ble_eq_true rfl) (m_J24_parentOf F.ok l1 h93 _ hk)) ⟨rfl, rfl⟩ fun x95 h94 hk =>
g_callr0 (g_S F dJ24_fixAfterInsertion_90 q1540 ms_J24_parentOf (rm' := rmJ24_parentOf) ⟨Nat.le_of_ble_eq_true rfl, Nat.le_of_ble_eq_true rfl⟩ ⟨Nat.le_refl 0, Nat.le_refl 0⟩ (As := [aR x95]) (rest := []) rfl rfl (Nat.le_of_ble_eq_true rfl) (m_J24_parentOf F.ok x95 h94 _ hk)) ⟨rfl, rfl⟩ fun x97 h96 hk =>
g_astore_n F dJ24_fixAfterInsertion_93 rfl (Nat.le_of_ble_eq_true rfl) rfl <|
g_goto F dJ24_fixAfterInsertion_94 (tgt := 148) rfl <|
g_goto F dJ24_fixAfterInsertion_148 (tgt := 5) rfl <|
G.fewer [2, 0] rfl <| ih x97 h96 hk)))))
theorem s_J24_fixAfterInsertion_j258 {x : Cx} (F : Fx x cJ24_fixAfterInsertion "java/util/TreeMap" 3 none rmJ24_fixAfterInsertion) {v0 : Nat} {Q : hH → Prop} (h : hH) (hk : f_J24_fixAfterInsertion_j258 x.S.E v0 Q h) : G x (xQ x rmJ24_fixAfterInsertion (qV Q)) 258 [(0, aR (some v0))] [] h 0 0 := by
  unfold f_J24_fixAfterInsertion_j258 at hk
  exact g_aload_n F dJ24_fixAfterInsertion_258 rfl 0 rfl <|
g_getR F dJ24_fixAfterInsertion_259 fo_J24_3_java_util_TreeMap in_J24 fl_java_util_TreeMap_101_J24 hk fun x98 hk =>
g_iconst F dJ24_fixAfterInsertion_262 ic_1 <|
g_putV F dJ24_fixAfterInsertion_263 fo_J25_5_java_util_TreeMap_Entry ck_J25 fl_java_util_TreeMap_290_J25 rfl (v := aI (1:Int32)) ⟨rfl, rfl⟩ hk fun h99 hk =>
g_vret F dJ24_fixAfterInsertion_266 (Nat.le_refl 0) (Nat.le_refl 0) hk
theorem m_J24_fixAfterInsertion {S : Sx} (hS0 : Sok S) (v0 : Nat) (v1 : Option Nat) (h : hH) (Q : hH → Prop) (hk : f_J24_fixAfterInsertion S.E v0 v1 h Q) : Ct S yJ24_fixAfterInsertion (ws_ yJ24_fixAfterInsertion cJ24_fixAfterInsertion 3 none) rmJ24_fixAfterInsertion ([aR (some v0), aR v1].map vv) h (qV Q) := by
  refine Ct.of hS0 (by decide +kernel) rfl (Nat.le_of_ble_eq_true rfl) fun x hxS F hnm => ?_
  subst hxS
  unfold f_J24_fixAfterInsertion at hk
  exact g_aload_n F dJ24_fixAfterInsertion_0 rfl 1 rfl <|
g_iconst F dJ24_fixAfterInsertion_1 ic_0 <|
g_putV F dJ24_fixAfterInsertion_2 fo_J25_5_java_util_TreeMap_Entry ck_J25 fl_java_util_TreeMap_290_J25 rfl (v := aI (0:Int32)) ⟨rfl, rfl⟩ hk fun h100 hk =>
s_J24_fixAfterInsertion_l5 F 1000000 v1 h100 hk ((fun h hk => s_J24_fixAfterInsertion_j258 F h hk ))
abbrev rmJ24_addEntry : Room := { frames := 4, cells := 1, slots := 6, locals := 84 }
theorem s_J24_addEntry_j32 {x : Cx} (F : Fx x cJ24_addEntry "java/util/TreeMap" 6 none rmJ24_addEntry) {v0 : Nat} {Q : hH → Prop} {cb kb : Nat} (hM : cb + 1 ≤ 1) (hS : kb + 6 ≤ 6) (l5 : Option Nat) (h : hH) (hk : f_J24_addEntry_j32 x.S.E v0 Q l5 h) : G x (xQ x rmJ24_addEntry (qV Q)) 32 [(0, aR (some v0)), (5, aR l5)] [] h (cb + 1) (kb + 6) := by
  unfold f_J24_addEntry_j32 at hk
  exact g_aload_n F dJ24_addEntry_32 rfl 0 rfl <|
g_aload F dJ24_addEntry_33 1 rfl <|
g_callv0 (g_V F dJ24_addEntry_35 q1536 mi_J24_fixAfterInsertion ct_J24 (rm' := rmJ24_fixAfterInsertion) ⟨Nat.le_of_ble_eq_true rfl, Nat.le_of_ble_eq_true rfl⟩ ⟨show cb + 1 + 0 ≤ 1 by omega, show kb + 6 + 0 ≤ 6 by omega⟩ (As := [aR l5]) (rest := []) rfl rfl (Nat.le_of_ble_eq_true rfl) hk (fun a2 hk => m_J24_fixAfterInsertion F.ok a2 l5 h _ hk)) ⟨rfl, rfl⟩ fun h1 hk =>
g_aload_n F dJ24_addEntry_38 rfl 0 rfl <|
g_dup F dJ24_addEntry_39 rfl <|
g_getI F dJ24_addEntry_40 fo_J24_4_java_util_TreeMap in_J24 fl_java_util_TreeMap_7_J24 hk fun x3 hk =>
g_iconst F dJ24_addEntry_43 ic_1 <|
g_iadd F dJ24_addEntry_44 <|
g_putV F dJ24_addEntry_45 fo_J24_4_java_util_TreeMap ck_J24 fl_java_util_TreeMap_7_J24 rfl (v := aI (x3 + (1:Int32))) (fit_i (x3 + (1:Int32))) hk fun h4 hk =>
g_aload_n F dJ24_addEntry_48 rfl 0 rfl <|
g_dup F dJ24_addEntry_49 rfl <|
g_getI F dJ24_addEntry_50 fo_J24_5_java_util_TreeMap in_J24 fl_java_util_TreeMap_13_J24 hk fun x5 hk =>
g_iconst F dJ24_addEntry_53 ic_1 <|
g_iadd F dJ24_addEntry_54 <|
g_putV F dJ24_addEntry_55 fo_J24_5_java_util_TreeMap ck_J24 fl_java_util_TreeMap_13_J24 rfl (v := aI (x5 + (1:Int32))) (fit_i (x5 + (1:Int32))) hk fun h6 hk =>
g_vret F dJ24_addEntry_58 (show cb + 1 ≤ 1 by omega) (show kb + 6 ≤ 6 by omega) hk
theorem m_J24_addEntry {S : Sx} (hS0 : Sok S) (v0 : Nat) (v1 : Option Nat) (v2 : Option Nat) (v3 : Option Nat) (v4 : Int32) (h : hH) (Q : hH → Prop) (hk : f_J24_addEntry S.E v0 v1 v2 v3 v4 h Q) : Ct S yJ24_addEntry (ws_ yJ24_addEntry cJ24_addEntry 6 none) rmJ24_addEntry ([aR (some v0), aR v1, aR v2, aR v3, aI v4].map vv) h (qV Q) := by
  refine Ct.of hS0 (by decide +kernel) rfl (Nat.le_of_ble_eq_true rfl) fun x hxS F hnm => ?_
  subst hxS
  unfold f_J24_addEntry at hk
  have hM : 0 + 1 ≤ 1 := by omega
  have hS : 0 + 6 ≤ 6 := by omega
  refine G.widen (c' := 0 + 0) (k' := 0 + 0) (Nat.le_refl 0) (Nat.le_refl 0) ?_
  exact g_new (fs := [va_rf none, va_rf none, va_rf none, va_rf none, va_rf none, .int 0]) F dJ24_addEntry_0 ck_J25 ct_J25 q1500 q1501 q151 df_J25 (show 0 + 0 + 1 ≤ 1 by omega) (show 0 + 0 + 6 ≤ 6 by omega) hk fun q7 h8 hk =>
g_dup F dJ24_addEntry_3 rfl <|
g_aload_n F dJ24_addEntry_4 rfl 1 rfl <|
g_aload_n F dJ24_addEntry_5 rfl 2 rfl <|
g_aload_n F dJ24_addEntry_6 rfl 3 rfl <|
g_callv0 (g_I F dJ24_addEntry_7 q1502 mc_J25_init (rm' := rmJ25_init) ⟨Nat.le_of_ble_eq_true rfl, Nat.le_of_ble_eq_true rfl⟩ ⟨show 0 + 0 + 1 + 0 ≤ 1 by omega, show 0 + 0 + 6 + 0 ≤ 6 by omega⟩ (As := [aR v1, aR v2, aR v3]) (rest := [aR (some q7)]) rfl rfl (Nat.le_of_ble_eq_true rfl) (m_J25_init F.ok q7 v1 v2 v3 h8 _ hk)) ⟨rfl, rfl⟩ fun h9 hk =>
g_astore F dJ24_addEntry_10 (Nat.le_of_ble_eq_true rfl) rfl <|
g_iload F dJ24_addEntry_12 5 rfl <|
g_if_eq F dJ24_addEntry_14 (tgt := 26) rfl (fun hc => have hk := hk.1 hc
g_aload_n F dJ24_addEntry_26 rfl 4 rfl <|
g_aload F dJ24_addEntry_27 0 rfl <|
g_putV F dJ24_addEntry_29 fo_J25_3_java_util_TreeMap_Entry ck_J25 fl_java_util_TreeMap_114_J25 rfl (v := aR (some q7)) (fit_rf "java/util/TreeMap$Entry" (some q7)) hk fun h10 hk =>
G.fewer [1, 0] rfl <| G.widen (show 0 + 0 + 1 ≤ 0 + 1 by omega) (show 0 + 0 + 6 ≤ 0 + 6 by omega) <| s_J24_addEntry_j32 F hM hS (some q7) h10 hk ) (fun hc => have hk := hk.2 hc
g_aload_n F dJ24_addEntry_17 rfl 4 rfl <|
g_aload F dJ24_addEntry_18 0 rfl <|
g_putV F dJ24_addEntry_20 fo_J25_2_java_util_TreeMap_Entry ck_J25 fl_java_util_TreeMap_111_J25 rfl (v := aR (some q7)) (fit_rf "java/util/TreeMap$Entry" (some q7)) hk fun h11 hk =>
g_goto F dJ24_addEntry_23 (tgt := 32) rfl <|
G.fewer [1, 0] rfl <| G.widen (show 0 + 0 + 1 ≤ 0 + 1 by omega) (show 0 + 0 + 6 ≤ 0 + 6 by omega) <| s_J24_addEntry_j32 F hM hS (some q7) h11 hk )
abbrev rmJ24_put_2 : Room := { frames := 7, cells := 1, slots := 6, locals := 147 }
theorem s_J24_put_2_j196 {x : Cx} (F : Fx x cJ24_put_2 "java/util/TreeMap" 10 (some (.object "java/lang/Object")) rmJ24_put_2) {v0 : Nat} {Q : Option Nat → hH → Prop} {K123 : Option Nat → Option Nat → Int32 → Option Nat → Option Nat → hH → Prop} {K201 : Option Nat → Option Nat → Int32 → Option Nat → hH → Prop} {cb kb ce ke : Nat} (hM : cb + 0 ≤ ce) (hM2 : ce ≤ 1) (hS : kb + 0 ≤ ke) (hS2 : ke ≤ 6) (l1 : Option Nat) (l2 : Option Nat) (l3 : Int32) (l4 : Option Nat) (l5 : Int32) (l6 : Option Nat) (l8 : Option Nat) (h : hH) (hk : f_J24_put_2_j196 x.S.E v0 Q K123 K201 l1 l2 l3 l4 l5 l6 l8 h) (hK123 : ∀ (l1 : Option Nat) (l2 : Option Nat) (l3 : Int32) (l4 : Option Nat) (l8 : Option Nat) (h : hH), K123 l1 l2 l3 l4 l8 h → G x (xQ x rmJ24_put_2 (qR Q)) 123 [(0, aR (some v0)), (1, aR l1), (2, aR l2), (3, aI l3), (4, aR l4), (8, aR l8)] [] h (cb + 0) (kb + 0)) (hK201 : ∀ (l1 : Option Nat) (l2 : Option Nat) (l5 : Int32) (l6 : Option Nat) (h : hH), K201 l1 l2 l5 l6 h → G x (xQ x rmJ24_put_2 (qR Q)) 201 [(0, aR (some v0)), (1, aR l1), (2, aR l2), (5, aI l5), (6, aR l6)] [] h ce ke) : G x (xQ x rmJ24_put_2 (qR Q)) 196 [(0, aR (some v0)), (1, aR l1), (2, aR l2), (3, aI l3), (4, aR l4), (5, aI l5), (6, aR l6), (8, aR l8)] [] h (cb + 0) (kb + 0) := by
  unfold f_J24_put_2_j196 at hk
  exact g_aload F dJ24_put_2_196 4 rfl <|
g_ifnonnull F dJ24_put_2_198 (tgt := 123) rfl (fun hc => have hk := hk.2 hc
G.fewer [0, 1, 2, 3, 4, 7] rfl <| hK123 l1 l2 l3 l4 l8 h hk) (fun hc => have hk := hk.1 hc
G.fewer [0, 1, 2, 5, 6] rfl <| G.widen (show cb + 0 ≤ ce by omega) (show kb + 0 ≤ ke by omega) <| hK201 l1 l2 l5 l6 h hk)
theorem s_J24_put_2_l123 {x : Cx} (F : Fx x cJ24_put_2 "java/util/TreeMap" 10 (some (.object "java/lang/Object")) rmJ24_put_2) {v0 : Nat} {Q : Option Nat → hH → Prop} {K171 : Option Nat → Int32 → Option Nat → hH → Prop} {K201 : Option Nat → Option Nat → Int32 → Option Nat → hH → Prop} {ce ke : Nat} (hM2 : ce ≤ 1) (hS2 : ke ≤ 6) (n : Nat) (l1 : Option Nat) (l2 : Option Nat) (l3 : Int32) (l4 : Option Nat) (l8 : Option Nat) (h : hH) (cb kb : Nat) (hM0 : cb + n * 0 ≤ ce) (hS0 : kb + n * 0 ≤ ke) (hk : f_J24_put_2_l123 x.S.E v0 Q K171 K201 n l1 l2 l3 l4 l8 h) (hK171 : ∀ (l2 : Option Nat) (l3 : Int32) (l4 : Option Nat) (h : hH), K171 l2 l3 l4 h → G x (xQ x rmJ24_put_2 (qR Q)) 171 [(2, aR l2), (3, aI l3), (4, aR l4)] [] h ce ke) (hK201 : ∀ (l1 : Option Nat) (l2 : Option Nat) (l5 : Int32) (l6 : Option Nat) (h : hH), K201 l1 l2 l5 l6 h → G x (xQ x rmJ24_put_2 (qR Q)) 201 [(0, aR (some v0)), (1, aR l1), (2, aR l2), (5, aI l5), (6, aR l6)] [] h ce ke) : G x (xQ x rmJ24_put_2 (qR Q)) 123 [(0, aR (some v0)), (1, aR l1), (2, aR l2), (3, aI l3), (4, aR l4), (8, aR l8)] [] h cb kb := by
  induction n generalizing l1 l2 l3 l4 l8 h cb kb with
  | zero => exact False.elim hk
  | succ n ih =>
    have hM : cb + 0 ≤ ce := by omega
    have hS : kb + 0 ≤ ke := by omega
    unfold f_J24_put_2_l123 at hk
    exact G.widen (c' := cb + 0) (k' := kb + 0) (Nat.le_refl _) (Nat.le_refl _) <| g_aload F dJ24_put_2_123 4 rfl <|
g_astore F dJ24_put_2_125 (Nat.le_of_ble_eq_true rfl) rfl <|
g_aload F dJ24_put_2_127 6 rfl <|
g_aload F dJ24_put_2_129 5 rfl <|
g_getR F dJ24_put_2_131 fo_J25_0_java_util_TreeMap_Entry in_J25 fl_java_util_TreeMap_105_J25 hk fun x1 hk =>
g_calli05 (g_F (y0 := ({ cls := "java/lang/Comparable", name := "compareTo", desc := "(Ljava/lang/Object;)I" } : MethodName)) F dJ24_put_2_134 q1497 q1110 q1108 q140 q1112 (F.face q1088 q1087 q1111 q1109 q1107 ⟨by decide, by decide⟩) moi_java_lang_Comparable_compareTo__Ljava_lang_Object__I ct_J20 (rm' := rmJ20_compareTo) ⟨Nat.le_of_ble_eq_true rfl, Nat.le_of_ble_eq_true rfl⟩ ⟨show cb + 0 + 0 ≤ 1 by omega, show kb + 0 + 0 ≤ 6 by omega⟩ (As := [aR x1]) (rest := []) rfl rfl (Nat.le_of_ble_eq_true rfl) hk (fun a6 hk => m_J20_compareTo F.ok a6 x1 h _ hk)) ⟨rfl, rfl⟩ fun x3 h2 hk =>
g_istore F dJ24_put_2_139 (Nat.le_of_ble_eq_true rfl) rfl <|
g_iload F dJ24_put_2_141 0 rfl <|
g_if_ge F dJ24_put_2_143 (tgt := 156) rfl (fun hc => have hk := hk.1 hc
g_iload F dJ24_put_2_156 0 rfl <|
g_if_le F dJ24_put_2_158 (tgt := 171) rfl (fun hc => have hk := hk.1 hc
G.fewer [4, 5, 6] rfl <| G.widen (show cb + 0 ≤ ce by omega) (show kb + 0 ≤ ke by omega) <| hK171 l2 l3 l4 h2 hk) (fun hc => have hk := hk.2 hc
g_aload F dJ24_put_2_161 6 rfl <|
g_getR F dJ24_put_2_163 fo_J25_3_java_util_TreeMap_Entry in_J25 fl_java_util_TreeMap_114_J25 hk fun x4 hk =>
g_astore F dJ24_put_2_166 (Nat.le_of_ble_eq_true rfl) rfl <|
g_goto F dJ24_put_2_168 (tgt := 196) rfl <|
G.fewer [3, 4, 5, 6, 0, 1, 2, 7] rfl <| s_J24_put_2_j196 F hM hM2 hS hS2 l1 l2 l3 x4 x3 l4 l8 h2 hk (fun l1 l2 l3 l4 l8 h hk => ih l1 l2 l3 l4 l8 h (cb + 0) (kb + 0) (by omega) (by omega) hk) hK201)) (fun hc => have hk := hk.2 hc
g_aload F dJ24_put_2_146 6 rfl <|
g_getR F dJ24_put_2_148 fo_J25_2_java_util_TreeMap_Entry in_J25 fl_java_util_TreeMap_111_J25 hk fun x5 hk =>
g_astore F dJ24_put_2_151 (Nat.le_of_ble_eq_true rfl) rfl <|
g_goto F dJ24_put_2_153 (tgt := 196) rfl <|
G.fewer [3, 4, 5, 6, 0, 1, 2, 7] rfl <| s_J24_put_2_j196 F hM hM2 hS hS2 l1 l2 l3 x5 x3 l4 l8 h2 hk (fun l1 l2 l3 l4 l8 h hk => ih l1 l2 l3 l4 l8 h (cb + 0) (kb + 0) (by omega) (by omega) hk) hK201)
theorem s_J24_put_2_j187 {x : Cx} (F : Fx x cJ24_put_2 "java/util/TreeMap" 10 (some (.object "java/lang/Object")) rmJ24_put_2) {v0 : Nat} {Q : Option Nat → hH → Prop} {cb kb : Nat} (hM : cb + 1 ≤ 1) (hS : kb + 6 ≤ 6) (l2 : Option Nat) (l4 : Option Nat) (l9 : Option Nat) (h : hH) (hk : f_J24_put_2_j187 x.S.E v0 Q l2 l4 l9 h) : G x (xQ x rmJ24_put_2 (qR Q)) 187 [(2, aR l2), (4, aR l4), (9, aR l9)] [] h (cb + 0) (kb + 0) := by
  unfold f_J24_put_2_j187 at hk
  exact g_aload F dJ24_put_2_187 1 rfl <|
g_aload_n F dJ24_put_2_189 rfl 0 rfl <|
g_putV F dJ24_put_2_190 fo_J25_1_java_util_TreeMap_Entry ck_J25 fl_java_util_TreeMap_58_J25 rfl (v := aR l2) (fit_rf "java/lang/Object" l2) hk fun h7 hk =>
g_aload F dJ24_put_2_193 2 rfl <|
g_aret F (Or.inl ⟨_, rfl⟩) dJ24_put_2_195 (show cb + 0 ≤ 1 by omega) (show kb + 0 ≤ 6 by omega) hk
theorem s_J24_put_2_j216 {x : Cx} (F : Fx x cJ24_put_2 "java/util/TreeMap" 10 (some (.object "java/lang/Object")) rmJ24_put_2) {v0 : Nat} {Q : Option Nat → hH → Prop} {cb kb : Nat} (hM : cb + 1 ≤ 1) (hS : kb + 6 ≤ 6) (s0 : Option Nat) (s1 : Option Nat) (s2 : Option Nat) (s3 : Option Nat) (s4 : Int32) (h : hH) (hk : f_J24_put_2_j216 x.S.E v0 Q s0 s1 s2 s3 s4 h) : G x (xQ x rmJ24_put_2 (qR Q)) 216 [] [aI s4, aR s3, aR s2, aR s1, aR s0] h (cb + 0) (kb + 0) := by
  unfold f_J24_put_2_j216 at hk
  exact g_callv (g_V F dJ24_put_2_216 q1532 mi_J24_addEntry ct_J24 (rm' := rmJ24_addEntry) ⟨Nat.le_of_ble_eq_true rfl, Nat.le_of_ble_eq_true rfl⟩ ⟨show cb + 0 + 1 ≤ 1 by omega, show kb + 0 + 6 ≤ 6 by omega⟩ (As := [aR s1, aR s2, aR s3, aI s4]) (rest := []) rfl rfl (Nat.le_of_ble_eq_true rfl) hk (fun a9 hk => m_J24_addEntry F.ok a9 s1 s2 s3 s4 h _ hk)) fun h8 hk =>
g_null F dJ24_put_2_219 <|
g_aret F (Or.inl ⟨_, rfl⟩) dJ24_put_2_220 (show cb + 0 + 1 ≤ 1 by omega) (show kb + 0 + 6 ≤ 6 by omega) hk
theorem m_J24_put_2 {S : Sx} (hS0 : Sok S) (v0 : Nat) (v1 : Option Nat) (v2 : Option Nat) (v3 : Int32) (h : hH) (Q : Option Nat → hH → Prop) (hk : f_J24_put_2 S.E v0 v1 v2 v3 h Q) : Ct S yJ24_put_2 (ws_ yJ24_put_2 cJ24_put_2 10 (some (.object "java/lang/Object"))) rmJ24_put_2 ([aR (some v0), aR v1, aR v2, aI v3].map vv) h (qR Q) := by
  refine Ct.of hS0 (by decide +kernel) rfl (Nat.le_of_ble_eq_true rfl) fun x hxS F hnm => ?_
  subst hxS
  unfold f_J24_put_2 at hk
  have hM : 0 + 1 ≤ 1 := by omega
  have hS : 0 + 6 ≤ 6 := by omega
  refine G.widen (c' := 0 + 0) (k' := 0 + 0) (Nat.le_refl 0) (Nat.le_refl 0) ?_
  exact g_aload_n F dJ24_put_2_0 rfl 0 rfl <|
g_getR F dJ24_put_2_1 fo_J24_3_java_util_TreeMap in_J24 fl_java_util_TreeMap_101_J24 hk fun x10 hk =>
g_astore F dJ24_put_2_4 (Nat.le_of_ble_eq_true rfl) rfl <|
g_aload F dJ24_put_2_6 0 rfl <|
g_ifnonnull F dJ24_put_2_8 (tgt := 19) rfl (fun hc => have hk := hk.2 hc
g_aload_n F dJ24_put_2_19 rfl 1 rfl <|
g_getR F dJ24_put_2_20 fo_J24_2_java_util_TreeMap in_J24 fl_java_util_TreeMap_16_J24 hk fun x11 hk =>
g_astore F dJ24_put_2_23 (Nat.le_of_ble_eq_true rfl) rfl <|
g_aload F dJ24_put_2_25 0 rfl <|
g_ifnull F dJ24_put_2_27 (tgt := 112) rfl (fun hc => have hk := hk.1 hc
g_aload_n F dJ24_put_2_112 rfl 3 rfl <|
g_callr0 (g_S F dJ24_put_2_113 q1529 ms_J18_requireNonNull (rm' := rmJ18_requireNonNull) ⟨Nat.le_of_ble_eq_true rfl, Nat.le_of_ble_eq_true rfl⟩ ⟨show 0 + 0 + 0 ≤ 1 by omega, show 0 + 0 + 0 ≤ 6 by omega⟩ (As := [aR v1]) (rest := []) rfl rfl (Nat.le_of_ble_eq_true rfl) (m_J18_requireNonNull F.ok v1 h _ hk)) ⟨rfl, rfl⟩ fun x13 h12 hk =>
g_pop F dJ24_put_2_116 rfl <|
g_aload_n F dJ24_put_2_117 rfl 3 rfl <|
g_castY F dJ24_put_2_118 q1495 q1107 ct_J20 hk fun hk =>
g_astore F dJ24_put_2_121 (Nat.le_of_ble_eq_true rfl) rfl <|
G.fewer [3, 4, 5, 6, 2, 0] rfl <| s_J24_put_2_l123 F (ce := 0 + 0) (ke := 0 + 0) (show 0 + 0 ≤ 1 by omega) (show 0 + 0 ≤ 6 by omega) 1000000 v1 v2 v3 x10 v1 h12 (0 + 0) (0 + 0) (show 0 + 0 + 1000000 * 0 ≤ 0 + 0 by omega) (show 0 + 0 + 1000000 * 0 ≤ 0 + 0 by omega) hk ((fun l2 l3 l4 h hk => g_aload F dJ24_put_2_171 2 rfl <|
g_getR F dJ24_put_2_173 fo_J25_1_java_util_TreeMap_Entry in_J25 fl_java_util_TreeMap_58_J25 hk fun x14 hk =>
g_astore F dJ24_put_2_176 (Nat.le_of_ble_eq_true rfl) rfl <|
g_iload_n F dJ24_put_2_178 rfl 2 rfl <|
g_if_ne F dJ24_put_2_179 (tgt := 187) rfl (fun hc => have hk := hk.2 hc
G.fewer [1, 3, 0] rfl <| s_J24_put_2_j187 F hM hS l2 l4 x14 h hk ) (fun hc => have hk := hk.1 hc
g_aload F dJ24_put_2_182 0 rfl <|
g_ifnonnull F dJ24_put_2_184 (tgt := 193) rfl (fun hc => have hk := hk.2 hc
g_aload F dJ24_put_2_193 0 rfl <|
g_aret F (Or.inl ⟨_, rfl⟩) dJ24_put_2_195 (show 0 + 0 ≤ 1 by omega) (show 0 + 0 ≤ 6 by omega) hk) (fun hc => have hk := hk.1 hc
G.fewer [1, 3, 0] rfl <| s_J24_put_2_j187 F hM hS l2 l4 x14 h hk )))) ((fun l1 l2 l5 l6 h hk => g_aload_n F dJ24_put_2_201 rfl 0 rfl <|
g_aload_n F dJ24_put_2_202 rfl 1 rfl <|
g_aload_n F dJ24_put_2_203 rfl 2 rfl <|
g_aload F dJ24_put_2_204 4 rfl <|
g_iload F dJ24_put_2_206 3 rfl <|
g_if_ge F dJ24_put_2_208 (tgt := 215) rfl (fun hc => have hk := hk.1 hc
g_iconst F dJ24_put_2_215 ic_0 <|
G.fewer [] rfl <| s_J24_put_2_j216 F hM hS (some v0) l1 l2 l6 (0:Int32) h hk ) (fun hc => have hk := hk.2 hc
g_iconst F dJ24_put_2_211 ic_1 <|
g_goto F dJ24_put_2_212 (tgt := 216) rfl <|
G.fewer [] rfl <| s_J24_put_2_j216 F hM hS (some v0) l1 l2 l6 (1:Int32) h hk )))) (fun hc => have hk := hk.2 hc
False.elim hk)) (fun hc => have hk := hk.1 hc
g_aload_n F dJ24_put_2_11 rfl 1 rfl <|
g_aload_n F dJ24_put_2_12 rfl 2 rfl <|
g_aload_n F dJ24_put_2_13 rfl 3 rfl <|
g_callv (g_V F dJ24_put_2_14 q1487 mi_J24_addEntryToEmptyMap ct_J24 (rm' := rmJ24_addEntryToEmptyMap) ⟨Nat.le_of_ble_eq_true rfl, Nat.le_of_ble_eq_true rfl⟩ ⟨show 0 + 0 + 1 ≤ 1 by omega, show 0 + 0 + 6 ≤ 6 by omega⟩ (As := [aR v1, aR v2]) (rest := []) rfl rfl (Nat.le_of_ble_eq_true rfl) hk (fun a16 hk => m_J24_addEntryToEmptyMap F.ok a16 v1 v2 h _ hk)) fun h15 hk =>
g_null F dJ24_put_2_17 <|
g_aret F (Or.inl ⟨_, rfl⟩) dJ24_put_2_18 (show 0 + 0 + 1 ≤ 1 by omega) (show 0 + 0 + 6 ≤ 6 by omega) hk)
abbrev rmJ24_put : Room := { frames := 8, cells := 1, slots := 6, locals := 176 }
theorem m_J24_put {S : Sx} (hS0 : Sok S) (v0 : Nat) (v1 : Option Nat) (v2 : Option Nat) (h : hH) (Q : Option Nat → hH → Prop) (hk : f_J24_put S.E v0 v1 v2 h Q) : Ct S yJ24_put (ws_ yJ24_put cJ24_put 3 (some (.object "java/lang/Object"))) rmJ24_put ([aR (some v0), aR v1, aR v2].map vv) h (qR Q) := by
  refine Ct.of hS0 (by decide +kernel) rfl (Nat.le_of_ble_eq_true rfl) fun x hxS F hnm => ?_
  subst hxS
  unfold f_J24_put at hk
  have hM : 0 + 1 ≤ 1 := by omega
  have hS : 0 + 6 ≤ 6 := by omega
  refine G.widen (c' := 0 + 0) (k' := 0 + 0) (Nat.le_refl 0) (Nat.le_refl 0) ?_
  exact g_aload_n F dJ24_put_0 rfl 0 rfl <|
g_aload_n F dJ24_put_1 rfl 1 rfl <|
g_aload_n F dJ24_put_2 rfl 2 rfl <|
g_iconst F dJ24_put_3 ic_1 <|
g_callr (g_V F dJ24_put_4 q1483 mi_J24_put_2 ct_J24 (rm' := rmJ24_put_2) ⟨Nat.le_of_ble_eq_true rfl, Nat.le_of_ble_eq_true rfl⟩ ⟨show 0 + 0 + 1 ≤ 1 by omega, show 0 + 0 + 6 ≤ 6 by omega⟩ (As := [aR v1, aR v2, aI (1:Int32)]) (rest := []) rfl rfl (Nat.le_of_ble_eq_true rfl) hk (fun a3 hk => m_J24_put_2 F.ok a3 v1 v2 (1:Int32) h _ hk)) fun x2 h1 hk =>
g_aret F (Or.inl ⟨_, rfl⟩) dJ24_put_7 (show 0 + 0 + 1 ≤ 1 by omega) (show 0 + 0 + 6 ≤ 6 by omega) hk
abbrev rmJ24_getEntry : Room := { frames := 5, cells := 0, slots := 0, locals := 103 }
theorem s_J24_getEntry_l28 {x : Cx} (F : Fx x cJ24_getEntry "java/util/TreeMap" 5 (some (.object "java/util/TreeMap$Entry")) rmJ24_getEntry) {v0 : Nat} {Q : Option Nat → hH → Prop} {K70 : Option Nat → hH → Prop} {K75 : hH → Prop} (n : Nat) (l2 : Option Nat) (l3 : Option Nat) (h : hH) (hk : f_J24_getEntry_l28 x.S.E v0 Q K70 K75 n l2 l3 h) (hK70 : ∀ (l3 : Option Nat) (h : hH), K70 l3 h → G x (xQ x rmJ24_getEntry (qR Q)) 70 [(3, aR l3)] [] h 0 0) (hK75 : ∀ (h : hH), K75 h → G x (xQ x rmJ24_getEntry (qR Q)) 75 [] [] h 0 0) : G x (xQ x rmJ24_getEntry (qR Q)) 28 [(2, aR l2), (3, aR l3)] [] h 0 0 := by
  induction n generalizing l2 l3 h with
  | zero => exact False.elim hk
  | succ n ih =>
    unfold f_J24_getEntry_l28 at hk
    exact g_aload_n F dJ24_getEntry_28 rfl 1 rfl <|
g_ifnull F dJ24_getEntry_29 (tgt := 75) rfl (fun hc => have hk := hk.1 hc
G.fewer [] rfl <| hK75 h hk) (fun hc => have hk := hk.2 hc
g_aload_n F dJ24_getEntry_32 rfl 0 rfl <|
g_aload_n F dJ24_getEntry_33 rfl 1 rfl <|
g_getR F dJ24_getEntry_34 fo_J25_0_java_util_TreeMap_Entry in_J25 fl_java_util_TreeMap_105_J25 hk fun x1 hk =>
g_calli05 (g_F (y0 := ({ cls := "java/lang/Comparable", name := "compareTo", desc := "(Ljava/lang/Object;)I" } : MethodName)) F dJ24_getEntry_37 q1497 q1110 q1108 q140 q1112 (F.face q1088 q1087 q1111 q1109 q1107 ⟨by decide, by decide⟩) moi_java_lang_Comparable_compareTo__Ljava_lang_Object__I ct_J20 (rm' := rmJ20_compareTo) ⟨Nat.le_of_ble_eq_true rfl, Nat.le_of_ble_eq_true rfl⟩ ⟨Nat.le_refl 0, Nat.le_refl 0⟩ (As := [aR x1]) (rest := []) rfl rfl (Nat.le_of_ble_eq_true rfl) hk (fun a6 hk => m_J20_compareTo F.ok a6 x1 h _ hk)) ⟨rfl, rfl⟩ fun x3 h2 hk =>
g_istore F dJ24_getEntry_42 (Nat.le_of_ble_eq_true rfl) rfl <|
g_iload F dJ24_getEntry_44 0 rfl <|
g_if_ge F dJ24_getEntry_46 (tgt := 57) rfl (fun hc => have hk := hk.1 hc
g_iload F dJ24_getEntry_57 0 rfl <|
g_if_le F dJ24_getEntry_59 (tgt := 70) rfl (fun hc => have hk := hk.1 hc
G.fewer [2] rfl <| hK70 l3 h2 hk) (fun hc => have hk := hk.2 hc
g_aload_n F dJ24_getEntry_62 rfl 2 rfl <|
g_getR F dJ24_getEntry_63 fo_J25_3_java_util_TreeMap_Entry in_J25 fl_java_util_TreeMap_114_J25 hk fun x4 hk =>
g_astore_n F dJ24_getEntry_66 rfl (Nat.le_of_ble_eq_true rfl) rfl <|
g_goto F dJ24_getEntry_67 (tgt := 72) rfl <|
g_goto F dJ24_getEntry_72 (tgt := 28) rfl <|
G.fewer [2, 0] rfl <| ih l2 x4 h2 hk)) (fun hc => have hk := hk.2 hc
g_aload_n F dJ24_getEntry_49 rfl 2 rfl <|
g_getR F dJ24_getEntry_50 fo_J25_2_java_util_TreeMap_Entry in_J25 fl_java_util_TreeMap_111_J25 hk fun x5 hk =>
g_astore_n F dJ24_getEntry_53 rfl (Nat.le_of_ble_eq_true rfl) rfl <|
g_goto F dJ24_getEntry_54 (tgt := 72) rfl <|
g_goto F dJ24_getEntry_72 (tgt := 28) rfl <|
G.fewer [2, 0] rfl <| ih l2 x5 h2 hk))
theorem m_J24_getEntry {S : Sx} (hS0 : Sok S) (v0 : Nat) (v1 : Option Nat) (h : hH) (Q : Option Nat → hH → Prop) (hk : f_J24_getEntry S.E v0 v1 h Q) : Ct S yJ24_getEntry (ws_ yJ24_getEntry cJ24_getEntry 5 (some (.object "java/util/TreeMap$Entry"))) rmJ24_getEntry ([aR (some v0), aR v1].map vv) h (qR Q) := by
  refine Ct.of hS0 (by decide +kernel) rfl (Nat.le_of_ble_eq_true rfl) fun x hxS F hnm => ?_
  subst hxS
  unfold f_J24_getEntry at hk
  exact g_aload_n F dJ24_getEntry_0 rfl 0 rfl <|
g_getR F dJ24_getEntry_1 fo_J24_2_java_util_TreeMap in_J24 fl_java_util_TreeMap_16_J24 hk fun x7 hk =>
g_ifnull F dJ24_getEntry_4 (tgt := 13) rfl (fun hc => have hk := hk.1 hc
g_aload_n F dJ24_getEntry_13 rfl 1 rfl <|
g_callr0 (g_S F dJ24_getEntry_14 q1529 ms_J18_requireNonNull (rm' := rmJ18_requireNonNull) ⟨Nat.le_of_ble_eq_true rfl, Nat.le_of_ble_eq_true rfl⟩ ⟨Nat.le_refl 0, Nat.le_refl 0⟩ (As := [aR v1]) (rest := []) rfl rfl (Nat.le_of_ble_eq_true rfl) (m_J18_requireNonNull F.ok v1 h _ hk)) ⟨rfl, rfl⟩ fun x9 h8 hk =>
g_pop F dJ24_getEntry_17 rfl <|
g_aload_n F dJ24_getEntry_18 rfl 1 rfl <|
g_castY F dJ24_getEntry_19 q1495 q1107 ct_J20 hk fun hk =>
g_astore_n F dJ24_getEntry_22 rfl (Nat.le_of_ble_eq_true rfl) rfl <|
g_aload_n F dJ24_getEntry_23 rfl 1 rfl <|
g_getR F dJ24_getEntry_24 fo_J24_3_java_util_TreeMap in_J24 fl_java_util_TreeMap_101_J24 hk fun x10 hk =>
g_astore_n F dJ24_getEntry_27 rfl (Nat.le_of_ble_eq_true rfl) rfl <|
G.fewer [1, 0] rfl <| s_J24_getEntry_l28 F 1000000 v1 x10 h8 hk ((fun l3 h hk => g_aload_n F dJ24_getEntry_70 rfl 0 rfl <|
g_aret F (Or.inl ⟨_, rfl⟩) dJ24_getEntry_71 (Nat.le_refl 0) (Nat.le_refl 0) hk)) ((fun h hk => g_null F dJ24_getEntry_75 <|
g_aret F (Or.inl ⟨_, rfl⟩) dJ24_getEntry_76 (Nat.le_refl 0) (Nat.le_refl 0) hk))) (fun hc => have hk := hk.2 hc
False.elim hk)
abbrev rmJ24_get : Room := { frames := 6, cells := 0, slots := 0, locals := 127 }
theorem m_J24_get {S : Sx} (hS0 : Sok S) (v0 : Nat) (v1 : Option Nat) (h : hH) (Q : Option Nat → hH → Prop) (hk : f_J24_get S.E v0 v1 h Q) : Ct S yJ24_get (ws_ yJ24_get cJ24_get 3 (some (.object "java/lang/Object"))) rmJ24_get ([aR (some v0), aR v1].map vv) h (qR Q) := by
  refine Ct.of hS0 (by decide +kernel) rfl (Nat.le_of_ble_eq_true rfl) fun x hxS F hnm => ?_
  subst hxS
  unfold f_J24_get at hk
  exact g_aload_n F dJ24_get_0 rfl 0 rfl <|
g_aload_n F dJ24_get_1 rfl 1 rfl <|
g_callr0 (g_V F dJ24_get_2 q1660 mi_J24_getEntry ct_J24 (rm' := rmJ24_getEntry) ⟨Nat.le_of_ble_eq_true rfl, Nat.le_of_ble_eq_true rfl⟩ ⟨Nat.le_refl 0, Nat.le_refl 0⟩ (As := [aR v1]) (rest := []) rfl rfl (Nat.le_of_ble_eq_true rfl) hk (fun a3 hk => m_J24_getEntry F.ok a3 v1 h _ hk)) ⟨rfl, rfl⟩ fun x2 h1 hk =>
g_astore_n F dJ24_get_5 rfl (Nat.le_of_ble_eq_true rfl) rfl <|
g_aload_n F dJ24_get_6 rfl 0 rfl <|
g_ifnonnull F dJ24_get_7 (tgt := 14) rfl (fun hc => have hk := hk.2 hc
g_aload_n F dJ24_get_14 rfl 0 rfl <|
g_getR F dJ24_get_15 fo_J25_1_java_util_TreeMap_Entry in_J25 fl_java_util_TreeMap_58_J25 hk fun x4 hk =>
g_aret F (Or.inl ⟨_, rfl⟩) dJ24_get_18 (Nat.le_refl 0) (Nat.le_refl 0) hk) (fun hc => have hk := hk.1 hc
g_null F dJ24_get_10 <|
g_goto F dJ24_get_11 (tgt := 18) rfl <|
g_aret F (Or.inl ⟨_, rfl⟩) dJ24_get_18 (Nat.le_refl 0) (Nat.le_refl 0) hk)
abbrev rmJ24_size : Room := { frames := 2, cells := 0, slots := 0, locals := 40 }
theorem m_J24_size {S : Sx} (hS0 : Sok S) (v0 : Nat) (h : hH) (Q : Int32 → hH → Prop) (hk : f_J24_size S.E v0 h Q) : Ct S yJ24_size (ws_ yJ24_size cJ24_size 1 (some .int)) rmJ24_size ([aR (some v0)].map vv) h (qI Q) := by
  refine Ct.of hS0 (by decide +kernel) rfl (Nat.le_of_ble_eq_true rfl) fun x hxS F hnm => ?_
  subst hxS
  unfold f_J24_size at hk
  exact g_aload_n F dJ24_size_0 rfl 0 rfl <|
g_getI F dJ24_size_1 fo_J24_4_java_util_TreeMap in_J24 fl_java_util_TreeMap_7_J24 hk fun x1 hk =>
g_iret F dJ24_size_4 (Nat.le_refl 0) (Nat.le_refl 0) hk
abbrev rmJ24_comparator : Room := { frames := 2, cells := 0, slots := 0, locals := 40 }
theorem m_J24_comparator {S : Sx} (hS0 : Sok S) (v0 : Nat) (h : hH) (Q : Option Nat → hH → Prop) (hk : f_J24_comparator S.E v0 h Q) : Ct S yJ24_comparator (ws_ yJ24_comparator cJ24_comparator 1 (some (.object "java/util/Comparator"))) rmJ24_comparator ([aR (some v0)].map vv) h (qR Q) := by
  refine Ct.of hS0 (by decide +kernel) rfl (Nat.le_of_ble_eq_true rfl) fun x hxS F hnm => ?_
  subst hxS
  unfold f_J24_comparator at hk
  exact g_aload_n F dJ24_comparator_0 rfl 0 rfl <|
g_getR F dJ24_comparator_1 fo_J24_2_java_util_TreeMap in_J24 fl_java_util_TreeMap_16_J24 hk fun x1 hk =>
g_aret F (Or.inl ⟨_, rfl⟩) dJ24_comparator_4 (Nat.le_refl 0) (Nat.le_refl 0) hk
abbrev rmJ18_equals : Room := { frames := 2, cells := 0, slots := 0, locals := 40 }
theorem s_J18_equals_j17 {x : Cx} (F : Fx x cJ18_equals "java/util/Objects" 2 (some .boolean) rmJ18_equals) {Q : Int32 → hH → Prop} (h : hH) (hk : f_J18_equals_j17 x.S.E Q h) : G x (xQ x rmJ18_equals (qI Q)) 17 [] [] h 0 0 := by
  unfold f_J18_equals_j17 at hk
  exact g_iconst F dJ18_equals_17 ic_1 <|
g_goto F dJ18_equals_18 (tgt := 22) rfl <|
g_zret F dJ18_equals_22 (Nat.le_refl 0) (Nat.le_refl 0) rfl hk
theorem m_J18_equals {S : Sx} (hS0 : Sok S) (v0 : Option Nat) (v1 : Option Nat) (h : hH) (Q : Int32 → hH → Prop) (hk : f_J18_equals S.E v0 v1 h Q) : Ct S yJ18_equals (ws_ yJ18_equals cJ18_equals 2 (some .boolean)) rmJ18_equals ([aR v0, aR v1].map vv) h (qI Q) := by
  refine Ct.of hS0 (by decide +kernel) rfl (Nat.le_of_ble_eq_true rfl) fun x hxS F hnm => ?_
  subst hxS
  unfold f_J18_equals at hk
  exact g_aload_n F dJ18_equals_0 rfl 0 rfl <|
g_aload_n F dJ18_equals_1 rfl 1 rfl <|
g_acmp_eq F dJ18_equals_2 (tgt := 17) rfl (fun hc => have hk := hk.1 hc
G.fewer [] rfl <| s_J18_equals_j17 F h hk ) (fun hc => have hk := hk.2 hc
g_aload_n F dJ18_equals_5 rfl 0 rfl <|
g_ifnull F dJ18_equals_6 (tgt := 21) rfl (fun hc => have hk := hk.1 hc
g_iconst F dJ18_equals_21 ic_0 <|
g_zret F dJ18_equals_22 (Nat.le_refl 0) (Nat.le_refl 0) rfl hk) (fun hc => have hk := hk.2 hc
g_aload_n F dJ18_equals_9 rfl 0 rfl <|
g_aload_n F dJ18_equals_10 rfl 1 rfl <|
False.elim hk))
abbrev rmJ37_init : Room := { frames := 4, cells := 0, slots := 0, locals := 80 }
theorem m_J37_init {S : Sx} (hS0 : Sok S) (v0 : Nat) (v1 : Option Nat) (h : hH) (Q : hH → Prop) (hk : f_J37_init S.E v0 v1 h Q) : Ct S yJ37_init (ws_ yJ37_init cJ37_init 2 none) rmJ37_init ([aR (some v0), aR v1].map vv) h (qV Q) := by
  refine Ct.of hS0 (by decide +kernel) rfl (Nat.le_of_ble_eq_true rfl) fun x hxS F hnm => ?_
  subst hxS
  unfold f_J37_init at hk
  exact g_aload_n F dJ37_init_0 rfl 0 rfl <|
g_aload_n F dJ37_init_1 rfl 1 rfl <|
g_putF F dJ37_init_2 fo_J37_0_java_util_TreeMap_EntrySet ck_J37 q2114 rfl hnm rfl (v := aR v1) (fit_rf "java/util/TreeMap" v1) hk fun h1 hk =>
g_aload_n F dJ37_init_5 rfl 0 rfl <|
g_callv0 (g_I F dJ37_init_6 q2113 mc_J35_init (rm' := rmJ35_init) ⟨Nat.le_of_ble_eq_true rfl, Nat.le_of_ble_eq_true rfl⟩ ⟨Nat.le_refl 0, Nat.le_refl 0⟩ (As := []) (rest := []) rfl rfl (Nat.le_of_ble_eq_true rfl) (m_J35_init F.ok v0 h1 _ hk)) ⟨rfl, rfl⟩ fun h2 hk =>
g_vret F dJ37_init_9 (Nat.le_refl 0) (Nat.le_refl 0) hk
abbrev rmJ24_entrySet : Room := { frames := 5, cells := 1, slots := 1, locals := 101 }
theorem m_J24_entrySet {S : Sx} (hS0 : Sok S) (v0 : Nat) (h : hH) (Q : Option Nat → hH → Prop) (hk : f_J24_entrySet S.E v0 h Q) : Ct S yJ24_entrySet (ws_ yJ24_entrySet cJ24_entrySet 2 (some (.object "java/util/Set"))) rmJ24_entrySet ([aR (some v0)].map vv) h (qR Q) := by
  refine Ct.of hS0 (by decide +kernel) rfl (Nat.le_of_ble_eq_true rfl) fun x hxS F hnm => ?_
  subst hxS
  unfold f_J24_entrySet at hk
  have hM : 0 + 1 ≤ 1 := by omega
  have hS : 0 + 1 ≤ 1 := by omega
  refine G.widen (c' := 0 + 0) (k' := 0 + 0) (Nat.le_refl 0) (Nat.le_refl 0) ?_
  exact g_aload_n F dJ24_entrySet_0 rfl 0 rfl <|
g_getR F dJ24_entrySet_1 fo_J24_6_java_util_TreeMap in_J24 fl_java_util_TreeMap_188_J24 hk fun x1 hk =>
g_astore_n F dJ24_entrySet_4 rfl (Nat.le_of_ble_eq_true rfl) rfl <|
g_aload_n F dJ24_entrySet_5 rfl 0 rfl <|
g_ifnull F dJ24_entrySet_6 (tgt := 13) rfl (fun hc => have hk := hk.1 hc
g_aload_n F dJ24_entrySet_13 rfl 1 rfl <|
g_new (fs := [va_rf none]) F dJ24_entrySet_14 ck_J37 ct_J37 q2108 q2109 q169 df_J37 (show 0 + 0 + 1 ≤ 1 by omega) (show 0 + 0 + 1 ≤ 1 by omega) hk fun q2 h3 hk =>
g_dup F dJ24_entrySet_17 rfl <|
g_aload_n F dJ24_entrySet_18 rfl 1 rfl <|
g_callv0 (g_I F dJ24_entrySet_19 q2110 mc_J37_init (rm' := rmJ37_init) ⟨Nat.le_of_ble_eq_true rfl, Nat.le_of_ble_eq_true rfl⟩ ⟨show 0 + 0 + 1 + 0 ≤ 1 by omega, show 0 + 0 + 1 + 0 ≤ 1 by omega⟩ (As := [aR (some v0)]) (rest := [aR (some q2), aR (some v0)]) rfl rfl (Nat.le_of_ble_eq_true rfl) (m_J37_init F.ok q2 (some v0) h3 _ hk)) ⟨rfl, rfl⟩ fun h4 hk =>
g_dup_x1 F dJ24_entrySet_22 rfl rfl <|
g_putV F dJ24_entrySet_23 fo_J24_6_java_util_TreeMap ck_J24 fl_java_util_TreeMap_188_J24 rfl (v := aR (some q2)) (fit_rf "java/util/TreeMap$EntrySet" (some q2)) hk fun h5 hk =>
g_aret F (Or.inl ⟨_, rfl⟩) dJ24_entrySet_26 (show 0 + 0 + 1 ≤ 1 by omega) (show 0 + 0 + 1 ≤ 1 by omega) hk) (fun hc => have hk := hk.2 hc
g_aload_n F dJ24_entrySet_9 rfl 0 rfl <|
g_goto F dJ24_entrySet_10 (tgt := 26) rfl <|
g_aret F (Or.inl ⟨_, rfl⟩) dJ24_entrySet_26 (show 0 + 0 ≤ 1 by omega) (show 0 + 0 ≤ 1 by omega) hk)
abbrev rmJ24_getFirstEntry : Room := { frames := 2, cells := 0, slots := 0, locals := 40 }
theorem s_J24_getFirstEntry_l9 {x : Cx} (F : Fx x cJ24_getFirstEntry "java/util/TreeMap" 2 (some (.object "java/util/TreeMap$Entry")) rmJ24_getFirstEntry) {v0 : Nat} {Q : Option Nat → hH → Prop} {K24 : Option Nat → hH → Prop} (n : Nat) (l1 : Option Nat) (h : hH) (hk : f_J24_getFirstEntry_l9 x.S.E v0 Q K24 n l1 h) (hK24 : ∀ (l1 : Option Nat) (h : hH), K24 l1 h → G x (xQ x rmJ24_getFirstEntry (qR Q)) 24 [(1, aR l1)] [] h 0 0) : G x (xQ x rmJ24_getFirstEntry (qR Q)) 9 [(1, aR l1)] [] h 0 0 := by
  induction n generalizing l1 h with
  | zero => exact False.elim hk
  | succ n ih =>
    unfold f_J24_getFirstEntry_l9 at hk
    exact g_aload_n F dJ24_getFirstEntry_9 rfl 0 rfl <|
g_getR F dJ24_getFirstEntry_10 fo_J25_2_java_util_TreeMap_Entry in_J25 fl_java_util_TreeMap_111_J25 hk fun x1 hk =>
g_ifnull F dJ24_getFirstEntry_13 (tgt := 24) rfl (fun hc => have hk := hk.1 hc
hK24 l1 h hk) (fun hc => have hk := hk.2 hc
g_aload_n F dJ24_getFirstEntry_16 rfl 0 rfl <|
g_getR F dJ24_getFirstEntry_17 fo_J25_2_java_util_TreeMap_Entry in_J25 fl_java_util_TreeMap_111_J25 hk fun x2 hk =>
g_astore_n F dJ24_getFirstEntry_20 rfl (Nat.le_of_ble_eq_true rfl) rfl <|
g_goto F dJ24_getFirstEntry_21 (tgt := 9) rfl <|
ih x2 h hk)
theorem m_J24_getFirstEntry {S : Sx} (hS0 : Sok S) (v0 : Nat) (h : hH) (Q : Option Nat → hH → Prop) (hk : f_J24_getFirstEntry S.E v0 h Q) : Ct S yJ24_getFirstEntry (ws_ yJ24_getFirstEntry cJ24_getFirstEntry 2 (some (.object "java/util/TreeMap$Entry"))) rmJ24_getFirstEntry ([aR (some v0)].map vv) h (qR Q) := by
  refine Ct.of hS0 (by decide +kernel) rfl (Nat.le_of_ble_eq_true rfl) fun x hxS F hnm => ?_
  subst hxS
  unfold f_J24_getFirstEntry at hk
  exact g_aload_n F dJ24_getFirstEntry_0 rfl 0 rfl <|
g_getR F dJ24_getFirstEntry_1 fo_J24_3_java_util_TreeMap in_J24 fl_java_util_TreeMap_101_J24 hk fun x3 hk =>
g_astore_n F dJ24_getFirstEntry_4 rfl (Nat.le_of_ble_eq_true rfl) rfl <|
g_aload_n F dJ24_getFirstEntry_5 rfl 0 rfl <|
g_ifnull F dJ24_getFirstEntry_6 (tgt := 24) rfl (fun hc => have hk := hk.1 hc
g_aload_n F dJ24_getFirstEntry_24 rfl 0 rfl <|
g_aret F (Or.inl ⟨_, rfl⟩) dJ24_getFirstEntry_25 (Nat.le_refl 0) (Nat.le_refl 0) hk) (fun hc => have hk := hk.2 hc
G.fewer [0] rfl <| s_J24_getFirstEntry_l9 F 1000000 x3 h hk ((fun l1 h hk => g_aload_n F dJ24_getFirstEntry_24 rfl 0 rfl <|
g_aret F (Or.inl ⟨_, rfl⟩) dJ24_getFirstEntry_25 (Nat.le_refl 0) (Nat.le_refl 0) hk)))
abbrev rmJ40_init : Room := { frames := 2, cells := 0, slots := 0, locals := 40 }
theorem m_J40_init {S : Sx} (hS0 : Sok S) (v0 : Nat) (v1 : Option Nat) (v2 : Option Nat) (h : hH) (Q : hH → Prop) (hk : f_J40_init S.E v0 v1 v2 h Q) : Ct S yJ40_init (ws_ yJ40_init cJ40_init 3 none) rmJ40_init ([aR (some v0), aR v1, aR v2].map vv) h (qV Q) := by
  refine Ct.of hS0 (by decide +kernel) rfl (Nat.le_of_ble_eq_true rfl) fun x hxS F hnm => ?_
  subst hxS
  unfold f_J40_init at hk
  exact g_aload_n F dJ40_init_0 rfl 0 rfl <|
g_aload_n F dJ40_init_1 rfl 1 rfl <|
g_putF F dJ40_init_2 fo_J41_3_java_util_TreeMap_PrivateEntryIterator ck_J41 q2175 rfl hnm rfl (v := aR v1) (fit_rf "java/util/TreeMap" v1) hk fun h1 hk =>
g_aload_n F dJ40_init_5 rfl 0 rfl <|
g_objInit (rest := []) F dJ40_init_6 q2171 q182 q_objcode (Nat.le_of_ble_eq_true rfl) (Nat.le_of_ble_eq_true rfl) <|
g_aload_n F dJ40_init_9 rfl 0 rfl <|
g_aload_n F dJ40_init_10 rfl 1 rfl <|
g_getI F dJ40_init_11 fo_J24_5_java_util_TreeMap in_J24 fl_java_util_TreeMap_PrivateEntryIterator_13_J24 hk fun x2 hk =>
g_putV F dJ40_init_14 fo_J41_2_java_util_TreeMap_PrivateEntryIterator ck_J41 fl_java_util_TreeMap_PrivateEntryIterator_19_J41 rfl (v := aI x2) (fit_i x2) hk fun h3 hk =>
g_aload_n F dJ40_init_17 rfl 0 rfl <|
g_null F dJ40_init_18 <|
g_putV F dJ40_init_19 fo_J41_1_java_util_TreeMap_PrivateEntryIterator ck_J41 fl_java_util_TreeMap_PrivateEntryIterator_22_J41 rfl (v := aR none) (fit_rf "java/util/TreeMap$Entry" none) hk fun h4 hk =>
g_aload_n F dJ40_init_22 rfl 0 rfl <|
g_aload_n F dJ40_init_23 rfl 2 rfl <|
g_putV F dJ40_init_24 fo_J41_0_java_util_TreeMap_PrivateEntryIterator ck_J41 fl_java_util_TreeMap_PrivateEntryIterator_26_J41 rfl (v := aR v2) (fit_rf "java/util/TreeMap$Entry" v2) hk fun h5 hk =>
g_vret F dJ40_init_27 (Nat.le_refl 0) (Nat.le_refl 0) hk
abbrev rmJ41_init : Room := { frames := 3, cells := 0, slots := 0, locals := 62 }
theorem m_J41_init {S : Sx} (hS0 : Sok S) (v0 : Nat) (v1 : Option Nat) (v2 : Option Nat) (h : hH) (Q : hH → Prop) (hk : f_J41_init S.E v0 v1 v2 h Q) : Ct S yJ41_init (ws_ yJ41_init cJ41_init 3 none) rmJ41_init ([aR (some v0), aR v1, aR v2].map vv) h (qV Q) := by
  refine Ct.of hS0 (by decide +kernel) rfl (Nat.le_of_ble_eq_true rfl) fun x hxS F hnm => ?_
  subst hxS
  unfold f_J41_init at hk
  exact g_aload_n F dJ41_init_0 rfl 0 rfl <|
g_aload_n F dJ41_init_1 rfl 1 rfl <|
g_aload_n F dJ41_init_2 rfl 2 rfl <|
g_callv0 (g_I F dJ41_init_3 q2168 mc_J40_init (rm' := rmJ40_init) ⟨Nat.le_of_ble_eq_true rfl, Nat.le_of_ble_eq_true rfl⟩ ⟨Nat.le_refl 0, Nat.le_refl 0⟩ (As := [aR v1, aR v2]) (rest := []) rfl rfl (Nat.le_of_ble_eq_true rfl) (m_J40_init F.ok v0 v1 v2 h _ hk)) ⟨rfl, rfl⟩ fun h1 hk =>
g_vret F dJ41_init_6 (Nat.le_refl 0) (Nat.le_refl 0) hk
abbrev rmJ37_iterator : Room := { frames := 4, cells := 1, slots := 4, locals := 84 }
theorem m_J37_iterator {S : Sx} (hS0 : Sok S) (v0 : Nat) (h : hH) (Q : Option Nat → hH → Prop) (hk : f_J37_iterator S.E v0 h Q) : Ct S yJ37_iterator (ws_ yJ37_iterator cJ37_iterator 1 (some (.object "java/util/Iterator"))) rmJ37_iterator ([aR (some v0)].map vv) h (qR Q) := by
  refine Ct.of hS0 (by decide +kernel) rfl (Nat.le_of_ble_eq_true rfl) fun x hxS F hnm => ?_
  subst hxS
  unfold f_J37_iterator at hk
  have hM : 0 + 1 ≤ 1 := by omega
  have hS : 0 + 4 ≤ 4 := by omega
  refine G.widen (c' := 0 + 0) (k' := 0 + 0) (Nat.le_refl 0) (Nat.le_refl 0) ?_
  exact g_new (fs := [va_rf none, va_rf none, .int 0, va_rf none]) F dJ37_iterator_0 ck_J41 ct_J41 q2159 q2160 q173 df_J41 (show 0 + 0 + 1 ≤ 1 by omega) (show 0 + 0 + 4 ≤ 4 by omega) hk fun q1 h2 hk =>
g_dup F dJ37_iterator_3 rfl <|
g_aload_n F dJ37_iterator_4 rfl 0 rfl <|
g_getR F dJ37_iterator_5 fo_J37_0_java_util_TreeMap_EntrySet in_J37 fl_java_util_TreeMap_EntrySet_1_J37 hk fun x3 hk =>
g_aload_n F dJ37_iterator_8 rfl 0 rfl <|
g_getR F dJ37_iterator_9 fo_J37_0_java_util_TreeMap_EntrySet in_J37 fl_java_util_TreeMap_EntrySet_1_J37 hk fun x4 hk =>
g_callr0 (g_V F dJ37_iterator_12 q2161 mi_J24_getFirstEntry ct_J24 (rm' := rmJ24_getFirstEntry) ⟨Nat.le_of_ble_eq_true rfl, Nat.le_of_ble_eq_true rfl⟩ ⟨show 0 + 0 + 1 + 0 ≤ 1 by omega, show 0 + 0 + 4 + 0 ≤ 4 by omega⟩ (As := []) (rest := [aR x3, aR (some q1), aR (some q1)]) rfl rfl (Nat.le_of_ble_eq_true rfl) hk (fun a7 hk => m_J24_getFirstEntry F.ok a7 h2 _ hk)) ⟨rfl, rfl⟩ fun x6 h5 hk =>
g_callv0 (g_I F dJ37_iterator_15 q2165 mc_J41_init (rm' := rmJ41_init) ⟨Nat.le_of_ble_eq_true rfl, Nat.le_of_ble_eq_true rfl⟩ ⟨show 0 + 0 + 1 + 0 ≤ 1 by omega, show 0 + 0 + 4 + 0 ≤ 4 by omega⟩ (As := [aR x3, aR x6]) (rest := [aR (some q1)]) rfl rfl (Nat.le_of_ble_eq_true rfl) (m_J41_init F.ok q1 x3 x6 h5 _ hk)) ⟨rfl, rfl⟩ fun h8 hk =>
g_aret F (Or.inl ⟨_, rfl⟩) dJ37_iterator_18 (show 0 + 0 + 1 ≤ 1 by omega) (show 0 + 0 + 4 ≤ 4 by omega) hk
abbrev rmJ24_computeRedLevel : Room := { frames := 3, cells := 0, slots := 0, locals := 61 }
theorem m_J24_computeRedLevel {S : Sx} (hS0 : Sok S) (v0 : Int32) (h : hH) (Q : Int32 → hH → Prop) (hk : f_J24_computeRedLevel S.E v0 h Q) : Ct S yJ24_computeRedLevel (ws_ yJ24_computeRedLevel cJ24_computeRedLevel 1 (some .int)) rmJ24_computeRedLevel ([aI v0].map vv) h (qI Q) := by
  refine Ct.of hS0 (by decide +kernel) rfl (Nat.le_of_ble_eq_true rfl) fun x hxS F hnm => ?_
  subst hxS
  unfold f_J24_computeRedLevel at hk
  exact g_bipush F dJ24_computeRedLevel_0 bp_31 <|
g_iload_n F dJ24_computeRedLevel_2 rfl 0 rfl <|
g_iconst F dJ24_computeRedLevel_3 ic_1 <|
g_iadd F dJ24_computeRedLevel_4 <|
g_calli0 (g_S F dJ24_computeRedLevel_5 q2192 ms_J20_numberOfLeadingZeros (rm' := rmJ20_numberOfLeadingZeros) ⟨Nat.le_of_ble_eq_true rfl, Nat.le_of_ble_eq_true rfl⟩ ⟨Nat.le_refl 0, Nat.le_refl 0⟩ (As := [aI (v0 + (1:Int32))]) (rest := [aI (31:Int32)]) rfl rfl (Nat.le_of_ble_eq_true rfl) (m_J20_numberOfLeadingZeros F.ok (v0 + (1:Int32)) h _ hk)) ⟨rfl, rfl⟩ fun x2 h1 hk =>
g_isub F dJ24_computeRedLevel_8 <|
g_iret F dJ24_computeRedLevel_9 (Nat.le_refl 0) (Nat.le_refl 0) hk
abbrev rmJ24_successor : Room := { frames := 2, cells := 0, slots := 0, locals := 40 }
theorem s_J24_successor_l42 {x : Cx} (F : Fx x cJ24_successor "java/util/TreeMap" 3 (some (.object "java/util/TreeMap$Entry")) rmJ24_successor) {Q : Option Nat → hH → Prop} {K64 : Option Nat → hH → Prop} (n : Nat) (l1 : Option Nat) (l2 : Option Nat) (h : hH) (hk : f_J24_successor_l42 x.S.E Q K64 n l1 l2 h) (hK64 : ∀ (l1 : Option Nat) (h : hH), K64 l1 h → G x (xQ x rmJ24_successor (qR Q)) 64 [(1, aR l1)] [] h 0 0) : G x (xQ x rmJ24_successor (qR Q)) 42 [(1, aR l1), (2, aR l2)] [] h 0 0 := by
  induction n generalizing l1 l2 h with
  | zero => exact False.elim hk
  | succ n ih =>
    unfold f_J24_successor_l42 at hk
    exact g_aload_n F dJ24_successor_42 rfl 0 rfl <|
g_ifnull F dJ24_successor_43 (tgt := 64) rfl (fun hc => have hk := hk.1 hc
G.fewer [0] rfl <| hK64 l1 h hk) (fun hc => have hk := hk.2 hc
g_aload_n F dJ24_successor_46 rfl 1 rfl <|
g_aload_n F dJ24_successor_47 rfl 0 rfl <|
g_getR F dJ24_successor_48 fo_J25_3_java_util_TreeMap_Entry in_J25 fl_java_util_TreeMap_114_J25 hk fun x1 hk =>
g_acmp_ne F dJ24_successor_51 (tgt := 64) rfl (fun hc => have hk := hk.2 hc
G.fewer [0] rfl <| hK64 l1 h hk) (fun hc => have hk := hk.1 hc
g_aload_n F dJ24_successor_54 rfl 0 rfl <|
g_astore_n F dJ24_successor_55 rfl (Nat.le_of_ble_eq_true rfl) rfl <|
g_aload_n F dJ24_successor_56 rfl 1 rfl <|
g_getR F dJ24_successor_57 fo_J25_4_java_util_TreeMap_Entry in_J25 fl_java_util_TreeMap_124_J25 hk fun x2 hk =>
g_astore_n F dJ24_successor_60 rfl (Nat.le_of_ble_eq_true rfl) rfl <|
g_goto F dJ24_successor_61 (tgt := 42) rfl <|
ih x2 l1 h hk))
theorem s_J24_successor_l18 {x : Cx} (F : Fx x cJ24_successor "java/util/TreeMap" 3 (some (.object "java/util/TreeMap$Entry")) rmJ24_successor) {Q : Option Nat → hH → Prop} {K33 : Option Nat → hH → Prop} (n : Nat) (l1 : Option Nat) (h : hH) (hk : f_J24_successor_l18 x.S.E Q K33 n l1 h) (hK33 : ∀ (l1 : Option Nat) (h : hH), K33 l1 h → G x (xQ x rmJ24_successor (qR Q)) 33 [(1, aR l1)] [] h 0 0) : G x (xQ x rmJ24_successor (qR Q)) 18 [(1, aR l1)] [] h 0 0 := by
  induction n generalizing l1 h with
  | zero => exact False.elim hk
  | succ n ih =>
    unfold f_J24_successor_l18 at hk
    exact g_aload_n F dJ24_successor_18 rfl 0 rfl <|
g_getR F dJ24_successor_19 fo_J25_2_java_util_TreeMap_Entry in_J25 fl_java_util_TreeMap_111_J25 hk fun x3 hk =>
g_ifnull F dJ24_successor_22 (tgt := 33) rfl (fun hc => have hk := hk.1 hc
hK33 l1 h hk) (fun hc => have hk := hk.2 hc
g_aload_n F dJ24_successor_25 rfl 0 rfl <|
g_getR F dJ24_successor_26 fo_J25_2_java_util_TreeMap_Entry in_J25 fl_java_util_TreeMap_111_J25 hk fun x4 hk =>
g_astore_n F dJ24_successor_29 rfl (Nat.le_of_ble_eq_true rfl) rfl <|
g_goto F dJ24_successor_30 (tgt := 18) rfl <|
ih x4 h hk)
theorem m_J24_successor {S : Sx} (hS0 : Sok S) (v0 : Option Nat) (h : hH) (Q : Option Nat → hH → Prop) (hk : f_J24_successor S.E v0 h Q) : Ct S yJ24_successor (ws_ yJ24_successor cJ24_successor 3 (some (.object "java/util/TreeMap$Entry"))) rmJ24_successor ([aR v0].map vv) h (qR Q) := by
  refine Ct.of hS0 (by decide +kernel) rfl (Nat.le_of_ble_eq_true rfl) fun x hxS F hnm => ?_
  subst hxS
  unfold f_J24_successor at hk
  exact g_aload_n F dJ24_successor_0 rfl 0 rfl <|
g_ifnonnull F dJ24_successor_1 (tgt := 6) rfl (fun hc => have hk := hk.2 hc
g_aload_n F dJ24_successor_6 rfl 0 rfl <|
g_getR F dJ24_successor_7 fo_J25_3_java_util_TreeMap_Entry in_J25 fl_java_util_TreeMap_114_J25 hk fun x5 hk =>
g_ifnull F dJ24_successor_10 (tgt := 35) rfl (fun hc => have hk := hk.1 hc
g_aload_n F dJ24_successor_35 rfl 0 rfl <|
g_getR F dJ24_successor_36 fo_J25_4_java_util_TreeMap_Entry in_J25 fl_java_util_TreeMap_124_J25 hk fun x6 hk =>
g_astore_n F dJ24_successor_39 rfl (Nat.le_of_ble_eq_true rfl) rfl <|
g_aload_n F dJ24_successor_40 rfl 1 rfl <|
g_astore_n F dJ24_successor_41 rfl (Nat.le_of_ble_eq_true rfl) rfl <|
G.fewer [1, 0] rfl <| s_J24_successor_l42 F 1000000 x6 v0 h hk ((fun l1 h hk => g_aload_n F dJ24_successor_64 rfl 0 rfl <|
g_aret F (Or.inl ⟨_, rfl⟩) dJ24_successor_65 (Nat.le_refl 0) (Nat.le_refl 0) hk))) (fun hc => have hk := hk.2 hc
g_aload_n F dJ24_successor_13 rfl 0 rfl <|
g_getR F dJ24_successor_14 fo_J25_3_java_util_TreeMap_Entry in_J25 fl_java_util_TreeMap_114_J25 hk fun x7 hk =>
g_astore_n F dJ24_successor_17 rfl (Nat.le_of_ble_eq_true rfl) rfl <|
G.fewer [0] rfl <| s_J24_successor_l18 F 1000000 x7 h hk ((fun l1 h hk => g_aload_n F dJ24_successor_33 rfl 0 rfl <|
g_aret F (Or.inl ⟨_, rfl⟩) dJ24_successor_34 (Nat.le_refl 0) (Nat.le_refl 0) hk)))) (fun hc => have hk := hk.1 hc
g_null F dJ24_successor_4 <|
g_aret F (Or.inl ⟨_, rfl⟩) dJ24_successor_5 (Nat.le_refl 0) (Nat.le_refl 0) hk)
abbrev rmJ40_nextEntry : Room := { frames := 3, cells := 0, slots := 0, locals := 62 }
theorem m_J40_nextEntry {S : Sx} (hS0 : Sok S) (v0 : Nat) (h : hH) (Q : Option Nat → hH → Prop) (hk : f_J40_nextEntry S.E v0 h Q) : Ct S yJ40_nextEntry (ws_ yJ40_nextEntry cJ40_nextEntry 2 (some (.object "java/util/TreeMap$Entry"))) rmJ40_nextEntry ([aR (some v0)].map vv) h (qR Q) := by
  refine Ct.of hS0 (by decide +kernel) rfl (Nat.le_of_ble_eq_true rfl) fun x hxS F hnm => ?_
  subst hxS
  unfold f_J40_nextEntry at hk
  exact g_aload_n F dJ40_nextEntry_0 rfl 0 rfl <|
g_getR F dJ40_nextEntry_1 fo_J41_0_java_util_TreeMap_PrivateEntryIterator in_J41 fl_java_util_TreeMap_PrivateEntryIterator_26_J41 hk fun x1 hk =>
g_astore_n F dJ40_nextEntry_4 rfl (Nat.le_of_ble_eq_true rfl) rfl <|
g_aload_n F dJ40_nextEntry_5 rfl 0 rfl <|
g_ifnonnull F dJ40_nextEntry_6 (tgt := 17) rfl (fun hc => have hk := hk.2 hc
g_aload_n F dJ40_nextEntry_17 rfl 1 rfl <|
g_getR F dJ40_nextEntry_18 fo_J41_3_java_util_TreeMap_PrivateEntryIterator in_J41 fl_java_util_TreeMap_PrivateEntryIterator_1_J41 hk fun x2 hk =>
g_getI F dJ40_nextEntry_21 fo_J24_5_java_util_TreeMap in_J24 fl_java_util_TreeMap_PrivateEntryIterator_13_J24 hk fun x3 hk =>
g_aload_n F dJ40_nextEntry_24 rfl 1 rfl <|
g_getI F dJ40_nextEntry_25 fo_J41_2_java_util_TreeMap_PrivateEntryIterator in_J41 fl_java_util_TreeMap_PrivateEntryIterator_19_J41 hk fun x4 hk =>
g_icmp_eq F dJ40_nextEntry_28 (tgt := 39) rfl (fun hc => have hk := hk.1 hc
g_aload_n F dJ40_nextEntry_39 rfl 1 rfl <|
g_aload_n F dJ40_nextEntry_40 rfl 0 rfl <|
g_callr0 (g_S F dJ40_nextEntry_41 q2315 ms_J24_successor (rm' := rmJ24_successor) ⟨Nat.le_of_ble_eq_true rfl, Nat.le_of_ble_eq_true rfl⟩ ⟨Nat.le_refl 0, Nat.le_refl 0⟩ (As := [aR x1]) (rest := [aR (some v0)]) rfl rfl (Nat.le_of_ble_eq_true rfl) (m_J24_successor F.ok x1 h _ hk)) ⟨rfl, rfl⟩ fun x6 h5 hk =>
g_putV F dJ40_nextEntry_44 fo_J41_0_java_util_TreeMap_PrivateEntryIterator ck_J41 fl_java_util_TreeMap_PrivateEntryIterator_26_J41 rfl (v := aR x6) (fit_rf "java/util/TreeMap$Entry" x6) hk fun h7 hk =>
g_aload_n F dJ40_nextEntry_47 rfl 1 rfl <|
g_aload_n F dJ40_nextEntry_48 rfl 0 rfl <|
g_putV F dJ40_nextEntry_49 fo_J41_1_java_util_TreeMap_PrivateEntryIterator ck_J41 fl_java_util_TreeMap_PrivateEntryIterator_22_J41 rfl (v := aR x1) (fit_rf "java/util/TreeMap$Entry" x1) hk fun h8 hk =>
g_aload_n F dJ40_nextEntry_52 rfl 0 rfl <|
g_aret F (Or.inl ⟨_, rfl⟩) dJ40_nextEntry_53 (Nat.le_refl 0) (Nat.le_refl 0) hk) (fun hc => have hk := hk.2 hc
False.elim hk)) (fun hc => have hk := hk.1 hc
False.elim hk)
abbrev rmJ41_next_2 : Room := { frames := 4, cells := 0, slots := 0, locals := 83 }
theorem m_J41_next_2 {S : Sx} (hS0 : Sok S) (v0 : Nat) (h : hH) (Q : Option Nat → hH → Prop) (hk : f_J41_next_2 S.E v0 h Q) : Ct S yJ41_next_2 (ws_ yJ41_next_2 cJ41_next_2 1 (some (.object "java/util/Map$Entry"))) rmJ41_next_2 ([aR (some v0)].map vv) h (qR Q) := by
  refine Ct.of hS0 (by decide +kernel) rfl (Nat.le_of_ble_eq_true rfl) fun x hxS F hnm => ?_
  subst hxS
  unfold f_J41_next_2 at hk
  exact g_aload_n F dJ41_next_2_0 rfl 0 rfl <|
g_callr0 (g_U F dJ41_next_2_1 q2309 q2310 q2313 q2312 q172 q2314 rfl mo_J40_nextEntry ct_J41 (rm' := rmJ40_nextEntry) ⟨Nat.le_of_ble_eq_true rfl, Nat.le_of_ble_eq_true rfl⟩ ⟨Nat.le_refl 0, Nat.le_refl 0⟩ (As := []) (rest := []) rfl rfl (Nat.le_of_ble_eq_true rfl) hk (fun a3 hk => m_J40_nextEntry F.ok a3 h _ hk)) ⟨rfl, rfl⟩ fun x2 h1 hk =>
g_aret F (Or.inl ⟨_, rfl⟩) dJ41_next_2_4 (Nat.le_refl 0) (Nat.le_refl 0) hk
abbrev rmJ41_next : Room := { frames := 5, cells := 0, slots := 0, locals := 103 }
theorem m_J41_next {S : Sx} (hS0 : Sok S) (v0 : Nat) (h : hH) (Q : Option Nat → hH → Prop) (hk : f_J41_next S.E v0 h Q) : Ct S yJ41_next (ws_ yJ41_next cJ41_next 1 (some (.object "java/lang/Object"))) rmJ41_next ([aR (some v0)].map vv) h (qR Q) := by
  refine Ct.of hS0 (by decide +kernel) rfl (Nat.le_of_ble_eq_true rfl) fun x hxS F hnm => ?_
  subst hxS
  unfold f_J41_next at hk
  exact g_aload_n F dJ41_next_0 rfl 0 rfl <|
g_callr0 (g_V F dJ41_next_1 q2305 mi_J41_next_2 ct_J41 (rm' := rmJ41_next_2) ⟨Nat.le_of_ble_eq_true rfl, Nat.le_of_ble_eq_true rfl⟩ ⟨Nat.le_refl 0, Nat.le_refl 0⟩ (As := []) (rest := []) rfl rfl (Nat.le_of_ble_eq_true rfl) hk (fun a3 hk => m_J41_next_2 F.ok a3 h _ hk)) ⟨rfl, rfl⟩ fun x2 h1 hk =>
g_aret F (Or.inl ⟨_, rfl⟩) dJ41_next_4 (Nat.le_refl 0) (Nat.le_refl 0) hk
abbrev rmJ25_getKey : Room := { frames := 2, cells := 0, slots := 0, locals := 40 }
theorem m_J25_getKey {S : Sx} (hS0 : Sok S) (v0 : Nat) (h : hH) (Q : Option Nat → hH → Prop) (hk : f_J25_getKey S.E v0 h Q) : Ct S yJ25_getKey (ws_ yJ25_getKey cJ25_getKey 1 (some (.object "java/lang/Object"))) rmJ25_getKey ([aR (some v0)].map vv) h (qR Q) := by
  refine Ct.of hS0 (by decide +kernel) rfl (Nat.le_of_ble_eq_true rfl) fun x hxS F hnm => ?_
  subst hxS
  unfold f_J25_getKey at hk
  exact g_aload_n F dJ25_getKey_0 rfl 0 rfl <|
g_getR F dJ25_getKey_1 fo_J25_0_java_util_TreeMap_Entry in_J25 fl_java_util_TreeMap_Entry_15_J25 hk fun x1 hk =>
g_aret F (Or.inl ⟨_, rfl⟩) dJ25_getKey_4 (Nat.le_refl 0) (Nat.le_refl 0) hk
abbrev rmJ25_getValue : Room := { frames := 2, cells := 0, slots := 0, locals := 40 }
theorem m_J25_getValue {S : Sx} (hS0 : Sok S) (v0 : Nat) (h : hH) (Q : Option Nat → hH → Prop) (hk : f_J25_getValue S.E v0 h Q) : Ct S yJ25_getValue (ws_ yJ25_getValue cJ25_getValue 1 (some (.object "java/lang/Object"))) rmJ25_getValue ([aR (some v0)].map vv) h (qR Q) := by
  refine Ct.of hS0 (by decide +kernel) rfl (Nat.le_of_ble_eq_true rfl) fun x hxS F hnm => ?_
  subst hxS
  unfold f_J25_getValue at hk
  exact g_aload_n F dJ25_getValue_0 rfl 0 rfl <|
g_getR F dJ25_getValue_1 fo_J25_1_java_util_TreeMap_Entry in_J25 fl_java_util_TreeMap_Entry_19_J25 hk fun x1 hk =>
g_aret F (Or.inl ⟨_, rfl⟩) dJ25_getValue_4 (Nat.le_refl 0) (Nat.le_refl 0) hk
def ccJ24_buildFromSorted_2 : Nat → Nat
  | 0 => 0
  | d + 1 => 1 + 2 * ccJ24_buildFromSorted_2 d
def ckJ24_buildFromSorted_2 : Nat → Nat
  | 0 => 0
  | d + 1 => 6 + 2 * ckJ24_buildFromSorted_2 d
abbrev rmJ24_buildFromSorted_2 (d : Nat) : Room := { frames := 6 + d, cells := ccJ24_buildFromSorted_2 d, slots := ckJ24_buildFromSorted_2 d, locals := 123 + d * 33 }
theorem m_J24_buildFromSorted_2 {S : Sx} (hS0 : Sok S) (d : Nat) (v0 : Nat) (v1 : Int32) (v2 : Int32) (v3 : Int32) (v4 : Int32) (v5 : Option Nat) (v6 : Option Nat) (v7 : Option Nat) (h : hH) (Q : Option Nat → hH → Prop) (hk : f_J24_buildFromSorted_2 S.E d v0 v1 v2 v3 v4 v5 v6 v7 h Q) : Ct S yJ24_buildFromSorted_2 (ws_ yJ24_buildFromSorted_2 cJ24_buildFromSorted_2 14 (some (.object "java/util/TreeMap$Entry"))) (rmJ24_buildFromSorted_2 d) ([aR (some v0), aI v1, aI v2, aI v3, aI v4, aR v5, aR v6, aR v7].map vv) h (qR Q) := by
  induction d generalizing v0 v1 v2 v3 v4 v5 v6 v7 h Q with
  | zero => exact False.elim hk
  | succ d ih =>
    refine Ct.of hS0 (by decide +kernel) rfl (Nat.le_of_ble_eq_true rfl) fun x hxS F hnm => ?_
    subst hxS
    unfold f_J24_buildFromSorted_2 at hk
    refine G.widen (c' := 0 + 0) (k' := 0 + 0) (Nat.le_refl 0) (Nat.le_refl 0) ?_
    exact g_iload_n F dJ24_buildFromSorted_2_0 rfl 3 rfl <|
g_iload_n F dJ24_buildFromSorted_2_1 rfl 2 rfl <|
g_icmp_ge F dJ24_buildFromSorted_2_2 (tgt := 7) rfl (fun hc => have hk := hk.1 hc
g_iload_n F dJ24_buildFromSorted_2_7 rfl 2 rfl <|
g_iload_n F dJ24_buildFromSorted_2_8 rfl 3 rfl <|
g_iadd F dJ24_buildFromSorted_2_9 <|
g_iconst F dJ24_buildFromSorted_2_10 ic_1 <|
g_iushr F dJ24_buildFromSorted_2_11 <|
g_istore F dJ24_buildFromSorted_2_12 (Nat.le_of_ble_eq_true rfl) rfl <|
g_null F dJ24_buildFromSorted_2_14 <|
g_astore F dJ24_buildFromSorted_2_15 (Nat.le_of_ble_eq_true rfl) rfl <|
g_iload_n F dJ24_buildFromSorted_2_17 rfl 4 rfl <|
g_iload F dJ24_buildFromSorted_2_18 1 rfl <|
g_icmp_ge F dJ24_buildFromSorted_2_20 (tgt := 45) rfl (fun hc => have hk := hk.1 hc
g_aload F dJ24_buildFromSorted_2_45 7 rfl <|
g_ifnull F dJ24_buildFromSorted_2_47 (tgt := 104) rfl (fun hc => have hk := hk.1 hc
False.elim hk) (fun hc => have hk := hk.2 hc
g_aload F dJ24_buildFromSorted_2_50 9 rfl <|
g_ifnonnull F dJ24_buildFromSorted_2_52 (tgt := 88) rfl (fun hc => have hk := hk.2 hc
False.elim hk) (fun hc => have hk := hk.1 hc
g_aload F dJ24_buildFromSorted_2_55 7 rfl <|
g_callr05 (g_F (y0 := ({ cls := "java/util/Iterator", name := "next", desc := "()Ljava/lang/Object;" } : MethodName)) F dJ24_buildFromSorted_2_57 q2198 q2302 q2300 q173 q2304 (F.face q2200 q2199 q2303 q2301 q2299 ⟨by decide, by decide⟩) moi_java_util_Iterator_next___Ljava_lang_Object_ ct_J41 (rm' := rmJ41_next) ⟨show 5 + 1 ≤ 6 + (d + 1) by omega, show 8 + (1 + 11) + 103 ≤ 123 + (d + 1) * 33 by omega⟩ ⟨show 0 + 0 + 0 ≤ 1 + 2 * ccJ24_buildFromSorted_2 d by omega, show 0 + 0 + 0 ≤ 6 + 2 * ckJ24_buildFromSorted_2 d by omega⟩ (As := []) (rest := []) rfl rfl (Nat.le_of_ble_eq_true rfl) hk (fun a23 hk => m_J41_next F.ok a23 h _ hk)) ⟨rfl, rfl⟩ fun x2 h1 hk =>
g_castY F dJ24_buildFromSorted_2_62 q2318 q2332 ct_J25 hk fun hk =>
g_astore F dJ24_buildFromSorted_2_65 (Nat.le_of_ble_eq_true rfl) rfl <|
g_aload F dJ24_buildFromSorted_2_67 0 rfl <|
g_callr05 (g_F (y0 := ({ cls := "java/util/Map$Entry", name := "getKey", desc := "()Ljava/lang/Object;" } : MethodName)) F dJ24_buildFromSorted_2_69 q2320 q2335 q2333 q151 q2337 (F.face q2322 q2321 q2336 q2334 q2332 ⟨by decide, by decide⟩) moi_java_util_Map_Entry_getKey___Ljava_lang_Object_ ct_J25 (rm' := rmJ25_getKey) ⟨show 2 + 1 ≤ 6 + (d + 1) by omega, show 8 + (1 + 11) + 40 ≤ 123 + (d + 1) * 33 by omega⟩ ⟨show 0 + 0 + 0 ≤ 1 + 2 * ccJ24_buildFromSorted_2 d by omega, show 0 + 0 + 0 ≤ 6 + 2 * ckJ24_buildFromSorted_2 d by omega⟩ (As := []) (rest := []) rfl rfl (Nat.le_of_ble_eq_true rfl) hk (fun a22 hk => m_J25_getKey F.ok a22 h1 _ hk)) ⟨rfl, rfl⟩ fun x4 h3 hk =>
g_astore F dJ24_buildFromSorted_2_74 (Nat.le_of_ble_eq_true rfl) rfl <|
g_aload F dJ24_buildFromSorted_2_76 1 rfl <|
g_callr05 (g_F (y0 := ({ cls := "java/util/Map$Entry", name := "getValue", desc := "()Ljava/lang/Object;" } : MethodName)) F dJ24_buildFromSorted_2_78 q2339 q2351 q2349 q151 q2353 (F.face q2341 q2340 q2352 q2350 q2332 ⟨by decide, by decide⟩) moi_java_util_Map_Entry_getValue___Ljava_lang_Object_ ct_J25 (rm' := rmJ25_getValue) ⟨show 2 + 1 ≤ 6 + (d + 1) by omega, show 8 + (1 + 11) + 40 ≤ 123 + (d + 1) * 33 by omega⟩ ⟨show 0 + 0 + 0 ≤ 1 + 2 * ccJ24_buildFromSorted_2 d by omega, show 0 + 0 + 0 ≤ 6 + 2 * ckJ24_buildFromSorted_2 d by omega⟩ (As := []) (rest := []) rfl rfl (Nat.le_of_ble_eq_true rfl) hk (fun a21 hk => m_J25_getValue F.ok a21 h3 _ hk)) ⟨rfl, rfl⟩ fun x6 h5 hk =>
g_astore F dJ24_buildFromSorted_2_83 (Nat.le_of_ble_eq_true rfl) rfl <|
g_goto F dJ24_buildFromSorted_2_85 (tgt := 128) rfl <|
g_new (fs := [va_rf none, va_rf none, va_rf none, va_rf none, va_rf none, .int 0]) F dJ24_buildFromSorted_2_128 ck_J25 ct_J25 q1500 q1501 q151 df_J25 (show 0 + 0 + 1 ≤ 1 + 2 * ccJ24_buildFromSorted_2 d by omega) (show 0 + 0 + 6 ≤ 6 + 2 * ckJ24_buildFromSorted_2 d by omega) hk fun q7 h8 hk =>
g_dup F dJ24_buildFromSorted_2_131 rfl <|
g_aload F dJ24_buildFromSorted_2_132 1 rfl <|
g_aload F dJ24_buildFromSorted_2_134 0 rfl <|
g_null F dJ24_buildFromSorted_2_136 <|
g_callv0 (g_I F dJ24_buildFromSorted_2_137 q1502 mc_J25_init (rm' := rmJ25_init) ⟨show 2 + 1 ≤ 6 + (d + 1) by omega, show 8 + (4 + 11) + 40 ≤ 123 + (d + 1) * 33 by omega⟩ ⟨show 0 + 0 + 1 + 0 ≤ 1 + 2 * ccJ24_buildFromSorted_2 d by omega, show 0 + 0 + 6 + 0 ≤ 6 + 2 * ckJ24_buildFromSorted_2 d by omega⟩ (As := [aR x4, aR x6, aR none]) (rest := [aR (some q7)]) rfl rfl (Nat.le_of_ble_eq_true rfl) (m_J25_init F.ok q7 x4 x6 none h8 _ hk)) ⟨rfl, rfl⟩ fun h9 hk =>
g_astore F dJ24_buildFromSorted_2_140 (Nat.le_of_ble_eq_true rfl) rfl <|
g_iload_n F dJ24_buildFromSorted_2_142 rfl 6 rfl <|
g_iload F dJ24_buildFromSorted_2_143 9 rfl <|
g_icmp_ne F dJ24_buildFromSorted_2_145 (tgt := 154) rfl (fun hc => have hk := hk.2 hc
g_aload F dJ24_buildFromSorted_2_154 3 rfl <|
g_ifnull F dJ24_buildFromSorted_2_156 (tgt := 173) rfl (fun _ =>
g_iload F dJ24_buildFromSorted_2_173 4 rfl <|
g_iload_n F dJ24_buildFromSorted_2_175 rfl 8 rfl <|
g_icmp_ge F dJ24_buildFromSorted_2_176 (tgt := 215) rfl (fun hc => have hk := hk.1 hc
g_aload F dJ24_buildFromSorted_2_215 0 rfl <|
g_aret F (Or.inl ⟨_, rfl⟩) dJ24_buildFromSorted_2_217 (show 0 + 0 + 1 ≤ 1 + 2 * ccJ24_buildFromSorted_2 d by omega) (show 0 + 0 + 6 ≤ 6 + 2 * ckJ24_buildFromSorted_2 d by omega) hk) (fun hc => have hk := hk.2 hc
g_aload_n F dJ24_buildFromSorted_2_179 rfl 5 rfl <|
g_iload_n F dJ24_buildFromSorted_2_180 rfl 6 rfl <|
g_iconst F dJ24_buildFromSorted_2_181 ic_1 <|
g_iadd F dJ24_buildFromSorted_2_182 <|
g_iload F dJ24_buildFromSorted_2_183 4 rfl <|
g_iconst F dJ24_buildFromSorted_2_185 ic_1 <|
g_iadd F dJ24_buildFromSorted_2_186 <|
g_iload_n F dJ24_buildFromSorted_2_187 rfl 8 rfl <|
g_iload F dJ24_buildFromSorted_2_188 9 rfl <|
g_aload F dJ24_buildFromSorted_2_190 10 rfl <|
g_aload F dJ24_buildFromSorted_2_192 11 rfl <|
g_aload F dJ24_buildFromSorted_2_194 12 rfl <|
g_callr (g_V F dJ24_buildFromSorted_2_196 q2193 mi_J24_buildFromSorted_2 ct_J24 (rm' := (rmJ24_buildFromSorted_2 d)) ⟨show 6 + d + 1 ≤ 6 + (d + 1) by omega, show 8 + (14 + 11) + (123 + d * 33) ≤ 123 + (d + 1) * 33 by omega⟩ ⟨show 0 + 0 + 1 + ccJ24_buildFromSorted_2 d ≤ 1 + 2 * ccJ24_buildFromSorted_2 d by omega, show 0 + 0 + 6 + ckJ24_buildFromSorted_2 d ≤ 6 + 2 * ckJ24_buildFromSorted_2 d by omega⟩ (As := [aI (v1 + (1:Int32)), aI ((iUsh (v2 + v3) (1:Int32)) + (1:Int32)), aI v3, aI v4, aR v5, aR v6, aR v7]) (rest := []) rfl rfl (Nat.le_of_ble_eq_true rfl) hk (fun a12 hk => ih a12 (v1 + (1:Int32)) ((iUsh (v2 + v3) (1:Int32)) + (1:Int32)) v3 v4 v5 v6 v7 h9 _ hk)) fun x11 h10 hk =>
g_astore F dJ24_buildFromSorted_2_199 (Nat.le_of_ble_eq_true rfl) rfl <|
g_aload F dJ24_buildFromSorted_2_201 1 rfl <|
g_aload F dJ24_buildFromSorted_2_203 0 rfl <|
g_putV F dJ24_buildFromSorted_2_205 fo_J25_3_java_util_TreeMap_Entry ck_J25 fl_java_util_TreeMap_114_J25 rfl (v := aR x11) (fit_rf "java/util/TreeMap$Entry" x11) hk fun h13 hk =>
g_aload F dJ24_buildFromSorted_2_208 0 rfl <|
g_aload F dJ24_buildFromSorted_2_210 1 rfl <|
g_putV F dJ24_buildFromSorted_2_212 fo_J25_4_java_util_TreeMap_Entry ck_J25 fl_java_util_TreeMap_124_J25 rfl (v := aR (some q7)) (fit_rf "java/util/TreeMap$Entry" (some q7)) hk fun h14 hk =>
g_aload F dJ24_buildFromSorted_2_215 1 rfl <|
g_aret F (Or.inl ⟨_, rfl⟩) dJ24_buildFromSorted_2_217 (show 0 + 0 + 1 + ccJ24_buildFromSorted_2 d ≤ 1 + 2 * ccJ24_buildFromSorted_2 d by omega) (show 0 + 0 + 6 + ckJ24_buildFromSorted_2 d ≤ 6 + 2 * ckJ24_buildFromSorted_2 d by omega) hk)) (fun hc => absurd rfl hc)) (fun hc => have hk := hk.1 hc
g_aload F dJ24_buildFromSorted_2_148 0 rfl <|
g_iconst F dJ24_buildFromSorted_2_150 ic_0 <|
g_putV F dJ24_buildFromSorted_2_151 fo_J25_5_java_util_TreeMap_Entry ck_J25 fl_java_util_TreeMap_290_J25 rfl (v := aI (0:Int32)) ⟨rfl, rfl⟩ hk fun h15 hk =>
g_aload F dJ24_buildFromSorted_2_154 3 rfl <|
g_ifnull F dJ24_buildFromSorted_2_156 (tgt := 173) rfl (fun _ =>
g_iload F dJ24_buildFromSorted_2_173 4 rfl <|
g_iload_n F dJ24_buildFromSorted_2_175 rfl 8 rfl <|
g_icmp_ge F dJ24_buildFromSorted_2_176 (tgt := 215) rfl (fun hc => have hk := hk.1 hc
g_aload F dJ24_buildFromSorted_2_215 0 rfl <|
g_aret F (Or.inl ⟨_, rfl⟩) dJ24_buildFromSorted_2_217 (show 0 + 0 + 1 ≤ 1 + 2 * ccJ24_buildFromSorted_2 d by omega) (show 0 + 0 + 6 ≤ 6 + 2 * ckJ24_buildFromSorted_2 d by omega) hk) (fun hc => have hk := hk.2 hc
g_aload_n F dJ24_buildFromSorted_2_179 rfl 5 rfl <|
g_iload_n F dJ24_buildFromSorted_2_180 rfl 6 rfl <|
g_iconst F dJ24_buildFromSorted_2_181 ic_1 <|
g_iadd F dJ24_buildFromSorted_2_182 <|
g_iload F dJ24_buildFromSorted_2_183 4 rfl <|
g_iconst F dJ24_buildFromSorted_2_185 ic_1 <|
g_iadd F dJ24_buildFromSorted_2_186 <|
g_iload_n F dJ24_buildFromSorted_2_187 rfl 8 rfl <|
g_iload F dJ24_buildFromSorted_2_188 9 rfl <|
g_aload F dJ24_buildFromSorted_2_190 10 rfl <|
g_aload F dJ24_buildFromSorted_2_192 11 rfl <|
g_aload F dJ24_buildFromSorted_2_194 12 rfl <|
g_callr (g_V F dJ24_buildFromSorted_2_196 q2193 mi_J24_buildFromSorted_2 ct_J24 (rm' := (rmJ24_buildFromSorted_2 d)) ⟨show 6 + d + 1 ≤ 6 + (d + 1) by omega, show 8 + (14 + 11) + (123 + d * 33) ≤ 123 + (d + 1) * 33 by omega⟩ ⟨show 0 + 0 + 1 + ccJ24_buildFromSorted_2 d ≤ 1 + 2 * ccJ24_buildFromSorted_2 d by omega, show 0 + 0 + 6 + ckJ24_buildFromSorted_2 d ≤ 6 + 2 * ckJ24_buildFromSorted_2 d by omega⟩ (As := [aI (v1 + (1:Int32)), aI ((iUsh (v2 + v3) (1:Int32)) + (1:Int32)), aI v3, aI v4, aR v5, aR v6, aR v7]) (rest := []) rfl rfl (Nat.le_of_ble_eq_true rfl) hk (fun a18 hk => ih a18 (v1 + (1:Int32)) ((iUsh (v2 + v3) (1:Int32)) + (1:Int32)) v3 v4 v5 v6 v7 h15 _ hk)) fun x17 h16 hk =>
g_astore F dJ24_buildFromSorted_2_199 (Nat.le_of_ble_eq_true rfl) rfl <|
g_aload F dJ24_buildFromSorted_2_201 1 rfl <|
g_aload F dJ24_buildFromSorted_2_203 0 rfl <|
g_putV F dJ24_buildFromSorted_2_205 fo_J25_3_java_util_TreeMap_Entry ck_J25 fl_java_util_TreeMap_114_J25 rfl (v := aR x17) (fit_rf "java/util/TreeMap$Entry" x17) hk fun h19 hk =>
g_aload F dJ24_buildFromSorted_2_208 0 rfl <|
g_aload F dJ24_buildFromSorted_2_210 1 rfl <|
g_putV F dJ24_buildFromSorted_2_212 fo_J25_4_java_util_TreeMap_Entry ck_J25 fl_java_util_TreeMap_124_J25 rfl (v := aR (some q7)) (fit_rf "java/util/TreeMap$Entry" (some q7)) hk fun h20 hk =>
g_aload F dJ24_buildFromSorted_2_215 1 rfl <|
g_aret F (Or.inl ⟨_, rfl⟩) dJ24_buildFromSorted_2_217 (show 0 + 0 + 1 + ccJ24_buildFromSorted_2 d ≤ 1 + 2 * ccJ24_buildFromSorted_2 d by omega) (show 0 + 0 + 6 + ckJ24_buildFromSorted_2 d ≤ 6 + 2 * ckJ24_buildFromSorted_2 d by omega) hk)) (fun hc => absurd rfl hc))))) (fun hc => have hk := hk.2 hc
g_aload_n F dJ24_buildFromSorted_2_23 rfl 2 rfl <|
g_iload_n F dJ24_buildFromSorted_2_24 rfl 3 rfl <|
g_iconst F dJ24_buildFromSorted_2_25 ic_1 <|
g_iadd F dJ24_buildFromSorted_2_26 <|
g_iload_n F dJ24_buildFromSorted_2_27 rfl 4 rfl <|
g_iload F dJ24_buildFromSorted_2_28 1 rfl <|
g_iconst F dJ24_buildFromSorted_2_30 ic_1 <|
g_isub F dJ24_buildFromSorted_2_31 <|
g_iload F dJ24_buildFromSorted_2_32 6 rfl <|
g_aload F dJ24_buildFromSorted_2_34 7 rfl <|
g_aload F dJ24_buildFromSorted_2_36 8 rfl <|
g_aload F dJ24_buildFromSorted_2_38 9 rfl <|
g_callr (g_V F dJ24_buildFromSorted_2_40 q2193 mi_J24_buildFromSorted_2 ct_J24 (rm' := (rmJ24_buildFromSorted_2 d)) ⟨show 6 + d + 1 ≤ 6 + (d + 1) by omega, show 8 + (14 + 11) + (123 + d * 33) ≤ 123 + (d + 1) * 33 by omega⟩ ⟨show 0 + 0 + ccJ24_buildFromSorted_2 d ≤ 1 + 2 * ccJ24_buildFromSorted_2 d by omega, show 0 + 0 + ckJ24_buildFromSorted_2 d ≤ 6 + 2 * ckJ24_buildFromSorted_2 d by omega⟩ (As := [aI (v1 + (1:Int32)), aI v2, aI ((iUsh (v2 + v3) (1:Int32)) - (1:Int32)), aI v4, aR v5, aR v6, aR v7]) (rest := []) rfl rfl (Nat.le_of_ble_eq_true rfl) hk (fun a26 hk => ih a26 (v1 + (1:Int32)) v2 ((iUsh (v2 + v3) (1:Int32)) - (1:Int32)) v4 v5 v6 v7 h _ hk)) fun x25 h24 hk =>
g_astore F dJ24_buildFromSorted_2_43 (Nat.le_of_ble_eq_true rfl) rfl <|
g_aload F dJ24_buildFromSorted_2_45 7 rfl <|
g_ifnull F dJ24_buildFromSorted_2_47 (tgt := 104) rfl (fun hc => have hk := hk.1 hc
False.elim hk) (fun hc => have hk := hk.2 hc
g_aload F dJ24_buildFromSorted_2_50 9 rfl <|
g_ifnonnull F dJ24_buildFromSorted_2_52 (tgt := 88) rfl (fun hc => have hk := hk.2 hc
False.elim hk) (fun hc => have hk := hk.1 hc
g_aload F dJ24_buildFromSorted_2_55 7 rfl <|
g_callr05 (g_F (y0 := ({ cls := "java/util/Iterator", name := "next", desc := "()Ljava/lang/Object;" } : MethodName)) F dJ24_buildFromSorted_2_57 q2198 q2302 q2300 q173 q2304 (F.face q2200 q2199 q2303 q2301 q2299 ⟨by decide, by decide⟩) moi_java_util_Iterator_next___Ljava_lang_Object_ ct_J41 (rm' := rmJ41_next) ⟨show 5 + 1 ≤ 6 + (d + 1) by omega, show 8 + (1 + 11) + 103 ≤ 123 + (d + 1) * 33 by omega⟩ ⟨show 0 + 0 + ccJ24_buildFromSorted_2 d + 0 ≤ 1 + 2 * ccJ24_buildFromSorted_2 d by omega, show 0 + 0 + ckJ24_buildFromSorted_2 d + 0 ≤ 6 + 2 * ckJ24_buildFromSorted_2 d by omega⟩ (As := []) (rest := []) rfl rfl (Nat.le_of_ble_eq_true rfl) hk (fun a63 hk => m_J41_next F.ok a63 h24 _ hk)) ⟨rfl, rfl⟩ fun x28 h27 hk =>
g_castY F dJ24_buildFromSorted_2_62 q2318 q2332 ct_J25 hk fun hk =>
g_astore F dJ24_buildFromSorted_2_65 (Nat.le_of_ble_eq_true rfl) rfl <|
g_aload F dJ24_buildFromSorted_2_67 0 rfl <|
g_callr05 (g_F (y0 := ({ cls := "java/util/Map$Entry", name := "getKey", desc := "()Ljava/lang/Object;" } : MethodName)) F dJ24_buildFromSorted_2_69 q2320 q2335 q2333 q151 q2337 (F.face q2322 q2321 q2336 q2334 q2332 ⟨by decide, by decide⟩) moi_java_util_Map_Entry_getKey___Ljava_lang_Object_ ct_J25 (rm' := rmJ25_getKey) ⟨show 2 + 1 ≤ 6 + (d + 1) by omega, show 8 + (1 + 11) + 40 ≤ 123 + (d + 1) * 33 by omega⟩ ⟨show 0 + 0 + ccJ24_buildFromSorted_2 d + 0 ≤ 1 + 2 * ccJ24_buildFromSorted_2 d by omega, show 0 + 0 + ckJ24_buildFromSorted_2 d + 0 ≤ 6 + 2 * ckJ24_buildFromSorted_2 d by omega⟩ (As := []) (rest := []) rfl rfl (Nat.le_of_ble_eq_true rfl) hk (fun a62 hk => m_J25_getKey F.ok a62 h27 _ hk)) ⟨rfl, rfl⟩ fun x30 h29 hk =>
g_astore F dJ24_buildFromSorted_2_74 (Nat.le_of_ble_eq_true rfl) rfl <|
g_aload F dJ24_buildFromSorted_2_76 1 rfl <|
g_callr05 (g_F (y0 := ({ cls := "java/util/Map$Entry", name := "getValue", desc := "()Ljava/lang/Object;" } : MethodName)) F dJ24_buildFromSorted_2_78 q2339 q2351 q2349 q151 q2353 (F.face q2341 q2340 q2352 q2350 q2332 ⟨by decide, by decide⟩) moi_java_util_Map_Entry_getValue___Ljava_lang_Object_ ct_J25 (rm' := rmJ25_getValue) ⟨show 2 + 1 ≤ 6 + (d + 1) by omega, show 8 + (1 + 11) + 40 ≤ 123 + (d + 1) * 33 by omega⟩ ⟨show 0 + 0 + ccJ24_buildFromSorted_2 d + 0 ≤ 1 + 2 * ccJ24_buildFromSorted_2 d by omega, show 0 + 0 + ckJ24_buildFromSorted_2 d + 0 ≤ 6 + 2 * ckJ24_buildFromSorted_2 d by omega⟩ (As := []) (rest := []) rfl rfl (Nat.le_of_ble_eq_true rfl) hk (fun a61 hk => m_J25_getValue F.ok a61 h29 _ hk)) ⟨rfl, rfl⟩ fun x32 h31 hk =>
g_astore F dJ24_buildFromSorted_2_83 (Nat.le_of_ble_eq_true rfl) rfl <|
g_goto F dJ24_buildFromSorted_2_85 (tgt := 128) rfl <|
g_new (fs := [va_rf none, va_rf none, va_rf none, va_rf none, va_rf none, .int 0]) F dJ24_buildFromSorted_2_128 ck_J25 ct_J25 q1500 q1501 q151 df_J25 (show 0 + 0 + ccJ24_buildFromSorted_2 d + 1 ≤ 1 + 2 * ccJ24_buildFromSorted_2 d by omega) (show 0 + 0 + ckJ24_buildFromSorted_2 d + 6 ≤ 6 + 2 * ckJ24_buildFromSorted_2 d by omega) hk fun q33 h34 hk =>
g_dup F dJ24_buildFromSorted_2_131 rfl <|
g_aload F dJ24_buildFromSorted_2_132 1 rfl <|
g_aload F dJ24_buildFromSorted_2_134 0 rfl <|
g_null F dJ24_buildFromSorted_2_136 <|
g_callv0 (g_I F dJ24_buildFromSorted_2_137 q1502 mc_J25_init (rm' := rmJ25_init) ⟨show 2 + 1 ≤ 6 + (d + 1) by omega, show 8 + (4 + 11) + 40 ≤ 123 + (d + 1) * 33 by omega⟩ ⟨show 0 + 0 + ccJ24_buildFromSorted_2 d + 1 + 0 ≤ 1 + 2 * ccJ24_buildFromSorted_2 d by omega, show 0 + 0 + ckJ24_buildFromSorted_2 d + 6 + 0 ≤ 6 + 2 * ckJ24_buildFromSorted_2 d by omega⟩ (As := [aR x30, aR x32, aR none]) (rest := [aR (some q33)]) rfl rfl (Nat.le_of_ble_eq_true rfl) (m_J25_init F.ok q33 x30 x32 none h34 _ hk)) ⟨rfl, rfl⟩ fun h35 hk =>
g_astore F dJ24_buildFromSorted_2_140 (Nat.le_of_ble_eq_true rfl) rfl <|
g_iload_n F dJ24_buildFromSorted_2_142 rfl 6 rfl <|
g_iload F dJ24_buildFromSorted_2_143 9 rfl <|
g_icmp_ne F dJ24_buildFromSorted_2_145 (tgt := 154) rfl (fun hc => have hk := hk.2 hc
g_aload F dJ24_buildFromSorted_2_154 3 rfl <|
g_ifnull F dJ24_buildFromSorted_2_156 (tgt := 173) rfl (fun hc => have hk := hk.1 hc
g_iload F dJ24_buildFromSorted_2_173 4 rfl <|
g_iload_n F dJ24_buildFromSorted_2_175 rfl 8 rfl <|
g_icmp_ge F dJ24_buildFromSorted_2_176 (tgt := 215) rfl (fun hc => have hk := hk.1 hc
g_aload F dJ24_buildFromSorted_2_215 0 rfl <|
g_aret F (Or.inl ⟨_, rfl⟩) dJ24_buildFromSorted_2_217 (show 0 + 0 + ccJ24_buildFromSorted_2 d + 1 ≤ 1 + 2 * ccJ24_buildFromSorted_2 d by omega) (show 0 + 0 + ckJ24_buildFromSorted_2 d + 6 ≤ 6 + 2 * ckJ24_buildFromSorted_2 d by omega) hk) (fun hc => have hk := hk.2 hc
g_aload_n F dJ24_buildFromSorted_2_179 rfl 5 rfl <|
g_iload_n F dJ24_buildFromSorted_2_180 rfl 6 rfl <|
g_iconst F dJ24_buildFromSorted_2_181 ic_1 <|
g_iadd F dJ24_buildFromSorted_2_182 <|
g_iload F dJ24_buildFromSorted_2_183 4 rfl <|
g_iconst F dJ24_buildFromSorted_2_185 ic_1 <|
g_iadd F dJ24_buildFromSorted_2_186 <|
g_iload_n F dJ24_buildFromSorted_2_187 rfl 8 rfl <|
g_iload F dJ24_buildFromSorted_2_188 9 rfl <|
g_aload F dJ24_buildFromSorted_2_190 10 rfl <|
g_aload F dJ24_buildFromSorted_2_192 11 rfl <|
g_aload F dJ24_buildFromSorted_2_194 12 rfl <|
g_callr (g_V F dJ24_buildFromSorted_2_196 q2193 mi_J24_buildFromSorted_2 ct_J24 (rm' := (rmJ24_buildFromSorted_2 d)) ⟨show 6 + d + 1 ≤ 6 + (d + 1) by omega, show 8 + (14 + 11) + (123 + d * 33) ≤ 123 + (d + 1) * 33 by omega⟩ ⟨show 0 + 0 + ccJ24_buildFromSorted_2 d + 1 + ccJ24_buildFromSorted_2 d ≤ 1 + 2 * ccJ24_buildFromSorted_2 d by omega, show 0 + 0 + ckJ24_buildFromSorted_2 d + 6 + ckJ24_buildFromSorted_2 d ≤ 6 + 2 * ckJ24_buildFromSorted_2 d by omega⟩ (As := [aI (v1 + (1:Int32)), aI ((iUsh (v2 + v3) (1:Int32)) + (1:Int32)), aI v3, aI v4, aR v5, aR v6, aR v7]) (rest := []) rfl rfl (Nat.le_of_ble_eq_true rfl) hk (fun a38 hk => ih a38 (v1 + (1:Int32)) ((iUsh (v2 + v3) (1:Int32)) + (1:Int32)) v3 v4 v5 v6 v7 h35 _ hk)) fun x37 h36 hk =>
g_astore F dJ24_buildFromSorted_2_199 (Nat.le_of_ble_eq_true rfl) rfl <|
g_aload F dJ24_buildFromSorted_2_201 1 rfl <|
g_aload F dJ24_buildFromSorted_2_203 0 rfl <|
g_putV F dJ24_buildFromSorted_2_205 fo_J25_3_java_util_TreeMap_Entry ck_J25 fl_java_util_TreeMap_114_J25 rfl (v := aR x37) (fit_rf "java/util/TreeMap$Entry" x37) hk fun h39 hk =>
g_aload F dJ24_buildFromSorted_2_208 0 rfl <|
g_aload F dJ24_buildFromSorted_2_210 1 rfl <|
g_putV F dJ24_buildFromSorted_2_212 fo_J25_4_java_util_TreeMap_Entry ck_J25 fl_java_util_TreeMap_124_J25 rfl (v := aR (some q33)) (fit_rf "java/util/TreeMap$Entry" (some q33)) hk fun h40 hk =>
g_aload F dJ24_buildFromSorted_2_215 1 rfl <|
g_aret F (Or.inl ⟨_, rfl⟩) dJ24_buildFromSorted_2_217 (show 0 + 0 + ccJ24_buildFromSorted_2 d + 1 + ccJ24_buildFromSorted_2 d ≤ 1 + 2 * ccJ24_buildFromSorted_2 d by omega) (show 0 + 0 + ckJ24_buildFromSorted_2 d + 6 + ckJ24_buildFromSorted_2 d ≤ 6 + 2 * ckJ24_buildFromSorted_2 d by omega) hk)) (fun hc => have hk := hk.2 hc
g_aload F dJ24_buildFromSorted_2_159 0 rfl <|
g_aload F dJ24_buildFromSorted_2_161 3 rfl <|
g_putV F dJ24_buildFromSorted_2_163 fo_J25_2_java_util_TreeMap_Entry ck_J25 fl_java_util_TreeMap_111_J25 rfl (v := aR x25) (fit_rf "java/util/TreeMap$Entry" x25) hk fun h41 hk =>
g_aload F dJ24_buildFromSorted_2_166 3 rfl <|
g_aload F dJ24_buildFromSorted_2_168 0 rfl <|
g_putV F dJ24_buildFromSorted_2_170 fo_J25_4_java_util_TreeMap_Entry ck_J25 fl_java_util_TreeMap_124_J25 rfl (v := aR (some q33)) (fit_rf "java/util/TreeMap$Entry" (some q33)) hk fun h42 hk =>
g_iload F dJ24_buildFromSorted_2_173 4 rfl <|
g_iload_n F dJ24_buildFromSorted_2_175 rfl 8 rfl <|
g_icmp_ge F dJ24_buildFromSorted_2_176 (tgt := 215) rfl (fun hc => have hk := hk.1 hc
g_aload F dJ24_buildFromSorted_2_215 0 rfl <|
g_aret F (Or.inl ⟨_, rfl⟩) dJ24_buildFromSorted_2_217 (show 0 + 0 + ccJ24_buildFromSorted_2 d + 1 ≤ 1 + 2 * ccJ24_buildFromSorted_2 d by omega) (show 0 + 0 + ckJ24_buildFromSorted_2 d + 6 ≤ 6 + 2 * ckJ24_buildFromSorted_2 d by omega) hk) (fun hc => have hk := hk.2 hc
g_aload_n F dJ24_buildFromSorted_2_179 rfl 5 rfl <|
g_iload_n F dJ24_buildFromSorted_2_180 rfl 6 rfl <|
g_iconst F dJ24_buildFromSorted_2_181 ic_1 <|
g_iadd F dJ24_buildFromSorted_2_182 <|
g_iload F dJ24_buildFromSorted_2_183 4 rfl <|
g_iconst F dJ24_buildFromSorted_2_185 ic_1 <|
g_iadd F dJ24_buildFromSorted_2_186 <|
g_iload_n F dJ24_buildFromSorted_2_187 rfl 8 rfl <|
g_iload F dJ24_buildFromSorted_2_188 9 rfl <|
g_aload F dJ24_buildFromSorted_2_190 10 rfl <|
g_aload F dJ24_buildFromSorted_2_192 11 rfl <|
g_aload F dJ24_buildFromSorted_2_194 12 rfl <|
g_callr (g_V F dJ24_buildFromSorted_2_196 q2193 mi_J24_buildFromSorted_2 ct_J24 (rm' := (rmJ24_buildFromSorted_2 d)) ⟨show 6 + d + 1 ≤ 6 + (d + 1) by omega, show 8 + (14 + 11) + (123 + d * 33) ≤ 123 + (d + 1) * 33 by omega⟩ ⟨show 0 + 0 + ccJ24_buildFromSorted_2 d + 1 + ccJ24_buildFromSorted_2 d ≤ 1 + 2 * ccJ24_buildFromSorted_2 d by omega, show 0 + 0 + ckJ24_buildFromSorted_2 d + 6 + ckJ24_buildFromSorted_2 d ≤ 6 + 2 * ckJ24_buildFromSorted_2 d by omega⟩ (As := [aI (v1 + (1:Int32)), aI ((iUsh (v2 + v3) (1:Int32)) + (1:Int32)), aI v3, aI v4, aR v5, aR v6, aR v7]) (rest := []) rfl rfl (Nat.le_of_ble_eq_true rfl) hk (fun a45 hk => ih a45 (v1 + (1:Int32)) ((iUsh (v2 + v3) (1:Int32)) + (1:Int32)) v3 v4 v5 v6 v7 h42 _ hk)) fun x44 h43 hk =>
g_astore F dJ24_buildFromSorted_2_199 (Nat.le_of_ble_eq_true rfl) rfl <|
g_aload F dJ24_buildFromSorted_2_201 1 rfl <|
g_aload F dJ24_buildFromSorted_2_203 0 rfl <|
g_putV F dJ24_buildFromSorted_2_205 fo_J25_3_java_util_TreeMap_Entry ck_J25 fl_java_util_TreeMap_114_J25 rfl (v := aR x44) (fit_rf "java/util/TreeMap$Entry" x44) hk fun h46 hk =>
g_aload F dJ24_buildFromSorted_2_208 0 rfl <|
g_aload F dJ24_buildFromSorted_2_210 1 rfl <|
g_putV F dJ24_buildFromSorted_2_212 fo_J25_4_java_util_TreeMap_Entry ck_J25 fl_java_util_TreeMap_124_J25 rfl (v := aR (some q33)) (fit_rf "java/util/TreeMap$Entry" (some q33)) hk fun h47 hk =>
g_aload F dJ24_buildFromSorted_2_215 1 rfl <|
g_aret F (Or.inl ⟨_, rfl⟩) dJ24_buildFromSorted_2_217 (show 0 + 0 + ccJ24_buildFromSorted_2 d + 1 + ccJ24_buildFromSorted_2 d ≤ 1 + 2 * ccJ24_buildFromSorted_2 d by omega) (show 0 + 0 + ckJ24_buildFromSorted_2 d + 6 + ckJ24_buildFromSorted_2 d ≤ 6 + 2 * ckJ24_buildFromSorted_2 d by omega) hk))) (fun hc => have hk := hk.1 hc
g_aload F dJ24_buildFromSorted_2_148 0 rfl <|
g_iconst F dJ24_buildFromSorted_2_150 ic_0 <|
g_putV F dJ24_buildFromSorted_2_151 fo_J25_5_java_util_TreeMap_Entry ck_J25 fl_java_util_TreeMap_290_J25 rfl (v := aI (0:Int32)) ⟨rfl, rfl⟩ hk fun h48 hk =>
g_aload F dJ24_buildFromSorted_2_154 3 rfl <|
g_ifnull F dJ24_buildFromSorted_2_156 (tgt := 173) rfl (fun hc => have hk := hk.1 hc
g_iload F dJ24_buildFromSorted_2_173 4 rfl <|
g_iload_n F dJ24_buildFromSorted_2_175 rfl 8 rfl <|
g_icmp_ge F dJ24_buildFromSorted_2_176 (tgt := 215) rfl (fun hc => have hk := hk.1 hc
g_aload F dJ24_buildFromSorted_2_215 0 rfl <|
g_aret F (Or.inl ⟨_, rfl⟩) dJ24_buildFromSorted_2_217 (show 0 + 0 + ccJ24_buildFromSorted_2 d + 1 ≤ 1 + 2 * ccJ24_buildFromSorted_2 d by omega) (show 0 + 0 + ckJ24_buildFromSorted_2 d + 6 ≤ 6 + 2 * ckJ24_buildFromSorted_2 d by omega) hk) (fun hc => have hk := hk.2 hc
g_aload_n F dJ24_buildFromSorted_2_179 rfl 5 rfl <|
g_iload_n F dJ24_buildFromSorted_2_180 rfl 6 rfl <|
g_iconst F dJ24_buildFromSorted_2_181 ic_1 <|
g_iadd F dJ24_buildFromSorted_2_182 <|
g_iload F dJ24_buildFromSorted_2_183 4 rfl <|
g_iconst F dJ24_buildFromSorted_2_185 ic_1 <|
g_iadd F dJ24_buildFromSorted_2_186 <|
g_iload_n F dJ24_buildFromSorted_2_187 rfl 8 rfl <|
g_iload F dJ24_buildFromSorted_2_188 9 rfl <|
g_aload F dJ24_buildFromSorted_2_190 10 rfl <|
g_aload F dJ24_buildFromSorted_2_192 11 rfl <|
g_aload F dJ24_buildFromSorted_2_194 12 rfl <|
g_callr (g_V F dJ24_buildFromSorted_2_196 q2193 mi_J24_buildFromSorted_2 ct_J24 (rm' := (rmJ24_buildFromSorted_2 d)) ⟨show 6 + d + 1 ≤ 6 + (d + 1) by omega, show 8 + (14 + 11) + (123 + d * 33) ≤ 123 + (d + 1) * 33 by omega⟩ ⟨show 0 + 0 + ccJ24_buildFromSorted_2 d + 1 + ccJ24_buildFromSorted_2 d ≤ 1 + 2 * ccJ24_buildFromSorted_2 d by omega, show 0 + 0 + ckJ24_buildFromSorted_2 d + 6 + ckJ24_buildFromSorted_2 d ≤ 6 + 2 * ckJ24_buildFromSorted_2 d by omega⟩ (As := [aI (v1 + (1:Int32)), aI ((iUsh (v2 + v3) (1:Int32)) + (1:Int32)), aI v3, aI v4, aR v5, aR v6, aR v7]) (rest := []) rfl rfl (Nat.le_of_ble_eq_true rfl) hk (fun a51 hk => ih a51 (v1 + (1:Int32)) ((iUsh (v2 + v3) (1:Int32)) + (1:Int32)) v3 v4 v5 v6 v7 h48 _ hk)) fun x50 h49 hk =>
g_astore F dJ24_buildFromSorted_2_199 (Nat.le_of_ble_eq_true rfl) rfl <|
g_aload F dJ24_buildFromSorted_2_201 1 rfl <|
g_aload F dJ24_buildFromSorted_2_203 0 rfl <|
g_putV F dJ24_buildFromSorted_2_205 fo_J25_3_java_util_TreeMap_Entry ck_J25 fl_java_util_TreeMap_114_J25 rfl (v := aR x50) (fit_rf "java/util/TreeMap$Entry" x50) hk fun h52 hk =>
g_aload F dJ24_buildFromSorted_2_208 0 rfl <|
g_aload F dJ24_buildFromSorted_2_210 1 rfl <|
g_putV F dJ24_buildFromSorted_2_212 fo_J25_4_java_util_TreeMap_Entry ck_J25 fl_java_util_TreeMap_124_J25 rfl (v := aR (some q33)) (fit_rf "java/util/TreeMap$Entry" (some q33)) hk fun h53 hk =>
g_aload F dJ24_buildFromSorted_2_215 1 rfl <|
g_aret F (Or.inl ⟨_, rfl⟩) dJ24_buildFromSorted_2_217 (show 0 + 0 + ccJ24_buildFromSorted_2 d + 1 + ccJ24_buildFromSorted_2 d ≤ 1 + 2 * ccJ24_buildFromSorted_2 d by omega) (show 0 + 0 + ckJ24_buildFromSorted_2 d + 6 + ckJ24_buildFromSorted_2 d ≤ 6 + 2 * ckJ24_buildFromSorted_2 d by omega) hk)) (fun hc => have hk := hk.2 hc
g_aload F dJ24_buildFromSorted_2_159 0 rfl <|
g_aload F dJ24_buildFromSorted_2_161 3 rfl <|
g_putV F dJ24_buildFromSorted_2_163 fo_J25_2_java_util_TreeMap_Entry ck_J25 fl_java_util_TreeMap_111_J25 rfl (v := aR x25) (fit_rf "java/util/TreeMap$Entry" x25) hk fun h54 hk =>
g_aload F dJ24_buildFromSorted_2_166 3 rfl <|
g_aload F dJ24_buildFromSorted_2_168 0 rfl <|
g_putV F dJ24_buildFromSorted_2_170 fo_J25_4_java_util_TreeMap_Entry ck_J25 fl_java_util_TreeMap_124_J25 rfl (v := aR (some q33)) (fit_rf "java/util/TreeMap$Entry" (some q33)) hk fun h55 hk =>
g_iload F dJ24_buildFromSorted_2_173 4 rfl <|
g_iload_n F dJ24_buildFromSorted_2_175 rfl 8 rfl <|
g_icmp_ge F dJ24_buildFromSorted_2_176 (tgt := 215) rfl (fun hc => have hk := hk.1 hc
g_aload F dJ24_buildFromSorted_2_215 0 rfl <|
g_aret F (Or.inl ⟨_, rfl⟩) dJ24_buildFromSorted_2_217 (show 0 + 0 + ccJ24_buildFromSorted_2 d + 1 ≤ 1 + 2 * ccJ24_buildFromSorted_2 d by omega) (show 0 + 0 + ckJ24_buildFromSorted_2 d + 6 ≤ 6 + 2 * ckJ24_buildFromSorted_2 d by omega) hk) (fun hc => have hk := hk.2 hc
g_aload_n F dJ24_buildFromSorted_2_179 rfl 5 rfl <|
g_iload_n F dJ24_buildFromSorted_2_180 rfl 6 rfl <|
g_iconst F dJ24_buildFromSorted_2_181 ic_1 <|
g_iadd F dJ24_buildFromSorted_2_182 <|
g_iload F dJ24_buildFromSorted_2_183 4 rfl <|
g_iconst F dJ24_buildFromSorted_2_185 ic_1 <|
g_iadd F dJ24_buildFromSorted_2_186 <|
g_iload_n F dJ24_buildFromSorted_2_187 rfl 8 rfl <|
g_iload F dJ24_buildFromSorted_2_188 9 rfl <|
g_aload F dJ24_buildFromSorted_2_190 10 rfl <|
g_aload F dJ24_buildFromSorted_2_192 11 rfl <|
g_aload F dJ24_buildFromSorted_2_194 12 rfl <|
g_callr (g_V F dJ24_buildFromSorted_2_196 q2193 mi_J24_buildFromSorted_2 ct_J24 (rm' := (rmJ24_buildFromSorted_2 d)) ⟨show 6 + d + 1 ≤ 6 + (d + 1) by omega, show 8 + (14 + 11) + (123 + d * 33) ≤ 123 + (d + 1) * 33 by omega⟩ ⟨show 0 + 0 + ccJ24_buildFromSorted_2 d + 1 + ccJ24_buildFromSorted_2 d ≤ 1 + 2 * ccJ24_buildFromSorted_2 d by omega, show 0 + 0 + ckJ24_buildFromSorted_2 d + 6 + ckJ24_buildFromSorted_2 d ≤ 6 + 2 * ckJ24_buildFromSorted_2 d by omega⟩ (As := [aI (v1 + (1:Int32)), aI ((iUsh (v2 + v3) (1:Int32)) + (1:Int32)), aI v3, aI v4, aR v5, aR v6, aR v7]) (rest := []) rfl rfl (Nat.le_of_ble_eq_true rfl) hk (fun a58 hk => ih a58 (v1 + (1:Int32)) ((iUsh (v2 + v3) (1:Int32)) + (1:Int32)) v3 v4 v5 v6 v7 h55 _ hk)) fun x57 h56 hk =>
g_astore F dJ24_buildFromSorted_2_199 (Nat.le_of_ble_eq_true rfl) rfl <|
g_aload F dJ24_buildFromSorted_2_201 1 rfl <|
g_aload F dJ24_buildFromSorted_2_203 0 rfl <|
g_putV F dJ24_buildFromSorted_2_205 fo_J25_3_java_util_TreeMap_Entry ck_J25 fl_java_util_TreeMap_114_J25 rfl (v := aR x57) (fit_rf "java/util/TreeMap$Entry" x57) hk fun h59 hk =>
g_aload F dJ24_buildFromSorted_2_208 0 rfl <|
g_aload F dJ24_buildFromSorted_2_210 1 rfl <|
g_putV F dJ24_buildFromSorted_2_212 fo_J25_4_java_util_TreeMap_Entry ck_J25 fl_java_util_TreeMap_124_J25 rfl (v := aR (some q33)) (fit_rf "java/util/TreeMap$Entry" (some q33)) hk fun h60 hk =>
g_aload F dJ24_buildFromSorted_2_215 1 rfl <|
g_aret F (Or.inl ⟨_, rfl⟩) dJ24_buildFromSorted_2_217 (show 0 + 0 + ccJ24_buildFromSorted_2 d + 1 + ccJ24_buildFromSorted_2 d ≤ 1 + 2 * ccJ24_buildFromSorted_2 d by omega) (show 0 + 0 + ckJ24_buildFromSorted_2 d + 6 + ckJ24_buildFromSorted_2 d ≤ 6 + 2 * ckJ24_buildFromSorted_2 d by omega) hk))))))) (fun hc => have hk := hk.2 hc
g_null F dJ24_buildFromSorted_2_5 <|
g_aret F (Or.inl ⟨_, rfl⟩) dJ24_buildFromSorted_2_6 (show 0 + 0 ≤ 1 + 2 * ccJ24_buildFromSorted_2 d by omega) (show 0 + 0 ≤ 6 + 2 * ckJ24_buildFromSorted_2 d by omega) hk)
abbrev rmJ24_buildFromSorted : Room := { frames := 14, cells := 127, slots := 762, locals := 387 }
theorem m_J24_buildFromSorted {S : Sx} (hS0 : Sok S) (v0 : Nat) (v1 : Int32) (v2 : Option Nat) (v3 : Option Nat) (v4 : Option Nat) (h : hH) (Q : hH → Prop) (hk : f_J24_buildFromSorted S.E v0 v1 v2 v3 v4 h Q) : Ct S yJ24_buildFromSorted (ws_ yJ24_buildFromSorted cJ24_buildFromSorted 5 none) rmJ24_buildFromSorted ([aR (some v0), aI v1, aR v2, aR v3, aR v4].map vv) h (qV Q) := by
  refine Ct.of hS0 (by decide +kernel) rfl (Nat.le_of_ble_eq_true rfl) fun x hxS F hnm => ?_
  subst hxS
  unfold f_J24_buildFromSorted at hk
  have hM : 0 + 127 ≤ 127 := by omega
  have hS : 0 + 762 ≤ 762 := by omega
  refine G.widen (c' := 0 + 0) (k' := 0 + 0) (Nat.le_refl 0) (Nat.le_refl 0) ?_
  exact g_aload_n F dJ24_buildFromSorted_0 rfl 0 rfl <|
g_iload_n F dJ24_buildFromSorted_1 rfl 1 rfl <|
g_putV F dJ24_buildFromSorted_2 fo_J24_4_java_util_TreeMap ck_J24 fl_java_util_TreeMap_7_J24 rfl (v := aI v1) (fit_i v1) hk fun h1 hk =>
g_aload_n F dJ24_buildFromSorted_5 rfl 0 rfl <|
g_aload_n F dJ24_buildFromSorted_6 rfl 0 rfl <|
g_iconst F dJ24_buildFromSorted_7 ic_0 <|
g_iconst F dJ24_buildFromSorted_8 ic_0 <|
g_iload_n F dJ24_buildFromSorted_9 rfl 1 rfl <|
g_iconst F dJ24_buildFromSorted_10 ic_1 <|
g_isub F dJ24_buildFromSorted_11 <|
g_iload_n F dJ24_buildFromSorted_12 rfl 1 rfl <|
g_calli0 (g_S F dJ24_buildFromSorted_13 q2189 ms_J24_computeRedLevel (rm' := rmJ24_computeRedLevel) ⟨Nat.le_of_ble_eq_true rfl, Nat.le_of_ble_eq_true rfl⟩ ⟨show 0 + 0 + 0 ≤ 127 by omega, show 0 + 0 + 0 ≤ 762 by omega⟩ (As := [aI v1]) (rest := [aI (v1 - (1:Int32)), aI (0:Int32), aI (0:Int32), aR (some v0), aR (some v0)]) rfl rfl (Nat.le_of_ble_eq_true rfl) (m_J24_computeRedLevel F.ok v1 h1 _ hk)) ⟨rfl, rfl⟩ fun x3 h2 hk =>
g_aload_n F dJ24_buildFromSorted_16 rfl 2 rfl <|
g_aload_n F dJ24_buildFromSorted_17 rfl 3 rfl <|
g_aload F dJ24_buildFromSorted_18 4 rfl <|
g_callr (g_V F dJ24_buildFromSorted_20 q2193 mi_J24_buildFromSorted_2 ct_J24 (rm' := (rmJ24_buildFromSorted_2 7)) ⟨Nat.le_of_ble_eq_true rfl, Nat.le_of_ble_eq_true rfl⟩ ⟨show 0 + 0 + 127 ≤ 127 by omega, show 0 + 0 + 762 ≤ 762 by omega⟩ (As := [aI (0:Int32), aI (0:Int32), aI (v1 - (1:Int32)), aI x3, aR v2, aR v3, aR v4]) (rest := [aR (some v0)]) rfl rfl (Nat.le_of_ble_eq_true rfl) hk (fun a6 hk => m_J24_buildFromSorted_2 F.ok 7 a6 (0:Int32) (0:Int32) (v1 - (1:Int32)) x3 v2 v3 v4 h2 _ hk)) fun x5 h4 hk =>
g_putV F dJ24_buildFromSorted_23 fo_J24_3_java_util_TreeMap ck_J24 fl_java_util_TreeMap_101_J24 rfl (v := aR x5) (fit_rf "java/util/TreeMap$Entry" x5) hk fun h7 hk =>
g_vret F dJ24_buildFromSorted_26 (show 0 + 0 + 127 ≤ 127 by omega) (show 0 + 0 + 762 ≤ 762 by omega) hk
abbrev rmJ24_putAll : Room := { frames := 15, cells := 129, slots := 767, locals := 411 }
theorem m_J24_putAll {S : Sx} (hS0 : Sok S) (v0 : Nat) (v1 : Option Nat) (h : hH) (Q : hH → Prop) (hk : f_J24_putAll S.E v0 v1 h Q) : Ct S yJ24_putAll (wsW_ yJ24_putAll cJ24_putAll 4 none [(54, 72, 75, 46), (54, 72, 75, 48)]) rmJ24_putAll ([aR (some v0), aR v1].map vv) h (qV Q) := by
  refine Ct.ofH hS0 (by decide +kernel) rfl (Nat.le_of_ble_eq_true rfl) fun x hxS F hnm => ?_
  subst hxS
  unfold f_J24_putAll at hk
  have hM : 0 + 129 ≤ 129 := by omega
  have hS : 0 + 767 ≤ 767 := by omega
  refine G.widen (c' := 0 + 0) (k' := 0 + 0) (Nat.le_refl 0) (Nat.le_refl 0) ?_
  exact g_aload_n F dJ24_putAll_0 rfl 1 rfl <|
g_calli05 (g_F (y0 := ({ cls := "java/util/Map", name := "size", desc := "()I" } : MethodName)) F dJ24_putAll_1 q2051 q2063 q2061 q149 q2065 (F.face q2053 q2052 q2064 q2062 q2060 ⟨by decide, by decide⟩) moi_java_util_Map_size___I ct_J24 (rm' := rmJ24_size) ⟨Nat.le_of_ble_eq_true rfl, Nat.le_of_ble_eq_true rfl⟩ ⟨show 0 + 0 + 0 ≤ 129 by omega, show 0 + 0 + 0 ≤ 767 by omega⟩ (As := []) (rest := []) rfl rfl (Nat.le_of_ble_eq_true rfl) hk (fun a21 hk => m_J24_size F.ok a21 h _ hk)) ⟨rfl, rfl⟩ fun x2 h1 hk =>
g_istore_n F dJ24_putAll_6 rfl (Nat.le_of_ble_eq_true rfl) rfl <|
g_aload_n F dJ24_putAll_7 rfl 1 rfl <|
g_getI F dJ24_putAll_8 fo_J24_4_java_util_TreeMap in_J24 fl_java_util_TreeMap_7_J24 hk fun x3 hk =>
g_if_ne F dJ24_putAll_11 (tgt := 77) rfl (fun hc => have hk := hk.2 hc
False.elim hk) (fun hc => have hk := hk.1 hc
g_iload_n F dJ24_putAll_14 rfl 0 rfl <|
g_if_eq F dJ24_putAll_15 (tgt := 77) rfl (fun hc => have hk := hk.1 hc
False.elim hk) (fun hc => have hk := hk.2 hc
g_aload_n F dJ24_putAll_18 rfl 2 rfl <|
g_instY F dJ24_putAll_19 q2066 q2071 ct_J24 hk fun x4 hk =>
g_if_eq F dJ24_putAll_22 (tgt := 77) rfl (fun hc => have hk := hk.1 hc
False.elim hk) (fun hc => have hk := hk.2 hc
g_aload_n F dJ24_putAll_25 rfl 1 rfl <|
g_getR F dJ24_putAll_26 fo_J24_2_java_util_TreeMap in_J24 fl_java_util_TreeMap_16_J24 hk fun x5 hk =>
g_aload_n F dJ24_putAll_29 rfl 2 rfl <|
g_castY F dJ24_putAll_30 q2066 q2071 ct_J24 hk fun hk =>
g_callr05 (g_F (y0 := ({ cls := "java/util/SortedMap", name := "comparator", desc := "()Ljava/util/Comparator;" } : MethodName)) F dJ24_putAll_33 q2068 q2074 q2072 q149 q2076 (F.face q2070 q2069 q2075 q2073 q2071 ⟨by decide, by decide⟩) moi_java_util_SortedMap_comparator___Ljava_util_Comparator_ ct_J24 (rm' := rmJ24_comparator) ⟨Nat.le_of_ble_eq_true rfl, Nat.le_of_ble_eq_true rfl⟩ ⟨show 0 + 0 + 0 ≤ 129 by omega, show 0 + 0 + 0 ≤ 767 by omega⟩ (As := []) (rest := [aR x5]) rfl rfl (Nat.le_of_ble_eq_true rfl) hk (fun a20 hk => m_J24_comparator F.ok a20 h1 _ hk)) ⟨rfl, rfl⟩ fun x7 h6 hk =>
g_calli0 (g_S F dJ24_putAll_38 q2077 ms_J18_equals (rm' := rmJ18_equals) ⟨Nat.le_of_ble_eq_true rfl, Nat.le_of_ble_eq_true rfl⟩ ⟨show 0 + 0 + 0 ≤ 129 by omega, show 0 + 0 + 0 ≤ 767 by omega⟩ (As := [aR x5, aR x7]) (rest := []) rfl rfl (Nat.le_of_ble_eq_true rfl) (m_J18_equals F.ok x5 x7 h6 _ hk)) ⟨rfl, rfl⟩ fun x9 h8 hk =>
g_if_eq F dJ24_putAll_41 (tgt := 77) rfl (fun hc => have hk := hk.1 hc
False.elim hk) (fun hc => have hk := hk.2 hc
g_aload_n F dJ24_putAll_44 rfl 1 rfl <|
g_dup F dJ24_putAll_45 rfl <|
g_getI F dJ24_putAll_46 fo_J24_5_java_util_TreeMap in_J24 fl_java_util_TreeMap_13_J24 hk fun x10 hk =>
g_iconst F dJ24_putAll_49 ic_1 <|
g_iadd F dJ24_putAll_50 <|
g_putV F dJ24_putAll_51 fo_J24_5_java_util_TreeMap ck_J24 fl_java_util_TreeMap_13_J24 rfl (v := aI (x10 + (1:Int32))) (fit_i (x10 + (1:Int32))) hk fun h11 hk =>
g_aload_n F dJ24_putAll_54 rfl 1 rfl <|
g_iload_n F dJ24_putAll_55 rfl 0 rfl <|
g_aload_n F dJ24_putAll_56 rfl 2 rfl <|
g_callr5 (g_F (y0 := ({ cls := "java/util/Map", name := "entrySet", desc := "()Ljava/util/Set;" } : MethodName)) F dJ24_putAll_57 q2082 q2105 q2103 q149 q2107 (F.face q2084 q2083 q2106 q2104 q2060 ⟨by decide, by decide⟩) moi_java_util_Map_entrySet___Ljava_util_Set_ ct_J24 (rm' := rmJ24_entrySet) ⟨Nat.le_of_ble_eq_true rfl, Nat.le_of_ble_eq_true rfl⟩ ⟨show 0 + 0 + 1 ≤ 129 by omega, show 0 + 0 + 1 ≤ 767 by omega⟩ (As := []) (rest := [aI x2, aR (some v0)]) rfl rfl (Nat.le_of_ble_eq_true rfl) hk (fun a19 hk => m_J24_entrySet F.ok a19 h11 _ hk)) fun x13 h12 hk =>
g_callr5 (g_F (y0 := ({ cls := "java/util/Set", name := "iterator", desc := "()Ljava/util/Iterator;" } : MethodName)) F dJ24_putAll_62 q2119 q2156 q2154 q169 q2158 (F.face q2121 q2120 q2157 q2155 q2153 ⟨by decide, by decide⟩) moi_java_util_Set_iterator___Ljava_util_Iterator_ ct_J37 (rm' := rmJ37_iterator) ⟨Nat.le_of_ble_eq_true rfl, Nat.le_of_ble_eq_true rfl⟩ ⟨show 0 + 0 + 1 + 1 ≤ 129 by omega, show 0 + 0 + 1 + 4 ≤ 767 by omega⟩ (As := []) (rest := [aI x2, aR (some v0)]) rfl rfl (Nat.le_of_ble_eq_true rfl) hk (fun a18 hk => m_J37_iterator F.ok a18 h12 _ hk)) fun x15 h14 hk =>
g_null F dJ24_putAll_67 <|
g_null F dJ24_putAll_68 <|
g_callv (g_V F dJ24_putAll_69 q2185 mi_J24_buildFromSorted ct_J24 (rm' := rmJ24_buildFromSorted) ⟨Nat.le_of_ble_eq_true rfl, Nat.le_of_ble_eq_true rfl⟩ ⟨show 0 + 0 + 1 + 1 + 127 ≤ 129 by omega, show 0 + 0 + 1 + 4 + 762 ≤ 767 by omega⟩ (As := [aI x2, aR x15, aR none, aR none]) (rest := []) rfl rfl (Nat.le_of_ble_eq_true rfl) hk (fun a17 hk => m_J24_buildFromSorted F.ok a17 x2 x15 none none h14 _ hk)) fun h16 hk =>
g_goto F dJ24_putAll_72 (tgt := 76) rfl <|
g_vret F dJ24_putAll_76 (show 0 + 0 + 1 + 1 + 127 ≤ 129 by omega) (show 0 + 0 + 1 + 4 + 762 ≤ 767 by omega) hk))))
abbrev rmJ24_key : Room := { frames := 2, cells := 0, slots := 0, locals := 40 }
theorem m_J24_key {S : Sx} (hS0 : Sok S) (v0 : Option Nat) (h : hH) (Q : Option Nat → hH → Prop) (hk : f_J24_key S.E v0 h Q) : Ct S yJ24_key (ws_ yJ24_key cJ24_key 1 (some (.object "java/lang/Object"))) rmJ24_key ([aR v0].map vv) h (qR Q) := by
  refine Ct.of hS0 (by decide +kernel) rfl (Nat.le_of_ble_eq_true rfl) fun x hxS F hnm => ?_
  subst hxS
  unfold f_J24_key at hk
  exact g_aload_n F dJ24_key_0 rfl 0 rfl <|
g_ifnonnull F dJ24_key_1 (tgt := 12) rfl (fun hc => have hk := hk.2 hc
g_aload_n F dJ24_key_12 rfl 0 rfl <|
g_getR F dJ24_key_13 fo_J25_0_java_util_TreeMap_Entry in_J25 fl_java_util_TreeMap_105_J25 hk fun x1 hk =>
g_aret F (Or.inl ⟨_, rfl⟩) dJ24_key_16 (Nat.le_refl 0) (Nat.le_refl 0) hk) (fun hc => have hk := hk.1 hc
False.elim hk)
abbrev rmJ24_firstKey : Room := { frames := 3, cells := 0, slots := 0, locals := 61 }
theorem m_J24_firstKey {S : Sx} (hS0 : Sok S) (v0 : Nat) (h : hH) (Q : Option Nat → hH → Prop) (hk : f_J24_firstKey S.E v0 h Q) : Ct S yJ24_firstKey (ws_ yJ24_firstKey cJ24_firstKey 1 (some (.object "java/lang/Object"))) rmJ24_firstKey ([aR (some v0)].map vv) h (qR Q) := by
  refine Ct.of hS0 (by decide +kernel) rfl (Nat.le_of_ble_eq_true rfl) fun x hxS F hnm => ?_
  subst hxS
  unfold f_J24_firstKey at hk
  exact g_aload_n F dJ24_firstKey_0 rfl 0 rfl <|
g_callr0 (g_V F dJ24_firstKey_1 q2725 mi_J24_getFirstEntry ct_J24 (rm' := rmJ24_getFirstEntry) ⟨Nat.le_of_ble_eq_true rfl, Nat.le_of_ble_eq_true rfl⟩ ⟨Nat.le_refl 0, Nat.le_refl 0⟩ (As := []) (rest := []) rfl rfl (Nat.le_of_ble_eq_true rfl) hk (fun a3 hk => m_J24_getFirstEntry F.ok a3 h _ hk)) ⟨rfl, rfl⟩ fun x2 h1 hk =>
g_callr0 (g_S F dJ24_firstKey_4 q2726 ms_J24_key (rm' := rmJ24_key) ⟨Nat.le_of_ble_eq_true rfl, Nat.le_of_ble_eq_true rfl⟩ ⟨Nat.le_refl 0, Nat.le_refl 0⟩ (As := [aR x2]) (rest := []) rfl rfl (Nat.le_of_ble_eq_true rfl) (m_J24_key F.ok x2 h1 _ hk)) ⟨rfl, rfl⟩ fun x5 h4 hk =>
g_aret F (Or.inl ⟨_, rfl⟩) dJ24_firstKey_7 (Nat.le_refl 0) (Nat.le_refl 0) hk
abbrev rmJ40_hasNext : Room := { frames := 2, cells := 0, slots := 0, locals := 40 }
theorem m_J40_hasNext {S : Sx} (hS0 : Sok S) (v0 : Nat) (h : hH) (Q : Int32 → hH → Prop) (hk : f_J40_hasNext S.E v0 h Q) : Ct S yJ40_hasNext (ws_ yJ40_hasNext cJ40_hasNext 1 (some .boolean)) rmJ40_hasNext ([aR (some v0)].map vv) h (qI Q) := by
  refine Ct.of hS0 (by decide +kernel) rfl (Nat.le_of_ble_eq_true rfl) fun x hxS F hnm => ?_
  subst hxS
  unfold f_J40_hasNext at hk
  exact g_aload_n F dJ40_hasNext_0 rfl 0 rfl <|
g_getR F dJ40_hasNext_1 fo_J41_0_java_util_TreeMap_PrivateEntryIterator in_J41 fl_java_util_TreeMap_PrivateEntryIterator_26_J41 hk fun x1 hk =>
g_ifnull F dJ40_hasNext_4 (tgt := 11) rfl (fun hc => have hk := hk.1 hc
g_iconst F dJ40_hasNext_11 ic_0 <|
g_zret F dJ40_hasNext_12 (Nat.le_refl 0) (Nat.le_refl 0) rfl hk) (fun hc => have hk := hk.2 hc
g_iconst F dJ40_hasNext_7 ic_1 <|
g_goto F dJ40_hasNext_8 (tgt := 12) rfl <|
g_zret F dJ40_hasNext_12 (Nat.le_refl 0) (Nat.le_refl 0) rfl hk)
