set_option maxRecDepth 100000
set_option maxHeartbeats 10000000
theorem ct_X1 : CL[0]? = some (RX1, TX1, 6) := rfl
theorem ck_X1 : ClsOk RX1 TX1 6 tyX1 := ⟨in_X1, tyX1_ok, nmX1⟩
theorem fo_X1_0_LockstepRoom : FieldOk "LockstepRoom" 0 0 RX1 TX1 6 := ⟨ct_X1, Nat.le_of_ble_eq_true rfl, Or.inl rfl⟩
theorem fl_LockstepRoom_10_X1 : Cond.fieldLink "LockstepRoom" 10 "LockstepRoom" (TX1 0).2.1 (TX1 0).2.2.1 ∈ lw_all ∨ ∃ host, Cond.fieldLinkNest "LockstepRoom" 10 "LockstepRoom" (TX1 0).2.1 (TX1 0).2.2.1 host ∈ lw_tbl := Or.inl q376
theorem fo_X1_1_LockstepRoom : FieldOk "LockstepRoom" 0 1 RX1 TX1 6 := ⟨ct_X1, Nat.le_of_ble_eq_true rfl, Or.inl rfl⟩
theorem fl_LockstepRoom_19_X1 : Cond.fieldLink "LockstepRoom" 19 "LockstepRoom" (TX1 1).2.1 (TX1 1).2.2.1 ∈ lw_all ∨ ∃ host, Cond.fieldLinkNest "LockstepRoom" 19 "LockstepRoom" (TX1 1).2.1 (TX1 1).2.2.1 host ∈ lw_tbl := Or.inl q377
theorem sp_900 : (Int16.ofInt (900)).toInt32 = (900 : Int32) := by decide
theorem fo_X1_2_LockstepRoom : FieldOk "LockstepRoom" 0 2 RX1 TX1 6 := ⟨ct_X1, Nat.le_of_ble_eq_true rfl, Or.inl rfl⟩
theorem fl_LockstepRoom_23_X1 : Cond.fieldLink "LockstepRoom" 23 "LockstepRoom" (TX1 2).2.1 (TX1 2).2.2.1 ∈ lw_all ∨ ∃ host, Cond.fieldLinkNest "LockstepRoom" 23 "LockstepRoom" (TX1 2).2.1 (TX1 2).2.2.1 host ∈ lw_tbl := Or.inl q378
theorem fo_X1_4_LockstepRoom : FieldOk "LockstepRoom" 0 4 RX1 TX1 6 := ⟨ct_X1, Nat.le_of_ble_eq_true rfl, Or.inl rfl⟩
theorem fl_LockstepRoom_27_X1 : Cond.fieldLink "LockstepRoom" 27 "LockstepRoom" (TX1 4).2.1 (TX1 4).2.2.1 ∈ lw_all ∨ ∃ host, Cond.fieldLinkNest "LockstepRoom" 27 "LockstepRoom" (TX1 4).2.1 (TX1 4).2.2.1 host ∈ lw_tbl := Or.inl q381
theorem df_J7 : ∀ j, j < 4 → defaultValue (tyJ7 j) = vp_V [va_rf none, .int 0, .int 0, .int 0] j := fun j hj => by rcases (show j = 0 ∨ j = 1 ∨ j = 2 ∨ j = 3 by omega) with rfl | rfl | rfl | rfl <;> rfl
theorem mo_J7_init : MOk yJ7_init 0 := by decide +kernel
theorem mc_J7_init : MC yJ7_init cJ7_init 1 0 := ⟨q346, q122, q347, rfl, mo_J7_init⟩
theorem fo_X1_5_LockstepRoom : FieldOk "LockstepRoom" 0 5 RX1 TX1 6 := ⟨ct_X1, Nat.le_of_ble_eq_true rfl, Or.inl rfl⟩
theorem fl_LockstepRoom_34_X1 : Cond.fieldLink "LockstepRoom" 34 "LockstepRoom" (TX1 5).2.1 (TX1 5).2.2.1 ∈ lw_all ∨ ∃ host, Cond.fieldLinkNest "LockstepRoom" 34 "LockstepRoom" (TX1 5).2.1 (TX1 5).2.2.1 host ∈ lw_tbl := Or.inl q382
theorem mo_J5_removeLast : MOk yJ5_removeLast 0 := by decide +kernel
theorem mi_J5_removeLast : MI yJ5_removeLast "java/util/ArrayDeque" cJ5_removeLast 2 (some (.object "java/lang/Object")) 0 := ⟨q405, q406, q120, q407, rfl, mo_J5_removeLast⟩
theorem mo_J5_size : MOk yJ5_size 0 := by decide +kernel
theorem mi_J5_size : MI yJ5_size "java/util/ArrayDeque" cJ5_size 1 (some .int) 0 := ⟨q419, q420, q120, q421, rfl, mo_J5_size⟩
theorem fo_X1_3_LockstepRoom : FieldOk "LockstepRoom" 0 3 RX1 TX1 6 := ⟨ct_X1, Nat.le_of_ble_eq_true rfl, Or.inl rfl⟩
theorem fl_LockstepRoom_70_X1 : Cond.fieldLink "LockstepRoom" 70 "LockstepRoom" (TX1 3).2.1 (TX1 3).2.2.1 ∈ lw_all ∨ ∃ host, Cond.fieldLinkNest "LockstepRoom" 70 "LockstepRoom" (TX1 3).2.1 (TX1 3).2.2.1 host ∈ lw_tbl := Or.inl q380
theorem bp_24 : (Int8.ofInt (24)).toInt32 = (24 : Int32) := by decide
theorem bp_20 : (Int8.ofInt (20)).toInt32 = (20 : Int32) := by decide
theorem bp_m3 : (Int8.ofInt (-3)).toInt32 = (-3 : Int32) := by decide
theorem fl_LockstepRoom_95_X2 : Cond.fieldLink "LockstepRoom" 95 "LockstepRoom$Room" (TX2 3).2.1 (TX2 3).2.2.1 ∈ lw_all ∨ ∃ host, Cond.fieldLinkNest "LockstepRoom" 95 "LockstepRoom$Room" (TX2 3).2.1 (TX2 3).2.2.1 host ∈ lw_tbl := Or.inr ⟨_, q298⟩
theorem mo_X1_members : MOk yX1_members 0 := by decide +kernel
theorem mi_X1_members : MI yX1_members "LockstepRoom" cX1_members 1 (some .int) 0 := ⟨q1577, qs28, q111, q1578, rfl, mo_X1_members⟩
theorem fl_LockstepRoom_112_X2 : Cond.fieldLink "LockstepRoom" 112 "LockstepRoom$Room" (TX2 4).2.1 (TX2 4).2.2.1 ∈ lw_all ∨ ∃ host, Cond.fieldLinkNest "LockstepRoom" 112 "LockstepRoom$Room" (TX2 4).2.1 (TX2 4).2.2.1 host ∈ lw_tbl := Or.inr ⟨_, q301⟩
theorem fl_LockstepRoom_121_X2 : Cond.fieldLink "LockstepRoom" 121 "LockstepRoom$Room" (TX2 5).2.1 (TX2 5).2.2.1 ∈ lw_all ∨ ∃ host, Cond.fieldLinkNest "LockstepRoom" 121 "LockstepRoom$Room" (TX2 5).2.1 (TX2 5).2.2.1 host ∈ lw_tbl := Or.inr ⟨_, q304⟩
theorem fl_LockstepRoom_128_X2 : Cond.fieldLink "LockstepRoom" 128 "LockstepRoom$Room" (TX2 6).2.1 (TX2 6).2.2.1 ∈ lw_all ∨ ∃ host, Cond.fieldLinkNest "LockstepRoom" 128 "LockstepRoom$Room" (TX2 6).2.1 (TX2 6).2.2.1 host ∈ lw_tbl := Or.inr ⟨_, q307⟩
theorem bp_m2 : (Int8.ofInt (-2)).toInt32 = (-2 : Int32) := by decide
theorem sw_out_0_1_2_3 {a : Int32} (h0 : ¬ a = 0) (h1 : ¬ a = 1) (h2 : ¬ a = 2) (h3 : ¬ a = 3) : a.toInt < 0 ∨ 3 < a.toInt := by
  have g0 : a.toInt ≠ 0 := sw_ne h0
  have g1 : a.toInt ≠ 1 := sw_ne h1
  have g2 : a.toInt ≠ 2 := sw_ne h2
  have g3 : a.toInt ≠ 3 := sw_ne h3
  omega
theorem fl_LockstepRoom_131_X10 : Cond.fieldLink "LockstepRoom" 131 "LockstepRoom$Member" (TX10 1).2.1 (TX10 1).2.2.1 ∈ lw_all ∨ ∃ host, Cond.fieldLinkNest "LockstepRoom" 131 "LockstepRoom$Member" (TX10 1).2.1 (TX10 1).2.2.1 host ∈ lw_tbl := Or.inr ⟨_, q1404⟩
theorem mo_X1_isSetting : MOk yX1_isSetting 1 := by decide +kernel
theorem ms_X1_isSetting : MS yX1_isSetting cX1_isSetting 1 (some .boolean) 1 := ⟨q1595, q111, q1596, mo_X1_isSetting⟩
theorem fl_LockstepRoom_162_X2 : Cond.fieldLink "LockstepRoom" 162 "LockstepRoom$Room" (TX2 2).2.1 (TX2 2).2.2.1 ∈ lw_all ∨ ∃ host, Cond.fieldLinkNest "LockstepRoom" 162 "LockstepRoom$Room" (TX2 2).2.1 (TX2 2).2.2.1 host ∈ lw_tbl := Or.inr ⟨_, q296⟩
theorem mo_X2_least : MOk yX2_least 0 := by decide +kernel
theorem mi_X2_least : MI yX2_least "LockstepRoom$Room" cX2_least 4 (some .int) 0 := ⟨q1970, q1971, q112, q1972, rfl, mo_X2_least⟩
theorem mo_X2_greatest : MOk yX2_greatest 0 := by decide +kernel
theorem mi_X2_greatest : MI yX2_greatest "LockstepRoom$Room" cX2_greatest 3 (some .int) 0 := ⟨q1965, q1966, q112, q1967, rfl, mo_X2_greatest⟩
theorem fl_LockstepRoom_145_X10 : Cond.fieldLink "LockstepRoom" 145 "LockstepRoom$Member" (TX10 5).2.1 (TX10 5).2.2.1 ∈ lw_all ∨ ∃ host, Cond.fieldLinkNest "LockstepRoom" 145 "LockstepRoom$Member" (TX10 5).2.1 (TX10 5).2.2.1 host ∈ lw_tbl := Or.inr ⟨_, q1416⟩
theorem fl_LockstepRoom_142_X10 : Cond.fieldLink "LockstepRoom" 142 "LockstepRoom$Member" (TX10 4).2.1 (TX10 4).2.2.1 ∈ lw_all ∨ ∃ host, Cond.fieldLinkNest "LockstepRoom" 142 "LockstepRoom$Member" (TX10 4).2.1 (TX10 4).2.2.1 host ∈ lw_tbl := Or.inr ⟨_, q1413⟩
theorem mo_X2_active : MOk yX2_active 0 := by decide +kernel
theorem mi_X2_active : MI yX2_active "LockstepRoom$Room" cX2_active 3 (some .int) 0 := ⟨q1978, q1979, q112, q1980, rfl, mo_X2_active⟩
theorem fl_LockstepRoom_166_X10 : Cond.fieldLink "LockstepRoom" 166 "LockstepRoom$Member" (TX10 3).2.1 (TX10 3).2.2.1 ∈ lw_all ∨ ∃ host, Cond.fieldLinkNest "LockstepRoom" 166 "LockstepRoom$Member" (TX10 3).2.1 (TX10 3).2.2.1 host ∈ lw_tbl := Or.inr ⟨_, q1409⟩
theorem mo_X2_truth : MOk yX2_truth 1 := by decide +kernel
theorem mi_X2_truth : MI yX2_truth "LockstepRoom$Room" cX2_truth 4 (some (.array .int)) 1 := ⟨q1986, q1987, q112, q1988, rfl, mo_X2_truth⟩
theorem mo_X2_copy : MOk yX2_copy 0 := by decide +kernel
theorem mi_X2_copy : MI yX2_copy "LockstepRoom$Room" cX2_copy 4 (some (.object "LockstepRoom$Room")) 0 := ⟨q2033, q2034, q112, q2035, rfl, mo_X2_copy⟩
theorem mo_J5_addLast : MOk yJ5_addLast 1 := by decide +kernel
theorem mi_J5_addLast : MI yJ5_addLast "java/util/ArrayDeque" cJ5_addLast 3 none 1 := ⟨q2434, q2435, q120, q2436, rfl, mo_J5_addLast⟩
theorem mo_X1_isMember : MOk yX1_isMember 1 := by decide +kernel
theorem mi_X1_isMember : MI yX1_isMember "LockstepRoom" cX1_isMember 2 (some .boolean) 1 := ⟨q2004, qs30, q111, q2005, rfl, mo_X1_isMember⟩
theorem mo_X1_isCell : MOk yX1_isCell 1 := by decide +kernel
theorem ms_X1_isCell : MS yX1_isCell cX1_isCell 1 (some .boolean) 1 := ⟨q2008, q111, q2009, mo_X1_isCell⟩
theorem mo_X8_isOperand : MOk yX8_isOperand 2 := by decide +kernel
theorem ms_X8_isOperand : MS yX8_isOperand cX8_isOperand 2 (some .boolean) 2 := ⟨q2012, q142, q2013, mo_X8_isOperand⟩
theorem mo_X1_remember : MOk yX1_remember 0 := by decide +kernel
theorem mi_X1_remember : MI yX1_remember "LockstepRoom" cX1_remember 1 none 0 := ⟨q2019, qs31, q111, q2020, rfl, mo_X1_remember⟩
theorem mo_X2_give : MOk yX2_give 4 := by decide +kernel
theorem mi_X2_give : MI yX2_give "LockstepRoom$Room" cX2_give 5 (some .int) 4 := ⟨q996, q997, q112, q998, rfl, mo_X2_give⟩
theorem bp_m4 : (Int8.ofInt (-4)).toInt32 = (-4 : Int32) := by decide
theorem bp_40 : (Int8.ofInt (40)).toInt32 = (40 : Int32) := by decide
theorem mo_X2_seal : MOk yX2_seal 0 := by decide +kernel
theorem mi_X2_seal : MI yX2_seal "LockstepRoom$Room" cX2_seal 3 (some .int) 0 := ⟨q1301, q1302, q112, q1303, rfl, mo_X2_seal⟩
theorem mo_X2_mayRun : MOk yX2_mayRun 2 := by decide +kernel
theorem mi_X2_mayRun : MI yX2_mayRun "LockstepRoom$Room" cX2_mayRun 3 (some .int) 2 := ⟨q2449, q2450, q112, q2451, rfl, mo_X2_mayRun⟩
theorem mo_X2_run : MOk yX2_run 2 := by decide +kernel
theorem mi_X2_run : MI yX2_run "LockstepRoom$Room" cX2_run 4 (some .int) 2 := ⟨q2455, q2456, q112, q2457, rfl, mo_X2_run⟩
theorem fl_LockstepRoom_139_X10 : Cond.fieldLink "LockstepRoom" 139 "LockstepRoom$Member" (TX10 2).2.1 (TX10 2).2.2.1 ∈ lw_all ∨ ∃ host, Cond.fieldLinkNest "LockstepRoom" 139 "LockstepRoom$Member" (TX10 2).2.1 (TX10 2).2.2.1 host ∈ lw_tbl := Or.inr ⟨_, q1406⟩
theorem df_X9 : ∀ j, j < 4 → defaultValue (tyX9 j) = vp_V [.int 0, .int 0, .int 0, .int 0] j := fun j hj => by rcases (show j = 0 ∨ j = 1 ∨ j = 2 ∨ j = 3 by omega) with rfl | rfl | rfl | rfl <;> rfl
theorem mo_X9_init : MOk yX9_init 4 := by decide +kernel
theorem mc_X9_init : MC yX9_init cX9_init 5 4 := ⟨q1324, q146, q1325, rfl, mo_X9_init⟩
theorem mo_X2_healAll : MOk yX2_healAll 0 := by decide +kernel
theorem mi_X2_healAll : MI yX2_healAll "LockstepRoom$Room" cX2_healAll 4 (some .int) 0 := ⟨q2553, q2554, q112, q2555, rfl, mo_X2_healAll⟩
theorem mo_X2_join : MOk yX2_join 2 := by decide +kernel
theorem mi_X2_join : MI yX2_join "LockstepRoom$Room" cX2_join 5 (some .int) 2 := ⟨q2565, q2566, q112, q2567, rfl, mo_X2_join⟩
theorem mo_X2_leave : MOk yX2_leave 1 := by decide +kernel
theorem mi_X2_leave : MI yX2_leave "LockstepRoom$Room" cX2_leave 4 none 1 := ⟨q2573, q2574, q112, q2575, rfl, mo_X2_leave⟩
theorem zl_LockstepRoom_350 : Cond.fieldLink "LockstepRoom" 350 "LockstepRoom" "SETTING_MOST" "[I" ∈ lw_all ∨ ∃ host, Cond.fieldLinkNest "LockstepRoom" 350 "LockstepRoom" "SETTING_MOST" "[I" host ∈ lw_tbl := Or.inl q2580
theorem sz_1 (E : Nat → Nat) : ("LockstepRoom", "SETTING_MOST", "[I", vv (aR (some (E 1)))) ∈ SZ E := List.mem_of_getElem? (i := 1) rfl
theorem mi_J7_length : MI yJ7_length "java/lang/StringBuilder" cJ7_length 1 (some .int) 0 := ⟨q636, q3576, q122, q637, rfl, mo_J7_length⟩
theorem mo_J7_charAt : MOk yJ7_charAt 1 := by decide +kernel
theorem mi_J7_charAt : MI yJ7_charAt "java/lang/StringBuilder" cJ7_charAt 2 (some .char) 1 := ⟨q2587, q2588, q122, q2589, rfl, mo_J7_charAt⟩
theorem mo_X1_requireIndex : MOk yX1_requireIndex 2 := by decide +kernel
theorem ms_X1_requireIndex : MS yX1_requireIndex cX1_requireIndex 2 none 2 := ⟨q2635, q111, q2636, mo_X1_requireIndex⟩
theorem mo_X1_memberAt : MOk yX1_memberAt 1 := by decide +kernel
theorem mi_X1_memberAt : MI yX1_memberAt "LockstepRoom" cX1_memberAt 2 (some (.object "LockstepRoom$Member")) 1 := ⟨q2632, qs40, q111, q2633, rfl, mo_X1_memberAt⟩
theorem fl_LockstepRoom_149_X10 : Cond.fieldLink "LockstepRoom" 149 "LockstepRoom$Member" (TX10 6).2.1 (TX10 6).2.2.1 ∈ lw_all ∨ ∃ host, Cond.fieldLinkNest "LockstepRoom" 149 "LockstepRoom$Member" (TX10 6).2.1 (TX10 6).2.2.1 host ∈ lw_tbl := Or.inr ⟨_, q1419⟩
theorem fl_LockstepRoom_152_X10 : Cond.fieldLink "LockstepRoom" 152 "LockstepRoom$Member" (TX10 7).2.1 (TX10 7).2.2.1 ∈ lw_all ∨ ∃ host, Cond.fieldLinkNest "LockstepRoom" 152 "LockstepRoom$Member" (TX10 7).2.1 (TX10 7).2.2.1 host ∈ lw_tbl := Or.inr ⟨_, q1422⟩
theorem fl_LockstepRoom_155_X10 : Cond.fieldLink "LockstepRoom" 155 "LockstepRoom$Member" (TX10 8).2.1 (TX10 8).2.2.1 ∈ lw_all ∨ ∃ host, Cond.fieldLinkNest "LockstepRoom" 155 "LockstepRoom$Member" (TX10 8).2.1 (TX10 8).2.2.1 host ∈ lw_tbl := Or.inr ⟨_, q1425⟩
theorem sw_out_0_1_2_3_4_5 {a : Int32} (h0 : ¬ a = 0) (h1 : ¬ a = 1) (h2 : ¬ a = 2) (h3 : ¬ a = 3) (h4 : ¬ a = 4) (h5 : ¬ a = 5) : a.toInt < 0 ∨ 5 < a.toInt := by
  have g0 : a.toInt ≠ 0 := sw_ne h0
  have g1 : a.toInt ≠ 1 := sw_ne h1
  have g2 : a.toInt ≠ 2 := sw_ne h2
  have g3 : a.toInt ≠ 3 := sw_ne h3
  have g4 : a.toInt ≠ 4 := sw_ne h4
  have g5 : a.toInt ≠ 5 := sw_ne h5
  omega
theorem mo_X1_turnAt : MOk yX1_turnAt 1 := by decide +kernel
theorem mi_X1_turnAt : MI yX1_turnAt "LockstepRoom" cX1_turnAt 2 (some (.array (.object "LockstepRoom$Command"))) 1 := ⟨q2668, qs41, q111, q2669, rfl, mo_X1_turnAt⟩
theorem fl_LockstepRoom_173_X8 : Cond.fieldLink "LockstepRoom" 173 "LockstepRoom$Command" (TX8 0).2.1 (TX8 0).2.2.1 ∈ lw_all ∨ ∃ host, Cond.fieldLinkNest "LockstepRoom" 173 "LockstepRoom$Command" (TX8 0).2.1 (TX8 0).2.2.1 host ∈ lw_tbl := Or.inr ⟨_, q1007⟩
theorem fl_LockstepRoom_178_X8 : Cond.fieldLink "LockstepRoom" 178 "LockstepRoom$Command" (TX8 2).2.1 (TX8 2).2.2.1 ∈ lw_all ∨ ∃ host, Cond.fieldLinkNest "LockstepRoom" 178 "LockstepRoom$Command" (TX8 2).2.1 (TX8 2).2.2.1 host ∈ lw_tbl := Or.inr ⟨_, q1012⟩
theorem fl_LockstepRoom_181_X8 : Cond.fieldLink "LockstepRoom" 181 "LockstepRoom$Command" (TX8 3).2.1 (TX8 3).2.2.1 ∈ lw_all ∨ ∃ host, Cond.fieldLinkNest "LockstepRoom" 181 "LockstepRoom$Command" (TX8 3).2.1 (TX8 3).2.2.1 host ∈ lw_tbl := Or.inr ⟨_, q1015⟩
theorem fl_LockstepRoom_184_X8 : Cond.fieldLink "LockstepRoom" 184 "LockstepRoom$Command" (TX8 4).2.1 (TX8 4).2.2.1 ∈ lw_all ∨ ∃ host, Cond.fieldLinkNest "LockstepRoom" 184 "LockstepRoom$Command" (TX8 4).2.1 (TX8 4).2.2.1 host ∈ lw_tbl := Or.inr ⟨_, q1018⟩
theorem fl_LockstepRoom_189_X9 : Cond.fieldLink "LockstepRoom" 189 "LockstepRoom$Fault" (TX9 0).2.1 (TX9 0).2.2.1 ∈ lw_all ∨ ∃ host, Cond.fieldLinkNest "LockstepRoom" 189 "LockstepRoom$Fault" (TX9 0).2.1 (TX9 0).2.2.1 host ∈ lw_tbl := Or.inr ⟨_, q1329⟩
theorem fl_LockstepRoom_191_X9 : Cond.fieldLink "LockstepRoom" 191 "LockstepRoom$Fault" (TX9 1).2.1 (TX9 1).2.2.1 ∈ lw_all ∨ ∃ host, Cond.fieldLinkNest "LockstepRoom" 191 "LockstepRoom$Fault" (TX9 1).2.1 (TX9 1).2.2.1 host ∈ lw_tbl := Or.inr ⟨_, q1332⟩
theorem fl_LockstepRoom_194_X9 : Cond.fieldLink "LockstepRoom" 194 "LockstepRoom$Fault" (TX9 2).2.1 (TX9 2).2.2.1 ∈ lw_all ∨ ∃ host, Cond.fieldLinkNest "LockstepRoom" 194 "LockstepRoom$Fault" (TX9 2).2.1 (TX9 2).2.2.1 host ∈ lw_tbl := Or.inr ⟨_, q1335⟩
theorem fl_LockstepRoom_195_X9 : Cond.fieldLink "LockstepRoom" 195 "LockstepRoom$Fault" (TX9 3).2.1 (TX9 3).2.2.1 ∈ lw_all ∨ ∃ host, Cond.fieldLinkNest "LockstepRoom" 195 "LockstepRoom$Fault" (TX9 3).2.1 (TX9 3).2.2.1 host ∈ lw_tbl := Or.inr ⟨_, q1338⟩
theorem fl_LockstepRoom_204_X11 : Cond.fieldLink "LockstepRoom" 204 "LockstepRoom$Tree" (TX11 0).2.1 (TX11 0).2.2.1 ∈ lw_all ∨ ∃ host, Cond.fieldLinkNest "LockstepRoom" 204 "LockstepRoom$Tree" (TX11 0).2.1 (TX11 0).2.2.1 host ∈ lw_tbl := Or.inr ⟨_, q1471⟩
theorem ct_X12 : CL[9]? = some (RX12, TX12, 5) := rfl
theorem ck_X12 : ClsOk RX12 TX12 5 tyX12 := ⟨in_X12, tyX12_ok, nmX12⟩
theorem fo_X12_4_LockstepRoom_Range : FieldOk "LockstepRoom$Range" 9 4 RX12 TX12 5 := ⟨ct_X12, Nat.le_of_ble_eq_true rfl, Or.inl rfl⟩
theorem fl_LockstepRoom_Range_3_X12 : Cond.fieldLink "LockstepRoom$Range" 3 "LockstepRoom$Range" (TX12 4).2.1 (TX12 4).2.2.1 ∈ lw_all ∨ ∃ host, Cond.fieldLinkNest "LockstepRoom$Range" 3 "LockstepRoom$Range" (TX12 4).2.1 (TX12 4).2.2.1 host ∈ lw_tbl := Or.inl q2735
theorem fo_X12_0_LockstepRoom_Range : FieldOk "LockstepRoom$Range" 9 0 RX12 TX12 5 := ⟨ct_X12, Nat.le_of_ble_eq_true rfl, Or.inl rfl⟩
theorem fl_LockstepRoom_Range_19_X12 : Cond.fieldLink "LockstepRoom$Range" 19 "LockstepRoom$Range" (TX12 0).2.1 (TX12 0).2.2.1 ∈ lw_all ∨ ∃ host, Cond.fieldLinkNest "LockstepRoom$Range" 19 "LockstepRoom$Range" (TX12 0).2.1 (TX12 0).2.2.1 host ∈ lw_tbl := Or.inl q2731
theorem fo_X12_1_LockstepRoom_Range : FieldOk "LockstepRoom$Range" 9 1 RX12 TX12 5 := ⟨ct_X12, Nat.le_of_ble_eq_true rfl, Or.inl rfl⟩
theorem fl_LockstepRoom_Range_23_X12 : Cond.fieldLink "LockstepRoom$Range" 23 "LockstepRoom$Range" (TX12 1).2.1 (TX12 1).2.2.1 ∈ lw_all ∨ ∃ host, Cond.fieldLinkNest "LockstepRoom$Range" 23 "LockstepRoom$Range" (TX12 1).2.1 (TX12 1).2.2.1 host ∈ lw_tbl := Or.inl q2732
theorem mo_X10_first : MOk yX10_first 0 := by decide +kernel
theorem mi_X10_first : MI yX10_first "LockstepRoom$Member" cX10_first 1 (some .int) 0 := ⟨q2718, q2719, q147, q2720, rfl, mo_X10_first⟩
theorem fo_X12_2_LockstepRoom_Range : FieldOk "LockstepRoom$Range" 9 2 RX12 TX12 5 := ⟨ct_X12, Nat.le_of_ble_eq_true rfl, Or.inl rfl⟩
theorem fl_LockstepRoom_Range_38_X12 : Cond.fieldLink "LockstepRoom$Range" 38 "LockstepRoom$Range" (TX12 2).2.1 (TX12 2).2.2.1 ∈ lw_all ∨ ∃ host, Cond.fieldLinkNest "LockstepRoom$Range" 38 "LockstepRoom$Range" (TX12 2).2.1 (TX12 2).2.2.1 host ∈ lw_tbl := Or.inl q2733
theorem fl_LockstepRoom_Range_42_X10 : Cond.fieldLink "LockstepRoom$Range" 42 "LockstepRoom$Member" (TX10 4).2.1 (TX10 4).2.2.1 ∈ lw_all ∨ ∃ host, Cond.fieldLinkNest "LockstepRoom$Range" 42 "LockstepRoom$Member" (TX10 4).2.1 (TX10 4).2.2.1 host ∈ lw_tbl := Or.inr ⟨_, q1411⟩
theorem fo_X12_3_LockstepRoom_Range : FieldOk "LockstepRoom$Range" 9 3 RX12 TX12 5 := ⟨ct_X12, Nat.le_of_ble_eq_true rfl, Or.inl rfl⟩
theorem fl_LockstepRoom_Range_48_X12 : Cond.fieldLink "LockstepRoom$Range" 48 "LockstepRoom$Range" (TX12 3).2.1 (TX12 3).2.2.1 ∈ lw_all ∨ ∃ host, Cond.fieldLinkNest "LockstepRoom$Range" 48 "LockstepRoom$Range" (TX12 3).2.1 (TX12 3).2.2.1 host ∈ lw_tbl := Or.inl q2734
theorem mo_X12_differsAt : MOk yX12_differsAt 1 := by decide +kernel
theorem mi_X12_differsAt : MI yX12_differsAt "LockstepRoom$Range" cX12_differsAt 2 (some .boolean) 1 := ⟨q2753, qs42, q155, q2754, rfl, mo_X12_differsAt⟩
theorem df_X12 : ∀ j, j < 5 → defaultValue (tyX12 j) = vp_V [va_rf none, va_rf none, .int 0, .int 0, va_rf none] j := fun j hj => by rcases (show j = 0 ∨ j = 1 ∨ j = 2 ∨ j = 3 ∨ j = 4 by omega) with rfl | rfl | rfl | rfl | rfl <;> rfl
theorem mo_X12_init : MOk yX12_init 3 := by decide +kernel
theorem mc_X12_init : MC yX12_init cX12_init 4 3 := ⟨q2713, q155, q2714, rfl, mo_X12_init⟩
theorem mo_X12_first : MOk yX12_first 0 := by decide +kernel
theorem mi_X12_first : MI yX12_first "LockstepRoom$Range" cX12_first 2 (some .int) 0 := ⟨q2748, q2749, q155, q2750, rfl, mo_X12_first⟩
theorem nz_2_Int32 : ¬ (2 : Int32) = 0 := by decide
theorem mo_X12_halve : MOk yX12_halve 0 := by decide +kernel
theorem mi_X12_halve : MI yX12_halve "LockstepRoom$Range" cX12_halve 2 (some .int) 0 := ⟨q2764, q2765, q155, q2766, rfl, mo_X12_halve⟩
theorem mo_X1_descent : MOk yX1_descent 2 := by decide +kernel
theorem mi_X1_descent : MI yX1_descent "LockstepRoom" cX1_descent 3 (some (.object "LockstepRoom$Descent")) 2 := ⟨q2783, qs43, q111, q2784, rfl, mo_X1_descent⟩
theorem fl_LockstepRoom_250_X13 : Cond.fieldLink "LockstepRoom" 250 "LockstepRoom$Descent" (TX13 2).2.1 (TX13 2).2.2.1 ∈ lw_all ∨ ∃ host, Cond.fieldLinkNest "LockstepRoom" 250 "LockstepRoom$Descent" (TX13 2).2.1 (TX13 2).2.2.1 host ∈ lw_tbl := Or.inr ⟨_, q2517⟩
theorem mo_X2_foresee : MOk yX2_foresee 2 := by decide +kernel
theorem mi_X2_foresee : MI yX2_foresee "LockstepRoom$Room" cX2_foresee 7 (some (.array .int)) 2 := ⟨q2858, q2859, q112, q2860, rfl, mo_X2_foresee⟩
theorem mo_X8_writes : MOk yX8_writes 1 := by decide +kernel
theorem mi_X8_writes : MI yX8_writes "LockstepRoom$Command" cX8_writes 2 (some .boolean) 1 := ⟨q2869, q2870, q142, q2871, rfl, mo_X8_writes⟩
abbrev rmX1_init : Room := { frames := 6, cells := 20, slots := 999, locals := 3140 }
theorem m_X1_init {S : Sx} (hS0 : Sok S) (v0 : Nat) (h : hH) (Q : hH → Prop) (hk : f_X1_init S.E v0 h Q) : Ct S yX1_init (ws_ yX1_init cX1_init 1 none) rmX1_init ([aR (some v0)].map vv) h (qV Q) := by
  refine Ct.of hS0 (by decide +kernel) rfl (Nat.le_of_ble_eq_true rfl) fun x hxS F hnm => ?_
  subst hxS
  unfold f_X1_init at hk
  have hM : 0 + 20 ≤ 20 := by omega
  have hS : 0 + 999 ≤ 999 := by omega
  refine G.widen (c' := 0 + 0) (k' := 0 + 0) (Nat.le_refl 0) (Nat.le_refl 0) ?_
  exact g_aload_n F dX1_init_0 rfl 0 rfl <|
g_objInit (rest := []) F dX1_init_1 q181 q182 q_objcode (Nat.le_of_ble_eq_true rfl) (Nat.le_of_ble_eq_true rfl) <|
g_aload_n F dX1_init_4 rfl 0 rfl <|
g_new (fs := [va_rf none, va_rf none, va_rf none, va_rf none, va_rf none, va_rf none, va_rf none, .int 0]) F dX1_init_5 ck_X2 ct_X2 q184 q185 q112 df_X2 (show 0 + 0 + 1 ≤ 20 by omega) (show 0 + 0 + 8 ≤ 999 by omega) hk fun q1 h2 hk =>
g_dup F dX1_init_8 rfl <|
g_callv (g_IN F dX1_init_9 q186 mc_X2_init (rm' := rmX2_init) ⟨Nat.le_of_ble_eq_true rfl, Nat.le_of_ble_eq_true rfl⟩ ⟨show 0 + 0 + 1 + 14 ≤ 20 by omega, show 0 + 0 + 8 + 51 ≤ 999 by omega⟩ (As := []) (rest := [aR (some q1), aR (some v0)]) rfl rfl (Nat.le_of_ble_eq_true rfl) (m_X2_init F.ok q1 h2 _ hk)) fun h3 hk =>
g_putV F dX1_init_12 fo_X1_0_LockstepRoom ck_X1 fl_LockstepRoom_10_X1 rfl (v := aR (some q1)) (fit_rf "LockstepRoom$Room" (some q1)) hk fun h4 hk =>
g_aload_n F dX1_init_15 rfl 0 rfl <|
g_new (fs := [va_rf none, .int 0, .int 0]) F dX1_init_16 ck_J5 ct_J5 q326 q327 q120 df_J5 (show 0 + 0 + 1 + 14 + 1 ≤ 20 by omega) (show 0 + 0 + 8 + 51 + 3 ≤ 999 by omega) hk fun q5 h6 hk =>
g_dup F dX1_init_19 rfl <|
g_callv (g_I F dX1_init_20 q328 mc_J5_init (rm' := rmJ5_init) ⟨Nat.le_of_ble_eq_true rfl, Nat.le_of_ble_eq_true rfl⟩ ⟨show 0 + 0 + 1 + 14 + 1 + 1 ≤ 20 by omega, show 0 + 0 + 8 + 51 + 3 + 17 ≤ 999 by omega⟩ (As := []) (rest := [aR (some q5), aR (some v0)]) rfl rfl (Nat.le_of_ble_eq_true rfl) (m_J5_init F.ok q5 h6 _ hk)) fun h7 hk =>
g_putF F dX1_init_23 fo_X1_1_LockstepRoom ck_X1 q377 rfl hnm rfl (v := aR (some q5)) (fit_rf "java/util/ArrayDeque" (some q5)) hk fun h8 hk =>
g_aload_n F dX1_init_26 rfl 0 rfl <|
g_sipush F dX1_init_27 sp_900 <|
g_newI (t := 1) F dX1_init_30 q375 rfl rfl rfl (Nat.le_of_ble_eq_true rfl) (Nat.le_of_ble_eq_true rfl) (show 0 + 0 + 1 + 14 + 1 + 1 + 1 ≤ 20 by omega) (show 0 + 0 + 8 + 51 + 3 + 17 + 900 ≤ 999 by omega) hk fun q9 h10 hk =>
g_putF F dX1_init_32 fo_X1_2_LockstepRoom ck_X1 q378 rfl hnm rfl (v := aR (some q9)) (fit_ra .byte (some q9)) hk fun h11 hk =>
g_aload_n F dX1_init_35 rfl 0 rfl <|
g_iconst F dX1_init_36 ic_m1 <|
g_putV F dX1_init_37 fo_X1_4_LockstepRoom ck_X1 fl_LockstepRoom_27_X1 rfl (v := aI (-1:Int32)) (fit_i (-1:Int32)) hk fun h12 hk =>
g_aload_n F dX1_init_40 rfl 0 rfl <|
g_new (fs := [va_rf none, .int 0, .int 0, .int 0]) F dX1_init_41 ck_J7 ct_J7 q343 q344 q122 df_J7 (show 0 + 0 + 1 + 14 + 1 + 1 + 1 + 1 ≤ 20 by omega) (show 0 + 0 + 8 + 51 + 3 + 17 + 900 + 4 ≤ 999 by omega) hk fun q13 h14 hk =>
g_dup F dX1_init_44 rfl <|
g_callv (g_I F dX1_init_45 q345 mc_J7_init (rm' := rmJ7_init) ⟨Nat.le_of_ble_eq_true rfl, Nat.le_of_ble_eq_true rfl⟩ ⟨show 0 + 0 + 1 + 14 + 1 + 1 + 1 + 1 + 1 ≤ 20 by omega, show 0 + 0 + 8 + 51 + 3 + 17 + 900 + 4 + 16 ≤ 999 by omega⟩ (As := []) (rest := [aR (some q13), aR (some v0)]) rfl rfl (Nat.le_of_ble_eq_true rfl) (m_J7_init F.ok q13 h14 _ hk)) fun h15 hk =>
g_putF F dX1_init_48 fo_X1_5_LockstepRoom ck_X1 q382 rfl hnm rfl (v := aR (some q13)) (fit_rf "java/lang/StringBuilder" (some q13)) hk fun h16 hk =>
g_vret F dX1_init_51 (show 0 + 0 + 1 + 14 + 1 + 1 + 1 + 1 + 1 ≤ 20 by omega) (show 0 + 0 + 8 + 51 + 3 + 17 + 900 + 4 + 16 ≤ 999 by omega) hk
abbrev rmX1_undo : Room := { frames := 5, cells := 0, slots := 0, locals := 105 }
theorem m_X1_undo {S : Sx} (hS0 : Sok S) (v0 : Nat) (h : hH) (Q : Int32 → hH → Prop) (hk : f_X1_undo S.E v0 h Q) : Ct S yX1_undo (ws_ yX1_undo cX1_undo 1 (some .int)) rmX1_undo ([aR (some v0)].map vv) h (qI Q) := by
  refine Ct.of hS0 (by decide +kernel) rfl (Nat.le_of_ble_eq_true rfl) fun x hxS F hnm => ?_
  subst hxS
  unfold f_X1_undo at hk
  exact g_aload_n F dX1_undo_0 rfl 0 rfl <|
g_getR F dX1_undo_1 fo_X1_1_LockstepRoom in_X1 fl_LockstepRoom_19_X1 hk fun x1 hk =>
g_calli0 (g_V F dX1_undo_4 q400 mi_J5_isEmpty ct_J5 (rm' := rmJ5_isEmpty) ⟨Nat.le_of_ble_eq_true rfl, Nat.le_of_ble_eq_true rfl⟩ ⟨Nat.le_refl 0, Nat.le_refl 0⟩ (As := []) (rest := []) rfl rfl (Nat.le_of_ble_eq_true rfl) hk (fun a4 hk => m_J5_isEmpty F.ok a4 h _ hk)) ⟨rfl, rfl⟩ fun x3 h2 hk =>
g_if_eq F dX1_undo_7 (tgt := 12) rfl (fun hc => have hk := hk.1 hc
g_aload_n F dX1_undo_12 rfl 0 rfl <|
g_aload_n F dX1_undo_13 rfl 0 rfl <|
g_getR F dX1_undo_14 fo_X1_1_LockstepRoom in_X1 fl_LockstepRoom_19_X1 hk fun x5 hk =>
g_callr0 (g_V F dX1_undo_17 q404 mi_J5_removeLast ct_J5 (rm' := rmJ5_removeLast) ⟨Nat.le_of_ble_eq_true rfl, Nat.le_of_ble_eq_true rfl⟩ ⟨Nat.le_refl 0, Nat.le_refl 0⟩ (As := []) (rest := [aR (some v0)]) rfl rfl (Nat.le_of_ble_eq_true rfl) hk (fun a8 hk => m_J5_removeLast F.ok a8 h2 _ hk)) ⟨rfl, rfl⟩ fun x7 h6 hk =>
g_castS F dX1_undo_20 q184 ct_X2 hk fun hk =>
g_putV F dX1_undo_23 fo_X1_0_LockstepRoom ck_X1 fl_LockstepRoom_10_X1 rfl (v := aR x7) (fit_rf "LockstepRoom$Room" x7) hk fun h9 hk =>
g_aload_n F dX1_undo_26 rfl 0 rfl <|
g_getR F dX1_undo_27 fo_X1_1_LockstepRoom in_X1 fl_LockstepRoom_19_X1 hk fun x10 hk =>
g_calli0 (g_V F dX1_undo_30 q418 mi_J5_size ct_J5 (rm' := rmJ5_size) ⟨Nat.le_of_ble_eq_true rfl, Nat.le_of_ble_eq_true rfl⟩ ⟨Nat.le_refl 0, Nat.le_refl 0⟩ (As := []) (rest := []) rfl rfl (Nat.le_of_ble_eq_true rfl) hk (fun a13 hk => m_J5_size F.ok a13 h9 _ hk)) ⟨rfl, rfl⟩ fun x12 h11 hk =>
g_iret F dX1_undo_33 (Nat.le_refl 0) (Nat.le_refl 0) hk) (fun hc => have hk := hk.2 hc
g_iconst F dX1_undo_10 ic_m1 <|
g_iret F dX1_undo_11 (Nat.le_refl 0) (Nat.le_refl 0) hk)
abbrev rmX1_undoCount : Room := { frames := 4, cells := 0, slots := 0, locals := 82 }
theorem m_X1_undoCount {S : Sx} (hS0 : Sok S) (v0 : Nat) (h : hH) (Q : Int32 → hH → Prop) (hk : f_X1_undoCount S.E v0 h Q) : Ct S yX1_undoCount (ws_ yX1_undoCount cX1_undoCount 1 (some .int)) rmX1_undoCount ([aR (some v0)].map vv) h (qI Q) := by
  refine Ct.of hS0 (by decide +kernel) rfl (Nat.le_of_ble_eq_true rfl) fun x hxS F hnm => ?_
  subst hxS
  unfold f_X1_undoCount at hk
  exact g_aload_n F dX1_undoCount_0 rfl 0 rfl <|
g_getR F dX1_undoCount_1 fo_X1_1_LockstepRoom in_X1 fl_LockstepRoom_19_X1 hk fun x1 hk =>
g_calli0 (g_V F dX1_undoCount_4 q418 mi_J5_size ct_J5 (rm' := rmJ5_size) ⟨Nat.le_of_ble_eq_true rfl, Nat.le_of_ble_eq_true rfl⟩ ⟨Nat.le_refl 0, Nat.le_refl 0⟩ (As := []) (rest := []) rfl rfl (Nat.le_of_ble_eq_true rfl) hk (fun a4 hk => m_J5_size F.ok a4 h _ hk)) ⟨rfl, rfl⟩ fun x3 h2 hk =>
g_iret F dX1_undoCount_7 (Nat.le_refl 0) (Nat.le_refl 0) hk
abbrev rmX1_feed : Room := { frames := 2, cells := 1, slots := 5, locals := 40 }
theorem s_X1_feed_l69 {x : Cx} (F : Fx x cX1_feed "LockstepRoom" 11 (some .int) rmX1_feed) {v0 : Nat} {Q : Int32 → hH → Prop} {K105 : Option Nat → Int32 → Int32 → hH → Prop} {ce ke : Nat} (hM2 : ce ≤ 1) (hS2 : ke ≤ 5) (n : Nat) (l6 : Option Nat) (l7 : Int32) (l8 : Int32) (l9 : Int32) (l10 : Int32) (h : hH) (cb kb : Nat) (hM0 : cb + n * 0 ≤ ce) (hS0 : kb + n * 0 ≤ ke) (hk : f_X1_feed_l69 x.S.E v0 Q K105 n l6 l7 l8 l9 l10 h) (hK105 : ∀ (l6 : Option Nat) (l7 : Int32) (l8 : Int32) (h : hH), K105 l6 l7 l8 h → G x (xQ x rmX1_feed (qI Q)) 105 [(0, aR (some v0)), (6, aR l6), (7, aI l7), (8, aI l8)] [] h ce ke) : G x (xQ x rmX1_feed (qI Q)) 69 [(0, aR (some v0)), (6, aR l6), (7, aI l7), (8, aI l8), (9, aI l9), (10, aI l10)] [] h cb kb := by
  induction n generalizing l6 l7 l8 l9 l10 h cb kb with
  | zero => exact False.elim hk
  | succ n ih =>
    have hM : cb + 0 ≤ ce := by omega
    have hS : kb + 0 ≤ ke := by omega
    unfold f_X1_feed_l69 at hk
    exact G.widen (c' := cb + 0) (k' := kb + 0) (Nat.le_refl _) (Nat.le_refl _) <| g_iload F dX1_feed_69 5 rfl <|
g_if_lt F dX1_feed_71 (tgt := 105) rfl (fun hc => have hk := hk.1 hc
G.fewer [0, 1, 2, 3] rfl <| G.widen (show cb + 0 ≤ ce by omega) (show kb + 0 ≤ ke by omega) <| hK105 l6 l7 l8 h hk) (fun hc => have hk := hk.2 hc
g_aload_n F dX1_feed_74 rfl 0 rfl <|
g_getR F dX1_feed_75 fo_X1_2_LockstepRoom in_X1 fl_LockstepRoom_23_X1 hk fun x1 hk =>
g_aload_n F dX1_feed_78 rfl 0 rfl <|
g_getI F dX1_feed_79 fo_X1_3_LockstepRoom in_X1 fl_LockstepRoom_70_X1 hk fun x2 hk =>
g_iload F dX1_feed_82 4 rfl <|
g_iload F dX1_feed_84 5 rfl <|
g_iushr F dX1_feed_86 <|
g_i2b F dX1_feed_87 <|
g_bast F dX1_feed_88 hk fun h3 hk =>
g_aload_n F dX1_feed_89 rfl 0 rfl <|
g_dup F dX1_feed_90 rfl <|
g_getI F dX1_feed_91 fo_X1_3_LockstepRoom in_X1 fl_LockstepRoom_70_X1 hk fun x4 hk =>
g_iconst F dX1_feed_94 ic_1 <|
g_iadd F dX1_feed_95 <|
g_putV F dX1_feed_96 fo_X1_3_LockstepRoom ck_X1 fl_LockstepRoom_70_X1 rfl (v := aI (x4 + (1:Int32))) (fit_i (x4 + (1:Int32))) hk fun h5 hk =>
g_iinc (v := (l10 + (-8:Int32))) F dX1_feed_99 (j := 5) rfl (iinc_m8 l10) (Nat.le_of_ble_eq_true rfl) rfl <|
g_goto F dX1_feed_102 (tgt := 69) rfl <|
G.fewer [1, 2, 3, 4, 5, 0] rfl <| (fun l6 l7 l8 l9 l10 h hk => ih l6 l7 l8 l9 l10 h (cb + 0) (kb + 0) (by omega) (by omega) hk) l6 l7 l8 l9 (l10 + (-8:Int32)) h5 hk)
theorem s_X1_feed_l51 {x : Cx} (F : Fx x cX1_feed "LockstepRoom" 11 (some .int) rmX1_feed) {v0 : Nat} {Q : Int32 → hH → Prop} {K111 : hH → Prop} {ce ke : Nat} (hM2 : ce ≤ 1) (hS2 : ke ≤ 5) (n : Nat) (l6 : Option Nat) (l7 : Int32) (l8 : Int32) (h : hH) (cb kb : Nat) (hM0 : cb + n * 0 ≤ ce) (hS0 : kb + n * 0 ≤ ke) (hk : f_X1_feed_l51 x.S.E v0 Q K111 n l6 l7 l8 h) (hK111 : ∀ (h : hH), K111 h → G x (xQ x rmX1_feed (qI Q)) 111 [(0, aR (some v0))] [] h ce ke) : G x (xQ x rmX1_feed (qI Q)) 51 [(0, aR (some v0)), (6, aR l6), (7, aI l7), (8, aI l8)] [] h cb kb := by
  induction n generalizing l6 l7 l8 h cb kb with
  | zero => exact False.elim hk
  | succ n ih =>
    have hM : cb + 0 ≤ ce := by omega
    have hS : kb + 0 ≤ ke := by omega
    unfold f_X1_feed_l51 at hk
    exact G.widen (c' := cb + 0) (k' := kb + 0) (Nat.le_refl _) (Nat.le_refl _) <| g_iload F dX1_feed_51 3 rfl <|
g_iload F dX1_feed_53 2 rfl <|
g_icmp_ge F dX1_feed_55 (tgt := 111) rfl (fun hc => have hk := hk.1 hc
G.fewer [0] rfl <| G.widen (show cb + 0 ≤ ce by omega) (show kb + 0 ≤ ke by omega) <| hK111 h hk) (fun hc => have hk := hk.2 hc
g_aload F dX1_feed_58 1 rfl <|
g_iload F dX1_feed_60 3 rfl <|
g_iald F dX1_feed_62 hk fun x6 hk =>
g_istore F dX1_feed_63 (Nat.le_of_ble_eq_true rfl) rfl <|
g_bipush F dX1_feed_65 bp_24 <|
g_istore F dX1_feed_67 (Nat.le_of_ble_eq_true rfl) rfl <|
G.fewer [2, 3, 4, 5, 1, 0] rfl <| s_X1_feed_l69 F (ce := cb + 0) (ke := kb + 0) (show cb + 0 ≤ 1 by omega) (show kb + 0 ≤ 5 by omega) 1000000 l6 l7 l8 x6 (24:Int32) h (cb + 0) (kb + 0) (show cb + 0 + 1000000 * 0 ≤ cb + 0 by omega) (show kb + 0 + 1000000 * 0 ≤ kb + 0 by omega) hk ((fun l6 l7 l8 h hk => g_iinc (v := (l8 + (1:Int32))) F dX1_feed_105 (j := 3) rfl (iinc_1 l8) (Nat.le_of_ble_eq_true rfl) rfl <|
g_goto F dX1_feed_108 (tgt := 51) rfl <|
G.fewer [1, 2, 3, 0] rfl <| (fun l6 l7 l8 h hk => ih l6 l7 l8 h (cb + 0) (kb + 0) (by omega) (by omega) hk) l6 l7 (l8 + (1:Int32)) h hk)))
theorem m_X1_feed {S : Sx} (hS0 : Sok S) (v0 : Nat) (v1 : Int32) (v2 : Int32) (v3 : Int32) (v4 : Int32) (v5 : Int32) (h : hH) (Q : Int32 → hH → Prop) (hk : f_X1_feed S.E v0 v1 v2 v3 v4 v5 h Q) : Ct S yX1_feed (ws_ yX1_feed cX1_feed 11 (some .int)) rmX1_feed ([aR (some v0), aI v1, aI v2, aI v3, aI v4, aI v5].map vv) h (qI Q) := by
  refine Ct.of hS0 (by decide +kernel) rfl (Nat.le_of_ble_eq_true rfl) fun x hxS F hnm => ?_
  subst hxS
  unfold f_X1_feed at hk
  have hM : 0 + 1 ≤ 1 := by omega
  have hS : 0 + 5 ≤ 5 := by omega
  refine G.widen (c' := 0 + 0) (k' := 0 + 0) (Nat.le_refl 0) (Nat.le_refl 0) ?_
  exact g_aload_n F dX1_feed_0 rfl 0 rfl <|
g_getI F dX1_feed_1 fo_X1_3_LockstepRoom in_X1 fl_LockstepRoom_70_X1 hk fun x7 hk =>
g_bipush F dX1_feed_4 bp_20 <|
g_iadd F dX1_feed_6 <|
g_sipush F dX1_feed_7 sp_900 <|
g_icmp_le F dX1_feed_10 (tgt := 16) rfl (fun hc => have hk := hk.1 hc
g_iconst F dX1_feed_16 ic_5 <|
g_newI (t := 0) F dX1_feed_17 q256 rfl rfl rfl (Nat.le_of_ble_eq_true rfl) (Nat.le_of_ble_eq_true rfl) (show 0 + 0 + 1 ≤ 1 by omega) (show 0 + 0 + 5 ≤ 5 by omega) hk fun q8 h9 hk =>
g_dup F dX1_feed_19 rfl <|
g_iconst F dX1_feed_20 ic_0 <|
g_iload_n F dX1_feed_21 rfl 1 rfl <|
g_iast F dX1_feed_22 hk fun h10 hk =>
g_dup F dX1_feed_23 rfl <|
g_iconst F dX1_feed_24 ic_1 <|
g_iload_n F dX1_feed_25 rfl 2 rfl <|
g_iast F dX1_feed_26 hk fun h11 hk =>
g_dup F dX1_feed_27 rfl <|
g_iconst F dX1_feed_28 ic_2 <|
g_iload_n F dX1_feed_29 rfl 3 rfl <|
g_iast F dX1_feed_30 hk fun h12 hk =>
g_dup F dX1_feed_31 rfl <|
g_iconst F dX1_feed_32 ic_3 <|
g_iload F dX1_feed_33 4 rfl <|
g_iast F dX1_feed_35 hk fun h13 hk =>
g_dup F dX1_feed_36 rfl <|
g_iconst F dX1_feed_37 ic_4 <|
g_iload F dX1_feed_38 5 rfl <|
g_iast F dX1_feed_40 hk fun h14 hk =>
g_astore F dX1_feed_41 (Nat.le_of_ble_eq_true rfl) rfl <|
g_aload F dX1_feed_43 0 rfl <|
g_alen (t := 0) F dX1_feed_45 rfl hk fun x15 hk =>
g_istore F dX1_feed_46 (Nat.le_of_ble_eq_true rfl) rfl <|
g_iconst F dX1_feed_48 ic_0 <|
g_istore F dX1_feed_49 (Nat.le_of_ble_eq_true rfl) rfl <|
G.fewer [3, 2, 1, 0] rfl <| G.widen (show 0 + 0 + 1 ≤ 0 + 1 by omega) (show 0 + 0 + 5 ≤ 0 + 5 by omega) <| s_X1_feed_l51 F (ce := 0 + 1) (ke := 0 + 5) (show 0 + 1 ≤ 1 by omega) (show 0 + 5 ≤ 5 by omega) 1000000 (some q8) x15 (0:Int32) h14 (0 + 1) (0 + 5) (show 0 + 1 + 1000000 * 0 ≤ 0 + 1 by omega) (show 0 + 5 + 1000000 * 0 ≤ 0 + 5 by omega) hk ((fun h hk => g_aload_n F dX1_feed_111 rfl 0 rfl <|
g_getI F dX1_feed_112 fo_X1_3_LockstepRoom in_X1 fl_LockstepRoom_70_X1 hk fun x16 hk =>
g_iret F dX1_feed_115 (show 0 + 1 ≤ 1 by omega) (show 0 + 5 ≤ 5 by omega) hk))) (fun hc => have hk := hk.2 hc
g_bipush F dX1_feed_13 bp_m3 <|
g_iret F dX1_feed_15 (show 0 + 0 ≤ 1 by omega) (show 0 + 0 ≤ 5 by omega) hk)
abbrev rmX1_errorPosition : Room := { frames := 2, cells := 0, slots := 0, locals := 40 }
theorem m_X1_errorPosition {S : Sx} (hS0 : Sok S) (v0 : Nat) (h : hH) (Q : Int32 → hH → Prop) (hk : f_X1_errorPosition S.E v0 h Q) : Ct S yX1_errorPosition (ws_ yX1_errorPosition cX1_errorPosition 1 (some .int)) rmX1_errorPosition ([aR (some v0)].map vv) h (qI Q) := by
  refine Ct.of hS0 (by decide +kernel) rfl (Nat.le_of_ble_eq_true rfl) fun x hxS F hnm => ?_
  subst hxS
  unfold f_X1_errorPosition at hk
  exact g_aload_n F dX1_errorPosition_0 rfl 0 rfl <|
g_getI F dX1_errorPosition_1 fo_X1_4_LockstepRoom in_X1 fl_LockstepRoom_27_X1 hk fun x1 hk =>
g_iret F dX1_errorPosition_4 (Nat.le_refl 0) (Nat.le_refl 0) hk
abbrev rmX1_members : Room := { frames := 3, cells := 0, slots := 0, locals := 60 }
theorem m_X1_members {S : Sx} (hS0 : Sok S) (v0 : Nat) (h : hH) (Q : Int32 → hH → Prop) (hk : f_X1_members S.E v0 h Q) : Ct S yX1_members (ws_ yX1_members cX1_members 1 (some .int)) rmX1_members ([aR (some v0)].map vv) h (qI Q) := by
  refine Ct.of hS0 (by decide +kernel) rfl (Nat.le_of_ble_eq_true rfl) fun x hxS F hnm => ?_
  subst hxS
  unfold f_X1_members at hk
  exact g_aload_n F dX1_members_0 rfl 0 rfl <|
g_getR F dX1_members_1 fo_X1_0_LockstepRoom in_X1 fl_LockstepRoom_10_X1 hk fun x1 hk =>
g_getR F dX1_members_4 fo_X2_3_LockstepRoom_Room in_X2 fl_LockstepRoom_95_X2 hk fun x2 hk =>
g_calli0 (g_V F dX1_members_7 q1579 mi_J2_size ct_J2 (rm' := rmJ2_size) ⟨Nat.le_of_ble_eq_true rfl, Nat.le_of_ble_eq_true rfl⟩ ⟨Nat.le_refl 0, Nat.le_refl 0⟩ (As := []) (rest := []) rfl rfl (Nat.le_of_ble_eq_true rfl) hk (fun a5 hk => m_J2_size F.ok a5 h _ hk)) ⟨rfl, rfl⟩ fun x4 h3 hk =>
g_iret F dX1_members_10 (Nat.le_refl 0) (Nat.le_refl 0) hk
abbrev rmX1_count : Room := { frames := 4, cells := 0, slots := 0, locals := 80 }
theorem m_X1_count {S : Sx} (hS0 : Sok S) (v0 : Nat) (v1 : Int32) (h : hH) (Q : Int32 → hH → Prop) (hk : f_X1_count S.E v0 v1 h Q) : Ct S yX1_count (ws_ yX1_count cX1_count 2 (some .int)) rmX1_count ([aR (some v0), aI v1].map vv) h (qI Q) := by
  refine Ct.of hS0 (by decide +kernel) rfl (Nat.le_of_ble_eq_true rfl) fun x hxS F hnm => ?_
  subst hxS
  unfold f_X1_count at hk
  exact g_iload_n F dX1_count_0 rfl 1 rfl <|
if hc0 : v1 = (0:Int32) then (have hk := hk.1 hc0
g_tableIn (tgt := 32) (off := 31) F dX1_count_1 (by rw [hc0]; decide) (by rw [hc0]; decide) (by rw [hc0]; rfl) rfl <|
g_aload_n F dX1_count_32 rfl 0 rfl <|
g_calli0 (g_V F dX1_count_33 q1575 mi_X1_members ct_X1 (rm' := rmX1_members) ⟨Nat.le_of_ble_eq_true rfl, Nat.le_of_ble_eq_true rfl⟩ ⟨Nat.le_refl 0, Nat.le_refl 0⟩ (As := []) (rest := []) rfl rfl (Nat.le_of_ble_eq_true rfl) hk (fun a3 hk => m_X1_members F.ok a3 h _ hk)) ⟨rfl, rfl⟩ fun x2 h1 hk =>
g_goto F dX1_count_36 (tgt := 80) rfl <|
g_iret F dX1_count_80 (Nat.le_refl 0) (Nat.le_refl 0) hk) else have hk := hk.2 hc0
if hc1 : v1 = (1:Int32) then (have hk := hk.1 hc1
g_tableIn (tgt := 39) (off := 38) F dX1_count_1 (by rw [hc1]; decide) (by rw [hc1]; decide) (by rw [hc1]; rfl) rfl <|
g_aload_n F dX1_count_39 rfl 0 rfl <|
g_getR F dX1_count_40 fo_X1_0_LockstepRoom in_X1 fl_LockstepRoom_10_X1 hk fun x4 hk =>
g_getR F dX1_count_43 fo_X2_4_LockstepRoom_Room in_X2 fl_LockstepRoom_112_X2 hk fun x5 hk =>
g_calli0 (g_V F dX1_count_46 q1579 mi_J2_size ct_J2 (rm' := rmJ2_size) ⟨Nat.le_of_ble_eq_true rfl, Nat.le_of_ble_eq_true rfl⟩ ⟨Nat.le_refl 0, Nat.le_refl 0⟩ (As := []) (rest := []) rfl rfl (Nat.le_of_ble_eq_true rfl) hk (fun a8 hk => m_J2_size F.ok a8 h _ hk)) ⟨rfl, rfl⟩ fun x7 h6 hk =>
g_goto F dX1_count_49 (tgt := 80) rfl <|
g_iret F dX1_count_80 (Nat.le_refl 0) (Nat.le_refl 0) hk) else have hk := hk.2 hc1
if hc2 : v1 = (2:Int32) then (have hk := hk.1 hc2
g_tableIn (tgt := 52) (off := 51) F dX1_count_1 (by rw [hc2]; decide) (by rw [hc2]; decide) (by rw [hc2]; rfl) rfl <|
g_aload_n F dX1_count_52 rfl 0 rfl <|
g_getR F dX1_count_53 fo_X1_0_LockstepRoom in_X1 fl_LockstepRoom_10_X1 hk fun x9 hk =>
g_getR F dX1_count_56 fo_X2_5_LockstepRoom_Room in_X2 fl_LockstepRoom_121_X2 hk fun x10 hk =>
g_calli0 (g_V F dX1_count_59 q1580 mi_J4_size ct_J4 (rm' := rmJ4_size) ⟨Nat.le_of_ble_eq_true rfl, Nat.le_of_ble_eq_true rfl⟩ ⟨Nat.le_refl 0, Nat.le_refl 0⟩ (As := []) (rest := []) rfl rfl (Nat.le_of_ble_eq_true rfl) hk (fun a13 hk => m_J4_size F.ok a13 h _ hk)) ⟨rfl, rfl⟩ fun x12 h11 hk =>
g_goto F dX1_count_62 (tgt := 80) rfl <|
g_iret F dX1_count_80 (Nat.le_refl 0) (Nat.le_refl 0) hk) else have hk := hk.2 hc2
if hc3 : v1 = (3:Int32) then (have hk := hk.1 hc3
g_tableIn (tgt := 65) (off := 64) F dX1_count_1 (by rw [hc3]; decide) (by rw [hc3]; decide) (by rw [hc3]; rfl) rfl <|
g_aload_n F dX1_count_65 rfl 0 rfl <|
g_getR F dX1_count_66 fo_X1_0_LockstepRoom in_X1 fl_LockstepRoom_10_X1 hk fun x14 hk =>
g_getR F dX1_count_69 fo_X2_6_LockstepRoom_Room in_X2 fl_LockstepRoom_128_X2 hk fun x15 hk =>
g_calli0 (g_V F dX1_count_72 q1579 mi_J2_size ct_J2 (rm' := rmJ2_size) ⟨Nat.le_of_ble_eq_true rfl, Nat.le_of_ble_eq_true rfl⟩ ⟨Nat.le_refl 0, Nat.le_refl 0⟩ (As := []) (rest := []) rfl rfl (Nat.le_of_ble_eq_true rfl) hk (fun a18 hk => m_J2_size F.ok a18 h _ hk)) ⟨rfl, rfl⟩ fun x17 h16 hk =>
g_goto F dX1_count_75 (tgt := 80) rfl <|
g_iret F dX1_count_80 (Nat.le_refl 0) (Nat.le_refl 0) hk) else have hk := hk.2 hc3
g_tableOut (tgt := 78) F dX1_count_1 (sw_out_0_1_2_3 hc0 hc1 hc2 hc3) rfl <|
g_bipush F dX1_count_78 bp_m2 <|
g_iret F dX1_count_80 (Nat.le_refl 0) (Nat.le_refl 0) hk
abbrev rmX1_memberNamed : Room := { frames := 6, cells := 0, slots := 0, locals := 125 }
theorem s_X1_memberNamed_l2 {x : Cx} (F : Fx x cX1_memberNamed "LockstepRoom" 3 (some .int) rmX1_memberNamed) {v0 : Nat} {Q : Int32 → hH → Prop} {K29 : Int32 → hH → Prop} {K37 : hH → Prop} (n : Nat) (l1 : Int32) (l2 : Int32) (h : hH) (hk : f_X1_memberNamed_l2 x.S.E v0 Q K29 K37 n l1 l2 h) (hK29 : ∀ (l2 : Int32) (h : hH), K29 l2 h → G x (xQ x rmX1_memberNamed (qI Q)) 29 [(2, aI l2)] [] h 0 0) (hK37 : ∀ (h : hH), K37 h → G x (xQ x rmX1_memberNamed (qI Q)) 37 [] [] h 0 0) : G x (xQ x rmX1_memberNamed (qI Q)) 2 [(0, aR (some v0)), (1, aI l1), (2, aI l2)] [] h 0 0 := by
  induction n generalizing l1 l2 h with
  | zero => exact False.elim hk
  | succ n ih =>
    unfold f_X1_memberNamed_l2 at hk
    exact g_iload_n F dX1_memberNamed_2 rfl 2 rfl <|
g_aload_n F dX1_memberNamed_3 rfl 0 rfl <|
g_calli0 (g_V F dX1_memberNamed_4 q1575 mi_X1_members ct_X1 (rm' := rmX1_members) ⟨Nat.le_of_ble_eq_true rfl, Nat.le_of_ble_eq_true rfl⟩ ⟨Nat.le_refl 0, Nat.le_refl 0⟩ (As := []) (rest := [aI l2]) rfl rfl (Nat.le_of_ble_eq_true rfl) hk (fun a3 hk => m_X1_members F.ok a3 h _ hk)) ⟨rfl, rfl⟩ fun x2 h1 hk =>
g_icmp_ge F dX1_memberNamed_7 (tgt := 37) rfl (fun hc => have hk := hk.1 hc
G.fewer [] rfl <| hK37 h1 hk) (fun hc => have hk := hk.2 hc
g_iload_n F dX1_memberNamed_10 rfl 1 rfl <|
g_if_eq F dX1_memberNamed_11 (tgt := 31) rfl (fun hc => have hk := hk.1 hc
g_iinc (v := (l2 + (1:Int32))) F dX1_memberNamed_31 (j := 2) rfl (iinc_1 l2) (Nat.le_of_ble_eq_true rfl) rfl <|
g_goto F dX1_memberNamed_34 (tgt := 2) rfl <|
G.fewer [1, 2, 0] rfl <| ih l1 (l2 + (1:Int32)) h1 hk) (fun hc => have hk := hk.2 hc
g_aload_n F dX1_memberNamed_14 rfl 0 rfl <|
g_getR F dX1_memberNamed_15 fo_X1_0_LockstepRoom in_X1 fl_LockstepRoom_10_X1 hk fun x4 hk =>
g_iload_n F dX1_memberNamed_18 rfl 2 rfl <|
g_callr0 (g_V F dX1_memberNamed_19 q1585 mi_X2_member ct_X2 (rm' := rmX2_member) ⟨Nat.le_of_ble_eq_true rfl, Nat.le_of_ble_eq_true rfl⟩ ⟨Nat.le_refl 0, Nat.le_refl 0⟩ (As := [aI l2]) (rest := []) rfl rfl (Nat.le_of_ble_eq_true rfl) hk (fun a7 hk => m_X2_member F.ok a7 l2 h1 _ hk)) ⟨rfl, rfl⟩ fun x6 h5 hk =>
g_getI F dX1_memberNamed_22 fo_X10_1_LockstepRoom_Member in_X10 fl_LockstepRoom_131_X10 hk fun x8 hk =>
g_iload_n F dX1_memberNamed_25 rfl 1 rfl <|
g_icmp_ne F dX1_memberNamed_26 (tgt := 31) rfl (fun hc => have hk := hk.2 hc
g_iinc (v := (l2 + (1:Int32))) F dX1_memberNamed_31 (j := 2) rfl (iinc_1 l2) (Nat.le_of_ble_eq_true rfl) rfl <|
g_goto F dX1_memberNamed_34 (tgt := 2) rfl <|
G.fewer [1, 2, 0] rfl <| ih l1 (l2 + (1:Int32)) h5 hk) (fun hc => have hk := hk.1 hc
G.fewer [2] rfl <| hK29 l2 h5 hk)))
theorem m_X1_memberNamed {S : Sx} (hS0 : Sok S) (v0 : Nat) (v1 : Int32) (h : hH) (Q : Int32 → hH → Prop) (hk : f_X1_memberNamed S.E v0 v1 h Q) : Ct S yX1_memberNamed (ws_ yX1_memberNamed cX1_memberNamed 3 (some .int)) rmX1_memberNamed ([aR (some v0), aI v1].map vv) h (qI Q) := by
  refine Ct.of hS0 (by decide +kernel) rfl (Nat.le_of_ble_eq_true rfl) fun x hxS F hnm => ?_
  subst hxS
  unfold f_X1_memberNamed at hk
  exact g_iconst F dX1_memberNamed_0 ic_0 <|
g_istore_n F dX1_memberNamed_1 rfl (Nat.le_of_ble_eq_true rfl) rfl <|
G.fewer [1, 2, 0] rfl <| s_X1_memberNamed_l2 F 1000000 v1 (0:Int32) h hk ((fun l2 h hk => g_iload_n F dX1_memberNamed_29 rfl 0 rfl <|
g_iret F dX1_memberNamed_30 (Nat.le_refl 0) (Nat.le_refl 0) hk)) ((fun h hk => g_iconst F dX1_memberNamed_37 ic_m1 <|
g_iret F dX1_memberNamed_38 (Nat.le_refl 0) (Nat.le_refl 0) hk))
abbrev rmX1_isSetting : Room := { frames := 2, cells := 0, slots := 0, locals := 40 }
theorem s_X1_isSetting_j9 {x : Cx} (F : Fx x cX1_isSetting "LockstepRoom" 1 (some .boolean) rmX1_isSetting) {Q : Int32 → hH → Prop} (h : hH) (hk : f_X1_isSetting_j9 x.S.E Q h) : G x (xQ x rmX1_isSetting (qI Q)) 9 [] [] h 0 0 := by
  unfold f_X1_isSetting_j9 at hk
  exact g_iconst F dX1_isSetting_9 ic_1 <|
g_goto F dX1_isSetting_10 (tgt := 14) rfl <|
g_zret F dX1_isSetting_14 (Nat.le_refl 0) (Nat.le_refl 0) rfl hk
theorem m_X1_isSetting {S : Sx} (hS0 : Sok S) (v0 : Int32) (h : hH) (Q : Int32 → hH → Prop) (hk : f_X1_isSetting S.E v0 h Q) : Ct S yX1_isSetting (ws_ yX1_isSetting cX1_isSetting 1 (some .boolean)) rmX1_isSetting ([aI v0].map vv) h (qI Q) := by
  refine Ct.of hS0 (by decide +kernel) rfl (Nat.le_of_ble_eq_true rfl) fun x hxS F hnm => ?_
  subst hxS
  unfold f_X1_isSetting at hk
  exact g_iload_n F dX1_isSetting_0 rfl 0 rfl <|
g_if_eq F dX1_isSetting_1 (tgt := 9) rfl (fun hc => have hk := hk.1 hc
G.fewer [] rfl <| s_X1_isSetting_j9 F h hk ) (fun hc => have hk := hk.2 hc
g_iload_n F dX1_isSetting_4 rfl 0 rfl <|
g_iconst F dX1_isSetting_5 ic_1 <|
g_icmp_ne F dX1_isSetting_6 (tgt := 13) rfl (fun hc => have hk := hk.2 hc
g_iconst F dX1_isSetting_13 ic_0 <|
g_zret F dX1_isSetting_14 (Nat.le_refl 0) (Nat.le_refl 0) rfl hk) (fun hc => have hk := hk.1 hc
G.fewer [] rfl <| s_X1_isSetting_j9 F h hk ))
abbrev rmX1_getSetting : Room := { frames := 3, cells := 0, slots := 0, locals := 60 }
theorem m_X1_getSetting {S : Sx} (hS0 : Sok S) (v0 : Nat) (v1 : Int32) (h : hH) (Q : Int32 → hH → Prop) (hk : f_X1_getSetting S.E v0 v1 h Q) : Ct S yX1_getSetting (ws_ yX1_getSetting cX1_getSetting 2 (some .int)) rmX1_getSetting ([aR (some v0), aI v1].map vv) h (qI Q) := by
  refine Ct.of hS0 (by decide +kernel) rfl (Nat.le_of_ble_eq_true rfl) fun x hxS F hnm => ?_
  subst hxS
  unfold f_X1_getSetting at hk
  exact g_iload_n F dX1_getSetting_0 rfl 1 rfl <|
g_calli0 (g_S F dX1_getSetting_1 q1594 ms_X1_isSetting (rm' := rmX1_isSetting) ⟨Nat.le_of_ble_eq_true rfl, Nat.le_of_ble_eq_true rfl⟩ ⟨Nat.le_refl 0, Nat.le_refl 0⟩ (As := [aI v1]) (rest := []) rfl rfl (Nat.le_of_ble_eq_true rfl) (m_X1_isSetting F.ok v1 h _ hk)) ⟨rfl, rfl⟩ fun x2 h1 hk =>
g_if_eq F dX1_getSetting_4 (tgt := 19) rfl (fun hc => have hk := hk.1 hc
g_bipush F dX1_getSetting_19 bp_m2 <|
g_iret F dX1_getSetting_21 (Nat.le_refl 0) (Nat.le_refl 0) hk) (fun hc => have hk := hk.2 hc
g_aload_n F dX1_getSetting_7 rfl 0 rfl <|
g_getR F dX1_getSetting_8 fo_X1_0_LockstepRoom in_X1 fl_LockstepRoom_10_X1 hk fun x3 hk =>
g_getR F dX1_getSetting_11 fo_X2_2_LockstepRoom_Room in_X2 fl_LockstepRoom_162_X2 hk fun x4 hk =>
g_iload_n F dX1_getSetting_14 rfl 1 rfl <|
g_iald F dX1_getSetting_15 hk fun x5 hk =>
g_goto F dX1_getSetting_16 (tgt := 21) rfl <|
g_iret F dX1_getSetting_21 (Nat.le_refl 0) (Nat.le_refl 0) hk)
abbrev rmX1_winner : Room := { frames := 10, cells := 51, slots := 1411, locals := 222 }
theorem m_X1_winner {S : Sx} (hS0 : Sok S) (v0 : Nat) (v1 : Int32) (h : hH) (Q : Int32 → hH → Prop) (hk : f_X1_winner S.E v0 v1 h Q) : Ct S yX1_winner (ws_ yX1_winner cX1_winner 2 (some .int)) rmX1_winner ([aR (some v0), aI v1].map vv) h (qI Q) := by
  refine Ct.of hS0 (by decide +kernel) rfl (Nat.le_of_ble_eq_true rfl) fun x hxS F hnm => ?_
  subst hxS
  unfold f_X1_winner at hk
  have hM : 0 + 51 ≤ 51 := by omega
  have hS : 0 + 1411 ≤ 1411 := by omega
  refine G.widen (c' := 0 + 0) (k' := 0 + 0) (Nat.le_refl 0) (Nat.le_refl 0) ?_
  exact g_aload_n F dX1_winner_0 rfl 0 rfl <|
g_getR F dX1_winner_1 fo_X1_0_LockstepRoom in_X1 fl_LockstepRoom_10_X1 hk fun x1 hk =>
g_iload_n F dX1_winner_4 rfl 1 rfl <|
g_calli (g_V F dX1_winner_5 q1601 mi_X2_winner ct_X2 (rm' := rmX2_winner) ⟨Nat.le_of_ble_eq_true rfl, Nat.le_of_ble_eq_true rfl⟩ ⟨show 0 + 0 + 51 ≤ 51 by omega, show 0 + 0 + 1411 ≤ 1411 by omega⟩ (As := [aI v1]) (rest := []) rfl rfl (Nat.le_of_ble_eq_true rfl) hk (fun a4 hk => m_X2_winner F.ok a4 v1 h _ hk)) fun x3 h2 hk =>
g_iret F dX1_winner_8 (show 0 + 0 + 51 ≤ 51 by omega) (show 0 + 0 + 1411 ≤ 1411 by omega) hk
abbrev rmX1_wrongMembers : Room := { frames := 11, cells := 371, slots := 9891, locals := 244 }
theorem s_X1_wrongMembers_j38 {x : Cx} (F : Fx x cX1_wrongMembers "LockstepRoom" 3 (some .int) rmX1_wrongMembers) {v0 : Nat} {Q : Int32 → hH → Prop} {K4 : Int32 → Int32 → hH → Prop} {cb kb ce ke : Nat} (hM : cb + 53 ≤ ce) (hM2 : ce ≤ 371) (hS : kb + 1413 ≤ ke) (hS2 : ke ≤ 9891) (s0 : Int32) (s1 : Int32) (l2 : Int32) (h : hH) (hk : f_X1_wrongMembers_j38 x.S.E v0 Q K4 s0 s1 l2 h) (hK4 : ∀ (l1 : Int32) (l2 : Int32) (h : hH), K4 l1 l2 h → G x (xQ x rmX1_wrongMembers (qI Q)) 4 [(0, aR (some v0)), (1, aI l1), (2, aI l2)] [] h (cb + 53) (kb + 1413)) : G x (xQ x rmX1_wrongMembers (qI Q)) 38 [(0, aR (some v0)), (2, aI l2)] [aI s1, aI s0] h (cb + 53) (kb + 1413) := by
  unfold f_X1_wrongMembers_j38 at hk
  exact g_ior F dX1_wrongMembers_38 <|
g_istore_n F dX1_wrongMembers_39 rfl (Nat.le_of_ble_eq_true rfl) rfl <|
g_iinc (v := (l2 + (1:Int32))) F dX1_wrongMembers_40 (j := 2) rfl (iinc_1 l2) (Nat.le_of_ble_eq_true rfl) rfl <|
g_goto F dX1_wrongMembers_43 (tgt := 4) rfl <|
G.fewer [2, 1, 0] rfl <| hK4 (s0 ||| s1) (l2 + (1:Int32)) h hk
theorem s_X1_wrongMembers_l4 {x : Cx} (F : Fx x cX1_wrongMembers "LockstepRoom" 3 (some .int) rmX1_wrongMembers) {v0 : Nat} {Q : Int32 → hH → Prop} {K46 : Int32 → hH → Prop} {ce ke : Nat} (hM2 : ce ≤ 371) (hS2 : ke ≤ 9891) (n : Nat) (l1 : Int32) (l2 : Int32) (h : hH) (cb kb : Nat) (hM0 : cb + n * 53 ≤ ce) (hS0 : kb + n * 1413 ≤ ke) (hk : f_X1_wrongMembers_l4 x.S.E v0 Q K46 n l1 l2 h) (hK46 : ∀ (l1 : Int32) (h : hH), K46 l1 h → G x (xQ x rmX1_wrongMembers (qI Q)) 46 [(1, aI l1)] [] h ce ke) : G x (xQ x rmX1_wrongMembers (qI Q)) 4 [(0, aR (some v0)), (1, aI l1), (2, aI l2)] [] h cb kb := by
  induction n generalizing l1 l2 h cb kb with
  | zero => exact False.elim hk
  | succ n ih =>
    have hM : cb + 53 ≤ ce := by omega
    have hS : kb + 1413 ≤ ke := by omega
    unfold f_X1_wrongMembers_l4 at hk
    exact G.widen (c' := cb + 0) (k' := kb + 0) (Nat.le_refl _) (Nat.le_refl _) <| g_iload_n F dX1_wrongMembers_4 rfl 2 rfl <|
g_aload_n F dX1_wrongMembers_5 rfl 0 rfl <|
g_calli0 (g_V F dX1_wrongMembers_6 q1575 mi_X1_members ct_X1 (rm' := rmX1_members) ⟨Nat.le_of_ble_eq_true rfl, Nat.le_of_ble_eq_true rfl⟩ ⟨show cb + 0 + 0 ≤ 371 by omega, show kb + 0 + 0 ≤ 9891 by omega⟩ (As := []) (rest := [aI l2]) rfl rfl (Nat.le_of_ble_eq_true rfl) hk (fun a3 hk => m_X1_members F.ok a3 h _ hk)) ⟨rfl, rfl⟩ fun x2 h1 hk =>
g_icmp_ge F dX1_wrongMembers_9 (tgt := 46) rfl (fun hc => have hk := hk.1 hc
G.fewer [1] rfl <| G.widen (show cb + 0 ≤ ce by omega) (show kb + 0 ≤ ke by omega) <| hK46 l1 h1 hk) (fun hc => have hk := hk.2 hc
g_iload_n F dX1_wrongMembers_12 rfl 1 rfl <|
g_aload_n F dX1_wrongMembers_13 rfl 0 rfl <|
g_getR F dX1_wrongMembers_14 fo_X1_0_LockstepRoom in_X1 fl_LockstepRoom_10_X1 hk fun x4 hk =>
g_aload_n F dX1_wrongMembers_17 rfl 0 rfl <|
g_getR F dX1_wrongMembers_18 fo_X1_0_LockstepRoom in_X1 fl_LockstepRoom_10_X1 hk fun x5 hk =>
g_iload_n F dX1_wrongMembers_21 rfl 2 rfl <|
g_callr0 (g_V F dX1_wrongMembers_22 q1585 mi_X2_member ct_X2 (rm' := rmX2_member) ⟨Nat.le_of_ble_eq_true rfl, Nat.le_of_ble_eq_true rfl⟩ ⟨show cb + 0 + 0 ≤ 371 by omega, show kb + 0 + 0 ≤ 9891 by omega⟩ (As := [aI l2]) (rest := [aR x4, aI l1]) rfl rfl (Nat.le_of_ble_eq_true rfl) hk (fun a8 hk => m_X2_member F.ok a8 l2 h1 _ hk)) ⟨rfl, rfl⟩ fun x7 h6 hk =>
g_calli (g_V F dX1_wrongMembers_25 q1955 mi_X2_isWrong ct_X2 (rm' := rmX2_isWrong) ⟨Nat.le_of_ble_eq_true rfl, Nat.le_of_ble_eq_true rfl⟩ ⟨show cb + 0 + 53 ≤ 371 by omega, show kb + 0 + 1413 ≤ 9891 by omega⟩ (As := [aR x7]) (rest := [aI l1]) rfl rfl (Nat.le_of_ble_eq_true rfl) hk (fun a11 hk => m_X2_isWrong F.ok a11 x7 h6 _ hk)) fun x10 h9 hk =>
g_if_eq F dX1_wrongMembers_28 (tgt := 37) rfl (fun hc => have hk := hk.1 hc
g_iconst F dX1_wrongMembers_37 ic_0 <|
G.fewer [0, 2] rfl <| G.widen (show cb + 0 + 53 ≤ cb + 53 by omega) (show kb + 0 + 1413 ≤ kb + 1413 by omega) <| s_X1_wrongMembers_j38 F hM hM2 hS hS2 l1 (0:Int32) l2 h9 hk (fun l1 l2 h hk => ih l1 l2 h (cb + 53) (kb + 1413) (by omega) (by omega) hk)) (fun hc => have hk := hk.2 hc
g_iconst F dX1_wrongMembers_31 ic_1 <|
g_iload_n F dX1_wrongMembers_32 rfl 2 rfl <|
g_ishl F dX1_wrongMembers_33 <|
g_goto F dX1_wrongMembers_34 (tgt := 38) rfl <|
G.fewer [0, 2] rfl <| G.widen (show cb + 0 + 53 ≤ cb + 53 by omega) (show kb + 0 + 1413 ≤ kb + 1413 by omega) <| s_X1_wrongMembers_j38 F hM hM2 hS hS2 l1 ((1:Int32) <<< (l2 &&& 31)) l2 h9 hk (fun l1 l2 h hk => ih l1 l2 h (cb + 53) (kb + 1413) (by omega) (by omega) hk)))
theorem m_X1_wrongMembers {S : Sx} (hS0 : Sok S) (v0 : Nat) (h : hH) (Q : Int32 → hH → Prop) (hk : f_X1_wrongMembers S.E v0 h Q) : Ct S yX1_wrongMembers (ws_ yX1_wrongMembers cX1_wrongMembers 3 (some .int)) rmX1_wrongMembers ([aR (some v0)].map vv) h (qI Q) := by
  refine Ct.of hS0 (by decide +kernel) rfl (Nat.le_of_ble_eq_true rfl) fun x hxS F hnm => ?_
  subst hxS
  unfold f_X1_wrongMembers at hk
  have hM : 0 + 371 ≤ 371 := by omega
  have hS : 0 + 9891 ≤ 9891 := by omega
  refine G.widen (c' := 0 + 0) (k' := 0 + 0) (Nat.le_refl 0) (Nat.le_refl 0) ?_
  exact g_iconst F dX1_wrongMembers_0 ic_0 <|
g_istore_n F dX1_wrongMembers_1 rfl (Nat.le_of_ble_eq_true rfl) rfl <|
g_iconst F dX1_wrongMembers_2 ic_0 <|
g_istore_n F dX1_wrongMembers_3 rfl (Nat.le_of_ble_eq_true rfl) rfl <|
G.fewer [2, 1, 0] rfl <| s_X1_wrongMembers_l4 F (ce := 0 + 371) (ke := 0 + 9891) (show 0 + 371 ≤ 371 by omega) (show 0 + 9891 ≤ 9891 by omega) 7 (0:Int32) (0:Int32) h (0 + 0) (0 + 0) (show 0 + 0 + 7 * 53 ≤ 0 + 371 by omega) (show 0 + 0 + 7 * 1413 ≤ 0 + 9891 by omega) hk ((fun l1 h hk => g_iload_n F dX1_wrongMembers_46 rfl 0 rfl <|
g_iret F dX1_wrongMembers_47 (show 0 + 371 ≤ 371 by omega) (show 0 + 9891 ≤ 9891 by omega) hk))
abbrev rmX1_reached : Room := { frames := 7, cells := 0, slots := 0, locals := 148 }
theorem m_X1_reached {S : Sx} (hS0 : Sok S) (v0 : Nat) (v1 : Int32) (h : hH) (Q : Int32 → hH → Prop) (hk : f_X1_reached S.E v0 v1 h Q) : Ct S yX1_reached (ws_ yX1_reached cX1_reached 2 (some .int)) rmX1_reached ([aR (some v0), aI v1].map vv) h (qI Q) := by
  refine Ct.of hS0 (by decide +kernel) rfl (Nat.le_of_ble_eq_true rfl) fun x hxS F hnm => ?_
  subst hxS
  unfold f_X1_reached at hk
  exact g_iload_n F dX1_reached_0 rfl 1 rfl <|
g_if_eq F dX1_reached_1 (tgt := 14) rfl (fun hc => have hk := hk.1 hc
g_aload_n F dX1_reached_14 rfl 0 rfl <|
g_getR F dX1_reached_15 fo_X1_0_LockstepRoom in_X1 fl_LockstepRoom_10_X1 hk fun x1 hk =>
g_calli0 (g_V F dX1_reached_18 q1969 mi_X2_least ct_X2 (rm' := rmX2_least) ⟨Nat.le_of_ble_eq_true rfl, Nat.le_of_ble_eq_true rfl⟩ ⟨Nat.le_refl 0, Nat.le_refl 0⟩ (As := []) (rest := []) rfl rfl (Nat.le_of_ble_eq_true rfl) hk (fun a4 hk => m_X2_least F.ok a4 h _ hk)) ⟨rfl, rfl⟩ fun x3 h2 hk =>
g_iret F dX1_reached_21 (Nat.le_refl 0) (Nat.le_refl 0) hk) (fun hc => have hk := hk.2 hc
g_aload_n F dX1_reached_4 rfl 0 rfl <|
g_getR F dX1_reached_5 fo_X1_0_LockstepRoom in_X1 fl_LockstepRoom_10_X1 hk fun x5 hk =>
g_calli0 (g_V F dX1_reached_8 q1964 mi_X2_greatest ct_X2 (rm' := rmX2_greatest) ⟨Nat.le_of_ble_eq_true rfl, Nat.le_of_ble_eq_true rfl⟩ ⟨Nat.le_refl 0, Nat.le_refl 0⟩ (As := []) (rest := []) rfl rfl (Nat.le_of_ble_eq_true rfl) hk (fun a8 hk => m_X2_greatest F.ok a8 h _ hk)) ⟨rfl, rfl⟩ fun x7 h6 hk =>
g_goto F dX1_reached_11 (tgt := 21) rfl <|
g_iret F dX1_reached_21 (Nat.le_refl 0) (Nat.le_refl 0) hk)
abbrev rmX1_meanTurns : Room := { frames := 7, cells := 0, slots := 0, locals := 147 }
theorem s_X1_meanTurns_j42 {x : Cx} (F : Fx x cX1_meanTurns "LockstepRoom" 3 (some .double) rmX1_meanTurns) {v0 : Nat} {Q : UInt64 → hH → Prop} {K4 : Int32 → Int32 → hH → Prop} (s0 : Int32) (s1 : Int32) (l2 : Int32) (h : hH) (hk : f_X1_meanTurns_j42 x.S.E v0 Q K4 s0 s1 l2 h) (hK4 : ∀ (l1 : Int32) (l2 : Int32) (h : hH), K4 l1 l2 h → G x (xQ x rmX1_meanTurns (qD Q)) 4 [(0, aR (some v0)), (1, aI l1), (2, aI l2)] [] h 0 0) : G x (xQ x rmX1_meanTurns (qD Q)) 42 [(0, aR (some v0)), (2, aI l2)] [aI s1, aI s0] h 0 0 := by
  unfold f_X1_meanTurns_j42 at hk
  exact g_iadd F dX1_meanTurns_42 <|
g_istore_n F dX1_meanTurns_43 rfl (Nat.le_of_ble_eq_true rfl) rfl <|
g_iinc (v := (l2 + (1:Int32))) F dX1_meanTurns_44 (j := 2) rfl (iinc_1 l2) (Nat.le_of_ble_eq_true rfl) rfl <|
g_goto F dX1_meanTurns_47 (tgt := 4) rfl <|
G.fewer [2, 1, 0] rfl <| hK4 (s0 + s1) (l2 + (1:Int32)) h hk
theorem s_X1_meanTurns_l4 {x : Cx} (F : Fx x cX1_meanTurns "LockstepRoom" 3 (some .double) rmX1_meanTurns) {v0 : Nat} {Q : UInt64 → hH → Prop} {K50 : Int32 → hH → Prop} (n : Nat) (l1 : Int32) (l2 : Int32) (h : hH) (hk : f_X1_meanTurns_l4 x.S.E v0 Q K50 n l1 l2 h) (hK50 : ∀ (l1 : Int32) (h : hH), K50 l1 h → G x (xQ x rmX1_meanTurns (qD Q)) 50 [(0, aR (some v0)), (1, aI l1)] [] h 0 0) : G x (xQ x rmX1_meanTurns (qD Q)) 4 [(0, aR (some v0)), (1, aI l1), (2, aI l2)] [] h 0 0 := by
  induction n generalizing l1 l2 h with
  | zero => exact False.elim hk
  | succ n ih =>
    unfold f_X1_meanTurns_l4 at hk
    exact g_iload_n F dX1_meanTurns_4 rfl 2 rfl <|
g_aload_n F dX1_meanTurns_5 rfl 0 rfl <|
g_calli0 (g_V F dX1_meanTurns_6 q1575 mi_X1_members ct_X1 (rm' := rmX1_members) ⟨Nat.le_of_ble_eq_true rfl, Nat.le_of_ble_eq_true rfl⟩ ⟨Nat.le_refl 0, Nat.le_refl 0⟩ (As := []) (rest := [aI l2]) rfl rfl (Nat.le_of_ble_eq_true rfl) hk (fun a3 hk => m_X1_members F.ok a3 h _ hk)) ⟨rfl, rfl⟩ fun x2 h1 hk =>
g_icmp_ge F dX1_meanTurns_9 (tgt := 50) rfl (fun hc => have hk := hk.1 hc
G.fewer [0, 1] rfl <| hK50 l1 h1 hk) (fun hc => have hk := hk.2 hc
g_iload_n F dX1_meanTurns_12 rfl 1 rfl <|
g_aload_n F dX1_meanTurns_13 rfl 0 rfl <|
g_getR F dX1_meanTurns_14 fo_X1_0_LockstepRoom in_X1 fl_LockstepRoom_10_X1 hk fun x4 hk =>
g_iload_n F dX1_meanTurns_17 rfl 2 rfl <|
g_callr0 (g_V F dX1_meanTurns_18 q1585 mi_X2_member ct_X2 (rm' := rmX2_member) ⟨Nat.le_of_ble_eq_true rfl, Nat.le_of_ble_eq_true rfl⟩ ⟨Nat.le_refl 0, Nat.le_refl 0⟩ (As := [aI l2]) (rest := [aI l1]) rfl rfl (Nat.le_of_ble_eq_true rfl) hk (fun a7 hk => m_X2_member F.ok a7 l2 h1 _ hk)) ⟨rfl, rfl⟩ fun x6 h5 hk =>
g_getI F dX1_meanTurns_21 fo_X10_5_LockstepRoom_Member in_X10 fl_LockstepRoom_145_X10 hk fun x8 hk =>
g_if_eq F dX1_meanTurns_24 (tgt := 41) rfl (fun hc => have hk := hk.1 hc
g_iconst F dX1_meanTurns_41 ic_0 <|
G.fewer [0, 2] rfl <| s_X1_meanTurns_j42 F l1 (0:Int32) l2 h5 hk ih) (fun hc => have hk := hk.2 hc
g_aload_n F dX1_meanTurns_27 rfl 0 rfl <|
g_getR F dX1_meanTurns_28 fo_X1_0_LockstepRoom in_X1 fl_LockstepRoom_10_X1 hk fun x9 hk =>
g_iload_n F dX1_meanTurns_31 rfl 2 rfl <|
g_callr0 (g_V F dX1_meanTurns_32 q1585 mi_X2_member ct_X2 (rm' := rmX2_member) ⟨Nat.le_of_ble_eq_true rfl, Nat.le_of_ble_eq_true rfl⟩ ⟨Nat.le_refl 0, Nat.le_refl 0⟩ (As := [aI l2]) (rest := [aI l1]) rfl rfl (Nat.le_of_ble_eq_true rfl) hk (fun a12 hk => m_X2_member F.ok a12 l2 h5 _ hk)) ⟨rfl, rfl⟩ fun x11 h10 hk =>
g_getI F dX1_meanTurns_35 fo_X10_4_LockstepRoom_Member in_X10 fl_LockstepRoom_142_X10 hk fun x13 hk =>
g_goto F dX1_meanTurns_38 (tgt := 42) rfl <|
G.fewer [0, 2] rfl <| s_X1_meanTurns_j42 F l1 x13 l2 h10 hk ih))
theorem m_X1_meanTurns {S : Sx} (hS0 : Sok S) (v0 : Nat) (h : hH) (Q : UInt64 → hH → Prop) (hk : f_X1_meanTurns S.E v0 h Q) : Ct S yX1_meanTurns (ws_ yX1_meanTurns cX1_meanTurns 3 (some .double)) rmX1_meanTurns ([aR (some v0)].map vv) h (qD Q) := by
  refine Ct.of hS0 (by decide +kernel) rfl (Nat.le_of_ble_eq_true rfl) fun x hxS F hnm => ?_
  subst hxS
  unfold f_X1_meanTurns at hk
  exact g_iconst F dX1_meanTurns_0 ic_0 <|
g_istore_n F dX1_meanTurns_1 rfl (Nat.le_of_ble_eq_true rfl) rfl <|
g_iconst F dX1_meanTurns_2 ic_0 <|
g_istore_n F dX1_meanTurns_3 rfl (Nat.le_of_ble_eq_true rfl) rfl <|
G.fewer [2, 1, 0] rfl <| s_X1_meanTurns_l4 F 1000000 (0:Int32) (0:Int32) h hk ((fun l1 h hk => g_aload_n F dX1_meanTurns_50 rfl 0 rfl <|
g_getR F dX1_meanTurns_51 fo_X1_0_LockstepRoom in_X1 fl_LockstepRoom_10_X1 hk fun x14 hk =>
g_calli0 (g_V F dX1_meanTurns_54 q1977 mi_X2_active ct_X2 (rm' := rmX2_active) ⟨Nat.le_of_ble_eq_true rfl, Nat.le_of_ble_eq_true rfl⟩ ⟨Nat.le_refl 0, Nat.le_refl 0⟩ (As := []) (rest := []) rfl rfl (Nat.le_of_ble_eq_true rfl) hk (fun a17 hk => m_X2_active F.ok a17 h _ hk)) ⟨rfl, rfl⟩ fun x16 h15 hk =>
g_if_ne F dX1_meanTurns_57 (tgt := 64) rfl (fun hc => have hk := hk.2 hc
g_iload_n F dX1_meanTurns_64 rfl 1 rfl <|
g_i2d F dX1_meanTurns_65 <|
g_aload_n F dX1_meanTurns_66 rfl 0 rfl <|
g_getR F dX1_meanTurns_67 fo_X1_0_LockstepRoom in_X1 fl_LockstepRoom_10_X1 hk fun x18 hk =>
g_calli0 (g_V F dX1_meanTurns_70 q1977 mi_X2_active ct_X2 (rm' := rmX2_active) ⟨Nat.le_of_ble_eq_true rfl, Nat.le_of_ble_eq_true rfl⟩ ⟨Nat.le_refl 0, Nat.le_refl 0⟩ (As := []) (rest := [aD (FP.i2d l1)]) rfl rfl (Nat.le_of_ble_eq_true rfl) hk (fun a21 hk => m_X2_active F.ok a21 h15 _ hk)) ⟨rfl, rfl⟩ fun x20 h19 hk =>
g_i2d F dX1_meanTurns_73 <|
g_ddiv F dX1_meanTurns_74 hk.1 <|
(fun hk => g_dret F dX1_meanTurns_75 (Nat.le_refl 0) (Nat.le_refl 0) hk) hk.2) (fun hc => have hk := hk.1 hc
g_dconst0 F dX1_meanTurns_60 <|
g_goto F dX1_meanTurns_61 (tgt := 75) rfl <|
g_dret F dX1_meanTurns_75 (Nat.le_refl 0) (Nat.le_refl 0) hk)))
abbrev rmX1_trueMembers : Room := { frames := 6, cells := 7, slots := 112, locals := 136 }
theorem s_X1_trueMembers_j72 {x : Cx} (F : Fx x cX1_trueMembers "LockstepRoom" 6 (some .int) rmX1_trueMembers) {v0 : Nat} {Q : Int32 → hH → Prop} {K37 : Int32 → Int32 → Option Nat → Int32 → Int32 → hH → Prop} {cb kb ce ke : Nat} (hM : cb + 0 ≤ ce) (hM2 : ce ≤ 7) (hS : kb + 0 ≤ ke) (hS2 : ke ≤ 112) (s0 : Int32) (s1 : Int32) (l1 : Int32) (l2 : Int32) (l3 : Option Nat) (l5 : Int32) (h : hH) (hk : f_X1_trueMembers_j72 x.S.E v0 Q K37 s0 s1 l1 l2 l3 l5 h) (hK37 : ∀ (l1 : Int32) (l2 : Int32) (l3 : Option Nat) (l4 : Int32) (l5 : Int32) (h : hH), K37 l1 l2 l3 l4 l5 h → G x (xQ x rmX1_trueMembers (qI Q)) 37 [(0, aR (some v0)), (1, aI l1), (2, aI l2), (3, aR l3), (4, aI l4), (5, aI l5)] [] h (cb + 0) (kb + 0)) : G x (xQ x rmX1_trueMembers (qI Q)) 72 [(0, aR (some v0)), (1, aI l1), (2, aI l2), (3, aR l3), (5, aI l5)] [aI s1, aI s0] h (cb + 0) (kb + 0) := by
  unfold f_X1_trueMembers_j72 at hk
  exact g_iand F dX1_trueMembers_72 <|
g_istore F dX1_trueMembers_73 (Nat.le_of_ble_eq_true rfl) rfl <|
g_iinc (v := (l5 + (1:Int32))) F dX1_trueMembers_75 (j := 5) rfl (iinc_1 l5) (Nat.le_of_ble_eq_true rfl) rfl <|
g_goto F dX1_trueMembers_78 (tgt := 37) rfl <|
G.fewer [2, 3, 4, 5, 1, 0] rfl <| hK37 l1 l2 l3 (s0 &&& s1) (l5 + (1:Int32)) h hk
theorem s_X1_trueMembers_l37 {x : Cx} (F : Fx x cX1_trueMembers "LockstepRoom" 6 (some .int) rmX1_trueMembers) {v0 : Nat} {Q : Int32 → hH → Prop} {K81 : Int32 → Int32 → Int32 → hH → Prop} {ce ke : Nat} (hM2 : ce ≤ 7) (hS2 : ke ≤ 112) (n : Nat) (l1 : Int32) (l2 : Int32) (l3 : Option Nat) (l4 : Int32) (l5 : Int32) (h : hH) (cb kb : Nat) (hM0 : cb + n * 0 ≤ ce) (hS0 : kb + n * 0 ≤ ke) (hk : f_X1_trueMembers_l37 x.S.E v0 Q K81 n l1 l2 l3 l4 l5 h) (hK81 : ∀ (l1 : Int32) (l2 : Int32) (l4 : Int32) (h : hH), K81 l1 l2 l4 h → G x (xQ x rmX1_trueMembers (qI Q)) 81 [(0, aR (some v0)), (1, aI l1), (2, aI l2), (4, aI l4)] [] h ce ke) : G x (xQ x rmX1_trueMembers (qI Q)) 37 [(0, aR (some v0)), (1, aI l1), (2, aI l2), (3, aR l3), (4, aI l4), (5, aI l5)] [] h cb kb := by
  induction n generalizing l1 l2 l3 l4 l5 h cb kb with
  | zero => exact False.elim hk
  | succ n ih =>
    have hM : cb + 0 ≤ ce := by omega
    have hS : kb + 0 ≤ ke := by omega
    unfold f_X1_trueMembers_l37 at hk
    exact G.widen (c' := cb + 0) (k' := kb + 0) (Nat.le_refl _) (Nat.le_refl _) <| g_iload F dX1_trueMembers_37 5 rfl <|
g_bipush F dX1_trueMembers_39 bp_16 <|
g_icmp_ge F dX1_trueMembers_41 (tgt := 81) rfl (fun hc => have hk := hk.1 hc
G.fewer [0, 1, 2, 4] rfl <| G.widen (show cb + 0 ≤ ce by omega) (show kb + 0 ≤ ke by omega) <| hK81 l1 l2 l4 h hk) (fun hc => have hk := hk.2 hc
g_iload F dX1_trueMembers_44 4 rfl <|
g_aload_n F dX1_trueMembers_46 rfl 0 rfl <|
g_getR F dX1_trueMembers_47 fo_X1_0_LockstepRoom in_X1 fl_LockstepRoom_10_X1 hk fun x1 hk =>
g_iload_n F dX1_trueMembers_50 rfl 2 rfl <|
g_callr0 (g_V F dX1_trueMembers_51 q1585 mi_X2_member ct_X2 (rm' := rmX2_member) ⟨Nat.le_of_ble_eq_true rfl, Nat.le_of_ble_eq_true rfl⟩ ⟨show cb + 0 + 0 ≤ 7 by omega, show kb + 0 + 0 ≤ 112 by omega⟩ (As := [aI l2]) (rest := [aI l4]) rfl rfl (Nat.le_of_ble_eq_true rfl) hk (fun a4 hk => m_X2_member F.ok a4 l2 h _ hk)) ⟨rfl, rfl⟩ fun x3 h2 hk =>
g_getR F dX1_trueMembers_54 fo_X10_3_LockstepRoom_Member in_X10 fl_LockstepRoom_166_X10 hk fun x5 hk =>
g_iload F dX1_trueMembers_57 5 rfl <|
g_iald F dX1_trueMembers_59 hk fun x6 hk =>
g_aload_n F dX1_trueMembers_60 rfl 3 rfl <|
g_iload F dX1_trueMembers_61 5 rfl <|
g_iald F dX1_trueMembers_63 hk fun x7 hk =>
g_icmp_ne F dX1_trueMembers_64 (tgt := 71) rfl (fun hc => have hk := hk.2 hc
g_iconst F dX1_trueMembers_71 ic_0 <|
G.fewer [0, 1, 2, 3, 5] rfl <| s_X1_trueMembers_j72 F hM hM2 hS hS2 l4 (0:Int32) l1 l2 l3 l5 h2 hk (fun l1 l2 l3 l4 l5 h hk => ih l1 l2 l3 l4 l5 h (cb + 0) (kb + 0) (by omega) (by omega) hk)) (fun hc => have hk := hk.1 hc
g_iconst F dX1_trueMembers_67 ic_1 <|
g_goto F dX1_trueMembers_68 (tgt := 72) rfl <|
G.fewer [0, 1, 2, 3, 5] rfl <| s_X1_trueMembers_j72 F hM hM2 hS hS2 l4 (1:Int32) l1 l2 l3 l5 h2 hk (fun l1 l2 l3 l4 l5 h hk => ih l1 l2 l3 l4 l5 h (cb + 0) (kb + 0) (by omega) (by omega) hk)))
theorem s_X1_trueMembers_j94 {x : Cx} (F : Fx x cX1_trueMembers "LockstepRoom" 6 (some .int) rmX1_trueMembers) {v0 : Nat} {Q : Int32 → hH → Prop} {K4 : Int32 → Int32 → hH → Prop} {cb kb ce ke : Nat} (hM : cb + 1 ≤ ce) (hM2 : ce ≤ 7) (hS : kb + 16 ≤ ke) (hS2 : ke ≤ 112) (s0 : Int32) (s1 : Int32) (l2 : Int32) (h : hH) (hk : f_X1_trueMembers_j94 x.S.E v0 Q K4 s0 s1 l2 h) (hK4 : ∀ (l1 : Int32) (l2 : Int32) (h : hH), K4 l1 l2 h → G x (xQ x rmX1_trueMembers (qI Q)) 4 [(0, aR (some v0)), (1, aI l1), (2, aI l2)] [] h (cb + 1) (kb + 16)) : G x (xQ x rmX1_trueMembers (qI Q)) 94 [(0, aR (some v0)), (2, aI l2)] [aI s1, aI s0] h (cb + 1) (kb + 16) := by
  unfold f_X1_trueMembers_j94 at hk
  exact g_ior F dX1_trueMembers_94 <|
g_istore_n F dX1_trueMembers_95 rfl (Nat.le_of_ble_eq_true rfl) rfl <|
g_iinc (v := (l2 + (1:Int32))) F dX1_trueMembers_96 (j := 2) rfl (iinc_1 l2) (Nat.le_of_ble_eq_true rfl) rfl <|
g_goto F dX1_trueMembers_99 (tgt := 4) rfl <|
G.fewer [2, 1, 0] rfl <| hK4 (s0 ||| s1) (l2 + (1:Int32)) h hk
theorem s_X1_trueMembers_l4 {x : Cx} (F : Fx x cX1_trueMembers "LockstepRoom" 6 (some .int) rmX1_trueMembers) {v0 : Nat} {Q : Int32 → hH → Prop} {K102 : Int32 → hH → Prop} {ce ke : Nat} (hM2 : ce ≤ 7) (hS2 : ke ≤ 112) (n : Nat) (l1 : Int32) (l2 : Int32) (h : hH) (cb kb : Nat) (hM0 : cb + n * 1 ≤ ce) (hS0 : kb + n * 16 ≤ ke) (hk : f_X1_trueMembers_l4 x.S.E v0 Q K102 n l1 l2 h) (hK102 : ∀ (l1 : Int32) (h : hH), K102 l1 h → G x (xQ x rmX1_trueMembers (qI Q)) 102 [(1, aI l1)] [] h ce ke) : G x (xQ x rmX1_trueMembers (qI Q)) 4 [(0, aR (some v0)), (1, aI l1), (2, aI l2)] [] h cb kb := by
  induction n generalizing l1 l2 h cb kb with
  | zero => exact False.elim hk
  | succ n ih =>
    have hM : cb + 1 ≤ ce := by omega
    have hS : kb + 16 ≤ ke := by omega
    unfold f_X1_trueMembers_l4 at hk
    exact G.widen (c' := cb + 0) (k' := kb + 0) (Nat.le_refl _) (Nat.le_refl _) <| g_iload_n F dX1_trueMembers_4 rfl 2 rfl <|
g_aload_n F dX1_trueMembers_5 rfl 0 rfl <|
g_calli0 (g_V F dX1_trueMembers_6 q1575 mi_X1_members ct_X1 (rm' := rmX1_members) ⟨Nat.le_of_ble_eq_true rfl, Nat.le_of_ble_eq_true rfl⟩ ⟨show cb + 0 + 0 ≤ 7 by omega, show kb + 0 + 0 ≤ 112 by omega⟩ (As := []) (rest := [aI l2]) rfl rfl (Nat.le_of_ble_eq_true rfl) hk (fun a10 hk => m_X1_members F.ok a10 h _ hk)) ⟨rfl, rfl⟩ fun x9 h8 hk =>
g_icmp_ge F dX1_trueMembers_9 (tgt := 102) rfl (fun hc => have hk := hk.1 hc
G.fewer [1] rfl <| G.widen (show cb + 0 ≤ ce by omega) (show kb + 0 ≤ ke by omega) <| hK102 l1 h8 hk) (fun hc => have hk := hk.2 hc
g_aload_n F dX1_trueMembers_12 rfl 0 rfl <|
g_getR F dX1_trueMembers_13 fo_X1_0_LockstepRoom in_X1 fl_LockstepRoom_10_X1 hk fun x11 hk =>
g_aload_n F dX1_trueMembers_16 rfl 0 rfl <|
g_getR F dX1_trueMembers_17 fo_X1_0_LockstepRoom in_X1 fl_LockstepRoom_10_X1 hk fun x12 hk =>
g_iload_n F dX1_trueMembers_20 rfl 2 rfl <|
g_callr0 (g_V F dX1_trueMembers_21 q1585 mi_X2_member ct_X2 (rm' := rmX2_member) ⟨Nat.le_of_ble_eq_true rfl, Nat.le_of_ble_eq_true rfl⟩ ⟨show cb + 0 + 0 ≤ 7 by omega, show kb + 0 + 0 ≤ 112 by omega⟩ (As := [aI l2]) (rest := [aR x11]) rfl rfl (Nat.le_of_ble_eq_true rfl) hk (fun a15 hk => m_X2_member F.ok a15 l2 h8 _ hk)) ⟨rfl, rfl⟩ fun x14 h13 hk =>
g_getI F dX1_trueMembers_24 fo_X10_4_LockstepRoom_Member in_X10 fl_LockstepRoom_142_X10 hk fun x16 hk =>
g_callr (g_V F dX1_trueMembers_27 q1985 mi_X2_truth ct_X2 (rm' := rmX2_truth) ⟨Nat.le_of_ble_eq_true rfl, Nat.le_of_ble_eq_true rfl⟩ ⟨show cb + 0 + 1 ≤ 7 by omega, show kb + 0 + 16 ≤ 112 by omega⟩ (As := [aI x16]) (rest := []) rfl rfl (Nat.le_of_ble_eq_true rfl) hk (fun a19 hk => m_X2_truth F.ok a19 x16 h13 _ hk)) fun x18 h17 hk =>
g_astore_n F dX1_trueMembers_30 rfl (Nat.le_of_ble_eq_true rfl) rfl <|
g_iconst F dX1_trueMembers_31 ic_1 <|
g_istore F dX1_trueMembers_32 (Nat.le_of_ble_eq_true rfl) rfl <|
g_iconst F dX1_trueMembers_34 ic_0 <|
g_istore F dX1_trueMembers_35 (Nat.le_of_ble_eq_true rfl) rfl <|
G.fewer [3, 4, 5, 2, 1, 0] rfl <| G.widen (show cb + 0 + 1 ≤ cb + 1 by omega) (show kb + 0 + 16 ≤ kb + 16 by omega) <| s_X1_trueMembers_l37 F (ce := cb + 1) (ke := kb + 16) (show cb + 1 ≤ 7 by omega) (show kb + 16 ≤ 112 by omega) 1000000 l1 l2 x18 (1:Int32) (0:Int32) h17 (cb + 1) (kb + 16) (show cb + 1 + 1000000 * 0 ≤ cb + 1 by omega) (show kb + 16 + 1000000 * 0 ≤ kb + 16 by omega) hk ((fun l1 l2 l4 h hk => g_iload_n F dX1_trueMembers_81 rfl 1 rfl <|
g_iload F dX1_trueMembers_82 3 rfl <|
g_if_eq F dX1_trueMembers_84 (tgt := 93) rfl (fun hc => have hk := hk.1 hc
g_iconst F dX1_trueMembers_93 ic_0 <|
G.fewer [0, 2] rfl <| s_X1_trueMembers_j94 F hM hM2 hS hS2 l1 (0:Int32) l2 h hk (fun l1 l2 h hk => ih l1 l2 h (cb + 1) (kb + 16) (by omega) (by omega) hk)) (fun hc => have hk := hk.2 hc
g_iconst F dX1_trueMembers_87 ic_1 <|
g_iload_n F dX1_trueMembers_88 rfl 2 rfl <|
g_ishl F dX1_trueMembers_89 <|
g_goto F dX1_trueMembers_90 (tgt := 94) rfl <|
G.fewer [0, 2] rfl <| s_X1_trueMembers_j94 F hM hM2 hS hS2 l1 ((1:Int32) <<< (l2 &&& 31)) l2 h hk (fun l1 l2 h hk => ih l1 l2 h (cb + 1) (kb + 16) (by omega) (by omega) hk)))))
theorem m_X1_trueMembers {S : Sx} (hS0 : Sok S) (v0 : Nat) (h : hH) (Q : Int32 → hH → Prop) (hk : f_X1_trueMembers S.E v0 h Q) : Ct S yX1_trueMembers (ws_ yX1_trueMembers cX1_trueMembers 6 (some .int)) rmX1_trueMembers ([aR (some v0)].map vv) h (qI Q) := by
  refine Ct.of hS0 (by decide +kernel) rfl (Nat.le_of_ble_eq_true rfl) fun x hxS F hnm => ?_
  subst hxS
  unfold f_X1_trueMembers at hk
  have hM : 0 + 7 ≤ 7 := by omega
  have hS : 0 + 112 ≤ 112 := by omega
  refine G.widen (c' := 0 + 0) (k' := 0 + 0) (Nat.le_refl 0) (Nat.le_refl 0) ?_
  exact g_iconst F dX1_trueMembers_0 ic_0 <|
g_istore_n F dX1_trueMembers_1 rfl (Nat.le_of_ble_eq_true rfl) rfl <|
g_iconst F dX1_trueMembers_2 ic_0 <|
g_istore_n F dX1_trueMembers_3 rfl (Nat.le_of_ble_eq_true rfl) rfl <|
G.fewer [2, 1, 0] rfl <| s_X1_trueMembers_l4 F (ce := 0 + 7) (ke := 0 + 112) (show 0 + 7 ≤ 7 by omega) (show 0 + 112 ≤ 112 by omega) 7 (0:Int32) (0:Int32) h (0 + 0) (0 + 0) (show 0 + 0 + 7 * 1 ≤ 0 + 7 by omega) (show 0 + 0 + 7 * 16 ≤ 0 + 112 by omega) hk ((fun l1 h hk => g_iload_n F dX1_trueMembers_102 rfl 0 rfl <|
g_iret F dX1_trueMembers_103 (show 0 + 7 ≤ 7 by omega) (show 0 + 112 ≤ 112 by omega) hk))
abbrev rmX1_isMember : Room := { frames := 4, cells := 0, slots := 0, locals := 80 }
theorem m_X1_isMember {S : Sx} (hS0 : Sok S) (v0 : Nat) (v1 : Int32) (h : hH) (Q : Int32 → hH → Prop) (hk : f_X1_isMember S.E v0 v1 h Q) : Ct S yX1_isMember (ws_ yX1_isMember cX1_isMember 2 (some .boolean)) rmX1_isMember ([aR (some v0), aI v1].map vv) h (qI Q) := by
  refine Ct.of hS0 (by decide +kernel) rfl (Nat.le_of_ble_eq_true rfl) fun x hxS F hnm => ?_
  subst hxS
  unfold f_X1_isMember at hk
  exact g_iload_n F dX1_isMember_0 rfl 1 rfl <|
g_i2l F dX1_isMember_1 <|
g_lconst F dX1_isMember_2 rfl <|
g_aload_n F dX1_isMember_3 rfl 0 rfl <|
g_calli0 (g_V F dX1_isMember_4 q1575 mi_X1_members ct_X1 (rm' := rmX1_members) ⟨Nat.le_of_ble_eq_true rfl, Nat.le_of_ble_eq_true rfl⟩ ⟨Nat.le_refl 0, Nat.le_refl 0⟩ (As := []) (rest := [aL (0:Int64), aL v1.toInt64]) rfl rfl (Nat.le_of_ble_eq_true rfl) hk (fun a3 hk => m_X1_members F.ok a3 h _ hk)) ⟨rfl, rfl⟩ fun x2 h1 hk =>
g_iconst F dX1_isMember_7 ic_1 <|
g_isub F dX1_isMember_8 <|
g_i2l F dX1_isMember_9 <|
g_calli0 (g_S F dX1_isMember_10 q442 ms_X1_inRange (rm' := rmX1_inRange) ⟨Nat.le_of_ble_eq_true rfl, Nat.le_of_ble_eq_true rfl⟩ ⟨Nat.le_refl 0, Nat.le_refl 0⟩ (As := [aL v1.toInt64, aL (0:Int64), aL ((x2 - (1:Int32)).toInt64)]) (rest := []) rfl rfl (Nat.le_of_ble_eq_true rfl) (m_X1_inRange F.ok v1.toInt64 (0:Int64) ((x2 - (1:Int32)).toInt64) h1 _ hk)) ⟨rfl, rfl⟩ fun x5 h4 hk =>
g_zret F dX1_isMember_13 (Nat.le_refl 0) (Nat.le_refl 0) hk.1 hk.2
abbrev rmX1_isCell : Room := { frames := 3, cells := 0, slots := 0, locals := 65 }
theorem m_X1_isCell {S : Sx} (hS0 : Sok S) (v0 : Int32) (h : hH) (Q : Int32 → hH → Prop) (hk : f_X1_isCell S.E v0 h Q) : Ct S yX1_isCell (ws_ yX1_isCell cX1_isCell 1 (some .boolean)) rmX1_isCell ([aI v0].map vv) h (qI Q) := by
  refine Ct.of hS0 (by decide +kernel) rfl (Nat.le_of_ble_eq_true rfl) fun x hxS F hnm => ?_
  subst hxS
  unfold f_X1_isCell at hk
  exact g_iload_n F dX1_isCell_0 rfl 0 rfl <|
g_i2l F dX1_isCell_1 <|
g_lconst F dX1_isCell_2 rfl <|
g_ldc2 F dX1_isCell_3 q2010 <|
g_calli0 (g_S F dX1_isCell_6 q442 ms_X1_inRange (rm' := rmX1_inRange) ⟨Nat.le_of_ble_eq_true rfl, Nat.le_of_ble_eq_true rfl⟩ ⟨Nat.le_refl 0, Nat.le_refl 0⟩ (As := [aL v0.toInt64, aL (0:Int64), aL (15:Int64)]) (rest := []) rfl rfl (Nat.le_of_ble_eq_true rfl) (m_X1_inRange F.ok v0.toInt64 (0:Int64) (15:Int64) h _ hk)) ⟨rfl, rfl⟩ fun x2 h1 hk =>
g_zret F dX1_isCell_9 (Nat.le_refl 0) (Nat.le_refl 0) hk.1 hk.2
abbrev rmX1_remember : Room := { frames := 18, cells := 1000, slots := 9457, locals := 3163 }
theorem s_X1_remember_j20 {x : Cx} (F : Fx x cX1_remember "LockstepRoom" 1 none rmX1_remember) {v0 : Nat} {Q : hH → Prop} {cb kb : Nat} (hM : cb + 1000 ≤ 1000) (hS : kb + 9457 ≤ 9457) (h : hH) (hk : f_X1_remember_j20 x.S.E v0 Q h) : G x (xQ x rmX1_remember (qV Q)) 20 [(0, aR (some v0))] [] h (cb + 0) (kb + 0) := by
  unfold f_X1_remember_j20 at hk
  exact g_aload_n F dX1_remember_20 rfl 0 rfl <|
g_getR F dX1_remember_21 fo_X1_1_LockstepRoom in_X1 fl_LockstepRoom_19_X1 hk fun x1 hk =>
g_aload_n F dX1_remember_24 rfl 0 rfl <|
g_getR F dX1_remember_25 fo_X1_0_LockstepRoom in_X1 fl_LockstepRoom_10_X1 hk fun x2 hk =>
g_callr (g_V F dX1_remember_28 q2032 mi_X2_copy ct_X2 (rm' := rmX2_copy) ⟨Nat.le_of_ble_eq_true rfl, Nat.le_of_ble_eq_true rfl⟩ ⟨show cb + 0 + 1000 ≤ 1000 by omega, show kb + 0 + 9457 ≤ 9457 by omega⟩ (As := []) (rest := [aR x1]) rfl rfl (Nat.le_of_ble_eq_true rfl) hk (fun a5 hk => m_X2_copy F.ok a5 h _ hk)) fun x4 h3 hk =>
g_callv0 (g_V F dX1_remember_31 q2433 mi_J5_addLast ct_J5 (rm' := rmJ5_addLast) ⟨Nat.le_of_ble_eq_true rfl, Nat.le_of_ble_eq_true rfl⟩ ⟨show cb + 0 + 1000 + 0 ≤ 1000 by omega, show kb + 0 + 9457 + 0 ≤ 9457 by omega⟩ (As := [aR x4]) (rest := []) rfl rfl (Nat.le_of_ble_eq_true rfl) hk (fun a7 hk => m_J5_addLast F.ok a7 x4 h3 _ hk)) ⟨rfl, rfl⟩ fun h6 hk =>
g_vret F dX1_remember_34 (show cb + 0 + 1000 ≤ 1000 by omega) (show kb + 0 + 9457 ≤ 9457 by omega) hk
theorem m_X1_remember {S : Sx} (hS0 : Sok S) (v0 : Nat) (h : hH) (Q : hH → Prop) (hk : f_X1_remember S.E v0 h Q) : Ct S yX1_remember (ws_ yX1_remember cX1_remember 1 none) rmX1_remember ([aR (some v0)].map vv) h (qV Q) := by
  refine Ct.of hS0 (by decide +kernel) rfl (Nat.le_of_ble_eq_true rfl) fun x hxS F hnm => ?_
  subst hxS
  unfold f_X1_remember at hk
  have hM : 0 + 1000 ≤ 1000 := by omega
  have hS : 0 + 9457 ≤ 9457 := by omega
  refine G.widen (c' := 0 + 0) (k' := 0 + 0) (Nat.le_refl 0) (Nat.le_refl 0) ?_
  exact g_aload_n F dX1_remember_0 rfl 0 rfl <|
g_getR F dX1_remember_1 fo_X1_1_LockstepRoom in_X1 fl_LockstepRoom_19_X1 hk fun x8 hk =>
g_calli0 (g_V F dX1_remember_4 q418 mi_J5_size ct_J5 (rm' := rmJ5_size) ⟨Nat.le_of_ble_eq_true rfl, Nat.le_of_ble_eq_true rfl⟩ ⟨show 0 + 0 + 0 ≤ 1000 by omega, show 0 + 0 + 0 ≤ 9457 by omega⟩ (As := []) (rest := []) rfl rfl (Nat.le_of_ble_eq_true rfl) hk (fun a11 hk => m_J5_size F.ok a11 h _ hk)) ⟨rfl, rfl⟩ fun x10 h9 hk =>
g_bipush F dX1_remember_7 bp_10 <|
g_icmp_ne F dX1_remember_9 (tgt := 20) rfl (fun hc => have hk := hk.2 hc
s_X1_remember_j20 F hM hS h9 hk ) (fun hc => have hk := hk.1 hc
g_aload_n F dX1_remember_12 rfl 0 rfl <|
g_getR F dX1_remember_13 fo_X1_1_LockstepRoom in_X1 fl_LockstepRoom_19_X1 hk fun x12 hk =>
g_callr0 (g_V F dX1_remember_16 q2021 mi_J5_removeFirst ct_J5 (rm' := rmJ5_removeFirst) ⟨Nat.le_of_ble_eq_true rfl, Nat.le_of_ble_eq_true rfl⟩ ⟨show 0 + 0 + 0 ≤ 1000 by omega, show 0 + 0 + 0 ≤ 9457 by omega⟩ (As := []) (rest := []) rfl rfl (Nat.le_of_ble_eq_true rfl) hk (fun a15 hk => m_J5_removeFirst F.ok a15 h9 _ hk)) ⟨rfl, rfl⟩ fun x14 h13 hk =>
g_pop F dX1_remember_19 rfl <|
s_X1_remember_j20 F hM hS h13 hk )
abbrev rmX1_give : Room := { frames := 19, cells := 1001, slots := 9462, locals := 3183 }
theorem m_X1_give {S : Sx} (hS0 : Sok S) (v0 : Nat) (v1 : Int32) (v2 : Int32) (v3 : Int32) (v4 : Int32) (h : hH) (Q : Int32 → hH → Prop) (hk : f_X1_give S.E v0 v1 v2 v3 v4 h Q) : Ct S yX1_give (ws_ yX1_give cX1_give 5 (some .int)) rmX1_give ([aR (some v0), aI v1, aI v2, aI v3, aI v4].map vv) h (qI Q) := by
  refine Ct.of hS0 (by decide +kernel) rfl (Nat.le_of_ble_eq_true rfl) fun x hxS F hnm => ?_
  subst hxS
  unfold f_X1_give at hk
  have hM : 0 + 1001 ≤ 1001 := by omega
  have hS : 0 + 9462 ≤ 9462 := by omega
  refine G.widen (c' := 0 + 0) (k' := 0 + 0) (Nat.le_refl 0) (Nat.le_refl 0) ?_
  exact g_aload_n F dX1_give_0 rfl 0 rfl <|
g_iload_n F dX1_give_1 rfl 1 rfl <|
g_calli0 (g_V F dX1_give_2 q2002 mi_X1_isMember ct_X1 (rm' := rmX1_isMember) ⟨Nat.le_of_ble_eq_true rfl, Nat.le_of_ble_eq_true rfl⟩ ⟨show 0 + 0 + 0 ≤ 1001 by omega, show 0 + 0 + 0 ≤ 9462 by omega⟩ (As := [aI v1]) (rest := []) rfl rfl (Nat.le_of_ble_eq_true rfl) hk (fun a3 hk => m_X1_isMember F.ok a3 v1 h _ hk)) ⟨rfl, rfl⟩ fun x2 h1 hk =>
g_if_ne F dX1_give_5 (tgt := 10) rfl (fun hc => have hk := hk.2 hc
g_iload_n F dX1_give_10 rfl 2 rfl <|
g_i2l F dX1_give_11 <|
g_lconst F dX1_give_12 rfl <|
g_ldc2 F dX1_give_13 q2006 <|
g_calli0 (g_S F dX1_give_16 q442 ms_X1_inRange (rm' := rmX1_inRange) ⟨Nat.le_of_ble_eq_true rfl, Nat.le_of_ble_eq_true rfl⟩ ⟨show 0 + 0 + 0 ≤ 1001 by omega, show 0 + 0 + 0 ≤ 9462 by omega⟩ (As := [aL v2.toInt64, aL (0:Int64), aL (5:Int64)]) (rest := []) rfl rfl (Nat.le_of_ble_eq_true rfl) (m_X1_inRange F.ok v2.toInt64 (0:Int64) (5:Int64) h1 _ hk)) ⟨rfl, rfl⟩ fun x5 h4 hk =>
g_if_eq F dX1_give_19 (tgt := 38) rfl (fun hc => have hk := hk.1 hc
g_bipush F dX1_give_38 bp_m2 <|
g_iret F dX1_give_40 (show 0 + 0 ≤ 1001 by omega) (show 0 + 0 ≤ 9462 by omega) hk) (fun hc => have hk := hk.2 hc
g_iload_n F dX1_give_22 rfl 3 rfl <|
g_calli0 (g_S F dX1_give_23 q2007 ms_X1_isCell (rm' := rmX1_isCell) ⟨Nat.le_of_ble_eq_true rfl, Nat.le_of_ble_eq_true rfl⟩ ⟨show 0 + 0 + 0 ≤ 1001 by omega, show 0 + 0 + 0 ≤ 9462 by omega⟩ (As := [aI v3]) (rest := []) rfl rfl (Nat.le_of_ble_eq_true rfl) (m_X1_isCell F.ok v3 h4 _ hk)) ⟨rfl, rfl⟩ fun x7 h6 hk =>
g_if_eq F dX1_give_26 (tgt := 38) rfl (fun hc => have hk := hk.1 hc
g_bipush F dX1_give_38 bp_m2 <|
g_iret F dX1_give_40 (show 0 + 0 ≤ 1001 by omega) (show 0 + 0 ≤ 9462 by omega) hk) (fun hc => have hk := hk.2 hc
g_iload_n F dX1_give_29 rfl 2 rfl <|
g_iload F dX1_give_30 4 rfl <|
g_calli0 (g_S F dX1_give_32 q2011 ms_X8_isOperand (rm' := rmX8_isOperand) ⟨Nat.le_of_ble_eq_true rfl, Nat.le_of_ble_eq_true rfl⟩ ⟨show 0 + 0 + 0 ≤ 1001 by omega, show 0 + 0 + 0 ≤ 9462 by omega⟩ (As := [aI v2, aI v4]) (rest := []) rfl rfl (Nat.le_of_ble_eq_true rfl) (m_X8_isOperand F.ok v2 v4 h6 _ hk)) ⟨rfl, rfl⟩ fun x9 h8 hk =>
g_if_ne F dX1_give_35 (tgt := 41) rfl (fun hc => have hk := hk.2 hc
g_aload_n F dX1_give_41 rfl 0 rfl <|
g_getR F dX1_give_42 fo_X1_0_LockstepRoom in_X1 fl_LockstepRoom_10_X1 hk fun x10 hk =>
g_iload_n F dX1_give_45 rfl 1 rfl <|
g_callr0 (g_V F dX1_give_46 q1585 mi_X2_member ct_X2 (rm' := rmX2_member) ⟨Nat.le_of_ble_eq_true rfl, Nat.le_of_ble_eq_true rfl⟩ ⟨show 0 + 0 + 0 ≤ 1001 by omega, show 0 + 0 + 0 ≤ 9462 by omega⟩ (As := [aI v1]) (rest := []) rfl rfl (Nat.le_of_ble_eq_true rfl) hk (fun a13 hk => m_X2_member F.ok a13 v1 h8 _ hk)) ⟨rfl, rfl⟩ fun x12 h11 hk =>
g_getI F dX1_give_49 fo_X10_5_LockstepRoom_Member in_X10 fl_LockstepRoom_145_X10 hk fun x14 hk =>
g_if_ne F dX1_give_52 (tgt := 58) rfl (fun hc => have hk := hk.2 hc
g_aload_n F dX1_give_58 rfl 0 rfl <|
g_getR F dX1_give_59 fo_X1_0_LockstepRoom in_X1 fl_LockstepRoom_10_X1 hk fun x15 hk =>
g_getR F dX1_give_62 fo_X2_5_LockstepRoom_Room in_X2 fl_LockstepRoom_121_X2 hk fun x16 hk =>
g_calli0 (g_V F dX1_give_65 q1580 mi_J4_size ct_J4 (rm' := rmJ4_size) ⟨Nat.le_of_ble_eq_true rfl, Nat.le_of_ble_eq_true rfl⟩ ⟨show 0 + 0 + 0 ≤ 1001 by omega, show 0 + 0 + 0 ≤ 9462 by omega⟩ (As := []) (rest := []) rfl rfl (Nat.le_of_ble_eq_true rfl) hk (fun a19 hk => m_J4_size F.ok a19 h11 _ hk)) ⟨rfl, rfl⟩ fun x18 h17 hk =>
g_bipush F dX1_give_68 bp_8 <|
g_icmp_ne F dX1_give_70 (tgt := 76) rfl (fun hc => have hk := hk.2 hc
g_aload_n F dX1_give_76 rfl 0 rfl <|
g_callv (g_V F dX1_give_77 q2017 mi_X1_remember ct_X1 (rm' := rmX1_remember) ⟨Nat.le_of_ble_eq_true rfl, Nat.le_of_ble_eq_true rfl⟩ ⟨show 0 + 0 + 1000 ≤ 1001 by omega, show 0 + 0 + 9457 ≤ 9462 by omega⟩ (As := []) (rest := []) rfl rfl (Nat.le_of_ble_eq_true rfl) hk (fun a21 hk => m_X1_remember F.ok a21 h17 _ hk)) fun h20 hk =>
g_aload_n F dX1_give_80 rfl 0 rfl <|
g_getR F dX1_give_81 fo_X1_0_LockstepRoom in_X1 fl_LockstepRoom_10_X1 hk fun x22 hk =>
g_iload_n F dX1_give_84 rfl 1 rfl <|
g_iload_n F dX1_give_85 rfl 2 rfl <|
g_iload_n F dX1_give_86 rfl 3 rfl <|
g_iload F dX1_give_87 4 rfl <|
g_calli (g_V F dX1_give_89 q2437 mi_X2_give ct_X2 (rm' := rmX2_give) ⟨Nat.le_of_ble_eq_true rfl, Nat.le_of_ble_eq_true rfl⟩ ⟨show 0 + 0 + 1000 + 1 ≤ 1001 by omega, show 0 + 0 + 9457 + 5 ≤ 9462 by omega⟩ (As := [aI v1, aI v2, aI v3, aI v4]) (rest := []) rfl rfl (Nat.le_of_ble_eq_true rfl) hk (fun a25 hk => m_X2_give F.ok a25 v1 v2 v3 v4 h20 _ hk)) fun x24 h23 hk =>
g_iret F dX1_give_92 (show 0 + 0 + 1000 + 1 ≤ 1001 by omega) (show 0 + 0 + 9457 + 5 ≤ 9462 by omega) hk) (fun hc => have hk := hk.1 hc
g_bipush F dX1_give_73 bp_m3 <|
g_iret F dX1_give_75 (show 0 + 0 ≤ 1001 by omega) (show 0 + 0 ≤ 9462 by omega) hk)) (fun hc => have hk := hk.1 hc
g_bipush F dX1_give_55 bp_m4 <|
g_iret F dX1_give_57 (show 0 + 0 ≤ 1001 by omega) (show 0 + 0 ≤ 9462 by omega) hk)) (fun hc => have hk := hk.1 hc
g_bipush F dX1_give_38 bp_m2 <|
g_iret F dX1_give_40 (show 0 + 0 ≤ 1001 by omega) (show 0 + 0 ≤ 9462 by omega) hk)))) (fun hc => have hk := hk.1 hc
g_iconst F dX1_give_8 ic_m1 <|
g_iret F dX1_give_9 (show 0 + 0 ≤ 1001 by omega) (show 0 + 0 ≤ 9462 by omega) hk)
abbrev rmX1_seal : Room := { frames := 19, cells := 1002, slots := 9529, locals := 3183 }
theorem m_X1_seal {S : Sx} (hS0 : Sok S) (v0 : Nat) (h : hH) (Q : Int32 → hH → Prop) (hk : f_X1_seal S.E v0 h Q) : Ct S yX1_seal (ws_ yX1_seal cX1_seal 1 (some .int)) rmX1_seal ([aR (some v0)].map vv) h (qI Q) := by
  refine Ct.of hS0 (by decide +kernel) rfl (Nat.le_of_ble_eq_true rfl) fun x hxS F hnm => ?_
  subst hxS
  unfold f_X1_seal at hk
  have hM : 0 + 1002 ≤ 1002 := by omega
  have hS : 0 + 9529 ≤ 9529 := by omega
  refine G.widen (c' := 0 + 0) (k' := 0 + 0) (Nat.le_refl 0) (Nat.le_refl 0) ?_
  exact g_aload_n F dX1_seal_0 rfl 0 rfl <|
g_getR F dX1_seal_1 fo_X1_0_LockstepRoom in_X1 fl_LockstepRoom_10_X1 hk fun x1 hk =>
g_getR F dX1_seal_4 fo_X2_4_LockstepRoom_Room in_X2 fl_LockstepRoom_112_X2 hk fun x2 hk =>
g_calli0 (g_V F dX1_seal_7 q1579 mi_J2_size ct_J2 (rm' := rmJ2_size) ⟨Nat.le_of_ble_eq_true rfl, Nat.le_of_ble_eq_true rfl⟩ ⟨show 0 + 0 + 0 ≤ 1002 by omega, show 0 + 0 + 0 ≤ 9529 by omega⟩ (As := []) (rest := []) rfl rfl (Nat.le_of_ble_eq_true rfl) hk (fun a5 hk => m_J2_size F.ok a5 h _ hk)) ⟨rfl, rfl⟩ fun x4 h3 hk =>
g_bipush F dX1_seal_10 bp_40 <|
g_icmp_ne F dX1_seal_12 (tgt := 18) rfl (fun hc => have hk := hk.2 hc
g_aload_n F dX1_seal_18 rfl 0 rfl <|
g_callv (g_V F dX1_seal_19 q2017 mi_X1_remember ct_X1 (rm' := rmX1_remember) ⟨Nat.le_of_ble_eq_true rfl, Nat.le_of_ble_eq_true rfl⟩ ⟨show 0 + 0 + 1000 ≤ 1002 by omega, show 0 + 0 + 9457 ≤ 9529 by omega⟩ (As := []) (rest := []) rfl rfl (Nat.le_of_ble_eq_true rfl) hk (fun a7 hk => m_X1_remember F.ok a7 h3 _ hk)) fun h6 hk =>
g_aload_n F dX1_seal_22 rfl 0 rfl <|
g_getR F dX1_seal_23 fo_X1_0_LockstepRoom in_X1 fl_LockstepRoom_10_X1 hk fun x8 hk =>
g_calli (g_V F dX1_seal_26 q2442 mi_X2_seal ct_X2 (rm' := rmX2_seal) ⟨Nat.le_of_ble_eq_true rfl, Nat.le_of_ble_eq_true rfl⟩ ⟨show 0 + 0 + 1000 + 2 ≤ 1002 by omega, show 0 + 0 + 9457 + 72 ≤ 9529 by omega⟩ (As := []) (rest := []) rfl rfl (Nat.le_of_ble_eq_true rfl) hk (fun a11 hk => m_X2_seal F.ok a11 h6 _ hk)) fun x10 h9 hk =>
g_iret F dX1_seal_29 (show 0 + 0 + 1000 + 2 ≤ 1002 by omega) (show 0 + 0 + 9457 + 72 ≤ 9529 by omega) hk) (fun hc => have hk := hk.1 hc
g_bipush F dX1_seal_15 bp_m3 <|
g_iret F dX1_seal_17 (show 0 + 0 ≤ 1002 by omega) (show 0 + 0 ≤ 9529 by omega) hk)
abbrev rmX1_run : Room := { frames := 19, cells := 1164, slots := 11097, locals := 3183 }
theorem m_X1_run {S : Sx} (hS0 : Sok S) (v0 : Nat) (v1 : Int32) (v2 : Int32) (h : hH) (Q : Int32 → hH → Prop) (hk : f_X1_run S.E v0 v1 v2 h Q) : Ct S yX1_run (ws_ yX1_run cX1_run 4 (some .int)) rmX1_run ([aR (some v0), aI v1, aI v2].map vv) h (qI Q) := by
  refine Ct.of hS0 (by decide +kernel) rfl (Nat.le_of_ble_eq_true rfl) fun x hxS F hnm => ?_
  subst hxS
  unfold f_X1_run at hk
  have hM : 0 + 1164 ≤ 1164 := by omega
  have hS : 0 + 11097 ≤ 11097 := by omega
  refine G.widen (c' := 0 + 0) (k' := 0 + 0) (Nat.le_refl 0) (Nat.le_refl 0) ?_
  exact g_aload_n F dX1_run_0 rfl 0 rfl <|
g_iload_n F dX1_run_1 rfl 1 rfl <|
g_calli0 (g_V F dX1_run_2 q2002 mi_X1_isMember ct_X1 (rm' := rmX1_isMember) ⟨Nat.le_of_ble_eq_true rfl, Nat.le_of_ble_eq_true rfl⟩ ⟨show 0 + 0 + 0 ≤ 1164 by omega, show 0 + 0 + 0 ≤ 11097 by omega⟩ (As := [aI v1]) (rest := []) rfl rfl (Nat.le_of_ble_eq_true rfl) hk (fun a3 hk => m_X1_isMember F.ok a3 v1 h _ hk)) ⟨rfl, rfl⟩ fun x2 h1 hk =>
g_if_ne F dX1_run_5 (tgt := 10) rfl (fun hc => have hk := hk.2 hc
g_iload_n F dX1_run_10 rfl 2 rfl <|
g_i2l F dX1_run_11 <|
g_lconst F dX1_run_12 rfl <|
g_ldc2 F dX1_run_13 q2447 <|
g_calli0 (g_S F dX1_run_16 q442 ms_X1_inRange (rm' := rmX1_inRange) ⟨Nat.le_of_ble_eq_true rfl, Nat.le_of_ble_eq_true rfl⟩ ⟨show 0 + 0 + 0 ≤ 1164 by omega, show 0 + 0 + 0 ≤ 11097 by omega⟩ (As := [aL v2.toInt64, aL (1:Int64), aL (40:Int64)]) (rest := []) rfl rfl (Nat.le_of_ble_eq_true rfl) (m_X1_inRange F.ok v2.toInt64 (1:Int64) (40:Int64) h1 _ hk)) ⟨rfl, rfl⟩ fun x5 h4 hk =>
g_if_ne F dX1_run_19 (tgt := 25) rfl (fun hc => have hk := hk.2 hc
g_aload_n F dX1_run_25 rfl 0 rfl <|
g_getR F dX1_run_26 fo_X1_0_LockstepRoom in_X1 fl_LockstepRoom_10_X1 hk fun x6 hk =>
g_iload_n F dX1_run_29 rfl 1 rfl <|
g_callr0 (g_V F dX1_run_30 q1585 mi_X2_member ct_X2 (rm' := rmX2_member) ⟨Nat.le_of_ble_eq_true rfl, Nat.le_of_ble_eq_true rfl⟩ ⟨show 0 + 0 + 0 ≤ 1164 by omega, show 0 + 0 + 0 ≤ 11097 by omega⟩ (As := [aI v1]) (rest := []) rfl rfl (Nat.le_of_ble_eq_true rfl) hk (fun a9 hk => m_X2_member F.ok a9 v1 h4 _ hk)) ⟨rfl, rfl⟩ fun x8 h7 hk =>
g_getI F dX1_run_33 fo_X10_5_LockstepRoom_Member in_X10 fl_LockstepRoom_145_X10 hk fun x10 hk =>
g_if_ne F dX1_run_36 (tgt := 42) rfl (fun hc => have hk := hk.2 hc
g_aload_n F dX1_run_42 rfl 0 rfl <|
g_callv (g_V F dX1_run_43 q2017 mi_X1_remember ct_X1 (rm' := rmX1_remember) ⟨Nat.le_of_ble_eq_true rfl, Nat.le_of_ble_eq_true rfl⟩ ⟨show 0 + 0 + 1000 ≤ 1164 by omega, show 0 + 0 + 9457 ≤ 11097 by omega⟩ (As := []) (rest := []) rfl rfl (Nat.le_of_ble_eq_true rfl) hk (fun a12 hk => m_X1_remember F.ok a12 h7 _ hk)) fun h11 hk =>
g_aload_n F dX1_run_46 rfl 0 rfl <|
g_getR F dX1_run_47 fo_X1_0_LockstepRoom in_X1 fl_LockstepRoom_10_X1 hk fun x13 hk =>
g_iload_n F dX1_run_50 rfl 1 rfl <|
g_callr0 (g_V F dX1_run_51 q1585 mi_X2_member ct_X2 (rm' := rmX2_member) ⟨Nat.le_of_ble_eq_true rfl, Nat.le_of_ble_eq_true rfl⟩ ⟨show 0 + 0 + 1000 + 0 ≤ 1164 by omega, show 0 + 0 + 9457 + 0 ≤ 11097 by omega⟩ (As := [aI v1]) (rest := []) rfl rfl (Nat.le_of_ble_eq_true rfl) hk (fun a16 hk => m_X2_member F.ok a16 v1 h11 _ hk)) ⟨rfl, rfl⟩ fun x15 h14 hk =>
g_astore_n F dX1_run_54 rfl (Nat.le_of_ble_eq_true rfl) rfl <|
g_aload_n F dX1_run_55 rfl 1 rfl <|
g_getR F dX1_run_56 fo_X1_0_LockstepRoom in_X1 fl_LockstepRoom_10_X1 hk fun x17 hk =>
g_aload_n F dX1_run_59 rfl 0 rfl <|
g_iload_n F dX1_run_60 rfl 3 rfl <|
g_aload_n F dX1_run_61 rfl 1 rfl <|
g_getR F dX1_run_62 fo_X1_0_LockstepRoom in_X1 fl_LockstepRoom_10_X1 hk fun x18 hk =>
g_aload_n F dX1_run_65 rfl 0 rfl <|
g_aload_n F dX1_run_66 rfl 1 rfl <|
g_getR F dX1_run_67 fo_X1_0_LockstepRoom in_X1 fl_LockstepRoom_10_X1 hk fun x19 hk =>
g_calli0 (g_V F dX1_run_70 q1969 mi_X2_least ct_X2 (rm' := rmX2_least) ⟨Nat.le_of_ble_eq_true rfl, Nat.le_of_ble_eq_true rfl⟩ ⟨show 0 + 0 + 1000 + 0 ≤ 1164 by omega, show 0 + 0 + 9457 + 0 ≤ 11097 by omega⟩ (As := []) (rest := [aR x15, aR x18, aI v2, aR x15, aR x17]) rfl rfl (Nat.le_of_ble_eq_true rfl) hk (fun a22 hk => m_X2_least F.ok a22 h14 _ hk)) ⟨rfl, rfl⟩ fun x21 h20 hk =>
g_calli0 (g_V F dX1_run_73 q2448 mi_X2_mayRun ct_X2 (rm' := rmX2_mayRun) ⟨Nat.le_of_ble_eq_true rfl, Nat.le_of_ble_eq_true rfl⟩ ⟨show 0 + 0 + 1000 + 0 ≤ 1164 by omega, show 0 + 0 + 9457 + 0 ≤ 11097 by omega⟩ (As := [aR x15, aI x21]) (rest := [aI v2, aR x15, aR x17]) rfl rfl (Nat.le_of_ble_eq_true rfl) hk (fun a25 hk => m_X2_mayRun F.ok a25 x15 x21 h20 _ hk)) ⟨rfl, rfl⟩ fun x24 h23 hk =>
g_mmin (rest := [aR x15, aR x17]) F dX1_run_76 q2453 q556 q130 q557 (Nat.le_of_ble_eq_true rfl) (Nat.le_of_ble_eq_true rfl) (show 0 + 0 + 1000 ≤ 1164 by omega) (show 0 + 0 + 9457 ≤ 11097 by omega) <|
g_calli (g_V F dX1_run_79 q2454 mi_X2_run ct_X2 (rm' := rmX2_run) ⟨Nat.le_of_ble_eq_true rfl, Nat.le_of_ble_eq_true rfl⟩ ⟨show 0 + 0 + 1000 + 164 ≤ 1164 by omega, show 0 + 0 + 9457 + 1640 ≤ 11097 by omega⟩ (As := [aR x15, aI (iMin v2 x24)]) (rest := []) rfl rfl (Nat.le_of_ble_eq_true rfl) hk (fun a28 hk => m_X2_run F.ok a28 x15 (iMin v2 x24) h23 _ hk)) fun x27 h26 hk =>
g_iret F dX1_run_82 (show 0 + 0 + 1000 + 164 ≤ 1164 by omega) (show 0 + 0 + 9457 + 1640 ≤ 11097 by omega) hk) (fun hc => have hk := hk.1 hc
g_bipush F dX1_run_39 bp_m4 <|
g_iret F dX1_run_41 (show 0 + 0 ≤ 1164 by omega) (show 0 + 0 ≤ 11097 by omega) hk)) (fun hc => have hk := hk.1 hc
g_bipush F dX1_run_22 bp_m2 <|
g_iret F dX1_run_24 (show 0 + 0 ≤ 1164 by omega) (show 0 + 0 ≤ 11097 by omega) hk)) (fun hc => have hk := hk.1 hc
g_iconst F dX1_run_8 ic_m1 <|
g_iret F dX1_run_9 (show 0 + 0 ≤ 1164 by omega) (show 0 + 0 ≤ 11097 by omega) hk)
abbrev rmX1_tick : Room := { frames := 19, cells := 2148, slots := 20937, locals := 3183 }
theorem s_X1_tick_l16 {x : Cx} (F : Fx x cX1_tick "LockstepRoom" 5 (some .int) rmX1_tick) {v0 : Nat} {Q : Int32 → hH → Prop} {K70 : Int32 → hH → Prop} {ce ke : Nat} (hM2 : ce ≤ 2148) (hS2 : ke ≤ 20937) (n : Nat) (l1 : Int32) (l2 : Int32) (l3 : Int32) (h : hH) (cb kb : Nat) (hM0 : cb + n * 164 ≤ ce) (hS0 : kb + n * 1640 ≤ ke) (hk : f_X1_tick_l16 x.S.E v0 Q K70 n l1 l2 l3 h) (hK70 : ∀ (l2 : Int32) (h : hH), K70 l2 h → G x (xQ x rmX1_tick (qI Q)) 70 [(2, aI l2)] [] h ce ke) : G x (xQ x rmX1_tick (qI Q)) 16 [(0, aR (some v0)), (1, aI l1), (2, aI l2), (3, aI l3)] [] h cb kb := by
  induction n generalizing l1 l2 l3 h cb kb with
  | zero => exact False.elim hk
  | succ n ih =>
    have hM : cb + 164 ≤ ce := by omega
    have hS : kb + 1640 ≤ ke := by omega
    unfold f_X1_tick_l16 at hk
    exact G.widen (c' := cb + 0) (k' := kb + 0) (Nat.le_refl _) (Nat.le_refl _) <| g_iload_n F dX1_tick_16 rfl 3 rfl <|
g_aload_n F dX1_tick_17 rfl 0 rfl <|
g_calli0 (g_V F dX1_tick_18 q1575 mi_X1_members ct_X1 (rm' := rmX1_members) ⟨Nat.le_of_ble_eq_true rfl, Nat.le_of_ble_eq_true rfl⟩ ⟨show cb + 0 + 0 ≤ 2148 by omega, show kb + 0 + 0 ≤ 20937 by omega⟩ (As := []) (rest := [aI l3]) rfl rfl (Nat.le_of_ble_eq_true rfl) hk (fun a3 hk => m_X1_members F.ok a3 h _ hk)) ⟨rfl, rfl⟩ fun x2 h1 hk =>
g_icmp_ge F dX1_tick_21 (tgt := 70) rfl (fun hc => have hk := hk.1 hc
G.fewer [2] rfl <| G.widen (show cb + 0 ≤ ce by omega) (show kb + 0 ≤ ke by omega) <| hK70 l2 h1 hk) (fun hc => have hk := hk.2 hc
g_aload_n F dX1_tick_24 rfl 0 rfl <|
g_getR F dX1_tick_25 fo_X1_0_LockstepRoom in_X1 fl_LockstepRoom_10_X1 hk fun x4 hk =>
g_iload_n F dX1_tick_28 rfl 3 rfl <|
g_callr0 (g_V F dX1_tick_29 q1585 mi_X2_member ct_X2 (rm' := rmX2_member) ⟨Nat.le_of_ble_eq_true rfl, Nat.le_of_ble_eq_true rfl⟩ ⟨show cb + 0 + 0 ≤ 2148 by omega, show kb + 0 + 0 ≤ 20937 by omega⟩ (As := [aI l3]) (rest := []) rfl rfl (Nat.le_of_ble_eq_true rfl) hk (fun a7 hk => m_X2_member F.ok a7 l3 h1 _ hk)) ⟨rfl, rfl⟩ fun x6 h5 hk =>
g_astore F dX1_tick_32 (Nat.le_of_ble_eq_true rfl) rfl <|
g_iload_n F dX1_tick_34 rfl 3 rfl <|
g_aload_n F dX1_tick_35 rfl 1 rfl <|
g_getR F dX1_tick_36 fo_X1_0_LockstepRoom in_X1 fl_LockstepRoom_10_X1 hk fun x8 hk =>
g_aload F dX1_tick_39 0 rfl <|
g_aload F dX1_tick_41 0 rfl <|
g_getI F dX1_tick_43 fo_X10_2_LockstepRoom_Member in_X10 fl_LockstepRoom_139_X10 hk fun x9 hk =>
g_aload_n F dX1_tick_46 rfl 1 rfl <|
g_getR F dX1_tick_47 fo_X1_0_LockstepRoom in_X1 fl_LockstepRoom_10_X1 hk fun x10 hk =>
g_aload F dX1_tick_50 0 rfl <|
g_iload_n F dX1_tick_52 rfl 2 rfl <|
g_calli0 (g_V F dX1_tick_53 q2448 mi_X2_mayRun ct_X2 (rm' := rmX2_mayRun) ⟨Nat.le_of_ble_eq_true rfl, Nat.le_of_ble_eq_true rfl⟩ ⟨show cb + 0 + 0 ≤ 2148 by omega, show kb + 0 + 0 ≤ 20937 by omega⟩ (As := [aR x6, aI l1]) (rest := [aI x9, aR x6, aR x8, aI l2]) rfl rfl (Nat.le_of_ble_eq_true rfl) hk (fun a13 hk => m_X2_mayRun F.ok a13 x6 l1 h5 _ hk)) ⟨rfl, rfl⟩ fun x12 h11 hk =>
g_mmin (rest := [aR x6, aR x8, aI l2]) F dX1_tick_56 q2453 q556 q130 q557 (Nat.le_of_ble_eq_true rfl) (Nat.le_of_ble_eq_true rfl) (show cb + 0 ≤ 2148 by omega) (show kb + 0 ≤ 20937 by omega) <|
g_calli (g_V F dX1_tick_59 q2454 mi_X2_run ct_X2 (rm' := rmX2_run) ⟨Nat.le_of_ble_eq_true rfl, Nat.le_of_ble_eq_true rfl⟩ ⟨show cb + 0 + 164 ≤ 2148 by omega, show kb + 0 + 1640 ≤ 20937 by omega⟩ (As := [aR x6, aI (iMin x9 x12)]) (rest := [aI l2]) rfl rfl (Nat.le_of_ble_eq_true rfl) hk (fun a16 hk => m_X2_run F.ok a16 x6 (iMin x9 x12) h11 _ hk)) fun x15 h14 hk =>
g_iadd F dX1_tick_62 <|
g_istore_n F dX1_tick_63 rfl (Nat.le_of_ble_eq_true rfl) rfl <|
g_iinc (v := (l3 + (1:Int32))) F dX1_tick_64 (j := 4) rfl (iinc_1 l3) (Nat.le_of_ble_eq_true rfl) rfl <|
g_goto F dX1_tick_67 (tgt := 16) rfl <|
G.fewer [3, 4, 1, 0] rfl <| G.widen (show cb + 0 + 164 ≤ cb + 164 by omega) (show kb + 0 + 1640 ≤ kb + 1640 by omega) <| (fun l1 l2 l3 h hk => ih l1 l2 l3 h (cb + 164) (kb + 1640) (by omega) (by omega) hk) l1 (l2 + x15) (l3 + (1:Int32)) h14 hk)
theorem m_X1_tick {S : Sx} (hS0 : Sok S) (v0 : Nat) (h : hH) (Q : Int32 → hH → Prop) (hk : f_X1_tick S.E v0 h Q) : Ct S yX1_tick (ws_ yX1_tick cX1_tick 5 (some .int)) rmX1_tick ([aR (some v0)].map vv) h (qI Q) := by
  refine Ct.of hS0 (by decide +kernel) rfl (Nat.le_of_ble_eq_true rfl) fun x hxS F hnm => ?_
  subst hxS
  unfold f_X1_tick at hk
  have hM : 0 + 2148 ≤ 2148 := by omega
  have hS : 0 + 20937 ≤ 20937 := by omega
  refine G.widen (c' := 0 + 0) (k' := 0 + 0) (Nat.le_refl 0) (Nat.le_refl 0) ?_
  exact g_aload_n F dX1_tick_0 rfl 0 rfl <|
g_callv (g_V F dX1_tick_1 q2017 mi_X1_remember ct_X1 (rm' := rmX1_remember) ⟨Nat.le_of_ble_eq_true rfl, Nat.le_of_ble_eq_true rfl⟩ ⟨show 0 + 0 + 1000 ≤ 2148 by omega, show 0 + 0 + 9457 ≤ 20937 by omega⟩ (As := []) (rest := []) rfl rfl (Nat.le_of_ble_eq_true rfl) hk (fun a18 hk => m_X1_remember F.ok a18 h _ hk)) fun h17 hk =>
g_aload_n F dX1_tick_4 rfl 0 rfl <|
g_getR F dX1_tick_5 fo_X1_0_LockstepRoom in_X1 fl_LockstepRoom_10_X1 hk fun x19 hk =>
g_calli0 (g_V F dX1_tick_8 q1969 mi_X2_least ct_X2 (rm' := rmX2_least) ⟨Nat.le_of_ble_eq_true rfl, Nat.le_of_ble_eq_true rfl⟩ ⟨show 0 + 0 + 1000 + 0 ≤ 2148 by omega, show 0 + 0 + 9457 + 0 ≤ 20937 by omega⟩ (As := []) (rest := []) rfl rfl (Nat.le_of_ble_eq_true rfl) hk (fun a22 hk => m_X2_least F.ok a22 h17 _ hk)) ⟨rfl, rfl⟩ fun x21 h20 hk =>
g_istore_n F dX1_tick_11 rfl (Nat.le_of_ble_eq_true rfl) rfl <|
g_iconst F dX1_tick_12 ic_0 <|
g_istore_n F dX1_tick_13 rfl (Nat.le_of_ble_eq_true rfl) rfl <|
g_iconst F dX1_tick_14 ic_0 <|
g_istore_n F dX1_tick_15 rfl (Nat.le_of_ble_eq_true rfl) rfl <|
G.fewer [3, 2, 1, 0] rfl <| G.widen (show 0 + 0 + 1000 ≤ 0 + 1000 by omega) (show 0 + 0 + 9457 ≤ 0 + 9457 by omega) <| s_X1_tick_l16 F (ce := 0 + 2148) (ke := 0 + 20937) (show 0 + 2148 ≤ 2148 by omega) (show 0 + 20937 ≤ 20937 by omega) 7 x21 (0:Int32) (0:Int32) h20 (0 + 1000) (0 + 9457) (show 0 + 1000 + 7 * 164 ≤ 0 + 2148 by omega) (show 0 + 9457 + 7 * 1640 ≤ 0 + 20937 by omega) hk ((fun l2 h hk => g_iload_n F dX1_tick_70 rfl 0 rfl <|
g_iret F dX1_tick_71 (show 0 + 2148 ≤ 2148 by omega) (show 0 + 20937 ≤ 20937 by omega) hk))
abbrev rmX1_fault : Room := { frames := 19, cells := 1002, slots := 9525, locals := 3183 }
theorem m_X1_fault {S : Sx} (hS0 : Sok S) (v0 : Nat) (v1 : Int32) (v2 : Int32) (v3 : Int32) (v4 : Int32) (h : hH) (Q : Int32 → hH → Prop) (hk : f_X1_fault S.E v0 v1 v2 v3 v4 h Q) : Ct S yX1_fault (ws_ yX1_fault cX1_fault 5 (some .int)) rmX1_fault ([aR (some v0), aI v1, aI v2, aI v3, aI v4].map vv) h (qI Q) := by
  refine Ct.of hS0 (by decide +kernel) rfl (Nat.le_of_ble_eq_true rfl) fun x hxS F hnm => ?_
  subst hxS
  unfold f_X1_fault at hk
  have hM : 0 + 1002 ≤ 1002 := by omega
  have hS : 0 + 9525 ≤ 9525 := by omega
  refine G.widen (c' := 0 + 0) (k' := 0 + 0) (Nat.le_refl 0) (Nat.le_refl 0) ?_
  exact g_aload_n F dX1_fault_0 rfl 0 rfl <|
g_iload_n F dX1_fault_1 rfl 1 rfl <|
g_calli0 (g_V F dX1_fault_2 q2002 mi_X1_isMember ct_X1 (rm' := rmX1_isMember) ⟨Nat.le_of_ble_eq_true rfl, Nat.le_of_ble_eq_true rfl⟩ ⟨show 0 + 0 + 0 ≤ 1002 by omega, show 0 + 0 + 0 ≤ 9525 by omega⟩ (As := [aI v1]) (rest := []) rfl rfl (Nat.le_of_ble_eq_true rfl) hk (fun a3 hk => m_X1_isMember F.ok a3 v1 h _ hk)) ⟨rfl, rfl⟩ fun x2 h1 hk =>
g_if_ne F dX1_fault_5 (tgt := 10) rfl (fun hc => have hk := hk.2 hc
g_iload_n F dX1_fault_10 rfl 2 rfl <|
g_i2l F dX1_fault_11 <|
g_lconst F dX1_fault_12 rfl <|
g_ldc2 F dX1_fault_13 q2479 <|
g_calli0 (g_S F dX1_fault_16 q442 ms_X1_inRange (rm' := rmX1_inRange) ⟨Nat.le_of_ble_eq_true rfl, Nat.le_of_ble_eq_true rfl⟩ ⟨show 0 + 0 + 0 ≤ 1002 by omega, show 0 + 0 + 0 ≤ 9525 by omega⟩ (As := [aL v2.toInt64, aL (0:Int64), aL (39:Int64)]) (rest := []) rfl rfl (Nat.le_of_ble_eq_true rfl) (m_X1_inRange F.ok v2.toInt64 (0:Int64) (39:Int64) h1 _ hk)) ⟨rfl, rfl⟩ fun x5 h4 hk =>
g_if_eq F dX1_fault_19 (tgt := 42) rfl (fun hc => have hk := hk.1 hc
g_bipush F dX1_fault_42 bp_m2 <|
g_iret F dX1_fault_44 (show 0 + 0 ≤ 1002 by omega) (show 0 + 0 ≤ 9525 by omega) hk) (fun hc => have hk := hk.2 hc
g_iload_n F dX1_fault_22 rfl 3 rfl <|
g_calli0 (g_S F dX1_fault_23 q2007 ms_X1_isCell (rm' := rmX1_isCell) ⟨Nat.le_of_ble_eq_true rfl, Nat.le_of_ble_eq_true rfl⟩ ⟨show 0 + 0 + 0 ≤ 1002 by omega, show 0 + 0 + 0 ≤ 9525 by omega⟩ (As := [aI v3]) (rest := []) rfl rfl (Nat.le_of_ble_eq_true rfl) (m_X1_isCell F.ok v3 h4 _ hk)) ⟨rfl, rfl⟩ fun x7 h6 hk =>
g_if_eq F dX1_fault_26 (tgt := 42) rfl (fun hc => have hk := hk.1 hc
g_bipush F dX1_fault_42 bp_m2 <|
g_iret F dX1_fault_44 (show 0 + 0 ≤ 1002 by omega) (show 0 + 0 ≤ 9525 by omega) hk) (fun hc => have hk := hk.2 hc
g_iload F dX1_fault_29 4 rfl <|
g_i2l F dX1_fault_31 <|
g_lconst F dX1_fault_32 rfl <|
g_ldc2 F dX1_fault_33 q2480 <|
g_calli0 (g_S F dX1_fault_36 q442 ms_X1_inRange (rm' := rmX1_inRange) ⟨Nat.le_of_ble_eq_true rfl, Nat.le_of_ble_eq_true rfl⟩ ⟨show 0 + 0 + 0 ≤ 1002 by omega, show 0 + 0 + 0 ≤ 9525 by omega⟩ (As := [aL v4.toInt64, aL (1:Int64), aL (9999:Int64)]) (rest := []) rfl rfl (Nat.le_of_ble_eq_true rfl) (m_X1_inRange F.ok v4.toInt64 (1:Int64) (9999:Int64) h6 _ hk)) ⟨rfl, rfl⟩ fun x9 h8 hk =>
g_if_ne F dX1_fault_39 (tgt := 45) rfl (fun hc => have hk := hk.2 hc
g_aload_n F dX1_fault_45 rfl 0 rfl <|
g_getR F dX1_fault_46 fo_X1_0_LockstepRoom in_X1 fl_LockstepRoom_10_X1 hk fun x10 hk =>
g_iload_n F dX1_fault_49 rfl 1 rfl <|
g_callr0 (g_V F dX1_fault_50 q1585 mi_X2_member ct_X2 (rm' := rmX2_member) ⟨Nat.le_of_ble_eq_true rfl, Nat.le_of_ble_eq_true rfl⟩ ⟨show 0 + 0 + 0 ≤ 1002 by omega, show 0 + 0 + 0 ≤ 9525 by omega⟩ (As := [aI v1]) (rest := []) rfl rfl (Nat.le_of_ble_eq_true rfl) hk (fun a13 hk => m_X2_member F.ok a13 v1 h8 _ hk)) ⟨rfl, rfl⟩ fun x12 h11 hk =>
g_getI F dX1_fault_53 fo_X10_5_LockstepRoom_Member in_X10 fl_LockstepRoom_145_X10 hk fun x14 hk =>
g_if_eq F dX1_fault_56 (tgt := 74) rfl (fun hc => have hk := hk.1 hc
g_bipush F dX1_fault_74 bp_m4 <|
g_iret F dX1_fault_76 (show 0 + 0 ≤ 1002 by omega) (show 0 + 0 ≤ 9525 by omega) hk) (fun hc => have hk := hk.2 hc
g_iload_n F dX1_fault_59 rfl 2 rfl <|
g_aload_n F dX1_fault_60 rfl 0 rfl <|
g_getR F dX1_fault_61 fo_X1_0_LockstepRoom in_X1 fl_LockstepRoom_10_X1 hk fun x15 hk =>
g_iload_n F dX1_fault_64 rfl 1 rfl <|
g_callr0 (g_V F dX1_fault_65 q1585 mi_X2_member ct_X2 (rm' := rmX2_member) ⟨Nat.le_of_ble_eq_true rfl, Nat.le_of_ble_eq_true rfl⟩ ⟨show 0 + 0 + 0 ≤ 1002 by omega, show 0 + 0 + 0 ≤ 9525 by omega⟩ (As := [aI v1]) (rest := [aI v2]) rfl rfl (Nat.le_of_ble_eq_true rfl) hk (fun a18 hk => m_X2_member F.ok a18 v1 h11 _ hk)) ⟨rfl, rfl⟩ fun x17 h16 hk =>
g_getI F dX1_fault_68 fo_X10_4_LockstepRoom_Member in_X10 fl_LockstepRoom_142_X10 hk fun x19 hk =>
g_icmp_ge F dX1_fault_71 (tgt := 77) rfl (fun hc => have hk := hk.1 hc
g_aload_n F dX1_fault_77 rfl 0 rfl <|
g_getR F dX1_fault_78 fo_X1_0_LockstepRoom in_X1 fl_LockstepRoom_10_X1 hk fun x20 hk =>
g_getR F dX1_fault_81 fo_X2_6_LockstepRoom_Room in_X2 fl_LockstepRoom_128_X2 hk fun x21 hk =>
g_calli0 (g_V F dX1_fault_84 q1579 mi_J2_size ct_J2 (rm' := rmJ2_size) ⟨Nat.le_of_ble_eq_true rfl, Nat.le_of_ble_eq_true rfl⟩ ⟨show 0 + 0 + 0 ≤ 1002 by omega, show 0 + 0 + 0 ≤ 9525 by omega⟩ (As := []) (rest := []) rfl rfl (Nat.le_of_ble_eq_true rfl) hk (fun a24 hk => m_J2_size F.ok a24 h16 _ hk)) ⟨rfl, rfl⟩ fun x23 h22 hk =>
g_bipush F dX1_fault_87 bp_10 <|
g_icmp_ne F dX1_fault_89 (tgt := 95) rfl (fun hc => have hk := hk.2 hc
g_aload_n F dX1_fault_95 rfl 0 rfl <|
g_callv (g_V F dX1_fault_96 q2017 mi_X1_remember ct_X1 (rm' := rmX1_remember) ⟨Nat.le_of_ble_eq_true rfl, Nat.le_of_ble_eq_true rfl⟩ ⟨show 0 + 0 + 1000 ≤ 1002 by omega, show 0 + 0 + 9457 ≤ 9525 by omega⟩ (As := []) (rest := []) rfl rfl (Nat.le_of_ble_eq_true rfl) hk (fun a26 hk => m_X1_remember F.ok a26 h22 _ hk)) fun h25 hk =>
g_aload_n F dX1_fault_99 rfl 0 rfl <|
g_getR F dX1_fault_100 fo_X1_0_LockstepRoom in_X1 fl_LockstepRoom_10_X1 hk fun x27 hk =>
g_getR F dX1_fault_103 fo_X2_6_LockstepRoom_Room in_X2 fl_LockstepRoom_128_X2 hk fun x28 hk =>
g_new (fs := [.int 0, .int 0, .int 0, .int 0]) F dX1_fault_106 ck_X9 ct_X9 q2481 q1322 q146 df_X9 (show 0 + 0 + 1000 + 1 ≤ 1002 by omega) (show 0 + 0 + 9457 + 4 ≤ 9525 by omega) hk fun q29 h30 hk =>
g_dup F dX1_fault_109 rfl <|
g_iload_n F dX1_fault_110 rfl 1 rfl <|
g_iload_n F dX1_fault_111 rfl 2 rfl <|
g_iload_n F dX1_fault_112 rfl 3 rfl <|
g_iload F dX1_fault_113 4 rfl <|
g_callv0 (g_I F dX1_fault_115 q2482 mc_X9_init (rm' := rmX9_init) ⟨Nat.le_of_ble_eq_true rfl, Nat.le_of_ble_eq_true rfl⟩ ⟨show 0 + 0 + 1000 + 1 + 0 ≤ 1002 by omega, show 0 + 0 + 9457 + 4 + 0 ≤ 9525 by omega⟩ (As := [aI v1, aI v2, aI v3, aI v4]) (rest := [aR (some q29), aR x28]) rfl rfl (Nat.le_of_ble_eq_true rfl) (m_X9_init F.ok q29 v1 v2 v3 v4 h30 _ hk)) ⟨rfl, rfl⟩ fun h31 hk =>
g_calli (g_V F dX1_fault_118 q2483 mi_J2_add ct_J2 (rm' := rmJ2_add) ⟨Nat.le_of_ble_eq_true rfl, Nat.le_of_ble_eq_true rfl⟩ ⟨show 0 + 0 + 1000 + 1 + 1 ≤ 1002 by omega, show 0 + 0 + 9457 + 4 + 64 ≤ 9525 by omega⟩ (As := [aR (some q29)]) (rest := []) rfl rfl (Nat.le_of_ble_eq_true rfl) hk (fun a34 hk => m_J2_add F.ok a34 (some q29) h31 _ hk)) fun x33 h32 hk =>
g_pop F dX1_fault_121 rfl <|
g_aload_n F dX1_fault_122 rfl 0 rfl <|
g_getR F dX1_fault_123 fo_X1_0_LockstepRoom in_X1 fl_LockstepRoom_10_X1 hk fun x35 hk =>
g_getR F dX1_fault_126 fo_X2_6_LockstepRoom_Room in_X2 fl_LockstepRoom_128_X2 hk fun x36 hk =>
g_calli0 (g_V F dX1_fault_129 q1579 mi_J2_size ct_J2 (rm' := rmJ2_size) ⟨Nat.le_of_ble_eq_true rfl, Nat.le_of_ble_eq_true rfl⟩ ⟨show 0 + 0 + 1000 + 1 + 1 + 0 ≤ 1002 by omega, show 0 + 0 + 9457 + 4 + 64 + 0 ≤ 9525 by omega⟩ (As := []) (rest := []) rfl rfl (Nat.le_of_ble_eq_true rfl) hk (fun a39 hk => m_J2_size F.ok a39 h32 _ hk)) ⟨rfl, rfl⟩ fun x38 h37 hk =>
g_iret F dX1_fault_132 (show 0 + 0 + 1000 + 1 + 1 ≤ 1002 by omega) (show 0 + 0 + 9457 + 4 + 64 ≤ 9525 by omega) hk) (fun hc => have hk := hk.1 hc
g_bipush F dX1_fault_92 bp_m3 <|
g_iret F dX1_fault_94 (show 0 + 0 ≤ 1002 by omega) (show 0 + 0 ≤ 9525 by omega) hk)) (fun hc => have hk := hk.2 hc
g_bipush F dX1_fault_74 bp_m4 <|
g_iret F dX1_fault_76 (show 0 + 0 ≤ 1002 by omega) (show 0 + 0 ≤ 9525 by omega) hk))) (fun hc => have hk := hk.1 hc
g_bipush F dX1_fault_42 bp_m2 <|
g_iret F dX1_fault_44 (show 0 + 0 ≤ 1002 by omega) (show 0 + 0 ≤ 9525 by omega) hk)))) (fun hc => have hk := hk.1 hc
g_iconst F dX1_fault_8 ic_m1 <|
g_iret F dX1_fault_9 (show 0 + 0 ≤ 1002 by omega) (show 0 + 0 ≤ 9525 by omega) hk)
abbrev rmX1_heal : Room := { frames := 19, cells := 1252, slots := 15287, locals := 3183 }
theorem m_X1_heal {S : Sx} (hS0 : Sok S) (v0 : Nat) (v1 : Int32) (h : hH) (Q : Int32 → hH → Prop) (hk : f_X1_heal S.E v0 v1 h Q) : Ct S yX1_heal (ws_ yX1_heal cX1_heal 2 (some .int)) rmX1_heal ([aR (some v0), aI v1].map vv) h (qI Q) := by
  refine Ct.of hS0 (by decide +kernel) rfl (Nat.le_of_ble_eq_true rfl) fun x hxS F hnm => ?_
  subst hxS
  unfold f_X1_heal at hk
  have hM : 0 + 1252 ≤ 1252 := by omega
  have hS : 0 + 15287 ≤ 15287 := by omega
  refine G.widen (c' := 0 + 0) (k' := 0 + 0) (Nat.le_refl 0) (Nat.le_refl 0) ?_
  exact g_aload_n F dX1_heal_0 rfl 0 rfl <|
g_iload_n F dX1_heal_1 rfl 1 rfl <|
g_calli0 (g_V F dX1_heal_2 q2002 mi_X1_isMember ct_X1 (rm' := rmX1_isMember) ⟨Nat.le_of_ble_eq_true rfl, Nat.le_of_ble_eq_true rfl⟩ ⟨show 0 + 0 + 0 ≤ 1252 by omega, show 0 + 0 + 0 ≤ 15287 by omega⟩ (As := [aI v1]) (rest := []) rfl rfl (Nat.le_of_ble_eq_true rfl) hk (fun a3 hk => m_X1_isMember F.ok a3 v1 h _ hk)) ⟨rfl, rfl⟩ fun x2 h1 hk =>
g_if_ne F dX1_heal_5 (tgt := 10) rfl (fun hc => have hk := hk.2 hc
g_aload_n F dX1_heal_10 rfl 0 rfl <|
g_getR F dX1_heal_11 fo_X1_0_LockstepRoom in_X1 fl_LockstepRoom_10_X1 hk fun x4 hk =>
g_aload_n F dX1_heal_14 rfl 0 rfl <|
g_getR F dX1_heal_15 fo_X1_0_LockstepRoom in_X1 fl_LockstepRoom_10_X1 hk fun x5 hk =>
g_iload_n F dX1_heal_18 rfl 1 rfl <|
g_callr0 (g_V F dX1_heal_19 q1585 mi_X2_member ct_X2 (rm' := rmX2_member) ⟨Nat.le_of_ble_eq_true rfl, Nat.le_of_ble_eq_true rfl⟩ ⟨show 0 + 0 + 0 ≤ 1252 by omega, show 0 + 0 + 0 ≤ 15287 by omega⟩ (As := [aI v1]) (rest := [aR x4]) rfl rfl (Nat.le_of_ble_eq_true rfl) hk (fun a8 hk => m_X2_member F.ok a8 v1 h1 _ hk)) ⟨rfl, rfl⟩ fun x7 h6 hk =>
g_calli (g_V F dX1_heal_22 q2488 mi_X2_whyNot ct_X2 (rm' := rmX2_whyNot) ⟨Nat.le_of_ble_eq_true rfl, Nat.le_of_ble_eq_true rfl⟩ ⟨show 0 + 0 + 172 ≤ 1252 by omega, show 0 + 0 + 4261 ≤ 15287 by omega⟩ (As := [aR x7]) (rest := []) rfl rfl (Nat.le_of_ble_eq_true rfl) hk (fun a11 hk => m_X2_whyNot F.ok a11 x7 h6 _ hk)) fun x10 h9 hk =>
g_if_eq F dX1_heal_25 (tgt := 31) rfl (fun hc => have hk := hk.1 hc
g_aload_n F dX1_heal_31 rfl 0 rfl <|
g_callv (g_V F dX1_heal_32 q2017 mi_X1_remember ct_X1 (rm' := rmX1_remember) ⟨Nat.le_of_ble_eq_true rfl, Nat.le_of_ble_eq_true rfl⟩ ⟨show 0 + 0 + 172 + 1000 ≤ 1252 by omega, show 0 + 0 + 4261 + 9457 ≤ 15287 by omega⟩ (As := []) (rest := []) rfl rfl (Nat.le_of_ble_eq_true rfl) hk (fun a13 hk => m_X1_remember F.ok a13 h9 _ hk)) fun h12 hk =>
g_aload_n F dX1_heal_35 rfl 0 rfl <|
g_getR F dX1_heal_36 fo_X1_0_LockstepRoom in_X1 fl_LockstepRoom_10_X1 hk fun x14 hk =>
g_aload_n F dX1_heal_39 rfl 0 rfl <|
g_getR F dX1_heal_40 fo_X1_0_LockstepRoom in_X1 fl_LockstepRoom_10_X1 hk fun x15 hk =>
g_iload_n F dX1_heal_43 rfl 1 rfl <|
g_callr0 (g_V F dX1_heal_44 q1585 mi_X2_member ct_X2 (rm' := rmX2_member) ⟨Nat.le_of_ble_eq_true rfl, Nat.le_of_ble_eq_true rfl⟩ ⟨show 0 + 0 + 172 + 1000 + 0 ≤ 1252 by omega, show 0 + 0 + 4261 + 9457 + 0 ≤ 15287 by omega⟩ (As := [aI v1]) (rest := [aR x14]) rfl rfl (Nat.le_of_ble_eq_true rfl) hk (fun a18 hk => m_X2_member F.ok a18 v1 h12 _ hk)) ⟨rfl, rfl⟩ fun x17 h16 hk =>
g_calli (g_V F dX1_heal_47 q2504 mi_X2_heal ct_X2 (rm' := rmX2_heal) ⟨Nat.le_of_ble_eq_true rfl, Nat.le_of_ble_eq_true rfl⟩ ⟨show 0 + 0 + 172 + 1000 + 80 ≤ 1252 by omega, show 0 + 0 + 4261 + 9457 + 1569 ≤ 15287 by omega⟩ (As := [aR x17]) (rest := []) rfl rfl (Nat.le_of_ble_eq_true rfl) hk (fun a21 hk => m_X2_heal F.ok a21 x17 h16 _ hk)) fun x20 h19 hk =>
g_iret F dX1_heal_50 (show 0 + 0 + 172 + 1000 + 80 ≤ 1252 by omega) (show 0 + 0 + 4261 + 9457 + 1569 ≤ 15287 by omega) hk) (fun hc => have hk := hk.2 hc
g_bipush F dX1_heal_28 bp_m4 <|
g_iret F dX1_heal_30 (show 0 + 0 + 172 ≤ 1252 by omega) (show 0 + 0 + 4261 ≤ 15287 by omega) hk)) (fun hc => have hk := hk.1 hc
g_iconst F dX1_heal_8 ic_m1 <|
g_iret F dX1_heal_9 (show 0 + 0 ≤ 1252 by omega) (show 0 + 0 ≤ 15287 by omega) hk)
abbrev rmX1_healAll : Room := { frames := 19, cells := 3764, slots := 59724, locals := 3183 }
theorem m_X1_healAll {S : Sx} (hS0 : Sok S) (v0 : Nat) (h : hH) (Q : Int32 → hH → Prop) (hk : f_X1_healAll S.E v0 h Q) : Ct S yX1_healAll (ws_ yX1_healAll cX1_healAll 4 (some .int)) rmX1_healAll ([aR (some v0)].map vv) h (qI Q) := by
  refine Ct.of hS0 (by decide +kernel) rfl (Nat.le_of_ble_eq_true rfl) fun x hxS F hnm => ?_
  subst hxS
  unfold f_X1_healAll at hk
  have hM : 0 + 3764 ≤ 3764 := by omega
  have hS : 0 + 59724 ≤ 59724 := by omega
  refine G.widen (c' := 0 + 0) (k' := 0 + 0) (Nat.le_refl 0) (Nat.le_refl 0) ?_
  exact g_aload_n F dX1_healAll_0 rfl 0 rfl <|
g_getR F dX1_healAll_1 fo_X1_0_LockstepRoom in_X1 fl_LockstepRoom_10_X1 hk fun x1 hk =>
g_callr (g_V F dX1_healAll_4 q2032 mi_X2_copy ct_X2 (rm' := rmX2_copy) ⟨Nat.le_of_ble_eq_true rfl, Nat.le_of_ble_eq_true rfl⟩ ⟨show 0 + 0 + 1000 ≤ 3764 by omega, show 0 + 0 + 9457 ≤ 59724 by omega⟩ (As := []) (rest := []) rfl rfl (Nat.le_of_ble_eq_true rfl) hk (fun a4 hk => m_X2_copy F.ok a4 h _ hk)) fun x3 h2 hk =>
g_astore_n F dX1_healAll_7 rfl (Nat.le_of_ble_eq_true rfl) rfl <|
g_aload_n F dX1_healAll_8 rfl 1 rfl <|
g_getR F dX1_healAll_9 fo_X1_0_LockstepRoom in_X1 fl_LockstepRoom_10_X1 hk fun x5 hk =>
g_calli (g_V F dX1_healAll_12 q2552 mi_X2_healAll ct_X2 (rm' := rmX2_healAll) ⟨Nat.le_of_ble_eq_true rfl, Nat.le_of_ble_eq_true rfl⟩ ⟨show 0 + 0 + 1000 + 1764 ≤ 3764 by omega, show 0 + 0 + 9457 + 40810 ≤ 59724 by omega⟩ (As := []) (rest := []) rfl rfl (Nat.le_of_ble_eq_true rfl) hk (fun a8 hk => m_X2_healAll F.ok a8 h2 _ hk)) fun x7 h6 hk =>
g_istore_n F dX1_healAll_15 rfl (Nat.le_of_ble_eq_true rfl) rfl <|
g_iload_n F dX1_healAll_16 rfl 0 rfl <|
g_if_ne F dX1_healAll_17 (tgt := 22) rfl (fun hc => have hk := hk.2 hc
g_aload_n F dX1_healAll_22 rfl 2 rfl <|
g_getR F dX1_healAll_23 fo_X1_0_LockstepRoom in_X1 fl_LockstepRoom_10_X1 hk fun x9 hk =>
g_astore_n F dX1_healAll_26 rfl (Nat.le_of_ble_eq_true rfl) rfl <|
g_aload_n F dX1_healAll_27 rfl 3 rfl <|
g_aload_n F dX1_healAll_28 rfl 2 rfl <|
g_putV F dX1_healAll_29 fo_X1_0_LockstepRoom ck_X1 fl_LockstepRoom_10_X1 rfl (v := aR x3) (fit_rf "LockstepRoom$Room" x3) hk fun h10 hk =>
g_aload_n F dX1_healAll_32 rfl 3 rfl <|
g_callv (g_V F dX1_healAll_33 q2017 mi_X1_remember ct_X1 (rm' := rmX1_remember) ⟨Nat.le_of_ble_eq_true rfl, Nat.le_of_ble_eq_true rfl⟩ ⟨show 0 + 0 + 1000 + 1764 + 1000 ≤ 3764 by omega, show 0 + 0 + 9457 + 40810 + 9457 ≤ 59724 by omega⟩ (As := []) (rest := []) rfl rfl (Nat.le_of_ble_eq_true rfl) hk (fun a12 hk => m_X1_remember F.ok a12 h10 _ hk)) fun h11 hk =>
g_aload_n F dX1_healAll_36 rfl 3 rfl <|
g_aload_n F dX1_healAll_37 rfl 0 rfl <|
g_putV F dX1_healAll_38 fo_X1_0_LockstepRoom ck_X1 fl_LockstepRoom_10_X1 rfl (v := aR x9) (fit_rf "LockstepRoom$Room" x9) hk fun h13 hk =>
g_iload_n F dX1_healAll_41 rfl 1 rfl <|
g_iret F dX1_healAll_42 (show 0 + 0 + 1000 + 1764 + 1000 ≤ 3764 by omega) (show 0 + 0 + 9457 + 40810 + 9457 ≤ 59724 by omega) hk) (fun hc => have hk := hk.1 hc
g_iconst F dX1_healAll_20 ic_m1 <|
g_iret F dX1_healAll_21 (show 0 + 0 + 1000 + 1764 ≤ 3764 by omega) (show 0 + 0 + 9457 + 40810 ≤ 59724 by omega) hk)
abbrev rmX1_join : Room := { frames := 19, cells := 1076, slots := 11033, locals := 3183 }
theorem m_X1_join {S : Sx} (hS0 : Sok S) (v0 : Nat) (v1 : Int32) (h : hH) (Q : Int32 → hH → Prop) (hk : f_X1_join S.E v0 v1 h Q) : Ct S yX1_join (ws_ yX1_join cX1_join 3 (some .int)) rmX1_join ([aR (some v0), aI v1].map vv) h (qI Q) := by
  refine Ct.of hS0 (by decide +kernel) rfl (Nat.le_of_ble_eq_true rfl) fun x hxS F hnm => ?_
  subst hxS
  unfold f_X1_join at hk
  have hM : 0 + 1076 ≤ 1076 := by omega
  have hS : 0 + 11033 ≤ 11033 := by omega
  refine G.widen (c' := 0 + 0) (k' := 0 + 0) (Nat.le_refl 0) (Nat.le_refl 0) ?_
  exact g_iload_n F dX1_join_0 rfl 1 rfl <|
g_i2l F dX1_join_1 <|
g_lconst F dX1_join_2 rfl <|
g_ldc2 F dX1_join_3 q2562 <|
g_calli0 (g_S F dX1_join_6 q442 ms_X1_inRange (rm' := rmX1_inRange) ⟨Nat.le_of_ble_eq_true rfl, Nat.le_of_ble_eq_true rfl⟩ ⟨show 0 + 0 + 0 ≤ 1076 by omega, show 0 + 0 + 0 ≤ 11033 by omega⟩ (As := [aL v1.toInt64, aL (1:Int64), aL (4:Int64)]) (rest := []) rfl rfl (Nat.le_of_ble_eq_true rfl) (m_X1_inRange F.ok v1.toInt64 (1:Int64) (4:Int64) h _ hk)) ⟨rfl, rfl⟩ fun x2 h1 hk =>
g_if_ne F dX1_join_9 (tgt := 15) rfl (fun hc => have hk := hk.2 hc
g_aload_n F dX1_join_15 rfl 0 rfl <|
g_calli0 (g_V F dX1_join_16 q1575 mi_X1_members ct_X1 (rm' := rmX1_members) ⟨Nat.le_of_ble_eq_true rfl, Nat.le_of_ble_eq_true rfl⟩ ⟨show 0 + 0 + 0 ≤ 1076 by omega, show 0 + 0 + 0 ≤ 11033 by omega⟩ (As := []) (rest := []) rfl rfl (Nat.le_of_ble_eq_true rfl) hk (fun a5 hk => m_X1_members F.ok a5 h1 _ hk)) ⟨rfl, rfl⟩ fun x4 h3 hk =>
g_bipush F dX1_join_19 bp_6 <|
g_icmp_ne F dX1_join_21 (tgt := 27) rfl (fun hc => have hk := hk.2 hc
g_aload_n F dX1_join_27 rfl 0 rfl <|
g_getR F dX1_join_28 fo_X1_0_LockstepRoom in_X1 fl_LockstepRoom_10_X1 hk fun x6 hk =>
g_aload_n F dX1_join_31 rfl 0 rfl <|
g_getR F dX1_join_32 fo_X1_0_LockstepRoom in_X1 fl_LockstepRoom_10_X1 hk fun x7 hk =>
g_calli0 (g_V F dX1_join_35 q1969 mi_X2_least ct_X2 (rm' := rmX2_least) ⟨Nat.le_of_ble_eq_true rfl, Nat.le_of_ble_eq_true rfl⟩ ⟨show 0 + 0 + 0 ≤ 1076 by omega, show 0 + 0 + 0 ≤ 11033 by omega⟩ (As := []) (rest := [aR x6]) rfl rfl (Nat.le_of_ble_eq_true rfl) hk (fun a10 hk => m_X2_least F.ok a10 h3 _ hk)) ⟨rfl, rfl⟩ fun x9 h8 hk =>
g_iconst F dX1_join_38 ic_m1 <|
g_calli (g_V F dX1_join_39 q2563 mi_X2_donorAt ct_X2 (rm' := rmX2_donorAt) ⟨Nat.le_of_ble_eq_true rfl, Nat.le_of_ble_eq_true rfl⟩ ⟨show 0 + 0 + 68 ≤ 1076 by omega, show 0 + 0 + 1437 ≤ 11033 by omega⟩ (As := [aI x9, aI (-1:Int32)]) (rest := []) rfl rfl (Nat.le_of_ble_eq_true rfl) hk (fun a13 hk => m_X2_donorAt F.ok a13 x9 (-1:Int32) h8 _ hk)) fun x12 h11 hk =>
g_istore_n F dX1_join_42 rfl (Nat.le_of_ble_eq_true rfl) rfl <|
g_iload_n F dX1_join_43 rfl 0 rfl <|
g_iconst F dX1_join_44 ic_m1 <|
g_icmp_ne F dX1_join_45 (tgt := 51) rfl (fun hc => have hk := hk.2 hc
g_aload_n F dX1_join_51 rfl 1 rfl <|
g_callv (g_V F dX1_join_52 q2017 mi_X1_remember ct_X1 (rm' := rmX1_remember) ⟨Nat.le_of_ble_eq_true rfl, Nat.le_of_ble_eq_true rfl⟩ ⟨show 0 + 0 + 68 + 1000 ≤ 1076 by omega, show 0 + 0 + 1437 + 9457 ≤ 11033 by omega⟩ (As := []) (rest := []) rfl rfl (Nat.le_of_ble_eq_true rfl) hk (fun a15 hk => m_X1_remember F.ok a15 h11 _ hk)) fun h14 hk =>
g_aload_n F dX1_join_55 rfl 1 rfl <|
g_getR F dX1_join_56 fo_X1_0_LockstepRoom in_X1 fl_LockstepRoom_10_X1 hk fun x16 hk =>
g_iload_n F dX1_join_59 rfl 2 rfl <|
g_iload_n F dX1_join_60 rfl 0 rfl <|
g_calli (g_V F dX1_join_61 q2564 mi_X2_join ct_X2 (rm' := rmX2_join) ⟨Nat.le_of_ble_eq_true rfl, Nat.le_of_ble_eq_true rfl⟩ ⟨show 0 + 0 + 68 + 1000 + 8 ≤ 1076 by omega, show 0 + 0 + 1437 + 9457 + 139 ≤ 11033 by omega⟩ (As := [aI v1, aI x12]) (rest := []) rfl rfl (Nat.le_of_ble_eq_true rfl) hk (fun a19 hk => m_X2_join F.ok a19 v1 x12 h14 _ hk)) fun x18 h17 hk =>
g_iret F dX1_join_64 (show 0 + 0 + 68 + 1000 + 8 ≤ 1076 by omega) (show 0 + 0 + 1437 + 9457 + 139 ≤ 11033 by omega) hk) (fun hc => have hk := hk.1 hc
g_bipush F dX1_join_48 bp_m4 <|
g_iret F dX1_join_50 (show 0 + 0 + 68 ≤ 1076 by omega) (show 0 + 0 + 1437 ≤ 11033 by omega) hk)) (fun hc => have hk := hk.1 hc
g_bipush F dX1_join_24 bp_m3 <|
g_iret F dX1_join_26 (show 0 + 0 ≤ 1076 by omega) (show 0 + 0 ≤ 11033 by omega) hk)) (fun hc => have hk := hk.1 hc
g_bipush F dX1_join_12 bp_m2 <|
g_iret F dX1_join_14 (show 0 + 0 ≤ 1076 by omega) (show 0 + 0 ≤ 11033 by omega) hk)
abbrev rmX1_leave : Room := { frames := 19, cells := 1000, slots := 9457, locals := 3183 }
theorem m_X1_leave {S : Sx} (hS0 : Sok S) (v0 : Nat) (v1 : Int32) (h : hH) (Q : Int32 → hH → Prop) (hk : f_X1_leave S.E v0 v1 h Q) : Ct S yX1_leave (ws_ yX1_leave cX1_leave 2 (some .int)) rmX1_leave ([aR (some v0), aI v1].map vv) h (qI Q) := by
  refine Ct.of hS0 (by decide +kernel) rfl (Nat.le_of_ble_eq_true rfl) fun x hxS F hnm => ?_
  subst hxS
  unfold f_X1_leave at hk
  have hM : 0 + 1000 ≤ 1000 := by omega
  have hS : 0 + 9457 ≤ 9457 := by omega
  refine G.widen (c' := 0 + 0) (k' := 0 + 0) (Nat.le_refl 0) (Nat.le_refl 0) ?_
  exact g_aload_n F dX1_leave_0 rfl 0 rfl <|
g_iload_n F dX1_leave_1 rfl 1 rfl <|
g_calli0 (g_V F dX1_leave_2 q2002 mi_X1_isMember ct_X1 (rm' := rmX1_isMember) ⟨Nat.le_of_ble_eq_true rfl, Nat.le_of_ble_eq_true rfl⟩ ⟨show 0 + 0 + 0 ≤ 1000 by omega, show 0 + 0 + 0 ≤ 9457 by omega⟩ (As := [aI v1]) (rest := []) rfl rfl (Nat.le_of_ble_eq_true rfl) hk (fun a3 hk => m_X1_isMember F.ok a3 v1 h _ hk)) ⟨rfl, rfl⟩ fun x2 h1 hk =>
g_if_ne F dX1_leave_5 (tgt := 10) rfl (fun hc => have hk := hk.2 hc
g_aload_n F dX1_leave_10 rfl 0 rfl <|
g_getR F dX1_leave_11 fo_X1_0_LockstepRoom in_X1 fl_LockstepRoom_10_X1 hk fun x4 hk =>
g_iload_n F dX1_leave_14 rfl 1 rfl <|
g_callr0 (g_V F dX1_leave_15 q1585 mi_X2_member ct_X2 (rm' := rmX2_member) ⟨Nat.le_of_ble_eq_true rfl, Nat.le_of_ble_eq_true rfl⟩ ⟨show 0 + 0 + 0 ≤ 1000 by omega, show 0 + 0 + 0 ≤ 9457 by omega⟩ (As := [aI v1]) (rest := []) rfl rfl (Nat.le_of_ble_eq_true rfl) hk (fun a7 hk => m_X2_member F.ok a7 v1 h1 _ hk)) ⟨rfl, rfl⟩ fun x6 h5 hk =>
g_getI F dX1_leave_18 fo_X10_5_LockstepRoom_Member in_X10 fl_LockstepRoom_145_X10 hk fun x8 hk =>
g_if_ne F dX1_leave_21 (tgt := 27) rfl (fun hc => have hk := hk.2 hc
g_aload_n F dX1_leave_27 rfl 0 rfl <|
g_callv (g_V F dX1_leave_28 q2017 mi_X1_remember ct_X1 (rm' := rmX1_remember) ⟨Nat.le_of_ble_eq_true rfl, Nat.le_of_ble_eq_true rfl⟩ ⟨show 0 + 0 + 1000 ≤ 1000 by omega, show 0 + 0 + 9457 ≤ 9457 by omega⟩ (As := []) (rest := []) rfl rfl (Nat.le_of_ble_eq_true rfl) hk (fun a10 hk => m_X1_remember F.ok a10 h5 _ hk)) fun h9 hk =>
g_aload_n F dX1_leave_31 rfl 0 rfl <|
g_getR F dX1_leave_32 fo_X1_0_LockstepRoom in_X1 fl_LockstepRoom_10_X1 hk fun x11 hk =>
g_aload_n F dX1_leave_35 rfl 0 rfl <|
g_getR F dX1_leave_36 fo_X1_0_LockstepRoom in_X1 fl_LockstepRoom_10_X1 hk fun x12 hk =>
g_iload_n F dX1_leave_39 rfl 1 rfl <|
g_callr0 (g_V F dX1_leave_40 q1585 mi_X2_member ct_X2 (rm' := rmX2_member) ⟨Nat.le_of_ble_eq_true rfl, Nat.le_of_ble_eq_true rfl⟩ ⟨show 0 + 0 + 1000 + 0 ≤ 1000 by omega, show 0 + 0 + 9457 + 0 ≤ 9457 by omega⟩ (As := [aI v1]) (rest := [aR x11]) rfl rfl (Nat.le_of_ble_eq_true rfl) hk (fun a15 hk => m_X2_member F.ok a15 v1 h9 _ hk)) ⟨rfl, rfl⟩ fun x14 h13 hk =>
g_callv0 (g_V F dX1_leave_43 q2572 mi_X2_leave ct_X2 (rm' := rmX2_leave) ⟨Nat.le_of_ble_eq_true rfl, Nat.le_of_ble_eq_true rfl⟩ ⟨show 0 + 0 + 1000 + 0 ≤ 1000 by omega, show 0 + 0 + 9457 + 0 ≤ 9457 by omega⟩ (As := [aR x14]) (rest := []) rfl rfl (Nat.le_of_ble_eq_true rfl) hk (fun a17 hk => m_X2_leave F.ok a17 x14 h13 _ hk)) ⟨rfl, rfl⟩ fun h16 hk =>
g_aload_n F dX1_leave_46 rfl 0 rfl <|
g_getR F dX1_leave_47 fo_X1_0_LockstepRoom in_X1 fl_LockstepRoom_10_X1 hk fun x18 hk =>
g_calli0 (g_V F dX1_leave_50 q1977 mi_X2_active ct_X2 (rm' := rmX2_active) ⟨Nat.le_of_ble_eq_true rfl, Nat.le_of_ble_eq_true rfl⟩ ⟨show 0 + 0 + 1000 + 0 ≤ 1000 by omega, show 0 + 0 + 9457 + 0 ≤ 9457 by omega⟩ (As := []) (rest := []) rfl rfl (Nat.le_of_ble_eq_true rfl) hk (fun a21 hk => m_X2_active F.ok a21 h16 _ hk)) ⟨rfl, rfl⟩ fun x20 h19 hk =>
g_iret F dX1_leave_53 (show 0 + 0 + 1000 ≤ 1000 by omega) (show 0 + 0 + 9457 ≤ 9457 by omega) hk) (fun hc => have hk := hk.1 hc
g_bipush F dX1_leave_24 bp_m4 <|
g_iret F dX1_leave_26 (show 0 + 0 ≤ 1000 by omega) (show 0 + 0 ≤ 9457 by omega) hk)) (fun hc => have hk := hk.1 hc
g_iconst F dX1_leave_8 ic_m1 <|
g_iret F dX1_leave_9 (show 0 + 0 ≤ 1000 by omega) (show 0 + 0 ≤ 9457 by omega) hk)
abbrev rmX1_setSetting : Room := { frames := 19, cells := 1000, slots := 9457, locals := 3183 }
theorem m_X1_setSetting {S : Sx} (hS0 : Sok S) (v0 : Nat) (v1 : Int32) (v2 : Int32) (h : hH) (Q : Int32 → hH → Prop) (hk : f_X1_setSetting S.E v0 v1 v2 h Q) : Ct S yX1_setSetting (ws_ yX1_setSetting cX1_setSetting 4 (some .int)) rmX1_setSetting ([aR (some v0), aI v1, aI v2].map vv) h (qI Q) := by
  refine Ct.of hS0 (by decide +kernel) rfl (Nat.le_of_ble_eq_true rfl) fun x hxS F hnm => ?_
  subst hxS
  unfold f_X1_setSetting at hk
  have hM : 0 + 1000 ≤ 1000 := by omega
  have hS : 0 + 9457 ≤ 9457 := by omega
  refine G.widen (c' := 0 + 0) (k' := 0 + 0) (Nat.le_refl 0) (Nat.le_refl 0) ?_
  exact g_iload_n F dX1_setSetting_0 rfl 1 rfl <|
g_calli0 (g_S F dX1_setSetting_1 q1594 ms_X1_isSetting (rm' := rmX1_isSetting) ⟨Nat.le_of_ble_eq_true rfl, Nat.le_of_ble_eq_true rfl⟩ ⟨show 0 + 0 + 0 ≤ 1000 by omega, show 0 + 0 + 0 ≤ 9457 by omega⟩ (As := [aI v1]) (rest := []) rfl rfl (Nat.le_of_ble_eq_true rfl) (m_X1_isSetting F.ok v1 h _ hk)) ⟨rfl, rfl⟩ fun x2 h1 hk =>
g_if_eq F dX1_setSetting_4 (tgt := 22) rfl (fun hc => have hk := hk.1 hc
g_bipush F dX1_setSetting_22 bp_m2 <|
g_iret F dX1_setSetting_24 (show 0 + 0 ≤ 1000 by omega) (show 0 + 0 ≤ 9457 by omega) hk) (fun hc => have hk := hk.2 hc
g_iload_n F dX1_setSetting_7 rfl 2 rfl <|
g_i2l F dX1_setSetting_8 <|
g_lconst F dX1_setSetting_9 rfl <|
g_gets F dX1_setSetting_10 (sz_1 _) zl_LockstepRoom_350 <|
g_iload_n F dX1_setSetting_13 rfl 1 rfl <|
g_iald F dX1_setSetting_14 hk fun x3 hk =>
g_i2l F dX1_setSetting_15 <|
g_calli0 (g_S F dX1_setSetting_16 q442 ms_X1_inRange (rm' := rmX1_inRange) ⟨Nat.le_of_ble_eq_true rfl, Nat.le_of_ble_eq_true rfl⟩ ⟨show 0 + 0 + 0 ≤ 1000 by omega, show 0 + 0 + 0 ≤ 9457 by omega⟩ (As := [aL v2.toInt64, aL (1:Int64), aL x3.toInt64]) (rest := []) rfl rfl (Nat.le_of_ble_eq_true rfl) (m_X1_inRange F.ok v2.toInt64 (1:Int64) x3.toInt64 h1 _ hk)) ⟨rfl, rfl⟩ fun x5 h4 hk =>
g_if_ne F dX1_setSetting_19 (tgt := 25) rfl (fun hc => have hk := hk.2 hc
g_aload_n F dX1_setSetting_25 rfl 0 rfl <|
g_callv (g_V F dX1_setSetting_26 q2017 mi_X1_remember ct_X1 (rm' := rmX1_remember) ⟨Nat.le_of_ble_eq_true rfl, Nat.le_of_ble_eq_true rfl⟩ ⟨show 0 + 0 + 1000 ≤ 1000 by omega, show 0 + 0 + 9457 ≤ 9457 by omega⟩ (As := []) (rest := []) rfl rfl (Nat.le_of_ble_eq_true rfl) hk (fun a7 hk => m_X1_remember F.ok a7 h4 _ hk)) fun h6 hk =>
g_aload_n F dX1_setSetting_29 rfl 0 rfl <|
g_getR F dX1_setSetting_30 fo_X1_0_LockstepRoom in_X1 fl_LockstepRoom_10_X1 hk fun x8 hk =>
g_getR F dX1_setSetting_33 fo_X2_2_LockstepRoom_Room in_X2 fl_LockstepRoom_162_X2 hk fun x9 hk =>
g_iload_n F dX1_setSetting_36 rfl 1 rfl <|
g_iald F dX1_setSetting_37 hk fun x10 hk =>
g_istore_n F dX1_setSetting_38 rfl (Nat.le_of_ble_eq_true rfl) rfl <|
g_aload_n F dX1_setSetting_39 rfl 1 rfl <|
g_getR F dX1_setSetting_40 fo_X1_0_LockstepRoom in_X1 fl_LockstepRoom_10_X1 hk fun x11 hk =>
g_getR F dX1_setSetting_43 fo_X2_2_LockstepRoom_Room in_X2 fl_LockstepRoom_162_X2 hk fun x12 hk =>
g_iload_n F dX1_setSetting_46 rfl 2 rfl <|
g_iload_n F dX1_setSetting_47 rfl 3 rfl <|
g_iast F dX1_setSetting_48 hk fun h13 hk =>
g_iload_n F dX1_setSetting_49 rfl 0 rfl <|
g_iret F dX1_setSetting_50 (show 0 + 0 + 1000 ≤ 1000 by omega) (show 0 + 0 + 9457 ≤ 9457 by omega) hk) (fun hc => have hk := hk.1 hc
g_bipush F dX1_setSetting_22 bp_m2 <|
g_iret F dX1_setSetting_24 (show 0 + 0 ≤ 1000 by omega) (show 0 + 0 ≤ 9457 by omega) hk))
abbrev rmX1_outputAt : Room := { frames := 6, cells := 0, slots := 0, locals := 128 }
theorem m_X1_outputAt {S : Sx} (hS0 : Sok S) (v0 : Nat) (v1 : Int32) (h : hH) (Q : Int32 → hH → Prop) (hk : f_X1_outputAt S.E v0 v1 h Q) : Ct S yX1_outputAt (ws_ yX1_outputAt cX1_outputAt 2 (some .int)) rmX1_outputAt ([aR (some v0), aI v1].map vv) h (qI Q) := by
  refine Ct.of hS0 (by decide +kernel) rfl (Nat.le_of_ble_eq_true rfl) fun x hxS F hnm => ?_
  subst hxS
  unfold f_X1_outputAt at hk
  exact g_iload_n F dX1_outputAt_0 rfl 1 rfl <|
g_i2l F dX1_outputAt_1 <|
g_lconst F dX1_outputAt_2 rfl <|
g_aload_n F dX1_outputAt_3 rfl 0 rfl <|
g_getR F dX1_outputAt_4 fo_X1_5_LockstepRoom in_X1 fl_LockstepRoom_34_X1 hk fun x1 hk =>
g_calli0 (g_V F dX1_outputAt_7 q2585 mi_J7_length ct_J7 (rm' := rmJ7_length) ⟨Nat.le_of_ble_eq_true rfl, Nat.le_of_ble_eq_true rfl⟩ ⟨Nat.le_refl 0, Nat.le_refl 0⟩ (As := []) (rest := [aL (0:Int64), aL v1.toInt64]) rfl rfl (Nat.le_of_ble_eq_true rfl) hk (fun a4 hk => m_J7_length F.ok a4 h _ hk)) ⟨rfl, rfl⟩ fun x3 h2 hk =>
g_iconst F dX1_outputAt_10 ic_1 <|
g_isub F dX1_outputAt_11 <|
g_i2l F dX1_outputAt_12 <|
g_calli0 (g_S F dX1_outputAt_13 q442 ms_X1_inRange (rm' := rmX1_inRange) ⟨Nat.le_of_ble_eq_true rfl, Nat.le_of_ble_eq_true rfl⟩ ⟨Nat.le_refl 0, Nat.le_refl 0⟩ (As := [aL v1.toInt64, aL (0:Int64), aL ((x3 - (1:Int32)).toInt64)]) (rest := []) rfl rfl (Nat.le_of_ble_eq_true rfl) (m_X1_inRange F.ok v1.toInt64 (0:Int64) ((x3 - (1:Int32)).toInt64) h2 _ hk)) ⟨rfl, rfl⟩ fun x6 h5 hk =>
g_if_eq F dX1_outputAt_16 (tgt := 30) rfl (fun hc => have hk := hk.1 hc
g_iconst F dX1_outputAt_30 ic_m1 <|
g_iret F dX1_outputAt_31 (Nat.le_refl 0) (Nat.le_refl 0) hk) (fun hc => have hk := hk.2 hc
g_aload_n F dX1_outputAt_19 rfl 0 rfl <|
g_getR F dX1_outputAt_20 fo_X1_5_LockstepRoom in_X1 fl_LockstepRoom_34_X1 hk fun x7 hk =>
g_iload_n F dX1_outputAt_23 rfl 1 rfl <|
g_calli0 (g_V F dX1_outputAt_24 q2586 mi_J7_charAt ct_J7 (rm' := rmJ7_charAt) ⟨Nat.le_of_ble_eq_true rfl, Nat.le_of_ble_eq_true rfl⟩ ⟨Nat.le_refl 0, Nat.le_refl 0⟩ (As := [aI v1]) (rest := []) rfl rfl (Nat.le_of_ble_eq_true rfl) hk (fun a10 hk => m_J7_charAt F.ok a10 v1 h5 _ hk)) ⟨rfl, rfl⟩ fun x9 h8 hk =>
g_goto F dX1_outputAt_27 (tgt := 31) rfl <|
g_iret F dX1_outputAt_31 (Nat.le_refl 0) (Nat.le_refl 0) hk)
abbrev rmX1_requireIndex : Room := { frames := 6, cells := 1, slots := 6, locals := 100 }
theorem m_X1_requireIndex {S : Sx} (hS0 : Sok S) (v0 : Int32) (v1 : Int32) (h : hH) (Q : hH → Prop) (X : String → Nat → hH → Prop) (hk : f_X1_requireIndex S.E v0 v1 h Q X) : CtX S yX1_requireIndex (ws_ yX1_requireIndex cX1_requireIndex 2 none) rmX1_requireIndex ([aI v0, aI v1].map vv) h (qV Q) X := by
  refine CtX.of hS0 (by decide +kernel) rfl (Nat.le_of_ble_eq_true rfl) fun x hxS F hnm hno => ?_
  subst hxS
  unfold f_X1_requireIndex at hk
  have hM : 0 + 1 ≤ 1 := by omega
  have hS : 0 + 6 ≤ 6 := by omega
  refine G.widen (c' := 0 + 0) (k' := 0 + 0) (Nat.le_refl 0) (Nat.le_refl 0) ?_
  exact g_iload_n F dX1_requireIndex_0 rfl 0 rfl <|
g_i2l F dX1_requireIndex_1 <|
g_lconst F dX1_requireIndex_2 rfl <|
g_iload_n F dX1_requireIndex_3 rfl 1 rfl <|
g_iconst F dX1_requireIndex_4 ic_1 <|
g_isub F dX1_requireIndex_5 <|
g_i2l F dX1_requireIndex_6 <|
g_calli0 (g_S F dX1_requireIndex_7 q442 ms_X1_inRange (rm' := rmX1_inRange) ⟨Nat.le_of_ble_eq_true rfl, Nat.le_of_ble_eq_true rfl⟩ ⟨show 0 + 0 + 0 ≤ 1 by omega, show 0 + 0 + 0 ≤ 6 by omega⟩ (As := [aL v0.toInt64, aL (0:Int64), aL ((v1 - (1:Int32)).toInt64)]) (rest := []) rfl rfl (Nat.le_of_ble_eq_true rfl) (m_X1_inRange F.ok v0.toInt64 (0:Int64) ((v1 - (1:Int32)).toInt64) h _ hk)) ⟨rfl, rfl⟩ fun x2 h1 hk =>
g_if_ne F dX1_requireIndex_10 (tgt := 21) rfl (fun hc => have hk := hk.2 hc
G.toX <| g_vret F dX1_requireIndex_21 (show 0 + 0 ≤ 1 by omega) (show 0 + 0 ≤ 6 by omega) hk) (fun hc => have hk := hk.1 hc
g_throwI F hno dX1_requireIndex_13 dX1_requireIndex_16 dX1_requireIndex_17 dX1_requireIndex_20 (Nat.le_of_ble_eq_true rfl) (Nat.le_of_ble_eq_true rfl) (show 0 + 0 + 1 ≤ 1 by omega) (show 0 + 0 + 6 ≤ 6 by omega) hk)
abbrev rmX1_memberAt : Room := { frames := 7, cells := 1, slots := 6, locals := 125 }
theorem m_X1_memberAt {S : Sx} (hS0 : Sok S) (v0 : Nat) (v1 : Int32) (h : hH) (Q : Option Nat → hH → Prop) (X : String → Nat → hH → Prop) (hk : f_X1_memberAt S.E v0 v1 h Q X) : CtX S yX1_memberAt (ws_ yX1_memberAt cX1_memberAt 2 (some (.object "LockstepRoom$Member"))) rmX1_memberAt ([aR (some v0), aI v1].map vv) h (qR Q) X := by
  refine CtX.of hS0 (by decide +kernel) rfl (Nat.le_of_ble_eq_true rfl) fun x hxS F hnm hno => ?_
  subst hxS
  unfold f_X1_memberAt at hk
  have hM : 0 + 1 ≤ 1 := by omega
  have hS : 0 + 6 ≤ 6 := by omega
  refine G.widen (c' := 0 + 0) (k' := 0 + 0) (Nat.le_refl 0) (Nat.le_refl 0) ?_
  exact g_iload_n F dX1_memberAt_0 rfl 1 rfl <|
g_aload_n F dX1_memberAt_1 rfl 0 rfl <|
g_calli0 (g_V F dX1_memberAt_2 q1575 mi_X1_members ct_X1 (rm' := rmX1_members) ⟨Nat.le_of_ble_eq_true rfl, Nat.le_of_ble_eq_true rfl⟩ ⟨show 0 + 0 + 0 ≤ 1 by omega, show 0 + 0 + 0 ≤ 6 by omega⟩ (As := []) (rest := [aI v1]) rfl rfl (Nat.le_of_ble_eq_true rfl) hk (fun a3 hk => m_X1_members F.ok a3 h _ hk)) ⟨rfl, rfl⟩ fun x2 h1 hk =>
x_callv (x_S F dX1_memberAt_5 q2634 ms_X1_requireIndex (rm' := rmX1_requireIndex) ⟨Nat.le_of_ble_eq_true rfl, Nat.le_of_ble_eq_true rfl⟩ ⟨show 0 + 0 + 1 ≤ 1 by omega, show 0 + 0 + 6 ≤ 6 by omega⟩ (As := [aI v1, aI x2]) (rest := []) rfl rfl (Nat.le_of_ble_eq_true rfl) (m_X1_requireIndex F.ok v1 x2 h1 _ _ hk)) (fun _ _ _ hx => GT.out F hno.cov (show 0 + 0 + 1 ≤ 1 by omega) (show 0 + 0 + 6 ≤ 6 by omega) hx) fun h4 hk =>
g_aload_n F dX1_memberAt_8 rfl 0 rfl <|
g_getR F dX1_memberAt_9 fo_X1_0_LockstepRoom in_X1 fl_LockstepRoom_10_X1 hk fun x5 hk =>
g_iload_n F dX1_memberAt_12 rfl 1 rfl <|
g_callr0 (g_V F dX1_memberAt_13 q1585 mi_X2_member ct_X2 (rm' := rmX2_member) ⟨Nat.le_of_ble_eq_true rfl, Nat.le_of_ble_eq_true rfl⟩ ⟨show 0 + 0 + 1 + 0 ≤ 1 by omega, show 0 + 0 + 6 + 0 ≤ 6 by omega⟩ (As := [aI v1]) (rest := []) rfl rfl (Nat.le_of_ble_eq_true rfl) hk (fun a8 hk => m_X2_member F.ok a8 v1 h4 _ hk)) ⟨rfl, rfl⟩ fun x7 h6 hk =>
G.toX <| g_aret F (Or.inl ⟨_, rfl⟩) dX1_memberAt_16 (show 0 + 0 + 1 ≤ 1 by omega) (show 0 + 0 + 6 ≤ 6 by omega) hk
abbrev rmX1_memberNumber : Room := { frames := 8, cells := 1, slots := 6, locals := 146 }
theorem m_X1_memberNumber {S : Sx} (hS0 : Sok S) (v0 : Nat) (v1 : Int32) (v2 : Int32) (h : hH) (Q : Int32 → hH → Prop) (X : String → Nat → hH → Prop) (hk : f_X1_memberNumber S.E v0 v1 v2 h Q X) : CtX S yX1_memberNumber (ws_ yX1_memberNumber cX1_memberNumber 4 (some .int)) rmX1_memberNumber ([aR (some v0), aI v1, aI v2].map vv) h (qI Q) X := by
  refine CtX.of hS0 (by decide +kernel) rfl (Nat.le_of_ble_eq_true rfl) fun x hxS F hnm hno => ?_
  subst hxS
  unfold f_X1_memberNumber at hk
  have hM : 0 + 1 ≤ 1 := by omega
  have hS : 0 + 6 ≤ 6 := by omega
  refine G.widen (c' := 0 + 0) (k' := 0 + 0) (Nat.le_refl 0) (Nat.le_refl 0) ?_
  exact g_aload_n F dX1_memberNumber_0 rfl 0 rfl <|
g_iload_n F dX1_memberNumber_1 rfl 1 rfl <|
x_callr (x_V F dX1_memberNumber_2 q2630 mi_X1_memberAt ct_X1 (rm' := rmX1_memberAt) ⟨Nat.le_of_ble_eq_true rfl, Nat.le_of_ble_eq_true rfl⟩ ⟨show 0 + 0 + 1 ≤ 1 by omega, show 0 + 0 + 6 ≤ 6 by omega⟩ (As := [aI v1]) (rest := []) rfl rfl (Nat.le_of_ble_eq_true rfl) hk (fun a3 hk => m_X1_memberAt F.ok a3 v1 h _ _ hk)) (fun _ _ _ hx => GT.out F hno.cov (show 0 + 0 + 1 ≤ 1 by omega) (show 0 + 0 + 6 ≤ 6 by omega) hx) fun x2 h1 hk =>
g_astore_n F dX1_memberNumber_5 rfl (Nat.le_of_ble_eq_true rfl) rfl <|
g_iload_n F dX1_memberNumber_6 rfl 3 rfl <|
if hc0 : v2 = (0:Int32) then (have hk := hk.1 hc0
g_tableIn (tgt := 44) (off := 37) F dX1_memberNumber_7 (by rw [hc0]; decide) (by rw [hc0]; decide) (by rw [hc0]; rfl) rfl <|
g_aload_n F dX1_memberNumber_44 rfl 0 rfl <|
g_getI F dX1_memberNumber_45 fo_X10_2_LockstepRoom_Member in_X10 fl_LockstepRoom_139_X10 hk fun x4 hk =>
g_goto F dX1_memberNumber_48 (tgt := 96) rfl <|
G.toX <| g_iret F dX1_memberNumber_96 (show 0 + 0 + 1 ≤ 1 by omega) (show 0 + 0 + 6 ≤ 6 by omega) hk) else have hk := hk.2 hc0
if hc1 : v2 = (1:Int32) then (have hk := hk.1 hc1
g_tableIn (tgt := 51) (off := 44) F dX1_memberNumber_7 (by rw [hc1]; decide) (by rw [hc1]; decide) (by rw [hc1]; rfl) rfl <|
g_aload_n F dX1_memberNumber_51 rfl 0 rfl <|
g_getI F dX1_memberNumber_52 fo_X10_4_LockstepRoom_Member in_X10 fl_LockstepRoom_142_X10 hk fun x5 hk =>
g_goto F dX1_memberNumber_55 (tgt := 96) rfl <|
G.toX <| g_iret F dX1_memberNumber_96 (show 0 + 0 + 1 ≤ 1 by omega) (show 0 + 0 + 6 ≤ 6 by omega) hk) else have hk := hk.2 hc1
if hc2 : v2 = (2:Int32) then (have hk := hk.1 hc2
g_tableIn (tgt := 58) (off := 51) F dX1_memberNumber_7 (by rw [hc2]; decide) (by rw [hc2]; decide) (by rw [hc2]; rfl) rfl <|
g_aload_n F dX1_memberNumber_58 rfl 0 rfl <|
g_getI F dX1_memberNumber_59 fo_X10_5_LockstepRoom_Member in_X10 fl_LockstepRoom_145_X10 hk fun x6 hk =>
g_if_eq F dX1_memberNumber_62 (tgt := 69) rfl (fun hc => have hk := hk.1 hc
g_iconst F dX1_memberNumber_69 ic_0 <|
g_goto F dX1_memberNumber_70 (tgt := 96) rfl <|
G.toX <| g_iret F dX1_memberNumber_96 (show 0 + 0 + 1 ≤ 1 by omega) (show 0 + 0 + 6 ≤ 6 by omega) hk) (fun hc => have hk := hk.2 hc
g_iconst F dX1_memberNumber_65 ic_1 <|
g_goto F dX1_memberNumber_66 (tgt := 96) rfl <|
G.toX <| g_iret F dX1_memberNumber_96 (show 0 + 0 + 1 ≤ 1 by omega) (show 0 + 0 + 6 ≤ 6 by omega) hk)) else have hk := hk.2 hc2
if hc3 : v2 = (3:Int32) then (have hk := hk.1 hc3
g_tableIn (tgt := 73) (off := 66) F dX1_memberNumber_7 (by rw [hc3]; decide) (by rw [hc3]; decide) (by rw [hc3]; rfl) rfl <|
g_aload_n F dX1_memberNumber_73 rfl 0 rfl <|
g_getI F dX1_memberNumber_74 fo_X10_6_LockstepRoom_Member in_X10 fl_LockstepRoom_149_X10 hk fun x7 hk =>
g_goto F dX1_memberNumber_77 (tgt := 96) rfl <|
G.toX <| g_iret F dX1_memberNumber_96 (show 0 + 0 + 1 ≤ 1 by omega) (show 0 + 0 + 6 ≤ 6 by omega) hk) else have hk := hk.2 hc3
if hc4 : v2 = (4:Int32) then (have hk := hk.1 hc4
g_tableIn (tgt := 80) (off := 73) F dX1_memberNumber_7 (by rw [hc4]; decide) (by rw [hc4]; decide) (by rw [hc4]; rfl) rfl <|
g_aload_n F dX1_memberNumber_80 rfl 0 rfl <|
g_getI F dX1_memberNumber_81 fo_X10_7_LockstepRoom_Member in_X10 fl_LockstepRoom_152_X10 hk fun x8 hk =>
g_goto F dX1_memberNumber_84 (tgt := 96) rfl <|
G.toX <| g_iret F dX1_memberNumber_96 (show 0 + 0 + 1 ≤ 1 by omega) (show 0 + 0 + 6 ≤ 6 by omega) hk) else have hk := hk.2 hc4
if hc5 : v2 = (5:Int32) then (have hk := hk.1 hc5
g_tableIn (tgt := 87) (off := 80) F dX1_memberNumber_7 (by rw [hc5]; decide) (by rw [hc5]; decide) (by rw [hc5]; rfl) rfl <|
g_aload_n F dX1_memberNumber_87 rfl 0 rfl <|
g_getI F dX1_memberNumber_88 fo_X10_8_LockstepRoom_Member in_X10 fl_LockstepRoom_155_X10 hk fun x9 hk =>
g_goto F dX1_memberNumber_91 (tgt := 96) rfl <|
G.toX <| g_iret F dX1_memberNumber_96 (show 0 + 0 + 1 ≤ 1 by omega) (show 0 + 0 + 6 ≤ 6 by omega) hk) else have hk := hk.2 hc5
g_tableOut (tgt := 94) F dX1_memberNumber_7 (sw_out_0_1_2_3_4_5 hc0 hc1 hc2 hc3 hc4 hc5) rfl <|
g_bipush F dX1_memberNumber_94 bp_m2 <|
G.toX <| g_iret F dX1_memberNumber_96 (show 0 + 0 + 1 ≤ 1 by omega) (show 0 + 0 + 6 ≤ 6 by omega) hk
abbrev rmX1_cellOf : Room := { frames := 8, cells := 2, slots := 12, locals := 146 }
theorem m_X1_cellOf {S : Sx} (hS0 : Sok S) (v0 : Nat) (v1 : Int32) (v2 : Int32) (h : hH) (Q : Int32 → hH → Prop) (X : String → Nat → hH → Prop) (hk : f_X1_cellOf S.E v0 v1 v2 h Q X) : CtX S yX1_cellOf (ws_ yX1_cellOf cX1_cellOf 4 (some .int)) rmX1_cellOf ([aR (some v0), aI v1, aI v2].map vv) h (qI Q) X := by
  refine CtX.of hS0 (by decide +kernel) rfl (Nat.le_of_ble_eq_true rfl) fun x hxS F hnm hno => ?_
  subst hxS
  unfold f_X1_cellOf at hk
  have hM : 0 + 2 ≤ 2 := by omega
  have hS : 0 + 12 ≤ 12 := by omega
  refine G.widen (c' := 0 + 0) (k' := 0 + 0) (Nat.le_refl 0) (Nat.le_refl 0) ?_
  exact g_aload_n F dX1_cellOf_0 rfl 0 rfl <|
g_iload_n F dX1_cellOf_1 rfl 1 rfl <|
x_callr (x_V F dX1_cellOf_2 q2630 mi_X1_memberAt ct_X1 (rm' := rmX1_memberAt) ⟨Nat.le_of_ble_eq_true rfl, Nat.le_of_ble_eq_true rfl⟩ ⟨show 0 + 0 + 1 ≤ 2 by omega, show 0 + 0 + 6 ≤ 12 by omega⟩ (As := [aI v1]) (rest := []) rfl rfl (Nat.le_of_ble_eq_true rfl) hk (fun a3 hk => m_X1_memberAt F.ok a3 v1 h _ _ hk)) (fun _ _ _ hx => GT.out F hno.cov (show 0 + 0 + 1 ≤ 2 by omega) (show 0 + 0 + 6 ≤ 12 by omega) hx) fun x2 h1 hk =>
g_astore_n F dX1_cellOf_5 rfl (Nat.le_of_ble_eq_true rfl) rfl <|
g_iload_n F dX1_cellOf_6 rfl 3 rfl <|
g_bipush F dX1_cellOf_7 bp_16 <|
x_callv (x_S F dX1_cellOf_9 q2634 ms_X1_requireIndex (rm' := rmX1_requireIndex) ⟨Nat.le_of_ble_eq_true rfl, Nat.le_of_ble_eq_true rfl⟩ ⟨show 0 + 0 + 1 + 1 ≤ 2 by omega, show 0 + 0 + 6 + 6 ≤ 12 by omega⟩ (As := [aI v2, aI (16:Int32)]) (rest := []) rfl rfl (Nat.le_of_ble_eq_true rfl) (m_X1_requireIndex F.ok v2 (16:Int32) h1 _ _ hk)) (fun _ _ _ hx => GT.out F hno.cov (show 0 + 0 + 1 + 1 ≤ 2 by omega) (show 0 + 0 + 6 + 6 ≤ 12 by omega) hx) fun h4 hk =>
g_aload_n F dX1_cellOf_12 rfl 0 rfl <|
g_getR F dX1_cellOf_13 fo_X10_3_LockstepRoom_Member in_X10 fl_LockstepRoom_166_X10 hk fun x5 hk =>
g_iload_n F dX1_cellOf_16 rfl 3 rfl <|
g_iald F dX1_cellOf_17 hk fun x6 hk =>
G.toX <| g_iret F dX1_cellOf_18 (show 0 + 0 + 1 + 1 ≤ 2 by omega) (show 0 + 0 + 6 + 6 ≤ 12 by omega) hk
abbrev rmX1_turnAt : Room := { frames := 7, cells := 1, slots := 6, locals := 121 }
theorem m_X1_turnAt {S : Sx} (hS0 : Sok S) (v0 : Nat) (v1 : Int32) (h : hH) (Q : Option Nat → hH → Prop) (X : String → Nat → hH → Prop) (hk : f_X1_turnAt S.E v0 v1 h Q X) : CtX S yX1_turnAt (ws_ yX1_turnAt cX1_turnAt 2 (some (.array (.object "LockstepRoom$Command")))) rmX1_turnAt ([aR (some v0), aI v1].map vv) h (qR Q) X := by
  refine CtX.of hS0 (by decide +kernel) rfl (Nat.le_of_ble_eq_true rfl) fun x hxS F hnm hno => ?_
  subst hxS
  unfold f_X1_turnAt at hk
  have hM : 0 + 1 ≤ 1 := by omega
  have hS : 0 + 6 ≤ 6 := by omega
  refine G.widen (c' := 0 + 0) (k' := 0 + 0) (Nat.le_refl 0) (Nat.le_refl 0) ?_
  exact g_iload_n F dX1_turnAt_0 rfl 1 rfl <|
g_aload_n F dX1_turnAt_1 rfl 0 rfl <|
g_getR F dX1_turnAt_2 fo_X1_0_LockstepRoom in_X1 fl_LockstepRoom_10_X1 hk fun x1 hk =>
g_getR F dX1_turnAt_5 fo_X2_4_LockstepRoom_Room in_X2 fl_LockstepRoom_112_X2 hk fun x2 hk =>
g_calli0 (g_V F dX1_turnAt_8 q1579 mi_J2_size ct_J2 (rm' := rmJ2_size) ⟨Nat.le_of_ble_eq_true rfl, Nat.le_of_ble_eq_true rfl⟩ ⟨show 0 + 0 + 0 ≤ 1 by omega, show 0 + 0 + 0 ≤ 6 by omega⟩ (As := []) (rest := [aI v1]) rfl rfl (Nat.le_of_ble_eq_true rfl) hk (fun a5 hk => m_J2_size F.ok a5 h _ hk)) ⟨rfl, rfl⟩ fun x4 h3 hk =>
x_callv (x_S F dX1_turnAt_11 q2634 ms_X1_requireIndex (rm' := rmX1_requireIndex) ⟨Nat.le_of_ble_eq_true rfl, Nat.le_of_ble_eq_true rfl⟩ ⟨show 0 + 0 + 1 ≤ 1 by omega, show 0 + 0 + 6 ≤ 6 by omega⟩ (As := [aI v1, aI x4]) (rest := []) rfl rfl (Nat.le_of_ble_eq_true rfl) (m_X1_requireIndex F.ok v1 x4 h3 _ _ hk)) (fun _ _ _ hx => GT.out F hno.cov (show 0 + 0 + 1 ≤ 1 by omega) (show 0 + 0 + 6 ≤ 6 by omega) hx) fun h6 hk =>
g_aload_n F dX1_turnAt_14 rfl 0 rfl <|
g_getR F dX1_turnAt_15 fo_X1_0_LockstepRoom in_X1 fl_LockstepRoom_10_X1 hk fun x7 hk =>
g_getR F dX1_turnAt_18 fo_X2_4_LockstepRoom_Room in_X2 fl_LockstepRoom_112_X2 hk fun x8 hk =>
g_iload_n F dX1_turnAt_21 rfl 1 rfl <|
g_callr0 (g_V F dX1_turnAt_22 q2670 mi_J2_get ct_J2 (rm' := rmJ2_get) ⟨Nat.le_of_ble_eq_true rfl, Nat.le_of_ble_eq_true rfl⟩ ⟨show 0 + 0 + 1 + 0 ≤ 1 by omega, show 0 + 0 + 6 + 0 ≤ 6 by omega⟩ (As := [aI v1]) (rest := []) rfl rfl (Nat.le_of_ble_eq_true rfl) hk (fun a11 hk => m_J2_get F.ok a11 v1 h6 _ hk)) ⟨rfl, rfl⟩ fun x10 h9 hk =>
g_castA (t := 5) F dX1_turnAt_25 q2671 F.arr5 hk fun hk =>
G.toX <| g_aret F (Or.inr ⟨_, rfl⟩) dX1_turnAt_28 (show 0 + 0 + 1 ≤ 1 by omega) (show 0 + 0 + 6 ≤ 6 by omega) hk
abbrev rmX1_commandCount : Room := { frames := 8, cells := 1, slots := 6, locals := 142 }
theorem m_X1_commandCount {S : Sx} (hS0 : Sok S) (v0 : Nat) (v1 : Int32) (h : hH) (Q : Int32 → hH → Prop) (X : String → Nat → hH → Prop) (hk : f_X1_commandCount S.E v0 v1 h Q X) : CtX S yX1_commandCount (ws_ yX1_commandCount cX1_commandCount 2 (some .int)) rmX1_commandCount ([aR (some v0), aI v1].map vv) h (qI Q) X := by
  refine CtX.of hS0 (by decide +kernel) rfl (Nat.le_of_ble_eq_true rfl) fun x hxS F hnm hno => ?_
  subst hxS
  unfold f_X1_commandCount at hk
  have hM : 0 + 1 ≤ 1 := by omega
  have hS : 0 + 6 ≤ 6 := by omega
  refine G.widen (c' := 0 + 0) (k' := 0 + 0) (Nat.le_refl 0) (Nat.le_refl 0) ?_
  exact g_aload_n F dX1_commandCount_0 rfl 0 rfl <|
g_iload_n F dX1_commandCount_1 rfl 1 rfl <|
x_callr (x_V F dX1_commandCount_2 q2666 mi_X1_turnAt ct_X1 (rm' := rmX1_turnAt) ⟨Nat.le_of_ble_eq_true rfl, Nat.le_of_ble_eq_true rfl⟩ ⟨show 0 + 0 + 1 ≤ 1 by omega, show 0 + 0 + 6 ≤ 6 by omega⟩ (As := [aI v1]) (rest := []) rfl rfl (Nat.le_of_ble_eq_true rfl) hk (fun a3 hk => m_X1_turnAt F.ok a3 v1 h _ _ hk)) (fun _ _ _ hx => GT.out F hno.cov (show 0 + 0 + 1 ≤ 1 by omega) (show 0 + 0 + 6 ≤ 6 by omega) hx) fun x2 h1 hk =>
g_alen (t := 5) F dX1_commandCount_5 rfl hk fun x4 hk =>
G.toX <| g_iret F dX1_commandCount_6 (show 0 + 0 + 1 ≤ 1 by omega) (show 0 + 0 + 6 ≤ 6 by omega) hk
abbrev rmX1_command : Room := { frames := 8, cells := 1, slots := 6, locals := 142 }
theorem m_X1_command {S : Sx} (hS0 : Sok S) (v0 : Nat) (v1 : Int32) (v2 : Int32) (v3 : Int32) (h : hH) (Q : Int32 → hH → Prop) (X : String → Nat → hH → Prop) (hk : f_X1_command S.E v0 v1 v2 v3 h Q X) : CtX S yX1_command (ws_ yX1_command cX1_command 5 (some .int)) rmX1_command ([aR (some v0), aI v1, aI v2, aI v3].map vv) h (qI Q) X := by
  refine CtX.of hS0 (by decide +kernel) rfl (Nat.le_of_ble_eq_true rfl) fun x hxS F hnm hno => ?_
  subst hxS
  unfold f_X1_command at hk
  have hM : 0 + 1 ≤ 1 := by omega
  have hS : 0 + 6 ≤ 6 := by omega
  refine G.widen (c' := 0 + 0) (k' := 0 + 0) (Nat.le_refl 0) (Nat.le_refl 0) ?_
  exact g_aload_n F dX1_command_0 rfl 0 rfl <|
g_iload_n F dX1_command_1 rfl 1 rfl <|
x_callr (x_V F dX1_command_2 q2666 mi_X1_turnAt ct_X1 (rm' := rmX1_turnAt) ⟨Nat.le_of_ble_eq_true rfl, Nat.le_of_ble_eq_true rfl⟩ ⟨show 0 + 0 + 1 ≤ 1 by omega, show 0 + 0 + 6 ≤ 6 by omega⟩ (As := [aI v1]) (rest := []) rfl rfl (Nat.le_of_ble_eq_true rfl) hk (fun a3 hk => m_X1_turnAt F.ok a3 v1 h _ _ hk)) (fun _ _ _ hx => GT.out F hno.cov (show 0 + 0 + 1 ≤ 1 by omega) (show 0 + 0 + 6 ≤ 6 by omega) hx) fun x2 h1 hk =>
g_astore F dX1_command_5 (Nat.le_of_ble_eq_true rfl) rfl <|
g_iload_n F dX1_command_7 rfl 3 rfl <|
g_i2l F dX1_command_8 <|
g_lconst F dX1_command_9 rfl <|
g_aload F dX1_command_10 0 rfl <|
g_alen (t := 5) F dX1_command_12 rfl hk fun x4 hk =>
g_iconst F dX1_command_13 ic_1 <|
g_isub F dX1_command_14 <|
g_i2l F dX1_command_15 <|
g_calli0 (g_S F dX1_command_16 q442 ms_X1_inRange (rm' := rmX1_inRange) ⟨Nat.le_of_ble_eq_true rfl, Nat.le_of_ble_eq_true rfl⟩ ⟨show 0 + 0 + 1 + 0 ≤ 1 by omega, show 0 + 0 + 6 + 0 ≤ 6 by omega⟩ (As := [aL v2.toInt64, aL (0:Int64), aL ((x4 - (1:Int32)).toInt64)]) (rest := []) rfl rfl (Nat.le_of_ble_eq_true rfl) (m_X1_inRange F.ok v2.toInt64 (0:Int64) ((x4 - (1:Int32)).toInt64) h1 _ hk)) ⟨rfl, rfl⟩ fun x6 h5 hk =>
g_if_ne F dX1_command_19 (tgt := 24) rfl (fun hc => have hk := hk.2 hc
g_iload_n F dX1_command_24 rfl 4 rfl <|
if hc0 : v3 = (0:Int32) then (have hk := hk.1 hc0
g_tableIn (tgt := 56) (off := 31) F dX1_command_25 (by rw [hc0]; decide) (by rw [hc0]; decide) (by rw [hc0]; rfl) rfl <|
g_aload F dX1_command_56 0 rfl <|
g_iload_n F dX1_command_58 rfl 3 rfl <|
g_aald (t := 5) F dX1_command_59 rfl rfl hk fun x7 hk =>
g_getI F dX1_command_60 fo_X8_0_LockstepRoom_Command in_X8 fl_LockstepRoom_173_X8 hk fun x8 hk =>
g_goto F dX1_command_63 (tgt := 98) rfl <|
G.toX <| g_iret F dX1_command_98 (show 0 + 0 + 1 ≤ 1 by omega) (show 0 + 0 + 6 ≤ 6 by omega) hk) else have hk := hk.2 hc0
if hc1 : v3 = (1:Int32) then (have hk := hk.1 hc1
g_tableIn (tgt := 66) (off := 41) F dX1_command_25 (by rw [hc1]; decide) (by rw [hc1]; decide) (by rw [hc1]; rfl) rfl <|
g_aload F dX1_command_66 0 rfl <|
g_iload_n F dX1_command_68 rfl 3 rfl <|
g_aald (t := 5) F dX1_command_69 rfl rfl hk fun x9 hk =>
g_getI F dX1_command_70 fo_X8_2_LockstepRoom_Command in_X8 fl_LockstepRoom_178_X8 hk fun x10 hk =>
g_goto F dX1_command_73 (tgt := 98) rfl <|
G.toX <| g_iret F dX1_command_98 (show 0 + 0 + 1 ≤ 1 by omega) (show 0 + 0 + 6 ≤ 6 by omega) hk) else have hk := hk.2 hc1
if hc2 : v3 = (2:Int32) then (have hk := hk.1 hc2
g_tableIn (tgt := 76) (off := 51) F dX1_command_25 (by rw [hc2]; decide) (by rw [hc2]; decide) (by rw [hc2]; rfl) rfl <|
g_aload F dX1_command_76 0 rfl <|
g_iload_n F dX1_command_78 rfl 3 rfl <|
g_aald (t := 5) F dX1_command_79 rfl rfl hk fun x11 hk =>
g_getI F dX1_command_80 fo_X8_3_LockstepRoom_Command in_X8 fl_LockstepRoom_181_X8 hk fun x12 hk =>
g_goto F dX1_command_83 (tgt := 98) rfl <|
G.toX <| g_iret F dX1_command_98 (show 0 + 0 + 1 ≤ 1 by omega) (show 0 + 0 + 6 ≤ 6 by omega) hk) else have hk := hk.2 hc2
if hc3 : v3 = (3:Int32) then (have hk := hk.1 hc3
g_tableIn (tgt := 86) (off := 61) F dX1_command_25 (by rw [hc3]; decide) (by rw [hc3]; decide) (by rw [hc3]; rfl) rfl <|
g_aload F dX1_command_86 0 rfl <|
g_iload_n F dX1_command_88 rfl 3 rfl <|
g_aald (t := 5) F dX1_command_89 rfl rfl hk fun x13 hk =>
g_getI F dX1_command_90 fo_X8_4_LockstepRoom_Command in_X8 fl_LockstepRoom_184_X8 hk fun x14 hk =>
g_goto F dX1_command_93 (tgt := 98) rfl <|
G.toX <| g_iret F dX1_command_98 (show 0 + 0 + 1 ≤ 1 by omega) (show 0 + 0 + 6 ≤ 6 by omega) hk) else have hk := hk.2 hc3
g_tableOut (tgt := 96) F dX1_command_25 (sw_out_0_1_2_3 hc0 hc1 hc2 hc3) rfl <|
g_bipush F dX1_command_96 bp_m2 <|
G.toX <| g_iret F dX1_command_98 (show 0 + 0 + 1 ≤ 1 by omega) (show 0 + 0 + 6 ≤ 6 by omega) hk) (fun hc => have hk := hk.1 hc
g_iconst F dX1_command_22 ic_m1 <|
G.toX <| g_iret F dX1_command_23 (show 0 + 0 + 1 ≤ 1 by omega) (show 0 + 0 + 6 ≤ 6 by omega) hk)
abbrev rmX1_faultNumber : Room := { frames := 7, cells := 1, slots := 6, locals := 121 }
theorem m_X1_faultNumber {S : Sx} (hS0 : Sok S) (v0 : Nat) (v1 : Int32) (v2 : Int32) (h : hH) (Q : Int32 → hH → Prop) (X : String → Nat → hH → Prop) (hk : f_X1_faultNumber S.E v0 v1 v2 h Q X) : CtX S yX1_faultNumber (ws_ yX1_faultNumber cX1_faultNumber 4 (some .int)) rmX1_faultNumber ([aR (some v0), aI v1, aI v2].map vv) h (qI Q) X := by
  refine CtX.of hS0 (by decide +kernel) rfl (Nat.le_of_ble_eq_true rfl) fun x hxS F hnm hno => ?_
  subst hxS
  unfold f_X1_faultNumber at hk
  have hM : 0 + 1 ≤ 1 := by omega
  have hS : 0 + 6 ≤ 6 := by omega
  refine G.widen (c' := 0 + 0) (k' := 0 + 0) (Nat.le_refl 0) (Nat.le_refl 0) ?_
  exact g_iload_n F dX1_faultNumber_0 rfl 1 rfl <|
g_aload_n F dX1_faultNumber_1 rfl 0 rfl <|
g_getR F dX1_faultNumber_2 fo_X1_0_LockstepRoom in_X1 fl_LockstepRoom_10_X1 hk fun x1 hk =>
g_getR F dX1_faultNumber_5 fo_X2_6_LockstepRoom_Room in_X2 fl_LockstepRoom_128_X2 hk fun x2 hk =>
g_calli0 (g_V F dX1_faultNumber_8 q1579 mi_J2_size ct_J2 (rm' := rmJ2_size) ⟨Nat.le_of_ble_eq_true rfl, Nat.le_of_ble_eq_true rfl⟩ ⟨show 0 + 0 + 0 ≤ 1 by omega, show 0 + 0 + 0 ≤ 6 by omega⟩ (As := []) (rest := [aI v1]) rfl rfl (Nat.le_of_ble_eq_true rfl) hk (fun a5 hk => m_J2_size F.ok a5 h _ hk)) ⟨rfl, rfl⟩ fun x4 h3 hk =>
x_callv (x_S F dX1_faultNumber_11 q2634 ms_X1_requireIndex (rm' := rmX1_requireIndex) ⟨Nat.le_of_ble_eq_true rfl, Nat.le_of_ble_eq_true rfl⟩ ⟨show 0 + 0 + 1 ≤ 1 by omega, show 0 + 0 + 6 ≤ 6 by omega⟩ (As := [aI v1, aI x4]) (rest := []) rfl rfl (Nat.le_of_ble_eq_true rfl) (m_X1_requireIndex F.ok v1 x4 h3 _ _ hk)) (fun _ _ _ hx => GT.out F hno.cov (show 0 + 0 + 1 ≤ 1 by omega) (show 0 + 0 + 6 ≤ 6 by omega) hx) fun h6 hk =>
g_aload_n F dX1_faultNumber_14 rfl 0 rfl <|
g_getR F dX1_faultNumber_15 fo_X1_0_LockstepRoom in_X1 fl_LockstepRoom_10_X1 hk fun x7 hk =>
g_getR F dX1_faultNumber_18 fo_X2_6_LockstepRoom_Room in_X2 fl_LockstepRoom_128_X2 hk fun x8 hk =>
g_iload_n F dX1_faultNumber_21 rfl 1 rfl <|
g_callr0 (g_V F dX1_faultNumber_22 q2670 mi_J2_get ct_J2 (rm' := rmJ2_get) ⟨Nat.le_of_ble_eq_true rfl, Nat.le_of_ble_eq_true rfl⟩ ⟨show 0 + 0 + 1 + 0 ≤ 1 by omega, show 0 + 0 + 6 + 0 ≤ 6 by omega⟩ (As := [aI v1]) (rest := []) rfl rfl (Nat.le_of_ble_eq_true rfl) hk (fun a11 hk => m_J2_get F.ok a11 v1 h6 _ hk)) ⟨rfl, rfl⟩ fun x10 h9 hk =>
g_castS F dX1_faultNumber_25 q2481 ct_X9 hk fun hk =>
g_astore_n F dX1_faultNumber_28 rfl (Nat.le_of_ble_eq_true rfl) rfl <|
g_iload_n F dX1_faultNumber_29 rfl 3 rfl <|
if hc0 : v2 = (0:Int32) then (have hk := hk.1 hc0
g_tableIn (tgt := 60) (off := 30) F dX1_faultNumber_30 (by rw [hc0]; decide) (by rw [hc0]; decide) (by rw [hc0]; rfl) rfl <|
g_aload_n F dX1_faultNumber_60 rfl 0 rfl <|
g_getI F dX1_faultNumber_61 fo_X9_0_LockstepRoom_Fault in_X9 fl_LockstepRoom_189_X9 hk fun x12 hk =>
g_goto F dX1_faultNumber_64 (tgt := 90) rfl <|
G.toX <| g_iret F dX1_faultNumber_90 (show 0 + 0 + 1 ≤ 1 by omega) (show 0 + 0 + 6 ≤ 6 by omega) hk) else have hk := hk.2 hc0
if hc1 : v2 = (1:Int32) then (have hk := hk.1 hc1
g_tableIn (tgt := 67) (off := 37) F dX1_faultNumber_30 (by rw [hc1]; decide) (by rw [hc1]; decide) (by rw [hc1]; rfl) rfl <|
g_aload_n F dX1_faultNumber_67 rfl 0 rfl <|
g_getI F dX1_faultNumber_68 fo_X9_1_LockstepRoom_Fault in_X9 fl_LockstepRoom_191_X9 hk fun x13 hk =>
g_goto F dX1_faultNumber_71 (tgt := 90) rfl <|
G.toX <| g_iret F dX1_faultNumber_90 (show 0 + 0 + 1 ≤ 1 by omega) (show 0 + 0 + 6 ≤ 6 by omega) hk) else have hk := hk.2 hc1
if hc2 : v2 = (2:Int32) then (have hk := hk.1 hc2
g_tableIn (tgt := 74) (off := 44) F dX1_faultNumber_30 (by rw [hc2]; decide) (by rw [hc2]; decide) (by rw [hc2]; rfl) rfl <|
g_aload_n F dX1_faultNumber_74 rfl 0 rfl <|
g_getI F dX1_faultNumber_75 fo_X9_2_LockstepRoom_Fault in_X9 fl_LockstepRoom_194_X9 hk fun x14 hk =>
g_goto F dX1_faultNumber_78 (tgt := 90) rfl <|
G.toX <| g_iret F dX1_faultNumber_90 (show 0 + 0 + 1 ≤ 1 by omega) (show 0 + 0 + 6 ≤ 6 by omega) hk) else have hk := hk.2 hc2
if hc3 : v2 = (3:Int32) then (have hk := hk.1 hc3
g_tableIn (tgt := 81) (off := 51) F dX1_faultNumber_30 (by rw [hc3]; decide) (by rw [hc3]; decide) (by rw [hc3]; rfl) rfl <|
g_aload_n F dX1_faultNumber_81 rfl 0 rfl <|
g_getI F dX1_faultNumber_82 fo_X9_3_LockstepRoom_Fault in_X9 fl_LockstepRoom_195_X9 hk fun x15 hk =>
g_goto F dX1_faultNumber_85 (tgt := 90) rfl <|
G.toX <| g_iret F dX1_faultNumber_90 (show 0 + 0 + 1 ≤ 1 by omega) (show 0 + 0 + 6 ≤ 6 by omega) hk) else have hk := hk.2 hc3
g_tableOut (tgt := 88) F dX1_faultNumber_30 (sw_out_0_1_2_3 hc0 hc1 hc2 hc3) rfl <|
g_bipush F dX1_faultNumber_88 bp_m2 <|
G.toX <| g_iret F dX1_faultNumber_90 (show 0 + 0 + 1 ≤ 1 by omega) (show 0 + 0 + 6 ≤ 6 by omega) hk
abbrev rmX1_checksum : Room := { frames := 8, cells := 3, slots := 39, locals := 146 }
theorem m_X1_checksum {S : Sx} (hS0 : Sok S) (v0 : Nat) (v1 : Int32) (v2 : Int32) (h : hH) (Q : Int32 → hH → Prop) (X : String → Nat → hH → Prop) (hk : f_X1_checksum S.E v0 v1 v2 h Q X) : CtX S yX1_checksum (ws_ yX1_checksum cX1_checksum 4 (some .int)) rmX1_checksum ([aR (some v0), aI v1, aI v2].map vv) h (qI Q) X := by
  refine CtX.of hS0 (by decide +kernel) rfl (Nat.le_of_ble_eq_true rfl) fun x hxS F hnm hno => ?_
  subst hxS
  unfold f_X1_checksum at hk
  have hM : 0 + 3 ≤ 3 := by omega
  have hS : 0 + 39 ≤ 39 := by omega
  refine G.widen (c' := 0 + 0) (k' := 0 + 0) (Nat.le_refl 0) (Nat.le_refl 0) ?_
  exact g_aload_n F dX1_checksum_0 rfl 0 rfl <|
g_iload_n F dX1_checksum_1 rfl 1 rfl <|
x_callr (x_V F dX1_checksum_2 q2630 mi_X1_memberAt ct_X1 (rm' := rmX1_memberAt) ⟨Nat.le_of_ble_eq_true rfl, Nat.le_of_ble_eq_true rfl⟩ ⟨show 0 + 0 + 1 ≤ 3 by omega, show 0 + 0 + 6 ≤ 39 by omega⟩ (As := [aI v1]) (rest := []) rfl rfl (Nat.le_of_ble_eq_true rfl) hk (fun a3 hk => m_X1_memberAt F.ok a3 v1 h _ _ hk)) (fun _ _ _ hx => GT.out F hno.cov (show 0 + 0 + 1 ≤ 3 by omega) (show 0 + 0 + 6 ≤ 39 by omega) hx) fun x2 h1 hk =>
g_astore_n F dX1_checksum_5 rfl (Nat.le_of_ble_eq_true rfl) rfl <|
g_iload_n F dX1_checksum_6 rfl 3 rfl <|
g_i2l F dX1_checksum_7 <|
g_lconst F dX1_checksum_8 rfl <|
g_ldc2 F dX1_checksum_9 q2693 <|
g_calli0 (g_S F dX1_checksum_12 q442 ms_X1_inRange (rm' := rmX1_inRange) ⟨Nat.le_of_ble_eq_true rfl, Nat.le_of_ble_eq_true rfl⟩ ⟨show 0 + 0 + 1 + 0 ≤ 3 by omega, show 0 + 0 + 6 + 0 ≤ 39 by omega⟩ (As := [aL v2.toInt64, aL (1:Int64), aL (31:Int64)]) (rest := []) rfl rfl (Nat.le_of_ble_eq_true rfl) (m_X1_inRange F.ok v2.toInt64 (1:Int64) (31:Int64) h1 _ hk)) ⟨rfl, rfl⟩ fun x5 h4 hk =>
g_if_eq F dX1_checksum_15 (tgt := 30) rfl (fun hc => have hk := hk.1 hc
g_bipush F dX1_checksum_30 bp_m2 <|
G.toX <| g_iret F dX1_checksum_32 (show 0 + 0 + 1 ≤ 3 by omega) (show 0 + 0 + 6 ≤ 39 by omega) hk) (fun hc => have hk := hk.2 hc
g_aload_n F dX1_checksum_18 rfl 0 rfl <|
g_callr (g_V F dX1_checksum_19 q2694 mi_X10_tree ct_X10 (rm' := rmX10_tree) ⟨Nat.le_of_ble_eq_true rfl, Nat.le_of_ble_eq_true rfl⟩ ⟨show 0 + 0 + 1 + 2 ≤ 3 by omega, show 0 + 0 + 6 + 33 ≤ 39 by omega⟩ (As := []) (rest := []) rfl rfl (Nat.le_of_ble_eq_true rfl) hk (fun a8 hk => m_X10_tree F.ok a8 h4 _ hk)) fun x7 h6 hk =>
g_getR F dX1_checksum_22 fo_X11_0_LockstepRoom_Tree in_X11 fl_LockstepRoom_204_X11 hk fun x9 hk =>
g_iload_n F dX1_checksum_25 rfl 3 rfl <|
g_iald F dX1_checksum_26 hk fun x10 hk =>
g_goto F dX1_checksum_27 (tgt := 32) rfl <|
G.toX <| g_iret F dX1_checksum_32 (show 0 + 0 + 1 + 2 ≤ 3 by omega) (show 0 + 0 + 6 + 33 ≤ 39 by omega) hk)
abbrev rmX1_rootAt : Room := { frames := 8, cells := 2, slots := 7, locals := 171 }
theorem m_X1_rootAt {S : Sx} (hS0 : Sok S) (v0 : Nat) (v1 : Int32) (v2 : Int32) (h : hH) (Q : Int32 → hH → Prop) (X : String → Nat → hH → Prop) (hk : f_X1_rootAt S.E v0 v1 v2 h Q X) : CtX S yX1_rootAt (ws_ yX1_rootAt cX1_rootAt 3 (some .int)) rmX1_rootAt ([aR (some v0), aI v1, aI v2].map vv) h (qI Q) X := by
  refine CtX.of hS0 (by decide +kernel) rfl (Nat.le_of_ble_eq_true rfl) fun x hxS F hnm hno => ?_
  subst hxS
  unfold f_X1_rootAt at hk
  have hM : 0 + 2 ≤ 2 := by omega
  have hS : 0 + 7 ≤ 7 := by omega
  refine G.widen (c' := 0 + 0) (k' := 0 + 0) (Nat.le_refl 0) (Nat.le_refl 0) ?_
  exact g_aload_n F dX1_rootAt_0 rfl 0 rfl <|
g_iload_n F dX1_rootAt_1 rfl 1 rfl <|
x_callr (x_V F dX1_rootAt_2 q2630 mi_X1_memberAt ct_X1 (rm' := rmX1_memberAt) ⟨Nat.le_of_ble_eq_true rfl, Nat.le_of_ble_eq_true rfl⟩ ⟨show 0 + 0 + 1 ≤ 2 by omega, show 0 + 0 + 6 ≤ 7 by omega⟩ (As := [aI v1]) (rest := []) rfl rfl (Nat.le_of_ble_eq_true rfl) hk (fun a3 hk => m_X1_memberAt F.ok a3 v1 h _ _ hk)) (fun _ _ _ hx => GT.out F hno.cov (show 0 + 0 + 1 ≤ 2 by omega) (show 0 + 0 + 6 ≤ 7 by omega) hx) fun x2 h1 hk =>
g_iload_n F dX1_rootAt_5 rfl 2 rfl <|
g_calli (g_V F dX1_rootAt_6 q2702 mi_X10_rootAt ct_X10 (rm' := rmX10_rootAt) ⟨Nat.le_of_ble_eq_true rfl, Nat.le_of_ble_eq_true rfl⟩ ⟨show 0 + 0 + 1 + 1 ≤ 2 by omega, show 0 + 0 + 6 + 1 ≤ 7 by omega⟩ (As := [aI v2]) (rest := []) rfl rfl (Nat.le_of_ble_eq_true rfl) hk (fun a6 hk => m_X10_rootAt F.ok a6 v2 h1 _ hk)) fun x5 h4 hk =>
G.toX <| g_iret F dX1_rootAt_9 (show 0 + 0 + 1 + 1 ≤ 2 by omega) (show 0 + 0 + 6 + 1 ≤ 7 by omega) hk
abbrev rmX12_init : Room := { frames := 8, cells := 2, slots := 12, locals := 146 }
theorem m_X12_init {S : Sx} (hS0 : Sok S) (v0 : Nat) (v1 : Option Nat) (v2 : Int32) (v3 : Int32) (h : hH) (Q : hH → Prop) (X : String → Nat → hH → Prop) (hk : f_X12_init S.E v0 v1 v2 v3 h Q X) : CtX S yX12_init (ws_ yX12_init cX12_init 4 none) rmX12_init ([aR (some v0), aR v1, aI v2, aI v3].map vv) h (qV Q) X := by
  refine CtX.of hS0 (by decide +kernel) rfl (Nat.le_of_ble_eq_true rfl) fun x hxS F hnm hno => ?_
  subst hxS
  unfold f_X12_init at hk
  have hM : 0 + 2 ≤ 2 := by omega
  have hS : 0 + 12 ≤ 12 := by omega
  refine G.widen (c' := 0 + 0) (k' := 0 + 0) (Nat.le_refl 0) (Nat.le_refl 0) ?_
  exact g_aload_n F dX12_init_0 rfl 0 rfl <|
g_aload_n F dX12_init_1 rfl 1 rfl <|
g_putF F dX12_init_2 fo_X12_4_LockstepRoom_Range ck_X12 q2735 rfl hnm rfl (v := aR v1) (fit_rf "LockstepRoom" v1) hk fun h1 hk =>
g_aload_n F dX12_init_5 rfl 0 rfl <|
g_objInit (rest := []) F dX12_init_6 q2715 q182 q_objcode (Nat.le_of_ble_eq_true rfl) (Nat.le_of_ble_eq_true rfl) <|
g_aload_n F dX12_init_9 rfl 0 rfl <|
g_aload_n F dX12_init_10 rfl 1 rfl <|
g_iload_n F dX12_init_11 rfl 2 rfl <|
x_callr (x_VN F dX12_init_12 q2716 mi_X1_memberAt ct_X1 (rm' := rmX1_memberAt) ⟨Nat.le_of_ble_eq_true rfl, Nat.le_of_ble_eq_true rfl⟩ ⟨show 0 + 0 + 1 ≤ 2 by omega, show 0 + 0 + 6 ≤ 12 by omega⟩ (As := [aI v2]) (rest := [aR (some v0)]) rfl rfl (Nat.le_of_ble_eq_true rfl) hk (fun a4 hk => m_X1_memberAt F.ok a4 v2 h1 _ _ hk)) (fun _ _ _ hx => GT.out F hno.cov (show 0 + 0 + 1 ≤ 2 by omega) (show 0 + 0 + 6 ≤ 12 by omega) hx) fun x3 h2 hk =>
g_putF F dX12_init_15 fo_X12_0_LockstepRoom_Range ck_X12 q2731 rfl hnm rfl (v := aR x3) (fit_rf "LockstepRoom$Member" x3) hk fun h5 hk =>
g_aload_n F dX12_init_18 rfl 0 rfl <|
g_aload_n F dX12_init_19 rfl 1 rfl <|
g_iload_n F dX12_init_20 rfl 3 rfl <|
x_callr (x_VN F dX12_init_21 q2716 mi_X1_memberAt ct_X1 (rm' := rmX1_memberAt) ⟨Nat.le_of_ble_eq_true rfl, Nat.le_of_ble_eq_true rfl⟩ ⟨show 0 + 0 + 1 + 1 ≤ 2 by omega, show 0 + 0 + 6 + 6 ≤ 12 by omega⟩ (As := [aI v3]) (rest := [aR (some v0)]) rfl rfl (Nat.le_of_ble_eq_true rfl) hk (fun a8 hk => m_X1_memberAt F.ok a8 v3 h5 _ _ hk)) (fun _ _ _ hx => GT.out F hno.cov (show 0 + 0 + 1 + 1 ≤ 2 by omega) (show 0 + 0 + 6 + 6 ≤ 12 by omega) hx) fun x7 h6 hk =>
g_putF F dX12_init_24 fo_X12_1_LockstepRoom_Range ck_X12 q2732 rfl hnm rfl (v := aR x7) (fit_rf "LockstepRoom$Member" x7) hk fun h9 hk =>
g_aload_n F dX12_init_27 rfl 0 rfl <|
g_aload_n F dX12_init_28 rfl 0 rfl <|
g_getR F dX12_init_29 fo_X12_0_LockstepRoom_Range in_X12 fl_LockstepRoom_Range_19_X12 hk fun x10 hk =>
g_calli0 (g_V F dX12_init_32 q2717 mi_X10_first ct_X10 (rm' := rmX10_first) ⟨Nat.le_of_ble_eq_true rfl, Nat.le_of_ble_eq_true rfl⟩ ⟨show 0 + 0 + 1 + 1 + 0 ≤ 2 by omega, show 0 + 0 + 6 + 6 + 0 ≤ 12 by omega⟩ (As := []) (rest := [aR (some v0)]) rfl rfl (Nat.le_of_ble_eq_true rfl) hk (fun a13 hk => m_X10_first F.ok a13 h9 _ hk)) ⟨rfl, rfl⟩ fun x12 h11 hk =>
g_aload_n F dX12_init_35 rfl 0 rfl <|
g_getR F dX12_init_36 fo_X12_1_LockstepRoom_Range in_X12 fl_LockstepRoom_Range_23_X12 hk fun x14 hk =>
g_calli0 (g_V F dX12_init_39 q2717 mi_X10_first ct_X10 (rm' := rmX10_first) ⟨Nat.le_of_ble_eq_true rfl, Nat.le_of_ble_eq_true rfl⟩ ⟨show 0 + 0 + 1 + 1 + 0 ≤ 2 by omega, show 0 + 0 + 6 + 6 + 0 ≤ 12 by omega⟩ (As := []) (rest := [aI x12, aR (some v0)]) rfl rfl (Nat.le_of_ble_eq_true rfl) hk (fun a17 hk => m_X10_first F.ok a17 h11 _ hk)) ⟨rfl, rfl⟩ fun x16 h15 hk =>
g_mmax (rest := [aR (some v0)]) F dX12_init_42 q2729 q540 q130 q541 (Nat.le_of_ble_eq_true rfl) (Nat.le_of_ble_eq_true rfl) (show 0 + 0 + 1 + 1 ≤ 2 by omega) (show 0 + 0 + 6 + 6 ≤ 12 by omega) <|
g_putV F dX12_init_45 fo_X12_2_LockstepRoom_Range ck_X12 fl_LockstepRoom_Range_38_X12 rfl (v := aI (iMax x12 x16)) (fit_i (iMax x12 x16)) hk fun h18 hk =>
g_aload_n F dX12_init_48 rfl 0 rfl <|
g_aload_n F dX12_init_49 rfl 0 rfl <|
g_getR F dX12_init_50 fo_X12_0_LockstepRoom_Range in_X12 fl_LockstepRoom_Range_19_X12 hk fun x19 hk =>
g_getI F dX12_init_53 fo_X10_4_LockstepRoom_Member in_X10 fl_LockstepRoom_Range_42_X10 hk fun x20 hk =>
g_aload_n F dX12_init_56 rfl 0 rfl <|
g_getR F dX12_init_57 fo_X12_1_LockstepRoom_Range in_X12 fl_LockstepRoom_Range_23_X12 hk fun x21 hk =>
g_getI F dX12_init_60 fo_X10_4_LockstepRoom_Member in_X10 fl_LockstepRoom_Range_42_X10 hk fun x22 hk =>
g_mmin (rest := [aR (some v0)]) F dX12_init_63 q2730 q556 q130 q557 (Nat.le_of_ble_eq_true rfl) (Nat.le_of_ble_eq_true rfl) (show 0 + 0 + 1 + 1 ≤ 2 by omega) (show 0 + 0 + 6 + 6 ≤ 12 by omega) <|
g_putV F dX12_init_66 fo_X12_3_LockstepRoom_Range ck_X12 fl_LockstepRoom_Range_48_X12 rfl (v := aI (iMin x20 x22)) (fit_i (iMin x20 x22)) hk fun h23 hk =>
G.toX <| g_vret F dX12_init_69 (show 0 + 0 + 1 + 1 ≤ 2 by omega) (show 0 + 0 + 6 + 6 ≤ 12 by omega) hk
abbrev rmX12_differsAt : Room := { frames := 8, cells := 2, slots := 2, locals := 171 }
theorem m_X12_differsAt {S : Sx} (hS0 : Sok S) (v0 : Nat) (v1 : Int32) (h : hH) (Q : Int32 → hH → Prop) (hk : f_X12_differsAt S.E v0 v1 h Q) : Ct S yX12_differsAt (ws_ yX12_differsAt cX12_differsAt 2 (some .boolean)) rmX12_differsAt ([aR (some v0), aI v1].map vv) h (qI Q) := by
  refine Ct.of hS0 (by decide +kernel) rfl (Nat.le_of_ble_eq_true rfl) fun x hxS F hnm => ?_
  subst hxS
  unfold f_X12_differsAt at hk
  have hM : 0 + 2 ≤ 2 := by omega
  have hS : 0 + 2 ≤ 2 := by omega
  refine G.widen (c' := 0 + 0) (k' := 0 + 0) (Nat.le_refl 0) (Nat.le_refl 0) ?_
  exact g_aload_n F dX12_differsAt_0 rfl 0 rfl <|
g_getR F dX12_differsAt_1 fo_X12_0_LockstepRoom_Range in_X12 fl_LockstepRoom_Range_19_X12 hk fun x1 hk =>
g_iload_n F dX12_differsAt_4 rfl 1 rfl <|
g_calli (g_V F dX12_differsAt_5 q2755 mi_X10_rootAt ct_X10 (rm' := rmX10_rootAt) ⟨Nat.le_of_ble_eq_true rfl, Nat.le_of_ble_eq_true rfl⟩ ⟨show 0 + 0 + 1 ≤ 2 by omega, show 0 + 0 + 1 ≤ 2 by omega⟩ (As := [aI v1]) (rest := []) rfl rfl (Nat.le_of_ble_eq_true rfl) hk (fun a4 hk => m_X10_rootAt F.ok a4 v1 h _ hk)) fun x3 h2 hk =>
g_aload_n F dX12_differsAt_8 rfl 0 rfl <|
g_getR F dX12_differsAt_9 fo_X12_1_LockstepRoom_Range in_X12 fl_LockstepRoom_Range_23_X12 hk fun x5 hk =>
g_iload_n F dX12_differsAt_12 rfl 1 rfl <|
g_calli (g_V F dX12_differsAt_13 q2755 mi_X10_rootAt ct_X10 (rm' := rmX10_rootAt) ⟨Nat.le_of_ble_eq_true rfl, Nat.le_of_ble_eq_true rfl⟩ ⟨show 0 + 0 + 1 + 1 ≤ 2 by omega, show 0 + 0 + 1 + 1 ≤ 2 by omega⟩ (As := [aI v1]) (rest := [aI x3]) rfl rfl (Nat.le_of_ble_eq_true rfl) hk (fun a8 hk => m_X10_rootAt F.ok a8 v1 h2 _ hk)) fun x7 h6 hk =>
g_icmp_eq F dX12_differsAt_16 (tgt := 23) rfl (fun hc => have hk := hk.1 hc
g_iconst F dX12_differsAt_23 ic_0 <|
g_zret F dX12_differsAt_24 (show 0 + 0 + 1 + 1 ≤ 2 by omega) (show 0 + 0 + 1 + 1 ≤ 2 by omega) rfl hk) (fun hc => have hk := hk.2 hc
g_iconst F dX12_differsAt_19 ic_1 <|
g_goto F dX12_differsAt_20 (tgt := 24) rfl <|
g_zret F dX12_differsAt_24 (show 0 + 0 + 1 + 1 ≤ 2 by omega) (show 0 + 0 + 1 + 1 ≤ 2 by omega) rfl hk)
abbrev rmX12_first : Room := { frames := 9, cells := 84, slots := 84, locals := 192 }
theorem s_X12_first_l5 {x : Cx} (F : Fx x cX12_first "LockstepRoom$Range" 2 (some .int) rmX12_first) {v0 : Nat} {Q : Int32 → hH → Prop} {K21 : Int32 → hH → Prop} {K29 : hH → Prop} {ce ke : Nat} (hM2 : ce ≤ 84) (hS2 : ke ≤ 84) (n : Nat) (l1 : Int32) (h : hH) (cb kb : Nat) (hM0 : cb + n * 2 ≤ ce) (hS0 : kb + n * 2 ≤ ke) (hk : f_X12_first_l5 x.S.E v0 Q K21 K29 n l1 h) (hK21 : ∀ (l1 : Int32) (h : hH), K21 l1 h → G x (xQ x rmX12_first (qI Q)) 21 [(1, aI l1)] [] h ce ke) (hK29 : ∀ (h : hH), K29 h → G x (xQ x rmX12_first (qI Q)) 29 [] [] h ce ke) : G x (xQ x rmX12_first (qI Q)) 5 [(0, aR (some v0)), (1, aI l1)] [] h cb kb := by
  induction n generalizing l1 h cb kb with
  | zero => exact False.elim hk
  | succ n ih =>
    have hM : cb + 2 ≤ ce := by omega
    have hS : kb + 2 ≤ ke := by omega
    unfold f_X12_first_l5 at hk
    exact G.widen (c' := cb + 0) (k' := kb + 0) (Nat.le_refl _) (Nat.le_refl _) <| g_iload_n F dX12_first_5 rfl 1 rfl <|
g_aload_n F dX12_first_6 rfl 0 rfl <|
g_getI F dX12_first_7 fo_X12_3_LockstepRoom_Range in_X12 fl_LockstepRoom_Range_48_X12 hk fun x1 hk =>
g_icmp_gt F dX12_first_10 (tgt := 29) rfl (fun hc => have hk := hk.1 hc
G.fewer [] rfl <| G.widen (show cb + 0 ≤ ce by omega) (show kb + 0 ≤ ke by omega) <| hK29 h hk) (fun hc => have hk := hk.2 hc
g_aload_n F dX12_first_13 rfl 0 rfl <|
g_iload_n F dX12_first_14 rfl 1 rfl <|
g_calli (g_V F dX12_first_15 q2751 mi_X12_differsAt ct_X12 (rm' := rmX12_differsAt) ⟨Nat.le_of_ble_eq_true rfl, Nat.le_of_ble_eq_true rfl⟩ ⟨show cb + 0 + 2 ≤ 84 by omega, show kb + 0 + 2 ≤ 84 by omega⟩ (As := [aI l1]) (rest := []) rfl rfl (Nat.le_of_ble_eq_true rfl) hk (fun a4 hk => m_X12_differsAt F.ok a4 l1 h _ hk)) fun x3 h2 hk =>
g_if_eq F dX12_first_18 (tgt := 23) rfl (fun hc => have hk := hk.1 hc
g_iinc (v := (l1 + (1:Int32))) F dX12_first_23 (j := 1) rfl (iinc_1 l1) (Nat.le_of_ble_eq_true rfl) rfl <|
g_goto F dX12_first_26 (tgt := 5) rfl <|
G.fewer [1, 0] rfl <| G.widen (show cb + 0 + 2 ≤ cb + 2 by omega) (show kb + 0 + 2 ≤ kb + 2 by omega) <| (fun l1 h hk => ih l1 h (cb + 2) (kb + 2) (by omega) (by omega) hk) (l1 + (1:Int32)) h2 hk) (fun hc => have hk := hk.2 hc
G.fewer [1] rfl <| G.widen (show cb + 0 + 2 ≤ ce by omega) (show kb + 0 + 2 ≤ ke by omega) <| hK21 l1 h2 hk))
theorem m_X12_first {S : Sx} (hS0 : Sok S) (v0 : Nat) (h : hH) (Q : Int32 → hH → Prop) (hk : f_X12_first S.E v0 h Q) : Ct S yX12_first (ws_ yX12_first cX12_first 2 (some .int)) rmX12_first ([aR (some v0)].map vv) h (qI Q) := by
  refine Ct.of hS0 (by decide +kernel) rfl (Nat.le_of_ble_eq_true rfl) fun x hxS F hnm => ?_
  subst hxS
  unfold f_X12_first at hk
  have hM : 0 + 84 ≤ 84 := by omega
  have hS : 0 + 84 ≤ 84 := by omega
  refine G.widen (c' := 0 + 0) (k' := 0 + 0) (Nat.le_refl 0) (Nat.le_refl 0) ?_
  exact g_aload_n F dX12_first_0 rfl 0 rfl <|
g_getI F dX12_first_1 fo_X12_2_LockstepRoom_Range in_X12 fl_LockstepRoom_Range_38_X12 hk fun x5 hk =>
g_istore_n F dX12_first_4 rfl (Nat.le_of_ble_eq_true rfl) rfl <|
G.fewer [1, 0] rfl <| s_X12_first_l5 F (ce := 0 + 84) (ke := 0 + 84) (show 0 + 84 ≤ 84 by omega) (show 0 + 84 ≤ 84 by omega) 42 x5 h (0 + 0) (0 + 0) (show 0 + 0 + 42 * 2 ≤ 0 + 84 by omega) (show 0 + 0 + 42 * 2 ≤ 0 + 84 by omega) hk ((fun l1 h hk => g_iload_n F dX12_first_21 rfl 0 rfl <|
g_iret F dX12_first_22 (show 0 + 84 ≤ 84 by omega) (show 0 + 84 ≤ 84 by omega) hk)) ((fun h hk => g_iconst F dX12_first_29 ic_m1 <|
g_iret F dX12_first_30 (show 0 + 84 ≤ 84 by omega) (show 0 + 84 ≤ 84 by omega) hk))
abbrev rmX1_firstWrongTurn : Room := { frames := 10, cells := 87, slots := 101, locals := 213 }
theorem m_X1_firstWrongTurn {S : Sx} (hS0 : Sok S) (v0 : Nat) (v1 : Int32) (v2 : Int32) (h : hH) (Q : Int32 → hH → Prop) (X : String → Nat → hH → Prop) (hk : f_X1_firstWrongTurn S.E v0 v1 v2 h Q X) : CtX S yX1_firstWrongTurn (ws_ yX1_firstWrongTurn cX1_firstWrongTurn 3 (some .int)) rmX1_firstWrongTurn ([aR (some v0), aI v1, aI v2].map vv) h (qI Q) X := by
  refine CtX.of hS0 (by decide +kernel) rfl (Nat.le_of_ble_eq_true rfl) fun x hxS F hnm hno => ?_
  subst hxS
  unfold f_X1_firstWrongTurn at hk
  have hM : 0 + 87 ≤ 87 := by omega
  have hS : 0 + 101 ≤ 101 := by omega
  refine G.widen (c' := 0 + 0) (k' := 0 + 0) (Nat.le_refl 0) (Nat.le_refl 0) ?_
  exact g_new (fs := [va_rf none, va_rf none, .int 0, .int 0, va_rf none]) F dX1_firstWrongTurn_0 ck_X12 ct_X12 q2710 q2711 q155 df_X12 (show 0 + 0 + 1 ≤ 87 by omega) (show 0 + 0 + 5 ≤ 101 by omega) hk fun q1 h2 hk =>
g_dup F dX1_firstWrongTurn_3 rfl <|
g_aload_n F dX1_firstWrongTurn_4 rfl 0 rfl <|
g_iload_n F dX1_firstWrongTurn_5 rfl 1 rfl <|
g_iload_n F dX1_firstWrongTurn_6 rfl 2 rfl <|
x_callv (x_I F dX1_firstWrongTurn_7 q2712 mc_X12_init (rm' := rmX12_init) ⟨Nat.le_of_ble_eq_true rfl, Nat.le_of_ble_eq_true rfl⟩ ⟨show 0 + 0 + 1 + 2 ≤ 87 by omega, show 0 + 0 + 5 + 12 ≤ 101 by omega⟩ (As := [aR (some v0), aI v1, aI v2]) (rest := [aR (some q1)]) rfl rfl (Nat.le_of_ble_eq_true rfl) (m_X12_init F.ok q1 (some v0) v1 v2 h2 _ _ hk)) (fun _ _ _ hx => GT.out F hno.cov (show 0 + 0 + 1 + 2 ≤ 87 by omega) (show 0 + 0 + 5 + 12 ≤ 101 by omega) hx) fun h3 hk =>
g_calli (g_V F dX1_firstWrongTurn_10 q2747 mi_X12_first ct_X12 (rm' := rmX12_first) ⟨Nat.le_of_ble_eq_true rfl, Nat.le_of_ble_eq_true rfl⟩ ⟨show 0 + 0 + 1 + 2 + 84 ≤ 87 by omega, show 0 + 0 + 5 + 12 + 84 ≤ 101 by omega⟩ (As := []) (rest := []) rfl rfl (Nat.le_of_ble_eq_true rfl) hk (fun a6 hk => m_X12_first F.ok a6 h3 _ hk)) fun x5 h4 hk =>
G.toX <| g_iret F dX1_firstWrongTurn_13 (show 0 + 0 + 1 + 2 + 84 ≤ 87 by omega) (show 0 + 0 + 5 + 12 + 84 ≤ 101 by omega) hk
abbrev rmX12_halve : Room := { frames := 9, cells := 18, slots := 18, locals := 192 }
theorem s_X12_halve_l24 {x : Cx} (F : Fx x cX12_halve "LockstepRoom$Range" 2 (some .int) rmX12_halve) {v0 : Nat} {Q : Int32 → hH → Prop} {K73 : hH → Prop} {ce ke : Nat} (hM2 : ce ≤ 18) (hS2 : ke ≤ 18) (n : Nat) (h : hH) (cb kb : Nat) (hM0 : cb + n * 2 ≤ ce) (hS0 : kb + n * 2 ≤ ke) (hk : f_X12_halve_l24 x.S.E v0 Q K73 n h) (hK73 : ∀ (h : hH), K73 h → G x (xQ x rmX12_halve (qI Q)) 73 [(0, aR (some v0))] [] h ce ke) : G x (xQ x rmX12_halve (qI Q)) 24 [(0, aR (some v0))] [] h cb kb := by
  induction n generalizing h cb kb with
  | zero => exact False.elim hk
  | succ n ih =>
    have hM : cb + 2 ≤ ce := by omega
    have hS : kb + 2 ≤ ke := by omega
    unfold f_X12_halve_l24 at hk
    exact G.widen (c' := cb + 0) (k' := kb + 0) (Nat.le_refl _) (Nat.le_refl _) <| g_aload_n F dX12_halve_24 rfl 0 rfl <|
g_getI F dX12_halve_25 fo_X12_2_LockstepRoom_Range in_X12 fl_LockstepRoom_Range_38_X12 hk fun x1 hk =>
g_aload_n F dX12_halve_28 rfl 0 rfl <|
g_getI F dX12_halve_29 fo_X12_3_LockstepRoom_Range in_X12 fl_LockstepRoom_Range_48_X12 hk fun x2 hk =>
g_icmp_ge F dX12_halve_32 (tgt := 73) rfl (fun hc => have hk := hk.1 hc
G.widen (show cb + 0 ≤ ce by omega) (show kb + 0 ≤ ke by omega) <| hK73 h hk) (fun hc => have hk := hk.2 hc
g_aload_n F dX12_halve_35 rfl 0 rfl <|
g_getI F dX12_halve_36 fo_X12_2_LockstepRoom_Range in_X12 fl_LockstepRoom_Range_38_X12 hk fun x3 hk =>
g_aload_n F dX12_halve_39 rfl 0 rfl <|
g_getI F dX12_halve_40 fo_X12_3_LockstepRoom_Range in_X12 fl_LockstepRoom_Range_48_X12 hk fun x4 hk =>
g_iadd F dX12_halve_43 <|
g_iconst F dX12_halve_44 ic_2 <|
g_idiv F dX12_halve_45 nz_2_Int32 <|
g_istore_n F dX12_halve_46 rfl (Nat.le_of_ble_eq_true rfl) rfl <|
g_aload_n F dX12_halve_47 rfl 1 rfl <|
g_iload_n F dX12_halve_48 rfl 0 rfl <|
g_calli (g_V F dX12_halve_49 q2751 mi_X12_differsAt ct_X12 (rm' := rmX12_differsAt) ⟨Nat.le_of_ble_eq_true rfl, Nat.le_of_ble_eq_true rfl⟩ ⟨show cb + 0 + 2 ≤ 18 by omega, show kb + 0 + 2 ≤ 18 by omega⟩ (As := [aI ((x3 + x4) / (2:Int32))]) (rest := []) rfl rfl (Nat.le_of_ble_eq_true rfl) hk (fun a7 hk => m_X12_differsAt F.ok a7 ((x3 + x4) / (2:Int32)) h _ hk)) fun x6 h5 hk =>
g_if_eq F dX12_halve_52 (tgt := 63) rfl (fun hc => have hk := hk.1 hc
g_aload_n F dX12_halve_63 rfl 1 rfl <|
g_iload_n F dX12_halve_64 rfl 0 rfl <|
g_iconst F dX12_halve_65 ic_1 <|
g_iadd F dX12_halve_66 <|
g_putV F dX12_halve_67 fo_X12_2_LockstepRoom_Range ck_X12 fl_LockstepRoom_Range_38_X12 rfl (v := aI (((x3 + x4) / (2:Int32)) + (1:Int32))) (fit_i (((x3 + x4) / (2:Int32)) + (1:Int32))) hk fun h8 hk =>
g_goto F dX12_halve_70 (tgt := 24) rfl <|
G.fewer [1] rfl <| G.widen (show cb + 0 + 2 ≤ cb + 2 by omega) (show kb + 0 + 2 ≤ kb + 2 by omega) <| (fun h hk => ih h (cb + 2) (kb + 2) (by omega) (by omega) hk) h8 hk) (fun hc => have hk := hk.2 hc
g_aload_n F dX12_halve_55 rfl 1 rfl <|
g_iload_n F dX12_halve_56 rfl 0 rfl <|
g_putV F dX12_halve_57 fo_X12_3_LockstepRoom_Range ck_X12 fl_LockstepRoom_Range_48_X12 rfl (v := aI ((x3 + x4) / (2:Int32))) (fit_i ((x3 + x4) / (2:Int32))) hk fun h9 hk =>
g_goto F dX12_halve_60 (tgt := 70) rfl <|
g_goto F dX12_halve_70 (tgt := 24) rfl <|
G.fewer [1] rfl <| G.widen (show cb + 0 + 2 ≤ cb + 2 by omega) (show kb + 0 + 2 ≤ kb + 2 by omega) <| (fun h hk => ih h (cb + 2) (kb + 2) (by omega) (by omega) hk) h9 hk))
theorem m_X12_halve {S : Sx} (hS0 : Sok S) (v0 : Nat) (h : hH) (Q : Int32 → hH → Prop) (hk : f_X12_halve S.E v0 h Q) : Ct S yX12_halve (ws_ yX12_halve cX12_halve 2 (some .int)) rmX12_halve ([aR (some v0)].map vv) h (qI Q) := by
  refine Ct.of hS0 (by decide +kernel) rfl (Nat.le_of_ble_eq_true rfl) fun x hxS F hnm => ?_
  subst hxS
  unfold f_X12_halve at hk
  have hM : 0 + 18 ≤ 18 := by omega
  have hS : 0 + 18 ≤ 18 := by omega
  refine G.widen (c' := 0 + 0) (k' := 0 + 0) (Nat.le_refl 0) (Nat.le_refl 0) ?_
  exact g_aload_n F dX12_halve_0 rfl 0 rfl <|
g_getI F dX12_halve_1 fo_X12_2_LockstepRoom_Range in_X12 fl_LockstepRoom_Range_38_X12 hk fun x10 hk =>
g_aload_n F dX12_halve_4 rfl 0 rfl <|
g_getI F dX12_halve_5 fo_X12_3_LockstepRoom_Range in_X12 fl_LockstepRoom_Range_48_X12 hk fun x11 hk =>
g_icmp_gt F dX12_halve_8 (tgt := 22) rfl (fun hc => have hk := hk.1 hc
g_iconst F dX12_halve_22 ic_m1 <|
g_iret F dX12_halve_23 (show 0 + 0 ≤ 18 by omega) (show 0 + 0 ≤ 18 by omega) hk) (fun hc => have hk := hk.2 hc
g_aload_n F dX12_halve_11 rfl 0 rfl <|
g_aload_n F dX12_halve_12 rfl 0 rfl <|
g_getI F dX12_halve_13 fo_X12_3_LockstepRoom_Range in_X12 fl_LockstepRoom_Range_48_X12 hk fun x12 hk =>
g_calli (g_V F dX12_halve_16 q2751 mi_X12_differsAt ct_X12 (rm' := rmX12_differsAt) ⟨Nat.le_of_ble_eq_true rfl, Nat.le_of_ble_eq_true rfl⟩ ⟨show 0 + 0 + 2 ≤ 18 by omega, show 0 + 0 + 2 ≤ 18 by omega⟩ (As := [aI x12]) (rest := []) rfl rfl (Nat.le_of_ble_eq_true rfl) hk (fun a15 hk => m_X12_differsAt F.ok a15 x12 h _ hk)) fun x14 h13 hk =>
g_if_ne F dX12_halve_19 (tgt := 24) rfl (fun hc => have hk := hk.2 hc
G.widen (show 0 + 0 + 2 ≤ 0 + 2 by omega) (show 0 + 0 + 2 ≤ 0 + 2 by omega) <| s_X12_halve_l24 F (ce := 0 + 18) (ke := 0 + 18) (show 0 + 18 ≤ 18 by omega) (show 0 + 18 ≤ 18 by omega) 8 h13 (0 + 2) (0 + 2) (show 0 + 2 + 8 * 2 ≤ 0 + 18 by omega) (show 0 + 2 + 8 * 2 ≤ 0 + 18 by omega) hk ((fun h hk => g_aload_n F dX12_halve_73 rfl 0 rfl <|
g_getI F dX12_halve_74 fo_X12_2_LockstepRoom_Range in_X12 fl_LockstepRoom_Range_38_X12 hk fun x16 hk =>
g_iret F dX12_halve_77 (show 0 + 18 ≤ 18 by omega) (show 0 + 18 ≤ 18 by omega) hk))) (fun hc => have hk := hk.1 hc
g_iconst F dX12_halve_22 ic_m1 <|
g_iret F dX12_halve_23 (show 0 + 0 + 2 ≤ 18 by omega) (show 0 + 0 + 2 ≤ 18 by omega) hk))
abbrev rmX1_halvedTurn : Room := { frames := 10, cells := 21, slots := 35, locals := 213 }
theorem m_X1_halvedTurn {S : Sx} (hS0 : Sok S) (v0 : Nat) (v1 : Int32) (v2 : Int32) (h : hH) (Q : Int32 → hH → Prop) (X : String → Nat → hH → Prop) (hk : f_X1_halvedTurn S.E v0 v1 v2 h Q X) : CtX S yX1_halvedTurn (ws_ yX1_halvedTurn cX1_halvedTurn 3 (some .int)) rmX1_halvedTurn ([aR (some v0), aI v1, aI v2].map vv) h (qI Q) X := by
  refine CtX.of hS0 (by decide +kernel) rfl (Nat.le_of_ble_eq_true rfl) fun x hxS F hnm hno => ?_
  subst hxS
  unfold f_X1_halvedTurn at hk
  have hM : 0 + 21 ≤ 21 := by omega
  have hS : 0 + 35 ≤ 35 := by omega
  refine G.widen (c' := 0 + 0) (k' := 0 + 0) (Nat.le_refl 0) (Nat.le_refl 0) ?_
  exact g_new (fs := [va_rf none, va_rf none, .int 0, .int 0, va_rf none]) F dX1_halvedTurn_0 ck_X12 ct_X12 q2710 q2711 q155 df_X12 (show 0 + 0 + 1 ≤ 21 by omega) (show 0 + 0 + 5 ≤ 35 by omega) hk fun q1 h2 hk =>
g_dup F dX1_halvedTurn_3 rfl <|
g_aload_n F dX1_halvedTurn_4 rfl 0 rfl <|
g_iload_n F dX1_halvedTurn_5 rfl 1 rfl <|
g_iload_n F dX1_halvedTurn_6 rfl 2 rfl <|
x_callv (x_I F dX1_halvedTurn_7 q2712 mc_X12_init (rm' := rmX12_init) ⟨Nat.le_of_ble_eq_true rfl, Nat.le_of_ble_eq_true rfl⟩ ⟨show 0 + 0 + 1 + 2 ≤ 21 by omega, show 0 + 0 + 5 + 12 ≤ 35 by omega⟩ (As := [aR (some v0), aI v1, aI v2]) (rest := [aR (some q1)]) rfl rfl (Nat.le_of_ble_eq_true rfl) (m_X12_init F.ok q1 (some v0) v1 v2 h2 _ _ hk)) (fun _ _ _ hx => GT.out F hno.cov (show 0 + 0 + 1 + 2 ≤ 21 by omega) (show 0 + 0 + 5 + 12 ≤ 35 by omega) hx) fun h3 hk =>
g_calli (g_V F dX1_halvedTurn_10 q2763 mi_X12_halve ct_X12 (rm' := rmX12_halve) ⟨Nat.le_of_ble_eq_true rfl, Nat.le_of_ble_eq_true rfl⟩ ⟨show 0 + 0 + 1 + 2 + 18 ≤ 21 by omega, show 0 + 0 + 5 + 12 + 18 ≤ 35 by omega⟩ (As := []) (rest := []) rfl rfl (Nat.le_of_ble_eq_true rfl) hk (fun a6 hk => m_X12_halve F.ok a6 h3 _ hk)) fun x5 h4 hk =>
G.toX <| g_iret F dX1_halvedTurn_13 (show 0 + 0 + 1 + 2 + 18 ≤ 21 by omega) (show 0 + 0 + 5 + 12 + 18 ≤ 35 by omega) hk
abbrev rmX1_isHalvingRight : Room := { frames := 10, cells := 108, slots := 136, locals := 213 }
theorem m_X1_isHalvingRight {S : Sx} (hS0 : Sok S) (v0 : Nat) (v1 : Int32) (v2 : Int32) (h : hH) (Q : Int32 → hH → Prop) (X : String → Nat → hH → Prop) (hk : f_X1_isHalvingRight S.E v0 v1 v2 h Q X) : CtX S yX1_isHalvingRight (ws_ yX1_isHalvingRight cX1_isHalvingRight 3 (some .boolean)) rmX1_isHalvingRight ([aR (some v0), aI v1, aI v2].map vv) h (qI Q) X := by
  refine CtX.of hS0 (by decide +kernel) rfl (Nat.le_of_ble_eq_true rfl) fun x hxS F hnm hno => ?_
  subst hxS
  unfold f_X1_isHalvingRight at hk
  have hM : 0 + 108 ≤ 108 := by omega
  have hS : 0 + 136 ≤ 136 := by omega
  refine G.widen (c' := 0 + 0) (k' := 0 + 0) (Nat.le_refl 0) (Nat.le_refl 0) ?_
  exact g_new (fs := [va_rf none, va_rf none, .int 0, .int 0, va_rf none]) F dX1_isHalvingRight_0 ck_X12 ct_X12 q2710 q2711 q155 df_X12 (show 0 + 0 + 1 ≤ 108 by omega) (show 0 + 0 + 5 ≤ 136 by omega) hk fun q1 h2 hk =>
g_dup F dX1_isHalvingRight_3 rfl <|
g_aload_n F dX1_isHalvingRight_4 rfl 0 rfl <|
g_iload_n F dX1_isHalvingRight_5 rfl 1 rfl <|
g_iload_n F dX1_isHalvingRight_6 rfl 2 rfl <|
x_callv (x_I F dX1_isHalvingRight_7 q2712 mc_X12_init (rm' := rmX12_init) ⟨Nat.le_of_ble_eq_true rfl, Nat.le_of_ble_eq_true rfl⟩ ⟨show 0 + 0 + 1 + 2 ≤ 108 by omega, show 0 + 0 + 5 + 12 ≤ 136 by omega⟩ (As := [aR (some v0), aI v1, aI v2]) (rest := [aR (some q1)]) rfl rfl (Nat.le_of_ble_eq_true rfl) (m_X12_init F.ok q1 (some v0) v1 v2 h2 _ _ hk)) (fun _ _ _ hx => GT.out F hno.cov (show 0 + 0 + 1 + 2 ≤ 108 by omega) (show 0 + 0 + 5 + 12 ≤ 136 by omega) hx) fun h3 hk =>
g_calli (g_V F dX1_isHalvingRight_10 q2747 mi_X12_first ct_X12 (rm' := rmX12_first) ⟨Nat.le_of_ble_eq_true rfl, Nat.le_of_ble_eq_true rfl⟩ ⟨show 0 + 0 + 1 + 2 + 84 ≤ 108 by omega, show 0 + 0 + 5 + 12 + 84 ≤ 136 by omega⟩ (As := []) (rest := []) rfl rfl (Nat.le_of_ble_eq_true rfl) hk (fun a6 hk => m_X12_first F.ok a6 h3 _ hk)) fun x5 h4 hk =>
g_new (fs := [va_rf none, va_rf none, .int 0, .int 0, va_rf none]) F dX1_isHalvingRight_13 ck_X12 ct_X12 q2710 q2711 q155 df_X12 (show 0 + 0 + 1 + 2 + 84 + 1 ≤ 108 by omega) (show 0 + 0 + 5 + 12 + 84 + 5 ≤ 136 by omega) hk fun q7 h8 hk =>
g_dup F dX1_isHalvingRight_16 rfl <|
g_aload_n F dX1_isHalvingRight_17 rfl 0 rfl <|
g_iload_n F dX1_isHalvingRight_18 rfl 1 rfl <|
g_iload_n F dX1_isHalvingRight_19 rfl 2 rfl <|
x_callv (x_I F dX1_isHalvingRight_20 q2712 mc_X12_init (rm' := rmX12_init) ⟨Nat.le_of_ble_eq_true rfl, Nat.le_of_ble_eq_true rfl⟩ ⟨show 0 + 0 + 1 + 2 + 84 + 1 + 2 ≤ 108 by omega, show 0 + 0 + 5 + 12 + 84 + 5 + 12 ≤ 136 by omega⟩ (As := [aR (some v0), aI v1, aI v2]) (rest := [aR (some q7), aI x5]) rfl rfl (Nat.le_of_ble_eq_true rfl) (m_X12_init F.ok q7 (some v0) v1 v2 h8 _ _ hk)) (fun _ _ _ hx => GT.out F hno.cov (show 0 + 0 + 1 + 2 + 84 + 1 + 2 ≤ 108 by omega) (show 0 + 0 + 5 + 12 + 84 + 5 + 12 ≤ 136 by omega) hx) fun h9 hk =>
g_calli (g_V F dX1_isHalvingRight_23 q2763 mi_X12_halve ct_X12 (rm' := rmX12_halve) ⟨Nat.le_of_ble_eq_true rfl, Nat.le_of_ble_eq_true rfl⟩ ⟨show 0 + 0 + 1 + 2 + 84 + 1 + 2 + 18 ≤ 108 by omega, show 0 + 0 + 5 + 12 + 84 + 5 + 12 + 18 ≤ 136 by omega⟩ (As := []) (rest := [aI x5]) rfl rfl (Nat.le_of_ble_eq_true rfl) hk (fun a12 hk => m_X12_halve F.ok a12 h9 _ hk)) fun x11 h10 hk =>
g_icmp_ne F dX1_isHalvingRight_26 (tgt := 33) rfl (fun hc => have hk := hk.2 hc
g_iconst F dX1_isHalvingRight_33 ic_0 <|
G.toX <| g_zret F dX1_isHalvingRight_34 (show 0 + 0 + 1 + 2 + 84 + 1 + 2 + 18 ≤ 108 by omega) (show 0 + 0 + 5 + 12 + 84 + 5 + 12 + 18 ≤ 136 by omega) rfl hk) (fun hc => have hk := hk.1 hc
g_iconst F dX1_isHalvingRight_29 ic_1 <|
g_goto F dX1_isHalvingRight_30 (tgt := 34) rfl <|
G.toX <| g_zret F dX1_isHalvingRight_34 (show 0 + 0 + 1 + 2 + 84 + 1 + 2 + 18 ≤ 108 by omega) (show 0 + 0 + 5 + 12 + 84 + 5 + 12 + 18 ≤ 136 by omega) rfl hk)
abbrev rmX1_descent : Room := { frames := 8, cells := 7, slots := 81, locals := 146 }
theorem m_X1_descent {S : Sx} (hS0 : Sok S) (v0 : Nat) (v1 : Int32) (v2 : Int32) (h : hH) (Q : Option Nat → hH → Prop) (X : String → Nat → hH → Prop) (hk : f_X1_descent S.E v0 v1 v2 h Q X) : CtX S yX1_descent (ws_ yX1_descent cX1_descent 3 (some (.object "LockstepRoom$Descent"))) rmX1_descent ([aR (some v0), aI v1, aI v2].map vv) h (qR Q) X := by
  refine CtX.of hS0 (by decide +kernel) rfl (Nat.le_of_ble_eq_true rfl) fun x hxS F hnm hno => ?_
  subst hxS
  unfold f_X1_descent at hk
  have hM : 0 + 7 ≤ 7 := by omega
  have hS : 0 + 81 ≤ 81 := by omega
  refine G.widen (c' := 0 + 0) (k' := 0 + 0) (Nat.le_refl 0) (Nat.le_refl 0) ?_
  exact g_new (fs := [va_rf none, va_rf none, .int 0]) F dX1_descent_0 ck_X13 ct_X13 q2785 q2250 q156 df_X13 (show 0 + 0 + 1 ≤ 7 by omega) (show 0 + 0 + 3 ≤ 81 by omega) hk fun q1 h2 hk =>
g_dup F dX1_descent_3 rfl <|
g_aload_n F dX1_descent_4 rfl 0 rfl <|
g_iload_n F dX1_descent_5 rfl 1 rfl <|
x_callr (x_V F dX1_descent_6 q2630 mi_X1_memberAt ct_X1 (rm' := rmX1_memberAt) ⟨Nat.le_of_ble_eq_true rfl, Nat.le_of_ble_eq_true rfl⟩ ⟨show 0 + 0 + 1 + 1 ≤ 7 by omega, show 0 + 0 + 3 + 6 ≤ 81 by omega⟩ (As := [aI v1]) (rest := [aR (some q1), aR (some q1)]) rfl rfl (Nat.le_of_ble_eq_true rfl) hk (fun a5 hk => m_X1_memberAt F.ok a5 v1 h2 _ _ hk)) (fun _ _ _ hx => GT.out F hno.cov (show 0 + 0 + 1 + 1 ≤ 7 by omega) (show 0 + 0 + 3 + 6 ≤ 81 by omega) hx) fun x4 h3 hk =>
g_callr (g_V F dX1_descent_9 q2694 mi_X10_tree ct_X10 (rm' := rmX10_tree) ⟨Nat.le_of_ble_eq_true rfl, Nat.le_of_ble_eq_true rfl⟩ ⟨show 0 + 0 + 1 + 1 + 2 ≤ 7 by omega, show 0 + 0 + 3 + 6 + 33 ≤ 81 by omega⟩ (As := []) (rest := [aR (some q1), aR (some q1)]) rfl rfl (Nat.le_of_ble_eq_true rfl) hk (fun a8 hk => m_X10_tree F.ok a8 h3 _ hk)) fun x7 h6 hk =>
g_aload_n F dX1_descent_12 rfl 0 rfl <|
g_iload_n F dX1_descent_13 rfl 2 rfl <|
x_callr (x_V F dX1_descent_14 q2630 mi_X1_memberAt ct_X1 (rm' := rmX1_memberAt) ⟨Nat.le_of_ble_eq_true rfl, Nat.le_of_ble_eq_true rfl⟩ ⟨show 0 + 0 + 1 + 1 + 2 + 1 ≤ 7 by omega, show 0 + 0 + 3 + 6 + 33 + 6 ≤ 81 by omega⟩ (As := [aI v2]) (rest := [aR x7, aR (some q1), aR (some q1)]) rfl rfl (Nat.le_of_ble_eq_true rfl) hk (fun a11 hk => m_X1_memberAt F.ok a11 v2 h6 _ _ hk)) (fun _ _ _ hx => GT.out F hno.cov (show 0 + 0 + 1 + 1 + 2 + 1 ≤ 7 by omega) (show 0 + 0 + 3 + 6 + 33 + 6 ≤ 81 by omega) hx) fun x10 h9 hk =>
g_callr (g_V F dX1_descent_17 q2694 mi_X10_tree ct_X10 (rm' := rmX10_tree) ⟨Nat.le_of_ble_eq_true rfl, Nat.le_of_ble_eq_true rfl⟩ ⟨show 0 + 0 + 1 + 1 + 2 + 1 + 2 ≤ 7 by omega, show 0 + 0 + 3 + 6 + 33 + 6 + 33 ≤ 81 by omega⟩ (As := []) (rest := [aR x7, aR (some q1), aR (some q1)]) rfl rfl (Nat.le_of_ble_eq_true rfl) hk (fun a14 hk => m_X10_tree F.ok a14 h9 _ hk)) fun x13 h12 hk =>
g_callv0 (g_I F dX1_descent_20 q2786 mc_X13_init (rm' := rmX13_init) ⟨Nat.le_of_ble_eq_true rfl, Nat.le_of_ble_eq_true rfl⟩ ⟨show 0 + 0 + 1 + 1 + 2 + 1 + 2 + 0 ≤ 7 by omega, show 0 + 0 + 3 + 6 + 33 + 6 + 33 + 0 ≤ 81 by omega⟩ (As := [aR x7, aR x13]) (rest := [aR (some q1)]) rfl rfl (Nat.le_of_ble_eq_true rfl) (m_X13_init F.ok q1 x7 x13 h12 _ hk)) ⟨rfl, rfl⟩ fun h15 hk =>
G.toX <| g_aret F (Or.inl ⟨_, rfl⟩) dX1_descent_23 (show 0 + 0 + 1 + 1 + 2 + 1 + 2 ≤ 7 by omega) (show 0 + 0 + 3 + 6 + 33 + 6 + 33 ≤ 81 by omega) hk
abbrev rmX1_firstWrongCell : Room := { frames := 9, cells := 10, slots := 104, locals := 187 }
theorem m_X1_firstWrongCell {S : Sx} (hS0 : Sok S) (v0 : Nat) (v1 : Int32) (v2 : Int32) (h : hH) (Q : Int32 → hH → Prop) (X : String → Nat → hH → Prop) (hk : f_X1_firstWrongCell S.E v0 v1 v2 h Q X) : CtX S yX1_firstWrongCell (ws_ yX1_firstWrongCell cX1_firstWrongCell 5 (some .int)) rmX1_firstWrongCell ([aR (some v0), aI v1, aI v2].map vv) h (qI Q) X := by
  refine CtX.of hS0 (by decide +kernel) rfl (Nat.le_of_ble_eq_true rfl) fun x hxS F hnm hno => ?_
  subst hxS
  unfold f_X1_firstWrongCell at hk
  have hM : 0 + 10 ≤ 10 := by omega
  have hS : 0 + 104 ≤ 104 := by omega
  refine G.widen (c' := 0 + 0) (k' := 0 + 0) (Nat.le_refl 0) (Nat.le_refl 0) ?_
  exact g_aload_n F dX1_firstWrongCell_0 rfl 0 rfl <|
g_iload_n F dX1_firstWrongCell_1 rfl 1 rfl <|
g_iload_n F dX1_firstWrongCell_2 rfl 2 rfl <|
x_callr (x_V F dX1_firstWrongCell_3 q2781 mi_X1_descent ct_X1 (rm' := rmX1_descent) ⟨Nat.le_of_ble_eq_true rfl, Nat.le_of_ble_eq_true rfl⟩ ⟨show 0 + 0 + 7 ≤ 10 by omega, show 0 + 0 + 81 ≤ 104 by omega⟩ (As := [aI v1, aI v2]) (rest := []) rfl rfl (Nat.le_of_ble_eq_true rfl) hk (fun a3 hk => m_X1_descent F.ok a3 v1 v2 h _ _ hk)) (fun _ _ _ hx => GT.out F hno.cov (show 0 + 0 + 7 ≤ 10 by omega) (show 0 + 0 + 81 ≤ 104 by omega) hx) fun x2 h1 hk =>
g_astore_n F dX1_firstWrongCell_6 rfl (Nat.le_of_ble_eq_true rfl) rfl <|
g_aload_n F dX1_firstWrongCell_7 rfl 1 rfl <|
g_getR F dX1_firstWrongCell_8 fo_X1_0_LockstepRoom in_X1 fl_LockstepRoom_10_X1 hk fun x4 hk =>
g_iload_n F dX1_firstWrongCell_11 rfl 2 rfl <|
g_callr0 (g_V F dX1_firstWrongCell_12 q1585 mi_X2_member ct_X2 (rm' := rmX2_member) ⟨Nat.le_of_ble_eq_true rfl, Nat.le_of_ble_eq_true rfl⟩ ⟨show 0 + 0 + 7 + 0 ≤ 10 by omega, show 0 + 0 + 81 + 0 ≤ 104 by omega⟩ (As := [aI v1]) (rest := []) rfl rfl (Nat.le_of_ble_eq_true rfl) hk (fun a7 hk => m_X2_member F.ok a7 v1 h1 _ hk)) ⟨rfl, rfl⟩ fun x6 h5 hk =>
g_getI F dX1_firstWrongCell_15 fo_X10_4_LockstepRoom_Member in_X10 fl_LockstepRoom_142_X10 hk fun x8 hk =>
g_aload_n F dX1_firstWrongCell_18 rfl 1 rfl <|
g_getR F dX1_firstWrongCell_19 fo_X1_0_LockstepRoom in_X1 fl_LockstepRoom_10_X1 hk fun x9 hk =>
g_iload_n F dX1_firstWrongCell_22 rfl 3 rfl <|
g_callr0 (g_V F dX1_firstWrongCell_23 q1585 mi_X2_member ct_X2 (rm' := rmX2_member) ⟨Nat.le_of_ble_eq_true rfl, Nat.le_of_ble_eq_true rfl⟩ ⟨show 0 + 0 + 7 + 0 ≤ 10 by omega, show 0 + 0 + 81 + 0 ≤ 104 by omega⟩ (As := [aI v2]) (rest := [aI x8]) rfl rfl (Nat.le_of_ble_eq_true rfl) hk (fun a12 hk => m_X2_member F.ok a12 v2 h5 _ hk)) ⟨rfl, rfl⟩ fun x11 h10 hk =>
g_getI F dX1_firstWrongCell_26 fo_X10_4_LockstepRoom_Member in_X10 fl_LockstepRoom_142_X10 hk fun x13 hk =>
g_icmp_eq F dX1_firstWrongCell_29 (tgt := 35) rfl (fun hc => have hk := hk.1 hc
g_aload_n F dX1_firstWrongCell_35 rfl 0 rfl <|
g_callr (g_V F dX1_firstWrongCell_36 q2787 mi_X13_iterator ct_X13 (rm' := rmX13_iterator) ⟨Nat.le_of_ble_eq_true rfl, Nat.le_of_ble_eq_true rfl⟩ ⟨show 0 + 0 + 7 + 3 ≤ 10 by omega, show 0 + 0 + 81 + 23 ≤ 104 by omega⟩ (As := []) (rest := []) rfl rfl (Nat.le_of_ble_eq_true rfl) hk (fun a16 hk => m_X13_iterator F.ok a16 h10 _ hk)) fun x15 h14 hk =>
g_astore F dX1_firstWrongCell_39 (Nat.le_of_ble_eq_true rfl) rfl <|
g_aload F dX1_firstWrongCell_41 0 rfl <|
g_calli05 (g_F (y0 := ({ cls := "java/util/Iterator", name := "hasNext", desc := "()Z" } : MethodName)) F dX1_firstWrongCell_43 q2789 q2367 q2365 q157 q2369 (F.face q2364 q2363 q2368 q2366 q2201 ⟨by decide, by decide⟩) moi_java_util_Iterator_hasNext___Z ct_X14 (rm' := rmX14_hasNext) ⟨Nat.le_of_ble_eq_true rfl, Nat.le_of_ble_eq_true rfl⟩ ⟨show 0 + 0 + 7 + 3 + 0 ≤ 10 by omega, show 0 + 0 + 81 + 23 + 0 ≤ 104 by omega⟩ (As := []) (rest := []) rfl rfl (Nat.le_of_ble_eq_true rfl) hk (fun a25 hk => m_X14_hasNext F.ok a25 h14 _ hk)) ⟨rfl, rfl⟩ fun x18 h17 hk =>
g_if_eq F dX1_firstWrongCell_48 (tgt := 67) rfl (fun hc => have hk := hk.1 hc
g_iconst F dX1_firstWrongCell_67 ic_m1 <|
G.toX <| g_iret F dX1_firstWrongCell_68 (show 0 + 0 + 7 + 3 ≤ 10 by omega) (show 0 + 0 + 81 + 23 ≤ 104 by omega) hk) (fun hc => have hk := hk.2 hc
g_aload F dX1_firstWrongCell_51 0 rfl <|
g_callr05 (g_F (y0 := ({ cls := "java/util/Iterator", name := "next", desc := "()Ljava/lang/Object;" } : MethodName)) F dX1_firstWrongCell_53 q2791 q2204 q2202 q157 q2206 (F.face q2200 q2199 q2205 q2203 q2201 ⟨by decide, by decide⟩) moi_java_util_Iterator_next___Ljava_lang_Object_ ct_X14 (rm' := rmX14_next) ⟨Nat.le_of_ble_eq_true rfl, Nat.le_of_ble_eq_true rfl⟩ ⟨show 0 + 0 + 7 + 3 + 0 ≤ 10 by omega, show 0 + 0 + 81 + 23 + 0 ≤ 104 by omega⟩ (As := []) (rest := []) rfl rfl (Nat.le_of_ble_eq_true rfl) hk (fun a24 hk => m_X14_next F.ok a24 h17 _ hk)) ⟨rfl, rfl⟩ fun x20 h19 hk =>
g_castS F dX1_firstWrongCell_58 q2792 ct_J20 hk fun hk =>
g_calli0 (g_V F dX1_firstWrongCell_61 q2793 mi_J20_intValue ct_J20 (rm' := rmJ20_intValue) ⟨Nat.le_of_ble_eq_true rfl, Nat.le_of_ble_eq_true rfl⟩ ⟨show 0 + 0 + 7 + 3 + 0 ≤ 10 by omega, show 0 + 0 + 81 + 23 + 0 ≤ 104 by omega⟩ (As := []) (rest := []) rfl rfl (Nat.le_of_ble_eq_true rfl) hk (fun a23 hk => m_J20_intValue F.ok a23 h19 _ hk)) ⟨rfl, rfl⟩ fun x22 h21 hk =>
g_goto F dX1_firstWrongCell_64 (tgt := 68) rfl <|
G.toX <| g_iret F dX1_firstWrongCell_68 (show 0 + 0 + 7 + 3 ≤ 10 by omega) (show 0 + 0 + 81 + 23 ≤ 104 by omega) hk)) (fun hc => have hk := hk.2 hc
g_bipush F dX1_firstWrongCell_32 bp_m4 <|
G.toX <| g_iret F dX1_firstWrongCell_34 (show 0 + 0 + 7 ≤ 10 by omega) (show 0 + 0 + 81 ≤ 104 by omega) hk)
abbrev rmX1_wrongCells : Room := { frames := 9, cells := 10, slots := 104, locals := 187 }
theorem s_X1_wrongCells_l13 {x : Cx} (F : Fx x cX1_wrongCells "LockstepRoom" 6 (some .int) rmX1_wrongCells) {v0 : Nat} (hno : NoH x) {Q : Int32 → hH → Prop} {X : String → Nat → hH → Prop} {K48 : Int32 → hH → Prop} {ce ke : Nat} (hM2 : ce ≤ 10) (hS2 : ke ≤ 104) (n : Nat) (l3 : Int32) (l4 : Option Nat) (h : hH) (cb kb : Nat) (hM0 : cb + n * 0 ≤ ce) (hS0 : kb + n * 0 ≤ ke) (hk : f_X1_wrongCells_l13 x.S.E v0 Q X K48 n l3 l4 h) (hK48 : ∀ (l3 : Int32) (h : hH), K48 l3 h → G x (xQX x rmX1_wrongCells (qI Q) X) 48 [(3, aI l3)] [] h ce ke) : G x (xQX x rmX1_wrongCells (qI Q) X) 13 [(3, aI l3), (4, aR l4)] [] h cb kb := by
  induction n generalizing l3 l4 h cb kb with
  | zero => exact False.elim hk
  | succ n ih =>
    have hM : cb + 0 ≤ ce := by omega
    have hS : kb + 0 ≤ ke := by omega
    unfold f_X1_wrongCells_l13 at hk
    exact G.widen (c' := cb + 0) (k' := kb + 0) (Nat.le_refl _) (Nat.le_refl _) <| g_aload F dX1_wrongCells_13 1 rfl <|
g_calli05 (g_F (y0 := ({ cls := "java/util/Iterator", name := "hasNext", desc := "()Z" } : MethodName)) F dX1_wrongCells_15 q2789 q2367 q2365 q157 q2369 (F.face q2364 q2363 q2368 q2366 q2201 ⟨by decide, by decide⟩) moi_java_util_Iterator_hasNext___Z ct_X14 (rm' := rmX14_hasNext) ⟨Nat.le_of_ble_eq_true rfl, Nat.le_of_ble_eq_true rfl⟩ ⟨show cb + 0 + 0 ≤ 10 by omega, show kb + 0 + 0 ≤ 104 by omega⟩ (As := []) (rest := []) rfl rfl (Nat.le_of_ble_eq_true rfl) hk (fun a9 hk => m_X14_hasNext F.ok a9 h _ hk)) ⟨rfl, rfl⟩ fun x2 h1 hk =>
g_if_eq F dX1_wrongCells_20 (tgt := 48) rfl (fun hc => have hk := hk.1 hc
G.fewer [0] rfl <| G.widen (show cb + 0 ≤ ce by omega) (show kb + 0 ≤ ke by omega) <| hK48 l3 h1 hk) (fun hc => have hk := hk.2 hc
g_aload F dX1_wrongCells_23 1 rfl <|
g_callr05 (g_F (y0 := ({ cls := "java/util/Iterator", name := "next", desc := "()Ljava/lang/Object;" } : MethodName)) F dX1_wrongCells_25 q2791 q2204 q2202 q157 q2206 (F.face q2200 q2199 q2205 q2203 q2201 ⟨by decide, by decide⟩) moi_java_util_Iterator_next___Ljava_lang_Object_ ct_X14 (rm' := rmX14_next) ⟨Nat.le_of_ble_eq_true rfl, Nat.le_of_ble_eq_true rfl⟩ ⟨show cb + 0 + 0 ≤ 10 by omega, show kb + 0 + 0 ≤ 104 by omega⟩ (As := []) (rest := []) rfl rfl (Nat.le_of_ble_eq_true rfl) hk (fun a8 hk => m_X14_next F.ok a8 h1 _ hk)) ⟨rfl, rfl⟩ fun x4 h3 hk =>
g_castS F dX1_wrongCells_30 q2792 ct_J20 hk fun hk =>
g_astore F dX1_wrongCells_33 (Nat.le_of_ble_eq_true rfl) rfl <|
g_iload_n F dX1_wrongCells_35 rfl 1 rfl <|
g_iconst F dX1_wrongCells_36 ic_1 <|
g_aload F dX1_wrongCells_37 0 rfl <|
g_calli0 (g_V F dX1_wrongCells_39 q2793 mi_J20_intValue ct_J20 (rm' := rmJ20_intValue) ⟨Nat.le_of_ble_eq_true rfl, Nat.le_of_ble_eq_true rfl⟩ ⟨show cb + 0 + 0 ≤ 10 by omega, show kb + 0 + 0 ≤ 104 by omega⟩ (As := []) (rest := [aI (1:Int32), aI l3]) rfl rfl (Nat.le_of_ble_eq_true rfl) hk (fun a7 hk => m_J20_intValue F.ok a7 h3 _ hk)) ⟨rfl, rfl⟩ fun x6 h5 hk =>
g_ishl F dX1_wrongCells_42 <|
g_ior F dX1_wrongCells_43 <|
g_istore_n F dX1_wrongCells_44 rfl (Nat.le_of_ble_eq_true rfl) rfl <|
g_goto F dX1_wrongCells_45 (tgt := 13) rfl <|
G.fewer [0, 2] rfl <| (fun l3 l4 h hk => ih l3 l4 h (cb + 0) (kb + 0) (by omega) (by omega) hk) (l3 ||| ((1:Int32) <<< (x6 &&& 31))) l4 h5 hk)
theorem m_X1_wrongCells {S : Sx} (hS0 : Sok S) (v0 : Nat) (v1 : Int32) (v2 : Int32) (h : hH) (Q : Int32 → hH → Prop) (X : String → Nat → hH → Prop) (hk : f_X1_wrongCells S.E v0 v1 v2 h Q X) : CtX S yX1_wrongCells (ws_ yX1_wrongCells cX1_wrongCells 6 (some .int)) rmX1_wrongCells ([aR (some v0), aI v1, aI v2].map vv) h (qI Q) X := by
  refine CtX.of hS0 (by decide +kernel) rfl (Nat.le_of_ble_eq_true rfl) fun x hxS F hnm hno => ?_
  subst hxS
  unfold f_X1_wrongCells at hk
  have hM : 0 + 10 ≤ 10 := by omega
  have hS : 0 + 104 ≤ 104 := by omega
  refine G.widen (c' := 0 + 0) (k' := 0 + 0) (Nat.le_refl 0) (Nat.le_refl 0) ?_
  exact g_iconst F dX1_wrongCells_0 ic_0 <|
g_istore_n F dX1_wrongCells_1 rfl (Nat.le_of_ble_eq_true rfl) rfl <|
g_aload_n F dX1_wrongCells_2 rfl 1 rfl <|
g_iload_n F dX1_wrongCells_3 rfl 2 rfl <|
g_iload_n F dX1_wrongCells_4 rfl 3 rfl <|
x_callr (x_V F dX1_wrongCells_5 q2781 mi_X1_descent ct_X1 (rm' := rmX1_descent) ⟨Nat.le_of_ble_eq_true rfl, Nat.le_of_ble_eq_true rfl⟩ ⟨show 0 + 0 + 7 ≤ 10 by omega, show 0 + 0 + 81 ≤ 104 by omega⟩ (As := [aI v1, aI v2]) (rest := []) rfl rfl (Nat.le_of_ble_eq_true rfl) hk (fun a12 hk => m_X1_descent F.ok a12 v1 v2 h _ _ hk)) (fun _ _ _ hx => GT.out F hno.cov (show 0 + 0 + 7 ≤ 10 by omega) (show 0 + 0 + 81 ≤ 104 by omega) hx) fun x11 h10 hk =>
g_callr (g_V F dX1_wrongCells_8 q2787 mi_X13_iterator ct_X13 (rm' := rmX13_iterator) ⟨Nat.le_of_ble_eq_true rfl, Nat.le_of_ble_eq_true rfl⟩ ⟨show 0 + 0 + 7 + 3 ≤ 10 by omega, show 0 + 0 + 81 + 23 ≤ 104 by omega⟩ (As := []) (rest := []) rfl rfl (Nat.le_of_ble_eq_true rfl) hk (fun a15 hk => m_X13_iterator F.ok a15 h10 _ hk)) fun x14 h13 hk =>
g_astore F dX1_wrongCells_11 (Nat.le_of_ble_eq_true rfl) rfl <|
G.fewer [1, 0] rfl <| G.widen (show 0 + 0 + 7 + 3 ≤ 0 + 10 by omega) (show 0 + 0 + 81 + 23 ≤ 0 + 104 by omega) <| s_X1_wrongCells_l13 F hno (ce := 0 + 10) (ke := 0 + 104) (show 0 + 10 ≤ 10 by omega) (show 0 + 104 ≤ 104 by omega) 1000000 (0:Int32) x14 h13 (0 + 10) (0 + 104) (show 0 + 10 + 1000000 * 0 ≤ 0 + 10 by omega) (show 0 + 104 + 1000000 * 0 ≤ 0 + 104 by omega) hk ((fun l3 h hk => g_iload_n F dX1_wrongCells_48 rfl 0 rfl <|
G.toX <| g_iret F dX1_wrongCells_49 (show 0 + 10 ≤ 10 by omega) (show 0 + 104 ≤ 104 by omega) hk))
abbrev rmX1_comparisons : Room := { frames := 9, cells := 10, slots := 104, locals := 187 }
theorem s_X1_comparisons_l16 {x : Cx} (F : Fx x cX1_comparisons "LockstepRoom" 7 (some .int) rmX1_comparisons) {v0 : Nat} (hno : NoH x) {Q : Int32 → hH → Prop} {X : String → Nat → hH → Prop} {K44 : Option Nat → hH → Prop} {ce ke : Nat} (hM2 : ce ≤ 10) (hS2 : ke ≤ 104) (n : Nat) (l3 : Option Nat) (l4 : Int32) (l5 : Option Nat) (h : hH) (cb kb : Nat) (hM0 : cb + n * 0 ≤ ce) (hS0 : kb + n * 0 ≤ ke) (hk : f_X1_comparisons_l16 x.S.E v0 Q X K44 n l3 l4 l5 h) (hK44 : ∀ (l3 : Option Nat) (h : hH), K44 l3 h → G x (xQX x rmX1_comparisons (qI Q) X) 44 [(3, aR l3)] [] h ce ke) : G x (xQX x rmX1_comparisons (qI Q) X) 16 [(3, aR l3), (4, aI l4), (5, aR l5)] [] h cb kb := by
  induction n generalizing l3 l4 l5 h cb kb with
  | zero => exact False.elim hk
  | succ n ih =>
    have hM : cb + 0 ≤ ce := by omega
    have hS : kb + 0 ≤ ke := by omega
    unfold f_X1_comparisons_l16 at hk
    exact G.widen (c' := cb + 0) (k' := kb + 0) (Nat.le_refl _) (Nat.le_refl _) <| g_aload F dX1_comparisons_16 2 rfl <|
g_calli05 (g_F (y0 := ({ cls := "java/util/Iterator", name := "hasNext", desc := "()Z" } : MethodName)) F dX1_comparisons_18 q2789 q2367 q2365 q157 q2369 (F.face q2364 q2363 q2368 q2366 q2201 ⟨by decide, by decide⟩) moi_java_util_Iterator_hasNext___Z ct_X14 (rm' := rmX14_hasNext) ⟨Nat.le_of_ble_eq_true rfl, Nat.le_of_ble_eq_true rfl⟩ ⟨show cb + 0 + 0 ≤ 10 by omega, show kb + 0 + 0 ≤ 104 by omega⟩ (As := []) (rest := []) rfl rfl (Nat.le_of_ble_eq_true rfl) hk (fun a6 hk => m_X14_hasNext F.ok a6 h _ hk)) ⟨rfl, rfl⟩ fun x2 h1 hk =>
g_if_eq F dX1_comparisons_23 (tgt := 44) rfl (fun hc => have hk := hk.1 hc
G.fewer [0] rfl <| G.widen (show cb + 0 ≤ ce by omega) (show kb + 0 ≤ ke by omega) <| hK44 l3 h1 hk) (fun hc => have hk := hk.2 hc
g_aload F dX1_comparisons_26 2 rfl <|
g_callr05 (g_F (y0 := ({ cls := "java/util/Iterator", name := "next", desc := "()Ljava/lang/Object;" } : MethodName)) F dX1_comparisons_28 q2791 q2204 q2202 q157 q2206 (F.face q2200 q2199 q2205 q2203 q2201 ⟨by decide, by decide⟩) moi_java_util_Iterator_next___Ljava_lang_Object_ ct_X14 (rm' := rmX14_next) ⟨Nat.le_of_ble_eq_true rfl, Nat.le_of_ble_eq_true rfl⟩ ⟨show cb + 0 + 0 ≤ 10 by omega, show kb + 0 + 0 ≤ 104 by omega⟩ (As := []) (rest := []) rfl rfl (Nat.le_of_ble_eq_true rfl) hk (fun a5 hk => m_X14_next F.ok a5 h1 _ hk)) ⟨rfl, rfl⟩ fun x4 h3 hk =>
g_castS F dX1_comparisons_33 q2792 ct_J20 hk fun hk =>
g_astore F dX1_comparisons_36 (Nat.le_of_ble_eq_true rfl) rfl <|
g_iinc (v := (l4 + (1:Int32))) F dX1_comparisons_38 (j := 2) rfl (iinc_1 l4) (Nat.le_of_ble_eq_true rfl) rfl <|
g_goto F dX1_comparisons_41 (tgt := 16) rfl <|
G.fewer [2, 0, 3] rfl <| (fun l3 l4 l5 h hk => ih l3 l4 l5 h (cb + 0) (kb + 0) (by omega) (by omega) hk) l3 (l4 + (1:Int32)) l5 h3 hk)
theorem m_X1_comparisons {S : Sx} (hS0 : Sok S) (v0 : Nat) (v1 : Int32) (v2 : Int32) (h : hH) (Q : Int32 → hH → Prop) (X : String → Nat → hH → Prop) (hk : f_X1_comparisons S.E v0 v1 v2 h Q X) : CtX S yX1_comparisons (ws_ yX1_comparisons cX1_comparisons 7 (some .int)) rmX1_comparisons ([aR (some v0), aI v1, aI v2].map vv) h (qI Q) X := by
  refine CtX.of hS0 (by decide +kernel) rfl (Nat.le_of_ble_eq_true rfl) fun x hxS F hnm hno => ?_
  subst hxS
  unfold f_X1_comparisons at hk
  have hM : 0 + 10 ≤ 10 := by omega
  have hS : 0 + 104 ≤ 104 := by omega
  refine G.widen (c' := 0 + 0) (k' := 0 + 0) (Nat.le_refl 0) (Nat.le_refl 0) ?_
  exact g_aload_n F dX1_comparisons_0 rfl 0 rfl <|
g_iload_n F dX1_comparisons_1 rfl 1 rfl <|
g_iload_n F dX1_comparisons_2 rfl 2 rfl <|
x_callr (x_V F dX1_comparisons_3 q2781 mi_X1_descent ct_X1 (rm' := rmX1_descent) ⟨Nat.le_of_ble_eq_true rfl, Nat.le_of_ble_eq_true rfl⟩ ⟨show 0 + 0 + 7 ≤ 10 by omega, show 0 + 0 + 81 ≤ 104 by omega⟩ (As := [aI v1, aI v2]) (rest := []) rfl rfl (Nat.le_of_ble_eq_true rfl) hk (fun a9 hk => m_X1_descent F.ok a9 v1 v2 h _ _ hk)) (fun _ _ _ hx => GT.out F hno.cov (show 0 + 0 + 7 ≤ 10 by omega) (show 0 + 0 + 81 ≤ 104 by omega) hx) fun x8 h7 hk =>
g_astore_n F dX1_comparisons_6 rfl (Nat.le_of_ble_eq_true rfl) rfl <|
g_iconst F dX1_comparisons_7 ic_0 <|
g_istore F dX1_comparisons_8 (Nat.le_of_ble_eq_true rfl) rfl <|
g_aload_n F dX1_comparisons_10 rfl 1 rfl <|
g_callr (g_V F dX1_comparisons_11 q2787 mi_X13_iterator ct_X13 (rm' := rmX13_iterator) ⟨Nat.le_of_ble_eq_true rfl, Nat.le_of_ble_eq_true rfl⟩ ⟨show 0 + 0 + 7 + 3 ≤ 10 by omega, show 0 + 0 + 81 + 23 ≤ 104 by omega⟩ (As := []) (rest := []) rfl rfl (Nat.le_of_ble_eq_true rfl) hk (fun a12 hk => m_X13_iterator F.ok a12 h7 _ hk)) fun x11 h10 hk =>
g_astore F dX1_comparisons_14 (Nat.le_of_ble_eq_true rfl) rfl <|
G.fewer [2, 1, 0] rfl <| G.widen (show 0 + 0 + 7 + 3 ≤ 0 + 10 by omega) (show 0 + 0 + 81 + 23 ≤ 0 + 104 by omega) <| s_X1_comparisons_l16 F hno (ce := 0 + 10) (ke := 0 + 104) (show 0 + 10 ≤ 10 by omega) (show 0 + 104 ≤ 104 by omega) 1000000 x8 (0:Int32) x11 h10 (0 + 10) (0 + 104) (show 0 + 10 + 1000000 * 0 ≤ 0 + 10 by omega) (show 0 + 104 + 1000000 * 0 ≤ 0 + 104 by omega) hk ((fun l3 h hk => g_aload_n F dX1_comparisons_44 rfl 0 rfl <|
g_getI F dX1_comparisons_45 fo_X13_2_LockstepRoom_Descent in_X13 fl_LockstepRoom_250_X13 hk fun x13 hk =>
G.toX <| g_iret F dX1_comparisons_48 (show 0 + 10 ≤ 10 by omega) (show 0 + 104 ≤ 104 by omega) hk))
abbrev rmX1_votes : Room := { frames := 8, cells := 9, slots := 14, locals := 171 }
theorem s_X1_votes_j71 {x : Cx} (F : Fx x cX1_votes "LockstepRoom" 6 (some .int) rmX1_votes) {v0 : Nat} (hno : NoH x) {Q : Int32 → hH → Prop} {X : String → Nat → hH → Prop} {K23 : Int32 → Int32 → Int32 → Int32 → hH → Prop} {cb kb ce ke : Nat} (hM : cb + 1 ≤ ce) (hM2 : ce ≤ 9) (hS : kb + 1 ≤ ke) (hS2 : ke ≤ 14) (s0 : Int32) (s1 : Int32) (l2 : Int32) (l3 : Int32) (l5 : Int32) (h : hH) (hk : f_X1_votes_j71 x.S.E v0 Q X K23 s0 s1 l2 l3 l5 h) (hK23 : ∀ (l2 : Int32) (l3 : Int32) (l4 : Int32) (l5 : Int32) (h : hH), K23 l2 l3 l4 l5 h → G x (xQX x rmX1_votes (qI Q) X) 23 [(0, aR (some v0)), (2, aI l2), (3, aI l3), (4, aI l4), (5, aI l5)] [] h (cb + 1) (kb + 1)) : G x (xQX x rmX1_votes (qI Q) X) 71 [(0, aR (some v0)), (2, aI l2), (3, aI l3), (5, aI l5)] [aI s1, aI s0] h (cb + 1) (kb + 1) := by
  unfold f_X1_votes_j71 at hk
  exact g_iadd F dX1_votes_71 <|
g_istore F dX1_votes_72 (Nat.le_of_ble_eq_true rfl) rfl <|
g_iinc (v := (l5 + (1:Int32))) F dX1_votes_74 (j := 4) rfl (iinc_1 l5) (Nat.le_of_ble_eq_true rfl) rfl <|
g_goto F dX1_votes_77 (tgt := 23) rfl <|
G.fewer [2, 3, 4, 1, 0] rfl <| hK23 l2 l3 (s0 + s1) (l5 + (1:Int32)) h hk
theorem s_X1_votes_j70 {x : Cx} (F : Fx x cX1_votes "LockstepRoom" 6 (some .int) rmX1_votes) {v0 : Nat} (hno : NoH x) {Q : Int32 → hH → Prop} {X : String → Nat → hH → Prop} {K23 : Int32 → Int32 → Int32 → Int32 → hH → Prop} {cb kb ce ke : Nat} (hM : cb + 1 ≤ ce) (hM2 : ce ≤ 9) (hS : kb + 1 ≤ ke) (hS2 : ke ≤ 14) (s0 : Int32) (l2 : Int32) (l3 : Int32) (l5 : Int32) (h : hH) (hk : f_X1_votes_j70 x.S.E v0 Q X K23 s0 l2 l3 l5 h) (hK23 : ∀ (l2 : Int32) (l3 : Int32) (l4 : Int32) (l5 : Int32) (h : hH), K23 l2 l3 l4 l5 h → G x (xQX x rmX1_votes (qI Q) X) 23 [(0, aR (some v0)), (2, aI l2), (3, aI l3), (4, aI l4), (5, aI l5)] [] h (cb + 1) (kb + 1)) : G x (xQX x rmX1_votes (qI Q) X) 70 [(0, aR (some v0)), (2, aI l2), (3, aI l3), (5, aI l5)] [aI s0] h (cb + 1) (kb + 1) := by
  unfold f_X1_votes_j70 at hk
  exact g_iconst F dX1_votes_70 ic_0 <|
s_X1_votes_j71 F hno hM hM2 hS hS2 s0 (0:Int32) l2 l3 l5 h hk hK23
theorem s_X1_votes_l23 {x : Cx} (F : Fx x cX1_votes "LockstepRoom" 6 (some .int) rmX1_votes) {v0 : Nat} (hno : NoH x) {Q : Int32 → hH → Prop} {X : String → Nat → hH → Prop} {K80 : Int32 → hH → Prop} {ce ke : Nat} (hM2 : ce ≤ 9) (hS2 : ke ≤ 14) (n : Nat) (l2 : Int32) (l3 : Int32) (l4 : Int32) (l5 : Int32) (h : hH) (cb kb : Nat) (hM0 : cb + n * 1 ≤ ce) (hS0 : kb + n * 1 ≤ ke) (hk : f_X1_votes_l23 x.S.E v0 Q X K80 n l2 l3 l4 l5 h) (hK80 : ∀ (l4 : Int32) (h : hH), K80 l4 h → G x (xQX x rmX1_votes (qI Q) X) 80 [(4, aI l4)] [] h ce ke) : G x (xQX x rmX1_votes (qI Q) X) 23 [(0, aR (some v0)), (2, aI l2), (3, aI l3), (4, aI l4), (5, aI l5)] [] h cb kb := by
  induction n generalizing l2 l3 l4 l5 h cb kb with
  | zero => exact False.elim hk
  | succ n ih =>
    have hM : cb + 1 ≤ ce := by omega
    have hS : kb + 1 ≤ ke := by omega
    unfold f_X1_votes_l23 at hk
    exact G.widen (c' := cb + 0) (k' := kb + 0) (Nat.le_refl _) (Nat.le_refl _) <| g_iload F dX1_votes_23 4 rfl <|
g_aload_n F dX1_votes_25 rfl 0 rfl <|
g_calli0 (g_V F dX1_votes_26 q1575 mi_X1_members ct_X1 (rm' := rmX1_members) ⟨Nat.le_of_ble_eq_true rfl, Nat.le_of_ble_eq_true rfl⟩ ⟨show cb + 0 + 0 ≤ 9 by omega, show kb + 0 + 0 ≤ 14 by omega⟩ (As := []) (rest := [aI l5]) rfl rfl (Nat.le_of_ble_eq_true rfl) hk (fun a3 hk => m_X1_members F.ok a3 h _ hk)) ⟨rfl, rfl⟩ fun x2 h1 hk =>
g_icmp_ge F dX1_votes_29 (tgt := 80) rfl (fun hc => have hk := hk.1 hc
G.fewer [3] rfl <| G.widen (show cb + 0 ≤ ce by omega) (show kb + 0 ≤ ke by omega) <| hK80 l4 h1 hk) (fun hc => have hk := hk.2 hc
g_iload F dX1_votes_32 3 rfl <|
g_aload_n F dX1_votes_34 rfl 0 rfl <|
g_getR F dX1_votes_35 fo_X1_0_LockstepRoom in_X1 fl_LockstepRoom_10_X1 hk fun x4 hk =>
g_iload F dX1_votes_38 4 rfl <|
g_callr0 (g_V F dX1_votes_40 q1585 mi_X2_member ct_X2 (rm' := rmX2_member) ⟨Nat.le_of_ble_eq_true rfl, Nat.le_of_ble_eq_true rfl⟩ ⟨show cb + 0 + 0 ≤ 9 by omega, show kb + 0 + 0 ≤ 14 by omega⟩ (As := [aI l5]) (rest := [aI l4]) rfl rfl (Nat.le_of_ble_eq_true rfl) hk (fun a7 hk => m_X2_member F.ok a7 l5 h1 _ hk)) ⟨rfl, rfl⟩ fun x6 h5 hk =>
g_getI F dX1_votes_43 fo_X10_5_LockstepRoom_Member in_X10 fl_LockstepRoom_145_X10 hk fun x8 hk =>
g_if_eq F dX1_votes_46 (tgt := 70) rfl (fun hc => have hk := hk.1 hc
G.fewer [0, 1, 2, 4] rfl <| G.widen (show cb + 0 ≤ cb + 1 by omega) (show kb + 0 ≤ kb + 1 by omega) <| s_X1_votes_j70 F hno hM hM2 hS hS2 l4 l2 l3 l5 h5 hk (fun l2 l3 l4 l5 h hk => ih l2 l3 l4 l5 h (cb + 1) (kb + 1) (by omega) (by omega) hk)) (fun hc => have hk := hk.2 hc
g_aload_n F dX1_votes_49 rfl 0 rfl <|
g_getR F dX1_votes_50 fo_X1_0_LockstepRoom in_X1 fl_LockstepRoom_10_X1 hk fun x9 hk =>
g_iload F dX1_votes_53 4 rfl <|
g_callr0 (g_V F dX1_votes_55 q1585 mi_X2_member ct_X2 (rm' := rmX2_member) ⟨Nat.le_of_ble_eq_true rfl, Nat.le_of_ble_eq_true rfl⟩ ⟨show cb + 0 + 0 ≤ 9 by omega, show kb + 0 + 0 ≤ 14 by omega⟩ (As := [aI l5]) (rest := [aI l4]) rfl rfl (Nat.le_of_ble_eq_true rfl) hk (fun a12 hk => m_X2_member F.ok a12 l5 h5 _ hk)) ⟨rfl, rfl⟩ fun x11 h10 hk =>
g_iload_n F dX1_votes_58 rfl 1 rfl <|
g_calli (g_V F dX1_votes_59 q2702 mi_X10_rootAt ct_X10 (rm' := rmX10_rootAt) ⟨Nat.le_of_ble_eq_true rfl, Nat.le_of_ble_eq_true rfl⟩ ⟨show cb + 0 + 1 ≤ 9 by omega, show kb + 0 + 1 ≤ 14 by omega⟩ (As := [aI l2]) (rest := [aI l4]) rfl rfl (Nat.le_of_ble_eq_true rfl) hk (fun a15 hk => m_X10_rootAt F.ok a15 l2 h10 _ hk)) fun x14 h13 hk =>
g_iload_n F dX1_votes_62 rfl 2 rfl <|
g_icmp_ne F dX1_votes_63 (tgt := 70) rfl (fun hc => have hk := hk.2 hc
G.fewer [0, 1, 2, 4] rfl <| G.widen (show cb + 0 + 1 ≤ cb + 1 by omega) (show kb + 0 + 1 ≤ kb + 1 by omega) <| s_X1_votes_j70 F hno hM hM2 hS hS2 l4 l2 l3 l5 h13 hk (fun l2 l3 l4 l5 h hk => ih l2 l3 l4 l5 h (cb + 1) (kb + 1) (by omega) (by omega) hk)) (fun hc => have hk := hk.1 hc
g_iconst F dX1_votes_66 ic_1 <|
g_goto F dX1_votes_67 (tgt := 71) rfl <|
G.fewer [0, 1, 2, 4] rfl <| G.widen (show cb + 0 + 1 ≤ cb + 1 by omega) (show kb + 0 + 1 ≤ kb + 1 by omega) <| s_X1_votes_j71 F hno hM hM2 hS hS2 l4 (1:Int32) l2 l3 l5 h13 hk (fun l2 l3 l4 l5 h hk => ih l2 l3 l4 l5 h (cb + 1) (kb + 1) (by omega) (by omega) hk))))
theorem m_X1_votes {S : Sx} (hS0 : Sok S) (v0 : Nat) (v1 : Int32) (v2 : Int32) (h : hH) (Q : Int32 → hH → Prop) (X : String → Nat → hH → Prop) (hk : f_X1_votes S.E v0 v1 v2 h Q X) : CtX S yX1_votes (ws_ yX1_votes cX1_votes 6 (some .int)) rmX1_votes ([aR (some v0), aI v1, aI v2].map vv) h (qI Q) X := by
  refine CtX.of hS0 (by decide +kernel) rfl (Nat.le_of_ble_eq_true rfl) fun x hxS F hnm hno => ?_
  subst hxS
  unfold f_X1_votes at hk
  have hM : 0 + 9 ≤ 9 := by omega
  have hS : 0 + 14 ≤ 14 := by omega
  refine G.widen (c' := 0 + 0) (k' := 0 + 0) (Nat.le_refl 0) (Nat.le_refl 0) ?_
  exact g_aload_n F dX1_votes_0 rfl 0 rfl <|
g_iload_n F dX1_votes_1 rfl 1 rfl <|
x_callr (x_V F dX1_votes_2 q2630 mi_X1_memberAt ct_X1 (rm' := rmX1_memberAt) ⟨Nat.le_of_ble_eq_true rfl, Nat.le_of_ble_eq_true rfl⟩ ⟨show 0 + 0 + 1 ≤ 9 by omega, show 0 + 0 + 6 ≤ 14 by omega⟩ (As := [aI v1]) (rest := []) rfl rfl (Nat.le_of_ble_eq_true rfl) hk (fun a18 hk => m_X1_memberAt F.ok a18 v1 h _ _ hk)) (fun _ _ _ hx => GT.out F hno.cov (show 0 + 0 + 1 ≤ 9 by omega) (show 0 + 0 + 6 ≤ 14 by omega) hx) fun x17 h16 hk =>
g_iload_n F dX1_votes_5 rfl 2 rfl <|
g_calli (g_V F dX1_votes_6 q2702 mi_X10_rootAt ct_X10 (rm' := rmX10_rootAt) ⟨Nat.le_of_ble_eq_true rfl, Nat.le_of_ble_eq_true rfl⟩ ⟨show 0 + 0 + 1 + 1 ≤ 9 by omega, show 0 + 0 + 6 + 1 ≤ 14 by omega⟩ (As := [aI v2]) (rest := []) rfl rfl (Nat.le_of_ble_eq_true rfl) hk (fun a21 hk => m_X10_rootAt F.ok a21 v2 h16 _ hk)) fun x20 h19 hk =>
g_istore_n F dX1_votes_9 rfl (Nat.le_of_ble_eq_true rfl) rfl <|
g_iload_n F dX1_votes_10 rfl 0 rfl <|
g_iconst F dX1_votes_11 ic_m1 <|
g_icmp_ne F dX1_votes_12 (tgt := 17) rfl (fun hc => have hk := hk.2 hc
g_iconst F dX1_votes_17 ic_0 <|
g_istore F dX1_votes_18 (Nat.le_of_ble_eq_true rfl) rfl <|
g_iconst F dX1_votes_20 ic_0 <|
g_istore F dX1_votes_21 (Nat.le_of_ble_eq_true rfl) rfl <|
G.fewer [3, 5, 2, 1, 0] rfl <| G.widen (show 0 + 0 + 1 + 1 ≤ 0 + 2 by omega) (show 0 + 0 + 6 + 1 ≤ 0 + 7 by omega) <| s_X1_votes_l23 F hno (ce := 0 + 9) (ke := 0 + 14) (show 0 + 9 ≤ 9 by omega) (show 0 + 14 ≤ 14 by omega) 7 v2 x20 (0:Int32) (0:Int32) h19 (0 + 2) (0 + 7) (show 0 + 2 + 7 * 1 ≤ 0 + 9 by omega) (show 0 + 7 + 7 * 1 ≤ 0 + 14 by omega) hk ((fun l4 h hk => g_iload F dX1_votes_80 0 rfl <|
G.toX <| g_iret F dX1_votes_82 (show 0 + 9 ≤ 9 by omega) (show 0 + 14 ≤ 14 by omega) hk))) (fun hc => have hk := hk.1 hc
g_iconst F dX1_votes_15 ic_m1 <|
G.toX <| g_iret F dX1_votes_16 (show 0 + 0 + 1 + 1 ≤ 9 by omega) (show 0 + 0 + 6 + 1 ≤ 14 by omega) hk)
abbrev rmX1_isWrong : Room := { frames := 11, cells := 54, slots := 1419, locals := 244 }
theorem m_X1_isWrong {S : Sx} (hS0 : Sok S) (v0 : Nat) (v1 : Int32) (h : hH) (Q : Int32 → hH → Prop) (X : String → Nat → hH → Prop) (hk : f_X1_isWrong S.E v0 v1 h Q X) : CtX S yX1_isWrong (ws_ yX1_isWrong cX1_isWrong 2 (some .boolean)) rmX1_isWrong ([aR (some v0), aI v1].map vv) h (qI Q) X := by
  refine CtX.of hS0 (by decide +kernel) rfl (Nat.le_of_ble_eq_true rfl) fun x hxS F hnm hno => ?_
  subst hxS
  unfold f_X1_isWrong at hk
  have hM : 0 + 54 ≤ 54 := by omega
  have hS : 0 + 1419 ≤ 1419 := by omega
  refine G.widen (c' := 0 + 0) (k' := 0 + 0) (Nat.le_refl 0) (Nat.le_refl 0) ?_
  exact g_aload_n F dX1_isWrong_0 rfl 0 rfl <|
g_getR F dX1_isWrong_1 fo_X1_0_LockstepRoom in_X1 fl_LockstepRoom_10_X1 hk fun x1 hk =>
g_aload_n F dX1_isWrong_4 rfl 0 rfl <|
g_iload_n F dX1_isWrong_5 rfl 1 rfl <|
x_callr (x_V F dX1_isWrong_6 q2630 mi_X1_memberAt ct_X1 (rm' := rmX1_memberAt) ⟨Nat.le_of_ble_eq_true rfl, Nat.le_of_ble_eq_true rfl⟩ ⟨show 0 + 0 + 1 ≤ 54 by omega, show 0 + 0 + 6 ≤ 1419 by omega⟩ (As := [aI v1]) (rest := [aR x1]) rfl rfl (Nat.le_of_ble_eq_true rfl) hk (fun a4 hk => m_X1_memberAt F.ok a4 v1 h _ _ hk)) (fun _ _ _ hx => GT.out F hno.cov (show 0 + 0 + 1 ≤ 54 by omega) (show 0 + 0 + 6 ≤ 1419 by omega) hx) fun x3 h2 hk =>
g_calli (g_V F dX1_isWrong_9 q1955 mi_X2_isWrong ct_X2 (rm' := rmX2_isWrong) ⟨Nat.le_of_ble_eq_true rfl, Nat.le_of_ble_eq_true rfl⟩ ⟨show 0 + 0 + 1 + 53 ≤ 54 by omega, show 0 + 0 + 6 + 1413 ≤ 1419 by omega⟩ (As := [aR x3]) (rest := []) rfl rfl (Nat.le_of_ble_eq_true rfl) hk (fun a7 hk => m_X2_isWrong F.ok a7 x3 h2 _ hk)) fun x6 h5 hk =>
G.toX <| g_zret F dX1_isWrong_12 (show 0 + 0 + 1 + 53 ≤ 54 by omega) (show 0 + 0 + 6 + 1413 ≤ 1419 by omega) hk.1 hk.2
abbrev rmX1_donorFor : Room := { frames := 11, cells := 69, slots := 1443, locals := 248 }
theorem m_X1_donorFor {S : Sx} (hS0 : Sok S) (v0 : Nat) (v1 : Int32) (h : hH) (Q : Int32 → hH → Prop) (X : String → Nat → hH → Prop) (hk : f_X1_donorFor S.E v0 v1 h Q X) : CtX S yX1_donorFor (ws_ yX1_donorFor cX1_donorFor 2 (some .int)) rmX1_donorFor ([aR (some v0), aI v1].map vv) h (qI Q) X := by
  refine CtX.of hS0 (by decide +kernel) rfl (Nat.le_of_ble_eq_true rfl) fun x hxS F hnm hno => ?_
  subst hxS
  unfold f_X1_donorFor at hk
  have hM : 0 + 69 ≤ 69 := by omega
  have hS : 0 + 1443 ≤ 1443 := by omega
  refine G.widen (c' := 0 + 0) (k' := 0 + 0) (Nat.le_refl 0) (Nat.le_refl 0) ?_
  exact g_aload_n F dX1_donorFor_0 rfl 0 rfl <|
g_getR F dX1_donorFor_1 fo_X1_0_LockstepRoom in_X1 fl_LockstepRoom_10_X1 hk fun x1 hk =>
g_aload_n F dX1_donorFor_4 rfl 0 rfl <|
g_iload_n F dX1_donorFor_5 rfl 1 rfl <|
x_callr (x_V F dX1_donorFor_6 q2630 mi_X1_memberAt ct_X1 (rm' := rmX1_memberAt) ⟨Nat.le_of_ble_eq_true rfl, Nat.le_of_ble_eq_true rfl⟩ ⟨show 0 + 0 + 1 ≤ 69 by omega, show 0 + 0 + 6 ≤ 1443 by omega⟩ (As := [aI v1]) (rest := [aR x1]) rfl rfl (Nat.le_of_ble_eq_true rfl) hk (fun a4 hk => m_X1_memberAt F.ok a4 v1 h _ _ hk)) (fun _ _ _ hx => GT.out F hno.cov (show 0 + 0 + 1 ≤ 69 by omega) (show 0 + 0 + 6 ≤ 1443 by omega) hx) fun x3 h2 hk =>
g_getI F dX1_donorFor_9 fo_X10_4_LockstepRoom_Member in_X10 fl_LockstepRoom_142_X10 hk fun x5 hk =>
g_iload_n F dX1_donorFor_12 rfl 1 rfl <|
g_calli (g_V F dX1_donorFor_13 q2563 mi_X2_donorAt ct_X2 (rm' := rmX2_donorAt) ⟨Nat.le_of_ble_eq_true rfl, Nat.le_of_ble_eq_true rfl⟩ ⟨show 0 + 0 + 1 + 68 ≤ 69 by omega, show 0 + 0 + 6 + 1437 ≤ 1443 by omega⟩ (As := [aI x5, aI v1]) (rest := []) rfl rfl (Nat.le_of_ble_eq_true rfl) hk (fun a8 hk => m_X2_donorAt F.ok a8 x5 v1 h2 _ hk)) fun x7 h6 hk =>
G.toX <| g_iret F dX1_donorFor_16 (show 0 + 0 + 1 + 68 ≤ 69 by omega) (show 0 + 0 + 6 + 1437 ≤ 1443 by omega) hk
abbrev rmX1_whyNot : Room := { frames := 12, cells := 173, slots := 4267, locals := 269 }
theorem m_X1_whyNot {S : Sx} (hS0 : Sok S) (v0 : Nat) (v1 : Int32) (h : hH) (Q : Int32 → hH → Prop) (X : String → Nat → hH → Prop) (hk : f_X1_whyNot S.E v0 v1 h Q X) : CtX S yX1_whyNot (ws_ yX1_whyNot cX1_whyNot 2 (some .int)) rmX1_whyNot ([aR (some v0), aI v1].map vv) h (qI Q) X := by
  refine CtX.of hS0 (by decide +kernel) rfl (Nat.le_of_ble_eq_true rfl) fun x hxS F hnm hno => ?_
  subst hxS
  unfold f_X1_whyNot at hk
  have hM : 0 + 173 ≤ 173 := by omega
  have hS : 0 + 4267 ≤ 4267 := by omega
  refine G.widen (c' := 0 + 0) (k' := 0 + 0) (Nat.le_refl 0) (Nat.le_refl 0) ?_
  exact g_aload_n F dX1_whyNot_0 rfl 0 rfl <|
g_getR F dX1_whyNot_1 fo_X1_0_LockstepRoom in_X1 fl_LockstepRoom_10_X1 hk fun x1 hk =>
g_aload_n F dX1_whyNot_4 rfl 0 rfl <|
g_iload_n F dX1_whyNot_5 rfl 1 rfl <|
x_callr (x_V F dX1_whyNot_6 q2630 mi_X1_memberAt ct_X1 (rm' := rmX1_memberAt) ⟨Nat.le_of_ble_eq_true rfl, Nat.le_of_ble_eq_true rfl⟩ ⟨show 0 + 0 + 1 ≤ 173 by omega, show 0 + 0 + 6 ≤ 4267 by omega⟩ (As := [aI v1]) (rest := [aR x1]) rfl rfl (Nat.le_of_ble_eq_true rfl) hk (fun a4 hk => m_X1_memberAt F.ok a4 v1 h _ _ hk)) (fun _ _ _ hx => GT.out F hno.cov (show 0 + 0 + 1 ≤ 173 by omega) (show 0 + 0 + 6 ≤ 4267 by omega) hx) fun x3 h2 hk =>
g_calli (g_V F dX1_whyNot_9 q2488 mi_X2_whyNot ct_X2 (rm' := rmX2_whyNot) ⟨Nat.le_of_ble_eq_true rfl, Nat.le_of_ble_eq_true rfl⟩ ⟨show 0 + 0 + 1 + 172 ≤ 173 by omega, show 0 + 0 + 6 + 4261 ≤ 4267 by omega⟩ (As := [aR x3]) (rest := []) rfl rfl (Nat.le_of_ble_eq_true rfl) hk (fun a7 hk => m_X2_whyNot F.ok a7 x3 h2 _ hk)) fun x6 h5 hk =>
G.toX <| g_iret F dX1_whyNot_12 (show 0 + 0 + 1 + 172 ≤ 173 by omega) (show 0 + 0 + 6 + 4261 ≤ 4267 by omega) hk
abbrev rmX1_mayRun : Room := { frames := 8, cells := 1, slots := 6, locals := 148 }
theorem m_X1_mayRun {S : Sx} (hS0 : Sok S) (v0 : Nat) (v1 : Int32) (h : hH) (Q : Int32 → hH → Prop) (X : String → Nat → hH → Prop) (hk : f_X1_mayRun S.E v0 v1 h Q X) : CtX S yX1_mayRun (ws_ yX1_mayRun cX1_mayRun 2 (some .int)) rmX1_mayRun ([aR (some v0), aI v1].map vv) h (qI Q) X := by
  refine CtX.of hS0 (by decide +kernel) rfl (Nat.le_of_ble_eq_true rfl) fun x hxS F hnm hno => ?_
  subst hxS
  unfold f_X1_mayRun at hk
  have hM : 0 + 1 ≤ 1 := by omega
  have hS : 0 + 6 ≤ 6 := by omega
  refine G.widen (c' := 0 + 0) (k' := 0 + 0) (Nat.le_refl 0) (Nat.le_refl 0) ?_
  exact g_aload_n F dX1_mayRun_0 rfl 0 rfl <|
g_getR F dX1_mayRun_1 fo_X1_0_LockstepRoom in_X1 fl_LockstepRoom_10_X1 hk fun x1 hk =>
g_aload_n F dX1_mayRun_4 rfl 0 rfl <|
g_iload_n F dX1_mayRun_5 rfl 1 rfl <|
x_callr (x_V F dX1_mayRun_6 q2630 mi_X1_memberAt ct_X1 (rm' := rmX1_memberAt) ⟨Nat.le_of_ble_eq_true rfl, Nat.le_of_ble_eq_true rfl⟩ ⟨show 0 + 0 + 1 ≤ 1 by omega, show 0 + 0 + 6 ≤ 6 by omega⟩ (As := [aI v1]) (rest := [aR x1]) rfl rfl (Nat.le_of_ble_eq_true rfl) hk (fun a4 hk => m_X1_memberAt F.ok a4 v1 h _ _ hk)) (fun _ _ _ hx => GT.out F hno.cov (show 0 + 0 + 1 ≤ 1 by omega) (show 0 + 0 + 6 ≤ 6 by omega) hx) fun x3 h2 hk =>
g_aload_n F dX1_mayRun_9 rfl 0 rfl <|
g_getR F dX1_mayRun_10 fo_X1_0_LockstepRoom in_X1 fl_LockstepRoom_10_X1 hk fun x5 hk =>
g_calli0 (g_V F dX1_mayRun_13 q1969 mi_X2_least ct_X2 (rm' := rmX2_least) ⟨Nat.le_of_ble_eq_true rfl, Nat.le_of_ble_eq_true rfl⟩ ⟨show 0 + 0 + 1 + 0 ≤ 1 by omega, show 0 + 0 + 6 + 0 ≤ 6 by omega⟩ (As := []) (rest := [aR x3, aR x1]) rfl rfl (Nat.le_of_ble_eq_true rfl) hk (fun a8 hk => m_X2_least F.ok a8 h2 _ hk)) ⟨rfl, rfl⟩ fun x7 h6 hk =>
g_calli0 (g_V F dX1_mayRun_16 q2448 mi_X2_mayRun ct_X2 (rm' := rmX2_mayRun) ⟨Nat.le_of_ble_eq_true rfl, Nat.le_of_ble_eq_true rfl⟩ ⟨show 0 + 0 + 1 + 0 ≤ 1 by omega, show 0 + 0 + 6 + 0 ≤ 6 by omega⟩ (As := [aR x3, aI x7]) (rest := []) rfl rfl (Nat.le_of_ble_eq_true rfl) hk (fun a11 hk => m_X2_mayRun F.ok a11 x3 x7 h6 _ hk)) ⟨rfl, rfl⟩ fun x10 h9 hk =>
G.toX <| g_iret F dX1_mayRun_19 (show 0 + 0 + 1 ≤ 1 by omega) (show 0 + 0 + 6 ≤ 6 by omega) hk
abbrev rmX1_truth : Room := { frames := 7, cells := 2, slots := 22, locals := 136 }
theorem m_X1_truth {S : Sx} (hS0 : Sok S) (v0 : Nat) (v1 : Int32) (v2 : Int32) (h : hH) (Q : Int32 → hH → Prop) (X : String → Nat → hH → Prop) (hk : f_X1_truth S.E v0 v1 v2 h Q X) : CtX S yX1_truth (ws_ yX1_truth cX1_truth 3 (some .int)) rmX1_truth ([aR (some v0), aI v1, aI v2].map vv) h (qI Q) X := by
  refine CtX.of hS0 (by decide +kernel) rfl (Nat.le_of_ble_eq_true rfl) fun x hxS F hnm hno => ?_
  subst hxS
  unfold f_X1_truth at hk
  have hM : 0 + 2 ≤ 2 := by omega
  have hS : 0 + 22 ≤ 22 := by omega
  refine G.widen (c' := 0 + 0) (k' := 0 + 0) (Nat.le_refl 0) (Nat.le_refl 0) ?_
  exact g_iload_n F dX1_truth_0 rfl 2 rfl <|
g_bipush F dX1_truth_1 bp_16 <|
x_callv (x_S F dX1_truth_3 q2634 ms_X1_requireIndex (rm' := rmX1_requireIndex) ⟨Nat.le_of_ble_eq_true rfl, Nat.le_of_ble_eq_true rfl⟩ ⟨show 0 + 0 + 1 ≤ 2 by omega, show 0 + 0 + 6 ≤ 22 by omega⟩ (As := [aI v2, aI (16:Int32)]) (rest := []) rfl rfl (Nat.le_of_ble_eq_true rfl) (m_X1_requireIndex F.ok v2 (16:Int32) h _ _ hk)) (fun _ _ _ hx => GT.out F hno.cov (show 0 + 0 + 1 ≤ 2 by omega) (show 0 + 0 + 6 ≤ 22 by omega) hx) fun h1 hk =>
g_iload_n F dX1_truth_6 rfl 1 rfl <|
g_i2l F dX1_truth_7 <|
g_lconst F dX1_truth_8 rfl <|
g_aload_n F dX1_truth_9 rfl 0 rfl <|
g_getR F dX1_truth_10 fo_X1_0_LockstepRoom in_X1 fl_LockstepRoom_10_X1 hk fun x2 hk =>
g_getR F dX1_truth_13 fo_X2_4_LockstepRoom_Room in_X2 fl_LockstepRoom_112_X2 hk fun x3 hk =>
g_calli0 (g_V F dX1_truth_16 q1579 mi_J2_size ct_J2 (rm' := rmJ2_size) ⟨Nat.le_of_ble_eq_true rfl, Nat.le_of_ble_eq_true rfl⟩ ⟨show 0 + 0 + 1 + 0 ≤ 2 by omega, show 0 + 0 + 6 + 0 ≤ 22 by omega⟩ (As := []) (rest := [aL (0:Int64), aL v1.toInt64]) rfl rfl (Nat.le_of_ble_eq_true rfl) hk (fun a6 hk => m_J2_size F.ok a6 h1 _ hk)) ⟨rfl, rfl⟩ fun x5 h4 hk =>
g_i2l F dX1_truth_19 <|
g_calli0 (g_S F dX1_truth_20 q442 ms_X1_inRange (rm' := rmX1_inRange) ⟨Nat.le_of_ble_eq_true rfl, Nat.le_of_ble_eq_true rfl⟩ ⟨show 0 + 0 + 1 + 0 ≤ 2 by omega, show 0 + 0 + 6 + 0 ≤ 22 by omega⟩ (As := [aL v1.toInt64, aL (0:Int64), aL x5.toInt64]) (rest := []) rfl rfl (Nat.le_of_ble_eq_true rfl) (m_X1_inRange F.ok v1.toInt64 (0:Int64) x5.toInt64 h4 _ hk)) ⟨rfl, rfl⟩ fun x8 h7 hk =>
g_if_eq F dX1_truth_23 (tgt := 39) rfl (fun hc => have hk := hk.1 hc
g_iconst F dX1_truth_39 ic_m1 <|
G.toX <| g_iret F dX1_truth_40 (show 0 + 0 + 1 ≤ 2 by omega) (show 0 + 0 + 6 ≤ 22 by omega) hk) (fun hc => have hk := hk.2 hc
g_aload_n F dX1_truth_26 rfl 0 rfl <|
g_getR F dX1_truth_27 fo_X1_0_LockstepRoom in_X1 fl_LockstepRoom_10_X1 hk fun x9 hk =>
g_iload_n F dX1_truth_30 rfl 1 rfl <|
g_callr (g_V F dX1_truth_31 q1985 mi_X2_truth ct_X2 (rm' := rmX2_truth) ⟨Nat.le_of_ble_eq_true rfl, Nat.le_of_ble_eq_true rfl⟩ ⟨show 0 + 0 + 1 + 1 ≤ 2 by omega, show 0 + 0 + 6 + 16 ≤ 22 by omega⟩ (As := [aI v1]) (rest := []) rfl rfl (Nat.le_of_ble_eq_true rfl) hk (fun a12 hk => m_X2_truth F.ok a12 v1 h7 _ hk)) fun x11 h10 hk =>
g_iload_n F dX1_truth_34 rfl 2 rfl <|
g_iald F dX1_truth_35 hk fun x13 hk =>
g_goto F dX1_truth_36 (tgt := 40) rfl <|
G.toX <| g_iret F dX1_truth_40 (show 0 + 0 + 1 + 1 ≤ 2 by omega) (show 0 + 0 + 6 + 16 ≤ 22 by omega) hk)
abbrev rmX1_foreseen : Room := { frames := 8, cells := 3, slots := 28, locals := 146 }
theorem m_X1_foreseen {S : Sx} (hS0 : Sok S) (v0 : Nat) (v1 : Int32) (v2 : Int32) (h : hH) (Q : Int32 → hH → Prop) (X : String → Nat → hH → Prop) (hk : f_X1_foreseen S.E v0 v1 v2 h Q X) : CtX S yX1_foreseen (ws_ yX1_foreseen cX1_foreseen 4 (some .int)) rmX1_foreseen ([aR (some v0), aI v1, aI v2].map vv) h (qI Q) X := by
  refine CtX.of hS0 (by decide +kernel) rfl (Nat.le_of_ble_eq_true rfl) fun x hxS F hnm hno => ?_
  subst hxS
  unfold f_X1_foreseen at hk
  have hM : 0 + 3 ≤ 3 := by omega
  have hS : 0 + 28 ≤ 28 := by omega
  refine G.widen (c' := 0 + 0) (k' := 0 + 0) (Nat.le_refl 0) (Nat.le_refl 0) ?_
  exact g_aload_n F dX1_foreseen_0 rfl 0 rfl <|
g_iload_n F dX1_foreseen_1 rfl 1 rfl <|
x_callr (x_V F dX1_foreseen_2 q2630 mi_X1_memberAt ct_X1 (rm' := rmX1_memberAt) ⟨Nat.le_of_ble_eq_true rfl, Nat.le_of_ble_eq_true rfl⟩ ⟨show 0 + 0 + 1 ≤ 3 by omega, show 0 + 0 + 6 ≤ 28 by omega⟩ (As := [aI v1]) (rest := []) rfl rfl (Nat.le_of_ble_eq_true rfl) hk (fun a3 hk => m_X1_memberAt F.ok a3 v1 h _ _ hk)) (fun _ _ _ hx => GT.out F hno.cov (show 0 + 0 + 1 ≤ 3 by omega) (show 0 + 0 + 6 ≤ 28 by omega) hx) fun x2 h1 hk =>
g_getI F dX1_foreseen_5 fo_X10_4_LockstepRoom_Member in_X10 fl_LockstepRoom_142_X10 hk fun x4 hk =>
g_istore_n F dX1_foreseen_8 rfl (Nat.le_of_ble_eq_true rfl) rfl <|
g_iload_n F dX1_foreseen_9 rfl 3 rfl <|
g_bipush F dX1_foreseen_10 bp_16 <|
x_callv (x_S F dX1_foreseen_12 q2634 ms_X1_requireIndex (rm' := rmX1_requireIndex) ⟨Nat.le_of_ble_eq_true rfl, Nat.le_of_ble_eq_true rfl⟩ ⟨show 0 + 0 + 1 + 1 ≤ 3 by omega, show 0 + 0 + 6 + 6 ≤ 28 by omega⟩ (As := [aI v2, aI (16:Int32)]) (rest := []) rfl rfl (Nat.le_of_ble_eq_true rfl) (m_X1_requireIndex F.ok v2 (16:Int32) h1 _ _ hk)) (fun _ _ _ hx => GT.out F hno.cov (show 0 + 0 + 1 + 1 ≤ 3 by omega) (show 0 + 0 + 6 + 6 ≤ 28 by omega) hx) fun h5 hk =>
g_aload_n F dX1_foreseen_15 rfl 1 rfl <|
g_getR F dX1_foreseen_16 fo_X1_0_LockstepRoom in_X1 fl_LockstepRoom_10_X1 hk fun x6 hk =>
g_aload_n F dX1_foreseen_19 rfl 1 rfl <|
g_getR F dX1_foreseen_20 fo_X1_0_LockstepRoom in_X1 fl_LockstepRoom_10_X1 hk fun x7 hk =>
g_iload_n F dX1_foreseen_23 rfl 2 rfl <|
g_callr0 (g_V F dX1_foreseen_24 q1585 mi_X2_member ct_X2 (rm' := rmX2_member) ⟨Nat.le_of_ble_eq_true rfl, Nat.le_of_ble_eq_true rfl⟩ ⟨show 0 + 0 + 1 + 1 + 0 ≤ 3 by omega, show 0 + 0 + 6 + 6 + 0 ≤ 28 by omega⟩ (As := [aI v1]) (rest := [aR x6]) rfl rfl (Nat.le_of_ble_eq_true rfl) hk (fun a10 hk => m_X2_member F.ok a10 v1 h5 _ hk)) ⟨rfl, rfl⟩ fun x9 h8 hk =>
g_iload_n F dX1_foreseen_27 rfl 0 rfl <|
g_callr (g_V F dX1_foreseen_28 q2857 mi_X2_foresee ct_X2 (rm' := rmX2_foresee) ⟨Nat.le_of_ble_eq_true rfl, Nat.le_of_ble_eq_true rfl⟩ ⟨show 0 + 0 + 1 + 1 + 1 ≤ 3 by omega, show 0 + 0 + 6 + 6 + 16 ≤ 28 by omega⟩ (As := [aR x9, aI x4]) (rest := []) rfl rfl (Nat.le_of_ble_eq_true rfl) hk (fun a13 hk => m_X2_foresee F.ok a13 x9 x4 h8 _ hk)) fun x12 h11 hk =>
g_iload_n F dX1_foreseen_31 rfl 3 rfl <|
g_iald F dX1_foreseen_32 hk fun x14 hk =>
G.toX <| g_iret F dX1_foreseen_33 (show 0 + 0 + 1 + 1 + 1 ≤ 3 by omega) (show 0 + 0 + 6 + 6 + 16 ≤ 28 by omega) hk
abbrev rmX1_lastWrite : Room := { frames := 8, cells := 2, slots := 12, locals := 146 }
theorem s_X1_lastWrite_l50 {x : Cx} (F : Fx x cX1_lastWrite "LockstepRoom" 9 (some .int) rmX1_lastWrite) {v0 : Nat} (hno : NoH x) {Q : Int32 → hH → Prop} {X : String → Nat → hH → Prop} {K73 : Int32 → hH → Prop} {K82 : Int32 → Int32 → hH → Prop} {ce ke : Nat} (hM2 : ce ≤ 2) (hS2 : ke ≤ 12) (n : Nat) (l2 : Int32) (l4 : Int32) (l5 : Option Nat) (l6 : Int32) (l7 : Int32) (h : hH) (cb kb : Nat) (hM0 : cb + n * 0 ≤ ce) (hS0 : kb + n * 0 ≤ ke) (hk : f_X1_lastWrite_l50 x.S.E v0 Q X K73 K82 n l2 l4 l5 l6 l7 h) (hK73 : ∀ (l4 : Int32) (h : hH), K73 l4 h → G x (xQX x rmX1_lastWrite (qI Q) X) 73 [(4, aI l4)] [] h ce ke) (hK82 : ∀ (l2 : Int32) (l4 : Int32) (h : hH), K82 l2 l4 h → G x (xQX x rmX1_lastWrite (qI Q) X) 82 [(0, aR (some v0)), (2, aI l2), (4, aI l4)] [] h ce ke) : G x (xQX x rmX1_lastWrite (qI Q) X) 50 [(0, aR (some v0)), (2, aI l2), (4, aI l4), (5, aR l5), (6, aI l6), (7, aI l7)] [] h cb kb := by
  induction n generalizing l2 l4 l5 l6 l7 h cb kb with
  | zero => exact False.elim hk
  | succ n ih =>
    have hM : cb + 0 ≤ ce := by omega
    have hS : kb + 0 ≤ ke := by omega
    unfold f_X1_lastWrite_l50 at hk
    exact G.widen (c' := cb + 0) (k' := kb + 0) (Nat.le_refl _) (Nat.le_refl _) <| g_iload F dX1_lastWrite_50 5 rfl <|
g_iload F dX1_lastWrite_52 4 rfl <|
g_icmp_ge F dX1_lastWrite_54 (tgt := 82) rfl (fun hc => have hk := hk.1 hc
G.fewer [0, 1, 2] rfl <| G.widen (show cb + 0 ≤ ce by omega) (show kb + 0 ≤ ke by omega) <| hK82 l2 l4 h hk) (fun hc => have hk := hk.2 hc
g_aload F dX1_lastWrite_57 3 rfl <|
g_iload F dX1_lastWrite_59 5 rfl <|
g_aald (t := 5) F dX1_lastWrite_61 rfl rfl hk fun x1 hk =>
g_astore F dX1_lastWrite_62 (Nat.le_of_ble_eq_true rfl) rfl <|
g_aload F dX1_lastWrite_64 0 rfl <|
g_iload_n F dX1_lastWrite_66 rfl 2 rfl <|
g_calli0 (g_V F dX1_lastWrite_67 q2868 mi_X8_writes ct_X8 (rm' := rmX8_writes) ⟨Nat.le_of_ble_eq_true rfl, Nat.le_of_ble_eq_true rfl⟩ ⟨show cb + 0 + 0 ≤ 2 by omega, show kb + 0 + 0 ≤ 12 by omega⟩ (As := [aI l2]) (rest := []) rfl rfl (Nat.le_of_ble_eq_true rfl) hk (fun a4 hk => m_X8_writes F.ok a4 l2 h _ hk)) ⟨rfl, rfl⟩ fun x3 h2 hk =>
g_if_eq F dX1_lastWrite_70 (tgt := 76) rfl (fun hc => have hk := hk.1 hc
g_iinc (v := (l7 + (1:Int32))) F dX1_lastWrite_76 (j := 6) rfl (iinc_1 l7) (Nat.le_of_ble_eq_true rfl) rfl <|
g_goto F dX1_lastWrite_79 (tgt := 50) rfl <|
G.fewer [2, 3, 4, 5, 6, 0] rfl <| (fun l2 l4 l5 l6 l7 h hk => ih l2 l4 l5 l6 l7 h (cb + 0) (kb + 0) (by omega) (by omega) hk) l2 l4 l5 l6 (l7 + (1:Int32)) h2 hk) (fun hc => have hk := hk.2 hc
G.fewer [3] rfl <| G.widen (show cb + 0 ≤ ce by omega) (show kb + 0 ≤ ke by omega) <| hK73 l4 h2 hk))
theorem s_X1_lastWrite_l20 {x : Cx} (F : Fx x cX1_lastWrite "LockstepRoom" 9 (some .int) rmX1_lastWrite) {v0 : Nat} (hno : NoH x) {Q : Int32 → hH → Prop} {X : String → Nat → hH → Prop} {K73 : Int32 → hH → Prop} {K88 : hH → Prop} {ce ke : Nat} (hM2 : ce ≤ 2) (hS2 : ke ≤ 12) (n : Nat) (l2 : Int32) (l4 : Int32) (h : hH) (cb kb : Nat) (hM0 : cb + n * 0 ≤ ce) (hS0 : kb + n * 0 ≤ ke) (hk : f_X1_lastWrite_l20 x.S.E v0 Q X K73 K88 n l2 l4 h) (hK73 : ∀ (l4 : Int32) (h : hH), K73 l4 h → G x (xQX x rmX1_lastWrite (qI Q) X) 73 [(4, aI l4)] [] h ce ke) (hK88 : ∀ (h : hH), K88 h → G x (xQX x rmX1_lastWrite (qI Q) X) 88 [] [] h ce ke) : G x (xQX x rmX1_lastWrite (qI Q) X) 20 [(0, aR (some v0)), (2, aI l2), (4, aI l4)] [] h cb kb := by
  induction n generalizing l2 l4 h cb kb with
  | zero => exact False.elim hk
  | succ n ih =>
    have hM : cb + 0 ≤ ce := by omega
    have hS : kb + 0 ≤ ke := by omega
    unfold f_X1_lastWrite_l20 at hk
    exact G.widen (c' := cb + 0) (k' := kb + 0) (Nat.le_refl _) (Nat.le_refl _) <| g_iload F dX1_lastWrite_20 2 rfl <|
g_if_lt F dX1_lastWrite_22 (tgt := 88) rfl (fun hc => have hk := hk.1 hc
G.fewer [] rfl <| G.widen (show cb + 0 ≤ ce by omega) (show kb + 0 ≤ ke by omega) <| hK88 h hk) (fun hc => have hk := hk.2 hc
g_aload_n F dX1_lastWrite_25 rfl 0 rfl <|
g_getR F dX1_lastWrite_26 fo_X1_0_LockstepRoom in_X1 fl_LockstepRoom_10_X1 hk fun x5 hk =>
g_getR F dX1_lastWrite_29 fo_X2_4_LockstepRoom_Room in_X2 fl_LockstepRoom_112_X2 hk fun x6 hk =>
g_iload F dX1_lastWrite_32 2 rfl <|
g_callr0 (g_V F dX1_lastWrite_34 q2670 mi_J2_get ct_J2 (rm' := rmJ2_get) ⟨Nat.le_of_ble_eq_true rfl, Nat.le_of_ble_eq_true rfl⟩ ⟨show cb + 0 + 0 ≤ 2 by omega, show kb + 0 + 0 ≤ 12 by omega⟩ (As := [aI l4]) (rest := []) rfl rfl (Nat.le_of_ble_eq_true rfl) hk (fun a9 hk => m_J2_get F.ok a9 l4 h _ hk)) ⟨rfl, rfl⟩ fun x8 h7 hk =>
g_castA (t := 5) F dX1_lastWrite_37 q2671 F.arr5 hk fun hk =>
g_astore F dX1_lastWrite_40 (Nat.le_of_ble_eq_true rfl) rfl <|
g_aload F dX1_lastWrite_42 0 rfl <|
g_alen (t := 5) F dX1_lastWrite_44 rfl hk fun x10 hk =>
g_istore F dX1_lastWrite_45 (Nat.le_of_ble_eq_true rfl) rfl <|
g_iconst F dX1_lastWrite_47 ic_0 <|
g_istore F dX1_lastWrite_48 (Nat.le_of_ble_eq_true rfl) rfl <|
G.fewer [3, 4, 5, 2, 1, 0] rfl <| s_X1_lastWrite_l50 F hno (ce := cb + 0) (ke := kb + 0) (show cb + 0 ≤ 2 by omega) (show kb + 0 ≤ 12 by omega) 1000000 l2 l4 x8 x10 (0:Int32) h7 (cb + 0) (kb + 0) (show cb + 0 + 1000000 * 0 ≤ cb + 0 by omega) (show kb + 0 + 1000000 * 0 ≤ kb + 0 by omega) hk ((fun l4 h hk => G.widen (show cb + 0 ≤ ce by omega) (show kb + 0 ≤ ke by omega) <| hK73 l4 h hk)) ((fun l2 l4 h hk => g_iinc (v := (l4 + (-1:Int32))) F dX1_lastWrite_82 (j := 2) rfl (iinc_m1 l4) (Nat.le_of_ble_eq_true rfl) rfl <|
g_goto F dX1_lastWrite_85 (tgt := 20) rfl <|
G.fewer [1, 2, 0] rfl <| (fun l2 l4 h hk => ih l2 l4 h (cb + 0) (kb + 0) (by omega) (by omega) hk) l2 (l4 + (-1:Int32)) h hk)))
theorem m_X1_lastWrite {S : Sx} (hS0 : Sok S) (v0 : Nat) (v1 : Int32) (v2 : Int32) (h : hH) (Q : Int32 → hH → Prop) (X : String → Nat → hH → Prop) (hk : f_X1_lastWrite S.E v0 v1 v2 h Q X) : CtX S yX1_lastWrite (ws_ yX1_lastWrite cX1_lastWrite 9 (some .int)) rmX1_lastWrite ([aR (some v0), aI v1, aI v2].map vv) h (qI Q) X := by
  refine CtX.of hS0 (by decide +kernel) rfl (Nat.le_of_ble_eq_true rfl) fun x hxS F hnm hno => ?_
  subst hxS
  unfold f_X1_lastWrite at hk
  have hM : 0 + 2 ≤ 2 := by omega
  have hS : 0 + 12 ≤ 12 := by omega
  refine G.widen (c' := 0 + 0) (k' := 0 + 0) (Nat.le_refl 0) (Nat.le_refl 0) ?_
  exact g_aload_n F dX1_lastWrite_0 rfl 0 rfl <|
g_iload_n F dX1_lastWrite_1 rfl 1 rfl <|
x_callr (x_V F dX1_lastWrite_2 q2630 mi_X1_memberAt ct_X1 (rm' := rmX1_memberAt) ⟨Nat.le_of_ble_eq_true rfl, Nat.le_of_ble_eq_true rfl⟩ ⟨show 0 + 0 + 1 ≤ 2 by omega, show 0 + 0 + 6 ≤ 12 by omega⟩ (As := [aI v1]) (rest := []) rfl rfl (Nat.le_of_ble_eq_true rfl) hk (fun a13 hk => m_X1_memberAt F.ok a13 v1 h _ _ hk)) (fun _ _ _ hx => GT.out F hno.cov (show 0 + 0 + 1 ≤ 2 by omega) (show 0 + 0 + 6 ≤ 12 by omega) hx) fun x12 h11 hk =>
g_getI F dX1_lastWrite_5 fo_X10_4_LockstepRoom_Member in_X10 fl_LockstepRoom_142_X10 hk fun x14 hk =>
g_istore_n F dX1_lastWrite_8 rfl (Nat.le_of_ble_eq_true rfl) rfl <|
g_iload_n F dX1_lastWrite_9 rfl 3 rfl <|
g_bipush F dX1_lastWrite_10 bp_16 <|
x_callv (x_S F dX1_lastWrite_12 q2634 ms_X1_requireIndex (rm' := rmX1_requireIndex) ⟨Nat.le_of_ble_eq_true rfl, Nat.le_of_ble_eq_true rfl⟩ ⟨show 0 + 0 + 1 + 1 ≤ 2 by omega, show 0 + 0 + 6 + 6 ≤ 12 by omega⟩ (As := [aI v2, aI (16:Int32)]) (rest := []) rfl rfl (Nat.le_of_ble_eq_true rfl) (m_X1_requireIndex F.ok v2 (16:Int32) h11 _ _ hk)) (fun _ _ _ hx => GT.out F hno.cov (show 0 + 0 + 1 + 1 ≤ 2 by omega) (show 0 + 0 + 6 + 6 ≤ 12 by omega) hx) fun h15 hk =>
g_iload_n F dX1_lastWrite_15 rfl 0 rfl <|
g_iconst F dX1_lastWrite_16 ic_1 <|
g_isub F dX1_lastWrite_17 <|
g_istore F dX1_lastWrite_18 (Nat.le_of_ble_eq_true rfl) rfl <|
G.fewer [2, 4, 0] rfl <| G.widen (show 0 + 0 + 1 + 1 ≤ 0 + 2 by omega) (show 0 + 0 + 6 + 6 ≤ 0 + 12 by omega) <| s_X1_lastWrite_l20 F hno (ce := 0 + 2) (ke := 0 + 12) (show 0 + 2 ≤ 2 by omega) (show 0 + 12 ≤ 12 by omega) 1000000 v2 (x14 - (1:Int32)) h15 (0 + 2) (0 + 12) (show 0 + 2 + 1000000 * 0 ≤ 0 + 2 by omega) (show 0 + 12 + 1000000 * 0 ≤ 0 + 12 by omega) hk ((fun l4 h hk => g_iload F dX1_lastWrite_73 0 rfl <|
G.toX <| g_iret F dX1_lastWrite_75 (show 0 + 2 ≤ 2 by omega) (show 0 + 12 ≤ 12 by omega) hk)) ((fun h hk => g_iconst F dX1_lastWrite_88 ic_m1 <|
G.toX <| g_iret F dX1_lastWrite_89 (show 0 + 2 ≤ 2 by omega) (show 0 + 12 ≤ 12 by omega) hk))
