set_option maxRecDepth 100000
set_option maxHeartbeats 10000000
theorem ct_X6 : CL[4]? = some (RX6, TX6, 13) := rfl
theorem ck_X6 : ClsOk RX6 TX6 13 tyX6 := ⟨in_X6, tyX6_ok, nmX6⟩
theorem fo_X6_12_LockstepRoom_Parser : FieldOk "LockstepRoom$Parser" 4 12 RX6 TX6 13 := ⟨ct_X6, Nat.le_of_ble_eq_true rfl, Or.inl rfl⟩
theorem fl_LockstepRoom_Parser_3_X6 : Cond.fieldLink "LockstepRoom$Parser" 3 "LockstepRoom$Parser" (TX6 12).2.1 (TX6 12).2.2.1 ∈ lw_all ∨ ∃ host, Cond.fieldLinkNest "LockstepRoom$Parser" 3 "LockstepRoom$Parser" (TX6 12).2.1 (TX6 12).2.2.1 host ∈ lw_tbl := Or.inl q473
theorem fo_X6_1_LockstepRoom_Parser : FieldOk "LockstepRoom$Parser" 4 1 RX6 TX6 13 := ⟨ct_X6, Nat.le_of_ble_eq_true rfl, Or.inl rfl⟩
theorem fl_LockstepRoom_Parser_18_X6 : Cond.fieldLink "LockstepRoom$Parser" 18 "LockstepRoom$Parser" (TX6 1).2.1 (TX6 1).2.2.1 ∈ lw_all ∨ ∃ host, Cond.fieldLinkNest "LockstepRoom$Parser" 18 "LockstepRoom$Parser" (TX6 1).2.1 (TX6 1).2.2.1 host ∈ lw_tbl := Or.inl q460
theorem fo_X6_2_LockstepRoom_Parser : FieldOk "LockstepRoom$Parser" 4 2 RX6 TX6 13 := ⟨ct_X6, Nat.le_of_ble_eq_true rfl, Or.inl rfl⟩
theorem fl_LockstepRoom_Parser_25_X6 : Cond.fieldLink "LockstepRoom$Parser" 25 "LockstepRoom$Parser" (TX6 2).2.1 (TX6 2).2.2.1 ∈ lw_all ∨ ∃ host, Cond.fieldLinkNest "LockstepRoom$Parser" 25 "LockstepRoom$Parser" (TX6 2).2.1 (TX6 2).2.2.1 host ∈ lw_tbl := Or.inl q461
theorem fo_X6_3_LockstepRoom_Parser : FieldOk "LockstepRoom$Parser" 4 3 RX6 TX6 13 := ⟨ct_X6, Nat.le_of_ble_eq_true rfl, Or.inl rfl⟩
theorem fl_LockstepRoom_Parser_29_X6 : Cond.fieldLink "LockstepRoom$Parser" 29 "LockstepRoom$Parser" (TX6 3).2.1 (TX6 3).2.2.1 ∈ lw_all ∨ ∃ host, Cond.fieldLinkNest "LockstepRoom$Parser" 29 "LockstepRoom$Parser" (TX6 3).2.1 (TX6 3).2.2.1 host ∈ lw_tbl := Or.inl q462
theorem zl_LockstepRoom_Parser_32 : Cond.fieldLink "LockstepRoom$Parser" 32 "LockstepRoom" "SETTING_FIRST" "[I" ∈ lw_all ∨ ∃ host, Cond.fieldLinkNest "LockstepRoom$Parser" 32 "LockstepRoom" "SETTING_FIRST" "[I" host ∈ lw_tbl := Or.inr ⟨_, q455⟩
theorem fo_X6_4_LockstepRoom_Parser : FieldOk "LockstepRoom$Parser" 4 4 RX6 TX6 13 := ⟨ct_X6, Nat.le_of_ble_eq_true rfl, Or.inl rfl⟩
theorem fl_LockstepRoom_Parser_36_X6 : Cond.fieldLink "LockstepRoom$Parser" 36 "LockstepRoom$Parser" (TX6 4).2.1 (TX6 4).2.2.1 ∈ lw_all ∨ ∃ host, Cond.fieldLinkNest "LockstepRoom$Parser" 36 "LockstepRoom$Parser" (TX6 4).2.1 (TX6 4).2.2.1 host ∈ lw_tbl := Or.inl q463
theorem zl_LockstepRoom_Parser_40 : Cond.fieldLink "LockstepRoom$Parser" 40 "LockstepRoom$Token" "END" "LLockstepRoom$Token;" ∈ lw_all ∨ ∃ host, Cond.fieldLinkNest "LockstepRoom$Parser" 40 "LockstepRoom$Token" "END" "LLockstepRoom$Token;" host ∈ lw_tbl := Or.inl q456
theorem sz_2 (E : Nat → Nat) : ("LockstepRoom$Token", "END", "LLockstepRoom$Token;", vv (aR (some (E 2)))) ∈ SZ E := List.mem_of_getElem? (i := 2) rfl
theorem fo_X6_8_LockstepRoom_Parser : FieldOk "LockstepRoom$Parser" 4 8 RX6 TX6 13 := ⟨ct_X6, Nat.le_of_ble_eq_true rfl, Or.inl rfl⟩
theorem fl_LockstepRoom_Parser_46_X6 : Cond.fieldLink "LockstepRoom$Parser" 46 "LockstepRoom$Parser" (TX6 8).2.1 (TX6 8).2.2.1 ∈ lw_all ∨ ∃ host, Cond.fieldLinkNest "LockstepRoom$Parser" 46 "LockstepRoom$Parser" (TX6 8).2.1 (TX6 8).2.2.1 host ∈ lw_tbl := Or.inl q468
theorem sk_20 (E : Nat → Nat) : ("LockstepRoom$Parser", 49, "", E 20) ∈ SK E := List.mem_of_getElem? (i := 0) rfl
theorem fo_X6_9_LockstepRoom_Parser : FieldOk "LockstepRoom$Parser" 4 9 RX6 TX6 13 := ⟨ct_X6, Nat.le_of_ble_eq_true rfl, Or.inl rfl⟩
theorem fl_LockstepRoom_Parser_51_X6 : Cond.fieldLink "LockstepRoom$Parser" 51 "LockstepRoom$Parser" (TX6 9).2.1 (TX6 9).2.2.1 ∈ lw_all ∨ ∃ host, Cond.fieldLinkNest "LockstepRoom$Parser" 51 "LockstepRoom$Parser" (TX6 9).2.1 (TX6 9).2.2.1 host ∈ lw_tbl := Or.inl q469
theorem fo_X6_0_LockstepRoom_Parser : FieldOk "LockstepRoom$Parser" 4 0 RX6 TX6 13 := ⟨ct_X6, Nat.le_of_ble_eq_true rfl, Or.inl rfl⟩
theorem fl_LockstepRoom_Parser_55_X6 : Cond.fieldLink "LockstepRoom$Parser" 55 "LockstepRoom$Parser" (TX6 0).2.1 (TX6 0).2.2.1 ∈ lw_all ∨ ∃ host, Cond.fieldLinkNest "LockstepRoom$Parser" 55 "LockstepRoom$Parser" (TX6 0).2.1 (TX6 0).2.2.1 host ∈ lw_tbl := Or.inl q459
abbrev rmX6_init : Room := { frames := 6, cells := 18, slots := 67, locals := 3140 }
theorem m_X6_init {S : Sx} (hS0 : Sok S) (v0 : Nat) (v1 : Option Nat) (v2 : Int32) (h : hH) (Q : hH → Prop) (hk : f_X6_init S.E v0 v1 v2 h Q) : Ct S yX6_init (ws_ yX6_init cX6_init 3 none) rmX6_init ([aR (some v0), aR v1, aI v2].map vv) h (qV Q) := by
  refine Ct.of hS0 (by decide +kernel) rfl (Nat.le_of_ble_eq_true rfl) fun x hxS F hnm => ?_
  subst hxS
  unfold f_X6_init at hk
  have hM : 0 + 18 ≤ 18 := by omega
  have hS : 0 + 67 ≤ 67 := by omega
  refine G.widen (c' := 0 + 0) (k' := 0 + 0) (Nat.le_refl 0) (Nat.le_refl 0) ?_
  exact g_aload_n F dX6_init_0 rfl 0 rfl <|
g_aload_n F dX6_init_1 rfl 1 rfl <|
g_putF F dX6_init_2 fo_X6_12_LockstepRoom_Parser ck_X6 q473 rfl hnm rfl (v := aR v1) (fit_rf "LockstepRoom" v1) hk fun h1 hk =>
g_aload_n F dX6_init_5 rfl 0 rfl <|
g_objInit (rest := []) F dX6_init_6 q450 q182 q_objcode (Nat.le_of_ble_eq_true rfl) (Nat.le_of_ble_eq_true rfl) <|
g_aload_n F dX6_init_9 rfl 0 rfl <|
g_new (fs := [va_rf none, va_rf none, va_rf none, va_rf none, va_rf none, va_rf none, va_rf none, .int 0]) F dX6_init_10 ck_X2 ct_X2 q451 q185 q112 df_X2 (show 0 + 0 + 1 ≤ 18 by omega) (show 0 + 0 + 8 ≤ 67 by omega) hk fun q2 h3 hk =>
g_dup F dX6_init_13 rfl <|
g_callv (g_IN F dX6_init_14 q452 mc_X2_init (rm' := rmX2_init) ⟨Nat.le_of_ble_eq_true rfl, Nat.le_of_ble_eq_true rfl⟩ ⟨show 0 + 0 + 1 + 14 ≤ 18 by omega, show 0 + 0 + 8 + 51 ≤ 67 by omega⟩ (As := []) (rest := [aR (some q2), aR (some v0)]) rfl rfl (Nat.le_of_ble_eq_true rfl) (m_X2_init F.ok q2 h3 _ hk)) fun h4 hk =>
g_putF F dX6_init_17 fo_X6_1_LockstepRoom_Parser ck_X6 q460 rfl hnm rfl (v := aR (some q2)) (fit_rf "LockstepRoom$Room" (some q2)) hk fun h5 hk =>
g_aload_n F dX6_init_20 rfl 0 rfl <|
g_new (fs := [.int 0, va_rf none, .int 0]) F dX6_init_21 ck_J2 ct_J2 q453 q231 q116 df_J2 (show 0 + 0 + 1 + 14 + 1 ≤ 18 by omega) (show 0 + 0 + 8 + 51 + 3 ≤ 67 by omega) hk fun q6 h7 hk =>
g_dup F dX6_init_24 rfl <|
g_callv0 (g_I F dX6_init_25 q454 mc_J2_init (rm' := rmJ2_init) ⟨Nat.le_of_ble_eq_true rfl, Nat.le_of_ble_eq_true rfl⟩ ⟨show 0 + 0 + 1 + 14 + 1 + 0 ≤ 18 by omega, show 0 + 0 + 8 + 51 + 3 + 0 ≤ 67 by omega⟩ (As := []) (rest := [aR (some q6), aR (some v0)]) rfl rfl (Nat.le_of_ble_eq_true rfl) (m_J2_init F.ok q6 h7 _ hk)) ⟨rfl, rfl⟩ fun h8 hk =>
g_putF F dX6_init_28 fo_X6_2_LockstepRoom_Parser ck_X6 q461 rfl hnm rfl (v := aR (some q6)) (fit_rf "java/util/ArrayList" (some q6)) hk fun h9 hk =>
g_aload_n F dX6_init_31 rfl 0 rfl <|
g_new (fs := [.int 0, va_rf none, .int 0]) F dX6_init_32 ck_J2 ct_J2 q453 q231 q116 df_J2 (show 0 + 0 + 1 + 14 + 1 + 1 ≤ 18 by omega) (show 0 + 0 + 8 + 51 + 3 + 3 ≤ 67 by omega) hk fun q10 h11 hk =>
g_dup F dX6_init_35 rfl <|
g_callv0 (g_I F dX6_init_36 q454 mc_J2_init (rm' := rmJ2_init) ⟨Nat.le_of_ble_eq_true rfl, Nat.le_of_ble_eq_true rfl⟩ ⟨show 0 + 0 + 1 + 14 + 1 + 1 + 0 ≤ 18 by omega, show 0 + 0 + 8 + 51 + 3 + 3 + 0 ≤ 67 by omega⟩ (As := []) (rest := [aR (some q10), aR (some v0)]) rfl rfl (Nat.le_of_ble_eq_true rfl) (m_J2_init F.ok q10 h11 _ hk)) ⟨rfl, rfl⟩ fun h12 hk =>
g_putF F dX6_init_39 fo_X6_3_LockstepRoom_Parser ck_X6 q462 rfl hnm rfl (v := aR (some q10)) (fit_rf "java/util/ArrayList" (some q10)) hk fun h13 hk =>
g_aload_n F dX6_init_42 rfl 0 rfl <|
g_gets F dX6_init_43 (sz_0 _) zl_LockstepRoom_Parser_32 <|
g_alen (t := 0) F dX6_init_46 rfl hk fun x14 hk =>
g_newI (t := 2) F dX6_init_47 q501 rfl rfl rfl (Nat.le_of_ble_eq_true rfl) (Nat.le_of_ble_eq_true rfl) (show 0 + 0 + 1 + 14 + 1 + 1 + 1 ≤ 18 by omega) (show 0 + 0 + 8 + 51 + 3 + 3 + 2 ≤ 67 by omega) hk fun q15 h16 hk =>
g_putF F dX6_init_49 fo_X6_4_LockstepRoom_Parser ck_X6 q463 rfl hnm rfl (v := aR (some q15)) (fit_ra .boolean (some q15)) hk fun h17 hk =>
g_aload_n F dX6_init_52 rfl 0 rfl <|
g_gets F dX6_init_53 (sz_2 _) zl_LockstepRoom_Parser_40 <|
g_putV F dX6_init_56 fo_X6_8_LockstepRoom_Parser ck_X6 fl_LockstepRoom_Parser_46_X6 rfl (v := aR (some (x.S.E 2))) (fit_rf "LockstepRoom$Token" (some (x.S.E 2))) hk fun h18 hk =>
g_aload_n F dX6_init_59 rfl 0 rfl <|
g_ldcS F dX6_init_60 (sk_20 _) <|
g_putV F dX6_init_62 fo_X6_9_LockstepRoom_Parser ck_X6 fl_LockstepRoom_Parser_51_X6 rfl (v := aR (some (x.S.E 20))) (fit_rf "java/lang/String" (some (x.S.E 20))) hk fun h19 hk =>
g_aload_n F dX6_init_65 rfl 0 rfl <|
g_iload_n F dX6_init_66 rfl 2 rfl <|
g_putF F dX6_init_67 fo_X6_0_LockstepRoom_Parser ck_X6 q459 rfl hnm rfl (v := aI v2) (fit_i v2) hk fun h20 hk =>
g_vret F dX6_init_70 (show 0 + 0 + 1 + 14 + 1 + 1 + 1 ≤ 18 by omega) (show 0 + 0 + 8 + 51 + 3 + 3 + 2 ≤ 67 by omega) hk
