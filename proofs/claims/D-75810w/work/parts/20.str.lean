set_option maxRecDepth 100000
set_option maxHeartbeats 10000000
theorem zl_java_lang_AbstractStringBuilder_18 : Cond.fieldLink "java/lang/AbstractStringBuilder" 18 "java/lang/String" "COMPACT_STRINGS" "Z" ∈ lw_all ∨ ∃ host, Cond.fieldLinkNest "java/lang/AbstractStringBuilder" 18 "java/lang/String" "COMPACT_STRINGS" "Z" host ∈ lw_tbl := Or.inl q352
theorem szi_COMPACT_STRINGS (E : Nat → Nat) : ("java/lang/String", "COMPACT_STRINGS", "Z", vv (aI 1)) ∈ SZ E := List.mem_of_getElem? (i := 12) rfl
theorem ct_J7 : CL[20]? = some (RJ7, TJ7, 4) := rfl
theorem ck_J7 : ClsOk RJ7 TJ7 4 tyJ7 := ⟨in_J7, tyJ7_ok, nmJ7⟩
theorem fo_J7_0_java_lang_AbstractStringBuilder : FieldOk "java/lang/AbstractStringBuilder" 20 0 RJ7 TJ7 4 := ⟨ct_J7, Nat.le_of_ble_eq_true rfl, Or.inl rfl⟩
theorem fl_java_lang_AbstractStringBuilder_15_J7 : Cond.fieldLink "java/lang/AbstractStringBuilder" 15 "java/lang/AbstractStringBuilder" (TJ7 0).2.1 (TJ7 0).2.2.1 ∈ lw_all ∨ ∃ host, Cond.fieldLinkNest "java/lang/AbstractStringBuilder" 15 "java/lang/AbstractStringBuilder" (TJ7 0).2.1 (TJ7 0).2.2.1 host ∈ lw_tbl := Or.inl q361
theorem fo_J7_1_java_lang_AbstractStringBuilder : FieldOk "java/lang/AbstractStringBuilder" 20 1 RJ7 TJ7 4 := ⟨ct_J7, Nat.le_of_ble_eq_true rfl, Or.inl rfl⟩
theorem fl_java_lang_AbstractStringBuilder_22_J7 : Cond.fieldLink "java/lang/AbstractStringBuilder" 22 "java/lang/AbstractStringBuilder" (TJ7 1).2.1 (TJ7 1).2.2.1 ∈ lw_all ∨ ∃ host, Cond.fieldLinkNest "java/lang/AbstractStringBuilder" 22 "java/lang/AbstractStringBuilder" (TJ7 1).2.1 (TJ7 1).2.2.1 host ∈ lw_tbl := Or.inl q362
theorem fo_J7_3_java_lang_AbstractStringBuilder : FieldOk "java/lang/AbstractStringBuilder" 20 3 RJ7 TJ7 4 := ⟨ct_J7, Nat.le_of_ble_eq_true rfl, Or.inl rfl⟩
theorem fl_java_lang_AbstractStringBuilder_79_J7 : Cond.fieldLink "java/lang/AbstractStringBuilder" 79 "java/lang/AbstractStringBuilder" (TJ7 3).2.1 (TJ7 3).2.2.1 ∈ lw_all ∨ ∃ host, Cond.fieldLinkNest "java/lang/AbstractStringBuilder" 79 "java/lang/AbstractStringBuilder" (TJ7 3).2.1 (TJ7 3).2.2.1 host ∈ lw_tbl := Or.inl q365
theorem zl_java_lang_String_1053 : Cond.fieldLink "java/lang/String" 1053 "jdk/internal/util/Preconditions" "SIOOBE_FORMATTER" "Ljava/util/function/BiFunction;" ∈ lw_all ∨ ∃ host, Cond.fieldLinkNest "java/lang/String" 1053 "jdk/internal/util/Preconditions" "SIOOBE_FORMATTER" "Ljava/util/function/BiFunction;" host ∈ lw_tbl := Or.inl q588
theorem mo_J8_checkIndex : MOk yJ8_checkIndex 2 := by decide +kernel
theorem ms_J8_checkIndex : MS yJ8_checkIndex cJ8_checkIndex 2 none 2 := ⟨q609, q123, q610, mo_J8_checkIndex⟩
theorem sp_255 : (Int16.ofInt (255)).toInt32 = (255 : Int32) := by decide
theorem mo_J6_init : MOk yJ6_init 1 := by decide +kernel
theorem mc_J6_init : MC yJ6_init cJ6_init 2 1 := ⟨q349, q121, q350, rfl, mo_J6_init⟩
theorem mo_J6_length : MOk yJ6_length 0 := by decide +kernel
theorem mo_J6_charAt : MOk yJ6_charAt 1 := by decide +kernel
theorem zl_java_lang_String_38 : Cond.fieldLink "java/lang/String" 38 "java/lang/String" "COMPACT_STRINGS" "Z" ∈ lw_all ∨ ∃ host, Cond.fieldLinkNest "java/lang/String" 38 "java/lang/String" "COMPACT_STRINGS" "Z" host ∈ lw_tbl := Or.inl q650
theorem ct_J8 : CL[21]? = some (RJ8, TJ8, 4) := rfl
theorem ck_J8 : ClsOk RJ8 TJ8 4 tyJ8 := ⟨in_J8, tyJ8_ok, nmJ8⟩
theorem fo_J8_1_java_lang_String : FieldOk "java/lang/String" 21 1 RJ8 TJ8 4 := ⟨ct_J8, Nat.le_of_ble_eq_true rfl, Or.inl rfl⟩
theorem fl_java_lang_String_15_J8 : Cond.fieldLink "java/lang/String" 15 "java/lang/String" (TJ8 1).2.1 (TJ8 1).2.2.1 ∈ lw_all ∨ ∃ host, Cond.fieldLinkNest "java/lang/String" 15 "java/lang/String" (TJ8 1).2.1 (TJ8 1).2.2.1 host ∈ lw_tbl := Or.inl q665
theorem mo_J11_signedHashCode : MOk yJ11_signedHashCode 4 := by decide +kernel
theorem ms_J11_signedHashCode : MS yJ11_signedHashCode cJ11_signedHashCode 6 (some .int) 4 := ⟨q707, q129, q708, mo_J11_signedHashCode⟩
theorem sw_out_4_5_6_7_8_9_10 {a : Int32} (h0 : ¬ a = 4) (h1 : ¬ a = 5) (h2 : ¬ a = 6) (h3 : ¬ a = 7) (h4 : ¬ a = 8) (h5 : ¬ a = 9) (h6 : ¬ a = 10) : a.toInt < 4 ∨ 10 < a.toInt := by
  have g0 : a.toInt ≠ 4 := sw_ne h0
  have g1 : a.toInt ≠ 5 := sw_ne h1
  have g2 : a.toInt ≠ 6 := sw_ne h2
  have g3 : a.toInt ≠ 7 := sw_ne h3
  have g4 : a.toInt ≠ 8 := sw_ne h4
  have g5 : a.toInt ≠ 9 := sw_ne h5
  have g6 : a.toInt ≠ 10 := sw_ne h6
  omega
theorem mo_J11_vectorizedHashCode : MOk yJ11_vectorizedHashCode 5 := by decide +kernel
theorem ms_J11_vectorizedHashCode : MS yJ11_vectorizedHashCode cJ11_vectorizedHashCode 5 (some .int) 5 := ⟨q703, q129, q704, mo_J11_vectorizedHashCode⟩
theorem fo_J8_2_java_lang_String : FieldOk "java/lang/String" 21 2 RJ8 TJ8 4 := ⟨ct_J8, Nat.le_of_ble_eq_true rfl, Or.inl rfl⟩
theorem fl_java_lang_String_19_J8 : Cond.fieldLink "java/lang/String" 19 "java/lang/String" (TJ8 2).2.1 (TJ8 2).2.2.1 ∈ lw_all ∨ ∃ host, Cond.fieldLinkNest "java/lang/String" 19 "java/lang/String" (TJ8 2).2.1 (TJ8 2).2.2.1 host ∈ lw_tbl := Or.inl q666
theorem fo_J8_3_java_lang_String : FieldOk "java/lang/String" 21 3 RJ8 TJ8 4 := ⟨ct_J8, Nat.le_of_ble_eq_true rfl, Or.inl rfl⟩
theorem fl_java_lang_String_23_J8 : Cond.fieldLink "java/lang/String" 23 "java/lang/String" (TJ8 3).2.1 (TJ8 3).2.2.1 ∈ lw_all ∨ ∃ host, Cond.fieldLinkNest "java/lang/String" 23 "java/lang/String" (TJ8 3).2.1 (TJ8 3).2.2.1 host ∈ lw_tbl := Or.inl q667
theorem mo_J8_isLatin1 : MOk yJ8_isLatin1 0 := by decide +kernel
theorem mi_J8_isLatin1 : MI yJ8_isLatin1 "java/lang/String" cJ8_isLatin1 1 (some .boolean) 0 := ⟨q696, q697, q123, q698, rfl, mo_J8_isLatin1⟩
theorem fo_J8_0_java_lang_String : FieldOk "java/lang/String" 21 0 RJ8 TJ8 4 := ⟨ct_J8, Nat.le_of_ble_eq_true rfl, Or.inl rfl⟩
theorem fl_java_lang_String_9_J8 : Cond.fieldLink "java/lang/String" 9 "java/lang/String" (TJ8 0).2.1 (TJ8 0).2.2.1 ∈ lw_all ∨ ∃ host, Cond.fieldLinkNest "java/lang/String" 9 "java/lang/String" (TJ8 0).2.1 (TJ8 0).2.2.1 host ∈ lw_tbl := Or.inl q664
theorem mo_J14_hashCode : MOk yJ14_hashCode 1 := by decide +kernel
theorem ms_J14_hashCode : MS yJ14_hashCode cJ14_hashCode 1 (some .int) 1 := ⟨q700, q133, q701, mo_J14_hashCode⟩
theorem mo_J14_equals : MOk yJ14_equals 2 := by decide +kernel
theorem ms_J14_equals : MS yJ14_equals cJ14_equals 3 (some .boolean) 2 := ⟨q751, q133, q752, mo_J14_equals⟩
theorem mo_J8_coder : MOk yJ8_coder 0 := by decide +kernel
theorem mi_J8_coder : MI yJ8_coder "java/lang/String" cJ8_coder 1 (some .byte) 0 := ⟨q851, q852, q123, q853, rfl, mo_J8_coder⟩
theorem mo_J14_charAt : MOk yJ14_charAt 2 := by decide +kernel
theorem ms_J14_charAt : MS yJ14_charAt cJ14_charAt 2 (some .char) 2 := ⟨q859, q133, q860, mo_J14_charAt⟩
theorem bp_m10 : (Int8.ofInt (-10)).toInt32 = (-10 : Int32) := by decide
theorem bp_m100 : (Int8.ofInt (-100)).toInt32 = (-100 : Int32) := by decide
theorem bp_100 : (Int8.ofInt (100)).toInt32 = (100 : Int32) := by decide
theorem nz_100_Int32 : ¬ (100 : Int32) = 0 := by decide
theorem zl_java_lang_Integer_83 : Cond.fieldLink "java/lang/Integer" 83 "java/lang/Integer" "DigitOnes" "[B" ∈ lw_all ∨ ∃ host, Cond.fieldLinkNest "java/lang/Integer" 83 "java/lang/Integer" "DigitOnes" "[B" host ∈ lw_tbl := Or.inl q2943
theorem sz_7 (E : Nat → Nat) : ("java/lang/Integer", "DigitOnes", "[B", vv (aR (some (E 7)))) ∈ SZ E := List.mem_of_getElem? (i := 7) rfl
theorem zl_java_lang_Integer_87 : Cond.fieldLink "java/lang/Integer" 87 "java/lang/Integer" "DigitTens" "[B" ∈ lw_all ∨ ∃ host, Cond.fieldLinkNest "java/lang/Integer" 87 "java/lang/Integer" "DigitTens" "[B" host ∈ lw_tbl := Or.inl q2945
theorem sz_8 (E : Nat → Nat) : ("java/lang/Integer", "DigitTens", "[B", vv (aR (some (E 8)))) ∈ SZ E := List.mem_of_getElem? (i := 8) rfl
theorem bp_45 : (Int8.ofInt (45)).toInt32 = (45 : Int32) := by decide
theorem bp_m9 : (Int8.ofInt (-9)).toInt32 = (-9 : Int32) := by decide
abbrev rmJ6_init : Room := { frames := 2, cells := 1, slots := 16, locals := 40 }
theorem m_J6_init {S : Sx} (hS0 : Sok S) (v0 : Nat) (v1 : Int32) (h : hH) (Q : hH → Prop) (hk : f_J6_init S.E v0 v1 h Q) : Ct S yJ6_init (ws_ yJ6_init cJ6_init 2 none) rmJ6_init ([aR (some v0), aI v1].map vv) h (qV Q) := by
  refine Ct.of hS0 (by decide +kernel) rfl (Nat.le_of_ble_eq_true rfl) fun x hxS F hnm => ?_
  subst hxS
  unfold f_J6_init at hk
  have hM : 0 + 1 ≤ 1 := by omega
  have hS : 0 + 16 ≤ 16 := by omega
  refine G.widen (c' := 0 + 0) (k' := 0 + 0) (Nat.le_refl 0) (Nat.le_refl 0) ?_
  exact g_aload_n F dJ6_init_0 rfl 0 rfl <|
g_objInit (rest := []) F dJ6_init_1 q351 q182 q_objcode (Nat.le_of_ble_eq_true rfl) (Nat.le_of_ble_eq_true rfl) <|
g_gets F dJ6_init_4 (szi_COMPACT_STRINGS _) zl_java_lang_AbstractStringBuilder_18 <|
g_if_eq F dJ6_init_7 (tgt := 25) rfl (fun hc => have hk := hk.1 hc
g_aload_n F dJ6_init_25 rfl 0 rfl <|
g_iload_n F dJ6_init_26 rfl 1 rfl <|
False.elim hk) (fun hc => have hk := hk.2 hc
g_aload_n F dJ6_init_10 rfl 0 rfl <|
g_iload_n F dJ6_init_11 rfl 1 rfl <|
g_newI (t := 1) F dJ6_init_12 q375 rfl rfl rfl (Nat.le_of_ble_eq_true rfl) (Nat.le_of_ble_eq_true rfl) (show 0 + 0 + 1 ≤ 1 by omega) (show 0 + 0 + 16 ≤ 16 by omega) hk fun q1 h2 hk =>
g_putV F dJ6_init_14 fo_J7_0_java_lang_AbstractStringBuilder ck_J7 fl_java_lang_AbstractStringBuilder_15_J7 rfl (v := aR (some q1)) (fit_ra .byte (some q1)) hk fun h3 hk =>
g_aload_n F dJ6_init_17 rfl 0 rfl <|
g_iconst F dJ6_init_18 ic_0 <|
g_putV F dJ6_init_19 fo_J7_1_java_lang_AbstractStringBuilder ck_J7 fl_java_lang_AbstractStringBuilder_22_J7 rfl (v := aI (0:Int32)) ⟨rfl, rfl⟩ hk fun h4 hk =>
g_goto F dJ6_init_22 (tgt := 38) rfl <|
g_vret F dJ6_init_38 (show 0 + 0 + 1 ≤ 1 by omega) (show 0 + 0 + 16 ≤ 16 by omega) hk)
abbrev rmJ6_newCapacity : Room := { frames := 3, cells := 0, slots := 0, locals := 63 }
theorem m_J6_newCapacity {S : Sx} (hS0 : Sok S) (v0 : Nat) (v1 : Int32) (h : hH) (Q : Int32 → hH → Prop) (hk : f_J6_newCapacity S.E v0 v1 h Q) : Ct S yJ6_newCapacity (ws_ yJ6_newCapacity cJ6_newCapacity 6 (some .int)) rmJ6_newCapacity ([aR (some v0), aI v1].map vv) h (qI Q) := by
  refine Ct.of hS0 (by decide +kernel) rfl (Nat.le_of_ble_eq_true rfl) fun x hxS F hnm => ?_
  subst hxS
  unfold f_J6_newCapacity at hk
  exact g_aload_n F dJ6_newCapacity_0 rfl 0 rfl <|
g_getR F dJ6_newCapacity_1 fo_J7_0_java_lang_AbstractStringBuilder in_J7 fl_java_lang_AbstractStringBuilder_15_J7 hk fun x1 hk =>
g_alen (t := 1) F dJ6_newCapacity_4 rfl hk fun x2 hk =>
g_istore_n F dJ6_newCapacity_5 rfl (Nat.le_of_ble_eq_true rfl) rfl <|
g_iload_n F dJ6_newCapacity_6 rfl 2 rfl <|
g_aload_n F dJ6_newCapacity_7 rfl 1 rfl <|
g_getI F dJ6_newCapacity_8 fo_J7_1_java_lang_AbstractStringBuilder in_J7 fl_java_lang_AbstractStringBuilder_22_J7 hk fun x3 hk =>
g_ishl F dJ6_newCapacity_11 <|
g_istore_n F dJ6_newCapacity_12 rfl (Nat.le_of_ble_eq_true rfl) rfl <|
g_iload_n F dJ6_newCapacity_13 rfl 0 rfl <|
g_iload_n F dJ6_newCapacity_14 rfl 1 rfl <|
g_isub F dJ6_newCapacity_15 <|
g_istore F dJ6_newCapacity_16 (Nat.le_of_ble_eq_true rfl) rfl <|
g_iload_n F dJ6_newCapacity_18 rfl 2 rfl <|
g_iload F dJ6_newCapacity_19 0 rfl <|
g_iload_n F dJ6_newCapacity_21 rfl 2 rfl <|
g_iconst F dJ6_newCapacity_22 ic_2 <|
g_aload_n F dJ6_newCapacity_23 rfl 3 rfl <|
g_getI F dJ6_newCapacity_24 fo_J7_1_java_lang_AbstractStringBuilder in_J7 fl_java_lang_AbstractStringBuilder_22_J7 hk fun x4 hk =>
g_ishl F dJ6_newCapacity_27 <|
g_iadd F dJ6_newCapacity_28 <|
g_calli0 (g_S F dJ6_newCapacity_29 q536 ms_J11_newLength (rm' := rmJ11_newLength) ⟨Nat.le_of_ble_eq_true rfl, Nat.le_of_ble_eq_true rfl⟩ ⟨Nat.le_refl 0, Nat.le_refl 0⟩ (As := [aI x2, aI ((v1 <<< (x3 &&& 31)) - x2), aI (x2 + ((2:Int32) <<< (x4 &&& 31)))]) (rest := []) rfl rfl (Nat.le_of_ble_eq_true rfl) (m_J11_newLength F.ok x2 ((v1 <<< (x3 &&& 31)) - x2) (x2 + ((2:Int32) <<< (x4 &&& 31))) h _ hk)) ⟨rfl, rfl⟩ fun x6 h5 hk =>
g_istore F dJ6_newCapacity_32 (Nat.le_of_ble_eq_true rfl) rfl <|
g_iload F dJ6_newCapacity_34 0 rfl <|
g_ldc F dJ6_newCapacity_36 q546 <|
g_icmp_ne F dJ6_newCapacity_38 (tgt := 51) rfl (fun hc => have hk := hk.2 hc
g_iload F dJ6_newCapacity_51 0 rfl <|
g_aload_n F dJ6_newCapacity_53 rfl 4 rfl <|
g_getI F dJ6_newCapacity_54 fo_J7_1_java_lang_AbstractStringBuilder in_J7 fl_java_lang_AbstractStringBuilder_22_J7 hk fun x7 hk =>
g_ishr F dJ6_newCapacity_57 <|
g_iret F dJ6_newCapacity_58 (Nat.le_refl 0) (Nat.le_refl 0) hk) (fun hc => have hk := hk.1 hc
False.elim hk)
abbrev rmJ6_isLatin1 : Room := { frames := 2, cells := 0, slots := 0, locals := 40 }
theorem m_J6_isLatin1 {S : Sx} (hS0 : Sok S) (v0 : Nat) (h : hH) (Q : Int32 → hH → Prop) (hk : f_J6_isLatin1 S.E v0 h Q) : Ct S yJ6_isLatin1 (ws_ yJ6_isLatin1 cJ6_isLatin1 1 (some .boolean)) rmJ6_isLatin1 ([aR (some v0)].map vv) h (qI Q) := by
  refine Ct.of hS0 (by decide +kernel) rfl (Nat.le_of_ble_eq_true rfl) fun x hxS F hnm => ?_
  subst hxS
  unfold f_J6_isLatin1 at hk
  exact g_gets F dJ6_isLatin1_0 (szi_COMPACT_STRINGS _) zl_java_lang_AbstractStringBuilder_18 <|
g_if_eq F dJ6_isLatin1_3 (tgt := 17) rfl (fun hc => have hk := hk.1 hc
g_iconst F dJ6_isLatin1_17 ic_0 <|
g_zret F dJ6_isLatin1_18 (Nat.le_refl 0) (Nat.le_refl 0) rfl hk) (fun hc => have hk := hk.2 hc
g_aload_n F dJ6_isLatin1_6 rfl 0 rfl <|
g_getI F dJ6_isLatin1_7 fo_J7_1_java_lang_AbstractStringBuilder in_J7 fl_java_lang_AbstractStringBuilder_22_J7 hk fun x1 hk =>
g_if_ne F dJ6_isLatin1_10 (tgt := 17) rfl (fun hc => have hk := hk.2 hc
g_iconst F dJ6_isLatin1_17 ic_0 <|
g_zret F dJ6_isLatin1_18 (Nat.le_refl 0) (Nat.le_refl 0) rfl hk) (fun hc => have hk := hk.1 hc
g_iconst F dJ6_isLatin1_13 ic_1 <|
g_goto F dJ6_isLatin1_14 (tgt := 18) rfl <|
g_zret F dJ6_isLatin1_18 (Nat.le_refl 0) (Nat.le_refl 0) rfl hk))
abbrev rmJ6_getValue : Room := { frames := 2, cells := 0, slots := 0, locals := 40 }
theorem m_J6_getValue {S : Sx} (hS0 : Sok S) (v0 : Nat) (h : hH) (Q : Option Nat → hH → Prop) (hk : f_J6_getValue S.E v0 h Q) : Ct S yJ6_getValue (ws_ yJ6_getValue cJ6_getValue 1 (some (.array .byte))) rmJ6_getValue ([aR (some v0)].map vv) h (qR Q) := by
  refine Ct.of hS0 (by decide +kernel) rfl (Nat.le_of_ble_eq_true rfl) fun x hxS F hnm => ?_
  subst hxS
  unfold f_J6_getValue at hk
  exact g_aload_n F dJ6_getValue_0 rfl 0 rfl <|
g_getR F dJ6_getValue_1 fo_J7_0_java_lang_AbstractStringBuilder in_J7 fl_java_lang_AbstractStringBuilder_15_J7 hk fun x1 hk =>
g_aret F (Or.inr ⟨_, rfl⟩) dJ6_getValue_4 (Nat.le_refl 0) (Nat.le_refl 0) hk
abbrev rmJ6_length : Room := { frames := 2, cells := 0, slots := 0, locals := 40 }
theorem m_J6_length {S : Sx} (hS0 : Sok S) (v0 : Nat) (h : hH) (Q : Int32 → hH → Prop) (hk : f_J6_length S.E v0 h Q) : Ct S yJ6_length (ws_ yJ6_length cJ6_length 1 (some .int)) rmJ6_length ([aR (some v0)].map vv) h (qI Q) := by
  refine Ct.of hS0 (by decide +kernel) rfl (Nat.le_of_ble_eq_true rfl) fun x hxS F hnm => ?_
  subst hxS
  unfold f_J6_length at hk
  exact g_aload_n F dJ6_length_0 rfl 0 rfl <|
g_getI F dJ6_length_1 fo_J7_3_java_lang_AbstractStringBuilder in_J7 fl_java_lang_AbstractStringBuilder_79_J7 hk fun x1 hk =>
g_iret F dJ6_length_4 (Nat.le_refl 0) (Nat.le_refl 0) hk
abbrev rmJ8_checkIndex : Room := { frames := 3, cells := 0, slots := 0, locals := 62 }
theorem m_J8_checkIndex {S : Sx} (hS0 : Sok S) (v0 : Int32) (v1 : Int32) (h : hH) (Q : hH → Prop) (hk : f_J8_checkIndex S.E v0 v1 h Q) : Ct S yJ8_checkIndex (ws_ yJ8_checkIndex cJ8_checkIndex 2 none) rmJ8_checkIndex ([aI v0, aI v1].map vv) h (qV Q) := by
  refine Ct.of hS0 (by decide +kernel) rfl (Nat.le_of_ble_eq_true rfl) fun x hxS F hnm => ?_
  subst hxS
  unfold f_J8_checkIndex at hk
  exact g_iload_n F dJ8_checkIndex_0 rfl 0 rfl <|
g_iload_n F dJ8_checkIndex_1 rfl 1 rfl <|
g_getsU F dJ8_checkIndex_2 q588 hk fun x1 hk =>
g_calli0 (g_S F dJ8_checkIndex_5 q611 ms_J15_checkIndex (rm' := rmJ15_checkIndex) ⟨Nat.le_of_ble_eq_true rfl, Nat.le_of_ble_eq_true rfl⟩ ⟨Nat.le_refl 0, Nat.le_refl 0⟩ (As := [aI v0, aI v1, aR x1]) (rest := []) rfl rfl (Nat.le_of_ble_eq_true rfl) (m_J15_checkIndex F.ok v0 v1 x1 h _ hk)) ⟨rfl, rfl⟩ fun x3 h2 hk =>
g_pop F dJ8_checkIndex_8 rfl <|
g_vret F dJ8_checkIndex_9 (Nat.le_refl 0) (Nat.le_refl 0) hk
abbrev rmJ6_charAt : Room := { frames := 4, cells := 0, slots := 0, locals := 83 }
theorem m_J6_charAt {S : Sx} (hS0 : Sok S) (v0 : Nat) (v1 : Int32) (h : hH) (Q : Int32 → hH → Prop) (hk : f_J6_charAt S.E v0 v1 h Q) : Ct S yJ6_charAt (ws_ yJ6_charAt cJ6_charAt 5 (some .char)) rmJ6_charAt ([aR (some v0), aI v1].map vv) h (qI Q) := by
  refine Ct.of hS0 (by decide +kernel) rfl (Nat.le_of_ble_eq_true rfl) fun x hxS F hnm => ?_
  subst hxS
  unfold f_J6_charAt at hk
  exact g_aload_n F dJ6_charAt_0 rfl 0 rfl <|
g_getI F dJ6_charAt_1 fo_J7_1_java_lang_AbstractStringBuilder in_J7 fl_java_lang_AbstractStringBuilder_22_J7 hk fun x1 hk =>
g_istore_n F dJ6_charAt_4 rfl (Nat.le_of_ble_eq_true rfl) rfl <|
g_aload_n F dJ6_charAt_5 rfl 1 rfl <|
g_getR F dJ6_charAt_6 fo_J7_0_java_lang_AbstractStringBuilder in_J7 fl_java_lang_AbstractStringBuilder_15_J7 hk fun x2 hk =>
g_astore_n F dJ6_charAt_9 rfl (Nat.le_of_ble_eq_true rfl) rfl <|
g_aload_n F dJ6_charAt_10 rfl 2 rfl <|
g_getI F dJ6_charAt_11 fo_J7_3_java_lang_AbstractStringBuilder in_J7 fl_java_lang_AbstractStringBuilder_79_J7 hk fun x3 hk =>
g_aload_n F dJ6_charAt_14 rfl 0 rfl <|
g_alen (t := 1) F dJ6_charAt_15 rfl hk fun x4 hk =>
g_iload_n F dJ6_charAt_16 rfl 1 rfl <|
g_ishr F dJ6_charAt_17 <|
g_mmin (rest := []) F dJ6_charAt_18 q2593 q556 q130 q557 (Nat.le_of_ble_eq_true rfl) (Nat.le_of_ble_eq_true rfl) (Nat.le_refl 0) (Nat.le_refl 0) <|
g_istore F dJ6_charAt_21 (Nat.le_of_ble_eq_true rfl) rfl <|
g_iload_n F dJ6_charAt_23 rfl 4 rfl <|
g_iload F dJ6_charAt_24 0 rfl <|
g_callv0 (g_S F dJ6_charAt_26 q2594 ms_J8_checkIndex (rm' := rmJ8_checkIndex) ⟨Nat.le_of_ble_eq_true rfl, Nat.le_of_ble_eq_true rfl⟩ ⟨Nat.le_refl 0, Nat.le_refl 0⟩ (As := [aI v1, aI (iMin x3 (x4 >>> (x1 &&& 31)))]) (rest := []) rfl rfl (Nat.le_of_ble_eq_true rfl) (m_J8_checkIndex F.ok v1 (iMin x3 (x4 >>> (x1 &&& 31))) h _ hk)) ⟨rfl, rfl⟩ fun h5 hk =>
g_iload_n F dJ6_charAt_29 rfl 2 rfl <|
g_if_ne F dJ6_charAt_30 (tgt := 42) rfl (fun hc => have hk := hk.2 hc
False.elim hk) (fun hc => have hk := hk.1 hc
g_aload_n F dJ6_charAt_33 rfl 1 rfl <|
g_iload_n F dJ6_charAt_34 rfl 4 rfl <|
g_bald F dJ6_charAt_35 hk fun x6 hk =>
g_sipush F dJ6_charAt_36 sp_255 <|
g_iand F dJ6_charAt_39 <|
g_i2c F dJ6_charAt_40 <|
g_cret F dJ6_charAt_41 (Nat.le_refl 0) (Nat.le_refl 0) hk.1 hk.2)
abbrev rmJ7_init : Room := { frames := 3, cells := 1, slots := 16, locals := 61 }
theorem m_J7_init {S : Sx} (hS0 : Sok S) (v0 : Nat) (h : hH) (Q : hH → Prop) (hk : f_J7_init S.E v0 h Q) : Ct S yJ7_init (ws_ yJ7_init cJ7_init 1 none) rmJ7_init ([aR (some v0)].map vv) h (qV Q) := by
  refine Ct.of hS0 (by decide +kernel) rfl (Nat.le_of_ble_eq_true rfl) fun x hxS F hnm => ?_
  subst hxS
  unfold f_J7_init at hk
  have hM : 0 + 1 ≤ 1 := by omega
  have hS : 0 + 16 ≤ 16 := by omega
  refine G.widen (c' := 0 + 0) (k' := 0 + 0) (Nat.le_refl 0) (Nat.le_refl 0) ?_
  exact g_aload_n F dJ7_init_0 rfl 0 rfl <|
g_bipush F dJ7_init_1 bp_16 <|
g_callv (g_I F dJ7_init_3 q348 mc_J6_init (rm' := rmJ6_init) ⟨Nat.le_of_ble_eq_true rfl, Nat.le_of_ble_eq_true rfl⟩ ⟨show 0 + 0 + 1 ≤ 1 by omega, show 0 + 0 + 16 ≤ 16 by omega⟩ (As := [aI (16:Int32)]) (rest := []) rfl rfl (Nat.le_of_ble_eq_true rfl) (m_J6_init F.ok v0 (16:Int32) h _ hk)) fun h1 hk =>
g_vret F dJ7_init_6 (show 0 + 0 + 1 ≤ 1 by omega) (show 0 + 0 + 16 ≤ 16 by omega) hk
abbrev rmJ7_length : Room := { frames := 3, cells := 0, slots := 0, locals := 60 }
theorem m_J7_length {S : Sx} (hS0 : Sok S) (v0 : Nat) (h : hH) (Q : Int32 → hH → Prop) (hk : f_J7_length S.E v0 h Q) : Ct S yJ7_length (ws_ yJ7_length cJ7_length 1 (some .int)) rmJ7_length ([aR (some v0)].map vv) h (qI Q) := by
  refine Ct.of hS0 (by decide +kernel) rfl (Nat.le_of_ble_eq_true rfl) fun x hxS F hnm => ?_
  subst hxS
  unfold f_J7_length at hk
  exact g_aload_n F dJ7_length_0 rfl 0 rfl <|
g_calli0 (g_SU F dJ7_length_1 q638 q634 q374 q633 q121 q639 (by decide) mo_J6_length ct_J7 (rm' := rmJ6_length) ⟨Nat.le_of_ble_eq_true rfl, Nat.le_of_ble_eq_true rfl⟩ ⟨Nat.le_refl 0, Nat.le_refl 0⟩ (As := []) (rest := []) rfl rfl (Nat.le_of_ble_eq_true rfl) hk (fun a3 hk => m_J6_length F.ok a3 h _ hk)) ⟨rfl, rfl⟩ fun x2 h1 hk =>
g_iret F dJ7_length_4 (Nat.le_refl 0) (Nat.le_refl 0) hk
abbrev rmJ7_charAt : Room := { frames := 5, cells := 0, slots := 0, locals := 107 }
theorem m_J7_charAt {S : Sx} (hS0 : Sok S) (v0 : Nat) (v1 : Int32) (h : hH) (Q : Int32 → hH → Prop) (hk : f_J7_charAt S.E v0 v1 h Q) : Ct S yJ7_charAt (ws_ yJ7_charAt cJ7_charAt 2 (some .char)) rmJ7_charAt ([aR (some v0), aI v1].map vv) h (qI Q) := by
  refine Ct.of hS0 (by decide +kernel) rfl (Nat.le_of_ble_eq_true rfl) fun x hxS F hnm => ?_
  subst hxS
  unfold f_J7_charAt at hk
  exact g_aload_n F dJ7_charAt_0 rfl 0 rfl <|
g_iload_n F dJ7_charAt_1 rfl 1 rfl <|
g_calli0 (g_SU F dJ7_charAt_2 q2590 q3577 q374 q2591 q121 q2592 (by decide) mo_J6_charAt ct_J7 (rm' := rmJ6_charAt) ⟨Nat.le_of_ble_eq_true rfl, Nat.le_of_ble_eq_true rfl⟩ ⟨Nat.le_refl 0, Nat.le_refl 0⟩ (As := [aI v1]) (rest := []) rfl rfl (Nat.le_of_ble_eq_true rfl) hk (fun a3 hk => m_J6_charAt F.ok a3 v1 h _ hk)) ⟨rfl, rfl⟩ fun x2 h1 hk =>
g_cret F dJ7_charAt_5 (Nat.le_refl 0) (Nat.le_refl 0) hk.1 hk.2
abbrev rmJ8_isLatin1 : Room := { frames := 2, cells := 0, slots := 0, locals := 40 }
theorem m_J8_isLatin1 {S : Sx} (hS0 : Sok S) (v0 : Nat) (h : hH) (Q : Int32 → hH → Prop) (hk : f_J8_isLatin1 S.E v0 h Q) : Ct S yJ8_isLatin1 (ws_ yJ8_isLatin1 cJ8_isLatin1 1 (some .boolean)) rmJ8_isLatin1 ([aR (some v0)].map vv) h (qI Q) := by
  refine Ct.of hS0 (by decide +kernel) rfl (Nat.le_of_ble_eq_true rfl) fun x hxS F hnm => ?_
  subst hxS
  unfold f_J8_isLatin1 at hk
  exact g_gets F dJ8_isLatin1_0 (szi_COMPACT_STRINGS _) zl_java_lang_String_38 <|
g_if_eq F dJ8_isLatin1_3 (tgt := 17) rfl (fun hc => have hk := hk.1 hc
g_iconst F dJ8_isLatin1_17 ic_0 <|
g_zret F dJ8_isLatin1_18 (Nat.le_refl 0) (Nat.le_refl 0) rfl hk) (fun hc => have hk := hk.2 hc
g_aload_n F dJ8_isLatin1_6 rfl 0 rfl <|
g_getI F dJ8_isLatin1_7 fo_J8_1_java_lang_String in_J8 fl_java_lang_String_15_J8 hk fun x1 hk =>
g_if_ne F dJ8_isLatin1_10 (tgt := 17) rfl (fun hc => have hk := hk.2 hc
g_iconst F dJ8_isLatin1_17 ic_0 <|
g_zret F dJ8_isLatin1_18 (Nat.le_refl 0) (Nat.le_refl 0) rfl hk) (fun hc => have hk := hk.1 hc
g_iconst F dJ8_isLatin1_13 ic_1 <|
g_goto F dJ8_isLatin1_14 (tgt := 18) rfl <|
g_zret F dJ8_isLatin1_18 (Nat.le_refl 0) (Nat.le_refl 0) rfl hk))
abbrev rmJ11_signedHashCode : Room := { frames := 2, cells := 0, slots := 0, locals := 40 }
theorem s_J11_signedHashCode_l8 {x : Cx} (F : Fx x cJ11_signedHashCode "jdk/internal/util/ArraysSupport" 6 (some .int) rmJ11_signedHashCode) {Q : Int32 → hH → Prop} {K35 : Int32 → hH → Prop} (n : Nat) (l0 : Int32) (l1 : Option Nat) (l4 : Int32) (l5 : Int32) (h : hH) (hk : f_J11_signedHashCode_l8 x.S.E Q K35 n l0 l1 l4 l5 h) (hK35 : ∀ (l0 : Int32) (h : hH), K35 l0 h → G x (xQ x rmJ11_signedHashCode (qI Q)) 35 [(0, aI l0)] [] h 0 0) : G x (xQ x rmJ11_signedHashCode (qI Q)) 8 [(0, aI l0), (1, aR l1), (4, aI l4), (5, aI l5)] [] h 0 0 := by
  induction n generalizing l0 l1 l4 l5 h with
  | zero => exact False.elim hk
  | succ n ih =>
    unfold f_J11_signedHashCode_l8 at hk
    exact g_iload F dJ11_signedHashCode_8 3 rfl <|
g_iload F dJ11_signedHashCode_10 2 rfl <|
g_icmp_ge F dJ11_signedHashCode_12 (tgt := 35) rfl (fun hc => have hk := hk.1 hc
G.fewer [0] rfl <| hK35 l0 h hk) (fun hc => have hk := hk.2 hc
g_bipush F dJ11_signedHashCode_15 bp_31 <|
g_iload_n F dJ11_signedHashCode_17 rfl 0 rfl <|
g_imul F dJ11_signedHashCode_18 <|
g_aload_n F dJ11_signedHashCode_19 rfl 1 rfl <|
g_iload F dJ11_signedHashCode_20 3 rfl <|
g_bald F dJ11_signedHashCode_22 hk fun x1 hk =>
g_sipush F dJ11_signedHashCode_23 sp_255 <|
g_iand F dJ11_signedHashCode_26 <|
g_iadd F dJ11_signedHashCode_27 <|
g_istore_n F dJ11_signedHashCode_28 rfl (Nat.le_of_ble_eq_true rfl) rfl <|
g_iinc (v := (l5 + (1:Int32))) F dJ11_signedHashCode_29 (j := 3) rfl (iinc_1 l5) (Nat.le_of_ble_eq_true rfl) rfl <|
g_goto F dJ11_signedHashCode_32 (tgt := 8) rfl <|
G.fewer [1, 2, 3, 0] rfl <| ih (((31:Int32) * l0) + (x1 &&& (255:Int32))) l1 l4 (l5 + (1:Int32)) h hk)
theorem m_J11_signedHashCode {S : Sx} (hS0 : Sok S) (v0 : Int32) (v1 : Option Nat) (v2 : Int32) (v3 : Int32) (h : hH) (Q : Int32 → hH → Prop) (hk : f_J11_signedHashCode S.E v0 v1 v2 v3 h Q) : Ct S yJ11_signedHashCode (ws_ yJ11_signedHashCode cJ11_signedHashCode 6 (some .int)) rmJ11_signedHashCode ([aI v0, aR v1, aI v2, aI v3].map vv) h (qI Q) := by
  refine Ct.of hS0 (by decide +kernel) rfl (Nat.le_of_ble_eq_true rfl) fun x hxS F hnm => ?_
  subst hxS
  unfold f_J11_signedHashCode at hk
  exact g_iload_n F dJ11_signedHashCode_0 rfl 2 rfl <|
g_iload_n F dJ11_signedHashCode_1 rfl 3 rfl <|
g_iadd F dJ11_signedHashCode_2 <|
g_istore F dJ11_signedHashCode_3 (Nat.le_of_ble_eq_true rfl) rfl <|
g_iload_n F dJ11_signedHashCode_5 rfl 3 rfl <|
g_istore F dJ11_signedHashCode_6 (Nat.le_of_ble_eq_true rfl) rfl <|
G.fewer [2, 3, 1, 0] rfl <| s_J11_signedHashCode_l8 F 1000000 v0 v1 (v2 + v3) v2 h hk ((fun l0 h hk => g_iload_n F dJ11_signedHashCode_35 rfl 0 rfl <|
g_iret F dJ11_signedHashCode_36 (Nat.le_refl 0) (Nat.le_refl 0) hk))
abbrev rmJ11_vectorizedHashCode : Room := { frames := 3, cells := 0, slots := 0, locals := 65 }
theorem m_J11_vectorizedHashCode {S : Sx} (hS0 : Sok S) (v0 : Option Nat) (v1 : Int32) (v2 : Int32) (v3 : Int32) (v4 : Int32) (h : hH) (Q : Int32 → hH → Prop) (hk : f_J11_vectorizedHashCode S.E v0 v1 v2 v3 v4 h Q) : Ct S yJ11_vectorizedHashCode (ws_ yJ11_vectorizedHashCode cJ11_vectorizedHashCode 5 (some .int)) rmJ11_vectorizedHashCode ([aR v0, aI v1, aI v2, aI v3, aI v4].map vv) h (qI Q) := by
  refine Ct.of hS0 (by decide +kernel) rfl (Nat.le_of_ble_eq_true rfl) fun x hxS F hnm => ?_
  subst hxS
  unfold f_J11_vectorizedHashCode at hk
  exact g_iload F dJ11_vectorizedHashCode_0 4 rfl <|
if hc4 : v4 = (4:Int32) then (have hk := hk.1 hc4
g_tableIn (tgt := 44) (off := 42) F dJ11_vectorizedHashCode_2 (by rw [hc4]; decide) (by rw [hc4]; decide) (by rw [hc4]; rfl) rfl <|
g_iload_n F dJ11_vectorizedHashCode_44 rfl 3 rfl <|
g_aload_n F dJ11_vectorizedHashCode_45 rfl 0 rfl <|
g_castA (t := 1) F dJ11_vectorizedHashCode_46 q705 F.arr1 hk fun hk =>
g_iload_n F dJ11_vectorizedHashCode_49 rfl 1 rfl <|
g_iload_n F dJ11_vectorizedHashCode_50 rfl 2 rfl <|
g_calli0 (g_S F dJ11_vectorizedHashCode_51 q706 ms_J11_signedHashCode (rm' := rmJ11_signedHashCode) ⟨Nat.le_of_ble_eq_true rfl, Nat.le_of_ble_eq_true rfl⟩ ⟨Nat.le_refl 0, Nat.le_refl 0⟩ (As := [aI v3, aR v0, aI v1, aI v2]) (rest := []) rfl rfl (Nat.le_of_ble_eq_true rfl) (m_J11_signedHashCode F.ok v3 v0 v1 v2 h _ hk)) ⟨rfl, rfl⟩ fun x2 h1 hk =>
g_goto F dJ11_vectorizedHashCode_54 (tgt := 157) rfl <|
g_iret F dJ11_vectorizedHashCode_157 (Nat.le_refl 0) (Nat.le_refl 0) hk) else have hk := hk.2 hc4
if hc5 : v4 = (5:Int32) then (have hk := hk.1 hc5
g_tableIn (tgt := 57) (off := 55) F dJ11_vectorizedHashCode_2 (by rw [hc5]; decide) (by rw [hc5]; decide) (by rw [hc5]; rfl) rfl <|
False.elim hk) else have hk := hk.2 hc5
if hc6 : v4 = (6:Int32) then (have hk := hk.1 hc6
g_tableIn (tgt := 129) (off := 127) F dJ11_vectorizedHashCode_2 (by rw [hc6]; decide) (by rw [hc6]; decide) (by rw [hc6]; rfl) rfl <|
False.elim hk) else have hk := hk.2 hc6
if hc7 : v4 = (7:Int32) then (have hk := hk.1 hc7
g_tableIn (tgt := 129) (off := 127) F dJ11_vectorizedHashCode_2 (by rw [hc7]; decide) (by rw [hc7]; decide) (by rw [hc7]; rfl) rfl <|
False.elim hk) else have hk := hk.2 hc7
if hc8 : v4 = (8:Int32) then (have hk := hk.1 hc8
g_tableIn (tgt := 90) (off := 88) F dJ11_vectorizedHashCode_2 (by rw [hc8]; decide) (by rw [hc8]; decide) (by rw [hc8]; rfl) rfl <|
False.elim hk) else have hk := hk.2 hc8
if hc9 : v4 = (9:Int32) then (have hk := hk.1 hc9
g_tableIn (tgt := 103) (off := 101) F dJ11_vectorizedHashCode_2 (by rw [hc9]; decide) (by rw [hc9]; decide) (by rw [hc9]; rfl) rfl <|
False.elim hk) else have hk := hk.2 hc9
if hc10 : v4 = (10:Int32) then (have hk := hk.1 hc10
g_tableIn (tgt := 116) (off := 114) F dJ11_vectorizedHashCode_2 (by rw [hc10]; decide) (by rw [hc10]; decide) (by rw [hc10]; rfl) rfl <|
False.elim hk) else have hk := hk.2 hc10
g_tableOut (tgt := 129) F dJ11_vectorizedHashCode_2 (sw_out_4_5_6_7_8_9_10 hc4 hc5 hc6 hc7 hc8 hc9 hc10) rfl <|
False.elim hk
abbrev rmJ14_hashCode : Room := { frames := 4, cells := 0, slots := 0, locals := 89 }
theorem m_J14_hashCode {S : Sx} (hS0 : Sok S) (v0 : Option Nat) (h : hH) (Q : Int32 → hH → Prop) (hk : f_J14_hashCode S.E v0 h Q) : Ct S yJ14_hashCode (ws_ yJ14_hashCode cJ14_hashCode 1 (some .int)) rmJ14_hashCode ([aR v0].map vv) h (qI Q) := by
  refine Ct.of hS0 (by decide +kernel) rfl (Nat.le_of_ble_eq_true rfl) fun x hxS F hnm => ?_
  subst hxS
  unfold f_J14_hashCode at hk
  exact g_aload_n F dJ14_hashCode_0 rfl 0 rfl <|
g_alen (t := 1) F dJ14_hashCode_1 rfl hk fun x1 hk =>
if hc0 : x1 = (0:Int32) then (have hk := hk.1 hc0
g_lookup (off := 26) (tgt := 28) F dJ14_hashCode_2 (by decide) (by rw [hc0]; decide) rfl <|
g_iconst F dJ14_hashCode_28 ic_0 <|
g_goto F dJ14_hashCode_29 (tgt := 51) rfl <|
g_iret F dJ14_hashCode_51 (Nat.le_refl 0) (Nat.le_refl 0) hk) else have hk := hk.2 hc0
if hc1 : x1 = (1:Int32) then (have hk := hk.1 hc1
g_lookup (off := 30) (tgt := 32) F dJ14_hashCode_2 (by decide) (by rw [hc1]; decide) rfl <|
g_aload_n F dJ14_hashCode_32 rfl 0 rfl <|
g_iconst F dJ14_hashCode_33 ic_0 <|
g_bald F dJ14_hashCode_34 hk fun x2 hk =>
g_sipush F dJ14_hashCode_35 sp_255 <|
g_iand F dJ14_hashCode_38 <|
g_goto F dJ14_hashCode_39 (tgt := 51) rfl <|
g_iret F dJ14_hashCode_51 (Nat.le_refl 0) (Nat.le_refl 0) hk) else have hk := hk.2 hc1
g_lookup (off := 40) (tgt := 42) F dJ14_hashCode_2 (by decide) (by show Op.lookupswitch.offset [(0, 26), (1, 30)] _ _ = _; rw [lv_osw hc0 (k := (0:Int32)) (by decide), lv_osw hc1 (k := (1:Int32)) (by decide)] <;> rfl) rfl <|
g_aload_n F dJ14_hashCode_42 rfl 0 rfl <|
g_iconst F dJ14_hashCode_43 ic_0 <|
g_aload_n F dJ14_hashCode_44 rfl 0 rfl <|
g_alen (t := 1) F dJ14_hashCode_45 rfl hk fun x3 hk =>
g_iconst F dJ14_hashCode_46 ic_0 <|
g_iconst F dJ14_hashCode_47 ic_4 <|
g_calli0 (g_S F dJ14_hashCode_48 q702 ms_J11_vectorizedHashCode (rm' := rmJ11_vectorizedHashCode) ⟨Nat.le_of_ble_eq_true rfl, Nat.le_of_ble_eq_true rfl⟩ ⟨Nat.le_refl 0, Nat.le_refl 0⟩ (As := [aR v0, aI (0:Int32), aI x3, aI (0:Int32), aI (4:Int32)]) (rest := []) rfl rfl (Nat.le_of_ble_eq_true rfl) (m_J11_vectorizedHashCode F.ok v0 (0:Int32) x3 (0:Int32) (4:Int32) h _ hk)) ⟨rfl, rfl⟩ fun x5 h4 hk =>
g_iret F dJ14_hashCode_51 (Nat.le_refl 0) (Nat.le_refl 0) hk
abbrev rmJ8_hashCode : Room := { frames := 5, cells := 0, slots := 0, locals := 109 }
theorem m_J8_hashCode {S : Sx} (hS0 : Sok S) (v0 : Nat) (h : hH) (Q : Int32 → hH → Prop) (hk : f_J8_hashCode S.E v0 h Q) : Ct S yJ8_hashCode (ws_ yJ8_hashCode cJ8_hashCode 2 (some .int)) rmJ8_hashCode ([aR (some v0)].map vv) h (qI Q) := by
  refine Ct.of hS0 (by decide +kernel) rfl (Nat.le_of_ble_eq_true rfl) fun x hxS F hnm => ?_
  subst hxS
  unfold f_J8_hashCode at hk
  exact g_aload_n F dJ8_hashCode_0 rfl 0 rfl <|
g_getI F dJ8_hashCode_1 fo_J8_2_java_lang_String in_J8 fl_java_lang_String_19_J8 hk fun x1 hk =>
g_istore_n F dJ8_hashCode_4 rfl (Nat.le_of_ble_eq_true rfl) rfl <|
g_iload_n F dJ8_hashCode_5 rfl 0 rfl <|
g_if_ne F dJ8_hashCode_6 (tgt := 58) rfl (fun hc => have hk := hk.2 hc
g_iload_n F dJ8_hashCode_58 rfl 0 rfl <|
g_iret F dJ8_hashCode_59 (Nat.le_refl 0) (Nat.le_refl 0) hk) (fun hc => have hk := hk.1 hc
g_aload_n F dJ8_hashCode_9 rfl 1 rfl <|
g_getI F dJ8_hashCode_10 fo_J8_3_java_lang_String in_J8 fl_java_lang_String_23_J8 hk fun x2 hk =>
g_if_ne F dJ8_hashCode_13 (tgt := 58) rfl (fun hc => have hk := hk.2 hc
g_iload_n F dJ8_hashCode_58 rfl 0 rfl <|
g_iret F dJ8_hashCode_59 (Nat.le_refl 0) (Nat.le_refl 0) hk) (fun hc => have hk := hk.1 hc
g_aload_n F dJ8_hashCode_16 rfl 1 rfl <|
g_calli0 (g_V F dJ8_hashCode_17 q695 mi_J8_isLatin1 ct_J8 (rm' := rmJ8_isLatin1) ⟨Nat.le_of_ble_eq_true rfl, Nat.le_of_ble_eq_true rfl⟩ ⟨Nat.le_refl 0, Nat.le_refl 0⟩ (As := []) (rest := []) rfl rfl (Nat.le_of_ble_eq_true rfl) hk (fun a5 hk => m_J8_isLatin1 F.ok a5 h _ hk)) ⟨rfl, rfl⟩ fun x4 h3 hk =>
g_if_eq F dJ8_hashCode_20 (tgt := 33) rfl (fun hc => have hk := hk.1 hc
False.elim hk) (fun hc => have hk := hk.2 hc
g_aload_n F dJ8_hashCode_23 rfl 1 rfl <|
g_getR F dJ8_hashCode_24 fo_J8_0_java_lang_String in_J8 fl_java_lang_String_9_J8 hk fun x6 hk =>
g_calli0 (g_S F dJ8_hashCode_27 q699 ms_J14_hashCode (rm' := rmJ14_hashCode) ⟨Nat.le_of_ble_eq_true rfl, Nat.le_of_ble_eq_true rfl⟩ ⟨Nat.le_refl 0, Nat.le_refl 0⟩ (As := [aR x6]) (rest := []) rfl rfl (Nat.le_of_ble_eq_true rfl) (m_J14_hashCode F.ok x6 h3 _ hk)) ⟨rfl, rfl⟩ fun x8 h7 hk =>
g_goto F dJ8_hashCode_30 (tgt := 40) rfl <|
g_istore_n F dJ8_hashCode_40 rfl (Nat.le_of_ble_eq_true rfl) rfl <|
g_iload_n F dJ8_hashCode_41 rfl 0 rfl <|
g_if_ne F dJ8_hashCode_42 (tgt := 53) rfl (fun hc => have hk := hk.2 hc
g_aload_n F dJ8_hashCode_53 rfl 1 rfl <|
g_iload_n F dJ8_hashCode_54 rfl 0 rfl <|
g_putV F dJ8_hashCode_55 fo_J8_2_java_lang_String ck_J8 fl_java_lang_String_19_J8 rfl (v := aI x8) (fit_i x8) hk fun h9 hk =>
g_iload_n F dJ8_hashCode_58 rfl 0 rfl <|
g_iret F dJ8_hashCode_59 (Nat.le_refl 0) (Nat.le_refl 0) hk) (fun hc => have hk := hk.1 hc
g_aload_n F dJ8_hashCode_45 rfl 1 rfl <|
g_iconst F dJ8_hashCode_46 ic_1 <|
g_putV F dJ8_hashCode_47 fo_J8_3_java_lang_String ck_J8 fl_java_lang_String_23_J8 rfl (v := aI (1:Int32)) ⟨rfl, rfl⟩ hk fun h10 hk =>
g_goto F dJ8_hashCode_50 (tgt := 58) rfl <|
g_iload_n F dJ8_hashCode_58 rfl 0 rfl <|
g_iret F dJ8_hashCode_59 (Nat.le_refl 0) (Nat.le_refl 0) hk))))
abbrev rmJ14_equals : Room := { frames := 2, cells := 0, slots := 0, locals := 40 }
theorem s_J14_equals_l9 {x : Cx} (F : Fx x cJ14_equals "java/lang/StringLatin1" 3 (some .boolean) rmJ14_equals) {Q : Int32 → hH → Prop} {K24 : hH → Prop} {K32 : hH → Prop} (n : Nat) (l0 : Option Nat) (l1 : Option Nat) (l2 : Int32) (h : hH) (hk : f_J14_equals_l9 x.S.E Q K24 K32 n l0 l1 l2 h) (hK24 : ∀ (h : hH), K24 h → G x (xQ x rmJ14_equals (qI Q)) 24 [] [] h 0 0) (hK32 : ∀ (h : hH), K32 h → G x (xQ x rmJ14_equals (qI Q)) 32 [] [] h 0 0) : G x (xQ x rmJ14_equals (qI Q)) 9 [(0, aR l0), (1, aR l1), (2, aI l2)] [] h 0 0 := by
  induction n generalizing l0 l1 l2 h with
  | zero => exact False.elim hk
  | succ n ih =>
    unfold f_J14_equals_l9 at hk
    exact g_iload_n F dJ14_equals_9 rfl 2 rfl <|
g_aload_n F dJ14_equals_10 rfl 0 rfl <|
g_alen (t := 1) F dJ14_equals_11 rfl hk fun x1 hk =>
g_icmp_ge F dJ14_equals_12 (tgt := 32) rfl (fun hc => have hk := hk.1 hc
G.fewer [] rfl <| hK32 h hk) (fun hc => have hk := hk.2 hc
g_aload_n F dJ14_equals_15 rfl 0 rfl <|
g_iload_n F dJ14_equals_16 rfl 2 rfl <|
g_bald F dJ14_equals_17 hk fun x2 hk =>
g_aload_n F dJ14_equals_18 rfl 1 rfl <|
g_iload_n F dJ14_equals_19 rfl 2 rfl <|
g_bald F dJ14_equals_20 hk fun x3 hk =>
g_icmp_eq F dJ14_equals_21 (tgt := 26) rfl (fun hc => have hk := hk.1 hc
g_iinc (v := (l2 + (1:Int32))) F dJ14_equals_26 (j := 2) rfl (iinc_1 l2) (Nat.le_of_ble_eq_true rfl) rfl <|
g_goto F dJ14_equals_29 (tgt := 9) rfl <|
G.fewer [1, 2, 0] rfl <| ih l0 l1 (l2 + (1:Int32)) h hk) (fun hc => have hk := hk.2 hc
G.fewer [] rfl <| hK24 h hk))
theorem m_J14_equals {S : Sx} (hS0 : Sok S) (v0 : Option Nat) (v1 : Option Nat) (h : hH) (Q : Int32 → hH → Prop) (hk : f_J14_equals S.E v0 v1 h Q) : Ct S yJ14_equals (ws_ yJ14_equals cJ14_equals 3 (some .boolean)) rmJ14_equals ([aR v0, aR v1].map vv) h (qI Q) := by
  refine Ct.of hS0 (by decide +kernel) rfl (Nat.le_of_ble_eq_true rfl) fun x hxS F hnm => ?_
  subst hxS
  unfold f_J14_equals at hk
  exact g_aload_n F dJ14_equals_0 rfl 0 rfl <|
g_alen (t := 1) F dJ14_equals_1 rfl hk fun x4 hk =>
g_aload_n F dJ14_equals_2 rfl 1 rfl <|
g_alen (t := 1) F dJ14_equals_3 rfl hk fun x5 hk =>
g_icmp_ne F dJ14_equals_4 (tgt := 34) rfl (fun hc => have hk := hk.2 hc
g_iconst F dJ14_equals_34 ic_0 <|
g_zret F dJ14_equals_35 (Nat.le_refl 0) (Nat.le_refl 0) rfl hk) (fun hc => have hk := hk.1 hc
g_iconst F dJ14_equals_7 ic_0 <|
g_istore_n F dJ14_equals_8 rfl (Nat.le_of_ble_eq_true rfl) rfl <|
G.fewer [1, 2, 0] rfl <| s_J14_equals_l9 F 1000000 v0 v1 (0:Int32) h hk ((fun h hk => g_iconst F dJ14_equals_24 ic_0 <|
g_zret F dJ14_equals_25 (Nat.le_refl 0) (Nat.le_refl 0) rfl hk)) ((fun h hk => g_iconst F dJ14_equals_32 ic_1 <|
g_zret F dJ14_equals_33 (Nat.le_refl 0) (Nat.le_refl 0) rfl hk)))
abbrev rmJ8_equals : Room := { frames := 3, cells := 0, slots := 0, locals := 62 }
theorem s_J8_equals_j36 {x : Cx} (F : Fx x cJ8_equals "java/lang/String" 3 (some .boolean) rmJ8_equals) {v0 : Nat} {Q : Int32 → hH → Prop} (l2 : Option Nat) (h : hH) (hk : f_J8_equals_j36 x.S.E v0 Q l2 h) : G x (xQ x rmJ8_equals (qI Q)) 36 [(0, aR (some v0)), (2, aR l2)] [] h 0 0 := by
  unfold f_J8_equals_j36 at hk
  exact g_aload_n F dJ8_equals_36 rfl 0 rfl <|
g_getR F dJ8_equals_37 fo_J8_0_java_lang_String in_J8 fl_java_lang_String_9_J8 hk fun x1 hk =>
g_aload_n F dJ8_equals_40 rfl 1 rfl <|
g_getR F dJ8_equals_41 fo_J8_0_java_lang_String in_J8 fl_java_lang_String_9_J8 hk fun x2 hk =>
g_calli0 (g_S F dJ8_equals_44 q750 ms_J14_equals (rm' := rmJ14_equals) ⟨Nat.le_of_ble_eq_true rfl, Nat.le_of_ble_eq_true rfl⟩ ⟨Nat.le_refl 0, Nat.le_refl 0⟩ (As := [aR x1, aR x2]) (rest := []) rfl rfl (Nat.le_of_ble_eq_true rfl) (m_J14_equals F.ok x1 x2 h _ hk)) ⟨rfl, rfl⟩ fun x4 h3 hk =>
g_if_eq F dJ8_equals_47 (tgt := 54) rfl (fun hc => have hk := hk.1 hc
g_iconst F dJ8_equals_54 ic_0 <|
g_zret F dJ8_equals_55 (Nat.le_refl 0) (Nat.le_refl 0) rfl hk) (fun hc => have hk := hk.2 hc
g_iconst F dJ8_equals_50 ic_1 <|
g_goto F dJ8_equals_51 (tgt := 55) rfl <|
g_zret F dJ8_equals_55 (Nat.le_refl 0) (Nat.le_refl 0) rfl hk)
theorem m_J8_equals {S : Sx} (hS0 : Sok S) (v0 : Nat) (v1 : Option Nat) (h : hH) (Q : Int32 → hH → Prop) (hk : f_J8_equals S.E v0 v1 h Q) : Ct S yJ8_equals (ws_ yJ8_equals cJ8_equals 3 (some .boolean)) rmJ8_equals ([aR (some v0), aR v1].map vv) h (qI Q) := by
  refine Ct.of hS0 (by decide +kernel) rfl (Nat.le_of_ble_eq_true rfl) fun x hxS F hnm => ?_
  subst hxS
  unfold f_J8_equals at hk
  exact g_aload_n F dJ8_equals_0 rfl 0 rfl <|
g_aload_n F dJ8_equals_1 rfl 1 rfl <|
g_acmp_ne F dJ8_equals_2 (tgt := 7) rfl (fun hc => have hk := hk.2 hc
g_aload_n F dJ8_equals_7 rfl 1 rfl <|
g_instS F dJ8_equals_8 q749 ct_J8 hk fun x5 hk =>
g_if_eq F dJ8_equals_11 (tgt := 54) rfl (fun hc => have hk := hk.1 hc
g_iconst F dJ8_equals_54 ic_0 <|
g_zret F dJ8_equals_55 (Nat.le_refl 0) (Nat.le_refl 0) rfl hk) (fun hc => have hk := hk.2 hc
g_aload_n F dJ8_equals_14 rfl 1 rfl <|
g_castS F dJ8_equals_15 q749 ct_J8 hk fun hk =>
g_astore_n F dJ8_equals_18 rfl (Nat.le_of_ble_eq_true rfl) rfl <|
g_gets F dJ8_equals_19 (szi_COMPACT_STRINGS _) zl_java_lang_String_38 <|
g_if_eq F dJ8_equals_22 (tgt := 36) rfl (fun hc => have hk := hk.1 hc
G.fewer [1, 0] rfl <| s_J8_equals_j36 F v1 h hk ) (fun hc => have hk := hk.2 hc
g_aload_n F dJ8_equals_25 rfl 1 rfl <|
g_getI F dJ8_equals_26 fo_J8_1_java_lang_String in_J8 fl_java_lang_String_15_J8 hk fun x6 hk =>
g_aload_n F dJ8_equals_29 rfl 0 rfl <|
g_getI F dJ8_equals_30 fo_J8_1_java_lang_String in_J8 fl_java_lang_String_15_J8 hk fun x7 hk =>
g_icmp_ne F dJ8_equals_33 (tgt := 54) rfl (fun hc => have hk := hk.2 hc
g_iconst F dJ8_equals_54 ic_0 <|
g_zret F dJ8_equals_55 (Nat.le_refl 0) (Nat.le_refl 0) rfl hk) (fun hc => have hk := hk.1 hc
G.fewer [1, 0] rfl <| s_J8_equals_j36 F v1 h hk )))) (fun hc => have hk := hk.1 hc
g_iconst F dJ8_equals_5 ic_1 <|
g_zret F dJ8_equals_6 (Nat.le_refl 0) (Nat.le_refl 0) rfl hk)
abbrev rmJ8_coder : Room := { frames := 2, cells := 0, slots := 0, locals := 40 }
theorem m_J8_coder {S : Sx} (hS0 : Sok S) (v0 : Nat) (h : hH) (Q : Int32 → hH → Prop) (hk : f_J8_coder S.E v0 h Q) : Ct S yJ8_coder (ws_ yJ8_coder cJ8_coder 1 (some .byte)) rmJ8_coder ([aR (some v0)].map vv) h (qI Q) := by
  refine Ct.of hS0 (by decide +kernel) rfl (Nat.le_of_ble_eq_true rfl) fun x hxS F hnm => ?_
  subst hxS
  unfold f_J8_coder at hk
  exact g_gets F dJ8_coder_0 (szi_COMPACT_STRINGS _) zl_java_lang_String_38 <|
g_if_eq F dJ8_coder_3 (tgt := 13) rfl (fun hc => have hk := hk.1 hc
g_iconst F dJ8_coder_13 ic_1 <|
g_bret F dJ8_coder_14 (Nat.le_refl 0) (Nat.le_refl 0) rfl hk) (fun hc => have hk := hk.2 hc
g_aload_n F dJ8_coder_6 rfl 0 rfl <|
g_getI F dJ8_coder_7 fo_J8_1_java_lang_String in_J8 fl_java_lang_String_15_J8 hk fun x1 hk =>
g_goto F dJ8_coder_10 (tgt := 14) rfl <|
g_bret F dJ8_coder_14 (Nat.le_refl 0) (Nat.le_refl 0) hk.1 hk.2)
abbrev rmJ8_length : Room := { frames := 3, cells := 0, slots := 0, locals := 60 }
theorem m_J8_length {S : Sx} (hS0 : Sok S) (v0 : Nat) (h : hH) (Q : Int32 → hH → Prop) (hk : f_J8_length S.E v0 h Q) : Ct S yJ8_length (ws_ yJ8_length cJ8_length 1 (some .int)) rmJ8_length ([aR (some v0)].map vv) h (qI Q) := by
  refine Ct.of hS0 (by decide +kernel) rfl (Nat.le_of_ble_eq_true rfl) fun x hxS F hnm => ?_
  subst hxS
  unfold f_J8_length at hk
  exact g_aload_n F dJ8_length_0 rfl 0 rfl <|
g_getR F dJ8_length_1 fo_J8_0_java_lang_String in_J8 fl_java_lang_String_9_J8 hk fun x1 hk =>
g_alen (t := 1) F dJ8_length_4 rfl hk fun x2 hk =>
g_aload_n F dJ8_length_5 rfl 0 rfl <|
g_calli0 (g_V F dJ8_length_6 q850 mi_J8_coder ct_J8 (rm' := rmJ8_coder) ⟨Nat.le_of_ble_eq_true rfl, Nat.le_of_ble_eq_true rfl⟩ ⟨Nat.le_refl 0, Nat.le_refl 0⟩ (As := []) (rest := [aI x2]) rfl rfl (Nat.le_of_ble_eq_true rfl) hk (fun a5 hk => m_J8_coder F.ok a5 h _ hk)) ⟨rfl, rfl⟩ fun x4 h3 hk =>
g_ishr F dJ8_length_9 <|
g_iret F dJ8_length_10 (Nat.le_refl 0) (Nat.le_refl 0) hk
abbrev rmJ14_charAt : Room := { frames := 4, cells := 0, slots := 0, locals := 83 }
theorem m_J14_charAt {S : Sx} (hS0 : Sok S) (v0 : Option Nat) (v1 : Int32) (h : hH) (Q : Int32 → hH → Prop) (hk : f_J14_charAt S.E v0 v1 h Q) : Ct S yJ14_charAt (ws_ yJ14_charAt cJ14_charAt 2 (some .char)) rmJ14_charAt ([aR v0, aI v1].map vv) h (qI Q) := by
  refine Ct.of hS0 (by decide +kernel) rfl (Nat.le_of_ble_eq_true rfl) fun x hxS F hnm => ?_
  subst hxS
  unfold f_J14_charAt at hk
  exact g_iload_n F dJ14_charAt_0 rfl 1 rfl <|
g_aload_n F dJ14_charAt_1 rfl 0 rfl <|
g_alen (t := 1) F dJ14_charAt_2 rfl hk fun x1 hk =>
g_callv0 (g_S F dJ14_charAt_3 q861 ms_J8_checkIndex (rm' := rmJ8_checkIndex) ⟨Nat.le_of_ble_eq_true rfl, Nat.le_of_ble_eq_true rfl⟩ ⟨Nat.le_refl 0, Nat.le_refl 0⟩ (As := [aI v1, aI x1]) (rest := []) rfl rfl (Nat.le_of_ble_eq_true rfl) (m_J8_checkIndex F.ok v1 x1 h _ hk)) ⟨rfl, rfl⟩ fun h2 hk =>
g_aload_n F dJ14_charAt_6 rfl 0 rfl <|
g_iload_n F dJ14_charAt_7 rfl 1 rfl <|
g_bald F dJ14_charAt_8 hk fun x3 hk =>
g_sipush F dJ14_charAt_9 sp_255 <|
g_iand F dJ14_charAt_12 <|
g_i2c F dJ14_charAt_13 <|
g_cret F dJ14_charAt_14 (Nat.le_refl 0) (Nat.le_refl 0) hk.1 hk.2
abbrev rmJ8_charAt : Room := { frames := 5, cells := 0, slots := 0, locals := 104 }
theorem m_J8_charAt {S : Sx} (hS0 : Sok S) (v0 : Nat) (v1 : Int32) (h : hH) (Q : Int32 → hH → Prop) (hk : f_J8_charAt S.E v0 v1 h Q) : Ct S yJ8_charAt (ws_ yJ8_charAt cJ8_charAt 2 (some .char)) rmJ8_charAt ([aR (some v0), aI v1].map vv) h (qI Q) := by
  refine Ct.of hS0 (by decide +kernel) rfl (Nat.le_of_ble_eq_true rfl) fun x hxS F hnm => ?_
  subst hxS
  unfold f_J8_charAt at hk
  exact g_aload_n F dJ8_charAt_0 rfl 0 rfl <|
g_calli0 (g_V F dJ8_charAt_1 q695 mi_J8_isLatin1 ct_J8 (rm' := rmJ8_isLatin1) ⟨Nat.le_of_ble_eq_true rfl, Nat.le_of_ble_eq_true rfl⟩ ⟨Nat.le_refl 0, Nat.le_refl 0⟩ (As := []) (rest := []) rfl rfl (Nat.le_of_ble_eq_true rfl) hk (fun a3 hk => m_J8_isLatin1 F.ok a3 h _ hk)) ⟨rfl, rfl⟩ fun x2 h1 hk =>
g_if_eq F dJ8_charAt_4 (tgt := 16) rfl (fun hc => have hk := hk.1 hc
g_aload_n F dJ8_charAt_16 rfl 0 rfl <|
g_getR F dJ8_charAt_17 fo_J8_0_java_lang_String in_J8 fl_java_lang_String_9_J8 hk fun x4 hk =>
g_iload_n F dJ8_charAt_20 rfl 1 rfl <|
False.elim hk) (fun hc => have hk := hk.2 hc
g_aload_n F dJ8_charAt_7 rfl 0 rfl <|
g_getR F dJ8_charAt_8 fo_J8_0_java_lang_String in_J8 fl_java_lang_String_9_J8 hk fun x5 hk =>
g_iload_n F dJ8_charAt_11 rfl 1 rfl <|
g_calli0 (g_S F dJ8_charAt_12 q858 ms_J14_charAt (rm' := rmJ14_charAt) ⟨Nat.le_of_ble_eq_true rfl, Nat.le_of_ble_eq_true rfl⟩ ⟨Nat.le_refl 0, Nat.le_refl 0⟩ (As := [aR x5, aI v1]) (rest := []) rfl rfl (Nat.le_of_ble_eq_true rfl) (m_J14_charAt F.ok x5 v1 h1 _ hk)) ⟨rfl, rfl⟩ fun x7 h6 hk =>
g_cret F dJ8_charAt_15 (Nat.le_refl 0) (Nat.le_refl 0) hk.1 hk.2)
abbrev rmJ8_checkOffset : Room := { frames := 2, cells := 0, slots := 0, locals := 40 }
theorem m_J8_checkOffset {S : Sx} (hS0 : Sok S) (v0 : Int32) (v1 : Int32) (h : hH) (Q : hH → Prop) (hk : f_J8_checkOffset S.E v0 v1 h Q) : Ct S yJ8_checkOffset (ws_ yJ8_checkOffset cJ8_checkOffset 2 none) rmJ8_checkOffset ([aI v0, aI v1].map vv) h (qV Q) := by
  refine Ct.of hS0 (by decide +kernel) rfl (Nat.le_of_ble_eq_true rfl) fun x hxS F hnm => ?_
  subst hxS
  unfold f_J8_checkOffset at hk
  exact g_iload_n F dJ8_checkOffset_0 rfl 0 rfl <|
g_iload_n F dJ8_checkOffset_1 rfl 1 rfl <|
g_iload_n F dJ8_checkOffset_2 rfl 1 rfl <|
g_getsU F dJ8_checkOffset_3 q588 hk fun x1 hk =>
False.elim hk
abbrev rmJ14_canEncode : Room := { frames := 2, cells := 0, slots := 0, locals := 40 }
theorem m_J14_canEncode {S : Sx} (hS0 : Sok S) (v0 : Int32) (h : hH) (Q : Int32 → hH → Prop) (hk : f_J14_canEncode S.E v0 h Q) : Ct S yJ14_canEncode (ws_ yJ14_canEncode cJ14_canEncode 1 (some .boolean)) rmJ14_canEncode ([aI v0].map vv) h (qI Q) := by
  refine Ct.of hS0 (by decide +kernel) rfl (Nat.le_of_ble_eq_true rfl) fun x hxS F hnm => ?_
  subst hxS
  unfold f_J14_canEncode at hk
  exact g_iload_n F dJ14_canEncode_0 rfl 0 rfl <|
g_sipush F dJ14_canEncode_1 sp_255 <|
g_icmp_gt F dJ14_canEncode_4 (tgt := 11) rfl (fun hc => have hk := hk.1 hc
g_iconst F dJ14_canEncode_11 ic_0 <|
g_zret F dJ14_canEncode_12 (Nat.le_refl 0) (Nat.le_refl 0) rfl hk) (fun hc => have hk := hk.2 hc
g_iconst F dJ14_canEncode_7 ic_1 <|
g_goto F dJ14_canEncode_8 (tgt := 12) rfl <|
g_zret F dJ14_canEncode_12 (Nat.le_refl 0) (Nat.le_refl 0) rfl hk)
abbrev rmJ20_stringSize : Room := { frames := 2, cells := 0, slots := 0, locals := 40 }
theorem s_J20_stringSize_l16 {x : Cx} (F : Fx x cJ20_stringSize "java/lang/Integer" 4 (some .int) rmJ20_stringSize) {Q : Int32 → hH → Prop} {K27 : Int32 → Int32 → hH → Prop} {K42 : Int32 → hH → Prop} (n : Nat) (l0 : Int32) (l1 : Int32) (l2 : Int32) (l3 : Int32) (h : hH) (hk : f_J20_stringSize_l16 x.S.E Q K27 K42 n l0 l1 l2 l3 h) (hK27 : ∀ (l1 : Int32) (l3 : Int32) (h : hH), K27 l1 l3 h → G x (xQ x rmJ20_stringSize (qI Q)) 27 [(1, aI l1), (3, aI l3)] [] h 0 0) (hK42 : ∀ (l1 : Int32) (h : hH), K42 l1 h → G x (xQ x rmJ20_stringSize (qI Q)) 42 [(1, aI l1)] [] h 0 0) : G x (xQ x rmJ20_stringSize (qI Q)) 16 [(0, aI l0), (1, aI l1), (2, aI l2), (3, aI l3)] [] h 0 0 := by
  induction n generalizing l0 l1 l2 l3 h with
  | zero => exact False.elim hk
  | succ n ih =>
    unfold f_J20_stringSize_l16 at hk
    exact g_iload_n F dJ20_stringSize_16 rfl 3 rfl <|
g_bipush F dJ20_stringSize_17 bp_10 <|
g_icmp_ge F dJ20_stringSize_19 (tgt := 42) rfl (fun hc => have hk := hk.1 hc
G.fewer [1] rfl <| hK42 l1 h hk) (fun hc => have hk := hk.2 hc
g_iload_n F dJ20_stringSize_22 rfl 0 rfl <|
g_iload_n F dJ20_stringSize_23 rfl 2 rfl <|
g_icmp_le F dJ20_stringSize_24 (tgt := 31) rfl (fun hc => have hk := hk.1 hc
g_bipush F dJ20_stringSize_31 bp_10 <|
g_iload_n F dJ20_stringSize_33 rfl 2 rfl <|
g_imul F dJ20_stringSize_34 <|
g_istore_n F dJ20_stringSize_35 rfl (Nat.le_of_ble_eq_true rfl) rfl <|
g_iinc (v := (l3 + (1:Int32))) F dJ20_stringSize_36 (j := 3) rfl (iinc_1 l3) (Nat.le_of_ble_eq_true rfl) rfl <|
g_goto F dJ20_stringSize_39 (tgt := 16) rfl <|
G.fewer [2, 3, 1, 0] rfl <| ih l0 l1 ((10:Int32) * l2) (l3 + (1:Int32)) h hk) (fun hc => have hk := hk.2 hc
G.fewer [1, 3] rfl <| hK27 l1 l3 h hk))
theorem m_J20_stringSize {S : Sx} (hS0 : Sok S) (v0 : Int32) (h : hH) (Q : Int32 → hH → Prop) (hk : f_J20_stringSize S.E v0 h Q) : Ct S yJ20_stringSize (ws_ yJ20_stringSize cJ20_stringSize 4 (some .int)) rmJ20_stringSize ([aI v0].map vv) h (qI Q) := by
  refine Ct.of hS0 (by decide +kernel) rfl (Nat.le_of_ble_eq_true rfl) fun x hxS F hnm => ?_
  subst hxS
  unfold f_J20_stringSize at hk
  exact g_iconst F dJ20_stringSize_0 ic_1 <|
g_istore_n F dJ20_stringSize_1 rfl (Nat.le_of_ble_eq_true rfl) rfl <|
g_iload_n F dJ20_stringSize_2 rfl 1 rfl <|
g_if_lt F dJ20_stringSize_3 (tgt := 11) rfl (fun hc => have hk := hk.1 hc
g_bipush F dJ20_stringSize_11 bp_m10 <|
g_istore_n F dJ20_stringSize_13 rfl (Nat.le_of_ble_eq_true rfl) rfl <|
g_iconst F dJ20_stringSize_14 ic_1 <|
g_istore_n F dJ20_stringSize_15 rfl (Nat.le_of_ble_eq_true rfl) rfl <|
G.fewer [3, 2, 1, 0] rfl <| s_J20_stringSize_l16 F 1000000 v0 (1:Int32) (-10:Int32) (1:Int32) h hk ((fun l1 l3 h hk => g_iload_n F dJ20_stringSize_27 rfl 1 rfl <|
g_iload_n F dJ20_stringSize_28 rfl 0 rfl <|
g_iadd F dJ20_stringSize_29 <|
g_iret F dJ20_stringSize_30 (Nat.le_refl 0) (Nat.le_refl 0) hk)) ((fun l1 h hk => g_bipush F dJ20_stringSize_42 bp_10 <|
g_iload_n F dJ20_stringSize_44 rfl 0 rfl <|
g_iadd F dJ20_stringSize_45 <|
g_iret F dJ20_stringSize_46 (Nat.le_refl 0) (Nat.le_refl 0) hk))) (fun hc => have hk := hk.2 hc
g_iconst F dJ20_stringSize_6 ic_0 <|
g_istore_n F dJ20_stringSize_7 rfl (Nat.le_of_ble_eq_true rfl) rfl <|
g_iload_n F dJ20_stringSize_8 rfl 1 rfl <|
g_ineg F dJ20_stringSize_9 <|
g_istore_n F dJ20_stringSize_10 rfl (Nat.le_of_ble_eq_true rfl) rfl <|
g_bipush F dJ20_stringSize_11 bp_m10 <|
g_istore_n F dJ20_stringSize_13 rfl (Nat.le_of_ble_eq_true rfl) rfl <|
g_iconst F dJ20_stringSize_14 ic_1 <|
g_istore_n F dJ20_stringSize_15 rfl (Nat.le_of_ble_eq_true rfl) rfl <|
G.fewer [2, 3, 1, 0] rfl <| s_J20_stringSize_l16 F 1000000 (-v0) (0:Int32) (-10:Int32) (1:Int32) h hk ((fun l1 l3 h hk => g_iload_n F dJ20_stringSize_27 rfl 1 rfl <|
g_iload_n F dJ20_stringSize_28 rfl 0 rfl <|
g_iadd F dJ20_stringSize_29 <|
g_iret F dJ20_stringSize_30 (Nat.le_refl 0) (Nat.le_refl 0) hk)) ((fun l1 h hk => g_bipush F dJ20_stringSize_42 bp_10 <|
g_iload_n F dJ20_stringSize_44 rfl 0 rfl <|
g_iadd F dJ20_stringSize_45 <|
g_iret F dJ20_stringSize_46 (Nat.le_refl 0) (Nat.le_refl 0) hk)))
abbrev rmJ20_getChars : Room := { frames := 2, cells := 0, slots := 0, locals := 40 }
theorem s_J20_getChars_l22 {x : Cx} (F : Fx x cJ20_getChars "java/lang/Integer" 7 (some .int) rmJ20_getChars) {Q : Int32 → hH → Prop} {K72 : Int32 → Option Nat → Int32 → Int32 → hH → Prop} (n : Nat) (l0 : Int32) (l2 : Option Nat) (l5 : Int32) (l6 : Int32) (h : hH) (hk : f_J20_getChars_l22 x.S.E Q K72 n l0 l2 l5 l6 h) (hK72 : ∀ (l0 : Int32) (l2 : Option Nat) (l5 : Int32) (l6 : Int32) (h : hH), K72 l0 l2 l5 l6 h → G x (xQ x rmJ20_getChars (qI Q)) 72 [(0, aI l0), (2, aR l2), (5, aI l5), (6, aI l6)] [] h 0 0) : G x (xQ x rmJ20_getChars (qI Q)) 22 [(0, aI l0), (2, aR l2), (5, aI l5), (6, aI l6)] [] h 0 0 := by
  induction n generalizing l0 l2 l5 l6 h with
  | zero => exact False.elim hk
  | succ n ih =>
    unfold f_J20_getChars_l22 at hk
    exact g_iload_n F dJ20_getChars_22 rfl 0 rfl <|
g_bipush F dJ20_getChars_23 bp_m100 <|
g_icmp_gt F dJ20_getChars_25 (tgt := 72) rfl (fun hc => have hk := hk.1 hc
hK72 l0 l2 l5 l6 h hk) (fun hc => have hk := hk.2 hc
g_iload_n F dJ20_getChars_28 rfl 0 rfl <|
g_bipush F dJ20_getChars_29 bp_100 <|
g_idiv F dJ20_getChars_31 nz_100_Int32 <|
g_istore_n F dJ20_getChars_32 rfl (Nat.le_of_ble_eq_true rfl) rfl <|
g_iload_n F dJ20_getChars_33 rfl 0 rfl <|
g_bipush F dJ20_getChars_34 bp_100 <|
g_imul F dJ20_getChars_36 <|
g_iload_n F dJ20_getChars_37 rfl 1 rfl <|
g_isub F dJ20_getChars_38 <|
g_istore F dJ20_getChars_39 (Nat.le_of_ble_eq_true rfl) rfl <|
g_iload_n F dJ20_getChars_41 rfl 1 rfl <|
g_istore_n F dJ20_getChars_42 rfl (Nat.le_of_ble_eq_true rfl) rfl <|
g_aload_n F dJ20_getChars_43 rfl 3 rfl <|
g_iinc (v := (l5 + (-1:Int32))) F dJ20_getChars_44 (j := 4) rfl (iinc_m1 l5) (Nat.le_of_ble_eq_true rfl) rfl <|
g_iload F dJ20_getChars_47 0 rfl <|
g_gets F dJ20_getChars_49 (sz_7 _) zl_java_lang_Integer_83 <|
g_iload F dJ20_getChars_52 2 rfl <|
g_bald F dJ20_getChars_54 hk fun x1 hk =>
g_bast F dJ20_getChars_55 hk fun h2 hk =>
g_aload_n F dJ20_getChars_56 rfl 4 rfl <|
g_iinc (v := ((l5 + (-1:Int32)) + (-1:Int32))) F dJ20_getChars_57 (j := 0) rfl (iinc_m1 (l5 + (-1:Int32))) (Nat.le_of_ble_eq_true rfl) rfl <|
g_iload F dJ20_getChars_60 0 rfl <|
g_gets F dJ20_getChars_62 (sz_8 _) zl_java_lang_Integer_87 <|
g_iload F dJ20_getChars_65 2 rfl <|
g_bald F dJ20_getChars_67 hk fun x3 hk =>
g_bast F dJ20_getChars_68 hk fun h4 hk =>
g_goto F dJ20_getChars_69 (tgt := 22) rfl <|
G.fewer [1, 4, 0, 5] rfl <| ih (l0 / (100:Int32)) l2 ((l5 + (-1:Int32)) + (-1:Int32)) l6 h4 hk)
theorem s_J20_getChars_j104 {x : Cx} (F : Fx x cJ20_getChars "java/lang/Integer" 7 (some .int) rmJ20_getChars) {Q : Int32 → hH → Prop} (l2 : Option Nat) (l5 : Int32) (l6 : Int32) (h : hH) (hk : f_J20_getChars_j104 x.S.E Q l2 l5 l6 h) : G x (xQ x rmJ20_getChars (qI Q)) 104 [(2, aR l2), (5, aI l5), (6, aI l6)] [] h 0 0 := by
  unfold f_J20_getChars_j104 at hk
  exact g_iload F dJ20_getChars_104 2 rfl <|
g_if_eq F dJ20_getChars_106 (tgt := 118) rfl (fun hc => have hk := hk.1 hc
g_iload F dJ20_getChars_118 1 rfl <|
g_iret F dJ20_getChars_120 (Nat.le_refl 0) (Nat.le_refl 0) hk) (fun hc => have hk := hk.2 hc
g_aload_n F dJ20_getChars_109 rfl 0 rfl <|
g_iinc (v := (l5 + (-1:Int32))) F dJ20_getChars_110 (j := 1) rfl (iinc_m1 l5) (Nat.le_of_ble_eq_true rfl) rfl <|
g_iload F dJ20_getChars_113 0 rfl <|
g_bipush F dJ20_getChars_115 bp_45 <|
g_bast F dJ20_getChars_117 hk fun h5 hk =>
g_iload F dJ20_getChars_118 0 rfl <|
g_iret F dJ20_getChars_120 (Nat.le_refl 0) (Nat.le_refl 0) hk)
theorem s_J20_getChars_j12 {x : Cx} (F : Fx x cJ20_getChars "java/lang/Integer" 7 (some .int) rmJ20_getChars) {Q : Int32 → hH → Prop} (s0 : Int32) (l0 : Int32) (l2 : Option Nat) (l5 : Int32) (h : hH) (hk : f_J20_getChars_j12 x.S.E Q s0 l0 l2 l5 h) : G x (xQ x rmJ20_getChars (qI Q)) 12 [(0, aI l0), (2, aR l2), (5, aI l5)] [aI s0] h 0 0 := by
  unfold f_J20_getChars_j12 at hk
  exact g_istore F dJ20_getChars_12 (Nat.le_of_ble_eq_true rfl) rfl <|
g_iload F dJ20_getChars_14 0 rfl <|
g_if_ne F dJ20_getChars_16 (tgt := 22) rfl (fun hc => have hk := hk.2 hc
G.fewer [1, 2, 3, 0] rfl <| s_J20_getChars_l22 F 1000000 l0 l2 l5 s0 h hk ((fun l0 l2 l5 l6 h hk => g_aload_n F dJ20_getChars_72 rfl 1 rfl <|
g_iinc (v := (l5 + (-1:Int32))) F dJ20_getChars_73 (j := 2) rfl (iinc_m1 l5) (Nat.le_of_ble_eq_true rfl) rfl <|
g_iload F dJ20_getChars_76 0 rfl <|
g_gets F dJ20_getChars_78 (sz_7 _) zl_java_lang_Integer_83 <|
g_iload_n F dJ20_getChars_81 rfl 1 rfl <|
g_ineg F dJ20_getChars_82 <|
g_bald F dJ20_getChars_83 hk fun x6 hk =>
g_bast F dJ20_getChars_84 hk fun h7 hk =>
g_iload_n F dJ20_getChars_85 rfl 1 rfl <|
g_bipush F dJ20_getChars_86 bp_m9 <|
g_icmp_ge F dJ20_getChars_88 (tgt := 104) rfl (fun hc => have hk := hk.1 hc
G.fewer [2, 0, 3] rfl <| s_J20_getChars_j104 F l2 (l5 + (-1:Int32)) l6 h7 hk ) (fun hc => have hk := hk.2 hc
g_aload_n F dJ20_getChars_91 rfl 2 rfl <|
g_iinc (v := ((l5 + (-1:Int32)) + (-1:Int32))) F dJ20_getChars_92 (j := 0) rfl (iinc_m1 (l5 + (-1:Int32))) (Nat.le_of_ble_eq_true rfl) rfl <|
g_iload F dJ20_getChars_95 0 rfl <|
g_gets F dJ20_getChars_97 (sz_8 _) zl_java_lang_Integer_87 <|
g_iload_n F dJ20_getChars_100 rfl 1 rfl <|
g_ineg F dJ20_getChars_101 <|
g_bald F dJ20_getChars_102 hk fun x8 hk =>
g_bast F dJ20_getChars_103 hk fun h9 hk =>
G.fewer [2, 0, 3] rfl <| s_J20_getChars_j104 F l2 ((l5 + (-1:Int32)) + (-1:Int32)) l6 h9 hk )))) (fun hc => have hk := hk.1 hc
g_iload_n F dJ20_getChars_19 rfl 1 rfl <|
g_ineg F dJ20_getChars_20 <|
g_istore_n F dJ20_getChars_21 rfl (Nat.le_of_ble_eq_true rfl) rfl <|
G.fewer [0, 2, 3, 1] rfl <| s_J20_getChars_l22 F 1000000 (-l0) l2 l5 s0 h hk ((fun l0 l2 l5 l6 h hk => g_aload_n F dJ20_getChars_72 rfl 1 rfl <|
g_iinc (v := (l5 + (-1:Int32))) F dJ20_getChars_73 (j := 2) rfl (iinc_m1 l5) (Nat.le_of_ble_eq_true rfl) rfl <|
g_iload F dJ20_getChars_76 0 rfl <|
g_gets F dJ20_getChars_78 (sz_7 _) zl_java_lang_Integer_83 <|
g_iload_n F dJ20_getChars_81 rfl 1 rfl <|
g_ineg F dJ20_getChars_82 <|
g_bald F dJ20_getChars_83 hk fun x10 hk =>
g_bast F dJ20_getChars_84 hk fun h11 hk =>
g_iload_n F dJ20_getChars_85 rfl 1 rfl <|
g_bipush F dJ20_getChars_86 bp_m9 <|
g_icmp_ge F dJ20_getChars_88 (tgt := 104) rfl (fun hc => have hk := hk.1 hc
G.fewer [2, 0, 3] rfl <| s_J20_getChars_j104 F l2 (l5 + (-1:Int32)) l6 h11 hk ) (fun hc => have hk := hk.2 hc
g_aload_n F dJ20_getChars_91 rfl 2 rfl <|
g_iinc (v := ((l5 + (-1:Int32)) + (-1:Int32))) F dJ20_getChars_92 (j := 0) rfl (iinc_m1 (l5 + (-1:Int32))) (Nat.le_of_ble_eq_true rfl) rfl <|
g_iload F dJ20_getChars_95 0 rfl <|
g_gets F dJ20_getChars_97 (sz_8 _) zl_java_lang_Integer_87 <|
g_iload_n F dJ20_getChars_100 rfl 1 rfl <|
g_ineg F dJ20_getChars_101 <|
g_bald F dJ20_getChars_102 hk fun x12 hk =>
g_bast F dJ20_getChars_103 hk fun h13 hk =>
G.fewer [2, 0, 3] rfl <| s_J20_getChars_j104 F l2 ((l5 + (-1:Int32)) + (-1:Int32)) l6 h13 hk ))))
theorem m_J20_getChars {S : Sx} (hS0 : Sok S) (v0 : Int32) (v1 : Int32) (v2 : Option Nat) (h : hH) (Q : Int32 → hH → Prop) (hk : f_J20_getChars S.E v0 v1 v2 h Q) : Ct S yJ20_getChars (ws_ yJ20_getChars cJ20_getChars 7 (some .int)) rmJ20_getChars ([aI v0, aI v1, aR v2].map vv) h (qI Q) := by
  refine Ct.of hS0 (by decide +kernel) rfl (Nat.le_of_ble_eq_true rfl) fun x hxS F hnm => ?_
  subst hxS
  unfold f_J20_getChars at hk
  exact g_iload_n F dJ20_getChars_0 rfl 1 rfl <|
g_istore F dJ20_getChars_1 (Nat.le_of_ble_eq_true rfl) rfl <|
g_iload_n F dJ20_getChars_3 rfl 1 rfl <|
g_if_ge F dJ20_getChars_4 (tgt := 11) rfl (fun hc => have hk := hk.1 hc
g_iconst F dJ20_getChars_11 ic_0 <|
G.fewer [1, 3, 0] rfl <| s_J20_getChars_j12 F (0:Int32) v0 v2 v1 h hk ) (fun hc => have hk := hk.2 hc
g_iconst F dJ20_getChars_7 ic_1 <|
g_goto F dJ20_getChars_8 (tgt := 12) rfl <|
G.fewer [1, 3, 0] rfl <| s_J20_getChars_j12 F (1:Int32) v0 v2 v1 h hk )
