set_option maxRecDepth 100000
set_option maxHeartbeats 10000000
theorem mo_J0_init : MOk yJ0_init 0 := by decide +kernel
theorem mc_J0_init : MC yJ0_init cJ0_init 1 0 := ⟨q239, q114, q240, rfl, mo_J0_init⟩
theorem ic_0 : Int32.ofInt (0) = (0 : Int32) := by decide
theorem ct_J2 : CL[16]? = some (RJ2, TJ2, 3) := rfl
theorem ck_J2 : ClsOk RJ2 TJ2 3 tyJ2 := ⟨in_J2, tyJ2_ok, nmJ2⟩
theorem fo_J2_0_java_util_AbstractList : FieldOk "java/util/AbstractList" 16 0 RJ2 TJ2 3 := ⟨ct_J2, Nat.le_of_ble_eq_true rfl, Or.inl rfl⟩
theorem fl_java_util_AbstractList_7_J2 : Cond.fieldLink "java/util/AbstractList" 7 "java/util/AbstractList" (TJ2 0).2.1 (TJ2 0).2.2.1 ∈ lw_all ∨ ∃ host, Cond.fieldLinkNest "java/util/AbstractList" 7 "java/util/AbstractList" (TJ2 0).2.1 (TJ2 0).2.2.1 host ∈ lw_tbl := Or.inl q246
theorem mo_J15_checkIndex : MOk yJ15_checkIndex 3 := by decide +kernel
theorem ms_J15_checkIndex : MS yJ15_checkIndex cJ15_checkIndex 3 (some .int) 3 := ⟨q612, q134, q613, mo_J15_checkIndex⟩
theorem mo_J19_init : MOk yJ19_init 0 := by decide +kernel
theorem mc_J19_init : MC yJ19_init cJ19_init 1 0 := ⟨q899, q139, q900, rfl, mo_J19_init⟩
theorem ct_J20 : CL[22]? = some (RJ20, TJ20, 1) := rfl
theorem ck_J20 : ClsOk RJ20 TJ20 1 tyJ20 := ⟨in_J20, tyJ20_ok, nmJ20⟩
theorem fo_J20_0_java_lang_Integer : FieldOk "java/lang/Integer" 22 0 RJ20 TJ20 1 := ⟨ct_J20, Nat.le_of_ble_eq_true rfl, Or.inl rfl⟩
theorem fl_java_lang_Integer_205_J20 : Cond.fieldLink "java/lang/Integer" 205 "java/lang/Integer" (TJ20 0).2.1 (TJ20 0).2.2.1 ∈ lw_all ∨ ∃ host, Cond.fieldLinkNest "java/lang/Integer" 205 "java/lang/Integer" (TJ20 0).2.1 (TJ20 0).2.2.1 host ∈ lw_tbl := Or.inl q902
theorem df_J20 : ∀ j, j < 1 → defaultValue (tyJ20 j) = vp_V [.int 0] j := fun j hj => by rcases (show j = 0 by omega) with rfl <;> rfl
theorem mo_J20_init : MOk yJ20_init 1 := by decide +kernel
theorem mc_J20_init : MC yJ20_init cJ20_init 2 1 := ⟨q896, q140, q897, rfl, mo_J20_init⟩
theorem bp_m128 : (Int8.ofInt (-128)).toInt32 = (-128 : Int32) := by decide
theorem zl_java_lang_Integer_191 : Cond.fieldLink "java/lang/Integer" 191 "java/lang/Integer$IntegerCache" "high" "I" ∈ lw_all ∨ ∃ host, Cond.fieldLinkNest "java/lang/Integer" 191 "java/lang/Integer$IntegerCache" "high" "I" host ∈ lw_tbl := Or.inl q889
theorem szi_high (E : Nat → Nat) : ("java/lang/Integer$IntegerCache", "high", "I", vv (aI 127)) ∈ SZ E := List.mem_of_getElem? (i := 11) rfl
theorem zl_java_lang_Integer_195 : Cond.fieldLink "java/lang/Integer" 195 "java/lang/Integer$IntegerCache" "cache" "[Ljava/lang/Integer;" ∈ lw_all ∨ ∃ host, Cond.fieldLinkNest "java/lang/Integer" 195 "java/lang/Integer$IntegerCache" "cache" "[Ljava/lang/Integer;" host ∈ lw_tbl := Or.inl q891
theorem sz_9 (E : Nat → Nat) : ("java/lang/Integer$IntegerCache", "cache", "[Ljava/lang/Integer;", vv (aR (some (E 9)))) ∈ SZ E := List.mem_of_getElem? (i := 9) rfl
theorem sp_128 : (Int16.ofInt (128)).toInt32 = (128 : Int32) := by decide
theorem ic_1 : Int32.ofInt (1) = (1 : Int32) := by decide
theorem ic_m1 : Int32.ofInt (-1) = (-1 : Int32) := by decide
theorem mo_J20_compare : MOk yJ20_compare 2 := by decide +kernel
theorem ms_J20_compare : MS yJ20_compare cJ20_compare 2 (some .int) 2 := ⟨q1067, q140, q1068, mo_J20_compare⟩
theorem mo_J20_compareTo_2 : MOk yJ20_compareTo_2 1 := by decide +kernel
theorem mi_J20_compareTo_2 : MI yJ20_compareTo_2 "java/lang/Integer" cJ20_compareTo_2 2 (some .int) 1 := ⟨q1114, q1115, q140, q1116, rfl, mo_J20_compareTo_2⟩
theorem ic_4 : Int32.ofInt (4) = (4 : Int32) := by decide
theorem iinc_m2 (a : Int32) : a + Int32.ofInt (-2) = a + (-2 : Int32) := rfl
theorem ic_2 : Int32.ofInt (2) = (2 : Int32) := by decide
theorem bp_16 : (Int8.ofInt (16)).toInt32 = (16 : Int32) := by decide
theorem iinc_m4 (a : Int32) : a + Int32.ofInt (-4) = a + (-4 : Int32) := rfl
theorem sp_256 : (Int16.ofInt (256)).toInt32 = (256 : Int32) := by decide
theorem iinc_m8 (a : Int32) : a + Int32.ofInt (-8) = a + (-8 : Int32) := rfl
theorem bp_8 : (Int8.ofInt (8)).toInt32 = (8 : Int32) := by decide
theorem bp_31 : (Int8.ofInt (31)).toInt32 = (31 : Int32) := by decide
theorem iinc_m16 (a : Int32) : a + Int32.ofInt (-16) = a + (-16 : Int32) := rfl
theorem bp_32 : (Int8.ofInt (32)).toInt32 = (32 : Int32) := by decide
theorem mo_J13_checkLength : MOk yJ13_checkLength 2 := by decide +kernel
theorem ms_J13_checkLength : MS yJ13_checkLength cJ13_checkLength 2 none 2 := ⟨q648, q131, q649, mo_J13_checkLength⟩
theorem mo_J13_copyOfRangeByte : MOk yJ13_copyOfRangeByte 3 := by decide +kernel
theorem ms_J13_copyOfRangeByte : MS yJ13_copyOfRangeByte cJ13_copyOfRangeByte 5 (some (.array .byte)) 3 := ⟨q645, q131, q646, mo_J13_copyOfRangeByte⟩
theorem mo_J13_copyOf_3 : MOk yJ13_copyOf_3 3 := by decide +kernel
theorem ms_J13_copyOf_3 : MS yJ13_copyOf_3 cJ13_copyOf_3 4 (some (.array (.object "java/lang/Object"))) 3 := ⟨q971, q131, q972, mo_J13_copyOf_3⟩
theorem mo_J1_init : MOk yJ1_init 0 := by decide +kernel
theorem mc_J1_init : MC yJ1_init cJ1_init 1 0 := ⟨q236, q115, q237, rfl, mo_J1_init⟩
theorem zl_java_util_ArrayList_39 : Cond.fieldLink "java/util/ArrayList" 39 "java/util/ArrayList" "DEFAULTCAPACITY_EMPTY_ELEMENTDATA" "[Ljava/lang/Object;" ∈ lw_all ∨ ∃ host, Cond.fieldLinkNest "java/util/ArrayList" 39 "java/util/ArrayList" "DEFAULTCAPACITY_EMPTY_ELEMENTDATA" "[Ljava/lang/Object;" host ∈ lw_tbl := Or.inl q242
theorem sz_10 (E : Nat → Nat) : ("java/util/ArrayList", "DEFAULTCAPACITY_EMPTY_ELEMENTDATA", "[Ljava/lang/Object;", vv (aR (some (E 10)))) ∈ SZ E := List.mem_of_getElem? (i := 10) rfl
theorem fo_J2_1_java_util_ArrayList : FieldOk "java/util/ArrayList" 16 1 RJ2 TJ2 3 := ⟨ct_J2, Nat.le_of_ble_eq_true rfl, Or.inl rfl⟩
theorem fl_java_util_ArrayList_9_J2 : Cond.fieldLink "java/util/ArrayList" 9 "java/util/ArrayList" (TJ2 1).2.1 (TJ2 1).2.2.1 ∈ lw_all ∨ ∃ host, Cond.fieldLinkNest "java/util/ArrayList" 9 "java/util/ArrayList" (TJ2 1).2.1 (TJ2 1).2.2.1 host ∈ lw_tbl := Or.inl q244
theorem fo_J2_2_java_util_ArrayList : FieldOk "java/util/ArrayList" 16 2 RJ2 TJ2 3 := ⟨ct_J2, Nat.le_of_ble_eq_true rfl, Or.inl rfl⟩
theorem fl_java_util_ArrayList_48_J2 : Cond.fieldLink "java/util/ArrayList" 48 "java/util/ArrayList" (TJ2 2).2.1 (TJ2 2).2.2.1 ∈ lw_all ∨ ∃ host, Cond.fieldLinkNest "java/util/ArrayList" 48 "java/util/ArrayList" (TJ2 2).2.1 (TJ2 2).2.2.1 host ∈ lw_tbl := Or.inl q245
theorem mo_J18_checkIndex : MOk yJ18_checkIndex 2 := by decide +kernel
theorem ms_J18_checkIndex : MS yJ18_checkIndex cJ18_checkIndex 2 (some .int) 2 := ⟨q874, q138, q875, mo_J18_checkIndex⟩
theorem mo_J2_elementData : MOk yJ2_elementData 1 := by decide +kernel
theorem mi_J2_elementData : MI yJ2_elementData "java/util/ArrayList" cJ2_elementData 2 (some (.object "java/lang/Object")) 1 := ⟨q878, q879, q116, q880, rfl, mo_J2_elementData⟩
theorem mo_J11_newLength : MOk yJ11_newLength 3 := by decide +kernel
theorem ms_J11_newLength : MS yJ11_newLength cJ11_newLength 4 (some .int) 3 := ⟨q537, q129, q538, mo_J11_newLength⟩
theorem mo_J13_copyOf_2 : MOk yJ13_copyOf_2 2 := by decide +kernel
theorem ms_J13_copyOf_2 : MS yJ13_copyOf_2 cJ13_copyOf_2 2 (some (.array (.object "java/lang/Object"))) 2 := ⟨q924, q131, q925, mo_J13_copyOf_2⟩
theorem bp_10 : (Int8.ofInt (10)).toInt32 = (10 : Int32) := by decide
theorem mo_J2_grow_2 : MOk yJ2_grow_2 1 := by decide +kernel
theorem mi_J2_grow_2 : MI yJ2_grow_2 "java/util/ArrayList" cJ2_grow_2 4 (some (.array (.object "java/lang/Object"))) 1 := ⟨q920, qs15, q116, q921, rfl, mo_J2_grow_2⟩
theorem mo_J2_grow : MOk yJ2_grow 0 := by decide +kernel
theorem mi_J2_grow : MI yJ2_grow "java/util/ArrayList" cJ2_grow 1 (some (.array (.object "java/lang/Object"))) 0 := ⟨q916, qs14, q116, q917, rfl, mo_J2_grow⟩
theorem fo_J2_0_java_util_ArrayList : FieldOk "java/util/ArrayList" 16 0 RJ2 TJ2 3 := ⟨ct_J2, Nat.le_of_ble_eq_true rfl, Or.inr q248⟩
theorem fl_java_util_ArrayList_63_J2 : Cond.fieldLink "java/util/ArrayList" 63 "java/util/ArrayList" (TJ2 0).2.1 (TJ2 0).2.2.1 ∈ lw_all ∨ ∃ host, Cond.fieldLinkNest "java/util/ArrayList" 63 "java/util/ArrayList" (TJ2 0).2.1 (TJ2 0).2.2.1 host ∈ lw_tbl := Or.inl q247
theorem mo_J2_add_2 : MOk yJ2_add_2 3 := by decide +kernel
theorem mi_J2_add_2 : MI yJ2_add_2 "java/util/ArrayList" cJ2_add_2 4 none 3 := ⟨q912, qs13, q116, q913, rfl, mo_J2_add_2⟩
theorem mo_J2_fastRemove : MOk yJ2_fastRemove 2 := by decide +kernel
theorem mi_J2_fastRemove : MI yJ2_fastRemove "java/util/ArrayList" cJ2_fastRemove 4 none 2 := ⟨q2468, qs39, q116, q2469, rfl, mo_J2_fastRemove⟩
abbrev rmJ0_init : Room := { frames := 2, cells := 0, slots := 0, locals := 40 }
theorem m_J0_init {S : Sx} (hS0 : Sok S) (v0 : Nat) (h : hH) (Q : hH → Prop) (hk : f_J0_init S.E v0 h Q) : Ct S yJ0_init (ws_ yJ0_init cJ0_init 1 none) rmJ0_init ([aR (some v0)].map vv) h (qV Q) := by
  refine Ct.of hS0 (by decide +kernel) rfl (Nat.le_of_ble_eq_true rfl) fun x hxS F hnm => ?_
  subst hxS
  unfold f_J0_init at hk
  exact g_aload_n F dJ0_init_0 rfl 0 rfl <|
g_objInit (rest := []) F dJ0_init_1 q241 q182 q_objcode (Nat.le_of_ble_eq_true rfl) (Nat.le_of_ble_eq_true rfl) <|
g_vret F dJ0_init_4 (Nat.le_refl 0) (Nat.le_refl 0) hk
abbrev rmJ1_init : Room := { frames := 3, cells := 0, slots := 0, locals := 60 }
theorem m_J1_init {S : Sx} (hS0 : Sok S) (v0 : Nat) (h : hH) (Q : hH → Prop) (hk : f_J1_init S.E v0 h Q) : Ct S yJ1_init (ws_ yJ1_init cJ1_init 1 none) rmJ1_init ([aR (some v0)].map vv) h (qV Q) := by
  refine Ct.of hS0 (by decide +kernel) rfl (Nat.le_of_ble_eq_true rfl) fun x hxS F hnm => ?_
  subst hxS
  unfold f_J1_init at hk
  exact g_aload_n F dJ1_init_0 rfl 0 rfl <|
g_callv0 (g_I F dJ1_init_1 q238 mc_J0_init (rm' := rmJ0_init) ⟨Nat.le_of_ble_eq_true rfl, Nat.le_of_ble_eq_true rfl⟩ ⟨Nat.le_refl 0, Nat.le_refl 0⟩ (As := []) (rest := []) rfl rfl (Nat.le_of_ble_eq_true rfl) (m_J0_init F.ok v0 h _ hk)) ⟨rfl, rfl⟩ fun h1 hk =>
g_aload_n F dJ1_init_4 rfl 0 rfl <|
g_iconst F dJ1_init_5 ic_0 <|
g_putV F dJ1_init_6 fo_J2_0_java_util_AbstractList ck_J2 fl_java_util_AbstractList_7_J2 rfl (v := aI (0:Int32)) (fit_i (0:Int32)) hk fun h2 hk =>
g_vret F dJ1_init_9 (Nat.le_refl 0) (Nat.le_refl 0) hk
abbrev rmJ3_init : Room := { frames := 3, cells := 0, slots := 0, locals := 60 }
theorem m_J3_init {S : Sx} (hS0 : Sok S) (v0 : Nat) (h : hH) (Q : hH → Prop) (hk : f_J3_init S.E v0 h Q) : Ct S yJ3_init (ws_ yJ3_init cJ3_init 1 none) rmJ3_init ([aR (some v0)].map vv) h (qV Q) := by
  refine Ct.of hS0 (by decide +kernel) rfl (Nat.le_of_ble_eq_true rfl) fun x hxS F hnm => ?_
  subst hxS
  unfold f_J3_init at hk
  exact g_aload_n F dJ3_init_0 rfl 0 rfl <|
g_callv0 (g_I F dJ3_init_1 q272 mc_J0_init (rm' := rmJ0_init) ⟨Nat.le_of_ble_eq_true rfl, Nat.le_of_ble_eq_true rfl⟩ ⟨Nat.le_refl 0, Nat.le_refl 0⟩ (As := []) (rest := []) rfl rfl (Nat.le_of_ble_eq_true rfl) (m_J0_init F.ok v0 h _ hk)) ⟨rfl, rfl⟩ fun h1 hk =>
g_vret F dJ3_init_4 (Nat.le_refl 0) (Nat.le_refl 0) hk
abbrev rmJ23_init : Room := { frames := 2, cells := 0, slots := 0, locals := 40 }
theorem m_J23_init {S : Sx} (hS0 : Sok S) (v0 : Nat) (h : hH) (Q : hH → Prop) (hk : f_J23_init S.E v0 h Q) : Ct S yJ23_init (ws_ yJ23_init cJ23_init 1 none) rmJ23_init ([aR (some v0)].map vv) h (qV Q) := by
  refine Ct.of hS0 (by decide +kernel) rfl (Nat.le_of_ble_eq_true rfl) fun x hxS F hnm => ?_
  subst hxS
  unfold f_J23_init at hk
  exact g_aload_n F dJ23_init_0 rfl 0 rfl <|
g_objInit (rest := []) F dJ23_init_1 q1374 q182 q_objcode (Nat.le_of_ble_eq_true rfl) (Nat.le_of_ble_eq_true rfl) <|
g_vret F dJ23_init_4 (Nat.le_refl 0) (Nat.le_refl 0) hk
abbrev rmJ35_init : Room := { frames := 3, cells := 0, slots := 0, locals := 60 }
theorem m_J35_init {S : Sx} (hS0 : Sok S) (v0 : Nat) (h : hH) (Q : hH → Prop) (hk : f_J35_init S.E v0 h Q) : Ct S yJ35_init (ws_ yJ35_init cJ35_init 1 none) rmJ35_init ([aR (some v0)].map vv) h (qV Q) := by
  refine Ct.of hS0 (by decide +kernel) rfl (Nat.le_of_ble_eq_true rfl) fun x hxS F hnm => ?_
  subst hxS
  unfold f_J35_init at hk
  exact g_aload_n F dJ35_init_0 rfl 0 rfl <|
g_callv0 (g_I F dJ35_init_1 q2098 mc_J0_init (rm' := rmJ0_init) ⟨Nat.le_of_ble_eq_true rfl, Nat.le_of_ble_eq_true rfl⟩ ⟨Nat.le_refl 0, Nat.le_refl 0⟩ (As := []) (rest := []) rfl rfl (Nat.le_of_ble_eq_true rfl) (m_J0_init F.ok v0 h _ hk)) ⟨rfl, rfl⟩ fun h1 hk =>
g_vret F dJ35_init_4 (Nat.le_refl 0) (Nat.le_refl 0) hk
abbrev rmJ19_init : Room := { frames := 2, cells := 0, slots := 0, locals := 40 }
theorem m_J19_init {S : Sx} (hS0 : Sok S) (v0 : Nat) (h : hH) (Q : hH → Prop) (hk : f_J19_init S.E v0 h Q) : Ct S yJ19_init (ws_ yJ19_init cJ19_init 1 none) rmJ19_init ([aR (some v0)].map vv) h (qV Q) := by
  refine Ct.of hS0 (by decide +kernel) rfl (Nat.le_of_ble_eq_true rfl) fun x hxS F hnm => ?_
  subst hxS
  unfold f_J19_init at hk
  exact g_aload_n F dJ19_init_0 rfl 0 rfl <|
g_objInit (rest := []) F dJ19_init_1 q901 q182 q_objcode (Nat.le_of_ble_eq_true rfl) (Nat.le_of_ble_eq_true rfl) <|
g_vret F dJ19_init_4 (Nat.le_refl 0) (Nat.le_refl 0) hk
abbrev rmJ15_checkIndex : Room := { frames := 2, cells := 0, slots := 0, locals := 40 }
theorem s_J15_checkIndex_j9 {x : Cx} (F : Fx x cJ15_checkIndex "jdk/internal/util/Preconditions" 3 (some .int) rmJ15_checkIndex) {Q : Int32 → hH → Prop} (l0 : Int32) (l1 : Int32) (l2 : Option Nat) (h : hH) (hk : f_J15_checkIndex_j9 x.S.E Q l0 l1 l2 h) : G x (xQ x rmJ15_checkIndex (qI Q)) 9 [(0, aI l0), (1, aI l1), (2, aR l2)] [] h 0 0 := by
  unfold f_J15_checkIndex_j9 at hk
  exact g_aload_n F dJ15_checkIndex_9 rfl 2 rfl <|
g_iload_n F dJ15_checkIndex_10 rfl 0 rfl <|
g_iload_n F dJ15_checkIndex_11 rfl 1 rfl <|
False.elim hk
theorem m_J15_checkIndex {S : Sx} (hS0 : Sok S) (v0 : Int32) (v1 : Int32) (v2 : Option Nat) (h : hH) (Q : Int32 → hH → Prop) (hk : f_J15_checkIndex S.E v0 v1 v2 h Q) : Ct S yJ15_checkIndex (ws_ yJ15_checkIndex cJ15_checkIndex 3 (some .int)) rmJ15_checkIndex ([aI v0, aI v1, aR v2].map vv) h (qI Q) := by
  refine Ct.of hS0 (by decide +kernel) rfl (Nat.le_of_ble_eq_true rfl) fun x hxS F hnm => ?_
  subst hxS
  unfold f_J15_checkIndex at hk
  exact g_iload_n F dJ15_checkIndex_0 rfl 0 rfl <|
g_if_lt F dJ15_checkIndex_1 (tgt := 9) rfl (fun hc => have hk := hk.1 hc
s_J15_checkIndex_j9 F v0 v1 v2 h hk ) (fun hc => have hk := hk.2 hc
g_iload_n F dJ15_checkIndex_4 rfl 0 rfl <|
g_iload_n F dJ15_checkIndex_5 rfl 1 rfl <|
g_icmp_lt F dJ15_checkIndex_6 (tgt := 16) rfl (fun hc => have hk := hk.1 hc
g_iload_n F dJ15_checkIndex_16 rfl 0 rfl <|
g_iret F dJ15_checkIndex_17 (Nat.le_refl 0) (Nat.le_refl 0) hk) (fun hc => have hk := hk.2 hc
s_J15_checkIndex_j9 F v0 v1 v2 h hk ))
abbrev rmJ18_checkIndex : Room := { frames := 3, cells := 0, slots := 0, locals := 62 }
theorem m_J18_checkIndex {S : Sx} (hS0 : Sok S) (v0 : Int32) (v1 : Int32) (h : hH) (Q : Int32 → hH → Prop) (hk : f_J18_checkIndex S.E v0 v1 h Q) : Ct S yJ18_checkIndex (ws_ yJ18_checkIndex cJ18_checkIndex 2 (some .int)) rmJ18_checkIndex ([aI v0, aI v1].map vv) h (qI Q) := by
  refine Ct.of hS0 (by decide +kernel) rfl (Nat.le_of_ble_eq_true rfl) fun x hxS F hnm => ?_
  subst hxS
  unfold f_J18_checkIndex at hk
  exact g_iload_n F dJ18_checkIndex_0 rfl 0 rfl <|
g_iload_n F dJ18_checkIndex_1 rfl 1 rfl <|
g_null F dJ18_checkIndex_2 <|
g_calli0 (g_S F dJ18_checkIndex_3 q876 ms_J15_checkIndex (rm' := rmJ15_checkIndex) ⟨Nat.le_of_ble_eq_true rfl, Nat.le_of_ble_eq_true rfl⟩ ⟨Nat.le_refl 0, Nat.le_refl 0⟩ (As := [aI v0, aI v1, aR none]) (rest := []) rfl rfl (Nat.le_of_ble_eq_true rfl) (m_J15_checkIndex F.ok v0 v1 none h _ hk)) ⟨rfl, rfl⟩ fun x2 h1 hk =>
g_iret F dJ18_checkIndex_6 (Nat.le_refl 0) (Nat.le_refl 0) hk
abbrev rmJ18_requireNonNull : Room := { frames := 2, cells := 0, slots := 0, locals := 40 }
theorem m_J18_requireNonNull {S : Sx} (hS0 : Sok S) (v0 : Option Nat) (h : hH) (Q : Option Nat → hH → Prop) (hk : f_J18_requireNonNull S.E v0 h Q) : Ct S yJ18_requireNonNull (ws_ yJ18_requireNonNull cJ18_requireNonNull 1 (some (.object "java/lang/Object"))) rmJ18_requireNonNull ([aR v0].map vv) h (qR Q) := by
  refine Ct.of hS0 (by decide +kernel) rfl (Nat.le_of_ble_eq_true rfl) fun x hxS F hnm => ?_
  subst hxS
  unfold f_J18_requireNonNull at hk
  exact g_aload_n F dJ18_requireNonNull_0 rfl 0 rfl <|
g_ifnonnull F dJ18_requireNonNull_1 (tgt := 12) rfl (fun hc => have hk := hk.2 hc
g_aload_n F dJ18_requireNonNull_12 rfl 0 rfl <|
g_aret F (Or.inl ⟨_, rfl⟩) dJ18_requireNonNull_13 (Nat.le_refl 0) (Nat.le_refl 0) hk) (fun hc => have hk := hk.1 hc
False.elim hk)
abbrev rmJ11_newLength : Room := { frames := 2, cells := 0, slots := 0, locals := 40 }
theorem s_J11_newLength_j21 {x : Cx} (F : Fx x cJ11_newLength "jdk/internal/util/ArraysSupport" 4 (some .int) rmJ11_newLength) {Q : Int32 → hH → Prop} (l0 : Int32) (l1 : Int32) (h : hH) (hk : f_J11_newLength_j21 x.S.E Q l0 l1 h) : G x (xQ x rmJ11_newLength (qI Q)) 21 [(0, aI l0), (1, aI l1)] [] h 0 0 := by
  unfold f_J11_newLength_j21 at hk
  exact g_iload_n F dJ11_newLength_21 rfl 0 rfl <|
g_iload_n F dJ11_newLength_22 rfl 1 rfl <|
False.elim hk
theorem m_J11_newLength {S : Sx} (hS0 : Sok S) (v0 : Int32) (v1 : Int32) (v2 : Int32) (h : hH) (Q : Int32 → hH → Prop) (hk : f_J11_newLength S.E v0 v1 v2 h Q) : Ct S yJ11_newLength (ws_ yJ11_newLength cJ11_newLength 4 (some .int)) rmJ11_newLength ([aI v0, aI v1, aI v2].map vv) h (qI Q) := by
  refine Ct.of hS0 (by decide +kernel) rfl (Nat.le_of_ble_eq_true rfl) fun x hxS F hnm => ?_
  subst hxS
  unfold f_J11_newLength at hk
  exact g_iload_n F dJ11_newLength_0 rfl 0 rfl <|
g_iload_n F dJ11_newLength_1 rfl 1 rfl <|
g_iload_n F dJ11_newLength_2 rfl 2 rfl <|
g_mmax (rest := [aI v0]) F dJ11_newLength_3 q539 q540 q130 q541 (Nat.le_of_ble_eq_true rfl) (Nat.le_of_ble_eq_true rfl) (Nat.le_refl 0) (Nat.le_refl 0) <|
g_iadd F dJ11_newLength_6 <|
g_istore_n F dJ11_newLength_7 rfl (Nat.le_of_ble_eq_true rfl) rfl <|
g_iconst F dJ11_newLength_8 ic_0 <|
g_iload_n F dJ11_newLength_9 rfl 0 rfl <|
g_icmp_ge F dJ11_newLength_10 (tgt := 21) rfl (fun hc => have hk := hk.1 hc
G.fewer [1, 2] rfl <| s_J11_newLength_j21 F v0 v1 h hk ) (fun hc => have hk := hk.2 hc
g_iload_n F dJ11_newLength_13 rfl 0 rfl <|
g_ldc F dJ11_newLength_14 q542 <|
g_icmp_gt F dJ11_newLength_16 (tgt := 21) rfl (fun hc => have hk := hk.1 hc
G.fewer [1, 2] rfl <| s_J11_newLength_j21 F v0 v1 h hk ) (fun hc => have hk := hk.2 hc
g_iload_n F dJ11_newLength_19 rfl 0 rfl <|
g_iret F dJ11_newLength_20 (Nat.le_refl 0) (Nat.le_refl 0) hk))
abbrev rmJ20_init : Room := { frames := 3, cells := 0, slots := 0, locals := 60 }
theorem m_J20_init {S : Sx} (hS0 : Sok S) (v0 : Nat) (v1 : Int32) (h : hH) (Q : hH → Prop) (hk : f_J20_init S.E v0 v1 h Q) : Ct S yJ20_init (ws_ yJ20_init cJ20_init 2 none) rmJ20_init ([aR (some v0), aI v1].map vv) h (qV Q) := by
  refine Ct.of hS0 (by decide +kernel) rfl (Nat.le_of_ble_eq_true rfl) fun x hxS F hnm => ?_
  subst hxS
  unfold f_J20_init at hk
  exact g_aload_n F dJ20_init_0 rfl 0 rfl <|
g_callv0 (g_I F dJ20_init_1 q898 mc_J19_init (rm' := rmJ19_init) ⟨Nat.le_of_ble_eq_true rfl, Nat.le_of_ble_eq_true rfl⟩ ⟨Nat.le_refl 0, Nat.le_refl 0⟩ (As := []) (rest := []) rfl rfl (Nat.le_of_ble_eq_true rfl) (m_J19_init F.ok v0 h _ hk)) ⟨rfl, rfl⟩ fun h1 hk =>
g_aload_n F dJ20_init_4 rfl 0 rfl <|
g_iload_n F dJ20_init_5 rfl 1 rfl <|
g_putF F dJ20_init_6 fo_J20_0_java_lang_Integer ck_J20 q902 rfl hnm rfl (v := aI v1) (fit_i v1) hk fun h2 hk =>
g_vret F dJ20_init_9 (Nat.le_refl 0) (Nat.le_refl 0) hk
abbrev rmJ20_intValue : Room := { frames := 2, cells := 0, slots := 0, locals := 40 }
theorem m_J20_intValue {S : Sx} (hS0 : Sok S) (v0 : Nat) (h : hH) (Q : Int32 → hH → Prop) (hk : f_J20_intValue S.E v0 h Q) : Ct S yJ20_intValue (ws_ yJ20_intValue cJ20_intValue 1 (some .int)) rmJ20_intValue ([aR (some v0)].map vv) h (qI Q) := by
  refine Ct.of hS0 (by decide +kernel) rfl (Nat.le_of_ble_eq_true rfl) fun x hxS F hnm => ?_
  subst hxS
  unfold f_J20_intValue at hk
  exact g_aload_n F dJ20_intValue_0 rfl 0 rfl <|
g_getI F dJ20_intValue_1 fo_J20_0_java_lang_Integer in_J20 fl_java_lang_Integer_205_J20 hk fun x1 hk =>
g_iret F dJ20_intValue_4 (Nat.le_refl 0) (Nat.le_refl 0) hk
abbrev rmJ20_valueOf : Room := { frames := 4, cells := 1, slots := 1, locals := 81 }
theorem s_J20_valueOf_j23 {x : Cx} (F : Fx x cJ20_valueOf "java/lang/Integer" 1 (some (.object "java/lang/Integer")) rmJ20_valueOf) {Q : Option Nat → hH → Prop} {cb kb : Nat} (hM : cb + 1 ≤ 1) (hS : kb + 1 ≤ 1) (l0 : Int32) (h : hH) (hk : f_J20_valueOf_j23 x.S.E Q l0 h) : G x (xQ x rmJ20_valueOf (qR Q)) 23 [(0, aI l0)] [] h (cb + 0) (kb + 0) := by
  unfold f_J20_valueOf_j23 at hk
  exact g_new (fs := [.int 0]) F dJ20_valueOf_23 ck_J20 ct_J20 q893 q894 q140 df_J20 (show cb + 0 + 1 ≤ 1 by omega) (show kb + 0 + 1 ≤ 1 by omega) hk fun q1 h2 hk =>
g_dup F dJ20_valueOf_26 rfl <|
g_iload_n F dJ20_valueOf_27 rfl 0 rfl <|
g_callv0 (g_I F dJ20_valueOf_28 q895 mc_J20_init (rm' := rmJ20_init) ⟨Nat.le_of_ble_eq_true rfl, Nat.le_of_ble_eq_true rfl⟩ ⟨show cb + 0 + 1 + 0 ≤ 1 by omega, show kb + 0 + 1 + 0 ≤ 1 by omega⟩ (As := [aI l0]) (rest := [aR (some q1)]) rfl rfl (Nat.le_of_ble_eq_true rfl) (m_J20_init F.ok q1 l0 h2 _ hk)) ⟨rfl, rfl⟩ fun h3 hk =>
g_aret F (Or.inl ⟨_, rfl⟩) dJ20_valueOf_31 (show cb + 0 + 1 ≤ 1 by omega) (show kb + 0 + 1 ≤ 1 by omega) hk
theorem m_J20_valueOf {S : Sx} (hS0 : Sok S) (v0 : Int32) (h : hH) (Q : Option Nat → hH → Prop) (hk : f_J20_valueOf S.E v0 h Q) : Ct S yJ20_valueOf (ws_ yJ20_valueOf cJ20_valueOf 1 (some (.object "java/lang/Integer"))) rmJ20_valueOf ([aI v0].map vv) h (qR Q) := by
  refine Ct.of hS0 (by decide +kernel) rfl (Nat.le_of_ble_eq_true rfl) fun x hxS F hnm => ?_
  subst hxS
  unfold f_J20_valueOf at hk
  have hM : 0 + 1 ≤ 1 := by omega
  have hS : 0 + 1 ≤ 1 := by omega
  refine G.widen (c' := 0 + 0) (k' := 0 + 0) (Nat.le_refl 0) (Nat.le_refl 0) ?_
  exact g_iload_n F dJ20_valueOf_0 rfl 0 rfl <|
g_bipush F dJ20_valueOf_1 bp_m128 <|
g_icmp_lt F dJ20_valueOf_3 (tgt := 23) rfl (fun hc => have hk := hk.1 hc
s_J20_valueOf_j23 F hM hS v0 h hk ) (fun hc => have hk := hk.2 hc
g_iload_n F dJ20_valueOf_6 rfl 0 rfl <|
g_gets F dJ20_valueOf_7 (szi_high _) zl_java_lang_Integer_191 <|
g_icmp_gt F dJ20_valueOf_10 (tgt := 23) rfl (fun hc => have hk := hk.1 hc
s_J20_valueOf_j23 F hM hS v0 h hk ) (fun hc => have hk := hk.2 hc
g_gets F dJ20_valueOf_13 (sz_9 _) zl_java_lang_Integer_195 <|
g_iload_n F dJ20_valueOf_16 rfl 0 rfl <|
g_sipush F dJ20_valueOf_17 sp_128 <|
g_iadd F dJ20_valueOf_20 <|
g_aaldo F dJ20_valueOf_21 hk fun x4 hk =>
g_aret F (Or.inl ⟨_, rfl⟩) dJ20_valueOf_22 (show 0 + 0 ≤ 1 by omega) (show 0 + 0 ≤ 1 by omega) hk))
abbrev rmJ20_compare : Room := { frames := 2, cells := 0, slots := 0, locals := 40 }
theorem m_J20_compare {S : Sx} (hS0 : Sok S) (v0 : Int32) (v1 : Int32) (h : hH) (Q : Int32 → hH → Prop) (hk : f_J20_compare S.E v0 v1 h Q) : Ct S yJ20_compare (ws_ yJ20_compare cJ20_compare 2 (some .int)) rmJ20_compare ([aI v0, aI v1].map vv) h (qI Q) := by
  refine Ct.of hS0 (by decide +kernel) rfl (Nat.le_of_ble_eq_true rfl) fun x hxS F hnm => ?_
  subst hxS
  unfold f_J20_compare at hk
  exact g_iload_n F dJ20_compare_0 rfl 0 rfl <|
g_iload_n F dJ20_compare_1 rfl 1 rfl <|
g_icmp_ge F dJ20_compare_2 (tgt := 9) rfl (fun hc => have hk := hk.1 hc
g_iload_n F dJ20_compare_9 rfl 0 rfl <|
g_iload_n F dJ20_compare_10 rfl 1 rfl <|
g_icmp_ne F dJ20_compare_11 (tgt := 18) rfl (fun hc => have hk := hk.2 hc
g_iconst F dJ20_compare_18 ic_1 <|
g_iret F dJ20_compare_19 (Nat.le_refl 0) (Nat.le_refl 0) hk) (fun hc => have hk := hk.1 hc
g_iconst F dJ20_compare_14 ic_0 <|
g_goto F dJ20_compare_15 (tgt := 19) rfl <|
g_iret F dJ20_compare_19 (Nat.le_refl 0) (Nat.le_refl 0) hk)) (fun hc => have hk := hk.2 hc
g_iconst F dJ20_compare_5 ic_m1 <|
g_goto F dJ20_compare_6 (tgt := 19) rfl <|
g_iret F dJ20_compare_19 (Nat.le_refl 0) (Nat.le_refl 0) hk)
abbrev rmJ20_compareTo_2 : Room := { frames := 3, cells := 0, slots := 0, locals := 61 }
theorem m_J20_compareTo_2 {S : Sx} (hS0 : Sok S) (v0 : Nat) (v1 : Option Nat) (h : hH) (Q : Int32 → hH → Prop) (hk : f_J20_compareTo_2 S.E v0 v1 h Q) : Ct S yJ20_compareTo_2 (ws_ yJ20_compareTo_2 cJ20_compareTo_2 2 (some .int)) rmJ20_compareTo_2 ([aR (some v0), aR v1].map vv) h (qI Q) := by
  refine Ct.of hS0 (by decide +kernel) rfl (Nat.le_of_ble_eq_true rfl) fun x hxS F hnm => ?_
  subst hxS
  unfold f_J20_compareTo_2 at hk
  exact g_aload_n F dJ20_compareTo_2_0 rfl 0 rfl <|
g_getI F dJ20_compareTo_2_1 fo_J20_0_java_lang_Integer in_J20 fl_java_lang_Integer_205_J20 hk fun x1 hk =>
g_aload_n F dJ20_compareTo_2_4 rfl 1 rfl <|
g_getI F dJ20_compareTo_2_5 fo_J20_0_java_lang_Integer in_J20 fl_java_lang_Integer_205_J20 hk fun x2 hk =>
g_calli0 (g_S F dJ20_compareTo_2_8 q1117 ms_J20_compare (rm' := rmJ20_compare) ⟨Nat.le_of_ble_eq_true rfl, Nat.le_of_ble_eq_true rfl⟩ ⟨Nat.le_refl 0, Nat.le_refl 0⟩ (As := [aI x1, aI x2]) (rest := []) rfl rfl (Nat.le_of_ble_eq_true rfl) (m_J20_compare F.ok x1 x2 h _ hk)) ⟨rfl, rfl⟩ fun x4 h3 hk =>
g_iret F dJ20_compareTo_2_11 (Nat.le_refl 0) (Nat.le_refl 0) hk
abbrev rmJ20_compareTo : Room := { frames := 4, cells := 0, slots := 0, locals := 82 }
theorem m_J20_compareTo {S : Sx} (hS0 : Sok S) (v0 : Nat) (v1 : Option Nat) (h : hH) (Q : Int32 → hH → Prop) (hk : f_J20_compareTo S.E v0 v1 h Q) : Ct S yJ20_compareTo (ws_ yJ20_compareTo cJ20_compareTo 2 (some .int)) rmJ20_compareTo ([aR (some v0), aR v1].map vv) h (qI Q) := by
  refine Ct.of hS0 (by decide +kernel) rfl (Nat.le_of_ble_eq_true rfl) fun x hxS F hnm => ?_
  subst hxS
  unfold f_J20_compareTo at hk
  exact g_aload_n F dJ20_compareTo_0 rfl 0 rfl <|
g_aload_n F dJ20_compareTo_1 rfl 1 rfl <|
g_castS F dJ20_compareTo_2 q893 ct_J20 hk fun hk =>
g_calli0 (g_V F dJ20_compareTo_5 q1113 mi_J20_compareTo_2 ct_J20 (rm' := rmJ20_compareTo_2) ⟨Nat.le_of_ble_eq_true rfl, Nat.le_of_ble_eq_true rfl⟩ ⟨Nat.le_refl 0, Nat.le_refl 0⟩ (As := [aR v1]) (rest := []) rfl rfl (Nat.le_of_ble_eq_true rfl) hk (fun a3 hk => m_J20_compareTo_2 F.ok a3 v1 h _ hk)) ⟨rfl, rfl⟩ fun x2 h1 hk =>
g_iret F dJ20_compareTo_8 (Nat.le_refl 0) (Nat.le_refl 0) hk
abbrev rmJ20_numberOfLeadingZeros : Room := { frames := 2, cells := 0, slots := 0, locals := 40 }
theorem s_J20_numberOfLeadingZeros_j73 {x : Cx} (F : Fx x cJ20_numberOfLeadingZeros "java/lang/Integer" 2 (some .int) rmJ20_numberOfLeadingZeros) {Q : Int32 → hH → Prop} (l0 : Int32) (l1 : Int32) (h : hH) (hk : f_J20_numberOfLeadingZeros_j73 x.S.E Q l0 l1 h) : G x (xQ x rmJ20_numberOfLeadingZeros (qI Q)) 73 [(0, aI l0), (1, aI l1)] [] h 0 0 := by
  unfold f_J20_numberOfLeadingZeros_j73 at hk
  exact g_iload_n F dJ20_numberOfLeadingZeros_73 rfl 1 rfl <|
g_iload_n F dJ20_numberOfLeadingZeros_74 rfl 0 rfl <|
g_iconst F dJ20_numberOfLeadingZeros_75 ic_1 <|
g_iushr F dJ20_numberOfLeadingZeros_76 <|
g_isub F dJ20_numberOfLeadingZeros_77 <|
g_iret F dJ20_numberOfLeadingZeros_78 (Nat.le_refl 0) (Nat.le_refl 0) hk
theorem s_J20_numberOfLeadingZeros_j61 {x : Cx} (F : Fx x cJ20_numberOfLeadingZeros "java/lang/Integer" 2 (some .int) rmJ20_numberOfLeadingZeros) {Q : Int32 → hH → Prop} (l0 : Int32) (l1 : Int32) (h : hH) (hk : f_J20_numberOfLeadingZeros_j61 x.S.E Q l0 l1 h) : G x (xQ x rmJ20_numberOfLeadingZeros (qI Q)) 61 [(0, aI l0), (1, aI l1)] [] h 0 0 := by
  unfold f_J20_numberOfLeadingZeros_j61 at hk
  exact g_iload_n F dJ20_numberOfLeadingZeros_61 rfl 0 rfl <|
g_iconst F dJ20_numberOfLeadingZeros_62 ic_4 <|
g_icmp_lt F dJ20_numberOfLeadingZeros_63 (tgt := 73) rfl (fun hc => have hk := hk.1 hc
s_J20_numberOfLeadingZeros_j73 F l0 l1 h hk ) (fun hc => have hk := hk.2 hc
g_iinc (v := (l1 + (-2:Int32))) F dJ20_numberOfLeadingZeros_66 (j := 1) rfl (iinc_m2 l1) (Nat.le_of_ble_eq_true rfl) rfl <|
g_iload_n F dJ20_numberOfLeadingZeros_69 rfl 1 rfl <|
g_iconst F dJ20_numberOfLeadingZeros_70 ic_2 <|
g_iushr F dJ20_numberOfLeadingZeros_71 <|
g_istore_n F dJ20_numberOfLeadingZeros_72 rfl (Nat.le_of_ble_eq_true rfl) rfl <|
s_J20_numberOfLeadingZeros_j73 F (iUsh l0 (2:Int32)) (l1 + (-2:Int32)) h hk )
theorem s_J20_numberOfLeadingZeros_j48 {x : Cx} (F : Fx x cJ20_numberOfLeadingZeros "java/lang/Integer" 2 (some .int) rmJ20_numberOfLeadingZeros) {Q : Int32 → hH → Prop} (l0 : Int32) (l1 : Int32) (h : hH) (hk : f_J20_numberOfLeadingZeros_j48 x.S.E Q l0 l1 h) : G x (xQ x rmJ20_numberOfLeadingZeros (qI Q)) 48 [(0, aI l0), (1, aI l1)] [] h 0 0 := by
  unfold f_J20_numberOfLeadingZeros_j48 at hk
  exact g_iload_n F dJ20_numberOfLeadingZeros_48 rfl 0 rfl <|
g_bipush F dJ20_numberOfLeadingZeros_49 bp_16 <|
g_icmp_lt F dJ20_numberOfLeadingZeros_51 (tgt := 61) rfl (fun hc => have hk := hk.1 hc
s_J20_numberOfLeadingZeros_j61 F l0 l1 h hk ) (fun hc => have hk := hk.2 hc
g_iinc (v := (l1 + (-4:Int32))) F dJ20_numberOfLeadingZeros_54 (j := 1) rfl (iinc_m4 l1) (Nat.le_of_ble_eq_true rfl) rfl <|
g_iload_n F dJ20_numberOfLeadingZeros_57 rfl 1 rfl <|
g_iconst F dJ20_numberOfLeadingZeros_58 ic_4 <|
g_iushr F dJ20_numberOfLeadingZeros_59 <|
g_istore_n F dJ20_numberOfLeadingZeros_60 rfl (Nat.le_of_ble_eq_true rfl) rfl <|
s_J20_numberOfLeadingZeros_j61 F (iUsh l0 (4:Int32)) (l1 + (-4:Int32)) h hk )
theorem s_J20_numberOfLeadingZeros_j33 {x : Cx} (F : Fx x cJ20_numberOfLeadingZeros "java/lang/Integer" 2 (some .int) rmJ20_numberOfLeadingZeros) {Q : Int32 → hH → Prop} (l0 : Int32) (l1 : Int32) (h : hH) (hk : f_J20_numberOfLeadingZeros_j33 x.S.E Q l0 l1 h) : G x (xQ x rmJ20_numberOfLeadingZeros (qI Q)) 33 [(0, aI l0), (1, aI l1)] [] h 0 0 := by
  unfold f_J20_numberOfLeadingZeros_j33 at hk
  exact g_iload_n F dJ20_numberOfLeadingZeros_33 rfl 0 rfl <|
g_sipush F dJ20_numberOfLeadingZeros_34 sp_256 <|
g_icmp_lt F dJ20_numberOfLeadingZeros_37 (tgt := 48) rfl (fun hc => have hk := hk.1 hc
s_J20_numberOfLeadingZeros_j48 F l0 l1 h hk ) (fun hc => have hk := hk.2 hc
g_iinc (v := (l1 + (-8:Int32))) F dJ20_numberOfLeadingZeros_40 (j := 1) rfl (iinc_m8 l1) (Nat.le_of_ble_eq_true rfl) rfl <|
g_iload_n F dJ20_numberOfLeadingZeros_43 rfl 1 rfl <|
g_bipush F dJ20_numberOfLeadingZeros_44 bp_8 <|
g_iushr F dJ20_numberOfLeadingZeros_46 <|
g_istore_n F dJ20_numberOfLeadingZeros_47 rfl (Nat.le_of_ble_eq_true rfl) rfl <|
s_J20_numberOfLeadingZeros_j48 F (iUsh l0 (8:Int32)) (l1 + (-8:Int32)) h hk )
theorem m_J20_numberOfLeadingZeros {S : Sx} (hS0 : Sok S) (v0 : Int32) (h : hH) (Q : Int32 → hH → Prop) (hk : f_J20_numberOfLeadingZeros S.E v0 h Q) : Ct S yJ20_numberOfLeadingZeros (ws_ yJ20_numberOfLeadingZeros cJ20_numberOfLeadingZeros 2 (some .int)) rmJ20_numberOfLeadingZeros ([aI v0].map vv) h (qI Q) := by
  refine Ct.of hS0 (by decide +kernel) rfl (Nat.le_of_ble_eq_true rfl) fun x hxS F hnm => ?_
  subst hxS
  unfold f_J20_numberOfLeadingZeros at hk
  exact g_iload_n F dJ20_numberOfLeadingZeros_0 rfl 0 rfl <|
g_if_gt F dJ20_numberOfLeadingZeros_1 (tgt := 15) rfl (fun hc => have hk := hk.1 hc
g_bipush F dJ20_numberOfLeadingZeros_15 bp_31 <|
g_istore_n F dJ20_numberOfLeadingZeros_17 rfl (Nat.le_of_ble_eq_true rfl) rfl <|
g_iload_n F dJ20_numberOfLeadingZeros_18 rfl 1 rfl <|
g_ldcw F dJ20_numberOfLeadingZeros_19 q1209 <|
g_icmp_lt F dJ20_numberOfLeadingZeros_22 (tgt := 33) rfl (fun hc => have hk := hk.1 hc
G.fewer [1, 0] rfl <| s_J20_numberOfLeadingZeros_j33 F v0 (31:Int32) h hk ) (fun hc => have hk := hk.2 hc
g_iinc (v := ((31:Int32) + (-16:Int32))) F dJ20_numberOfLeadingZeros_25 (j := 0) rfl (iinc_m16 (31:Int32)) (Nat.le_of_ble_eq_true rfl) rfl <|
g_iload_n F dJ20_numberOfLeadingZeros_28 rfl 1 rfl <|
g_bipush F dJ20_numberOfLeadingZeros_29 bp_16 <|
g_iushr F dJ20_numberOfLeadingZeros_31 <|
g_istore_n F dJ20_numberOfLeadingZeros_32 rfl (Nat.le_of_ble_eq_true rfl) rfl <|
s_J20_numberOfLeadingZeros_j33 F (iUsh v0 (16:Int32)) ((31:Int32) + (-16:Int32)) h hk )) (fun hc => have hk := hk.2 hc
g_iload_n F dJ20_numberOfLeadingZeros_4 rfl 0 rfl <|
g_if_ne F dJ20_numberOfLeadingZeros_5 (tgt := 13) rfl (fun hc => have hk := hk.2 hc
g_iconst F dJ20_numberOfLeadingZeros_13 ic_0 <|
g_iret F dJ20_numberOfLeadingZeros_14 (Nat.le_refl 0) (Nat.le_refl 0) hk) (fun hc => have hk := hk.1 hc
g_bipush F dJ20_numberOfLeadingZeros_8 bp_32 <|
g_goto F dJ20_numberOfLeadingZeros_10 (tgt := 14) rfl <|
g_iret F dJ20_numberOfLeadingZeros_14 (Nat.le_refl 0) (Nat.le_refl 0) hk))
abbrev rmJ13_copyOf : Room := { frames := 2, cells := 1, slots := 300, locals := 40 }
theorem m_J13_copyOf {S : Sx} (hS0 : Sok S) (v0 : Option Nat) (v1 : Int32) (h : hH) (Q : Option Nat → hH → Prop) (hk : f_J13_copyOf S.E v0 v1 h Q) : Ct S yJ13_copyOf (ws_ yJ13_copyOf cJ13_copyOf 3 (some (.array .byte))) rmJ13_copyOf ([aR v0, aI v1].map vv) h (qR Q) := by
  refine Ct.of hS0 (by decide +kernel) rfl (Nat.le_of_ble_eq_true rfl) fun x hxS F hnm => ?_
  subst hxS
  unfold f_J13_copyOf at hk
  have hM : 0 + 1 ≤ 1 := by omega
  have hS : 0 + 300 ≤ 300 := by omega
  refine G.widen (c' := 0 + 0) (k' := 0 + 0) (Nat.le_refl 0) (Nat.le_refl 0) ?_
  exact g_iload_n F dJ13_copyOf_0 rfl 1 rfl <|
g_aload_n F dJ13_copyOf_1 rfl 0 rfl <|
g_alen (t := 1) F dJ13_copyOf_2 rfl hk fun x1 hk =>
g_icmp_ne F dJ13_copyOf_3 (tgt := 14) rfl (fun hc => have hk := hk.2 hc
g_iload_n F dJ13_copyOf_14 rfl 1 rfl <|
g_newI (t := 1) F dJ13_copyOf_15 q375 rfl rfl rfl (Nat.le_of_ble_eq_true rfl) (Nat.le_of_ble_eq_true rfl) (show 0 + 0 + 1 ≤ 1 by omega) (show 0 + 0 + 300 ≤ 300 by omega) hk fun q2 h3 hk =>
g_astore_n F dJ13_copyOf_17 rfl (Nat.le_of_ble_eq_true rfl) rfl <|
g_aload_n F dJ13_copyOf_18 rfl 1 rfl <|
g_iconst F dJ13_copyOf_19 ic_0 <|
g_aload_n F dJ13_copyOf_20 rfl 0 rfl <|
g_iconst F dJ13_copyOf_21 ic_0 <|
g_aload_n F dJ13_copyOf_22 rfl 1 rfl <|
g_alen (t := 1) F dJ13_copyOf_23 rfl hk fun x4 hk =>
g_iload_n F dJ13_copyOf_24 rfl 2 rfl <|
g_mmin (rest := [aI (0:Int32), aR (some q2), aI (0:Int32), aR v0]) F dJ13_copyOf_25 q555 q556 q130 q557 (Nat.le_of_ble_eq_true rfl) (Nat.le_of_ble_eq_true rfl) (show 0 + 0 + 1 ≤ 1 by omega) (show 0 + 0 + 300 ≤ 300 by omega) <|
g_cpI (t := 1) (rest := []) F dJ13_copyOf_28 q558 q560 q559 q132 rfl rfl (Nat.le_of_ble_eq_true rfl) (Nat.le_of_ble_eq_true rfl) hk fun h5 hk =>
g_aload_n F dJ13_copyOf_31 rfl 0 rfl <|
g_aret F (Or.inr ⟨_, rfl⟩) dJ13_copyOf_32 (show 0 + 0 + 1 ≤ 1 by omega) (show 0 + 0 + 300 ≤ 300 by omega) hk) (fun hc => have hk := hk.1 hc
g_aload_n F dJ13_copyOf_6 rfl 0 rfl <|
g_clB (rest := []) F dJ13_copyOf_7 q550 q551 q225 q226 q552 q553 (Nat.le_of_ble_eq_true rfl) (Nat.le_of_ble_eq_true rfl) (show 0 + 0 + 1 ≤ 1 by omega) (show 0 + 0 + 300 ≤ 300 by omega) hk fun q6 h7 hk =>
g_castA (t := 1) F dJ13_copyOf_10 q554 F.arr1 hk fun hk =>
g_aret F (Or.inr ⟨_, rfl⟩) dJ13_copyOf_13 (show 0 + 0 + 1 ≤ 1 by omega) (show 0 + 0 + 300 ≤ 300 by omega) hk)
abbrev rmJ13_checkLength : Room := { frames := 2, cells := 0, slots := 0, locals := 40 }
theorem m_J13_checkLength {S : Sx} (hS0 : Sok S) (v0 : Int32) (v1 : Int32) (h : hH) (Q : hH → Prop) (hk : f_J13_checkLength S.E v0 v1 h Q) : Ct S yJ13_checkLength (ws_ yJ13_checkLength cJ13_checkLength 2 none) rmJ13_checkLength ([aI v0, aI v1].map vv) h (qV Q) := by
  refine Ct.of hS0 (by decide +kernel) rfl (Nat.le_of_ble_eq_true rfl) fun x hxS F hnm => ?_
  subst hxS
  unfold f_J13_checkLength at hk
  exact g_iload_n F dJ13_checkLength_0 rfl 1 rfl <|
g_iload_n F dJ13_checkLength_1 rfl 0 rfl <|
g_icmp_ge F dJ13_checkLength_2 (tgt := 37) rfl (fun hc => have hk := hk.1 hc
g_vret F dJ13_checkLength_37 (Nat.le_refl 0) (Nat.le_refl 0) hk) (fun hc => have hk := hk.2 hc
False.elim hk)
abbrev rmJ13_copyOfRangeByte : Room := { frames := 3, cells := 1, slots := 900, locals := 61 }
theorem m_J13_copyOfRangeByte {S : Sx} (hS0 : Sok S) (v0 : Option Nat) (v1 : Int32) (v2 : Int32) (h : hH) (Q : Option Nat → hH → Prop) (hk : f_J13_copyOfRangeByte S.E v0 v1 v2 h Q) : Ct S yJ13_copyOfRangeByte (ws_ yJ13_copyOfRangeByte cJ13_copyOfRangeByte 5 (some (.array .byte))) rmJ13_copyOfRangeByte ([aR v0, aI v1, aI v2].map vv) h (qR Q) := by
  refine Ct.of hS0 (by decide +kernel) rfl (Nat.le_of_ble_eq_true rfl) fun x hxS F hnm => ?_
  subst hxS
  unfold f_J13_copyOfRangeByte at hk
  have hM : 0 + 1 ≤ 1 := by omega
  have hS : 0 + 900 ≤ 900 := by omega
  refine G.widen (c' := 0 + 0) (k' := 0 + 0) (Nat.le_refl 0) (Nat.le_refl 0) ?_
  exact g_iload_n F dJ13_copyOfRangeByte_0 rfl 1 rfl <|
g_iload_n F dJ13_copyOfRangeByte_1 rfl 2 rfl <|
g_callv0 (g_S F dJ13_copyOfRangeByte_2 q647 ms_J13_checkLength (rm' := rmJ13_checkLength) ⟨Nat.le_of_ble_eq_true rfl, Nat.le_of_ble_eq_true rfl⟩ ⟨show 0 + 0 + 0 ≤ 1 by omega, show 0 + 0 + 0 ≤ 900 by omega⟩ (As := [aI v1, aI v2]) (rest := []) rfl rfl (Nat.le_of_ble_eq_true rfl) (m_J13_checkLength F.ok v1 v2 h _ hk)) ⟨rfl, rfl⟩ fun h1 hk =>
g_iload_n F dJ13_copyOfRangeByte_5 rfl 2 rfl <|
g_iload_n F dJ13_copyOfRangeByte_6 rfl 1 rfl <|
g_isub F dJ13_copyOfRangeByte_7 <|
g_istore_n F dJ13_copyOfRangeByte_8 rfl (Nat.le_of_ble_eq_true rfl) rfl <|
g_iload_n F dJ13_copyOfRangeByte_9 rfl 0 rfl <|
g_newI (t := 1) F dJ13_copyOfRangeByte_10 q375 rfl rfl rfl (Nat.le_of_ble_eq_true rfl) (Nat.le_of_ble_eq_true rfl) (show 0 + 0 + 1 ≤ 1 by omega) (show 0 + 0 + 900 ≤ 900 by omega) hk fun q2 h3 hk =>
g_astore F dJ13_copyOfRangeByte_12 (Nat.le_of_ble_eq_true rfl) rfl <|
g_aload_n F dJ13_copyOfRangeByte_14 rfl 2 rfl <|
g_iload_n F dJ13_copyOfRangeByte_15 rfl 3 rfl <|
g_aload F dJ13_copyOfRangeByte_16 0 rfl <|
g_iconst F dJ13_copyOfRangeByte_18 ic_0 <|
g_aload_n F dJ13_copyOfRangeByte_19 rfl 2 rfl <|
g_alen (t := 1) F dJ13_copyOfRangeByte_20 rfl hk fun x4 hk =>
g_iload_n F dJ13_copyOfRangeByte_21 rfl 3 rfl <|
g_isub F dJ13_copyOfRangeByte_22 <|
g_iload_n F dJ13_copyOfRangeByte_23 rfl 1 rfl <|
g_mmin (rest := [aI (0:Int32), aR (some q2), aI v1, aR v0]) F dJ13_copyOfRangeByte_24 q555 q556 q130 q557 (Nat.le_of_ble_eq_true rfl) (Nat.le_of_ble_eq_true rfl) (show 0 + 0 + 1 ≤ 1 by omega) (show 0 + 0 + 900 ≤ 900 by omega) <|
g_cpI (t := 1) (rest := []) F dJ13_copyOfRangeByte_27 q558 q560 q559 q132 rfl rfl (Nat.le_of_ble_eq_true rfl) (Nat.le_of_ble_eq_true rfl) hk fun h5 hk =>
g_aload F dJ13_copyOfRangeByte_30 0 rfl <|
g_aret F (Or.inr ⟨_, rfl⟩) dJ13_copyOfRangeByte_32 (show 0 + 0 + 1 ≤ 1 by omega) (show 0 + 0 + 900 ≤ 900 by omega) hk
abbrev rmJ13_copyOfRange : Room := { frames := 4, cells := 1, slots := 900, locals := 85 }
theorem s_J13_copyOfRange_j10 {x : Cx} (F : Fx x cJ13_copyOfRange "java/util/Arrays" 3 (some (.array .byte)) rmJ13_copyOfRange) {Q : Option Nat → hH → Prop} {cb kb : Nat} (hM : cb + 1 ≤ 1) (hS : kb + 900 ≤ 900) (l0 : Option Nat) (l1 : Int32) (l2 : Int32) (h : hH) (hk : f_J13_copyOfRange_j10 x.S.E Q l0 l1 l2 h) : G x (xQ x rmJ13_copyOfRange (qR Q)) 10 [(0, aR l0), (1, aI l1), (2, aI l2)] [] h (cb + 0) (kb + 0) := by
  unfold f_J13_copyOfRange_j10 at hk
  exact g_aload_n F dJ13_copyOfRange_10 rfl 0 rfl <|
g_iload_n F dJ13_copyOfRange_11 rfl 1 rfl <|
g_iload_n F dJ13_copyOfRange_12 rfl 2 rfl <|
g_callr (g_S F dJ13_copyOfRange_13 q644 ms_J13_copyOfRangeByte (rm' := rmJ13_copyOfRangeByte) ⟨Nat.le_of_ble_eq_true rfl, Nat.le_of_ble_eq_true rfl⟩ ⟨show cb + 0 + 1 ≤ 1 by omega, show kb + 0 + 900 ≤ 900 by omega⟩ (As := [aR l0, aI l1, aI l2]) (rest := []) rfl rfl (Nat.le_of_ble_eq_true rfl) (m_J13_copyOfRangeByte F.ok l0 l1 l2 h _ hk)) fun x2 h1 hk =>
g_aret F (Or.inr ⟨_, rfl⟩) dJ13_copyOfRange_16 (show cb + 0 + 1 ≤ 1 by omega) (show kb + 0 + 900 ≤ 900 by omega) hk
theorem m_J13_copyOfRange {S : Sx} (hS0 : Sok S) (v0 : Option Nat) (v1 : Int32) (v2 : Int32) (h : hH) (Q : Option Nat → hH → Prop) (hk : f_J13_copyOfRange S.E v0 v1 v2 h Q) : Ct S yJ13_copyOfRange (ws_ yJ13_copyOfRange cJ13_copyOfRange 3 (some (.array .byte))) rmJ13_copyOfRange ([aR v0, aI v1, aI v2].map vv) h (qR Q) := by
  refine Ct.of hS0 (by decide +kernel) rfl (Nat.le_of_ble_eq_true rfl) fun x hxS F hnm => ?_
  subst hxS
  unfold f_J13_copyOfRange at hk
  have hM : 0 + 1 ≤ 1 := by omega
  have hS : 0 + 900 ≤ 900 := by omega
  refine G.widen (c' := 0 + 0) (k' := 0 + 0) (Nat.le_refl 0) (Nat.le_refl 0) ?_
  exact g_iload_n F dJ13_copyOfRange_0 rfl 1 rfl <|
g_if_ne F dJ13_copyOfRange_1 (tgt := 10) rfl (fun hc => have hk := hk.2 hc
s_J13_copyOfRange_j10 F hM hS v0 v1 v2 h hk ) (fun hc => have hk := hk.1 hc
g_iload_n F dJ13_copyOfRange_4 rfl 2 rfl <|
g_aload_n F dJ13_copyOfRange_5 rfl 0 rfl <|
g_alen (t := 1) F dJ13_copyOfRange_6 rfl hk fun x3 hk =>
g_icmp_eq F dJ13_copyOfRange_7 (tgt := 17) rfl (fun hc => have hk := hk.1 hc
g_aload_n F dJ13_copyOfRange_17 rfl 0 rfl <|
g_clB (rest := []) F dJ13_copyOfRange_18 q550 q551 q225 q226 q552 q553 (Nat.le_of_ble_eq_true rfl) (Nat.le_of_ble_eq_true rfl) (show 0 + 0 + 1 ≤ 1 by omega) (show 0 + 0 + 900 ≤ 900 by omega) hk fun q4 h5 hk =>
g_castA (t := 1) F dJ13_copyOfRange_21 q554 F.arr1 hk fun hk =>
g_aret F (Or.inr ⟨_, rfl⟩) dJ13_copyOfRange_24 (show 0 + 0 + 1 ≤ 1 by omega) (show 0 + 0 + 900 ≤ 900 by omega) hk) (fun hc => have hk := hk.2 hc
s_J13_copyOfRange_j10 F hM hS v0 v1 v2 h hk ))
abbrev rmJ13_copyOf_3 : Room := { frames := 2, cells := 1, slots := 64, locals := 40 }
theorem s_J13_copyOf_3_j24 {x : Cx} (F : Fx x cJ13_copyOf_3 "java/util/Arrays" 4 (some (.array (.object "java/lang/Object"))) rmJ13_copyOf_3) {Q : Option Nat → hH → Prop} {cb kb : Nat} (hM : cb + 1 ≤ 1) (hS : kb + 64 ≤ 64) (s0 : Option Nat) (l0 : Option Nat) (l1 : Int32) (h : hH) (hk : f_J13_copyOf_3_j24 x.S.E Q s0 l0 l1 h) : G x (xQ x rmJ13_copyOf_3 (qR Q)) 24 [(0, aR l0), (1, aI l1)] [aR s0] h (cb + 1) (kb + 64) := by
  unfold f_J13_copyOf_3_j24 at hk
  exact g_astore_n F dJ13_copyOf_3_24 rfl (Nat.le_of_ble_eq_true rfl) rfl <|
g_aload_n F dJ13_copyOf_3_25 rfl 1 rfl <|
g_iconst F dJ13_copyOf_3_26 ic_0 <|
g_aload_n F dJ13_copyOf_3_27 rfl 0 rfl <|
g_iconst F dJ13_copyOf_3_28 ic_0 <|
g_aload_n F dJ13_copyOf_3_29 rfl 1 rfl <|
g_alen (t := 4) F dJ13_copyOf_3_30 rfl hk fun x1 hk =>
g_iload_n F dJ13_copyOf_3_31 rfl 2 rfl <|
g_mmin (rest := [aI (0:Int32), aR s0, aI (0:Int32), aR l0]) F dJ13_copyOf_3_32 q555 q556 q130 q557 (Nat.le_of_ble_eq_true rfl) (Nat.le_of_ble_eq_true rfl) (show cb + 1 ≤ 1 by omega) (show kb + 64 ≤ 64 by omega) <|
g_cpQ (rest := []) F dJ13_copyOf_3_35 q558 q560 q559 q132 (Nat.le_of_ble_eq_true rfl) (Nat.le_of_ble_eq_true rfl) hk fun h2 hk =>
g_aload_n F dJ13_copyOf_3_38 rfl 0 rfl <|
g_aret F (Or.inr ⟨_, rfl⟩) dJ13_copyOf_3_39 (show cb + 1 ≤ 1 by omega) (show kb + 64 ≤ 64 by omega) hk
theorem m_J13_copyOf_3 {S : Sx} (hS0 : Sok S) (v0 : Option Nat) (v1 : Int32) (v2 : Option Nat) (h : hH) (Q : Option Nat → hH → Prop) (hk : f_J13_copyOf_3 S.E v0 v1 v2 h Q) : Ct S yJ13_copyOf_3 (ws_ yJ13_copyOf_3 cJ13_copyOf_3 4 (some (.array (.object "java/lang/Object")))) rmJ13_copyOf_3 ([aR v0, aI v1, aR v2].map vv) h (qR Q) := by
  refine Ct.of hS0 (by decide +kernel) rfl (Nat.le_of_ble_eq_true rfl) fun x hxS F hnm => ?_
  subst hxS
  unfold f_J13_copyOf_3 at hk
  have hM : 0 + 1 ≤ 1 := by omega
  have hS : 0 + 64 ≤ 64 := by omega
  refine G.widen (c' := 0 + 0) (k' := 0 + 0) (Nat.le_refl 0) (Nat.le_refl 0) ?_
  exact g_aload_n F dJ13_copyOf_3_0 rfl 2 rfl <|
g_ldcM4 F dJ13_copyOf_3_1 q973 <|
g_acmp_ne F dJ13_copyOf_3_3 (tgt := 13) rfl (fun hc => have hk := hk.2 hc
g_aload_n F dJ13_copyOf_3_13 rfl 2 rfl <|
False.elim hk) (fun hc => have hk := hk.1 hc
g_iload_n F dJ13_copyOf_3_6 rfl 1 rfl <|
g_newQ (t := 4) F dJ13_copyOf_3_7 q974 q274 rfl rfl (Nat.le_of_ble_eq_true rfl) (Nat.le_of_ble_eq_true rfl) (show 0 + 0 + 1 ≤ 1 by omega) (show 0 + 0 + 64 ≤ 64 by omega) hk fun q3 h4 hk =>
g_goto F dJ13_copyOf_3_10 (tgt := 24) rfl <|
G.fewer [0, 1] rfl <| G.widen (show 0 + 0 + 1 ≤ 0 + 1 by omega) (show 0 + 0 + 64 ≤ 0 + 64 by omega) <| s_J13_copyOf_3_j24 F hM hS (some q3) v0 v1 h4 hk )
abbrev rmJ13_copyOf_2 : Room := { frames := 3, cells := 1, slots := 64, locals := 63 }
theorem m_J13_copyOf_2 {S : Sx} (hS0 : Sok S) (v0 : Option Nat) (v1 : Int32) (h : hH) (Q : Option Nat → hH → Prop) (hk : f_J13_copyOf_2 S.E v0 v1 h Q) : Ct S yJ13_copyOf_2 (ws_ yJ13_copyOf_2 cJ13_copyOf_2 2 (some (.array (.object "java/lang/Object")))) rmJ13_copyOf_2 ([aR v0, aI v1].map vv) h (qR Q) := by
  refine Ct.of hS0 (by decide +kernel) rfl (Nat.le_of_ble_eq_true rfl) fun x hxS F hnm => ?_
  subst hxS
  unfold f_J13_copyOf_2 at hk
  have hM : 0 + 1 ≤ 1 := by omega
  have hS : 0 + 64 ≤ 64 := by omega
  refine G.widen (c' := 0 + 0) (k' := 0 + 0) (Nat.le_refl 0) (Nat.le_refl 0) ?_
  exact g_aload_n F dJ13_copyOf_2_0 rfl 0 rfl <|
g_iload_n F dJ13_copyOf_2_1 rfl 1 rfl <|
g_aload_n F dJ13_copyOf_2_2 rfl 0 rfl <|
g_getC4 (rest := [aI v1, aR v0]) F dJ13_copyOf_2_3 q926 q3632 q3631 q927 q969 (Nat.le_of_ble_eq_true rfl) (Nat.le_of_ble_eq_true rfl) hk fun hk =>
g_callr (g_S F dJ13_copyOf_2_6 q970 ms_J13_copyOf_3 (rm' := rmJ13_copyOf_3) ⟨Nat.le_of_ble_eq_true rfl, Nat.le_of_ble_eq_true rfl⟩ ⟨show 0 + 0 + 1 ≤ 1 by omega, show 0 + 0 + 64 ≤ 64 by omega⟩ (As := [aR v0, aI v1, aR (some (x.S.E 11))]) (rest := []) rfl rfl (Nat.le_of_ble_eq_true rfl) (m_J13_copyOf_3 F.ok v0 v1 (some (x.S.E 11)) h _ hk)) fun x2 h1 hk =>
g_aret F (Or.inr ⟨_, rfl⟩) dJ13_copyOf_2_9 (show 0 + 0 + 1 ≤ 1 by omega) (show 0 + 0 + 64 ≤ 64 by omega) hk
abbrev rmJ2_init : Room := { frames := 4, cells := 0, slots := 0, locals := 80 }
theorem m_J2_init {S : Sx} (hS0 : Sok S) (v0 : Nat) (h : hH) (Q : hH → Prop) (hk : f_J2_init S.E v0 h Q) : Ct S yJ2_init (ws_ yJ2_init cJ2_init 1 none) rmJ2_init ([aR (some v0)].map vv) h (qV Q) := by
  refine Ct.of hS0 (by decide +kernel) rfl (Nat.le_of_ble_eq_true rfl) fun x hxS F hnm => ?_
  subst hxS
  unfold f_J2_init at hk
  exact g_aload_n F dJ2_init_0 rfl 0 rfl <|
g_callv0 (g_I F dJ2_init_1 q235 mc_J1_init (rm' := rmJ1_init) ⟨Nat.le_of_ble_eq_true rfl, Nat.le_of_ble_eq_true rfl⟩ ⟨Nat.le_refl 0, Nat.le_refl 0⟩ (As := []) (rest := []) rfl rfl (Nat.le_of_ble_eq_true rfl) (m_J1_init F.ok v0 h _ hk)) ⟨rfl, rfl⟩ fun h1 hk =>
g_aload_n F dJ2_init_4 rfl 0 rfl <|
g_gets F dJ2_init_5 (sz_10 _) zl_java_util_ArrayList_39 <|
g_putV F dJ2_init_8 fo_J2_1_java_util_ArrayList ck_J2 fl_java_util_ArrayList_9_J2 rfl (v := aR (some (x.S.E 10))) (fit_ra (.object "java/lang/Object") (some (x.S.E 10))) hk fun h2 hk =>
g_vret F dJ2_init_11 (Nat.le_refl 0) (Nat.le_refl 0) hk
abbrev rmJ2_size : Room := { frames := 2, cells := 0, slots := 0, locals := 40 }
theorem m_J2_size {S : Sx} (hS0 : Sok S) (v0 : Nat) (h : hH) (Q : Int32 → hH → Prop) (hk : f_J2_size S.E v0 h Q) : Ct S yJ2_size (ws_ yJ2_size cJ2_size 1 (some .int)) rmJ2_size ([aR (some v0)].map vv) h (qI Q) := by
  refine Ct.of hS0 (by decide +kernel) rfl (Nat.le_of_ble_eq_true rfl) fun x hxS F hnm => ?_
  subst hxS
  unfold f_J2_size at hk
  exact g_aload_n F dJ2_size_0 rfl 0 rfl <|
g_getI F dJ2_size_1 fo_J2_2_java_util_ArrayList in_J2 fl_java_util_ArrayList_48_J2 hk fun x1 hk =>
g_iret F dJ2_size_4 (Nat.le_refl 0) (Nat.le_refl 0) hk
abbrev rmJ2_elementData : Room := { frames := 2, cells := 0, slots := 0, locals := 40 }
theorem m_J2_elementData {S : Sx} (hS0 : Sok S) (v0 : Nat) (v1 : Int32) (h : hH) (Q : Option Nat → hH → Prop) (hk : f_J2_elementData S.E v0 v1 h Q) : Ct S yJ2_elementData (ws_ yJ2_elementData cJ2_elementData 2 (some (.object "java/lang/Object"))) rmJ2_elementData ([aR (some v0), aI v1].map vv) h (qR Q) := by
  refine Ct.of hS0 (by decide +kernel) rfl (Nat.le_of_ble_eq_true rfl) fun x hxS F hnm => ?_
  subst hxS
  unfold f_J2_elementData at hk
  exact g_aload_n F dJ2_elementData_0 rfl 0 rfl <|
g_getR F dJ2_elementData_1 fo_J2_1_java_util_ArrayList in_J2 fl_java_util_ArrayList_9_J2 hk fun x1 hk =>
g_iload_n F dJ2_elementData_4 rfl 1 rfl <|
g_aald (t := 4) F dJ2_elementData_5 rfl rfl hk fun x2 hk =>
g_aret F (Or.inl ⟨_, rfl⟩) dJ2_elementData_6 (Nat.le_refl 0) (Nat.le_refl 0) hk
abbrev rmJ2_get : Room := { frames := 4, cells := 0, slots := 0, locals := 83 }
theorem m_J2_get {S : Sx} (hS0 : Sok S) (v0 : Nat) (v1 : Int32) (h : hH) (Q : Option Nat → hH → Prop) (hk : f_J2_get S.E v0 v1 h Q) : Ct S yJ2_get (ws_ yJ2_get cJ2_get 2 (some (.object "java/lang/Object"))) rmJ2_get ([aR (some v0), aI v1].map vv) h (qR Q) := by
  refine Ct.of hS0 (by decide +kernel) rfl (Nat.le_of_ble_eq_true rfl) fun x hxS F hnm => ?_
  subst hxS
  unfold f_J2_get at hk
  exact g_iload_n F dJ2_get_0 rfl 1 rfl <|
g_aload_n F dJ2_get_1 rfl 0 rfl <|
g_getI F dJ2_get_2 fo_J2_2_java_util_ArrayList in_J2 fl_java_util_ArrayList_48_J2 hk fun x1 hk =>
g_calli0 (g_S F dJ2_get_5 q873 ms_J18_checkIndex (rm' := rmJ18_checkIndex) ⟨Nat.le_of_ble_eq_true rfl, Nat.le_of_ble_eq_true rfl⟩ ⟨Nat.le_refl 0, Nat.le_refl 0⟩ (As := [aI v1, aI x1]) (rest := []) rfl rfl (Nat.le_of_ble_eq_true rfl) (m_J18_checkIndex F.ok v1 x1 h _ hk)) ⟨rfl, rfl⟩ fun x3 h2 hk =>
g_pop F dJ2_get_8 rfl <|
g_aload_n F dJ2_get_9 rfl 0 rfl <|
g_iload_n F dJ2_get_10 rfl 1 rfl <|
g_callr0 (g_V F dJ2_get_11 q877 mi_J2_elementData ct_J2 (rm' := rmJ2_elementData) ⟨Nat.le_of_ble_eq_true rfl, Nat.le_of_ble_eq_true rfl⟩ ⟨Nat.le_refl 0, Nat.le_refl 0⟩ (As := [aI v1]) (rest := []) rfl rfl (Nat.le_of_ble_eq_true rfl) hk (fun a6 hk => m_J2_elementData F.ok a6 v1 h2 _ hk)) ⟨rfl, rfl⟩ fun x5 h4 hk =>
g_aret F (Or.inl ⟨_, rfl⟩) dJ2_get_14 (Nat.le_refl 0) (Nat.le_refl 0) hk
abbrev rmJ2_grow_2 : Room := { frames := 4, cells := 1, slots := 64, locals := 84 }
theorem s_J2_grow_2_j20 {x : Cx} (F : Fx x cJ2_grow_2 "java/util/ArrayList" 4 (some (.array (.object "java/lang/Object"))) rmJ2_grow_2) {v0 : Nat} {Q : Option Nat → hH → Prop} {cb kb : Nat} (hM : cb + 1 ≤ 1) (hS : kb + 64 ≤ 64) (l1 : Int32) (l2 : Int32) (h : hH) (hk : f_J2_grow_2_j20 x.S.E v0 Q l1 l2 h) : G x (xQ x rmJ2_grow_2 (qR Q)) 20 [(0, aR (some v0)), (1, aI l1), (2, aI l2)] [] h (cb + 0) (kb + 0) := by
  unfold f_J2_grow_2_j20 at hk
  exact g_iload_n F dJ2_grow_2_20 rfl 2 rfl <|
g_iload_n F dJ2_grow_2_21 rfl 1 rfl <|
g_iload_n F dJ2_grow_2_22 rfl 2 rfl <|
g_isub F dJ2_grow_2_23 <|
g_iload_n F dJ2_grow_2_24 rfl 2 rfl <|
g_iconst F dJ2_grow_2_25 ic_1 <|
g_ishr F dJ2_grow_2_26 <|
g_calli0 (g_S F dJ2_grow_2_27 q922 ms_J11_newLength (rm' := rmJ11_newLength) ⟨Nat.le_of_ble_eq_true rfl, Nat.le_of_ble_eq_true rfl⟩ ⟨show cb + 0 + 0 ≤ 1 by omega, show kb + 0 + 0 ≤ 64 by omega⟩ (As := [aI l2, aI (l1 - l2), aI (l2 >>> ((1:Int32) &&& 31))]) (rest := []) rfl rfl (Nat.le_of_ble_eq_true rfl) (m_J11_newLength F.ok l2 (l1 - l2) (l2 >>> ((1:Int32) &&& 31)) h _ hk)) ⟨rfl, rfl⟩ fun x2 h1 hk =>
g_istore_n F dJ2_grow_2_30 rfl (Nat.le_of_ble_eq_true rfl) rfl <|
g_aload_n F dJ2_grow_2_31 rfl 1 rfl <|
g_aload_n F dJ2_grow_2_32 rfl 1 rfl <|
g_getR F dJ2_grow_2_33 fo_J2_1_java_util_ArrayList in_J2 fl_java_util_ArrayList_9_J2 hk fun x3 hk =>
g_iload_n F dJ2_grow_2_36 rfl 0 rfl <|
g_callr (g_S F dJ2_grow_2_37 q923 ms_J13_copyOf_2 (rm' := rmJ13_copyOf_2) ⟨Nat.le_of_ble_eq_true rfl, Nat.le_of_ble_eq_true rfl⟩ ⟨show cb + 0 + 1 ≤ 1 by omega, show kb + 0 + 64 ≤ 64 by omega⟩ (As := [aR x3, aI x2]) (rest := [aR (some v0)]) rfl rfl (Nat.le_of_ble_eq_true rfl) (m_J13_copyOf_2 F.ok x3 x2 h1 _ hk)) fun x5 h4 hk =>
g_dup_x1 F dJ2_grow_2_40 rfl rfl <|
g_putV F dJ2_grow_2_41 fo_J2_1_java_util_ArrayList ck_J2 fl_java_util_ArrayList_9_J2 rfl (v := aR x5) (fit_ra (.object "java/lang/Object") x5) hk fun h6 hk =>
g_aret F (Or.inr ⟨_, rfl⟩) dJ2_grow_2_44 (show cb + 0 + 1 ≤ 1 by omega) (show kb + 0 + 64 ≤ 64 by omega) hk
theorem m_J2_grow_2 {S : Sx} (hS0 : Sok S) (v0 : Nat) (v1 : Int32) (h : hH) (Q : Option Nat → hH → Prop) (hk : f_J2_grow_2 S.E v0 v1 h Q) : Ct S yJ2_grow_2 (ws_ yJ2_grow_2 cJ2_grow_2 4 (some (.array (.object "java/lang/Object")))) rmJ2_grow_2 ([aR (some v0), aI v1].map vv) h (qR Q) := by
  refine Ct.of hS0 (by decide +kernel) rfl (Nat.le_of_ble_eq_true rfl) fun x hxS F hnm => ?_
  subst hxS
  unfold f_J2_grow_2 at hk
  have hM : 0 + 1 ≤ 1 := by omega
  have hS : 0 + 64 ≤ 64 := by omega
  refine G.widen (c' := 0 + 0) (k' := 0 + 0) (Nat.le_refl 0) (Nat.le_refl 0) ?_
  exact g_aload_n F dJ2_grow_2_0 rfl 0 rfl <|
g_getR F dJ2_grow_2_1 fo_J2_1_java_util_ArrayList in_J2 fl_java_util_ArrayList_9_J2 hk fun x7 hk =>
g_alen (t := 4) F dJ2_grow_2_4 rfl hk fun x8 hk =>
g_istore_n F dJ2_grow_2_5 rfl (Nat.le_of_ble_eq_true rfl) rfl <|
g_iload_n F dJ2_grow_2_6 rfl 0 rfl <|
g_if_gt F dJ2_grow_2_7 (tgt := 20) rfl (fun hc => have hk := hk.1 hc
G.fewer [1, 2, 0] rfl <| s_J2_grow_2_j20 F hM hS v1 x8 h hk ) (fun hc => have hk := hk.2 hc
g_aload_n F dJ2_grow_2_10 rfl 1 rfl <|
g_getR F dJ2_grow_2_11 fo_J2_1_java_util_ArrayList in_J2 fl_java_util_ArrayList_9_J2 hk fun x9 hk =>
g_gets F dJ2_grow_2_14 (sz_10 _) zl_java_util_ArrayList_39 <|
g_acmp_eq F dJ2_grow_2_17 (tgt := 45) rfl (fun hc => have hk := hk.1 hc
g_aload_n F dJ2_grow_2_45 rfl 1 rfl <|
g_bipush F dJ2_grow_2_46 bp_10 <|
g_iload_n F dJ2_grow_2_48 rfl 2 rfl <|
g_mmax (rest := [aR (some v0)]) F dJ2_grow_2_49 q975 q540 q130 q541 (Nat.le_of_ble_eq_true rfl) (Nat.le_of_ble_eq_true rfl) (show 0 + 0 ≤ 1 by omega) (show 0 + 0 ≤ 64 by omega) <|
g_newQ (t := 4) F dJ2_grow_2_52 q976 q274 rfl rfl (Nat.le_of_ble_eq_true rfl) (Nat.le_of_ble_eq_true rfl) (show 0 + 0 + 1 ≤ 1 by omega) (show 0 + 0 + 10 ≤ 64 by omega) hk fun q10 h11 hk =>
g_dup_x1 F dJ2_grow_2_55 rfl rfl <|
g_putV F dJ2_grow_2_56 fo_J2_1_java_util_ArrayList ck_J2 fl_java_util_ArrayList_9_J2 rfl (v := aR (some q10)) (fit_ra (.object "java/lang/Object") (some q10)) hk fun h12 hk =>
g_aret F (Or.inr ⟨_, rfl⟩) dJ2_grow_2_59 (show 0 + 0 + 1 ≤ 1 by omega) (show 0 + 0 + 10 ≤ 64 by omega) hk) (fun hc => have hk := hk.2 hc
G.fewer [1, 2, 0] rfl <| s_J2_grow_2_j20 F hM hS v1 x8 h hk ))
abbrev rmJ2_grow : Room := { frames := 5, cells := 1, slots := 64, locals := 107 }
theorem m_J2_grow {S : Sx} (hS0 : Sok S) (v0 : Nat) (h : hH) (Q : Option Nat → hH → Prop) (hk : f_J2_grow S.E v0 h Q) : Ct S yJ2_grow (ws_ yJ2_grow cJ2_grow 1 (some (.array (.object "java/lang/Object")))) rmJ2_grow ([aR (some v0)].map vv) h (qR Q) := by
  refine Ct.of hS0 (by decide +kernel) rfl (Nat.le_of_ble_eq_true rfl) fun x hxS F hnm => ?_
  subst hxS
  unfold f_J2_grow at hk
  have hM : 0 + 1 ≤ 1 := by omega
  have hS : 0 + 64 ≤ 64 := by omega
  refine G.widen (c' := 0 + 0) (k' := 0 + 0) (Nat.le_refl 0) (Nat.le_refl 0) ?_
  exact g_aload_n F dJ2_grow_0 rfl 0 rfl <|
g_aload_n F dJ2_grow_1 rfl 0 rfl <|
g_getI F dJ2_grow_2 fo_J2_2_java_util_ArrayList in_J2 fl_java_util_ArrayList_48_J2 hk fun x1 hk =>
g_iconst F dJ2_grow_5 ic_1 <|
g_iadd F dJ2_grow_6 <|
g_callr (g_V F dJ2_grow_7 q918 mi_J2_grow_2 ct_J2 (rm' := rmJ2_grow_2) ⟨Nat.le_of_ble_eq_true rfl, Nat.le_of_ble_eq_true rfl⟩ ⟨show 0 + 0 + 1 ≤ 1 by omega, show 0 + 0 + 64 ≤ 64 by omega⟩ (As := [aI (x1 + (1:Int32))]) (rest := []) rfl rfl (Nat.le_of_ble_eq_true rfl) hk (fun a4 hk => m_J2_grow_2 F.ok a4 (x1 + (1:Int32)) h _ hk)) fun x3 h2 hk =>
g_aret F (Or.inr ⟨_, rfl⟩) dJ2_grow_10 (show 0 + 0 + 1 ≤ 1 by omega) (show 0 + 0 + 64 ≤ 64 by omega) hk
abbrev rmJ2_add_2 : Room := { frames := 6, cells := 1, slots := 64, locals := 127 }
theorem s_J2_add_2_j11 {x : Cx} (F : Fx x cJ2_add_2 "java/util/ArrayList" 4 none rmJ2_add_2) {v0 : Nat} {Q : hH → Prop} {cb kb : Nat} (hM : cb + 1 ≤ 1) (hS : kb + 64 ≤ 64) (l1 : Option Nat) (l2 : Option Nat) (l3 : Int32) (h : hH) (hk : f_J2_add_2_j11 x.S.E v0 Q l1 l2 l3 h) : G x (xQ x rmJ2_add_2 (qV Q)) 11 [(0, aR (some v0)), (1, aR l1), (2, aR l2), (3, aI l3)] [] h (cb + 1) (kb + 64) := by
  unfold f_J2_add_2_j11 at hk
  exact g_aload_n F dJ2_add_2_11 rfl 2 rfl <|
g_iload_n F dJ2_add_2_12 rfl 3 rfl <|
g_aload_n F dJ2_add_2_13 rfl 1 rfl <|
g_aast4 F dJ2_add_2_14 hk fun h1 hk =>
g_aload_n F dJ2_add_2_15 rfl 0 rfl <|
g_iload_n F dJ2_add_2_16 rfl 3 rfl <|
g_iconst F dJ2_add_2_17 ic_1 <|
g_iadd F dJ2_add_2_18 <|
g_putV F dJ2_add_2_19 fo_J2_2_java_util_ArrayList ck_J2 fl_java_util_ArrayList_48_J2 rfl (v := aI (l3 + (1:Int32))) (fit_i (l3 + (1:Int32))) hk fun h2 hk =>
g_vret F dJ2_add_2_22 (show cb + 1 ≤ 1 by omega) (show kb + 64 ≤ 64 by omega) hk
theorem m_J2_add_2 {S : Sx} (hS0 : Sok S) (v0 : Nat) (v1 : Option Nat) (v2 : Option Nat) (v3 : Int32) (h : hH) (Q : hH → Prop) (hk : f_J2_add_2 S.E v0 v1 v2 v3 h Q) : Ct S yJ2_add_2 (ws_ yJ2_add_2 cJ2_add_2 4 none) rmJ2_add_2 ([aR (some v0), aR v1, aR v2, aI v3].map vv) h (qV Q) := by
  refine Ct.of hS0 (by decide +kernel) rfl (Nat.le_of_ble_eq_true rfl) fun x hxS F hnm => ?_
  subst hxS
  unfold f_J2_add_2 at hk
  have hM : 0 + 1 ≤ 1 := by omega
  have hS : 0 + 64 ≤ 64 := by omega
  refine G.widen (c' := 0 + 0) (k' := 0 + 0) (Nat.le_refl 0) (Nat.le_refl 0) ?_
  exact g_iload_n F dJ2_add_2_0 rfl 3 rfl <|
g_aload_n F dJ2_add_2_1 rfl 2 rfl <|
g_alen (t := 4) F dJ2_add_2_2 rfl hk fun x3 hk =>
g_icmp_ne F dJ2_add_2_3 (tgt := 11) rfl (fun hc => have hk := hk.2 hc
G.widen (show 0 + 0 ≤ 0 + 1 by omega) (show 0 + 0 ≤ 0 + 64 by omega) <| s_J2_add_2_j11 F hM hS v1 v2 v3 h hk ) (fun hc => have hk := hk.1 hc
g_aload_n F dJ2_add_2_6 rfl 0 rfl <|
g_callr (g_V F dJ2_add_2_7 q914 mi_J2_grow ct_J2 (rm' := rmJ2_grow) ⟨Nat.le_of_ble_eq_true rfl, Nat.le_of_ble_eq_true rfl⟩ ⟨show 0 + 0 + 1 ≤ 1 by omega, show 0 + 0 + 64 ≤ 64 by omega⟩ (As := []) (rest := []) rfl rfl (Nat.le_of_ble_eq_true rfl) hk (fun a6 hk => m_J2_grow F.ok a6 h _ hk)) fun x5 h4 hk =>
g_astore_n F dJ2_add_2_10 rfl (Nat.le_of_ble_eq_true rfl) rfl <|
G.fewer [1, 2, 0, 3] rfl <| G.widen (show 0 + 0 + 1 ≤ 0 + 1 by omega) (show 0 + 0 + 64 ≤ 0 + 64 by omega) <| s_J2_add_2_j11 F hM hS v1 x5 v3 h4 hk )
abbrev rmJ2_add : Room := { frames := 7, cells := 1, slots := 64, locals := 150 }
theorem m_J2_add {S : Sx} (hS0 : Sok S) (v0 : Nat) (v1 : Option Nat) (h : hH) (Q : Int32 → hH → Prop) (hk : f_J2_add S.E v0 v1 h Q) : Ct S yJ2_add (ws_ yJ2_add cJ2_add 2 (some .boolean)) rmJ2_add ([aR (some v0), aR v1].map vv) h (qI Q) := by
  refine Ct.of hS0 (by decide +kernel) rfl (Nat.le_of_ble_eq_true rfl) fun x hxS F hnm => ?_
  subst hxS
  unfold f_J2_add at hk
  have hM : 0 + 1 ≤ 1 := by omega
  have hS : 0 + 64 ≤ 64 := by omega
  refine G.widen (c' := 0 + 0) (k' := 0 + 0) (Nat.le_refl 0) (Nat.le_refl 0) ?_
  exact g_aload_n F dJ2_add_0 rfl 0 rfl <|
g_dup F dJ2_add_1 rfl <|
g_getI F dJ2_add_2 fo_J2_0_java_util_ArrayList in_J2 fl_java_util_ArrayList_63_J2 hk fun x1 hk =>
g_iconst F dJ2_add_5 ic_1 <|
g_iadd F dJ2_add_6 <|
g_putV F dJ2_add_7 fo_J2_0_java_util_ArrayList ck_J2 fl_java_util_ArrayList_63_J2 rfl (v := aI (x1 + (1:Int32))) (fit_i (x1 + (1:Int32))) hk fun h2 hk =>
g_aload_n F dJ2_add_10 rfl 0 rfl <|
g_aload_n F dJ2_add_11 rfl 1 rfl <|
g_aload_n F dJ2_add_12 rfl 0 rfl <|
g_getR F dJ2_add_13 fo_J2_1_java_util_ArrayList in_J2 fl_java_util_ArrayList_9_J2 hk fun x3 hk =>
g_aload_n F dJ2_add_16 rfl 0 rfl <|
g_getI F dJ2_add_17 fo_J2_2_java_util_ArrayList in_J2 fl_java_util_ArrayList_48_J2 hk fun x4 hk =>
g_callv (g_V F dJ2_add_20 q910 mi_J2_add_2 ct_J2 (rm' := rmJ2_add_2) ⟨Nat.le_of_ble_eq_true rfl, Nat.le_of_ble_eq_true rfl⟩ ⟨show 0 + 0 + 1 ≤ 1 by omega, show 0 + 0 + 64 ≤ 64 by omega⟩ (As := [aR v1, aR x3, aI x4]) (rest := []) rfl rfl (Nat.le_of_ble_eq_true rfl) hk (fun a6 hk => m_J2_add_2 F.ok a6 v1 x3 x4 h2 _ hk)) fun h5 hk =>
g_iconst F dJ2_add_23 ic_1 <|
g_zret F dJ2_add_24 (show 0 + 0 + 1 ≤ 1 by omega) (show 0 + 0 + 64 ≤ 64 by omega) rfl hk
abbrev rmJ2_fastRemove : Room := { frames := 2, cells := 0, slots := 0, locals := 40 }
theorem s_J2_fastRemove_j34 {x : Cx} (F : Fx x cJ2_fastRemove "java/util/ArrayList" 4 none rmJ2_fastRemove) {v0 : Nat} {Q : hH → Prop} (l1 : Option Nat) (l3 : Int32) (h : hH) (hk : f_J2_fastRemove_j34 x.S.E v0 Q l1 l3 h) : G x (xQ x rmJ2_fastRemove (qV Q)) 34 [(0, aR (some v0)), (1, aR l1), (3, aI l3)] [] h 0 0 := by
  unfold f_J2_fastRemove_j34 at hk
  exact g_aload_n F dJ2_fastRemove_34 rfl 1 rfl <|
g_aload_n F dJ2_fastRemove_35 rfl 0 rfl <|
g_iload_n F dJ2_fastRemove_36 rfl 2 rfl <|
g_dup_x1 F dJ2_fastRemove_37 rfl rfl <|
g_putV F dJ2_fastRemove_38 fo_J2_2_java_util_ArrayList ck_J2 fl_java_util_ArrayList_48_J2 rfl (v := aI l3) (fit_i l3) hk fun h1 hk =>
g_null F dJ2_fastRemove_41 <|
g_aast4 F dJ2_fastRemove_42 hk fun h2 hk =>
g_vret F dJ2_fastRemove_43 (Nat.le_refl 0) (Nat.le_refl 0) hk
theorem m_J2_fastRemove {S : Sx} (hS0 : Sok S) (v0 : Nat) (v1 : Option Nat) (v2 : Int32) (h : hH) (Q : hH → Prop) (hk : f_J2_fastRemove S.E v0 v1 v2 h Q) : Ct S yJ2_fastRemove (ws_ yJ2_fastRemove cJ2_fastRemove 4 none) rmJ2_fastRemove ([aR (some v0), aR v1, aI v2].map vv) h (qV Q) := by
  refine Ct.of hS0 (by decide +kernel) rfl (Nat.le_of_ble_eq_true rfl) fun x hxS F hnm => ?_
  subst hxS
  unfold f_J2_fastRemove at hk
  exact g_aload_n F dJ2_fastRemove_0 rfl 0 rfl <|
g_dup F dJ2_fastRemove_1 rfl <|
g_getI F dJ2_fastRemove_2 fo_J2_0_java_util_ArrayList in_J2 fl_java_util_ArrayList_63_J2 hk fun x3 hk =>
g_iconst F dJ2_fastRemove_5 ic_1 <|
g_iadd F dJ2_fastRemove_6 <|
g_putV F dJ2_fastRemove_7 fo_J2_0_java_util_ArrayList ck_J2 fl_java_util_ArrayList_63_J2 rfl (v := aI (x3 + (1:Int32))) (fit_i (x3 + (1:Int32))) hk fun h4 hk =>
g_aload_n F dJ2_fastRemove_10 rfl 0 rfl <|
g_getI F dJ2_fastRemove_11 fo_J2_2_java_util_ArrayList in_J2 fl_java_util_ArrayList_48_J2 hk fun x5 hk =>
g_iconst F dJ2_fastRemove_14 ic_1 <|
g_isub F dJ2_fastRemove_15 <|
g_dup F dJ2_fastRemove_16 rfl <|
g_istore_n F dJ2_fastRemove_17 rfl (Nat.le_of_ble_eq_true rfl) rfl <|
g_iload_n F dJ2_fastRemove_18 rfl 3 rfl <|
g_icmp_le F dJ2_fastRemove_19 (tgt := 34) rfl (fun hc => have hk := hk.1 hc
G.fewer [1, 2, 0] rfl <| s_J2_fastRemove_j34 F v1 (x5 - (1:Int32)) h4 hk ) (fun hc => have hk := hk.2 hc
g_aload_n F dJ2_fastRemove_22 rfl 2 rfl <|
g_iload_n F dJ2_fastRemove_23 rfl 3 rfl <|
g_iconst F dJ2_fastRemove_24 ic_1 <|
g_iadd F dJ2_fastRemove_25 <|
g_aload_n F dJ2_fastRemove_26 rfl 2 rfl <|
g_iload_n F dJ2_fastRemove_27 rfl 3 rfl <|
g_iload_n F dJ2_fastRemove_28 rfl 0 rfl <|
g_iload_n F dJ2_fastRemove_29 rfl 3 rfl <|
g_isub F dJ2_fastRemove_30 <|
g_cpQ (rest := []) F dJ2_fastRemove_31 q2470 q560 q559 q132 (Nat.le_of_ble_eq_true rfl) (Nat.le_of_ble_eq_true rfl) hk fun h6 hk =>
G.fewer [1, 2, 0] rfl <| s_J2_fastRemove_j34 F v1 (x5 - (1:Int32)) h6 hk )
abbrev rmJ2_remove : Room := { frames := 4, cells := 0, slots := 0, locals := 83 }
theorem m_J2_remove {S : Sx} (hS0 : Sok S) (v0 : Nat) (v1 : Int32) (h : hH) (Q : Option Nat → hH → Prop) (hk : f_J2_remove S.E v0 v1 h Q) : Ct S yJ2_remove (ws_ yJ2_remove cJ2_remove 4 (some (.object "java/lang/Object"))) rmJ2_remove ([aR (some v0), aI v1].map vv) h (qR Q) := by
  refine Ct.of hS0 (by decide +kernel) rfl (Nat.le_of_ble_eq_true rfl) fun x hxS F hnm => ?_
  subst hxS
  unfold f_J2_remove at hk
  exact g_iload_n F dJ2_remove_0 rfl 1 rfl <|
g_aload_n F dJ2_remove_1 rfl 0 rfl <|
g_getI F dJ2_remove_2 fo_J2_2_java_util_ArrayList in_J2 fl_java_util_ArrayList_48_J2 hk fun x1 hk =>
g_calli0 (g_S F dJ2_remove_5 q873 ms_J18_checkIndex (rm' := rmJ18_checkIndex) ⟨Nat.le_of_ble_eq_true rfl, Nat.le_of_ble_eq_true rfl⟩ ⟨Nat.le_refl 0, Nat.le_refl 0⟩ (As := [aI v1, aI x1]) (rest := []) rfl rfl (Nat.le_of_ble_eq_true rfl) (m_J18_checkIndex F.ok v1 x1 h _ hk)) ⟨rfl, rfl⟩ fun x3 h2 hk =>
g_pop F dJ2_remove_8 rfl <|
g_aload_n F dJ2_remove_9 rfl 0 rfl <|
g_getR F dJ2_remove_10 fo_J2_1_java_util_ArrayList in_J2 fl_java_util_ArrayList_9_J2 hk fun x4 hk =>
g_astore_n F dJ2_remove_13 rfl (Nat.le_of_ble_eq_true rfl) rfl <|
g_aload_n F dJ2_remove_14 rfl 0 rfl <|
g_iload_n F dJ2_remove_15 rfl 2 rfl <|
g_aald (t := 4) F dJ2_remove_16 rfl rfl hk fun x5 hk =>
g_astore_n F dJ2_remove_17 rfl (Nat.le_of_ble_eq_true rfl) rfl <|
g_aload_n F dJ2_remove_18 rfl 2 rfl <|
g_aload_n F dJ2_remove_19 rfl 1 rfl <|
g_iload_n F dJ2_remove_20 rfl 3 rfl <|
g_callv0 (g_V F dJ2_remove_21 q2466 mi_J2_fastRemove ct_J2 (rm' := rmJ2_fastRemove) ⟨Nat.le_of_ble_eq_true rfl, Nat.le_of_ble_eq_true rfl⟩ ⟨Nat.le_refl 0, Nat.le_refl 0⟩ (As := [aR x4, aI v1]) (rest := []) rfl rfl (Nat.le_of_ble_eq_true rfl) hk (fun a7 hk => m_J2_fastRemove F.ok a7 x4 v1 h2 _ hk)) ⟨rfl, rfl⟩ fun h6 hk =>
g_aload_n F dJ2_remove_24 rfl 0 rfl <|
g_aret F (Or.inl ⟨_, rfl⟩) dJ2_remove_25 (Nat.le_refl 0) (Nat.le_refl 0) hk
