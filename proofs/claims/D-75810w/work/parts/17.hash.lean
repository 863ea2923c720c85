set_option maxRecDepth 100000
set_option maxHeartbeats 10000000
theorem mo_J31_isNaN : MOk yJ31_isNaN 1 := by decide +kernel
theorem ms_J31_isNaN : MS yJ31_isNaN cJ31_isNaN 1 (some .boolean) 1 := ⟨q1621, q160, q1622, mo_J31_isNaN⟩
theorem ct_J30 : CL[27]? = some (RJ30, TJ30, 8) := rfl
theorem ck_J30 : ClsOk RJ30 TJ30 8 tyJ30 := ⟨in_J30, tyJ30_ok, nmJ30⟩
theorem fo_J30_7_java_util_HashMap : FieldOk "java/util/HashMap" 27 7 RJ30 TJ30 8 := ⟨ct_J30, Nat.le_of_ble_eq_true rfl, Or.inl rfl⟩
theorem fl_java_util_HashMap_81_J30 : Cond.fieldLink "java/util/HashMap" 81 "java/util/HashMap" (TJ30 7).2.1 (TJ30 7).2.2.1 ∈ lw_all ∨ ∃ host, Cond.fieldLinkNest "java/util/HashMap" 81 "java/util/HashMap" (TJ30 7).2.1 (TJ30 7).2.2.1 host ∈ lw_tbl := Or.inl q1635
theorem mo_J30_tableSizeFor : MOk yJ30_tableSizeFor 1 := by decide +kernel
theorem ms_J30_tableSizeFor : MS yJ30_tableSizeFor cJ30_tableSizeFor 2 (some .int) 1 := ⟨q1624, q159, q1625, mo_J30_tableSizeFor⟩
theorem fo_J30_6_java_util_HashMap : FieldOk "java/util/HashMap" 27 6 RJ30 TJ30 8 := ⟨ct_J30, Nat.le_of_ble_eq_true rfl, Or.inl rfl⟩
theorem fl_java_util_HashMap_88_J30 : Cond.fieldLink "java/util/HashMap" 88 "java/util/HashMap" (TJ30 6).2.1 (TJ30 6).2.2.1 ∈ lw_all ∨ ∃ host, Cond.fieldLinkNest "java/util/HashMap" 88 "java/util/HashMap" (TJ30 6).2.1 (TJ30 6).2.2.1 host ∈ lw_tbl := Or.inl q1634
theorem mo_J30_init_2 : MOk yJ30_init_2 2 := by decide +kernel
theorem mc_J30_init_2 : MC yJ30_init_2 cJ30_init_2 3 2 := ⟨q1616, q159, q1617, rfl, mo_J30_init_2⟩
theorem mo_X15_hashCode : MOk yX15_hashCode 0 := by decide +kernel
theorem moi_java_lang_Object_hashCode___I : MOk ({ cls := "java/lang/Object", name := "hashCode", desc := "()I" } : MethodName) 0 := by decide +kernel
theorem ct_J32 : CL[28]? = some (RJ32, TJ32, 4) := rfl
theorem ck_J32 : ClsOk RJ32 TJ32 4 tyJ32 := ⟨in_J32, tyJ32_ok, nmJ32⟩
theorem fo_J32_3_java_util_HashMap_Node : FieldOk "java/util/HashMap$Node" 28 3 RJ32 TJ32 4 := ⟨ct_J32, Nat.le_of_ble_eq_true rfl, Or.inl rfl⟩
theorem fl_java_util_HashMap_177_J32 : Cond.fieldLink "java/util/HashMap" 177 "java/util/HashMap$Node" (TJ32 3).2.1 (TJ32 3).2.2.1 ∈ lw_all ∨ ∃ host, Cond.fieldLinkNest "java/util/HashMap" 177 "java/util/HashMap$Node" (TJ32 3).2.1 (TJ32 3).2.2.1 host ∈ lw_tbl := Or.inl q1860
theorem fo_J32_0_java_util_HashMap_Node : FieldOk "java/util/HashMap$Node" 28 0 RJ32 TJ32 4 := ⟨ct_J32, Nat.le_of_ble_eq_true rfl, Or.inl rfl⟩
theorem fl_java_util_HashMap_168_J32 : Cond.fieldLink "java/util/HashMap" 168 "java/util/HashMap$Node" (TJ32 0).2.1 (TJ32 0).2.2.1 ∈ lw_all ∨ ∃ host, Cond.fieldLinkNest "java/util/HashMap" 168 "java/util/HashMap$Node" (TJ32 0).2.1 (TJ32 0).2.2.1 host ∈ lw_tbl := Or.inl q1848
theorem fo_J32_1_java_util_HashMap_Node : FieldOk "java/util/HashMap$Node" 28 1 RJ32 TJ32 4 := ⟨ct_J32, Nat.le_of_ble_eq_true rfl, Or.inl rfl⟩
theorem fl_java_util_HashMap_170_J32 : Cond.fieldLink "java/util/HashMap" 170 "java/util/HashMap$Node" (TJ32 1).2.1 (TJ32 1).2.2.1 ∈ lw_all ∨ ∃ host, Cond.fieldLinkNest "java/util/HashMap" 170 "java/util/HashMap$Node" (TJ32 1).2.1 (TJ32 1).2.2.1 host ∈ lw_tbl := Or.inl q1852
theorem mo_X15_equals : MOk yX15_equals 1 := by decide +kernel
theorem moi_java_lang_Object_equals__Ljava_lang_Object__Z : MOk ({ cls := "java/lang/Object", name := "equals", desc := "(Ljava/lang/Object;)Z" } : MethodName) 1 := by decide +kernel
theorem nc_J32_java_util_HashMap_TreeNode : Cond.not (.castable "java/util/HashMap$Node" "java/util/HashMap$TreeNode") ∈ flatC (Jvm.Cond.and given_1 narrow_1) := by decide +kernel
theorem fo_J30_2_java_util_HashMap : FieldOk "java/util/HashMap" 27 2 RJ30 TJ30 8 := ⟨ct_J30, Nat.le_of_ble_eq_true rfl, Or.inl rfl⟩
theorem fl_java_util_HashMap_105_J30 : Cond.fieldLink "java/util/HashMap" 105 "java/util/HashMap" (TJ30 2).2.1 (TJ30 2).2.2.1 ∈ lw_all ∨ ∃ host, Cond.fieldLinkNest "java/util/HashMap" 105 "java/util/HashMap" (TJ30 2).2.1 (TJ30 2).2.2.1 host ∈ lw_tbl := Or.inl q1628
theorem mo_J30_hash : MOk yJ30_hash 1 := by decide +kernel
theorem ms_J30_hash : MS yJ30_hash cJ30_hash 2 (some .int) 1 := ⟨q1688, q159, q1689, mo_J30_hash⟩
theorem mo_J30_getNode : MOk yJ30_getNode 1 := by decide +kernel
theorem mi_J30_getNode : MI yJ30_getNode "java/util/HashMap" cJ30_getNode 8 (some (.object "java/util/HashMap$Node")) 1 := ⟨q1684, q1685, q159, q1686, rfl, mo_J30_getNode⟩
theorem fo_J32_2_java_util_HashMap_Node : FieldOk "java/util/HashMap$Node" 28 2 RJ32 TJ32 4 := ⟨ct_J32, Nat.le_of_ble_eq_true rfl, Or.inl rfl⟩
theorem fl_java_util_HashMap_162_J32 : Cond.fieldLink "java/util/HashMap" 162 "java/util/HashMap$Node" (TJ32 2).2.1 (TJ32 2).2.2.1 ∈ lw_all ∨ ∃ host, Cond.fieldLinkNest "java/util/HashMap" 162 "java/util/HashMap$Node" (TJ32 2).2.1 (TJ32 2).2.2.1 host ∈ lw_tbl := Or.inl q1854
theorem fl_java_util_HashMap_Node_7_J32 : Cond.fieldLink "java/util/HashMap$Node" 7 "java/util/HashMap$Node" (TJ32 0).2.1 (TJ32 0).2.2.1 ∈ lw_all ∨ ∃ host, Cond.fieldLinkNest "java/util/HashMap$Node" 7 "java/util/HashMap$Node" (TJ32 0).2.1 (TJ32 0).2.2.1 host ∈ lw_tbl := Or.inl q1845
theorem fl_java_util_HashMap_Node_13_J32 : Cond.fieldLink "java/util/HashMap$Node" 13 "java/util/HashMap$Node" (TJ32 1).2.1 (TJ32 1).2.2.1 ∈ lw_all ∨ ∃ host, Cond.fieldLinkNest "java/util/HashMap$Node" 13 "java/util/HashMap$Node" (TJ32 1).2.1 (TJ32 1).2.2.1 host ∈ lw_tbl := Or.inl q1849
theorem fl_java_util_HashMap_Node_17_J32 : Cond.fieldLink "java/util/HashMap$Node" 17 "java/util/HashMap$Node" (TJ32 2).2.1 (TJ32 2).2.2.1 ∈ lw_all ∨ ∃ host, Cond.fieldLinkNest "java/util/HashMap$Node" 17 "java/util/HashMap$Node" (TJ32 2).2.1 (TJ32 2).2.2.1 host ∈ lw_tbl := Or.inl q1853
theorem fl_java_util_HashMap_Node_20_J32 : Cond.fieldLink "java/util/HashMap$Node" 20 "java/util/HashMap$Node" (TJ32 3).2.1 (TJ32 3).2.2.1 ∈ lw_all ∨ ∃ host, Cond.fieldLinkNest "java/util/HashMap$Node" 20 "java/util/HashMap$Node" (TJ32 3).2.1 (TJ32 3).2.2.1 host ∈ lw_tbl := Or.inl q1855
theorem df_J32 : ∀ j, j < 4 → defaultValue (tyJ32 j) = vp_V [.int 0, va_rf none, va_rf none, va_rf none] j := fun j hj => by rcases (show j = 0 ∨ j = 1 ∨ j = 2 ∨ j = 3 by omega) with rfl | rfl | rfl | rfl <;> rfl
theorem mo_J32_init : MOk yJ32_init 4 := by decide +kernel
theorem mc_J32_init : MC yJ32_init cJ32_init 5 4 := ⟨q1842, q163, q1843, rfl, mo_J32_init⟩
theorem mo_J30_afterNodeInsertion : MOk yJ30_afterNodeInsertion 1 := by decide +kernel
theorem mi_J30_afterNodeInsertion : MI yJ30_afterNodeInsertion "java/util/HashMap" cJ30_afterNodeInsertion 2 none 1 := ⟨q1948, q1949, q159, q1950, rfl, mo_J30_afterNodeInsertion⟩
theorem fo_J30_5_java_util_HashMap : FieldOk "java/util/HashMap" 27 5 RJ30 TJ30 8 := ⟨ct_J30, Nat.le_of_ble_eq_true rfl, Or.inl rfl⟩
theorem fl_java_util_HashMap_202_J30 : Cond.fieldLink "java/util/HashMap" 202 "java/util/HashMap" (TJ30 5).2.1 (TJ30 5).2.2.1 ∈ lw_all ∨ ∃ host, Cond.fieldLinkNest "java/util/HashMap" 202 "java/util/HashMap" (TJ30 5).2.1 (TJ30 5).2.2.1 host ∈ lw_tbl := Or.inl q1633
theorem fo_J30_4_java_util_HashMap : FieldOk "java/util/HashMap" 27 4 RJ30 TJ30 8 := ⟨ct_J30, Nat.le_of_ble_eq_true rfl, Or.inl rfl⟩
theorem fl_java_util_HashMap_156_J30 : Cond.fieldLink "java/util/HashMap" 156 "java/util/HashMap" (TJ30 4).2.1 (TJ30 4).2.2.1 ∈ lw_all ∨ ∃ host, Cond.fieldLinkNest "java/util/HashMap" 156 "java/util/HashMap" (TJ30 4).2.1 (TJ30 4).2.2.1 host ∈ lw_tbl := Or.inl q1631
theorem mo_J30_resize : MOk yJ30_resize 0 := by decide +kernel
theorem mi_J30_resize : MI yJ30_resize "java/util/HashMap" cJ30_resize 14 (some (.array (.object "java/util/HashMap$Node"))) 0 := ⟨q1820, q1821, q159, q1822, rfl, mo_J30_resize⟩
theorem mo_J30_afterNodeAccess : MOk yJ30_afterNodeAccess 1 := by decide +kernel
theorem mi_J30_afterNodeAccess : MI yJ30_afterNodeAccess "java/util/HashMap" cJ30_afterNodeAccess 2 none 1 := ⟨q1944, q1945, q159, q1946, rfl, mo_J30_afterNodeAccess⟩
theorem mo_J30_newNode : MOk yJ30_newNode 4 := by decide +kernel
theorem mi_J30_newNode : MI yJ30_newNode "java/util/HashMap" cJ30_newNode 5 (some (.object "java/util/HashMap$Node")) 4 := ⟨q1890, q1891, q159, q1892, rfl, mo_J30_newNode⟩
theorem bp_7 : (Int8.ofInt (7)).toInt32 = (7 : Int32) := by decide
theorem mo_J30_putVal : MOk yJ30_putVal 5 := by decide +kernel
theorem mi_J30_putVal : MI yJ30_putVal "java/util/HashMap" cJ30_putVal 13 (some (.object "java/lang/Object")) 5 := ⟨q1816, q1817, q159, q1818, rfl, mo_J30_putVal⟩
abbrev rmJ31_isNaN : Room := { frames := 2, cells := 0, slots := 0, locals := 40 }
theorem m_J31_isNaN {S : Sx} (hS0 : Sok S) (v0 : UInt32) (h : hH) (Q : Int32 → hH → Prop) (hk : f_J31_isNaN S.E v0 h Q) : Ct S yJ31_isNaN (ws_ yJ31_isNaN cJ31_isNaN 1 (some .boolean)) rmJ31_isNaN ([aF v0].map vv) h (qI Q) := by
  refine Ct.ofF hS0 (by decide +kernel) rfl (Nat.le_of_ble_eq_true rfl) fun x hxS F hnm => ?_
  subst hxS
  unfold f_J31_isNaN at hk
  exact g_fload_n F dJ31_isNaN_0 rfl 0 rfl <|
g_fload_n F dJ31_isNaN_1 rfl 0 rfl <|
g_fcmp F dJ31_isNaN_2 <|
g_if_eq F dJ31_isNaN_3 (tgt := 10) rfl (fun hc => have hk := hk.1 hc
g_iconst F dJ31_isNaN_10 ic_0 <|
g_zret F dJ31_isNaN_11 (Nat.le_refl 0) (Nat.le_refl 0) rfl hk) (fun hc => have hk := hk.2 hc
g_iconst F dJ31_isNaN_6 ic_1 <|
g_goto F dJ31_isNaN_7 (tgt := 11) rfl <|
g_zret F dJ31_isNaN_11 (Nat.le_refl 0) (Nat.le_refl 0) rfl hk)
abbrev rmJ30_tableSizeFor : Room := { frames := 3, cells := 0, slots := 0, locals := 61 }
theorem m_J30_tableSizeFor {S : Sx} (hS0 : Sok S) (v0 : Int32) (h : hH) (Q : Int32 → hH → Prop) (hk : f_J30_tableSizeFor S.E v0 h Q) : Ct S yJ30_tableSizeFor (ws_ yJ30_tableSizeFor cJ30_tableSizeFor 2 (some .int)) rmJ30_tableSizeFor ([aI v0].map vv) h (qI Q) := by
  refine Ct.of hS0 (by decide +kernel) rfl (Nat.le_of_ble_eq_true rfl) fun x hxS F hnm => ?_
  subst hxS
  unfold f_J30_tableSizeFor at hk
  exact g_iconst F dJ30_tableSizeFor_0 ic_m1 <|
g_iload_n F dJ30_tableSizeFor_1 rfl 0 rfl <|
g_iconst F dJ30_tableSizeFor_2 ic_1 <|
g_isub F dJ30_tableSizeFor_3 <|
g_calli0 (g_S F dJ30_tableSizeFor_4 q1626 ms_J20_numberOfLeadingZeros (rm' := rmJ20_numberOfLeadingZeros) ⟨Nat.le_of_ble_eq_true rfl, Nat.le_of_ble_eq_true rfl⟩ ⟨Nat.le_refl 0, Nat.le_refl 0⟩ (As := [aI (v0 - (1:Int32))]) (rest := [aI (-1:Int32)]) rfl rfl (Nat.le_of_ble_eq_true rfl) (m_J20_numberOfLeadingZeros F.ok (v0 - (1:Int32)) h _ hk)) ⟨rfl, rfl⟩ fun x2 h1 hk =>
g_iushr F dJ30_tableSizeFor_7 <|
g_istore_n F dJ30_tableSizeFor_8 rfl (Nat.le_of_ble_eq_true rfl) rfl <|
g_iload_n F dJ30_tableSizeFor_9 rfl 0 rfl <|
g_if_ge F dJ30_tableSizeFor_10 (tgt := 17) rfl (fun hc => have hk := hk.1 hc
g_iload_n F dJ30_tableSizeFor_17 rfl 0 rfl <|
g_ldc F dJ30_tableSizeFor_18 q1619 <|
g_icmp_lt F dJ30_tableSizeFor_20 (tgt := 28) rfl (fun hc => have hk := hk.1 hc
g_iload_n F dJ30_tableSizeFor_28 rfl 0 rfl <|
g_iconst F dJ30_tableSizeFor_29 ic_1 <|
g_iadd F dJ30_tableSizeFor_30 <|
g_iret F dJ30_tableSizeFor_31 (Nat.le_refl 0) (Nat.le_refl 0) hk) (fun hc => have hk := hk.2 hc
g_ldc F dJ30_tableSizeFor_23 q1619 <|
g_goto F dJ30_tableSizeFor_25 (tgt := 31) rfl <|
g_iret F dJ30_tableSizeFor_31 (Nat.le_refl 0) (Nat.le_refl 0) hk)) (fun hc => have hk := hk.2 hc
g_iconst F dJ30_tableSizeFor_13 ic_1 <|
g_goto F dJ30_tableSizeFor_14 (tgt := 31) rfl <|
g_iret F dJ30_tableSizeFor_31 (Nat.le_refl 0) (Nat.le_refl 0) hk)
abbrev rmJ30_init_2 : Room := { frames := 4, cells := 0, slots := 0, locals := 82 }
theorem s_J30_init_2_j57 {x : Cx} (F : Fx x cJ30_init_2 "java/util/HashMap" 3 none rmJ30_init_2) {v0 : Nat} (hnm : x.meth.name = "<init>") {Q : hH → Prop} (l2 : UInt32) (h : hH) (hk : f_J30_init_2_j57 x.S.E v0 Q l2 h) : G x (xQ x rmJ30_init_2 (qV Q)) 57 [(2, aF l2)] [] h 0 0 := by
  unfold f_J30_init_2_j57 at hk
  exact False.elim hk
theorem s_J30_init_2_j44 {x : Cx} (F : Fx x cJ30_init_2 "java/util/HashMap" 3 none rmJ30_init_2) {v0 : Nat} (hnm : x.meth.name = "<init>") {Q : hH → Prop} (l1 : Int32) (l2 : UInt32) (h : hH) (hk : f_J30_init_2_j44 x.S.E v0 Q l1 l2 h) : G x (xQ x rmJ30_init_2 (qV Q)) 44 [(0, aR (some v0)), (1, aI l1), (2, aF l2)] [] h 0 0 := by
  unfold f_J30_init_2_j44 at hk
  exact g_fload_n F dJ30_init_2_44 rfl 2 rfl <|
g_fconst0 F dJ30_init_2_45 <|
g_fcmp F dJ30_init_2_46 <|
g_if_le F dJ30_init_2_47 (tgt := 57) rfl (fun hc => have hk := hk.1 hc
G.fewer [2] rfl <| s_J30_init_2_j57 F hnm l2 h hk ) (fun hc => have hk := hk.2 hc
g_fload_n F dJ30_init_2_50 rfl 2 rfl <|
g_calli0 (g_S F dJ30_init_2_51 q1620 ms_J31_isNaN (rm' := rmJ31_isNaN) ⟨Nat.le_of_ble_eq_true rfl, Nat.le_of_ble_eq_true rfl⟩ ⟨Nat.le_refl 0, Nat.le_refl 0⟩ (As := [aF l2]) (rest := []) rfl rfl (Nat.le_of_ble_eq_true rfl) (m_J31_isNaN F.ok l2 h _ hk)) ⟨rfl, rfl⟩ fun x2 h1 hk =>
g_if_eq F dJ30_init_2_54 (tgt := 84) rfl (fun hc => have hk := hk.1 hc
g_aload_n F dJ30_init_2_84 rfl 0 rfl <|
g_fload_n F dJ30_init_2_85 rfl 2 rfl <|
g_putF F dJ30_init_2_86 fo_J30_7_java_util_HashMap ck_J30 q1635 rfl hnm rfl (v := aF l2) (fit_f l2) hk fun h3 hk =>
g_aload_n F dJ30_init_2_89 rfl 0 rfl <|
g_iload_n F dJ30_init_2_90 rfl 1 rfl <|
g_calli0 (g_S F dJ30_init_2_91 q1623 ms_J30_tableSizeFor (rm' := rmJ30_tableSizeFor) ⟨Nat.le_of_ble_eq_true rfl, Nat.le_of_ble_eq_true rfl⟩ ⟨Nat.le_refl 0, Nat.le_refl 0⟩ (As := [aI l1]) (rest := [aR (some v0)]) rfl rfl (Nat.le_of_ble_eq_true rfl) (m_J30_tableSizeFor F.ok l1 h3 _ hk)) ⟨rfl, rfl⟩ fun x5 h4 hk =>
g_putV F dJ30_init_2_94 fo_J30_6_java_util_HashMap ck_J30 fl_java_util_HashMap_88_J30 rfl (v := aI x5) (fit_i x5) hk fun h6 hk =>
g_vret F dJ30_init_2_97 (Nat.le_refl 0) (Nat.le_refl 0) hk) (fun hc => have hk := hk.2 hc
G.fewer [2] rfl <| s_J30_init_2_j57 F hnm l2 h1 hk ))
theorem m_J30_init_2 {S : Sx} (hS0 : Sok S) (v0 : Nat) (v1 : Int32) (v2 : UInt32) (h : hH) (Q : hH → Prop) (hk : f_J30_init_2 S.E v0 v1 v2 h Q) : Ct S yJ30_init_2 (ws_ yJ30_init_2 cJ30_init_2 3 none) rmJ30_init_2 ([aR (some v0), aI v1, aF v2].map vv) h (qV Q) := by
  refine Ct.of hS0 (by decide +kernel) rfl (Nat.le_of_ble_eq_true rfl) fun x hxS F hnm => ?_
  subst hxS
  unfold f_J30_init_2 at hk
  exact g_aload_n F dJ30_init_2_0 rfl 0 rfl <|
g_callv0 (g_I F dJ30_init_2_1 q1618 mc_J23_init (rm' := rmJ23_init) ⟨Nat.le_of_ble_eq_true rfl, Nat.le_of_ble_eq_true rfl⟩ ⟨Nat.le_refl 0, Nat.le_refl 0⟩ (As := []) (rest := []) rfl rfl (Nat.le_of_ble_eq_true rfl) (m_J23_init F.ok v0 h _ hk)) ⟨rfl, rfl⟩ fun h7 hk =>
g_iload_n F dJ30_init_2_4 rfl 1 rfl <|
g_if_ge F dJ30_init_2_5 (tgt := 35) rfl (fun hc => have hk := hk.1 hc
g_iload_n F dJ30_init_2_35 rfl 1 rfl <|
g_ldc F dJ30_init_2_36 q1619 <|
g_icmp_le F dJ30_init_2_38 (tgt := 44) rfl (fun hc => have hk := hk.1 hc
s_J30_init_2_j44 F hnm v1 v2 h7 hk ) (fun hc => have hk := hk.2 hc
g_ldc F dJ30_init_2_41 q1619 <|
g_istore_n F dJ30_init_2_43 rfl (Nat.le_of_ble_eq_true rfl) rfl <|
G.fewer [1, 0, 2] rfl <| s_J30_init_2_j44 F hnm (1073741824:Int32) v2 h7 hk )) (fun hc => have hk := hk.2 hc
False.elim hk)
abbrev rmJ30_init : Room := { frames := 5, cells := 0, slots := 0, locals := 104 }
theorem m_J30_init {S : Sx} (hS0 : Sok S) (v0 : Nat) (v1 : Int32) (h : hH) (Q : hH → Prop) (hk : f_J30_init S.E v0 v1 h Q) : Ct S yJ30_init (ws_ yJ30_init cJ30_init 2 none) rmJ30_init ([aR (some v0), aI v1].map vv) h (qV Q) := by
  refine Ct.of hS0 (by decide +kernel) rfl (Nat.le_of_ble_eq_true rfl) fun x hxS F hnm => ?_
  subst hxS
  unfold f_J30_init at hk
  exact g_aload_n F dJ30_init_0 rfl 0 rfl <|
g_iload_n F dJ30_init_1 rfl 1 rfl <|
g_ldcf F dJ30_init_2 q1614 <|
g_callv0 (g_I F dJ30_init_4 q1615 mc_J30_init_2 (rm' := rmJ30_init_2) ⟨Nat.le_of_ble_eq_true rfl, Nat.le_of_ble_eq_true rfl⟩ ⟨Nat.le_refl 0, Nat.le_refl 0⟩ (As := [aI v1, aF ((1061158912 : UInt32):UInt32)]) (rest := []) rfl rfl (Nat.le_of_ble_eq_true rfl) (m_J30_init_2 F.ok v0 v1 ((1061158912 : UInt32):UInt32) h _ hk)) ⟨rfl, rfl⟩ fun h1 hk =>
g_vret F dJ30_init_7 (Nat.le_refl 0) (Nat.le_refl 0) hk
abbrev rmJ30_hash : Room := { frames := 3, cells := 0, slots := 0, locals := 60 }
theorem m_J30_hash {S : Sx} (hS0 : Sok S) (v0 : Option Nat) (h : hH) (Q : Int32 → hH → Prop) (hk : f_J30_hash S.E v0 h Q) : Ct S yJ30_hash (ws_ yJ30_hash cJ30_hash 2 (some .int)) rmJ30_hash ([aR v0].map vv) h (qI Q) := by
  refine Ct.of hS0 (by decide +kernel) rfl (Nat.le_of_ble_eq_true rfl) fun x hxS F hnm => ?_
  subst hxS
  unfold f_J30_hash at hk
  exact g_aload_n F dJ30_hash_0 rfl 0 rfl <|
g_ifnonnull F dJ30_hash_1 (tgt := 8) rfl (fun hc => have hk := hk.2 hc
g_aload_n F dJ30_hash_8 rfl 0 rfl <|
g_calli0 (g_O (y0 := ({ cls := "java/lang/Object", name := "hashCode", desc := "()I" } : MethodName)) F dJ30_hash_9 q1691 q1693 q1690 q1709 q1708 q161 q1710 moi_java_lang_Object_hashCode___I ct_X15 (rm' := rmX15_hashCode) ⟨Nat.le_of_ble_eq_true rfl, Nat.le_of_ble_eq_true rfl⟩ ⟨Nat.le_refl 0, Nat.le_refl 0⟩ (As := []) (rest := []) rfl rfl (Nat.le_of_ble_eq_true rfl) hk (fun a3 hk => m_X15_hashCode F.ok a3 h _ hk)) ⟨rfl, rfl⟩ fun x2 h1 hk =>
g_dup F dJ30_hash_12 rfl <|
g_istore_n F dJ30_hash_13 rfl (Nat.le_of_ble_eq_true rfl) rfl <|
g_iload_n F dJ30_hash_14 rfl 0 rfl <|
g_bipush F dJ30_hash_15 bp_16 <|
g_iushr F dJ30_hash_17 <|
g_ixor F dJ30_hash_18 <|
g_iret F dJ30_hash_19 (Nat.le_refl 0) (Nat.le_refl 0) hk) (fun hc => have hk := hk.1 hc
g_iconst F dJ30_hash_4 ic_0 <|
g_goto F dJ30_hash_5 (tgt := 19) rfl <|
g_iret F dJ30_hash_19 (Nat.le_refl 0) (Nat.le_refl 0) hk)
abbrev rmJ30_getNode : Room := { frames := 4, cells := 0, slots := 0, locals := 81 }
theorem s_J30_getNode_j137 {x : Cx} (F : Fx x cJ30_getNode "java/util/HashMap" 8 (some (.object "java/util/HashMap$Node")) rmJ30_getNode) {v0 : Nat} {Q : Option Nat → hH → Prop} {K99 : Option Nat → Option Nat → Int32 → hH → Prop} {K148 : hH → Prop} (l1 : Option Nat) (l4 : Option Nat) (l6 : Int32) (h : hH) (hk : f_J30_getNode_j137 x.S.E v0 Q K99 K148 l1 l4 l6 h) (hK99 : ∀ (l1 : Option Nat) (l4 : Option Nat) (l6 : Int32) (h : hH), K99 l1 l4 l6 h → G x (xQ x rmJ30_getNode (qR Q)) 99 [(1, aR l1), (4, aR l4), (6, aI l6)] [] h 0 0) (hK148 : ∀ (h : hH), K148 h → G x (xQ x rmJ30_getNode (qR Q)) 148 [] [] h 0 0) : G x (xQ x rmJ30_getNode (qR Q)) 137 [(1, aR l1), (4, aR l4), (6, aI l6)] [] h 0 0 := by
  unfold f_J30_getNode_j137 at hk
  exact g_aload F dJ30_getNode_137 1 rfl <|
g_getR F dJ30_getNode_139 fo_J32_3_java_util_HashMap_Node in_J32 fl_java_util_HashMap_177_J32 hk fun x1 hk =>
g_dup F dJ30_getNode_142 rfl <|
g_astore F dJ30_getNode_143 (Nat.le_of_ble_eq_true rfl) rfl <|
g_ifnonnull F dJ30_getNode_145 (tgt := 99) rfl (fun hc => have hk := hk.2 hc
G.fewer [1, 0, 2] rfl <| hK99 l1 x1 l6 h hk) (fun hc => have hk := hk.1 hc
G.fewer [] rfl <| hK148 h hk)
theorem s_J30_getNode_l99 {x : Cx} (F : Fx x cJ30_getNode "java/util/HashMap" 8 (some (.object "java/util/HashMap$Node")) rmJ30_getNode) {v0 : Nat} {Q : Option Nat → hH → Prop} {K134 : Option Nat → hH → Prop} {K148 : hH → Prop} (n : Nat) (l1 : Option Nat) (l4 : Option Nat) (l6 : Int32) (h : hH) (hk : f_J30_getNode_l99 x.S.E v0 Q K134 K148 n l1 l4 l6 h) (hK134 : ∀ (l4 : Option Nat) (h : hH), K134 l4 h → G x (xQ x rmJ30_getNode (qR Q)) 134 [(4, aR l4)] [] h 0 0) (hK148 : ∀ (h : hH), K148 h → G x (xQ x rmJ30_getNode (qR Q)) 148 [] [] h 0 0) : G x (xQ x rmJ30_getNode (qR Q)) 99 [(1, aR l1), (4, aR l4), (6, aI l6)] [] h 0 0 := by
  induction n generalizing l1 l4 l6 h with
  | zero => exact False.elim hk
  | succ n ih =>
    unfold f_J30_getNode_l99 at hk
    exact g_aload F dJ30_getNode_99 1 rfl <|
g_getI F dJ30_getNode_101 fo_J32_0_java_util_HashMap_Node in_J32 fl_java_util_HashMap_168_J32 hk fun x2 hk =>
g_iload F dJ30_getNode_104 2 rfl <|
g_icmp_ne F dJ30_getNode_106 (tgt := 137) rfl (fun hc => have hk := hk.2 hc
s_J30_getNode_j137 F l1 l4 l6 h hk ih hK148) (fun hc => have hk := hk.1 hc
g_aload F dJ30_getNode_109 1 rfl <|
g_getR F dJ30_getNode_111 fo_J32_1_java_util_HashMap_Node in_J32 fl_java_util_HashMap_170_J32 hk fun x3 hk =>
g_dup F dJ30_getNode_114 rfl <|
g_astore F dJ30_getNode_115 (Nat.le_of_ble_eq_true rfl) rfl <|
g_aload_n F dJ30_getNode_117 rfl 1 rfl <|
g_acmp_eq F dJ30_getNode_118 (tgt := 134) rfl (fun hc => have hk := hk.1 hc
G.fewer [2] rfl <| hK134 l4 h hk) (fun hc => have hk := hk.2 hc
g_aload_n F dJ30_getNode_121 rfl 1 rfl <|
g_ifnull F dJ30_getNode_122 (tgt := 137) rfl (fun hc => have hk := hk.1 hc
G.fewer [1, 2, 3] rfl <| s_J30_getNode_j137 F l1 l4 l6 h hk ih hK148) (fun hc => have hk := hk.2 hc
g_aload_n F dJ30_getNode_125 rfl 1 rfl <|
g_aload F dJ30_getNode_126 0 rfl <|
g_calli0 (g_O (y0 := ({ cls := "java/lang/Object", name := "equals", desc := "(Ljava/lang/Object;)Z" } : MethodName)) F dJ30_getNode_128 q1734 q1736 q1733 q1752 q1751 q161 q1753 moi_java_lang_Object_equals__Ljava_lang_Object__Z ct_X15 (rm' := rmX15_equals) ⟨Nat.le_of_ble_eq_true rfl, Nat.le_of_ble_eq_true rfl⟩ ⟨Nat.le_refl 0, Nat.le_refl 0⟩ (As := [aR x3]) (rest := []) rfl rfl (Nat.le_of_ble_eq_true rfl) hk (fun a6 hk => m_X15_equals F.ok a6 x3 h _ hk)) ⟨rfl, rfl⟩ fun x5 h4 hk =>
g_if_eq F dJ30_getNode_131 (tgt := 137) rfl (fun hc => have hk := hk.1 hc
G.fewer [1, 2, 3] rfl <| s_J30_getNode_j137 F l1 l4 l6 h4 hk ih hK148) (fun hc => have hk := hk.2 hc
G.fewer [2] rfl <| hK134 l4 h4 hk))))
theorem s_J30_getNode_j148 {x : Cx} (F : Fx x cJ30_getNode "java/util/HashMap" 8 (some (.object "java/util/HashMap$Node")) rmJ30_getNode) {v0 : Nat} {Q : Option Nat → hH → Prop} (h : hH) (hk : f_J30_getNode_j148 x.S.E v0 Q h) : G x (xQ x rmJ30_getNode (qR Q)) 148 [] [] h 0 0 := by
  unfold f_J30_getNode_j148 at hk
  exact g_null F dJ30_getNode_148 <|
g_aret F (Or.inl ⟨_, rfl⟩) dJ30_getNode_149 (Nat.le_refl 0) (Nat.le_refl 0) hk
theorem s_J30_getNode_j71 {x : Cx} (F : Fx x cJ30_getNode "java/util/HashMap" 8 (some (.object "java/util/HashMap$Node")) rmJ30_getNode) {v0 : Nat} {Q : Option Nat → hH → Prop} (l1 : Option Nat) (l3 : Option Nat) (l6 : Int32) (h : hH) (hk : f_J30_getNode_j71 x.S.E v0 Q l1 l3 l6 h) : G x (xQ x rmJ30_getNode (qR Q)) 71 [(1, aR l1), (3, aR l3), (6, aI l6)] [] h 0 0 := by
  unfold f_J30_getNode_j71 at hk
  exact g_aload_n F dJ30_getNode_71 rfl 1 rfl <|
g_getR F dJ30_getNode_72 fo_J32_3_java_util_HashMap_Node in_J32 fl_java_util_HashMap_177_J32 hk fun x7 hk =>
g_dup F dJ30_getNode_75 rfl <|
g_astore F dJ30_getNode_76 (Nat.le_of_ble_eq_true rfl) rfl <|
g_ifnull F dJ30_getNode_78 (tgt := 148) rfl (fun hc => have hk := hk.1 hc
G.fewer [] rfl <| s_J30_getNode_j148 F h hk ) (fun hc => have hk := hk.2 hc
g_aload_n F dJ30_getNode_81 rfl 2 rfl <|
g_instNo F dJ30_getNode_82 q1772 (F.notc nc_J32_java_util_HashMap_TreeNode) ct_J32 hk fun x8 hk =>
g_if_eq F dJ30_getNode_85 (tgt := 99) rfl (fun hc => have hk := hk.1 hc
G.fewer [1, 0, 3] rfl <| s_J30_getNode_l99 F 1000000 l1 x7 l6 h hk ((fun l4 h hk => g_aload F dJ30_getNode_134 0 rfl <|
g_aret F (Or.inl ⟨_, rfl⟩) dJ30_getNode_136 (Nat.le_refl 0) (Nat.le_refl 0) hk)) ((fun h hk => s_J30_getNode_j148 F h hk ))) (fun hc => have hk := hk.2 hc
False.elim hk))
theorem m_J30_getNode {S : Sx} (hS0 : Sok S) (v0 : Nat) (v1 : Option Nat) (h : hH) (Q : Option Nat → hH → Prop) (hk : f_J30_getNode S.E v0 v1 h Q) : Ct S yJ30_getNode (ws_ yJ30_getNode cJ30_getNode 8 (some (.object "java/util/HashMap$Node"))) rmJ30_getNode ([aR (some v0), aR v1].map vv) h (qR Q) := by
  refine Ct.of hS0 (by decide +kernel) rfl (Nat.le_of_ble_eq_true rfl) fun x hxS F hnm => ?_
  subst hxS
  unfold f_J30_getNode at hk
  exact g_aload_n F dJ30_getNode_0 rfl 0 rfl <|
g_getR F dJ30_getNode_1 fo_J30_2_java_util_HashMap in_J30 fl_java_util_HashMap_105_J30 hk fun x9 hk =>
g_dup F dJ30_getNode_4 rfl <|
g_astore_n F dJ30_getNode_5 rfl (Nat.le_of_ble_eq_true rfl) rfl <|
g_ifnull F dJ30_getNode_6 (tgt := 148) rfl (fun hc => have hk := hk.1 hc
G.fewer [] rfl <| s_J30_getNode_j148 F h hk ) (fun hc => have hk := hk.2 hc
g_aload_n F dJ30_getNode_9 rfl 0 rfl <|
g_alen (t := 6) F dJ30_getNode_10 rfl hk fun x10 hk =>
g_dup F dJ30_getNode_11 rfl <|
g_istore F dJ30_getNode_12 (Nat.le_of_ble_eq_true rfl) rfl <|
g_if_le F dJ30_getNode_14 (tgt := 148) rfl (fun hc => have hk := hk.1 hc
G.fewer [] rfl <| s_J30_getNode_j148 F h hk ) (fun hc => have hk := hk.2 hc
g_aload_n F dJ30_getNode_17 rfl 1 rfl <|
g_iload F dJ30_getNode_18 0 rfl <|
g_iconst F dJ30_getNode_20 ic_1 <|
g_isub F dJ30_getNode_21 <|
g_aload_n F dJ30_getNode_22 rfl 3 rfl <|
g_calli0 (g_S F dJ30_getNode_23 q1687 ms_J30_hash (rm' := rmJ30_hash) ⟨Nat.le_of_ble_eq_true rfl, Nat.le_of_ble_eq_true rfl⟩ ⟨Nat.le_refl 0, Nat.le_refl 0⟩ (As := [aR v1]) (rest := [aI (x10 - (1:Int32)), aR x9]) rfl rfl (Nat.le_of_ble_eq_true rfl) (m_J30_hash F.ok v1 h _ hk)) ⟨rfl, rfl⟩ fun x12 h11 hk =>
g_dup F dJ30_getNode_26 rfl <|
g_istore F dJ30_getNode_27 (Nat.le_of_ble_eq_true rfl) rfl <|
g_iand F dJ30_getNode_29 <|
g_aald (t := 6) F dJ30_getNode_30 rfl rfl hk fun x13 hk =>
g_dup F dJ30_getNode_31 rfl <|
g_astore_n F dJ30_getNode_32 rfl (Nat.le_of_ble_eq_true rfl) rfl <|
g_ifnull F dJ30_getNode_33 (tgt := 148) rfl (fun hc => have hk := hk.1 hc
G.fewer [] rfl <| s_J30_getNode_j148 F h11 hk ) (fun hc => have hk := hk.2 hc
g_aload_n F dJ30_getNode_36 rfl 0 rfl <|
g_getI F dJ30_getNode_37 fo_J32_0_java_util_HashMap_Node in_J32 fl_java_util_HashMap_168_J32 hk fun x14 hk =>
g_iload F dJ30_getNode_40 1 rfl <|
g_icmp_ne F dJ30_getNode_42 (tgt := 71) rfl (fun hc => have hk := hk.2 hc
G.fewer [5, 0, 1] rfl <| s_J30_getNode_j71 F v1 x13 x12 h11 hk ) (fun hc => have hk := hk.1 hc
g_aload_n F dJ30_getNode_45 rfl 0 rfl <|
g_getR F dJ30_getNode_46 fo_J32_1_java_util_HashMap_Node in_J32 fl_java_util_HashMap_170_J32 hk fun x15 hk =>
g_dup F dJ30_getNode_49 rfl <|
g_astore F dJ30_getNode_50 (Nat.le_of_ble_eq_true rfl) rfl <|
g_aload_n F dJ30_getNode_52 rfl 6 rfl <|
g_acmp_eq F dJ30_getNode_53 (tgt := 69) rfl (fun hc => have hk := hk.1 hc
g_aload_n F dJ30_getNode_69 rfl 1 rfl <|
g_aret F (Or.inl ⟨_, rfl⟩) dJ30_getNode_70 (Nat.le_refl 0) (Nat.le_refl 0) hk) (fun hc => have hk := hk.2 hc
g_aload_n F dJ30_getNode_56 rfl 6 rfl <|
g_ifnull F dJ30_getNode_57 (tgt := 71) rfl (fun hc => have hk := hk.1 hc
G.fewer [6, 1, 2] rfl <| s_J30_getNode_j71 F v1 x13 x12 h11 hk ) (fun hc => have hk := hk.2 hc
g_aload_n F dJ30_getNode_60 rfl 6 rfl <|
g_aload F dJ30_getNode_61 0 rfl <|
g_calli0 (g_O (y0 := ({ cls := "java/lang/Object", name := "equals", desc := "(Ljava/lang/Object;)Z" } : MethodName)) F dJ30_getNode_63 q1734 q1736 q1733 q1752 q1751 q161 q1753 moi_java_lang_Object_equals__Ljava_lang_Object__Z ct_X15 (rm' := rmX15_equals) ⟨Nat.le_of_ble_eq_true rfl, Nat.le_of_ble_eq_true rfl⟩ ⟨Nat.le_refl 0, Nat.le_refl 0⟩ (As := [aR x15]) (rest := []) rfl rfl (Nat.le_of_ble_eq_true rfl) hk (fun a18 hk => m_X15_equals F.ok a18 x15 h11 _ hk)) ⟨rfl, rfl⟩ fun x17 h16 hk =>
g_if_eq F dJ30_getNode_66 (tgt := 71) rfl (fun hc => have hk := hk.1 hc
G.fewer [6, 1, 2] rfl <| s_J30_getNode_j71 F v1 x13 x12 h16 hk ) (fun hc => have hk := hk.2 hc
g_aload_n F dJ30_getNode_69 rfl 1 rfl <|
g_aret F (Or.inl ⟨_, rfl⟩) dJ30_getNode_70 (Nat.le_refl 0) (Nat.le_refl 0) hk)))))))
abbrev rmJ30_get : Room := { frames := 5, cells := 0, slots := 0, locals := 108 }
theorem m_J30_get {S : Sx} (hS0 : Sok S) (v0 : Nat) (v1 : Option Nat) (h : hH) (Q : Option Nat → hH → Prop) (hk : f_J30_get S.E v0 v1 h Q) : Ct S yJ30_get (ws_ yJ30_get cJ30_get 3 (some (.object "java/lang/Object"))) rmJ30_get ([aR (some v0), aR v1].map vv) h (qR Q) := by
  refine Ct.of hS0 (by decide +kernel) rfl (Nat.le_of_ble_eq_true rfl) fun x hxS F hnm => ?_
  subst hxS
  unfold f_J30_get at hk
  exact g_aload_n F dJ30_get_0 rfl 0 rfl <|
g_aload_n F dJ30_get_1 rfl 1 rfl <|
g_callr0 (g_V F dJ30_get_2 q1683 mi_J30_getNode ct_J30 (rm' := rmJ30_getNode) ⟨Nat.le_of_ble_eq_true rfl, Nat.le_of_ble_eq_true rfl⟩ ⟨Nat.le_refl 0, Nat.le_refl 0⟩ (As := [aR v1]) (rest := []) rfl rfl (Nat.le_of_ble_eq_true rfl) hk (fun a3 hk => m_J30_getNode F.ok a3 v1 h _ hk)) ⟨rfl, rfl⟩ fun x2 h1 hk =>
g_dup F dJ30_get_5 rfl <|
g_astore_n F dJ30_get_6 rfl (Nat.le_of_ble_eq_true rfl) rfl <|
g_ifnonnull F dJ30_get_7 (tgt := 14) rfl (fun hc => have hk := hk.2 hc
g_aload_n F dJ30_get_14 rfl 0 rfl <|
g_getR F dJ30_get_15 fo_J32_2_java_util_HashMap_Node in_J32 fl_java_util_HashMap_162_J32 hk fun x4 hk =>
g_aret F (Or.inl ⟨_, rfl⟩) dJ30_get_18 (Nat.le_refl 0) (Nat.le_refl 0) hk) (fun hc => have hk := hk.1 hc
g_null F dJ30_get_10 <|
g_goto F dJ30_get_11 (tgt := 18) rfl <|
g_aret F (Or.inl ⟨_, rfl⟩) dJ30_get_18 (Nat.le_refl 0) (Nat.le_refl 0) hk)
abbrev rmJ30_resize : Room := { frames := 2, cells := 1, slots := 64, locals := 40 }
theorem s_J30_resize_j125 {x : Cx} (F : Fx x cJ30_resize "java/util/HashMap" 14 (some (.array (.object "java/util/HashMap$Node"))) rmJ30_resize) {v0 : Nat} {Q : Option Nat → hH → Prop} {cb kb : Nat} (hM : cb + 1 ≤ 1) (hS : kb + 64 ≤ 64) (l1 : Option Nat) (l4 : Int32) (l5 : Int32) (h : hH) (hk : f_J30_resize_j125 x.S.E v0 Q l1 l4 l5 h) : G x (xQ x rmJ30_resize (qR Q)) 125 [(0, aR (some v0)), (1, aR l1), (4, aI l4), (5, aI l5)] [] h (cb + 0) (kb + 0) := by
  unfold f_J30_resize_j125 at hk
  exact g_aload_n F dJ30_resize_125 rfl 0 rfl <|
g_iload F dJ30_resize_126 3 rfl <|
g_putV F dJ30_resize_128 fo_J30_6_java_util_HashMap ck_J30 fl_java_util_HashMap_88_J30 rfl (v := aI l5) (fit_i l5) hk fun h1 hk =>
g_iload F dJ30_resize_131 2 rfl <|
g_newQ (t := 6) F dJ30_resize_133 q1825 q1826 rfl rfl (Nat.le_of_ble_eq_true rfl) (Nat.le_of_ble_eq_true rfl) (show cb + 0 + 1 ≤ 1 by omega) (show kb + 0 + 64 ≤ 64 by omega) hk fun q2 h3 hk =>
g_astore F dJ30_resize_136 (Nat.le_of_ble_eq_true rfl) rfl <|
g_aload_n F dJ30_resize_138 rfl 1 rfl <|
g_aload F dJ30_resize_139 0 rfl <|
g_putV F dJ30_resize_141 fo_J30_2_java_util_HashMap ck_J30 fl_java_util_HashMap_105_J30 rfl (v := aR (some q2)) (fit_ra (.object "java/util/HashMap$Node") (some q2)) hk fun h4 hk =>
g_aload_n F dJ30_resize_144 rfl 2 rfl <|
g_ifnull F dJ30_resize_145 (tgt := 353) rfl (fun hc => have hk := hk.1 hc
g_aload F dJ30_resize_353 0 rfl <|
g_aret F (Or.inr ⟨_, rfl⟩) dJ30_resize_355 (show cb + 0 + 1 ≤ 1 by omega) (show kb + 0 + 64 ≤ 64 by omega) hk) (fun hc => have hk := hk.2 hc
False.elim hk)
theorem s_J30_resize_j123 {x : Cx} (F : Fx x cJ30_resize "java/util/HashMap" 14 (some (.array (.object "java/util/HashMap$Node"))) rmJ30_resize) {v0 : Nat} {Q : Option Nat → hH → Prop} {cb kb : Nat} (hM : cb + 1 ≤ 1) (hS : kb + 64 ≤ 64) (s0 : Int32) (l1 : Option Nat) (l4 : Int32) (h : hH) (hk : f_J30_resize_j123 x.S.E v0 Q s0 l1 l4 h) : G x (xQ x rmJ30_resize (qR Q)) 123 [(0, aR (some v0)), (1, aR l1), (4, aI l4)] [aI s0] h (cb + 0) (kb + 0) := by
  unfold f_J30_resize_j123 at hk
  exact g_istore F dJ30_resize_123 (Nat.le_of_ble_eq_true rfl) rfl <|
G.fewer [1, 2, 3, 0] rfl <| s_J30_resize_j125 F hM hS l1 l4 s0 h hk 
theorem s_J30_resize_j121 {x : Cx} (F : Fx x cJ30_resize "java/util/HashMap" 14 (some (.array (.object "java/util/HashMap$Node"))) rmJ30_resize) {v0 : Nat} {Q : Option Nat → hH → Prop} {cb kb : Nat} (hM : cb + 1 ≤ 1) (hS : kb + 64 ≤ 64) (l1 : Option Nat) (l4 : Int32) (h : hH) (hk : f_J30_resize_j121 x.S.E v0 Q l1 l4 h) : G x (xQ x rmJ30_resize (qR Q)) 121 [(0, aR (some v0)), (1, aR l1), (4, aI l4)] [] h (cb + 0) (kb + 0) := by
  unfold f_J30_resize_j121 at hk
  exact g_ldc F dJ30_resize_121 q1823 <|
s_J30_resize_j123 F hM hS (2147483647:Int32) l1 l4 h hk 
theorem m_J30_resize {S : Sx} (hS0 : Sok S) (v0 : Nat) (h : hH) (Q : Option Nat → hH → Prop) (hk : f_J30_resize S.E v0 h Q) : Ct S yJ30_resize (ws_ yJ30_resize cJ30_resize 14 (some (.array (.object "java/util/HashMap$Node")))) rmJ30_resize ([aR (some v0)].map vv) h (qR Q) := by
  refine Ct.of hS0 (by decide +kernel) rfl (Nat.le_of_ble_eq_true rfl) fun x hxS F hnm => ?_
  subst hxS
  unfold f_J30_resize at hk
  have hM : 0 + 1 ≤ 1 := by omega
  have hS : 0 + 64 ≤ 64 := by omega
  refine G.widen (c' := 0 + 0) (k' := 0 + 0) (Nat.le_refl 0) (Nat.le_refl 0) ?_
  exact g_aload_n F dJ30_resize_0 rfl 0 rfl <|
g_getR F dJ30_resize_1 fo_J30_2_java_util_HashMap in_J30 fl_java_util_HashMap_105_J30 hk fun x5 hk =>
g_astore_n F dJ30_resize_4 rfl (Nat.le_of_ble_eq_true rfl) rfl <|
g_aload_n F dJ30_resize_5 rfl 0 rfl <|
g_ifnonnull F dJ30_resize_6 (tgt := 13) rfl (fun hc => have hk := hk.2 hc
False.elim hk) (fun hc => have hk := hk.1 hc
g_iconst F dJ30_resize_9 ic_0 <|
g_goto F dJ30_resize_10 (tgt := 15) rfl <|
g_istore_n F dJ30_resize_15 rfl (Nat.le_of_ble_eq_true rfl) rfl <|
g_aload_n F dJ30_resize_16 rfl 2 rfl <|
g_getI F dJ30_resize_17 fo_J30_6_java_util_HashMap in_J30 fl_java_util_HashMap_88_J30 hk fun x6 hk =>
g_istore_n F dJ30_resize_20 rfl (Nat.le_of_ble_eq_true rfl) rfl <|
g_iconst F dJ30_resize_21 ic_0 <|
g_istore F dJ30_resize_22 (Nat.le_of_ble_eq_true rfl) rfl <|
g_iload_n F dJ30_resize_24 rfl 2 rfl <|
g_if_le F dJ30_resize_25 (tgt := 67) rfl (fun hc => have hk := hk.1 hc
g_iload_n F dJ30_resize_67 rfl 1 rfl <|
g_if_le F dJ30_resize_68 (tgt := 77) rfl (fun hc => have hk := hk.1 hc
False.elim hk) (fun hc => have hk := hk.2 hc
g_iload_n F dJ30_resize_71 rfl 1 rfl <|
g_istore F dJ30_resize_72 (Nat.le_of_ble_eq_true rfl) rfl <|
g_goto F dJ30_resize_74 (tgt := 85) rfl <|
g_iload F dJ30_resize_85 1 rfl <|
g_if_ne F dJ30_resize_87 (tgt := 125) rfl (fun hc => have hk := hk.2 hc
G.fewer [5, 4, 0, 1] rfl <| s_J30_resize_j125 F hM hS x5 x6 (0:Int32) h hk ) (fun hc => have hk := hk.1 hc
g_iload F dJ30_resize_90 0 rfl <|
g_i2f F dJ30_resize_92 <|
g_aload_n F dJ30_resize_93 rfl 5 rfl <|
g_getF F dJ30_resize_94 fo_J30_7_java_util_HashMap in_J30 fl_java_util_HashMap_81_J30 hk fun x7 hk =>
g_fmul F dJ30_resize_97 hk.1 <|
(fun hk => g_fstore F dJ30_resize_98 (Nat.le_of_ble_eq_true rfl) rfl <|
g_iload F dJ30_resize_100 1 rfl <|
g_ldc F dJ30_resize_102 q1619 <|
g_icmp_ge F dJ30_resize_104 (tgt := 121) rfl (fun hc => have hk := hk.1 hc
G.fewer [6, 5, 1] rfl <| s_J30_resize_j121 F hM hS x5 x6 h hk ) (fun hc => have hk := hk.2 hc
g_fload F dJ30_resize_107 0 rfl <|
g_ldcf F dJ30_resize_109 q1824 <|
g_fcmp F dJ30_resize_111 <|
g_if_ge F dJ30_resize_112 (tgt := 121) rfl (fun hc => have hk := hk.1 hc
G.fewer [6, 5, 1] rfl <| s_J30_resize_j121 F hM hS x5 x6 h hk ) (fun hc => have hk := hk.2 hc
g_fload F dJ30_resize_115 0 rfl <|
g_f2i F dJ30_resize_117 <|
g_goto F dJ30_resize_118 (tgt := 123) rfl <|
G.fewer [6, 5, 1] rfl <| s_J30_resize_j123 F hM hS (FP.f2i (FP.fmul (FP.i2f x6) x7)) x5 x6 h hk ))) hk.2))) (fun hc => have hk := hk.2 hc
False.elim hk))
abbrev rmJ32_init : Room := { frames := 2, cells := 0, slots := 0, locals := 40 }
theorem m_J32_init {S : Sx} (hS0 : Sok S) (v0 : Nat) (v1 : Int32) (v2 : Option Nat) (v3 : Option Nat) (v4 : Option Nat) (h : hH) (Q : hH → Prop) (hk : f_J32_init S.E v0 v1 v2 v3 v4 h Q) : Ct S yJ32_init (ws_ yJ32_init cJ32_init 5 none) rmJ32_init ([aR (some v0), aI v1, aR v2, aR v3, aR v4].map vv) h (qV Q) := by
  refine Ct.of hS0 (by decide +kernel) rfl (Nat.le_of_ble_eq_true rfl) fun x hxS F hnm => ?_
  subst hxS
  unfold f_J32_init at hk
  exact g_aload_n F dJ32_init_0 rfl 0 rfl <|
g_objInit (rest := []) F dJ32_init_1 q1844 q182 q_objcode (Nat.le_of_ble_eq_true rfl) (Nat.le_of_ble_eq_true rfl) <|
g_aload_n F dJ32_init_4 rfl 0 rfl <|
g_iload_n F dJ32_init_5 rfl 1 rfl <|
g_putF F dJ32_init_6 fo_J32_0_java_util_HashMap_Node ck_J32 q1845 rfl hnm rfl (v := aI v1) (fit_i v1) hk fun h1 hk =>
g_aload_n F dJ32_init_9 rfl 0 rfl <|
g_aload_n F dJ32_init_10 rfl 2 rfl <|
g_putF F dJ32_init_11 fo_J32_1_java_util_HashMap_Node ck_J32 q1849 rfl hnm rfl (v := aR v2) (fit_rf "java/lang/Object" v2) hk fun h2 hk =>
g_aload_n F dJ32_init_14 rfl 0 rfl <|
g_aload_n F dJ32_init_15 rfl 3 rfl <|
g_putV F dJ32_init_16 fo_J32_2_java_util_HashMap_Node ck_J32 fl_java_util_HashMap_Node_17_J32 rfl (v := aR v3) (fit_rf "java/lang/Object" v3) hk fun h3 hk =>
g_aload_n F dJ32_init_19 rfl 0 rfl <|
g_aload F dJ32_init_20 4 rfl <|
g_putV F dJ32_init_22 fo_J32_3_java_util_HashMap_Node ck_J32 fl_java_util_HashMap_Node_20_J32 rfl (v := aR v4) (fit_rf "java/util/HashMap$Node" v4) hk fun h4 hk =>
g_vret F dJ32_init_25 (Nat.le_refl 0) (Nat.le_refl 0) hk
abbrev rmJ30_newNode : Room := { frames := 3, cells := 1, slots := 4, locals := 64 }
theorem m_J30_newNode {S : Sx} (hS0 : Sok S) (v0 : Nat) (v1 : Int32) (v2 : Option Nat) (v3 : Option Nat) (v4 : Option Nat) (h : hH) (Q : Option Nat → hH → Prop) (hk : f_J30_newNode S.E v0 v1 v2 v3 v4 h Q) : Ct S yJ30_newNode (ws_ yJ30_newNode cJ30_newNode 5 (some (.object "java/util/HashMap$Node"))) rmJ30_newNode ([aR (some v0), aI v1, aR v2, aR v3, aR v4].map vv) h (qR Q) := by
  refine Ct.of hS0 (by decide +kernel) rfl (Nat.le_of_ble_eq_true rfl) fun x hxS F hnm => ?_
  subst hxS
  unfold f_J30_newNode at hk
  have hM : 0 + 1 ≤ 1 := by omega
  have hS : 0 + 4 ≤ 4 := by omega
  refine G.widen (c' := 0 + 0) (k' := 0 + 0) (Nat.le_refl 0) (Nat.le_refl 0) ?_
  exact g_new (fs := [.int 0, va_rf none, va_rf none, va_rf none]) F dJ30_newNode_0 ck_J32 ct_J32 q1825 q1840 q163 df_J32 (show 0 + 0 + 1 ≤ 1 by omega) (show 0 + 0 + 4 ≤ 4 by omega) hk fun q1 h2 hk =>
g_dup F dJ30_newNode_3 rfl <|
g_iload_n F dJ30_newNode_4 rfl 1 rfl <|
g_aload_n F dJ30_newNode_5 rfl 2 rfl <|
g_aload_n F dJ30_newNode_6 rfl 3 rfl <|
g_aload F dJ30_newNode_7 4 rfl <|
g_callv0 (g_I F dJ30_newNode_9 q1841 mc_J32_init (rm' := rmJ32_init) ⟨Nat.le_of_ble_eq_true rfl, Nat.le_of_ble_eq_true rfl⟩ ⟨show 0 + 0 + 1 + 0 ≤ 1 by omega, show 0 + 0 + 4 + 0 ≤ 4 by omega⟩ (As := [aI v1, aR v2, aR v3, aR v4]) (rest := [aR (some q1)]) rfl rfl (Nat.le_of_ble_eq_true rfl) (m_J32_init F.ok q1 v1 v2 v3 v4 h2 _ hk)) ⟨rfl, rfl⟩ fun h3 hk =>
g_aret F (Or.inl ⟨_, rfl⟩) dJ30_newNode_12 (show 0 + 0 + 1 ≤ 1 by omega) (show 0 + 0 + 4 ≤ 4 by omega) hk
abbrev rmJ30_afterNodeAccess : Room := { frames := 2, cells := 0, slots := 0, locals := 40 }
theorem m_J30_afterNodeAccess {S : Sx} (hS0 : Sok S) (v0 : Nat) (v1 : Option Nat) (h : hH) (Q : hH → Prop) (hk : f_J30_afterNodeAccess S.E v0 v1 h Q) : Ct S yJ30_afterNodeAccess (ws_ yJ30_afterNodeAccess cJ30_afterNodeAccess 2 none) rmJ30_afterNodeAccess ([aR (some v0), aR v1].map vv) h (qV Q) := by
  refine Ct.of hS0 (by decide +kernel) rfl (Nat.le_of_ble_eq_true rfl) fun x hxS F hnm => ?_
  subst hxS
  unfold f_J30_afterNodeAccess at hk
  exact g_vret F dJ30_afterNodeAccess_0 (Nat.le_refl 0) (Nat.le_refl 0) hk
abbrev rmJ30_afterNodeInsertion : Room := { frames := 2, cells := 0, slots := 0, locals := 40 }
theorem m_J30_afterNodeInsertion {S : Sx} (hS0 : Sok S) (v0 : Nat) (v1 : Int32) (h : hH) (Q : hH → Prop) (hk : f_J30_afterNodeInsertion S.E v0 v1 h Q) : Ct S yJ30_afterNodeInsertion (ws_ yJ30_afterNodeInsertion cJ30_afterNodeInsertion 2 none) rmJ30_afterNodeInsertion ([aR (some v0), aI v1].map vv) h (qV Q) := by
  refine Ct.of hS0 (by decide +kernel) rfl (Nat.le_of_ble_eq_true rfl) fun x hxS F hnm => ?_
  subst hxS
  unfold f_J30_afterNodeInsertion at hk
  exact g_vret F dJ30_afterNodeInsertion_0 (Nat.le_refl 0) (Nat.le_refl 0) hk
abbrev rmJ30_putVal : Room := { frames := 4, cells := 3, slots := 132, locals := 88 }
theorem s_J30_putVal_j212 {x : Cx} (F : Fx x cJ30_putVal "java/util/HashMap" 13 (some (.object "java/lang/Object")) rmJ30_putVal) {v0 : Nat} {Q : Option Nat → hH → Prop} {K134 : Int32 → Option Nat → Option Nat → Int32 → Int32 → Option Nat → Int32 → hH → Prop} {cb kb ce ke : Nat} (hM : cb + 0 ≤ ce) (hM2 : ce ≤ 3) (hS : kb + 0 ≤ ke) (hS2 : ke ≤ 132) (l1 : Int32) (l2 : Option Nat) (l3 : Option Nat) (l4 : Int32) (l5 : Int32) (l10 : Option Nat) (l12 : Int32) (h : hH) (hk : f_J30_putVal_j212 x.S.E v0 Q K134 l1 l2 l3 l4 l5 l10 l12 h) (hK134 : ∀ (l1 : Int32) (l2 : Option Nat) (l3 : Option Nat) (l4 : Int32) (l5 : Int32) (l7 : Option Nat) (l12 : Int32) (h : hH), K134 l1 l2 l3 l4 l5 l7 l12 h → G x (xQ x rmJ30_putVal (qR Q)) 134 [(0, aR (some v0)), (1, aI l1), (2, aR l2), (3, aR l3), (4, aI l4), (5, aI l5), (7, aR l7), (12, aI l12)] [] h (cb + 0) (kb + 0)) : G x (xQ x rmJ30_putVal (qR Q)) 212 [(0, aR (some v0)), (1, aI l1), (2, aR l2), (3, aR l3), (4, aI l4), (5, aI l5), (10, aR l10), (12, aI l12)] [] h (cb + 0) (kb + 0) := by
  unfold f_J30_putVal_j212 at hk
  exact g_aload F dJ30_putVal_212 6 rfl <|
g_astore F dJ30_putVal_214 (Nat.le_of_ble_eq_true rfl) rfl <|
g_iinc (v := (l12 + (1:Int32))) F dJ30_putVal_216 (j := 8) rfl (iinc_1 l12) (Nat.le_of_ble_eq_true rfl) rfl <|
g_goto F dJ30_putVal_219 (tgt := 134) rfl <|
G.fewer [2, 3, 4, 5, 6, 7, 1, 0] rfl <| hK134 l1 l2 l3 l4 l5 l10 (l12 + (1:Int32)) h hk
theorem s_J30_putVal_l134 {x : Cx} (F : Fx x cJ30_putVal "java/util/HashMap" 13 (some (.object "java/lang/Object")) rmJ30_putVal) {v0 : Nat} {Q : Option Nat → hH → Prop} {K145 : Int32 → Option Nat → Option Nat → Int32 → Int32 → Option Nat → Option Nat → Int32 → hH → Prop} {K209 : Option Nat → Int32 → Int32 → Option Nat → hH → Prop} {K222 : Option Nat → Int32 → Int32 → Option Nat → hH → Prop} {ce ke : Nat} (hM2 : ce ≤ 3) (hS2 : ke ≤ 132) (n : Nat) (l1 : Int32) (l2 : Option Nat) (l3 : Option Nat) (l4 : Int32) (l5 : Int32) (l7 : Option Nat) (l12 : Int32) (h : hH) (cb kb : Nat) (hM0 : cb + n * 0 ≤ ce) (hS0 : kb + n * 0 ≤ ke) (hk : f_J30_putVal_l134 x.S.E v0 Q K145 K209 K222 n l1 l2 l3 l4 l5 l7 l12 h) (hK145 : ∀ (l1 : Int32) (l2 : Option Nat) (l3 : Option Nat) (l4 : Int32) (l5 : Int32) (l7 : Option Nat) (l10 : Option Nat) (l12 : Int32) (h : hH), K145 l1 l2 l3 l4 l5 l7 l10 l12 h → G x (xQ x rmJ30_putVal (qR Q)) 145 [(0, aR (some v0)), (1, aI l1), (2, aR l2), (3, aR l3), (4, aI l4), (5, aI l5), (7, aR l7), (10, aR l10), (12, aI l12)] [] h ce ke) (hK209 : ∀ (l3 : Option Nat) (l4 : Int32) (l5 : Int32) (l10 : Option Nat) (h : hH), K209 l3 l4 l5 l10 h → G x (xQ x rmJ30_putVal (qR Q)) 209 [(0, aR (some v0)), (3, aR l3), (4, aI l4), (5, aI l5), (10, aR l10)] [] h ce ke) (hK222 : ∀ (l3 : Option Nat) (l4 : Int32) (l5 : Int32) (l10 : Option Nat) (h : hH), K222 l3 l4 l5 l10 h → G x (xQ x rmJ30_putVal (qR Q)) 222 [(0, aR (some v0)), (3, aR l3), (4, aI l4), (5, aI l5), (10, aR l10)] [] h ce ke) : G x (xQ x rmJ30_putVal (qR Q)) 134 [(0, aR (some v0)), (1, aI l1), (2, aR l2), (3, aR l3), (4, aI l4), (5, aI l5), (7, aR l7), (12, aI l12)] [] h cb kb := by
  induction n generalizing l1 l2 l3 l4 l5 l7 l12 h cb kb with
  | zero => exact False.elim hk
  | succ n ih =>
    have hM : cb + 0 ≤ ce := by omega
    have hS : kb + 0 ≤ ke := by omega
    unfold f_J30_putVal_l134 at hk
    exact G.widen (c' := cb + 0) (k' := kb + 0) (Nat.le_refl _) (Nat.le_refl _) <| g_aload F dJ30_putVal_134 6 rfl <|
g_getR F dJ30_putVal_136 fo_J32_3_java_util_HashMap_Node in_J32 fl_java_util_HashMap_177_J32 hk fun x1 hk =>
g_dup F dJ30_putVal_139 rfl <|
g_astore F dJ30_putVal_140 (Nat.le_of_ble_eq_true rfl) rfl <|
g_ifnonnull F dJ30_putVal_142 (tgt := 175) rfl (fun hc => have hk := hk.2 hc
g_aload F dJ30_putVal_175 0 rfl <|
g_getI F dJ30_putVal_177 fo_J32_0_java_util_HashMap_Node in_J32 fl_java_util_HashMap_168_J32 hk fun x2 hk =>
g_iload_n F dJ30_putVal_180 rfl 2 rfl <|
g_icmp_ne F dJ30_putVal_181 (tgt := 212) rfl (fun hc => have hk := hk.2 hc
G.fewer [1, 2, 3, 4, 5, 6, 0, 8] rfl <| s_J30_putVal_j212 F hM hM2 hS hS2 l1 l2 l3 l4 l5 x1 l12 h hk (fun l1 l2 l3 l4 l5 l7 l12 h hk => ih l1 l2 l3 l4 l5 l7 l12 h (cb + 0) (kb + 0) (by omega) (by omega) hk)) (fun hc => have hk := hk.1 hc
g_aload F dJ30_putVal_184 0 rfl <|
g_getR F dJ30_putVal_186 fo_J32_1_java_util_HashMap_Node in_J32 fl_java_util_HashMap_170_J32 hk fun x3 hk =>
g_dup F dJ30_putVal_189 rfl <|
g_astore F dJ30_putVal_190 (Nat.le_of_ble_eq_true rfl) rfl <|
g_aload_n F dJ30_putVal_192 rfl 4 rfl <|
g_acmp_eq F dJ30_putVal_193 (tgt := 222) rfl (fun hc => have hk := hk.1 hc
G.fewer [2, 5, 6, 7, 1] rfl <| G.widen (show cb + 0 ≤ ce by omega) (show kb + 0 ≤ ke by omega) <| hK222 l3 l4 l5 x1 h hk) (fun hc => have hk := hk.2 hc
g_aload_n F dJ30_putVal_196 rfl 4 rfl <|
g_ifnull F dJ30_putVal_197 (tgt := 212) rfl (fun hc => have hk := hk.1 hc
G.fewer [2, 3, 4, 5, 6, 7, 1, 9] rfl <| s_J30_putVal_j212 F hM hM2 hS hS2 l1 l2 l3 l4 l5 x1 l12 h hk (fun l1 l2 l3 l4 l5 l7 l12 h hk => ih l1 l2 l3 l4 l5 l7 l12 h (cb + 0) (kb + 0) (by omega) (by omega) hk)) (fun hc => have hk := hk.2 hc
g_aload_n F dJ30_putVal_200 rfl 4 rfl <|
g_aload F dJ30_putVal_201 0 rfl <|
g_calli0 (g_O (y0 := ({ cls := "java/lang/Object", name := "equals", desc := "(Ljava/lang/Object;)Z" } : MethodName)) F dJ30_putVal_203 q1734 q1736 q1733 q1752 q1751 q161 q1753 moi_java_lang_Object_equals__Ljava_lang_Object__Z ct_X15 (rm' := rmX15_equals) ⟨Nat.le_of_ble_eq_true rfl, Nat.le_of_ble_eq_true rfl⟩ ⟨show cb + 0 + 0 ≤ 3 by omega, show kb + 0 + 0 ≤ 132 by omega⟩ (As := [aR x3]) (rest := []) rfl rfl (Nat.le_of_ble_eq_true rfl) hk (fun a6 hk => m_X15_equals F.ok a6 x3 h _ hk)) ⟨rfl, rfl⟩ fun x5 h4 hk =>
g_if_eq F dJ30_putVal_206 (tgt := 212) rfl (fun hc => have hk := hk.1 hc
G.fewer [2, 3, 4, 5, 6, 7, 1, 9] rfl <| s_J30_putVal_j212 F hM hM2 hS hS2 l1 l2 l3 l4 l5 x1 l12 h4 hk (fun l1 l2 l3 l4 l5 l7 l12 h hk => ih l1 l2 l3 l4 l5 l7 l12 h (cb + 0) (kb + 0) (by omega) (by omega) hk)) (fun hc => have hk := hk.2 hc
G.fewer [2, 5, 6, 7, 1] rfl <| G.widen (show cb + 0 ≤ ce by omega) (show kb + 0 ≤ ke by omega) <| hK209 l3 l4 l5 x1 h4 hk))))) (fun hc => have hk := hk.1 hc
G.fewer [1, 2, 3, 4, 5, 6, 7, 0, 8] rfl <| G.widen (show cb + 0 ≤ ce by omega) (show kb + 0 ≤ ke by omega) <| hK145 l1 l2 l3 l4 l5 l7 x1 l12 h hk)
theorem s_J30_putVal_j292 {x : Cx} (F : Fx x cJ30_putVal "java/util/HashMap" 13 (some (.object "java/lang/Object")) rmJ30_putVal) {v0 : Nat} {Q : Option Nat → hH → Prop} {cb kb : Nat} (hM : cb + 3 ≤ 3) (hS : kb + 132 ≤ 132) (l5 : Int32) (h : hH) (hk : f_J30_putVal_j292 x.S.E v0 Q l5 h) : G x (xQ x rmJ30_putVal (qR Q)) 292 [(0, aR (some v0)), (5, aI l5)] [] h (cb + 3) (kb + 132) := by
  unfold f_J30_putVal_j292 at hk
  exact g_aload_n F dJ30_putVal_292 rfl 0 rfl <|
g_iload F dJ30_putVal_293 1 rfl <|
g_callv0 (g_V F dJ30_putVal_295 q1947 mi_J30_afterNodeInsertion ct_J30 (rm' := rmJ30_afterNodeInsertion) ⟨Nat.le_of_ble_eq_true rfl, Nat.le_of_ble_eq_true rfl⟩ ⟨show cb + 3 + 0 ≤ 3 by omega, show kb + 132 + 0 ≤ 132 by omega⟩ (As := [aI l5]) (rest := []) rfl rfl (Nat.le_of_ble_eq_true rfl) hk (fun a8 hk => m_J30_afterNodeInsertion F.ok a8 l5 h _ hk)) ⟨rfl, rfl⟩ fun h7 hk =>
g_null F dJ30_putVal_298 <|
g_aret F (Or.inl ⟨_, rfl⟩) dJ30_putVal_299 (show cb + 3 ≤ 3 by omega) (show kb + 132 ≤ 132 by omega) hk
theorem s_J30_putVal_j259 {x : Cx} (F : Fx x cJ30_putVal "java/util/HashMap" 13 (some (.object "java/lang/Object")) rmJ30_putVal) {v0 : Nat} {Q : Option Nat → hH → Prop} {cb kb : Nat} (hM : cb + 3 ≤ 3) (hS : kb + 132 ≤ 132) (l5 : Int32) (h : hH) (hk : f_J30_putVal_j259 x.S.E v0 Q l5 h) : G x (xQ x rmJ30_putVal (qR Q)) 259 [(0, aR (some v0)), (5, aI l5)] [] h (cb + 2) (kb + 68) := by
  unfold f_J30_putVal_j259 at hk
  exact g_aload_n F dJ30_putVal_259 rfl 0 rfl <|
g_dup F dJ30_putVal_260 rfl <|
g_getI F dJ30_putVal_261 fo_J30_5_java_util_HashMap in_J30 fl_java_util_HashMap_202_J30 hk fun x9 hk =>
g_iconst F dJ30_putVal_264 ic_1 <|
g_iadd F dJ30_putVal_265 <|
g_putV F dJ30_putVal_266 fo_J30_5_java_util_HashMap ck_J30 fl_java_util_HashMap_202_J30 rfl (v := aI (x9 + (1:Int32))) (fit_i (x9 + (1:Int32))) hk fun h10 hk =>
g_aload_n F dJ30_putVal_269 rfl 0 rfl <|
g_dup F dJ30_putVal_270 rfl <|
g_getI F dJ30_putVal_271 fo_J30_4_java_util_HashMap in_J30 fl_java_util_HashMap_156_J30 hk fun x11 hk =>
g_iconst F dJ30_putVal_274 ic_1 <|
g_iadd F dJ30_putVal_275 <|
g_dup_x1 F dJ30_putVal_276 rfl rfl <|
g_putV F dJ30_putVal_277 fo_J30_4_java_util_HashMap ck_J30 fl_java_util_HashMap_156_J30 rfl (v := aI (x11 + (1:Int32))) (fit_i (x11 + (1:Int32))) hk fun h12 hk =>
g_aload_n F dJ30_putVal_280 rfl 0 rfl <|
g_getI F dJ30_putVal_281 fo_J30_6_java_util_HashMap in_J30 fl_java_util_HashMap_88_J30 hk fun x13 hk =>
g_icmp_le F dJ30_putVal_284 (tgt := 292) rfl (fun hc => have hk := hk.1 hc
G.widen (show cb + 2 ≤ cb + 3 by omega) (show kb + 68 ≤ kb + 132 by omega) <| s_J30_putVal_j292 F hM hS l5 h12 hk ) (fun hc => have hk := hk.2 hc
g_aload_n F dJ30_putVal_287 rfl 0 rfl <|
g_callr (g_V F dJ30_putVal_288 q1819 mi_J30_resize ct_J30 (rm' := rmJ30_resize) ⟨Nat.le_of_ble_eq_true rfl, Nat.le_of_ble_eq_true rfl⟩ ⟨show cb + 2 + 1 ≤ 3 by omega, show kb + 68 + 64 ≤ 132 by omega⟩ (As := []) (rest := []) rfl rfl (Nat.le_of_ble_eq_true rfl) hk (fun a16 hk => m_J30_resize F.ok a16 h12 _ hk)) fun x15 h14 hk =>
g_pop F dJ30_putVal_291 rfl <|
G.widen (show cb + 2 + 1 ≤ cb + 3 by omega) (show kb + 68 + 64 ≤ kb + 132 by omega) <| s_J30_putVal_j292 F hM hS l5 h14 hk )
theorem s_J30_putVal_j250 {x : Cx} (F : Fx x cJ30_putVal "java/util/HashMap" 13 (some (.object "java/lang/Object")) rmJ30_putVal) {v0 : Nat} {Q : Option Nat → hH → Prop} {cb kb : Nat} (hM : cb + 3 ≤ 3) (hS : kb + 132 ≤ 132) (l10 : Option Nat) (l12 : Option Nat) (h : hH) (hk : f_J30_putVal_j250 x.S.E v0 Q l10 l12 h) : G x (xQ x rmJ30_putVal (qR Q)) 250 [(0, aR (some v0)), (10, aR l10), (12, aR l12)] [] h (cb + 2) (kb + 68) := by
  unfold f_J30_putVal_j250 at hk
  exact g_aload_n F dJ30_putVal_250 rfl 0 rfl <|
g_aload F dJ30_putVal_251 1 rfl <|
g_callv0 (g_V F dJ30_putVal_253 q1943 mi_J30_afterNodeAccess ct_J30 (rm' := rmJ30_afterNodeAccess) ⟨Nat.le_of_ble_eq_true rfl, Nat.le_of_ble_eq_true rfl⟩ ⟨show cb + 2 + 0 ≤ 3 by omega, show kb + 68 + 0 ≤ 132 by omega⟩ (As := [aR l10]) (rest := []) rfl rfl (Nat.le_of_ble_eq_true rfl) hk (fun a18 hk => m_J30_afterNodeAccess F.ok a18 l10 h _ hk)) ⟨rfl, rfl⟩ fun h17 hk =>
g_aload F dJ30_putVal_256 2 rfl <|
g_aret F (Or.inl ⟨_, rfl⟩) dJ30_putVal_258 (show cb + 2 ≤ 3 by omega) (show kb + 68 ≤ 132 by omega) hk
theorem s_J30_putVal_j244 {x : Cx} (F : Fx x cJ30_putVal "java/util/HashMap" 13 (some (.object "java/lang/Object")) rmJ30_putVal) {v0 : Nat} {Q : Option Nat → hH → Prop} {cb kb : Nat} (hM : cb + 3 ≤ 3) (hS : kb + 132 ≤ 132) (l3 : Option Nat) (l10 : Option Nat) (l12 : Option Nat) (h : hH) (hk : f_J30_putVal_j244 x.S.E v0 Q l3 l10 l12 h) : G x (xQ x rmJ30_putVal (qR Q)) 244 [(0, aR (some v0)), (3, aR l3), (10, aR l10), (12, aR l12)] [] h (cb + 2) (kb + 68) := by
  unfold f_J30_putVal_j244 at hk
  exact g_aload F dJ30_putVal_244 2 rfl <|
g_aload_n F dJ30_putVal_246 rfl 1 rfl <|
g_putV F dJ30_putVal_247 fo_J32_2_java_util_HashMap_Node ck_J32 fl_java_util_HashMap_162_J32 rfl (v := aR l3) (fit_rf "java/lang/Object" l3) hk fun h19 hk =>
G.fewer [0, 2, 3] rfl <| s_J30_putVal_j250 F hM hS l10 l12 h19 hk 
theorem s_J30_putVal_j222 {x : Cx} (F : Fx x cJ30_putVal "java/util/HashMap" 13 (some (.object "java/lang/Object")) rmJ30_putVal) {v0 : Nat} {Q : Option Nat → hH → Prop} {cb kb : Nat} (hM : cb + 3 ≤ 3) (hS : kb + 132 ≤ 132) (l3 : Option Nat) (l4 : Int32) (l5 : Int32) (l10 : Option Nat) (h : hH) (hk : f_J30_putVal_j222 x.S.E v0 Q l3 l4 l5 l10 h) : G x (xQ x rmJ30_putVal (qR Q)) 222 [(0, aR (some v0)), (3, aR l3), (4, aI l4), (5, aI l5), (10, aR l10)] [] h (cb + 2) (kb + 68) := by
  unfold f_J30_putVal_j222 at hk
  exact g_aload F dJ30_putVal_222 4 rfl <|
g_ifnull F dJ30_putVal_224 (tgt := 259) rfl (fun hc => have hk := hk.1 hc
G.fewer [0, 3] rfl <| s_J30_putVal_j259 F hM hS l5 h hk ) (fun hc => have hk := hk.2 hc
g_aload F dJ30_putVal_227 4 rfl <|
g_getR F dJ30_putVal_229 fo_J32_2_java_util_HashMap_Node in_J32 fl_java_util_HashMap_162_J32 hk fun x20 hk =>
g_astore F dJ30_putVal_232 (Nat.le_of_ble_eq_true rfl) rfl <|
g_iload F dJ30_putVal_234 3 rfl <|
g_if_eq F dJ30_putVal_236 (tgt := 244) rfl (fun hc => have hk := hk.1 hc
G.fewer [1, 2, 5, 0] rfl <| s_J30_putVal_j244 F hM hS l3 l10 x20 h hk ) (fun hc => have hk := hk.2 hc
g_aload F dJ30_putVal_239 0 rfl <|
g_ifnonnull F dJ30_putVal_241 (tgt := 250) rfl (fun hc => have hk := hk.2 hc
G.fewer [1, 5, 0] rfl <| s_J30_putVal_j250 F hM hS l10 x20 h hk ) (fun hc => have hk := hk.1 hc
G.fewer [1, 2, 5, 0] rfl <| s_J30_putVal_j244 F hM hS l3 l10 x20 h hk )))
theorem s_J30_putVal_j104 {x : Cx} (F : Fx x cJ30_putVal "java/util/HashMap" 13 (some (.object "java/lang/Object")) rmJ30_putVal) {v0 : Nat} {Q : Option Nat → hH → Prop} {cb kb : Nat} (hM : cb + 3 ≤ 3) (hS : kb + 132 ≤ 132) (l1 : Int32) (l2 : Option Nat) (l3 : Option Nat) (l4 : Int32) (l5 : Int32) (l7 : Option Nat) (h : hH) (hk : f_J30_putVal_j104 x.S.E v0 Q l1 l2 l3 l4 l5 l7 h) : G x (xQ x rmJ30_putVal (qR Q)) 104 [(0, aR (some v0)), (1, aI l1), (2, aR l2), (3, aR l3), (4, aI l4), (5, aI l5), (7, aR l7)] [] h (cb + 1) (kb + 64) := by
  unfold f_J30_putVal_j104 at hk
  exact g_aload F dJ30_putVal_104 6 rfl <|
g_instNo F dJ30_putVal_106 q1772 (F.notc nc_J32_java_util_HashMap_TreeNode) ct_J32 hk fun x21 hk =>
g_if_eq F dJ30_putVal_109 (tgt := 131) rfl (fun hc => have hk := hk.1 hc
g_iconst F dJ30_putVal_131 ic_0 <|
g_istore F dJ30_putVal_132 (Nat.le_of_ble_eq_true rfl) rfl <|
G.fewer [1, 2, 3, 4, 5, 6, 7, 0] rfl <| s_J30_putVal_l134 F (ce := cb + 1) (ke := kb + 64) (show cb + 1 ≤ 3 by omega) (show kb + 64 ≤ 132 by omega) 8 l1 l2 l3 l4 l5 l7 (0:Int32) h (cb + 1) (kb + 64) (show cb + 1 + 8 * 0 ≤ cb + 1 by omega) (show kb + 64 + 8 * 0 ≤ kb + 64 by omega) hk ((fun l1 l2 l3 l4 l5 l7 l10 l12 h hk => g_aload F dJ30_putVal_145 6 rfl <|
g_aload_n F dJ30_putVal_147 rfl 0 rfl <|
g_iload_n F dJ30_putVal_148 rfl 1 rfl <|
g_aload_n F dJ30_putVal_149 rfl 2 rfl <|
g_aload_n F dJ30_putVal_150 rfl 3 rfl <|
g_null F dJ30_putVal_151 <|
g_callr (g_V F dJ30_putVal_152 q1889 mi_J30_newNode ct_J30 (rm' := rmJ30_newNode) ⟨Nat.le_of_ble_eq_true rfl, Nat.le_of_ble_eq_true rfl⟩ ⟨show cb + 1 + 1 ≤ 3 by omega, show kb + 64 + 4 ≤ 132 by omega⟩ (As := [aI l1, aR l2, aR l3, aR none]) (rest := [aR l7]) rfl rfl (Nat.le_of_ble_eq_true rfl) hk (fun a24 hk => m_J30_newNode F.ok a24 l1 l2 l3 none h _ hk)) fun x23 h22 hk =>
g_putV F dJ30_putVal_155 fo_J32_3_java_util_HashMap_Node ck_J32 fl_java_util_HashMap_177_J32 rfl (v := aR x23) (fit_rf "java/util/HashMap$Node" x23) hk fun h25 hk =>
g_iload F dJ30_putVal_158 8 rfl <|
g_bipush F dJ30_putVal_160 bp_7 <|
g_icmp_lt F dJ30_putVal_162 (tgt := 222) rfl (fun hc => have hk := hk.1 hc
G.fewer [0, 3, 4, 5, 7] rfl <| G.widen (show cb + 1 + 1 ≤ cb + 2 by omega) (show kb + 64 + 4 ≤ kb + 68 by omega) <| s_J30_putVal_j222 F hM hS l3 l4 l5 l10 h25 hk ) (fun hc => have hk := hk.2 hc
False.elim hk))) ((fun l3 l4 l5 l10 h hk => g_goto F dJ30_putVal_209 (tgt := 222) rfl <|
G.widen (show cb + 1 ≤ cb + 2 by omega) (show kb + 64 ≤ kb + 68 by omega) <| s_J30_putVal_j222 F hM hS l3 l4 l5 l10 h hk )) ((fun l3 l4 l5 l10 h hk => G.widen (show cb + 1 ≤ cb + 2 by omega) (show kb + 64 ≤ kb + 68 by omega) <| s_J30_putVal_j222 F hM hS l3 l4 l5 l10 h hk ))) (fun hc => have hk := hk.2 hc
False.elim hk)
theorem s_J30_putVal_j97 {x : Cx} (F : Fx x cJ30_putVal "java/util/HashMap" 13 (some (.object "java/lang/Object")) rmJ30_putVal) {v0 : Nat} {Q : Option Nat → hH → Prop} {cb kb : Nat} (hM : cb + 3 ≤ 3) (hS : kb + 132 ≤ 132) (l3 : Option Nat) (l4 : Int32) (l5 : Int32) (l7 : Option Nat) (h : hH) (hk : f_J30_putVal_j97 x.S.E v0 Q l3 l4 l5 l7 h) : G x (xQ x rmJ30_putVal (qR Q)) 97 [(0, aR (some v0)), (3, aR l3), (4, aI l4), (5, aI l5), (7, aR l7)] [] h (cb + 1) (kb + 64) := by
  unfold f_J30_putVal_j97 at hk
  exact g_aload F dJ30_putVal_97 4 rfl <|
g_astore F dJ30_putVal_99 (Nat.le_of_ble_eq_true rfl) rfl <|
g_goto F dJ30_putVal_101 (tgt := 222) rfl <|
G.fewer [1, 2, 3, 4, 0] rfl <| G.widen (show cb + 1 ≤ cb + 2 by omega) (show kb + 64 ≤ kb + 68 by omega) <| s_J30_putVal_j222 F hM hS l3 l4 l5 l7 h hk 
theorem s_J30_putVal_j29 {x : Cx} (F : Fx x cJ30_putVal "java/util/HashMap" 13 (some (.object "java/lang/Object")) rmJ30_putVal) {v0 : Nat} {Q : Option Nat → hH → Prop} {cb kb : Nat} (hM : cb + 3 ≤ 3) (hS : kb + 132 ≤ 132) (l1 : Int32) (l2 : Option Nat) (l3 : Option Nat) (l4 : Int32) (l5 : Int32) (l6 : Option Nat) (l8 : Int32) (h : hH) (hk : f_J30_putVal_j29 x.S.E v0 Q l1 l2 l3 l4 l5 l6 l8 h) : G x (xQ x rmJ30_putVal (qR Q)) 29 [(0, aR (some v0)), (1, aI l1), (2, aR l2), (3, aR l3), (4, aI l4), (5, aI l5), (6, aR l6), (8, aI l8)] [] h (cb + 1) (kb + 64) := by
  unfold f_J30_putVal_j29 at hk
  exact g_aload F dJ30_putVal_29 6 rfl <|
g_iload F dJ30_putVal_31 7 rfl <|
g_iconst F dJ30_putVal_33 ic_1 <|
g_isub F dJ30_putVal_34 <|
g_iload_n F dJ30_putVal_35 rfl 1 rfl <|
g_iand F dJ30_putVal_36 <|
g_dup F dJ30_putVal_37 rfl <|
g_istore F dJ30_putVal_38 (Nat.le_of_ble_eq_true rfl) rfl <|
g_aald (t := 6) F dJ30_putVal_40 rfl rfl hk fun x26 hk =>
g_dup F dJ30_putVal_41 rfl <|
g_astore F dJ30_putVal_42 (Nat.le_of_ble_eq_true rfl) rfl <|
g_ifnonnull F dJ30_putVal_44 (tgt := 63) rfl (fun hc => have hk := hk.2 hc
g_aload F dJ30_putVal_63 0 rfl <|
g_getI F dJ30_putVal_65 fo_J32_0_java_util_HashMap_Node in_J32 fl_java_util_HashMap_168_J32 hk fun x27 hk =>
g_iload_n F dJ30_putVal_68 rfl 3 rfl <|
g_icmp_ne F dJ30_putVal_69 (tgt := 104) rfl (fun hc => have hk := hk.2 hc
G.fewer [2, 3, 4, 5, 6, 7, 0] rfl <| s_J30_putVal_j104 F hM hS l1 l2 l3 l4 l5 x26 h hk ) (fun hc => have hk := hk.1 hc
g_aload F dJ30_putVal_72 0 rfl <|
g_getR F dJ30_putVal_74 fo_J32_1_java_util_HashMap_Node in_J32 fl_java_util_HashMap_170_J32 hk fun x28 hk =>
g_dup F dJ30_putVal_77 rfl <|
g_astore F dJ30_putVal_78 (Nat.le_of_ble_eq_true rfl) rfl <|
g_aload_n F dJ30_putVal_80 rfl 5 rfl <|
g_acmp_eq F dJ30_putVal_81 (tgt := 97) rfl (fun hc => have hk := hk.1 hc
G.fewer [3, 6, 7, 8, 1] rfl <| s_J30_putVal_j97 F hM hS l3 l4 l5 x26 h hk ) (fun hc => have hk := hk.2 hc
g_aload_n F dJ30_putVal_84 rfl 5 rfl <|
g_ifnull F dJ30_putVal_85 (tgt := 104) rfl (fun hc => have hk := hk.1 hc
G.fewer [3, 4, 5, 6, 7, 8, 1] rfl <| s_J30_putVal_j104 F hM hS l1 l2 l3 l4 l5 x26 h hk ) (fun hc => have hk := hk.2 hc
g_aload_n F dJ30_putVal_88 rfl 5 rfl <|
g_aload F dJ30_putVal_89 0 rfl <|
g_calli0 (g_O (y0 := ({ cls := "java/lang/Object", name := "equals", desc := "(Ljava/lang/Object;)Z" } : MethodName)) F dJ30_putVal_91 q1734 q1736 q1733 q1752 q1751 q161 q1753 moi_java_lang_Object_equals__Ljava_lang_Object__Z ct_X15 (rm' := rmX15_equals) ⟨Nat.le_of_ble_eq_true rfl, Nat.le_of_ble_eq_true rfl⟩ ⟨show cb + 1 + 0 ≤ 3 by omega, show kb + 64 + 0 ≤ 132 by omega⟩ (As := [aR x28]) (rest := []) rfl rfl (Nat.le_of_ble_eq_true rfl) hk (fun a31 hk => m_X15_equals F.ok a31 x28 h _ hk)) ⟨rfl, rfl⟩ fun x30 h29 hk =>
g_if_eq F dJ30_putVal_94 (tgt := 104) rfl (fun hc => have hk := hk.1 hc
G.fewer [3, 4, 5, 6, 7, 8, 1] rfl <| s_J30_putVal_j104 F hM hS l1 l2 l3 l4 l5 x26 h29 hk ) (fun hc => have hk := hk.2 hc
G.fewer [3, 6, 7, 8, 1] rfl <| s_J30_putVal_j97 F hM hS l3 l4 l5 x26 h29 hk ))))) (fun hc => have hk := hk.1 hc
g_aload F dJ30_putVal_47 8 rfl <|
g_iload F dJ30_putVal_49 1 rfl <|
g_aload_n F dJ30_putVal_51 rfl 2 rfl <|
g_iload_n F dJ30_putVal_52 rfl 3 rfl <|
g_aload_n F dJ30_putVal_53 rfl 4 rfl <|
g_aload_n F dJ30_putVal_54 rfl 5 rfl <|
g_null F dJ30_putVal_55 <|
g_callr (g_V F dJ30_putVal_56 q1889 mi_J30_newNode ct_J30 (rm' := rmJ30_newNode) ⟨Nat.le_of_ble_eq_true rfl, Nat.le_of_ble_eq_true rfl⟩ ⟨show cb + 1 + 1 ≤ 3 by omega, show kb + 64 + 4 ≤ 132 by omega⟩ (As := [aI l1, aR l2, aR l3, aR none]) (rest := [aI ((l8 - (1:Int32)) &&& l1), aR l6]) rfl rfl (Nat.le_of_ble_eq_true rfl) hk (fun a34 hk => m_J30_newNode F.ok a34 l1 l2 l3 none h _ hk)) fun x33 h32 hk =>
g_aast6 F dJ30_putVal_59 hk fun h35 hk =>
g_goto F dJ30_putVal_60 (tgt := 259) rfl <|
G.fewer [2, 7] rfl <| G.widen (show cb + 1 + 1 ≤ cb + 2 by omega) (show kb + 64 + 4 ≤ kb + 68 by omega) <| s_J30_putVal_j259 F hM hS l5 h35 hk )
theorem s_J30_putVal_j19 {x : Cx} (F : Fx x cJ30_putVal "java/util/HashMap" 13 (some (.object "java/lang/Object")) rmJ30_putVal) {v0 : Nat} {Q : Option Nat → hH → Prop} {cb kb : Nat} (hM : cb + 3 ≤ 3) (hS : kb + 132 ≤ 132) (l1 : Int32) (l2 : Option Nat) (l3 : Option Nat) (l4 : Int32) (l5 : Int32) (h : hH) (hk : f_J30_putVal_j19 x.S.E v0 Q l1 l2 l3 l4 l5 h) : G x (xQ x rmJ30_putVal (qR Q)) 19 [(0, aR (some v0)), (1, aI l1), (2, aR l2), (3, aR l3), (4, aI l4), (5, aI l5)] [] h (cb + 0) (kb + 0) := by
  unfold f_J30_putVal_j19 at hk
  exact g_aload_n F dJ30_putVal_19 rfl 0 rfl <|
g_callr (g_V F dJ30_putVal_20 q1819 mi_J30_resize ct_J30 (rm' := rmJ30_resize) ⟨Nat.le_of_ble_eq_true rfl, Nat.le_of_ble_eq_true rfl⟩ ⟨show cb + 0 + 1 ≤ 3 by omega, show kb + 0 + 64 ≤ 132 by omega⟩ (As := []) (rest := []) rfl rfl (Nat.le_of_ble_eq_true rfl) hk (fun a38 hk => m_J30_resize F.ok a38 h _ hk)) fun x37 h36 hk =>
g_dup F dJ30_putVal_23 rfl <|
g_astore F dJ30_putVal_24 (Nat.le_of_ble_eq_true rfl) rfl <|
g_alen (t := 6) F dJ30_putVal_26 rfl hk fun x39 hk =>
g_istore F dJ30_putVal_27 (Nat.le_of_ble_eq_true rfl) rfl <|
G.fewer [2, 3, 4, 5, 6, 7, 1, 0] rfl <| G.widen (show cb + 0 + 1 ≤ cb + 1 by omega) (show kb + 0 + 64 ≤ kb + 64 by omega) <| s_J30_putVal_j29 F hM hS l1 l2 l3 l4 l5 x37 x39 h36 hk 
theorem m_J30_putVal {S : Sx} (hS0 : Sok S) (v0 : Nat) (v1 : Int32) (v2 : Option Nat) (v3 : Option Nat) (v4 : Int32) (v5 : Int32) (h : hH) (Q : Option Nat → hH → Prop) (hk : f_J30_putVal S.E v0 v1 v2 v3 v4 v5 h Q) : Ct S yJ30_putVal (ws_ yJ30_putVal cJ30_putVal 13 (some (.object "java/lang/Object"))) rmJ30_putVal ([aR (some v0), aI v1, aR v2, aR v3, aI v4, aI v5].map vv) h (qR Q) := by
  refine Ct.of hS0 (by decide +kernel) rfl (Nat.le_of_ble_eq_true rfl) fun x hxS F hnm => ?_
  subst hxS
  unfold f_J30_putVal at hk
  have hM : 0 + 3 ≤ 3 := by omega
  have hS : 0 + 132 ≤ 132 := by omega
  refine G.widen (c' := 0 + 0) (k' := 0 + 0) (Nat.le_refl 0) (Nat.le_refl 0) ?_
  exact g_aload_n F dJ30_putVal_0 rfl 0 rfl <|
g_getR F dJ30_putVal_1 fo_J30_2_java_util_HashMap in_J30 fl_java_util_HashMap_105_J30 hk fun x40 hk =>
g_dup F dJ30_putVal_4 rfl <|
g_astore F dJ30_putVal_5 (Nat.le_of_ble_eq_true rfl) rfl <|
g_ifnull F dJ30_putVal_7 (tgt := 19) rfl (fun hc => have hk := hk.1 hc
G.fewer [1, 2, 3, 4, 5, 6] rfl <| s_J30_putVal_j19 F hM hS v1 v2 v3 v4 v5 h hk ) (fun hc => have hk := hk.2 hc
g_aload F dJ30_putVal_10 0 rfl <|
g_alen (t := 6) F dJ30_putVal_12 rfl hk fun x41 hk =>
g_dup F dJ30_putVal_13 rfl <|
g_istore F dJ30_putVal_14 (Nat.le_of_ble_eq_true rfl) rfl <|
g_if_ne F dJ30_putVal_16 (tgt := 29) rfl (fun hc => have hk := hk.2 hc
G.fewer [2, 3, 4, 5, 6, 7, 1, 0] rfl <| G.widen (show 0 + 0 ≤ 0 + 1 by omega) (show 0 + 0 ≤ 0 + 64 by omega) <| s_J30_putVal_j29 F hM hS v1 v2 v3 v4 v5 x40 x41 h hk ) (fun hc => have hk := hk.1 hc
G.fewer [2, 3, 4, 5, 6, 7] rfl <| s_J30_putVal_j19 F hM hS v1 v2 v3 v4 v5 h hk ))
abbrev rmJ30_put : Room := { frames := 5, cells := 3, slots := 132, locals := 120 }
theorem m_J30_put {S : Sx} (hS0 : Sok S) (v0 : Nat) (v1 : Option Nat) (v2 : Option Nat) (h : hH) (Q : Option Nat → hH → Prop) (hk : f_J30_put S.E v0 v1 v2 h Q) : Ct S yJ30_put (ws_ yJ30_put cJ30_put 3 (some (.object "java/lang/Object"))) rmJ30_put ([aR (some v0), aR v1, aR v2].map vv) h (qR Q) := by
  refine Ct.of hS0 (by decide +kernel) rfl (Nat.le_of_ble_eq_true rfl) fun x hxS F hnm => ?_
  subst hxS
  unfold f_J30_put at hk
  have hM : 0 + 3 ≤ 3 := by omega
  have hS : 0 + 132 ≤ 132 := by omega
  refine G.widen (c' := 0 + 0) (k' := 0 + 0) (Nat.le_refl 0) (Nat.le_refl 0) ?_
  exact g_aload_n F dJ30_put_0 rfl 0 rfl <|
g_aload_n F dJ30_put_1 rfl 1 rfl <|
g_calli0 (g_S F dJ30_put_2 q1687 ms_J30_hash (rm' := rmJ30_hash) ⟨Nat.le_of_ble_eq_true rfl, Nat.le_of_ble_eq_true rfl⟩ ⟨show 0 + 0 + 0 ≤ 3 by omega, show 0 + 0 + 0 ≤ 132 by omega⟩ (As := [aR v1]) (rest := [aR (some v0)]) rfl rfl (Nat.le_of_ble_eq_true rfl) (m_J30_hash F.ok v1 h _ hk)) ⟨rfl, rfl⟩ fun x2 h1 hk =>
g_aload_n F dJ30_put_5 rfl 1 rfl <|
g_aload_n F dJ30_put_6 rfl 2 rfl <|
g_iconst F dJ30_put_7 ic_0 <|
g_iconst F dJ30_put_8 ic_1 <|
g_callr (g_V F dJ30_put_9 q1815 mi_J30_putVal ct_J30 (rm' := rmJ30_putVal) ⟨Nat.le_of_ble_eq_true rfl, Nat.le_of_ble_eq_true rfl⟩ ⟨show 0 + 0 + 3 ≤ 3 by omega, show 0 + 0 + 132 ≤ 132 by omega⟩ (As := [aI x2, aR v1, aR v2, aI (0:Int32), aI (1:Int32)]) (rest := []) rfl rfl (Nat.le_of_ble_eq_true rfl) hk (fun a5 hk => m_J30_putVal F.ok a5 x2 v1 v2 (0:Int32) (1:Int32) h1 _ hk)) fun x4 h3 hk =>
g_aret F (Or.inl ⟨_, rfl⟩) dJ30_put_12 (show 0 + 0 + 3 ≤ 3 by omega) (show 0 + 0 + 132 ≤ 132 by omega) hk
