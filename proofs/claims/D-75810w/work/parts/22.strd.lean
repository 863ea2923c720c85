set_option maxRecDepth 100000
set_option maxHeartbeats 10000000
theorem mo_J13_copyOf : MOk yJ13_copyOf 2 := by decide +kernel
theorem ms_J13_copyOf : MS yJ13_copyOf cJ13_copyOf 3 (some (.array .byte)) 2 := ⟨q548, q131, q549, mo_J13_copyOf⟩
theorem mo_J6_newCapacity : MOk yJ6_newCapacity 1 := by decide +kernel
theorem mo_J14_canEncode : MOk yJ14_canEncode 1 := by decide +kernel
theorem ms_J14_canEncode : MS yJ14_canEncode cJ14_canEncode 1 (some .boolean) 1 := ⟨q567, q133, q568, mo_J14_canEncode⟩
theorem mo_J6_isLatin1 : MOk yJ6_isLatin1 0 := by decide +kernel
theorem mo_J6_ensureCapacityInternal : MOk yJ6_ensureCapacityInternal 1 := by decide +kernel
theorem mo_J20_stringSize : MOk yJ20_stringSize 1 := by decide +kernel
theorem ms_J20_stringSize : MS yJ20_stringSize cJ20_stringSize 4 (some .int) 1 := ⟨q2938, q140, q2939, mo_J20_stringSize⟩
theorem mo_J20_getChars : MOk yJ20_getChars 3 := by decide +kernel
theorem ms_J20_getChars : MS yJ20_getChars cJ20_getChars 7 (some .int) 3 := ⟨q2941, q140, q2942, mo_J20_getChars⟩
theorem fo_J7_2_java_lang_AbstractStringBuilder : FieldOk "java/lang/AbstractStringBuilder" 20 2 RJ7 TJ7 4 := ⟨ct_J7, Nat.le_of_ble_eq_true rfl, Or.inl rfl⟩
theorem fl_java_lang_AbstractStringBuilder_73_J7 : Cond.fieldLink "java/lang/AbstractStringBuilder" 73 "java/lang/AbstractStringBuilder" (TJ7 2).2.1 (TJ7 2).2.2.1 ∈ lw_all ∨ ∃ host, Cond.fieldLinkNest "java/lang/AbstractStringBuilder" 73 "java/lang/AbstractStringBuilder" (TJ7 2).2.1 (TJ7 2).2.2.1 host ∈ lw_tbl := Or.inl q363
theorem mo_J6_append : MOk yJ6_append 1 := by decide +kernel
theorem mo_J6_append_3 : MOk yJ6_append_3 1 := by decide +kernel
theorem mo_J6_setLength : MOk yJ6_setLength 1 := by decide +kernel
theorem mo_J13_copyOfRange : MOk yJ13_copyOfRange 3 := by decide +kernel
theorem ms_J13_copyOfRange : MS yJ13_copyOfRange cJ13_copyOfRange 3 (some (.array .byte)) 3 := ⟨q642, q131, q643, mo_J13_copyOfRange⟩
theorem mo_J7_length : MOk yJ7_length 0 := by decide +kernel
theorem moi_java_lang_AbstractStringBuilder_length___I : MOk ({ cls := "java/lang/AbstractStringBuilder", name := "length", desc := "()I" } : MethodName) 0 := by decide +kernel
theorem mo_J6_getValue : MOk yJ6_getValue 0 := by decide +kernel
theorem mo_J8_init_2 : MOk yJ8_init_2 2 := by decide +kernel
theorem mc_J8_init_2 : MC yJ8_init_2 cJ8_init_2 5 2 := ⟨q624, q123, q625, rfl, mo_J8_init_2⟩
theorem df_J8 : ∀ j, j < 4 → defaultValue (tyJ8 j) = vp_V [va_rf none, .int 0, .int 0, .int 0] j := fun j hj => by rcases (show j = 0 ∨ j = 1 ∨ j = 2 ∨ j = 3 by omega) with rfl | rfl | rfl | rfl <;> rfl
theorem mo_J8_init : MOk yJ8_init 1 := by decide +kernel
theorem mc_J8_init : MC yJ8_init cJ8_init 2 1 := ⟨q621, q123, q622, rfl, mo_J8_init⟩
abbrev rmJ6_ensureCapacityInternal (B W : Nat) : Room := { frames := 4, cells := B, slots := W, locals := 88 }
theorem m_J6_ensureCapacityInternal {S : Sx} (hS0 : Sok S) (B W : Nat) (v0 : Nat) (v1 : Int32) (h : hH) (Q : hH → Prop) (hk : f_J6_ensureCapacityInternal S.E B W v0 v1 h Q) : Ct S yJ6_ensureCapacityInternal (ws_ yJ6_ensureCapacityInternal cJ6_ensureCapacityInternal 3 none) (rmJ6_ensureCapacityInternal B W) ([aR (some v0), aI v1].map vv) h (qV Q) := by
  refine Ct.of hS0 (by decide +kernel) rfl (Nat.le_of_ble_eq_true rfl) fun x hxS F hnm => ?_
  subst hxS
  unfold f_J6_ensureCapacityInternal at hk
  have key : ∀ cb kb : Nat, cb + B ≤ B → kb + W ≤ W → G x (xQ x (rmJ6_ensureCapacityInternal B W) (qV Q)) 0 (aArgs 0 [aR (some v0), aI v1]) [] h cb kb := fun cb kb hM hS =>
g_aload_n F dJ6_ensureCapacityInternal_0 rfl 0 rfl <|
g_getR F dJ6_ensureCapacityInternal_1 fo_J7_0_java_lang_AbstractStringBuilder in_J7 fl_java_lang_AbstractStringBuilder_15_J7 hk fun x1 hk =>
g_alen (t := 1) F dJ6_ensureCapacityInternal_4 rfl hk fun x2 hk =>
g_aload_n F dJ6_ensureCapacityInternal_5 rfl 0 rfl <|
g_getI F dJ6_ensureCapacityInternal_6 fo_J7_1_java_lang_AbstractStringBuilder in_J7 fl_java_lang_AbstractStringBuilder_22_J7 hk fun x3 hk =>
g_ishr F dJ6_ensureCapacityInternal_9 <|
g_istore_n F dJ6_ensureCapacityInternal_10 rfl (Nat.le_of_ble_eq_true rfl) rfl <|
g_iload_n F dJ6_ensureCapacityInternal_11 rfl 2 rfl <|
g_iload_n F dJ6_ensureCapacityInternal_12 rfl 0 rfl <|
g_isub F dJ6_ensureCapacityInternal_13 <|
g_if_le F dJ6_ensureCapacityInternal_14 (tgt := 38) rfl (fun hc => have hk := hk.1 hc
g_vret F dJ6_ensureCapacityInternal_38 (show cb ≤ B by omega) (show kb ≤ W by omega) hk) (fun hc => have hk := hk.2 hc
g_aload_n F dJ6_ensureCapacityInternal_17 rfl 1 rfl <|
g_aload_n F dJ6_ensureCapacityInternal_18 rfl 1 rfl <|
g_getR F dJ6_ensureCapacityInternal_19 fo_J7_0_java_lang_AbstractStringBuilder in_J7 fl_java_lang_AbstractStringBuilder_15_J7 hk fun x4 hk =>
g_aload_n F dJ6_ensureCapacityInternal_22 rfl 1 rfl <|
g_iload_n F dJ6_ensureCapacityInternal_23 rfl 2 rfl <|
g_calli0 (g_VP F dJ6_ensureCapacityInternal_24 q532 q533 q564 rfl q534 q121 q535 mo_J6_newCapacity ct_J7 (rm' := rmJ6_newCapacity) ⟨Nat.le_of_ble_eq_true rfl, Nat.le_of_ble_eq_true rfl⟩ ⟨show cb + 0 ≤ B by omega, show kb + 0 ≤ W by omega⟩ (As := [aI v1]) (rest := [aR x4, aR (some v0)]) rfl rfl (Nat.le_of_ble_eq_true rfl) hk (fun a15 hk => m_J6_newCapacity F.ok a15 v1 h _ hk)) ⟨rfl, rfl⟩ fun x7 h6 hk =>
g_aload_n F dJ6_ensureCapacityInternal_27 rfl 1 rfl <|
g_getI F dJ6_ensureCapacityInternal_28 fo_J7_1_java_lang_AbstractStringBuilder in_J7 fl_java_lang_AbstractStringBuilder_22_J7 hk fun x8 hk =>
g_ishl F dJ6_ensureCapacityInternal_31 <|
Exists.elim hk fun b10 hk => Exists.elim hk fun w11 hk => have hb9 := hk.1
have hk := hk.2
g_callr (g_S F dJ6_ensureCapacityInternal_32 q547 ms_J13_copyOf (rm' := (rmJ13_copyOfD b10 w11)) ⟨Nat.le_of_ble_eq_true rfl, Nat.le_of_ble_eq_true rfl⟩ ⟨show cb + b10 ≤ B by omega, show kb + w11 ≤ W by omega⟩ (As := [aR x4, aI (x7 <<< (x8 &&& 31))]) (rest := [aR (some v0)]) rfl rfl (Nat.le_of_ble_eq_true rfl) (m_J13_copyOfD F.ok b10 w11 x4 (x7 <<< (x8 &&& 31)) h6 _ hk)) fun x13 h12 hk =>
g_putV F dJ6_ensureCapacityInternal_35 fo_J7_0_java_lang_AbstractStringBuilder ck_J7 fl_java_lang_AbstractStringBuilder_15_J7 rfl (v := aR x13) (fit_ra .byte x13) hk fun h14 hk =>
g_vret F dJ6_ensureCapacityInternal_38 (show cb + b10 ≤ B by omega) (show kb + w11 ≤ W by omega) hk)
  exact key 0 0 (by omega) (by omega)
abbrev rmJ6_append (B W : Nat) : Room := { frames := 5, cells := B, slots := W, locals := 110 }
theorem m_J6_append {S : Sx} (hS0 : Sok S) (B W : Nat) (v0 : Nat) (v1 : Int32) (h : hH) (Q : Option Nat → hH → Prop) (hk : f_J6_append S.E B W v0 v1 h Q) : Ct S yJ6_append (ws_ yJ6_append cJ6_append 2 (some (.object "java/lang/AbstractStringBuilder"))) (rmJ6_append B W) ([aR (some v0), aI v1].map vv) h (qR Q) := by
  refine Ct.of hS0 (by decide +kernel) rfl (Nat.le_of_ble_eq_true rfl) fun x hxS F hnm => ?_
  subst hxS
  unfold f_J6_append at hk
  have key : ∀ cb kb : Nat, cb + B ≤ B → kb + W ≤ W → G x (xQ x (rmJ6_append B W) (qR Q)) 0 (aArgs 0 [aR (some v0), aI v1]) [] h cb kb := fun cb kb hM hS =>
g_aload_n F dJ6_append_0 rfl 0 rfl <|
g_aload_n F dJ6_append_1 rfl 0 rfl <|
g_getI F dJ6_append_2 fo_J7_3_java_lang_AbstractStringBuilder in_J7 fl_java_lang_AbstractStringBuilder_79_J7 hk fun x1 hk =>
g_iconst F dJ6_append_5 ic_1 <|
g_iadd F dJ6_append_6 <|
Exists.elim hk fun b3 hk => Exists.elim hk fun w4 hk => have hb2 := hk.1
have hk := hk.2
g_callv (g_VP F dJ6_append_7 q528 q529 q564 rfl q530 q121 q531 mo_J6_ensureCapacityInternal ct_J7 (rm' := (rmJ6_ensureCapacityInternal b3 w4)) ⟨Nat.le_of_ble_eq_true rfl, Nat.le_of_ble_eq_true rfl⟩ ⟨show cb + b3 ≤ B by omega, show kb + w4 ≤ W by omega⟩ (As := [aI (x1 + (1:Int32))]) (rest := []) rfl rfl (Nat.le_of_ble_eq_true rfl) hk (fun a17 hk => m_J6_ensureCapacityInternal F.ok b3 w4 a17 (x1 + (1:Int32)) h _ hk)) fun h5 hk =>
g_aload_n F dJ6_append_10 rfl 0 rfl <|
g_calli0 (g_U F dJ6_append_11 q561 q563 q562 q564 q121 q565 rfl mo_J6_isLatin1 ct_J7 (rm' := rmJ6_isLatin1) ⟨Nat.le_of_ble_eq_true rfl, Nat.le_of_ble_eq_true rfl⟩ ⟨show cb + b3 + 0 ≤ B by omega, show kb + w4 + 0 ≤ W by omega⟩ (As := []) (rest := []) rfl rfl (Nat.le_of_ble_eq_true rfl) hk (fun a16 hk => m_J6_isLatin1 F.ok a16 h5 _ hk)) ⟨rfl, rfl⟩ fun x8 h7 hk =>
g_if_eq F dJ6_append_14 (tgt := 45) rfl (fun hc => have hk := hk.1 hc
False.elim hk) (fun hc => have hk := hk.2 hc
g_iload_n F dJ6_append_17 rfl 1 rfl <|
g_calli0 (g_S F dJ6_append_18 q566 ms_J14_canEncode (rm' := rmJ14_canEncode) ⟨Nat.le_of_ble_eq_true rfl, Nat.le_of_ble_eq_true rfl⟩ ⟨show cb + b3 + 0 ≤ B by omega, show kb + w4 + 0 ≤ W by omega⟩ (As := [aI v1]) (rest := []) rfl rfl (Nat.le_of_ble_eq_true rfl) (m_J14_canEncode F.ok v1 h7 _ hk)) ⟨rfl, rfl⟩ fun x11 h10 hk =>
g_if_eq F dJ6_append_21 (tgt := 45) rfl (fun hc => have hk := hk.1 hc
False.elim hk) (fun hc => have hk := hk.2 hc
g_aload_n F dJ6_append_24 rfl 0 rfl <|
g_getR F dJ6_append_25 fo_J7_0_java_lang_AbstractStringBuilder in_J7 fl_java_lang_AbstractStringBuilder_15_J7 hk fun x12 hk =>
g_aload_n F dJ6_append_28 rfl 0 rfl <|
g_dup F dJ6_append_29 rfl <|
g_getI F dJ6_append_30 fo_J7_3_java_lang_AbstractStringBuilder in_J7 fl_java_lang_AbstractStringBuilder_79_J7 hk fun x13 hk =>
g_dup_x1 F dJ6_append_33 rfl rfl <|
g_iconst F dJ6_append_34 ic_1 <|
g_iadd F dJ6_append_35 <|
g_putV F dJ6_append_36 fo_J7_3_java_lang_AbstractStringBuilder ck_J7 fl_java_lang_AbstractStringBuilder_79_J7 rfl (v := aI (x13 + (1:Int32))) (fit_i (x13 + (1:Int32))) hk fun h14 hk =>
g_iload_n F dJ6_append_39 rfl 1 rfl <|
g_i2b F dJ6_append_40 <|
g_bast F dJ6_append_41 hk fun h15 hk =>
g_goto F dJ6_append_42 (tgt := 75) rfl <|
g_aload_n F dJ6_append_75 rfl 0 rfl <|
g_aret F (Or.inl ⟨_, rfl⟩) dJ6_append_76 (show cb + b3 ≤ B by omega) (show kb + w4 ≤ W by omega) hk))
  exact key 0 0 (by omega) (by omega)
abbrev rmJ6_append_3 (B W : Nat) : Room := { frames := 5, cells := B, slots := W, locals := 110 }
theorem m_J6_append_3 {S : Sx} (hS0 : Sok S) (B W : Nat) (v0 : Nat) (v1 : Int32) (h : hH) (Q : Option Nat → hH → Prop) (hk : f_J6_append_3 S.E B W v0 v1 h Q) : Ct S yJ6_append_3 (ws_ yJ6_append_3 cJ6_append_3 4 (some (.object "java/lang/AbstractStringBuilder"))) (rmJ6_append_3 B W) ([aR (some v0), aI v1].map vv) h (qR Q) := by
  refine Ct.of hS0 (by decide +kernel) rfl (Nat.le_of_ble_eq_true rfl) fun x hxS F hnm => ?_
  subst hxS
  unfold f_J6_append_3 at hk
  have key : ∀ cb kb : Nat, cb + B ≤ B → kb + W ≤ W → G x (xQ x (rmJ6_append_3 B W) (qR Q)) 0 (aArgs 0 [aR (some v0), aI v1]) [] h cb kb := fun cb kb hM hS =>
g_aload_n F dJ6_append_3_0 rfl 0 rfl <|
g_getI F dJ6_append_3_1 fo_J7_3_java_lang_AbstractStringBuilder in_J7 fl_java_lang_AbstractStringBuilder_79_J7 hk fun x1 hk =>
g_istore_n F dJ6_append_3_4 rfl (Nat.le_of_ble_eq_true rfl) rfl <|
g_iload_n F dJ6_append_3_5 rfl 0 rfl <|
g_iload_n F dJ6_append_3_6 rfl 2 rfl <|
g_calli0 (g_S F dJ6_append_3_7 q2937 ms_J20_stringSize (rm' := rmJ20_stringSize) ⟨Nat.le_of_ble_eq_true rfl, Nat.le_of_ble_eq_true rfl⟩ ⟨show cb + 0 ≤ B by omega, show kb + 0 ≤ W by omega⟩ (As := [aI v1]) (rest := [aI x1]) rfl rfl (Nat.le_of_ble_eq_true rfl) (m_J20_stringSize F.ok v1 h _ hk)) ⟨rfl, rfl⟩ fun x4 h3 hk =>
g_iadd F dJ6_append_3_10 <|
g_istore_n F dJ6_append_3_11 rfl (Nat.le_of_ble_eq_true rfl) rfl <|
g_aload_n F dJ6_append_3_12 rfl 2 rfl <|
g_iload_n F dJ6_append_3_13 rfl 0 rfl <|
Exists.elim hk fun b6 hk => Exists.elim hk fun w7 hk => have hb5 := hk.1
have hk := hk.2
g_callv (g_VP F dJ6_append_3_14 q528 q529 q564 rfl q530 q121 q531 mo_J6_ensureCapacityInternal ct_J7 (rm' := (rmJ6_ensureCapacityInternal b6 w7)) ⟨Nat.le_of_ble_eq_true rfl, Nat.le_of_ble_eq_true rfl⟩ ⟨show cb + b6 ≤ B by omega, show kb + w7 ≤ W by omega⟩ (As := [aI (x1 + x4)]) (rest := []) rfl rfl (Nat.le_of_ble_eq_true rfl) hk (fun a18 hk => m_J6_ensureCapacityInternal F.ok b6 w7 a18 (x1 + x4) h3 _ hk)) fun h8 hk =>
g_aload_n F dJ6_append_3_17 rfl 2 rfl <|
g_calli0 (g_U F dJ6_append_3_18 q561 q563 q562 q564 q121 q565 rfl mo_J6_isLatin1 ct_J7 (rm' := rmJ6_isLatin1) ⟨Nat.le_of_ble_eq_true rfl, Nat.le_of_ble_eq_true rfl⟩ ⟨show cb + b6 + 0 ≤ B by omega, show kb + w7 + 0 ≤ W by omega⟩ (As := []) (rest := []) rfl rfl (Nat.le_of_ble_eq_true rfl) hk (fun a17 hk => m_J6_isLatin1 F.ok a17 h8 _ hk)) ⟨rfl, rfl⟩ fun x11 h10 hk =>
g_if_eq F dJ6_append_3_21 (tgt := 37) rfl (fun hc => have hk := hk.1 hc
False.elim hk) (fun hc => have hk := hk.2 hc
g_iload_n F dJ6_append_3_24 rfl 3 rfl <|
g_iload_n F dJ6_append_3_25 rfl 0 rfl <|
g_aload_n F dJ6_append_3_26 rfl 2 rfl <|
g_getR F dJ6_append_3_27 fo_J7_0_java_lang_AbstractStringBuilder in_J7 fl_java_lang_AbstractStringBuilder_15_J7 hk fun x12 hk =>
g_calli0 (g_S F dJ6_append_3_30 q2940 ms_J20_getChars (rm' := rmJ20_getChars) ⟨Nat.le_of_ble_eq_true rfl, Nat.le_of_ble_eq_true rfl⟩ ⟨show cb + b6 + 0 ≤ B by omega, show kb + w7 + 0 ≤ W by omega⟩ (As := [aI v1, aI (x1 + x4), aR x12]) (rest := []) rfl rfl (Nat.le_of_ble_eq_true rfl) (m_J20_getChars F.ok v1 (x1 + x4) x12 h10 _ hk)) ⟨rfl, rfl⟩ fun x15 h14 hk =>
g_pop F dJ6_append_3_33 rfl <|
g_goto F dJ6_append_3_34 (tgt := 48) rfl <|
g_aload_n F dJ6_append_3_48 rfl 2 rfl <|
g_iload_n F dJ6_append_3_49 rfl 0 rfl <|
g_putV F dJ6_append_3_50 fo_J7_3_java_lang_AbstractStringBuilder ck_J7 fl_java_lang_AbstractStringBuilder_79_J7 rfl (v := aI (x1 + x4)) (fit_i (x1 + x4)) hk fun h16 hk =>
g_aload_n F dJ6_append_3_53 rfl 2 rfl <|
g_aret F (Or.inl ⟨_, rfl⟩) dJ6_append_3_54 (show cb + b6 ≤ B by omega) (show kb + w7 ≤ W by omega) hk)
  exact key 0 0 (by omega) (by omega)
abbrev rmJ6_setLength (B W : Nat) : Room := { frames := 5, cells := B, slots := W, locals := 110 }
theorem s_J6_setLength_j76 {x : Cx} {B W : Nat} (F : Fx x cJ6_setLength "java/lang/AbstractStringBuilder" 2 none (rmJ6_setLength B W)) {v0 : Nat} {Q : hH → Prop} (l1 : Int32) (h : hH) (b w cb kb : Nat) (hM : cb + b ≤ B) (hS : kb + w ≤ W) (hk : f_J6_setLength_j76 x.S.E v0 Q l1 h b w) : G x (xQ x (rmJ6_setLength B W) (qV Q)) 76 [(0, aR (some v0)), (1, aI l1)] [] h cb kb := by
  unfold f_J6_setLength_j76 at hk
  exact g_aload_n F dJ6_setLength_76 rfl 0 rfl <|
g_iload_n F dJ6_setLength_77 rfl 1 rfl <|
g_putV F dJ6_setLength_78 fo_J7_3_java_lang_AbstractStringBuilder ck_J7 fl_java_lang_AbstractStringBuilder_79_J7 rfl (v := aI l1) (fit_i l1) hk fun h1 hk =>
g_vret F dJ6_setLength_81 (show cb ≤ B by omega) (show kb ≤ W by omega) hk
theorem m_J6_setLength {S : Sx} (hS0 : Sok S) (B W : Nat) (v0 : Nat) (v1 : Int32) (h : hH) (Q : hH → Prop) (hk : f_J6_setLength S.E B W v0 v1 h Q) : Ct S yJ6_setLength (ws_ yJ6_setLength cJ6_setLength 2 none) (rmJ6_setLength B W) ([aR (some v0), aI v1].map vv) h (qV Q) := by
  refine Ct.of hS0 (by decide +kernel) rfl (Nat.le_of_ble_eq_true rfl) fun x hxS F hnm => ?_
  subst hxS
  unfold f_J6_setLength at hk
  have key : ∀ cb kb : Nat, cb + B ≤ B → kb + W ≤ W → G x (xQ x (rmJ6_setLength B W) (qV Q)) 0 (aArgs 0 [aR (some v0), aI v1]) [] h cb kb := fun cb kb hM hS =>
g_iload_n F dJ6_setLength_0 rfl 1 rfl <|
g_if_ge F dJ6_setLength_1 (tgt := 13) rfl (fun hc => have hk := hk.1 hc
g_aload_n F dJ6_setLength_13 rfl 0 rfl <|
g_iload_n F dJ6_setLength_14 rfl 1 rfl <|
Exists.elim hk fun b3 hk => Exists.elim hk fun w4 hk => have hb2 := hk.1
have hk := hk.2
g_callv (g_VP F dJ6_setLength_15 q528 q529 q564 rfl q530 q121 q531 mo_J6_ensureCapacityInternal ct_J7 (rm' := (rmJ6_ensureCapacityInternal b3 w4)) ⟨Nat.le_of_ble_eq_true rfl, Nat.le_of_ble_eq_true rfl⟩ ⟨show cb + b3 ≤ B by omega, show kb + w4 ≤ W by omega⟩ (As := [aI v1]) (rest := []) rfl rfl (Nat.le_of_ble_eq_true rfl) hk (fun a9 hk => m_J6_ensureCapacityInternal F.ok b3 w4 a9 v1 h _ hk)) fun h5 hk =>
g_aload_n F dJ6_setLength_18 rfl 0 rfl <|
g_getI F dJ6_setLength_19 fo_J7_3_java_lang_AbstractStringBuilder in_J7 fl_java_lang_AbstractStringBuilder_79_J7 hk fun x6 hk =>
g_iload_n F dJ6_setLength_22 rfl 1 rfl <|
g_icmp_ge F dJ6_setLength_23 (tgt := 63) rfl (fun hc => have hk := hk.1 hc
g_aload_n F dJ6_setLength_63 rfl 0 rfl <|
g_getI F dJ6_setLength_64 fo_J7_3_java_lang_AbstractStringBuilder in_J7 fl_java_lang_AbstractStringBuilder_79_J7 hk fun x7 hk =>
g_iload_n F dJ6_setLength_67 rfl 1 rfl <|
g_icmp_le F dJ6_setLength_68 (tgt := 76) rfl (fun hc => have hk := hk.1 hc
s_J6_setLength_j76 F v1 h5 (B - b3) (W - w4) (cb + b3) (kb + w4) (by omega) (by omega) hk ) (fun hc => have hk := hk.2 hc
g_aload_n F dJ6_setLength_71 rfl 0 rfl <|
g_iconst F dJ6_setLength_72 ic_1 <|
g_putV F dJ6_setLength_73 fo_J7_2_java_lang_AbstractStringBuilder ck_J7 fl_java_lang_AbstractStringBuilder_73_J7 rfl (v := aI (1:Int32)) ⟨rfl, rfl⟩ hk fun h8 hk =>
s_J6_setLength_j76 F v1 h8 (B - b3) (W - w4) (cb + b3) (kb + w4) (by omega) (by omega) hk )) (fun hc => have hk := hk.2 hc
False.elim hk)) (fun hc => have hk := hk.2 hc
False.elim hk)
  exact key 0 0 (by omega) (by omega)
abbrev rmJ7_append (B W : Nat) : Room := { frames := 6, cells := B, slots := W, locals := 131 }
theorem m_J7_append {S : Sx} (hS0 : Sok S) (B W : Nat) (v0 : Nat) (v1 : Int32) (h : hH) (Q : Option Nat → hH → Prop) (hk : f_J7_append S.E B W v0 v1 h Q) : Ct S yJ7_append (ws_ yJ7_append cJ7_append 2 (some (.object "java/lang/StringBuilder"))) (rmJ7_append B W) ([aR (some v0), aI v1].map vv) h (qR Q) := by
  refine Ct.of hS0 (by decide +kernel) rfl (Nat.le_of_ble_eq_true rfl) fun x hxS F hnm => ?_
  subst hxS
  unfold f_J7_append at hk
  have key : ∀ cb kb : Nat, cb + B ≤ B → kb + W ≤ W → G x (xQ x (rmJ7_append B W) (qR Q)) 0 (aArgs 0 [aR (some v0), aI v1]) [] h cb kb := fun cb kb hM hS =>
g_aload_n F dJ7_append_0 rfl 0 rfl <|
g_iload_n F dJ7_append_1 rfl 1 rfl <|
Exists.elim hk fun b2 hk => Exists.elim hk fun w3 hk => have hb1 := hk.1
have hk := hk.2
g_callr (g_SU F dJ7_append_2 q525 q3569 q374 q526 q121 q527 (by decide) mo_J6_append ct_J7 (rm' := (rmJ6_append b2 w3)) ⟨Nat.le_of_ble_eq_true rfl, Nat.le_of_ble_eq_true rfl⟩ ⟨show cb + b2 ≤ B by omega, show kb + w3 ≤ W by omega⟩ (As := [aI v1]) (rest := []) rfl rfl (Nat.le_of_ble_eq_true rfl) hk (fun a6 hk => m_J6_append F.ok b2 w3 a6 v1 h _ hk)) fun x5 h4 hk =>
g_pop F dJ7_append_5 rfl <|
g_aload_n F dJ7_append_6 rfl 0 rfl <|
g_aret F (Or.inl ⟨_, rfl⟩) dJ7_append_7 (show cb + b2 ≤ B by omega) (show kb + w3 ≤ W by omega) hk
  exact key 0 0 (by omega) (by omega)
abbrev rmJ7_append_3 (B W : Nat) : Room := { frames := 6, cells := B, slots := W, locals := 133 }
theorem m_J7_append_3 {S : Sx} (hS0 : Sok S) (B W : Nat) (v0 : Nat) (v1 : Int32) (h : hH) (Q : Option Nat → hH → Prop) (hk : f_J7_append_3 S.E B W v0 v1 h Q) : Ct S yJ7_append_3 (ws_ yJ7_append_3 cJ7_append_3 2 (some (.object "java/lang/StringBuilder"))) (rmJ7_append_3 B W) ([aR (some v0), aI v1].map vv) h (qR Q) := by
  refine Ct.of hS0 (by decide +kernel) rfl (Nat.le_of_ble_eq_true rfl) fun x hxS F hnm => ?_
  subst hxS
  unfold f_J7_append_3 at hk
  have key : ∀ cb kb : Nat, cb + B ≤ B → kb + W ≤ W → G x (xQ x (rmJ7_append_3 B W) (qR Q)) 0 (aArgs 0 [aR (some v0), aI v1]) [] h cb kb := fun cb kb hM hS =>
g_aload_n F dJ7_append_3_0 rfl 0 rfl <|
g_iload_n F dJ7_append_3_1 rfl 1 rfl <|
Exists.elim hk fun b2 hk => Exists.elim hk fun w3 hk => have hb1 := hk.1
have hk := hk.2
g_callr (g_SU F dJ7_append_3_2 q2934 q3583 q374 q2935 q121 q2936 (by decide) mo_J6_append_3 ct_J7 (rm' := (rmJ6_append_3 b2 w3)) ⟨Nat.le_of_ble_eq_true rfl, Nat.le_of_ble_eq_true rfl⟩ ⟨show cb + b2 ≤ B by omega, show kb + w3 ≤ W by omega⟩ (As := [aI v1]) (rest := []) rfl rfl (Nat.le_of_ble_eq_true rfl) hk (fun a6 hk => m_J6_append_3 F.ok b2 w3 a6 v1 h _ hk)) fun x5 h4 hk =>
g_pop F dJ7_append_3_5 rfl <|
g_aload_n F dJ7_append_3_6 rfl 0 rfl <|
g_aret F (Or.inl ⟨_, rfl⟩) dJ7_append_3_7 (show cb + b2 ≤ B by omega) (show kb + w3 ≤ W by omega) hk
  exact key 0 0 (by omega) (by omega)
abbrev rmJ7_setLength (B W : Nat) : Room := { frames := 6, cells := B, slots := W, locals := 131 }
theorem m_J7_setLength {S : Sx} (hS0 : Sok S) (B W : Nat) (v0 : Nat) (v1 : Int32) (h : hH) (Q : hH → Prop) (hk : f_J7_setLength S.E B W v0 v1 h Q) : Ct S yJ7_setLength (ws_ yJ7_setLength cJ7_setLength 2 none) (rmJ7_setLength B W) ([aR (some v0), aI v1].map vv) h (qV Q) := by
  refine Ct.of hS0 (by decide +kernel) rfl (Nat.le_of_ble_eq_true rfl) fun x hxS F hnm => ?_
  subst hxS
  unfold f_J7_setLength at hk
  have key : ∀ cb kb : Nat, cb + B ≤ B → kb + W ≤ W → G x (xQ x (rmJ7_setLength B W) (qV Q)) 0 (aArgs 0 [aR (some v0), aI v1]) [] h cb kb := fun cb kb hM hS =>
g_aload_n F dJ7_setLength_0 rfl 0 rfl <|
g_iload_n F dJ7_setLength_1 rfl 1 rfl <|
Exists.elim hk fun b2 hk => Exists.elim hk fun w3 hk => have hb1 := hk.1
have hk := hk.2
g_callv (g_SU F dJ7_setLength_2 q2883 q3578 q374 q2884 q121 q2885 (by decide) mo_J6_setLength ct_J7 (rm' := (rmJ6_setLength b2 w3)) ⟨Nat.le_of_ble_eq_true rfl, Nat.le_of_ble_eq_true rfl⟩ ⟨show cb + b2 ≤ B by omega, show kb + w3 ≤ W by omega⟩ (As := [aI v1]) (rest := []) rfl rfl (Nat.le_of_ble_eq_true rfl) hk (fun a5 hk => m_J6_setLength F.ok b2 w3 a5 v1 h _ hk)) fun h4 hk =>
g_vret F dJ7_setLength_5 (show cb + b2 ≤ B by omega) (show kb + w3 ≤ W by omega) hk
  exact key 0 0 (by omega) (by omega)
abbrev rmJ8_init_2 (B W : Nat) : Room := { frames := 5, cells := B, slots := W, locals := 107 }
theorem m_J8_init_2 {S : Sx} (hS0 : Sok S) (B W : Nat) (v0 : Nat) (v1 : Option Nat) (v2 : Option Nat) (h : hH) (Q : hH → Prop) (hk : f_J8_init_2 S.E B W v0 v1 v2 h Q) : Ct S yJ8_init_2 (ws_ yJ8_init_2 cJ8_init_2 5 none) (rmJ8_init_2 B W) ([aR (some v0), aR v1, aR v2].map vv) h (qV Q) := by
  refine Ct.of hS0 (by decide +kernel) rfl (Nat.le_of_ble_eq_true rfl) fun x hxS F hnm => ?_
  subst hxS
  unfold f_J8_init_2 at hk
  have key : ∀ cb kb : Nat, cb + B ≤ B → kb + W ≤ W → G x (xQ x (rmJ8_init_2 B W) (qV Q)) 0 (aArgs 0 [aR (some v0), aR v1, aR v2]) [] h cb kb := fun cb kb hM hS =>
g_aload_n F dJ8_init_2_0 rfl 0 rfl <|
g_objInit (rest := []) F dJ8_init_2_1 q626 q182 q_objcode (Nat.le_of_ble_eq_true rfl) (Nat.le_of_ble_eq_true rfl) <|
g_aload_n F dJ8_init_2_4 rfl 1 rfl <|
g_callr0 (g_U F dJ8_init_2_5 q627 q629 q628 q630 q121 q631 rfl mo_J6_getValue ct_J7 (rm' := rmJ6_getValue) ⟨Nat.le_of_ble_eq_true rfl, Nat.le_of_ble_eq_true rfl⟩ ⟨show cb + 0 ≤ B by omega, show kb + 0 ≤ W by omega⟩ (As := []) (rest := []) rfl rfl (Nat.le_of_ble_eq_true rfl) hk (fun a20 hk => m_J6_getValue F.ok a20 h _ hk)) ⟨rfl, rfl⟩ fun x4 h3 hk =>
g_astore_n F dJ8_init_2_8 rfl (Nat.le_of_ble_eq_true rfl) rfl <|
g_aload_n F dJ8_init_2_9 rfl 2 rfl <|
g_calli0 (g_OC (y0 := ({ cls := "java/lang/AbstractStringBuilder", name := "length", desc := "()I" } : MethodName)) F dJ8_init_2_10 q632 q634 q633 q639 q636 q635 q122 q637 moi_java_lang_AbstractStringBuilder_length___I ct_J7 (rm' := rmJ7_length) ⟨Nat.le_of_ble_eq_true rfl, Nat.le_of_ble_eq_true rfl⟩ ⟨show cb + 0 ≤ B by omega, show kb + 0 ≤ W by omega⟩ (As := []) (rest := []) rfl rfl (Nat.le_of_ble_eq_true rfl) hk (fun a19 hk => m_J7_length F.ok a19 h3 _ hk)) ⟨rfl, rfl⟩ fun x7 h6 hk =>
g_istore F dJ8_init_2_13 (Nat.le_of_ble_eq_true rfl) rfl <|
g_aload_n F dJ8_init_2_15 rfl 3 rfl <|
g_calli0 (g_U F dJ8_init_2_16 q640 q563 q562 q564 q121 q565 rfl mo_J6_isLatin1 ct_J7 (rm' := rmJ6_isLatin1) ⟨Nat.le_of_ble_eq_true rfl, Nat.le_of_ble_eq_true rfl⟩ ⟨show cb + 0 ≤ B by omega, show kb + 0 ≤ W by omega⟩ (As := []) (rest := []) rfl rfl (Nat.le_of_ble_eq_true rfl) hk (fun a18 hk => m_J6_isLatin1 F.ok a18 h6 _ hk)) ⟨rfl, rfl⟩ fun x10 h9 hk =>
g_if_eq F dJ8_init_2_19 (tgt := 41) rfl (fun hc => have hk := hk.1 hc
False.elim hk) (fun hc => have hk := hk.2 hc
g_aload_n F dJ8_init_2_22 rfl 2 rfl <|
g_iconst F dJ8_init_2_23 ic_0 <|
g_putF F dJ8_init_2_24 fo_J8_1_java_lang_String ck_J8 q665 rfl hnm rfl (v := aI (0:Int32)) ⟨rfl, rfl⟩ hk fun h11 hk =>
g_aload_n F dJ8_init_2_27 rfl 2 rfl <|
g_aload_n F dJ8_init_2_28 rfl 1 rfl <|
g_iconst F dJ8_init_2_29 ic_0 <|
g_iload F dJ8_init_2_30 0 rfl <|
Exists.elim hk fun b13 hk => Exists.elim hk fun w14 hk => have hb12 := hk.1
have hk := hk.2
g_callr (g_S F dJ8_init_2_32 q641 ms_J13_copyOfRange (rm' := (rmJ13_copyOfRangeD b13 w14)) ⟨Nat.le_of_ble_eq_true rfl, Nat.le_of_ble_eq_true rfl⟩ ⟨show cb + b13 ≤ B by omega, show kb + w14 ≤ W by omega⟩ (As := [aR x4, aI (0:Int32), aI x7]) (rest := [aR (some v0)]) rfl rfl (Nat.le_of_ble_eq_true rfl) (m_J13_copyOfRangeD F.ok b13 w14 x4 (0:Int32) x7 h11 _ hk)) fun x16 h15 hk =>
g_putF F dJ8_init_2_35 fo_J8_0_java_lang_String ck_J8 q664 rfl hnm rfl (v := aR x16) (fit_ra .byte x16) hk fun h17 hk =>
g_goto F dJ8_init_2_38 (tgt := 97) rfl <|
g_vret F dJ8_init_2_97 (show cb + b13 ≤ B by omega) (show kb + w14 ≤ W by omega) hk)
  exact key 0 0 (by omega) (by omega)
abbrev rmJ8_init (B W : Nat) : Room := { frames := 6, cells := B, slots := W, locals := 131 }
theorem m_J8_init {S : Sx} (hS0 : Sok S) (B W : Nat) (v0 : Nat) (v1 : Option Nat) (h : hH) (Q : hH → Prop) (hk : f_J8_init S.E B W v0 v1 h Q) : Ct S yJ8_init (ws_ yJ8_init cJ8_init 2 none) (rmJ8_init B W) ([aR (some v0), aR v1].map vv) h (qV Q) := by
  refine Ct.of hS0 (by decide +kernel) rfl (Nat.le_of_ble_eq_true rfl) fun x hxS F hnm => ?_
  subst hxS
  unfold f_J8_init at hk
  have key : ∀ cb kb : Nat, cb + B ≤ B → kb + W ≤ W → G x (xQ x (rmJ8_init B W) (qV Q)) 0 (aArgs 0 [aR (some v0), aR v1]) [] h cb kb := fun cb kb hM hS =>
g_aload_n F dJ8_init_0 rfl 0 rfl <|
g_aload_n F dJ8_init_1 rfl 1 rfl <|
g_null F dJ8_init_2 <|
Exists.elim hk fun b2 hk => Exists.elim hk fun w3 hk => have hb1 := hk.1
have hk := hk.2
g_callv (g_I F dJ8_init_3 q623 mc_J8_init_2 (rm' := (rmJ8_init_2 b2 w3)) ⟨Nat.le_of_ble_eq_true rfl, Nat.le_of_ble_eq_true rfl⟩ ⟨show cb + b2 ≤ B by omega, show kb + w3 ≤ W by omega⟩ (As := [aR v1, aR none]) (rest := []) rfl rfl (Nat.le_of_ble_eq_true rfl) (m_J8_init_2 F.ok b2 w3 v0 v1 none h _ hk)) fun h4 hk =>
g_vret F dJ8_init_6 (show cb + b2 ≤ B by omega) (show kb + w3 ≤ W by omega) hk
  exact key 0 0 (by omega) (by omega)
abbrev rmJ7_toString (B W : Nat) : Room := { frames := 7, cells := B, slots := W, locals := 152 }
theorem m_J7_toString {S : Sx} (hS0 : Sok S) (B W : Nat) (v0 : Nat) (h : hH) (Q : Option Nat → hH → Prop) (hk : f_J7_toString S.E B W v0 h Q) : Ct S yJ7_toString (ws_ yJ7_toString cJ7_toString 1 (some (.object "java/lang/String"))) (rmJ7_toString B W) ([aR (some v0)].map vv) h (qR Q) := by
  refine Ct.of hS0 (by decide +kernel) rfl (Nat.le_of_ble_eq_true rfl) fun x hxS F hnm => ?_
  subst hxS
  unfold f_J7_toString at hk
  have key : ∀ cb kb : Nat, cb + B ≤ B → kb + W ≤ W → G x (xQ x (rmJ7_toString B W) (qR Q)) 0 (aArgs 0 [aR (some v0)]) [] h cb kb := fun cb kb hM hS =>
have hb1 := hk.1
have hk := hk.2
g_new (fs := [va_rf none, .int 0, .int 0, .int 0]) F dJ7_toString_0 ck_J8 ct_J8 q618 q619 q123 df_J8 (show cb + 1 ≤ B by omega) (show kb + 4 ≤ W by omega) hk fun q2 h3 hk =>
g_dup F dJ7_toString_3 rfl <|
g_aload_n F dJ7_toString_4 rfl 0 rfl <|
Exists.elim hk fun b5 hk => Exists.elim hk fun w6 hk => have hb4 := hk.1
have hk := hk.2
g_callv (g_I F dJ7_toString_5 q620 mc_J8_init (rm' := (rmJ8_init b5 w6)) ⟨Nat.le_of_ble_eq_true rfl, Nat.le_of_ble_eq_true rfl⟩ ⟨show cb + 1 + b5 ≤ B by omega, show kb + 4 + w6 ≤ W by omega⟩ (As := [aR (some v0)]) (rest := [aR (some q2)]) rfl rfl (Nat.le_of_ble_eq_true rfl) (m_J8_init F.ok b5 w6 q2 (some v0) h3 _ hk)) fun h7 hk =>
g_aret F (Or.inl ⟨_, rfl⟩) dJ7_toString_8 (show cb + 1 + b5 ≤ B by omega) (show kb + 4 + w6 ≤ W by omega) hk
  exact key 0 0 (by omega) (by omega)
