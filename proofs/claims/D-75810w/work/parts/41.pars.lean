set_option maxRecDepth 100000
set_option maxHeartbeats 10000000
theorem fo_X6_6_LockstepRoom_Parser : FieldOk "LockstepRoom$Parser" 4 6 RX6 TX6 13 := ⟨ct_X6, Nat.le_of_ble_eq_true rfl, Or.inl rfl⟩
theorem fl_LockstepRoom_Parser_59_X6 : Cond.fieldLink "LockstepRoom$Parser" 59 "LockstepRoom$Parser" (TX6 6).2.1 (TX6 6).2.2.1 ∈ lw_all ∨ ∃ host, Cond.fieldLinkNest "LockstepRoom$Parser" 59 "LockstepRoom$Parser" (TX6 6).2.1 (TX6 6).2.2.1 host ∈ lw_tbl := Or.inl q465
theorem fl_LockstepRoom_Parser_62_X1 : Cond.fieldLink "LockstepRoom$Parser" 62 "LockstepRoom" (TX1 2).2.1 (TX1 2).2.2.1 ∈ lw_all ∨ ∃ host, Cond.fieldLinkNest "LockstepRoom$Parser" 62 "LockstepRoom" (TX1 2).2.1 (TX1 2).2.2.1 host ∈ lw_tbl := Or.inr ⟨_, q379⟩
theorem mo_X6_peek : MOk yX6_peek 0 := by decide +kernel
theorem mi_X6_peek : MI yX6_peek "LockstepRoom$Parser" cX6_peek 1 (some .int) 0 := ⟨q512, qs5, q126, q513, rfl, mo_X6_peek⟩
theorem fo_X6_10_LockstepRoom_Parser : FieldOk "LockstepRoom$Parser" 4 10 RX6 TX6 13 := ⟨ct_X6, Nat.le_of_ble_eq_true rfl, Or.inl rfl⟩
theorem fl_LockstepRoom_Parser_102_X6 : Cond.fieldLink "LockstepRoom$Parser" 102 "LockstepRoom$Parser" (TX6 10).2.1 (TX6 10).2.2.1 ∈ lw_all ∨ ∃ host, Cond.fieldLinkNest "LockstepRoom$Parser" 102 "LockstepRoom$Parser" (TX6 10).2.1 (TX6 10).2.2.1 host ∈ lw_tbl := Or.inl q470
theorem bp_48 : (Int8.ofInt (48)).toInt32 = (48 : Int32) := by decide
theorem fo_X6_7_LockstepRoom_Parser : FieldOk "LockstepRoom$Parser" 4 7 RX6 TX6 13 := ⟨ct_X6, Nat.le_of_ble_eq_true rfl, Or.inl rfl⟩
theorem fl_LockstepRoom_Parser_70_X6 : Cond.fieldLink "LockstepRoom$Parser" 70 "LockstepRoom$Parser" (TX6 7).2.1 (TX6 7).2.2.1 ∈ lw_all ∨ ∃ host, Cond.fieldLinkNest "LockstepRoom$Parser" 70 "LockstepRoom$Parser" (TX6 7).2.1 (TX6 7).2.2.1 host ∈ lw_tbl := Or.inl q466
theorem bp_59 : (Int8.ofInt (59)).toInt32 = (59 : Int32) := by decide
theorem zl_LockstepRoom_Parser_115 : Cond.fieldLink "LockstepRoom$Parser" 115 "LockstepRoom$Token" "OTHER" "LLockstepRoom$Token;" ∈ lw_all ∨ ∃ host, Cond.fieldLinkNest "LockstepRoom$Parser" 115 "LockstepRoom$Token" "OTHER" "LLockstepRoom$Token;" host ∈ lw_tbl := Or.inl q685
theorem sz_6 (E : Nat → Nat) : ("LockstepRoom$Token", "OTHER", "LLockstepRoom$Token;", vv (aR (some (E 6)))) ∈ SZ E := List.mem_of_getElem? (i := 6) rfl
theorem zl_LockstepRoom_Parser_112 : Cond.fieldLink "LockstepRoom$Parser" 112 "LockstepRoom$Token" "SEMICOLON" "LLockstepRoom$Token;" ∈ lw_all ∨ ∃ host, Cond.fieldLinkNest "LockstepRoom$Parser" 112 "LockstepRoom$Token" "SEMICOLON" "LLockstepRoom$Token;" host ∈ lw_tbl := Or.inl q683
theorem sz_5 (E : Nat → Nat) : ("LockstepRoom$Token", "SEMICOLON", "LLockstepRoom$Token;", vv (aR (some (E 5)))) ∈ SZ E := List.mem_of_getElem? (i := 5) rfl
theorem zl_LockstepRoom_Parser_99 : Cond.fieldLink "LockstepRoom$Parser" 99 "LockstepRoom$Token" "INTEGER" "LLockstepRoom$Token;" ∈ lw_all ∨ ∃ host, Cond.fieldLinkNest "LockstepRoom$Parser" 99 "LockstepRoom$Token" "INTEGER" "LLockstepRoom$Token;" host ∈ lw_tbl := Or.inl q679
theorem sz_4 (E : Nat → Nat) : ("LockstepRoom$Token", "INTEGER", "LLockstepRoom$Token;", vv (aR (some (E 4)))) ∈ SZ E := List.mem_of_getElem? (i := 4) rfl
theorem zl_LockstepRoom_Parser_81 : Cond.fieldLink "LockstepRoom$Parser" 81 "LockstepRoom$Token" "WORD" "LLockstepRoom$Token;" ∈ lw_all ∨ ∃ host, Cond.fieldLinkNest "LockstepRoom$Parser" 81 "LockstepRoom$Token" "WORD" "LLockstepRoom$Token;" host ∈ lw_tbl := Or.inl q517
theorem sz_3 (E : Nat → Nat) : ("LockstepRoom$Token", "WORD", "LLockstepRoom$Token;", vv (aR (some (E 3)))) ∈ SZ E := List.mem_of_getElem? (i := 3) rfl
theorem mo_J7_toString : MOk yJ7_toString 0 := by decide +kernel
theorem mi_J7_toString : MI yJ7_toString "java/lang/StringBuilder" cJ7_toString 1 (some (.object "java/lang/String")) 0 := ⟨q615, q616, q122, q617, rfl, mo_J7_toString⟩
theorem df_X7 : ∀ j, j < 7 → defaultValue (tyX7 j) = vp_V [va_rf none, va_rf none, va_rf none, va_rf none, va_rf none, .int 0, .int 0] j := fun j hj => by rcases (show j = 0 ∨ j = 1 ∨ j = 2 ∨ j = 3 ∨ j = 4 ∨ j = 5 ∨ j = 6 by omega) with rfl | rfl | rfl | rfl | rfl | rfl | rfl <;> rfl
theorem mo_X7_init : MOk yX7_init 1 := by decide +kernel
theorem mc_X7_init : MC yX7_init cX7_init 2 1 := ⟨q804, q137, q805, rfl, mo_X7_init⟩
theorem bp_m11 : (Int8.ofInt (-11)).toInt32 = (-11 : Int32) := by decide
theorem mo_X6_require : MOk yX6_require 2 := by decide +kernel
theorem mi_X6_require : MI yX6_require "LockstepRoom$Parser" cX6_require 3 none 2 := ⟨q760, qs7, q126, q761, rfl, mo_X6_require⟩
theorem bp_m12 : (Int8.ofInt (-12)).toInt32 = (-12 : Int32) := by decide
theorem mo_X6_advance : MOk yX6_advance 0 := by decide +kernel
theorem mi_X6_advance : MI yX6_advance "LockstepRoom$Parser" cX6_advance 3 none 0 := ⟨q508, qs4, q126, q509, rfl, mo_X6_advance⟩
theorem bp_m14 : (Int8.ofInt (-14)).toInt32 = (-14 : Int32) := by decide
theorem fl_LockstepRoom_Parser_256_X2 : Cond.fieldLink "LockstepRoom$Parser" 256 "LockstepRoom$Room" (TX2 2).2.1 (TX2 2).2.2.1 ∈ lw_all ∨ ∃ host, Cond.fieldLinkNest "LockstepRoom$Parser" 256 "LockstepRoom$Room" (TX2 2).2.1 (TX2 2).2.2.1 host ∈ lw_tbl := Or.inr ⟨_, q295⟩
theorem zl_LockstepRoom_Parser_259 : Cond.fieldLink "LockstepRoom$Parser" 259 "LockstepRoom" "SETTING_MOST" "[I" ∈ lw_all ∨ ∃ host, Cond.fieldLinkNest "LockstepRoom$Parser" 259 "LockstepRoom" "SETTING_MOST" "[I" host ∈ lw_tbl := Or.inr ⟨_, q1354⟩
theorem mo_X6_integer : MOk yX6_integer 2 := by decide +kernel
theorem mi_X6_integer : MI yX6_integer "LockstepRoom$Parser" cX6_integer 4 (some .int) 2 := ⟨q835, qs10, q126, q836, rfl, mo_X6_integer⟩
theorem sk_33 (E : Nat → Nat) : ("LockstepRoom$Parser", 252, "lag", E 33) ∈ SK E := List.mem_of_getElem? (i := 13) rfl
theorem mo_J8_equals : MOk yJ8_equals 1 := by decide +kernel
theorem mi_J8_equals : MI yJ8_equals "java/lang/String" cJ8_equals 3 (some .boolean) 1 := ⟨q746, q747, q123, q748, rfl, mo_J8_equals⟩
theorem sk_34 (E : Nat → Nat) : ("LockstepRoom$Parser", 254, "quorum", E 34) ∈ SK E := List.mem_of_getElem? (i := 14) rfl
theorem mo_J8_length : MOk yJ8_length 0 := by decide +kernel
theorem mi_J8_length : MI yJ8_length "java/lang/String" cJ8_length 1 (some .int) 0 := ⟨q847, q848, q123, q849, rfl, mo_J8_length⟩
theorem mo_J8_charAt : MOk yJ8_charAt 1 := by decide +kernel
theorem mi_J8_charAt : MI yJ8_charAt "java/lang/String" cJ8_charAt 2 (some .char) 1 := ⟨q855, q856, q123, q857, rfl, mo_J8_charAt⟩
theorem bp_m13 : (Int8.ofInt (-13)).toInt32 = (-13 : Int32) := by decide
theorem mo_X6_name : MOk yX6_name 0 := by decide +kernel
theorem mi_X6_name : MI yX6_name "LockstepRoom$Parser" cX6_name 3 (some .int) 0 := ⟨q844, qs11, q126, q845, rfl, mo_X6_name⟩
theorem mo_X6_find : MOk yX6_find 1 := by decide +kernel
theorem mi_X6_find : MI yX6_find "LockstepRoom$Parser" cX6_find 3 (some .int) 1 := ⟨q867, qs12, q126, q868, rfl, mo_X6_find⟩
theorem mo_X6_member : MOk yX6_member 0 := by decide +kernel
theorem mi_X6_member : MI yX6_member "LockstepRoom$Parser" cX6_member 2 (some .int) 0 := ⟨q987, qs17, q126, q988, rfl, mo_X6_member⟩
theorem bp_39 : (Int8.ofInt (39)).toInt32 = (39 : Int32) := by decide
theorem fl_LockstepRoom_Parser_217_X2 : Cond.fieldLink "LockstepRoom$Parser" 217 "LockstepRoom$Room" (TX2 6).2.1 (TX2 6).2.2.1 ∈ lw_all ∨ ∃ host, Cond.fieldLinkNest "LockstepRoom$Parser" 217 "LockstepRoom$Room" (TX2 6).2.1 (TX2 6).2.2.1 host ∈ lw_tbl := Or.inr ⟨_, q306⟩
theorem sp_9999 : (Int16.ofInt (9999)).toInt32 = (9999 : Int32) := by decide
theorem mo_J8_hashCode : MOk yJ8_hashCode 0 := by decide +kernel
theorem mi_J8_hashCode : MI yJ8_hashCode "java/lang/String" cJ8_hashCode 2 (some .int) 0 := ⟨q692, q693, q123, q694, rfl, mo_J8_hashCode⟩
theorem sk_28 (E : Nat → Nat) : ("LockstepRoom$Parser", 234, "add", E 28) ∈ SK E := List.mem_of_getElem? (i := 8) rfl
theorem sk_32 (E : Nat → Nat) : ("LockstepRoom$Parser", 241, "mul", E 32) ∈ SK E := List.mem_of_getElem? (i := 12) rfl
theorem sk_27 (E : Nat → Nat) : ("LockstepRoom$Parser", 232, "put", E 27) ∈ SK E := List.mem_of_getElem? (i := 7) rfl
theorem sk_30 (E : Nat → Nat) : ("LockstepRoom$Parser", 237, "sum", E 30) ∈ SK E := List.mem_of_getElem? (i := 10) rfl
theorem sk_29 (E : Nat → Nat) : ("LockstepRoom$Parser", 235, "copy", E 29) ∈ SK E := List.mem_of_getElem? (i := 9) rfl
theorem sk_31 (E : Nat → Nat) : ("LockstepRoom$Parser", 239, "swap", E 31) ∈ SK E := List.mem_of_getElem? (i := 11) rfl
theorem bp_m15 : (Int8.ofInt (-15)).toInt32 = (-15 : Int32) := by decide
theorem fl_LockstepRoom_Parser_226_X2 : Cond.fieldLink "LockstepRoom$Parser" 226 "LockstepRoom$Room" (TX2 1).2.1 (TX2 1).2.2.1 ∈ lw_all ∨ ∃ host, Cond.fieldLinkNest "LockstepRoom$Parser" 226 "LockstepRoom$Room" (TX2 1).2.1 (TX2 1).2.2.1 host ∈ lw_tbl := Or.inr ⟨_, q293⟩
theorem fo_X6_5_LockstepRoom_Parser : FieldOk "LockstepRoom$Parser" 4 5 RX6 TX6 13 := ⟨ct_X6, Nat.le_of_ble_eq_true rfl, Or.inl rfl⟩
theorem fl_LockstepRoom_Parser_185_X6 : Cond.fieldLink "LockstepRoom$Parser" 185 "LockstepRoom$Parser" (TX6 5).2.1 (TX6 5).2.2.1 ∈ lw_all ∨ ∃ host, Cond.fieldLinkNest "LockstepRoom$Parser" 185 "LockstepRoom$Parser" (TX6 5).2.1 (TX6 5).2.2.1 host ∈ lw_tbl := Or.inl q464
theorem mo_X6_parseStart : MOk yX6_parseStart 0 := by decide +kernel
theorem mi_X6_parseStart : MI yX6_parseStart "LockstepRoom$Parser" cX6_parseStart 2 none 0 := ⟨q831, qs9, q126, q832, rfl, mo_X6_parseStart⟩
theorem mo_X6_parseCommand : MOk yX6_parseCommand 0 := by decide +kernel
theorem mi_X6_parseCommand : MI yX6_parseCommand "LockstepRoom$Parser" cX6_parseCommand 5 none 0 := ⟨q983, qs16, q126, q984, rfl, mo_X6_parseCommand⟩
theorem mo_X6_parseFault : MOk yX6_parseFault 0 := by decide +kernel
theorem mi_X6_parseFault : MI yX6_parseFault "LockstepRoom$Parser" cX6_parseFault 4 none 0 := ⟨q1319, qs20, q126, q1320, rfl, mo_X6_parseFault⟩
theorem fl_LockstepRoom_Parser_202_X2 : Cond.fieldLink "LockstepRoom$Parser" 202 "LockstepRoom$Room" (TX2 5).2.1 (TX2 5).2.2.1 ∈ lw_all ∨ ∃ host, Cond.fieldLinkNest "LockstepRoom$Parser" 202 "LockstepRoom$Room" (TX2 5).2.1 (TX2 5).2.2.1 host ∈ lw_tbl := Or.inr ⟨_, q303⟩
theorem fl_LockstepRoom_Parser_212_X2 : Cond.fieldLink "LockstepRoom$Parser" 212 "LockstepRoom$Room" (TX2 4).2.1 (TX2 4).2.2.1 ∈ lw_all ∨ ∃ host, Cond.fieldLinkNest "LockstepRoom$Parser" 212 "LockstepRoom$Room" (TX2 4).2.1 (TX2 4).2.2.1 host ∈ lw_tbl := Or.inr ⟨_, q300⟩
theorem mo_X6_parseSetting : MOk yX6_parseSetting 0 := by decide +kernel
theorem mi_X6_parseSetting : MI yX6_parseSetting "LockstepRoom$Parser" cX6_parseSetting 2 none 0 := ⟨q1350, qs21, q126, q1351, rfl, mo_X6_parseSetting⟩
theorem sk_22 (E : Nat → Nat) : ("LockstepRoom$Parser", 175, "member", E 22) ∈ SK E := List.mem_of_getElem? (i := 2) rfl
theorem sk_23 (E : Nat → Nat) : ("LockstepRoom$Parser", 177, "do", E 23) ∈ SK E := List.mem_of_getElem? (i := 3) rfl
theorem sk_26 (E : Nat → Nat) : ("LockstepRoom$Parser", 183, "set", E 26) ∈ SK E := List.mem_of_getElem? (i := 6) rfl
theorem sk_24 (E : Nat → Nat) : ("LockstepRoom$Parser", 179, "seal", E 24) ∈ SK E := List.mem_of_getElem? (i := 4) rfl
theorem sk_25 (E : Nat → Nat) : ("LockstepRoom$Parser", 181, "fault", E 25) ∈ SK E := List.mem_of_getElem? (i := 5) rfl
theorem sk_21 (E : Nat → Nat) : ("LockstepRoom$Parser", 170, "start", E 21) ∈ SK E := List.mem_of_getElem? (i := 1) rfl
theorem mo_X2_enter : MOk yX2_enter 2 := by decide +kernel
theorem mi_X2_enter : MI yX2_enter "LockstepRoom$Room" cX2_enter 4 none 2 := ⟨q1357, q1358, q112, q1359, rfl, mo_X2_enter⟩
theorem fo_X6_11_LockstepRoom_Parser : FieldOk "LockstepRoom$Parser" 4 11 RX6 TX6 13 := ⟨ct_X6, Nat.le_of_ble_eq_true rfl, Or.inl rfl⟩
theorem fl_LockstepRoom_Parser_160_X6 : Cond.fieldLink "LockstepRoom$Parser" 160 "LockstepRoom$Parser" (TX6 11).2.1 (TX6 11).2.2.1 ∈ lw_all ∨ ∃ host, Cond.fieldLinkNest "LockstepRoom$Parser" 160 "LockstepRoom$Parser" (TX6 11).2.1 (TX6 11).2.2.1 host ∈ lw_tbl := Or.inl q471
theorem mo_X6_parseStatement : MOk yX6_parseStatement 0 := by decide +kernel
theorem mi_X6_parseStatement : MI yX6_parseStatement "LockstepRoom$Parser" cX6_parseStatement 5 none 0 := ⟨q689, qs6, q126, q690, rfl, mo_X6_parseStatement⟩
abbrev rmX6_peek (B W : Nat) : Room := { frames := 2, cells := B, slots := W, locals := 40 }
theorem m_X6_peek {S : Sx} (hS0 : Sok S) (B W : Nat) (v0 : Nat) (h : hH) (Q : Int32 → hH → Prop) (hk : f_X6_peek S.E B W v0 h Q) : Ct S yX6_peek (ws_ yX6_peek cX6_peek 1 (some .int)) (rmX6_peek B W) ([aR (some v0)].map vv) h (qI Q) := by
  refine Ct.of hS0 (by decide +kernel) rfl (Nat.le_of_ble_eq_true rfl) fun x hxS F hnm => ?_
  subst hxS
  unfold f_X6_peek at hk
  have key : ∀ cb kb : Nat, cb + B ≤ B → kb + W ≤ W → G x (xQ x (rmX6_peek B W) (qI Q)) 0 (aArgs 0 [aR (some v0)]) [] h cb kb := fun cb kb hM hS =>
g_aload_n F dX6_peek_0 rfl 0 rfl <|
g_getI F dX6_peek_1 fo_X6_6_LockstepRoom_Parser in_X6 fl_LockstepRoom_Parser_59_X6 hk fun x1 hk =>
g_aload_n F dX6_peek_4 rfl 0 rfl <|
g_getI F dX6_peek_5 fo_X6_0_LockstepRoom_Parser in_X6 fl_LockstepRoom_Parser_55_X6 hk fun x2 hk =>
g_icmp_ge F dX6_peek_8 (tgt := 30) rfl (fun hc => have hk := hk.1 hc
g_iconst F dX6_peek_30 ic_m1 <|
g_iret F dX6_peek_31 (show cb ≤ B by omega) (show kb ≤ W by omega) hk) (fun hc => have hk := hk.2 hc
g_aload_n F dX6_peek_11 rfl 0 rfl <|
g_getR F dX6_peek_12 fo_X6_12_LockstepRoom_Parser in_X6 fl_LockstepRoom_Parser_3_X6 hk fun x3 hk =>
g_getR F dX6_peek_15 fo_X1_2_LockstepRoom in_X1 fl_LockstepRoom_Parser_62_X1 hk fun x4 hk =>
g_aload_n F dX6_peek_18 rfl 0 rfl <|
g_getI F dX6_peek_19 fo_X6_6_LockstepRoom_Parser in_X6 fl_LockstepRoom_Parser_59_X6 hk fun x5 hk =>
g_bald F dX6_peek_22 hk fun x6 hk =>
g_sipush F dX6_peek_23 sp_255 <|
g_iand F dX6_peek_26 <|
g_goto F dX6_peek_27 (tgt := 31) rfl <|
g_iret F dX6_peek_31 (show cb ≤ B by omega) (show kb ≤ W by omega) hk)
  exact key 0 0 (by omega) (by omega)
abbrev rmX6_advance (B W : Nat) : Room := { frames := 8, cells := B, slots := W, locals := 172 }
theorem s_X6_advance_l170 {x : Cx} {B W : Nat} (F : Fx x cX6_advance "LockstepRoom$Parser" 3 none (rmX6_advance B W)) {v0 : Nat} {Q : hH → Prop} {K253 : hH → Nat → Nat → Prop} (n : Nat) (h : hH) (b w cb kb : Nat) (hM : cb + b ≤ B) (hS : kb + w ≤ W) (hk : f_X6_advance_l170 x.S.E v0 Q K253 n h b w) (hK253 : ∀ (h : hH) (b w : Nat) (cb kb : Nat), cb + b ≤ B → kb + w ≤ W → K253 h b w → G x (xQ x (rmX6_advance B W) (qV Q)) 253 [] [] h cb kb) : G x (xQ x (rmX6_advance B W) (qV Q)) 170 [(0, aR (some v0))] [] h cb kb := by
  induction n generalizing h b w cb kb with
  | zero => exact False.elim hk
  | succ n ih =>
    unfold f_X6_advance_l170 at hk
    exact g_aload_n F dX6_advance_170 rfl 0 rfl <|
Exists.elim hk fun b2 hk => Exists.elim hk fun w3 hk => have hb1 := hk.1
have hk := hk.2
g_calli (g_V F dX6_advance_171 q510 mi_X6_peek ct_X6 (rm' := (rmX6_peek b2 w3)) ⟨Nat.le_of_ble_eq_true rfl, Nat.le_of_ble_eq_true rfl⟩ ⟨show cb + b2 ≤ B by omega, show kb + w3 ≤ W by omega⟩ (As := []) (rest := []) rfl rfl (Nat.le_of_ble_eq_true rfl) hk (fun a6 hk => m_X6_peek F.ok b2 w3 a6 h _ hk)) fun x5 h4 hk =>
g_i2l F dX6_advance_174 <|
g_ldc2 F dX6_advance_175 q677 <|
g_ldc2 F dX6_advance_178 q678 <|
g_calli0 (g_SN F dX6_advance_181 q516 ms_X1_inRange (rm' := rmX1_inRange) ⟨Nat.le_of_ble_eq_true rfl, Nat.le_of_ble_eq_true rfl⟩ ⟨show cb + b2 + 0 ≤ B by omega, show kb + w3 + 0 ≤ W by omega⟩ (As := [aL x5.toInt64, aL (48:Int64), aL (57:Int64)]) (rest := []) rfl rfl (Nat.le_of_ble_eq_true rfl) (m_X1_inRange F.ok x5.toInt64 (48:Int64) (57:Int64) h4 _ hk)) ⟨rfl, rfl⟩ fun x9 h8 hk =>
g_if_eq F dX6_advance_184 (tgt := 253) rfl (fun hc => have hk := hk.1 hc
G.fewer [] rfl <| hK253 h8 (b - b2) (w - w3) (cb + b2) (kb + w3) (by omega) (by omega) hk) (fun hc => have hk := hk.2 hc
g_aload_n F dX6_advance_187 rfl 0 rfl <|
g_bipush F dX6_advance_188 bp_10 <|
g_aload_n F dX6_advance_190 rfl 0 rfl <|
g_getI F dX6_advance_191 fo_X6_10_LockstepRoom_Parser in_X6 fl_LockstepRoom_Parser_102_X6 hk fun x10 hk =>
g_imul F dX6_advance_194 <|
g_aload_n F dX6_advance_195 rfl 0 rfl <|
Exists.elim hk fun b12 hk => Exists.elim hk fun w13 hk => have hb11 := hk.1
have hk := hk.2
g_calli (g_V F dX6_advance_196 q510 mi_X6_peek ct_X6 (rm' := (rmX6_peek b12 w13)) ⟨Nat.le_of_ble_eq_true rfl, Nat.le_of_ble_eq_true rfl⟩ ⟨show cb + b2 + b12 ≤ B by omega, show kb + w3 + w13 ≤ W by omega⟩ (As := []) (rest := [aI ((10:Int32) * x10), aR (some v0)]) rfl rfl (Nat.le_of_ble_eq_true rfl) hk (fun a16 hk => m_X6_peek F.ok b12 w13 a16 h8 _ hk)) fun x15 h14 hk =>
g_iadd F dX6_advance_199 <|
g_bipush F dX6_advance_200 bp_48 <|
g_isub F dX6_advance_202 <|
g_ldc F dX6_advance_203 q681 <|
g_mmin (rest := [aR (some v0)]) F dX6_advance_205 q682 q556 q130 q557 (Nat.le_of_ble_eq_true rfl) (Nat.le_of_ble_eq_true rfl) (show cb + b2 + b12 ≤ B by omega) (show kb + w3 + w13 ≤ W by omega) <|
g_putV F dX6_advance_208 fo_X6_10_LockstepRoom_Parser ck_X6 fl_LockstepRoom_Parser_102_X6 rfl (v := aI (iMin ((((10:Int32) * x10) + x15) - (48:Int32)) (1000000:Int32))) (fit_i (iMin ((((10:Int32) * x10) + x15) - (48:Int32)) (1000000:Int32))) hk fun h18 hk =>
g_aload_n F dX6_advance_211 rfl 0 rfl <|
g_dup F dX6_advance_212 rfl <|
g_getI F dX6_advance_213 fo_X6_6_LockstepRoom_Parser in_X6 fl_LockstepRoom_Parser_59_X6 hk fun x19 hk =>
g_iconst F dX6_advance_216 ic_1 <|
g_iadd F dX6_advance_217 <|
g_putV F dX6_advance_218 fo_X6_6_LockstepRoom_Parser ck_X6 fl_LockstepRoom_Parser_59_X6 rfl (v := aI (x19 + (1:Int32))) (fit_i (x19 + (1:Int32))) hk fun h20 hk =>
g_goto F dX6_advance_221 (tgt := 170) rfl <|
ih h20 ((b - b2) - b12) ((w - w3) - w13) (cb + b2 + b12) (kb + w3 + w13) (by omega) (by omega) hk)
theorem s_X6_advance_l93 {x : Cx} {B W : Nat} (F : Fx x cX6_advance "LockstepRoom$Parser" 3 none (rmX6_advance B W)) {v0 : Nat} {Q : hH → Prop} {K133 : Option Nat → hH → Nat → Nat → Prop} (n : Nat) (l2 : Option Nat) (h : hH) (b w cb kb : Nat) (hM : cb + b ≤ B) (hS : kb + w ≤ W) (hk : f_X6_advance_l93 x.S.E v0 Q K133 n l2 h b w) (hK133 : ∀ (l2 : Option Nat) (h : hH) (b w : Nat) (cb kb : Nat), cb + b ≤ B → kb + w ≤ W → K133 l2 h b w → G x (xQ x (rmX6_advance B W) (qV Q)) 133 [(0, aR (some v0)), (2, aR l2)] [] h cb kb) : G x (xQ x (rmX6_advance B W) (qV Q)) 93 [(0, aR (some v0)), (2, aR l2)] [] h cb kb := by
  induction n generalizing l2 h b w cb kb with
  | zero => exact False.elim hk
  | succ n ih =>
    unfold f_X6_advance_l93 at hk
    exact g_aload_n F dX6_advance_93 rfl 0 rfl <|
Exists.elim hk fun b22 hk => Exists.elim hk fun w23 hk => have hb21 := hk.1
have hk := hk.2
g_calli (g_V F dX6_advance_94 q510 mi_X6_peek ct_X6 (rm' := (rmX6_peek b22 w23)) ⟨Nat.le_of_ble_eq_true rfl, Nat.le_of_ble_eq_true rfl⟩ ⟨show cb + b22 ≤ B by omega, show kb + w23 ≤ W by omega⟩ (As := []) (rest := []) rfl rfl (Nat.le_of_ble_eq_true rfl) hk (fun a26 hk => m_X6_peek F.ok b22 w23 a26 h _ hk)) fun x25 h24 hk =>
g_i2l F dX6_advance_97 <|
g_ldc2 F dX6_advance_98 q514 <|
g_ldc2 F dX6_advance_101 q515 <|
g_calli0 (g_SN F dX6_advance_104 q516 ms_X1_inRange (rm' := rmX1_inRange) ⟨Nat.le_of_ble_eq_true rfl, Nat.le_of_ble_eq_true rfl⟩ ⟨show cb + b22 + 0 ≤ B by omega, show kb + w23 + 0 ≤ W by omega⟩ (As := [aL x25.toInt64, aL (97:Int64), aL (122:Int64)]) (rest := []) rfl rfl (Nat.le_of_ble_eq_true rfl) (m_X1_inRange F.ok x25.toInt64 (97:Int64) (122:Int64) h24 _ hk)) ⟨rfl, rfl⟩ fun x29 h28 hk =>
g_if_eq F dX6_advance_107 (tgt := 133) rfl (fun hc => have hk := hk.1 hc
hK133 l2 h28 (b - b22) (w - w23) (cb + b22) (kb + w23) (by omega) (by omega) hk) (fun hc => have hk := hk.2 hc
g_aload_n F dX6_advance_110 rfl 1 rfl <|
g_aload_n F dX6_advance_111 rfl 0 rfl <|
Exists.elim hk fun b31 hk => Exists.elim hk fun w32 hk => have hb30 := hk.1
have hk := hk.2
g_calli (g_V F dX6_advance_112 q510 mi_X6_peek ct_X6 (rm' := (rmX6_peek b31 w32)) ⟨Nat.le_of_ble_eq_true rfl, Nat.le_of_ble_eq_true rfl⟩ ⟨show cb + b22 + b31 ≤ B by omega, show kb + w23 + w32 ≤ W by omega⟩ (As := []) (rest := [aR l2]) rfl rfl (Nat.le_of_ble_eq_true rfl) hk (fun a35 hk => m_X6_peek F.ok b31 w32 a35 h28 _ hk)) fun x34 h33 hk =>
g_i2c F dX6_advance_115 <|
Exists.elim hk fun b37 hk => Exists.elim hk fun w38 hk => have hb36 := hk.1
have hk := hk.2
g_callr (g_V F dX6_advance_116 q521 mi_J7_append ct_J7 (rm' := (rmJ7_append b37 w38)) ⟨Nat.le_of_ble_eq_true rfl, Nat.le_of_ble_eq_true rfl⟩ ⟨show cb + b22 + b31 + b37 ≤ B by omega, show kb + w23 + w32 + w38 ≤ W by omega⟩ (As := [aI (i2c_ x34)]) (rest := []) rfl rfl (Nat.le_of_ble_eq_true rfl) hk (fun a41 hk => m_J7_append F.ok b37 w38 a41 (i2c_ x34) h33 _ hk)) fun x40 h39 hk =>
g_pop F dX6_advance_119 rfl <|
g_aload_n F dX6_advance_120 rfl 0 rfl <|
g_dup F dX6_advance_121 rfl <|
g_getI F dX6_advance_122 fo_X6_6_LockstepRoom_Parser in_X6 fl_LockstepRoom_Parser_59_X6 hk fun x42 hk =>
g_iconst F dX6_advance_125 ic_1 <|
g_iadd F dX6_advance_126 <|
g_putV F dX6_advance_127 fo_X6_6_LockstepRoom_Parser ck_X6 fl_LockstepRoom_Parser_59_X6 rfl (v := aI (x42 + (1:Int32))) (fit_i (x42 + (1:Int32))) hk fun h43 hk =>
g_goto F dX6_advance_130 (tgt := 93) rfl <|
ih l2 h43 (((b - b22) - b31) - b37) (((w - w23) - w32) - w38) (cb + b22 + b31 + b37) (kb + w23 + w32 + w38) (by omega) (by omega) hk)
theorem s_X6_advance_j18 {x : Cx} {B W : Nat} (F : Fx x cX6_advance "LockstepRoom$Parser" 3 none (rmX6_advance B W)) {v0 : Nat} {Q : hH → Prop} {K0 : hH → Nat → Nat → Prop} (h : hH) (b w cb kb : Nat) (hM : cb + b ≤ B) (hS : kb + w ≤ W) (hk : f_X6_advance_j18 x.S.E v0 Q K0 h b w) (hK0 : ∀ (h : hH) (b w : Nat) (cb kb : Nat), cb + b ≤ B → kb + w ≤ W → K0 h b w → G x (xQ x (rmX6_advance B W) (qV Q)) 0 [(0, aR (some v0))] [] h cb kb) : G x (xQ x (rmX6_advance B W) (qV Q)) 18 [(0, aR (some v0))] [] h cb kb := by
  unfold f_X6_advance_j18 at hk
  exact g_aload_n F dX6_advance_18 rfl 0 rfl <|
g_dup F dX6_advance_19 rfl <|
g_getI F dX6_advance_20 fo_X6_6_LockstepRoom_Parser in_X6 fl_LockstepRoom_Parser_59_X6 hk fun x44 hk =>
g_iconst F dX6_advance_23 ic_1 <|
g_iadd F dX6_advance_24 <|
g_putV F dX6_advance_25 fo_X6_6_LockstepRoom_Parser ck_X6 fl_LockstepRoom_Parser_59_X6 rfl (v := aI (x44 + (1:Int32))) (fit_i (x44 + (1:Int32))) hk fun h45 hk =>
g_goto F dX6_advance_28 (tgt := 0) rfl <|
hK0 h45 b w (cb) (kb) (by omega) (by omega) hk
theorem s_X6_advance_l0 {x : Cx} {B W : Nat} (F : Fx x cX6_advance "LockstepRoom$Parser" 3 none (rmX6_advance B W)) {v0 : Nat} {Q : hH → Prop} {K31 : hH → Nat → Nat → Prop} (n : Nat) (h : hH) (b w cb kb : Nat) (hM : cb + b ≤ B) (hS : kb + w ≤ W) (hk : f_X6_advance_l0 x.S.E v0 Q K31 n h b w) (hK31 : ∀ (h : hH) (b w : Nat) (cb kb : Nat), cb + b ≤ B → kb + w ≤ W → K31 h b w → G x (xQ x (rmX6_advance B W) (qV Q)) 31 [(0, aR (some v0))] [] h cb kb) : G x (xQ x (rmX6_advance B W) (qV Q)) 0 [(0, aR (some v0))] [] h cb kb := by
  induction n generalizing h b w cb kb with
  | zero => exact False.elim hk
  | succ n ih =>
    unfold f_X6_advance_l0 at hk
    exact g_aload_n F dX6_advance_0 rfl 0 rfl <|
Exists.elim hk fun b47 hk => Exists.elim hk fun w48 hk => have hb46 := hk.1
have hk := hk.2
g_calli (g_V F dX6_advance_1 q510 mi_X6_peek ct_X6 (rm' := (rmX6_peek b47 w48)) ⟨Nat.le_of_ble_eq_true rfl, Nat.le_of_ble_eq_true rfl⟩ ⟨show cb + b47 ≤ B by omega, show kb + w48 ≤ W by omega⟩ (As := []) (rest := []) rfl rfl (Nat.le_of_ble_eq_true rfl) hk (fun a51 hk => m_X6_peek F.ok b47 w48 a51 h _ hk)) fun x50 h49 hk =>
g_bipush F dX6_advance_4 bp_32 <|
g_icmp_eq F dX6_advance_6 (tgt := 18) rfl (fun hc => have hk := hk.1 hc
s_X6_advance_j18 F h49 (b - b47) (w - w48) (cb + b47) (kb + w48) (by omega) (by omega) hk ih) (fun hc => have hk := hk.2 hc
g_aload_n F dX6_advance_9 rfl 0 rfl <|
Exists.elim hk fun b53 hk => Exists.elim hk fun w54 hk => have hb52 := hk.1
have hk := hk.2
g_calli (g_V F dX6_advance_10 q510 mi_X6_peek ct_X6 (rm' := (rmX6_peek b53 w54)) ⟨Nat.le_of_ble_eq_true rfl, Nat.le_of_ble_eq_true rfl⟩ ⟨show cb + b47 + b53 ≤ B by omega, show kb + w48 + w54 ≤ W by omega⟩ (As := []) (rest := []) rfl rfl (Nat.le_of_ble_eq_true rfl) hk (fun a57 hk => m_X6_peek F.ok b53 w54 a57 h49 _ hk)) fun x56 h55 hk =>
g_bipush F dX6_advance_13 bp_10 <|
g_icmp_ne F dX6_advance_15 (tgt := 31) rfl (fun hc => have hk := hk.2 hc
hK31 h55 ((b - b47) - b53) ((w - w48) - w54) (cb + b47 + b53) (kb + w48 + w54) (by omega) (by omega) hk) (fun hc => have hk := hk.1 hc
s_X6_advance_j18 F h55 ((b - b47) - b53) ((w - w48) - w54) (cb + b47 + b53) (kb + w48 + w54) (by omega) (by omega) hk ih))
theorem s_X6_advance_j240 {x : Cx} {B W : Nat} (F : Fx x cX6_advance "LockstepRoom$Parser" 3 none (rmX6_advance B W)) {v0 : Nat} {Q : hH → Prop} (s0 : Option Nat) (s1 : Option Nat) (h : hH) (b w cb kb : Nat) (hM : cb + b ≤ B) (hS : kb + w ≤ W) (hk : f_X6_advance_j240 x.S.E v0 Q s0 s1 h b w) : G x (xQ x (rmX6_advance B W) (qV Q)) 240 [(0, aR (some v0))] [aR s1, aR s0] h cb kb := by
  unfold f_X6_advance_j240 at hk
  exact g_putV F dX6_advance_240 fo_X6_8_LockstepRoom_Parser ck_X6 fl_LockstepRoom_Parser_46_X6 rfl (v := aR s1) (fit_rf "LockstepRoom$Token" s1) hk fun h58 hk =>
g_aload_n F dX6_advance_243 rfl 0 rfl <|
g_dup F dX6_advance_244 rfl <|
g_getI F dX6_advance_245 fo_X6_6_LockstepRoom_Parser in_X6 fl_LockstepRoom_Parser_59_X6 hk fun x59 hk =>
g_iconst F dX6_advance_248 ic_1 <|
g_iadd F dX6_advance_249 <|
g_putV F dX6_advance_250 fo_X6_6_LockstepRoom_Parser ck_X6 fl_LockstepRoom_Parser_59_X6 rfl (v := aI (x59 + (1:Int32))) (fit_i (x59 + (1:Int32))) hk fun h60 hk =>
g_vret F dX6_advance_253 (show cb ≤ B by omega) (show kb ≤ W by omega) hk
theorem m_X6_advance {S : Sx} (hS0 : Sok S) (B W : Nat) (v0 : Nat) (h : hH) (Q : hH → Prop) (hk : f_X6_advance S.E B W v0 h Q) : Ct S yX6_advance (ws_ yX6_advance cX6_advance 3 none) (rmX6_advance B W) ([aR (some v0)].map vv) h (qV Q) := by
  refine Ct.of hS0 (by decide +kernel) rfl (Nat.le_of_ble_eq_true rfl) fun x hxS F hnm => ?_
  subst hxS
  unfold f_X6_advance at hk
  have key : ∀ cb kb : Nat, cb + B ≤ B → kb + W ≤ W → G x (xQ x (rmX6_advance B W) (qV Q)) 0 (aArgs 0 [aR (some v0)]) [] h cb kb := fun cb kb hM hS =>
s_X6_advance_l0 F 1000000 h B W (cb) (kb) (by omega) (by omega) hk ((fun h b w cb kb hM hS hk => g_aload_n F dX6_advance_31 rfl 0 rfl <|
g_aload_n F dX6_advance_32 rfl 0 rfl <|
g_getI F dX6_advance_33 fo_X6_6_LockstepRoom_Parser in_X6 fl_LockstepRoom_Parser_59_X6 hk fun x61 hk =>
g_putV F dX6_advance_36 fo_X6_7_LockstepRoom_Parser ck_X6 fl_LockstepRoom_Parser_70_X6 rfl (v := aI x61) (fit_i x61) hk fun h62 hk =>
g_aload_n F dX6_advance_39 rfl 0 rfl <|
g_ldcS F dX6_advance_40 (sk_20 _) <|
g_putV F dX6_advance_42 fo_X6_9_LockstepRoom_Parser ck_X6 fl_LockstepRoom_Parser_51_X6 rfl (v := aR (some (x.S.E 20))) (fit_rf "java/lang/String" (some (x.S.E 20))) hk fun h63 hk =>
g_aload_n F dX6_advance_45 rfl 0 rfl <|
Exists.elim hk fun b65 hk => Exists.elim hk fun w66 hk => have hb64 := hk.1
have hk := hk.2
g_calli (g_V F dX6_advance_46 q510 mi_X6_peek ct_X6 (rm' := (rmX6_peek b65 w66)) ⟨Nat.le_of_ble_eq_true rfl, Nat.le_of_ble_eq_true rfl⟩ ⟨show cb + b65 ≤ B by omega, show kb + w66 ≤ W by omega⟩ (As := []) (rest := []) rfl rfl (Nat.le_of_ble_eq_true rfl) hk (fun a69 hk => m_X6_peek F.ok b65 w66 a69 h63 _ hk)) fun x68 h67 hk =>
g_istore_n F dX6_advance_49 rfl (Nat.le_of_ble_eq_true rfl) rfl <|
g_iload_n F dX6_advance_50 rfl 0 rfl <|
g_if_ge F dX6_advance_51 (tgt := 64) rfl (fun hc => have hk := hk.1 hc
g_iload_n F dX6_advance_64 rfl 0 rfl <|
g_i2l F dX6_advance_65 <|
g_ldc2 F dX6_advance_66 q514 <|
g_ldc2 F dX6_advance_69 q515 <|
g_calli0 (g_SN F dX6_advance_72 q516 ms_X1_inRange (rm' := rmX1_inRange) ⟨Nat.le_of_ble_eq_true rfl, Nat.le_of_ble_eq_true rfl⟩ ⟨show cb + b65 + 0 ≤ B by omega, show kb + w66 + 0 ≤ W by omega⟩ (As := [aL x68.toInt64, aL (97:Int64), aL (122:Int64)]) (rest := []) rfl rfl (Nat.le_of_ble_eq_true rfl) (m_X1_inRange F.ok x68.toInt64 (97:Int64) (122:Int64) h67 _ hk)) ⟨rfl, rfl⟩ fun x72 h71 hk =>
g_if_eq F dX6_advance_75 (tgt := 144) rfl (fun hc => have hk := hk.1 hc
g_iload_n F dX6_advance_144 rfl 0 rfl <|
g_i2l F dX6_advance_145 <|
g_ldc2 F dX6_advance_146 q677 <|
g_ldc2 F dX6_advance_149 q678 <|
g_calli0 (g_SN F dX6_advance_152 q516 ms_X1_inRange (rm' := rmX1_inRange) ⟨Nat.le_of_ble_eq_true rfl, Nat.le_of_ble_eq_true rfl⟩ ⟨show cb + b65 + 0 ≤ B by omega, show kb + w66 + 0 ≤ W by omega⟩ (As := [aL x68.toInt64, aL (48:Int64), aL (57:Int64)]) (rest := []) rfl rfl (Nat.le_of_ble_eq_true rfl) (m_X1_inRange F.ok x68.toInt64 (48:Int64) (57:Int64) h71 _ hk)) ⟨rfl, rfl⟩ fun x75 h74 hk =>
g_if_eq F dX6_advance_155 (tgt := 224) rfl (fun hc => have hk := hk.1 hc
g_aload_n F dX6_advance_224 rfl 1 rfl <|
g_iload_n F dX6_advance_225 rfl 0 rfl <|
g_bipush F dX6_advance_226 bp_59 <|
g_icmp_ne F dX6_advance_228 (tgt := 237) rfl (fun hc => have hk := hk.2 hc
g_gets F dX6_advance_237 (sz_6 _) zl_LockstepRoom_Parser_115 <|
G.fewer [1] rfl <| s_X6_advance_j240 F (some v0) (some (x.S.E 6)) h74 (b - b65) (w - w66) (cb + b65) (kb + w66) (by omega) (by omega) hk ) (fun hc => have hk := hk.1 hc
g_gets F dX6_advance_231 (sz_5 _) zl_LockstepRoom_Parser_112 <|
g_goto F dX6_advance_234 (tgt := 240) rfl <|
G.fewer [1] rfl <| s_X6_advance_j240 F (some v0) (some (x.S.E 5)) h74 (b - b65) (w - w66) (cb + b65) (kb + w66) (by omega) (by omega) hk )) (fun hc => have hk := hk.2 hc
g_aload_n F dX6_advance_158 rfl 1 rfl <|
g_gets F dX6_advance_159 (sz_4 _) zl_LockstepRoom_Parser_99 <|
g_putV F dX6_advance_162 fo_X6_8_LockstepRoom_Parser ck_X6 fl_LockstepRoom_Parser_46_X6 rfl (v := aR (some (x.S.E 4))) (fit_rf "LockstepRoom$Token" (some (x.S.E 4))) hk fun h76 hk =>
g_aload_n F dX6_advance_165 rfl 1 rfl <|
g_iconst F dX6_advance_166 ic_0 <|
g_putV F dX6_advance_167 fo_X6_10_LockstepRoom_Parser ck_X6 fl_LockstepRoom_Parser_102_X6 rfl (v := aI (0:Int32)) (fit_i (0:Int32)) hk fun h77 hk =>
G.fewer [1] rfl <| s_X6_advance_l170 F 1000000 h77 (b - b65) (w - w66) (cb + b65) (kb + w66) (by omega) (by omega) hk ((fun h b w cb kb hM hS hk => g_vret F dX6_advance_253 (show cb ≤ B by omega) (show kb ≤ W by omega) hk)))) (fun hc => have hk := hk.2 hc
g_aload_n F dX6_advance_78 rfl 1 rfl <|
g_gets F dX6_advance_79 (sz_3 _) zl_LockstepRoom_Parser_81 <|
g_putV F dX6_advance_82 fo_X6_8_LockstepRoom_Parser ck_X6 fl_LockstepRoom_Parser_46_X6 rfl (v := aR (some (x.S.E 3))) (fit_rf "LockstepRoom$Token" (some (x.S.E 3))) hk fun h78 hk =>
have hb79 := hk.1
have hk := hk.2
g_new (fs := [va_rf none, .int 0, .int 0, .int 0]) F dX6_advance_85 ck_J7 ct_J7 q519 q344 q122 df_J7 (show cb + b65 + 1 ≤ B by omega) (show kb + w66 + 4 ≤ W by omega) hk fun q80 h81 hk =>
g_dup F dX6_advance_88 rfl <|
have hb82 := hk.1
have hk := hk.2
g_callv (g_I F dX6_advance_89 q520 mc_J7_init (rm' := rmJ7_init) ⟨Nat.le_of_ble_eq_true rfl, Nat.le_of_ble_eq_true rfl⟩ ⟨show cb + b65 + 1 + 1 ≤ B by omega, show kb + w66 + 4 + 16 ≤ W by omega⟩ (As := []) (rest := [aR (some q80)]) rfl rfl (Nat.le_of_ble_eq_true rfl) (m_J7_init F.ok q80 h81 _ hk)) fun h83 hk =>
g_astore_n F dX6_advance_92 rfl (Nat.le_of_ble_eq_true rfl) rfl <|
G.fewer [2, 0] rfl <| s_X6_advance_l93 F 1000000 (some q80) h83 (((b - b65) - 1) - 1) (((w - w66) - 4) - 16) (cb + b65 + 1 + 1) (kb + w66 + 4 + 16) (by omega) (by omega) hk ((fun l2 h b w cb kb hM hS hk => g_aload_n F dX6_advance_133 rfl 0 rfl <|
g_aload_n F dX6_advance_134 rfl 1 rfl <|
Exists.elim hk fun b85 hk => Exists.elim hk fun w86 hk => have hb84 := hk.1
have hk := hk.2
g_callr (g_V F dX6_advance_135 q614 mi_J7_toString ct_J7 (rm' := (rmJ7_toString b85 w86)) ⟨Nat.le_of_ble_eq_true rfl, Nat.le_of_ble_eq_true rfl⟩ ⟨show cb + b85 ≤ B by omega, show kb + w86 ≤ W by omega⟩ (As := []) (rest := [aR (some v0)]) rfl rfl (Nat.le_of_ble_eq_true rfl) hk (fun a89 hk => m_J7_toString F.ok b85 w86 a89 h _ hk)) fun x88 h87 hk =>
g_putV F dX6_advance_138 fo_X6_9_LockstepRoom_Parser ck_X6 fl_LockstepRoom_Parser_51_X6 rfl (v := aR x88) (fit_rf "java/lang/String" x88) hk fun h90 hk =>
g_goto F dX6_advance_141 (tgt := 253) rfl <|
g_vret F dX6_advance_253 (show cb + b85 ≤ B by omega) (show kb + w86 ≤ W by omega) hk)))) (fun hc => have hk := hk.2 hc
g_aload_n F dX6_advance_54 rfl 1 rfl <|
g_gets F dX6_advance_55 (sz_2 _) zl_LockstepRoom_Parser_40 <|
g_putV F dX6_advance_58 fo_X6_8_LockstepRoom_Parser ck_X6 fl_LockstepRoom_Parser_46_X6 rfl (v := aR (some (x.S.E 2))) (fit_rf "LockstepRoom$Token" (some (x.S.E 2))) hk fun h91 hk =>
g_goto F dX6_advance_61 (tgt := 253) rfl <|
g_vret F dX6_advance_253 (show cb + b65 ≤ B by omega) (show kb + w66 ≤ W by omega) hk)))
  exact key 0 0 (by omega) (by omega)
abbrev rmX6_require (B W : Nat) : Room := { frames := 5, cells := B, slots := W, locals := 109 }
theorem m_X6_require {S : Sx} (hS0 : Sok S) (B W : Nat) (v0 : Nat) (v1 : Int32) (v2 : Int32) (h : hH) (Q : hH → Prop) (X : String → Nat → hH → Prop) (hk : f_X6_require S.E B W v0 v1 v2 h Q X) : CtX S yX6_require (ws_ yX6_require cX6_require 3 none) (rmX6_require B W) ([aR (some v0), aI v1, aI v2].map vv) h (qV Q) X := by
  refine CtX.of hS0 (by decide +kernel) rfl (Nat.le_of_ble_eq_true rfl) fun x hxS F hnm hno => ?_
  subst hxS
  unfold f_X6_require at hk
  have key : ∀ cb kb : Nat, cb + B ≤ B → kb + W ≤ W → G x (xQX x (rmX6_require B W) (qV Q) X) 0 (aArgs 0 [aR (some v0), aI v1, aI v2]) [] h cb kb := fun cb kb hM hS =>
g_iload_n F dX6_require_0 rfl 1 rfl <|
g_if_ne F dX6_require_1 (tgt := 13) rfl (fun hc => have hk := hk.2 hc
G.toX <| g_vret F dX6_require_13 (show cb ≤ B by omega) (show kb ≤ W by omega) hk) (fun hc => have hk := hk.1 hc
have hb1 := hk.1
have hk := hk.2
g_new (fs := [va_rf none, va_rf none, va_rf none, va_rf none, va_rf none, .int 0, .int 0]) F dX6_require_4 ck_X7 ct_X7 q762 q763 q137 df_X7 (show cb + 1 ≤ B by omega) (show kb + 7 ≤ W by omega) hk fun q2 h3 hk =>
g_dup F dX6_require_7 rfl <|
g_iload_n F dX6_require_8 rfl 2 rfl <|
g_callv0 (g_I F dX6_require_9 q803 mc_X7_init (rm' := rmX7_init) ⟨Nat.le_of_ble_eq_true rfl, Nat.le_of_ble_eq_true rfl⟩ ⟨show cb + 1 + 0 ≤ B by omega, show kb + 7 + 0 ≤ W by omega⟩ (As := [aI v2]) (rest := [aR (some q2)]) rfl rfl (Nat.le_of_ble_eq_true rfl) (m_X7_init F.ok q2 v2 h3 _ hk)) ⟨rfl, rfl⟩ fun h5 hk =>
g_throwO F dX6_require_12 ct_X7 hk fun _ hk => GT.out F hno.cov (show cb + 1 ≤ B by omega) (show kb + 7 ≤ W by omega) hk)
  exact key 0 0 (by omega) (by omega)
abbrev rmX6_integer (B W : Nat) : Room := { frames := 9, cells := B, slots := W, locals := 194 }
theorem s_X6_integer_j16 {x : Cx} {B W : Nat} (F : Fx x cX6_integer "LockstepRoom$Parser" 4 (some .int) (rmX6_integer B W)) {v0 : Nat} (hno : NoH x) {Q : Int32 → hH → Prop} {X : String → Nat → hH → Prop} (s0 : Option Nat) (s1 : Int32) (l1 : Int32) (l2 : Int32) (h : hH) (b w cb kb : Nat) (hM : cb + b ≤ B) (hS : kb + w ≤ W) (hk : f_X6_integer_j16 x.S.E v0 Q X s0 s1 l1 l2 h b w) : G x (xQX x (rmX6_integer B W) (qI Q) X) 16 [(0, aR (some v0)), (1, aI l1), (2, aI l2)] [aI s1, aR s0] h cb kb := by
  unfold f_X6_integer_j16 at hk
  exact g_bipush F dX6_integer_16 bp_m11 <|
Exists.elim hk fun b2 hk => Exists.elim hk fun w3 hk => have hb1 := hk.1
have hk := hk.2
x_callv (x_V F dX6_integer_18 q758 mi_X6_require ct_X6 (rm' := (rmX6_require b2 w3)) ⟨Nat.le_of_ble_eq_true rfl, Nat.le_of_ble_eq_true rfl⟩ ⟨show cb + b2 ≤ B by omega, show kb + w3 ≤ W by omega⟩ (As := [aI s1, aI (-11:Int32)]) (rest := []) rfl rfl (Nat.le_of_ble_eq_true rfl) hk (fun a5 hk => m_X6_require F.ok b2 w3 a5 s1 (-11:Int32) h _ _ hk)) (fun _ _ _ hx => GT.out F hno.cov (show cb + b2 ≤ B by omega) (show kb + w3 ≤ W by omega) hx) fun h4 hk =>
g_aload_n F dX6_integer_21 rfl 0 rfl <|
g_aload_n F dX6_integer_22 rfl 0 rfl <|
g_getI F dX6_integer_23 fo_X6_10_LockstepRoom_Parser in_X6 fl_LockstepRoom_Parser_102_X6 hk fun x6 hk =>
g_i2l F dX6_integer_26 <|
g_iload_n F dX6_integer_27 rfl 1 rfl <|
g_i2l F dX6_integer_28 <|
g_iload_n F dX6_integer_29 rfl 2 rfl <|
g_i2l F dX6_integer_30 <|
g_calli0 (g_SN F dX6_integer_31 q516 ms_X1_inRange (rm' := rmX1_inRange) ⟨Nat.le_of_ble_eq_true rfl, Nat.le_of_ble_eq_true rfl⟩ ⟨show cb + b2 + 0 ≤ B by omega, show kb + w3 + 0 ≤ W by omega⟩ (As := [aL x6.toInt64, aL l1.toInt64, aL l2.toInt64]) (rest := [aR (some v0)]) rfl rfl (Nat.le_of_ble_eq_true rfl) (m_X1_inRange F.ok x6.toInt64 l1.toInt64 l2.toInt64 h4 _ hk)) ⟨rfl, rfl⟩ fun x9 h8 hk =>
g_bipush F dX6_integer_34 bp_m12 <|
Exists.elim hk fun b11 hk => Exists.elim hk fun w12 hk => have hb10 := hk.1
have hk := hk.2
x_callv (x_V F dX6_integer_36 q758 mi_X6_require ct_X6 (rm' := (rmX6_require b11 w12)) ⟨Nat.le_of_ble_eq_true rfl, Nat.le_of_ble_eq_true rfl⟩ ⟨show cb + b2 + b11 ≤ B by omega, show kb + w3 + w12 ≤ W by omega⟩ (As := [aI x9, aI (-12:Int32)]) (rest := []) rfl rfl (Nat.le_of_ble_eq_true rfl) hk (fun a14 hk => m_X6_require F.ok b11 w12 a14 x9 (-12:Int32) h8 _ _ hk)) (fun _ _ _ hx => GT.out F hno.cov (show cb + b2 + b11 ≤ B by omega) (show kb + w3 + w12 ≤ W by omega) hx) fun h13 hk =>
g_aload_n F dX6_integer_39 rfl 0 rfl <|
g_getI F dX6_integer_40 fo_X6_10_LockstepRoom_Parser in_X6 fl_LockstepRoom_Parser_102_X6 hk fun x15 hk =>
g_istore_n F dX6_integer_43 rfl (Nat.le_of_ble_eq_true rfl) rfl <|
g_aload_n F dX6_integer_44 rfl 1 rfl <|
Exists.elim hk fun b17 hk => Exists.elim hk fun w18 hk => have hb16 := hk.1
have hk := hk.2
g_callv (g_V F dX6_integer_45 q506 mi_X6_advance ct_X6 (rm' := (rmX6_advance b17 w18)) ⟨Nat.le_of_ble_eq_true rfl, Nat.le_of_ble_eq_true rfl⟩ ⟨show cb + b2 + b11 + b17 ≤ B by omega, show kb + w3 + w12 + w18 ≤ W by omega⟩ (As := []) (rest := []) rfl rfl (Nat.le_of_ble_eq_true rfl) hk (fun a20 hk => m_X6_advance F.ok b17 w18 a20 h13 _ hk)) fun h19 hk =>
g_iload_n F dX6_integer_48 rfl 0 rfl <|
G.toX <| g_iret F dX6_integer_49 (show cb + b2 + b11 + b17 ≤ B by omega) (show kb + w3 + w12 + w18 ≤ W by omega) hk
theorem m_X6_integer {S : Sx} (hS0 : Sok S) (B W : Nat) (v0 : Nat) (v1 : Int32) (v2 : Int32) (h : hH) (Q : Int32 → hH → Prop) (X : String → Nat → hH → Prop) (hk : f_X6_integer S.E B W v0 v1 v2 h Q X) : CtX S yX6_integer (ws_ yX6_integer cX6_integer 4 (some .int)) (rmX6_integer B W) ([aR (some v0), aI v1, aI v2].map vv) h (qI Q) X := by
  refine CtX.of hS0 (by decide +kernel) rfl (Nat.le_of_ble_eq_true rfl) fun x hxS F hnm hno => ?_
  subst hxS
  unfold f_X6_integer at hk
  have key : ∀ cb kb : Nat, cb + B ≤ B → kb + W ≤ W → G x (xQX x (rmX6_integer B W) (qI Q) X) 0 (aArgs 0 [aR (some v0), aI v1, aI v2]) [] h cb kb := fun cb kb hM hS =>
g_aload_n F dX6_integer_0 rfl 0 rfl <|
g_aload_n F dX6_integer_1 rfl 0 rfl <|
g_getR F dX6_integer_2 fo_X6_8_LockstepRoom_Parser in_X6 fl_LockstepRoom_Parser_46_X6 hk fun x21 hk =>
g_gets F dX6_integer_5 (sz_4 _) zl_LockstepRoom_Parser_99 <|
g_acmp_ne F dX6_integer_8 (tgt := 15) rfl (fun hc => have hk := hk.2 hc
g_iconst F dX6_integer_15 ic_0 <|
s_X6_integer_j16 F hno (some v0) (0:Int32) v1 v2 h B W (cb) (kb) (by omega) (by omega) hk ) (fun hc => have hk := hk.1 hc
g_iconst F dX6_integer_11 ic_1 <|
g_goto F dX6_integer_12 (tgt := 16) rfl <|
s_X6_integer_j16 F hno (some v0) (1:Int32) v1 v2 h B W (cb) (kb) (by omega) (by omega) hk )
  exact key 0 0 (by omega) (by omega)
abbrev rmX6_parseSetting (B W : Nat) : Room := { frames := 10, cells := B, slots := W, locals := 217 }
theorem s_X6_parseSetting_j65 {x : Cx} {B W : Nat} (F : Fx x cX6_parseSetting "LockstepRoom$Parser" 2 none (rmX6_parseSetting B W)) {v0 : Nat} (hno : NoH x) {Q : hH → Prop} {X : String → Nat → hH → Prop} (s0 : Option Nat) (s1 : Int32) (l1 : Int32) (h : hH) (b w cb kb : Nat) (hM : cb + b ≤ B) (hS : kb + w ≤ W) (hk : f_X6_parseSetting_j65 x.S.E v0 Q X s0 s1 l1 h b w) : G x (xQX x (rmX6_parseSetting B W) (qV Q) X) 65 [(0, aR (some v0)), (1, aI l1)] [aI s1, aR s0] h cb kb := by
  unfold f_X6_parseSetting_j65 at hk
  exact g_bipush F dX6_parseSetting_65 bp_m14 <|
Exists.elim hk fun b2 hk => Exists.elim hk fun w3 hk => have hb1 := hk.1
have hk := hk.2
x_callv (x_V F dX6_parseSetting_67 q758 mi_X6_require ct_X6 (rm' := (rmX6_require b2 w3)) ⟨Nat.le_of_ble_eq_true rfl, Nat.le_of_ble_eq_true rfl⟩ ⟨show cb + b2 ≤ B by omega, show kb + w3 ≤ W by omega⟩ (As := [aI s1, aI (-14:Int32)]) (rest := []) rfl rfl (Nat.le_of_ble_eq_true rfl) hk (fun a5 hk => m_X6_require F.ok b2 w3 a5 s1 (-14:Int32) h _ _ hk)) (fun _ _ _ hx => GT.out F hno.cov (show cb + b2 ≤ B by omega) (show kb + w3 ≤ W by omega) hx) fun h4 hk =>
g_aload_n F dX6_parseSetting_70 rfl 0 rfl <|
g_getR F dX6_parseSetting_71 fo_X6_4_LockstepRoom_Parser in_X6 fl_LockstepRoom_Parser_36_X6 hk fun x6 hk =>
g_iload_n F dX6_parseSetting_74 rfl 1 rfl <|
g_iconst F dX6_parseSetting_75 ic_1 <|
g_zast F dX6_parseSetting_76 hk fun h7 hk =>
g_aload_n F dX6_parseSetting_77 rfl 0 rfl <|
Exists.elim hk fun b9 hk => Exists.elim hk fun w10 hk => have hb8 := hk.1
have hk := hk.2
g_callv (g_V F dX6_parseSetting_78 q506 mi_X6_advance ct_X6 (rm' := (rmX6_advance b9 w10)) ⟨Nat.le_of_ble_eq_true rfl, Nat.le_of_ble_eq_true rfl⟩ ⟨show cb + b2 + b9 ≤ B by omega, show kb + w3 + w10 ≤ W by omega⟩ (As := []) (rest := []) rfl rfl (Nat.le_of_ble_eq_true rfl) hk (fun a12 hk => m_X6_advance F.ok b9 w10 a12 h7 _ hk)) fun h11 hk =>
g_aload_n F dX6_parseSetting_81 rfl 0 rfl <|
g_getR F dX6_parseSetting_82 fo_X6_1_LockstepRoom_Parser in_X6 fl_LockstepRoom_Parser_18_X6 hk fun x13 hk =>
g_getR F dX6_parseSetting_85 fo_X2_2_LockstepRoom_Room in_X2 fl_LockstepRoom_Parser_256_X2 hk fun x14 hk =>
g_iload_n F dX6_parseSetting_88 rfl 1 rfl <|
g_aload_n F dX6_parseSetting_89 rfl 0 rfl <|
g_iconst F dX6_parseSetting_90 ic_1 <|
g_gets F dX6_parseSetting_91 (sz_1 _) zl_LockstepRoom_Parser_259 <|
g_iload_n F dX6_parseSetting_94 rfl 1 rfl <|
g_iald F dX6_parseSetting_95 hk fun x15 hk =>
Exists.elim hk fun b17 hk => Exists.elim hk fun w18 hk => have hb16 := hk.1
have hk := hk.2
x_calli (x_V F dX6_parseSetting_96 q833 mi_X6_integer ct_X6 (rm' := (rmX6_integer b17 w18)) ⟨Nat.le_of_ble_eq_true rfl, Nat.le_of_ble_eq_true rfl⟩ ⟨show cb + b2 + b9 + b17 ≤ B by omega, show kb + w3 + w10 + w18 ≤ W by omega⟩ (As := [aI (1:Int32), aI x15]) (rest := [aI l1, aR x14]) rfl rfl (Nat.le_of_ble_eq_true rfl) hk (fun a21 hk => m_X6_integer F.ok b17 w18 a21 (1:Int32) x15 h11 _ _ hk)) (fun _ _ _ hx => GT.out F hno.cov (show cb + b2 + b9 + b17 ≤ B by omega) (show kb + w3 + w10 + w18 ≤ W by omega) hx) fun x20 h19 hk =>
g_iast F dX6_parseSetting_99 hk fun h22 hk =>
G.toX <| g_vret F dX6_parseSetting_100 (show cb + b2 + b9 + b17 ≤ B by omega) (show kb + w3 + w10 + w18 ≤ W by omega) hk
theorem s_X6_parseSetting_j45 {x : Cx} {B W : Nat} (F : Fx x cX6_parseSetting "LockstepRoom$Parser" 2 none (rmX6_parseSetting B W)) {v0 : Nat} (hno : NoH x) {Q : hH → Prop} {X : String → Nat → hH → Prop} (s0 : Option Nat) (s1 : Int32) (l1 : Int32) (h : hH) (b w cb kb : Nat) (hM : cb + b ≤ B) (hS : kb + w ≤ W) (hk : f_X6_parseSetting_j45 x.S.E v0 Q X s0 s1 l1 h b w) : G x (xQX x (rmX6_parseSetting B W) (qV Q) X) 45 [(0, aR (some v0)), (1, aI l1)] [aI s1, aR s0] h cb kb := by
  unfold f_X6_parseSetting_j45 at hk
  exact g_bipush F dX6_parseSetting_45 bp_m11 <|
Exists.elim hk fun b24 hk => Exists.elim hk fun w25 hk => have hb23 := hk.1
have hk := hk.2
x_callv (x_V F dX6_parseSetting_47 q758 mi_X6_require ct_X6 (rm' := (rmX6_require b24 w25)) ⟨Nat.le_of_ble_eq_true rfl, Nat.le_of_ble_eq_true rfl⟩ ⟨show cb + b24 ≤ B by omega, show kb + w25 ≤ W by omega⟩ (As := [aI s1, aI (-11:Int32)]) (rest := []) rfl rfl (Nat.le_of_ble_eq_true rfl) hk (fun a27 hk => m_X6_require F.ok b24 w25 a27 s1 (-11:Int32) h _ _ hk)) (fun _ _ _ hx => GT.out F hno.cov (show cb + b24 ≤ B by omega) (show kb + w25 ≤ W by omega) hx) fun h26 hk =>
g_aload_n F dX6_parseSetting_50 rfl 0 rfl <|
g_aload_n F dX6_parseSetting_51 rfl 0 rfl <|
g_getR F dX6_parseSetting_52 fo_X6_4_LockstepRoom_Parser in_X6 fl_LockstepRoom_Parser_36_X6 hk fun x28 hk =>
g_iload_n F dX6_parseSetting_55 rfl 1 rfl <|
g_zald F dX6_parseSetting_56 hk fun x29 hk =>
g_if_ne F dX6_parseSetting_57 (tgt := 64) rfl (fun hc => have hk := hk.2 hc
g_iconst F dX6_parseSetting_64 ic_0 <|
s_X6_parseSetting_j65 F hno (some v0) (0:Int32) l1 h26 (b - b24) (w - w25) (cb + b24) (kb + w25) (by omega) (by omega) hk ) (fun hc => have hk := hk.1 hc
g_iconst F dX6_parseSetting_60 ic_1 <|
g_goto F dX6_parseSetting_61 (tgt := 65) rfl <|
s_X6_parseSetting_j65 F hno (some v0) (1:Int32) l1 h26 (b - b24) (w - w25) (cb + b24) (kb + w25) (by omega) (by omega) hk )
theorem s_X6_parseSetting_j33 {x : Cx} {B W : Nat} (F : Fx x cX6_parseSetting "LockstepRoom$Parser" 2 none (rmX6_parseSetting B W)) {v0 : Nat} (hno : NoH x) {Q : hH → Prop} {X : String → Nat → hH → Prop} (s0 : Int32) (h : hH) (b w cb kb : Nat) (hM : cb + b ≤ B) (hS : kb + w ≤ W) (hk : f_X6_parseSetting_j33 x.S.E v0 Q X s0 h b w) : G x (xQX x (rmX6_parseSetting B W) (qV Q) X) 33 [(0, aR (some v0))] [aI s0] h cb kb := by
  unfold f_X6_parseSetting_j33 at hk
  exact g_istore_n F dX6_parseSetting_33 rfl (Nat.le_of_ble_eq_true rfl) rfl <|
g_aload_n F dX6_parseSetting_34 rfl 1 rfl <|
g_iload_n F dX6_parseSetting_35 rfl 0 rfl <|
g_iconst F dX6_parseSetting_36 ic_m1 <|
g_icmp_eq F dX6_parseSetting_37 (tgt := 44) rfl (fun hc => have hk := hk.1 hc
g_iconst F dX6_parseSetting_44 ic_0 <|
G.fewer [1, 0] rfl <| s_X6_parseSetting_j45 F hno (some v0) (0:Int32) s0 h b w (cb) (kb) (by omega) (by omega) hk ) (fun hc => have hk := hk.2 hc
g_iconst F dX6_parseSetting_40 ic_1 <|
g_goto F dX6_parseSetting_41 (tgt := 45) rfl <|
G.fewer [1, 0] rfl <| s_X6_parseSetting_j45 F hno (some v0) (1:Int32) s0 h b w (cb) (kb) (by omega) (by omega) hk )
theorem m_X6_parseSetting {S : Sx} (hS0 : Sok S) (B W : Nat) (v0 : Nat) (h : hH) (Q : hH → Prop) (X : String → Nat → hH → Prop) (hk : f_X6_parseSetting S.E B W v0 h Q X) : CtX S yX6_parseSetting (ws_ yX6_parseSetting cX6_parseSetting 2 none) (rmX6_parseSetting B W) ([aR (some v0)].map vv) h (qV Q) X := by
  refine CtX.of hS0 (by decide +kernel) rfl (Nat.le_of_ble_eq_true rfl) fun x hxS F hnm hno => ?_
  subst hxS
  unfold f_X6_parseSetting at hk
  have key : ∀ cb kb : Nat, cb + B ≤ B → kb + W ≤ W → G x (xQX x (rmX6_parseSetting B W) (qV Q) X) 0 (aArgs 0 [aR (some v0)]) [] h cb kb := fun cb kb hM hS =>
g_aload_n F dX6_parseSetting_0 rfl 0 rfl <|
g_getR F dX6_parseSetting_1 fo_X6_9_LockstepRoom_Parser in_X6 fl_LockstepRoom_Parser_51_X6 hk fun x30 hk =>
g_ldcS F dX6_parseSetting_4 (sk_33 _) <|
g_calli0 (g_V F dX6_parseSetting_6 q745 mi_J8_equals ct_J8 (rm' := rmJ8_equals) ⟨Nat.le_of_ble_eq_true rfl, Nat.le_of_ble_eq_true rfl⟩ ⟨show cb + 0 ≤ B by omega, show kb + 0 ≤ W by omega⟩ (As := [aR (some (x.S.E 33))]) (rest := []) rfl rfl (Nat.le_of_ble_eq_true rfl) hk (fun a34 hk => m_J8_equals F.ok a34 (some (x.S.E 33)) h _ hk)) ⟨rfl, rfl⟩ fun x33 h32 hk =>
g_if_eq F dX6_parseSetting_9 (tgt := 16) rfl (fun hc => have hk := hk.1 hc
g_aload_n F dX6_parseSetting_16 rfl 0 rfl <|
g_getR F dX6_parseSetting_17 fo_X6_9_LockstepRoom_Parser in_X6 fl_LockstepRoom_Parser_51_X6 hk fun x35 hk =>
g_ldcS F dX6_parseSetting_20 (sk_34 _) <|
g_calli0 (g_V F dX6_parseSetting_22 q745 mi_J8_equals ct_J8 (rm' := rmJ8_equals) ⟨Nat.le_of_ble_eq_true rfl, Nat.le_of_ble_eq_true rfl⟩ ⟨show cb + 0 ≤ B by omega, show kb + 0 ≤ W by omega⟩ (As := [aR (some (x.S.E 34))]) (rest := []) rfl rfl (Nat.le_of_ble_eq_true rfl) hk (fun a39 hk => m_J8_equals F.ok a39 (some (x.S.E 34)) h32 _ hk)) ⟨rfl, rfl⟩ fun x38 h37 hk =>
g_if_eq F dX6_parseSetting_25 (tgt := 32) rfl (fun hc => have hk := hk.1 hc
g_iconst F dX6_parseSetting_32 ic_m1 <|
s_X6_parseSetting_j33 F hno (-1:Int32) h37 B W (cb) (kb) (by omega) (by omega) hk ) (fun hc => have hk := hk.2 hc
g_iconst F dX6_parseSetting_28 ic_1 <|
g_goto F dX6_parseSetting_29 (tgt := 33) rfl <|
s_X6_parseSetting_j33 F hno (1:Int32) h37 B W (cb) (kb) (by omega) (by omega) hk )) (fun hc => have hk := hk.2 hc
g_iconst F dX6_parseSetting_12 ic_0 <|
g_goto F dX6_parseSetting_13 (tgt := 33) rfl <|
s_X6_parseSetting_j33 F hno (0:Int32) h32 B W (cb) (kb) (by omega) (by omega) hk )
  exact key 0 0 (by omega) (by omega)
abbrev rmX6_name (B W : Nat) : Room := { frames := 6, cells := B, slots := W, locals := 131 }
theorem s_X6_name_j74 {x : Cx} {B W : Nat} (F : Fx x cX6_name "LockstepRoom$Parser" 3 (some .int) (rmX6_name B W)) {v0 : Nat} (hno : NoH x) {Q : Int32 → hH → Prop} {X : String → Nat → hH → Prop} {K37 : Int32 → Int32 → hH → Nat → Nat → Prop} (s0 : Int32) (s1 : Int32) (l2 : Int32) (h : hH) (b w cb kb : Nat) (hM : cb + b ≤ B) (hS : kb + w ≤ W) (hk : f_X6_name_j74 x.S.E v0 Q X K37 s0 s1 l2 h b w) (hK37 : ∀ (l1 : Int32) (l2 : Int32) (h : hH) (b w : Nat) (cb kb : Nat), cb + b ≤ B → kb + w ≤ W → K37 l1 l2 h b w → G x (xQX x (rmX6_name B W) (qI Q) X) 37 [(0, aR (some v0)), (1, aI l1), (2, aI l2)] [] h cb kb) : G x (xQX x (rmX6_name B W) (qI Q) X) 74 [(0, aR (some v0)), (2, aI l2)] [aI s1, aI s0] h cb kb := by
  unfold f_X6_name_j74 at hk
  exact g_ior F dX6_name_74 <|
g_istore_n F dX6_name_75 rfl (Nat.le_of_ble_eq_true rfl) rfl <|
g_iinc (v := (l2 + (1:Int32))) F dX6_name_76 (j := 2) rfl (iinc_1 l2) (Nat.le_of_ble_eq_true rfl) rfl <|
g_goto F dX6_name_79 (tgt := 37) rfl <|
G.fewer [2, 1, 0] rfl <| hK37 (s0 ||| s1) (l2 + (1:Int32)) h b w (cb) (kb) (by omega) (by omega) hk
theorem s_X6_name_l37 {x : Cx} {B W : Nat} (F : Fx x cX6_name "LockstepRoom$Parser" 3 (some .int) (rmX6_name B W)) {v0 : Nat} (hno : NoH x) {Q : Int32 → hH → Prop} {X : String → Nat → hH → Prop} {K82 : Int32 → hH → Nat → Nat → Prop} (n : Nat) (l1 : Int32) (l2 : Int32) (h : hH) (b w cb kb : Nat) (hM : cb + b ≤ B) (hS : kb + w ≤ W) (hk : f_X6_name_l37 x.S.E v0 Q X K82 n l1 l2 h b w) (hK82 : ∀ (l1 : Int32) (h : hH) (b w : Nat) (cb kb : Nat), cb + b ≤ B → kb + w ≤ W → K82 l1 h b w → G x (xQX x (rmX6_name B W) (qI Q) X) 82 [(1, aI l1)] [] h cb kb) : G x (xQX x (rmX6_name B W) (qI Q) X) 37 [(0, aR (some v0)), (1, aI l1), (2, aI l2)] [] h cb kb := by
  induction n generalizing l1 l2 h b w cb kb with
  | zero => exact False.elim hk
  | succ n ih =>
    unfold f_X6_name_l37 at hk
    exact g_iload_n F dX6_name_37 rfl 2 rfl <|
g_bipush F dX6_name_38 bp_6 <|
g_icmp_ge F dX6_name_40 (tgt := 82) rfl (fun hc => have hk := hk.1 hc
G.fewer [1] rfl <| hK82 l1 h b w (cb) (kb) (by omega) (by omega) hk) (fun hc => have hk := hk.2 hc
g_iload_n F dX6_name_43 rfl 1 rfl <|
g_iconst F dX6_name_44 ic_5 <|
g_ishl F dX6_name_45 <|
g_iload_n F dX6_name_46 rfl 2 rfl <|
g_aload_n F dX6_name_47 rfl 0 rfl <|
g_getR F dX6_name_48 fo_X6_9_LockstepRoom_Parser in_X6 fl_LockstepRoom_Parser_51_X6 hk fun x1 hk =>
g_calli0 (g_V F dX6_name_51 q846 mi_J8_length ct_J8 (rm' := rmJ8_length) ⟨Nat.le_of_ble_eq_true rfl, Nat.le_of_ble_eq_true rfl⟩ ⟨show cb + 0 ≤ B by omega, show kb + 0 ≤ W by omega⟩ (As := []) (rest := [aI l2, aI (l1 <<< ((5:Int32) &&& 31))]) rfl rfl (Nat.le_of_ble_eq_true rfl) hk (fun a5 hk => m_J8_length F.ok a5 h _ hk)) ⟨rfl, rfl⟩ fun x4 h3 hk =>
g_icmp_ge F dX6_name_54 (tgt := 73) rfl (fun hc => have hk := hk.1 hc
g_iconst F dX6_name_73 ic_0 <|
G.fewer [0, 2] rfl <| s_X6_name_j74 F hno (l1 <<< ((5:Int32) &&& 31)) (0:Int32) l2 h3 b w (cb) (kb) (by omega) (by omega) hk ih) (fun hc => have hk := hk.2 hc
g_aload_n F dX6_name_57 rfl 0 rfl <|
g_getR F dX6_name_58 fo_X6_9_LockstepRoom_Parser in_X6 fl_LockstepRoom_Parser_51_X6 hk fun x6 hk =>
g_iload_n F dX6_name_61 rfl 2 rfl <|
g_calli0 (g_V F dX6_name_62 q854 mi_J8_charAt ct_J8 (rm' := rmJ8_charAt) ⟨Nat.le_of_ble_eq_true rfl, Nat.le_of_ble_eq_true rfl⟩ ⟨show cb + 0 ≤ B by omega, show kb + 0 ≤ W by omega⟩ (As := [aI l2]) (rest := [aI (l1 <<< ((5:Int32) &&& 31))]) rfl rfl (Nat.le_of_ble_eq_true rfl) hk (fun a10 hk => m_J8_charAt F.ok a10 l2 h3 _ hk)) ⟨rfl, rfl⟩ fun x9 h8 hk =>
g_bipush F dX6_name_65 bp_97 <|
g_isub F dX6_name_67 <|
g_iconst F dX6_name_68 ic_1 <|
g_iadd F dX6_name_69 <|
g_goto F dX6_name_70 (tgt := 74) rfl <|
G.fewer [0, 2] rfl <| s_X6_name_j74 F hno (l1 <<< ((5:Int32) &&& 31)) ((x9 - (97:Int32)) + (1:Int32)) l2 h8 b w (cb) (kb) (by omega) (by omega) hk ih))
theorem s_X6_name_j28 {x : Cx} {B W : Nat} (F : Fx x cX6_name "LockstepRoom$Parser" 3 (some .int) (rmX6_name B W)) {v0 : Nat} (hno : NoH x) {Q : Int32 → hH → Prop} {X : String → Nat → hH → Prop} (s0 : Option Nat) (s1 : Int32) (h : hH) (b w cb kb : Nat) (hM : cb + b ≤ B) (hS : kb + w ≤ W) (hk : f_X6_name_j28 x.S.E v0 Q X s0 s1 h b w) : G x (xQX x (rmX6_name B W) (qI Q) X) 28 [(0, aR (some v0))] [aI s1, aR s0] h cb kb := by
  unfold f_X6_name_j28 at hk
  exact g_bipush F dX6_name_28 bp_m11 <|
Exists.elim hk fun b12 hk => Exists.elim hk fun w13 hk => have hb11 := hk.1
have hk := hk.2
x_callv (x_V F dX6_name_30 q758 mi_X6_require ct_X6 (rm' := (rmX6_require b12 w13)) ⟨Nat.le_of_ble_eq_true rfl, Nat.le_of_ble_eq_true rfl⟩ ⟨show cb + b12 ≤ B by omega, show kb + w13 ≤ W by omega⟩ (As := [aI s1, aI (-11:Int32)]) (rest := []) rfl rfl (Nat.le_of_ble_eq_true rfl) hk (fun a15 hk => m_X6_require F.ok b12 w13 a15 s1 (-11:Int32) h _ _ hk)) (fun _ _ _ hx => GT.out F hno.cov (show cb + b12 ≤ B by omega) (show kb + w13 ≤ W by omega) hx) fun h14 hk =>
g_iconst F dX6_name_33 ic_0 <|
g_istore_n F dX6_name_34 rfl (Nat.le_of_ble_eq_true rfl) rfl <|
g_iconst F dX6_name_35 ic_0 <|
g_istore_n F dX6_name_36 rfl (Nat.le_of_ble_eq_true rfl) rfl <|
G.fewer [2, 1, 0] rfl <| s_X6_name_l37 F hno 1000000 (0:Int32) (0:Int32) h14 (b - b12) (w - w13) (cb + b12) (kb + w13) (by omega) (by omega) hk ((fun l1 h b w cb kb hM hS hk => g_iload_n F dX6_name_82 rfl 0 rfl <|
G.toX <| g_iret F dX6_name_83 (show cb ≤ B by omega) (show kb ≤ W by omega) hk))
theorem s_X6_name_j27 {x : Cx} {B W : Nat} (F : Fx x cX6_name "LockstepRoom$Parser" 3 (some .int) (rmX6_name B W)) {v0 : Nat} (hno : NoH x) {Q : Int32 → hH → Prop} {X : String → Nat → hH → Prop} (s0 : Option Nat) (h : hH) (b w cb kb : Nat) (hM : cb + b ≤ B) (hS : kb + w ≤ W) (hk : f_X6_name_j27 x.S.E v0 Q X s0 h b w) : G x (xQX x (rmX6_name B W) (qI Q) X) 27 [(0, aR (some v0))] [aR s0] h cb kb := by
  unfold f_X6_name_j27 at hk
  exact g_iconst F dX6_name_27 ic_0 <|
s_X6_name_j28 F hno s0 (0:Int32) h b w (cb) (kb) (by omega) (by omega) hk 
theorem m_X6_name {S : Sx} (hS0 : Sok S) (B W : Nat) (v0 : Nat) (h : hH) (Q : Int32 → hH → Prop) (X : String → Nat → hH → Prop) (hk : f_X6_name S.E B W v0 h Q X) : CtX S yX6_name (ws_ yX6_name cX6_name 3 (some .int)) (rmX6_name B W) ([aR (some v0)].map vv) h (qI Q) X := by
  refine CtX.of hS0 (by decide +kernel) rfl (Nat.le_of_ble_eq_true rfl) fun x hxS F hnm hno => ?_
  subst hxS
  unfold f_X6_name at hk
  have key : ∀ cb kb : Nat, cb + B ≤ B → kb + W ≤ W → G x (xQX x (rmX6_name B W) (qI Q) X) 0 (aArgs 0 [aR (some v0)]) [] h cb kb := fun cb kb hM hS =>
g_aload_n F dX6_name_0 rfl 0 rfl <|
g_aload_n F dX6_name_1 rfl 0 rfl <|
g_getR F dX6_name_2 fo_X6_8_LockstepRoom_Parser in_X6 fl_LockstepRoom_Parser_46_X6 hk fun x16 hk =>
g_gets F dX6_name_5 (sz_3 _) zl_LockstepRoom_Parser_81 <|
g_acmp_ne F dX6_name_8 (tgt := 27) rfl (fun hc => have hk := hk.2 hc
s_X6_name_j27 F hno (some v0) h B W (cb) (kb) (by omega) (by omega) hk ) (fun hc => have hk := hk.1 hc
g_aload_n F dX6_name_11 rfl 0 rfl <|
g_getR F dX6_name_12 fo_X6_9_LockstepRoom_Parser in_X6 fl_LockstepRoom_Parser_51_X6 hk fun x17 hk =>
g_calli0 (g_V F dX6_name_15 q846 mi_J8_length ct_J8 (rm' := rmJ8_length) ⟨Nat.le_of_ble_eq_true rfl, Nat.le_of_ble_eq_true rfl⟩ ⟨show cb + 0 ≤ B by omega, show kb + 0 ≤ W by omega⟩ (As := []) (rest := [aR (some v0)]) rfl rfl (Nat.le_of_ble_eq_true rfl) hk (fun a21 hk => m_J8_length F.ok a21 h _ hk)) ⟨rfl, rfl⟩ fun x20 h19 hk =>
g_bipush F dX6_name_18 bp_6 <|
g_icmp_gt F dX6_name_20 (tgt := 27) rfl (fun hc => have hk := hk.1 hc
s_X6_name_j27 F hno (some v0) h19 B W (cb) (kb) (by omega) (by omega) hk ) (fun hc => have hk := hk.2 hc
g_iconst F dX6_name_23 ic_1 <|
g_goto F dX6_name_24 (tgt := 28) rfl <|
s_X6_name_j28 F hno (some v0) (1:Int32) h19 B W (cb) (kb) (by omega) (by omega) hk ))
  exact key 0 0 (by omega) (by omega)
abbrev rmX6_find (B W : Nat) : Room := { frames := 5, cells := B, slots := W, locals := 104 }
theorem s_X6_find_l2 {x : Cx} {B W : Nat} (F : Fx x cX6_find "LockstepRoom$Parser" 3 (some .int) (rmX6_find B W)) {v0 : Nat} {Q : Int32 → hH → Prop} {K31 : Int32 → hH → Nat → Nat → Prop} {K39 : hH → Nat → Nat → Prop} (n : Nat) (l1 : Int32) (l2 : Int32) (h : hH) (b w cb kb : Nat) (hM : cb + b ≤ B) (hS : kb + w ≤ W) (hk : f_X6_find_l2 x.S.E v0 Q K31 K39 n l1 l2 h b w) (hK31 : ∀ (l2 : Int32) (h : hH) (b w : Nat) (cb kb : Nat), cb + b ≤ B → kb + w ≤ W → K31 l2 h b w → G x (xQ x (rmX6_find B W) (qI Q)) 31 [(2, aI l2)] [] h cb kb) (hK39 : ∀ (h : hH) (b w : Nat) (cb kb : Nat), cb + b ≤ B → kb + w ≤ W → K39 h b w → G x (xQ x (rmX6_find B W) (qI Q)) 39 [] [] h cb kb) : G x (xQ x (rmX6_find B W) (qI Q)) 2 [(0, aR (some v0)), (1, aI l1), (2, aI l2)] [] h cb kb := by
  induction n generalizing l1 l2 h b w cb kb with
  | zero => exact False.elim hk
  | succ n ih =>
    unfold f_X6_find_l2 at hk
    exact g_iload_n F dX6_find_2 rfl 2 rfl <|
g_aload_n F dX6_find_3 rfl 0 rfl <|
g_getR F dX6_find_4 fo_X6_2_LockstepRoom_Parser in_X6 fl_LockstepRoom_Parser_25_X6 hk fun x1 hk =>
g_calli0 (g_V F dX6_find_7 q838 mi_J2_size ct_J2 (rm' := rmJ2_size) ⟨Nat.le_of_ble_eq_true rfl, Nat.le_of_ble_eq_true rfl⟩ ⟨show cb + 0 ≤ B by omega, show kb + 0 ≤ W by omega⟩ (As := []) (rest := [aI l2]) rfl rfl (Nat.le_of_ble_eq_true rfl) hk (fun a5 hk => m_J2_size F.ok a5 h _ hk)) ⟨rfl, rfl⟩ fun x4 h3 hk =>
g_icmp_ge F dX6_find_10 (tgt := 39) rfl (fun hc => have hk := hk.1 hc
G.fewer [] rfl <| hK39 h3 b w (cb) (kb) (by omega) (by omega) hk) (fun hc => have hk := hk.2 hc
g_aload_n F dX6_find_13 rfl 0 rfl <|
g_getR F dX6_find_14 fo_X6_2_LockstepRoom_Parser in_X6 fl_LockstepRoom_Parser_25_X6 hk fun x6 hk =>
g_iload_n F dX6_find_17 rfl 2 rfl <|
g_callr0 (g_V F dX6_find_18 q869 mi_J2_get ct_J2 (rm' := rmJ2_get) ⟨Nat.le_of_ble_eq_true rfl, Nat.le_of_ble_eq_true rfl⟩ ⟨show cb + 0 ≤ B by omega, show kb + 0 ≤ W by omega⟩ (As := [aI l2]) (rest := []) rfl rfl (Nat.le_of_ble_eq_true rfl) hk (fun a10 hk => m_J2_get F.ok a10 l2 h3 _ hk)) ⟨rfl, rfl⟩ fun x9 h8 hk =>
g_castS F dX6_find_21 q881 ct_J20 hk fun hk =>
g_calli0 (g_V F dX6_find_24 q882 mi_J20_intValue ct_J20 (rm' := rmJ20_intValue) ⟨Nat.le_of_ble_eq_true rfl, Nat.le_of_ble_eq_true rfl⟩ ⟨show cb + 0 ≤ B by omega, show kb + 0 ≤ W by omega⟩ (As := []) (rest := []) rfl rfl (Nat.le_of_ble_eq_true rfl) hk (fun a14 hk => m_J20_intValue F.ok a14 h8 _ hk)) ⟨rfl, rfl⟩ fun x13 h12 hk =>
g_iload_n F dX6_find_27 rfl 1 rfl <|
g_icmp_ne F dX6_find_28 (tgt := 33) rfl (fun hc => have hk := hk.2 hc
g_iinc (v := (l2 + (1:Int32))) F dX6_find_33 (j := 2) rfl (iinc_1 l2) (Nat.le_of_ble_eq_true rfl) rfl <|
g_goto F dX6_find_36 (tgt := 2) rfl <|
G.fewer [1, 2, 0] rfl <| ih l1 (l2 + (1:Int32)) h12 b w (cb) (kb) (by omega) (by omega) hk) (fun hc => have hk := hk.1 hc
G.fewer [2] rfl <| hK31 l2 h12 b w (cb) (kb) (by omega) (by omega) hk))
theorem m_X6_find {S : Sx} (hS0 : Sok S) (B W : Nat) (v0 : Nat) (v1 : Int32) (h : hH) (Q : Int32 → hH → Prop) (hk : f_X6_find S.E B W v0 v1 h Q) : Ct S yX6_find (ws_ yX6_find cX6_find 3 (some .int)) (rmX6_find B W) ([aR (some v0), aI v1].map vv) h (qI Q) := by
  refine Ct.of hS0 (by decide +kernel) rfl (Nat.le_of_ble_eq_true rfl) fun x hxS F hnm => ?_
  subst hxS
  unfold f_X6_find at hk
  have key : ∀ cb kb : Nat, cb + B ≤ B → kb + W ≤ W → G x (xQ x (rmX6_find B W) (qI Q)) 0 (aArgs 0 [aR (some v0), aI v1]) [] h cb kb := fun cb kb hM hS =>
g_iconst F dX6_find_0 ic_0 <|
g_istore_n F dX6_find_1 rfl (Nat.le_of_ble_eq_true rfl) rfl <|
G.fewer [1, 2, 0] rfl <| s_X6_find_l2 F 1000000 v1 (0:Int32) h B W (cb) (kb) (by omega) (by omega) hk ((fun l2 h b w cb kb hM hS hk => g_iload_n F dX6_find_31 rfl 0 rfl <|
g_iret F dX6_find_32 (show cb ≤ B by omega) (show kb ≤ W by omega) hk)) ((fun h b w cb kb hM hS hk => g_iconst F dX6_find_39 ic_m1 <|
g_iret F dX6_find_40 (show cb ≤ B by omega) (show kb ≤ W by omega) hk))
  exact key 0 0 (by omega) (by omega)
abbrev rmX6_member (B W : Nat) : Room := { frames := 9, cells := B, slots := W, locals := 194 }
theorem s_X6_member_j20 {x : Cx} {B W : Nat} (F : Fx x cX6_member "LockstepRoom$Parser" 2 (some .int) (rmX6_member B W)) {v0 : Nat} (hno : NoH x) {Q : Int32 → hH → Prop} {X : String → Nat → hH → Prop} (s0 : Option Nat) (s1 : Int32) (l1 : Int32) (h : hH) (b w cb kb : Nat) (hM : cb + b ≤ B) (hS : kb + w ≤ W) (hk : f_X6_member_j20 x.S.E v0 Q X s0 s1 l1 h b w) : G x (xQX x (rmX6_member B W) (qI Q) X) 20 [(0, aR (some v0)), (1, aI l1)] [aI s1, aR s0] h cb kb := by
  unfold f_X6_member_j20 at hk
  exact g_bipush F dX6_member_20 bp_m13 <|
Exists.elim hk fun b2 hk => Exists.elim hk fun w3 hk => have hb1 := hk.1
have hk := hk.2
x_callv (x_V F dX6_member_22 q758 mi_X6_require ct_X6 (rm' := (rmX6_require b2 w3)) ⟨Nat.le_of_ble_eq_true rfl, Nat.le_of_ble_eq_true rfl⟩ ⟨show cb + b2 ≤ B by omega, show kb + w3 ≤ W by omega⟩ (As := [aI s1, aI (-13:Int32)]) (rest := []) rfl rfl (Nat.le_of_ble_eq_true rfl) hk (fun a5 hk => m_X6_require F.ok b2 w3 a5 s1 (-13:Int32) h _ _ hk)) (fun _ _ _ hx => GT.out F hno.cov (show cb + b2 ≤ B by omega) (show kb + w3 ≤ W by omega) hx) fun h4 hk =>
g_aload_n F dX6_member_25 rfl 0 rfl <|
Exists.elim hk fun b7 hk => Exists.elim hk fun w8 hk => have hb6 := hk.1
have hk := hk.2
g_callv (g_V F dX6_member_26 q506 mi_X6_advance ct_X6 (rm' := (rmX6_advance b7 w8)) ⟨Nat.le_of_ble_eq_true rfl, Nat.le_of_ble_eq_true rfl⟩ ⟨show cb + b2 + b7 ≤ B by omega, show kb + w3 + w8 ≤ W by omega⟩ (As := []) (rest := []) rfl rfl (Nat.le_of_ble_eq_true rfl) hk (fun a10 hk => m_X6_advance F.ok b7 w8 a10 h4 _ hk)) fun h9 hk =>
g_iload_n F dX6_member_29 rfl 1 rfl <|
G.toX <| g_iret F dX6_member_30 (show cb + b2 + b7 ≤ B by omega) (show kb + w3 + w8 ≤ W by omega) hk
theorem m_X6_member {S : Sx} (hS0 : Sok S) (B W : Nat) (v0 : Nat) (h : hH) (Q : Int32 → hH → Prop) (X : String → Nat → hH → Prop) (hk : f_X6_member S.E B W v0 h Q X) : CtX S yX6_member (ws_ yX6_member cX6_member 2 (some .int)) (rmX6_member B W) ([aR (some v0)].map vv) h (qI Q) X := by
  refine CtX.of hS0 (by decide +kernel) rfl (Nat.le_of_ble_eq_true rfl) fun x hxS F hnm hno => ?_
  subst hxS
  unfold f_X6_member at hk
  have key : ∀ cb kb : Nat, cb + B ≤ B → kb + W ≤ W → G x (xQX x (rmX6_member B W) (qI Q) X) 0 (aArgs 0 [aR (some v0)]) [] h cb kb := fun cb kb hM hS =>
g_aload_n F dX6_member_0 rfl 0 rfl <|
g_aload_n F dX6_member_1 rfl 0 rfl <|
Exists.elim hk fun b12 hk => Exists.elim hk fun w13 hk => have hb11 := hk.1
have hk := hk.2
x_calli (x_V F dX6_member_2 q842 mi_X6_name ct_X6 (rm' := (rmX6_name b12 w13)) ⟨Nat.le_of_ble_eq_true rfl, Nat.le_of_ble_eq_true rfl⟩ ⟨show cb + b12 ≤ B by omega, show kb + w13 ≤ W by omega⟩ (As := []) (rest := [aR (some v0)]) rfl rfl (Nat.le_of_ble_eq_true rfl) hk (fun a16 hk => m_X6_name F.ok b12 w13 a16 h _ _ hk)) (fun _ _ _ hx => GT.out F hno.cov (show cb + b12 ≤ B by omega) (show kb + w13 ≤ W by omega) hx) fun x15 h14 hk =>
Exists.elim hk fun b18 hk => Exists.elim hk fun w19 hk => have hb17 := hk.1
have hk := hk.2
g_calli (g_V F dX6_member_5 q865 mi_X6_find ct_X6 (rm' := (rmX6_find b18 w19)) ⟨Nat.le_of_ble_eq_true rfl, Nat.le_of_ble_eq_true rfl⟩ ⟨show cb + b12 + b18 ≤ B by omega, show kb + w13 + w19 ≤ W by omega⟩ (As := [aI x15]) (rest := []) rfl rfl (Nat.le_of_ble_eq_true rfl) hk (fun a22 hk => m_X6_find F.ok b18 w19 a22 x15 h14 _ hk)) fun x21 h20 hk =>
g_istore_n F dX6_member_8 rfl (Nat.le_of_ble_eq_true rfl) rfl <|
g_aload_n F dX6_member_9 rfl 1 rfl <|
g_iload_n F dX6_member_10 rfl 0 rfl <|
g_iconst F dX6_member_11 ic_m1 <|
g_icmp_eq F dX6_member_12 (tgt := 19) rfl (fun hc => have hk := hk.1 hc
g_iconst F dX6_member_19 ic_0 <|
G.fewer [1, 0] rfl <| s_X6_member_j20 F hno (some v0) (0:Int32) x21 h20 ((B - b12) - b18) ((W - w13) - w19) (cb + b12 + b18) (kb + w13 + w19) (by omega) (by omega) hk ) (fun hc => have hk := hk.2 hc
g_iconst F dX6_member_15 ic_1 <|
g_goto F dX6_member_16 (tgt := 20) rfl <|
G.fewer [1, 0] rfl <| s_X6_member_j20 F hno (some v0) (1:Int32) x21 h20 ((B - b12) - b18) ((W - w13) - w19) (cb + b12 + b18) (kb + w13 + w19) (by omega) (by omega) hk )
  exact key 0 0 (by omega) (by omega)
abbrev rmX6_parseFault (B W : Nat) : Room := { frames := 10, cells := B, slots := W, locals := 217 }
theorem m_X6_parseFault {S : Sx} (hS0 : Sok S) (B W : Nat) (v0 : Nat) (h : hH) (Q : hH → Prop) (X : String → Nat → hH → Prop) (hk : f_X6_parseFault S.E B W v0 h Q X) : CtX S yX6_parseFault (ws_ yX6_parseFault cX6_parseFault 4 none) (rmX6_parseFault B W) ([aR (some v0)].map vv) h (qV Q) X := by
  refine CtX.of hS0 (by decide +kernel) rfl (Nat.le_of_ble_eq_true rfl) fun x hxS F hnm hno => ?_
  subst hxS
  unfold f_X6_parseFault at hk
  have key : ∀ cb kb : Nat, cb + B ≤ B → kb + W ≤ W → G x (xQX x (rmX6_parseFault B W) (qV Q) X) 0 (aArgs 0 [aR (some v0)]) [] h cb kb := fun cb kb hM hS =>
g_aload_n F dX6_parseFault_0 rfl 0 rfl <|
Exists.elim hk fun b2 hk => Exists.elim hk fun w3 hk => have hb1 := hk.1
have hk := hk.2
x_calli (x_V F dX6_parseFault_1 q985 mi_X6_member ct_X6 (rm' := (rmX6_member b2 w3)) ⟨Nat.le_of_ble_eq_true rfl, Nat.le_of_ble_eq_true rfl⟩ ⟨show cb + b2 ≤ B by omega, show kb + w3 ≤ W by omega⟩ (As := []) (rest := []) rfl rfl (Nat.le_of_ble_eq_true rfl) hk (fun a6 hk => m_X6_member F.ok b2 w3 a6 h _ _ hk)) (fun _ _ _ hx => GT.out F hno.cov (show cb + b2 ≤ B by omega) (show kb + w3 ≤ W by omega) hx) fun x5 h4 hk =>
g_istore_n F dX6_parseFault_4 rfl (Nat.le_of_ble_eq_true rfl) rfl <|
g_aload_n F dX6_parseFault_5 rfl 1 rfl <|
g_iconst F dX6_parseFault_6 ic_0 <|
g_bipush F dX6_parseFault_7 bp_39 <|
Exists.elim hk fun b8 hk => Exists.elim hk fun w9 hk => have hb7 := hk.1
have hk := hk.2
x_calli (x_V F dX6_parseFault_9 q833 mi_X6_integer ct_X6 (rm' := (rmX6_integer b8 w9)) ⟨Nat.le_of_ble_eq_true rfl, Nat.le_of_ble_eq_true rfl⟩ ⟨show cb + b2 + b8 ≤ B by omega, show kb + w3 + w9 ≤ W by omega⟩ (As := [aI (0:Int32), aI (39:Int32)]) (rest := []) rfl rfl (Nat.le_of_ble_eq_true rfl) hk (fun a12 hk => m_X6_integer F.ok b8 w9 a12 (0:Int32) (39:Int32) h4 _ _ hk)) (fun _ _ _ hx => GT.out F hno.cov (show cb + b2 + b8 ≤ B by omega) (show kb + w3 + w9 ≤ W by omega) hx) fun x11 h10 hk =>
g_istore_n F dX6_parseFault_12 rfl (Nat.le_of_ble_eq_true rfl) rfl <|
g_aload_n F dX6_parseFault_13 rfl 2 rfl <|
g_iconst F dX6_parseFault_14 ic_0 <|
g_bipush F dX6_parseFault_15 bp_15 <|
Exists.elim hk fun b14 hk => Exists.elim hk fun w15 hk => have hb13 := hk.1
have hk := hk.2
x_calli (x_V F dX6_parseFault_17 q833 mi_X6_integer ct_X6 (rm' := (rmX6_integer b14 w15)) ⟨Nat.le_of_ble_eq_true rfl, Nat.le_of_ble_eq_true rfl⟩ ⟨show cb + b2 + b8 + b14 ≤ B by omega, show kb + w3 + w9 + w15 ≤ W by omega⟩ (As := [aI (0:Int32), aI (15:Int32)]) (rest := []) rfl rfl (Nat.le_of_ble_eq_true rfl) hk (fun a18 hk => m_X6_integer F.ok b14 w15 a18 (0:Int32) (15:Int32) h10 _ _ hk)) (fun _ _ _ hx => GT.out F hno.cov (show cb + b2 + b8 + b14 ≤ B by omega) (show kb + w3 + w9 + w15 ≤ W by omega) hx) fun x17 h16 hk =>
g_istore_n F dX6_parseFault_20 rfl (Nat.le_of_ble_eq_true rfl) rfl <|
g_aload_n F dX6_parseFault_21 rfl 3 rfl <|
g_getR F dX6_parseFault_22 fo_X6_1_LockstepRoom_Parser in_X6 fl_LockstepRoom_Parser_18_X6 hk fun x19 hk =>
g_getR F dX6_parseFault_25 fo_X2_6_LockstepRoom_Room in_X2 fl_LockstepRoom_Parser_217_X2 hk fun x20 hk =>
have hb21 := hk.1
have hk := hk.2
g_new (fs := [.int 0, .int 0, .int 0, .int 0]) F dX6_parseFault_28 ck_X9 ct_X9 q1321 q1322 q146 df_X9 (show cb + b2 + b8 + b14 + 1 ≤ B by omega) (show kb + w3 + w9 + w15 + 4 ≤ W by omega) hk fun q22 h23 hk =>
g_dup F dX6_parseFault_31 rfl <|
g_iload_n F dX6_parseFault_32 rfl 2 rfl <|
g_iload_n F dX6_parseFault_33 rfl 1 rfl <|
g_iload_n F dX6_parseFault_34 rfl 0 rfl <|
g_aload_n F dX6_parseFault_35 rfl 3 rfl <|
g_iconst F dX6_parseFault_36 ic_1 <|
g_sipush F dX6_parseFault_37 sp_9999 <|
Exists.elim hk fun b25 hk => Exists.elim hk fun w26 hk => have hb24 := hk.1
have hk := hk.2
x_calli (x_V F dX6_parseFault_40 q833 mi_X6_integer ct_X6 (rm' := (rmX6_integer b25 w26)) ⟨Nat.le_of_ble_eq_true rfl, Nat.le_of_ble_eq_true rfl⟩ ⟨show cb + b2 + b8 + b14 + 1 + b25 ≤ B by omega, show kb + w3 + w9 + w15 + 4 + w26 ≤ W by omega⟩ (As := [aI (1:Int32), aI (9999:Int32)]) (rest := [aI x17, aI x11, aI x5, aR (some q22), aR (some q22), aR x20]) rfl rfl (Nat.le_of_ble_eq_true rfl) hk (fun a29 hk => m_X6_integer F.ok b25 w26 a29 (1:Int32) (9999:Int32) h23 _ _ hk)) (fun _ _ _ hx => GT.out F hno.cov (show cb + b2 + b8 + b14 + 1 + b25 ≤ B by omega) (show kb + w3 + w9 + w15 + 4 + w26 ≤ W by omega) hx) fun x28 h27 hk =>
g_callv0 (g_I F dX6_parseFault_43 q1323 mc_X9_init (rm' := rmX9_init) ⟨Nat.le_of_ble_eq_true rfl, Nat.le_of_ble_eq_true rfl⟩ ⟨show cb + b2 + b8 + b14 + 1 + b25 + 0 ≤ B by omega, show kb + w3 + w9 + w15 + 4 + w26 + 0 ≤ W by omega⟩ (As := [aI x5, aI x11, aI x17, aI x28]) (rest := [aR (some q22), aR x20]) rfl rfl (Nat.le_of_ble_eq_true rfl) (m_X9_init F.ok q22 x5 x11 x17 x28 h27 _ hk)) ⟨rfl, rfl⟩ fun h31 hk =>
have hb32 := hk.1
have hk := hk.2
g_calli (g_V F dX6_parseFault_46 q906 mi_J2_add ct_J2 (rm' := rmJ2_add) ⟨Nat.le_of_ble_eq_true rfl, Nat.le_of_ble_eq_true rfl⟩ ⟨show cb + b2 + b8 + b14 + 1 + b25 + 1 ≤ B by omega, show kb + w3 + w9 + w15 + 4 + w26 + 64 ≤ W by omega⟩ (As := [aR (some q22)]) (rest := []) rfl rfl (Nat.le_of_ble_eq_true rfl) hk (fun a35 hk => m_J2_add F.ok a35 (some q22) h31 _ hk)) fun x34 h33 hk =>
g_pop F dX6_parseFault_49 rfl <|
G.toX <| g_vret F dX6_parseFault_50 (show cb + b2 + b8 + b14 + 1 + b25 + 1 ≤ B by omega) (show kb + w3 + w9 + w15 + 4 + w26 + 64 ≤ W by omega) hk
  exact key 0 0 (by omega) (by omega)
abbrev rmX6_parseCommand (B W : Nat) : Room := { frames := 10, cells := B, slots := W, locals := 219 }
theorem s_X6_parseCommand_j277 {x : Cx} {B W : Nat} (F : Fx x cX6_parseCommand "LockstepRoom$Parser" 5 none (rmX6_parseCommand B W)) {v0 : Nat} (hno : NoH x) {Q : hH → Prop} {X : String → Nat → hH → Prop} (s0 : Option Nat) (s1 : Int32) (s2 : Int32) (s3 : Int32) (s4 : Option Nat) (s5 : Int32) (s6 : Int32) (h : hH) (b w cb kb : Nat) (hM : cb + b ≤ B) (hS : kb + w ≤ W) (hk : f_X6_parseCommand_j277 x.S.E v0 Q X s0 s1 s2 s3 s4 s5 s6 h b w) : G x (xQX x (rmX6_parseCommand B W) (qV Q) X) 277 [] [aI s6, aI s5, aR s4, aI s3, aI s2, aI s1, aR s0] h cb kb := by
  unfold f_X6_parseCommand_j277 at hk
  exact Exists.elim hk fun b2 hk => Exists.elim hk fun w3 hk => have hb1 := hk.1
have hk := hk.2
x_calli (x_V F dX6_parseCommand_277 q833 mi_X6_integer ct_X6 (rm' := (rmX6_integer b2 w3)) ⟨Nat.le_of_ble_eq_true rfl, Nat.le_of_ble_eq_true rfl⟩ ⟨show cb + b2 ≤ B by omega, show kb + w3 ≤ W by omega⟩ (As := [aI s5, aI s6]) (rest := [aI s3, aI s2, aI s1, aR s0]) rfl rfl (Nat.le_of_ble_eq_true rfl) hk (fun a6 hk => m_X6_integer F.ok b2 w3 a6 s5 s6 h _ _ hk)) (fun _ _ _ hx => GT.out F hno.cov (show cb + b2 ≤ B by omega) (show kb + w3 ≤ W by omega) hx) fun x5 h4 hk =>
have hb7 := hk.1
have hk := hk.2
g_calli (g_V F dX6_parseCommand_280 q995 mi_X2_give ct_X2 (rm' := rmX2_give) ⟨Nat.le_of_ble_eq_true rfl, Nat.le_of_ble_eq_true rfl⟩ ⟨show cb + b2 + 1 ≤ B by omega, show kb + w3 + 5 ≤ W by omega⟩ (As := [aI s1, aI s2, aI s3, aI x5]) (rest := []) rfl rfl (Nat.le_of_ble_eq_true rfl) hk (fun a10 hk => m_X2_give F.ok a10 s1 s2 s3 x5 h4 _ hk)) fun x9 h8 hk =>
g_istore F dX6_parseCommand_283 (Nat.le_of_ble_eq_true rfl) rfl <|
G.toX <| g_vret F dX6_parseCommand_285 (show cb + b2 + 1 ≤ B by omega) (show kb + w3 + 5 ≤ W by omega) hk
theorem s_X6_parseCommand_j269 {x : Cx} {B W : Nat} (F : Fx x cX6_parseCommand "LockstepRoom$Parser" 5 none (rmX6_parseCommand B W)) {v0 : Nat} (hno : NoH x) {Q : hH → Prop} {X : String → Nat → hH → Prop} (s0 : Option Nat) (s1 : Int32) (s2 : Int32) (s3 : Int32) (s4 : Option Nat) (s5 : Int32) (h : hH) (b w cb kb : Nat) (hM : cb + b ≤ B) (hS : kb + w ≤ W) (hk : f_X6_parseCommand_j269 x.S.E v0 Q X s0 s1 s2 s3 s4 s5 h b w) : G x (xQX x (rmX6_parseCommand B W) (qV Q) X) 269 [] [aI s5, aR s4, aI s3, aI s2, aI s1, aR s0] h cb kb := by
  unfold f_X6_parseCommand_j269 at hk
  exact g_sipush F dX6_parseCommand_269 sp_9999 <|
g_goto F dX6_parseCommand_272 (tgt := 277) rfl <|
s_X6_parseCommand_j277 F hno s0 s1 s2 s3 s4 s5 (9999:Int32) h b w (cb) (kb) (by omega) (by omega) hk 
theorem s_X6_parseCommand_j238 {x : Cx} {B W : Nat} (F : Fx x cX6_parseCommand "LockstepRoom$Parser" 5 none (rmX6_parseCommand B W)) {v0 : Nat} (hno : NoH x) {Q : hH → Prop} {X : String → Nat → hH → Prop} (s0 : Int32) (l1 : Int32) (h : hH) (b w cb kb : Nat) (hM : cb + b ≤ B) (hS : kb + w ≤ W) (hk : f_X6_parseCommand_j238 x.S.E v0 Q X s0 l1 h b w) : G x (xQX x (rmX6_parseCommand B W) (qV Q) X) 238 [(0, aR (some v0)), (1, aI l1)] [aI s0] h cb kb := by
  unfold f_X6_parseCommand_j238 at hk
  exact g_istore_n F dX6_parseCommand_238 rfl (Nat.le_of_ble_eq_true rfl) rfl <|
g_aload_n F dX6_parseCommand_239 rfl 1 rfl <|
Exists.elim hk fun b12 hk => Exists.elim hk fun w13 hk => have hb11 := hk.1
have hk := hk.2
g_callv (g_V F dX6_parseCommand_240 q506 mi_X6_advance ct_X6 (rm' := (rmX6_advance b12 w13)) ⟨Nat.le_of_ble_eq_true rfl, Nat.le_of_ble_eq_true rfl⟩ ⟨show cb + b12 ≤ B by omega, show kb + w13 ≤ W by omega⟩ (As := []) (rest := []) rfl rfl (Nat.le_of_ble_eq_true rfl) hk (fun a15 hk => m_X6_advance F.ok b12 w13 a15 h _ hk)) fun h14 hk =>
g_aload_n F dX6_parseCommand_243 rfl 1 rfl <|
g_iconst F dX6_parseCommand_244 ic_0 <|
g_bipush F dX6_parseCommand_245 bp_15 <|
Exists.elim hk fun b17 hk => Exists.elim hk fun w18 hk => have hb16 := hk.1
have hk := hk.2
x_calli (x_V F dX6_parseCommand_247 q833 mi_X6_integer ct_X6 (rm' := (rmX6_integer b17 w18)) ⟨Nat.le_of_ble_eq_true rfl, Nat.le_of_ble_eq_true rfl⟩ ⟨show cb + b12 + b17 ≤ B by omega, show kb + w13 + w18 ≤ W by omega⟩ (As := [aI (0:Int32), aI (15:Int32)]) (rest := []) rfl rfl (Nat.le_of_ble_eq_true rfl) hk (fun a21 hk => m_X6_integer F.ok b17 w18 a21 (0:Int32) (15:Int32) h14 _ _ hk)) (fun _ _ _ hx => GT.out F hno.cov (show cb + b12 + b17 ≤ B by omega) (show kb + w13 + w18 ≤ W by omega) hx) fun x20 h19 hk =>
g_istore_n F dX6_parseCommand_250 rfl (Nat.le_of_ble_eq_true rfl) rfl <|
g_aload_n F dX6_parseCommand_251 rfl 2 rfl <|
g_getR F dX6_parseCommand_252 fo_X6_1_LockstepRoom_Parser in_X6 fl_LockstepRoom_Parser_18_X6 hk fun x22 hk =>
g_iload_n F dX6_parseCommand_255 rfl 3 rfl <|
g_iload_n F dX6_parseCommand_256 rfl 1 rfl <|
g_iload_n F dX6_parseCommand_257 rfl 0 rfl <|
g_aload_n F dX6_parseCommand_258 rfl 2 rfl <|
g_iconst F dX6_parseCommand_259 ic_0 <|
g_iload_n F dX6_parseCommand_260 rfl 1 rfl <|
g_if_eq F dX6_parseCommand_261 (tgt := 269) rfl (fun hc => have hk := hk.1 hc
G.fewer [] rfl <| s_X6_parseCommand_j269 F hno x22 l1 s0 x20 (some v0) (0:Int32) h19 ((b - b12) - b17) ((w - w13) - w18) (cb + b12 + b17) (kb + w13 + w18) (by omega) (by omega) hk ) (fun hc => have hk := hk.2 hc
g_iload_n F dX6_parseCommand_264 rfl 1 rfl <|
g_iconst F dX6_parseCommand_265 ic_1 <|
g_icmp_ne F dX6_parseCommand_266 (tgt := 275) rfl (fun hc => have hk := hk.2 hc
g_bipush F dX6_parseCommand_275 bp_15 <|
G.fewer [] rfl <| s_X6_parseCommand_j277 F hno x22 l1 s0 x20 (some v0) (0:Int32) (15:Int32) h19 ((b - b12) - b17) ((w - w13) - w18) (cb + b12 + b17) (kb + w13 + w18) (by omega) (by omega) hk ) (fun hc => have hk := hk.1 hc
G.fewer [] rfl <| s_X6_parseCommand_j269 F hno x22 l1 s0 x20 (some v0) (0:Int32) h19 ((b - b12) - b17) ((w - w13) - w18) (cb + b12 + b17) (kb + w13 + w18) (by omega) (by omega) hk ))
theorem s_X6_parseCommand_j163 {x : Cx} {B W : Nat} (F : Fx x cX6_parseCommand "LockstepRoom$Parser" 5 none (rmX6_parseCommand B W)) {v0 : Nat} (hno : NoH x) {Q : hH → Prop} {X : String → Nat → hH → Prop} (l1 : Int32) (l4 : Int32) (h : hH) (b w cb kb : Nat) (hM : cb + b ≤ B) (hS : kb + w ≤ W) (hk : f_X6_parseCommand_j163 x.S.E v0 Q X l1 l4 h b w) : G x (xQX x (rmX6_parseCommand B W) (qV Q) X) 163 [(0, aR (some v0)), (1, aI l1), (4, aI l4)] [] h cb kb := by
  unfold f_X6_parseCommand_j163 at hk
  exact g_iload F dX6_parseCommand_163 2 rfl <|
if hc0 : l4 = (0:Int32) then (have hk := hk.1 hc0
g_tableIn (tgt := 204) (off := 39) F dX6_parseCommand_165 (by rw [hc0]; decide) (by rw [hc0]; decide) (by rw [hc0]; rfl) rfl <|
g_iconst F dX6_parseCommand_204 ic_0 <|
g_goto F dX6_parseCommand_205 (tgt := 238) rfl <|
G.fewer [0, 1] rfl <| s_X6_parseCommand_j238 F hno (0:Int32) l1 h b w (cb) (kb) (by omega) (by omega) hk ) else have hk := hk.2 hc0
if hc1 : l4 = (1:Int32) then (have hk := hk.1 hc1
g_tableIn (tgt := 208) (off := 43) F dX6_parseCommand_165 (by rw [hc1]; decide) (by rw [hc1]; decide) (by rw [hc1]; rfl) rfl <|
g_iconst F dX6_parseCommand_208 ic_1 <|
g_goto F dX6_parseCommand_209 (tgt := 238) rfl <|
G.fewer [0, 1] rfl <| s_X6_parseCommand_j238 F hno (1:Int32) l1 h b w (cb) (kb) (by omega) (by omega) hk ) else have hk := hk.2 hc1
if hc2 : l4 = (2:Int32) then (have hk := hk.1 hc2
g_tableIn (tgt := 212) (off := 47) F dX6_parseCommand_165 (by rw [hc2]; decide) (by rw [hc2]; decide) (by rw [hc2]; rfl) rfl <|
g_iconst F dX6_parseCommand_212 ic_2 <|
g_goto F dX6_parseCommand_213 (tgt := 238) rfl <|
G.fewer [0, 1] rfl <| s_X6_parseCommand_j238 F hno (2:Int32) l1 h b w (cb) (kb) (by omega) (by omega) hk ) else have hk := hk.2 hc2
if hc3 : l4 = (3:Int32) then (have hk := hk.1 hc3
g_tableIn (tgt := 216) (off := 51) F dX6_parseCommand_165 (by rw [hc3]; decide) (by rw [hc3]; decide) (by rw [hc3]; rfl) rfl <|
g_iconst F dX6_parseCommand_216 ic_3 <|
g_goto F dX6_parseCommand_217 (tgt := 238) rfl <|
G.fewer [0, 1] rfl <| s_X6_parseCommand_j238 F hno (3:Int32) l1 h b w (cb) (kb) (by omega) (by omega) hk ) else have hk := hk.2 hc3
if hc4 : l4 = (4:Int32) then (have hk := hk.1 hc4
g_tableIn (tgt := 220) (off := 55) F dX6_parseCommand_165 (by rw [hc4]; decide) (by rw [hc4]; decide) (by rw [hc4]; rfl) rfl <|
g_iconst F dX6_parseCommand_220 ic_4 <|
g_goto F dX6_parseCommand_221 (tgt := 238) rfl <|
G.fewer [0, 1] rfl <| s_X6_parseCommand_j238 F hno (4:Int32) l1 h b w (cb) (kb) (by omega) (by omega) hk ) else have hk := hk.2 hc4
if hc5 : l4 = (5:Int32) then (have hk := hk.1 hc5
g_tableIn (tgt := 224) (off := 59) F dX6_parseCommand_165 (by rw [hc5]; decide) (by rw [hc5]; decide) (by rw [hc5]; rfl) rfl <|
g_iconst F dX6_parseCommand_224 ic_5 <|
g_goto F dX6_parseCommand_225 (tgt := 238) rfl <|
G.fewer [0, 1] rfl <| s_X6_parseCommand_j238 F hno (5:Int32) l1 h b w (cb) (kb) (by omega) (by omega) hk ) else have hk := hk.2 hc5
g_tableOut (tgt := 228) F dX6_parseCommand_165 (sw_out_0_1_2_3_4_5 hc0 hc1 hc2 hc3 hc4 hc5) rfl <|
have hb23 := hk.1
have hk := hk.2
g_new (fs := [va_rf none, va_rf none, va_rf none, va_rf none, va_rf none, .int 0, .int 0]) F dX6_parseCommand_228 ck_X7 ct_X7 q762 q763 q137 df_X7 (show cb + 1 ≤ B by omega) (show kb + 7 ≤ W by omega) hk fun q24 h25 hk =>
g_dup F dX6_parseCommand_231 rfl <|
g_bipush F dX6_parseCommand_232 bp_m11 <|
g_callv0 (g_I F dX6_parseCommand_234 q803 mc_X7_init (rm' := rmX7_init) ⟨Nat.le_of_ble_eq_true rfl, Nat.le_of_ble_eq_true rfl⟩ ⟨show cb + 1 + 0 ≤ B by omega, show kb + 7 + 0 ≤ W by omega⟩ (As := [aI (-11:Int32)]) (rest := [aR (some q24)]) rfl rfl (Nat.le_of_ble_eq_true rfl) (m_X7_init F.ok q24 (-11:Int32) h25 _ hk)) ⟨rfl, rfl⟩ fun h27 hk =>
g_throwO F dX6_parseCommand_237 ct_X7 hk fun _ hk => GT.out F hno.cov (show cb + 1 ≤ B by omega) (show kb + 7 ≤ W by omega) hk
theorem m_X6_parseCommand {S : Sx} (hS0 : Sok S) (B W : Nat) (v0 : Nat) (h : hH) (Q : hH → Prop) (X : String → Nat → hH → Prop) (hk : f_X6_parseCommand S.E B W v0 h Q X) : CtX S yX6_parseCommand (ws_ yX6_parseCommand cX6_parseCommand 5 none) (rmX6_parseCommand B W) ([aR (some v0)].map vv) h (qV Q) X := by
  refine CtX.of hS0 (by decide +kernel) rfl (Nat.le_of_ble_eq_true rfl) fun x hxS F hnm hno => ?_
  subst hxS
  unfold f_X6_parseCommand at hk
  have key : ∀ cb kb : Nat, cb + B ≤ B → kb + W ≤ W → G x (xQX x (rmX6_parseCommand B W) (qV Q) X) 0 (aArgs 0 [aR (some v0)]) [] h cb kb := fun cb kb hM hS =>
g_aload_n F dX6_parseCommand_0 rfl 0 rfl <|
Exists.elim hk fun b30 hk => Exists.elim hk fun w31 hk => have hb29 := hk.1
have hk := hk.2
x_calli (x_V F dX6_parseCommand_1 q985 mi_X6_member ct_X6 (rm' := (rmX6_member b30 w31)) ⟨Nat.le_of_ble_eq_true rfl, Nat.le_of_ble_eq_true rfl⟩ ⟨show cb + b30 ≤ B by omega, show kb + w31 ≤ W by omega⟩ (As := []) (rest := []) rfl rfl (Nat.le_of_ble_eq_true rfl) hk (fun a34 hk => m_X6_member F.ok b30 w31 a34 h _ _ hk)) (fun _ _ _ hx => GT.out F hno.cov (show cb + b30 ≤ B by omega) (show kb + w31 ≤ W by omega) hx) fun x33 h32 hk =>
g_istore_n F dX6_parseCommand_4 rfl (Nat.le_of_ble_eq_true rfl) rfl <|
g_aload_n F dX6_parseCommand_5 rfl 1 rfl <|
g_getR F dX6_parseCommand_6 fo_X6_9_LockstepRoom_Parser in_X6 fl_LockstepRoom_Parser_51_X6 hk fun x35 hk =>
g_astore_n F dX6_parseCommand_9 rfl (Nat.le_of_ble_eq_true rfl) rfl <|
g_iconst F dX6_parseCommand_10 ic_m1 <|
g_istore F dX6_parseCommand_11 (Nat.le_of_ble_eq_true rfl) rfl <|
g_aload_n F dX6_parseCommand_13 rfl 1 rfl <|
g_calli0 (g_V F dX6_parseCommand_14 q691 mi_J8_hashCode ct_J8 (rm' := rmJ8_hashCode) ⟨Nat.le_of_ble_eq_true rfl, Nat.le_of_ble_eq_true rfl⟩ ⟨show cb + b30 + 0 ≤ B by omega, show kb + w31 + 0 ≤ W by omega⟩ (As := []) (rest := []) rfl rfl (Nat.le_of_ble_eq_true rfl) hk (fun a39 hk => m_J8_hashCode F.ok a39 h32 _ hk)) ⟨rfl, rfl⟩ fun x38 h37 hk =>
if hc96417 : x38 = (96417:Int32) then (have hk := hk.1 hc96417
g_lookup (off := 74) (tgt := 91) F dX6_parseCommand_17 (by decide) (by rw [hc96417]; decide) rfl <|
g_aload_n F dX6_parseCommand_91 rfl 1 rfl <|
g_ldcS F dX6_parseCommand_92 (sk_28 _) <|
g_calli0 (g_V F dX6_parseCommand_94 q745 mi_J8_equals ct_J8 (rm' := rmJ8_equals) ⟨Nat.le_of_ble_eq_true rfl, Nat.le_of_ble_eq_true rfl⟩ ⟨show cb + b30 + 0 ≤ B by omega, show kb + w31 + 0 ≤ W by omega⟩ (As := [aR (some (x.S.E 28))]) (rest := []) rfl rfl (Nat.le_of_ble_eq_true rfl) hk (fun a43 hk => m_J8_equals F.ok a43 (some (x.S.E 28)) h37 _ hk)) ⟨rfl, rfl⟩ fun x42 h41 hk =>
g_if_eq F dX6_parseCommand_97 (tgt := 163) rfl (fun hc => have hk := hk.1 hc
G.fewer [3, 2, 0] rfl <| s_X6_parseCommand_j163 F hno x33 (-1:Int32) h41 (B - b30) (W - w31) (cb + b30) (kb + w31) (by omega) (by omega) hk ) (fun hc => have hk := hk.2 hc
g_iconst F dX6_parseCommand_100 ic_1 <|
g_istore F dX6_parseCommand_101 (Nat.le_of_ble_eq_true rfl) rfl <|
g_goto F dX6_parseCommand_103 (tgt := 163) rfl <|
G.fewer [3, 2, 0] rfl <| s_X6_parseCommand_j163 F hno x33 (1:Int32) h41 (B - b30) (W - w31) (cb + b30) (kb + w31) (by omega) (by omega) hk )) else have hk := hk.2 hc96417
if hc108484 : x38 = (108484:Int32) then (have hk := hk.1 hc108484
g_lookup (off := 134) (tgt := 151) F dX6_parseCommand_17 (by decide) (by rw [hc108484]; decide) rfl <|
g_aload_n F dX6_parseCommand_151 rfl 1 rfl <|
g_ldcS F dX6_parseCommand_152 (sk_32 _) <|
g_calli0 (g_V F dX6_parseCommand_154 q745 mi_J8_equals ct_J8 (rm' := rmJ8_equals) ⟨Nat.le_of_ble_eq_true rfl, Nat.le_of_ble_eq_true rfl⟩ ⟨show cb + b30 + 0 ≤ B by omega, show kb + w31 + 0 ≤ W by omega⟩ (As := [aR (some (x.S.E 32))]) (rest := []) rfl rfl (Nat.le_of_ble_eq_true rfl) hk (fun a47 hk => m_J8_equals F.ok a47 (some (x.S.E 32)) h37 _ hk)) ⟨rfl, rfl⟩ fun x46 h45 hk =>
g_if_eq F dX6_parseCommand_157 (tgt := 163) rfl (fun hc => have hk := hk.1 hc
G.fewer [3, 2, 0] rfl <| s_X6_parseCommand_j163 F hno x33 (-1:Int32) h45 (B - b30) (W - w31) (cb + b30) (kb + w31) (by omega) (by omega) hk ) (fun hc => have hk := hk.2 hc
g_iconst F dX6_parseCommand_160 ic_5 <|
g_istore F dX6_parseCommand_161 (Nat.le_of_ble_eq_true rfl) rfl <|
G.fewer [3, 2, 0] rfl <| s_X6_parseCommand_j163 F hno x33 (5:Int32) h45 (B - b30) (W - w31) (cb + b30) (kb + w31) (by omega) (by omega) hk )) else have hk := hk.2 hc108484
if hc111375 : x38 = (111375:Int32) then (have hk := hk.1 hc111375
g_lookup (off := 59) (tgt := 76) F dX6_parseCommand_17 (by decide) (by rw [hc111375]; decide) rfl <|
g_aload_n F dX6_parseCommand_76 rfl 1 rfl <|
g_ldcS F dX6_parseCommand_77 (sk_27 _) <|
g_calli0 (g_V F dX6_parseCommand_79 q745 mi_J8_equals ct_J8 (rm' := rmJ8_equals) ⟨Nat.le_of_ble_eq_true rfl, Nat.le_of_ble_eq_true rfl⟩ ⟨show cb + b30 + 0 ≤ B by omega, show kb + w31 + 0 ≤ W by omega⟩ (As := [aR (some (x.S.E 27))]) (rest := []) rfl rfl (Nat.le_of_ble_eq_true rfl) hk (fun a51 hk => m_J8_equals F.ok a51 (some (x.S.E 27)) h37 _ hk)) ⟨rfl, rfl⟩ fun x50 h49 hk =>
g_if_eq F dX6_parseCommand_82 (tgt := 163) rfl (fun hc => have hk := hk.1 hc
G.fewer [3, 2, 0] rfl <| s_X6_parseCommand_j163 F hno x33 (-1:Int32) h49 (B - b30) (W - w31) (cb + b30) (kb + w31) (by omega) (by omega) hk ) (fun hc => have hk := hk.2 hc
g_iconst F dX6_parseCommand_85 ic_0 <|
g_istore F dX6_parseCommand_86 (Nat.le_of_ble_eq_true rfl) rfl <|
g_goto F dX6_parseCommand_88 (tgt := 163) rfl <|
G.fewer [3, 2, 0] rfl <| s_X6_parseCommand_j163 F hno x33 (0:Int32) h49 (B - b30) (W - w31) (cb + b30) (kb + w31) (by omega) (by omega) hk )) else have hk := hk.2 hc111375
if hc114251 : x38 = (114251:Int32) then (have hk := hk.1 hc114251
g_lookup (off := 104) (tgt := 121) F dX6_parseCommand_17 (by decide) (by rw [hc114251]; decide) rfl <|
g_aload_n F dX6_parseCommand_121 rfl 1 rfl <|
g_ldcS F dX6_parseCommand_122 (sk_30 _) <|
g_calli0 (g_V F dX6_parseCommand_124 q745 mi_J8_equals ct_J8 (rm' := rmJ8_equals) ⟨Nat.le_of_ble_eq_true rfl, Nat.le_of_ble_eq_true rfl⟩ ⟨show cb + b30 + 0 ≤ B by omega, show kb + w31 + 0 ≤ W by omega⟩ (As := [aR (some (x.S.E 30))]) (rest := []) rfl rfl (Nat.le_of_ble_eq_true rfl) hk (fun a55 hk => m_J8_equals F.ok a55 (some (x.S.E 30)) h37 _ hk)) ⟨rfl, rfl⟩ fun x54 h53 hk =>
g_if_eq F dX6_parseCommand_127 (tgt := 163) rfl (fun hc => have hk := hk.1 hc
G.fewer [3, 2, 0] rfl <| s_X6_parseCommand_j163 F hno x33 (-1:Int32) h53 (B - b30) (W - w31) (cb + b30) (kb + w31) (by omega) (by omega) hk ) (fun hc => have hk := hk.2 hc
g_iconst F dX6_parseCommand_130 ic_3 <|
g_istore F dX6_parseCommand_131 (Nat.le_of_ble_eq_true rfl) rfl <|
g_goto F dX6_parseCommand_133 (tgt := 163) rfl <|
G.fewer [3, 2, 0] rfl <| s_X6_parseCommand_j163 F hno x33 (3:Int32) h53 (B - b30) (W - w31) (cb + b30) (kb + w31) (by omega) (by omega) hk )) else have hk := hk.2 hc114251
if hc3059573 : x38 = (3059573:Int32) then (have hk := hk.1 hc3059573
g_lookup (off := 89) (tgt := 106) F dX6_parseCommand_17 (by decide) (by rw [hc3059573]; decide) rfl <|
g_aload_n F dX6_parseCommand_106 rfl 1 rfl <|
g_ldcS F dX6_parseCommand_107 (sk_29 _) <|
g_calli0 (g_V F dX6_parseCommand_109 q745 mi_J8_equals ct_J8 (rm' := rmJ8_equals) ⟨Nat.le_of_ble_eq_true rfl, Nat.le_of_ble_eq_true rfl⟩ ⟨show cb + b30 + 0 ≤ B by omega, show kb + w31 + 0 ≤ W by omega⟩ (As := [aR (some (x.S.E 29))]) (rest := []) rfl rfl (Nat.le_of_ble_eq_true rfl) hk (fun a59 hk => m_J8_equals F.ok a59 (some (x.S.E 29)) h37 _ hk)) ⟨rfl, rfl⟩ fun x58 h57 hk =>
g_if_eq F dX6_parseCommand_112 (tgt := 163) rfl (fun hc => have hk := hk.1 hc
G.fewer [3, 2, 0] rfl <| s_X6_parseCommand_j163 F hno x33 (-1:Int32) h57 (B - b30) (W - w31) (cb + b30) (kb + w31) (by omega) (by omega) hk ) (fun hc => have hk := hk.2 hc
g_iconst F dX6_parseCommand_115 ic_2 <|
g_istore F dX6_parseCommand_116 (Nat.le_of_ble_eq_true rfl) rfl <|
g_goto F dX6_parseCommand_118 (tgt := 163) rfl <|
G.fewer [3, 2, 0] rfl <| s_X6_parseCommand_j163 F hno x33 (2:Int32) h57 (B - b30) (W - w31) (cb + b30) (kb + w31) (by omega) (by omega) hk )) else have hk := hk.2 hc3059573
if hc3543443 : x38 = (3543443:Int32) then (have hk := hk.1 hc3543443
g_lookup (off := 119) (tgt := 136) F dX6_parseCommand_17 (by decide) (by rw [hc3543443]; decide) rfl <|
g_aload_n F dX6_parseCommand_136 rfl 1 rfl <|
g_ldcS F dX6_parseCommand_137 (sk_31 _) <|
g_calli0 (g_V F dX6_parseCommand_139 q745 mi_J8_equals ct_J8 (rm' := rmJ8_equals) ⟨Nat.le_of_ble_eq_true rfl, Nat.le_of_ble_eq_true rfl⟩ ⟨show cb + b30 + 0 ≤ B by omega, show kb + w31 + 0 ≤ W by omega⟩ (As := [aR (some (x.S.E 31))]) (rest := []) rfl rfl (Nat.le_of_ble_eq_true rfl) hk (fun a63 hk => m_J8_equals F.ok a63 (some (x.S.E 31)) h37 _ hk)) ⟨rfl, rfl⟩ fun x62 h61 hk =>
g_if_eq F dX6_parseCommand_142 (tgt := 163) rfl (fun hc => have hk := hk.1 hc
G.fewer [3, 2, 0] rfl <| s_X6_parseCommand_j163 F hno x33 (-1:Int32) h61 (B - b30) (W - w31) (cb + b30) (kb + w31) (by omega) (by omega) hk ) (fun hc => have hk := hk.2 hc
g_iconst F dX6_parseCommand_145 ic_4 <|
g_istore F dX6_parseCommand_146 (Nat.le_of_ble_eq_true rfl) rfl <|
g_goto F dX6_parseCommand_148 (tgt := 163) rfl <|
G.fewer [3, 2, 0] rfl <| s_X6_parseCommand_j163 F hno x33 (4:Int32) h61 (B - b30) (W - w31) (cb + b30) (kb + w31) (by omega) (by omega) hk )) else have hk := hk.2 hc3543443
g_lookup (off := 146) (tgt := 163) F dX6_parseCommand_17 (by decide) (by show Op.lookupswitch.offset [(96417, 74), (108484, 134), (111375, 59), (114251, 104), (3059573, 89), (3543443, 119)] _ _ = _; rw [lv_osw hc96417 (k := (96417:Int32)) (by decide), lv_osw hc108484 (k := (108484:Int32)) (by decide), lv_osw hc111375 (k := (111375:Int32)) (by decide), lv_osw hc114251 (k := (114251:Int32)) (by decide), lv_osw hc3059573 (k := (3059573:Int32)) (by decide), lv_osw hc3543443 (k := (3543443:Int32)) (by decide)] <;> rfl) rfl <|
G.fewer [3, 2, 0] rfl <| s_X6_parseCommand_j163 F hno x33 (-1:Int32) h37 (B - b30) (W - w31) (cb + b30) (kb + w31) (by omega) (by omega) hk 
  exact key 0 0 (by omega) (by omega)
abbrev rmX6_parseStart (B W : Nat) : Room := { frames := 10, cells := B, slots := W, locals := 217 }
theorem s_X6_parseStart_j59 {x : Cx} {B W : Nat} (F : Fx x cX6_parseStart "LockstepRoom$Parser" 2 none (rmX6_parseStart B W)) {v0 : Nat} (hno : NoH x) {Q : hH → Prop} {X : String → Nat → hH → Prop} {K19 : Int32 → hH → Nat → Nat → Prop} (s0 : Option Nat) (s1 : Int32) (l1 : Int32) (h : hH) (b w cb kb : Nat) (hM : cb + b ≤ B) (hS : kb + w ≤ W) (hk : f_X6_parseStart_j59 x.S.E v0 Q X K19 s0 s1 l1 h b w) (hK19 : ∀ (l1 : Int32) (h : hH) (b w : Nat) (cb kb : Nat), cb + b ≤ B → kb + w ≤ W → K19 l1 h b w → G x (xQX x (rmX6_parseStart B W) (qV Q) X) 19 [(0, aR (some v0)), (1, aI l1)] [] h cb kb) : G x (xQX x (rmX6_parseStart B W) (qV Q) X) 59 [(0, aR (some v0)), (1, aI l1)] [aI s1, aR s0] h cb kb := by
  unfold f_X6_parseStart_j59 at hk
  exact g_bipush F dX6_parseStart_59 bp_m15 <|
Exists.elim hk fun b2 hk => Exists.elim hk fun w3 hk => have hb1 := hk.1
have hk := hk.2
x_callv (x_V F dX6_parseStart_61 q758 mi_X6_require ct_X6 (rm' := (rmX6_require b2 w3)) ⟨Nat.le_of_ble_eq_true rfl, Nat.le_of_ble_eq_true rfl⟩ ⟨show cb + b2 ≤ B by omega, show kb + w3 ≤ W by omega⟩ (As := [aI s1, aI (-15:Int32)]) (rest := []) rfl rfl (Nat.le_of_ble_eq_true rfl) hk (fun a5 hk => m_X6_require F.ok b2 w3 a5 s1 (-15:Int32) h _ _ hk)) (fun _ _ _ hx => GT.out F hno.cov (show cb + b2 ≤ B by omega) (show kb + w3 ≤ W by omega) hx) fun h4 hk =>
g_aload_n F dX6_parseStart_64 rfl 0 rfl <|
g_getR F dX6_parseStart_65 fo_X6_1_LockstepRoom_Parser in_X6 fl_LockstepRoom_Parser_18_X6 hk fun x6 hk =>
g_getR F dX6_parseStart_68 fo_X2_1_LockstepRoom_Room in_X2 fl_LockstepRoom_Parser_226_X2 hk fun x7 hk =>
g_iload_n F dX6_parseStart_71 rfl 1 rfl <|
g_aload_n F dX6_parseStart_72 rfl 0 rfl <|
g_getI F dX6_parseStart_73 fo_X6_10_LockstepRoom_Parser in_X6 fl_LockstepRoom_Parser_102_X6 hk fun x8 hk =>
g_iast F dX6_parseStart_76 hk fun h9 hk =>
g_iinc (v := (l1 + (1:Int32))) F dX6_parseStart_77 (j := 1) rfl (iinc_1 l1) (Nat.le_of_ble_eq_true rfl) rfl <|
g_aload_n F dX6_parseStart_80 rfl 1 rfl <|
Exists.elim hk fun b11 hk => Exists.elim hk fun w12 hk => have hb10 := hk.1
have hk := hk.2
g_callv (g_V F dX6_parseStart_81 q506 mi_X6_advance ct_X6 (rm' := (rmX6_advance b11 w12)) ⟨Nat.le_of_ble_eq_true rfl, Nat.le_of_ble_eq_true rfl⟩ ⟨show cb + b2 + b11 ≤ B by omega, show kb + w3 + w12 ≤ W by omega⟩ (As := []) (rest := []) rfl rfl (Nat.le_of_ble_eq_true rfl) hk (fun a14 hk => m_X6_advance F.ok b11 w12 a14 h9 _ hk)) fun h13 hk =>
g_goto F dX6_parseStart_84 (tgt := 19) rfl <|
G.fewer [1, 0] rfl <| hK19 (l1 + (1:Int32)) h13 ((b - b2) - b11) ((w - w3) - w12) (cb + b2 + b11) (kb + w3 + w12) (by omega) (by omega) hk
theorem s_X6_parseStart_l19 {x : Cx} {B W : Nat} (F : Fx x cX6_parseStart "LockstepRoom$Parser" 2 none (rmX6_parseStart B W)) {v0 : Nat} (hno : NoH x) {Q : hH → Prop} {X : String → Nat → hH → Prop} {K87 : hH → Nat → Nat → Prop} (n : Nat) (l1 : Int32) (h : hH) (b w cb kb : Nat) (hM : cb + b ≤ B) (hS : kb + w ≤ W) (hk : f_X6_parseStart_l19 x.S.E v0 Q X K87 n l1 h b w) (hK87 : ∀ (h : hH) (b w : Nat) (cb kb : Nat), cb + b ≤ B → kb + w ≤ W → K87 h b w → G x (xQX x (rmX6_parseStart B W) (qV Q) X) 87 [] [] h cb kb) : G x (xQX x (rmX6_parseStart B W) (qV Q) X) 19 [(0, aR (some v0)), (1, aI l1)] [] h cb kb := by
  induction n generalizing l1 h b w cb kb with
  | zero => exact False.elim hk
  | succ n ih =>
    unfold f_X6_parseStart_l19 at hk
    exact g_aload_n F dX6_parseStart_19 rfl 0 rfl <|
g_getR F dX6_parseStart_20 fo_X6_8_LockstepRoom_Parser in_X6 fl_LockstepRoom_Parser_46_X6 hk fun x15 hk =>
g_gets F dX6_parseStart_23 (sz_4 _) zl_LockstepRoom_Parser_99 <|
g_acmp_ne F dX6_parseStart_26 (tgt := 87) rfl (fun hc => have hk := hk.2 hc
G.fewer [] rfl <| hK87 h b w (cb) (kb) (by omega) (by omega) hk) (fun hc => have hk := hk.1 hc
g_aload_n F dX6_parseStart_29 rfl 0 rfl <|
g_aload_n F dX6_parseStart_30 rfl 0 rfl <|
g_getI F dX6_parseStart_31 fo_X6_10_LockstepRoom_Parser in_X6 fl_LockstepRoom_Parser_102_X6 hk fun x16 hk =>
g_i2l F dX6_parseStart_34 <|
g_lconst F dX6_parseStart_35 rfl <|
g_ldc2 F dX6_parseStart_36 q837 <|
g_calli0 (g_SN F dX6_parseStart_39 q516 ms_X1_inRange (rm' := rmX1_inRange) ⟨Nat.le_of_ble_eq_true rfl, Nat.le_of_ble_eq_true rfl⟩ ⟨show cb + 0 ≤ B by omega, show kb + 0 ≤ W by omega⟩ (As := [aL x16.toInt64, aL (0:Int64), aL (9999:Int64)]) (rest := [aR (some v0)]) rfl rfl (Nat.le_of_ble_eq_true rfl) (m_X1_inRange F.ok x16.toInt64 (0:Int64) (9999:Int64) h _ hk)) ⟨rfl, rfl⟩ fun x19 h18 hk =>
g_bipush F dX6_parseStart_42 bp_m12 <|
Exists.elim hk fun b21 hk => Exists.elim hk fun w22 hk => have hb20 := hk.1
have hk := hk.2
x_callv (x_V F dX6_parseStart_44 q758 mi_X6_require ct_X6 (rm' := (rmX6_require b21 w22)) ⟨Nat.le_of_ble_eq_true rfl, Nat.le_of_ble_eq_true rfl⟩ ⟨show cb + b21 ≤ B by omega, show kb + w22 ≤ W by omega⟩ (As := [aI x19, aI (-12:Int32)]) (rest := []) rfl rfl (Nat.le_of_ble_eq_true rfl) hk (fun a24 hk => m_X6_require F.ok b21 w22 a24 x19 (-12:Int32) h18 _ _ hk)) (fun _ _ _ hx => GT.out F hno.cov (show cb + b21 ≤ B by omega) (show kb + w22 ≤ W by omega) hx) fun h23 hk =>
g_aload_n F dX6_parseStart_47 rfl 0 rfl <|
g_iload_n F dX6_parseStart_48 rfl 1 rfl <|
g_bipush F dX6_parseStart_49 bp_16 <|
g_icmp_ge F dX6_parseStart_51 (tgt := 58) rfl (fun hc => have hk := hk.1 hc
g_iconst F dX6_parseStart_58 ic_0 <|
s_X6_parseStart_j59 F hno (some v0) (0:Int32) l1 h23 (b - b21) (w - w22) (cb + b21) (kb + w22) (by omega) (by omega) hk ih) (fun hc => have hk := hk.2 hc
g_iconst F dX6_parseStart_54 ic_1 <|
g_goto F dX6_parseStart_55 (tgt := 59) rfl <|
s_X6_parseStart_j59 F hno (some v0) (1:Int32) l1 h23 (b - b21) (w - w22) (cb + b21) (kb + w22) (by omega) (by omega) hk ih))
theorem m_X6_parseStart {S : Sx} (hS0 : Sok S) (B W : Nat) (v0 : Nat) (h : hH) (Q : hH → Prop) (X : String → Nat → hH → Prop) (hk : f_X6_parseStart S.E B W v0 h Q X) : CtX S yX6_parseStart (ws_ yX6_parseStart cX6_parseStart 2 none) (rmX6_parseStart B W) ([aR (some v0)].map vv) h (qV Q) X := by
  refine CtX.of hS0 (by decide +kernel) rfl (Nat.le_of_ble_eq_true rfl) fun x hxS F hnm hno => ?_
  subst hxS
  unfold f_X6_parseStart at hk
  have key : ∀ cb kb : Nat, cb + B ≤ B → kb + W ≤ W → G x (xQX x (rmX6_parseStart B W) (qV Q) X) 0 (aArgs 0 [aR (some v0)]) [] h cb kb := fun cb kb hM hS =>
g_aload_n F dX6_parseStart_0 rfl 0 rfl <|
g_getR F dX6_parseStart_1 fo_X6_1_LockstepRoom_Parser in_X6 fl_LockstepRoom_Parser_18_X6 hk fun x25 hk =>
g_getR F dX6_parseStart_4 fo_X2_1_LockstepRoom_Room in_X2 fl_LockstepRoom_Parser_226_X2 hk fun x26 hk =>
g_iconst F dX6_parseStart_7 ic_0 <|
g_aload_n F dX6_parseStart_8 rfl 0 rfl <|
g_iconst F dX6_parseStart_9 ic_0 <|
g_sipush F dX6_parseStart_10 sp_9999 <|
Exists.elim hk fun b28 hk => Exists.elim hk fun w29 hk => have hb27 := hk.1
have hk := hk.2
x_calli (x_V F dX6_parseStart_13 q833 mi_X6_integer ct_X6 (rm' := (rmX6_integer b28 w29)) ⟨Nat.le_of_ble_eq_true rfl, Nat.le_of_ble_eq_true rfl⟩ ⟨show cb + b28 ≤ B by omega, show kb + w29 ≤ W by omega⟩ (As := [aI (0:Int32), aI (9999:Int32)]) (rest := [aI (0:Int32), aR x26]) rfl rfl (Nat.le_of_ble_eq_true rfl) hk (fun a32 hk => m_X6_integer F.ok b28 w29 a32 (0:Int32) (9999:Int32) h _ _ hk)) (fun _ _ _ hx => GT.out F hno.cov (show cb + b28 ≤ B by omega) (show kb + w29 ≤ W by omega) hx) fun x31 h30 hk =>
g_iast F dX6_parseStart_16 hk fun h33 hk =>
g_iconst F dX6_parseStart_17 ic_1 <|
g_istore_n F dX6_parseStart_18 rfl (Nat.le_of_ble_eq_true rfl) rfl <|
G.fewer [1, 0] rfl <| s_X6_parseStart_l19 F hno 1000000 (1:Int32) h33 (B - b28) (W - w29) (cb + b28) (kb + w29) (by omega) (by omega) hk ((fun h b w cb kb hM hS hk => G.toX <| g_vret F dX6_parseStart_87 (show cb ≤ B by omega) (show kb ≤ W by omega) hk))
  exact key 0 0 (by omega) (by omega)
abbrev rmX6_parseStatement (B W : Nat) : Room := { frames := 11, cells := B, slots := W, locals := 243 }
theorem s_X6_parseStatement_j201 {x : Cx} {B W : Nat} (F : Fx x cX6_parseStatement "LockstepRoom$Parser" 5 none (rmX6_parseStatement B W)) {v0 : Nat} (hno : NoH x) {Q : hH → Prop} {X : String → Nat → hH → Prop} (s0 : Option Nat) (s1 : Int32) (h : hH) (b w cb kb : Nat) (hM : cb + b ≤ B) (hS : kb + w ≤ W) (hk : f_X6_parseStatement_j201 x.S.E v0 Q X s0 s1 h b w) : G x (xQX x (rmX6_parseStatement B W) (qV Q) X) 201 [(0, aR (some v0))] [aI s1, aR s0] h cb kb := by
  unfold f_X6_parseStatement_j201 at hk
  exact g_bipush F dX6_parseStatement_201 bp_m14 <|
Exists.elim hk fun b2 hk => Exists.elim hk fun w3 hk => have hb1 := hk.1
have hk := hk.2
x_callv (x_V F dX6_parseStatement_203 q758 mi_X6_require ct_X6 (rm' := (rmX6_require b2 w3)) ⟨Nat.le_of_ble_eq_true rfl, Nat.le_of_ble_eq_true rfl⟩ ⟨show cb + b2 ≤ B by omega, show kb + w3 ≤ W by omega⟩ (As := [aI s1, aI (-14:Int32)]) (rest := []) rfl rfl (Nat.le_of_ble_eq_true rfl) hk (fun a5 hk => m_X6_require F.ok b2 w3 a5 s1 (-14:Int32) h _ _ hk)) (fun _ _ _ hx => GT.out F hno.cov (show cb + b2 ≤ B by omega) (show kb + w3 ≤ W by omega) hx) fun h4 hk =>
g_aload_n F dX6_parseStatement_206 rfl 0 rfl <|
g_iconst F dX6_parseStatement_207 ic_1 <|
g_putV F dX6_parseStatement_208 fo_X6_5_LockstepRoom_Parser ck_X6 fl_LockstepRoom_Parser_185_X6 rfl (v := aI (1:Int32)) ⟨rfl, rfl⟩ hk fun h6 hk =>
g_aload_n F dX6_parseStatement_211 rfl 0 rfl <|
Exists.elim hk fun b8 hk => Exists.elim hk fun w9 hk => have hb7 := hk.1
have hk := hk.2
g_callv (g_V F dX6_parseStatement_212 q506 mi_X6_advance ct_X6 (rm' := (rmX6_advance b8 w9)) ⟨Nat.le_of_ble_eq_true rfl, Nat.le_of_ble_eq_true rfl⟩ ⟨show cb + b2 + b8 ≤ B by omega, show kb + w3 + w9 ≤ W by omega⟩ (As := []) (rest := []) rfl rfl (Nat.le_of_ble_eq_true rfl) hk (fun a11 hk => m_X6_advance F.ok b8 w9 a11 h6 _ hk)) fun h10 hk =>
g_aload_n F dX6_parseStatement_215 rfl 0 rfl <|
Exists.elim hk fun b13 hk => Exists.elim hk fun w14 hk => have hb12 := hk.1
have hk := hk.2
x_callv (x_V F dX6_parseStatement_216 q829 mi_X6_parseStart ct_X6 (rm' := (rmX6_parseStart b13 w14)) ⟨Nat.le_of_ble_eq_true rfl, Nat.le_of_ble_eq_true rfl⟩ ⟨show cb + b2 + b8 + b13 ≤ B by omega, show kb + w3 + w9 + w14 ≤ W by omega⟩ (As := []) (rest := []) rfl rfl (Nat.le_of_ble_eq_true rfl) hk (fun a16 hk => m_X6_parseStart F.ok b13 w14 a16 h10 _ _ hk)) (fun _ _ _ hx => GT.out F hno.cov (show cb + b2 + b8 + b13 ≤ B by omega) (show kb + w3 + w9 + w14 ≤ W by omega) hx) fun h15 hk =>
g_goto F dX6_parseStatement_219 (tgt := 447) rfl <|
G.toX <| g_vret F dX6_parseStatement_447 (show cb + b2 + b8 + b13 ≤ B by omega) (show kb + w3 + w9 + w14 ≤ W by omega) hk
theorem s_X6_parseStatement_j269 {x : Cx} {B W : Nat} (F : Fx x cX6_parseStatement "LockstepRoom$Parser" 5 none (rmX6_parseStatement B W)) {v0 : Nat} (hno : NoH x) {Q : hH → Prop} {X : String → Nat → hH → Prop} (s0 : Option Nat) (s1 : Int32) (l3 : Int32) (h : hH) (b w cb kb : Nat) (hM : cb + b ≤ B) (hS : kb + w ≤ W) (hk : f_X6_parseStatement_j269 x.S.E v0 Q X s0 s1 l3 h b w) : G x (xQX x (rmX6_parseStatement B W) (qV Q) X) 269 [(0, aR (some v0)), (3, aI l3)] [aI s1, aR s0] h cb kb := by
  unfold f_X6_parseStatement_j269 at hk
  exact g_bipush F dX6_parseStatement_269 bp_m14 <|
Exists.elim hk fun b18 hk => Exists.elim hk fun w19 hk => have hb17 := hk.1
have hk := hk.2
x_callv (x_V F dX6_parseStatement_271 q758 mi_X6_require ct_X6 (rm' := (rmX6_require b18 w19)) ⟨Nat.le_of_ble_eq_true rfl, Nat.le_of_ble_eq_true rfl⟩ ⟨show cb + b18 ≤ B by omega, show kb + w19 ≤ W by omega⟩ (As := [aI s1, aI (-14:Int32)]) (rest := []) rfl rfl (Nat.le_of_ble_eq_true rfl) hk (fun a21 hk => m_X6_require F.ok b18 w19 a21 s1 (-14:Int32) h _ _ hk)) (fun _ _ _ hx => GT.out F hno.cov (show cb + b18 ≤ B by omega) (show kb + w19 ≤ W by omega) hx) fun h20 hk =>
g_aload_n F dX6_parseStatement_274 rfl 0 rfl <|
Exists.elim hk fun b23 hk => Exists.elim hk fun w24 hk => have hb22 := hk.1
have hk := hk.2
g_callv (g_V F dX6_parseStatement_275 q506 mi_X6_advance ct_X6 (rm' := (rmX6_advance b23 w24)) ⟨Nat.le_of_ble_eq_true rfl, Nat.le_of_ble_eq_true rfl⟩ ⟨show cb + b18 + b23 ≤ B by omega, show kb + w19 + w24 ≤ W by omega⟩ (As := []) (rest := []) rfl rfl (Nat.le_of_ble_eq_true rfl) hk (fun a26 hk => m_X6_advance F.ok b23 w24 a26 h20 _ hk)) fun h25 hk =>
g_aload_n F dX6_parseStatement_278 rfl 0 rfl <|
g_getR F dX6_parseStatement_279 fo_X6_3_LockstepRoom_Parser in_X6 fl_LockstepRoom_Parser_29_X6 hk fun x27 hk =>
g_aload_n F dX6_parseStatement_282 rfl 0 rfl <|
g_iconst F dX6_parseStatement_283 ic_1 <|
g_iconst F dX6_parseStatement_284 ic_4 <|
Exists.elim hk fun b29 hk => Exists.elim hk fun w30 hk => have hb28 := hk.1
have hk := hk.2
x_calli (x_V F dX6_parseStatement_285 q833 mi_X6_integer ct_X6 (rm' := (rmX6_integer b29 w30)) ⟨Nat.le_of_ble_eq_true rfl, Nat.le_of_ble_eq_true rfl⟩ ⟨show cb + b18 + b23 + b29 ≤ B by omega, show kb + w19 + w24 + w30 ≤ W by omega⟩ (As := [aI (1:Int32), aI (4:Int32)]) (rest := [aR x27]) rfl rfl (Nat.le_of_ble_eq_true rfl) hk (fun a33 hk => m_X6_integer F.ok b29 w30 a33 (1:Int32) (4:Int32) h25 _ _ hk)) (fun _ _ _ hx => GT.out F hno.cov (show cb + b18 + b23 + b29 ≤ B by omega) (show kb + w19 + w24 + w30 ≤ W by omega) hx) fun x32 h31 hk =>
have hb34 := hk.1
have hk := hk.2
g_callr (g_S F dX6_parseStatement_288 q886 ms_J20_valueOf (rm' := rmJ20_valueOf) ⟨Nat.le_of_ble_eq_true rfl, Nat.le_of_ble_eq_true rfl⟩ ⟨show cb + b18 + b23 + b29 + 1 ≤ B by omega, show kb + w19 + w24 + w30 + 1 ≤ W by omega⟩ (As := [aI x32]) (rest := [aR x27]) rfl rfl (Nat.le_of_ble_eq_true rfl) (m_J20_valueOf F.ok x32 h31 _ hk)) fun x36 h35 hk =>
have hb37 := hk.1
have hk := hk.2
g_calli (g_V F dX6_parseStatement_291 q906 mi_J2_add ct_J2 (rm' := rmJ2_add) ⟨Nat.le_of_ble_eq_true rfl, Nat.le_of_ble_eq_true rfl⟩ ⟨show cb + b18 + b23 + b29 + 1 + 1 ≤ B by omega, show kb + w19 + w24 + w30 + 1 + 64 ≤ W by omega⟩ (As := [aR x36]) (rest := []) rfl rfl (Nat.le_of_ble_eq_true rfl) hk (fun a40 hk => m_J2_add F.ok a40 x36 h35 _ hk)) fun x39 h38 hk =>
g_pop F dX6_parseStatement_294 rfl <|
g_aload_n F dX6_parseStatement_295 rfl 0 rfl <|
g_getR F dX6_parseStatement_296 fo_X6_2_LockstepRoom_Parser in_X6 fl_LockstepRoom_Parser_25_X6 hk fun x41 hk =>
g_iload_n F dX6_parseStatement_299 rfl 1 rfl <|
have hb42 := hk.1
have hk := hk.2
g_callr (g_S F dX6_parseStatement_300 q886 ms_J20_valueOf (rm' := rmJ20_valueOf) ⟨Nat.le_of_ble_eq_true rfl, Nat.le_of_ble_eq_true rfl⟩ ⟨show cb + b18 + b23 + b29 + 1 + 1 + 1 ≤ B by omega, show kb + w19 + w24 + w30 + 1 + 64 + 1 ≤ W by omega⟩ (As := [aI l3]) (rest := [aR x41]) rfl rfl (Nat.le_of_ble_eq_true rfl) (m_J20_valueOf F.ok l3 h38 _ hk)) fun x44 h43 hk =>
have hb45 := hk.1
have hk := hk.2
g_calli (g_V F dX6_parseStatement_303 q906 mi_J2_add ct_J2 (rm' := rmJ2_add) ⟨Nat.le_of_ble_eq_true rfl, Nat.le_of_ble_eq_true rfl⟩ ⟨show cb + b18 + b23 + b29 + 1 + 1 + 1 + 1 ≤ B by omega, show kb + w19 + w24 + w30 + 1 + 64 + 1 + 64 ≤ W by omega⟩ (As := [aR x44]) (rest := []) rfl rfl (Nat.le_of_ble_eq_true rfl) hk (fun a48 hk => m_J2_add F.ok a48 x44 h43 _ hk)) fun x47 h46 hk =>
g_pop F dX6_parseStatement_306 rfl <|
g_goto F dX6_parseStatement_307 (tgt := 447) rfl <|
G.toX <| g_vret F dX6_parseStatement_447 (show cb + b18 + b23 + b29 + 1 + 1 + 1 + 1 ≤ B by omega) (show kb + w19 + w24 + w30 + 1 + 64 + 1 + 64 ≤ W by omega) hk
theorem s_X6_parseStatement_j240 {x : Cx} {B W : Nat} (F : Fx x cX6_parseStatement "LockstepRoom$Parser" 5 none (rmX6_parseStatement B W)) {v0 : Nat} (hno : NoH x) {Q : hH → Prop} {X : String → Nat → hH → Prop} (s0 : Option Nat) (s1 : Int32) (h : hH) (b w cb kb : Nat) (hM : cb + b ≤ B) (hS : kb + w ≤ W) (hk : f_X6_parseStatement_j240 x.S.E v0 Q X s0 s1 h b w) : G x (xQX x (rmX6_parseStatement B W) (qV Q) X) 240 [(0, aR (some v0))] [aI s1, aR s0] h cb kb := by
  unfold f_X6_parseStatement_j240 at hk
  exact g_bipush F dX6_parseStatement_240 bp_m15 <|
Exists.elim hk fun b50 hk => Exists.elim hk fun w51 hk => have hb49 := hk.1
have hk := hk.2
x_callv (x_V F dX6_parseStatement_242 q758 mi_X6_require ct_X6 (rm' := (rmX6_require b50 w51)) ⟨Nat.le_of_ble_eq_true rfl, Nat.le_of_ble_eq_true rfl⟩ ⟨show cb + b50 ≤ B by omega, show kb + w51 ≤ W by omega⟩ (As := [aI s1, aI (-15:Int32)]) (rest := []) rfl rfl (Nat.le_of_ble_eq_true rfl) hk (fun a53 hk => m_X6_require F.ok b50 w51 a53 s1 (-15:Int32) h _ _ hk)) (fun _ _ _ hx => GT.out F hno.cov (show cb + b50 ≤ B by omega) (show kb + w51 ≤ W by omega) hx) fun h52 hk =>
g_aload_n F dX6_parseStatement_245 rfl 0 rfl <|
Exists.elim hk fun b55 hk => Exists.elim hk fun w56 hk => have hb54 := hk.1
have hk := hk.2
g_callv (g_V F dX6_parseStatement_246 q506 mi_X6_advance ct_X6 (rm' := (rmX6_advance b55 w56)) ⟨Nat.le_of_ble_eq_true rfl, Nat.le_of_ble_eq_true rfl⟩ ⟨show cb + b50 + b55 ≤ B by omega, show kb + w51 + w56 ≤ W by omega⟩ (As := []) (rest := []) rfl rfl (Nat.le_of_ble_eq_true rfl) hk (fun a58 hk => m_X6_advance F.ok b55 w56 a58 h52 _ hk)) fun h57 hk =>
g_aload_n F dX6_parseStatement_249 rfl 0 rfl <|
Exists.elim hk fun b60 hk => Exists.elim hk fun w61 hk => have hb59 := hk.1
have hk := hk.2
x_calli (x_V F dX6_parseStatement_250 q842 mi_X6_name ct_X6 (rm' := (rmX6_name b60 w61)) ⟨Nat.le_of_ble_eq_true rfl, Nat.le_of_ble_eq_true rfl⟩ ⟨show cb + b50 + b55 + b60 ≤ B by omega, show kb + w51 + w56 + w61 ≤ W by omega⟩ (As := []) (rest := []) rfl rfl (Nat.le_of_ble_eq_true rfl) hk (fun a64 hk => m_X6_name F.ok b60 w61 a64 h57 _ _ hk)) (fun _ _ _ hx => GT.out F hno.cov (show cb + b50 + b55 + b60 ≤ B by omega) (show kb + w51 + w56 + w61 ≤ W by omega) hx) fun x63 h62 hk =>
g_istore_n F dX6_parseStatement_253 rfl (Nat.le_of_ble_eq_true rfl) rfl <|
g_aload_n F dX6_parseStatement_254 rfl 1 rfl <|
g_aload_n F dX6_parseStatement_255 rfl 1 rfl <|
g_iload_n F dX6_parseStatement_256 rfl 0 rfl <|
Exists.elim hk fun b66 hk => Exists.elim hk fun w67 hk => have hb65 := hk.1
have hk := hk.2
g_calli (g_V F dX6_parseStatement_257 q865 mi_X6_find ct_X6 (rm' := (rmX6_find b66 w67)) ⟨Nat.le_of_ble_eq_true rfl, Nat.le_of_ble_eq_true rfl⟩ ⟨show cb + b50 + b55 + b60 + b66 ≤ B by omega, show kb + w51 + w56 + w61 + w67 ≤ W by omega⟩ (As := [aI x63]) (rest := [aR (some v0)]) rfl rfl (Nat.le_of_ble_eq_true rfl) hk (fun a70 hk => m_X6_find F.ok b66 w67 a70 x63 h62 _ hk)) fun x69 h68 hk =>
g_iconst F dX6_parseStatement_260 ic_m1 <|
g_icmp_ne F dX6_parseStatement_261 (tgt := 268) rfl (fun hc => have hk := hk.2 hc
g_iconst F dX6_parseStatement_268 ic_0 <|
G.fewer [1, 0] rfl <| s_X6_parseStatement_j269 F hno (some v0) (0:Int32) x63 h68 ((((b - b50) - b55) - b60) - b66) ((((w - w51) - w56) - w61) - w67) (cb + b50 + b55 + b60 + b66) (kb + w51 + w56 + w61 + w67) (by omega) (by omega) hk ) (fun hc => have hk := hk.1 hc
g_iconst F dX6_parseStatement_264 ic_1 <|
g_goto F dX6_parseStatement_265 (tgt := 269) rfl <|
G.fewer [1, 0] rfl <| s_X6_parseStatement_j269 F hno (some v0) (1:Int32) x63 h68 ((((b - b50) - b55) - b60) - b66) ((((w - w51) - w56) - w61) - w67) (cb + b50 + b55 + b60 + b66) (kb + w51 + w56 + w61 + w67) (by omega) (by omega) hk )
theorem s_X6_parseStatement_j331 {x : Cx} {B W : Nat} (F : Fx x cX6_parseStatement "LockstepRoom$Parser" 5 none (rmX6_parseStatement B W)) {v0 : Nat} (hno : NoH x) {Q : hH → Prop} {X : String → Nat → hH → Prop} (s0 : Option Nat) (s1 : Int32) (h : hH) (b w cb kb : Nat) (hM : cb + b ≤ B) (hS : kb + w ≤ W) (hk : f_X6_parseStatement_j331 x.S.E v0 Q X s0 s1 h b w) : G x (xQX x (rmX6_parseStatement B W) (qV Q) X) 331 [(0, aR (some v0))] [aI s1, aR s0] h cb kb := by
  unfold f_X6_parseStatement_j331 at hk
  exact g_bipush F dX6_parseStatement_331 bp_m15 <|
Exists.elim hk fun b72 hk => Exists.elim hk fun w73 hk => have hb71 := hk.1
have hk := hk.2
x_callv (x_V F dX6_parseStatement_333 q758 mi_X6_require ct_X6 (rm' := (rmX6_require b72 w73)) ⟨Nat.le_of_ble_eq_true rfl, Nat.le_of_ble_eq_true rfl⟩ ⟨show cb + b72 ≤ B by omega, show kb + w73 ≤ W by omega⟩ (As := [aI s1, aI (-15:Int32)]) (rest := []) rfl rfl (Nat.le_of_ble_eq_true rfl) hk (fun a75 hk => m_X6_require F.ok b72 w73 a75 s1 (-15:Int32) h _ _ hk)) (fun _ _ _ hx => GT.out F hno.cov (show cb + b72 ≤ B by omega) (show kb + w73 ≤ W by omega) hx) fun h74 hk =>
g_aload_n F dX6_parseStatement_336 rfl 0 rfl <|
Exists.elim hk fun b77 hk => Exists.elim hk fun w78 hk => have hb76 := hk.1
have hk := hk.2
g_callv (g_V F dX6_parseStatement_337 q506 mi_X6_advance ct_X6 (rm' := (rmX6_advance b77 w78)) ⟨Nat.le_of_ble_eq_true rfl, Nat.le_of_ble_eq_true rfl⟩ ⟨show cb + b72 + b77 ≤ B by omega, show kb + w73 + w78 ≤ W by omega⟩ (As := []) (rest := []) rfl rfl (Nat.le_of_ble_eq_true rfl) hk (fun a80 hk => m_X6_advance F.ok b77 w78 a80 h74 _ hk)) fun h79 hk =>
g_aload_n F dX6_parseStatement_340 rfl 0 rfl <|
Exists.elim hk fun b82 hk => Exists.elim hk fun w83 hk => have hb81 := hk.1
have hk := hk.2
x_callv (x_V F dX6_parseStatement_341 q981 mi_X6_parseCommand ct_X6 (rm' := (rmX6_parseCommand b82 w83)) ⟨Nat.le_of_ble_eq_true rfl, Nat.le_of_ble_eq_true rfl⟩ ⟨show cb + b72 + b77 + b82 ≤ B by omega, show kb + w73 + w78 + w83 ≤ W by omega⟩ (As := []) (rest := []) rfl rfl (Nat.le_of_ble_eq_true rfl) hk (fun a85 hk => m_X6_parseCommand F.ok b82 w83 a85 h79 _ _ hk)) (fun _ _ _ hx => GT.out F hno.cov (show cb + b72 + b77 + b82 ≤ B by omega) (show kb + w73 + w78 + w83 ≤ W by omega) hx) fun h84 hk =>
g_goto F dX6_parseStatement_344 (tgt := 447) rfl <|
G.toX <| g_vret F dX6_parseStatement_447 (show cb + b72 + b77 + b82 ≤ B by omega) (show kb + w73 + w78 + w83 ≤ W by omega) hk
theorem s_X6_parseStatement_j368 {x : Cx} {B W : Nat} (F : Fx x cX6_parseStatement "LockstepRoom$Parser" 5 none (rmX6_parseStatement B W)) {v0 : Nat} (hno : NoH x) {Q : hH → Prop} {X : String → Nat → hH → Prop} (s0 : Option Nat) (s1 : Int32) (h : hH) (b w cb kb : Nat) (hM : cb + b ≤ B) (hS : kb + w ≤ W) (hk : f_X6_parseStatement_j368 x.S.E v0 Q X s0 s1 h b w) : G x (xQX x (rmX6_parseStatement B W) (qV Q) X) 368 [(0, aR (some v0))] [aI s1, aR s0] h cb kb := by
  unfold f_X6_parseStatement_j368 at hk
  exact g_bipush F dX6_parseStatement_368 bp_m15 <|
Exists.elim hk fun b87 hk => Exists.elim hk fun w88 hk => have hb86 := hk.1
have hk := hk.2
x_callv (x_V F dX6_parseStatement_370 q758 mi_X6_require ct_X6 (rm' := (rmX6_require b87 w88)) ⟨Nat.le_of_ble_eq_true rfl, Nat.le_of_ble_eq_true rfl⟩ ⟨show cb + b87 ≤ B by omega, show kb + w88 ≤ W by omega⟩ (As := [aI s1, aI (-15:Int32)]) (rest := []) rfl rfl (Nat.le_of_ble_eq_true rfl) hk (fun a90 hk => m_X6_require F.ok b87 w88 a90 s1 (-15:Int32) h _ _ hk)) (fun _ _ _ hx => GT.out F hno.cov (show cb + b87 ≤ B by omega) (show kb + w88 ≤ W by omega) hx) fun h89 hk =>
g_aload_n F dX6_parseStatement_373 rfl 0 rfl <|
g_getR F dX6_parseStatement_374 fo_X6_1_LockstepRoom_Parser in_X6 fl_LockstepRoom_Parser_18_X6 hk fun x91 hk =>
have hb92 := hk.1
have hk := hk.2
g_calli (g_V F dX6_parseStatement_377 q1300 mi_X2_seal ct_X2 (rm' := rmX2_seal) ⟨Nat.le_of_ble_eq_true rfl, Nat.le_of_ble_eq_true rfl⟩ ⟨show cb + b87 + 2 ≤ B by omega, show kb + w88 + 72 ≤ W by omega⟩ (As := []) (rest := []) rfl rfl (Nat.le_of_ble_eq_true rfl) hk (fun a95 hk => m_X2_seal F.ok a95 h89 _ hk)) fun x94 h93 hk =>
g_istore F dX6_parseStatement_380 (Nat.le_of_ble_eq_true rfl) rfl <|
g_aload_n F dX6_parseStatement_382 rfl 1 rfl <|
Exists.elim hk fun b97 hk => Exists.elim hk fun w98 hk => have hb96 := hk.1
have hk := hk.2
g_callv (g_V F dX6_parseStatement_383 q506 mi_X6_advance ct_X6 (rm' := (rmX6_advance b97 w98)) ⟨Nat.le_of_ble_eq_true rfl, Nat.le_of_ble_eq_true rfl⟩ ⟨show cb + b87 + 2 + b97 ≤ B by omega, show kb + w88 + 72 + w98 ≤ W by omega⟩ (As := []) (rest := []) rfl rfl (Nat.le_of_ble_eq_true rfl) hk (fun a100 hk => m_X6_advance F.ok b97 w98 a100 h93 _ hk)) fun h99 hk =>
g_goto F dX6_parseStatement_386 (tgt := 447) rfl <|
G.toX <| g_vret F dX6_parseStatement_447 (show cb + b87 + 2 + b97 ≤ B by omega) (show kb + w88 + 72 + w98 ≤ W by omega) hk
theorem s_X6_parseStatement_j410 {x : Cx} {B W : Nat} (F : Fx x cX6_parseStatement "LockstepRoom$Parser" 5 none (rmX6_parseStatement B W)) {v0 : Nat} (hno : NoH x) {Q : hH → Prop} {X : String → Nat → hH → Prop} (s0 : Option Nat) (s1 : Int32) (h : hH) (b w cb kb : Nat) (hM : cb + b ≤ B) (hS : kb + w ≤ W) (hk : f_X6_parseStatement_j410 x.S.E v0 Q X s0 s1 h b w) : G x (xQX x (rmX6_parseStatement B W) (qV Q) X) 410 [(0, aR (some v0))] [aI s1, aR s0] h cb kb := by
  unfold f_X6_parseStatement_j410 at hk
  exact g_bipush F dX6_parseStatement_410 bp_m15 <|
Exists.elim hk fun b102 hk => Exists.elim hk fun w103 hk => have hb101 := hk.1
have hk := hk.2
x_callv (x_V F dX6_parseStatement_412 q758 mi_X6_require ct_X6 (rm' := (rmX6_require b102 w103)) ⟨Nat.le_of_ble_eq_true rfl, Nat.le_of_ble_eq_true rfl⟩ ⟨show cb + b102 ≤ B by omega, show kb + w103 ≤ W by omega⟩ (As := [aI s1, aI (-15:Int32)]) (rest := []) rfl rfl (Nat.le_of_ble_eq_true rfl) hk (fun a105 hk => m_X6_require F.ok b102 w103 a105 s1 (-15:Int32) h _ _ hk)) (fun _ _ _ hx => GT.out F hno.cov (show cb + b102 ≤ B by omega) (show kb + w103 ≤ W by omega) hx) fun h104 hk =>
g_aload_n F dX6_parseStatement_415 rfl 0 rfl <|
Exists.elim hk fun b107 hk => Exists.elim hk fun w108 hk => have hb106 := hk.1
have hk := hk.2
g_callv (g_V F dX6_parseStatement_416 q506 mi_X6_advance ct_X6 (rm' := (rmX6_advance b107 w108)) ⟨Nat.le_of_ble_eq_true rfl, Nat.le_of_ble_eq_true rfl⟩ ⟨show cb + b102 + b107 ≤ B by omega, show kb + w103 + w108 ≤ W by omega⟩ (As := []) (rest := []) rfl rfl (Nat.le_of_ble_eq_true rfl) hk (fun a110 hk => m_X6_advance F.ok b107 w108 a110 h104 _ hk)) fun h109 hk =>
g_aload_n F dX6_parseStatement_419 rfl 0 rfl <|
Exists.elim hk fun b112 hk => Exists.elim hk fun w113 hk => have hb111 := hk.1
have hk := hk.2
x_callv (x_V F dX6_parseStatement_420 q1317 mi_X6_parseFault ct_X6 (rm' := (rmX6_parseFault b112 w113)) ⟨Nat.le_of_ble_eq_true rfl, Nat.le_of_ble_eq_true rfl⟩ ⟨show cb + b102 + b107 + b112 ≤ B by omega, show kb + w103 + w108 + w113 ≤ W by omega⟩ (As := []) (rest := []) rfl rfl (Nat.le_of_ble_eq_true rfl) hk (fun a115 hk => m_X6_parseFault F.ok b112 w113 a115 h109 _ _ hk)) (fun _ _ _ hx => GT.out F hno.cov (show cb + b102 + b107 + b112 ≤ B by omega) (show kb + w103 + w108 + w113 ≤ W by omega) hx) fun h114 hk =>
g_goto F dX6_parseStatement_423 (tgt := 447) rfl <|
G.toX <| g_vret F dX6_parseStatement_447 (show cb + b102 + b107 + b112 ≤ B by omega) (show kb + w103 + w108 + w113 ≤ W by omega) hk
theorem s_X6_parseStatement_j149 {x : Cx} {B W : Nat} (F : Fx x cX6_parseStatement "LockstepRoom$Parser" 5 none (rmX6_parseStatement B W)) {v0 : Nat} (hno : NoH x) {Q : hH → Prop} {X : String → Nat → hH → Prop} (l2 : Int32) (h : hH) (b w cb kb : Nat) (hM : cb + b ≤ B) (hS : kb + w ≤ W) (hk : f_X6_parseStatement_j149 x.S.E v0 Q X l2 h b w) : G x (xQX x (rmX6_parseStatement B W) (qV Q) X) 149 [(0, aR (some v0)), (2, aI l2)] [] h cb kb := by
  unfold f_X6_parseStatement_j149 at hk
  exact g_iload_n F dX6_parseStatement_149 rfl 1 rfl <|
if hc0 : l2 = (0:Int32) then (have hk := hk.1 hc0
g_tableIn (tgt := 188) (off := 38) F dX6_parseStatement_150 (by rw [hc0]; decide) (by rw [hc0]; decide) (by rw [hc0]; rfl) rfl <|
g_aload_n F dX6_parseStatement_188 rfl 0 rfl <|
g_aload_n F dX6_parseStatement_189 rfl 0 rfl <|
g_getI F dX6_parseStatement_190 fo_X6_5_LockstepRoom_Parser in_X6 fl_LockstepRoom_Parser_185_X6 hk fun x116 hk =>
g_if_ne F dX6_parseStatement_193 (tgt := 200) rfl (fun hc => have hk := hk.2 hc
g_iconst F dX6_parseStatement_200 ic_0 <|
G.fewer [0] rfl <| s_X6_parseStatement_j201 F hno (some v0) (0:Int32) h b w (cb) (kb) (by omega) (by omega) hk ) (fun hc => have hk := hk.1 hc
g_iconst F dX6_parseStatement_196 ic_1 <|
g_goto F dX6_parseStatement_197 (tgt := 201) rfl <|
G.fewer [0] rfl <| s_X6_parseStatement_j201 F hno (some v0) (1:Int32) h b w (cb) (kb) (by omega) (by omega) hk )) else have hk := hk.2 hc0
if hc1 : l2 = (1:Int32) then (have hk := hk.1 hc1
g_tableIn (tgt := 222) (off := 72) F dX6_parseStatement_150 (by rw [hc1]; decide) (by rw [hc1]; decide) (by rw [hc1]; rfl) rfl <|
g_aload_n F dX6_parseStatement_222 rfl 0 rfl <|
g_aload_n F dX6_parseStatement_223 rfl 0 rfl <|
g_getR F dX6_parseStatement_224 fo_X6_2_LockstepRoom_Parser in_X6 fl_LockstepRoom_Parser_25_X6 hk fun x117 hk =>
g_calli0 (g_V F dX6_parseStatement_227 q838 mi_J2_size ct_J2 (rm' := rmJ2_size) ⟨Nat.le_of_ble_eq_true rfl, Nat.le_of_ble_eq_true rfl⟩ ⟨show cb + 0 ≤ B by omega, show kb + 0 ≤ W by omega⟩ (As := []) (rest := [aR (some v0)]) rfl rfl (Nat.le_of_ble_eq_true rfl) hk (fun a121 hk => m_J2_size F.ok a121 h _ hk)) ⟨rfl, rfl⟩ fun x120 h119 hk =>
g_bipush F dX6_parseStatement_230 bp_6 <|
g_icmp_ge F dX6_parseStatement_232 (tgt := 239) rfl (fun hc => have hk := hk.1 hc
g_iconst F dX6_parseStatement_239 ic_0 <|
G.fewer [0] rfl <| s_X6_parseStatement_j240 F hno (some v0) (0:Int32) h119 b w (cb) (kb) (by omega) (by omega) hk ) (fun hc => have hk := hk.2 hc
g_iconst F dX6_parseStatement_235 ic_1 <|
g_goto F dX6_parseStatement_236 (tgt := 240) rfl <|
G.fewer [0] rfl <| s_X6_parseStatement_j240 F hno (some v0) (1:Int32) h119 b w (cb) (kb) (by omega) (by omega) hk )) else have hk := hk.2 hc1
if hc2 : l2 = (2:Int32) then (have hk := hk.1 hc2
g_tableIn (tgt := 310) (off := 160) F dX6_parseStatement_150 (by rw [hc2]; decide) (by rw [hc2]; decide) (by rw [hc2]; rfl) rfl <|
g_aload_n F dX6_parseStatement_310 rfl 0 rfl <|
g_aload_n F dX6_parseStatement_311 rfl 0 rfl <|
g_getR F dX6_parseStatement_312 fo_X6_1_LockstepRoom_Parser in_X6 fl_LockstepRoom_Parser_18_X6 hk fun x122 hk =>
g_getR F dX6_parseStatement_315 fo_X2_5_LockstepRoom_Room in_X2 fl_LockstepRoom_Parser_202_X2 hk fun x123 hk =>
g_calli0 (g_V F dX6_parseStatement_318 q977 mi_J4_size ct_J4 (rm' := rmJ4_size) ⟨Nat.le_of_ble_eq_true rfl, Nat.le_of_ble_eq_true rfl⟩ ⟨show cb + 0 ≤ B by omega, show kb + 0 ≤ W by omega⟩ (As := []) (rest := [aR (some v0)]) rfl rfl (Nat.le_of_ble_eq_true rfl) hk (fun a127 hk => m_J4_size F.ok a127 h _ hk)) ⟨rfl, rfl⟩ fun x126 h125 hk =>
g_bipush F dX6_parseStatement_321 bp_8 <|
g_icmp_ge F dX6_parseStatement_323 (tgt := 330) rfl (fun hc => have hk := hk.1 hc
g_iconst F dX6_parseStatement_330 ic_0 <|
G.fewer [0] rfl <| s_X6_parseStatement_j331 F hno (some v0) (0:Int32) h125 b w (cb) (kb) (by omega) (by omega) hk ) (fun hc => have hk := hk.2 hc
g_iconst F dX6_parseStatement_326 ic_1 <|
g_goto F dX6_parseStatement_327 (tgt := 331) rfl <|
G.fewer [0] rfl <| s_X6_parseStatement_j331 F hno (some v0) (1:Int32) h125 b w (cb) (kb) (by omega) (by omega) hk )) else have hk := hk.2 hc2
if hc3 : l2 = (3:Int32) then (have hk := hk.1 hc3
g_tableIn (tgt := 347) (off := 197) F dX6_parseStatement_150 (by rw [hc3]; decide) (by rw [hc3]; decide) (by rw [hc3]; rfl) rfl <|
g_aload_n F dX6_parseStatement_347 rfl 0 rfl <|
g_aload_n F dX6_parseStatement_348 rfl 0 rfl <|
g_getR F dX6_parseStatement_349 fo_X6_1_LockstepRoom_Parser in_X6 fl_LockstepRoom_Parser_18_X6 hk fun x128 hk =>
g_getR F dX6_parseStatement_352 fo_X2_4_LockstepRoom_Room in_X2 fl_LockstepRoom_Parser_212_X2 hk fun x129 hk =>
g_calli0 (g_V F dX6_parseStatement_355 q838 mi_J2_size ct_J2 (rm' := rmJ2_size) ⟨Nat.le_of_ble_eq_true rfl, Nat.le_of_ble_eq_true rfl⟩ ⟨show cb + 0 ≤ B by omega, show kb + 0 ≤ W by omega⟩ (As := []) (rest := [aR (some v0)]) rfl rfl (Nat.le_of_ble_eq_true rfl) hk (fun a133 hk => m_J2_size F.ok a133 h _ hk)) ⟨rfl, rfl⟩ fun x132 h131 hk =>
g_bipush F dX6_parseStatement_358 bp_40 <|
g_icmp_ge F dX6_parseStatement_360 (tgt := 367) rfl (fun hc => have hk := hk.1 hc
g_iconst F dX6_parseStatement_367 ic_0 <|
G.fewer [0] rfl <| s_X6_parseStatement_j368 F hno (some v0) (0:Int32) h131 b w (cb) (kb) (by omega) (by omega) hk ) (fun hc => have hk := hk.2 hc
g_iconst F dX6_parseStatement_363 ic_1 <|
g_goto F dX6_parseStatement_364 (tgt := 368) rfl <|
G.fewer [0] rfl <| s_X6_parseStatement_j368 F hno (some v0) (1:Int32) h131 b w (cb) (kb) (by omega) (by omega) hk )) else have hk := hk.2 hc3
if hc4 : l2 = (4:Int32) then (have hk := hk.1 hc4
g_tableIn (tgt := 389) (off := 239) F dX6_parseStatement_150 (by rw [hc4]; decide) (by rw [hc4]; decide) (by rw [hc4]; rfl) rfl <|
g_aload_n F dX6_parseStatement_389 rfl 0 rfl <|
g_aload_n F dX6_parseStatement_390 rfl 0 rfl <|
g_getR F dX6_parseStatement_391 fo_X6_1_LockstepRoom_Parser in_X6 fl_LockstepRoom_Parser_18_X6 hk fun x134 hk =>
g_getR F dX6_parseStatement_394 fo_X2_6_LockstepRoom_Room in_X2 fl_LockstepRoom_Parser_217_X2 hk fun x135 hk =>
g_calli0 (g_V F dX6_parseStatement_397 q838 mi_J2_size ct_J2 (rm' := rmJ2_size) ⟨Nat.le_of_ble_eq_true rfl, Nat.le_of_ble_eq_true rfl⟩ ⟨show cb + 0 ≤ B by omega, show kb + 0 ≤ W by omega⟩ (As := []) (rest := [aR (some v0)]) rfl rfl (Nat.le_of_ble_eq_true rfl) hk (fun a139 hk => m_J2_size F.ok a139 h _ hk)) ⟨rfl, rfl⟩ fun x138 h137 hk =>
g_bipush F dX6_parseStatement_400 bp_10 <|
g_icmp_ge F dX6_parseStatement_402 (tgt := 409) rfl (fun hc => have hk := hk.1 hc
g_iconst F dX6_parseStatement_409 ic_0 <|
G.fewer [0] rfl <| s_X6_parseStatement_j410 F hno (some v0) (0:Int32) h137 b w (cb) (kb) (by omega) (by omega) hk ) (fun hc => have hk := hk.2 hc
g_iconst F dX6_parseStatement_405 ic_1 <|
g_goto F dX6_parseStatement_406 (tgt := 410) rfl <|
G.fewer [0] rfl <| s_X6_parseStatement_j410 F hno (some v0) (1:Int32) h137 b w (cb) (kb) (by omega) (by omega) hk )) else have hk := hk.2 hc4
if hc5 : l2 = (5:Int32) then (have hk := hk.1 hc5
g_tableIn (tgt := 426) (off := 276) F dX6_parseStatement_150 (by rw [hc5]; decide) (by rw [hc5]; decide) (by rw [hc5]; rfl) rfl <|
g_aload_n F dX6_parseStatement_426 rfl 0 rfl <|
Exists.elim hk fun b141 hk => Exists.elim hk fun w142 hk => have hb140 := hk.1
have hk := hk.2
g_callv (g_V F dX6_parseStatement_427 q506 mi_X6_advance ct_X6 (rm' := (rmX6_advance b141 w142)) ⟨Nat.le_of_ble_eq_true rfl, Nat.le_of_ble_eq_true rfl⟩ ⟨show cb + b141 ≤ B by omega, show kb + w142 ≤ W by omega⟩ (As := []) (rest := []) rfl rfl (Nat.le_of_ble_eq_true rfl) hk (fun a144 hk => m_X6_advance F.ok b141 w142 a144 h _ hk)) fun h143 hk =>
g_aload_n F dX6_parseStatement_430 rfl 0 rfl <|
Exists.elim hk fun b146 hk => Exists.elim hk fun w147 hk => have hb145 := hk.1
have hk := hk.2
x_callv (x_V F dX6_parseStatement_431 q1348 mi_X6_parseSetting ct_X6 (rm' := (rmX6_parseSetting b146 w147)) ⟨Nat.le_of_ble_eq_true rfl, Nat.le_of_ble_eq_true rfl⟩ ⟨show cb + b141 + b146 ≤ B by omega, show kb + w142 + w147 ≤ W by omega⟩ (As := []) (rest := []) rfl rfl (Nat.le_of_ble_eq_true rfl) hk (fun a149 hk => m_X6_parseSetting F.ok b146 w147 a149 h143 _ _ hk)) (fun _ _ _ hx => GT.out F hno.cov (show cb + b141 + b146 ≤ B by omega) (show kb + w142 + w147 ≤ W by omega) hx) fun h148 hk =>
g_goto F dX6_parseStatement_434 (tgt := 447) rfl <|
G.toX <| g_vret F dX6_parseStatement_447 (show cb + b141 + b146 ≤ B by omega) (show kb + w142 + w147 ≤ W by omega) hk) else have hk := hk.2 hc5
g_tableOut (tgt := 437) F dX6_parseStatement_150 (sw_out_0_1_2_3_4_5 hc0 hc1 hc2 hc3 hc4 hc5) rfl <|
have hb150 := hk.1
have hk := hk.2
g_new (fs := [va_rf none, va_rf none, va_rf none, va_rf none, va_rf none, .int 0, .int 0]) F dX6_parseStatement_437 ck_X7 ct_X7 q762 q763 q137 df_X7 (show cb + 1 ≤ B by omega) (show kb + 7 ≤ W by omega) hk fun q151 h152 hk =>
g_dup F dX6_parseStatement_440 rfl <|
g_bipush F dX6_parseStatement_441 bp_m11 <|
g_callv0 (g_I F dX6_parseStatement_443 q803 mc_X7_init (rm' := rmX7_init) ⟨Nat.le_of_ble_eq_true rfl, Nat.le_of_ble_eq_true rfl⟩ ⟨show cb + 1 + 0 ≤ B by omega, show kb + 7 + 0 ≤ W by omega⟩ (As := [aI (-11:Int32)]) (rest := [aR (some q151)]) rfl rfl (Nat.le_of_ble_eq_true rfl) (m_X7_init F.ok q151 (-11:Int32) h152 _ hk)) ⟨rfl, rfl⟩ fun h154 hk =>
g_throwO F dX6_parseStatement_446 ct_X7 hk fun _ hk => GT.out F hno.cov (show cb + 1 ≤ B by omega) (show kb + 7 ≤ W by omega) hk
theorem m_X6_parseStatement {S : Sx} (hS0 : Sok S) (B W : Nat) (v0 : Nat) (h : hH) (Q : hH → Prop) (X : String → Nat → hH → Prop) (hk : f_X6_parseStatement S.E B W v0 h Q X) : CtX S yX6_parseStatement (ws_ yX6_parseStatement cX6_parseStatement 5 none) (rmX6_parseStatement B W) ([aR (some v0)].map vv) h (qV Q) X := by
  refine CtX.of hS0 (by decide +kernel) rfl (Nat.le_of_ble_eq_true rfl) fun x hxS F hnm hno => ?_
  subst hxS
  unfold f_X6_parseStatement at hk
  have key : ∀ cb kb : Nat, cb + B ≤ B → kb + W ≤ W → G x (xQX x (rmX6_parseStatement B W) (qV Q) X) 0 (aArgs 0 [aR (some v0)]) [] h cb kb := fun cb kb hM hS =>
g_aload_n F dX6_parseStatement_0 rfl 0 rfl <|
g_getR F dX6_parseStatement_1 fo_X6_9_LockstepRoom_Parser in_X6 fl_LockstepRoom_Parser_51_X6 hk fun x156 hk =>
g_astore_n F dX6_parseStatement_4 rfl (Nat.le_of_ble_eq_true rfl) rfl <|
g_iconst F dX6_parseStatement_5 ic_m1 <|
g_istore_n F dX6_parseStatement_6 rfl (Nat.le_of_ble_eq_true rfl) rfl <|
g_aload_n F dX6_parseStatement_7 rfl 1 rfl <|
g_calli0 (g_V F dX6_parseStatement_8 q691 mi_J8_hashCode ct_J8 (rm' := rmJ8_hashCode) ⟨Nat.le_of_ble_eq_true rfl, Nat.le_of_ble_eq_true rfl⟩ ⟨show cb + 0 ≤ B by omega, show kb + 0 ≤ W by omega⟩ (As := []) (rest := []) rfl rfl (Nat.le_of_ble_eq_true rfl) hk (fun a160 hk => m_J8_hashCode F.ok a160 h _ hk)) ⟨rfl, rfl⟩ fun x159 h158 hk =>
if hcm1077769574 : x159 = (-1077769574:Int32) then (have hk := hk.1 hcm1077769574
g_lookup (off := 71) (tgt := 82) F dX6_parseStatement_11 (by decide) (by rw [hcm1077769574]; decide) rfl <|
g_aload_n F dX6_parseStatement_82 rfl 1 rfl <|
g_ldcS F dX6_parseStatement_83 (sk_22 _) <|
g_calli0 (g_V F dX6_parseStatement_85 q745 mi_J8_equals ct_J8 (rm' := rmJ8_equals) ⟨Nat.le_of_ble_eq_true rfl, Nat.le_of_ble_eq_true rfl⟩ ⟨show cb + 0 ≤ B by omega, show kb + 0 ≤ W by omega⟩ (As := [aR (some (x.S.E 22))]) (rest := []) rfl rfl (Nat.le_of_ble_eq_true rfl) hk (fun a164 hk => m_J8_equals F.ok a164 (some (x.S.E 22)) h158 _ hk)) ⟨rfl, rfl⟩ fun x163 h162 hk =>
g_if_eq F dX6_parseStatement_88 (tgt := 149) rfl (fun hc => have hk := hk.1 hc
G.fewer [2, 0] rfl <| s_X6_parseStatement_j149 F hno (-1:Int32) h162 B W (cb) (kb) (by omega) (by omega) hk ) (fun hc => have hk := hk.2 hc
g_iconst F dX6_parseStatement_91 ic_1 <|
g_istore_n F dX6_parseStatement_92 rfl (Nat.le_of_ble_eq_true rfl) rfl <|
g_goto F dX6_parseStatement_93 (tgt := 149) rfl <|
G.fewer [2, 0] rfl <| s_X6_parseStatement_j149 F hno (1:Int32) h162 B W (cb) (kb) (by omega) (by omega) hk )) else have hk := hk.2 hcm1077769574
if hc3211 : x159 = (3211:Int32) then (have hk := hk.1 hc3211
g_lookup (off := 85) (tgt := 96) F dX6_parseStatement_11 (by decide) (by rw [hc3211]; decide) rfl <|
g_aload_n F dX6_parseStatement_96 rfl 1 rfl <|
g_ldcS F dX6_parseStatement_97 (sk_23 _) <|
g_calli0 (g_V F dX6_parseStatement_99 q745 mi_J8_equals ct_J8 (rm' := rmJ8_equals) ⟨Nat.le_of_ble_eq_true rfl, Nat.le_of_ble_eq_true rfl⟩ ⟨show cb + 0 ≤ B by omega, show kb + 0 ≤ W by omega⟩ (As := [aR (some (x.S.E 23))]) (rest := []) rfl rfl (Nat.le_of_ble_eq_true rfl) hk (fun a168 hk => m_J8_equals F.ok a168 (some (x.S.E 23)) h158 _ hk)) ⟨rfl, rfl⟩ fun x167 h166 hk =>
g_if_eq F dX6_parseStatement_102 (tgt := 149) rfl (fun hc => have hk := hk.1 hc
G.fewer [2, 0] rfl <| s_X6_parseStatement_j149 F hno (-1:Int32) h166 B W (cb) (kb) (by omega) (by omega) hk ) (fun hc => have hk := hk.2 hc
g_iconst F dX6_parseStatement_105 ic_2 <|
g_istore_n F dX6_parseStatement_106 rfl (Nat.le_of_ble_eq_true rfl) rfl <|
g_goto F dX6_parseStatement_107 (tgt := 149) rfl <|
G.fewer [2, 0] rfl <| s_X6_parseStatement_j149 F hno (2:Int32) h166 B W (cb) (kb) (by omega) (by omega) hk )) else have hk := hk.2 hc3211
if hc113762 : x159 = (113762:Int32) then (have hk := hk.1 hc113762
g_lookup (off := 127) (tgt := 138) F dX6_parseStatement_11 (by decide) (by rw [hc113762]; decide) rfl <|
g_aload_n F dX6_parseStatement_138 rfl 1 rfl <|
g_ldcS F dX6_parseStatement_139 (sk_26 _) <|
g_calli0 (g_V F dX6_parseStatement_141 q745 mi_J8_equals ct_J8 (rm' := rmJ8_equals) ⟨Nat.le_of_ble_eq_true rfl, Nat.le_of_ble_eq_true rfl⟩ ⟨show cb + 0 ≤ B by omega, show kb + 0 ≤ W by omega⟩ (As := [aR (some (x.S.E 26))]) (rest := []) rfl rfl (Nat.le_of_ble_eq_true rfl) hk (fun a172 hk => m_J8_equals F.ok a172 (some (x.S.E 26)) h158 _ hk)) ⟨rfl, rfl⟩ fun x171 h170 hk =>
g_if_eq F dX6_parseStatement_144 (tgt := 149) rfl (fun hc => have hk := hk.1 hc
G.fewer [2, 0] rfl <| s_X6_parseStatement_j149 F hno (-1:Int32) h170 B W (cb) (kb) (by omega) (by omega) hk ) (fun hc => have hk := hk.2 hc
g_iconst F dX6_parseStatement_147 ic_5 <|
g_istore_n F dX6_parseStatement_148 rfl (Nat.le_of_ble_eq_true rfl) rfl <|
G.fewer [2, 0] rfl <| s_X6_parseStatement_j149 F hno (5:Int32) h170 B W (cb) (kb) (by omega) (by omega) hk )) else have hk := hk.2 hc113762
if hc3526141 : x159 = (3526141:Int32) then (have hk := hk.1 hc3526141
g_lookup (off := 99) (tgt := 110) F dX6_parseStatement_11 (by decide) (by rw [hc3526141]; decide) rfl <|
g_aload_n F dX6_parseStatement_110 rfl 1 rfl <|
g_ldcS F dX6_parseStatement_111 (sk_24 _) <|
g_calli0 (g_V F dX6_parseStatement_113 q745 mi_J8_equals ct_J8 (rm' := rmJ8_equals) ⟨Nat.le_of_ble_eq_true rfl, Nat.le_of_ble_eq_true rfl⟩ ⟨show cb + 0 ≤ B by omega, show kb + 0 ≤ W by omega⟩ (As := [aR (some (x.S.E 24))]) (rest := []) rfl rfl (Nat.le_of_ble_eq_true rfl) hk (fun a176 hk => m_J8_equals F.ok a176 (some (x.S.E 24)) h158 _ hk)) ⟨rfl, rfl⟩ fun x175 h174 hk =>
g_if_eq F dX6_parseStatement_116 (tgt := 149) rfl (fun hc => have hk := hk.1 hc
G.fewer [2, 0] rfl <| s_X6_parseStatement_j149 F hno (-1:Int32) h174 B W (cb) (kb) (by omega) (by omega) hk ) (fun hc => have hk := hk.2 hc
g_iconst F dX6_parseStatement_119 ic_3 <|
g_istore_n F dX6_parseStatement_120 rfl (Nat.le_of_ble_eq_true rfl) rfl <|
g_goto F dX6_parseStatement_121 (tgt := 149) rfl <|
G.fewer [2, 0] rfl <| s_X6_parseStatement_j149 F hno (3:Int32) h174 B W (cb) (kb) (by omega) (by omega) hk )) else have hk := hk.2 hc3526141
if hc97204770 : x159 = (97204770:Int32) then (have hk := hk.1 hc97204770
g_lookup (off := 113) (tgt := 124) F dX6_parseStatement_11 (by decide) (by rw [hc97204770]; decide) rfl <|
g_aload_n F dX6_parseStatement_124 rfl 1 rfl <|
g_ldcS F dX6_parseStatement_125 (sk_25 _) <|
g_calli0 (g_V F dX6_parseStatement_127 q745 mi_J8_equals ct_J8 (rm' := rmJ8_equals) ⟨Nat.le_of_ble_eq_true rfl, Nat.le_of_ble_eq_true rfl⟩ ⟨show cb + 0 ≤ B by omega, show kb + 0 ≤ W by omega⟩ (As := [aR (some (x.S.E 25))]) (rest := []) rfl rfl (Nat.le_of_ble_eq_true rfl) hk (fun a180 hk => m_J8_equals F.ok a180 (some (x.S.E 25)) h158 _ hk)) ⟨rfl, rfl⟩ fun x179 h178 hk =>
g_if_eq F dX6_parseStatement_130 (tgt := 149) rfl (fun hc => have hk := hk.1 hc
G.fewer [2, 0] rfl <| s_X6_parseStatement_j149 F hno (-1:Int32) h178 B W (cb) (kb) (by omega) (by omega) hk ) (fun hc => have hk := hk.2 hc
g_iconst F dX6_parseStatement_133 ic_4 <|
g_istore_n F dX6_parseStatement_134 rfl (Nat.le_of_ble_eq_true rfl) rfl <|
g_goto F dX6_parseStatement_135 (tgt := 149) rfl <|
G.fewer [2, 0] rfl <| s_X6_parseStatement_j149 F hno (4:Int32) h178 B W (cb) (kb) (by omega) (by omega) hk )) else have hk := hk.2 hc97204770
if hc109757538 : x159 = (109757538:Int32) then (have hk := hk.1 hc109757538
g_lookup (off := 57) (tgt := 68) F dX6_parseStatement_11 (by decide) (by rw [hc109757538]; decide) rfl <|
g_aload_n F dX6_parseStatement_68 rfl 1 rfl <|
g_ldcS F dX6_parseStatement_69 (sk_21 _) <|
g_calli0 (g_V F dX6_parseStatement_71 q745 mi_J8_equals ct_J8 (rm' := rmJ8_equals) ⟨Nat.le_of_ble_eq_true rfl, Nat.le_of_ble_eq_true rfl⟩ ⟨show cb + 0 ≤ B by omega, show kb + 0 ≤ W by omega⟩ (As := [aR (some (x.S.E 21))]) (rest := []) rfl rfl (Nat.le_of_ble_eq_true rfl) hk (fun a184 hk => m_J8_equals F.ok a184 (some (x.S.E 21)) h158 _ hk)) ⟨rfl, rfl⟩ fun x183 h182 hk =>
g_if_eq F dX6_parseStatement_74 (tgt := 149) rfl (fun hc => have hk := hk.1 hc
G.fewer [2, 0] rfl <| s_X6_parseStatement_j149 F hno (-1:Int32) h182 B W (cb) (kb) (by omega) (by omega) hk ) (fun hc => have hk := hk.2 hc
g_iconst F dX6_parseStatement_77 ic_0 <|
g_istore_n F dX6_parseStatement_78 rfl (Nat.le_of_ble_eq_true rfl) rfl <|
g_goto F dX6_parseStatement_79 (tgt := 149) rfl <|
G.fewer [2, 0] rfl <| s_X6_parseStatement_j149 F hno (0:Int32) h182 B W (cb) (kb) (by omega) (by omega) hk )) else have hk := hk.2 hc109757538
g_lookup (off := 138) (tgt := 149) F dX6_parseStatement_11 (by decide) (by show Op.lookupswitch.offset [(-1077769574, 71), (3211, 85), (113762, 127), (3526141, 99), (97204770, 113), (109757538, 57)] _ _ = _; rw [lv_osw hcm1077769574 (k := (-1077769574:Int32)) (by decide), lv_osw hc3211 (k := (3211:Int32)) (by decide), lv_osw hc113762 (k := (113762:Int32)) (by decide), lv_osw hc3526141 (k := (3526141:Int32)) (by decide), lv_osw hc97204770 (k := (97204770:Int32)) (by decide), lv_osw hc109757538 (k := (109757538:Int32)) (by decide)] <;> rfl) rfl <|
G.fewer [2, 0] rfl <| s_X6_parseStatement_j149 F hno (-1:Int32) h158 B W (cb) (kb) (by omega) (by omega) hk 
  exact key 0 0 (by omega) (by omega)
abbrev rmX6_parse (B W : Nat) : Room := { frames := 12, cells := B, slots := W, locals := 267 }
theorem s_X6_parse_l58 {x : Cx} {B W : Nat} (F : Fx x cX6_parse "LockstepRoom$Parser" 2 (some (.object "LockstepRoom$Room")) (rmX6_parse B W)) {v0 : Nat} (hno : NoH x) {Q : Option Nat → hH → Prop} {X : String → Nat → hH → Prop} {K110 : hH → Nat → Nat → Prop} (n : Nat) (l1 : Int32) (h : hH) (b w cb kb : Nat) (hM : cb + b ≤ B) (hS : kb + w ≤ W) (hk : f_X6_parse_l58 x.S.E v0 Q X K110 n l1 h b w) (hK110 : ∀ (h : hH) (b w : Nat) (cb kb : Nat), cb + b ≤ B → kb + w ≤ W → K110 h b w → G x (xQX x (rmX6_parse B W) (qR Q) X) 110 [(0, aR (some v0))] [] h cb kb) : G x (xQX x (rmX6_parse B W) (qR Q) X) 58 [(0, aR (some v0)), (1, aI l1)] [] h cb kb := by
  induction n generalizing l1 h b w cb kb with
  | zero => exact False.elim hk
  | succ n ih =>
    unfold f_X6_parse_l58 at hk
    exact g_iload_n F dX6_parse_58 rfl 1 rfl <|
g_aload_n F dX6_parse_59 rfl 0 rfl <|
g_getR F dX6_parse_60 fo_X6_2_LockstepRoom_Parser in_X6 fl_LockstepRoom_Parser_25_X6 hk fun x1 hk =>
g_calli0 (g_V F dX6_parse_63 q838 mi_J2_size ct_J2 (rm' := rmJ2_size) ⟨Nat.le_of_ble_eq_true rfl, Nat.le_of_ble_eq_true rfl⟩ ⟨show cb + 0 ≤ B by omega, show kb + 0 ≤ W by omega⟩ (As := []) (rest := [aI l1]) rfl rfl (Nat.le_of_ble_eq_true rfl) hk (fun a5 hk => m_J2_size F.ok a5 h _ hk)) ⟨rfl, rfl⟩ fun x4 h3 hk =>
g_icmp_ge F dX6_parse_66 (tgt := 110) rfl (fun hc => have hk := hk.1 hc
G.fewer [0] rfl <| hK110 h3 b w (cb) (kb) (by omega) (by omega) hk) (fun hc => have hk := hk.2 hc
g_aload_n F dX6_parse_69 rfl 0 rfl <|
g_getR F dX6_parse_70 fo_X6_1_LockstepRoom_Parser in_X6 fl_LockstepRoom_Parser_18_X6 hk fun x6 hk =>
g_aload_n F dX6_parse_73 rfl 0 rfl <|
g_getR F dX6_parse_74 fo_X6_2_LockstepRoom_Parser in_X6 fl_LockstepRoom_Parser_25_X6 hk fun x7 hk =>
g_iload_n F dX6_parse_77 rfl 1 rfl <|
g_callr0 (g_V F dX6_parse_78 q869 mi_J2_get ct_J2 (rm' := rmJ2_get) ⟨Nat.le_of_ble_eq_true rfl, Nat.le_of_ble_eq_true rfl⟩ ⟨show cb + 0 ≤ B by omega, show kb + 0 ≤ W by omega⟩ (As := [aI l1]) (rest := [aR x6]) rfl rfl (Nat.le_of_ble_eq_true rfl) hk (fun a11 hk => m_J2_get F.ok a11 l1 h3 _ hk)) ⟨rfl, rfl⟩ fun x10 h9 hk =>
g_castS F dX6_parse_81 q881 ct_J20 hk fun hk =>
g_calli0 (g_V F dX6_parse_84 q882 mi_J20_intValue ct_J20 (rm' := rmJ20_intValue) ⟨Nat.le_of_ble_eq_true rfl, Nat.le_of_ble_eq_true rfl⟩ ⟨show cb + 0 ≤ B by omega, show kb + 0 ≤ W by omega⟩ (As := []) (rest := [aR x6]) rfl rfl (Nat.le_of_ble_eq_true rfl) hk (fun a15 hk => m_J20_intValue F.ok a15 h9 _ hk)) ⟨rfl, rfl⟩ fun x14 h13 hk =>
g_aload_n F dX6_parse_87 rfl 0 rfl <|
g_getR F dX6_parse_88 fo_X6_3_LockstepRoom_Parser in_X6 fl_LockstepRoom_Parser_29_X6 hk fun x16 hk =>
g_iload_n F dX6_parse_91 rfl 1 rfl <|
g_callr0 (g_V F dX6_parse_92 q869 mi_J2_get ct_J2 (rm' := rmJ2_get) ⟨Nat.le_of_ble_eq_true rfl, Nat.le_of_ble_eq_true rfl⟩ ⟨show cb + 0 ≤ B by omega, show kb + 0 ≤ W by omega⟩ (As := [aI l1]) (rest := [aI x14, aR x6]) rfl rfl (Nat.le_of_ble_eq_true rfl) hk (fun a20 hk => m_J2_get F.ok a20 l1 h13 _ hk)) ⟨rfl, rfl⟩ fun x19 h18 hk =>
g_castS F dX6_parse_95 q881 ct_J20 hk fun hk =>
g_calli0 (g_V F dX6_parse_98 q882 mi_J20_intValue ct_J20 (rm' := rmJ20_intValue) ⟨Nat.le_of_ble_eq_true rfl, Nat.le_of_ble_eq_true rfl⟩ ⟨show cb + 0 ≤ B by omega, show kb + 0 ≤ W by omega⟩ (As := []) (rest := [aI x14, aR x6]) rfl rfl (Nat.le_of_ble_eq_true rfl) hk (fun a24 hk => m_J20_intValue F.ok a24 h18 _ hk)) ⟨rfl, rfl⟩ fun x23 h22 hk =>
have hb25 := hk.1
have hk := hk.2
g_callv (g_V F dX6_parse_101 q1356 mi_X2_enter ct_X2 (rm' := rmX2_enter) ⟨Nat.le_of_ble_eq_true rfl, Nat.le_of_ble_eq_true rfl⟩ ⟨show cb + 8 ≤ B by omega, show kb + 139 ≤ W by omega⟩ (As := [aI x14, aI x23]) (rest := []) rfl rfl (Nat.le_of_ble_eq_true rfl) hk (fun a27 hk => m_X2_enter F.ok a27 x14 x23 h22 _ hk)) fun h26 hk =>
g_iinc (v := (l1 + (1:Int32))) F dX6_parse_104 (j := 1) rfl (iinc_1 l1) (Nat.le_of_ble_eq_true rfl) rfl <|
g_goto F dX6_parse_107 (tgt := 58) rfl <|
G.fewer [1, 0] rfl <| ih (l1 + (1:Int32)) h26 (b - 8) (w - 139) (cb + 8) (kb + 139) (by omega) (by omega) hk)
theorem s_X6_parse_j34 {x : Cx} {B W : Nat} (F : Fx x cX6_parse "LockstepRoom$Parser" 2 (some (.object "LockstepRoom$Room")) (rmX6_parse B W)) {v0 : Nat} (hno : NoH x) {Q : Option Nat → hH → Prop} {X : String → Nat → hH → Prop} {K4 : hH → Nat → Nat → Prop} (s0 : Option Nat) (s1 : Int32) (h : hH) (b w cb kb : Nat) (hM : cb + b ≤ B) (hS : kb + w ≤ W) (hk : f_X6_parse_j34 x.S.E v0 Q X K4 s0 s1 h b w) (hK4 : ∀ (h : hH) (b w : Nat) (cb kb : Nat), cb + b ≤ B → kb + w ≤ W → K4 h b w → G x (xQX x (rmX6_parse B W) (qR Q) X) 4 [(0, aR (some v0))] [] h cb kb) : G x (xQX x (rmX6_parse B W) (qR Q) X) 34 [(0, aR (some v0))] [aI s1, aR s0] h cb kb := by
  unfold f_X6_parse_j34 at hk
  exact g_bipush F dX6_parse_34 bp_m11 <|
Exists.elim hk fun b29 hk => Exists.elim hk fun w30 hk => have hb28 := hk.1
have hk := hk.2
x_callv (x_V F dX6_parse_36 q758 mi_X6_require ct_X6 (rm' := (rmX6_require b29 w30)) ⟨Nat.le_of_ble_eq_true rfl, Nat.le_of_ble_eq_true rfl⟩ ⟨show cb + b29 ≤ B by omega, show kb + w30 ≤ W by omega⟩ (As := [aI s1, aI (-11:Int32)]) (rest := []) rfl rfl (Nat.le_of_ble_eq_true rfl) hk (fun a32 hk => m_X6_require F.ok b29 w30 a32 s1 (-11:Int32) h _ _ hk)) (fun _ _ _ hx => GT.out F hno.cov (show cb + b29 ≤ B by omega) (show kb + w30 ≤ W by omega) hx) fun h31 hk =>
g_aload_n F dX6_parse_39 rfl 0 rfl <|
Exists.elim hk fun b34 hk => Exists.elim hk fun w35 hk => have hb33 := hk.1
have hk := hk.2
g_callv (g_V F dX6_parse_40 q506 mi_X6_advance ct_X6 (rm' := (rmX6_advance b34 w35)) ⟨Nat.le_of_ble_eq_true rfl, Nat.le_of_ble_eq_true rfl⟩ ⟨show cb + b29 + b34 ≤ B by omega, show kb + w30 + w35 ≤ W by omega⟩ (As := []) (rest := []) rfl rfl (Nat.le_of_ble_eq_true rfl) hk (fun a37 hk => m_X6_advance F.ok b34 w35 a37 h31 _ hk)) fun h36 hk =>
g_aload_n F dX6_parse_43 rfl 0 rfl <|
g_dup F dX6_parse_44 rfl <|
g_getI F dX6_parse_45 fo_X6_11_LockstepRoom_Parser in_X6 fl_LockstepRoom_Parser_160_X6 hk fun x38 hk =>
g_iconst F dX6_parse_48 ic_1 <|
g_iadd F dX6_parse_49 <|
g_putV F dX6_parse_50 fo_X6_11_LockstepRoom_Parser ck_X6 fl_LockstepRoom_Parser_160_X6 rfl (v := aI (x38 + (1:Int32))) (fit_i (x38 + (1:Int32))) hk fun h39 hk =>
g_goto F dX6_parse_53 (tgt := 4) rfl <|
hK4 h39 ((b - b29) - b34) ((w - w30) - w35) (cb + b29 + b34) (kb + w30 + w35) (by omega) (by omega) hk
theorem s_X6_parse_l4 {x : Cx} {B W : Nat} (F : Fx x cX6_parse "LockstepRoom$Parser" 2 (some (.object "LockstepRoom$Room")) (rmX6_parse B W)) {v0 : Nat} (hno : NoH x) {Q : Option Nat → hH → Prop} {X : String → Nat → hH → Prop} {K56 : hH → Nat → Nat → Prop} (n : Nat) (h : hH) (b w cb kb : Nat) (hM : cb + b ≤ B) (hS : kb + w ≤ W) (hk : f_X6_parse_l4 x.S.E v0 Q X K56 n h b w) (hK56 : ∀ (h : hH) (b w : Nat) (cb kb : Nat), cb + b ≤ B → kb + w ≤ W → K56 h b w → G x (xQX x (rmX6_parse B W) (qR Q) X) 56 [(0, aR (some v0))] [] h cb kb) : G x (xQX x (rmX6_parse B W) (qR Q) X) 4 [(0, aR (some v0))] [] h cb kb := by
  induction n generalizing h b w cb kb with
  | zero => exact False.elim hk
  | succ n ih =>
    unfold f_X6_parse_l4 at hk
    exact g_aload_n F dX6_parse_4 rfl 0 rfl <|
g_getR F dX6_parse_5 fo_X6_8_LockstepRoom_Parser in_X6 fl_LockstepRoom_Parser_46_X6 hk fun x40 hk =>
g_gets F dX6_parse_8 (sz_2 _) zl_LockstepRoom_Parser_40 <|
g_acmp_eq F dX6_parse_11 (tgt := 56) rfl (fun hc => have hk := hk.1 hc
hK56 h b w (cb) (kb) (by omega) (by omega) hk) (fun hc => have hk := hk.2 hc
g_aload_n F dX6_parse_14 rfl 0 rfl <|
Exists.elim hk fun b42 hk => Exists.elim hk fun w43 hk => have hb41 := hk.1
have hk := hk.2
x_callv (x_V F dX6_parse_15 q687 mi_X6_parseStatement ct_X6 (rm' := (rmX6_parseStatement b42 w43)) ⟨Nat.le_of_ble_eq_true rfl, Nat.le_of_ble_eq_true rfl⟩ ⟨show cb + b42 ≤ B by omega, show kb + w43 ≤ W by omega⟩ (As := []) (rest := []) rfl rfl (Nat.le_of_ble_eq_true rfl) hk (fun a45 hk => m_X6_parseStatement F.ok b42 w43 a45 h _ _ hk)) (fun _ _ _ hx => GT.out F hno.cov (show cb + b42 ≤ B by omega) (show kb + w43 ≤ W by omega) hx) fun h44 hk =>
g_aload_n F dX6_parse_18 rfl 0 rfl <|
g_aload_n F dX6_parse_19 rfl 0 rfl <|
g_getR F dX6_parse_20 fo_X6_8_LockstepRoom_Parser in_X6 fl_LockstepRoom_Parser_46_X6 hk fun x46 hk =>
g_gets F dX6_parse_23 (sz_5 _) zl_LockstepRoom_Parser_112 <|
g_acmp_ne F dX6_parse_26 (tgt := 33) rfl (fun hc => have hk := hk.2 hc
g_iconst F dX6_parse_33 ic_0 <|
s_X6_parse_j34 F hno (some v0) (0:Int32) h44 (b - b42) (w - w43) (cb + b42) (kb + w43) (by omega) (by omega) hk ih) (fun hc => have hk := hk.1 hc
g_iconst F dX6_parse_29 ic_1 <|
g_goto F dX6_parse_30 (tgt := 34) rfl <|
s_X6_parse_j34 F hno (some v0) (1:Int32) h44 (b - b42) (w - w43) (cb + b42) (kb + w43) (by omega) (by omega) hk ih))
theorem m_X6_parse {S : Sx} (hS0 : Sok S) (B W : Nat) (v0 : Nat) (h : hH) (Q : Option Nat → hH → Prop) (X : String → Nat → hH → Prop) (hk : f_X6_parse S.E B W v0 h Q X) : CtX S yX6_parse (ws_ yX6_parse cX6_parse 2 (some (.object "LockstepRoom$Room"))) (rmX6_parse B W) ([aR (some v0)].map vv) h (qR Q) X := by
  refine CtX.of hS0 (by decide +kernel) rfl (Nat.le_of_ble_eq_true rfl) fun x hxS F hnm hno => ?_
  subst hxS
  unfold f_X6_parse at hk
  have key : ∀ cb kb : Nat, cb + B ≤ B → kb + W ≤ W → G x (xQX x (rmX6_parse B W) (qR Q) X) 0 (aArgs 0 [aR (some v0)]) [] h cb kb := fun cb kb hM hS =>
g_aload_n F dX6_parse_0 rfl 0 rfl <|
Exists.elim hk fun b48 hk => Exists.elim hk fun w49 hk => have hb47 := hk.1
have hk := hk.2
g_callv (g_V F dX6_parse_1 q506 mi_X6_advance ct_X6 (rm' := (rmX6_advance b48 w49)) ⟨Nat.le_of_ble_eq_true rfl, Nat.le_of_ble_eq_true rfl⟩ ⟨show cb + b48 ≤ B by omega, show kb + w49 ≤ W by omega⟩ (As := []) (rest := []) rfl rfl (Nat.le_of_ble_eq_true rfl) hk (fun a51 hk => m_X6_advance F.ok b48 w49 a51 h _ hk)) fun h50 hk =>
s_X6_parse_l4 F hno 1000000 h50 (B - b48) (W - w49) (cb + b48) (kb + w49) (by omega) (by omega) hk ((fun h b w cb kb hM hS hk => g_iconst F dX6_parse_56 ic_0 <|
g_istore_n F dX6_parse_57 rfl (Nat.le_of_ble_eq_true rfl) rfl <|
G.fewer [1, 0] rfl <| s_X6_parse_l58 F hno 1000000 (0:Int32) h b w (cb) (kb) (by omega) (by omega) hk ((fun h b w cb kb hM hS hk => g_aload_n F dX6_parse_110 rfl 0 rfl <|
g_getR F dX6_parse_111 fo_X6_1_LockstepRoom_Parser in_X6 fl_LockstepRoom_Parser_18_X6 hk fun x52 hk =>
G.toX <| g_aret F (Or.inl ⟨_, rfl⟩) dX6_parse_114 (show cb ≤ B by omega) (show kb ≤ W by omega) hk))))
  exact key 0 0 (by omega) (by omega)
