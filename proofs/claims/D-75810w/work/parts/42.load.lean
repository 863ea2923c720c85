set_option maxRecDepth 100000
set_option maxHeartbeats 10000000
theorem df_X6 : ∀ j, j < 13 → defaultValue (tyX6 j) = vp_V [.int 0, va_rf none, va_rf none, va_rf none, va_rf none, .int 0, .int 0, .int 0, va_rf none, va_rf none, .int 0, .int 0, va_rf none] j := fun j hj => by rcases (show j = 0 ∨ j = 1 ∨ j = 2 ∨ j = 3 ∨ j = 4 ∨ j = 5 ∨ j = 6 ∨ j = 7 ∨ j = 8 ∨ j = 9 ∨ j = 10 ∨ j = 11 ∨ j = 12 by omega) with rfl | rfl | rfl | rfl | rfl | rfl | rfl | rfl | rfl | rfl | rfl | rfl | rfl <;> rfl
theorem mo_X6_init : MOk yX6_init 2 := by decide +kernel
theorem mc_X6_init : MC yX6_init cX6_init 3 2 := ⟨q448, q126, q449, rfl, mo_X6_init⟩
theorem mo_X6_parse : MOk yX6_parse 0 := by decide +kernel
theorem mi_X6_parse : MI yX6_parse "LockstepRoom$Parser" cX6_parse 2 (some (.object "LockstepRoom$Room")) 0 := ⟨q503, q504, q126, q505, rfl, mo_X6_parse⟩
theorem fl_LockstepRoom_83_X6 : Cond.fieldLink "LockstepRoom" 83 "LockstepRoom$Parser" (TX6 7).2.1 (TX6 7).2.2.1 ∈ lw_all ∨ ∃ host, Cond.fieldLinkNest "LockstepRoom" 83 "LockstepRoom$Parser" (TX6 7).2.1 (TX6 7).2.2.1 host ∈ lw_tbl := Or.inr ⟨_, q467⟩
theorem fl_LockstepRoom_86_X7 : Cond.fieldLink "LockstepRoom" 86 "LockstepRoom$LoadError" (TX7 6).2.1 (TX7 6).2.2.1 ∈ lw_all ∨ ∃ host, Cond.fieldLinkNest "LockstepRoom" 86 "LockstepRoom$LoadError" (TX7 6).2.1 (TX7 6).2.2.1 host ∈ lw_tbl := Or.inr ⟨_, q813⟩
theorem mo_J5_clear : MOk yJ5_clear 0 := by decide +kernel
theorem mi_J5_clear : MI yJ5_clear "java/util/ArrayDeque" cJ5_clear 1 none 0 := ⟨q1565, q1566, q120, q1567, rfl, mo_J5_clear⟩
theorem fl_LockstepRoom_92_X6 : Cond.fieldLink "LockstepRoom" 92 "LockstepRoom$Parser" (TX6 11).2.1 (TX6 11).2.2.1 ∈ lw_all ∨ ∃ host, Cond.fieldLinkNest "LockstepRoom" 92 "LockstepRoom$Parser" (TX6 11).2.1 (TX6 11).2.2.1 host ∈ lw_tbl := Or.inr ⟨_, q472⟩
abbrev rmX1_load (B W : Nat) : Room := { frames := 13, cells := B, slots := W, locals := 3162 }
theorem m_X1_load {S : Sx} (hS0 : Sok S) (B W : Nat) (v0 : Nat) (v1 : Int32) (h : hH) (Q : Int32 → hH → Prop) (hk : f_X1_load S.E B W v0 v1 h Q) : Ct S yX1_load (wsW_ yX1_load cX1_load 4 (some .int) [(37, 45, 48, 81)]) (rmX1_load B W) ([aR (some v0), aI v1].map vv) h (qI Q) := by
  refine Ct.ofT hS0 (by decide +kernel) rfl (Nat.le_of_ble_eq_true rfl) fun x hxS F hnm htb => ?_
  subst hxS
  unfold f_X1_load at hk
  have key : ∀ cb kb : Nat, cb + B ≤ B → kb + W ≤ W → G x (xQ x (rmX1_load B W) (qI Q)) 0 (aArgs 0 [aR (some v0), aI v1]) [] h cb kb := fun cb kb hM hS =>
g_iload_n F dX1_load_0 rfl 1 rfl <|
g_i2l F dX1_load_1 <|
g_lconst F dX1_load_2 rfl <|
g_aload_n F dX1_load_3 rfl 0 rfl <|
g_getI F dX1_load_4 fo_X1_3_LockstepRoom in_X1 fl_LockstepRoom_70_X1 hk fun x1 hk =>
g_i2l F dX1_load_7 <|
g_calli0 (g_S F dX1_load_8 q442 ms_X1_inRange (rm' := rmX1_inRange) ⟨Nat.le_of_ble_eq_true rfl, Nat.le_of_ble_eq_true rfl⟩ ⟨show cb + 0 ≤ B by omega, show kb + 0 ≤ W by omega⟩ (As := [aL v1.toInt64, aL (0:Int64), aL x1.toInt64]) (rest := []) rfl rfl (Nat.le_of_ble_eq_true rfl) (m_X1_inRange F.ok v1.toInt64 (0:Int64) x1.toInt64 h _ hk)) ⟨rfl, rfl⟩ fun x4 h3 hk =>
g_if_ne F dX1_load_11 (tgt := 17) rfl (fun hc => have hk := hk.2 hc
g_aload_n F dX1_load_17 rfl 0 rfl <|
g_iconst F dX1_load_18 ic_0 <|
g_putV F dX1_load_19 fo_X1_3_LockstepRoom ck_X1 fl_LockstepRoom_70_X1 rfl (v := aI (0:Int32)) (fit_i (0:Int32)) hk fun h5 hk =>
g_aload_n F dX1_load_22 rfl 0 rfl <|
g_iconst F dX1_load_23 ic_m1 <|
g_putV F dX1_load_24 fo_X1_4_LockstepRoom ck_X1 fl_LockstepRoom_27_X1 rfl (v := aI (-1:Int32)) (fit_i (-1:Int32)) hk fun h6 hk =>
have hb7 := hk.1
have hk := hk.2
g_new (fs := [.int 0, va_rf none, va_rf none, va_rf none, va_rf none, .int 0, .int 0, .int 0, va_rf none, va_rf none, .int 0, .int 0, va_rf none]) F dX1_load_27 ck_X6 ct_X6 q445 q446 q126 df_X6 (show cb + 1 ≤ B by omega) (show kb + 13 ≤ W by omega) hk fun q8 h9 hk =>
g_dup F dX1_load_30 rfl <|
g_aload_n F dX1_load_31 rfl 0 rfl <|
g_iload_n F dX1_load_32 rfl 1 rfl <|
have hb10 := hk.1
have hk := hk.2
g_callv (g_I F dX1_load_33 q447 mc_X6_init (rm' := rmX6_init) ⟨Nat.le_of_ble_eq_true rfl, Nat.le_of_ble_eq_true rfl⟩ ⟨show cb + 1 + 18 ≤ B by omega, show kb + 13 + 67 ≤ W by omega⟩ (As := [aR (some v0), aI v1]) (rest := [aR (some q8)]) rfl rfl (Nat.le_of_ble_eq_true rfl) (m_X6_init F.ok q8 (some v0) v1 h9 _ hk)) fun h11 hk =>
g_astore_n F dX1_load_36 rfl (Nat.le_of_ble_eq_true rfl) rfl <|
g_aload_n F dX1_load_37 rfl 1 rfl <|
g_aload_n F dX1_load_38 rfl 0 rfl <|
Exists.elim hk fun b13 hk => Exists.elim hk fun w14 hk => have hb12 := hk.1
have hk := hk.2
x_callr (x_V F dX1_load_39 q502 mi_X6_parse ct_X6 (rm' := (rmX6_parse b13 w14)) ⟨Nat.le_of_ble_eq_true rfl, Nat.le_of_ble_eq_true rfl⟩ ⟨show cb + 1 + 18 + b13 ≤ B by omega, show kb + 13 + 67 + w14 ≤ W by omega⟩ (As := []) (rest := [aR (some v0)]) rfl rfl (Nat.le_of_ble_eq_true rfl) hk (fun a17 hk => m_X6_parse F.ok b13 w14 a17 h11 _ _ hk)) (fun e q18 h19 hx => by
obtain ⟨rfl, hk⟩ := hx
exact GT.catch F _ _ htb rfl (by decide) q441 q764 <|
g_astore_n F dX1_load_48 rfl (Nat.le_of_ble_eq_true rfl) rfl <|
g_aload_n F dX1_load_49 rfl 2 rfl <|
g_aload_n F dX1_load_50 rfl 1 rfl <|
g_getI F dX1_load_51 fo_X6_7_LockstepRoom_Parser in_X6 fl_LockstepRoom_83_X6 hk fun x20 hk =>
g_putV F dX1_load_54 fo_X1_4_LockstepRoom ck_X1 fl_LockstepRoom_27_X1 rfl (v := aI x20) (fit_i x20) hk fun h21 hk =>
g_aload_n F dX1_load_57 rfl 0 rfl <|
g_getI F dX1_load_58 fo_X7_6_LockstepRoom_LoadError in_X7 fl_LockstepRoom_86_X7 hk fun x22 hk =>
g_iret F dX1_load_61 (show cb + 1 + 18 + b13 ≤ B by omega) (show kb + 13 + 67 + w14 ≤ W by omega) hk) fun x16 h15 hk =>
g_putV F dX1_load_42 fo_X1_0_LockstepRoom ck_X1 fl_LockstepRoom_10_X1 rfl (v := aR x16) (fit_rf "LockstepRoom$Room" x16) hk fun h23 hk =>
g_goto F dX1_load_45 (tgt := 62) rfl <|
g_aload_n F dX1_load_62 rfl 1 rfl <|
g_getR F dX1_load_63 fo_X1_1_LockstepRoom in_X1 fl_LockstepRoom_19_X1 hk fun x24 hk =>
g_callv0 (g_V F dX1_load_66 q1564 mi_J5_clear ct_J5 (rm' := rmJ5_clear) ⟨Nat.le_of_ble_eq_true rfl, Nat.le_of_ble_eq_true rfl⟩ ⟨show cb + 1 + 18 + b13 + 0 ≤ B by omega, show kb + 13 + 67 + w14 + 0 ≤ W by omega⟩ (As := []) (rest := []) rfl rfl (Nat.le_of_ble_eq_true rfl) hk (fun a27 hk => m_J5_clear F.ok a27 h23 _ hk)) ⟨rfl, rfl⟩ fun h26 hk =>
g_aload_n F dX1_load_69 rfl 0 rfl <|
g_getI F dX1_load_70 fo_X6_11_LockstepRoom_Parser in_X6 fl_LockstepRoom_92_X6 hk fun x28 hk =>
g_iret F dX1_load_73 (show cb + 1 + 18 + b13 ≤ B by omega) (show kb + 13 + 67 + w14 ≤ W by omega) hk) (fun hc => have hk := hk.1 hc
g_bipush F dX1_load_14 bp_m2 <|
g_iret F dX1_load_16 (show cb ≤ B by omega) (show kb ≤ W by omega) hk)
  exact key 0 0 (by omega) (by omega)
