set_option maxRecDepth 100000
set_option maxHeartbeats 10000000
theorem iinc_m5 (a : Int32) : a + Int32.ofInt (-5) = a + (-5 : Int32) := rfl
theorem bp_97 : (Int8.ofInt (97)).toInt32 = (97 : Int32) := by decide
theorem mo_J7_append : MOk yJ7_append 1 := by decide +kernel
theorem mi_J7_append : MI yJ7_append "java/lang/StringBuilder" cJ7_append 2 (some (.object "java/lang/StringBuilder")) 1 := ⟨q522, q523, q122, q524, rfl, mo_J7_append⟩
theorem bp_25 : (Int8.ofInt (25)).toInt32 = (25 : Int32) := by decide
theorem bp_42 : (Int8.ofInt (42)).toInt32 = (42 : Int32) := by decide
theorem mo_J7_append_3 : MOk yJ7_append_3 1 := by decide +kernel
theorem mi_J7_append_3 : MI yJ7_append_3 "java/lang/StringBuilder" cJ7_append_3 2 (some (.object "java/lang/StringBuilder")) 1 := ⟨q2931, q2932, q122, q2933, rfl, mo_J7_append_3⟩
theorem mo_J7_setLength : MOk yJ7_setLength 1 := by decide +kernel
theorem mi_J7_setLength : MI yJ7_setLength "java/lang/StringBuilder" cJ7_setLength 2 none 1 := ⟨q2880, q2881, q122, q2882, rfl, mo_J7_setLength⟩
theorem mo_X1_printName : MOk yX1_printName 1 := by decide +kernel
theorem mi_X1_printName : MI yX1_printName "LockstepRoom" cX1_printName 4 none 1 := ⟨q2989, qs44, q111, q2990, rfl, mo_X1_printName⟩
theorem bp_58 : (Int8.ofInt (58)).toInt32 = (58 : Int32) := by decide
abbrev rmX1_printName (B W : Nat) : Room := { frames := 7, cells := B, slots := W, locals := 152 }
theorem s_X1_printName_l17 {x : Cx} {B W : Nat} (F : Fx x cX1_printName "LockstepRoom" 4 none (rmX1_printName B W)) {v0 : Nat} {Q : hH → Prop} {K53 : hH → Nat → Nat → Prop} (n : Nat) (l1 : Int32) (l2 : Int32) (h : hH) (b w cb kb : Nat) (hM : cb + b ≤ B) (hS : kb + w ≤ W) (hk : f_X1_printName_l17 x.S.E v0 Q K53 n l1 l2 h b w) (hK53 : ∀ (h : hH) (b w : Nat) (cb kb : Nat), cb + b ≤ B → kb + w ≤ W → K53 h b w → G x (xQ x (rmX1_printName B W) (qV Q)) 53 [] [] h cb kb) : G x (xQ x (rmX1_printName B W) (qV Q)) 17 [(0, aR (some v0)), (1, aI l1), (2, aI l2)] [] h cb kb := by
  induction n generalizing l1 l2 h b w cb kb with
  | zero => exact False.elim hk
  | succ n ih =>
    unfold f_X1_printName_l17 at hk
    exact g_iload_n F dX1_printName_17 rfl 2 rfl <|
g_if_lt F dX1_printName_18 (tgt := 53) rfl (fun hc => have hk := hk.1 hc
G.fewer [] rfl <| hK53 h b w (cb) (kb) (by omega) (by omega) hk) (fun hc => have hk := hk.2 hc
g_iload_n F dX1_printName_21 rfl 1 rfl <|
g_iload_n F dX1_printName_22 rfl 2 rfl <|
g_ishr F dX1_printName_23 <|
g_bipush F dX1_printName_24 bp_31 <|
g_iand F dX1_printName_26 <|
g_istore_n F dX1_printName_27 rfl (Nat.le_of_ble_eq_true rfl) rfl <|
g_iload_n F dX1_printName_28 rfl 0 rfl <|
g_if_le F dX1_printName_29 (tgt := 47) rfl (fun hc => have hk := hk.1 hc
g_iinc (v := (l2 + (-5:Int32))) F dX1_printName_47 (j := 3) rfl (iinc_m5 l2) (Nat.le_of_ble_eq_true rfl) rfl <|
g_goto F dX1_printName_50 (tgt := 17) rfl <|
G.fewer [2, 3, 0] rfl <| ih l1 (l2 + (-5:Int32)) h b w (cb) (kb) (by omega) (by omega) hk) (fun hc => have hk := hk.2 hc
g_aload_n F dX1_printName_32 rfl 1 rfl <|
g_getR F dX1_printName_33 fo_X1_5_LockstepRoom in_X1 fl_LockstepRoom_34_X1 hk fun x1 hk =>
g_bipush F dX1_printName_36 bp_97 <|
g_iload_n F dX1_printName_38 rfl 0 rfl <|
g_iadd F dX1_printName_39 <|
g_iconst F dX1_printName_40 ic_1 <|
g_isub F dX1_printName_41 <|
g_i2c F dX1_printName_42 <|
Exists.elim hk fun b3 hk => Exists.elim hk fun w4 hk => have hb2 := hk.1
have hk := hk.2
g_callr (g_V F dX1_printName_43 q2991 mi_J7_append ct_J7 (rm' := (rmJ7_append b3 w4)) ⟨Nat.le_of_ble_eq_true rfl, Nat.le_of_ble_eq_true rfl⟩ ⟨show cb + b3 ≤ B by omega, show kb + w4 ≤ W by omega⟩ (As := [aI (i2c_ (((97:Int32) + ((l1 >>> (l2 &&& 31)) &&& (31:Int32))) - (1:Int32)))]) (rest := []) rfl rfl (Nat.le_of_ble_eq_true rfl) hk (fun a7 hk => m_J7_append F.ok b3 w4 a7 (i2c_ (((97:Int32) + ((l1 >>> (l2 &&& 31)) &&& (31:Int32))) - (1:Int32))) h _ hk)) fun x6 h5 hk =>
g_pop F dX1_printName_46 rfl <|
g_iinc (v := (l2 + (-5:Int32))) F dX1_printName_47 (j := 3) rfl (iinc_m5 l2) (Nat.le_of_ble_eq_true rfl) rfl <|
g_goto F dX1_printName_50 (tgt := 17) rfl <|
G.fewer [2, 3, 0] rfl <| ih l1 (l2 + (-5:Int32)) h5 (b - b3) (w - w4) (cb + b3) (kb + w4) (by omega) (by omega) hk))
theorem m_X1_printName {S : Sx} (hS0 : Sok S) (B W : Nat) (v0 : Nat) (v1 : Int32) (h : hH) (Q : hH → Prop) (hk : f_X1_printName S.E B W v0 v1 h Q) : Ct S yX1_printName (ws_ yX1_printName cX1_printName 4 none) (rmX1_printName B W) ([aR (some v0), aI v1].map vv) h (qV Q) := by
  refine Ct.of hS0 (by decide +kernel) rfl (Nat.le_of_ble_eq_true rfl) fun x hxS F hnm => ?_
  subst hxS
  unfold f_X1_printName at hk
  have key : ∀ cb kb : Nat, cb + B ≤ B → kb + W ≤ W → G x (xQ x (rmX1_printName B W) (qV Q)) 0 (aArgs 0 [aR (some v0), aI v1]) [] h cb kb := fun cb kb hM hS =>
g_iload_n F dX1_printName_0 rfl 1 rfl <|
g_if_ne F dX1_printName_1 (tgt := 14) rfl (fun hc => have hk := hk.2 hc
g_bipush F dX1_printName_14 bp_25 <|
g_istore_n F dX1_printName_16 rfl (Nat.le_of_ble_eq_true rfl) rfl <|
G.fewer [1, 2, 0] rfl <| s_X1_printName_l17 F 1000000 v1 (25:Int32) h B W (cb) (kb) (by omega) (by omega) hk ((fun h b w cb kb hM hS hk => g_vret F dX1_printName_53 (show cb ≤ B by omega) (show kb ≤ W by omega) hk))) (fun hc => have hk := hk.1 hc
g_aload_n F dX1_printName_4 rfl 0 rfl <|
g_getR F dX1_printName_5 fo_X1_5_LockstepRoom in_X1 fl_LockstepRoom_34_X1 hk fun x8 hk =>
g_bipush F dX1_printName_8 bp_42 <|
Exists.elim hk fun b10 hk => Exists.elim hk fun w11 hk => have hb9 := hk.1
have hk := hk.2
g_callr (g_V F dX1_printName_10 q2991 mi_J7_append ct_J7 (rm' := (rmJ7_append b10 w11)) ⟨Nat.le_of_ble_eq_true rfl, Nat.le_of_ble_eq_true rfl⟩ ⟨show cb + b10 ≤ B by omega, show kb + w11 ≤ W by omega⟩ (As := [aI (42:Int32)]) (rest := []) rfl rfl (Nat.le_of_ble_eq_true rfl) hk (fun a14 hk => m_J7_append F.ok b10 w11 a14 (42:Int32) h _ hk)) fun x13 h12 hk =>
g_pop F dX1_printName_13 rfl <|
g_bipush F dX1_printName_14 bp_25 <|
g_istore_n F dX1_printName_16 rfl (Nat.le_of_ble_eq_true rfl) rfl <|
G.fewer [1, 2, 0] rfl <| s_X1_printName_l17 F 1000000 v1 (25:Int32) h12 (B - b10) (W - w11) (cb + b10) (kb + w11) (by omega) (by omega) hk ((fun h b w cb kb hM hS hk => g_vret F dX1_printName_53 (show cb ≤ B by omega) (show kb ≤ W by omega) hk)))
  exact key 0 0 (by omega) (by omega)
abbrev rmX1_write (B W : Nat) : Room := { frames := 8, cells := B, slots := W, locals := 175 }
theorem s_X1_write_l44 {x : Cx} {B W : Nat} (F : Fx x cX1_write "LockstepRoom" 7 (some .int) (rmX1_write B W)) {v0 : Nat} (hno : NoH x) {Q : Int32 → hH → Prop} {X : String → Nat → hH → Prop} {K78 : hH → Nat → Nat → Prop} (n : Nat) (l3 : Option Nat) (l4 : Int32) (l5 : Int32) (h : hH) (b w cb kb : Nat) (hM : cb + b ≤ B) (hS : kb + w ≤ W) (hk : f_X1_write_l44 x.S.E v0 Q X K78 n l3 l4 l5 h b w) (hK78 : ∀ (h : hH) (b w : Nat) (cb kb : Nat), cb + b ≤ B → kb + w ≤ W → K78 h b w → G x (xQX x (rmX1_write B W) (qI Q) X) 78 [(0, aR (some v0))] [] h cb kb) : G x (xQX x (rmX1_write B W) (qI Q) X) 44 [(0, aR (some v0)), (3, aR l3), (4, aI l4), (5, aI l5)] [] h cb kb := by
  induction n generalizing l3 l4 l5 h b w cb kb with
  | zero => exact False.elim hk
  | succ n ih =>
    unfold f_X1_write_l44 at hk
    exact g_iload F dX1_write_44 3 rfl <|
g_iload F dX1_write_46 2 rfl <|
g_icmp_ge F dX1_write_48 (tgt := 78) rfl (fun hc => have hk := hk.1 hc
G.fewer [0] rfl <| hK78 h b w (cb) (kb) (by omega) (by omega) hk) (fun hc => have hk := hk.2 hc
g_aload_n F dX1_write_51 rfl 1 rfl <|
g_iload F dX1_write_52 3 rfl <|
g_iald F dX1_write_54 hk fun x1 hk =>
g_istore F dX1_write_55 (Nat.le_of_ble_eq_true rfl) rfl <|
g_aload_n F dX1_write_57 rfl 1 rfl <|
g_getR F dX1_write_58 fo_X1_5_LockstepRoom in_X1 fl_LockstepRoom_34_X1 hk fun x2 hk =>
g_bipush F dX1_write_61 bp_32 <|
Exists.elim hk fun b4 hk => Exists.elim hk fun w5 hk => have hb3 := hk.1
have hk := hk.2
g_callr (g_V F dX1_write_63 q2991 mi_J7_append ct_J7 (rm' := (rmJ7_append b4 w5)) ⟨Nat.le_of_ble_eq_true rfl, Nat.le_of_ble_eq_true rfl⟩ ⟨show cb + b4 ≤ B by omega, show kb + w5 ≤ W by omega⟩ (As := [aI (32:Int32)]) (rest := []) rfl rfl (Nat.le_of_ble_eq_true rfl) hk (fun a8 hk => m_J7_append F.ok b4 w5 a8 (32:Int32) h _ hk)) fun x7 h6 hk =>
g_iload F dX1_write_66 0 rfl <|
Exists.elim hk fun b10 hk => Exists.elim hk fun w11 hk => have hb9 := hk.1
have hk := hk.2
g_callr (g_V F dX1_write_68 q2992 mi_J7_append_3 ct_J7 (rm' := (rmJ7_append_3 b10 w11)) ⟨Nat.le_of_ble_eq_true rfl, Nat.le_of_ble_eq_true rfl⟩ ⟨show cb + b4 + b10 ≤ B by omega, show kb + w5 + w11 ≤ W by omega⟩ (As := [aI x1]) (rest := []) rfl rfl (Nat.le_of_ble_eq_true rfl) hk (fun a14 hk => m_J7_append_3 F.ok b10 w11 a14 x1 h6 _ hk)) fun x13 h12 hk =>
g_pop F dX1_write_71 rfl <|
g_iinc (v := (l5 + (1:Int32))) F dX1_write_72 (j := 4) rfl (iinc_1 l5) (Nat.le_of_ble_eq_true rfl) rfl <|
g_goto F dX1_write_75 (tgt := 44) rfl <|
G.fewer [2, 3, 4, 0] rfl <| ih l3 l4 (l5 + (1:Int32)) h12 ((b - b4) - b10) ((w - w5) - w11) (cb + b4 + b10) (kb + w5 + w11) (by omega) (by omega) hk)
theorem m_X1_write {S : Sx} (hS0 : Sok S) (B W : Nat) (v0 : Nat) (v1 : Int32) (h : hH) (Q : Int32 → hH → Prop) (X : String → Nat → hH → Prop) (hk : f_X1_write S.E B W v0 v1 h Q X) : CtX S yX1_write (ws_ yX1_write cX1_write 7 (some .int)) (rmX1_write B W) ([aR (some v0), aI v1].map vv) h (qI Q) X := by
  refine CtX.of hS0 (by decide +kernel) rfl (Nat.le_of_ble_eq_true rfl) fun x hxS F hnm hno => ?_
  subst hxS
  unfold f_X1_write at hk
  have key : ∀ cb kb : Nat, cb + B ≤ B → kb + W ≤ W → G x (xQX x (rmX1_write B W) (qI Q) X) 0 (aArgs 0 [aR (some v0), aI v1]) [] h cb kb := fun cb kb hM hS =>
g_aload_n F dX1_write_0 rfl 0 rfl <|
g_iload_n F dX1_write_1 rfl 1 rfl <|
have hb15 := hk.1
have hk := hk.2
x_callr (x_V F dX1_write_2 q2630 mi_X1_memberAt ct_X1 (rm' := rmX1_memberAt) ⟨Nat.le_of_ble_eq_true rfl, Nat.le_of_ble_eq_true rfl⟩ ⟨show cb + 1 ≤ B by omega, show kb + 6 ≤ W by omega⟩ (As := [aI v1]) (rest := []) rfl rfl (Nat.le_of_ble_eq_true rfl) hk (fun a18 hk => m_X1_memberAt F.ok a18 v1 h _ _ hk)) (fun _ _ _ hx => GT.out F hno.cov (show cb + 1 ≤ B by omega) (show kb + 6 ≤ W by omega) hx) fun x17 h16 hk =>
g_astore_n F dX1_write_5 rfl (Nat.le_of_ble_eq_true rfl) rfl <|
g_aload_n F dX1_write_6 rfl 1 rfl <|
g_getR F dX1_write_7 fo_X1_5_LockstepRoom in_X1 fl_LockstepRoom_34_X1 hk fun x19 hk =>
g_iconst F dX1_write_10 ic_0 <|
Exists.elim hk fun b21 hk => Exists.elim hk fun w22 hk => have hb20 := hk.1
have hk := hk.2
g_callv (g_V F dX1_write_11 q2879 mi_J7_setLength ct_J7 (rm' := (rmJ7_setLength b21 w22)) ⟨Nat.le_of_ble_eq_true rfl, Nat.le_of_ble_eq_true rfl⟩ ⟨show cb + 1 + b21 ≤ B by omega, show kb + 6 + w22 ≤ W by omega⟩ (As := [aI (0:Int32)]) (rest := []) rfl rfl (Nat.le_of_ble_eq_true rfl) hk (fun a24 hk => m_J7_setLength F.ok b21 w22 a24 (0:Int32) h16 _ hk)) fun h23 hk =>
g_aload_n F dX1_write_14 rfl 1 rfl <|
g_aload_n F dX1_write_15 rfl 0 rfl <|
g_getI F dX1_write_16 fo_X10_1_LockstepRoom_Member in_X10 fl_LockstepRoom_131_X10 hk fun x25 hk =>
Exists.elim hk fun b27 hk => Exists.elim hk fun w28 hk => have hb26 := hk.1
have hk := hk.2
g_callv (g_V F dX1_write_19 q2987 mi_X1_printName ct_X1 (rm' := (rmX1_printName b27 w28)) ⟨Nat.le_of_ble_eq_true rfl, Nat.le_of_ble_eq_true rfl⟩ ⟨show cb + 1 + b21 + b27 ≤ B by omega, show kb + 6 + w22 + w28 ≤ W by omega⟩ (As := [aI x25]) (rest := []) rfl rfl (Nat.le_of_ble_eq_true rfl) hk (fun a30 hk => m_X1_printName F.ok b27 w28 a30 x25 h23 _ hk)) fun h29 hk =>
g_aload_n F dX1_write_22 rfl 1 rfl <|
g_getR F dX1_write_23 fo_X1_5_LockstepRoom in_X1 fl_LockstepRoom_34_X1 hk fun x31 hk =>
g_bipush F dX1_write_26 bp_58 <|
Exists.elim hk fun b33 hk => Exists.elim hk fun w34 hk => have hb32 := hk.1
have hk := hk.2
g_callr (g_V F dX1_write_28 q2991 mi_J7_append ct_J7 (rm' := (rmJ7_append b33 w34)) ⟨Nat.le_of_ble_eq_true rfl, Nat.le_of_ble_eq_true rfl⟩ ⟨show cb + 1 + b21 + b27 + b33 ≤ B by omega, show kb + 6 + w22 + w28 + w34 ≤ W by omega⟩ (As := [aI (58:Int32)]) (rest := []) rfl rfl (Nat.le_of_ble_eq_true rfl) hk (fun a37 hk => m_J7_append F.ok b33 w34 a37 (58:Int32) h29 _ hk)) fun x36 h35 hk =>
g_pop F dX1_write_31 rfl <|
g_aload_n F dX1_write_32 rfl 0 rfl <|
g_getR F dX1_write_33 fo_X10_3_LockstepRoom_Member in_X10 fl_LockstepRoom_166_X10 hk fun x38 hk =>
g_astore_n F dX1_write_36 rfl (Nat.le_of_ble_eq_true rfl) rfl <|
g_aload_n F dX1_write_37 rfl 0 rfl <|
g_alen (t := 0) F dX1_write_38 rfl hk fun x39 hk =>
g_istore F dX1_write_39 (Nat.le_of_ble_eq_true rfl) rfl <|
g_iconst F dX1_write_41 ic_0 <|
g_istore F dX1_write_42 (Nat.le_of_ble_eq_true rfl) rfl <|
G.fewer [4, 2, 1, 0] rfl <| s_X1_write_l44 F hno 1000000 x38 x39 (0:Int32) h35 ((((B - 1) - b21) - b27) - b33) ((((W - 6) - w22) - w28) - w34) (cb + 1 + b21 + b27 + b33) (kb + 6 + w22 + w28 + w34) (by omega) (by omega) hk ((fun h b w cb kb hM hS hk => g_aload_n F dX1_write_78 rfl 0 rfl <|
g_getR F dX1_write_79 fo_X1_5_LockstepRoom in_X1 fl_LockstepRoom_34_X1 hk fun x40 hk =>
g_calli0 (g_V F dX1_write_82 q2585 mi_J7_length ct_J7 (rm' := rmJ7_length) ⟨Nat.le_of_ble_eq_true rfl, Nat.le_of_ble_eq_true rfl⟩ ⟨show cb + 0 ≤ B by omega, show kb + 0 ≤ W by omega⟩ (As := []) (rest := []) rfl rfl (Nat.le_of_ble_eq_true rfl) hk (fun a44 hk => m_J7_length F.ok a44 h _ hk)) ⟨rfl, rfl⟩ fun x43 h42 hk =>
G.toX <| g_iret F dX1_write_85 (show cb ≤ B by omega) (show kb ≤ W by omega) hk))
  exact key 0 0 (by omega) (by omega)
