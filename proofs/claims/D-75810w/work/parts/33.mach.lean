set_option maxRecDepth 100000
set_option maxHeartbeats 10000000
theorem sp_10000 : (Int16.ofInt (10000)).toInt32 = (10000 : Int32) := by decide
theorem ct_X3 : CL[2]? = some (RX3, TX3, 2) := rfl
theorem ck_X3 : ClsOk RX3 TX3 2 tyX3 := ⟨in_X3, tyX3_ok, nmX3⟩
theorem fo_X3_0_LockstepRoom_Machine : FieldOk "LockstepRoom$Machine" 2 0 RX3 TX3 2 := ⟨ct_X3, Nat.le_of_ble_eq_true rfl, Or.inl rfl⟩
theorem fl_LockstepRoom_Machine_9_X3 : Cond.fieldLink "LockstepRoom$Machine" 9 "LockstepRoom$Machine" (TX3 0).2.1 (TX3 0).2.2.1 ∈ lw_all ∨ ∃ host, Cond.fieldLinkNest "LockstepRoom$Machine" 9 "LockstepRoom$Machine" (TX3 0).2.1 (TX3 0).2.2.1 host ∈ lw_tbl := Or.inl q214
theorem bp_6 : (Int8.ofInt (6)).toInt32 = (6 : Int32) := by decide
theorem ic_3 : Int32.ofInt (3) = (3 : Int32) := by decide
theorem ic_5 : Int32.ofInt (5) = (5 : Int32) := by decide
theorem fo_X3_1_LockstepRoom_Machine : FieldOk "LockstepRoom$Machine" 2 1 RX3 TX3 2 := ⟨ct_X3, Nat.le_of_ble_eq_true rfl, Or.inl rfl⟩
theorem fl_LockstepRoom_Machine_28_X3 : Cond.fieldLink "LockstepRoom$Machine" 28 "LockstepRoom$Machine" (TX3 1).2.1 (TX3 1).2.2.1 ∈ lw_all ∨ ∃ host, Cond.fieldLinkNest "LockstepRoom$Machine" 28 "LockstepRoom$Machine" (TX3 1).2.1 (TX3 1).2.2.1 host ∈ lw_tbl := Or.inl q215
theorem nz_10000_Int32 : ¬ (10000 : Int32) = 0 := by decide
theorem fl_LockstepRoom_Machine_32_X8 : Cond.fieldLink "LockstepRoom$Machine" 32 "LockstepRoom$Command" (TX8 2).2.1 (TX8 2).2.2.1 ∈ lw_all ∨ ∃ host, Cond.fieldLinkNest "LockstepRoom$Machine" 32 "LockstepRoom$Command" (TX8 2).2.1 (TX8 2).2.2.1 host ∈ lw_tbl := Or.inr ⟨_, q1011⟩
theorem fl_LockstepRoom_Machine_37_X8 : Cond.fieldLink "LockstepRoom$Machine" 37 "LockstepRoom$Command" (TX8 3).2.1 (TX8 3).2.2.1 ∈ lw_all ∨ ∃ host, Cond.fieldLinkNest "LockstepRoom$Machine" 37 "LockstepRoom$Command" (TX8 3).2.1 (TX8 3).2.2.1 host ∈ lw_tbl := Or.inr ⟨_, q1014⟩
theorem fl_LockstepRoom_Machine_40_X8 : Cond.fieldLink "LockstepRoom$Machine" 40 "LockstepRoom$Command" (TX8 4).2.1 (TX8 4).2.2.1 ∈ lw_all ∨ ∃ host, Cond.fieldLinkNest "LockstepRoom$Machine" 40 "LockstepRoom$Command" (TX8 4).2.1 (TX8 4).2.2.1 host ∈ lw_tbl := Or.inr ⟨_, q1017⟩
abbrev rmX3_init : Room := { frames := 2, cells := 5, slots := 10, locals := 3100 }
theorem m_X3_init {S : Sx} (hS0 : Sok S) (v0 : Nat) (h : hH) (Q : hH → Prop) (hk : f_X3_init S.E v0 h Q) : Ct S yX3_init (ws_ yX3_init cX3_init 1 none) rmX3_init ([aR (some v0)].map vv) h (qV Q) := by
  refine Ct.ofN hS0 (by decide +kernel) rfl (Nat.le_of_ble_eq_true rfl) fun x hxS F hnm hN => ?_
  subst hxS
  unfold f_X3_init at hk
  have hM : 0 + 5 ≤ 5 := by omega
  have hS : 0 + 10 ≤ 10 := by omega
  refine G.widen (c' := 0 + 0) (k' := 0 + 0) (Nat.le_refl 0) (Nat.le_refl 0) ?_
  exact g_aload_n F dX3_init_0 rfl 0 rfl <|
g_objInit (rest := []) F dX3_init_1 q195 q182 q_objcode (Nat.le_of_ble_eq_true rfl) (Nat.le_of_ble_eq_true rfl) <|
g_aload_n F dX3_init_4 rfl 0 rfl <|
g_sipush F dX3_init_5 sp_10000 <|
g_putF F dX3_init_8 fo_X3_0_LockstepRoom_Machine ck_X3 q214 rfl hnm rfl (v := aI (10000:Int32)) (fit_i (10000:Int32)) hk fun h1 hk =>
g_aload_n F dX3_init_11 rfl 0 rfl <|
g_bipush F dX3_init_12 bp_6 <|
g_newQ (t := 7) F dX3_init_14 q196 q197 rfl rfl (Nat.le_of_ble_eq_true rfl) (Nat.le_of_ble_eq_true rfl) (show 0 + 0 + 1 ≤ 5 by omega) (show 0 + 0 + 6 ≤ 10 by omega) hk fun q2 h3 hk =>
g_dup F dX3_init_17 rfl <|
g_iconst F dX3_init_18 ic_0 <|
g_indyC F hN dX3_init_19 F.ok.2.2.2.2.2.2.2.2.2.1 (Nat.le_of_ble_eq_true rfl) <|
g_aastR F dX3_init_24 (any_laC F F.ok.2.2.2.2.2.2.2.2.2.1 rfl) hk fun h4 hk =>
g_dup F dX3_init_25 rfl <|
g_iconst F dX3_init_26 ic_1 <|
g_aload_n F dX3_init_27 rfl 0 rfl <|
g_indyM (t := 11) F hN dX3_init_28 F.ok.2.2.2.2.2.2.2.2.2.2.1 rfl (la_up F rfl F.ok.2.2.2.2.2.2.2.2.2.2.1 (fun _ _ _ _ h1 h2 h3 h4 => La1_made h1 h2 h3 h4) x.s (State.WarmedH.refl _)).2.2 (Nat.le_of_ble_eq_true rfl) (show 0 + 0 + 1 + 1 ≤ 5 by omega) (show 0 + 0 + 6 + 1 ≤ 10 by omega) hk fun q5 h6 hk =>
g_aastR F dX3_init_33 (any_laM F F.ok.2.2.2.2.2.2.2.2.2.2.1 rfl hk.1) hk.2 fun h7 hk =>
g_dup F dX3_init_34 rfl <|
g_iconst F dX3_init_35 ic_2 <|
g_indyC F hN dX3_init_36 F.ok.2.2.2.2.2.2.2.2.2.2.2.1 (Nat.le_of_ble_eq_true rfl) <|
g_aastR F dX3_init_41 (any_laC F F.ok.2.2.2.2.2.2.2.2.2.2.2.1 rfl) hk fun h8 hk =>
g_dup F dX3_init_42 rfl <|
g_iconst F dX3_init_43 ic_3 <|
g_aload_n F dX3_init_44 rfl 0 rfl <|
g_indyM (t := 13) F hN dX3_init_45 F.ok.2.2.2.2.2.2.2.2.2.2.2.2.1 rfl (la_up F rfl F.ok.2.2.2.2.2.2.2.2.2.2.2.2.1 (fun _ _ _ _ h1 h2 h3 h4 => La3_made h1 h2 h3 h4) x.s (State.WarmedH.refl _)).2.2 (Nat.le_of_ble_eq_true rfl) (show 0 + 0 + 1 + 1 + 1 ≤ 5 by omega) (show 0 + 0 + 6 + 1 + 1 ≤ 10 by omega) hk fun q9 h10 hk =>
g_aastR F dX3_init_50 (any_laM F F.ok.2.2.2.2.2.2.2.2.2.2.2.2.1 rfl hk.1) hk.2 fun h11 hk =>
g_dup F dX3_init_51 rfl <|
g_iconst F dX3_init_52 ic_4 <|
g_aload_n F dX3_init_53 rfl 0 rfl <|
g_indyM (t := 14) F hN dX3_init_54 F.ok.2.2.2.2.2.2.2.2.2.2.2.2.2.1 rfl (la_up F rfl F.ok.2.2.2.2.2.2.2.2.2.2.2.2.2.1 (fun _ _ _ _ h1 h2 h3 h4 => La4_made h1 h2 h3 h4) x.s (State.WarmedH.refl _)).2.2 (Nat.le_of_ble_eq_true rfl) (show 0 + 0 + 1 + 1 + 1 + 1 ≤ 5 by omega) (show 0 + 0 + 6 + 1 + 1 + 1 ≤ 10 by omega) hk fun q12 h13 hk =>
g_aastR F dX3_init_59 (any_laM F F.ok.2.2.2.2.2.2.2.2.2.2.2.2.2.1 rfl hk.1) hk.2 fun h14 hk =>
g_dup F dX3_init_60 rfl <|
g_iconst F dX3_init_61 ic_5 <|
g_aload_n F dX3_init_62 rfl 0 rfl <|
g_indyM (t := 15) F hN dX3_init_63 F.ok.2.2.2.2.2.2.2.2.2.2.2.2.2.2 rfl (la_up F rfl F.ok.2.2.2.2.2.2.2.2.2.2.2.2.2.2 (fun _ _ _ _ h1 h2 h3 h4 => La5_made h1 h2 h3 h4) x.s (State.WarmedH.refl _)).2.2 (Nat.le_of_ble_eq_true rfl) (show 0 + 0 + 1 + 1 + 1 + 1 + 1 ≤ 5 by omega) (show 0 + 0 + 6 + 1 + 1 + 1 + 1 ≤ 10 by omega) hk fun q15 h16 hk =>
g_aastR F dX3_init_68 (any_laM F F.ok.2.2.2.2.2.2.2.2.2.2.2.2.2.2 rfl hk.1) hk.2 fun h17 hk =>
g_putF F dX3_init_69 fo_X3_1_LockstepRoom_Machine ck_X3 q215 rfl hnm rfl (v := aR (some q2)) (fit_ra (.object "LockstepRoom$Rule") (some q2)) hk fun h18 hk =>
g_vret F dX3_init_72 (show 0 + 0 + 1 + 1 + 1 + 1 + 1 ≤ 5 by omega) (show 0 + 0 + 6 + 1 + 1 + 1 + 1 ≤ 10 by omega) hk
abbrev rmX3_lambda_new_0 : Room := { frames := 2, cells := 0, slots := 0, locals := 40 }
theorem m_X3_lambda_new_0 {S : Sx} (hS0 : Sok S) (v0 : Option Nat) (v1 : Int32) (v2 : Int32) (h : hH) (Q : hH → Prop) (hk : f_X3_lambda_new_0 S.E v0 v1 v2 h Q) : Ct S yX3_lambda_new_0 (ws_ yX3_lambda_new_0 cX3_lambda_new_0 3 none) rmX3_lambda_new_0 ([aR v0, aI v1, aI v2].map vv) h (qV Q) := by
  refine Ct.of hS0 (by decide +kernel) rfl (Nat.le_of_ble_eq_true rfl) fun x hxS F hnm => ?_
  subst hxS
  unfold f_X3_lambda_new_0 at hk
  exact g_aload_n F dX3_lambda_new_0_0 rfl 0 rfl <|
g_iload_n F dX3_lambda_new_0_1 rfl 1 rfl <|
g_iload_n F dX3_lambda_new_0_2 rfl 2 rfl <|
g_iast F dX3_lambda_new_0_3 hk fun h1 hk =>
g_vret F dX3_lambda_new_0_4 (Nat.le_refl 0) (Nat.le_refl 0) hk
abbrev rmX3_lambda_new_1 : Room := { frames := 2, cells := 0, slots := 0, locals := 40 }
theorem m_X3_lambda_new_1 {S : Sx} (hS0 : Sok S) (v0 : Nat) (v1 : Option Nat) (v2 : Int32) (v3 : Int32) (h : hH) (Q : hH → Prop) (hk : f_X3_lambda_new_1 S.E v0 v1 v2 v3 h Q) : Ct S yX3_lambda_new_1 (ws_ yX3_lambda_new_1 cX3_lambda_new_1 4 none) rmX3_lambda_new_1 ([aR (some v0), aR v1, aI v2, aI v3].map vv) h (qV Q) := by
  refine Ct.of hS0 (by decide +kernel) rfl (Nat.le_of_ble_eq_true rfl) fun x hxS F hnm => ?_
  subst hxS
  unfold f_X3_lambda_new_1 at hk
  exact g_aload_n F dX3_lambda_new_1_0 rfl 1 rfl <|
g_iload_n F dX3_lambda_new_1_1 rfl 2 rfl <|
g_aload_n F dX3_lambda_new_1_2 rfl 1 rfl <|
g_iload_n F dX3_lambda_new_1_3 rfl 2 rfl <|
g_iald F dX3_lambda_new_1_4 hk fun x1 hk =>
g_iload_n F dX3_lambda_new_1_5 rfl 3 rfl <|
g_iadd F dX3_lambda_new_1_6 <|
g_sipush F dX3_lambda_new_1_7 sp_10000 <|
g_irem F dX3_lambda_new_1_10 nz_10000_Int32 <|
g_iast F dX3_lambda_new_1_11 hk fun h2 hk =>
g_vret F dX3_lambda_new_1_12 (Nat.le_refl 0) (Nat.le_refl 0) hk
abbrev rmX3_lambda_new_2 : Room := { frames := 2, cells := 0, slots := 0, locals := 40 }
theorem m_X3_lambda_new_2 {S : Sx} (hS0 : Sok S) (v0 : Option Nat) (v1 : Int32) (v2 : Int32) (h : hH) (Q : hH → Prop) (hk : f_X3_lambda_new_2 S.E v0 v1 v2 h Q) : Ct S yX3_lambda_new_2 (ws_ yX3_lambda_new_2 cX3_lambda_new_2 3 none) rmX3_lambda_new_2 ([aR v0, aI v1, aI v2].map vv) h (qV Q) := by
  refine Ct.of hS0 (by decide +kernel) rfl (Nat.le_of_ble_eq_true rfl) fun x hxS F hnm => ?_
  subst hxS
  unfold f_X3_lambda_new_2 at hk
  exact g_aload_n F dX3_lambda_new_2_0 rfl 0 rfl <|
g_iload_n F dX3_lambda_new_2_1 rfl 1 rfl <|
g_aload_n F dX3_lambda_new_2_2 rfl 0 rfl <|
g_iload_n F dX3_lambda_new_2_3 rfl 2 rfl <|
g_iald F dX3_lambda_new_2_4 hk fun x1 hk =>
g_iast F dX3_lambda_new_2_5 hk fun h2 hk =>
g_vret F dX3_lambda_new_2_6 (Nat.le_refl 0) (Nat.le_refl 0) hk
abbrev rmX3_lambda_new_3 : Room := { frames := 2, cells := 0, slots := 0, locals := 40 }
theorem m_X3_lambda_new_3 {S : Sx} (hS0 : Sok S) (v0 : Nat) (v1 : Option Nat) (v2 : Int32) (v3 : Int32) (h : hH) (Q : hH → Prop) (hk : f_X3_lambda_new_3 S.E v0 v1 v2 v3 h Q) : Ct S yX3_lambda_new_3 (ws_ yX3_lambda_new_3 cX3_lambda_new_3 4 none) rmX3_lambda_new_3 ([aR (some v0), aR v1, aI v2, aI v3].map vv) h (qV Q) := by
  refine Ct.of hS0 (by decide +kernel) rfl (Nat.le_of_ble_eq_true rfl) fun x hxS F hnm => ?_
  subst hxS
  unfold f_X3_lambda_new_3 at hk
  exact g_aload_n F dX3_lambda_new_3_0 rfl 1 rfl <|
g_iload_n F dX3_lambda_new_3_1 rfl 2 rfl <|
g_aload_n F dX3_lambda_new_3_2 rfl 1 rfl <|
g_iload_n F dX3_lambda_new_3_3 rfl 2 rfl <|
g_iald F dX3_lambda_new_3_4 hk fun x1 hk =>
g_aload_n F dX3_lambda_new_3_5 rfl 1 rfl <|
g_iload_n F dX3_lambda_new_3_6 rfl 3 rfl <|
g_iald F dX3_lambda_new_3_7 hk fun x2 hk =>
g_iadd F dX3_lambda_new_3_8 <|
g_sipush F dX3_lambda_new_3_9 sp_10000 <|
g_irem F dX3_lambda_new_3_12 nz_10000_Int32 <|
g_iast F dX3_lambda_new_3_13 hk fun h3 hk =>
g_vret F dX3_lambda_new_3_14 (Nat.le_refl 0) (Nat.le_refl 0) hk
abbrev rmX3_swap : Room := { frames := 2, cells := 0, slots := 0, locals := 40 }
theorem m_X3_swap {S : Sx} (hS0 : Sok S) (v0 : Nat) (v1 : Option Nat) (v2 : Int32) (v3 : Int32) (h : hH) (Q : hH → Prop) (hk : f_X3_swap S.E v0 v1 v2 v3 h Q) : Ct S yX3_swap (ws_ yX3_swap cX3_swap 5 none) rmX3_swap ([aR (some v0), aR v1, aI v2, aI v3].map vv) h (qV Q) := by
  refine Ct.of hS0 (by decide +kernel) rfl (Nat.le_of_ble_eq_true rfl) fun x hxS F hnm => ?_
  subst hxS
  unfold f_X3_swap at hk
  exact g_aload_n F dX3_swap_0 rfl 1 rfl <|
g_iload_n F dX3_swap_1 rfl 2 rfl <|
g_iald F dX3_swap_2 hk fun x1 hk =>
g_istore F dX3_swap_3 (Nat.le_of_ble_eq_true rfl) rfl <|
g_aload_n F dX3_swap_5 rfl 2 rfl <|
g_iload_n F dX3_swap_6 rfl 3 rfl <|
g_aload_n F dX3_swap_7 rfl 2 rfl <|
g_iload_n F dX3_swap_8 rfl 4 rfl <|
g_iald F dX3_swap_9 hk fun x2 hk =>
g_iast F dX3_swap_10 hk fun h3 hk =>
g_aload_n F dX3_swap_11 rfl 2 rfl <|
g_iload_n F dX3_swap_12 rfl 4 rfl <|
g_iload F dX3_swap_13 0 rfl <|
g_iast F dX3_swap_15 hk fun h4 hk =>
g_vret F dX3_swap_16 (Nat.le_refl 0) (Nat.le_refl 0) hk
abbrev rmX3_lambda_new_4 : Room := { frames := 2, cells := 0, slots := 0, locals := 40 }
theorem m_X3_lambda_new_4 {S : Sx} (hS0 : Sok S) (v0 : Nat) (v1 : Option Nat) (v2 : Int32) (v3 : Int32) (h : hH) (Q : hH → Prop) (hk : f_X3_lambda_new_4 S.E v0 v1 v2 v3 h Q) : Ct S yX3_lambda_new_4 (ws_ yX3_lambda_new_4 cX3_lambda_new_4 4 none) rmX3_lambda_new_4 ([aR (some v0), aR v1, aI v2, aI v3].map vv) h (qV Q) := by
  refine Ct.of hS0 (by decide +kernel) rfl (Nat.le_of_ble_eq_true rfl) fun x hxS F hnm => ?_
  subst hxS
  unfold f_X3_lambda_new_4 at hk
  exact g_aload_n F dX3_lambda_new_4_0 rfl 1 rfl <|
g_iload_n F dX3_lambda_new_4_1 rfl 2 rfl <|
g_aload_n F dX3_lambda_new_4_2 rfl 1 rfl <|
g_iload_n F dX3_lambda_new_4_3 rfl 2 rfl <|
g_iald F dX3_lambda_new_4_4 hk fun x1 hk =>
g_aload_n F dX3_lambda_new_4_5 rfl 1 rfl <|
g_iload_n F dX3_lambda_new_4_6 rfl 3 rfl <|
g_iald F dX3_lambda_new_4_7 hk fun x2 hk =>
g_imul F dX3_lambda_new_4_8 <|
g_sipush F dX3_lambda_new_4_9 sp_10000 <|
g_irem F dX3_lambda_new_4_12 nz_10000_Int32 <|
g_iast F dX3_lambda_new_4_13 hk fun h3 hk =>
g_vret F dX3_lambda_new_4_14 (Nat.le_refl 0) (Nat.le_refl 0) hk
abbrev rmX3_execute : Room := { frames := 4, cells := 0, slots := 0, locals := 87 }
theorem s_X3_execute_l9 {x : Cx} (F : Fx x cX3_execute "LockstepRoom$Machine" 7 none rmX3_execute) {v0 : Nat} {Q : hH → Prop} {K54 : hH → Prop} (n : Nat) (l2 : Option Nat) (l3 : Option Nat) (l4 : Int32) (l5 : Int32) (h : hH) (hk : f_X3_execute_l9 x.S.E v0 Q K54 n l2 l3 l4 l5 h) (hK54 : ∀ (h : hH), K54 h → G x (xQ x rmX3_execute (qV Q)) 54 [] [] h 0 0) : G x (xQ x rmX3_execute (qV Q)) 9 [(0, aR (some v0)), (2, aR l2), (3, aR l3), (4, aI l4), (5, aI l5)] [] h 0 0 := by
  induction n generalizing l2 l3 l4 l5 h with
  | zero => exact False.elim hk
  | succ n ih =>
    unfold f_X3_execute_l9 at hk
    exact g_iload F dX3_execute_9 4 rfl <|
g_iload F dX3_execute_11 3 rfl <|
g_icmp_ge F dX3_execute_13 (tgt := 54) rfl (fun hc => have hk := hk.1 hc
G.fewer [] rfl <| hK54 h hk) (fun hc => have hk := hk.2 hc
g_aload_n F dX3_execute_16 rfl 2 rfl <|
g_iload F dX3_execute_17 4 rfl <|
g_aald (t := 5) F dX3_execute_19 rfl rfl hk fun x1 hk =>
g_astore F dX3_execute_20 (Nat.le_of_ble_eq_true rfl) rfl <|
g_aload_n F dX3_execute_22 rfl 1 rfl <|
g_getR F dX3_execute_23 fo_X3_1_LockstepRoom_Machine in_X3 fl_LockstepRoom_Machine_28_X3 hk fun x2 hk =>
g_aload F dX3_execute_26 0 rfl <|
g_getI F dX3_execute_28 fo_X8_2_LockstepRoom_Command in_X8 fl_LockstepRoom_Machine_32_X8 hk fun x3 hk =>
g_aald (t := 7) F dX3_execute_31 rfl rfl hk fun x4 hk =>
g_aload_n F dX3_execute_32 rfl 2 rfl <|
g_aload F dX3_execute_33 0 rfl <|
g_getI F dX3_execute_35 fo_X8_3_LockstepRoom_Command in_X8 fl_LockstepRoom_Machine_37_X8 hk fun x5 hk =>
g_aload F dX3_execute_38 0 rfl <|
g_getI F dX3_execute_40 fo_X8_4_LockstepRoom_Command in_X8 fl_LockstepRoom_Machine_40_X8 hk fun x6 hk =>
(fun hk => hk.elim (fun hk => by
obtain ⟨hr2, hk2⟩ := hk
subst hr2
exact g_callv05 (g_LaS F dX3_execute_43 q1995 rfl F.ok.2.2.2.2.2.2.2.2.2.1 (la_shS _) (fun _ _ _ _ h1 h2 h3 h4 => La0_made h1 h2 h3 h4) rfl rfl q198 q113 q199 (rm' := rmX3_lambda_new_0) ⟨Nat.le_of_ble_eq_true rfl, Nat.le_of_ble_eq_true rfl⟩ ⟨Nat.le_refl 0, Nat.le_refl 0⟩ (Nat.le_of_ble_eq_true rfl) (m_X3_lambda_new_0 F.ok l2 x5 x6 h _ hk2)) ⟨rfl, rfl⟩ fun h7 hk =>
g_iinc (v := (l5 + (1:Int32))) F dX3_execute_48 (j := 5) rfl (iinc_1 l5) (Nat.le_of_ble_eq_true rfl) rfl <|
g_goto F dX3_execute_51 (tgt := 9) rfl <|
G.fewer [2, 3, 4, 5, 0] rfl <| ih l2 l3 l4 (l5 + (1:Int32)) h7 hk) (fun hk => hk.elim (fun hk => g_callv05 (g_LaV F dX3_execute_43 q1995 rfl F.ok.2.2.2.2.2.2.2.2.2.2.1 (la_shV _) (fun _ _ _ _ h1 h2 h3 h4 => La1_made h1 h2 h3 h4) rfl rfl q201 qs0 q113 q202 ct_X3 (rm' := rmX3_lambda_new_1) ⟨Nat.le_of_ble_eq_true rfl, Nat.le_of_ble_eq_true rfl⟩ ⟨Nat.le_refl 0, Nat.le_refl 0⟩ (Nat.le_of_ble_eq_true rfl) hk (fun a9 hk => m_X3_lambda_new_1 F.ok a9 l2 x5 x6 h _ hk)) ⟨rfl, rfl⟩ fun h7 hk =>
g_iinc (v := (l5 + (1:Int32))) F dX3_execute_48 (j := 5) rfl (iinc_1 l5) (Nat.le_of_ble_eq_true rfl) rfl <|
g_goto F dX3_execute_51 (tgt := 9) rfl <|
G.fewer [2, 3, 4, 5, 0] rfl <| ih l2 l3 l4 (l5 + (1:Int32)) h7 hk) (fun hk => hk.elim (fun hk => by
obtain ⟨hr2, hk2⟩ := hk
subst hr2
exact g_callv05 (g_LaS F dX3_execute_43 q1995 rfl F.ok.2.2.2.2.2.2.2.2.2.2.2.1 (la_shS _) (fun _ _ _ _ h1 h2 h3 h4 => La2_made h1 h2 h3 h4) rfl rfl q203 q113 q204 (rm' := rmX3_lambda_new_2) ⟨Nat.le_of_ble_eq_true rfl, Nat.le_of_ble_eq_true rfl⟩ ⟨Nat.le_refl 0, Nat.le_refl 0⟩ (Nat.le_of_ble_eq_true rfl) (m_X3_lambda_new_2 F.ok l2 x5 x6 h _ hk2)) ⟨rfl, rfl⟩ fun h7 hk =>
g_iinc (v := (l5 + (1:Int32))) F dX3_execute_48 (j := 5) rfl (iinc_1 l5) (Nat.le_of_ble_eq_true rfl) rfl <|
g_goto F dX3_execute_51 (tgt := 9) rfl <|
G.fewer [2, 3, 4, 5, 0] rfl <| ih l2 l3 l4 (l5 + (1:Int32)) h7 hk) (fun hk => hk.elim (fun hk => g_callv05 (g_LaV F dX3_execute_43 q1995 rfl F.ok.2.2.2.2.2.2.2.2.2.2.2.2.1 (la_shV _) (fun _ _ _ _ h1 h2 h3 h4 => La3_made h1 h2 h3 h4) rfl rfl q206 qs1 q113 q207 ct_X3 (rm' := rmX3_lambda_new_3) ⟨Nat.le_of_ble_eq_true rfl, Nat.le_of_ble_eq_true rfl⟩ ⟨Nat.le_refl 0, Nat.le_refl 0⟩ (Nat.le_of_ble_eq_true rfl) hk (fun a11 hk => m_X3_lambda_new_3 F.ok a11 l2 x5 x6 h _ hk)) ⟨rfl, rfl⟩ fun h7 hk =>
g_iinc (v := (l5 + (1:Int32))) F dX3_execute_48 (j := 5) rfl (iinc_1 l5) (Nat.le_of_ble_eq_true rfl) rfl <|
g_goto F dX3_execute_51 (tgt := 9) rfl <|
G.fewer [2, 3, 4, 5, 0] rfl <| ih l2 l3 l4 (l5 + (1:Int32)) h7 hk) (fun hk => hk.elim (fun hk => g_callv05 (g_LaV F dX3_execute_43 q1995 rfl F.ok.2.2.2.2.2.2.2.2.2.2.2.2.2.1 (la_shV _) (fun _ _ _ _ h1 h2 h3 h4 => La4_made h1 h2 h3 h4) rfl rfl q209 qs2 q113 q210 ct_X3 (rm' := rmX3_swap) ⟨Nat.le_of_ble_eq_true rfl, Nat.le_of_ble_eq_true rfl⟩ ⟨Nat.le_refl 0, Nat.le_refl 0⟩ (Nat.le_of_ble_eq_true rfl) hk (fun a12 hk => m_X3_swap F.ok a12 l2 x5 x6 h _ hk)) ⟨rfl, rfl⟩ fun h7 hk =>
g_iinc (v := (l5 + (1:Int32))) F dX3_execute_48 (j := 5) rfl (iinc_1 l5) (Nat.le_of_ble_eq_true rfl) rfl <|
g_goto F dX3_execute_51 (tgt := 9) rfl <|
G.fewer [2, 3, 4, 5, 0] rfl <| ih l2 l3 l4 (l5 + (1:Int32)) h7 hk) (fun hk => g_callv05 (g_LaV F dX3_execute_43 q1995 rfl F.ok.2.2.2.2.2.2.2.2.2.2.2.2.2.2 (la_shV _) (fun _ _ _ _ h1 h2 h3 h4 => La5_made h1 h2 h3 h4) rfl rfl q212 qs3 q113 q213 ct_X3 (rm' := rmX3_lambda_new_4) ⟨Nat.le_of_ble_eq_true rfl, Nat.le_of_ble_eq_true rfl⟩ ⟨Nat.le_refl 0, Nat.le_refl 0⟩ (Nat.le_of_ble_eq_true rfl) hk (fun a13 hk => m_X3_lambda_new_4 F.ok a13 l2 x5 x6 h _ hk)) ⟨rfl, rfl⟩ fun h7 hk =>
g_iinc (v := (l5 + (1:Int32))) F dX3_execute_48 (j := 5) rfl (iinc_1 l5) (Nat.le_of_ble_eq_true rfl) rfl <|
g_goto F dX3_execute_51 (tgt := 9) rfl <|
G.fewer [2, 3, 4, 5, 0] rfl <| ih l2 l3 l4 (l5 + (1:Int32)) h7 hk)))))) hk)
theorem m_X3_execute {S : Sx} (hS0 : Sok S) (v0 : Nat) (v1 : Option Nat) (v2 : Option Nat) (h : hH) (Q : hH → Prop) (hk : f_X3_execute S.E v0 v1 v2 h Q) : Ct S yX3_execute (ws_ yX3_execute cX3_execute 7 none) rmX3_execute ([aR (some v0), aR v1, aR v2].map vv) h (qV Q) := by
  refine Ct.of hS0 (by decide +kernel) rfl (Nat.le_of_ble_eq_true rfl) fun x hxS F hnm => ?_
  subst hxS
  unfold f_X3_execute at hk
  exact g_aload_n F dX3_execute_0 rfl 1 rfl <|
g_astore_n F dX3_execute_1 rfl (Nat.le_of_ble_eq_true rfl) rfl <|
g_aload_n F dX3_execute_2 rfl 0 rfl <|
g_alen (t := 5) F dX3_execute_3 rfl hk fun x14 hk =>
g_istore F dX3_execute_4 (Nat.le_of_ble_eq_true rfl) rfl <|
g_iconst F dX3_execute_6 ic_0 <|
g_istore F dX3_execute_7 (Nat.le_of_ble_eq_true rfl) rfl <|
G.fewer [3, 5, 2, 1, 0] rfl <| s_X3_execute_l9 F 1000000 v2 v1 x14 (0:Int32) h hk ((fun h hk => g_vret F dX3_execute_54 (Nat.le_refl 0) (Nat.le_refl 0) hk))
