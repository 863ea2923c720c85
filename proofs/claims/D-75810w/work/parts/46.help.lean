set_option maxRecDepth 100000
set_option maxHeartbeats 10000000
theorem mo_X1_memberNumber : MOk yX1_memberNumber 2 := by decide +kernel
theorem mi_X1_memberNumber : MI yX1_memberNumber "LockstepRoom" cX1_memberNumber 4 (some .int) 2 := ⟨q2627, q2628, q111, q2629, rfl, mo_X1_memberNumber⟩
theorem mo_X1_cellOf : MOk yX1_cellOf 2 := by decide +kernel
theorem mi_X1_cellOf : MI yX1_cellOf "LockstepRoom" cX1_cellOf 4 (some .int) 2 := ⟨q2656, q2657, q111, q2658, rfl, mo_X1_cellOf⟩
theorem mo_X1_commandCount : MOk yX1_commandCount 1 := by decide +kernel
theorem mi_X1_commandCount : MI yX1_commandCount "LockstepRoom" cX1_commandCount 2 (some .int) 1 := ⟨q2663, q2664, q111, q2665, rfl, mo_X1_commandCount⟩
theorem mo_X1_command : MOk yX1_command 3 := by decide +kernel
theorem mi_X1_command : MI yX1_command "LockstepRoom" cX1_command 5 (some .int) 3 := ⟨q2676, q2677, q111, q2678, rfl, mo_X1_command⟩
theorem mo_X1_faultNumber : MOk yX1_faultNumber 2 := by decide +kernel
theorem mi_X1_faultNumber : MI yX1_faultNumber "LockstepRoom" cX1_faultNumber 4 (some .int) 2 := ⟨q2683, q2684, q111, q2685, rfl, mo_X1_faultNumber⟩
theorem mo_X1_checksum : MOk yX1_checksum 2 := by decide +kernel
theorem mi_X1_checksum : MI yX1_checksum "LockstepRoom" cX1_checksum 4 (some .int) 2 := ⟨q2690, q2691, q111, q2692, rfl, mo_X1_checksum⟩
theorem mo_X1_rootAt : MOk yX1_rootAt 2 := by decide +kernel
theorem mi_X1_rootAt : MI yX1_rootAt "LockstepRoom" cX1_rootAt 3 (some .int) 2 := ⟨q2699, q2700, q111, q2701, rfl, mo_X1_rootAt⟩
theorem mo_X1_firstWrongTurn : MOk yX1_firstWrongTurn 2 := by decide +kernel
theorem mi_X1_firstWrongTurn : MI yX1_firstWrongTurn "LockstepRoom" cX1_firstWrongTurn 3 (some .int) 2 := ⟨q2707, q2708, q111, q2709, rfl, mo_X1_firstWrongTurn⟩
theorem mo_X1_halvedTurn : MOk yX1_halvedTurn 2 := by decide +kernel
theorem mi_X1_halvedTurn : MI yX1_halvedTurn "LockstepRoom" cX1_halvedTurn 3 (some .int) 2 := ⟨q2760, q2761, q111, q2762, rfl, mo_X1_halvedTurn⟩
theorem mo_X1_isHalvingRight : MOk yX1_isHalvingRight 2 := by decide +kernel
theorem mi_X1_isHalvingRight : MI yX1_isHalvingRight "LockstepRoom" cX1_isHalvingRight 3 (some .boolean) 2 := ⟨q2771, q2772, q111, q2773, rfl, mo_X1_isHalvingRight⟩
theorem mo_X1_firstWrongCell : MOk yX1_firstWrongCell 2 := by decide +kernel
theorem mi_X1_firstWrongCell : MI yX1_firstWrongCell "LockstepRoom" cX1_firstWrongCell 5 (some .int) 2 := ⟨q2778, q2779, q111, q2780, rfl, mo_X1_firstWrongCell⟩
theorem mo_X1_wrongCells : MOk yX1_wrongCells 2 := by decide +kernel
theorem mi_X1_wrongCells : MI yX1_wrongCells "LockstepRoom" cX1_wrongCells 6 (some .int) 2 := ⟨q2798, q2799, q111, q2800, rfl, mo_X1_wrongCells⟩
theorem mo_X1_comparisons : MOk yX1_comparisons 2 := by decide +kernel
theorem mi_X1_comparisons : MI yX1_comparisons "LockstepRoom" cX1_comparisons 7 (some .int) 2 := ⟨q2805, q2806, q111, q2807, rfl, mo_X1_comparisons⟩
theorem mo_X1_votes : MOk yX1_votes 2 := by decide +kernel
theorem mi_X1_votes : MI yX1_votes "LockstepRoom" cX1_votes 6 (some .int) 2 := ⟨q2812, q2813, q111, q2814, rfl, mo_X1_votes⟩
theorem mo_X1_isWrong : MOk yX1_isWrong 1 := by decide +kernel
theorem mi_X1_isWrong : MI yX1_isWrong "LockstepRoom" cX1_isWrong 2 (some .boolean) 1 := ⟨q2819, q2820, q111, q2821, rfl, mo_X1_isWrong⟩
theorem mo_X1_donorFor : MOk yX1_donorFor 1 := by decide +kernel
theorem mi_X1_donorFor : MI yX1_donorFor "LockstepRoom" cX1_donorFor 2 (some .int) 1 := ⟨q2826, q2827, q111, q2828, rfl, mo_X1_donorFor⟩
theorem mo_X1_whyNot : MOk yX1_whyNot 1 := by decide +kernel
theorem mi_X1_whyNot : MI yX1_whyNot "LockstepRoom" cX1_whyNot 2 (some .int) 1 := ⟨q2833, q2834, q111, q2835, rfl, mo_X1_whyNot⟩
theorem mo_X1_mayRun : MOk yX1_mayRun 1 := by decide +kernel
theorem mi_X1_mayRun : MI yX1_mayRun "LockstepRoom" cX1_mayRun 2 (some .int) 1 := ⟨q2840, q2841, q111, q2842, rfl, mo_X1_mayRun⟩
theorem mo_X1_truth : MOk yX1_truth 2 := by decide +kernel
theorem mi_X1_truth : MI yX1_truth "LockstepRoom" cX1_truth 3 (some .int) 2 := ⟨q2847, q2848, q111, q2849, rfl, mo_X1_truth⟩
theorem mo_X1_foreseen : MOk yX1_foreseen 2 := by decide +kernel
theorem mi_X1_foreseen : MI yX1_foreseen "LockstepRoom" cX1_foreseen 4 (some .int) 2 := ⟨q2854, q2855, q111, q2856, rfl, mo_X1_foreseen⟩
theorem mo_X1_lastWrite : MOk yX1_lastWrite 2 := by decide +kernel
theorem mi_X1_lastWrite : MI yX1_lastWrite "LockstepRoom" cX1_lastWrite 9 (some .int) 2 := ⟨q2865, q2866, q111, q2867, rfl, mo_X1_lastWrite⟩
theorem mo_X1_write : MOk yX1_write 1 := by decide +kernel
theorem mi_X1_write : MI yX1_write "LockstepRoom" cX1_write 7 (some .int) 1 := ⟨q2876, q2877, q111, q2878, rfl, mo_X1_write⟩
abbrev rmX0_memberNumber : Room := { frames := 9, cells := 1, slots := 6, locals := 169 }
theorem m_X0_memberNumber {S : Sx} (hS0 : Sok S) (v0 : Option Nat) (v1 : Int32) (v2 : Int32) (v3 : Option Nat) (h : hH) (Q : Int32 → hH → Prop) (hk : f_X0_memberNumber S.E v0 v1 v2 v3 h Q) : Ct S yX0_memberNumber (wsW_ yX0_memberNumber cX0_memberNumber 5 (some .int) [(0, 10, 13, 13)]) rmX0_memberNumber ([aR v0, aI v1, aI v2, aR v3].map vv) h (qI Q) := by
  refine Ct.ofT hS0 (by decide +kernel) rfl (Nat.le_of_ble_eq_true rfl) fun x hxS F hnm htb => ?_
  subst hxS
  unfold f_X0_memberNumber at hk
  have hM : 0 + 1 ≤ 1 := by omega
  have hS : 0 + 6 ≤ 6 := by omega
  refine G.widen (c' := 0 + 0) (k' := 0 + 0) (Nat.le_refl 0) (Nat.le_refl 0) ?_
  exact g_aload_n F dX0_memberNumber_0 rfl 3 rfl <|
g_iconst F dX0_memberNumber_1 ic_0 <|
g_aload_n F dX0_memberNumber_2 rfl 0 rfl <|
g_iload_n F dX0_memberNumber_3 rfl 1 rfl <|
g_iload_n F dX0_memberNumber_4 rfl 2 rfl <|
x_calli (x_V F dX0_memberNumber_5 q2626 mi_X1_memberNumber ct_X1 (rm' := rmX1_memberNumber) ⟨Nat.le_of_ble_eq_true rfl, Nat.le_of_ble_eq_true rfl⟩ ⟨show 0 + 0 + 1 ≤ 1 by omega, show 0 + 0 + 6 ≤ 6 by omega⟩ (As := [aI v1, aI v2]) (rest := [aI (0:Int32), aR v3]) rfl rfl (Nat.le_of_ble_eq_true rfl) hk (fun a3 hk => m_X1_memberNumber F.ok a3 v1 v2 h _ _ hk)) (fun e q4 h5 hx => by
obtain ⟨rfl, hk⟩ := hx
exact GT.catch F _ _ htb rfl (by decide) q2599 q2639 <|
g_astore F dX0_memberNumber_13 (Nat.le_of_ble_eq_true rfl) rfl <|
g_iconst F dX0_memberNumber_15 ic_1 <|
g_iret F dX0_memberNumber_16 (show 0 + 0 + 1 ≤ 1 by omega) (show 0 + 0 + 6 ≤ 6 by omega) hk) fun x2 h1 hk =>
g_i2l F dX0_memberNumber_8 <|
g_last F dX0_memberNumber_9 hk fun h6 hk =>
g_goto F dX0_memberNumber_10 (tgt := 17) rfl <|
g_iconst F dX0_memberNumber_17 ic_0 <|
g_iret F dX0_memberNumber_18 (show 0 + 0 + 1 ≤ 1 by omega) (show 0 + 0 + 6 ≤ 6 by omega) hk
abbrev rmX0_cellOf : Room := { frames := 9, cells := 2, slots := 12, locals := 169 }
theorem m_X0_cellOf {S : Sx} (hS0 : Sok S) (v0 : Option Nat) (v1 : Int32) (v2 : Int32) (v3 : Option Nat) (h : hH) (Q : Int32 → hH → Prop) (hk : f_X0_cellOf S.E v0 v1 v2 v3 h Q) : Ct S yX0_cellOf (wsW_ yX0_cellOf cX0_cellOf 5 (some .int) [(0, 10, 13, 13)]) rmX0_cellOf ([aR v0, aI v1, aI v2, aR v3].map vv) h (qI Q) := by
  refine Ct.ofT hS0 (by decide +kernel) rfl (Nat.le_of_ble_eq_true rfl) fun x hxS F hnm htb => ?_
  subst hxS
  unfold f_X0_cellOf at hk
  have hM : 0 + 2 ≤ 2 := by omega
  have hS : 0 + 12 ≤ 12 := by omega
  refine G.widen (c' := 0 + 0) (k' := 0 + 0) (Nat.le_refl 0) (Nat.le_refl 0) ?_
  exact g_aload_n F dX0_cellOf_0 rfl 3 rfl <|
g_iconst F dX0_cellOf_1 ic_0 <|
g_aload_n F dX0_cellOf_2 rfl 0 rfl <|
g_iload_n F dX0_cellOf_3 rfl 1 rfl <|
g_iload_n F dX0_cellOf_4 rfl 2 rfl <|
x_calli (x_V F dX0_cellOf_5 q2655 mi_X1_cellOf ct_X1 (rm' := rmX1_cellOf) ⟨Nat.le_of_ble_eq_true rfl, Nat.le_of_ble_eq_true rfl⟩ ⟨show 0 + 0 + 2 ≤ 2 by omega, show 0 + 0 + 12 ≤ 12 by omega⟩ (As := [aI v1, aI v2]) (rest := [aI (0:Int32), aR v3]) rfl rfl (Nat.le_of_ble_eq_true rfl) hk (fun a3 hk => m_X1_cellOf F.ok a3 v1 v2 h _ _ hk)) (fun e q4 h5 hx => by
obtain ⟨rfl, hk⟩ := hx
exact GT.catch F _ _ htb rfl (by decide) q2599 q2639 <|
g_astore F dX0_cellOf_13 (Nat.le_of_ble_eq_true rfl) rfl <|
g_iconst F dX0_cellOf_15 ic_1 <|
g_iret F dX0_cellOf_16 (show 0 + 0 + 2 ≤ 2 by omega) (show 0 + 0 + 12 ≤ 12 by omega) hk) fun x2 h1 hk =>
g_i2l F dX0_cellOf_8 <|
g_last F dX0_cellOf_9 hk fun h6 hk =>
g_goto F dX0_cellOf_10 (tgt := 17) rfl <|
g_iconst F dX0_cellOf_17 ic_0 <|
g_iret F dX0_cellOf_18 (show 0 + 0 + 2 ≤ 2 by omega) (show 0 + 0 + 12 ≤ 12 by omega) hk
abbrev rmX0_commandCount : Room := { frames := 9, cells := 1, slots := 6, locals := 163 }
theorem m_X0_commandCount {S : Sx} (hS0 : Sok S) (v0 : Option Nat) (v1 : Int32) (v2 : Option Nat) (h : hH) (Q : Int32 → hH → Prop) (hk : f_X0_commandCount S.E v0 v1 v2 h Q) : Ct S yX0_commandCount (wsW_ yX0_commandCount cX0_commandCount 4 (some .int) [(0, 9, 12, 13)]) rmX0_commandCount ([aR v0, aI v1, aR v2].map vv) h (qI Q) := by
  refine Ct.ofT hS0 (by decide +kernel) rfl (Nat.le_of_ble_eq_true rfl) fun x hxS F hnm htb => ?_
  subst hxS
  unfold f_X0_commandCount at hk
  have hM : 0 + 1 ≤ 1 := by omega
  have hS : 0 + 6 ≤ 6 := by omega
  refine G.widen (c' := 0 + 0) (k' := 0 + 0) (Nat.le_refl 0) (Nat.le_refl 0) ?_
  exact g_aload_n F dX0_commandCount_0 rfl 2 rfl <|
g_iconst F dX0_commandCount_1 ic_0 <|
g_aload_n F dX0_commandCount_2 rfl 0 rfl <|
g_iload_n F dX0_commandCount_3 rfl 1 rfl <|
x_calli (x_V F dX0_commandCount_4 q2662 mi_X1_commandCount ct_X1 (rm' := rmX1_commandCount) ⟨Nat.le_of_ble_eq_true rfl, Nat.le_of_ble_eq_true rfl⟩ ⟨show 0 + 0 + 1 ≤ 1 by omega, show 0 + 0 + 6 ≤ 6 by omega⟩ (As := [aI v1]) (rest := [aI (0:Int32), aR v2]) rfl rfl (Nat.le_of_ble_eq_true rfl) hk (fun a3 hk => m_X1_commandCount F.ok a3 v1 h _ _ hk)) (fun e q4 h5 hx => by
obtain ⟨rfl, hk⟩ := hx
exact GT.catch F _ _ htb rfl (by decide) q2599 q2639 <|
g_astore_n F dX0_commandCount_12 rfl (Nat.le_of_ble_eq_true rfl) rfl <|
g_iconst F dX0_commandCount_13 ic_1 <|
g_iret F dX0_commandCount_14 (show 0 + 0 + 1 ≤ 1 by omega) (show 0 + 0 + 6 ≤ 6 by omega) hk) fun x2 h1 hk =>
g_i2l F dX0_commandCount_7 <|
g_last F dX0_commandCount_8 hk fun h6 hk =>
g_goto F dX0_commandCount_9 (tgt := 15) rfl <|
g_iconst F dX0_commandCount_15 ic_0 <|
g_iret F dX0_commandCount_16 (show 0 + 0 + 1 ≤ 1 by omega) (show 0 + 0 + 6 ≤ 6 by omega) hk
abbrev rmX0_command : Room := { frames := 9, cells := 1, slots := 6, locals := 166 }
theorem m_X0_command {S : Sx} (hS0 : Sok S) (v0 : Option Nat) (v1 : Int32) (v2 : Int32) (v3 : Int32) (v4 : Option Nat) (h : hH) (Q : Int32 → hH → Prop) (hk : f_X0_command S.E v0 v1 v2 v3 v4 h Q) : Ct S yX0_command (wsW_ yX0_command cX0_command 6 (some .int) [(0, 12, 15, 13)]) rmX0_command ([aR v0, aI v1, aI v2, aI v3, aR v4].map vv) h (qI Q) := by
  refine Ct.ofT hS0 (by decide +kernel) rfl (Nat.le_of_ble_eq_true rfl) fun x hxS F hnm htb => ?_
  subst hxS
  unfold f_X0_command at hk
  have hM : 0 + 1 ≤ 1 := by omega
  have hS : 0 + 6 ≤ 6 := by omega
  refine G.widen (c' := 0 + 0) (k' := 0 + 0) (Nat.le_refl 0) (Nat.le_refl 0) ?_
  exact g_aload F dX0_command_0 4 rfl <|
g_iconst F dX0_command_2 ic_0 <|
g_aload_n F dX0_command_3 rfl 0 rfl <|
g_iload_n F dX0_command_4 rfl 1 rfl <|
g_iload_n F dX0_command_5 rfl 2 rfl <|
g_iload_n F dX0_command_6 rfl 3 rfl <|
x_calli (x_V F dX0_command_7 q2675 mi_X1_command ct_X1 (rm' := rmX1_command) ⟨Nat.le_of_ble_eq_true rfl, Nat.le_of_ble_eq_true rfl⟩ ⟨show 0 + 0 + 1 ≤ 1 by omega, show 0 + 0 + 6 ≤ 6 by omega⟩ (As := [aI v1, aI v2, aI v3]) (rest := [aI (0:Int32), aR v4]) rfl rfl (Nat.le_of_ble_eq_true rfl) hk (fun a3 hk => m_X1_command F.ok a3 v1 v2 v3 h _ _ hk)) (fun e q4 h5 hx => by
obtain ⟨rfl, hk⟩ := hx
exact GT.catch F _ _ htb rfl (by decide) q2599 q2639 <|
g_astore F dX0_command_15 (Nat.le_of_ble_eq_true rfl) rfl <|
g_iconst F dX0_command_17 ic_1 <|
g_iret F dX0_command_18 (show 0 + 0 + 1 ≤ 1 by omega) (show 0 + 0 + 6 ≤ 6 by omega) hk) fun x2 h1 hk =>
g_i2l F dX0_command_10 <|
g_last F dX0_command_11 hk fun h6 hk =>
g_goto F dX0_command_12 (tgt := 19) rfl <|
g_iconst F dX0_command_19 ic_0 <|
g_iret F dX0_command_20 (show 0 + 0 + 1 ≤ 1 by omega) (show 0 + 0 + 6 ≤ 6 by omega) hk
abbrev rmX0_faultNumber : Room := { frames := 8, cells := 1, slots := 6, locals := 144 }
theorem m_X0_faultNumber {S : Sx} (hS0 : Sok S) (v0 : Option Nat) (v1 : Int32) (v2 : Int32) (v3 : Option Nat) (h : hH) (Q : Int32 → hH → Prop) (hk : f_X0_faultNumber S.E v0 v1 v2 v3 h Q) : Ct S yX0_faultNumber (wsW_ yX0_faultNumber cX0_faultNumber 5 (some .int) [(0, 10, 13, 13)]) rmX0_faultNumber ([aR v0, aI v1, aI v2, aR v3].map vv) h (qI Q) := by
  refine Ct.ofT hS0 (by decide +kernel) rfl (Nat.le_of_ble_eq_true rfl) fun x hxS F hnm htb => ?_
  subst hxS
  unfold f_X0_faultNumber at hk
  have hM : 0 + 1 ≤ 1 := by omega
  have hS : 0 + 6 ≤ 6 := by omega
  refine G.widen (c' := 0 + 0) (k' := 0 + 0) (Nat.le_refl 0) (Nat.le_refl 0) ?_
  exact g_aload_n F dX0_faultNumber_0 rfl 3 rfl <|
g_iconst F dX0_faultNumber_1 ic_0 <|
g_aload_n F dX0_faultNumber_2 rfl 0 rfl <|
g_iload_n F dX0_faultNumber_3 rfl 1 rfl <|
g_iload_n F dX0_faultNumber_4 rfl 2 rfl <|
x_calli (x_V F dX0_faultNumber_5 q2682 mi_X1_faultNumber ct_X1 (rm' := rmX1_faultNumber) ⟨Nat.le_of_ble_eq_true rfl, Nat.le_of_ble_eq_true rfl⟩ ⟨show 0 + 0 + 1 ≤ 1 by omega, show 0 + 0 + 6 ≤ 6 by omega⟩ (As := [aI v1, aI v2]) (rest := [aI (0:Int32), aR v3]) rfl rfl (Nat.le_of_ble_eq_true rfl) hk (fun a3 hk => m_X1_faultNumber F.ok a3 v1 v2 h _ _ hk)) (fun e q4 h5 hx => by
obtain ⟨rfl, hk⟩ := hx
exact GT.catch F _ _ htb rfl (by decide) q2599 q2639 <|
g_astore F dX0_faultNumber_13 (Nat.le_of_ble_eq_true rfl) rfl <|
g_iconst F dX0_faultNumber_15 ic_1 <|
g_iret F dX0_faultNumber_16 (show 0 + 0 + 1 ≤ 1 by omega) (show 0 + 0 + 6 ≤ 6 by omega) hk) fun x2 h1 hk =>
g_i2l F dX0_faultNumber_8 <|
g_last F dX0_faultNumber_9 hk fun h6 hk =>
g_goto F dX0_faultNumber_10 (tgt := 17) rfl <|
g_iconst F dX0_faultNumber_17 ic_0 <|
g_iret F dX0_faultNumber_18 (show 0 + 0 + 1 ≤ 1 by omega) (show 0 + 0 + 6 ≤ 6 by omega) hk
abbrev rmX0_checksum : Room := { frames := 9, cells := 3, slots := 39, locals := 169 }
theorem m_X0_checksum {S : Sx} (hS0 : Sok S) (v0 : Option Nat) (v1 : Int32) (v2 : Int32) (v3 : Option Nat) (h : hH) (Q : Int32 → hH → Prop) (hk : f_X0_checksum S.E v0 v1 v2 v3 h Q) : Ct S yX0_checksum (wsW_ yX0_checksum cX0_checksum 5 (some .int) [(0, 10, 13, 13)]) rmX0_checksum ([aR v0, aI v1, aI v2, aR v3].map vv) h (qI Q) := by
  refine Ct.ofT hS0 (by decide +kernel) rfl (Nat.le_of_ble_eq_true rfl) fun x hxS F hnm htb => ?_
  subst hxS
  unfold f_X0_checksum at hk
  have hM : 0 + 3 ≤ 3 := by omega
  have hS : 0 + 39 ≤ 39 := by omega
  refine G.widen (c' := 0 + 0) (k' := 0 + 0) (Nat.le_refl 0) (Nat.le_refl 0) ?_
  exact g_aload_n F dX0_checksum_0 rfl 3 rfl <|
g_iconst F dX0_checksum_1 ic_0 <|
g_aload_n F dX0_checksum_2 rfl 0 rfl <|
g_iload_n F dX0_checksum_3 rfl 1 rfl <|
g_iload_n F dX0_checksum_4 rfl 2 rfl <|
x_calli (x_V F dX0_checksum_5 q2689 mi_X1_checksum ct_X1 (rm' := rmX1_checksum) ⟨Nat.le_of_ble_eq_true rfl, Nat.le_of_ble_eq_true rfl⟩ ⟨show 0 + 0 + 3 ≤ 3 by omega, show 0 + 0 + 39 ≤ 39 by omega⟩ (As := [aI v1, aI v2]) (rest := [aI (0:Int32), aR v3]) rfl rfl (Nat.le_of_ble_eq_true rfl) hk (fun a3 hk => m_X1_checksum F.ok a3 v1 v2 h _ _ hk)) (fun e q4 h5 hx => by
obtain ⟨rfl, hk⟩ := hx
exact GT.catch F _ _ htb rfl (by decide) q2599 q2639 <|
g_astore F dX0_checksum_13 (Nat.le_of_ble_eq_true rfl) rfl <|
g_iconst F dX0_checksum_15 ic_1 <|
g_iret F dX0_checksum_16 (show 0 + 0 + 3 ≤ 3 by omega) (show 0 + 0 + 39 ≤ 39 by omega) hk) fun x2 h1 hk =>
g_i2l F dX0_checksum_8 <|
g_last F dX0_checksum_9 hk fun h6 hk =>
g_goto F dX0_checksum_10 (tgt := 17) rfl <|
g_iconst F dX0_checksum_17 ic_0 <|
g_iret F dX0_checksum_18 (show 0 + 0 + 3 ≤ 3 by omega) (show 0 + 0 + 39 ≤ 39 by omega) hk
abbrev rmX0_rootAt : Room := { frames := 9, cells := 2, slots := 7, locals := 193 }
theorem m_X0_rootAt {S : Sx} (hS0 : Sok S) (v0 : Option Nat) (v1 : Int32) (v2 : Int32) (v3 : Option Nat) (h : hH) (Q : Int32 → hH → Prop) (hk : f_X0_rootAt S.E v0 v1 v2 v3 h Q) : Ct S yX0_rootAt (wsW_ yX0_rootAt cX0_rootAt 5 (some .int) [(0, 10, 13, 13)]) rmX0_rootAt ([aR v0, aI v1, aI v2, aR v3].map vv) h (qI Q) := by
  refine Ct.ofT hS0 (by decide +kernel) rfl (Nat.le_of_ble_eq_true rfl) fun x hxS F hnm htb => ?_
  subst hxS
  unfold f_X0_rootAt at hk
  have hM : 0 + 2 ≤ 2 := by omega
  have hS : 0 + 7 ≤ 7 := by omega
  refine G.widen (c' := 0 + 0) (k' := 0 + 0) (Nat.le_refl 0) (Nat.le_refl 0) ?_
  exact g_aload_n F dX0_rootAt_0 rfl 3 rfl <|
g_iconst F dX0_rootAt_1 ic_0 <|
g_aload_n F dX0_rootAt_2 rfl 0 rfl <|
g_iload_n F dX0_rootAt_3 rfl 1 rfl <|
g_iload_n F dX0_rootAt_4 rfl 2 rfl <|
x_calli (x_V F dX0_rootAt_5 q2698 mi_X1_rootAt ct_X1 (rm' := rmX1_rootAt) ⟨Nat.le_of_ble_eq_true rfl, Nat.le_of_ble_eq_true rfl⟩ ⟨show 0 + 0 + 2 ≤ 2 by omega, show 0 + 0 + 7 ≤ 7 by omega⟩ (As := [aI v1, aI v2]) (rest := [aI (0:Int32), aR v3]) rfl rfl (Nat.le_of_ble_eq_true rfl) hk (fun a3 hk => m_X1_rootAt F.ok a3 v1 v2 h _ _ hk)) (fun e q4 h5 hx => by
obtain ⟨rfl, hk⟩ := hx
exact GT.catch F _ _ htb rfl (by decide) q2599 q2639 <|
g_astore F dX0_rootAt_13 (Nat.le_of_ble_eq_true rfl) rfl <|
g_iconst F dX0_rootAt_15 ic_1 <|
g_iret F dX0_rootAt_16 (show 0 + 0 + 2 ≤ 2 by omega) (show 0 + 0 + 7 ≤ 7 by omega) hk) fun x2 h1 hk =>
g_i2l F dX0_rootAt_8 <|
g_last F dX0_rootAt_9 hk fun h6 hk =>
g_goto F dX0_rootAt_10 (tgt := 17) rfl <|
g_iconst F dX0_rootAt_17 ic_0 <|
g_iret F dX0_rootAt_18 (show 0 + 0 + 2 ≤ 2 by omega) (show 0 + 0 + 7 ≤ 7 by omega) hk
abbrev rmX0_firstWrongTurn : Room := { frames := 11, cells := 87, slots := 101, locals := 235 }
theorem m_X0_firstWrongTurn {S : Sx} (hS0 : Sok S) (v0 : Option Nat) (v1 : Int32) (v2 : Int32) (v3 : Option Nat) (h : hH) (Q : Int32 → hH → Prop) (hk : f_X0_firstWrongTurn S.E v0 v1 v2 v3 h Q) : Ct S yX0_firstWrongTurn (wsW_ yX0_firstWrongTurn cX0_firstWrongTurn 5 (some .int) [(0, 10, 13, 13)]) rmX0_firstWrongTurn ([aR v0, aI v1, aI v2, aR v3].map vv) h (qI Q) := by
  refine Ct.ofT hS0 (by decide +kernel) rfl (Nat.le_of_ble_eq_true rfl) fun x hxS F hnm htb => ?_
  subst hxS
  unfold f_X0_firstWrongTurn at hk
  have hM : 0 + 87 ≤ 87 := by omega
  have hS : 0 + 101 ≤ 101 := by omega
  refine G.widen (c' := 0 + 0) (k' := 0 + 0) (Nat.le_refl 0) (Nat.le_refl 0) ?_
  exact g_aload_n F dX0_firstWrongTurn_0 rfl 3 rfl <|
g_iconst F dX0_firstWrongTurn_1 ic_0 <|
g_aload_n F dX0_firstWrongTurn_2 rfl 0 rfl <|
g_iload_n F dX0_firstWrongTurn_3 rfl 1 rfl <|
g_iload_n F dX0_firstWrongTurn_4 rfl 2 rfl <|
x_calli (x_V F dX0_firstWrongTurn_5 q2706 mi_X1_firstWrongTurn ct_X1 (rm' := rmX1_firstWrongTurn) ⟨Nat.le_of_ble_eq_true rfl, Nat.le_of_ble_eq_true rfl⟩ ⟨show 0 + 0 + 87 ≤ 87 by omega, show 0 + 0 + 101 ≤ 101 by omega⟩ (As := [aI v1, aI v2]) (rest := [aI (0:Int32), aR v3]) rfl rfl (Nat.le_of_ble_eq_true rfl) hk (fun a3 hk => m_X1_firstWrongTurn F.ok a3 v1 v2 h _ _ hk)) (fun e q4 h5 hx => by
obtain ⟨rfl, hk⟩ := hx
exact GT.catch F _ _ htb rfl (by decide) q2599 q2639 <|
g_astore F dX0_firstWrongTurn_13 (Nat.le_of_ble_eq_true rfl) rfl <|
g_iconst F dX0_firstWrongTurn_15 ic_1 <|
g_iret F dX0_firstWrongTurn_16 (show 0 + 0 + 87 ≤ 87 by omega) (show 0 + 0 + 101 ≤ 101 by omega) hk) fun x2 h1 hk =>
g_i2l F dX0_firstWrongTurn_8 <|
g_last F dX0_firstWrongTurn_9 hk fun h6 hk =>
g_goto F dX0_firstWrongTurn_10 (tgt := 17) rfl <|
g_iconst F dX0_firstWrongTurn_17 ic_0 <|
g_iret F dX0_firstWrongTurn_18 (show 0 + 0 + 87 ≤ 87 by omega) (show 0 + 0 + 101 ≤ 101 by omega) hk
abbrev rmX0_halvedTurn : Room := { frames := 11, cells := 21, slots := 35, locals := 235 }
theorem m_X0_halvedTurn {S : Sx} (hS0 : Sok S) (v0 : Option Nat) (v1 : Int32) (v2 : Int32) (v3 : Option Nat) (h : hH) (Q : Int32 → hH → Prop) (hk : f_X0_halvedTurn S.E v0 v1 v2 v3 h Q) : Ct S yX0_halvedTurn (wsW_ yX0_halvedTurn cX0_halvedTurn 5 (some .int) [(0, 10, 13, 13)]) rmX0_halvedTurn ([aR v0, aI v1, aI v2, aR v3].map vv) h (qI Q) := by
  refine Ct.ofT hS0 (by decide +kernel) rfl (Nat.le_of_ble_eq_true rfl) fun x hxS F hnm htb => ?_
  subst hxS
  unfold f_X0_halvedTurn at hk
  have hM : 0 + 21 ≤ 21 := by omega
  have hS : 0 + 35 ≤ 35 := by omega
  refine G.widen (c' := 0 + 0) (k' := 0 + 0) (Nat.le_refl 0) (Nat.le_refl 0) ?_
  exact g_aload_n F dX0_halvedTurn_0 rfl 3 rfl <|
g_iconst F dX0_halvedTurn_1 ic_0 <|
g_aload_n F dX0_halvedTurn_2 rfl 0 rfl <|
g_iload_n F dX0_halvedTurn_3 rfl 1 rfl <|
g_iload_n F dX0_halvedTurn_4 rfl 2 rfl <|
x_calli (x_V F dX0_halvedTurn_5 q2759 mi_X1_halvedTurn ct_X1 (rm' := rmX1_halvedTurn) ⟨Nat.le_of_ble_eq_true rfl, Nat.le_of_ble_eq_true rfl⟩ ⟨show 0 + 0 + 21 ≤ 21 by omega, show 0 + 0 + 35 ≤ 35 by omega⟩ (As := [aI v1, aI v2]) (rest := [aI (0:Int32), aR v3]) rfl rfl (Nat.le_of_ble_eq_true rfl) hk (fun a3 hk => m_X1_halvedTurn F.ok a3 v1 v2 h _ _ hk)) (fun e q4 h5 hx => by
obtain ⟨rfl, hk⟩ := hx
exact GT.catch F _ _ htb rfl (by decide) q2599 q2639 <|
g_astore F dX0_halvedTurn_13 (Nat.le_of_ble_eq_true rfl) rfl <|
g_iconst F dX0_halvedTurn_15 ic_1 <|
g_iret F dX0_halvedTurn_16 (show 0 + 0 + 21 ≤ 21 by omega) (show 0 + 0 + 35 ≤ 35 by omega) hk) fun x2 h1 hk =>
g_i2l F dX0_halvedTurn_8 <|
g_last F dX0_halvedTurn_9 hk fun h6 hk =>
g_goto F dX0_halvedTurn_10 (tgt := 17) rfl <|
g_iconst F dX0_halvedTurn_17 ic_0 <|
g_iret F dX0_halvedTurn_18 (show 0 + 0 + 21 ≤ 21 by omega) (show 0 + 0 + 35 ≤ 35 by omega) hk
abbrev rmX0_isHalvingRight : Room := { frames := 11, cells := 108, slots := 136, locals := 235 }
theorem s_X0_isHalvingRight_j16 {x : Cx} (F : Fx x cX0_isHalvingRight "LockstepRoomLaw" 5 (some .int) rmX0_isHalvingRight) (htb : x.c.exceptionTable.toList = tableOf [(0, 17, 20, 13)]) {Q : Int32 → hH → Prop} {cb kb : Nat} (hM : cb + 108 ≤ 108) (hS : kb + 136 ≤ 136) (s0 : Option Nat) (s1 : Int32) (s2 : Int64) (h : hH) (hk : f_X0_isHalvingRight_j16 x.S.E Q s0 s1 s2 h) : G x (xQ x rmX0_isHalvingRight (qI Q)) 16 [] [aL s2, aI s1, aR s0] h (cb + 108) (kb + 136) := by
  unfold f_X0_isHalvingRight_j16 at hk
  exact g_last F dX0_isHalvingRight_16 hk fun h1 hk =>
g_goto F dX0_isHalvingRight_17 (tgt := 24) rfl <|
g_iconst F dX0_isHalvingRight_24 ic_0 <|
g_iret F dX0_isHalvingRight_25 (show cb + 108 ≤ 108 by omega) (show kb + 136 ≤ 136 by omega) hk
theorem m_X0_isHalvingRight {S : Sx} (hS0 : Sok S) (v0 : Option Nat) (v1 : Int32) (v2 : Int32) (v3 : Option Nat) (h : hH) (Q : Int32 → hH → Prop) (hk : f_X0_isHalvingRight S.E v0 v1 v2 v3 h Q) : Ct S yX0_isHalvingRight (wsW_ yX0_isHalvingRight cX0_isHalvingRight 5 (some .int) [(0, 17, 20, 13)]) rmX0_isHalvingRight ([aR v0, aI v1, aI v2, aR v3].map vv) h (qI Q) := by
  refine Ct.ofT hS0 (by decide +kernel) rfl (Nat.le_of_ble_eq_true rfl) fun x hxS F hnm htb => ?_
  subst hxS
  unfold f_X0_isHalvingRight at hk
  have hM : 0 + 108 ≤ 108 := by omega
  have hS : 0 + 136 ≤ 136 := by omega
  refine G.widen (c' := 0 + 0) (k' := 0 + 0) (Nat.le_refl 0) (Nat.le_refl 0) ?_
  exact g_aload_n F dX0_isHalvingRight_0 rfl 3 rfl <|
g_iconst F dX0_isHalvingRight_1 ic_0 <|
g_aload_n F dX0_isHalvingRight_2 rfl 0 rfl <|
g_iload_n F dX0_isHalvingRight_3 rfl 1 rfl <|
g_iload_n F dX0_isHalvingRight_4 rfl 2 rfl <|
x_calli (x_V F dX0_isHalvingRight_5 q2770 mi_X1_isHalvingRight ct_X1 (rm' := rmX1_isHalvingRight) ⟨Nat.le_of_ble_eq_true rfl, Nat.le_of_ble_eq_true rfl⟩ ⟨show 0 + 0 + 108 ≤ 108 by omega, show 0 + 0 + 136 ≤ 136 by omega⟩ (As := [aI v1, aI v2]) (rest := [aI (0:Int32), aR v3]) rfl rfl (Nat.le_of_ble_eq_true rfl) hk (fun a4 hk => m_X1_isHalvingRight F.ok a4 v1 v2 h _ _ hk)) (fun e q5 h6 hx => by
obtain ⟨rfl, hk⟩ := hx
exact GT.catch F _ _ htb rfl (by decide) q2599 q2639 <|
g_astore F dX0_isHalvingRight_20 (Nat.le_of_ble_eq_true rfl) rfl <|
g_iconst F dX0_isHalvingRight_22 ic_1 <|
g_iret F dX0_isHalvingRight_23 (show 0 + 0 + 108 ≤ 108 by omega) (show 0 + 0 + 136 ≤ 136 by omega) hk) fun x3 h2 hk =>
g_if_eq F dX0_isHalvingRight_8 (tgt := 15) rfl (fun hc => have hk := hk.1 hc
g_lconst F dX0_isHalvingRight_15 rfl <|
G.fewer [] rfl <| G.widen (show 0 + 0 + 108 ≤ 0 + 108 by omega) (show 0 + 0 + 136 ≤ 0 + 136 by omega) <| s_X0_isHalvingRight_j16 F htb hM hS v3 (0:Int32) (0:Int64) h2 hk ) (fun hc => have hk := hk.2 hc
g_lconst F dX0_isHalvingRight_11 rfl <|
g_goto F dX0_isHalvingRight_12 (tgt := 16) rfl <|
G.fewer [] rfl <| G.widen (show 0 + 0 + 108 ≤ 0 + 108 by omega) (show 0 + 0 + 136 ≤ 0 + 136 by omega) <| s_X0_isHalvingRight_j16 F htb hM hS v3 (0:Int32) (1:Int64) h2 hk )
abbrev rmX0_firstWrongCell : Room := { frames := 10, cells := 10, slots := 104, locals := 211 }
theorem m_X0_firstWrongCell {S : Sx} (hS0 : Sok S) (v0 : Option Nat) (v1 : Int32) (v2 : Int32) (v3 : Option Nat) (h : hH) (Q : Int32 → hH → Prop) (hk : f_X0_firstWrongCell S.E v0 v1 v2 v3 h Q) : Ct S yX0_firstWrongCell (wsW_ yX0_firstWrongCell cX0_firstWrongCell 5 (some .int) [(0, 10, 13, 13)]) rmX0_firstWrongCell ([aR v0, aI v1, aI v2, aR v3].map vv) h (qI Q) := by
  refine Ct.ofT hS0 (by decide +kernel) rfl (Nat.le_of_ble_eq_true rfl) fun x hxS F hnm htb => ?_
  subst hxS
  unfold f_X0_firstWrongCell at hk
  have hM : 0 + 10 ≤ 10 := by omega
  have hS : 0 + 104 ≤ 104 := by omega
  refine G.widen (c' := 0 + 0) (k' := 0 + 0) (Nat.le_refl 0) (Nat.le_refl 0) ?_
  exact g_aload_n F dX0_firstWrongCell_0 rfl 3 rfl <|
g_iconst F dX0_firstWrongCell_1 ic_0 <|
g_aload_n F dX0_firstWrongCell_2 rfl 0 rfl <|
g_iload_n F dX0_firstWrongCell_3 rfl 1 rfl <|
g_iload_n F dX0_firstWrongCell_4 rfl 2 rfl <|
x_calli (x_V F dX0_firstWrongCell_5 q2777 mi_X1_firstWrongCell ct_X1 (rm' := rmX1_firstWrongCell) ⟨Nat.le_of_ble_eq_true rfl, Nat.le_of_ble_eq_true rfl⟩ ⟨show 0 + 0 + 10 ≤ 10 by omega, show 0 + 0 + 104 ≤ 104 by omega⟩ (As := [aI v1, aI v2]) (rest := [aI (0:Int32), aR v3]) rfl rfl (Nat.le_of_ble_eq_true rfl) hk (fun a3 hk => m_X1_firstWrongCell F.ok a3 v1 v2 h _ _ hk)) (fun e q4 h5 hx => by
obtain ⟨rfl, hk⟩ := hx
exact GT.catch F _ _ htb rfl (by decide) q2599 q2639 <|
g_astore F dX0_firstWrongCell_13 (Nat.le_of_ble_eq_true rfl) rfl <|
g_iconst F dX0_firstWrongCell_15 ic_1 <|
g_iret F dX0_firstWrongCell_16 (show 0 + 0 + 10 ≤ 10 by omega) (show 0 + 0 + 104 ≤ 104 by omega) hk) fun x2 h1 hk =>
g_i2l F dX0_firstWrongCell_8 <|
g_last F dX0_firstWrongCell_9 hk fun h6 hk =>
g_goto F dX0_firstWrongCell_10 (tgt := 17) rfl <|
g_iconst F dX0_firstWrongCell_17 ic_0 <|
g_iret F dX0_firstWrongCell_18 (show 0 + 0 + 10 ≤ 10 by omega) (show 0 + 0 + 104 ≤ 104 by omega) hk
abbrev rmX0_wrongCells : Room := { frames := 10, cells := 10, slots := 104, locals := 212 }
theorem m_X0_wrongCells {S : Sx} (hS0 : Sok S) (v0 : Option Nat) (v1 : Int32) (v2 : Int32) (v3 : Option Nat) (h : hH) (Q : Int32 → hH → Prop) (hk : f_X0_wrongCells S.E v0 v1 v2 v3 h Q) : Ct S yX0_wrongCells (wsW_ yX0_wrongCells cX0_wrongCells 5 (some .int) [(0, 10, 13, 13)]) rmX0_wrongCells ([aR v0, aI v1, aI v2, aR v3].map vv) h (qI Q) := by
  refine Ct.ofT hS0 (by decide +kernel) rfl (Nat.le_of_ble_eq_true rfl) fun x hxS F hnm htb => ?_
  subst hxS
  unfold f_X0_wrongCells at hk
  have hM : 0 + 10 ≤ 10 := by omega
  have hS : 0 + 104 ≤ 104 := by omega
  refine G.widen (c' := 0 + 0) (k' := 0 + 0) (Nat.le_refl 0) (Nat.le_refl 0) ?_
  exact g_aload_n F dX0_wrongCells_0 rfl 3 rfl <|
g_iconst F dX0_wrongCells_1 ic_0 <|
g_aload_n F dX0_wrongCells_2 rfl 0 rfl <|
g_iload_n F dX0_wrongCells_3 rfl 1 rfl <|
g_iload_n F dX0_wrongCells_4 rfl 2 rfl <|
x_calli (x_V F dX0_wrongCells_5 q2797 mi_X1_wrongCells ct_X1 (rm' := rmX1_wrongCells) ⟨Nat.le_of_ble_eq_true rfl, Nat.le_of_ble_eq_true rfl⟩ ⟨show 0 + 0 + 10 ≤ 10 by omega, show 0 + 0 + 104 ≤ 104 by omega⟩ (As := [aI v1, aI v2]) (rest := [aI (0:Int32), aR v3]) rfl rfl (Nat.le_of_ble_eq_true rfl) hk (fun a3 hk => m_X1_wrongCells F.ok a3 v1 v2 h _ _ hk)) (fun e q4 h5 hx => by
obtain ⟨rfl, hk⟩ := hx
exact GT.catch F _ _ htb rfl (by decide) q2599 q2639 <|
g_astore F dX0_wrongCells_13 (Nat.le_of_ble_eq_true rfl) rfl <|
g_iconst F dX0_wrongCells_15 ic_1 <|
g_iret F dX0_wrongCells_16 (show 0 + 0 + 10 ≤ 10 by omega) (show 0 + 0 + 104 ≤ 104 by omega) hk) fun x2 h1 hk =>
g_i2l F dX0_wrongCells_8 <|
g_last F dX0_wrongCells_9 hk fun h6 hk =>
g_goto F dX0_wrongCells_10 (tgt := 17) rfl <|
g_iconst F dX0_wrongCells_17 ic_0 <|
g_iret F dX0_wrongCells_18 (show 0 + 0 + 10 ≤ 10 by omega) (show 0 + 0 + 104 ≤ 104 by omega) hk
abbrev rmX0_comparisons : Room := { frames := 10, cells := 10, slots := 104, locals := 213 }
theorem m_X0_comparisons {S : Sx} (hS0 : Sok S) (v0 : Option Nat) (v1 : Int32) (v2 : Int32) (v3 : Option Nat) (h : hH) (Q : Int32 → hH → Prop) (hk : f_X0_comparisons S.E v0 v1 v2 v3 h Q) : Ct S yX0_comparisons (wsW_ yX0_comparisons cX0_comparisons 5 (some .int) [(0, 10, 13, 13)]) rmX0_comparisons ([aR v0, aI v1, aI v2, aR v3].map vv) h (qI Q) := by
  refine Ct.ofT hS0 (by decide +kernel) rfl (Nat.le_of_ble_eq_true rfl) fun x hxS F hnm htb => ?_
  subst hxS
  unfold f_X0_comparisons at hk
  have hM : 0 + 10 ≤ 10 := by omega
  have hS : 0 + 104 ≤ 104 := by omega
  refine G.widen (c' := 0 + 0) (k' := 0 + 0) (Nat.le_refl 0) (Nat.le_refl 0) ?_
  exact g_aload_n F dX0_comparisons_0 rfl 3 rfl <|
g_iconst F dX0_comparisons_1 ic_0 <|
g_aload_n F dX0_comparisons_2 rfl 0 rfl <|
g_iload_n F dX0_comparisons_3 rfl 1 rfl <|
g_iload_n F dX0_comparisons_4 rfl 2 rfl <|
x_calli (x_V F dX0_comparisons_5 q2804 mi_X1_comparisons ct_X1 (rm' := rmX1_comparisons) ⟨Nat.le_of_ble_eq_true rfl, Nat.le_of_ble_eq_true rfl⟩ ⟨show 0 + 0 + 10 ≤ 10 by omega, show 0 + 0 + 104 ≤ 104 by omega⟩ (As := [aI v1, aI v2]) (rest := [aI (0:Int32), aR v3]) rfl rfl (Nat.le_of_ble_eq_true rfl) hk (fun a3 hk => m_X1_comparisons F.ok a3 v1 v2 h _ _ hk)) (fun e q4 h5 hx => by
obtain ⟨rfl, hk⟩ := hx
exact GT.catch F _ _ htb rfl (by decide) q2599 q2639 <|
g_astore F dX0_comparisons_13 (Nat.le_of_ble_eq_true rfl) rfl <|
g_iconst F dX0_comparisons_15 ic_1 <|
g_iret F dX0_comparisons_16 (show 0 + 0 + 10 ≤ 10 by omega) (show 0 + 0 + 104 ≤ 104 by omega) hk) fun x2 h1 hk =>
g_i2l F dX0_comparisons_8 <|
g_last F dX0_comparisons_9 hk fun h6 hk =>
g_goto F dX0_comparisons_10 (tgt := 17) rfl <|
g_iconst F dX0_comparisons_17 ic_0 <|
g_iret F dX0_comparisons_18 (show 0 + 0 + 10 ≤ 10 by omega) (show 0 + 0 + 104 ≤ 104 by omega) hk
abbrev rmX0_votes : Room := { frames := 9, cells := 9, slots := 14, locals := 196 }
theorem m_X0_votes {S : Sx} (hS0 : Sok S) (v0 : Option Nat) (v1 : Int32) (v2 : Int32) (v3 : Option Nat) (h : hH) (Q : Int32 → hH → Prop) (hk : f_X0_votes S.E v0 v1 v2 v3 h Q) : Ct S yX0_votes (wsW_ yX0_votes cX0_votes 5 (some .int) [(0, 10, 13, 13)]) rmX0_votes ([aR v0, aI v1, aI v2, aR v3].map vv) h (qI Q) := by
  refine Ct.ofT hS0 (by decide +kernel) rfl (Nat.le_of_ble_eq_true rfl) fun x hxS F hnm htb => ?_
  subst hxS
  unfold f_X0_votes at hk
  have hM : 0 + 9 ≤ 9 := by omega
  have hS : 0 + 14 ≤ 14 := by omega
  refine G.widen (c' := 0 + 0) (k' := 0 + 0) (Nat.le_refl 0) (Nat.le_refl 0) ?_
  exact g_aload_n F dX0_votes_0 rfl 3 rfl <|
g_iconst F dX0_votes_1 ic_0 <|
g_aload_n F dX0_votes_2 rfl 0 rfl <|
g_iload_n F dX0_votes_3 rfl 1 rfl <|
g_iload_n F dX0_votes_4 rfl 2 rfl <|
x_calli (x_V F dX0_votes_5 q2811 mi_X1_votes ct_X1 (rm' := rmX1_votes) ⟨Nat.le_of_ble_eq_true rfl, Nat.le_of_ble_eq_true rfl⟩ ⟨show 0 + 0 + 9 ≤ 9 by omega, show 0 + 0 + 14 ≤ 14 by omega⟩ (As := [aI v1, aI v2]) (rest := [aI (0:Int32), aR v3]) rfl rfl (Nat.le_of_ble_eq_true rfl) hk (fun a3 hk => m_X1_votes F.ok a3 v1 v2 h _ _ hk)) (fun e q4 h5 hx => by
obtain ⟨rfl, hk⟩ := hx
exact GT.catch F _ _ htb rfl (by decide) q2599 q2639 <|
g_astore F dX0_votes_13 (Nat.le_of_ble_eq_true rfl) rfl <|
g_iconst F dX0_votes_15 ic_1 <|
g_iret F dX0_votes_16 (show 0 + 0 + 9 ≤ 9 by omega) (show 0 + 0 + 14 ≤ 14 by omega) hk) fun x2 h1 hk =>
g_i2l F dX0_votes_8 <|
g_last F dX0_votes_9 hk fun h6 hk =>
g_goto F dX0_votes_10 (tgt := 17) rfl <|
g_iconst F dX0_votes_17 ic_0 <|
g_iret F dX0_votes_18 (show 0 + 0 + 9 ≤ 9 by omega) (show 0 + 0 + 14 ≤ 14 by omega) hk
abbrev rmX0_isWrong : Room := { frames := 12, cells := 54, slots := 1419, locals := 265 }
theorem s_X0_isWrong_j15 {x : Cx} (F : Fx x cX0_isWrong "LockstepRoomLaw" 4 (some .int) rmX0_isWrong) (htb : x.c.exceptionTable.toList = tableOf [(0, 16, 19, 13)]) {Q : Int32 → hH → Prop} {cb kb : Nat} (hM : cb + 54 ≤ 54) (hS : kb + 1419 ≤ 1419) (s0 : Option Nat) (s1 : Int32) (s2 : Int64) (h : hH) (hk : f_X0_isWrong_j15 x.S.E Q s0 s1 s2 h) : G x (xQ x rmX0_isWrong (qI Q)) 15 [] [aL s2, aI s1, aR s0] h (cb + 54) (kb + 1419) := by
  unfold f_X0_isWrong_j15 at hk
  exact g_last F dX0_isWrong_15 hk fun h1 hk =>
g_goto F dX0_isWrong_16 (tgt := 22) rfl <|
g_iconst F dX0_isWrong_22 ic_0 <|
g_iret F dX0_isWrong_23 (show cb + 54 ≤ 54 by omega) (show kb + 1419 ≤ 1419 by omega) hk
theorem m_X0_isWrong {S : Sx} (hS0 : Sok S) (v0 : Option Nat) (v1 : Int32) (v2 : Option Nat) (h : hH) (Q : Int32 → hH → Prop) (hk : f_X0_isWrong S.E v0 v1 v2 h Q) : Ct S yX0_isWrong (wsW_ yX0_isWrong cX0_isWrong 4 (some .int) [(0, 16, 19, 13)]) rmX0_isWrong ([aR v0, aI v1, aR v2].map vv) h (qI Q) := by
  refine Ct.ofT hS0 (by decide +kernel) rfl (Nat.le_of_ble_eq_true rfl) fun x hxS F hnm htb => ?_
  subst hxS
  unfold f_X0_isWrong at hk
  have hM : 0 + 54 ≤ 54 := by omega
  have hS : 0 + 1419 ≤ 1419 := by omega
  refine G.widen (c' := 0 + 0) (k' := 0 + 0) (Nat.le_refl 0) (Nat.le_refl 0) ?_
  exact g_aload_n F dX0_isWrong_0 rfl 2 rfl <|
g_iconst F dX0_isWrong_1 ic_0 <|
g_aload_n F dX0_isWrong_2 rfl 0 rfl <|
g_iload_n F dX0_isWrong_3 rfl 1 rfl <|
x_calli (x_V F dX0_isWrong_4 q2818 mi_X1_isWrong ct_X1 (rm' := rmX1_isWrong) ⟨Nat.le_of_ble_eq_true rfl, Nat.le_of_ble_eq_true rfl⟩ ⟨show 0 + 0 + 54 ≤ 54 by omega, show 0 + 0 + 1419 ≤ 1419 by omega⟩ (As := [aI v1]) (rest := [aI (0:Int32), aR v2]) rfl rfl (Nat.le_of_ble_eq_true rfl) hk (fun a4 hk => m_X1_isWrong F.ok a4 v1 h _ _ hk)) (fun e q5 h6 hx => by
obtain ⟨rfl, hk⟩ := hx
exact GT.catch F _ _ htb rfl (by decide) q2599 q2639 <|
g_astore_n F dX0_isWrong_19 rfl (Nat.le_of_ble_eq_true rfl) rfl <|
g_iconst F dX0_isWrong_20 ic_1 <|
g_iret F dX0_isWrong_21 (show 0 + 0 + 54 ≤ 54 by omega) (show 0 + 0 + 1419 ≤ 1419 by omega) hk) fun x3 h2 hk =>
g_if_eq F dX0_isWrong_7 (tgt := 14) rfl (fun hc => have hk := hk.1 hc
g_lconst F dX0_isWrong_14 rfl <|
G.fewer [] rfl <| G.widen (show 0 + 0 + 54 ≤ 0 + 54 by omega) (show 0 + 0 + 1419 ≤ 0 + 1419 by omega) <| s_X0_isWrong_j15 F htb hM hS v2 (0:Int32) (0:Int64) h2 hk ) (fun hc => have hk := hk.2 hc
g_lconst F dX0_isWrong_10 rfl <|
g_goto F dX0_isWrong_11 (tgt := 15) rfl <|
G.fewer [] rfl <| G.widen (show 0 + 0 + 54 ≤ 0 + 54 by omega) (show 0 + 0 + 1419 ≤ 0 + 1419 by omega) <| s_X0_isWrong_j15 F htb hM hS v2 (0:Int32) (1:Int64) h2 hk )
abbrev rmX0_donorFor : Room := { frames := 12, cells := 69, slots := 1443, locals := 269 }
theorem m_X0_donorFor {S : Sx} (hS0 : Sok S) (v0 : Option Nat) (v1 : Int32) (v2 : Option Nat) (h : hH) (Q : Int32 → hH → Prop) (hk : f_X0_donorFor S.E v0 v1 v2 h Q) : Ct S yX0_donorFor (wsW_ yX0_donorFor cX0_donorFor 4 (some .int) [(0, 9, 12, 13)]) rmX0_donorFor ([aR v0, aI v1, aR v2].map vv) h (qI Q) := by
  refine Ct.ofT hS0 (by decide +kernel) rfl (Nat.le_of_ble_eq_true rfl) fun x hxS F hnm htb => ?_
  subst hxS
  unfold f_X0_donorFor at hk
  have hM : 0 + 69 ≤ 69 := by omega
  have hS : 0 + 1443 ≤ 1443 := by omega
  refine G.widen (c' := 0 + 0) (k' := 0 + 0) (Nat.le_refl 0) (Nat.le_refl 0) ?_
  exact g_aload_n F dX0_donorFor_0 rfl 2 rfl <|
g_iconst F dX0_donorFor_1 ic_0 <|
g_aload_n F dX0_donorFor_2 rfl 0 rfl <|
g_iload_n F dX0_donorFor_3 rfl 1 rfl <|
x_calli (x_V F dX0_donorFor_4 q2825 mi_X1_donorFor ct_X1 (rm' := rmX1_donorFor) ⟨Nat.le_of_ble_eq_true rfl, Nat.le_of_ble_eq_true rfl⟩ ⟨show 0 + 0 + 69 ≤ 69 by omega, show 0 + 0 + 1443 ≤ 1443 by omega⟩ (As := [aI v1]) (rest := [aI (0:Int32), aR v2]) rfl rfl (Nat.le_of_ble_eq_true rfl) hk (fun a3 hk => m_X1_donorFor F.ok a3 v1 h _ _ hk)) (fun e q4 h5 hx => by
obtain ⟨rfl, hk⟩ := hx
exact GT.catch F _ _ htb rfl (by decide) q2599 q2639 <|
g_astore_n F dX0_donorFor_12 rfl (Nat.le_of_ble_eq_true rfl) rfl <|
g_iconst F dX0_donorFor_13 ic_1 <|
g_iret F dX0_donorFor_14 (show 0 + 0 + 69 ≤ 69 by omega) (show 0 + 0 + 1443 ≤ 1443 by omega) hk) fun x2 h1 hk =>
g_i2l F dX0_donorFor_7 <|
g_last F dX0_donorFor_8 hk fun h6 hk =>
g_goto F dX0_donorFor_9 (tgt := 15) rfl <|
g_iconst F dX0_donorFor_15 ic_0 <|
g_iret F dX0_donorFor_16 (show 0 + 0 + 69 ≤ 69 by omega) (show 0 + 0 + 1443 ≤ 1443 by omega) hk
abbrev rmX0_whyNot : Room := { frames := 13, cells := 173, slots := 4267, locals := 290 }
theorem m_X0_whyNot {S : Sx} (hS0 : Sok S) (v0 : Option Nat) (v1 : Int32) (v2 : Option Nat) (h : hH) (Q : Int32 → hH → Prop) (hk : f_X0_whyNot S.E v0 v1 v2 h Q) : Ct S yX0_whyNot (wsW_ yX0_whyNot cX0_whyNot 4 (some .int) [(0, 9, 12, 13)]) rmX0_whyNot ([aR v0, aI v1, aR v2].map vv) h (qI Q) := by
  refine Ct.ofT hS0 (by decide +kernel) rfl (Nat.le_of_ble_eq_true rfl) fun x hxS F hnm htb => ?_
  subst hxS
  unfold f_X0_whyNot at hk
  have hM : 0 + 173 ≤ 173 := by omega
  have hS : 0 + 4267 ≤ 4267 := by omega
  refine G.widen (c' := 0 + 0) (k' := 0 + 0) (Nat.le_refl 0) (Nat.le_refl 0) ?_
  exact g_aload_n F dX0_whyNot_0 rfl 2 rfl <|
g_iconst F dX0_whyNot_1 ic_0 <|
g_aload_n F dX0_whyNot_2 rfl 0 rfl <|
g_iload_n F dX0_whyNot_3 rfl 1 rfl <|
x_calli (x_V F dX0_whyNot_4 q2832 mi_X1_whyNot ct_X1 (rm' := rmX1_whyNot) ⟨Nat.le_of_ble_eq_true rfl, Nat.le_of_ble_eq_true rfl⟩ ⟨show 0 + 0 + 173 ≤ 173 by omega, show 0 + 0 + 4267 ≤ 4267 by omega⟩ (As := [aI v1]) (rest := [aI (0:Int32), aR v2]) rfl rfl (Nat.le_of_ble_eq_true rfl) hk (fun a3 hk => m_X1_whyNot F.ok a3 v1 h _ _ hk)) (fun e q4 h5 hx => by
obtain ⟨rfl, hk⟩ := hx
exact GT.catch F _ _ htb rfl (by decide) q2599 q2639 <|
g_astore_n F dX0_whyNot_12 rfl (Nat.le_of_ble_eq_true rfl) rfl <|
g_iconst F dX0_whyNot_13 ic_1 <|
g_iret F dX0_whyNot_14 (show 0 + 0 + 173 ≤ 173 by omega) (show 0 + 0 + 4267 ≤ 4267 by omega) hk) fun x2 h1 hk =>
g_i2l F dX0_whyNot_7 <|
g_last F dX0_whyNot_8 hk fun h6 hk =>
g_goto F dX0_whyNot_9 (tgt := 15) rfl <|
g_iconst F dX0_whyNot_15 ic_0 <|
g_iret F dX0_whyNot_16 (show 0 + 0 + 173 ≤ 173 by omega) (show 0 + 0 + 4267 ≤ 4267 by omega) hk
abbrev rmX0_mayRun : Room := { frames := 9, cells := 1, slots := 6, locals := 169 }
theorem m_X0_mayRun {S : Sx} (hS0 : Sok S) (v0 : Option Nat) (v1 : Int32) (v2 : Option Nat) (h : hH) (Q : Int32 → hH → Prop) (hk : f_X0_mayRun S.E v0 v1 v2 h Q) : Ct S yX0_mayRun (wsW_ yX0_mayRun cX0_mayRun 4 (some .int) [(0, 9, 12, 13)]) rmX0_mayRun ([aR v0, aI v1, aR v2].map vv) h (qI Q) := by
  refine Ct.ofT hS0 (by decide +kernel) rfl (Nat.le_of_ble_eq_true rfl) fun x hxS F hnm htb => ?_
  subst hxS
  unfold f_X0_mayRun at hk
  have hM : 0 + 1 ≤ 1 := by omega
  have hS : 0 + 6 ≤ 6 := by omega
  refine G.widen (c' := 0 + 0) (k' := 0 + 0) (Nat.le_refl 0) (Nat.le_refl 0) ?_
  exact g_aload_n F dX0_mayRun_0 rfl 2 rfl <|
g_iconst F dX0_mayRun_1 ic_0 <|
g_aload_n F dX0_mayRun_2 rfl 0 rfl <|
g_iload_n F dX0_mayRun_3 rfl 1 rfl <|
x_calli (x_V F dX0_mayRun_4 q2839 mi_X1_mayRun ct_X1 (rm' := rmX1_mayRun) ⟨Nat.le_of_ble_eq_true rfl, Nat.le_of_ble_eq_true rfl⟩ ⟨show 0 + 0 + 1 ≤ 1 by omega, show 0 + 0 + 6 ≤ 6 by omega⟩ (As := [aI v1]) (rest := [aI (0:Int32), aR v2]) rfl rfl (Nat.le_of_ble_eq_true rfl) hk (fun a3 hk => m_X1_mayRun F.ok a3 v1 h _ _ hk)) (fun e q4 h5 hx => by
obtain ⟨rfl, hk⟩ := hx
exact GT.catch F _ _ htb rfl (by decide) q2599 q2639 <|
g_astore_n F dX0_mayRun_12 rfl (Nat.le_of_ble_eq_true rfl) rfl <|
g_iconst F dX0_mayRun_13 ic_1 <|
g_iret F dX0_mayRun_14 (show 0 + 0 + 1 ≤ 1 by omega) (show 0 + 0 + 6 ≤ 6 by omega) hk) fun x2 h1 hk =>
g_i2l F dX0_mayRun_7 <|
g_last F dX0_mayRun_8 hk fun h6 hk =>
g_goto F dX0_mayRun_9 (tgt := 15) rfl <|
g_iconst F dX0_mayRun_15 ic_0 <|
g_iret F dX0_mayRun_16 (show 0 + 0 + 1 ≤ 1 by omega) (show 0 + 0 + 6 ≤ 6 by omega) hk
abbrev rmX0_truth : Room := { frames := 8, cells := 2, slots := 22, locals := 158 }
theorem m_X0_truth {S : Sx} (hS0 : Sok S) (v0 : Option Nat) (v1 : Int32) (v2 : Int32) (v3 : Option Nat) (h : hH) (Q : Int32 → hH → Prop) (hk : f_X0_truth S.E v0 v1 v2 v3 h Q) : Ct S yX0_truth (wsW_ yX0_truth cX0_truth 5 (some .int) [(0, 10, 13, 13)]) rmX0_truth ([aR v0, aI v1, aI v2, aR v3].map vv) h (qI Q) := by
  refine Ct.ofT hS0 (by decide +kernel) rfl (Nat.le_of_ble_eq_true rfl) fun x hxS F hnm htb => ?_
  subst hxS
  unfold f_X0_truth at hk
  have hM : 0 + 2 ≤ 2 := by omega
  have hS : 0 + 22 ≤ 22 := by omega
  refine G.widen (c' := 0 + 0) (k' := 0 + 0) (Nat.le_refl 0) (Nat.le_refl 0) ?_
  exact g_aload_n F dX0_truth_0 rfl 3 rfl <|
g_iconst F dX0_truth_1 ic_0 <|
g_aload_n F dX0_truth_2 rfl 0 rfl <|
g_iload_n F dX0_truth_3 rfl 1 rfl <|
g_iload_n F dX0_truth_4 rfl 2 rfl <|
x_calli (x_V F dX0_truth_5 q2846 mi_X1_truth ct_X1 (rm' := rmX1_truth) ⟨Nat.le_of_ble_eq_true rfl, Nat.le_of_ble_eq_true rfl⟩ ⟨show 0 + 0 + 2 ≤ 2 by omega, show 0 + 0 + 22 ≤ 22 by omega⟩ (As := [aI v1, aI v2]) (rest := [aI (0:Int32), aR v3]) rfl rfl (Nat.le_of_ble_eq_true rfl) hk (fun a3 hk => m_X1_truth F.ok a3 v1 v2 h _ _ hk)) (fun e q4 h5 hx => by
obtain ⟨rfl, hk⟩ := hx
exact GT.catch F _ _ htb rfl (by decide) q2599 q2639 <|
g_astore F dX0_truth_13 (Nat.le_of_ble_eq_true rfl) rfl <|
g_iconst F dX0_truth_15 ic_1 <|
g_iret F dX0_truth_16 (show 0 + 0 + 2 ≤ 2 by omega) (show 0 + 0 + 22 ≤ 22 by omega) hk) fun x2 h1 hk =>
g_i2l F dX0_truth_8 <|
g_last F dX0_truth_9 hk fun h6 hk =>
g_goto F dX0_truth_10 (tgt := 17) rfl <|
g_iconst F dX0_truth_17 ic_0 <|
g_iret F dX0_truth_18 (show 0 + 0 + 2 ≤ 2 by omega) (show 0 + 0 + 22 ≤ 22 by omega) hk
abbrev rmX0_foreseen : Room := { frames := 9, cells := 3, slots := 28, locals := 169 }
theorem m_X0_foreseen {S : Sx} (hS0 : Sok S) (v0 : Option Nat) (v1 : Int32) (v2 : Int32) (v3 : Option Nat) (h : hH) (Q : Int32 → hH → Prop) (hk : f_X0_foreseen S.E v0 v1 v2 v3 h Q) : Ct S yX0_foreseen (wsW_ yX0_foreseen cX0_foreseen 5 (some .int) [(0, 10, 13, 13)]) rmX0_foreseen ([aR v0, aI v1, aI v2, aR v3].map vv) h (qI Q) := by
  refine Ct.ofT hS0 (by decide +kernel) rfl (Nat.le_of_ble_eq_true rfl) fun x hxS F hnm htb => ?_
  subst hxS
  unfold f_X0_foreseen at hk
  have hM : 0 + 3 ≤ 3 := by omega
  have hS : 0 + 28 ≤ 28 := by omega
  refine G.widen (c' := 0 + 0) (k' := 0 + 0) (Nat.le_refl 0) (Nat.le_refl 0) ?_
  exact g_aload_n F dX0_foreseen_0 rfl 3 rfl <|
g_iconst F dX0_foreseen_1 ic_0 <|
g_aload_n F dX0_foreseen_2 rfl 0 rfl <|
g_iload_n F dX0_foreseen_3 rfl 1 rfl <|
g_iload_n F dX0_foreseen_4 rfl 2 rfl <|
x_calli (x_V F dX0_foreseen_5 q2853 mi_X1_foreseen ct_X1 (rm' := rmX1_foreseen) ⟨Nat.le_of_ble_eq_true rfl, Nat.le_of_ble_eq_true rfl⟩ ⟨show 0 + 0 + 3 ≤ 3 by omega, show 0 + 0 + 28 ≤ 28 by omega⟩ (As := [aI v1, aI v2]) (rest := [aI (0:Int32), aR v3]) rfl rfl (Nat.le_of_ble_eq_true rfl) hk (fun a3 hk => m_X1_foreseen F.ok a3 v1 v2 h _ _ hk)) (fun e q4 h5 hx => by
obtain ⟨rfl, hk⟩ := hx
exact GT.catch F _ _ htb rfl (by decide) q2599 q2639 <|
g_astore F dX0_foreseen_13 (Nat.le_of_ble_eq_true rfl) rfl <|
g_iconst F dX0_foreseen_15 ic_1 <|
g_iret F dX0_foreseen_16 (show 0 + 0 + 3 ≤ 3 by omega) (show 0 + 0 + 28 ≤ 28 by omega) hk) fun x2 h1 hk =>
g_i2l F dX0_foreseen_8 <|
g_last F dX0_foreseen_9 hk fun h6 hk =>
g_goto F dX0_foreseen_10 (tgt := 17) rfl <|
g_iconst F dX0_foreseen_17 ic_0 <|
g_iret F dX0_foreseen_18 (show 0 + 0 + 3 ≤ 3 by omega) (show 0 + 0 + 28 ≤ 28 by omega) hk
abbrev rmX0_lastWrite : Room := { frames := 9, cells := 2, slots := 12, locals := 174 }
theorem m_X0_lastWrite {S : Sx} (hS0 : Sok S) (v0 : Option Nat) (v1 : Int32) (v2 : Int32) (v3 : Option Nat) (h : hH) (Q : Int32 → hH → Prop) (hk : f_X0_lastWrite S.E v0 v1 v2 v3 h Q) : Ct S yX0_lastWrite (wsW_ yX0_lastWrite cX0_lastWrite 5 (some .int) [(0, 10, 13, 13)]) rmX0_lastWrite ([aR v0, aI v1, aI v2, aR v3].map vv) h (qI Q) := by
  refine Ct.ofT hS0 (by decide +kernel) rfl (Nat.le_of_ble_eq_true rfl) fun x hxS F hnm htb => ?_
  subst hxS
  unfold f_X0_lastWrite at hk
  have hM : 0 + 2 ≤ 2 := by omega
  have hS : 0 + 12 ≤ 12 := by omega
  refine G.widen (c' := 0 + 0) (k' := 0 + 0) (Nat.le_refl 0) (Nat.le_refl 0) ?_
  exact g_aload_n F dX0_lastWrite_0 rfl 3 rfl <|
g_iconst F dX0_lastWrite_1 ic_0 <|
g_aload_n F dX0_lastWrite_2 rfl 0 rfl <|
g_iload_n F dX0_lastWrite_3 rfl 1 rfl <|
g_iload_n F dX0_lastWrite_4 rfl 2 rfl <|
x_calli (x_V F dX0_lastWrite_5 q2864 mi_X1_lastWrite ct_X1 (rm' := rmX1_lastWrite) ⟨Nat.le_of_ble_eq_true rfl, Nat.le_of_ble_eq_true rfl⟩ ⟨show 0 + 0 + 2 ≤ 2 by omega, show 0 + 0 + 12 ≤ 12 by omega⟩ (As := [aI v1, aI v2]) (rest := [aI (0:Int32), aR v3]) rfl rfl (Nat.le_of_ble_eq_true rfl) hk (fun a3 hk => m_X1_lastWrite F.ok a3 v1 v2 h _ _ hk)) (fun e q4 h5 hx => by
obtain ⟨rfl, hk⟩ := hx
exact GT.catch F _ _ htb rfl (by decide) q2599 q2639 <|
g_astore F dX0_lastWrite_13 (Nat.le_of_ble_eq_true rfl) rfl <|
g_iconst F dX0_lastWrite_15 ic_1 <|
g_iret F dX0_lastWrite_16 (show 0 + 0 + 2 ≤ 2 by omega) (show 0 + 0 + 12 ≤ 12 by omega) hk) fun x2 h1 hk =>
g_i2l F dX0_lastWrite_8 <|
g_last F dX0_lastWrite_9 hk fun h6 hk =>
g_goto F dX0_lastWrite_10 (tgt := 17) rfl <|
g_iconst F dX0_lastWrite_17 ic_0 <|
g_iret F dX0_lastWrite_18 (show 0 + 0 + 2 ≤ 2 by omega) (show 0 + 0 + 12 ≤ 12 by omega) hk
abbrev rmX0_write : Room := { frames := 9, cells := 60, slots := 3000, locals := 201 }
theorem m_X0_write {S : Sx} (hS0 : Sok S) (v0 : Option Nat) (v1 : Int32) (v2 : Option Nat) (h : hH) (Q : Int32 → hH → Prop) (hk : f_X0_write S.E v0 v1 v2 h Q) : Ct S yX0_write (wsW_ yX0_write cX0_write 4 (some .int) [(0, 9, 12, 13)]) rmX0_write ([aR v0, aI v1, aR v2].map vv) h (qI Q) := by
  refine Ct.ofT hS0 (by decide +kernel) rfl (Nat.le_of_ble_eq_true rfl) fun x hxS F hnm htb => ?_
  subst hxS
  unfold f_X0_write at hk
  have hM : 0 + 60 ≤ 60 := by omega
  have hS : 0 + 3000 ≤ 3000 := by omega
  refine G.widen (c' := 0 + 0) (k' := 0 + 0) (Nat.le_refl 0) (Nat.le_refl 0) ?_
  exact g_aload_n F dX0_write_0 rfl 2 rfl <|
g_iconst F dX0_write_1 ic_0 <|
g_aload_n F dX0_write_2 rfl 0 rfl <|
g_iload_n F dX0_write_3 rfl 1 rfl <|
x_calli (x_V F dX0_write_4 q2875 mi_X1_write ct_X1 (rm' := (rmX1_write 60 3000)) ⟨Nat.le_of_ble_eq_true rfl, Nat.le_of_ble_eq_true rfl⟩ ⟨show 0 + 0 + 60 ≤ 60 by omega, show 0 + 0 + 3000 ≤ 3000 by omega⟩ (As := [aI v1]) (rest := [aI (0:Int32), aR v2]) rfl rfl (Nat.le_of_ble_eq_true rfl) hk (fun a3 hk => m_X1_write F.ok 60 3000 a3 v1 h _ _ hk)) (fun e q4 h5 hx => by
obtain ⟨rfl, hk⟩ := hx
exact GT.catch F _ _ htb rfl (by decide) q2599 q2639 <|
g_astore_n F dX0_write_12 rfl (Nat.le_of_ble_eq_true rfl) rfl <|
g_iconst F dX0_write_13 ic_1 <|
g_iret F dX0_write_14 (show 0 + 0 + 60 ≤ 60 by omega) (show 0 + 0 + 3000 ≤ 3000 by omega) hk) fun x2 h1 hk =>
g_i2l F dX0_write_7 <|
g_last F dX0_write_8 hk fun h6 hk =>
g_goto F dX0_write_9 (tgt := 15) rfl <|
g_iconst F dX0_write_15 ic_0 <|
g_iret F dX0_write_16 (show 0 + 0 + 60 ≤ 60 by omega) (show 0 + 0 + 3000 ≤ 3000 by omega) hk
