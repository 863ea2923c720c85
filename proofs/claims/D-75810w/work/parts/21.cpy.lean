set_option maxRecDepth 100000
set_option maxHeartbeats 10000000

abbrev rmJ13_copyOfD (B W : Nat) : Room := { frames := 2, cells := B, slots := W, locals := 40 }
theorem m_J13_copyOfD {S : Sx} (hS0 : Sok S) (B W : Nat) (v0 : Option Nat) (v1 : Int32) (h : hH) (Q : Option Nat → hH → Prop) (hk : f_J13_copyOfD S.E B W v0 v1 h Q) : Ct S yJ13_copyOf (ws_ yJ13_copyOf cJ13_copyOf 3 (some (.array .byte))) (rmJ13_copyOfD B W) ([aR v0, aI v1].map vv) h (qR Q) := by
  refine Ct.of hS0 (by decide +kernel) rfl (Nat.le_of_ble_eq_true rfl) fun x hxS F hnm => ?_
  subst hxS
  unfold f_J13_copyOfD at hk
  have key : ∀ cb kb : Nat, cb + B ≤ B → kb + W ≤ W → G x (xQ x (rmJ13_copyOfD B W) (qR Q)) 0 (aArgs 0 [aR v0, aI v1]) [] h cb kb := fun cb kb hM hS =>
g_iload_n F dJ13_copyOf_0 rfl 1 rfl <|
g_aload_n F dJ13_copyOf_1 rfl 0 rfl <|
g_alen (t := 1) F dJ13_copyOf_2 rfl hk fun x1 hk =>
g_icmp_ne F dJ13_copyOf_3 (tgt := 14) rfl (fun hc => have hk := hk.2 hc
g_iload_n F dJ13_copyOf_14 rfl 1 rfl <|
Exists.elim hk fun n2 hk => have hb3 := hk.1
have hk := hk.2
g_newI (t := 1) F dJ13_copyOf_15 q375 rfl rfl rfl (show n2 * 1 ≤ 536870912 by omega) (show n2 < 2147483648 by omega) (show cb + 1 ≤ B by omega) (show kb + n2 ≤ W by omega) hk fun q4 h5 hk =>
g_astore_n F dJ13_copyOf_17 rfl (Nat.le_of_ble_eq_true rfl) rfl <|
g_aload_n F dJ13_copyOf_18 rfl 1 rfl <|
g_iconst F dJ13_copyOf_19 ic_0 <|
g_aload_n F dJ13_copyOf_20 rfl 0 rfl <|
g_iconst F dJ13_copyOf_21 ic_0 <|
g_aload_n F dJ13_copyOf_22 rfl 1 rfl <|
g_alen (t := 1) F dJ13_copyOf_23 rfl hk fun x6 hk =>
g_iload_n F dJ13_copyOf_24 rfl 2 rfl <|
g_mmin (rest := [aI (0:Int32), aR (some q4), aI (0:Int32), aR v0]) F dJ13_copyOf_25 q555 q556 q130 q557 (Nat.le_of_ble_eq_true rfl) (Nat.le_of_ble_eq_true rfl) (show cb + 1 ≤ B by omega) (show kb + n2 ≤ W by omega) <|
g_cpI (t := 1) (rest := []) F dJ13_copyOf_28 q558 q560 q559 q132 rfl rfl (Nat.le_of_ble_eq_true rfl) (Nat.le_of_ble_eq_true rfl) hk fun h9 hk =>
g_aload_n F dJ13_copyOf_31 rfl 0 rfl <|
g_aret F (Or.inr ⟨_, rfl⟩) dJ13_copyOf_32 (show cb + 1 ≤ B by omega) (show kb + n2 ≤ W by omega) hk) (fun hc => have hk := hk.1 hc
False.elim hk)
  exact key 0 0 (by omega) (by omega)
abbrev rmJ13_copyOfRangeByteD (B W : Nat) : Room := { frames := 3, cells := B, slots := W, locals := 61 }
theorem m_J13_copyOfRangeByteD {S : Sx} (hS0 : Sok S) (B W : Nat) (v0 : Option Nat) (v1 : Int32) (v2 : Int32) (h : hH) (Q : Option Nat → hH → Prop) (hk : f_J13_copyOfRangeByteD S.E B W v0 v1 v2 h Q) : Ct S yJ13_copyOfRangeByte (ws_ yJ13_copyOfRangeByte cJ13_copyOfRangeByte 5 (some (.array .byte))) (rmJ13_copyOfRangeByteD B W) ([aR v0, aI v1, aI v2].map vv) h (qR Q) := by
  refine Ct.of hS0 (by decide +kernel) rfl (Nat.le_of_ble_eq_true rfl) fun x hxS F hnm => ?_
  subst hxS
  unfold f_J13_copyOfRangeByteD at hk
  have key : ∀ cb kb : Nat, cb + B ≤ B → kb + W ≤ W → G x (xQ x (rmJ13_copyOfRangeByteD B W) (qR Q)) 0 (aArgs 0 [aR v0, aI v1, aI v2]) [] h cb kb := fun cb kb hM hS =>
g_iload_n F dJ13_copyOfRangeByte_0 rfl 1 rfl <|
g_iload_n F dJ13_copyOfRangeByte_1 rfl 2 rfl <|
g_callv0 (g_S F dJ13_copyOfRangeByte_2 q647 ms_J13_checkLength (rm' := rmJ13_checkLength) ⟨Nat.le_of_ble_eq_true rfl, Nat.le_of_ble_eq_true rfl⟩ ⟨show cb + 0 ≤ B by omega, show kb + 0 ≤ W by omega⟩ (As := [aI v1, aI v2]) (rest := []) rfl rfl (Nat.le_of_ble_eq_true rfl) (m_J13_checkLength F.ok v1 v2 h _ hk)) ⟨rfl, rfl⟩ fun h2 hk =>
g_iload_n F dJ13_copyOfRangeByte_5 rfl 2 rfl <|
g_iload_n F dJ13_copyOfRangeByte_6 rfl 1 rfl <|
g_isub F dJ13_copyOfRangeByte_7 <|
g_istore_n F dJ13_copyOfRangeByte_8 rfl (Nat.le_of_ble_eq_true rfl) rfl <|
g_iload_n F dJ13_copyOfRangeByte_9 rfl 0 rfl <|
Exists.elim hk fun n3 hk => have hb4 := hk.1
have hk := hk.2
g_newI (t := 1) F dJ13_copyOfRangeByte_10 q375 rfl rfl rfl (show n3 * 1 ≤ 536870912 by omega) (show n3 < 2147483648 by omega) (show cb + 1 ≤ B by omega) (show kb + n3 ≤ W by omega) hk fun q5 h6 hk =>
g_astore F dJ13_copyOfRangeByte_12 (Nat.le_of_ble_eq_true rfl) rfl <|
g_aload_n F dJ13_copyOfRangeByte_14 rfl 2 rfl <|
g_iload_n F dJ13_copyOfRangeByte_15 rfl 3 rfl <|
g_aload F dJ13_copyOfRangeByte_16 0 rfl <|
g_iconst F dJ13_copyOfRangeByte_18 ic_0 <|
g_aload_n F dJ13_copyOfRangeByte_19 rfl 2 rfl <|
g_alen (t := 1) F dJ13_copyOfRangeByte_20 rfl hk fun x7 hk =>
g_iload_n F dJ13_copyOfRangeByte_21 rfl 3 rfl <|
g_isub F dJ13_copyOfRangeByte_22 <|
g_iload_n F dJ13_copyOfRangeByte_23 rfl 1 rfl <|
g_mmin (rest := [aI (0:Int32), aR (some q5), aI v1, aR v0]) F dJ13_copyOfRangeByte_24 q555 q556 q130 q557 (Nat.le_of_ble_eq_true rfl) (Nat.le_of_ble_eq_true rfl) (show cb + 1 ≤ B by omega) (show kb + n3 ≤ W by omega) <|
g_cpI (t := 1) (rest := []) F dJ13_copyOfRangeByte_27 q558 q560 q559 q132 rfl rfl (Nat.le_of_ble_eq_true rfl) (Nat.le_of_ble_eq_true rfl) hk fun h10 hk =>
g_aload F dJ13_copyOfRangeByte_30 0 rfl <|
g_aret F (Or.inr ⟨_, rfl⟩) dJ13_copyOfRangeByte_32 (show cb + 1 ≤ B by omega) (show kb + n3 ≤ W by omega) hk
  exact key 0 0 (by omega) (by omega)
abbrev rmJ13_copyOfRangeD (B W : Nat) : Room := { frames := 4, cells := B, slots := W, locals := 85 }
theorem s_J13_copyOfRangeD_j10 {x : Cx} {B W : Nat} (F : Fx x cJ13_copyOfRange "java/util/Arrays" 3 (some (.array .byte)) (rmJ13_copyOfRangeD B W)) {Q : Option Nat → hH → Prop} (l0 : Option Nat) (l1 : Int32) (l2 : Int32) (h : hH) (b w cb kb : Nat) (hM : cb + b ≤ B) (hS : kb + w ≤ W) (hk : f_J13_copyOfRangeD_j10 x.S.E Q l0 l1 l2 h b w) : G x (xQ x (rmJ13_copyOfRangeD B W) (qR Q)) 10 [(0, aR l0), (1, aI l1), (2, aI l2)] [] h cb kb := by
  unfold f_J13_copyOfRangeD_j10 at hk
  exact g_aload_n F dJ13_copyOfRange_10 rfl 0 rfl <|
g_iload_n F dJ13_copyOfRange_11 rfl 1 rfl <|
g_iload_n F dJ13_copyOfRange_12 rfl 2 rfl <|
Exists.elim hk fun b2 hk => Exists.elim hk fun w3 hk => have hb1 := hk.1
have hk := hk.2
g_callr (g_S F dJ13_copyOfRange_13 q644 ms_J13_copyOfRangeByte (rm' := (rmJ13_copyOfRangeByteD b2 w3)) ⟨Nat.le_of_ble_eq_true rfl, Nat.le_of_ble_eq_true rfl⟩ ⟨show cb + b2 ≤ B by omega, show kb + w3 ≤ W by omega⟩ (As := [aR l0, aI l1, aI l2]) (rest := []) rfl rfl (Nat.le_of_ble_eq_true rfl) (m_J13_copyOfRangeByteD F.ok b2 w3 l0 l1 l2 h _ hk)) fun x5 h4 hk =>
g_aret F (Or.inr ⟨_, rfl⟩) dJ13_copyOfRange_16 (show cb + b2 ≤ B by omega) (show kb + w3 ≤ W by omega) hk
theorem m_J13_copyOfRangeD {S : Sx} (hS0 : Sok S) (B W : Nat) (v0 : Option Nat) (v1 : Int32) (v2 : Int32) (h : hH) (Q : Option Nat → hH → Prop) (hk : f_J13_copyOfRangeD S.E B W v0 v1 v2 h Q) : Ct S yJ13_copyOfRange (ws_ yJ13_copyOfRange cJ13_copyOfRange 3 (some (.array .byte))) (rmJ13_copyOfRangeD B W) ([aR v0, aI v1, aI v2].map vv) h (qR Q) := by
  refine Ct.of hS0 (by decide +kernel) rfl (Nat.le_of_ble_eq_true rfl) fun x hxS F hnm => ?_
  subst hxS
  unfold f_J13_copyOfRangeD at hk
  have key : ∀ cb kb : Nat, cb + B ≤ B → kb + W ≤ W → G x (xQ x (rmJ13_copyOfRangeD B W) (qR Q)) 0 (aArgs 0 [aR v0, aI v1, aI v2]) [] h cb kb := fun cb kb hM hS =>
g_iload_n F dJ13_copyOfRange_0 rfl 1 rfl <|
g_if_ne F dJ13_copyOfRange_1 (tgt := 10) rfl (fun hc => have hk := hk.2 hc
s_J13_copyOfRangeD_j10 F v0 v1 v2 h B W (cb) (kb) (by omega) (by omega) hk ) (fun hc => have hk := hk.1 hc
g_iload_n F dJ13_copyOfRange_4 rfl 2 rfl <|
g_aload_n F dJ13_copyOfRange_5 rfl 0 rfl <|
g_alen (t := 1) F dJ13_copyOfRange_6 rfl hk fun x6 hk =>
g_icmp_eq F dJ13_copyOfRange_7 (tgt := 17) rfl (fun hc => have hk := hk.1 hc
g_aload_n F dJ13_copyOfRange_17 rfl 0 rfl <|
Exists.elim hk fun n7 hk => have hb8 := hk.1
have hk := hk.2
g_clB (rest := []) F dJ13_copyOfRange_18 q550 q551 q225 q226 q552 q553 (Nat.le_of_ble_eq_true rfl) (Nat.le_of_ble_eq_true rfl) (show cb + 1 ≤ B by omega) (show kb + n7 ≤ W by omega) hk fun q9 h10 hk =>
g_castA (t := 1) F dJ13_copyOfRange_21 q554 F.arr1 hk fun hk =>
g_aret F (Or.inr ⟨_, rfl⟩) dJ13_copyOfRange_24 (show cb + 1 ≤ B by omega) (show kb + n7 ≤ W by omega) hk) (fun hc => have hk := hk.2 hc
s_J13_copyOfRangeD_j10 F v0 v1 v2 h B W (cb) (kb) (by omega) (by omega) hk ))
  exact key 0 0 (by omega) (by omega)
