set_option maxRecDepth 100000
set_option maxHeartbeats 10000000

abbrev rmJ20_valueOfS : Room := { frames := 2, cells := 0, slots := 0, locals := 40 }
theorem m_J20_valueOfS {S : Sx} (hS0 : Sok S) (v0 : Int32) (h : hH) (Q : Option Nat → hH → Prop) (hk : f_J20_valueOfS S.E v0 h Q) : Ct S yJ20_valueOf (ws_ yJ20_valueOf cJ20_valueOf 1 (some (.object "java/lang/Integer"))) rmJ20_valueOfS ([aI v0].map vv) h (qR Q) := by
  refine Ct.of hS0 (by decide +kernel) rfl (Nat.le_of_ble_eq_true rfl) fun x hxS F hnm => ?_
  subst hxS
  unfold f_J20_valueOfS at hk
  exact g_iload_n F dJ20_valueOf_0 rfl 0 rfl <|
g_bipush F dJ20_valueOf_1 bp_m128 <|
g_icmp_lt F dJ20_valueOf_3 (tgt := 23) rfl (fun hc => have hk := hk.1 hc
False.elim hk) (fun hc => have hk := hk.2 hc
g_iload_n F dJ20_valueOf_6 rfl 0 rfl <|
g_gets F dJ20_valueOf_7 (szi_high _) zl_java_lang_Integer_191 <|
g_icmp_gt F dJ20_valueOf_10 (tgt := 23) rfl (fun hc => have hk := hk.1 hc
False.elim hk) (fun hc => have hk := hk.2 hc
g_gets F dJ20_valueOf_13 (sz_9 _) zl_java_lang_Integer_195 <|
g_iload_n F dJ20_valueOf_16 rfl 0 rfl <|
g_sipush F dJ20_valueOf_17 sp_128 <|
g_iadd F dJ20_valueOf_20 <|
g_aaldo F dJ20_valueOf_21 hk fun x1 hk =>
g_aret F (Or.inl ⟨_, rfl⟩) dJ20_valueOf_22 (Nat.le_refl 0) (Nat.le_refl 0) hk))
