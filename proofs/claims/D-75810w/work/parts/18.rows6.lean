/-! static calls of methods with handlers; throwing an object of ours -/
set_option maxRecDepth 100000
section
variable {x : Cx} {cc : ByteArray} {own : String} {nL : Nat} {ret : Option FieldType} {rm : Room} {Q : State → Prop} {pc : Nat} {lv lv' : List (Nat × aV)} {st rest As : List aV} {h : hH} {c k : Nat}
  {i n t N maxL a : Nat} {C : String} {T : u_T} {y y0 : MethodName} {bytes : ByteArray} {ret' : Option FieldType} {rm' : Room} {R : Option Value → hH → Prop} {X X' : String → Nat → hH → Prop} {hh : List (Nat × Nat × Nat × Nat)}
theorem g_SW (F : Fx x cc own nL ret rm) (d : decode cc pc = .ok (.invokestatic i, 3)) (q1 : Cond.methodLink own i y ∈ lw_all) (q2 : Cond.static y ∈ lw_all) (q3 : Cond.initialized y.cls ∈ lw_all) (q4 : Cond.codeWith y bytes maxL ret' hh ∈ lw_all) (hd : MOk y n) (hR : ROk rm' rm maxL) (hf : BOk rm' rm c k)
    (hn : As.length = n) (hst : st = As.reverse ++ rest) (hW : (rest.map ac).sum ≤ 8) (hM : Ct x.S y (wsW_ y bytes maxL ret' hh) rm' (As.map vv) h R) : Run x pc lv st rest h c k rm' R := by
  intro H locs ls hw hl
  exact vx_runSW (As := As.map vv) F.fix hM (vx_cwSW n F.ts (lw_SW q1 q2 q3 q4) rfl rfl rfl hd (by rw [F.rmE]; exact hR)) ⟨GW_blind, pre_at F hw⟩ rfl (by rw [List.length_map]; exact hn) (hl.1.trans F.2.2.1) (by subst hst; show List.map vv _ = _; rw [List.map_append, List.map_reverse]) (lv_room (by rw [cat_sum]; exact hW)) d (by rw [F.rmE]; exact hf)
/-- a private method of a superclass -/
theorem Fx.selP (F : Fx x cc own nL ret rm) {yq yr : MethodName} (qp : Cond.privateMethod y ∈ lw_tbl) (q2 : Cond.instanceMethod y ∈ lw_all) (q0 : Cond.selects C yq yr ∈ lw_all) (hr : yr.cls = y.cls) (hy : y.cls ≠ "java/lang/invoke/MethodHandle" ∧ y.cls ≠ "java/lang/invoke/VarHandle") : (Cond.selects C y y).before x.args x.s = true := by
  obtain ⟨mk, methM, hnamed, hmethM, -, -⟩ := Cond.instanceMethod_spec (F.ts _ q2)
  obtain ⟨c2, r2, m2, hc, -, q3, -, kP, hkP, hkPi⟩ := Cond.selects_spec (F.ts _ q0)
  have hfound : x.s.methodFound? y.cls y.name y.desc = some mk := State.methodFound?_of_named hnamed hy
  obtain ⟨b, hb, -⟩ := F.ok.2.1
  have hpv := Cond.privateMethod_warm (args' := x.args) F.hot (hb _ qp)
  have h1 := findClass_of_methodNamed hnamed
  have h2 := findClass_of_methodNamed q3
  rw [hr] at h2
  have hcls : mk.cls = m2.cls := Option.some.inj (h1.symm.trans h2)
  have hsel : selectMethod {} x.s.vm c2 mk = .method mk := selectMethod_private hmethM (Cond.privateMethod_at hpv mk methM hnamed hmethM)
  simp only [Cond.before, Cond.holds, Cond.value, hc, hfound, hnamed, hsel, hcls, hkP]
  simp
  exact hkPi
theorem g_VP {r : Option Nat} {P : Nat → Prop} {yq yr : MethodName} (F : Fx x cc own nL ret rm) (d : decode cc pc = .ok (.invokevirtual i, 3)) (q1 : Cond.methodLink own i y ∈ lw_all) (qp : Cond.privateMethod y ∈ lw_tbl) (q0 : Cond.selects C yq yr ∈ lw_all) (hr : yr.cls = y.cls) (q2 : Cond.instanceMethod y ∈ lw_all) (q4 : Cond.initialized y.cls ∈ lw_all) (q5 : Cond.code y bytes maxL ret' ∈ lw_all) (hd : MOk y n) (ht : CL[t]? = some (C, T, N)) (hR : ROk rm' rm maxL) (hf : BOk rm' rm c k)
    (hn : As.length = n) (hst : st = As.reverse ++ aR r :: rest) (hW : (rest.map ac).sum ≤ 8) (hk : isT h r t P) (hM : ∀ a, P a → Ct x.S y (ws_ y bytes maxL ret') rm' ((aR (some a) :: As).map vv) h R) : Run x pc lv st rest h c k rm' R := by
  obtain ⟨a, fl, fs, rfl, ha, hk⟩ := hk
  intro H locs ls hw hl
  exact va_runV (As := As.map vv) (b := a) F.fix (hM a hk) ⟨callB_of n F.ts (lw_meth q5) rfl rfl rfl (F.ts _ q4) (F.ts _ q1) hd (by rw [F.rmE]; exact hR), F.ts _ q2, F.selP qp q2 q0 hr ⟨hd.1, hd.2.1⟩⟩ ⟨GW_blind, rc_at F hw ht ha, pre_at F hw⟩ rfl (by rw [List.length_map]; exact hn) (hl.1.trans F.2.2.1) (by subst hst; show List.map vv _ = _; rw [List.map_append, List.map_reverse]; rfl) (lv_room (by rw [cat_sum]; exact hW)) d (by rw [F.rmE]; exact hf)
theorem Fx.declC {b : ByteArray} {L : Nat} {r : Option FieldType} (F : Fx x cc own nL ret rm) (q2 : Cond.instanceMethod y ∈ lw_all) (q5 : Cond.code y b L r ∈ lw_all) : (Cond.declares y).before x.args x.s = true := by
  obtain ⟨mk, methM, hnamed, hmethM, hst, -⟩ := Cond.instanceMethod_spec (F.ts _ q2)
  obtain ⟨methM', cM, hmethM', -, -, -, -, -, -, hsigM⟩ := Cond.code_spec hnamed (F.ts _ q5)
  cases hmethM.symm.trans hmethM'
  simp [Cond.before, Cond.holds, Cond.value, hnamed, hmethM, hst, hsigM]
/-- an overridden method that has code of its own -/
theorem g_OC {owner : String} {r : Option Nat} {P : Nat → Prop} {b' : ByteArray} {L' : Nat} {r' : Option FieldType} (F : Fx x cc own nL ret rm) (d : decode cc pc = .ok (.invokevirtual i, 3)) (q1 : Cond.methodLink own i y0 ∈ lw_all) (q1s : Cond.sameMethod y0.cls owner y0.name y0.desc ∈ lw_all) (qa : Cond.instanceMethod ⟨owner, y0.name, y0.desc⟩ ∈ lw_all) (qb : Cond.code ⟨owner, y0.name, y0.desc⟩ b' L' r' ∈ lw_all) (q2 : Cond.instanceMethod y ∈ lw_all) (q3 : Cond.selects C y0 y ∈ lw_all) (q4 : Cond.initialized y.cls ∈ lw_all) (q5 : Cond.code y bytes maxL ret' ∈ lw_all) (hd : owner ≠ "java/lang/invoke/MethodHandle" ∧ owner ≠ "java/lang/invoke/VarHandle" ∧ (parseMethodDescriptor y0.desc).map (fun d => d.parameters.length) = some n) (ht : CL[t]? = some (C, T, N)) (hR : ROk rm' rm maxL) (hf : BOk rm' rm c k)
    (hn : As.length = n) (hst : st = As.reverse ++ aR r :: rest) (hW : (rest.map ac).sum ≤ 8) (hk : isT h r t P) (hM : ∀ a, P a → Ct x.S y (ws_ y bytes maxL ret') rm' ((aR (some a) :: As).map vv) h R) : Run x pc lv st rest h c k rm' R := by
  obtain ⟨a, fl, fs, rfl, ha, hk⟩ := hk
  intro H locs ls hw hl
  have hz : va_Nw (.declares ⟨owner, y0.name, y0.desc⟩) x.s := va_Nw.of rfl (F.declC qa qb)
  exact va_runU (As := As.map vv) (b := a) F.fix (hM a hk) (va_cwA n F.ts (lw_U q1 q1s q3 q2 q4 q5) rfl rfl rfl hz hd (by rw [F.rmE]; exact hR)) ⟨GW_blind, rc_at F hw ht ha, pre_at F hw⟩ rfl (by rw [List.length_map]; exact hn) (hl.1.trans F.2.2.1) (by subst hst; show List.map vv _ = _; rw [List.map_append, List.map_reverse]; rfl) (lv_room (by rw [cat_sum]; exact hW)) d (by rw [F.rmE]; exact hf)
theorem g_throwO {E : String} {r : Option Nat} {K : Nat → Prop} (F : Fx x cc own nL ret rm) (d : decode cc pc = .ok (.athrow, 1)) (ht : CL[t]? = some (E, T, N)) (hk : thO h r t K) (g : ∀ q, K q → GT x Q pc lv rest h c k E q) : G x Q pc lv (aR r :: rest) h c k := by
  obtain ⟨a, fs, rfl, ha, hk⟩ := hk
  exact g_athrow F d ht ha (g a hk)
end
