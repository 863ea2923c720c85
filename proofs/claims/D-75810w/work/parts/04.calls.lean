/-! CALLS: a row a kind of call -/
set_option maxRecDepth 100000
section
variable {x : Cx} {cc : ByteArray} {own : String} {nL : Nat} {ret : Option FieldType} {rm : Room} {Q : State → Prop} {pc : Nat} {lv lv' : List (Nat × aV)} {st rest As : List aV} {h : hH} {c k : Nat}
  {i n t N maxL : Nat} {C : String} {T : u_T} {y y0 : MethodName} {bytes : ByteArray} {ret' : Option FieldType} {rm' : Room} {R : Option Value → hH → Prop} {a : Nat} {fl : Bool} {fs : List Value} {S : Sx}
theorem cat_sum (l : List aV) : ((l.map vv).map fun v => v.category).sum = (l.map ac).sum := by
  rw [List.map_map]
  congr 1
  apply List.map_congr_left
  intro q _
  exact vv_cat q
/-- a method's name, its descriptor -/
abbrev MOk (y : MethodName) (n : Nat) : Prop := y.cls ≠ "java/lang/invoke/MethodHandle" ∧ y.cls ≠ "java/lang/invoke/VarHandle" ∧ (parseMethodDescriptor y.desc).map (fun d => d.parameters.length) = some n
abbrev ROk (rm' rm : Room) (maxL : Nat) : Prop := rm'.frames + 1 ≤ rm.frames ∧ 8 + (maxL + 11) + rm'.locals ≤ rm.locals
abbrev BOk (rm' rm : Room) (c k : Nat) : Prop := c + rm'.cells ≤ rm.cells ∧ k + rm'.slots ≤ rm.slots
theorem Fx.fix (F : Fx x cc own nL ret rm) : CallFix x.p x.m x.c cc nL x.s x.args lw_all own := ⟨F.1, F.2.1, F.2.2.1, F.2.2.2.1, F.2.2.2.2.1⟩
theorem Fx.ok (F : Fx x cc own nL ret rm) : Sok x.S := F.2.2.2.2.2.2.2.2.2.2.1
theorem Fx.rmE (F : Fx x cc own nL ret rm) : x.R = rm := F.2.2.2.2.2.2.2.2.1
theorem Fx.hot (F : Fx x cc own nL ret rm) : x.s0.WarmedH x.s.vm := F.2.2.2.2.2.2.2.2.2.1
theorem Fx.ts (F : Fx x cc own nL ret rm) : ∀ w ∈ lw_all, w.before x.args x.s = true := F.2.2.2.2.1
theorem pre_at {av : List Value} (F : Fx x cc own nL ret rm) {locs : List Loc} {H : Heap} (hw : Hw x h H locs) : ∀ U : State, U.heap = H → x.s.WarmedH U.vm → va_Pc av (GW x.S h) av.toArray U := by
  intro U hU hW
  refine ⟨rfl, State.WarmedH.trans F.hot hW, ?_, ?_⟩
  · rw [hU]; exact hw.1
  · rw [hU]; exact hw.2.2.2
theorem rc_at (F : Fx x cc own nL ret rm) {locs : List Loc} {H : Heap} (hw : Hw x h H locs) (ht : CL[t]? = some (C, T, N)) (ha : h a = some (fl, t, .inl fs)) : ∃ cellB : Cell, H[a]? = some cellB ∧ cellB.vm.isStatics = false ∧ x.s.vm.findClass C = some cellB.cls := by
  obtain ⟨cell, h1, h2, h3, h4, h5⟩ := rd_obj F hw ha ht
  exact ⟨cell, h1, h3, h4⟩
theorem g_runV (F : Fx x cc own nL ret rm) (d : decode cc pc = .ok (.invokevirtual i, 3)) (q1 : Cond.methodLink own i y ∈ lw_all) (q2 : Cond.instanceMethod y ∈ lw_all) (q3 : Cond.selects C y y ∈ lw_all) (q4 : Cond.initialized C ∈ lw_all) (q5 : Cond.code y bytes maxL ret' ∈ lw_all) (hc : y.cls = C) (hd : MOk y n) (hR : ROk rm' rm maxL) (hf : BOk rm' rm c k) (ht : CL[t]? = some (C, T, N))
    (ha : h a = some (fl, t, .inl fs)) (hn : As.length = n) (hst : st = As.reverse ++ aR (some a) :: rest) (hW : (rest.map ac).sum ≤ 8) (hM : Ct x.S y (ws_ y bytes maxL ret') rm' ((aR (some a) :: As).map vv) h R) : Run x pc lv st rest h c k rm' R := by
  intro H locs ls hw hl
  exact va_runV (As := As.map vv) (b := a) F.fix hM (cwV n F.ts (lw_V q1 q2 q3 q4 q5) rfl rfl rfl ⟨hc, hd⟩ (by rw [F.rmE]; exact hR)) ⟨GW_blind, rc_at F hw ht ha, pre_at F hw⟩ rfl (by rw [List.length_map]; exact hn) (hl.1.trans F.2.2.1) (by subst hst; show List.map vv _ = _; rw [List.map_append, List.map_reverse]; rfl) (lv_room (by rw [cat_sum]; exact hW)) d (by rw [F.rmE]; exact hf)
theorem g_runS (F : Fx x cc own nL ret rm) (d : decode cc pc = .ok (.invokestatic i, 3)) (q1 : Cond.methodLink own i y ∈ lw_all) (q2 : Cond.static y ∈ lw_all) (q4 : Cond.initialized y.cls ∈ lw_all) (q5 : Cond.code y bytes maxL ret' ∈ lw_all) (hd : MOk y n) (hR : ROk rm' rm maxL) (hf : BOk rm' rm c k)
    (hn : As.length = n) (hst : st = As.reverse ++ rest) (hW : (rest.map ac).sum ≤ 8) (hM : Ct x.S y (ws_ y bytes maxL ret') rm' (As.map vv) h R) : Run x pc lv st rest h c k rm' R := by
  intro H locs ls hw hl
  exact va_runS (As := As.map vv) F.fix hM (va_cwS n F.ts (lw_S q1 q2 q4 q5) rfl rfl rfl hd (by rw [F.rmE]; exact hR)) ⟨GW_blind, pre_at F hw⟩ rfl (by rw [List.length_map]; exact hn) (hl.1.trans F.2.2.1) (by subst hst; show List.map vv _ = _; rw [List.map_append, List.map_reverse]) (lv_room (by rw [cat_sum]; exact hW)) d (by rw [F.rmE]; exact hf)
theorem g_runI (F : Fx x cc own nL ret rm) (d : decode cc pc = .ok (.invokespecial i, 3)) (q1 : Cond.methodLink own i y ∈ lw_all) (q2 : Cond.instanceMethod y ∈ lw_all) (q4 : Cond.initialized y.cls ∈ lw_all) (q5 : Cond.code y bytes maxL none ∈ lw_all) (hi : y.name = "<init>") (hd : MOk y n) (hR : ROk rm' rm maxL) (hf : BOk rm' rm c k)
    (hn : As.length = n) (hst : st = As.reverse ++ aR (some a) :: rest) (hW : (rest.map ac).sum ≤ 8) (hM : Ct x.S y (ws_ y bytes maxL none) rm' ((aR (some a) :: As).map vv) h R) : Run x pc lv st rest h c k rm' R := by
  intro H locs ls hw hl
  exact va_runI (As := As.map vv) (b := a) F.fix hM (cwI n F.ts (lw_meth q5) rfl rfl rfl (F.ts _ q4) (F.ts _ q1) (F.ts _ q2) hi hd (by rw [F.rmE]; exact hR)) ⟨GW_blind, pre_at F hw⟩ rfl (by rw [List.length_map]; exact hn) (hl.1.trans F.2.2.1) (by subst hst; show List.map vv _ = _; rw [List.map_append, List.map_reverse]; rfl) (lv_room (by rw [cat_sum]; exact hW)) d (by rw [F.rmE]; exact hf)
theorem Fx.nestM (F : Fx x cc own nL ret rm) {host : String} (hw : Cond.methodLinkNest own i y host ∈ lw_tbl) : va_Nw (.methodLinkNest own i y host) x.s := by
  obtain ⟨b, hb, -⟩ := F.ok.2.1
  exact va_Nw.warmM F.hot (va_Nw.of rfl (hb _ hw))
theorem g_runIN {host : String} (F : Fx x cc own nL ret rm) (d : decode cc pc = .ok (.invokespecial i, 3)) (q1 : Cond.methodLinkNest own i y host ∈ lw_tbl) (q2 : Cond.instanceMethod y ∈ lw_all) (q4 : Cond.initialized y.cls ∈ lw_all) (q5 : Cond.code y bytes maxL none ∈ lw_all) (hi : y.name = "<init>") (hd : MOk y n) (hR : ROk rm' rm maxL) (hf : BOk rm' rm c k)
    (hn : As.length = n) (hst : st = As.reverse ++ aR (some a) :: rest) (hW : (rest.map ac).sum ≤ 8) (hM : Ct x.S y (ws_ y bytes maxL none) rm' ((aR (some a) :: As).map vv) h R) : Run x pc lv st rest h c k rm' R := by
  intro H locs ls hw hl
  exact va_runIN (As := As.map vv) (b := a) F.fix hM ⟨va_cnB n F.ts (lw_meth q5) rfl rfl rfl (F.nestM q1) (F.ts _ q4) hd (by rw [F.rmE]; exact hR), hi, F.ts _ q2⟩ ⟨GW_blind, pre_at F hw⟩ rfl (by rw [List.length_map]; exact hn) (hl.1.trans F.2.2.1) (by subst hst; show List.map vv _ = _; rw [List.map_append, List.map_reverse]; rfl) (lv_room (by rw [cat_sum]; exact hW)) d (by rw [F.rmE]; exact hf)
theorem g_runVN {host : String} (F : Fx x cc own nL ret rm) (d : decode cc pc = .ok (.invokevirtual i, 3)) (q1 : Cond.methodLinkNest own i y host ∈ lw_tbl) (q2 : Cond.instanceMethod y ∈ lw_all) (q3 : Cond.selects C y y ∈ lw_all) (q4 : Cond.initialized y.cls ∈ lw_all) (q5 : Cond.code y bytes maxL ret' ∈ lw_all) (hd : MOk y n) (hR : ROk rm' rm maxL) (hf : BOk rm' rm c k) (ht : CL[t]? = some (C, T, N))
    (ha : h a = some (fl, t, .inl fs)) (hn : As.length = n) (hst : st = As.reverse ++ aR (some a) :: rest) (hW : (rest.map ac).sum ≤ 8) (hM : Ct x.S y (ws_ y bytes maxL ret') rm' ((aR (some a) :: As).map vv) h R) : Run x pc lv st rest h c k rm' R := by
  intro H locs ls hw hl
  exact va_runVN (As := As.map vv) (b := a) F.fix hM ⟨va_cnB n F.ts (lw_meth q5) rfl rfl rfl (F.nestM q1) (F.ts _ q4) hd (by rw [F.rmE]; exact hR), F.ts _ q2, F.ts _ q3⟩ ⟨GW_blind, rc_at F hw ht ha, pre_at F hw⟩ rfl (by rw [List.length_map]; exact hn) (hl.1.trans F.2.2.1) (by subst hst; show List.map vv _ = _; rw [List.map_append, List.map_reverse]; rfl) (lv_room (by rw [cat_sum]; exact hW)) d (by rw [F.rmE]; exact hf)
theorem g_runSN {host : String} (F : Fx x cc own nL ret rm) (d : decode cc pc = .ok (.invokestatic i, 3)) (q1 : Cond.methodLinkNest own i y host ∈ lw_tbl) (q2 : Cond.static y ∈ lw_all) (q4 : Cond.initialized y.cls ∈ lw_all) (q5 : Cond.code y bytes maxL ret' ∈ lw_all) (hd : MOk y n) (hR : ROk rm' rm maxL) (hf : BOk rm' rm c k)
    (hn : As.length = n) (hst : st = As.reverse ++ rest) (hW : (rest.map ac).sum ≤ 8) (hM : Ct x.S y (ws_ y bytes maxL ret') rm' (As.map vv) h R) : Run x pc lv st rest h c k rm' R := by
  intro H locs ls hw hl
  exact va_runSN (As := As.map vv) F.fix hM ⟨va_cnB n F.ts (lw_meth q5) rfl rfl rfl (F.nestM q1) (F.ts _ q4) hd (by rw [F.rmE]; exact hR), F.ts _ q2, trivial⟩ ⟨GW_blind, pre_at F hw⟩ rfl (by rw [List.length_map]; exact hn) (hl.1.trans F.2.2.1) (by subst hst; show List.map vv _ = _; rw [List.map_append, List.map_reverse]) (lv_room (by rw [cat_sum]; exact hW)) d (by rw [F.rmE]; exact hf)
/-- an inherited method: link to y0, found in its owner; the receiver's class C selects y -/
theorem lw_U {owner : String} (h1 : Cond.methodLink own i y0 ∈ lw_all) (h2 : Cond.sameMethod y0.cls owner y0.name y0.desc ∈ lw_all) (h3 : Cond.selects C y0 y ∈ lw_all) (h4 : Cond.instanceMethod y ∈ lw_all) (h5 : Cond.initialized y.cls ∈ lw_all) (h6 : Cond.code y bytes maxL ret' ∈ lw_all) : GoodIn lw_all (va_wsU own i C owner y0 y (ws_ y bytes maxL ret')) := by
  refine lw_app ?_ (lw_meth h6)
  intro w hw
  simp only [List.mem_cons, List.not_mem_nil, or_false] at hw
  rcases hw with e | e | e | e | e
  · rw [e]; exact h1
  · rw [e]; exact h2
  · rw [e]; exact h3
  · rw [e]; exact h4
  · rw [e]; exact h5
theorem g_runU {owner : String} (F : Fx x cc own nL ret rm) (d : decode cc pc = .ok (.invokevirtual i, 3)) (q1 : Cond.methodLink own i y0 ∈ lw_all) (q1s : Cond.sameMethod y0.cls owner y0.name y0.desc ∈ lw_all) (q2 : Cond.instanceMethod y ∈ lw_all) (q3 : Cond.selects C y0 y ∈ lw_all) (q4 : Cond.initialized y.cls ∈ lw_all) (q5 : Cond.code y bytes maxL ret' ∈ lw_all) (hyx : y = ⟨owner, y0.name, y0.desc⟩) (hd : MOk y n) (hR : ROk rm' rm maxL) (hf : BOk rm' rm c k) (ht : CL[t]? = some (C, T, N))
    (ha : h a = some (fl, t, .inl fs)) (hn : As.length = n) (hst : st = As.reverse ++ aR (some a) :: rest) (hW : (rest.map ac).sum ≤ 8) (hM : Ct x.S y (ws_ y bytes maxL ret') rm' ((aR (some a) :: As).map vv) h R) : Run x pc lv st rest h c k rm' R := by
  intro H locs ls hw hl
  exact va_runU (As := As.map vv) (b := a) F.fix hM (va_cwU n F.ts (lw_U q1 q1s q3 q2 q4 q5) rfl rfl rfl hyx (by subst hyx; exact hd) (by rw [F.rmE]; exact hR)) ⟨GW_blind, rc_at F hw ht ha, pre_at F hw⟩ rfl (by rw [List.length_map]; exact hn) (hl.1.trans F.2.2.1) (by subst hst; show List.map vv _ = _; rw [List.map_append, List.map_reverse]; rfl) (lv_room (by rw [cat_sum]; exact hW)) d (by rw [F.rmE]; exact hf)
/-- an interface's method x0 on a receiver of class C, whose method is y -/
theorem lw_F (h1 : Cond.methodLink own i y0 ∈ lw_all) (h3 : Cond.selects C y0 y ∈ lw_all) (h4 : Cond.instanceMethod y ∈ lw_all) (h5 : Cond.initialized y.cls ∈ lw_all) (h6 : Cond.code y bytes maxL ret' ∈ lw_all) : GoodIn lw_all (va_wsF own i C y0 y (ws_ y bytes maxL ret')) := by
  refine lw_app ?_ (lw_meth h6)
  intro w hw
  simp only [List.mem_cons, List.not_mem_nil, or_false] at hw
  rcases hw with e | e | e | e
  · rw [e]; exact h1
  · rw [e]; exact h3
  · rw [e]; exact h4
  · rw [e]; exact h5
theorem Fx.face (F : Fx x cc own nL ret rm) (h1 : Cond.declares y0 ∈ lw_tbl) (h2 : Cond.interfaceMethod y0.cls y0.cls y0.name y0.desc ∈ lw_tbl) (h3 : Cond.publicMethod y ∈ lw_tbl) (h4 : Cond.unhidden C y0.name y0.desc ∈ lw_tbl) (h5 : Cond.castable C y0.cls ∈ lw_tbl) (hx : y0.cls ≠ "java/lang/invoke/MethodHandle" ∧ y0.cls ≠ "java/lang/invoke/VarHandle") : va_Fw C y0 y x.s := by
  obtain ⟨b, hb, -⟩ := F.ok.2.1
  exact va_Fw.moved hx F.hot.alike (va_Fw.of (hb _ h1) (hb _ h2) (hb _ h3) (hb _ h4) (hb _ h5))
theorem g_runF {cnt : Nat} (F : Fx x cc own nL ret rm) (d : decode cc pc = .ok (.invokeinterface i cnt, 5)) (q1 : Cond.methodLink own i y0 ∈ lw_all) (q2 : Cond.instanceMethod y ∈ lw_all) (q3 : Cond.selects C y0 y ∈ lw_all) (q4 : Cond.initialized y.cls ∈ lw_all) (q5 : Cond.code y bytes maxL ret' ∈ lw_all) (hF : va_Fw C y0 y x.s) (hd : MOk y0 n) (hR : ROk rm' rm maxL) (hf : BOk rm' rm c k) (ht : CL[t]? = some (C, T, N))
    (ha : h a = some (fl, t, .inl fs)) (hn : As.length = n) (hst : st = As.reverse ++ aR (some a) :: rest) (hW : (rest.map ac).sum ≤ 8) (hM : Ct x.S y (ws_ y bytes maxL ret') rm' ((aR (some a) :: As).map vv) h R) : Run5 x pc lv st rest h c k rm' R := by
  intro H locs ls hw hl
  exact va_runF (As := As.map vv) (b := a) (F.2.2.2.2.2.1.1 t _ ht).2 F.fix hM (va_cwF n F.ts (lw_F q1 q3 q2 q4 q5) rfl rfl rfl hF hd (by rw [F.rmE]; exact hR)) ⟨GW_blind, rc_at F hw ht ha, pre_at F hw⟩ rfl (by rw [List.length_map]; exact hn) (hl.1.trans F.2.2.1) (by subst hst; show List.map vv _ = _; rw [List.map_append, List.map_reverse]; rfl) (lv_room (by rw [cat_sum]; exact hW)) d (by rw [F.rmE]; exact hf)
/-- Object's constructor -/
theorem g_objInit (F : Fx x cc own nL ret rm) (d : decode cc pc = .ok (.invokespecial i, 3)) (q1 : Cond.methodLink own i objectInit ∈ lw_all) (q2 : Cond.instanceMethod objectInit ∈ lw_all) (q3 : Cond.code objectInit ⟨#[0xb1]⟩ 1 none ∈ lw_all) (h1 : 1 ≤ rm.frames) (h2 : (rest.map ac).sum + 12 ≤ rm.locals) (kk : G x Q (pc + 3) lv rest h c k) : G x Q pc lv (aR (some a) :: rest) h c k := by
  intro H locs ls hw hl
  exact W.objInit F.1 F.2.1 F.2.2.2.1 (F.ts _ q1) (F.ts _ q2) (F.ts _ q3) rfl hl.1 rfl d (by rw [F.rmE]; exact h1) (by rw [F.rmE, cat_sum]; show 2 * 0 + _ + 12 ≤ _; omega) (kk H locs ls hw hl)
theorem cnd_t {c A B : Prop} (h : c) : cnd c A B ↔ A := ⟨fun q => q.1 h, fun q => ⟨fun _ => q, fun n => absurd h n⟩⟩
theorem cnd_f {c A B : Prop} (h : ¬ c) : cnd c A B ↔ B := ⟨fun q => q.2 h, fun q => ⟨fun n => absurd n h, fun _ => q⟩⟩
theorem ite_t {p A B : Prop} [Decidable p] (hk : if p then A else B) (hp : p) : A := by rw [if_pos hp] at hk; exact hk
theorem ite_f {p A B : Prop} [Decidable p] (hk : if p then A else B) (hp : ¬ p) : B := by rw [if_neg hp] at hk; exact hk
/-- a method's own words: an object's, a class's -/
abbrev MI (y : MethodName) (C : String) (bytes : ByteArray) (maxL : Nat) (ret' : Option FieldType) (n : Nat) : Prop := Cond.instanceMethod y ∈ lw_all ∧ Cond.selects C y y ∈ lw_all ∧ Cond.initialized C ∈ lw_all ∧ Cond.code y bytes maxL ret' ∈ lw_all ∧ y.cls = C ∧ MOk y n
abbrev MS (y : MethodName) (bytes : ByteArray) (maxL : Nat) (ret' : Option FieldType) (n : Nat) : Prop := Cond.static y ∈ lw_all ∧ Cond.initialized y.cls ∈ lw_all ∧ Cond.code y bytes maxL ret' ∈ lw_all ∧ MOk y n
abbrev MC (y : MethodName) (bytes : ByteArray) (maxL : Nat) (n : Nat) : Prop := Cond.instanceMethod y ∈ lw_all ∧ Cond.initialized y.cls ∈ lw_all ∧ Cond.code y bytes maxL none ∈ lw_all ∧ y.name = "<init>" ∧ MOk y n
theorem g_V {r : Option Nat} {P : Nat → Prop} (F : Fx x cc own nL ret rm) (d : decode cc pc = .ok (.invokevirtual i, 3)) (q1 : Cond.methodLink own i y ∈ lw_all) (mi : MI y C bytes maxL ret' n) (ht : CL[t]? = some (C, T, N)) (hR : ROk rm' rm maxL) (hf : BOk rm' rm c k)
    (hn : As.length = n) (hst : st = As.reverse ++ aR r :: rest) (hW : (rest.map ac).sum ≤ 8) (hk : isT h r t P) (hM : ∀ a, P a → Ct x.S y (ws_ y bytes maxL ret') rm' ((aR (some a) :: As).map vv) h R) : Run x pc lv st rest h c k rm' R := by
  obtain ⟨a, fl, fs, rfl, ha, hk⟩ := hk
  exact g_runV F d q1 mi.1 mi.2.1 mi.2.2.1 mi.2.2.2.1 mi.2.2.2.2.1 mi.2.2.2.2.2 hR hf ht ha hn hst hW (hM a hk)
theorem g_VN {host : String} {r : Option Nat} {P : Nat → Prop} (F : Fx x cc own nL ret rm) (d : decode cc pc = .ok (.invokevirtual i, 3)) (q1 : Cond.methodLinkNest own i y host ∈ lw_tbl) (mi : MI y C bytes maxL ret' n) (ht : CL[t]? = some (C, T, N)) (hR : ROk rm' rm maxL) (hf : BOk rm' rm c k)
    (hn : As.length = n) (hst : st = As.reverse ++ aR r :: rest) (hW : (rest.map ac).sum ≤ 8) (hk : isT h r t P) (hM : ∀ a, P a → Ct x.S y (ws_ y bytes maxL ret') rm' ((aR (some a) :: As).map vv) h R) : Run x pc lv st rest h c k rm' R := by
  obtain ⟨a, fl, fs, rfl, ha, hk⟩ := hk
  exact g_runVN F d q1 mi.1 mi.2.1 (mi.2.2.2.2.1 ▸ mi.2.2.1) mi.2.2.2.1 mi.2.2.2.2.2 hR hf ht ha hn hst hW (hM a hk)
theorem g_S (F : Fx x cc own nL ret rm) (d : decode cc pc = .ok (.invokestatic i, 3)) (q1 : Cond.methodLink own i y ∈ lw_all) (mi : MS y bytes maxL ret' n) (hR : ROk rm' rm maxL) (hf : BOk rm' rm c k)
    (hn : As.length = n) (hst : st = As.reverse ++ rest) (hW : (rest.map ac).sum ≤ 8) (hM : Ct x.S y (ws_ y bytes maxL ret') rm' (As.map vv) h R) : Run x pc lv st rest h c k rm' R :=
  g_runS F d q1 mi.1 mi.2.1 mi.2.2.1 mi.2.2.2 hR hf hn hst hW hM
theorem g_SN {host : String} (F : Fx x cc own nL ret rm) (d : decode cc pc = .ok (.invokestatic i, 3)) (q1 : Cond.methodLinkNest own i y host ∈ lw_tbl) (mi : MS y bytes maxL ret' n) (hR : ROk rm' rm maxL) (hf : BOk rm' rm c k)
    (hn : As.length = n) (hst : st = As.reverse ++ rest) (hW : (rest.map ac).sum ≤ 8) (hM : Ct x.S y (ws_ y bytes maxL ret') rm' (As.map vv) h R) : Run x pc lv st rest h c k rm' R :=
  g_runSN F d q1 mi.1 mi.2.1 mi.2.2.1 mi.2.2.2 hR hf hn hst hW hM
theorem g_I (F : Fx x cc own nL ret rm) (d : decode cc pc = .ok (.invokespecial i, 3)) (q1 : Cond.methodLink own i y ∈ lw_all) (mi : MC y bytes maxL n) (hR : ROk rm' rm maxL) (hf : BOk rm' rm c k)
    (hn : As.length = n) (hst : st = As.reverse ++ aR (some a) :: rest) (hW : (rest.map ac).sum ≤ 8) (hM : Ct x.S y (ws_ y bytes maxL none) rm' ((aR (some a) :: As).map vv) h R) : Run x pc lv st rest h c k rm' R :=
  g_runI F d q1 mi.1 mi.2.1 mi.2.2.1 mi.2.2.2.1 mi.2.2.2.2 hR hf hn hst hW hM
theorem g_IN {host : String} (F : Fx x cc own nL ret rm) (d : decode cc pc = .ok (.invokespecial i, 3)) (q1 : Cond.methodLinkNest own i y host ∈ lw_tbl) (mi : MC y bytes maxL n) (hR : ROk rm' rm maxL) (hf : BOk rm' rm c k)
    (hn : As.length = n) (hst : st = As.reverse ++ aR (some a) :: rest) (hW : (rest.map ac).sum ≤ 8) (hM : Ct x.S y (ws_ y bytes maxL none) rm' ((aR (some a) :: As).map vv) h R) : Run x pc lv st rest h c k rm' R :=
  g_runIN F d q1 mi.1 mi.2.1 mi.2.2.1 mi.2.2.2.1 mi.2.2.2.2 hR hf hn hst hW hM
theorem g_U {owner : String} {r : Option Nat} {P : Nat → Prop} (F : Fx x cc own nL ret rm) (d : decode cc pc = .ok (.invokevirtual i, 3)) (q1 : Cond.methodLink own i y0 ∈ lw_all) (q1s : Cond.sameMethod y0.cls owner y0.name y0.desc ∈ lw_all) (q2 : Cond.instanceMethod y ∈ lw_all) (q3 : Cond.selects C y0 y ∈ lw_all) (q4 : Cond.initialized y.cls ∈ lw_all) (q5 : Cond.code y bytes maxL ret' ∈ lw_all) (hyx : y = ⟨owner, y0.name, y0.desc⟩) (hd : MOk y n) (ht : CL[t]? = some (C, T, N)) (hR : ROk rm' rm maxL) (hf : BOk rm' rm c k)
    (hn : As.length = n) (hst : st = As.reverse ++ aR r :: rest) (hW : (rest.map ac).sum ≤ 8) (hk : isT h r t P) (hM : ∀ a, P a → Ct x.S y (ws_ y bytes maxL ret') rm' ((aR (some a) :: As).map vv) h R) : Run x pc lv st rest h c k rm' R := by
  obtain ⟨a, fl, fs, rfl, ha, hk⟩ := hk
  exact g_runU F d q1 q1s q2 q3 q4 q5 hyx hd hR hf ht ha hn hst hW (hM a hk)
theorem g_F {cnt : Nat} {r : Option Nat} {P : Nat → Prop} (F : Fx x cc own nL ret rm) (d : decode cc pc = .ok (.invokeinterface i cnt, 5)) (q1 : Cond.methodLink own i y0 ∈ lw_all) (q2 : Cond.instanceMethod y ∈ lw_all) (q3 : Cond.selects C y0 y ∈ lw_all) (q4 : Cond.initialized y.cls ∈ lw_all) (q5 : Cond.code y bytes maxL ret' ∈ lw_all) (hF : va_Fw C y0 y x.s) (hd : MOk y0 n) (ht : CL[t]? = some (C, T, N)) (hR : ROk rm' rm maxL) (hf : BOk rm' rm c k)
    (hn : As.length = n) (hst : st = As.reverse ++ aR r :: rest) (hW : (rest.map ac).sum ≤ 8) (hk : isT h r t P) (hM : ∀ a, P a → Ct x.S y (ws_ y bytes maxL ret') rm' ((aR (some a) :: As).map vv) h R) : Run5 x pc lv st rest h c k rm' R := by
  obtain ⟨a, fl, fs, rfl, ha, hk⟩ := hk
  exact g_runF F d q1 q2 q3 q4 q5 hF hd hR hf ht ha hn hst hW (hM a hk)
theorem sw_ne {a b : Int32} (q : ¬ a = b) : a.toInt ≠ b.toInt := fun e => q (Int32.toInt_inj.mp e)
/-! new arrays of numbers, of references -/
theorem va_RA.inj {U : State} {a b : ClassId} {ty : FieldType} (h1 : va_RA U a ty) (h2 : va_RA U b ty) : a = b := by
  cases ty with
  | object C =>
    obtain ⟨_, _, _, _, _, q1⟩ := h1
    obtain ⟨_, _, _, _, _, q2⟩ := h2
    exact Option.some.inj (q1.symm.trans q2)
  | _ => exact Option.some.inj (Eq.trans (Eq.symm h1) h2)
theorem K_new {D : va_G} {dA : Nat → ClassId} {U : State} {cA : ClassId} {ty : FieldType} (hK : va_K D CL (TYS dA ++ [(cA, ty)]) U) (ht : (TYS dA)[t]? = some (dA t, aTy t)) (e : aTy t = ty) : cA = dA t := by
  have h1 := (hK.2 (TYS dA).length (cA, ty) (by simp)).2
  have h2 := (hK.2 t (dA t, aTy t) (by rw [List.getElem?_append_left (List.getElem?_eq_some_iff.mp ht).1]; exact ht)).2
  subst e
  exact va_RA.inj h1 h2
theorem g_newI {atype : ArrayType} {m : Int32} {lim : Nat} {K : Nat → hH → Prop} (F : Fx x cc own nL ret rm) (d : decode cc pc = .ok (.newarray atype, 2)) (qa : Cond.arrayClass (newarray.typeOf atype) ∈ lw_all) (hty : newarray.typeOf atype = aTy t) (ht : (TYS x.dA)[t]? = some (x.dA t, aTy t)) (hdf : defaultValue (aTy t) = .int 0) (hb : lim * componentBytes (aTy t) ≤ 536870912) (hlim : lim < 2 ^ 31) (hce : c + 1 ≤ rm.cells) (hsl : k + lim ≤ rm.slots)
    (hk : nA h t m lim K) (kk : ∀ q h', K q h' → G x Q (pc + 2) lv (aR (some q) :: st) h' (c + 1) (k + lim)) : G x Q pc lv (aI m :: st) h c k := by
  obtain ⟨M, hM, rfl, hk⟩ := hk
  intro H locs ls hw hls
  obtain ⟨ws, A', hP, hD, hS, hA1, K1⟩ := wr_new hw
  refine va_newa (N' := M) (a0 := (M, .inl fun _ => 0)) F.1 F.2.1 (F.ts _ qa) hty F.2.2.2.2.2.1 hP hD hS hA1 (fun cA => by rw [hdf]; rfl) (nI_pos (by omega)) (nI_clamp (by omega)) (Nat.le_trans (Nat.mul_le_mul_right _ hM) hb) (by rw [F.rmE]; exact hce) (by rw [F.rmE]; omega) d (fun q cA H1 hK1 hP1 hD1 hS1 => ?_)
  cases K_new hK1 ht rfl
  obtain ⟨hn, hw1⟩ := K1 q t (.inr (M, .inl fun _ => 0)) H1 hP1 hD1 hS1
  exact W.widen (Nat.le_refl _) (by omega) (kk q _ (hk q hn) H1 locs ls hw1 hls)
theorem g_newL {m : Int32} {lim : Nat} {K : Nat → hH → Prop} (F : Fx x cc own nL ret rm) (d : decode cc pc = .ok (.newarray .long, 2)) (qa : Cond.arrayClass .long ∈ lw_all) (hb : lim * componentBytes .long ≤ 536870912) (hlim : lim < 2 ^ 31) (hce : c + 1 ≤ rm.cells) (hsl : k + lim ≤ rm.slots)
    (hk : nAl h 3 m lim K) (kk : ∀ q h', K q h' → G x Q (pc + 2) lv (aR (some q) :: st) h' (c + 1) (k + lim)) : G x Q pc lv (aI m :: st) h c k := by
  obtain ⟨M, hM, rfl, hk⟩ := hk
  intro H locs ls hw hls
  obtain ⟨ws, A', hP, hD, hS, hA1, K1⟩ := wr_new hw
  refine va_newa (atype := .long) (ty := .long) (N' := M) (a0 := (M, .inr (.inl fun _ => 0))) F.1 F.2.1 (F.ts _ qa) rfl F.2.2.2.2.2.1 hP hD hS hA1 (fun cA => rfl) (nI_pos (by omega)) (nI_clamp (by omega)) (Nat.le_trans (Nat.mul_le_mul_right _ hM) hb) (by rw [F.rmE]; exact hce) (by rw [F.rmE]; omega) d (fun q cA H1 hK1 hP1 hD1 hS1 => ?_)
  cases K_new (t := 3) hK1 rfl rfl
  obtain ⟨hn, hw1⟩ := K1 q 3 (.inr (M, .inr (.inl fun _ => 0))) H1 hP1 hD1 hS1
  exact W.widen (Nat.le_refl _) (by omega) (kk q _ (hk q hn) H1 locs ls hw1 hls)
theorem Fx.over (F : Fx x cc own nL ret rm) (q : Cond.arrayOver (.object C) ∈ lw_tbl) : va_AO C x.s := by
  obtain ⟨b, hb, -⟩ := F.ok.2.1
  exact va_AO.moved F.hot.alike (va_AO.of (hb _ q))
theorem g_newQ {m : Int32} {lim : Nat} {K : Nat → hH → Prop} (F : Fx x cc own nL ret rm) (d : decode cc pc = .ok (.anewarray i, 3)) (qc : Cond.classLink own i C ∈ lw_all) (qo : Cond.arrayOver (.object C) ∈ lw_tbl) (hty : aTy t = .object C) (ht : (TYS x.dA)[t]? = some (x.dA t, aTy t)) (hb : lim * 4 ≤ 536870912) (hlim : lim < 2 ^ 31) (hce : c + 1 ≤ rm.cells) (hsl : k + lim ≤ rm.slots)
    (hk : nAq h t m lim K) (kk : ∀ q h', K q h' → G x Q (pc + 3) lv (aR (some q) :: st) h' (c + 1) (k + lim)) : G x Q pc lv (aI m :: st) h c k := by
  obtain ⟨M, hM, rfl, hk⟩ := hk
  intro H locs ls hw hls
  obtain ⟨ws, A', hP, hD, hS, hA1, K1⟩ := wr_new hw
  refine va_newq (N' := M) F.1 F.2.1 F.2.2.2.1 (F.ts _ qc) (F.over qo) F.2.2.2.2.2.1 hP hD hS hA1 (nI_pos (by omega)) (nI_clamp (by omega)) (by omega) (by rw [F.rmE]; exact hce) (by rw [F.rmE]; omega) d (fun q cA H1 hK1 hP1 hD1 hS1 => ?_)
  cases K_new hK1 ht hty
  obtain ⟨hn, hw1⟩ := K1 q t (.inr (M, .inr (.inr fun _ => none))) H1 hP1 hD1 hS1
  exact W.widen (Nat.le_refl _) (by omega) (kk q _ (hk q hn) H1 locs ls hw1 hls)
theorem g_calli0 {R : Int32 → hH → Prop} (hr : Run x pc lv st rest h c k rm' (qI R)) (h0 : rm'.cells = 0 ∧ rm'.slots = 0) (kk : ∀ (v : Int32) (h' : hH), R v h' → G x Q (pc + 3) lv (aI v :: rest) h' c k) : G x Q pc lv st h c k :=
  g_calli hr (fun v h' q => by rw [h0.1, h0.2]; exact kk v h' q)
theorem g_callr0 {R : Option Nat → hH → Prop} (hr : Run x pc lv st rest h c k rm' (qR R)) (h0 : rm'.cells = 0 ∧ rm'.slots = 0) (kk : ∀ (v : Option Nat) (h' : hH), R v h' → G x Q (pc + 3) lv (aR v :: rest) h' c k) : G x Q pc lv st h c k :=
  g_callr hr (fun v h' q => by rw [h0.1, h0.2]; exact kk v h' q)
theorem g_calll0 {R : Int64 → hH → Prop} (hr : Run x pc lv st rest h c k rm' (qL R)) (h0 : rm'.cells = 0 ∧ rm'.slots = 0) (kk : ∀ (v : Int64) (h' : hH), R v h' → G x Q (pc + 3) lv (aL v :: rest) h' c k) : G x Q pc lv st h c k :=
  g_calll hr (fun v h' q => by rw [h0.1, h0.2]; exact kk v h' q)
theorem g_calld0 {R : UInt64 → hH → Prop} (hr : Run x pc lv st rest h c k rm' (qD R)) (h0 : rm'.cells = 0 ∧ rm'.slots = 0) (kk : ∀ (v : UInt64) (h' : hH), R v h' → G x Q (pc + 3) lv (aD v :: rest) h' c k) : G x Q pc lv st h c k :=
  g_calld hr (fun v h' q => by rw [h0.1, h0.2]; exact kk v h' q)
theorem g_callf0 {R : UInt32 → hH → Prop} (hr : Run x pc lv st rest h c k rm' (qF R)) (h0 : rm'.cells = 0 ∧ rm'.slots = 0) (kk : ∀ (v : UInt32) (h' : hH), R v h' → G x Q (pc + 3) lv (aF v :: rest) h' c k) : G x Q pc lv st h c k :=
  g_callf hr (fun v h' q => by rw [h0.1, h0.2]; exact kk v h' q)
theorem g_callv0 {R : hH → Prop} (hr : Run x pc lv st rest h c k rm' (qV R)) (h0 : rm'.cells = 0 ∧ rm'.slots = 0) (kk : ∀ (h' : hH), R h' → G x Q (pc + 3) lv rest h' c k) : G x Q pc lv st h c k :=
  g_callv hr (fun h' q => by rw [h0.1, h0.2]; exact kk h' q)
theorem g_calli05 {R : Int32 → hH → Prop} (hr : Run5 x pc lv st rest h c k rm' (qI R)) (h0 : rm'.cells = 0 ∧ rm'.slots = 0) (kk : ∀ (v : Int32) (h' : hH), R v h' → G x Q (pc + 5) lv (aI v :: rest) h' c k) : G x Q pc lv st h c k :=
  g_calli5 hr (fun v h' q => by rw [h0.1, h0.2]; exact kk v h' q)
theorem g_callr05 {R : Option Nat → hH → Prop} (hr : Run5 x pc lv st rest h c k rm' (qR R)) (h0 : rm'.cells = 0 ∧ rm'.slots = 0) (kk : ∀ (v : Option Nat) (h' : hH), R v h' → G x Q (pc + 5) lv (aR v :: rest) h' c k) : G x Q pc lv st h c k :=
  g_callr5 hr (fun v h' q => by rw [h0.1, h0.2]; exact kk v h' q)
theorem g_calll05 {R : Int64 → hH → Prop} (hr : Run5 x pc lv st rest h c k rm' (qL R)) (h0 : rm'.cells = 0 ∧ rm'.slots = 0) (kk : ∀ (v : Int64) (h' : hH), R v h' → G x Q (pc + 5) lv (aL v :: rest) h' c k) : G x Q pc lv st h c k :=
  g_calll5 hr (fun v h' q => by rw [h0.1, h0.2]; exact kk v h' q)
theorem g_calld05 {R : UInt64 → hH → Prop} (hr : Run5 x pc lv st rest h c k rm' (qD R)) (h0 : rm'.cells = 0 ∧ rm'.slots = 0) (kk : ∀ (v : UInt64) (h' : hH), R v h' → G x Q (pc + 5) lv (aD v :: rest) h' c k) : G x Q pc lv st h c k :=
  g_calld5 hr (fun v h' q => by rw [h0.1, h0.2]; exact kk v h' q)
theorem g_callf05 {R : UInt32 → hH → Prop} (hr : Run5 x pc lv st rest h c k rm' (qF R)) (h0 : rm'.cells = 0 ∧ rm'.slots = 0) (kk : ∀ (v : UInt32) (h' : hH), R v h' → G x Q (pc + 5) lv (aF v :: rest) h' c k) : G x Q pc lv st h c k :=
  g_callf5 hr (fun v h' q => by rw [h0.1, h0.2]; exact kk v h' q)
theorem g_callv05 {R : hH → Prop} (hr : Run5 x pc lv st rest h c k rm' (qV R)) (h0 : rm'.cells = 0 ∧ rm'.slots = 0) (kk : ∀ (h' : hH), R h' → G x Q (pc + 5) lv rest h' c k) : G x Q pc lv st h c k :=
  g_callv5 hr (fun h' q => by rw [h0.1, h0.2]; exact kk h' q)
theorem g_mmax {a b : Int32} (F : Fx x cc own nL ret rm) (d : decode cc pc = .ok (.invokestatic i, 3)) (q1 : Cond.methodLink own i Lib.Math.max.name ∈ lw_all) (q2 : Cond.static Lib.Math.max.name ∈ lw_all) (q3 : Cond.initialized "java/lang/Math" ∈ lw_all) (q4 : Cond.code Lib.Math.max.name Lib.Math.max.code 2 (some .int) ∈ lw_all) (h1 : 1 ≤ rm.frames) (h2 : (rest.map ac).sum + 13 ≤ rm.locals) (hc : c ≤ rm.cells) (hs : k ≤ rm.slots)
    (kk : G x Q (pc + 3) lv (aI (iMax a b) :: rest) h c k) : G x Q pc lv (aI b :: aI a :: rest) h c k := by
  intro H locs ls hw hl
  exact va_mmax F.1 F.2.1 hl.1.symm F.2.2.2.1 (F.ts _ q1) (F.ts _ q2) (F.ts _ q3) (F.ts _ q4) (by rw [F.rmE]; exact h1) (by rw [F.rmE, cat_sum]; exact h2) (by rw [F.rmE]; exact hc) (by rw [F.rmE]; exact hs) d (kk H locs ls hw hl)
theorem g_mmin {a b : Int32} (F : Fx x cc own nL ret rm) (d : decode cc pc = .ok (.invokestatic i, 3)) (q1 : Cond.methodLink own i Lib.Math.min.name ∈ lw_all) (q2 : Cond.static Lib.Math.min.name ∈ lw_all) (q3 : Cond.initialized "java/lang/Math" ∈ lw_all) (q4 : Cond.code Lib.Math.min.name Lib.Math.min.code 2 (some .int) ∈ lw_all) (h1 : 1 ≤ rm.frames) (h2 : (rest.map ac).sum + 13 ≤ rm.locals) (hc : c ≤ rm.cells) (hs : k ≤ rm.slots)
    (kk : G x Q (pc + 3) lv (aI (iMin a b) :: rest) h c k) : G x Q pc lv (aI b :: aI a :: rest) h c k := by
  intro H locs ls hw hl
  exact va_mmin F.1 F.2.1 hl.1.symm F.2.2.2.1 (F.ts _ q1) (F.ts _ q2) (F.ts _ q3) (F.ts _ q4) (by rw [F.rmE]; exact h1) (by rw [F.rmE, cat_sum]; exact h2) (by rw [F.rmE]; exact hc) (by rw [F.rmE]; exact hs) d (kk H locs ls hw hl)
end
