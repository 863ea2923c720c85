/-! EXCEPTIONS: contracts that return or throw -/
set_option maxRecDepth 100000
section
variable {x : Cx} {cc : ByteArray} {own : String} {nL : Nat} {ret : Option FieldType} {rm : Room} {Q : State → Prop} {pc : Nat} {lv lv' : List (Nat × aV)} {st rest As : List aV} {h : hH} {c k : Nat}
  {i n t N maxL a : Nat} {C : String} {T : u_T} {y y0 : MethodName} {bytes : ByteArray} {ret' : Option FieldType} {rm' : Room} {R : Option Value → hH → Prop} {X X' : String → Nat → hH → Prop} {hh : List (Nat × Nat × Nat × Nat)}
def hX (S : Sx) (X : String → Nat → hH → Prop) : Addr → String → State → State → Prop := fun q E st t => ∃ h' : hH, X E q h' ∧ GW S h' t ∧ st.heap.size ≤ t.heap.size
def CtX (S : Sx) (y : MethodName) (ws : List Cond) (rm : Room) (av : List Value) (h : hH) (Q : Option Value → hH → Prop) (X : String → Nat → hH → Prop) : Prop :=
  vx_Met S.l y ws rm (va_Pc av (GW S h)) (hQ S Q) (hX S X) rm.cells rm.slots (hA S.s0)
/-- the end of a walk that may throw -/
def xQX (x : Cx) (rm : Room) (Q : Option Value → hH → Prop) (X : String → Nat → hH → Prop) : State → Prop := vx_MQ x.below (hQ x.S Q) (hX x.S X) x.args x.s rm.cells rm.slots (hA x.s0)
theorem G.toX (g : G x (xQ x rm R) pc lv st h c k) : G x (xQX x rm R X) pc lv st h c k := fun H locs ls hw hl => vx_ret (g H locs ls hw hl)
/-- the machine throws the object q of the class E at pc -/
def GT (x : Cx) (Q : State → Prop) (pc : Nat) (lv : List (Nat × aV)) (st : List aV) (h : hH) (c k : Nat) (E : String) (q : Nat) : Prop := ∀ (H : Heap) (locs : List Loc) (ls : Array Slot) (ce : Cell), Hw x h H locs → lv_has ls x.c.maxLocals (vL lv) → H[q]? = some ce → ce.vm = .none → x.s.vm.findClass E = some ce.cls → vx_W x.p x.l x.e x.R x.s x.m x.args x.below x.meth x.c H locs c k Q (F0 x.m pc ls (st.map vv)) q
/-- no handlers -/
def NoH (x : Cx) : Prop := ∀ z ∈ x.c.exceptionTable.toList, False
theorem GT.out (F : Fx x cc own nL ret rm) {E : String} {q : Nat} (hn : ∀ z ∈ x.c.exceptionTable.toList, covers z pc = false) (h1 : c ≤ rm.cells) (h2 : k ≤ rm.slots) (hx : X E q h) : GT x (xQX x rm R X) pc lv st h c k E q := by
  intro H locs ls ce hw hl hc hv hcl
  refine vx_out hn F.2.2.2.2.2.2.1 hc hv hcl (fun t ht hW => ?_) hw.2.2.1 h1 h2
  refine ⟨h, hx, ⟨State.WarmedH.trans F.hot hW, ?_, ?_⟩, ?_⟩
  · rw [ht]; exact hw.1
  · rw [ht]; exact hw.2.2.2
  · rw [ht]; exact hw.2.1
theorem NoH.cov (hn : NoH x) : ∀ z ∈ x.c.exceptionTable.toList, covers z pc = false := fun z hz => (hn z hz).elim
/-- a handler: the first that covers pc, of the class of what is thrown -/
theorem GT.catch {E : String} {q : Nat} (F : Fx x cc own nL ret rm) (z : ExceptionTableEntry) (suf : List ExceptionTableEntry) (ht : x.c.exceptionTable.toList = z :: suf) (hcv : covers z pc = true) (hz : z.catchType ≠ 0) (ql : Cond.classLink own z.catchType E ∈ lw_all) (qc : Cond.castable E E ∈ lw_tbl) (g : G x Q z.handlerPc lv [aR (some q)] h c k) : GT x Q pc lv st h c k E q := by
  intro H locs ls ce hw hl hc hv hcl
  exact vx_catch F.2.2.2.1 [] z suf ht (fun y hy => by cases hy) hcv hz (F.ts _ ql) (va_Nw.use rfl (F.castable qc)) hc hv hcl (g H locs ls hw hl)
/-- an object of ours is thrown -/
theorem g_athrow {E : String} {T : u_T} {fs : List Value} {q : Nat} (F : Fx x cc own nL ret rm) (d : decode cc pc = .ok (.athrow, 1)) (ht : CL[t]? = some (E, T, N)) (hq : h q = some (true, t, .inl fs)) (g : GT x Q pc lv rest h c k E q) : G x Q pc lv (aR (some q) :: rest) h c k := by
  intro H locs ls hw hl
  obtain ⟨r, h1, cell, h2, h3, h4, h5⟩ := ((hw.2.2.2 q true t _ hq).1 rfl).2
  cases ht.symm.trans h1
  have hcl : x.s.vm.findClass E = some cell.cls := by
    have hK := (F.2.2.2.2.2.1.1 t _ ht).2.1
    rw [hK]
    exact congrArg some h3.symm
  exact vx_athrow F.1 F.2.1 d (g H locs ls cell hw hl h2 h4 hcl)
/-- contracts out of their walks -/
theorem CtX.of {S : Sx} (hS : Sok S) {av : List aV} (hy : plainName y.cls = true) (ho : y.cls = own) (hl : aLen av ≤ nL)
    (body : ∀ x : Cx, x.S = S → Fx x cc own nL ret rm → x.meth.name = y.name → NoH x → G x (xQX x rm R X) 0 (aArgs 0 av) [] h 0 0) : CtX S y (ws_ y cc nL ret) rm (av.map vv) h R X := by
  refine vx_ofW (cc := cc) (maxL := nL) (ret := ret) hy rfl ?_
  intro p e s m args below meth c s₁ B hml hno hv
  obtain ⟨rfl, hW, hO, hR⟩ := hv
  have hts := atoms_spec (ws := ws_ y cc nL ret) B.pre
  have hts : ∀ w ∈ lw_all, w.before _ s = true := fun w h => hts w (List.mem_cons_of_mem _ h)
  have hown : s.vm.findClass own = some m.cls := by rw [← ho]; exact findClass_of_methodNamed B.named
  have hnm : meth.name = y.name := (name_of_methodNamed B.named B.method).1
  have hb := body ((p, e, rm), (s, m, (av.map vv).toArray, below), (meth, c), S) rfl ⟨B.exec, B.bytes, hml, hown, hts, va_K.moved hW.alike hS.1, B.notSynchronized, B.returns, rfl, hW, hS, hO⟩ hnm hno
  have hlv := lv_entry (av.map vv) (n := nL) (by rw [aLen_eq]; exact hl)
  rw [lg_entry_eq]
  rw [← aArgs_eq] at hlv
  exact hb s.heap [] _ ⟨hO, Nat.le_refl _, (fun q hq => by cases hq), hR⟩ (by rw [hml]; exact hlv)
/-- a method with handlers, its table known -/
theorem Ct.ofT {S : Sx} (hS : Sok S) {av : List aV} (hy : plainName y.cls = true) (ho : y.cls = own) (hl : aLen av ≤ nL)
    (body : ∀ x : Cx, x.S = S → Fx x cc own nL ret rm → x.meth.name = y.name → x.c.exceptionTable.toList = tableOf hh → G x (xQ x rm R) 0 (aArgs 0 av) [] h 0 0) : Ct S y (wsW_ y cc nL ret hh) rm (av.map vv) h R := by
  refine va_MetW (cc := cc) (maxL := nL) (ret := ret) (hh := hh) hy rfl ?_
  intro p e s m args below meth c s₁ B hml hv
  obtain ⟨rfl, hW, hO, hR⟩ := hv
  have hts0 := atoms_spec (ws := wsW_ y cc nL ret hh) B.pre
  have hts : ∀ w ∈ lw_all, w.before _ s = true := fun w h => hts0 w (List.mem_cons_of_mem _ h)
  have hown : s.vm.findClass own = some m.cls := by rw [← ho]; exact findClass_of_methodNamed B.named
  have hnm : meth.name = y.name := (name_of_methodNamed B.named B.method).1
  have htb := vx_table (x := y) B (hts0 _ List.mem_cons_self)
  have hb := body ((p, e, rm), (s, m, (av.map vv).toArray, below), (meth, c), S) rfl ⟨B.exec, B.bytes, hml, hown, hts, va_K.moved hW.alike hS.1, B.notSynchronized, B.returns, rfl, hW, hS, hO⟩ hnm htb
  have hlv := lv_entry (av.map vv) (n := nL) (by rw [aLen_eq]; exact hl)
  rw [lg_entry_eq]
  rw [← aArgs_eq] at hlv
  exact hb s.heap [] _ ⟨hO, Nat.le_refl _, (fun q hq => by cases hq), hR⟩ (by rw [hml]; exact hlv)
def RunX (x : Cx) (pc : Nat) (lv : List (Nat × aV)) (st rest : List aV) (h : hH) (c k : Nat) (rm' : Room) (R : Option Value → hH → Prop) (X : String → Nat → hH → Prop) : Prop := ∀ (H : Heap) (locs : List Loc) (ls : Array Slot), Hw x h H locs → lv_has ls x.c.maxLocals (vL lv) → vx_Run x.p x.l x.e x.R x.s x.m x.args x.below x.meth x.c H locs c k rm'.cells rm'.slots (F0 x.m pc ls (st.map vv)) (rest.map vv) (hQ x.S R #[]) (hX x.S X) (hA x.s0)
theorem g_runX (hr : RunX x pc lv st rest h c k rm' R X') (kx : ∀ (E : String) (q : Nat) (h' : hH), X' E q h' → GT x Q pc lv rest h' (c + rm'.cells) (k + rm'.slots) E q) (kk : ∀ (v : Option Value) (h' : hH), R v h' → Go x Q (pc + 3) (vL lv) (v.toList ++ rest.map vv) h' (c + rm'.cells) (k + rm'.slots)) : G x Q pc lv st h c k := by
  intro H locs ls hw hl T hT X0
  rcases hr H locs ls hw hl T hT X0 with ⟨v, st₀, t, T', L, h0, X', hL, e1, e2, ⟨v', h', hv, hp, hG, hz⟩, stp⟩ | ⟨q, st₀, t, T', L, E, ce, h0, X', hL, e1, e2, ⟨h', hp, hG, hz⟩, hce, hcv, hcl, stp⟩
  · cases hv
    rw [h0] at hz
    obtain ⟨t2, a1, b1⟩ := kk v h' hp T'.heap (locs ++ L) ls ⟨by rw [e1]; exact hG.2.1, by rw [e1]; exact Nat.le_trans hw.2.1 hz, fun q hq => by
      rcases List.mem_append.mp hq with z | z
      · exact hw.2.2.1 q z
      · exact hL q z, by rw [e1]; exact hG.2.2⟩ hl T' rfl X'
    exact ⟨t2, stp t2 a1, b1⟩
  · rw [h0] at hz
    obtain ⟨t2, a1, b1⟩ := kx E q h' hp T'.heap (locs ++ L) ls ce ⟨by rw [e1]; exact hG.2.1, by rw [e1]; exact Nat.le_trans hw.2.1 hz, fun q hq => by
      rcases List.mem_append.mp hq with z | z
      · exact hw.2.2.1 q z
      · exact hL q z, by rw [e1]; exact hG.2.2⟩ hl (by rw [e1]; exact hce) hcv hcl T' rfl X'
    exact ⟨t2, stp.trans a1, b1⟩
theorem x_V {r : Option Nat} {P : Nat → Prop} (F : Fx x cc own nL ret rm) (d : decode cc pc = .ok (.invokevirtual i, 3)) (q1 : Cond.methodLink own i y ∈ lw_all) (mi : MI y C bytes maxL ret' n) (ht : CL[t]? = some (C, T, N)) (hR : ROk rm' rm maxL) (hf : BOk rm' rm c k)
    (hn : As.length = n) (hst : st = As.reverse ++ aR r :: rest) (hW : (rest.map ac).sum ≤ 8) (hk : isT h r t P) (hM : ∀ a, P a → CtX x.S y (ws_ y bytes maxL ret') rm' ((aR (some a) :: As).map vv) h R X') : RunX x pc lv st rest h c k rm' R X' := by
  obtain ⟨a, fl, fs, rfl, ha, hk⟩ := hk
  intro H locs ls hw hl
  exact vx_runV (As := As.map vv) (b := a) F.fix (hM a hk) (cwV n F.ts (lw_V q1 mi.1 mi.2.1 mi.2.2.1 mi.2.2.2.1) rfl rfl rfl ⟨mi.2.2.2.2.1, mi.2.2.2.2.2⟩ (by rw [F.rmE]; exact hR)) ⟨GW_blind, rc_at F hw ht ha, pre_at F hw⟩ rfl (by rw [List.length_map]; exact hn) (hl.1.trans F.2.2.1) (by subst hst; show List.map vv _ = _; rw [List.map_append, List.map_reverse]; rfl) (lv_room (by rw [cat_sum]; exact hW)) d (by rw [F.rmE]; exact hf)
theorem x_VN {host : String} {r : Option Nat} {P : Nat → Prop} (F : Fx x cc own nL ret rm) (d : decode cc pc = .ok (.invokevirtual i, 3)) (q1 : Cond.methodLinkNest own i y host ∈ lw_tbl) (mi : MI y C bytes maxL ret' n) (ht : CL[t]? = some (C, T, N)) (hR : ROk rm' rm maxL) (hf : BOk rm' rm c k)
    (hn : As.length = n) (hst : st = As.reverse ++ aR r :: rest) (hW : (rest.map ac).sum ≤ 8) (hk : isT h r t P) (hM : ∀ a, P a → CtX x.S y (ws_ y bytes maxL ret') rm' ((aR (some a) :: As).map vv) h R X') : RunX x pc lv st rest h c k rm' R X' := by
  obtain ⟨a, fl, fs, rfl, ha, hk⟩ := hk
  intro H locs ls hw hl
  exact vx_runVN (As := As.map vv) (b := a) F.fix (hM a hk) ⟨va_cnB n F.ts (lw_meth mi.2.2.2.1) rfl rfl rfl (F.nestM q1) (F.ts _ (mi.2.2.2.2.1 ▸ mi.2.2.1)) mi.2.2.2.2.2 (by rw [F.rmE]; exact hR), F.ts _ mi.1, F.ts _ mi.2.1⟩ ⟨GW_blind, rc_at F hw ht ha, pre_at F hw⟩ rfl (by rw [List.length_map]; exact hn) (hl.1.trans F.2.2.1) (by subst hst; show List.map vv _ = _; rw [List.map_append, List.map_reverse]; rfl) (lv_room (by rw [cat_sum]; exact hW)) d (by rw [F.rmE]; exact hf)
theorem x_S (F : Fx x cc own nL ret rm) (d : decode cc pc = .ok (.invokestatic i, 3)) (q1 : Cond.methodLink own i y ∈ lw_all) (mi : MS y bytes maxL ret' n) (hR : ROk rm' rm maxL) (hf : BOk rm' rm c k)
    (hn : As.length = n) (hst : st = As.reverse ++ rest) (hW : (rest.map ac).sum ≤ 8) (hM : CtX x.S y (ws_ y bytes maxL ret') rm' (As.map vv) h R X') : RunX x pc lv st rest h c k rm' R X' := by
  intro H locs ls hw hl
  exact vx_runS (As := As.map vv) F.fix hM (va_cwS n F.ts (lw_S q1 mi.1 mi.2.1 mi.2.2.1) rfl rfl rfl mi.2.2.2 (by rw [F.rmE]; exact hR)) ⟨GW_blind, pre_at F hw⟩ rfl (by rw [List.length_map]; exact hn) (hl.1.trans F.2.2.1) (by subst hst; show List.map vv _ = _; rw [List.map_append, List.map_reverse]) (lv_room (by rw [cat_sum]; exact hW)) d (by rw [F.rmE]; exact hf)
theorem x_I (F : Fx x cc own nL ret rm) (d : decode cc pc = .ok (.invokespecial i, 3)) (q1 : Cond.methodLink own i y ∈ lw_all) (mi : MC y bytes maxL n) (hR : ROk rm' rm maxL) (hf : BOk rm' rm c k)
    (hn : As.length = n) (hst : st = As.reverse ++ aR (some a) :: rest) (hW : (rest.map ac).sum ≤ 8) (hM : CtX x.S y (ws_ y bytes maxL none) rm' ((aR (some a) :: As).map vv) h R X') : RunX x pc lv st rest h c k rm' R X' := by
  intro H locs ls hw hl
  exact vx_runI (As := As.map vv) (b := a) F.fix hM (cwI n F.ts (lw_meth mi.2.2.1) rfl rfl rfl (F.ts _ mi.2.1) (F.ts _ q1) (F.ts _ mi.1) mi.2.2.2.1 mi.2.2.2.2 (by rw [F.rmE]; exact hR)) ⟨GW_blind, pre_at F hw⟩ rfl (by rw [List.length_map]; exact hn) (hl.1.trans F.2.2.1) (by subst hst; show List.map vv _ = _; rw [List.map_append, List.map_reverse]; rfl) (lv_room (by rw [cat_sum]; exact hW)) d (by rw [F.rmE]; exact hf)
theorem x_calli {R : Int32 → hH → Prop} (hr : RunX x pc lv st rest h c k rm' (qI R) X') (kx : ∀ (E : String) (q : Nat) (h' : hH), X' E q h' → GT x Q pc lv rest h' (c + rm'.cells) (k + rm'.slots) E q) (kk : ∀ (v : Int32) (h' : hH), R v h' → G x Q (pc + 3) lv (aI v :: rest) h' (c + rm'.cells) (k + rm'.slots)) : G x Q pc lv st h c k :=
  g_runX hr kx (fun v h' q => by obtain ⟨r, rfl, q⟩ := q; exact kk r h' q)
theorem x_callr {R : Option Nat → hH → Prop} (hr : RunX x pc lv st rest h c k rm' (qR R) X') (kx : ∀ (E : String) (q : Nat) (h' : hH), X' E q h' → GT x Q pc lv rest h' (c + rm'.cells) (k + rm'.slots) E q) (kk : ∀ (v : Option Nat) (h' : hH), R v h' → G x Q (pc + 3) lv (aR v :: rest) h' (c + rm'.cells) (k + rm'.slots)) : G x Q pc lv st h c k :=
  g_runX hr kx (fun v h' q => by obtain ⟨r, rfl, q⟩ := q; exact kk r h' q)
theorem x_calll {R : Int64 → hH → Prop} (hr : RunX x pc lv st rest h c k rm' (qL R) X') (kx : ∀ (E : String) (q : Nat) (h' : hH), X' E q h' → GT x Q pc lv rest h' (c + rm'.cells) (k + rm'.slots) E q) (kk : ∀ (v : Int64) (h' : hH), R v h' → G x Q (pc + 3) lv (aL v :: rest) h' (c + rm'.cells) (k + rm'.slots)) : G x Q pc lv st h c k :=
  g_runX hr kx (fun v h' q => by obtain ⟨r, rfl, q⟩ := q; exact kk r h' q)
theorem x_calld {R : UInt64 → hH → Prop} (hr : RunX x pc lv st rest h c k rm' (qD R) X') (kx : ∀ (E : String) (q : Nat) (h' : hH), X' E q h' → GT x Q pc lv rest h' (c + rm'.cells) (k + rm'.slots) E q) (kk : ∀ (v : UInt64) (h' : hH), R v h' → G x Q (pc + 3) lv (aD v :: rest) h' (c + rm'.cells) (k + rm'.slots)) : G x Q pc lv st h c k :=
  g_runX hr kx (fun v h' q => by obtain ⟨r, rfl, q⟩ := q; exact kk r h' q)
theorem x_callv {R : hH → Prop} (hr : RunX x pc lv st rest h c k rm' (qV R) X') (kx : ∀ (E : String) (q : Nat) (h' : hH), X' E q h' → GT x Q pc lv rest h' (c + rm'.cells) (k + rm'.slots) E q) (kk : ∀ (h' : hH), R h' → G x Q (pc + 3) lv rest h' (c + rm'.cells) (k + rm'.slots)) : G x Q pc lv st h c k :=
  g_runX hr kx (fun v h' q => by obtain ⟨rfl, q⟩ := q; exact kk h' q)
theorem Fx.xZ (F : Fx x cc own nL ret rm) {n' ds : String} (hZ : vx_Zq C n' ds (hA x.s0) x.s0 x.s0.heap) : vx_Zq C n' ds (hA x.s0) x.s x.s.heap :=
  vx_Zq.kept (vx_Zq.moved F.al hZ) (fun a _ h2 => F.oldS.2 a (Nat.not_le.mp h2))
theorem Fx.decl (F : Fx x cc own nL ret rm) (q : Cond.declares y ∈ lw_tbl) : (Cond.declares y).before x.args x.s = true := by
  obtain ⟨b, hb, -⟩ := F.ok.2.1
  exact va_Nw.use rfl (va_Nw.warmD F.hot (va_Nw.of rfl (hb _ q)))
/-- a static of a Throwable of which only a reference or null is known -/
theorem g_getsT {n' ds : String} {K : Option Nat → Prop} (F : Fx x cc own nL ret rm) (d : decode cc pc = .ok (.getstatic i, 3)) (hZ0 : vx_Zq Bundle.tN n' ds (hA x.s0) x.s0 x.s0.heap) (ql : Cond.fieldLink own i Bundle.tN n' ds ∈ lw_all) (hk : ∀ r, K r) (kk : ∀ r, K r → G x Q (pc + 3) lv (aR r :: st) h c k) : G x Q pc lv st h c k := by
  intro H locs ls hw hl
  rcases (F.xZ hZ0).1 with hZ | ⟨t, hZ⟩
  · exact va_gets F.1 F.2.1 hZ (F.zS hw) F.2.2.2.1 (F.ts _ ql) (fun _ q => q) d (kk none (hk _) H locs ls hw hl)
  · exact va_gets F.1 F.2.1 hZ (F.zS hw) F.2.2.2.1 (F.ts _ ql) (fun _ q => q) d (kk (some t) (hk _) H locs ls hw hl)
abbrev ioNames : List String := ["java/lang/RuntimeException", "java/lang/Exception"]
theorem io_ta (F : Fx x cc own nL ret rm) : ∀ w ∈ Bundle.throwableAtoms, vx_no w = true → w.before x.args x.s = true := List.forall_mem_cons.mpr ⟨fun _ => F.ts _ q135, List.forall_mem_cons.mpr ⟨fun _ => F.ts _ q782, List.forall_mem_cons.mpr ⟨fun _ => F.ts _ q791, List.forall_mem_cons.mpr ⟨fun _ => F.ts _ q797, List.forall_mem_cons.mpr ⟨fun _ => F.ts _ q800, List.forall_mem_cons.mpr ⟨fun _ => F.ts _ q802, List.forall_mem_cons.mpr ⟨fun _ => F.ts _ q783, List.forall_mem_cons.mpr ⟨fun _ => F.ts _ q784, List.forall_mem_cons.mpr ⟨fun _ => F.ts _ q182, List.forall_mem_cons.mpr ⟨fun _ => F.ts _ q183, List.forall_mem_cons.mpr ⟨fun _ => F.ts _ q785, List.forall_mem_cons.mpr ⟨fun _ => F.ts _ q790, List.forall_mem_cons.mpr ⟨fun _ => F.ts _ q798, List.forall_mem_cons.mpr ⟨fun _ => F.ts _ q816, List.forall_mem_cons.mpr ⟨fun _ => F.ts _ q772, List.forall_mem_cons.mpr ⟨fun _ => F.ts _ q817, List.forall_mem_cons.mpr ⟨fun _ => F.ts _ q774, List.forall_mem_cons.mpr ⟨fun _ => F.ts _ q818, List.forall_mem_cons.mpr ⟨fun _ => F.ts _ q776, List.forall_mem_cons.mpr ⟨fun _ => F.ts _ q786, List.forall_mem_cons.mpr ⟨fun h => absurd h (by decide +kernel), List.forall_mem_cons.mpr ⟨fun _ => F.ts _ q788, List.forall_mem_cons.mpr ⟨fun h => absurd h (by decide +kernel), List.forall_mem_cons.mpr ⟨fun _ => F.ts _ q778, (fun w h => nomatch h)⟩⟩⟩⟩⟩⟩⟩⟩⟩⟩⟩⟩⟩⟩⟩⟩⟩⟩⟩⟩⟩⟩⟩⟩
theorem io_c0 (F : Fx x cc own nL ret rm) : ∀ w ∈ Bundle.passAtoms "java/lang/IndexOutOfBoundsException" "java/lang/RuntimeException" 1 Bundle.five, vx_no w = true → w.before x.args x.s = true := List.forall_mem_cons.mpr ⟨fun _ => F.ts _ q2647, List.forall_mem_cons.mpr ⟨fun _ => F.ts _ q2648, List.forall_mem_cons.mpr ⟨fun _ => F.ts _ q2649, List.forall_mem_cons.mpr ⟨fun _ => F.ts _ q2226, List.forall_mem_cons.mpr ⟨fun _ => F.decl q2214, (fun w h => nomatch h)⟩⟩⟩⟩⟩
theorem io_c1 (F : Fx x cc own nL ret rm) : ∀ w ∈ Bundle.passAtoms "java/lang/RuntimeException" "java/lang/Exception" 1 Bundle.five, vx_no w = true → w.before x.args x.s = true := List.forall_mem_cons.mpr ⟨fun _ => F.ts _ q2226, List.forall_mem_cons.mpr ⟨fun _ => F.ts _ q2227, List.forall_mem_cons.mpr ⟨fun _ => F.ts _ q2228, List.forall_mem_cons.mpr ⟨fun _ => F.ts _ q2229, List.forall_mem_cons.mpr ⟨fun _ => F.decl q765, (fun w h => nomatch h)⟩⟩⟩⟩⟩
theorem io_c2 (F : Fx x cc own nL ret rm) : ∀ w ∈ Bundle.passAtoms "java/lang/Exception" "java/lang/Throwable" 1 Bundle.five, vx_no w = true → w.before x.args x.s = true := List.forall_mem_cons.mpr ⟨fun _ => F.ts _ q2229, List.forall_mem_cons.mpr ⟨fun _ => F.ts _ q2230, List.forall_mem_cons.mpr ⟨fun _ => F.ts _ q2231, List.forall_mem_cons.mpr ⟨fun _ => F.ts _ q783, List.forall_mem_cons.mpr ⟨fun _ => F.decl q767, (fun w h => nomatch h)⟩⟩⟩⟩⟩
theorem io_at (F : Fx x cc own nL ret rm) : ∀ w ∈ vx_at0 "LockstepRoom" 44 ioobe ioNames, w.before x.args x.s = true := by
  have h : ∀ w ∈ Bundle.ownAtoms0 "LockstepRoom" 44 ioobe ioNames, vx_no w = true → w.before x.args x.s = true := List.forall_mem_append.mpr ⟨List.forall_mem_append.mpr ⟨io_ta F, List.forall_mem_append.mpr ⟨io_c0 F, List.forall_mem_append.mpr ⟨io_c1 F, io_c2 F⟩⟩⟩, List.forall_mem_cons.mpr ⟨fun _ => F.ts _ q2646, List.forall_mem_cons.mpr ⟨fun _ => F.ts _ q2638, List.forall_mem_cons.mpr ⟨fun _ => va_Nw.use rfl (F.castable q2639), List.forall_mem_cons.mpr ⟨fun _ => F.ts _ q2640, List.forall_mem_cons.mpr ⟨fun _ => F.ts _ q794, List.forall_mem_cons.mpr ⟨fun _ => F.ts _ q2641, List.forall_mem_cons.mpr ⟨fun _ => F.ts _ q2642, List.forall_mem_cons.mpr ⟨fun _ => F.ts _ q2643, List.forall_mem_cons.mpr ⟨fun _ => F.ts _ q2644, List.forall_mem_cons.mpr ⟨fun h => absurd h (by decide +kernel), List.forall_mem_cons.mpr ⟨fun h => absurd h (by decide +kernel), List.forall_mem_cons.mpr ⟨fun _ => F.ts _ q814, List.forall_mem_cons.mpr ⟨fun _ => F.ts _ q780, List.forall_mem_cons.mpr ⟨fun _ => F.ts _ q2645, (fun w h => nomatch h)⟩⟩⟩⟩⟩⟩⟩⟩⟩⟩⟩⟩⟩⟩⟩
  exact fun w hw => h w (List.mem_filter.mp hw).1 (List.mem_filter.mp hw).2
theorem io_ot : ∀ w ∈ Cond.classLink "LockstepRoom" 42 ioobe :: Cond.initialized ioobe :: vx_at0 "LockstepRoom" 44 ioobe ioNames, vx_ot w = true := by decide +kernel
theorem no_traces (hS : Sok x.S) : x.l.stackTraces = false := by
  have h := hS.2.2.1
  unfold Launch.stackTraces
  rw [h]
  decide +kernel
/-- throw new IndexOutOfBoundsException() -/
theorem g_throwI (F : Fx x cc "LockstepRoom" nL ret rm) (hn : NoH x) (d0 : decode cc pc = .ok (.new 42, 3)) (d3 : decode cc (pc + 3) = .ok (.dup, 1)) (d4 : decode cc (pc + 4) = .ok (.invokespecial 44, 3)) (d7 : decode cc (pc + 7) = .ok (.athrow, 1)) (h1 : 6 ≤ rm.frames) (h2 : (st.map ac).sum + 81 ≤ rm.locals) (hc : c + 1 ≤ rm.cells) (hs : k + 6 ≤ rm.slots) (hx : ∀ q, X ioobe q h) : G x (xQX x rm R X) pc lv st h c k := by
  intro H locs ls hw hl
  refine vx_throw0 (names := ioNames) (A := hA x.s0) F.1 F.2.1 (no_traces F.ok) F.2.2.2.1 (by decide +kernel) (by decide +kernel) (F.ts _ q2637) (F.ts _ q153) (io_at F) io_ot (F.xZ F.ok.2.2.2.2.2.2.2.1) (F.xZ F.ok.2.2.2.2.2.2.2.2.1) (F.zS hw) hl.1 d0 d3 d4 d7 hn.cov (by rw [F.rmE]; show 2 + 3 < _; omega) (by rw [F.rmE, cat_sum]; show _ + (13 * (2 + 1) + 42) ≤ _; omega) (by rw [F.rmE]; exact hc) (by rw [F.rmE]; exact hs) F.2.2.2.2.2.2.1 (fun t hW hz hq q9 => ?_) hw.2.2.1 hc hs
  refine ⟨h, hx q9, ⟨State.WarmedH.trans F.hot hW, ⟨Nat.le_trans hw.1.1 hz, fun a ha => ?_⟩, fun a fl u cv e => ?_⟩, Nat.le_trans hw.2.1 hz⟩
  · rw [hq a (Nat.lt_of_lt_of_le ha hw.1.1)]
    exact hw.1.2 a ha
  · have g := hw.2.2.2 a fl u cv e
    exact ⟨fun z => ⟨(g.1 z).1, va_at.kept (g.1 z).2 (hq a (g.1 z).2.lt)⟩, g.2⟩
end
