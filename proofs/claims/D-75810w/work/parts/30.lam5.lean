/-! LAMBDAS: the rows of calls, joined -/
set_option maxRecDepth 100000
set_option maxHeartbeats 4000000
section
variable {x : Cx} {cc : ByteArray} {own : String} {nL : Nat} {ret : Option FieldType} {rm : Room} {Q : State → Prop} {pc : Nat} {lv lv' : List (Nat × aV)} {st rest As : List aV} {h : hH} {c k : Nat}
  {i n t N maxL : Nat} {C : String} {y y0 : MethodName} {bytes : ByteArray} {ret' : Option FieldType} {rm' : Room} {R : hH → Prop} {σ : Lambda.Shape} {H : Heap} {locs : List Loc} {c0 : ClassId} {one : Option Addr}
theorem g_LaV {pc0 i0 tm NM : Nat} {TM : u_T} {r ar : Option Nat} {o ce : Int32} {P : Nat → Prop} (F : Fx x cc own nL ret rm) (d : decode cc pc = .ok (.invokeinterface i n, 5)) (q1 : Cond.methodLink own i laY ∈ lw_all) (hyc0 : y0.cls = laM) (hs : x.s0.lambdaAt? y0 pc0 i0 σ = some (x.dA t, none)) (hσ : σ.iface = "LockstepRoom$Rule" ∧ σ.name = "act" ∧ σ.sam.toString = "([III)V")
    (hmd : ∀ (vm : Vm) (d c : ClassId) (dk : Class), vm.classes[d]? = some dk → dk.name = laM → Lambda.isMade { classPath := fun _ => none } vm d σ c = true → laO vm → laBase vm c laBV ∧ laCall { classPath := fun _ => none } vm c 22 19 21 y.name ∧ laFld vm c) (hyc : y.cls = laM) (hyd : y.desc = "([III)V")
    (q2 : Cond.instanceMethod y ∈ lw_all) (q3 : Cond.selects laM y y ∈ lw_all) (q4 : Cond.initialized laM ∈ lw_all) (q5 : Cond.code y bytes maxL none ∈ lw_all) (ht : CL[tm]? = some (laM, TM, NM)) (hR : rm'.frames + 2 ≤ rm.frames ∧ 8 + (4 + 11) + (8 + (maxL + 11) + rm'.locals) ≤ rm.locals) (hf : BOk rm' rm c k) (hW : (rest.map ac).sum ≤ 8)
    (hk : isLa h r t tm P) (hM : ∀ a, P a → Ct x.S y (ws_ y bytes maxL none) rm' ([aR (some a), aR ar, aI ce, aI o].map vv) h (qV R)) : Run5 x pc lv (aI o :: aI ce :: aR ar :: aR r :: rest) rest h c k rm' (qV R) := by
  obtain ⟨a, mm, fl, fs, rfl, ha, hm, hk⟩ := hk
  intro H locs ls hw hl T hT X
  subst hT
  have hcell : T.heap[a]? = some (arrV (x.dA t) 1 fun _ => va_rf (some mm)) := ((hw.2.2.2 a true t _ ha).1 rfl).2
  obtain ⟨cellM, hcM, hkM, hoM, hclM, -⟩ := rd_obj F hw hm ht
  have hup0 := la_up F hyc0 hs hmd
  obtain ⟨vm', X', hstep⟩ := la_sel (rest := rest) (ls := ls) (o := o) (ce := ce) (ar := ar) F d q1 hs hσ (hup0 x.s (State.WarmedH.refl x.s)).1 X hcell rfl rfl
  obtain ⟨hb1, hc1, hf1⟩ := hup0 (T.setVm vm') X'.warmed
  have hWv : x.s.WarmedH (T.setVm vm').vm := X'.warmed
  have hK : Back x.l { frames := rm'.frames + 1, cells := rm'.cells, slots := rm'.slots, locals := 8 + (maxL + 11) + rm'.locals } x.p x.e (.java (F0 x.m pc ls (rest.map vv)) :: x.below) ((T.setVm vm').calling (F0 x.m pc ls (rest.map vv)) ⟨x.dA t, 1⟩ #[.ref a, va_rf ar, .int ce, .int o]) #[.ref a, va_rf ar, .int ce, .int o] y 3 8 (PreOf { frames := rm'.frames + 1, cells := rm'.cells, slots := rm'.slots, locals := 8 + (maxL + 11) + rm'.locals } rm'.cells rm'.slots (va_Pc ([aR (some mm), aR ar, aI ce, aI o].map vv) (GW x.S h))) (PostOf (hQ x.S (qV R)) rm'.cells rm'.slots (hA x.S.s0)) :=
    back_of (bytes := bytes) (maxL := maxL) (ret := none) (hM mm hk) GW_blind rfl rfl (Nat.le_refl _) (Nat.le_refl _) (fun w hw a' U hU => pay_in F.ts (lw_meth q5) w hw a' U (State.WarmedH.trans (show x.s.WarmedH ((T.setVm vm').calling (F0 x.m pc ls (rest.map vv)) ⟨x.dA t, 1⟩ #[.ref a, va_rf ar, .int ce, .int o]).vm from hWv) hU)) List.mem_cons_self
      (fun a' U hU => word_at (State.WarmedH.trans (show x.s.WarmedH ((T.setVm vm').calling (F0 x.m pc ls (rest.map vv)) ⟨x.dA t, 1⟩ #[.ref a, va_rf ar, .int ce, .int o]).vm from hWv) hU) (Or.inl rfl) (by rw [hyc]; exact F.ts _ q4))
  obtain ⟨T', U₀, U₁, L₁, c₁, n₁, X2, e1, e2, hpost, e3, e4, hst⟩ := la_inV X' F.1 (g := F0 x.m pc ls (rest.map vv)) rfl hl.1 (ig := .invokeinterface i n) (by rw [F.2.1]; exact d) (cK := x.dA t) (y := y) (sa := x.args) hb1 hc1 hf1 hyc hyd (word_at hWv (Or.inl rfl) (F.ts _ q2)) (word_at hWv (Or.inl rfl) (F.ts _ q3)) (word_at hWv (Or.inl rfl) (F.ts _ q5)) (f := a) (mm := mm)
    (cellF := arrV (x.dA t) 1 fun _ => va_rf (some mm)) (cellM := cellM) (v1 := va_rf ar) (c1 := ce) (o1 := o) (by cases ar <;> rfl) hcell (fun z => by cases z) rfl hcM hoM (by rw [hWv.alike.findClass]; exact hclM) (by rw [F.rmE]; exact hR.1)
    (by
      rw [F.rmE]
      show 2 * 0 + ((rest.map vv).map fun v => v.category).sum + (4 + 11) + (8 + (maxL + 11) + rm'.locals) ≤ rm.locals
      rw [cat_sum]
      have := hR.2
      omega) (by rw [F.rmE]; exact hf.1) (by rw [F.rmE]; exact hf.2) hK (fun U₀ e1 e2 => ⟨Nat.le_of_eq (Nat.zero_add _), Nat.le_of_eq (Nat.zero_add _), pre_at F hw U₀ e2 (by rw [e1]; exact hWv)⟩)
    (fun A a v B hp => by
      obtain ⟨_, _, _, _, _, _, ⟨v', h', hv, hq, -⟩, -⟩ := hp
      cases hv
      exact hq.1)
  obtain ⟨g', mk', t2, L2, f1, f2, hq, f3, f4, f5, f6⟩ := hpost
  dsimp only [Pt.U, Pt.locs, Pt.cells, Pt.slots] at f1 f2 f3 f5 f6
  subst f3 f5 f6
  rw [Nat.zero_add, Nat.zero_add] at X2
  exact ⟨none, U₀.calling g' mk' _, t2, T', _, e1, X2, f4, e3.trans f1, e4.trans f2, hq, fun z hz => hstep z fun acts => (hst acts).trans hz⟩
theorem g_LaS {pc0 i0 : Nat} {a : Addr} {ar : Option Nat} {o ce : Int32} (F : Fx x cc own nL ret rm) (d : decode cc pc = .ok (.invokeinterface i n, 5)) (q1 : Cond.methodLink own i laY ∈ lw_all) (hyc0 : y0.cls = laM) (hs : x.s0.lambdaAt? y0 pc0 i0 σ = some (c0, some a)) (hσ : σ.iface = "LockstepRoom$Rule" ∧ σ.name = "act" ∧ σ.sam.toString = "([III)V")
    (hmd : ∀ (vm : Vm) (d c : ClassId) (dk : Class), vm.classes[d]? = some dk → dk.name = laM → Lambda.isMade { classPath := fun _ => none } vm d σ c = true → laO vm → laBase vm c laBS ∧ laCall { classPath := fun _ => none } vm c 17 14 16 y.name) (hyc : y.cls = laM) (hyd : y.desc = "([III)V")
    (q2 : Cond.static y ∈ lw_all) (q4 : Cond.initialized laM ∈ lw_all) (q5 : Cond.code y bytes maxL none ∈ lw_all) (hR : rm'.frames + 2 ≤ rm.frames ∧ 8 + (4 + 11) + (8 + (maxL + 11) + rm'.locals) ≤ rm.locals) (hf : BOk rm' rm c k) (hW : (rest.map ac).sum ≤ 8)
    (hM : Ct x.S y (ws_ y bytes maxL none) rm' ([aR ar, aI ce, aI o].map vv) h (qV R)) : Run5 x pc lv (aI o :: aI ce :: aR ar :: aR (some a) :: rest) rest h c k rm' (qV R) := by
  intro H locs ls hw hl T hT X
  subst hT
  obtain ⟨_, _, _, _, _, _, _, _, _, _, _, _, _, hx⟩ := la_at F hs
  rcases hx with ⟨a', cell, -, h2, hcell0, hcc, hcv⟩ | ⟨-, h2⟩
  · cases h2
    have hlt : a < x.s0.heap.size := (Array.getElem?_eq_some_iff.mp hcell0).1
    have hcell : T.heap[a]? = some cell := by rw [hw.1.2 a hlt]; exact hcell0
    have hup0 := la_up F hyc0 hs hmd
    obtain ⟨vm', X', hstep⟩ := la_sel (rest := rest) (ls := ls) (o := o) (ce := ce) (ar := ar) F d q1 hs hσ (hup0 x.s (State.WarmedH.refl x.s)).1 X hcell hcc hcv
    obtain ⟨hb1, hc1⟩ := hup0 (T.setVm vm') X'.warmed
    have hWv : x.s.WarmedH (T.setVm vm').vm := X'.warmed
    have hK : Back x.l { frames := rm'.frames + 1, cells := rm'.cells, slots := rm'.slots, locals := 8 + (maxL + 11) + rm'.locals } x.p x.e (.java (F0 x.m pc ls (rest.map vv)) :: x.below) ((T.setVm vm').calling (F0 x.m pc ls (rest.map vv)) ⟨c0, 1⟩ #[.ref a, va_rf ar, .int ce, .int o]) #[.ref a, va_rf ar, .int ce, .int o] y 3 8 (PreOf { frames := rm'.frames + 1, cells := rm'.cells, slots := rm'.slots, locals := 8 + (maxL + 11) + rm'.locals } rm'.cells rm'.slots (va_Pc ([aR ar, aI ce, aI o].map vv) (GW x.S h))) (PostOf (hQ x.S (qV R)) rm'.cells rm'.slots (hA x.S.s0)) :=
      back_of (bytes := bytes) (maxL := maxL) (ret := none) hM GW_blind rfl rfl (Nat.le_refl _) (Nat.le_refl _) (fun w hw a' U hU => pay_in F.ts (lw_meth q5) w hw a' U (State.WarmedH.trans (show x.s.WarmedH ((T.setVm vm').calling (F0 x.m pc ls (rest.map vv)) ⟨c0, 1⟩ #[.ref a, va_rf ar, .int ce, .int o]).vm from hWv) hU)) List.mem_cons_self
        (fun a' U hU => word_at (State.WarmedH.trans (show x.s.WarmedH ((T.setVm vm').calling (F0 x.m pc ls (rest.map vv)) ⟨c0, 1⟩ #[.ref a, va_rf ar, .int ce, .int o]).vm from hWv) hU) (Or.inl rfl) (by rw [hyc]; exact F.ts _ q4))
    obtain ⟨T', U₀, U₁, L₁, c₁, n₁, X2, e1, e2, hpost, e3, e4, hst⟩ := la_inS X' F.1 (g := F0 x.m pc ls (rest.map vv)) rfl hl.1 (ig := .invokeinterface i n) (by rw [F.2.1]; exact d) (cK := c0) (y := y) (sa := x.args) hb1 hc1 hyc hyd (word_at hWv (Or.inl rfl) (F.ts _ q2)) (word_at hWv (Or.inl rfl) (F.ts _ q4)) (word_at hWv (Or.inl rfl) (F.ts _ q5)) (f := a)
      (v1 := va_rf ar) (c1 := ce) (o1 := o) (by cases ar <;> rfl) (by rw [F.rmE]; exact hR.1)
      (by
        rw [F.rmE]
        show 2 * 0 + ((rest.map vv).map fun v => v.category).sum + (4 + 11) + (8 + (maxL + 11) + rm'.locals) ≤ rm.locals
        rw [cat_sum]
        have := hR.2
        omega) (by rw [F.rmE]; exact hf.1) (by rw [F.rmE]; exact hf.2) hK (fun U₀ e1 e2 => ⟨Nat.le_of_eq (Nat.zero_add _), Nat.le_of_eq (Nat.zero_add _), pre_at F hw U₀ e2 (by rw [e1]; exact hWv)⟩)
      (fun A a v B hp => by
        obtain ⟨_, _, _, _, _, _, ⟨v', h', hv, hq, -⟩, -⟩ := hp
        cases hv
        exact hq.1)
    obtain ⟨g', mk', t2, L2, f1, f2, hq, f3, f4, f5, f6⟩ := hpost
    dsimp only [Pt.U, Pt.locs, Pt.cells, Pt.slots] at f1 f2 f3 f5 f6
    subst f3 f5 f6
    rw [Nat.zero_add, Nat.zero_add] at X2
    exact ⟨none, U₀.calling g' mk' _, t2, T', _, e1, X2, f4, e3.trans f1, e4.trans f2, hq, fun z hz => hstep z fun acts => (hst acts).trans hz⟩
  · cases h2
end
