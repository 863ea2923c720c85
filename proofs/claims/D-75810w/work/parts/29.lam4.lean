/-! LAMBDAS: the rows of calls -/
set_option maxRecDepth 100000
set_option maxHeartbeats 4000000
abbrev laY : MethodName := ⟨"LockstepRoom$Rule", "act", "([III)V"⟩
abbrev laO (vm : Vm) : Prop := ∀ o ok, vm.findClass "java/lang/Object" = some o → vm.classes[o]? = some ok → ok.instanceTypes.size = 0
theorem la_O {s U : State} (hW : s.WarmedH U.vm) (h : laO s.vm) : laO U.vm := by
  intro o ok ho hok
  rw [hW.alike.findClass] at ho
  cases hq : s.vm.classes[o]? with
  | none => rw [hW.alike.none hq] at hok; cases hok
  | some k0 =>
    obtain ⟨ok', hok', e3⟩ := hW.alike.2.2 _ _ hq
    cases hok.symm.trans hok'
    rw [e3]
    exact h o k0 ho hq
section
variable {x : Cx} {cc : ByteArray} {own : String} {nL : Nat} {ret : Option FieldType} {rm : Room} {Q : State → Prop} {pc : Nat} {lv lv' : List (Nat × aV)} {st rest As : List aV} {h : hH} {c k : Nat}
  {i n t N maxL : Nat} {C : String} {y y0 : MethodName} {bytes : ByteArray} {ret' : Option FieldType} {rm' : Room} {R : hH → Prop} {σ : Lambda.Shape} {H : Heap} {locs : List Loc} {c0 : ClassId} {one : Option Addr}
/-- what is known of a site's class, wherever the tables are warmer -/
theorem la_up {P : Vm → ClassId → Prop} {pc0 i0 : Nat} (F : Fx x cc own nL ret rm) (hyc : y0.cls = laM) (hs : x.s0.lambdaAt? y0 pc0 i0 σ = some (c0, one))
    (hmd : ∀ (vm : Vm) (d c : ClassId) (dk : Class), vm.classes[d]? = some dk → dk.name = laM → Lambda.isMade { classPath := fun _ => none } vm d σ c = true → laO vm → P vm c) : ∀ U : State, x.s.WarmedH U.vm → P U.vm c0 := by
  intro U hW
  obtain ⟨m, kc, cf, _, _, lk, hm, hk, hcf, hsh, hfind, hmade, hcan, -⟩ := la_at F hs
  obtain ⟨kT, hkT, hnameT⟩ := className_of_methodNamed hm
  obtain ⟨k', hk', he⟩ := hW.alike.2.2 _ _ hkT
  exact hmd U.vm m.cls c0 k' hk' (by rw [he, ← hyc]; exact hnameT) (Lambda.isMade_warmer hW hmade) (la_O hW F.obj0)
/-- the interface's method is selected: the made class's -/
theorem la_sel {T : State} {locs : List Loc} {pc0 i0 : Nat} {a : Addr} {cell : Cell} {b : ByteArray} {ls : Array Slot} {o ce : Int32} {ar : Option Nat} (F : Fx x cc own nL ret rm) (d : decode cc pc = .ok (.invokeinterface i n, 5)) (q1 : Cond.methodLink own i laY ∈ lw_all) (hs : x.s0.lambdaAt? y0 pc0 i0 σ = some (c0, one)) (hσ : σ.iface = "LockstepRoom$Rule" ∧ σ.name = "act" ∧ σ.sam.toString = "([III)V")
    (hbase : laBase x.s.vm c0 b) (X : Stand x.p x.l x.e x.R x.s x.m x.args x.below x.meth x.c T locs c k) (hcell : T.heap[a]? = some cell) (hcc : cell.cls = c0) (hcv : cell.vm = .none) :
    ∃ vm', Stand x.p x.l x.e x.R x.s x.m x.args x.below x.meth x.c (T.setVm vm') locs c k ∧
      ∀ target, (∀ acts, Steps x.p.tables x.e x.below (doInvoke x.e ((T.setVm vm').setTop (F0 x.m pc ls (rest.map vv))) acts ⟨c0, 1⟩ #[.ref a, va_rf ar, .int ce, .int o]).1 target) → Steps x.p.tables x.e x.below (T.setTop (F0 x.m pc ls ((aI o :: aI ce :: aR ar :: aR (some a) :: rest).map vv))) target := by
  subst hcc
  obtain ⟨m, kc, cf, _, _, lk, hm, hk, hcf, hsh, hfind, hmade, hcan, -⟩ := la_at F hs
  obtain ⟨r0, r, hn, hrm, hstR, hsigR⟩ := Cond.declares_spec (F.decl q1997)
  obtain ⟨b0, hb0, -⟩ := F.ok.2.1
  obtain ⟨cL, kL0, r1, hcL0, hkL0, hiL0, -, -⟩ := Cond.interfaceMethod_spec (hb0 _ q1996)
  have hcL : x.s.vm.findClass "LockstepRoom$Rule" = some cL := by rw [F.al.findClass]; exact hcL0
  obtain ⟨kL, hkL, heL⟩ := F.al.2.2 _ _ hkL0
  have hiL : kL.isInterface = true := by rw [heL]; exact hiL0
  obtain ⟨dk', kK, ok, tk, file, cfK, object, iface', t', lay, methods, tgt, found, -, hkK, -, -, -, hi', -, -, -, -, -, -, hfound', -, -, -, -, -, -, -, -, -, -, hsel⟩ := Lambda.isMade_spec hmade
  rw [hσ.1] at hi'
  cases hcL.symm.trans hi'
  rw [hσ.2.1, hσ.2.2] at hfound'
  have hfr : found = r0 := by
    have h1 : x.s.methodFound? laY.cls laY.name laY.desc = some r0 := State.methodFound?_of_named hn ⟨by decide, by decide⟩
    simp only [State.methodFound?, hcL, hkL, hiL, Option.bind_eq_bind, Option.bind_some] at h1
    rw [hfound'] at h1
    exact Option.some.inj h1
  subst hfr
  obtain ⟨i2, hi2, hasg, hway⟩ := State.lambdaCallable_spec hcan
  rw [hσ.1] at hi2
  cases hcL.symm.trans hi2
  obtain ⟨hnameR, hdescR⟩ := name_of_methodNamed hn hrm
  have hr0cls : found.cls = cL := Option.some.inj ((findClass_of_methodNamed hn).symm.trans hcL)
  obtain ⟨kB, methk, ck, hkB, hkBn, hmk, hck, hbytes, hml, hlk, hfl, hretk⟩ := hbase
  obtain ⟨vm', X', hstep⟩ := X.invokeinterface F.1 F.2.2.2.1 (F.ts _ q1) hn hrm hstR (by rw [hr0cls]; exact hkL) hiL ⟨by decide, by decide⟩ (a := a) (cell := cell) (kcell := kB) hcell (fun z hz => by rw [hcv] at hz; cases hz) hkB (by rw [hr0cls]; exact hasg)
    (by rw [Launch.admits_selectMethod X.admits]; exact hsel) hmk (by rw [hnameR, hdescR]; rw [hσ.2.1, hσ.2.2] at hway; exact hway) (by rw [hfl]; decide) (by simp [Method.isAbstract, hfl, hasFlag, Acc.abstract]) (g := F0 x.m pc ls ((aI o :: aI ce :: aR ar :: aR (some a) :: rest).map vv)) rfl (argsL := [va_rf ar, .int ce, .int o]) (rest := rest.map vv)
    (by rw [← Option.some.inj ((show parseMethodDescriptor "([III)V" = some ⟨[.array .int, .int, .int], none⟩ from by decide +kernel).symm.trans hsigR)]; rfl) rfl (by rw [F.2.1]; exact d)
  exact ⟨vm', X', hstep⟩
end
