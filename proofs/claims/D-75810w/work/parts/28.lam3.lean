/-! LAMBDAS: a call of a made object goes on to its method -/
set_option maxRecDepth 100000
set_option maxHeartbeats 4000000
section
variable {p : Program} {l : Launch} {e : Env} {R : Room} {s : State} {m : MethodId} {args : Array Value} {below : List Frame} {meth : Method} {c : Code} {U : State} {L : List Loc} {cc nn : Nat}
theorem la_ent (m : MethodId) (f : Addr) {v : Value} (c o : Int32) (h : v.isRef = true) : entryFrame m #[.ref f, v, .int c, .int o] 4 = { method := m, pc := 0, locals := #[.val (.ref f), .val v, .val (.int c), .val (.int o)], stack := [], locked := none } := by
  cases v <;> first | rfl | simp [Value.isRef] at h
theorem la_inV (X : Stand p l e R s m args below meth c U L cc nn) (hexec : p.tables.exec = Jvm.exec) {g : JFrame} (hg : g.method = m) (hsize : g.locals.size = c.maxLocals) {ig : Instr} (hdg : decode c.code g.pc = .ok (ig, 5))
    {cK : ClassId} {y : MethodName} {bytes : ByteArray} {maxL : Nat} {sa : Array Value} (hbase : laBase U.vm cK laBV) (hcall : laCall { classPath := fun _ => none } U.vm cK 22 19 21 y.name) (hfld : laFld U.vm cK) (hyc : y.cls = laM) (hyd : y.desc = "([III)V")
    (hin : (Cond.instanceMethod y).before sa U = true) (hse : (Cond.selects laM y y).before sa U = true) (hco : (Cond.code y bytes maxL none).before sa U = true)
    {f mm : Addr} {cellF cellM : Cell} {v1 : Value} {c1 o1 : Int32} (hv1 : v1.isRef = true) (hcF : U.heap[f]? = some cellF) (hkF : cellF.vm ≠ .unknown) (hsF : cellF.slots[0]? = some (.ref mm)) (hcM : U.heap[mm]? = some cellM) (hoM : cellM.vm.isStatics = false) (hclM : U.vm.findClass laM = some cellM.cls)
    {R' : Room} (hfr : R'.frames + 1 ≤ R.frames) (hlo : 2 * g.monitorRoom + (g.stack.map fun v => v.category).sum + (4 + 11) + R'.locals ≤ R.locals) (hcl : cc + R'.cells ≤ R.cells) (hsl : nn + R'.slots ≤ R.slots)
    {PreT : Pt → Array Value → Prop} {PostT : Pt → Array Value → Option Value → Pt → Prop}
    (hT : Back l R' p e (.java g :: below) (U.calling g ⟨cK, 1⟩ #[.ref f, v1, .int c1, .int o1]) #[.ref f, v1, .int c1, .int o1] y 3 8 PreT PostT)
    (hpre : ∀ U₀ : State, U₀.vm = U.vm → U₀.heap = U.heap → PreT ⟨U₀, [], 0, 0⟩ #[.ref mm, v1, .int c1, .int o1]) (hret : ∀ A a v B, PostT A a v B → v = none) :
    ∃ (T' U₀ U₁ : State) (L₁ : List Loc) (c₁ n₁ : Nat), Stand p l e R s m args below meth c T' (L ++ L₁) (cc + c₁) (nn + n₁) ∧ U₀.heap = U.heap ∧ U₀.vm = U.vm ∧ PostT ⟨U₀, [], 0, 0⟩ #[.ref mm, v1, .int c1, .int o1] none ⟨U₁, L₁, c₁, n₁⟩ ∧ T'.heap = U₁.heap ∧ T'.vm = U₁.vm ∧
      ∀ acts, Steps p.tables e below (doInvoke e (U.setTop g) acts ⟨cK, 1⟩ #[.ref f, v1, .int c1, .int o1]).1 (T'.setTop { g with pc := g.pc + 5, stack := g.stack }) := by
  obtain ⟨k, methk, ck, hk, hkn, hmk, hck, hbytes, hml, hlk, hfl, hretk⟩ := hbase
  obtain ⟨kk2, tk, file, toy, t, hk2, hfile, hM, hnt, htoy, htk, hitf, hlook, hready, hclsR⟩ := hcall
  obtain ⟨k3, g0, hk3, hg0, hg0s, hg0n, -, -⟩ := hfld
  obtain ⟨Y₀, hin0⟩ := X.into hg hsize hdg #[.ref f, v1, .int c1, .int o1] (R' := R') (mk := ⟨cK, 1⟩) hmk hck hlk (State.plainMethod.of_name (fun k' hk' => by cases hk.symm.trans hk'; rw [hkn]; decide)) hfr (by rw [hml]; exact hlo) hcl hsl
  generalize hU₀ : (U.setTop g).pushFrame (.java (entryFrame ⟨cK, 1⟩ #[.ref f, v1, .int c1, .int o1] ck.maxLocals)) = U₀ at Y₀ hin0
  have hvm : U₀.vm = U.vm := by rw [← hU₀]; rfl
  have hheap : U₀.heap = U.heap := by rw [← hU₀]; rfl
  rw [hml, la_ent _ _ _ _ hv1] at hin0
  have k1 : Steps p.tables e (.java g :: below) (U₀.setTop { method := ⟨cK, 1⟩, pc := 0, locals := #[.val (.ref f), .val v1, .val (.int c1), .val (.int o1)], stack := [], locked := none }) (U₀.setTop { method := ⟨cK, 1⟩, pc := 1, locals := #[.val (.ref f), .val v1, .val (.int c1), .val (.int o1)], stack := [.ref f], locked := none }) := by
    jvm_step Y₀.here [hexec, hbytes, laV0, Value.isRef]
    exact Steps.refl _
  have k2 : Steps p.tables e (.java g :: below) (U₀.setTop { method := ⟨cK, 1⟩, pc := 1, locals := #[.val (.ref f), .val v1, .val (.int c1), .val (.int o1)], stack := [.ref f], locked := none }) (U₀.setTop { method := ⟨cK, 1⟩, pc := 4, locals := #[.val (.ref f), .val v1, .val (.int c1), .val (.int o1)], stack := [.ref mm], locked := none }) := by
    jvm_step Y₀.here [hexec, hbytes, laV1, Op.getfield.wp_ready (e := e) (s := U₀) (c := cK) (field := g0) (a := f) (rest := []) (cell := cellF) (v := .ref mm) (f := { method := ⟨cK, 1⟩, pc := 1, locals := #[.val (.ref f), .val v1, .val (.int c1), .val (.int o1)], stack := [.ref f], locked := none }) Y₀.here.top (by rw [hvm]; exact hg0) hg0s rfl (by rw [hheap]; exact hcF) hkF (by rw [hg0n]; exact hsF)]
    exact Steps.refl _
  have k3 : Steps p.tables e (.java g :: below) (U₀.setTop { method := ⟨cK, 1⟩, pc := 4, locals := #[.val (.ref f), .val v1, .val (.int c1), .val (.int o1)], stack := [.ref mm], locked := none }) (U₀.setTop { method := ⟨cK, 1⟩, pc := 7, locals := #[.val (.ref f), .val v1, .val (.int c1), .val (.int o1)], stack := [.int o1, .int c1, v1, .ref mm], locked := none }) := by
    jvm_step Y₀.here [hexec, hbytes, laV4, hv1]
    jvm_step Y₀.here [hexec, hbytes, laV5]
    jvm_step Y₀.here [hexec, hbytes, laV6]
    exact Steps.refl _
  obtain ⟨mk, methM, hnamed, hmethM, hst, hab⟩ := Cond.instanceMethod_spec hin
  obtain ⟨methB, cB', hmB, -, -, -, -, -, -, hsigB⟩ := Cond.code_spec hnamed hco
  cases hmethM.symm.trans hmB
  obtain ⟨c2, r2, m2, q1, q2, q3, q4, kP, hkP, hkPi⟩ := Cond.selects_spec hse
  have hy : y.cls ≠ "java/lang/invoke/MethodHandle" ∧ y.cls ≠ "java/lang/invoke/VarHandle" := by rw [hyc]; exact ⟨by decide, by decide⟩
  cases (State.methodFound?_of_named hnamed hy).symm.trans q2
  cases hnamed.symm.trans q3
  cases hclM.symm.trans q1
  have et : t = mk := by
    have h1 : U.methodFound? y.cls y.name y.desc = some mk := State.methodFound?_of_named hnamed hy
    rw [hyc, hyd] at h1
    simp only [State.methodFound?, htoy, htk, Option.bind_eq_bind, Option.bind_some] at h1
    rw [hlook] at h1
    exact Option.some.inj h1
  subst et
  obtain ⟨kT', hkT', hnameT⟩ := className_of_methodNamed hnamed
  have hsp : signaturePolymorphic kT' methM = false := by simp [signaturePolymorphic, hnameT, hy.1, hy.2]
  have hpar : methM.sig.parameters.length = 3 := by
    rw [hyd] at hsigB
    rw [← Option.some.inj ((show parseMethodDescriptor "([III)V" = some ⟨[.array .int, .int, .int], none⟩ from by decide +kernel).symm.trans hsigB)]
    rfl
  have hnamed0 : U₀.methodNamed? y = some t := by
    have q : (U.setVm U₀.vm).methodNamed? y = some t := by rw [hvm]; exact hnamed
    exact q
  obtain ⟨v, ⟨U₁, L₁, c₁, n₁⟩, Y₁, hpost, hsteps⟩ := hT ⟨cK, 1⟩ methk ck ⟨U₀, [], 0, 0⟩ { method := ⟨cK, 1⟩, pc := 7, locals := #[.val (.ref f), .val v1, .val (.int c1), .val (.int o1)], stack := [], locked := none } (.invokevirtual 22) t #[.ref mm, v1, .int c1, .int o1] Y₀ rfl (by rw [hml]; rfl) (by rw [hbytes]; exact laV7) (by show 2 * 0 + 0 ≤ 8; decide) hnamed0 (hpre U₀ hvm hheap)
  dsimp only [Pt.U, Pt.locs, Pt.cells, Pt.slots] at Y₁ hsteps
  obtain rfl := hret _ _ _ _ hpost
  have k4 : Steps p.tables e (.java g :: below) (U₀.setTop { method := ⟨cK, 1⟩, pc := 7, locals := #[.val (.ref f), .val v1, .val (.int c1), .val (.int o1)], stack := [.int o1, .int c1, v1, .ref mm], locked := none }) (U₁.setTop { method := ⟨cK, 1⟩, pc := 10, locals := #[.val (.ref f), .val v1, .val (.int c1), .val (.int o1)], stack := [], locked := none }) := by
    refine Steps.trans ?_ hsteps
    jvm_step Y₀.here [hexec, hbytes, laV7, Op.invokevirtual.wp_ready (e := e) (s := U₀) (r := t) (m := t) (k := kT') (mk := kP) (rmeth := methM) (meth := methM) (a := mm) (args := [v1, .int c1, .int o1]) (rest := []) (cell := cellM) (f := { method := ⟨cK, 1⟩, pc := 7, locals := #[.val (.ref f), .val v1, .val (.int c1), .val (.int o1)], stack := [.int o1, .int c1, v1, .ref mm], locked := none }) Y₀.here.top
      (⟨kk2, file, 19, 21, toy, tk, by rw [hvm]; exact hk2, hfile, hM, by rw [hvm]; exact hclsR, by rw [hvm]; exact htk, hitf⟩) (by rw [hvm]; exact hready) (by rw [hvm]; exact hkT') (by rw [hvm]; exact hmethM) hsp hst (by rw [hpar]; rfl) rfl (by rw [hheap]; exact hcM) (fun z hz => by rw [hz] at hoM; cases hoM) (by rw [Launch.admits_selectMethod X.admits, hvm]; exact q4) (by rw [hvm]; exact hmethM) hab (by rw [hvm]; exact hkP) hkPi]
    intro acts
    rw [doInvoke_state]
    exact Steps.refl _
  obtain ⟨fs, hleave, -, hended, hWe, hsame⟩ := Y₁.leave (v := none) (fun _ => rfl) hlk
  obtain ⟨T', X', hW', -, ht⟩ := X.outOf hg hdg hended hWe hsame
  refine ⟨T', U₀, U₁, L₁, c₁, n₁, X', hheap, hvm, hpost, (congrArg State.heap ht).symm, (congrArg State.vm ht).symm, fun acts => ?_⟩
  rw [hin0 acts]
  have k5 : Steps p.tables e (.java g :: below) (U₁.setTop { method := ⟨cK, 1⟩, pc := 10, locals := #[.val (.ref f), .val v1, .val (.int c1), .val (.int o1)], stack := [], locked := none }) (U₁.setFrames fs) := by
    have hm' : U₁.vm.method? ⟨cK, 1⟩ = some methk := Y₁.method'
    jvm_step Y₁.here [Y₁.here.top, hexec, hbytes, laV10, hm', hretk]
    first | (intro acts; rw [hleave _ acts rfl rfl rfl]) | rw [hleave _ _ rfl rfl rfl]
    exact Steps.refl _
  have hall := ((k1.trans k2).trans k3).trans (k4.trans k5)
  rw [ht] at hall
  exact Steps.weaken (mid := [.java g]) hall
theorem la_inS (X : Stand p l e R s m args below meth c U L cc nn) (hexec : p.tables.exec = Jvm.exec) {g : JFrame} (hg : g.method = m) (hsize : g.locals.size = c.maxLocals) {ig : Instr} (hdg : decode c.code g.pc = .ok (ig, 5))
    {cK : ClassId} {y : MethodName} {bytes : ByteArray} {maxL : Nat} {sa : Array Value} (hbase : laBase U.vm cK laBS) (hcall : laCall { classPath := fun _ => none } U.vm cK 17 14 16 y.name) (hyc : y.cls = laM) (hyd : y.desc = "([III)V")
    (hsta : (Cond.static y).before sa U = true) (hini : (Cond.initialized laM).before sa U = true) (hco : (Cond.code y bytes maxL none).before sa U = true)
    {f : Addr} {v1 : Value} {c1 o1 : Int32} (hv1 : v1.isRef = true)
    {R' : Room} (hfr : R'.frames + 1 ≤ R.frames) (hlo : 2 * g.monitorRoom + (g.stack.map fun v => v.category).sum + (4 + 11) + R'.locals ≤ R.locals) (hcl : cc + R'.cells ≤ R.cells) (hsl : nn + R'.slots ≤ R.slots)
    {PreT : Pt → Array Value → Prop} {PostT : Pt → Array Value → Option Value → Pt → Prop}
    (hT : Back l R' p e (.java g :: below) (U.calling g ⟨cK, 1⟩ #[.ref f, v1, .int c1, .int o1]) #[.ref f, v1, .int c1, .int o1] y 3 8 PreT PostT)
    (hpre : ∀ U₀ : State, U₀.vm = U.vm → U₀.heap = U.heap → PreT ⟨U₀, [], 0, 0⟩ #[v1, .int c1, .int o1]) (hret : ∀ A a v B, PostT A a v B → v = none) :
    ∃ (T' U₀ U₁ : State) (L₁ : List Loc) (c₁ n₁ : Nat), Stand p l e R s m args below meth c T' (L ++ L₁) (cc + c₁) (nn + n₁) ∧ U₀.heap = U.heap ∧ U₀.vm = U.vm ∧ PostT ⟨U₀, [], 0, 0⟩ #[v1, .int c1, .int o1] none ⟨U₁, L₁, c₁, n₁⟩ ∧ T'.heap = U₁.heap ∧ T'.vm = U₁.vm ∧
      ∀ acts, Steps p.tables e below (doInvoke e (U.setTop g) acts ⟨cK, 1⟩ #[.ref f, v1, .int c1, .int o1]).1 (T'.setTop { g with pc := g.pc + 5, stack := g.stack }) := by
  obtain ⟨k, methk, ck, hk, hkn, hmk, hck, hbytes, hml, hlk, hfl, hretk⟩ := hbase
  obtain ⟨kk2, tk, file, toy, t, hk2, hfile, hM, hnt, htoy, htk, hitf, hlook, hready, hclsR⟩ := hcall
  obtain ⟨Y₀, hin0⟩ := X.into hg hsize hdg #[.ref f, v1, .int c1, .int o1] (R' := R') (mk := ⟨cK, 1⟩) hmk hck hlk (State.plainMethod.of_name (fun k' hk' => by cases hk.symm.trans hk'; rw [hkn]; decide)) hfr (by rw [hml]; exact hlo) hcl hsl
  generalize hU₀ : (U.setTop g).pushFrame (.java (entryFrame ⟨cK, 1⟩ #[.ref f, v1, .int c1, .int o1] ck.maxLocals)) = U₀ at Y₀ hin0
  have hvm : U₀.vm = U.vm := by rw [← hU₀]; rfl
  have hheap : U₀.heap = U.heap := by rw [← hU₀]; rfl
  rw [hml, la_ent _ _ _ _ hv1] at hin0
  have k3 : Steps p.tables e (.java g :: below) (U₀.setTop { method := ⟨cK, 1⟩, pc := 0, locals := #[.val (.ref f), .val v1, .val (.int c1), .val (.int o1)], stack := [], locked := none }) (U₀.setTop { method := ⟨cK, 1⟩, pc := 3, locals := #[.val (.ref f), .val v1, .val (.int c1), .val (.int o1)], stack := [.int o1, .int c1, v1], locked := none }) := by
    jvm_step Y₀.here [hexec, hbytes, laS0, hv1]
    jvm_step Y₀.here [hexec, hbytes, laS1]
    jvm_step Y₀.here [hexec, hbytes, laS2]
    exact Steps.refl _
  have hy : y.cls ≠ "java/lang/invoke/MethodHandle" ∧ y.cls ≠ "java/lang/invoke/VarHandle" := by rw [hyc]; exact ⟨by decide, by decide⟩
  cases hnamed : U.methodNamed? y with
  | none => simp [Cond.before, Cond.holds, Cond.value, hnamed] at hco
  | some mk =>
  obtain ⟨methM, cB', hmethM, -, -, -, -, -, -, hsigB⟩ := Cond.code_spec hnamed hco
  have hst : methM.isStatic = true := Cond.static_spec hnamed hmethM hsta
  have hfT : U.vm.findClass laM = some mk.cls := by rw [← hyc]; exact findClass_of_methodNamed hnamed
  have et : t = mk := by
    have h1 : U.methodFound? y.cls y.name y.desc = some mk := State.methodFound?_of_named hnamed hy
    rw [hyc, hyd] at h1
    simp only [State.methodFound?, htoy, htk, Option.bind_eq_bind, Option.bind_some] at h1
    rw [hlook] at h1
    exact Option.some.inj h1
  subst et
  cases htoy.symm.trans hfT
  have hinit : tk.init = .initialized := Cond.initialized_spec hfT htk hini
  obtain ⟨kT', hkT', hnameT⟩ := className_of_methodNamed hnamed
  cases htk.symm.trans hkT'
  have hnp : (tk.methods.any fun z => z.name == y.name && !z.isStatic && signaturePolymorphic tk z) = false := by
    simp [signaturePolymorphic, hnameT, hy.1, hy.2]
  have hsp : signaturePolymorphic tk methM = false := by simp [signaturePolymorphic, hnameT, hy.1, hy.2]
  obtain ⟨bb, hmem⟩ := memberRef_ask' (e := e) (vm := U.vm) (d := cK) (index := 17) hk2 hfile (Or.inl hM) hnt
  have hpar : methM.sig.parameters.length = 3 := by
    rw [hyd] at hsigB
    rw [← Option.some.inj ((show parseMethodDescriptor "([III)V" = some ⟨[.array .int, .int, .int], none⟩ from by decide +kernel).symm.trans hsigB)]
    rfl
  have hnamed0 : U₀.methodNamed? y = some t := by
    have q : (U.setVm U₀.vm).methodNamed? y = some t := by rw [hvm]; exact hnamed
    exact q
  obtain ⟨v, ⟨U₁, L₁, c₁, n₁⟩, Y₁, hpost, hsteps⟩ := hT ⟨cK, 1⟩ methk ck ⟨U₀, [], 0, 0⟩ { method := ⟨cK, 1⟩, pc := 3, locals := #[.val (.ref f), .val v1, .val (.int c1), .val (.int o1)], stack := [], locked := none } (.invokestatic 17) t #[v1, .int c1, .int o1] Y₀ rfl (by rw [hml]; rfl) (by rw [hbytes]; exact laS3) (by show 2 * 0 + 0 ≤ 8; decide) hnamed0 (hpre U₀ hvm hheap)
  dsimp only [Pt.U, Pt.locs, Pt.cells, Pt.slots] at Y₁ hsteps
  obtain rfl := hret _ _ _ _ hpost
  have k4 : Steps p.tables e (.java g :: below) (U₀.setTop { method := ⟨cK, 1⟩, pc := 3, locals := #[.val (.ref f), .val v1, .val (.int c1), .val (.int o1)], stack := [.int o1, .int c1, v1], locked := none }) (U₁.setTop { method := ⟨cK, 1⟩, pc := 6, locals := #[.val (.ref f), .val v1, .val (.int c1), .val (.int o1)], stack := [], locked := none }) := by
    refine Steps.trans ?_ hsteps
    jvm_step Y₀.here [hexec, hbytes, laS3, Op.invokestatic.wp_ready (e := e) (s := U₀) (m := t) (k := tk) (meth := methM) (args := [v1, .int c1, .int o1]) (rest := []) (f := { method := ⟨cK, 1⟩, pc := 3, locals := #[.val (.ref f), .val v1, .val (.int c1), .val (.int o1)], stack := [.int o1, .int c1, v1], locked := none }) Y₀.here.top
      (⟨14, y.name, "([III)V", bb, _, tk, by rw [hvm]; exact hmem, by rw [hvm]; exact hclsR, by rw [hvm]; exact htk, hnp⟩) (by rw [hvm]; exact hready) (by rw [hvm]; exact htk) (by rw [hvm]; exact hmethM) hsp hst hinit (by rw [hpar]; rfl) rfl]
    intro acts
    rw [doInvoke_state]
    exact Steps.refl _
  obtain ⟨fs, hleave, -, hended, hWe, hsame⟩ := Y₁.leave (v := none) (fun _ => rfl) hlk
  obtain ⟨T', X', hW', -, ht⟩ := X.outOf hg hdg hended hWe hsame
  refine ⟨T', U₀, U₁, L₁, c₁, n₁, X', hheap, hvm, hpost, (congrArg State.heap ht).symm, (congrArg State.vm ht).symm, fun acts => ?_⟩
  rw [hin0 acts]
  have k5 : Steps p.tables e (.java g :: below) (U₁.setTop { method := ⟨cK, 1⟩, pc := 6, locals := #[.val (.ref f), .val v1, .val (.int c1), .val (.int o1)], stack := [], locked := none }) (U₁.setFrames fs) := by
    have hm' : U₁.vm.method? ⟨cK, 1⟩ = some methk := Y₁.method'
    jvm_step Y₁.here [Y₁.here.top, hexec, hbytes, laS6, hm', hretk]
    first | (intro acts; rw [hleave _ acts rfl rfl rfl]) | rw [hleave _ _ rfl rfl rfl]
    exact Steps.refl _
  have hall := k3.trans (k4.trans k5)
  rw [ht] at hall
  exact Steps.weaken (mid := [.java g]) hall
end
