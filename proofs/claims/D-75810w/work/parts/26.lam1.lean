/-! LAMBDAS: the classes made for them -/
set_option maxRecDepth 100000
def laBS : ByteArray := ⟨#[0x2b, 0x1c, 0x1d, 0xb8, 0x00, 0x11, 0xb1]⟩
def laBV : ByteArray := ⟨#[0x2a, 0xb4, 0x00, 0x0f, 0x2b, 0x1c, 0x1d, 0xb6, 0x00, 0x16, 0xb1]⟩
theorem laS0 : decode laBS 0 = .ok (.aload_n 1, 1) := by decide +kernel
theorem laS1 : decode laBS 1 = .ok (.iload_n 2, 1) := by decide +kernel
theorem laS2 : decode laBS 2 = .ok (.iload_n 3, 1) := by decide +kernel
theorem laS3 : decode laBS 3 = .ok (.invokestatic 17, 3) := by decide +kernel
theorem laS6 : decode laBS 6 = .ok (.return_, 1) := by decide +kernel
theorem laV0 : decode laBV 0 = .ok (.aload_n 0, 1) := by decide +kernel
theorem laV1 : decode laBV 1 = .ok (.getfield 15, 3) := by decide +kernel
theorem laV4 : decode laBV 4 = .ok (.aload_n 1, 1) := by decide +kernel
theorem laV5 : decode laBV 5 = .ok (.iload_n 2, 1) := by decide +kernel
theorem laV6 : decode laBV 6 = .ok (.iload_n 3, 1) := by decide +kernel
theorem laV7 : decode laBV 7 = .ok (.invokevirtual 22, 3) := by decide +kernel
theorem laV10 : decode laBV 10 = .ok (.return_, 1) := by decide +kernel
abbrev laDef : ClassFile := { minorVersion := 0, majorVersion := 0, constantPool := #[], accessFlags := 0, thisClass := 0, superClass := 0, interfaces := #[], fields := #[], methods := #[], attributes := #[] }
/-- what is known of a made class's method, whoever it calls -/
def laBase (vm : Vm) (c : ClassId) (b : ByteArray) : Prop := ∃ (k : Class) (methk : Method) (ck : Code), vm.classes[c]? = some k ∧ k.name = "LockstepRoom$Machine$$Lambda" ∧ vm.method? ⟨c, 1⟩ = some methk ∧ methk.code = some ck ∧ ck.code = b ∧ ck.maxLocals = 4 ∧ methk.locks = false ∧ methk.accessFlags = 0x0001 ∧ methk.sig.returnType = none
/-- .. and of the method that it calls -/
def laCall (e : Setting) (vm : Vm) (c : ClassId) (mi ci nt : Nat) (nm : String) : Prop := ∃ (k tk : Class) (file : ClassFile) (toy : ClassId) (t : MethodId), vm.classes[c]? = some k ∧ k.cf = some file ∧ file.constantPool[mi]? = some (.methodref ci nt) ∧ file.constantPool.nameAndType? nt = some (nm, "([III)V") ∧
  vm.findClass laM = some toy ∧ vm.classes[toy]? = some tk ∧ tk.isInterface = false ∧ ((methodIn toy nm "([III)V" tk.isInterface none).ask e vm).1 = .ok t ∧ vm.methodReady c mi t ∧ vm.classReady c ci toy
/-- .. and of the field that holds what it captured -/
def laFld (vm : Vm) (c : ClassId) : Prop := ∃ (k : Class) (g0 : Field), vm.classes[c]? = some k ∧ vm.fieldReady c 15 c g0 ∧ g0.isStatic = false ∧ g0.slot = 0 ∧ k.instanceTypes = #[.object laM] ∧ k.kind = .ordinary
def La0_σ : Lambda.Shape := laS "lambda$new$0"
def La0_D : ClassFile := (La0_σ.file laM).getD laDef
def La0_forwarder : Method := ((layoutMethods La0_D).bind (·[1]?)).getD default
theorem La0_file_is : La0_σ.file laM = some La0_D := by
  have h : (La0_σ.file laM).isSome = true := by decide +kernel
  obtain ⟨x, hx⟩ := Option.isSome_iff_exists.mp h
  simp [La0_D, hx]
theorem La0_second_is : ∀ ms, layoutMethods La0_D = some ms → ms[1]? = some La0_forwarder := by
  intro ms hms
  have h : ((layoutMethods La0_D).bind (·[1]?)).isSome = true := by decide +kernel
  obtain ⟨x, hx⟩ := Option.isSome_iff_exists.mp h
  have hf : La0_forwarder = x := by simp [La0_forwarder, hx]
  rw [hms] at hx
  rw [hf]
  exact hx
theorem La0_f_code : (La0_forwarder.code.map fun c => (c.code.data, c.maxLocals)) = some (laBS.data, 4) := by decide +kernel
theorem La0_f_flags : (La0_forwarder.accessFlags, La0_forwarder.name, La0_forwarder.sig.returnType) = (0x0001, "act", (none : Option FieldType)) := by decide +kernel
theorem La0_eM : La0_D.constantPool[17]? = some (.methodref 14 16) ∧ La0_D.constantPool.className? 14 = some laM ∧ La0_D.constantPool.nameAndType? 16 = some ("lambda$new$0", "([III)V") := by decide +kernel
theorem La0_eC : La0_D.constantPool[14]? = some (.class_ 13) ∧ La0_D.constantPool.string? 13 = some laM ∧ 14 ≠ La0_D.thisClass := by decide +kernel
theorem La0_made {e : Setting} {vm : Vm} {d c : ClassId} {dk : Class} (hd : vm.classes[d]? = some dk) (hname : dk.name = laM) (h : Lambda.isMade e vm d La0_σ c = true)
    (hO : ∀ o ok, vm.findClass "java/lang/Object" = some o → vm.classes[o]? = some ok → ok.instanceTypes.size = 0) : laBase vm c laBS ∧ laCall e vm c 17 14 16 "lambda$new$0" := by
  obtain ⟨dk', k, ok, tk, file, cf, object, iface, toy, lay, methods, target, found, hd', hk, hfile, hcf, hobj, -, hok, hlay, hms, ht, htk, hg, -, hrec, -, -, -, hitf, hpool, hmeth, hfields, hty, hres, -⟩ := Lambda.isMade_spec h
  cases hd.symm.trans hd'
  rw [hname, La0_file_is] at hcf
  cases hcf
  have hok0 : ok.instanceTypes = #[] := Array.eq_empty_of_size_eq_zero (hO object ok hobj hok)
  obtain ⟨b, hb, hsame⟩ := hmeth 1 La0_forwarder (La0_second_is methods hms)
  simp only [Lambda.sameMethod, Bool.and_eq_true, decide_eq_true_eq] at hsame
  obtain ⟨⟨hn, -, hsig, hfl⟩, hcode⟩ := hsame
  have fc := La0_f_code
  have ff := La0_f_flags
  simp only [Prod.mk.injEq] at ff
  cases hfc : La0_forwarder.code with
  | none => rw [hfc] at fc; cases fc
  | some x =>
    cases hbc : b.code with
    | none => simp [hfc, hbc] at hcode
    | some y =>
      simp only [hfc, hbc, Bool.and_eq_true, decide_eq_true_eq] at hcode
      simp only [hfc, Option.map_some, Option.some.injEq, Prod.mk.injEq] at fc
      refine ⟨⟨k, b, y, hk, by rw [hrec.1, hname]; rfl, by simp [Vm.method?, hk, hb], hbc, ?_, by rw [← hcode.1.1.1.1.2.1]; exact fc.2, ?_, by rw [← hfl]; exact ff.1, by rw [← hsig]; exact ff.2.2⟩,
        ⟨k, tk, file, toy, target, hk, hfile, by rw [hpool.2.1]; exact La0_eM.1, by rw [hpool.2.1]; exact La0_eM.2.2, ht, htk, hitf, hg, ⟨k, hk, hres 17 _ (Lambda.resolvedOf_method La0_eM.1 La0_eM.2.1 ht htk La0_eM.2.2 hg)⟩, ⟨k, hk, hres 14 _ (Lambda.resolvedOf_class La0_eC.1 La0_eC.2.2 La0_eC.2.1 ht)⟩⟩⟩
      · rw [← hcode.1.1.1.1.2.2]
        exact ByteArray.ext fc.1
      · simp [Method.locks, Method.isSynchronized, ← hfl, ff.1, hasFlag, Acc.synchronized]
def La1_σ : Lambda.Shape := laV "lambda$new$1"
def La1_D : ClassFile := (La1_σ.file laM).getD laDef
def La1_forwarder : Method := ((layoutMethods La1_D).bind (·[1]?)).getD default
theorem La1_file_is : La1_σ.file laM = some La1_D := by
  have h : (La1_σ.file laM).isSome = true := by decide +kernel
  obtain ⟨x, hx⟩ := Option.isSome_iff_exists.mp h
  simp [La1_D, hx]
theorem La1_second_is : ∀ ms, layoutMethods La1_D = some ms → ms[1]? = some La1_forwarder := by
  intro ms hms
  have h : ((layoutMethods La1_D).bind (·[1]?)).isSome = true := by decide +kernel
  obtain ⟨x, hx⟩ := Option.isSome_iff_exists.mp h
  have hf : La1_forwarder = x := by simp [La1_forwarder, hx]
  rw [hms] at hx
  rw [hf]
  exact hx
theorem La1_f_code : (La1_forwarder.code.map fun c => (c.code.data, c.maxLocals)) = some (laBV.data, 4) := by decide +kernel
theorem La1_f_flags : (La1_forwarder.accessFlags, La1_forwarder.name, La1_forwarder.sig.returnType) = (0x0001, "act", (none : Option FieldType)) := by decide +kernel
theorem La1_eM : La1_D.constantPool[22]? = some (.methodref 19 21) ∧ La1_D.constantPool.className? 19 = some laM ∧ La1_D.constantPool.nameAndType? 21 = some ("lambda$new$1", "([III)V") := by decide +kernel
theorem La1_eC : La1_D.constantPool[19]? = some (.class_ 18) ∧ La1_D.constantPool.string? 18 = some laM ∧ 19 ≠ La1_D.thisClass := by decide +kernel
def La1_laid : Array Field × Array FieldType × Array FieldType := (layoutFields La1_D 0).getD (#[], #[], #[])
theorem La1_laid_is : layoutFields La1_D 0 = some La1_laid := by
  have h : (layoutFields La1_D 0).isSome = true := by decide +kernel
  obtain ⟨x, hx⟩ := Option.isSome_iff_exists.mp h
  simp [La1_laid, hx]
theorem La1_eF0 : La1_D.constantPool[15]? = some (.fieldref 2 14) ∧ La1_D.constantPool.nameAndType? 14 = some ("arg$1", "LLockstepRoom$Machine;") ∧ La1_laid.1.findIdx? (·.name == "arg$1") = some 0 ∧ (La1_laid.1[0]?).map (fun f => (f.isStatic, f.slot)) = some (false, 0) := by decide +kernel
theorem La1_laid_types : La1_laid.2.1 = #[.object laM] := by decide +kernel
theorem La1_made {e : Setting} {vm : Vm} {d c : ClassId} {dk : Class} (hd : vm.classes[d]? = some dk) (hname : dk.name = laM) (h : Lambda.isMade e vm d La1_σ c = true)
    (hO : ∀ o ok, vm.findClass "java/lang/Object" = some o → vm.classes[o]? = some ok → ok.instanceTypes.size = 0) : laBase vm c laBV ∧ laCall e vm c 22 19 21 "lambda$new$1" ∧ laFld vm c := by
  obtain ⟨dk', k, ok, tk, file, cf, object, iface, toy, lay, methods, target, found, hd', hk, hfile, hcf, hobj, -, hok, hlay, hms, ht, htk, hg, -, hrec, -, -, -, hitf, hpool, hmeth, hfields, hty, hres, -⟩ := Lambda.isMade_spec h
  cases hd.symm.trans hd'
  rw [hname, La1_file_is] at hcf
  cases hcf
  have hok0 : ok.instanceTypes = #[] := Array.eq_empty_of_size_eq_zero (hO object ok hobj hok)
  rw [hO object ok hobj hok, La1_laid_is] at hlay
  cases hlay
  obtain ⟨g0, hg0, hp0⟩ := Option.map_eq_some_iff.mp La1_eF0.2.2.2
  simp only [Prod.mk.injEq] at hp0
  obtain ⟨b, hb, hsame⟩ := hmeth 1 La1_forwarder (La1_second_is methods hms)
  simp only [Lambda.sameMethod, Bool.and_eq_true, decide_eq_true_eq] at hsame
  obtain ⟨⟨hn, -, hsig, hfl⟩, hcode⟩ := hsame
  have fc := La1_f_code
  have ff := La1_f_flags
  simp only [Prod.mk.injEq] at ff
  cases hfc : La1_forwarder.code with
  | none => rw [hfc] at fc; cases fc
  | some x =>
    cases hbc : b.code with
    | none => simp [hfc, hbc] at hcode
    | some y =>
      simp only [hfc, hbc, Bool.and_eq_true, decide_eq_true_eq] at hcode
      simp only [hfc, Option.map_some, Option.some.injEq, Prod.mk.injEq] at fc
      refine ⟨⟨k, b, y, hk, by rw [hrec.1, hname]; rfl, by simp [Vm.method?, hk, hb], hbc, ?_, by rw [← hcode.1.1.1.1.2.1]; exact fc.2, ?_, by rw [← hfl]; exact ff.1, by rw [← hsig]; exact ff.2.2⟩,
        ⟨k, tk, file, toy, target, hk, hfile, by rw [hpool.2.1]; exact La1_eM.1, by rw [hpool.2.1]; exact La1_eM.2.2, ht, htk, hitf, hg, ⟨k, hk, hres 22 _ (Lambda.resolvedOf_method La1_eM.1 La1_eM.2.1 ht htk La1_eM.2.2 hg)⟩, ⟨k, hk, hres 19 _ (Lambda.resolvedOf_class La1_eC.1 La1_eC.2.2 La1_eC.2.1 ht)⟩⟩,
        ⟨k, g0, hk, ⟨k, 0, k, hk, hres 15 _ (Lambda.resolvedOf_field La1_eF0.1 La1_eF0.2.1 La1_eF0.2.2.1), hk, hfields 0 _ hg0⟩, hp0.1, hp0.2, by rw [hty.1, hok0, La1_laid_types]; rfl, hrec.2.1⟩⟩
      · rw [← hcode.1.1.1.1.2.2]
        exact ByteArray.ext fc.1
      · simp [Method.locks, Method.isSynchronized, ← hfl, ff.1, hasFlag, Acc.synchronized]
def La2_σ : Lambda.Shape := laS "lambda$new$2"
def La2_D : ClassFile := (La2_σ.file laM).getD laDef
def La2_forwarder : Method := ((layoutMethods La2_D).bind (·[1]?)).getD default
theorem La2_file_is : La2_σ.file laM = some La2_D := by
  have h : (La2_σ.file laM).isSome = true := by decide +kernel
  obtain ⟨x, hx⟩ := Option.isSome_iff_exists.mp h
  simp [La2_D, hx]
theorem La2_second_is : ∀ ms, layoutMethods La2_D = some ms → ms[1]? = some La2_forwarder := by
  intro ms hms
  have h : ((layoutMethods La2_D).bind (·[1]?)).isSome = true := by decide +kernel
  obtain ⟨x, hx⟩ := Option.isSome_iff_exists.mp h
  have hf : La2_forwarder = x := by simp [La2_forwarder, hx]
  rw [hms] at hx
  rw [hf]
  exact hx
theorem La2_f_code : (La2_forwarder.code.map fun c => (c.code.data, c.maxLocals)) = some (laBS.data, 4) := by decide +kernel
theorem La2_f_flags : (La2_forwarder.accessFlags, La2_forwarder.name, La2_forwarder.sig.returnType) = (0x0001, "act", (none : Option FieldType)) := by decide +kernel
theorem La2_eM : La2_D.constantPool[17]? = some (.methodref 14 16) ∧ La2_D.constantPool.className? 14 = some laM ∧ La2_D.constantPool.nameAndType? 16 = some ("lambda$new$2", "([III)V") := by decide +kernel
theorem La2_eC : La2_D.constantPool[14]? = some (.class_ 13) ∧ La2_D.constantPool.string? 13 = some laM ∧ 14 ≠ La2_D.thisClass := by decide +kernel
theorem La2_made {e : Setting} {vm : Vm} {d c : ClassId} {dk : Class} (hd : vm.classes[d]? = some dk) (hname : dk.name = laM) (h : Lambda.isMade e vm d La2_σ c = true)
    (hO : ∀ o ok, vm.findClass "java/lang/Object" = some o → vm.classes[o]? = some ok → ok.instanceTypes.size = 0) : laBase vm c laBS ∧ laCall e vm c 17 14 16 "lambda$new$2" := by
  obtain ⟨dk', k, ok, tk, file, cf, object, iface, toy, lay, methods, target, found, hd', hk, hfile, hcf, hobj, -, hok, hlay, hms, ht, htk, hg, -, hrec, -, -, -, hitf, hpool, hmeth, hfields, hty, hres, -⟩ := Lambda.isMade_spec h
  cases hd.symm.trans hd'
  rw [hname, La2_file_is] at hcf
  cases hcf
  have hok0 : ok.instanceTypes = #[] := Array.eq_empty_of_size_eq_zero (hO object ok hobj hok)
  obtain ⟨b, hb, hsame⟩ := hmeth 1 La2_forwarder (La2_second_is methods hms)
  simp only [Lambda.sameMethod, Bool.and_eq_true, decide_eq_true_eq] at hsame
  obtain ⟨⟨hn, -, hsig, hfl⟩, hcode⟩ := hsame
  have fc := La2_f_code
  have ff := La2_f_flags
  simp only [Prod.mk.injEq] at ff
  cases hfc : La2_forwarder.code with
  | none => rw [hfc] at fc; cases fc
  | some x =>
    cases hbc : b.code with
    | none => simp [hfc, hbc] at hcode
    | some y =>
      simp only [hfc, hbc, Bool.and_eq_true, decide_eq_true_eq] at hcode
      simp only [hfc, Option.map_some, Option.some.injEq, Prod.mk.injEq] at fc
      refine ⟨⟨k, b, y, hk, by rw [hrec.1, hname]; rfl, by simp [Vm.method?, hk, hb], hbc, ?_, by rw [← hcode.1.1.1.1.2.1]; exact fc.2, ?_, by rw [← hfl]; exact ff.1, by rw [← hsig]; exact ff.2.2⟩,
        ⟨k, tk, file, toy, target, hk, hfile, by rw [hpool.2.1]; exact La2_eM.1, by rw [hpool.2.1]; exact La2_eM.2.2, ht, htk, hitf, hg, ⟨k, hk, hres 17 _ (Lambda.resolvedOf_method La2_eM.1 La2_eM.2.1 ht htk La2_eM.2.2 hg)⟩, ⟨k, hk, hres 14 _ (Lambda.resolvedOf_class La2_eC.1 La2_eC.2.2 La2_eC.2.1 ht)⟩⟩⟩
      · rw [← hcode.1.1.1.1.2.2]
        exact ByteArray.ext fc.1
      · simp [Method.locks, Method.isSynchronized, ← hfl, ff.1, hasFlag, Acc.synchronized]
def La3_σ : Lambda.Shape := laV "lambda$new$3"
def La3_D : ClassFile := (La3_σ.file laM).getD laDef
def La3_forwarder : Method := ((layoutMethods La3_D).bind (·[1]?)).getD default
theorem La3_file_is : La3_σ.file laM = some La3_D := by
  have h : (La3_σ.file laM).isSome = true := by decide +kernel
  obtain ⟨x, hx⟩ := Option.isSome_iff_exists.mp h
  simp [La3_D, hx]
theorem La3_second_is : ∀ ms, layoutMethods La3_D = some ms → ms[1]? = some La3_forwarder := by
  intro ms hms
  have h : ((layoutMethods La3_D).bind (·[1]?)).isSome = true := by decide +kernel
  obtain ⟨x, hx⟩ := Option.isSome_iff_exists.mp h
  have hf : La3_forwarder = x := by simp [La3_forwarder, hx]
  rw [hms] at hx
  rw [hf]
  exact hx
theorem La3_f_code : (La3_forwarder.code.map fun c => (c.code.data, c.maxLocals)) = some (laBV.data, 4) := by decide +kernel
theorem La3_f_flags : (La3_forwarder.accessFlags, La3_forwarder.name, La3_forwarder.sig.returnType) = (0x0001, "act", (none : Option FieldType)) := by decide +kernel
theorem La3_eM : La3_D.constantPool[22]? = some (.methodref 19 21) ∧ La3_D.constantPool.className? 19 = some laM ∧ La3_D.constantPool.nameAndType? 21 = some ("lambda$new$3", "([III)V") := by decide +kernel
theorem La3_eC : La3_D.constantPool[19]? = some (.class_ 18) ∧ La3_D.constantPool.string? 18 = some laM ∧ 19 ≠ La3_D.thisClass := by decide +kernel
def La3_laid : Array Field × Array FieldType × Array FieldType := (layoutFields La3_D 0).getD (#[], #[], #[])
theorem La3_laid_is : layoutFields La3_D 0 = some La3_laid := by
  have h : (layoutFields La3_D 0).isSome = true := by decide +kernel
  obtain ⟨x, hx⟩ := Option.isSome_iff_exists.mp h
  simp [La3_laid, hx]
theorem La3_eF0 : La3_D.constantPool[15]? = some (.fieldref 2 14) ∧ La3_D.constantPool.nameAndType? 14 = some ("arg$1", "LLockstepRoom$Machine;") ∧ La3_laid.1.findIdx? (·.name == "arg$1") = some 0 ∧ (La3_laid.1[0]?).map (fun f => (f.isStatic, f.slot)) = some (false, 0) := by decide +kernel
theorem La3_laid_types : La3_laid.2.1 = #[.object laM] := by decide +kernel
theorem La3_made {e : Setting} {vm : Vm} {d c : ClassId} {dk : Class} (hd : vm.classes[d]? = some dk) (hname : dk.name = laM) (h : Lambda.isMade e vm d La3_σ c = true)
    (hO : ∀ o ok, vm.findClass "java/lang/Object" = some o → vm.classes[o]? = some ok → ok.instanceTypes.size = 0) : laBase vm c laBV ∧ laCall e vm c 22 19 21 "lambda$new$3" ∧ laFld vm c := by
  obtain ⟨dk', k, ok, tk, file, cf, object, iface, toy, lay, methods, target, found, hd', hk, hfile, hcf, hobj, -, hok, hlay, hms, ht, htk, hg, -, hrec, -, -, -, hitf, hpool, hmeth, hfields, hty, hres, -⟩ := Lambda.isMade_spec h
  cases hd.symm.trans hd'
  rw [hname, La3_file_is] at hcf
  cases hcf
  have hok0 : ok.instanceTypes = #[] := Array.eq_empty_of_size_eq_zero (hO object ok hobj hok)
  rw [hO object ok hobj hok, La3_laid_is] at hlay
  cases hlay
  obtain ⟨g0, hg0, hp0⟩ := Option.map_eq_some_iff.mp La3_eF0.2.2.2
  simp only [Prod.mk.injEq] at hp0
  obtain ⟨b, hb, hsame⟩ := hmeth 1 La3_forwarder (La3_second_is methods hms)
  simp only [Lambda.sameMethod, Bool.and_eq_true, decide_eq_true_eq] at hsame
  obtain ⟨⟨hn, -, hsig, hfl⟩, hcode⟩ := hsame
  have fc := La3_f_code
  have ff := La3_f_flags
  simp only [Prod.mk.injEq] at ff
  cases hfc : La3_forwarder.code with
  | none => rw [hfc] at fc; cases fc
  | some x =>
    cases hbc : b.code with
    | none => simp [hfc, hbc] at hcode
    | some y =>
      simp only [hfc, hbc, Bool.and_eq_true, decide_eq_true_eq] at hcode
      simp only [hfc, Option.map_some, Option.some.injEq, Prod.mk.injEq] at fc
      refine ⟨⟨k, b, y, hk, by rw [hrec.1, hname]; rfl, by simp [Vm.method?, hk, hb], hbc, ?_, by rw [← hcode.1.1.1.1.2.1]; exact fc.2, ?_, by rw [← hfl]; exact ff.1, by rw [← hsig]; exact ff.2.2⟩,
        ⟨k, tk, file, toy, target, hk, hfile, by rw [hpool.2.1]; exact La3_eM.1, by rw [hpool.2.1]; exact La3_eM.2.2, ht, htk, hitf, hg, ⟨k, hk, hres 22 _ (Lambda.resolvedOf_method La3_eM.1 La3_eM.2.1 ht htk La3_eM.2.2 hg)⟩, ⟨k, hk, hres 19 _ (Lambda.resolvedOf_class La3_eC.1 La3_eC.2.2 La3_eC.2.1 ht)⟩⟩,
        ⟨k, g0, hk, ⟨k, 0, k, hk, hres 15 _ (Lambda.resolvedOf_field La3_eF0.1 La3_eF0.2.1 La3_eF0.2.2.1), hk, hfields 0 _ hg0⟩, hp0.1, hp0.2, by rw [hty.1, hok0, La3_laid_types]; rfl, hrec.2.1⟩⟩
      · rw [← hcode.1.1.1.1.2.2]
        exact ByteArray.ext fc.1
      · simp [Method.locks, Method.isSynchronized, ← hfl, ff.1, hasFlag, Acc.synchronized]
def La4_σ : Lambda.Shape := laV "swap"
def La4_D : ClassFile := (La4_σ.file laM).getD laDef
def La4_forwarder : Method := ((layoutMethods La4_D).bind (·[1]?)).getD default
theorem La4_file_is : La4_σ.file laM = some La4_D := by
  have h : (La4_σ.file laM).isSome = true := by decide +kernel
  obtain ⟨x, hx⟩ := Option.isSome_iff_exists.mp h
  simp [La4_D, hx]
theorem La4_second_is : ∀ ms, layoutMethods La4_D = some ms → ms[1]? = some La4_forwarder := by
  intro ms hms
  have h : ((layoutMethods La4_D).bind (·[1]?)).isSome = true := by decide +kernel
  obtain ⟨x, hx⟩ := Option.isSome_iff_exists.mp h
  have hf : La4_forwarder = x := by simp [La4_forwarder, hx]
  rw [hms] at hx
  rw [hf]
  exact hx
theorem La4_f_code : (La4_forwarder.code.map fun c => (c.code.data, c.maxLocals)) = some (laBV.data, 4) := by decide +kernel
theorem La4_f_flags : (La4_forwarder.accessFlags, La4_forwarder.name, La4_forwarder.sig.returnType) = (0x0001, "act", (none : Option FieldType)) := by decide +kernel
theorem La4_eM : La4_D.constantPool[22]? = some (.methodref 19 21) ∧ La4_D.constantPool.className? 19 = some laM ∧ La4_D.constantPool.nameAndType? 21 = some ("swap", "([III)V") := by decide +kernel
theorem La4_eC : La4_D.constantPool[19]? = some (.class_ 18) ∧ La4_D.constantPool.string? 18 = some laM ∧ 19 ≠ La4_D.thisClass := by decide +kernel
def La4_laid : Array Field × Array FieldType × Array FieldType := (layoutFields La4_D 0).getD (#[], #[], #[])
theorem La4_laid_is : layoutFields La4_D 0 = some La4_laid := by
  have h : (layoutFields La4_D 0).isSome = true := by decide +kernel
  obtain ⟨x, hx⟩ := Option.isSome_iff_exists.mp h
  simp [La4_laid, hx]
theorem La4_eF0 : La4_D.constantPool[15]? = some (.fieldref 2 14) ∧ La4_D.constantPool.nameAndType? 14 = some ("arg$1", "LLockstepRoom$Machine;") ∧ La4_laid.1.findIdx? (·.name == "arg$1") = some 0 ∧ (La4_laid.1[0]?).map (fun f => (f.isStatic, f.slot)) = some (false, 0) := by decide +kernel
theorem La4_laid_types : La4_laid.2.1 = #[.object laM] := by decide +kernel
theorem La4_made {e : Setting} {vm : Vm} {d c : ClassId} {dk : Class} (hd : vm.classes[d]? = some dk) (hname : dk.name = laM) (h : Lambda.isMade e vm d La4_σ c = true)
    (hO : ∀ o ok, vm.findClass "java/lang/Object" = some o → vm.classes[o]? = some ok → ok.instanceTypes.size = 0) : laBase vm c laBV ∧ laCall e vm c 22 19 21 "swap" ∧ laFld vm c := by
  obtain ⟨dk', k, ok, tk, file, cf, object, iface, toy, lay, methods, target, found, hd', hk, hfile, hcf, hobj, -, hok, hlay, hms, ht, htk, hg, -, hrec, -, -, -, hitf, hpool, hmeth, hfields, hty, hres, -⟩ := Lambda.isMade_spec h
  cases hd.symm.trans hd'
  rw [hname, La4_file_is] at hcf
  cases hcf
  have hok0 : ok.instanceTypes = #[] := Array.eq_empty_of_size_eq_zero (hO object ok hobj hok)
  rw [hO object ok hobj hok, La4_laid_is] at hlay
  cases hlay
  obtain ⟨g0, hg0, hp0⟩ := Option.map_eq_some_iff.mp La4_eF0.2.2.2
  simp only [Prod.mk.injEq] at hp0
  obtain ⟨b, hb, hsame⟩ := hmeth 1 La4_forwarder (La4_second_is methods hms)
  simp only [Lambda.sameMethod, Bool.and_eq_true, decide_eq_true_eq] at hsame
  obtain ⟨⟨hn, -, hsig, hfl⟩, hcode⟩ := hsame
  have fc := La4_f_code
  have ff := La4_f_flags
  simp only [Prod.mk.injEq] at ff
  cases hfc : La4_forwarder.code with
  | none => rw [hfc] at fc; cases fc
  | some x =>
    cases hbc : b.code with
    | none => simp [hfc, hbc] at hcode
    | some y =>
      simp only [hfc, hbc, Bool.and_eq_true, decide_eq_true_eq] at hcode
      simp only [hfc, Option.map_some, Option.some.injEq, Prod.mk.injEq] at fc
      refine ⟨⟨k, b, y, hk, by rw [hrec.1, hname]; rfl, by simp [Vm.method?, hk, hb], hbc, ?_, by rw [← hcode.1.1.1.1.2.1]; exact fc.2, ?_, by rw [← hfl]; exact ff.1, by rw [← hsig]; exact ff.2.2⟩,
        ⟨k, tk, file, toy, target, hk, hfile, by rw [hpool.2.1]; exact La4_eM.1, by rw [hpool.2.1]; exact La4_eM.2.2, ht, htk, hitf, hg, ⟨k, hk, hres 22 _ (Lambda.resolvedOf_method La4_eM.1 La4_eM.2.1 ht htk La4_eM.2.2 hg)⟩, ⟨k, hk, hres 19 _ (Lambda.resolvedOf_class La4_eC.1 La4_eC.2.2 La4_eC.2.1 ht)⟩⟩,
        ⟨k, g0, hk, ⟨k, 0, k, hk, hres 15 _ (Lambda.resolvedOf_field La4_eF0.1 La4_eF0.2.1 La4_eF0.2.2.1), hk, hfields 0 _ hg0⟩, hp0.1, hp0.2, by rw [hty.1, hok0, La4_laid_types]; rfl, hrec.2.1⟩⟩
      · rw [← hcode.1.1.1.1.2.2]
        exact ByteArray.ext fc.1
      · simp [Method.locks, Method.isSynchronized, ← hfl, ff.1, hasFlag, Acc.synchronized]
def La5_σ : Lambda.Shape := laV "lambda$new$4"
def La5_D : ClassFile := (La5_σ.file laM).getD laDef
def La5_forwarder : Method := ((layoutMethods La5_D).bind (·[1]?)).getD default
theorem La5_file_is : La5_σ.file laM = some La5_D := by
  have h : (La5_σ.file laM).isSome = true := by decide +kernel
  obtain ⟨x, hx⟩ := Option.isSome_iff_exists.mp h
  simp [La5_D, hx]
theorem La5_second_is : ∀ ms, layoutMethods La5_D = some ms → ms[1]? = some La5_forwarder := by
  intro ms hms
  have h : ((layoutMethods La5_D).bind (·[1]?)).isSome = true := by decide +kernel
  obtain ⟨x, hx⟩ := Option.isSome_iff_exists.mp h
  have hf : La5_forwarder = x := by simp [La5_forwarder, hx]
  rw [hms] at hx
  rw [hf]
  exact hx
theorem La5_f_code : (La5_forwarder.code.map fun c => (c.code.data, c.maxLocals)) = some (laBV.data, 4) := by decide +kernel
theorem La5_f_flags : (La5_forwarder.accessFlags, La5_forwarder.name, La5_forwarder.sig.returnType) = (0x0001, "act", (none : Option FieldType)) := by decide +kernel
theorem La5_eM : La5_D.constantPool[22]? = some (.methodref 19 21) ∧ La5_D.constantPool.className? 19 = some laM ∧ La5_D.constantPool.nameAndType? 21 = some ("lambda$new$4", "([III)V") := by decide +kernel
theorem La5_eC : La5_D.constantPool[19]? = some (.class_ 18) ∧ La5_D.constantPool.string? 18 = some laM ∧ 19 ≠ La5_D.thisClass := by decide +kernel
def La5_laid : Array Field × Array FieldType × Array FieldType := (layoutFields La5_D 0).getD (#[], #[], #[])
theorem La5_laid_is : layoutFields La5_D 0 = some La5_laid := by
  have h : (layoutFields La5_D 0).isSome = true := by decide +kernel
  obtain ⟨x, hx⟩ := Option.isSome_iff_exists.mp h
  simp [La5_laid, hx]
theorem La5_eF0 : La5_D.constantPool[15]? = some (.fieldref 2 14) ∧ La5_D.constantPool.nameAndType? 14 = some ("arg$1", "LLockstepRoom$Machine;") ∧ La5_laid.1.findIdx? (·.name == "arg$1") = some 0 ∧ (La5_laid.1[0]?).map (fun f => (f.isStatic, f.slot)) = some (false, 0) := by decide +kernel
theorem La5_laid_types : La5_laid.2.1 = #[.object laM] := by decide +kernel
theorem La5_made {e : Setting} {vm : Vm} {d c : ClassId} {dk : Class} (hd : vm.classes[d]? = some dk) (hname : dk.name = laM) (h : Lambda.isMade e vm d La5_σ c = true)
    (hO : ∀ o ok, vm.findClass "java/lang/Object" = some o → vm.classes[o]? = some ok → ok.instanceTypes.size = 0) : laBase vm c laBV ∧ laCall e vm c 22 19 21 "lambda$new$4" ∧ laFld vm c := by
  obtain ⟨dk', k, ok, tk, file, cf, object, iface, toy, lay, methods, target, found, hd', hk, hfile, hcf, hobj, -, hok, hlay, hms, ht, htk, hg, -, hrec, -, -, -, hitf, hpool, hmeth, hfields, hty, hres, -⟩ := Lambda.isMade_spec h
  cases hd.symm.trans hd'
  rw [hname, La5_file_is] at hcf
  cases hcf
  have hok0 : ok.instanceTypes = #[] := Array.eq_empty_of_size_eq_zero (hO object ok hobj hok)
  rw [hO object ok hobj hok, La5_laid_is] at hlay
  cases hlay
  obtain ⟨g0, hg0, hp0⟩ := Option.map_eq_some_iff.mp La5_eF0.2.2.2
  simp only [Prod.mk.injEq] at hp0
  obtain ⟨b, hb, hsame⟩ := hmeth 1 La5_forwarder (La5_second_is methods hms)
  simp only [Lambda.sameMethod, Bool.and_eq_true, decide_eq_true_eq] at hsame
  obtain ⟨⟨hn, -, hsig, hfl⟩, hcode⟩ := hsame
  have fc := La5_f_code
  have ff := La5_f_flags
  simp only [Prod.mk.injEq] at ff
  cases hfc : La5_forwarder.code with
  | none => rw [hfc] at fc; cases fc
  | some x =>
    cases hbc : b.code with
    | none => simp [hfc, hbc] at hcode
    | some y =>
      simp only [hfc, hbc, Bool.and_eq_true, decide_eq_true_eq] at hcode
      simp only [hfc, Option.map_some, Option.some.injEq, Prod.mk.injEq] at fc
      refine ⟨⟨k, b, y, hk, by rw [hrec.1, hname]; rfl, by simp [Vm.method?, hk, hb], hbc, ?_, by rw [← hcode.1.1.1.1.2.1]; exact fc.2, ?_, by rw [← hfl]; exact ff.1, by rw [← hsig]; exact ff.2.2⟩,
        ⟨k, tk, file, toy, target, hk, hfile, by rw [hpool.2.1]; exact La5_eM.1, by rw [hpool.2.1]; exact La5_eM.2.2, ht, htk, hitf, hg, ⟨k, hk, hres 22 _ (Lambda.resolvedOf_method La5_eM.1 La5_eM.2.1 ht htk La5_eM.2.2 hg)⟩, ⟨k, hk, hres 19 _ (Lambda.resolvedOf_class La5_eC.1 La5_eC.2.2 La5_eC.2.1 ht)⟩⟩,
        ⟨k, g0, hk, ⟨k, 0, k, hk, hres 15 _ (Lambda.resolvedOf_field La5_eF0.1 La5_eF0.2.1 La5_eF0.2.2.1), hk, hfields 0 _ hg0⟩, hp0.1, hp0.2, by rw [hty.1, hok0, La5_laid_types]; rfl, hrec.2.1⟩⟩
      · rw [← hcode.1.1.1.1.2.2]
        exact ByteArray.ext fc.1
      · simp [Method.locks, Method.isSynchronized, ← hfl, ff.1, hasFlag, Acc.synchronized]
