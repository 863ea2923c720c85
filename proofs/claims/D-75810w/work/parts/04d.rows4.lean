/-! calls of methods with handlers -/
set_option maxRecDepth 100000
section
variable {x : Cx} {cc : ByteArray} {own : String} {nL : Nat} {ret : Option FieldType} {rm : Room} {Q : State → Prop} {pc : Nat} {lv lv' : List (Nat × aV)} {st rest As : List aV} {h : hH} {c k : Nat}
  {i n t N maxL : Nat} {C : String} {T : u_T} {y y0 : MethodName} {bytes : ByteArray} {ret' : Option FieldType} {rm' : Room} {R : Option Value → hH → Prop} {hh : List (Nat × Nat × Nat × Nat)}
theorem g_VW {r : Option Nat} {P : Nat → Prop} (F : Fx x cc own nL ret rm) (d : decode cc pc = .ok (.invokevirtual i, 3)) (q1 : Cond.methodLink own i y ∈ lw_all) (q2 : Cond.instanceMethod y ∈ lw_all) (q3 : Cond.selects C y y ∈ lw_all) (q4 : Cond.initialized C ∈ lw_all) (q5 : Cond.codeWith y bytes maxL ret' hh ∈ lw_all) (hc : y.cls = C) (hd : MOk y n) (ht : CL[t]? = some (C, T, N)) (hR : ROk rm' rm maxL) (hf : BOk rm' rm c k)
    (hn : As.length = n) (hst : st = As.reverse ++ aR r :: rest) (hW : (rest.map ac).sum ≤ 8) (hk : isT h r t P) (hM : ∀ a, P a → Ct x.S y (wsW_ y bytes maxL ret' hh) rm' ((aR (some a) :: As).map vv) h R) : Run x pc lv st rest h c k rm' R := by
  obtain ⟨a, fl, fs, rfl, ha, hk⟩ := hk
  intro H locs ls hw hl
  exact vx_runVW (As := As.map vv) (b := a) F.fix (hM a hk) (vx_cwVW n F.ts (lw_VW q1 q2 q3 q4 q5) rfl rfl rfl ⟨hc, hd⟩ (by rw [F.rmE]; exact hR)) ⟨GW_blind, rc_at F hw ht ha, pre_at F hw⟩ rfl (by rw [List.length_map]; exact hn) (hl.1.trans F.2.2.1) (by subst hst; show List.map vv _ = _; rw [List.map_append, List.map_reverse]; rfl) (lv_room (by rw [cat_sum]; exact hW)) d (by rw [F.rmE]; exact hf)
/-- a contract of a method of a class that the machine has entries for, though not for this method -/
theorem Ct.ofF {S : Sx} (hS : Sok S) {y : MethodName} {av : List aV} (hy : plainFor y = true) (ho : y.cls = own) (hl : aLen av ≤ nL)
    (body : ∀ x : Cx, x.S = S → Fx x cc own nL ret rm → x.meth.name = y.name → G x (xQ x rm R) 0 (aArgs 0 av) [] h 0 0) : Ct S y (ws_ y cc nL ret) rm (av.map vv) h R := by
  refine va_MetF (cc := cc) (maxL := nL) (ret := ret) hy rfl ?_
  intro p e s m args below meth c s₁ B hml hv
  obtain ⟨rfl, hW, hO, hR⟩ := hv
  have hts := atoms_spec (ws := ws_ y cc nL ret) B.pre
  have hts : ∀ w ∈ lw_all, w.before _ s = true := fun w h => hts w (List.mem_cons_of_mem _ h)
  have hown : s.vm.findClass own = some m.cls := by rw [← ho]; exact findClass_of_methodNamed B.named
  have hnm : meth.name = y.name := (name_of_methodNamed B.named B.method).1
  have hb := body ((p, e, rm), (s, m, (av.map vv).toArray, below), (meth, c), S) rfl ⟨B.exec, B.bytes, hml, hown, hts, va_K.moved hW.alike hS.1, B.notSynchronized, B.returns, rfl, hW, hS, hO⟩ hnm
  have hlv := lv_entry (av.map vv) (n := nL) (by rw [aLen_eq]; exact hl)
  rw [lg_entry_eq]
  rw [← aArgs_eq] at hlv
  exact hb s.heap [] _ ⟨hO, Nat.le_refl _, (fun q hq => by cases hq), hR⟩ (by rw [hml]; exact hlv)
end
