/-! LAMBDAS: their objects in an array; a contract that knows its method's number -/
set_option maxRecDepth 100000
theorem la_shS (n : String) : (laS n).iface = "LockstepRoom$Rule" ∧ (laS n).name = "act" ∧ (laS n).sam.toString = "([III)V" := ⟨rfl, rfl, by show laA.toString = _; decide +kernel⟩
theorem la_shV (n : String) : (laV n).iface = "LockstepRoom$Rule" ∧ (laV n).name = "act" ∧ (laV n).sam.toString = "([III)V" := ⟨rfl, rfl, by show laA.toString = _; decide +kernel⟩
section
variable {x : Cx} {cc : ByteArray} {own : String} {nL : Nat} {ret : Option FieldType} {rm : Room} {Q : State → Prop} {pc : Nat} {lv lv' : List (Nat × aV)} {st rest As : List aV} {h : hH} {c k : Nat}
  {n t N maxL : Nat} {C : String} {y y0 : MethodName} {bytes : ByteArray} {σ : Lambda.Shape} {c0 : ClassId} {one : Option Addr}
theorem any_la {H : Heap} {pc0 i0 : Nat} {b : Addr} {cell : Cell} (F : Fx x cc own nL ret rm) (hs : x.s0.lambdaAt? y0 pc0 i0 σ = some (c0, one)) (hσ : σ.iface = "LockstepRoom$Rule") (hc : H[b]? = some cell) (hcc : cell.cls = c0) (hcv : cell.vm = .none) : va_Any "LockstepRoom$Rule" x.s H b := by
  obtain ⟨m, kc, cf, _, _, lk, hm, hk, hcf, hsh, hfind, hmade, hcan, -⟩ := la_at F hs
  obtain ⟨_, kK, _, _, _, _, _, _, _, _, _, _, _, -, hkK, -⟩ := Lambda.isMade_spec hmade
  refine ⟨cell, hc, by rw [hcv]; rfl, ⟨kK, by rw [hcc]; exact hkK⟩, fun comp hcomp => ?_⟩
  obtain ⟨i2, hi2, hasg, -⟩ := State.lambdaCallable_spec hcan
  rw [hσ] at hi2
  cases hcomp.symm.trans hi2
  rw [hcc]
  exact hasg
theorem any_laC {pc0 i0 : Nat} {a : Addr} (F : Fx x cc own nL ret rm) (hs : x.s0.lambdaAt? y0 pc0 i0 σ = some (c0, some a)) (hσ : σ.iface = "LockstepRoom$Rule") : ∀ (H : Heap) (locs : List Loc), Hw x h H locs → va_Any "LockstepRoom$Rule" x.s H a := by
  intro H locs hw
  obtain ⟨_, _, _, _, _, _, _, _, _, _, _, _, _, hx⟩ := la_at F hs
  rcases hx with ⟨a', cell, -, h2, hc, hcc, hcv⟩ | ⟨-, h2⟩
  · cases h2
    exact any_la F hs hσ (by rw [hw.1.2 a (Array.getElem?_eq_some_iff.mp hc).1]; exact hc) hcc hcv
  · cases h2
theorem any_laM {pc0 i0 : Nat} {b : Addr} (F : Fx x cc own nL ret rm) (hs : x.s0.lambdaAt? y0 pc0 i0 σ = some (x.dA t, one)) (hσ : σ.iface = "LockstepRoom$Rule") (hb : laAt h b t) : ∀ (H : Heap) (locs : List Loc), Hw x h H locs → va_Any "LockstepRoom$Rule" x.s H b := by
  intro H locs hw
  obtain ⟨g, hb⟩ := hb
  have hc : H[b]? = some (arrV (x.dA t) 1 fun j => va_rf (g j)) := ((hw.2.2.2 b true t _ hb).1 rfl).2
  exact any_la F hs hσ hc rfl rfl
theorem g_aastR {r : Option Nat} {b : Nat} {i : Int32} {K : hH → Prop} (F : Fx x cc own nL ret rm) (d : decode cc pc = .ok (.aastore, 1)) (hin : ∀ (H : Heap) (locs : List Loc), Hw x h H locs → va_Any "LockstepRoom$Rule" x.s H b) (hk : stR h r i b K) (kk : ∀ h', K h' → G x Q (pc + 1) lv st h' c k) : G x Q pc lv (aR (some b) :: aI i :: aR r :: st) h c k := by
  obtain ⟨a, n, f, rfl, ha, hi, hk⟩ := hk
  intro H locs ls hw hls
  obtain ⟨ws, q0, A', h0, hP, hD, hS, K1⟩ := wr_put hw ha
  exact va_astqM F.1 F.2.1 F.2.2.2.2.2.1 hP hD hS q0 7 h0 rfl (hin H locs hw) hi d (fun H1 locs1 hP1 _ hS1 => kk _ hk H1 locs1 ls (K1 (.inr (n, .inr (.inr (va_up f i.toNatClampNeg (some b))))) _ _ hP1 hS1) hls)
theorem Ct.ofN {S : Sx} (hS : Sok S) {y : MethodName} {av : List aV} {R : Option Value → hH → Prop} (hy : plainName y.cls = true) (ho : y.cls = own) (hl : aLen av ≤ nL)
    (body : ∀ x : Cx, x.S = S → Fx x cc own nL ret rm → x.meth.name = y.name → x.s.methodNamed? y = some x.m → G x (xQ x rm R) 0 (aArgs 0 av) [] h 0 0) : Ct S y (ws_ y cc nL ret) rm (av.map vv) h R := by
  refine Met.ofW (cc := cc) (maxL := nL) (ret := ret) hy rfl ?_
  intro p e s m args below meth c s₁ B hml hv
  obtain ⟨rfl, hW, hO, hR⟩ := hv
  have hts := atoms_spec (ws := ws_ y cc nL ret) B.pre
  have hts : ∀ w ∈ lw_all, w.before _ s = true := fun w h => hts w (List.mem_cons_of_mem _ h)
  have hown : s.vm.findClass own = some m.cls := by rw [← ho]; exact findClass_of_methodNamed B.named
  have hnm : meth.name = y.name := (name_of_methodNamed B.named B.method).1
  have hb := body ((p, e, rm), (s, m, (av.map vv).toArray, below), (meth, c), S) rfl ⟨B.exec, B.bytes, hml, hown, hts, va_K.moved hW.alike hS.1, B.notSynchronized, B.returns, rfl, hW, hS, hO⟩ hnm B.named
  have hlv := lv_entry (av.map vv) (n := nL) (by rw [aLen_eq]; exact hl)
  rw [lg_entry_eq]
  rw [← aArgs_eq] at hlv
  exact hb s.heap [] _ ⟨hO, Nat.le_refl _, (fun q hq => by cases hq), hR⟩ (by rw [hml]; exact hlv)
end
