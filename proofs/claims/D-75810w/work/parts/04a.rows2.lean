/-! statics, Strings, casts, arrays of references, copies -/
set_option maxRecDepth 100000
section
variable {x : Cx} {cc : ByteArray} {own : String} {nL : Nat} {ret : Option FieldType} {rm : Room} {Q : State → Prop} {pc : Nat} {lv lv' : List (Nat × aV)} {st rest As : List aV} {h : hH} {c k : Nat}
  {i n t N : Nat} {C nm : String} {T : u_T}
theorem Fx.oldS (F : Fx x cc own nL ret rm) : Old x.s0 x.s.heap := F.2.2.2.2.2.2.2.2.2.2.2
theorem Fx.zS (F : Fx x cc own nL ret rm) {locs : List Loc} {H : Heap} (hw : Hw x h H locs) : va_S (hA x.s0) x.s.heap H locs :=
  ⟨hw.2.1, fun q _ h2 => by
    have h3 : q < x.s0.heap.size := Nat.not_le.mp h2
    rw [hw.1.2 q h3, F.oldS.2 q h3], hw.2.2.1⟩
theorem Fx.zZ (F : Fx x cc own nL ret rm) {n' ds : String} {v : Value} (hZ : va_Z C n' ds v (hA x.s0) x.s0 x.s0.heap) : va_Z C n' ds v (hA x.s0) x.s x.s.heap :=
  va_Z.kept (va_Z.moved F.al hZ) (fun a _ h2 => F.oldS.2 a (Nat.not_le.mp h2))
theorem g_gets {a : aV} {n' ds : String} (F : Fx x cc own nL ret rm) (d : decode cc pc = .ok (.getstatic i, 3)) (qz : (C, n', ds, vv a) ∈ SZ x.S.E) (ql : Cond.fieldLink own i C n' ds ∈ lw_all ∨ ∃ host, Cond.fieldLinkNest own i C n' ds host ∈ lw_tbl) (kk : G x Q (pc + 3) lv (a :: st) h c k) : G x Q pc lv st h c k := by
  intro H locs ls hw hl
  have hZ := F.zZ (F.ok.2.2.2.1 _ qz)
  rcases ql with ql | ⟨host, ql⟩
  · exact va_gets F.1 F.2.1 hZ (F.zS hw) F.2.2.2.1 (F.ts _ ql) (fun _ q => q) d (kk H locs ls hw hl)
  · exact va_getsN F.1 F.2.1 hZ (F.zS hw) F.2.2.2.1 (F.nest ql) (fun _ q => q) d (kk H locs ls hw hl)
/-- a static of which only a reference or null is known -/
theorem g_getsU (F : Fx x cc own nL ret rm) (d : decode cc pc = .ok (.getstatic i, 3)) (ql : Cond.fieldLink own i "jdk/internal/util/Preconditions" "SIOOBE_FORMATTER" "Ljava/util/function/BiFunction;" ∈ lw_all) {K : Option Nat → Prop} (hk : ∀ r, K r) (kk : ∀ r, K r → G x Q (pc + 3) lv (aR r :: st) h c k) : G x Q pc lv st h c k := by
  intro H locs ls hw hl
  rcases F.ok.2.2.2.2.2.1 with hZ | ⟨t, hZ⟩
  · exact va_gets F.1 F.2.1 (F.zZ hZ) (F.zS hw) F.2.2.2.1 (F.ts _ ql) (fun _ q => q) d (kk none (hk _) H locs ls hw hl)
  · exact va_gets F.1 F.2.1 (F.zZ hZ) (F.zS hw) F.2.2.2.1 (F.ts _ ql) (fun _ q => q) d (kk (some t) (hk _) H locs ls hw hl)
theorem g_ldcS {a : Nat} {tx : String} (F : Fx x cc own nL ret rm) (d : decode cc pc = .ok (.ldc i, 2)) (qk : (own, i, tx, a) ∈ SK x.S.E) (kk : G x Q (pc + 2) lv (aR (some a) :: st) h c k) : G x Q pc lv st h c k := by
  intro H locs ls hw hl
  exact va_ldcS F.1 F.2.1 F.2.2.2.1 (vk_R.warm F.hot (F.ok.2.2.2.2.1 _ qk)) d (kk H locs ls hw hl)
/-! casts -/
theorem g_castS {r : Option Nat} {K : Prop} (F : Fx x cc own nL ret rm) (d : decode cc pc = .ok (.checkcast i, 3)) (ql : Cond.classLink own i C ∈ lw_all) (ht : CL[t]? = some (C, T, N)) (hk : ckT h r t K) (kk : K → G x Q (pc + 3) lv (aR r :: st) h c k) : G x Q pc lv (aR r :: st) h c k := by
  intro H locs ls hw hl
  cases r with
  | none => exact lv_castN F.1 F.2.1 d (kk hk.2 H locs ls hw hl)
  | some a =>
    obtain ⟨fl, fs, ha⟩ := hk.1 a rfl
    exact va_castS F.1 F.2.1 F.2.2.2.1 (F.ts _ ql) (F.2.2.2.2.2.1.1 t _ ht).2 (rc_at F hw ht ha) d (kk hk.2 H locs ls hw hl)
theorem Fx.castable (F : Fx x cc own nL ret rm) (q : Cond.castable C nm ∈ lw_tbl) : va_Nw (.castable C nm) x.s := by
  obtain ⟨b, hb, -⟩ := F.ok.2.1
  exact va_Nw.warmC F.hot (va_Nw.of rfl (hb _ q))
theorem g_castY {r : Option Nat} {K : Prop} (F : Fx x cc own nL ret rm) (d : decode cc pc = .ok (.checkcast i, 3)) (ql : Cond.classLink own i nm ∈ lw_all) (qc : Cond.castable C nm ∈ lw_tbl) (ht : CL[t]? = some (C, T, N)) (hk : ckT h r t K) (kk : K → G x Q (pc + 3) lv (aR r :: st) h c k) : G x Q pc lv (aR r :: st) h c k := by
  intro H locs ls hw hl
  cases r with
  | none => exact lv_castN F.1 F.2.1 d (kk hk.2 H locs ls hw hl)
  | some a =>
    obtain ⟨fl, fs, ha⟩ := hk.1 a rfl
    exact va_castY F.1 F.2.1 F.2.2.2.1 (F.ts _ ql) (F.castable qc) (rc_at F hw ht ha) d (kk hk.2 H locs ls hw hl)
theorem g_castA {r : Option Nat} {K : Prop} (F : Fx x cc own nL ret rm) (d : decode cc pc = .ok (.checkcast i, 3)) (ql : Cond.classLink own i nm ∈ lw_all) (hnm : x.s.vm.findClass nm = some (x.dA t)) (hk : ckA h r t K) (kk : K → G x Q (pc + 3) lv (aR r :: st) h c k) : G x Q pc lv (aR r :: st) h c k := by
  intro H locs ls hw hl
  cases r with
  | none => exact lv_castN F.1 F.2.1 d (kk hk.2 H locs ls hw hl)
  | some a =>
    obtain ⟨⟨m, f⟩, ha⟩ := hk.1 a rfl
    have hP := sg_P ((hw.2.2.2 a true t _ ha).1 rfl).2
    rcases f with f | f | f
    · exact va_castA F.1 F.2.1 F.2.2.2.1 (F.ts _ ql) hP 0 rfl hnm d (kk hk.2 H locs ls hw hl)
    · exact va_castA F.1 F.2.1 F.2.2.2.1 (F.ts _ ql) hP 0 rfl hnm d (kk hk.2 H locs ls hw hl)
    · exact va_castA F.1 F.2.1 F.2.2.2.1 (F.ts _ ql) hP 0 rfl hnm d (kk hk.2 H locs ls hw hl)
theorem Fx.arr0 (F : Fx x cc own nL ret rm) : x.s.vm.findClass "[I" = some (x.dA 0) := (F.2.2.2.2.2.1.2 0 _ rfl).2
theorem Fx.arr1 (F : Fx x cc own nL ret rm) : x.s.vm.findClass "[B" = some (x.dA 1) := (F.2.2.2.2.2.1.2 1 _ rfl).2
theorem Fx.arr4 (F : Fx x cc own nL ret rm) : x.s.vm.findClass "[Ljava/lang/Object;" = some (x.dA 4) := (F.2.2.2.2.2.1.2 4 _ rfl).2.choose_spec.choose_spec.2.2.2
theorem Fx.arr5 (F : Fx x cc own nL ret rm) : x.s.vm.findClass "[LLockstepRoom$Command;" = some (x.dA 5) := (F.2.2.2.2.2.1.2 5 _ rfl).2.choose_spec.choose_spec.2.2.2
theorem Fx.arr6 (F : Fx x cc own nL ret rm) : x.s.vm.findClass "[Ljava/util/HashMap$Node;" = some (x.dA 6) := (F.2.2.2.2.2.1.2 6 _ rfl).2.choose_spec.choose_spec.2.2.2
theorem g_instS {r : Option Nat} {K : Int32 → Prop} (F : Fx x cc own nL ret rm) (d : decode cc pc = .ok (.instanceof i, 3)) (ql : Cond.classLink own i C ∈ lw_all) (ht : CL[t]? = some (C, T, N)) (hk : ioY h r t K) (kk : ∀ v, K v → G x Q (pc + 3) lv (aI v :: st) h c k) : G x Q pc lv (aR r :: st) h c k := by
  intro H locs ls hw hl
  cases r with
  | none => exact lv_instN F.1 F.2.1 d (kk 0 (hk.1 rfl) H locs ls hw hl)
  | some a =>
    obtain ⟨⟨fl, fs, ha⟩, h1⟩ := hk.2 a rfl
    exact va_instS F.1 F.2.1 F.2.2.2.1 (F.ts _ ql) (F.2.2.2.2.2.1.1 t _ ht).2 (rc_at F hw ht ha) d (kk 1 h1 H locs ls hw hl)
theorem g_instY {r : Option Nat} {K : Int32 → Prop} (F : Fx x cc own nL ret rm) (d : decode cc pc = .ok (.instanceof i, 3)) (ql : Cond.classLink own i nm ∈ lw_all) (qc : Cond.castable C nm ∈ lw_tbl) (ht : CL[t]? = some (C, T, N)) (hk : ioY h r t K) (kk : ∀ v, K v → G x Q (pc + 3) lv (aI v :: st) h c k) : G x Q pc lv (aR r :: st) h c k := by
  intro H locs ls hw hl
  cases r with
  | none => exact lv_instN F.1 F.2.1 d (kk 0 (hk.1 rfl) H locs ls hw hl)
  | some a =>
    obtain ⟨⟨fl, fs, ha⟩, h1⟩ := hk.2 a rfl
    exact va_instY F.1 F.2.1 F.2.2.2.1 (F.ts _ ql) (F.castable qc) (rc_at F hw ht ha) d (kk 1 h1 H locs ls hw hl)
/-- a pair of classes that the Statement says not castable -/
theorem Fx.notc (F : Fx x cc own nL ret rm) (q : Cond.not (.castable C nm) ∈ flatC (Jvm.Cond.and given_1 narrow_1)) : va_Nc C nm x.s := by
  obtain ⟨b, -, hb⟩ := F.ok.2.1
  exact va_Nc.moved F.al (va_Nc.of (flat_of_before _ hb _ q))
theorem g_instNo {r : Option Nat} {K : Int32 → Prop} (F : Fx x cc own nL ret rm) (d : decode cc pc = .ok (.instanceof i, 3)) (ql : Cond.classLink own i nm ∈ lw_all) (hN : va_Nc C nm x.s) (ht : CL[t]? = some (C, T, N)) (hk : ioN h r t K) (kk : ∀ v, K v → G x Q (pc + 3) lv (aI v :: st) h c k) : G x Q pc lv (aR r :: st) h c k := by
  intro H locs ls hw hl
  cases r with
  | none => exact lv_instN F.1 F.2.1 d (kk 0 hk.2 H locs ls hw hl)
  | some a =>
    obtain ⟨fl, fs, ha⟩ := hk.1 a rfl
    exact va_instNo F.1 F.2.1 F.2.2.2.1 (F.ts _ ql) hN (rc_at F hw ht ha) d (kk 0 hk.2 H locs ls hw hl)
end
