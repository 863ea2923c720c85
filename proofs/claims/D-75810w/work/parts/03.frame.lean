set_option maxRecDepth 100000
def TX4 : u_T := fun _ => ("", "", "", false)
def tyX4 : Nat → FieldType := fun _ => .int
def TX17 : u_T := fun _ => ("", "", "", false)
def tyX17 : Nat → FieldType := fun _ => .int
abbrev CL : List vw_C := [(RX1, TX1, 6), (RX2, TX2, 8), (RX3, TX3, 2), (RX5, TX5, 27), (RX6, TX6, 13), (RX8, TX8, 5), (RX9, TX9, 4), (RX10, TX10, 10), (RX11, TX11, 1), (RX12, TX12, 5), (RX13, TX13, 3), (RX14, TX14, 3), (RX15, TX15, 1), (RX16, TX16, 2), (RX4, TX4, 0), (RX17, TX17, 0), (RJ2, TJ2, 3), (RJ4, TJ4, 4), (RJ42, TJ42, 6), (RJ5, TJ5, 3), (RJ7, TJ7, 4), (RJ8, TJ8, 4), (RJ20, TJ20, 1), (RJ24, TJ24, 9), (RJ25, TJ25, 6), (RJ37, TJ37, 1), (RJ41, TJ41, 4), (RJ30, TJ30, 8), (RJ32, TJ32, 4), (RX7, TX7, 7), (RJ27, TJ27, 6)]
/-! THE FRAMEWORK: an abstract heap, the judgement Go, rows an instruction -/
def TYS (dA : Nat → ClassId) : List (ClassId × FieldType) := [(dA 0, aTy 0), (dA 1, aTy 1), (dA 2, aTy 2), (dA 3, aTy 3), (dA 4, aTy 4), (dA 5, aTy 5), (dA 6, aTy 6), (dA 7, aTy 7)]
def cvE (dA : Nat → ClassId) (t : Nat) (c : hV) : va_E := match c with
  | .inl fs => .inr (t, fs)
  | .inr (n, .inl f) => .inl (dA t, n, .inl f)
  | .inr (n, .inr (.inl f)) => .inl (dA t, n, .inr (.inl f))
  | .inr (n, .inr (.inr g)) => .inl (dA t, n, .inr (.inr (.inr (.inr g))))
/-- a cell that was there at the start of the law, which is never written -/
def oldAt (D : va_G) (s0 : State) (a t : Nat) (c : hV) : Prop := a < s0.heap.size ∧ match c with
  | .inl fs => ∃ (cell : Cell) (r : vw_C), s0.heap[a]? = some cell ∧ CL[t]? = some r ∧ s0.vm.findClass r.1 = some cell.cls ∧ cell.vm.isStatics = false ∧ cell.vm ≠ .unknown ∧ ∀ (k : Nat) (v : Value), k < r.2.2 → fs[k]? = some v → cell.slots[D.2 t k]? = some v
  | .inr (n, .inl f) => ∃ cell : Cell, s0.heap[a]? = some cell ∧ s0.isArrayOf cell (aTy t) ∧ cell.vm ≠ .unknown ∧ cell.slots.size = n ∧ (∀ j : Nat, j < n → cell.slots[j]? = some (.int (f j))) ∧ (t = 0 → cell.vm.isStatics = false ∧ s0.vm.findClass "[I" = some cell.cls)
  | .inr (_, .inr (.inl _)) => False
  | .inr (n, .inr (.inr g)) => ∃ cell : Cell, s0.heap[a]? = some cell ∧ s0.isArrayOf cell (aTy t) ∧ cell.vm ≠ .unknown ∧ cell.slots.size = n ∧ ∀ j : Nat, j < n → cell.slots[j]? = some (va_rf (g j))
def Rp (D : va_G) (dA : Nat → ClassId) (s0 : State) (h : hH) (H : Heap) : Prop := ∀ (a : Nat) (fl : Bool) (t : Nat) (c : hV), h a = some (fl, t, c) → (fl = true → s0.heap.size ≤ a ∧ va_at D CL (a, cvE dA t c) H) ∧ (fl = false → oldAt D s0 a t c)
def Old (s0 : State) (H : Heap) : Prop := s0.heap.size ≤ H.size ∧ ∀ q : Nat, q < s0.heap.size → H[q]? = s0.heap[q]?
/-- what is fixed all through the law's run: the launch, the state at its start, the numbers of classes, slots and array classes -/
abbrev Sx : Type := Launch × State × va_G × (Nat → ClassId) × (Nat → Nat)
abbrev Sx.l (S : Sx) : Launch := S.1
abbrev Sx.s0 (S : Sx) : State := S.2.1
abbrev Sx.D (S : Sx) : va_G := S.2.2.1
abbrev Sx.dA (S : Sx) : Nat → ClassId := S.2.2.2.1
/-- the addresses of constants: statics, Strings -/
abbrev Sx.E (S : Sx) : Nat → Nat := S.2.2.2.2
def hA (s0 : State) : Nat → Prop := fun q => s0.heap.size ≤ q
/-- statics: class, name, descriptor, value (E: the addresses of constants) -/
def SZ (E : Nat → Nat) : List (String × String × String × Value) := [("LockstepRoom", "SETTING_FIRST", "[I", .ref (E 0)), ("LockstepRoom", "SETTING_MOST", "[I", .ref (E 1)), ("LockstepRoom$Token", "END", "LLockstepRoom$Token;", .ref (E 2)), ("LockstepRoom$Token", "WORD", "LLockstepRoom$Token;", .ref (E 3)), ("LockstepRoom$Token", "INTEGER", "LLockstepRoom$Token;", .ref (E 4)), ("LockstepRoom$Token", "SEMICOLON", "LLockstepRoom$Token;", .ref (E 5)), ("LockstepRoom$Token", "OTHER", "LLockstepRoom$Token;", .ref (E 6)), ("java/lang/Integer", "DigitOnes", "[B", .ref (E 7)), ("java/lang/Integer", "DigitTens", "[B", .ref (E 8)), ("java/lang/Integer$IntegerCache", "cache", "[Ljava/lang/Integer;", .ref (E 9)), ("java/util/ArrayList", "DEFAULTCAPACITY_EMPTY_ELEMENTDATA", "[Ljava/lang/Object;", .ref (E 10)), ("java/lang/Integer$IntegerCache", "high", "I", .int 127), ("java/lang/String", "COMPACT_STRINGS", "Z", .int 1)]
/-- String constants: class, entry, text, address -/
def SK (E : Nat → Nat) : List (String × Nat × String × Nat) := [("LockstepRoom$Parser", 49, "", E 20), ("LockstepRoom$Parser", 170, "start", E 21), ("LockstepRoom$Parser", 175, "member", E 22), ("LockstepRoom$Parser", 177, "do", E 23), ("LockstepRoom$Parser", 179, "seal", E 24), ("LockstepRoom$Parser", 181, "fault", E 25), ("LockstepRoom$Parser", 183, "set", E 26), ("LockstepRoom$Parser", 232, "put", E 27), ("LockstepRoom$Parser", 234, "add", E 28), ("LockstepRoom$Parser", 235, "copy", E 29), ("LockstepRoom$Parser", 237, "sum", E 30), ("LockstepRoom$Parser", 239, "swap", E 31), ("LockstepRoom$Parser", 241, "mul", E 32), ("LockstepRoom$Parser", 252, "lag", E 33), ("LockstepRoom$Parser", 254, "quorum", E 34), ("LockstepRoomModel", 229, "put add copy sum swap mul ", E 35), ("LockstepRoomModel", 245, "lag quorum ", E 36), ("LockstepRoomModel", 256, "start member do seal fault set ", E 37)]
/-- the sites of Machine's lambdas: the classes made for them, the one object of a site that captures nothing -/
abbrev laM : String := "LockstepRoom$Machine"
abbrev laA : MethodDescriptor := { parameters := [.array .int, .int, .int], returnType := none }
def laS (n : String) : Lambda.Shape := { iface := "LockstepRoom$Rule", name := "act", sam := laA, captured := [], kind := 6, implClass := laM, implName := n, implDesc := laA, implItf := false, inst := laA }
def laV (n : String) : Lambda.Shape := { iface := "LockstepRoom$Rule", name := "act", sam := laA, captured := [.object laM], kind := 5, implClass := laM, implName := n, implDesc := laA, implItf := false, inst := laA }
abbrev laI : MethodName := ⟨"LockstepRoom$Machine", "<init>", "()V"⟩
def laSites (S : Sx) : Prop := S.s0.lambdaAt? laI 19 17 (laS "lambda$new$0") = some (S.dA 10, some (S.E 12)) ∧ S.s0.lambdaAt? laI 28 21 (laV "lambda$new$1") = some (S.dA 11, none) ∧ S.s0.lambdaAt? laI 36 24 (laS "lambda$new$2") = some (S.dA 12, some (S.E 13)) ∧ S.s0.lambdaAt? laI 45 25 (laV "lambda$new$3") = some (S.dA 13, none) ∧ S.s0.lambdaAt? laI 54 26 (laV "swap") = some (S.dA 14, none) ∧ S.s0.lambdaAt? laI 63 27 (laV "lambda$new$4") = some (S.dA 15, none)
/-- what is known of the start -/
def Sok (S : Sx) : Prop := va_K S.D CL (TYS S.dA) S.s0 ∧ (∃ b : Addr, (∀ w ∈ lw_tbl, w.before #[Value.ref b] S.s0 = true) ∧ (Jvm.Cond.and given_1 narrow_1).before #[Value.ref b] S.s0 = true) ∧ S.l.flags = flags0 ∧ (∀ q ∈ SZ S.E, va_Z q.1 q.2.1 q.2.2.1 q.2.2.2 (hA S.s0) S.s0 S.s0.heap) ∧ (∀ q ∈ SK S.E, vk_R q.1 q.2.1 q.2.2.1 q.2.2.2 S.s0) ∧ va_Zq "jdk/internal/util/Preconditions" "SIOOBE_FORMATTER" "Ljava/util/function/BiFunction;" (hA S.s0) S.s0 S.s0.heap ∧ va_Mi "[Ljava/lang/Object;" (S.E 11) S.s0 ∧ vx_Zq Bundle.tN "UNASSIGNED_STACK" Bundle.steD (hA S.s0) S.s0 S.s0.heap ∧ vx_Zq Bundle.tN "SUPPRESSED_SENTINEL" Bundle.listD (hA S.s0) S.s0 S.s0.heap ∧ laSites S
/-- the world at a state -/
def GW (S : Sx) (h : hH) (U : State) : Prop := S.s0.WarmedH U.vm ∧ Old S.s0 U.heap ∧ Rp S.D S.dA S.s0 h U.heap
def hQ (S : Sx) (Q : Option Value → hH → Prop) : Array Value → State → Outcome → State → Prop := fun _ st oc t => ∃ (v : Option Value) (h' : hH), oc = .returned v ∧ Q v h' ∧ GW S h' t ∧ st.heap.size ≤ t.heap.size
/-- a method's contract: from the abstract heap h with these arguments it returns, with Q -/
def Ct (S : Sx) (y : MethodName) (ws : List Cond) (rm : Room) (av : List Value) (h : hH) (Q : Option Value → hH → Prop) : Prop :=
  Met S.l y ws rm (va_Pc av (GW S h)) (hQ S Q) rm.cells rm.slots (hA S.s0)
/-- the context of a walk -/
abbrev Cx : Type := (Program × Env × Room) × (State × MethodId × Array Value × List Frame) × (Method × Code) × Sx
abbrev Cx.p (x : Cx) : Program := x.1.1
abbrev Cx.e (x : Cx) : Env := x.1.2.1
abbrev Cx.R (x : Cx) : Room := x.1.2.2
abbrev Cx.s (x : Cx) : State := x.2.1.1
abbrev Cx.m (x : Cx) : MethodId := x.2.1.2.1
abbrev Cx.args (x : Cx) : Array Value := x.2.1.2.2.1
abbrev Cx.below (x : Cx) : List Frame := x.2.1.2.2.2
abbrev Cx.meth (x : Cx) : Method := x.2.2.1.1
abbrev Cx.c (x : Cx) : Code := x.2.2.1.2
abbrev Cx.S (x : Cx) : Sx := x.2.2.2
abbrev Cx.l (x : Cx) : Launch := x.S.l
abbrev Cx.s0 (x : Cx) : State := x.S.s0
abbrev Cx.D (x : Cx) : va_G := x.S.D
abbrev Cx.dA (x : Cx) : Nat → ClassId := x.S.dA
abbrev xW (x : Cx) (H : Heap) (locs : List Loc) (c k : Nat) (Q : State → Prop) (g : JFrame) : Prop := W x.p x.l x.e x.R x.s x.m x.args x.below x.meth x.c H locs c k Q g
/-- what is known of the heap -/
def Hw (x : Cx) (h : hH) (H : Heap) (locs : List Loc) : Prop := Old x.s0 H ∧ x.s.heap.size ≤ H.size ∧ (∀ q ∈ locs, x.s0.heap.size ≤ q.base) ∧ Rp x.D x.dA x.s0 h H
/-- THE JUDGEMENT: the machine at pc with locals lv, stack st, heap h, having used c cells of k slots, comes to Q -/
def Go (x : Cx) (Q : State → Prop) (pc : Nat) (lv : List (Nat × Value)) (st : List Value) (h : hH) (c k : Nat) : Prop := ∀ (H : Heap) (locs : List Loc) (ls : Array Slot), Hw x h H locs → lv_has ls x.c.maxLocals lv → xW x H locs c k Q (F0 x.m pc ls st)
/-- what a walk knows of its context -/
def Fx (x : Cx) (cc : ByteArray) (own : String) (nL : Nat) (ret : Option FieldType) (rm : Room) : Prop :=
  x.p.tables.exec = Jvm.exec ∧ x.c.code = cc ∧ x.c.maxLocals = nL ∧ x.s.vm.findClass own = some x.m.cls ∧ (∀ w ∈ lw_all, w.before x.args x.s = true) ∧ va_K x.D CL (TYS x.dA) x.s ∧ x.meth.locks = false ∧ x.meth.sig.returnType = ret ∧ x.R = rm ∧ x.s0.WarmedH x.s.vm ∧ Sok x.S ∧ Old x.s0 x.s.heap
/-- abstract values: an int, a reference, a long, a double, a float -/
abbrev aV : Type := Int32 ⊕ (Option Nat ⊕ (Int64 ⊕ (UInt64 ⊕ UInt32)))
abbrev aI (x : Int32) : aV := .inl x
abbrev aR (r : Option Nat) : aV := .inr (.inl r)
abbrev aL (x : Int64) : aV := .inr (.inr (.inl x))
abbrev aD (x : UInt64) : aV := .inr (.inr (.inr (.inl x)))
abbrev aF (x : UInt32) : aV := .inr (.inr (.inr (.inr x)))
def vv : aV → Value
  | .inl x => .int x
  | .inr (.inl r) => va_rf r
  | .inr (.inr (.inl x)) => .long x
  | .inr (.inr (.inr (.inl x))) => .double x
  | .inr (.inr (.inr (.inr x))) => .float x
def ac : aV → Nat
  | .inl _ => 1
  | .inr (.inl _) => 1
  | .inr (.inr (.inl _)) => 2
  | .inr (.inr (.inr (.inl _))) => 2
  | .inr (.inr (.inr (.inr _))) => 1
theorem vv_cat (a : aV) : (vv a).category = ac a := by
  rcases a with x | r | x | x | x
  · rfl
  · cases r <;> rfl
  · rfl
  · rfl
  · rfl
def vL (l : List (Nat × aV)) : List (Nat × Value) := l.map (fun q => (q.1, vv q.2))
/-- THE JUDGEMENT over abstract values -/
def G (x : Cx) (Q : State → Prop) (pc : Nat) (lv : List (Nat × aV)) (st : List aV) (h : hH) (c k : Nat) : Prop := Go x Q pc (vL lv) (st.map vv) h c k
section
variable {x : Cx} {cc : ByteArray} {own : String} {nL : Nat} {ret : Option FieldType} {rm : Room} {Q : State → Prop} {pc : Nat} {lv lv' : List (Nat × aV)} {st st' : List aV} {h : hH} {c k : Nat}
theorem G.lift {pc' : Nat} (f : ∀ (H : Heap) (locs : List Loc) (ls : Array Slot), lv_has ls x.c.maxLocals (vL lv) → xW x H locs c k Q (F0 x.m pc' ls (st'.map vv)) → xW x H locs c k Q (F0 x.m pc ls (st.map vv))) (g : G x Q pc' lv st' h c k) : G x Q pc lv st h c k :=
  fun H locs ls hw hl => f H locs ls hl (g H locs ls hw hl)
theorem vL_at {j i : Nat} {a : aV} (hj : lv[j]? = some (i, a)) : (vL lv)[j]? = some (i, vv a) := by
  unfold vL
  rw [List.getElem?_map, hj]
  rfl
/-- fewer locals -/
def lvSub : List (Nat × aV) → List (Nat × aV) → Prop
  | [], _ => True
  | q :: l, m => q ∈ m ∧ lvSub l m
theorem lvSub.mem {l m : List (Nat × aV)} (hs : lvSub l m) : ∀ q ∈ l, q ∈ m := by
  induction l with
  | nil => intro q hq; cases hq
  | cons a l ih =>
    intro q hq
    rcases List.mem_cons.mp hq with e | e
    · rw [e]; exact hs.1
    · exact ih hs.2 q e
theorem G.fewer (is : List Nat) (hs : is.filterMap (fun i => lv[i]?) = lv') (g : G x Q pc lv' st h c k) : G x Q pc lv st h c k := by
  intro H locs ls hw hl
  refine g H locs ls hw ⟨hl.1, hl.2.1, fun q hq => ?_⟩
  refine hl.2.2 q ?_
  unfold vL at hq ⊢
  obtain ⟨a, ha, e⟩ := List.mem_map.mp hq
  refine List.mem_map.mpr ⟨a, ?_, e⟩
  rw [← hs] at ha
  obtain ⟨i, -, hi⟩ := List.mem_filterMap.mp ha
  exact List.mem_of_getElem? hi
theorem G.widen {c' k' : Nat} (h1 : c ≤ c') (h2 : k ≤ k') (g : G x Q pc lv st h c' k') : G x Q pc lv st h c k := fun H locs ls hw hl => W.widen h1 h2 (g H locs ls hw hl)
theorem G.stk (e : st = st') (g : G x Q pc lv st' h c k) : G x Q pc lv st h c k := e ▸ g
theorem vL_st1 {i : Nat} {a : aV} (e : (i, a) :: lv.filter (fun q => !(q.1 == i) && !(q.1 + 1 == i && ac q.2 == 2)) = lv') : (i, vv a) :: (vL lv).filter (fun q => !(q.1 == i) && !(q.1 + 1 == i && q.2.category == 2)) = vL lv' := by
  rw [← e]
  unfold vL
  rw [List.map_cons, List.filter_map]
  congr 1
  congr 1
  apply List.filter_congr
  intro q _
  simp only [Function.comp, vv_cat]
theorem vL_st2 {i : Nat} {a : aV} (e : (i, a) :: lv.filter (fun q => !(q.1 == i) && (!(q.1 == i + 1) && !(q.1 + 1 == i && ac q.2 == 2))) = lv') : (i, vv a) :: (vL lv).filter (fun q => !(q.1 == i) && (!(q.1 == i + 1) && !(q.1 + 1 == i && q.2.category == 2))) = vL lv' := by
  rw [← e]
  unfold vL
  rw [List.map_cons, List.filter_map]
  congr 1
  congr 1
  apply List.filter_congr
  intro q _
  simp only [Function.comp, vv_cat]
theorem g_iconst (F : Fx x cc own nL ret rm) {n : Int} {v : Int32} (d : decode cc pc = .ok (.iconst n, 1)) (hv : Int32.ofInt n = v) (kk : G x Q (pc + 1) lv (aI v :: st) h c k) : G x Q pc lv st h c k :=
  G.lift (fun H locs ls hl w => lv_iconst F.1 F.2.1 d hv w) kk
theorem g_bipush (F : Fx x cc own nL ret rm) {n : Int} {v : Int32} (d : decode cc pc = .ok (.bipush n, 2)) (hv : (Int8.ofInt n).toInt32 = v) (kk : G x Q (pc + 2) lv (aI v :: st) h c k) : G x Q pc lv st h c k :=
  G.lift (fun H locs ls hl w => lv_bipush F.1 F.2.1 d hv w) kk
theorem g_sipush (F : Fx x cc own nL ret rm) {n : Int} {v : Int32} (d : decode cc pc = .ok (.sipush n, 3)) (hv : (Int16.ofInt n).toInt32 = v) (kk : G x Q (pc + 3) lv (aI v :: st) h c k) : G x Q pc lv st h c k :=
  G.lift (fun H locs ls hl w => lv_sipush F.1 F.2.1 d hv w) kk
theorem g_lconst (F : Fx x cc own nL ret rm) {n : Fin 2} {v : Int64} (d : decode cc pc = .ok (.lconst n, 1)) (hv : Int64.ofNat (n : Nat) = v) (kk : G x Q (pc + 1) lv (aL v :: st) h c k) : G x Q pc lv st h c k :=
  G.lift (fun H locs ls hl w => lv_lconst F.1 F.2.1 d hv w) kk
theorem g_null (F : Fx x cc own nL ret rm)  (d : decode cc pc = .ok (.aconst_null, 1)) (kk : G x Q (pc + 1) lv (aR none :: st) h c k) : G x Q pc lv st h c k :=
  G.lift (fun H locs ls hl w => lv_null F.1 F.2.1 d w) kk
theorem g_fconst1 (F : Fx x cc own nL ret rm)  (d : decode cc pc = .ok (.fconst 1, 1)) (kk : G x Q (pc + 1) lv (aF 0x3f800000 :: st) h c k) : G x Q pc lv st h c k :=
  G.lift (fun H locs ls hl w => lv_fconst1 F.1 F.2.1 d w) kk
theorem g_fconst0 (F : Fx x cc own nL ret rm)  (d : decode cc pc = .ok (.fconst 0, 1)) (kk : G x Q (pc + 1) lv (aF 0 :: st) h c k) : G x Q pc lv st h c k :=
  G.lift (fun H locs ls hl w => lv_fconst0 F.1 F.2.1 d w) kk
theorem g_dconst0 (F : Fx x cc own nL ret rm)  (d : decode cc pc = .ok (.dconst 0, 1)) (kk : G x Q (pc + 1) lv (aD 0 :: st) h c k) : G x Q pc lv st h c k :=
  G.lift (fun H locs ls hl w => lv_dconst0 F.1 F.2.1 d w) kk
theorem g_ldc (F : Fx x cc own nL ret rm) {i : Nat} {v : Int32} (d : decode cc pc = .ok (.ldc i, 2)) (hw : Cond.constant own i v ∈ lw_all) (kk : G x Q (pc + 2) lv (aI v :: st) h c k) : G x Q pc lv st h c k :=
  G.lift (fun H locs ls hl w => lv_ldc F.1 F.2.1 F.2.2.2.1 (F.2.2.2.2.1 _ hw) d w) kk
theorem g_ldcw (F : Fx x cc own nL ret rm) {i : Nat} {v : Int32} (d : decode cc pc = .ok (.ldc_w i, 3)) (hw : Cond.constant own i v ∈ lw_all) (kk : G x Q (pc + 3) lv (aI v :: st) h c k) : G x Q pc lv st h c k :=
  G.lift (fun H locs ls hl w => lv_ldcw F.1 F.2.1 F.2.2.2.1 (F.2.2.2.2.1 _ hw) d w) kk
theorem g_ldc2 (F : Fx x cc own nL ret rm) {i : Nat} {v : Int64} (d : decode cc pc = .ok (.ldc2_w i, 3)) (hw : Cond.constantLong own i v ∈ lw_all) (kk : G x Q (pc + 3) lv (aL v :: st) h c k) : G x Q pc lv st h c k :=
  G.lift (fun H locs ls hl w => lv_ldc2 F.1 F.2.1 F.2.2.2.1 (F.2.2.2.2.1 _ hw) d w) kk
theorem g_ldcf (F : Fx x cc own nL ret rm) {i : Nat} {v : UInt32} (d : decode cc pc = .ok (.ldc i, 2)) (hw : Cond.constantFloat own i v ∈ lw_all) (kk : G x Q (pc + 2) lv (aF v :: st) h c k) : G x Q pc lv st h c k :=
  G.lift (fun H locs ls hl w => lv_ldcf F.1 F.2.1 F.2.2.2.1 (F.2.2.2.2.1 _ hw) d w) kk
theorem g_iload_n (F : Fx x cc own nL ret rm) {n : Fin 4} {i : Nat} {v : Int32} (d : decode cc pc = .ok (.iload_n n, 1)) (hi : (n : Nat) = i) (j : Nat) (hj : lv[j]? = some (i, aI v)) (kk : G x Q (pc + 1) lv (aI v :: st) h c k) : G x Q pc lv st h c k :=
  G.lift (fun H locs ls hl w => lv_iload_n F.1 F.2.1 d hi (lv_at hl j (vL_at hj)) w) kk
theorem g_iload (F : Fx x cc own nL ret rm) {i : Nat} {v : Int32} (d : decode cc pc = .ok (.iload i, 2)) (j : Nat) (hj : lv[j]? = some (i, aI v)) (kk : G x Q (pc + 2) lv (aI v :: st) h c k) : G x Q pc lv st h c k :=
  G.lift (fun H locs ls hl w => lv_iload F.1 F.2.1 d (lv_at hl j (vL_at hj)) w) kk
theorem g_lload_n (F : Fx x cc own nL ret rm) {n : Fin 4} {i : Nat} {v : Int64} (d : decode cc pc = .ok (.lload_n n, 1)) (hi : (n : Nat) = i) (j : Nat) (hj : lv[j]? = some (i, aL v)) (kk : G x Q (pc + 1) lv (aL v :: st) h c k) : G x Q pc lv st h c k :=
  G.lift (fun H locs ls hl w => lv_lload_n F.1 F.2.1 d hi (lv_at hl j (vL_at hj)) w) kk
theorem g_lload (F : Fx x cc own nL ret rm) {i : Nat} {v : Int64} (d : decode cc pc = .ok (.lload i, 2)) (j : Nat) (hj : lv[j]? = some (i, aL v)) (kk : G x Q (pc + 2) lv (aL v :: st) h c k) : G x Q pc lv st h c k :=
  G.lift (fun H locs ls hl w => lv_lload F.1 F.2.1 d (lv_at hl j (vL_at hj)) w) kk
theorem g_dload_n (F : Fx x cc own nL ret rm) {n : Fin 4} {i : Nat} {v : UInt64} (d : decode cc pc = .ok (.dload_n n, 1)) (hi : (n : Nat) = i) (j : Nat) (hj : lv[j]? = some (i, aD v)) (kk : G x Q (pc + 1) lv (aD v :: st) h c k) : G x Q pc lv st h c k :=
  G.lift (fun H locs ls hl w => lv_dload_n F.1 F.2.1 d hi (lv_at hl j (vL_at hj)) w) kk
theorem g_dload (F : Fx x cc own nL ret rm) {i : Nat} {v : UInt64} (d : decode cc pc = .ok (.dload i, 2)) (j : Nat) (hj : lv[j]? = some (i, aD v)) (kk : G x Q (pc + 2) lv (aD v :: st) h c k) : G x Q pc lv st h c k :=
  G.lift (fun H locs ls hl w => lv_dload F.1 F.2.1 d (lv_at hl j (vL_at hj)) w) kk
theorem g_fload_n (F : Fx x cc own nL ret rm) {n : Fin 4} {i : Nat} {v : UInt32} (d : decode cc pc = .ok (.fload_n n, 1)) (hi : (n : Nat) = i) (j : Nat) (hj : lv[j]? = some (i, aF v)) (kk : G x Q (pc + 1) lv (aF v :: st) h c k) : G x Q pc lv st h c k :=
  G.lift (fun H locs ls hl w => lv_fload_n F.1 F.2.1 d hi (lv_at hl j (vL_at hj)) w) kk
theorem g_fload (F : Fx x cc own nL ret rm) {i : Nat} {v : UInt32} (d : decode cc pc = .ok (.fload i, 2)) (j : Nat) (hj : lv[j]? = some (i, aF v)) (kk : G x Q (pc + 2) lv (aF v :: st) h c k) : G x Q pc lv st h c k :=
  G.lift (fun H locs ls hl w => lv_fload F.1 F.2.1 d (lv_at hl j (vL_at hj)) w) kk
theorem g_aload_n (F : Fx x cc own nL ret rm) {n : Fin 4} {i : Nat} {r : Option Nat} (d : decode cc pc = .ok (.aload_n n, 1)) (hi : (n : Nat) = i) (j : Nat) (hj : lv[j]? = some (i, aR r)) (kk : G x Q (pc + 1) lv (aR r :: st) h c k) : G x Q pc lv st h c k := by
  cases r with
  | none => exact G.lift (fun H locs ls hl w => lv_aload_nN F.1 F.2.1 d hi (lv_at hl j (vL_at hj)) w) kk
  | some a => exact G.lift (fun H locs ls hl w => lv_aload_n F.1 F.2.1 d hi (lv_at hl j (vL_at hj)) w) kk
theorem g_aload (F : Fx x cc own nL ret rm) {i : Nat} {r : Option Nat} (d : decode cc pc = .ok (.aload i, 2)) (j : Nat) (hj : lv[j]? = some (i, aR r)) (kk : G x Q (pc + 2) lv (aR r :: st) h c k) : G x Q pc lv st h c k := by
  cases r with
  | none => exact G.lift (fun H locs ls hl w => lv_aloadN F.1 F.2.1 d (lv_at hl j (vL_at hj)) w) kk
  | some a => exact G.lift (fun H locs ls hl w => lv_aload F.1 F.2.1 d (lv_at hl j (vL_at hj)) w) kk
theorem g_istore_n (F : Fx x cc own nL ret rm) {n : Fin 4} {i : Nat} {v : Int32} (d : decode cc pc = .ok (.istore_n n, 1)) (hi : (n : Nat) = i) (hn : i < nL) (e : (i, aI v) :: lv.filter (fun q => !(q.1 == i) && !(q.1 + 1 == i && ac q.2 == 2)) = lv') (kk : G x Q (pc + 1) lv' st h c k) : G x Q pc lv (aI v :: st) h c k := by
  intro H locs ls hw hl
  exact lv_istore_n F.1 F.2.1 d hi hl (show i < x.c.maxLocals from F.2.2.1 ▸ hn) (vL_st1 e) (fun ls' hl' => kk H locs ls' hw hl')
theorem g_istore (F : Fx x cc own nL ret rm) {i : Nat} {v : Int32} (d : decode cc pc = .ok (.istore i, 2)) (hn : i < nL) (e : (i, aI v) :: lv.filter (fun q => !(q.1 == i) && !(q.1 + 1 == i && ac q.2 == 2)) = lv') (kk : G x Q (pc + 2) lv' st h c k) : G x Q pc lv (aI v :: st) h c k := by
  intro H locs ls hw hl
  exact lv_istore F.1 F.2.1 d hl (show i < x.c.maxLocals from F.2.2.1 ▸ hn) (vL_st1 e) (fun ls' hl' => kk H locs ls' hw hl')
theorem g_lstore_n (F : Fx x cc own nL ret rm) {n : Fin 4} {i : Nat} {v : Int64} (d : decode cc pc = .ok (.lstore_n n, 1)) (hi : (n : Nat) = i) (hn : i + 1 < nL) (e : (i, aL v) :: lv.filter (fun q => !(q.1 == i) && (!(q.1 == i + 1) && !(q.1 + 1 == i && ac q.2 == 2))) = lv') (kk : G x Q (pc + 1) lv' st h c k) : G x Q pc lv (aL v :: st) h c k := by
  intro H locs ls hw hl
  exact lv_lstore_n F.1 F.2.1 d hi hl (show i + 1 < x.c.maxLocals from F.2.2.1 ▸ hn) (vL_st2 e) (fun ls' hl' => kk H locs ls' hw hl')
theorem g_lstore (F : Fx x cc own nL ret rm) {i : Nat} {v : Int64} (d : decode cc pc = .ok (.lstore i, 2)) (hn : i + 1 < nL) (e : (i, aL v) :: lv.filter (fun q => !(q.1 == i) && (!(q.1 == i + 1) && !(q.1 + 1 == i && ac q.2 == 2))) = lv') (kk : G x Q (pc + 2) lv' st h c k) : G x Q pc lv (aL v :: st) h c k := by
  intro H locs ls hw hl
  exact lv_lstore F.1 F.2.1 d hl (show i + 1 < x.c.maxLocals from F.2.2.1 ▸ hn) (vL_st2 e) (fun ls' hl' => kk H locs ls' hw hl')
theorem g_dstore_n (F : Fx x cc own nL ret rm) {n : Fin 4} {i : Nat} {v : UInt64} (d : decode cc pc = .ok (.dstore_n n, 1)) (hi : (n : Nat) = i) (hn : i + 1 < nL) (e : (i, aD v) :: lv.filter (fun q => !(q.1 == i) && (!(q.1 == i + 1) && !(q.1 + 1 == i && ac q.2 == 2))) = lv') (kk : G x Q (pc + 1) lv' st h c k) : G x Q pc lv (aD v :: st) h c k := by
  intro H locs ls hw hl
  exact lv_dstore_n F.1 F.2.1 d hi hl (show i + 1 < x.c.maxLocals from F.2.2.1 ▸ hn) (vL_st2 e) (fun ls' hl' => kk H locs ls' hw hl')
theorem g_dstore (F : Fx x cc own nL ret rm) {i : Nat} {v : UInt64} (d : decode cc pc = .ok (.dstore i, 2)) (hn : i + 1 < nL) (e : (i, aD v) :: lv.filter (fun q => !(q.1 == i) && (!(q.1 == i + 1) && !(q.1 + 1 == i && ac q.2 == 2))) = lv') (kk : G x Q (pc + 2) lv' st h c k) : G x Q pc lv (aD v :: st) h c k := by
  intro H locs ls hw hl
  exact lv_dstore F.1 F.2.1 d hl (show i + 1 < x.c.maxLocals from F.2.2.1 ▸ hn) (vL_st2 e) (fun ls' hl' => kk H locs ls' hw hl')
theorem g_fstore_n (F : Fx x cc own nL ret rm) {n : Fin 4} {i : Nat} {v : UInt32} (d : decode cc pc = .ok (.fstore_n n, 1)) (hi : (n : Nat) = i) (hn : i < nL) (e : (i, aF v) :: lv.filter (fun q => !(q.1 == i) && !(q.1 + 1 == i && ac q.2 == 2)) = lv') (kk : G x Q (pc + 1) lv' st h c k) : G x Q pc lv (aF v :: st) h c k := by
  intro H locs ls hw hl
  exact lv_fstore_n F.1 F.2.1 d hi hl (show i < x.c.maxLocals from F.2.2.1 ▸ hn) (vL_st1 e) (fun ls' hl' => kk H locs ls' hw hl')
theorem g_fstore (F : Fx x cc own nL ret rm) {i : Nat} {v : UInt32} (d : decode cc pc = .ok (.fstore i, 2)) (hn : i < nL) (e : (i, aF v) :: lv.filter (fun q => !(q.1 == i) && !(q.1 + 1 == i && ac q.2 == 2)) = lv') (kk : G x Q (pc + 2) lv' st h c k) : G x Q pc lv (aF v :: st) h c k := by
  intro H locs ls hw hl
  exact lv_fstore F.1 F.2.1 d hl (show i < x.c.maxLocals from F.2.2.1 ▸ hn) (vL_st1 e) (fun ls' hl' => kk H locs ls' hw hl')
theorem g_astore_n (F : Fx x cc own nL ret rm) {n : Fin 4} {i : Nat} {v : Option Nat} (d : decode cc pc = .ok (.astore_n n, 1)) (hi : (n : Nat) = i) (hn : i < nL) (e : (i, aR v) :: lv.filter (fun q => !(q.1 == i) && !(q.1 + 1 == i && ac q.2 == 2)) = lv') (kk : G x Q (pc + 1) lv' st h c k) : G x Q pc lv (aR v :: st) h c k := by
  intro H locs ls hw hl
  cases v with
  | none => exact lv_astore_nN F.1 F.2.1 d hi hl (show i < x.c.maxLocals from F.2.2.1 ▸ hn) (vL_st1 e) (fun ls' hl' => kk H locs ls' hw hl')
  | some r => exact lv_astore_n F.1 F.2.1 d hi hl (show i < x.c.maxLocals from F.2.2.1 ▸ hn) (vL_st1 e) (fun ls' hl' => kk H locs ls' hw hl')
theorem g_astore (F : Fx x cc own nL ret rm) {i : Nat} {v : Option Nat} (d : decode cc pc = .ok (.astore i, 2)) (hn : i < nL) (e : (i, aR v) :: lv.filter (fun q => !(q.1 == i) && !(q.1 + 1 == i && ac q.2 == 2)) = lv') (kk : G x Q (pc + 2) lv' st h c k) : G x Q pc lv (aR v :: st) h c k := by
  intro H locs ls hw hl
  cases v with
  | none => exact lv_astoreN F.1 F.2.1 d hl (show i < x.c.maxLocals from F.2.2.1 ▸ hn) (vL_st1 e) (fun ls' hl' => kk H locs ls' hw hl')
  | some r => exact lv_astore F.1 F.2.1 d hl (show i < x.c.maxLocals from F.2.2.1 ▸ hn) (vL_st1 e) (fun ls' hl' => kk H locs ls' hw hl')
theorem g_iinc (F : Fx x cc own nL ret rm) {i j : Nat} {n : Int} {y v : Int32} (d : decode cc pc = .ok (.iinc i n, 3)) (hj : lv[j]? = some (i, aI y)) (hv : y + Int32.ofInt n = v) (hn : i < nL) (e : (i, aI v) :: lv.filter (fun q => !(q.1 == i) && !(q.1 + 1 == i && ac q.2 == 2)) = lv') (kk : G x Q (pc + 3) lv' st h c k) : G x Q pc lv st h c k := by
  intro H locs ls hw hl
  exact lv_iinc F.1 F.2.1 d hl (vL_at hj) hv (show i < x.c.maxLocals from F.2.2.1 ▸ hn) (vL_st1 (a := aI v) e) (fun ls' hl' => kk H locs ls' hw hl')
theorem g_iadd (F : Fx x cc own nL ret rm) {a b : Int32} (d : decode cc pc = .ok (.iadd, 1)) (kk : G x Q (pc + 1) lv (aI (a + b) :: st) h c k) : G x Q pc lv (aI b :: aI a :: st) h c k :=
  G.lift (fun H locs ls hl w => lv_iadd F.1 F.2.1 d w) kk
theorem g_isub (F : Fx x cc own nL ret rm) {a b : Int32} (d : decode cc pc = .ok (.isub, 1)) (kk : G x Q (pc + 1) lv (aI (a - b) :: st) h c k) : G x Q pc lv (aI b :: aI a :: st) h c k :=
  G.lift (fun H locs ls hl w => lv_isub F.1 F.2.1 d w) kk
theorem g_imul (F : Fx x cc own nL ret rm) {a b : Int32} (d : decode cc pc = .ok (.imul, 1)) (kk : G x Q (pc + 1) lv (aI (a * b) :: st) h c k) : G x Q pc lv (aI b :: aI a :: st) h c k :=
  G.lift (fun H locs ls hl w => lv_imul F.1 F.2.1 d w) kk
theorem g_iand (F : Fx x cc own nL ret rm) {a b : Int32} (d : decode cc pc = .ok (.iand, 1)) (kk : G x Q (pc + 1) lv (aI (a &&& b) :: st) h c k) : G x Q pc lv (aI b :: aI a :: st) h c k :=
  G.lift (fun H locs ls hl w => lv_iand F.1 F.2.1 d w) kk
theorem g_ior (F : Fx x cc own nL ret rm) {a b : Int32} (d : decode cc pc = .ok (.ior, 1)) (kk : G x Q (pc + 1) lv (aI (a ||| b) :: st) h c k) : G x Q pc lv (aI b :: aI a :: st) h c k :=
  G.lift (fun H locs ls hl w => lv_ior F.1 F.2.1 d w) kk
theorem g_ixor (F : Fx x cc own nL ret rm) {a b : Int32} (d : decode cc pc = .ok (.ixor, 1)) (kk : G x Q (pc + 1) lv (aI (a ^^^ b) :: st) h c k) : G x Q pc lv (aI b :: aI a :: st) h c k :=
  G.lift (fun H locs ls hl w => lv_ixor F.1 F.2.1 d w) kk
theorem g_idiv (F : Fx x cc own nL ret rm) {a b : Int32} (d : decode cc pc = .ok (.idiv, 1)) (hne : ¬ b = 0) (kk : G x Q (pc + 1) lv (aI (a / b) :: st) h c k) : G x Q pc lv (aI b :: aI a :: st) h c k :=
  G.lift (fun H locs ls hl w => lv_idiv F.1 F.2.1 d hne w) kk
theorem g_irem (F : Fx x cc own nL ret rm) {a b : Int32} (d : decode cc pc = .ok (.irem, 1)) (hne : ¬ b = 0) (kk : G x Q (pc + 1) lv (aI (a - a / b * b) :: st) h c k) : G x Q pc lv (aI b :: aI a :: st) h c k :=
  G.lift (fun H locs ls hl w => lv_irem F.1 F.2.1 d hne w) kk
theorem g_ineg (F : Fx x cc own nL ret rm) {a : Int32} (d : decode cc pc = .ok (.ineg, 1)) (kk : G x Q (pc + 1) lv (aI (-a) :: st) h c k) : G x Q pc lv (aI a :: st) h c k :=
  G.lift (fun H locs ls hl w => lv_ineg F.1 F.2.1 d w) kk
theorem g_ishl (F : Fx x cc own nL ret rm) {a b : Int32} (d : decode cc pc = .ok (.ishl, 1)) (kk : G x Q (pc + 1) lv (aI (a <<< (b &&& 31)) :: st) h c k) : G x Q pc lv (aI b :: aI a :: st) h c k :=
  G.lift (fun H locs ls hl w => lv_ishl F.1 F.2.1 d w) kk
theorem g_ishr (F : Fx x cc own nL ret rm) {a b : Int32} (d : decode cc pc = .ok (.ishr, 1)) (kk : G x Q (pc + 1) lv (aI (a >>> (b &&& 31)) :: st) h c k) : G x Q pc lv (aI b :: aI a :: st) h c k :=
  G.lift (fun H locs ls hl w => lv_ishr F.1 F.2.1 d w) kk
theorem g_iushr (F : Fx x cc own nL ret rm) {a b : Int32} (d : decode cc pc = .ok (.iushr, 1)) (kk : G x Q (pc + 1) lv (aI (a.toUInt32 >>> (b.toUInt32 &&& Int32.toUInt32 31)).toInt32 :: st) h c k) : G x Q pc lv (aI b :: aI a :: st) h c k :=
  G.lift (fun H locs ls hl w => lv_iushr F.1 F.2.1 d rfl w) kk
theorem g_ladd (F : Fx x cc own nL ret rm) {a b : Int64} (d : decode cc pc = .ok (.ladd, 1)) (kk : G x Q (pc + 1) lv (aL (a + b) :: st) h c k) : G x Q pc lv (aL b :: aL a :: st) h c k :=
  G.lift (fun H locs ls hl w => lv_ladd F.1 F.2.1 d w) kk
theorem g_lmul (F : Fx x cc own nL ret rm) {a b : Int64} (d : decode cc pc = .ok (.lmul, 1)) (kk : G x Q (pc + 1) lv (aL (a * b) :: st) h c k) : G x Q pc lv (aL b :: aL a :: st) h c k :=
  G.lift (fun H locs ls hl w => lv_lmul F.1 F.2.1 d w) kk
theorem g_lsub (F : Fx x cc own nL ret rm) {a b : Int64} (d : decode cc pc = .ok (.lsub, 1)) (kk : G x Q (pc + 1) lv (aL (a - b) :: st) h c k) : G x Q pc lv (aL b :: aL a :: st) h c k :=
  G.lift (fun H locs ls hl w => lv_lsub F.1 F.2.1 d w) kk
theorem g_land (F : Fx x cc own nL ret rm) {a b : Int64} (d : decode cc pc = .ok (.land, 1)) (kk : G x Q (pc + 1) lv (aL (a &&& b) :: st) h c k) : G x Q pc lv (aL b :: aL a :: st) h c k :=
  G.lift (fun H locs ls hl w => lv_land F.1 F.2.1 d w) kk
theorem g_lor (F : Fx x cc own nL ret rm) {a b : Int64} (d : decode cc pc = .ok (.lor, 1)) (kk : G x Q (pc + 1) lv (aL (a ||| b) :: st) h c k) : G x Q pc lv (aL b :: aL a :: st) h c k :=
  G.lift (fun H locs ls hl w => lv_lor F.1 F.2.1 d w) kk
theorem g_lxor (F : Fx x cc own nL ret rm) {a b : Int64} (d : decode cc pc = .ok (.lxor, 1)) (kk : G x Q (pc + 1) lv (aL (a ^^^ b) :: st) h c k) : G x Q pc lv (aL b :: aL a :: st) h c k :=
  G.lift (fun H locs ls hl w => lv_lxor F.1 F.2.1 d w) kk
theorem g_lrem (F : Fx x cc own nL ret rm) {a b : Int64} (d : decode cc pc = .ok (.lrem, 1)) (hne : ¬ b = 0) (kk : G x Q (pc + 1) lv (aL (a - a / b * b) :: st) h c k) : G x Q pc lv (aL b :: aL a :: st) h c k :=
  G.lift (fun H locs ls hl w => lv_lrem F.1 F.2.1 d hne w) kk
theorem g_i2l (F : Fx x cc own nL ret rm) {a : Int32} (d : decode cc pc = .ok (.i2l, 1)) (kk : G x Q (pc + 1) lv (aL a.toInt64 :: st) h c k) : G x Q pc lv (aI a :: st) h c k :=
  G.lift (fun H locs ls hl w => lv_i2l F.1 F.2.1 d rfl w) kk
theorem g_l2i (F : Fx x cc own nL ret rm) {a : Int64} (d : decode cc pc = .ok (.l2i, 1)) (kk : G x Q (pc + 1) lv (aI a.toInt32 :: st) h c k) : G x Q pc lv (aL a :: st) h c k :=
  G.lift (fun H locs ls hl w => lv_l2i F.1 F.2.1 d rfl w) kk
theorem g_i2b (F : Fx x cc own nL ret rm) {a : Int32} (d : decode cc pc = .ok (.i2b, 1)) (kk : G x Q (pc + 1) lv (aI a.toInt8.toInt32 :: st) h c k) : G x Q pc lv (aI a :: st) h c k :=
  G.lift (fun H locs ls hl w => lv_i2b F.1 F.2.1 d rfl w) kk
theorem g_i2c (F : Fx x cc own nL ret rm) {a : Int32} (d : decode cc pc = .ok (.i2c, 1)) (kk : G x Q (pc + 1) lv (aI (a.toUInt32 % 65536).toInt32 :: st) h c k) : G x Q pc lv (aI a :: st) h c k :=
  G.lift (fun H locs ls hl w => lv_i2c F.1 F.2.1 d rfl w) kk
theorem g_i2d (F : Fx x cc own nL ret rm) {a : Int32} (d : decode cc pc = .ok (.i2d, 1)) (kk : G x Q (pc + 1) lv (aD (FP.i2d a) :: st) h c k) : G x Q pc lv (aI a :: st) h c k :=
  G.lift (fun H locs ls hl w => lv_i2d F.1 F.2.1 d w) kk
theorem g_i2f (F : Fx x cc own nL ret rm) {a : Int32} (d : decode cc pc = .ok (.i2f, 1)) (kk : G x Q (pc + 1) lv (aF (FP.i2f a) :: st) h c k) : G x Q pc lv (aI a :: st) h c k :=
  G.lift (fun H locs ls hl w => lv_i2f F.1 F.2.1 d w) kk
theorem g_f2i (F : Fx x cc own nL ret rm) {a : UInt32} (d : decode cc pc = .ok (.f2i, 1)) (kk : G x Q (pc + 1) lv (aI (FP.f2i a) :: st) h c k) : G x Q pc lv (aF a :: st) h c k :=
  G.lift (fun H locs ls hl w => lv_f2i F.1 F.2.1 d w) kk
theorem g_fmul (F : Fx x cc own nL ret rm) {a b : UInt32} (d : decode cc pc = .ok (.fmul, 1)) (hne : vf_n32 (FP.fmul a b)) (kk : G x Q (pc + 1) lv (aF (FP.fmul a b) :: st) h c k) : G x Q pc lv (aF b :: aF a :: st) h c k :=
  G.lift (fun H locs ls hl w => lv_fmul F.1 F.2.1 d hne w) kk
theorem g_ddiv (F : Fx x cc own nL ret rm) {a b : UInt64} (d : decode cc pc = .ok (.ddiv, 1)) (hne : vf_n64 (FP.ddiv a b)) (kk : G x Q (pc + 1) lv (aD (FP.ddiv a b) :: st) h c k) : G x Q pc lv (aD b :: aD a :: st) h c k :=
  G.lift (fun H locs ls hl w => lv_ddiv F.1 F.2.1 d hne w) kk
theorem g_dcmp (F : Fx x cc own nL ret rm) {a b : UInt64} {op : CmpOp} (d : decode cc pc = .ok (.dcmp op, 1)) (kk : G x Q (pc + 1) lv (aI (Op.cmpValue (FP.dcmp a b) op) :: st) h c k) : G x Q pc lv (aD b :: aD a :: st) h c k :=
  G.lift (fun H locs ls hl w => lv_dcmp F.1 F.2.1 d w) kk
theorem g_fcmp (F : Fx x cc own nL ret rm) {a b : UInt32} {op : CmpOp} (d : decode cc pc = .ok (.fcmp op, 1)) (kk : G x Q (pc + 1) lv (aI (Op.cmpValue (FP.fcmp a b) op) :: st) h c k) : G x Q pc lv (aF b :: aF a :: st) h c k :=
  G.lift (fun H locs ls hl w => lv_fcmp F.1 F.2.1 d w) kk
theorem g_lcmp (F : Fx x cc own nL ret rm) {a b : Int64} (d : decode cc pc = .ok (.lcmp, 1)) (kk : G x Q (pc + 1) lv (aI (lg_cmp a b) :: st) h c k) : G x Q pc lv (aL b :: aL a :: st) h c k :=
  G.lift (fun H locs ls hl w => W.lcmp F.1 F.2.1 d w) kk
theorem g_dup (F : Fx x cc own nL ret rm) {a : aV} (d : decode cc pc = .ok (.dup, 1)) (ca : ac a = 1 := by rfl) (kk : G x Q (pc + 1) lv (a :: a :: st) h c k) : G x Q pc lv (a :: st) h c k :=
  G.lift (fun H locs ls hl w => lv_dup F.1 F.2.1 d ((vv_cat a).trans ca) w) kk
theorem g_pop (F : Fx x cc own nL ret rm) {a : aV} (d : decode cc pc = .ok (.pop, 1)) (ca : ac a = 1 := by rfl) (kk : G x Q (pc + 1) lv st h c k) : G x Q pc lv (a :: st) h c k :=
  G.lift (fun H locs ls hl w => lv_pop F.1 F.2.1 d ((vv_cat a).trans ca) w) kk
theorem g_dup_x1 (F : Fx x cc own nL ret rm) {a b : aV} (d : decode cc pc = .ok (.dup_x1, 1)) (ca : ac a = 1 := by rfl) (cb : ac b = 1 := by rfl) (kk : G x Q (pc + 1) lv (a :: b :: a :: st) h c k) : G x Q pc lv (a :: b :: st) h c k :=
  G.lift (fun H locs ls hl w => lv_dup_x1 F.1 F.2.1 d ((vv_cat a).trans ca) ((vv_cat b).trans cb) w) kk
theorem g_dup_x2 (F : Fx x cc own nL ret rm) {a b z : aV} (d : decode cc pc = .ok (.dup_x2, 1)) (ca : ac a = 1 := by rfl) (cb : ac b = 1 := by rfl) (cz : ac z = 1 := by rfl) (kk : G x Q (pc + 1) lv (a :: b :: z :: a :: st) h c k) : G x Q pc lv (a :: b :: z :: st) h c k :=
  G.lift (fun H locs ls hl w => lv_dup_x2 F.1 F.2.1 d ((vv_cat a).trans ca) ((vv_cat b).trans cb) ((vv_cat z).trans cz) w) kk
theorem g_dup2 (F : Fx x cc own nL ret rm) {a b : aV} (d : decode cc pc = .ok (.dup2, 1)) (ca : ac a = 1 := by rfl) (cb : ac b = 1 := by rfl) (kk : G x Q (pc + 1) lv (a :: b :: a :: b :: st) h c k) : G x Q pc lv (a :: b :: st) h c k :=
  G.lift (fun H locs ls hl w => lv_dup2_11 F.1 F.2.1 d ((vv_cat a).trans ca) ((vv_cat b).trans cb) w) kk
theorem g_goto (F : Fx x cc own nL ret rm) {off : Int} {tgt : Nat} (d : decode cc pc = .ok (.goto off, 3)) (ht : (pc : Int) + off = (tgt : Int)) (kk : G x Q tgt lv st h c k) : G x Q pc lv st h c k :=
  G.lift (fun H locs ls hl w => lv_goto F.1 F.2.1 d ht w) kk
theorem g_if_eq (F : Fx x cc own nL ret rm) {a : Int32} {off : Int} {tgt : Nat} (d : decode cc pc = .ok (.ifCond .eq off, 3)) (ht : (pc : Int) + off = (tgt : Int)) (kt : a = 0 → G x Q tgt lv st h c k) (kf : ¬ a = 0 → G x Q (pc + 3) lv st h c k) : G x Q pc lv (aI a :: st) h c k :=
  fun H locs ls hw hl => lv_if_eq F.1 F.2.1 d ht (fun q => kt q H locs ls hw hl) (fun q => kf q H locs ls hw hl)
theorem g_icmp_eq (F : Fx x cc own nL ret rm) {a b : Int32} {off : Int} {tgt : Nat} (d : decode cc pc = .ok (.if_icmp .eq off, 3)) (ht : (pc : Int) + off = (tgt : Int)) (kt : a = b → G x Q tgt lv st h c k) (kf : ¬ a = b → G x Q (pc + 3) lv st h c k) : G x Q pc lv (aI b :: aI a :: st) h c k :=
  fun H locs ls hw hl => lv_icmp_eq F.1 F.2.1 d ht (fun q => kt q H locs ls hw hl) (fun q => kf q H locs ls hw hl)
theorem g_if_ne (F : Fx x cc own nL ret rm) {a : Int32} {off : Int} {tgt : Nat} (d : decode cc pc = .ok (.ifCond .ne off, 3)) (ht : (pc : Int) + off = (tgt : Int)) (kt : ¬ a = 0 → G x Q tgt lv st h c k) (kf : a = 0 → G x Q (pc + 3) lv st h c k) : G x Q pc lv (aI a :: st) h c k :=
  fun H locs ls hw hl => lv_if_ne F.1 F.2.1 d ht (fun q => kt q H locs ls hw hl) (fun q => kf q H locs ls hw hl)
theorem g_icmp_ne (F : Fx x cc own nL ret rm) {a b : Int32} {off : Int} {tgt : Nat} (d : decode cc pc = .ok (.if_icmp .ne off, 3)) (ht : (pc : Int) + off = (tgt : Int)) (kt : ¬ a = b → G x Q tgt lv st h c k) (kf : a = b → G x Q (pc + 3) lv st h c k) : G x Q pc lv (aI b :: aI a :: st) h c k :=
  fun H locs ls hw hl => lv_icmp_ne F.1 F.2.1 d ht (fun q => kt q H locs ls hw hl) (fun q => kf q H locs ls hw hl)
theorem g_if_lt (F : Fx x cc own nL ret rm) {a : Int32} {off : Int} {tgt : Nat} (d : decode cc pc = .ok (.ifCond .lt off, 3)) (ht : (pc : Int) + off = (tgt : Int)) (kt : a < 0 → G x Q tgt lv st h c k) (kf : ¬ a < 0 → G x Q (pc + 3) lv st h c k) : G x Q pc lv (aI a :: st) h c k :=
  fun H locs ls hw hl => lv_if_lt F.1 F.2.1 d ht (fun q => kt q H locs ls hw hl) (fun q => kf q H locs ls hw hl)
theorem g_icmp_lt (F : Fx x cc own nL ret rm) {a b : Int32} {off : Int} {tgt : Nat} (d : decode cc pc = .ok (.if_icmp .lt off, 3)) (ht : (pc : Int) + off = (tgt : Int)) (kt : a < b → G x Q tgt lv st h c k) (kf : ¬ a < b → G x Q (pc + 3) lv st h c k) : G x Q pc lv (aI b :: aI a :: st) h c k :=
  fun H locs ls hw hl => lv_icmp_lt F.1 F.2.1 d ht (fun q => kt q H locs ls hw hl) (fun q => kf q H locs ls hw hl)
theorem g_if_ge (F : Fx x cc own nL ret rm) {a : Int32} {off : Int} {tgt : Nat} (d : decode cc pc = .ok (.ifCond .ge off, 3)) (ht : (pc : Int) + off = (tgt : Int)) (kt : 0 ≤ a → G x Q tgt lv st h c k) (kf : ¬ 0 ≤ a → G x Q (pc + 3) lv st h c k) : G x Q pc lv (aI a :: st) h c k :=
  fun H locs ls hw hl => lv_if_ge F.1 F.2.1 d ht (fun q => kt q H locs ls hw hl) (fun q => kf q H locs ls hw hl)
theorem g_icmp_ge (F : Fx x cc own nL ret rm) {a b : Int32} {off : Int} {tgt : Nat} (d : decode cc pc = .ok (.if_icmp .ge off, 3)) (ht : (pc : Int) + off = (tgt : Int)) (kt : b ≤ a → G x Q tgt lv st h c k) (kf : ¬ b ≤ a → G x Q (pc + 3) lv st h c k) : G x Q pc lv (aI b :: aI a :: st) h c k :=
  fun H locs ls hw hl => lv_icmp_ge F.1 F.2.1 d ht (fun q => kt q H locs ls hw hl) (fun q => kf q H locs ls hw hl)
theorem g_if_gt (F : Fx x cc own nL ret rm) {a : Int32} {off : Int} {tgt : Nat} (d : decode cc pc = .ok (.ifCond .gt off, 3)) (ht : (pc : Int) + off = (tgt : Int)) (kt : 0 < a → G x Q tgt lv st h c k) (kf : ¬ 0 < a → G x Q (pc + 3) lv st h c k) : G x Q pc lv (aI a :: st) h c k :=
  fun H locs ls hw hl => lv_if_gt F.1 F.2.1 d ht (fun q => kt q H locs ls hw hl) (fun q => kf q H locs ls hw hl)
theorem g_icmp_gt (F : Fx x cc own nL ret rm) {a b : Int32} {off : Int} {tgt : Nat} (d : decode cc pc = .ok (.if_icmp .gt off, 3)) (ht : (pc : Int) + off = (tgt : Int)) (kt : b < a → G x Q tgt lv st h c k) (kf : ¬ b < a → G x Q (pc + 3) lv st h c k) : G x Q pc lv (aI b :: aI a :: st) h c k :=
  fun H locs ls hw hl => lv_icmp_gt F.1 F.2.1 d ht (fun q => kt q H locs ls hw hl) (fun q => kf q H locs ls hw hl)
theorem g_if_le (F : Fx x cc own nL ret rm) {a : Int32} {off : Int} {tgt : Nat} (d : decode cc pc = .ok (.ifCond .le off, 3)) (ht : (pc : Int) + off = (tgt : Int)) (kt : a ≤ 0 → G x Q tgt lv st h c k) (kf : ¬ a ≤ 0 → G x Q (pc + 3) lv st h c k) : G x Q pc lv (aI a :: st) h c k :=
  fun H locs ls hw hl => lv_if_le F.1 F.2.1 d ht (fun q => kt q H locs ls hw hl) (fun q => kf q H locs ls hw hl)
theorem g_icmp_le (F : Fx x cc own nL ret rm) {a b : Int32} {off : Int} {tgt : Nat} (d : decode cc pc = .ok (.if_icmp .le off, 3)) (ht : (pc : Int) + off = (tgt : Int)) (kt : a ≤ b → G x Q tgt lv st h c k) (kf : ¬ a ≤ b → G x Q (pc + 3) lv st h c k) : G x Q pc lv (aI b :: aI a :: st) h c k :=
  fun H locs ls hw hl => lv_icmp_le F.1 F.2.1 d ht (fun q => kt q H locs ls hw hl) (fun q => kf q H locs ls hw hl)
theorem g_acmp_eq (F : Fx x cc own nL ret rm) {a b : Option Nat} {off : Int} {tgt : Nat} (d : decode cc pc = .ok (.if_acmp .eq off, 3)) (ht : (pc : Int) + off = (tgt : Int)) (kt : a = b → G x Q tgt lv st h c k) (kf : ¬ a = b → G x Q (pc + 3) lv st h c k) : G x Q pc lv (aR b :: aR a :: st) h c k :=
  fun H locs ls hw hl => lv_acmp_eq F.1 F.2.1 d ht (fun q => kt q H locs ls hw hl) (fun q => kf q H locs ls hw hl)
theorem g_acmp_ne (F : Fx x cc own nL ret rm) {a b : Option Nat} {off : Int} {tgt : Nat} (d : decode cc pc = .ok (.if_acmp .ne off, 3)) (ht : (pc : Int) + off = (tgt : Int)) (kt : ¬ a = b → G x Q tgt lv st h c k) (kf : a = b → G x Q (pc + 3) lv st h c k) : G x Q pc lv (aR b :: aR a :: st) h c k :=
  fun H locs ls hw hl => lv_acmp_ne F.1 F.2.1 d ht (fun q => kt q H locs ls hw hl) (fun q => kf q H locs ls hw hl)
theorem g_ifnull (F : Fx x cc own nL ret rm) {a : Option Nat} {off : Int} {tgt : Nat} (d : decode cc pc = .ok (.ifnull off, 3)) (ht : (pc : Int) + off = (tgt : Int)) (kt : a = none → G x Q tgt lv st h c k) (kf : ¬ a = none → G x Q (pc + 3) lv st h c k) : G x Q pc lv (aR a :: st) h c k := by
  cases a with
  | none => exact fun H locs ls hw hl => lv_ifnullN F.1 F.2.1 d ht (kt rfl H locs ls hw hl)
  | some b => exact fun H locs ls hw hl => lv_ifnull F.1 F.2.1 d (kf (fun q => by cases q) H locs ls hw hl)
theorem g_ifnonnull (F : Fx x cc own nL ret rm) {a : Option Nat} {off : Int} {tgt : Nat} (d : decode cc pc = .ok (.ifnonnull off, 3)) (ht : (pc : Int) + off = (tgt : Int)) (kt : ¬ a = none → G x Q tgt lv st h c k) (kf : a = none → G x Q (pc + 3) lv st h c k) : G x Q pc lv (aR a :: st) h c k := by
  cases a with
  | none => exact fun H locs ls hw hl => lv_ifnonnullN F.1 F.2.1 d (kf rfl H locs ls hw hl)
  | some b => exact fun H locs ls hw hl => lv_ifnonnull F.1 F.2.1 d ht (kt (fun q => by cases q) H locs ls hw hl)
theorem g_tableOut (F : Fx x cc own nL ret rm) {dflt lo hi : Int} {offs : Array Int} {len : Nat} {a : Int32} {tgt : Nat} (d : decode cc pc = .ok (.tableswitch dflt lo hi offs, len)) (hq : a.toInt < lo ∨ hi < a.toInt) (ht : (pc : Int) + dflt = (tgt : Int)) (kk : G x Q tgt lv st h c k) : G x Q pc lv (aI a :: st) h c k :=
  G.lift (fun H locs ls hl w => lv_tableOut F.1 F.2.1 d hq ht w) kk
theorem g_tableIn (F : Fx x cc own nL ret rm) {dflt lo hi : Int} {offs : Array Int} {len : Nat} {a : Int32} {off : Int} {tgt : Nat} (d : decode cc pc = .ok (.tableswitch dflt lo hi offs, len)) (h1 : ¬ a.toInt < lo) (h2 : ¬ hi < a.toInt) (ho : offs[(a.toInt - lo).toNat]? = some off) (ht : (pc : Int) + off = (tgt : Int)) (kk : G x Q tgt lv st h c k) : G x Q pc lv (aI a :: st) h c k :=
  G.lift (fun H locs ls hl w => lv_tableIn F.1 F.2.1 d h1 h2 ho ht w) kk
theorem g_lookup (F : Fx x cc own nL ret rm) {dflt : Int} {ps : Array (Int × Int)} {len : Nat} {a : Int32} {off : Int} {tgt : Nat} (d : decode cc pc = .ok (.lookupswitch dflt ps, len)) (hp : (ps.toList.zip (ps.toList.drop 1)).all (fun (u, next) => u.1 < next.1) = true) (ho : Op.lookupswitch.offset ps.toList dflt a.toInt = off) (ht : (pc : Int) + off = (tgt : Int)) (kk : G x Q tgt lv st h c k) : G x Q pc lv (aI a :: st) h c k :=
  G.lift (fun H locs ls hl w => lv_lookup F.1 F.2.1 d hp ho ht w) kk
/-! the heap: reading -/
theorem Hw.S {locs : List Loc} {H : Heap} (hw : Hw x h H locs) : va_S (hA x.s0) x.s0.heap H locs := ⟨hw.1.1, fun q hq _ => hw.1.2 q hq, hw.2.2.1⟩
theorem Fx.al (F : Fx x cc own nL ret rm) : x.s0.vm.Alike x.s.vm := F.2.2.2.2.2.2.2.2.2.1.alike
theorem sg_P {D : va_G} {q : Nat × va_E} {H : Heap} (hq : va_at D CL q H) : va_P D CL [q] H := by
  intro j p hj
  match j, hj with
  | 0, hj => cases hj; exact hq
  | j + 1, hj => simp at hj
/-- an object's cell -/
theorem rd_obj (F : Fx x cc own nL ret rm) {locs : List Loc} {H : Heap} (hw : Hw x h H locs) {a : Nat} {fl : Bool} {t : Nat} {fs : List Value} (ha : h a = some (fl, t, .inl fs)) {r : vw_C} (hr : CL[t]? = some r) :
    ∃ cell : Cell, H[a]? = some cell ∧ cell.vm ≠ .unknown ∧ cell.vm.isStatics = false ∧ x.s.vm.findClass r.1 = some cell.cls ∧ ∀ (j : Nat) (v : Value), j < r.2.2 → fs[j]? = some v → cell.slots[x.D.2 t j]? = some v := by
  have q := hw.2.2.2 a fl t _ ha
  cases fl with
  | true =>
    obtain ⟨r', h1, cell, h2, h3, h4, h5⟩ := (q.1 rfl).2
    cases hr.symm.trans h1
    refine ⟨cell, h2, (by rw [h4]; exact (fun e => by cases e)), by rw [h4]; rfl, ?_, fun j v hj hv => ?_⟩
    · have hK := (F.2.2.2.2.2.1.1 t r hr).2.1
      rw [hK]
      exact congrArg some h3.symm
    · rw [h5 j hj]
      show some (fs.getD j .null) = some v
      rw [List.getD_eq_getElem?_getD, hv]
      rfl
  | false =>
    obtain ⟨hlt, cell, r', h1, h2, h3, h4, h5, h6⟩ := q.2 rfl
    cases hr.symm.trans h2
    refine ⟨cell, by rw [hw.1.2 a hlt]; exact h1, h5, h4, ?_, h6⟩
    rw [F.al.findClass]
    exact h3
theorem rd_ai (F : Fx x cc own nL ret rm) {locs : List Loc} {H : Heap} (hw : Hw x h H locs) {a : Nat} {fl : Bool} {t n : Nat} {f : Nat → Int32} (ha : h a = some (fl, t, .inr (n, .inl f))) (ht : (TYS x.dA)[t]? = some (x.dA t, aTy t)) :
    ∃ cell : Cell, H[a]? = some cell ∧ x.s.isArrayOf cell (aTy t) ∧ cell.vm ≠ .unknown ∧ cell.slots.size = n ∧ ∀ j : Nat, j < n → cell.slots[j]? = some (.int (f j)) := by
  have q := hw.2.2.2 a fl t _ ha
  cases fl with
  | true =>
    have h1 : H[a]? = some (arrV (x.dA t) n (fun j => .int (f j))) := (q.1 rfl).2
    exact ⟨_, h1, (F.2.2.2.2.2.1.2 t _ ht).1 n _, (fun e => by cases e), arrV_size _ _ _, fun j hj => arrV_read _ _ hj⟩
  | false =>
    obtain ⟨hlt, cell, h1, h2, h3, h4, h5, -⟩ := q.2 rfl
    exact ⟨cell, by rw [hw.1.2 a hlt]; exact h1, State.isArrayOf_alike F.al h2, h3, h4, h5⟩
/-- an array of the start, of which the type of its elements alone is known -/
theorem rd_aio (F : Fx x cc own nL ret rm) {locs : List Loc} {H : Heap} (hw : Hw x h H locs) {a : Nat} {t n : Nat} {f : Nat → Int32} (ha : h a = some (false, t, .inr (n, .inl f))) :
    ∃ cell : Cell, H[a]? = some cell ∧ x.s.isArrayOf cell (aTy t) ∧ cell.vm ≠ .unknown ∧ cell.slots.size = n ∧ ∀ j : Nat, j < n → cell.slots[j]? = some (.int (f j)) := by
  obtain ⟨hlt, cell, h1, h2, h3, h4, h5, -⟩ := (hw.2.2.2 a false t _ ha).2 rfl
  exact ⟨cell, by rw [hw.1.2 a hlt]; exact h1, State.isArrayOf_alike F.al h2, h3, h4, h5⟩
theorem rd_aqo (F : Fx x cc own nL ret rm) {locs : List Loc} {H : Heap} (hw : Hw x h H locs) {a : Nat} {t n : Nat} {f : Nat → Option Nat} (ha : h a = some (false, t, .inr (n, .inr (.inr f)))) :
    ∃ cell : Cell, H[a]? = some cell ∧ x.s.isArrayOf cell (aTy t) ∧ cell.vm ≠ .unknown ∧ cell.slots.size = n ∧ ∀ j : Nat, j < n → cell.slots[j]? = some (va_rf (f j)) := by
  obtain ⟨hlt, cell, h1, h2, h3, h4, h5⟩ := (hw.2.2.2 a false t _ ha).2 rfl
  exact ⟨cell, by rw [hw.1.2 a hlt]; exact h1, State.isArrayOf_alike F.al h2, h3, h4, h5⟩
theorem rd_aq (F : Fx x cc own nL ret rm) {locs : List Loc} {H : Heap} (hw : Hw x h H locs) {a : Nat} {fl : Bool} {t n : Nat} {f : Nat → Option Nat} (ha : h a = some (fl, t, .inr (n, .inr (.inr f)))) (ht : (TYS x.dA)[t]? = some (x.dA t, aTy t)) :
    ∃ cell : Cell, H[a]? = some cell ∧ x.s.isArrayOf cell (aTy t) ∧ cell.vm ≠ .unknown ∧ cell.slots.size = n ∧ ∀ j : Nat, j < n → cell.slots[j]? = some (va_rf (f j)) := by
  have q := hw.2.2.2 a fl t _ ha
  cases fl with
  | true =>
    have h1 : H[a]? = some (arrV (x.dA t) n (fun j => va_rf (f j))) := (q.1 rfl).2
    exact ⟨_, h1, (F.2.2.2.2.2.1.2 t _ ht).1 n _, (fun e => by cases e), arrV_size _ _ _, fun j hj => arrV_read _ _ hj⟩
  | false =>
    obtain ⟨hlt, cell, h1, h2, h3, h4, h5⟩ := q.2 rfl
    exact ⟨cell, by rw [hw.1.2 a hlt]; exact h1, State.isArrayOf_alike F.al h2, h3, h4, h5⟩
/-! the words of the weakest preconditions -/
theorem fit_rf (C : String) (r : Option Nat) : narrow (.object C) (va_rf r) = va_rf r ∧ fits (.object C) (va_rf r) = true := by cases r <;> exact ⟨rfl, rfl⟩
theorem fit_ra (ty : FieldType) (r : Option Nat) : narrow (.array ty) (va_rf r) = va_rf r ∧ fits (.array ty) (va_rf r) = true := by cases r <;> exact ⟨rfl, rfl⟩
theorem fit_i (v : Int32) : narrow .int (.int v) = .int v ∧ fits .int (.int v) = true := ⟨rfl, rfl⟩
theorem fit_f (v : UInt32) : narrow .float (.float v) = .float v ∧ fits .float (.float v) = true := ⟨rfl, rfl⟩
/-- the place of a field: its class's row, its number -/
abbrev FieldOk (ref : String) (t j : Nat) (C : String) (T : u_T) (N : Nat) : Prop := CL[t]? = some (C, T, N) ∧ j < N ∧ ((T j).1 = ref ∨ Cond.sameField ref (T j).1 (T j).2.1 (T j).2.2.1 ∈ lw_all)
theorem FieldOk.same (F : Fx x cc own nL ret rm) {ref C : String} {T : u_T} {t j N : Nat} (o : FieldOk ref t j C T N) : ∀ z, x.s.fieldFound? (T j).1 (T j).2.1 (T j).2.2.1 = some z → x.s.fieldFound? ref (T j).2.1 (T j).2.2.1 = some z := by
  intro z hz
  rcases o.2.2 with e | e
  · rw [← e]; exact hz
  · exact u_same (F.2.2.2.2.1 _ e) z hz
theorem Fx.nest (F : Fx x cc own nL ret rm) {i : Nat} {ref n d host : String} (hw : Cond.fieldLinkNest own i ref n d host ∈ lw_tbl) : (Cond.fieldLinkNest own i ref n d host).before x.args x.s = true := by
  obtain ⟨b, hb, -⟩ := F.2.2.2.2.2.2.2.2.2.2.1.2.1
  exact va_Nw.use rfl (va_Nw.warmF F.2.2.2.2.2.2.2.2.2.1 (va_Nw.of rfl (hb _ hw)))
theorem rd_fld (F : Fx x cc own nL ret rm) {ref C : String} {T : u_T} {t j N : Nat} (o : FieldOk ref t j C T N) (hin : ∀ w ∈ u_ws C T N, w ∈ lw_all) : ∃ (cf i : Nat) (kk : Class) (f : Field), x.s.fieldFound? ref (T j).2.1 (T j).2.2.1 = some (cf, kk, i, f) ∧ f.isStatic = false ∧ f.slot = x.D.2 t j := by
  obtain ⟨cf, kf, fi, fd, h1, h2⟩ := (F.2.2.2.2.2.1.1 t _ o.1).1 j o.2.1
  obtain ⟨kC, hkC⟩ := (F.2.2.2.2.2.1.1 t _ o.1).2.2
  refine ⟨cf, fi, kf, fd, o.same F _ h1, ?_, h2⟩
  exact (u_facts (F.2.2.2.2.2.1.1 t _ o.1).2.1 hkC.1 (u_lays F.2.2.2.2.1 hin o.2.1) h1).1
theorem g_getV (F : Fx x cc own nL ret rm) {i : Nat} {ref C : String} {T : u_T} {t j N : Nat} (d : decode cc pc = .ok (.getfield i, 3)) (o : FieldOk ref t j C T N) (hin : ∀ w ∈ u_ws C T N, w ∈ lw_all) (hl : Cond.fieldLink own i ref (T j).2.1 (T j).2.2.1 ∈ lw_all ∨ ∃ host, Cond.fieldLinkNest own i ref (T j).2.1 (T j).2.2.1 host ∈ lw_tbl)
    {a : Nat} {fl : Bool} {fs : List Value} {v : aV} (ha : h a = some (fl, t, .inl fs)) (hv : fs[j]? = some (vv v)) (kk : G x Q (pc + 3) lv (v :: st) h c k) : G x Q pc lv (aR (some a) :: st) h c k := by
  intro H locs ls hw hls
  obtain ⟨cell, h1, h2, h3, h4, h5⟩ := rd_obj F hw ha o.1
  obtain ⟨cf, fi, kf, f, f1, f2, f3⟩ := rd_fld F o hin
  have hs : cell.slots[f.slot]? = some (vv v) := by rw [f3]; exact h5 j _ o.2.1 hv
  rcases hl with hl | ⟨host, hl⟩
  · exact W.getf F.1 F.2.1 F.2.2.2.1 (F.2.2.2.2.1 _ hl) f1 f2 h1 h2 hs rfl rfl d (kk H locs ls hw hls)
  · exact va_Wgetf F.1 F.2.1 F.2.2.2.1 (F.nest hl) f1 f2 h1 h2 hs rfl rfl d (kk H locs ls hw hls)
theorem g_getI (F : Fx x cc own nL ret rm) {i : Nat} {ref C : String} {T : u_T} {t j N : Nat} (d : decode cc pc = .ok (.getfield i, 3)) (o : FieldOk ref t j C T N) (hin : ∀ w ∈ u_ws C T N, w ∈ lw_all) (hl : Cond.fieldLink own i ref (T j).2.1 (T j).2.2.1 ∈ lw_all ∨ ∃ host, Cond.fieldLinkNest own i ref (T j).2.1 (T j).2.2.1 host ∈ lw_tbl)
    {r : Option Nat} {K : Int32 → Prop} (hk : gI h r t j K) (kk : ∀ v, K v → G x Q (pc + 3) lv (aI v :: st) h c k) : G x Q pc lv (aR r :: st) h c k := by
  obtain ⟨a, fl, fs, v, rfl, ha, hv, hk⟩ := hk
  exact g_getV (v := aI v) F d o hin hl ha hv (kk v hk)
theorem g_getR (F : Fx x cc own nL ret rm) {i : Nat} {ref C : String} {T : u_T} {t j N : Nat} (d : decode cc pc = .ok (.getfield i, 3)) (o : FieldOk ref t j C T N) (hin : ∀ w ∈ u_ws C T N, w ∈ lw_all) (hl : Cond.fieldLink own i ref (T j).2.1 (T j).2.2.1 ∈ lw_all ∨ ∃ host, Cond.fieldLinkNest own i ref (T j).2.1 (T j).2.2.1 host ∈ lw_tbl)
    {r : Option Nat} {K : Option Nat → Prop} (hk : gR h r t j K) (kk : ∀ v, K v → G x Q (pc + 3) lv (aR v :: st) h c k) : G x Q pc lv (aR r :: st) h c k := by
  obtain ⟨a, fl, fs, v, rfl, ha, hv, hk⟩ := hk
  exact g_getV (v := aR v) F d o hin hl ha hv (kk v hk)
theorem g_getF (F : Fx x cc own nL ret rm) {i : Nat} {ref C : String} {T : u_T} {t j N : Nat} (d : decode cc pc = .ok (.getfield i, 3)) (o : FieldOk ref t j C T N) (hin : ∀ w ∈ u_ws C T N, w ∈ lw_all) (hl : Cond.fieldLink own i ref (T j).2.1 (T j).2.2.1 ∈ lw_all ∨ ∃ host, Cond.fieldLinkNest own i ref (T j).2.1 (T j).2.2.1 host ∈ lw_tbl)
    {r : Option Nat} {K : UInt32 → Prop} (hk : gF h r t j K) (kk : ∀ v, K v → G x Q (pc + 3) lv (aF v :: st) h c k) : G x Q pc lv (aR r :: st) h c k := by
  obtain ⟨a, fl, fs, v, rfl, ha, hv, hk⟩ := hk
  exact g_getV (v := aF v) F d o hin hl ha hv (kk v hk)
/-! the heap: writing. Beside the written cell all cells that were written before are held in the list, the others are outside A' -/
theorem nd_of (l : List Nat) : ∃ L : List Nat, L.Nodup ∧ ∀ a, a ∈ L ↔ a ∈ l := by
  induction l with
  | nil => exact ⟨[], List.nodup_nil, fun a => Iff.rfl⟩
  | cons b l ih =>
    obtain ⟨L, h1, h2⟩ := ih
    by_cases hb : b ∈ L
    · refine ⟨L, h1, fun a => ⟨fun q => List.mem_cons_of_mem _ ((h2 a).mp q), fun q => ?_⟩⟩
      rcases List.mem_cons.mp q with e | e
      · rw [e]; exact hb
      · exact (h2 a).mpr e
    · refine ⟨b :: L, List.nodup_cons.mpr ⟨hb, h1⟩, fun a => ?_⟩
      rw [List.mem_cons, List.mem_cons, h2]
theorem wr_ws {locs : List Loc} {H : Heap} (hw : Hw x h H locs) (L0 : List Nat) (h0 : ∀ a ∈ L0, ∃ t cv, h a = some (true, t, cv)) :
    ∃ (L : List Nat), L.Nodup ∧ (∀ a ∈ L, ∃ t cv, h a = some (true, t, cv)) ∧ (∀ a ∈ L0, a ∈ L) ∧ (∀ l ∈ locs, ∀ t cv, h l.base = some (true, t, cv) → l.base ∈ L) := by
  classical
  obtain ⟨L, h1, h2⟩ := nd_of ((L0 ++ locs.map (fun l => l.base)).filter (fun a => decide (∃ t cv, h a = some (true, t, cv))))
  refine ⟨L, h1, ?_, ?_, ?_⟩
  · intro a ha
    exact of_decide_eq_true (List.mem_filter.mp ((h2 a).mp ha)).2
  · intro a ha
    exact (h2 a).mpr (List.mem_filter.mpr ⟨List.mem_append_left _ ha, decide_eq_true (h0 a ha)⟩)
  · intro l hl t cv e
    exact (h2 _).mpr (List.mem_filter.mpr ⟨List.mem_append_right _ (List.mem_map.mpr ⟨l, hl, rfl⟩), decide_eq_true ⟨t, cv, e⟩⟩)
noncomputable def wsOf (x : Cx) (h : hH) (L : List Nat) : va_W := L.map (fun b => (b, ((h b).map (fun e => cvE x.dA e.2.1 e.2.2)).getD (.inr (0, []))))
theorem wsOf_at {L : List Nat} {i b t : Nat} {fl : Bool} {cv : hV} (hi : L[i]? = some b) (hb : h b = some (fl, t, cv)) : (wsOf x h L)[i]? = some (b, cvE x.dA t cv) := by
  unfold wsOf
  rw [List.getElem?_map, hi]
  simp [hb]
theorem wsOf_P {locs : List Loc} {H : Heap} (hw : Hw x h H locs) {L : List Nat} (hL : ∀ a ∈ L, ∃ t cv, h a = some (true, t, cv)) : va_P x.D CL (wsOf x h L) H := by
  intro i q hq
  unfold wsOf at hq
  rw [List.getElem?_map] at hq
  cases e : L[i]? with
  | none => rw [e] at hq; cases hq
  | some b =>
    obtain ⟨t, cv, hb⟩ := hL b (List.mem_of_getElem? e)
    have h1 := wsOf_at (x := x) e hb
    unfold wsOf at h1
    rw [List.getElem?_map] at h1
    rw [h1] at hq
    cases hq
    exact ((hw.2.2.2 b true t cv hb).1 rfl).2
theorem wsOf_fst {L : List Nat} {i : Nat} {q : Nat × va_E} (hq : (wsOf x h L)[i]? = some q) : L[i]? = some q.1 := by
  unfold wsOf at hq
  rw [List.getElem?_map] at hq
  cases e : L[i]? with
  | none => rw [e] at hq; cases hq
  | some b => rw [e] at hq; cases hq; rfl
theorem nd_inj {L : List Nat} (nd : L.Nodup) {i j b : Nat} (hi : L[i]? = some b) (hj : L[j]? = some b) : i = j := by
  obtain ⟨h1, e1⟩ := List.getElem?_eq_some_iff.mp hi
  obtain ⟨h2, e2⟩ := List.getElem?_eq_some_iff.mp hj
  exact (List.getElem_inj nd).mp (e1.trans e2.symm)
theorem wr_put {locs : List Loc} {H : Heap} (hw : Hw x h H locs) {a t : Nat} {cv : hV} (ha : h a = some (true, t, cv)) :
    ∃ (ws : va_W) (q0 : Nat) (A' : Nat → Prop), ws[q0]? = some (a, cvE x.dA t cv) ∧ va_P x.D CL ws H ∧ va_D A' ws ∧ va_S A' H H locs ∧ ∀ (cv' : hV) (H1 : Heap) (locs1 : List Loc), va_P x.D CL (ws.set q0 (a, cvE x.dA t cv')) H1 → va_S A' H H1 locs1 → Hw x (hup h a (true, t, cv')) H1 locs1 := by
  obtain ⟨L, nd, hL, hL0, hlo⟩ := wr_ws hw [a] (fun b hb => by rw [List.mem_singleton.mp hb]; exact ⟨t, cv, ha⟩)
  obtain ⟨q0, hq0⟩ := List.getElem?_of_mem (hL0 a (List.mem_singleton.mpr rfl))
  have hA0 : ∀ q, (q ∈ L ∨ ∃ l ∈ locs, l.base = q) → x.s0.heap.size ≤ q := by
    intro q hq
    rcases hq with hq | ⟨l, hl, rfl⟩
    · obtain ⟨t', cv', e⟩ := hL q hq
      exact ((hw.2.2.2 q true t' cv' e).1 rfl).1
    · exact hw.2.2.1 l hl
  refine ⟨wsOf x h L, q0, fun q => q ∈ L ∨ ∃ l ∈ locs, l.base = q, wsOf_at hq0 ha, wsOf_P hw hL, ⟨fun i j p q hi hj e => ?_, fun i q hi => Or.inl (List.mem_of_getElem? (wsOf_fst hi))⟩, ⟨Nat.le_refl _, fun _ _ _ => rfl, fun l hl => Or.inr ⟨l, hl, rfl⟩⟩, ?_⟩
  · exact nd_inj nd (wsOf_fst hi) (by rw [e]; exact wsOf_fst hj)
  · intro cv' H1 locs1 hP1 hS1
    refine ⟨⟨Nat.le_trans hw.1.1 hS1.1, fun q hq => ?_⟩, Nat.le_trans hw.2.1 hS1.1, fun l hl => hA0 _ (hS1.2.2 l hl), ?_⟩
    · rw [hS1.2.1 q (Nat.lt_of_lt_of_le hq hw.1.1) (fun z => absurd (hA0 q z) (Nat.not_le.mpr hq))]
      exact hw.1.2 q hq
    · intro b fl t' c' hb
      have hlen : q0 < (wsOf x h L).length := by
        have := (List.getElem?_eq_some_iff.mp (wsOf_at (x := x) hq0 ha)).1
        exact this
      by_cases e : b = a
      · subst e
        simp only [hup, if_true] at hb
        cases hb
        refine ⟨fun _ => ⟨((hw.2.2.2 b true t cv ha).1 rfl).1, ?_⟩, fun z => by cases z⟩
        exact hP1 q0 _ (by rw [List.getElem?_set_self hlen])
      · simp only [hup, if_neg e] at hb
        have hq := hw.2.2.2 b fl t' c' hb
        refine ⟨fun hfl => ⟨(hq.1 hfl).1, ?_⟩, hq.2⟩
        subst hfl
        by_cases hbL : b ∈ L
        · obtain ⟨i, hi⟩ := List.getElem?_of_mem hbL
          have hne : q0 ≠ i := fun z => by
            subst z
            rw [hq0] at hi
            exact e (Option.some.inj hi).symm
          exact hP1 i _ (by rw [List.getElem?_set_ne hne]; exact wsOf_at hi hb)
        · refine va_at.kept (hq.1 rfl).2 (hS1.2.1 b (hq.1 rfl).2.lt ?_)
          rintro (z | ⟨l, hl, z⟩)
          · exact hbL z
          · exact hbL (by rw [← z]; exact hlo l hl t' c' (by rw [z]; exact hb))
theorem wr_new {locs : List Loc} {H : Heap} (hw : Hw x h H locs) :
    ∃ (ws : va_W) (A' : Nat → Prop), va_P x.D CL ws H ∧ va_D A' ws ∧ va_S A' H H locs ∧ (∀ q, H.size ≤ q → A' q) ∧ ∀ (q t : Nat) (cv' : hV) (H1 : Heap), va_P x.D CL (ws ++ [(q, cvE x.dA t cv')]) H1 → va_D A' (ws ++ [(q, cvE x.dA t cv')]) → va_S A' H H1 locs → h q = none ∧ Hw x (hup h q (true, t, cv')) H1 locs := by
  obtain ⟨L, nd, hL, hL0, hlo⟩ := wr_ws hw [] (fun b hb => by cases hb)
  have hA0 : ∀ q, (q ∈ L ∨ (∃ l ∈ locs, l.base = q) ∨ H.size ≤ q) → x.s0.heap.size ≤ q := by
    intro q hq
    rcases hq with hq | ⟨l, hl, rfl⟩ | hq
    · obtain ⟨t', cv', e⟩ := hL q hq
      exact ((hw.2.2.2 q true t' cv' e).1 rfl).1
    · exact hw.2.2.1 l hl
    · exact Nat.le_trans hw.1.1 hq
  refine ⟨wsOf x h L, fun q => q ∈ L ∨ (∃ l ∈ locs, l.base = q) ∨ H.size ≤ q, wsOf_P hw hL, ⟨fun i j p q hi hj e => ?_, fun i q hi => Or.inl (List.mem_of_getElem? (wsOf_fst hi))⟩, ⟨Nat.le_refl _, fun _ _ _ => rfl, fun l hl => Or.inr (Or.inl ⟨l, hl, rfl⟩)⟩, fun q hq => Or.inr (Or.inr hq), ?_⟩
  · exact nd_inj nd (wsOf_fst hi) (by rw [e]; exact wsOf_fst hj)
  · intro q t cv' H1 hP1 hD1 hS1
    have hlast : (wsOf x h L ++ [(q, cvE x.dA t cv')])[(wsOf x h L).length]? = some (q, cvE x.dA t cv') := by simp
    have hAq := hD1.2 _ _ hlast
    have hnone : h q = none := by
      cases e : h q with
      | none => rfl
      | some v =>
        exfalso
        obtain ⟨fl, t', c'⟩ := v
        have hq := hw.2.2.2 q fl t' c' e
        cases fl with
        | false => exact absurd (hA0 q hAq) (Nat.not_le.mpr (hq.2 rfl).1)
        | true =>
          have hqL : q ∈ L := by
            rcases hAq with z | ⟨l, hl, z⟩ | z
            · exact z
            · have z : l.base = q := z
              rw [← z]; exact hlo l hl t' c' (by rw [z]; exact e)
            · exact absurd z (Nat.not_le.mpr (hq.1 rfl).2.lt)
          obtain ⟨i, hi⟩ := List.getElem?_of_mem hqL
          have hi2 := wsOf_at (x := x) hi e
          have hlt : i < (wsOf x h L).length := (List.getElem?_eq_some_iff.mp hi2).1
          have := hD1.1 i (wsOf x h L).length (q, cvE x.dA t' c') _ (by rw [List.getElem?_append_left hlt]; exact hi2) hlast rfl
          omega
    refine ⟨hnone, ⟨Nat.le_trans hw.1.1 hS1.1, fun z hz => ?_⟩, Nat.le_trans hw.2.1 hS1.1, hw.2.2.1, ?_⟩
    · rw [hS1.2.1 z (Nat.lt_of_lt_of_le hz hw.1.1) (fun y => absurd (hA0 z y) (Nat.not_le.mpr hz))]
      exact hw.1.2 z hz
    · intro b fl t' c' hb
      by_cases e : b = q
      · subst e
        simp only [hup, if_true] at hb
        cases hb
        exact ⟨fun _ => ⟨hA0 b hAq, hP1 _ _ hlast⟩, fun z => by cases z⟩
      · simp only [hup, if_neg e] at hb
        have hq := hw.2.2.2 b fl t' c' hb
        refine ⟨fun hfl => ⟨(hq.1 hfl).1, ?_⟩, hq.2⟩
        subst hfl
        by_cases hbL : b ∈ L
        · obtain ⟨i, hi⟩ := List.getElem?_of_mem hbL
          have hi2 := wsOf_at (x := x) hi hb
          have hlt : i < (wsOf x h L).length := (List.getElem?_eq_some_iff.mp hi2).1
          exact hP1 i _ (by rw [List.getElem?_append_left hlt]; exact hi2)
        · refine va_at.kept (hq.1 rfl).2 (hS1.2.1 b (hq.1 rfl).2.lt ?_)
          rintro (z | ⟨l, hl, z⟩ | z)
          · exact hbL z
          · exact hbL (by rw [← z]; exact hlo l hl t' c' (by rw [z]; exact hb))
          · exact absurd z (Nat.not_le.mpr (hq.1 rfl).2.lt)
/-- what a class's rows say -/
abbrev ClsOk (C : String) (T : u_T) (N : Nat) (ty : Nat → FieldType) : Prop := (∀ w ∈ u_ws C T N, w ∈ lw_all) ∧ (∀ j, j < N → parseFieldDescriptor (T j).2.2.1 = some (ty j)) ∧ ∀ a, a < N → ∀ b, b < N → a ≠ b → (T a).2.1 ≠ (T b).2.1
theorem g_putV (F : Fx x cc own nL ret rm) {i : Nat} {ref C : String} {T : u_T} {t j N : Nat} {ty : Nat → FieldType} (d : decode cc pc = .ok (.putfield i, 3)) (o : FieldOk ref t j C T N) (hc : ClsOk C T N ty) (hl : Cond.fieldLink own i ref (T j).2.1 (T j).2.2.1 ∈ lw_all ∨ ∃ host, Cond.fieldLinkNest own i ref (T j).2.1 (T j).2.2.1 host ∈ lw_tbl)
    (hfin : (T j).2.2.2 = false) {v : aV} (hn : narrow (ty j) (vv v) = vv v ∧ fits (ty j) (vv v) = true) {r : Option Nat} {K : hH → Prop} (hk : pV h r t j (vv v) K) (kk : ∀ h', K h' → G x Q (pc + 3) lv st h' c k) : G x Q pc lv (v :: aR r :: st) h c k := by
  obtain ⟨a, fs, rfl, ha, hj, hk⟩ := hk
  intro H locs ls hw hls
  obtain ⟨ws, q0, A', h0, hP, hD, hS, K1⟩ := wr_put hw ha
  rcases hl with hl | ⟨host, hl⟩
  · exact va_put F.1 F.2.1 F.2.2.2.2.1 hc.1 ty hc.2.1 hc.2.2 F.2.2.2.1 F.2.2.2.2.2.1 hP hD hS q0 h0 o.1 j o.2.1 (F.2.2.2.2.1 _ hl) (o.same F) hfin (hc.2.1 j o.2.1) hn.1 hn.2 hj d (fun H1 locs1 hP1 _ hS1 => kk _ hk H1 locs1 ls (K1 (.inl (fs.set j (vv v))) _ _ hP1 hS1) hls)
  · exact va_putN F.1 F.2.1 F.2.2.2.2.1 hc.1 ty hc.2.1 hc.2.2 F.2.2.2.1 F.2.2.2.2.2.1 hP hD hS q0 h0 o.1 j o.2.1 (F.nest hl) (o.same F) hfin (hc.2.1 j o.2.1) hn.1 hn.2 hj d (fun H1 locs1 hP1 _ hS1 => kk _ hk H1 locs1 ls (K1 (.inl (fs.set j (vv v))) _ _ hP1 hS1) hls)
/-- a final field, in its own class's constructor -/
theorem g_putF (F : Fx x cc own nL ret rm) {i : Nat} {ref C : String} {T : u_T} {t j N : Nat} {ty : Nat → FieldType} (d : decode cc pc = .ok (.putfield i, 3)) (o : FieldOk ref t j C T N) (hc : ClsOk C T N ty) (hl : Cond.fieldLink own i ref (T j).2.1 (T j).2.2.1 ∈ lw_all)
    (hfin : (T j).2.2.2 = true) (hini : x.meth.name = "<init>") (hdecl : (T j).1 = own) {v : aV} (hn : narrow (ty j) (vv v) = vv v ∧ fits (ty j) (vv v) = true) {r : Option Nat} {K : hH → Prop} (hk : pV h r t j (vv v) K) (kk : ∀ h', K h' → G x Q (pc + 3) lv st h' c k) : G x Q pc lv (v :: aR r :: st) h c k := by
  obtain ⟨a, fs, rfl, ha, hj, hk⟩ := hk
  intro H locs ls hw hls
  obtain ⟨ws, q0, A', h0, hP, hD, hS, K1⟩ := wr_put hw ha
  exact va_putF F.1 F.2.1 F.2.2.2.2.1 hc.1 ty hc.2.1 hc.2.2 F.2.2.2.1 F.2.2.2.2.2.1 hP hD hS q0 h0 o.1 j o.2.1 (F.2.2.2.2.1 _ hl) (o.same F) hfin hini hdecl (hc.2.1 j o.2.1) hn.1 hn.2 hj d (fun H1 locs1 hP1 _ hS1 => kk _ hk H1 locs1 ls (K1 (.inl (fs.set j (vv v))) _ _ hP1 hS1) hls)
theorem g_new (F : Fx x cc own nL ret rm) {i t N : Nat} {C : String} {T : u_T} {ty : Nat → FieldType} {fs : List Value} (d : decode cc pc = .ok (.new i, 3)) (hc : ClsOk C T N ty) (ht : CL[t]? = some (C, T, N)) (hcl : Cond.classLink own i C ∈ lw_all) (hins : Cond.instantiable C N ∈ lw_all) (hini : Cond.initialized C ∈ lw_all) (hfs : ∀ j, j < N → defaultValue (ty j) = vp_V fs j) (hce : c + 1 ≤ rm.cells) (hsl : k + N ≤ rm.slots)
    {K : Nat → hH → Prop} (hk : nO h t fs K) (kk : ∀ q h', K q h' → G x Q (pc + 3) lv (aR (some q) :: st) h' (c + 1) (k + N)) : G x Q pc lv st h c k := by
  intro H locs ls hw hls
  obtain ⟨ws, A', hP, hD, hS, hA1, K1⟩ := wr_new hw
  refine va_new F.1 F.2.1 F.2.2.2.2.1 hc.1 ty hc.2.1 F.2.2.2.1 (F.2.2.2.2.1 _ hcl) (F.2.2.2.2.1 _ hins) (F.2.2.2.2.1 _ hini) F.2.2.2.2.2.1 hP hD hS hA1 ht hfs (by rw [F.2.2.2.2.2.2.2.2.1]; exact hce) (by rw [F.2.2.2.2.2.2.2.2.1]; exact hsl) d (fun q H1 hP1 hD1 hS1 => ?_)
  obtain ⟨hn, hw1⟩ := K1 q t (.inl fs) H1 hP1 hD1 hS1
  exact kk q _ (hk q hn) H1 locs ls hw1 hls
/-! arrays -/
theorem in_lt {i : Int32} {n : Nat} (hin : vp_in i n) : i.toNatClampNeg < n := Nat.not_le.mp fun q => hin (Or.inr q)
theorem g_iald (F : Fx x cc own nL ret rm) (d : decode cc pc = .ok (.iaload, 1)) {r : Option Nat} {i : Int32} {K : Int32 → Prop} (hk : ldI h r 0 i K) (kk : ∀ v, K v → G x Q (pc + 1) lv (aI v :: st) h c k) : G x Q pc lv (aI i :: aR r :: st) h c k := by
  obtain ⟨a, fl, n, f, rfl, ha, hin, hk⟩ := hk
  intro H locs ls hw hls
  obtain ⟨cell, h1, h2, h3, h4, h5⟩ := rd_ai F hw ha rfl
  exact W.iald F.1 F.2.1 h1 h2 h3 (by rw [h4]; exact hin) (h5 _ (in_lt hin)) rfl rfl d (kk _ hk H locs ls hw hls)
theorem g_bald (F : Fx x cc own nL ret rm) (d : decode cc pc = .ok (.baload, 1)) {r : Option Nat} {i : Int32} {K : Int32 → Prop} (hk : ldI h r 1 i K) (kk : ∀ v, K v → G x Q (pc + 1) lv (aI v :: st) h c k) : G x Q pc lv (aI i :: aR r :: st) h c k := by
  obtain ⟨a, fl, n, f, rfl, ha, hin, hk⟩ := hk
  intro H locs ls hw hls
  obtain ⟨cell, h1, h2, h3, h4, h5⟩ := rd_ai F hw ha rfl
  exact W.bald F.1 F.2.1 h1 h2 h3 (by rw [h4]; exact hin) (h5 _ (in_lt hin)) rfl rfl d (kk _ hk H locs ls hw hls)
theorem g_zald (F : Fx x cc own nL ret rm) (d : decode cc pc = .ok (.baload, 1)) {r : Option Nat} {i : Int32} {K : Int32 → Prop} (hk : ldI h r 2 i K) (kk : ∀ v, K v → G x Q (pc + 1) lv (aI v :: st) h c k) : G x Q pc lv (aI i :: aR r :: st) h c k := by
  obtain ⟨a, fl, n, f, rfl, ha, hin, hk⟩ := hk
  intro H locs ls hw hls
  obtain ⟨cell, h1, h2, h3, h4, h5⟩ := rd_ai F hw ha rfl
  exact W.zald F.1 F.2.1 h1 h2 h3 (by rw [h4]; exact hin) (h5 _ (in_lt hin)) rfl rfl d (kk _ hk H locs ls hw hls)
theorem g_aald (F : Fx x cc own nL ret rm) {t : Nat} {C : String} (d : decode cc pc = .ok (.aaload, 1)) (ht : (TYS x.dA)[t]? = some (x.dA t, aTy t)) (hC : aTy t = .object C) {r : Option Nat} {i : Int32} {K : Option Nat → Prop} (hk : ldQ h r t i K) (kk : ∀ v, K v → G x Q (pc + 1) lv (aR v :: st) h c k) : G x Q pc lv (aI i :: aR r :: st) h c k := by
  obtain ⟨a, fl, n, f, rfl, ha, hin, hk⟩ := hk
  intro H locs ls hw hls
  obtain ⟨cell, h1, h2, h3, h4, h5⟩ := rd_aq F hw ha ht
  exact W.aald F.1 F.2.1 h1 h2 (by rw [hC]; rfl) h3 (by rw [h4]; exact hin) (h5 _ (in_lt hin)) rfl rfl d (kk _ hk H locs ls hw hls)
theorem g_lald (F : Fx x cc own nL ret rm) (d : decode cc pc = .ok (.laload, 1)) {r : Option Nat} {i : Int32} {K : Int64 → Prop} (hk : ldL h r 3 i K) (kk : ∀ v, K v → G x Q (pc + 1) lv (aL v :: st) h c k) : G x Q pc lv (aI i :: aR r :: st) h c k := by
  obtain ⟨a, n, f, rfl, ha, hin, hk⟩ := hk
  intro H locs ls hw hls
  exact va_lald F.1 F.2.1 F.2.2.2.2.2.1 (sg_P ((hw.2.2.2 a true 3 _ ha).1 rfl).2) 0 3 rfl rfl hin d (kk _ hk H locs ls hw hls)
theorem g_alen (F : Fx x cc own nL ret rm) {t : Nat} (d : decode cc pc = .ok (.arraylength, 1)) (ht : (TYS x.dA)[t]? = some (x.dA t, aTy t)) {r : Option Nat} {K : Int32 → Prop} (hk : aLn h r t K) (kk : ∀ v, K v → G x Q (pc + 1) lv (aI v :: st) h c k) : G x Q pc lv (aR r :: st) h c k := by
  obtain ⟨a, fl, n, f, rfl, ha, hk⟩ := hk
  intro H locs ls hw hls
  have hc : ∃ cell : Cell, H[a]? = some cell ∧ x.s.isArrayOf cell (aTy t) ∧ cell.slots.size = n := by
    rcases f with f | f | f
    · obtain ⟨cell, h1, h2, h3, h4, h5⟩ := rd_ai F hw ha ht
      exact ⟨cell, h1, h2, h4⟩
    · cases fl with
      | false => exact absurd ((hw.2.2.2 a false t _ ha).2 rfl).2 (fun z => z)
      | true => exact ⟨_, ((hw.2.2.2 a true t _ ha).1 rfl).2, (F.2.2.2.2.2.1.2 t _ ht).1 n _, arrV_size _ _ _⟩
    · obtain ⟨cell, h1, h2, h3, h4, h5⟩ := rd_aq F hw ha ht
      exact ⟨cell, h1, h2, h4⟩
  obtain ⟨cell, h1, h2, h4⟩ := hc
  exact W.alen F.1 F.2.1 h1 h2 (by rw [h4]) rfl rfl d (kk _ hk H locs ls hw hls)
theorem g_iast (F : Fx x cc own nL ret rm) (d : decode cc pc = .ok (.iastore, 1)) {r : Option Nat} {i v : Int32} {K : hH → Prop} (hk : stI h r 0 i v K) (kk : ∀ h', K h' → G x Q (pc + 1) lv st h' c k) : G x Q pc lv (aI v :: aI i :: aR r :: st) h c k := by
  obtain ⟨a, n, f, rfl, ha, hin, hk⟩ := hk
  intro H locs ls hw hls
  obtain ⟨ws, q0, A', h0, hP, hD, hS, K1⟩ := wr_put hw ha
  exact va_iast F.1 F.2.1 F.2.2.2.2.2.1 hP hD hS q0 0 h0 rfl hin d (fun H1 locs1 hP1 _ hS1 => kk _ hk H1 locs1 ls (K1 (.inr (n, .inl (upd f i.toNatClampNeg v))) _ _ hP1 hS1) hls)
theorem g_bast (F : Fx x cc own nL ret rm) (d : decode cc pc = .ok (.bastore, 1)) {r : Option Nat} {i v : Int32} {K : hH → Prop} (hk : stI h r 1 i v K) (kk : ∀ h', K h' → G x Q (pc + 1) lv st h' c k) : G x Q pc lv (aI v :: aI i :: aR r :: st) h c k := by
  obtain ⟨a, n, f, rfl, ha, hin, hk⟩ := hk
  intro H locs ls hw hls
  obtain ⟨ws, q0, A', h0, hP, hD, hS, K1⟩ := wr_put hw ha
  exact va_bast F.1 F.2.1 F.2.2.2.2.2.1 hP hD hS q0 1 h0 rfl hin d (fun H1 locs1 hP1 _ hS1 => kk _ hk H1 locs1 ls (K1 (.inr (n, .inl (upd f i.toNatClampNeg (vp_nar .byte v)))) _ _ hP1 hS1) hls)
theorem g_zast (F : Fx x cc own nL ret rm) (d : decode cc pc = .ok (.bastore, 1)) {r : Option Nat} {i v : Int32} {K : hH → Prop} (hk : stI h r 2 i v K) (kk : ∀ h', K h' → G x Q (pc + 1) lv st h' c k) : G x Q pc lv (aI v :: aI i :: aR r :: st) h c k := by
  obtain ⟨a, n, f, rfl, ha, hin, hk⟩ := hk
  intro H locs ls hw hls
  obtain ⟨ws, q0, A', h0, hP, hD, hS, K1⟩ := wr_put hw ha
  exact va_zast F.1 F.2.1 F.2.2.2.2.2.1 hP hD hS q0 2 h0 rfl hin d (fun H1 locs1 hP1 _ hS1 => kk _ hk H1 locs1 ls (K1 (.inr (n, .inl (upd f i.toNatClampNeg (vp_nar .boolean v)))) _ _ hP1 hS1) hls)
theorem g_last (F : Fx x cc own nL ret rm) (d : decode cc pc = .ok (.lastore, 1)) {r : Option Nat} {i : Int32} {v : Int64} {K : hH → Prop} (hk : stL h r 3 i v K) (kk : ∀ h', K h' → G x Q (pc + 1) lv st h' c k) : G x Q pc lv (aL v :: aI i :: aR r :: st) h c k := by
  obtain ⟨a, n, f, rfl, ha, hin, hk⟩ := hk
  intro H locs ls hw hls
  obtain ⟨ws, q0, A', h0, hP, hD, hS, K1⟩ := wr_put hw ha
  exact va_last F.1 F.2.1 F.2.2.2.2.2.1 hP hD hS q0 3 h0 rfl hin d (fun H1 locs1 hP1 _ hS1 => kk _ hk H1 locs1 ls (K1 (.inr (n, .inr (.inl (vp_updL f i.toNatClampNeg v)))) _ _ hP1 hS1) hls)
theorem g_ialdo (F : Fx x cc own nL ret rm) (d : decode cc pc = .ok (.iaload, 1)) {r : Option Nat} {i : Int32} {K : Int32 → Prop} (hk : ldIo h r i K) (kk : ∀ v, K v → G x Q (pc + 1) lv (aI v :: st) h c k) : G x Q pc lv (aI i :: aR r :: st) h c k := by
  obtain ⟨a, n, f, rfl, ha, hin, hk⟩ := hk
  intro H locs ls hw hls
  obtain ⟨cell, h1, h2, h3, h4, h5⟩ := rd_aio F hw ha
  exact W.iald F.1 F.2.1 h1 h2 h3 (by rw [h4]; exact hin) (h5 _ (in_lt hin)) rfl rfl d (kk _ hk H locs ls hw hls)
theorem g_aleno (F : Fx x cc own nL ret rm) (d : decode cc pc = .ok (.arraylength, 1)) {r : Option Nat} {K : Int32 → Prop} (hk : aLno h r K) (kk : ∀ v, K v → G x Q (pc + 1) lv (aI v :: st) h c k) : G x Q pc lv (aR r :: st) h c k := by
  obtain ⟨a, n, f, rfl, ha, hk⟩ := hk
  intro H locs ls hw hls
  obtain ⟨cell, h1, h2, h3, h4, h5⟩ := rd_aio F hw ha
  exact W.alen F.1 F.2.1 h1 h2 (by rw [h4]) rfl rfl d (kk _ hk H locs ls hw hls)
theorem g_aaldo (F : Fx x cc own nL ret rm) (d : decode cc pc = .ok (.aaload, 1)) {r : Option Nat} {i : Int32} {K : Option Nat → Prop} (hk : ldQo h r i K) (kk : ∀ v, K v → G x Q (pc + 1) lv (aR v :: st) h c k) : G x Q pc lv (aI i :: aR r :: st) h c k := by
  obtain ⟨a, n, f, rfl, ha, hin, hk⟩ := hk
  intro H locs ls hw hls
  obtain ⟨cell, h1, h2, h3, h4, h5⟩ := rd_aqo F hw ha
  exact W.aald F.1 F.2.1 h1 h2 rfl h3 (by rw [h4]; exact hin) (h5 _ (in_lt hin)) rfl rfl d (kk _ hk H locs ls hw hls)
/-! returns, entry, calls -/
def qI (Q : Int32 → hH → Prop) : Option Value → hH → Prop := fun v h => ∃ r : Int32, v = some (.int r) ∧ Q r h
def qR (Q : Option Nat → hH → Prop) : Option Value → hH → Prop := fun v h => ∃ r : Option Nat, v = some (va_rf r) ∧ Q r h
def qL (Q : Int64 → hH → Prop) : Option Value → hH → Prop := fun v h => ∃ r : Int64, v = some (.long r) ∧ Q r h
def qD (Q : UInt64 → hH → Prop) : Option Value → hH → Prop := fun v h => ∃ r : UInt64, v = some (.double r) ∧ Q r h
def qF (Q : UInt32 → hH → Prop) : Option Value → hH → Prop := fun v h => ∃ r : UInt32, v = some (.float r) ∧ Q r h
def qV (Q : hH → Prop) : Option Value → hH → Prop := fun v h => v = none ∧ Q h
/-- the end of a walk -/
def xQ (x : Cx) (rm : Room) (Q : Option Value → hH → Prop) : State → Prop := MQ x.below (hQ x.S Q) x.args x.s rm.cells rm.slots (hA x.s0)
theorem endQ (F : Fx x cc own nL ret rm) {locs : List Loc} {H : Heap} (hw : Hw x h H locs) {R : Option Value → hH → Prop} {v : Option Value} (hr : R v h) : ∀ t : State, t.heap = H → x.s.WarmedH t.vm → hQ x.S R x.args x.s (.returned v) t := by
  intro t ht hW
  refine ⟨v, h, rfl, hr, ⟨State.WarmedH.trans F.2.2.2.2.2.2.2.2.2.1 hW, ?_, ?_⟩, ?_⟩
  · rw [ht]; exact hw.1
  · rw [ht]; exact hw.2.2.2
  · rw [ht]; exact hw.2.1
theorem g_iret (F : Fx x cc own nL (some .int) rm) {R : Int32 → hH → Prop} {v : Int32} (d : decode cc pc = .ok (.ireturn, 1)) (h1 : c ≤ rm.cells) (h2 : k ≤ rm.slots) (hr : R v h) : G x (xQ x rm (qI R)) pc lv [aI v] h c k :=
  fun H locs ls hw hls => W.widen h1 h2 (W.iret F.1 F.2.1 F.2.2.2.2.2.2.2.1 (endQ F hw ⟨v, rfl, hr⟩) hw.2.2.1 d (hlocks := F.2.2.2.2.2.2.1))
theorem g_zret (F : Fx x cc own nL (some .boolean) rm) {R : Int32 → hH → Prop} {v : Int32} (d : decode cc pc = .ok (.ireturn, 1)) (h1 : c ≤ rm.cells) (h2 : k ≤ rm.slots) (hn : narrow .boolean (.int v) = .int v) (hr : R v h) : G x (xQ x rm (qI R)) pc lv [aI v] h c k :=
  fun H locs ls hw hls => W.widen h1 h2 (W.zret F.1 F.2.1 F.2.2.2.2.2.2.2.1 hn (endQ F hw ⟨v, rfl, hr⟩) hw.2.2.1 d (hlocks := F.2.2.2.2.2.2.1))
theorem g_cret (F : Fx x cc own nL (some .char) rm) {R : Int32 → hH → Prop} {v : Int32} (d : decode cc pc = .ok (.ireturn, 1)) (h1 : c ≤ rm.cells) (h2 : k ≤ rm.slots) (hn : narrow .char (.int v) = .int v) (hr : R v h) : G x (xQ x rm (qI R)) pc lv [aI v] h c k :=
  fun H locs ls hw hls => W.widen h1 h2 (W.zret F.1 F.2.1 F.2.2.2.2.2.2.2.1 hn (endQ F hw ⟨v, rfl, hr⟩) hw.2.2.1 d (hlocks := F.2.2.2.2.2.2.1))
theorem g_bret (F : Fx x cc own nL (some .byte) rm) {R : Int32 → hH → Prop} {v : Int32} (d : decode cc pc = .ok (.ireturn, 1)) (h1 : c ≤ rm.cells) (h2 : k ≤ rm.slots) (hn : narrow .byte (.int v) = .int v) (hr : R v h) : G x (xQ x rm (qI R)) pc lv [aI v] h c k :=
  fun H locs ls hw hls => W.widen h1 h2 (W.zret F.1 F.2.1 F.2.2.2.2.2.2.2.1 hn (endQ F hw ⟨v, rfl, hr⟩) hw.2.2.1 d (hlocks := F.2.2.2.2.2.2.1))
theorem g_vret (F : Fx x cc own nL none rm) {R : hH → Prop} (d : decode cc pc = .ok (.return_, 1)) (h1 : c ≤ rm.cells) (h2 : k ≤ rm.slots) (hr : R h) : G x (xQ x rm (qV R)) pc lv [] h c k :=
  fun H locs ls hw hls => W.widen h1 h2 (W.vret F.1 F.2.1 F.2.2.2.2.2.2.2.1 (endQ F hw ⟨rfl, hr⟩) hw.2.2.1 d (hlocks := F.2.2.2.2.2.2.1))
theorem g_dret (F : Fx x cc own nL (some .double) rm) {R : UInt64 → hH → Prop} {v : UInt64} (d : decode cc pc = .ok (.dreturn, 1)) (h1 : c ≤ rm.cells) (h2 : k ≤ rm.slots) (hr : R v h) : G x (xQ x rm (qD R)) pc lv [aD v] h c k :=
  fun H locs ls hw hls => W.widen h1 h2 (W.dret F.1 F.2.1 F.2.2.2.2.2.2.2.1 (endQ F hw ⟨v, rfl, hr⟩) hw.2.2.1 d (hlocks := F.2.2.2.2.2.2.1))
theorem g_aret {rt : FieldType} (F : Fx x cc own nL (some rt) rm) (hrt : (∃ n, rt = .object n) ∨ ∃ t, rt = .array t) {R : Option Nat → hH → Prop} {v : Option Nat} (d : decode cc pc = .ok (.areturn, 1)) (h1 : c ≤ rm.cells) (h2 : k ≤ rm.slots) (hr : R v h) : G x (xQ x rm (qR R)) pc lv [aR v] h c k :=
  fun H locs ls hw hls => W.widen h1 h2 (W.aret (v := va_rf v) F.1 F.2.1 F.2.2.2.2.2.2.2.1 hrt (by cases v with | none => exact Or.inl rfl | some a => exact Or.inr ⟨a, rfl⟩) (endQ F hw ⟨v, rfl, hr⟩) hw.2.2.1 d (hlocks := F.2.2.2.2.2.2.1))
theorem g_fret (F : Fx x cc own nL (some .float) rm) {R : UInt32 → hH → Prop} {v : UInt32} (d : decode cc pc = .ok (.freturn, 1)) (h1 : c ≤ rm.cells) (h2 : k ≤ rm.slots) (hr : R v h) : G x (xQ x rm (qF R)) pc lv [aF v] h c k :=
  fun H locs ls hw hls => W.widen h1 h2 (W.fret F.1 F.2.1 F.2.2.2.2.2.2.2.1 (endQ F hw ⟨v, rfl, hr⟩) hw.2.2.1 d (hlocks := F.2.2.2.2.2.2.1))
def aArgs : Nat → List aV → List (Nat × aV)
  | _, [] => []
  | i, v :: vs => (i, v) :: aArgs (if ac v = 2 then i + 2 else i + 1) vs
theorem aArgs_eq (vs : List aV) : ∀ i : Nat, vL (aArgs i vs) = lv_args i (vs.map vv) := by
  induction vs with
  | nil => intro i; rfl
  | cons v vs ih =>
    intro i
    show (i, vv v) :: vL (aArgs _ vs) = (i, vv v) :: lv_args _ (vs.map vv)
    rw [ih, vv_cat]
def aLen : List aV → Nat
  | [] => 0
  | v :: vs => ac v + aLen vs
theorem aLen_eq (vs : List aV) : (lg_sl (vs.map vv)).length = aLen vs := by
  induction vs with
  | nil => rfl
  | cons v vs ih =>
    have e : lg_sl ((v :: vs).map vv) = (if (vv v).category = 2 then [.val (vv v), .second] else [.val (vv v)]) ++ lg_sl (vs.map vv) := by
      simp [lg_sl]
    rw [e, List.length_append, ih, vv_cat]
    show _ = ac v + aLen vs
    have hc : ac v = 1 ∨ ac v = 2 := by rcases v with q | q | q | q | q <;> simp [ac]
    rcases hc with q | q <;> simp [q]
theorem GW_blind {S : Sx} {av : List Value} : FrameBlind (va_Pc av (GW S h)) := by
  intro a U g mk hq
  exact ⟨hq.1, hq.2.1, hq.2.2.1, hq.2.2.2⟩
/-- a contract out of its walk -/
theorem Ct.of {S : Sx} (hS : Sok S) {y : MethodName} {av : List aV} {R : Option Value → hH → Prop} (hy : plainName y.cls = true) (ho : y.cls = own) (hl : aLen av ≤ nL)
    (body : ∀ x : Cx, x.S = S → Fx x cc own nL ret rm → x.meth.name = y.name → G x (xQ x rm R) 0 (aArgs 0 av) [] h 0 0) : Ct S y (ws_ y cc nL ret) rm (av.map vv) h R := by
  refine Met.ofW (cc := cc) (maxL := nL) (ret := ret) hy rfl ?_
  intro p e s m args below meth c s₁ B hml hv
  obtain ⟨rfl, hW, hO, hR⟩ := hv
  have hts := atoms_spec (ws := ws_ y cc nL ret) B.pre
  have hts : ∀ w ∈ lw_all, w.before _ s = true := fun w h => hts w (List.mem_cons_of_mem _ h)
  have hown : s.vm.findClass own = some m.cls := by rw [← ho]; exact findClass_of_methodNamed B.named
  have hnm : meth.name = y.name := (name_of_methodNamed B.named B.method).1
  have hb := body ((p, e, rm), (s, m, (av.map vv).toArray, below), (meth, c), S) rfl ⟨B.exec, B.bytes, hml, hown, hts, va_K.moved hW.alike hS.1, B.notSynchronized, B.returns, rfl, hW, hS, hO⟩ hnm
  have hlv := lv_entry (av.map vv) (n := nL) (by rw [aLen_eq]; exact hl)
  rw [lg_entry_eq]
  rw [← aArgs_eq] at hlv
  exact hb s.heap [] _ ⟨hO, Nat.le_refl _, (fun q hq => by cases hq), hR⟩ (by rw [hml]; exact hlv)
/-- a call's run -/
def Run (x : Cx) (pc : Nat) (lv : List (Nat × aV)) (st rest : List aV) (h : hH) (c k : Nat) (rm' : Room) (R : Option Value → hH → Prop) : Prop := ∀ (H : Heap) (locs : List Loc) (ls : Array Slot), Hw x h H locs → lv_has ls x.c.maxLocals (vL lv) → va_Run x.p x.l x.e x.R x.s x.m x.args x.below x.meth x.c H locs c k rm'.cells rm'.slots (F0 x.m pc ls (st.map vv)) (rest.map vv) (hQ x.S R #[]) (hA x.s0)
def Run5 (x : Cx) (pc : Nat) (lv : List (Nat × aV)) (st rest : List aV) (h : hH) (c k : Nat) (rm' : Room) (R : Option Value → hH → Prop) : Prop := ∀ (H : Heap) (locs : List Loc) (ls : Array Slot), Hw x h H locs → lv_has ls x.c.maxLocals (vL lv) → va_Run5 x.p x.l x.e x.R x.s x.m x.args x.below x.meth x.c H locs c k rm'.cells rm'.slots (F0 x.m pc ls (st.map vv)) (rest.map vv) (hQ x.S R #[]) (hA x.s0)
theorem g_run {rest : List aV} {rm' : Room} {R : Option Value → hH → Prop} (hr : Run x pc lv st rest h c k rm' R) (kk : ∀ (v : Option Value) (h' : hH), R v h' → Go x Q (pc + 3) (vL lv) (v.toList ++ rest.map vv) h' (c + rm'.cells) (k + rm'.slots)) : G x Q pc lv st h c k := by
  intro H locs ls hw hl T hT X
  obtain ⟨v, st₀, t, T', L, h0, X', hL, e1, e2, ⟨v', h', hv, hp, hG, hz⟩, stp⟩ := hr H locs ls hw hl T hT X
  cases hv
  rw [h0] at hz
  obtain ⟨t2, a1, b1⟩ := kk v h' hp T'.heap (locs ++ L) ls ⟨by rw [e1]; exact hG.2.1, by rw [e1]; exact Nat.le_trans hw.2.1 hz, fun q hq => by
    rcases List.mem_append.mp hq with z | z
    · exact hw.2.2.1 q z
    · exact hL q z, by rw [e1]; exact hG.2.2⟩ hl T' rfl X'
  exact ⟨t2, stp t2 a1, b1⟩
theorem g_run5 {rest : List aV} {rm' : Room} {R : Option Value → hH → Prop} (hr : Run5 x pc lv st rest h c k rm' R) (kk : ∀ (v : Option Value) (h' : hH), R v h' → Go x Q (pc + 5) (vL lv) (v.toList ++ rest.map vv) h' (c + rm'.cells) (k + rm'.slots)) : G x Q pc lv st h c k := by
  intro H locs ls hw hl T hT X
  obtain ⟨v, st₀, t, T', L, h0, X', hL, e1, e2, ⟨v', h', hv, hp, hG, hz⟩, stp⟩ := hr H locs ls hw hl T hT X
  cases hv
  rw [h0] at hz
  obtain ⟨t2, a1, b1⟩ := kk v h' hp T'.heap (locs ++ L) ls ⟨by rw [e1]; exact hG.2.1, by rw [e1]; exact Nat.le_trans hw.2.1 hz, fun q hq => by
    rcases List.mem_append.mp hq with z | z
    · exact hw.2.2.1 q z
    · exact hL q z, by rw [e1]; exact hG.2.2⟩ hl T' rfl X'
  exact ⟨t2, stp t2 a1, b1⟩
theorem g_calli {rest : List aV} {rm' : Room} {R : Int32 → hH → Prop} (hr : Run x pc lv st rest h c k rm' (qI R)) (kk : ∀ (v : Int32) (h' : hH), R v h' → G x Q (pc + 3) lv (aI v :: rest) h' (c + rm'.cells) (k + rm'.slots)) : G x Q pc lv st h c k :=
  g_run hr (fun v h' q => by obtain ⟨r, rfl, q⟩ := q; exact kk r h' q)
theorem g_callr {rest : List aV} {rm' : Room} {R : Option Nat → hH → Prop} (hr : Run x pc lv st rest h c k rm' (qR R)) (kk : ∀ (v : Option Nat) (h' : hH), R v h' → G x Q (pc + 3) lv (aR v :: rest) h' (c + rm'.cells) (k + rm'.slots)) : G x Q pc lv st h c k :=
  g_run hr (fun v h' q => by obtain ⟨r, rfl, q⟩ := q; exact kk r h' q)
theorem g_calll {rest : List aV} {rm' : Room} {R : Int64 → hH → Prop} (hr : Run x pc lv st rest h c k rm' (qL R)) (kk : ∀ (v : Int64) (h' : hH), R v h' → G x Q (pc + 3) lv (aL v :: rest) h' (c + rm'.cells) (k + rm'.slots)) : G x Q pc lv st h c k :=
  g_run hr (fun v h' q => by obtain ⟨r, rfl, q⟩ := q; exact kk r h' q)
theorem g_calld {rest : List aV} {rm' : Room} {R : UInt64 → hH → Prop} (hr : Run x pc lv st rest h c k rm' (qD R)) (kk : ∀ (v : UInt64) (h' : hH), R v h' → G x Q (pc + 3) lv (aD v :: rest) h' (c + rm'.cells) (k + rm'.slots)) : G x Q pc lv st h c k :=
  g_run hr (fun v h' q => by obtain ⟨r, rfl, q⟩ := q; exact kk r h' q)
theorem g_callf {rest : List aV} {rm' : Room} {R : UInt32 → hH → Prop} (hr : Run x pc lv st rest h c k rm' (qF R)) (kk : ∀ (v : UInt32) (h' : hH), R v h' → G x Q (pc + 3) lv (aF v :: rest) h' (c + rm'.cells) (k + rm'.slots)) : G x Q pc lv st h c k :=
  g_run hr (fun v h' q => by obtain ⟨r, rfl, q⟩ := q; exact kk r h' q)
theorem g_callv {rest : List aV} {rm' : Room} {R : hH → Prop} (hr : Run x pc lv st rest h c k rm' (qV R)) (kk : ∀ (h' : hH), R h' → G x Q (pc + 3) lv rest h' (c + rm'.cells) (k + rm'.slots)) : G x Q pc lv st h c k :=
  g_run hr (fun v h' q => by obtain ⟨rfl, q⟩ := q; exact kk h' q)
theorem g_calli5 {rest : List aV} {rm' : Room} {R : Int32 → hH → Prop} (hr : Run5 x pc lv st rest h c k rm' (qI R)) (kk : ∀ (v : Int32) (h' : hH), R v h' → G x Q (pc + 5) lv (aI v :: rest) h' (c + rm'.cells) (k + rm'.slots)) : G x Q pc lv st h c k :=
  g_run5 hr (fun v h' q => by obtain ⟨r, rfl, q⟩ := q; exact kk r h' q)
theorem g_callr5 {rest : List aV} {rm' : Room} {R : Option Nat → hH → Prop} (hr : Run5 x pc lv st rest h c k rm' (qR R)) (kk : ∀ (v : Option Nat) (h' : hH), R v h' → G x Q (pc + 5) lv (aR v :: rest) h' (c + rm'.cells) (k + rm'.slots)) : G x Q pc lv st h c k :=
  g_run5 hr (fun v h' q => by obtain ⟨r, rfl, q⟩ := q; exact kk r h' q)
theorem g_calll5 {rest : List aV} {rm' : Room} {R : Int64 → hH → Prop} (hr : Run5 x pc lv st rest h c k rm' (qL R)) (kk : ∀ (v : Int64) (h' : hH), R v h' → G x Q (pc + 5) lv (aL v :: rest) h' (c + rm'.cells) (k + rm'.slots)) : G x Q pc lv st h c k :=
  g_run5 hr (fun v h' q => by obtain ⟨r, rfl, q⟩ := q; exact kk r h' q)
theorem g_calld5 {rest : List aV} {rm' : Room} {R : UInt64 → hH → Prop} (hr : Run5 x pc lv st rest h c k rm' (qD R)) (kk : ∀ (v : UInt64) (h' : hH), R v h' → G x Q (pc + 5) lv (aD v :: rest) h' (c + rm'.cells) (k + rm'.slots)) : G x Q pc lv st h c k :=
  g_run5 hr (fun v h' q => by obtain ⟨r, rfl, q⟩ := q; exact kk r h' q)
theorem g_callf5 {rest : List aV} {rm' : Room} {R : UInt32 → hH → Prop} (hr : Run5 x pc lv st rest h c k rm' (qF R)) (kk : ∀ (v : UInt32) (h' : hH), R v h' → G x Q (pc + 5) lv (aF v :: rest) h' (c + rm'.cells) (k + rm'.slots)) : G x Q pc lv st h c k :=
  g_run5 hr (fun v h' q => by obtain ⟨r, rfl, q⟩ := q; exact kk r h' q)
theorem g_callv5 {rest : List aV} {rm' : Room} {R : hH → Prop} (hr : Run5 x pc lv st rest h c k rm' (qV R)) (kk : ∀ (h' : hH), R h' → G x Q (pc + 5) lv rest h' (c + rm'.cells) (k + rm'.slots)) : G x Q pc lv st h c k :=
  g_run5 hr (fun v h' q => by obtain ⟨rfl, q⟩ := q; exact kk h' q)
end
