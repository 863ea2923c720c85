/-! LAMBDAS: rows -/
set_option maxRecDepth 100000
set_option maxHeartbeats 4000000
theorem la_three {α : Type} {A : Array Nat} {f : Nat → Nat → Nat → Option α} {r : α} (h : Lambda.shapeOf?.match_15 (fun _ => Option α) A f (fun _ => none) = some r) : ∃ a0 a1 a2, f a0 a1 a2 = some r := by
  obtain ⟨L⟩ := A
  match L, h with
  | [], h => cases h
  | [_], h => cases h
  | [_, _], h => cases h
  | [a, b, c], h => exact ⟨a, b, c, h⟩
  | _ :: _ :: _ :: _ :: _, h => cases h
theorem la_19 {α : Type} {z : Option CpInfo} {f : Nat → Nat → Option α} {r : α} (h : Lambda.shapeOf?.match_19 (fun _ => Option α) z f (fun _ => none) = some r) : ∃ b nt, z = some (.invokeDynamic b nt) ∧ f b nt = some r := by
  split at h
  · exact ⟨_, _, rfl, h⟩
  · cases h
theorem la_17 {α : Type} {z : Option CpInfo} {f : Nat → Option α} {r : α} (h : Lambda.shapeOf?.match_17 (fun _ => Option α) z f (fun _ => none) = some r) : ∃ y, f y = some r := by
  split at h
  · exact ⟨_, h⟩
  · cases h
theorem la_9 {α : Type} {z : Option CpInfo} {f : Nat → Option α} {r : α} (h : Lambda.shapeOf?.match_9 (fun _ => Option α) z f (fun _ => none) = some r) : ∃ y, f y = some r := by
  split at h
  · exact ⟨_, h⟩
  · cases h
theorem la_12 {α : Type} {z : Option CpInfo} {f : Nat → Nat → Option α} {r : α} (h : Lambda.shapeOf?.match_12 (fun _ => Option α) z f (fun _ => none) = some r) : ∃ y w, f y w = some r := by
  split at h
  · exact ⟨_, _, h⟩
  · cases h
theorem la_6 {α : Type} {z : Option FieldType} {f : String → Option α} {r : α} (h : Lambda.shapeOf?.match_6 (fun _ => Option α) z f (fun _ => none) = some r) : ∃ y, f y = some r := by
  split at h
  · exact ⟨_, h⟩
  · cases h
theorem la_site {cf : ClassFile} {index : Nat} {σ : Lambda.Shape} (h : Lambda.shapeOf? cf index = some σ) : ∃ (b nt : Nat) (name desc : String) (sg : MethodDescriptor), cf.constantPool[index]? = some (.invokeDynamic b nt) ∧ cf.constantPool.nameAndType? nt = some (name, desc) ∧ parseLongMethodDescriptor desc = some sg ∧ sg.parameters = σ.captured := by
  unfold Lambda.shapeOf? at h
  obtain ⟨b, nt, hidx, h⟩ := la_19 h
  obtain ⟨_, -, h⟩ := Option.bind_eq_some_iff.mp h
  obtain ⟨bm, -, h⟩ := Option.bind_eq_some_iff.mp h
  obtain ⟨_, h⟩ := la_17 h
  obtain ⟨_, -, h⟩ := Option.bind_eq_some_iff.mp h
  obtain ⟨_, _, _, h⟩ := la_three h
  obtain ⟨_, h⟩ := la_9 h
  obtain ⟨_, _, h⟩ := la_12 h
  obtain ⟨_, h⟩ := la_9 h
  obtain ⟨nd, hnd, h⟩ := Option.bind_eq_some_iff.mp h
  obtain ⟨site, hsite, h⟩ := Option.bind_eq_some_iff.mp h
  obtain ⟨_, h⟩ := la_6 h
  obtain ⟨_, -, h⟩ := Option.bind_eq_some_iff.mp h
  obtain ⟨_, -, h⟩ := Option.bind_eq_some_iff.mp h
  obtain ⟨_, -, h⟩ := Option.bind_eq_some_iff.mp h
  obtain ⟨_, -, h⟩ := Option.bind_eq_some_iff.mp h
  obtain ⟨_, -, h⟩ := Option.bind_eq_some_iff.mp h
  obtain ⟨_, -, h⟩ := Option.bind_eq_some_iff.mp h
  cases h
  exact ⟨b, nt, nd.1, nd.2, site, hidx, hnd, parseLong_of_parse hsite, rfl⟩
section
variable {x : Cx} {cc : ByteArray} {own : String} {nL : Nat} {ret : Option FieldType} {rm : Room} {Q : State → Prop} {pc : Nat} {lv lv' : List (Nat × aV)} {st rest As : List aV} {h : hH} {c k : Nat}
  {i n t N maxL : Nat} {C : String} {y y0 : MethodName} {bytes : ByteArray} {ret' : Option FieldType} {rm' : Room} {R : Option Value → hH → Prop} {σ : Lambda.Shape} {H : Heap} {locs : List Loc} {c0 : ClassId} {one : Option Addr}
theorem Fx.obj0 (F : Fx x cc own nL ret rm) : ∀ o ok, x.s.vm.findClass "java/lang/Object" = some o → x.s.vm.classes[o]? = some ok → ok.instanceTypes.size = 0 := by
  intro o ok ho hok
  obtain ⟨c, k, hc, hk, -, -, -, hn⟩ := Cond.instantiable_spec (F.ts _ q3645)
  cases ho.symm.trans hc
  cases hok.symm.trans hk
  exact hn
theorem Fx.named0 (F : Fx x cc own nL ret rm) {m : MethodId} (h : x.s0.methodNamed? y = some m) : x.s.methodNamed? y = some m := by
  have q := State.methodNamed?_setVm (s := x.s0) F.al y
  rw [h] at q
  exact q
theorem la_at (F : Fx x cc own nL ret rm) (hs : x.s0.lambdaAt? y pc i σ = some (c0, one)) : ∃ (m : MethodId) (k : Class) (cf : ClassFile) (i0 p0 : Nat) (lk : Linked), x.s.methodNamed? y = some m ∧ x.s.vm.classes[m.cls]? = some k ∧ k.cf = some cf ∧ Lambda.shapeOf? cf i = some σ ∧ (k.callSites.find? fun z => z.1 == m.idx && z.2.1 == pc) = some (i0, p0, lk) ∧ Lambda.isMade { classPath := fun _ => none } x.s.vm m.cls σ c0 = true ∧ x.s.lambdaCallable σ c0 = true ∧
    ((∃ a cell, lk = .constant a ∧ one = some a ∧ x.s0.heap[a]? = some cell ∧ cell.cls = c0 ∧ cell.vm = .none) ∨ (lk = .makes c0 ∧ one = none)) := by
  obtain ⟨m, kc, cf, i0, p0, lk, hm, hk, hcf, hsh, hin, hfind, hmade, hcall, hl⟩ := State.lambdaAt?_spec hs
  obtain ⟨kc', hk', he⟩ := F.al.2.2 _ _ hk
  refine ⟨m, kc', cf, i0, p0, lk, F.named0 hm, hk', by rw [he]; exact hcf, hsh, by rw [he]; exact hfind, Lambda.isMade_warmer F.hot hmade, ?_, ?_⟩
  · have hA := F.al
    simp only [State.lambdaCallable, hA.findClass, hA.assignable, hA.superclasses, hA.declaredIn] at hcall ⊢
    exact hcall
  · rcases hl with ⟨a, cell, h1, h2, -, h3, h4, h5, -⟩ | ⟨h1, h2, -⟩
    · exact Or.inl ⟨a, cell, h1, h2, h3, h4, h5⟩
    · exact Or.inr ⟨h1, h2⟩
/-- the one object of a site that captures nothing -/
theorem g_indyC {a : Nat} (F : Fx x cc own nL ret rm) (hN : x.s.methodNamed? y = some x.m) (d : decode cc pc = .ok (.invokedynamic i, 5)) (hs : x.s0.lambdaAt? y pc i σ = some (c0, some a)) (hlo : (st.map ac).sum + 3072 ≤ rm.locals) (kk : G x Q (pc + 5) lv (aR (some a) :: st) h c k) : G x Q pc lv st h c k := by
  intro H locs ls hw hl T hT X
  obtain ⟨m, kc, cf, i0, p0, lk, hm, hk, hcf, hsh, hfind, -, -, hx⟩ := la_at F hs
  cases hN.symm.trans hm
  rcases hx with ⟨a', cell, rfl, h2, -⟩ | ⟨-, h2⟩
  · cases h2
    obtain ⟨t, s1, s2⟩ := kk H locs ls hw hl T hT X
    refine ⟨t, X.lambdaConstant F.1 (g := F0 x.m pc ls (st.map vv)) rfl hl.1 (by rw [F.2.1]; exact d) hk hfind ?_ s1, s2⟩
    rw [X.admits.platform, F.rmE]
    show 2 * 0 + ((st.map vv).map fun v => v.category).sum + 3072 ≤ rm.locals
    rw [cat_sum]
    omega
  · cases h2
theorem Hw.pushQ {g : Nat → Option Nat} (hw : Hw x h H locs) : h H.size = none ∧ Hw x (hup h H.size (true, t, .inr (n, .inr (.inr g)))) (H.push (arrV (x.dA t) n fun j => va_rf (g j))) locs := by
  have hlt : ∀ a fl u cv, h a = some (fl, u, cv) → a < H.size := fun a fl u cv e => by
    cases fl with
    | true => exact ((hw.2.2.2 a true u cv e).1 rfl).2.lt
    | false => exact Nat.lt_of_lt_of_le ((hw.2.2.2 a false u cv e).2 rfl).1 hw.1.1
  have hold : ∀ a, a < H.size → (H.push (arrV (x.dA t) n fun j => va_rf (g j)))[a]? = H[a]? := fun a ha => by
    rw [Array.getElem?_push, if_neg (by omega)]
  refine ⟨?_, ⟨?_, ?_⟩, ?_, hw.2.2.1, ?_⟩
  · cases e : h H.size with
    | none => rfl
    | some v => exact absurd (hlt _ v.1 v.2.1 v.2.2 e) (Nat.lt_irrefl _)
  · rw [Array.size_push]; exact Nat.le_succ_of_le hw.1.1
  · intro q hq; rw [hold q (Nat.lt_of_lt_of_le hq hw.1.1)]; exact hw.1.2 q hq
  · rw [Array.size_push]; exact Nat.le_succ_of_le hw.2.1
  · intro a fl u cv e
    by_cases ha : a = H.size
    · subst ha
      have e' : hup h H.size (true, t, .inr (n, .inr (.inr g))) H.size = some (true, t, .inr (n, .inr (.inr g))) := if_pos rfl
      rw [e'] at e
      cases e
      exact ⟨fun _ => ⟨hw.1.1, (show (H.push (arrV (x.dA t) n fun j => va_rf (g j)))[H.size]? = some (arrV (x.dA t) n fun j => va_rf (g j)) from by simp)⟩, fun z => by cases z⟩
    · have e' : hup h H.size (true, t, .inr (n, .inr (.inr g))) a = h a := if_neg ha
      rw [e'] at e
      have g0 := hw.2.2.2 a fl u cv e
      exact ⟨fun z => ⟨(g0.1 z).1, va_at.kept (g0.1 z).2 (hold a (g0.1 z).2.lt)⟩, g0.2⟩
theorem la_one (d : ClassId) (r : Option Nat) : ({ cls := d, slots := [va_rf r].toArray, vm := .none } : Cell) = arrV d 1 (fun _ => va_rf r) := by
  unfold arrV
  congr 1
theorem g_indyM {r : Option Nat} {K : Nat → hH → Prop} (F : Fx x cc own nL ret rm) (hN : x.s.methodNamed? y = some x.m) (d : decode cc pc = .ok (.invokedynamic i, 5)) (hs : x.s0.lambdaAt? y pc i σ = some (x.dA t, none)) (hcap : σ.captured = [.object laM]) (hfld : laFld x.s.vm (x.dA t)) (hlo : (st.map ac).sum + 1 + 3072 ≤ rm.locals) (hce : c + 1 ≤ rm.cells) (hsl : k + 1 ≤ rm.slots) (hk : nLa h t r K)
    (kk : ∀ q h', K q h' → G x Q (pc + 5) lv (aR (some q) :: st) h' (c + 1) (k + 1)) : G x Q pc lv (aR r :: st) h c k := by
  intro H locs ls hw hl T hT X
  subst hT
  obtain ⟨m, kc, cf, i0, p0, lk, hm, hkc, hcf, hsh, hfind, -, -, hx⟩ := la_at F hs
  cases hN.symm.trans hm
  rcases hx with ⟨a', cell, -, h2, -⟩ | ⟨rfl, -⟩
  · cases h2
  obtain ⟨b, nt, nm, ds, sg, hc, hnt, hsg, hpar⟩ := la_site hsh
  obtain ⟨kK, g0, hkK, -, -, -, hty, hkind⟩ := hfld
  have hsl0 : ((kK.instanceTypes.toList.zip [vv (aR r)]).map fun (t, v) => narrow t v) = [va_rf r] := by
    rw [hty]
    cases r <;> rfl
  have hwd : 2 * (F0 x.m pc ls ((aR r :: st).map vv)).monitorRoom + ((F0 x.m pc ls ((aR r :: st).map vv)).stack.map fun v => v.category).sum + x.e.platform.lambdaLinkWords ≤ x.R.locals := by
    rw [X.admits.platform, F.rmE]
    show 2 * 0 + (((aR r :: st).map vv).map fun v => v.category).sum + 3072 ≤ rm.locals
    rw [cat_sum]
    show 2 * 0 + (1 + (st.map ac).sum) + 3072 ≤ rm.locals
    omega
  obtain ⟨X1, st1⟩ := X.lambdaMakes F.1 (g := F0 x.m pc ls ((aR r :: st).map vv)) rfl hl.1 (by rw [F.2.1]; exact d) (vals := [vv (aR r)]) (rest := st.map vv) hkc hfind hcf hc hnt hsg (by rw [hpar, hcap]; rfl) rfl hkK hwd (by rw [F.rmE]; exact hce) (by rw [hsl0, F.rmE]; exact hsl)
    (fun i v hv => by
      rw [hsl0] at hv
      match i with
      | 0 =>
        simp at hv
        subst hv
        cases r <;> simp [State.fitsSlot, State.slotType?, hkK, hkind, hty, fits, va_rf]
      | i + 1 => simp at hv)
  simp only [hsl0] at X1 st1
  rw [la_one] at X1 st1
  obtain ⟨hn, hw1⟩ := hw.pushQ (t := t) (n := 1) (g := fun _ => r)
  obtain ⟨t2, s1, s2⟩ := kk T.heap.size _ (hk T.heap.size hn) _ locs ls hw1 hl _ rfl X1
  exact ⟨t2, st1 t2 s1, s2⟩
end
