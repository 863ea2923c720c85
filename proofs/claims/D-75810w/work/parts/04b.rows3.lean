/-! arrays of references: storing; clones; copies -/
set_option maxRecDepth 100000
section
variable {x : Cx} {cc : ByteArray} {own : String} {nL : Nat} {ret : Option FieldType} {rm : Room} {Q : State → Prop} {pc : Nat} {lv lv' : List (Nat × aV)} {st rest As : List aV} {h : hH} {c k : Nat}
  {i n t N : Nat} {C nm : String} {T : u_T}
theorem ob_word {u : Nat} (hu : u ∈ obTags) : ∃ r : vw_C, CL[u]? = some r ∧ Cond.castable r.1 "java/lang/Object" ∈ lw_tbl := by
  simp only [obTags, List.mem_cons, List.not_mem_nil, or_false] at hu
  rcases hu with rfl | rfl | rfl | rfl | rfl | rfl | rfl | rfl | rfl | rfl | rfl | rfl | rfl | rfl | rfl | rfl | rfl | rfl | rfl | rfl | rfl | rfl | rfl | rfl | rfl | rfl | rfl | rfl | rfl
  · exact ⟨_, rfl, q3590⟩
  · exact ⟨_, rfl, q3591⟩
  · exact ⟨_, rfl, q3592⟩
  · exact ⟨_, rfl, q3598⟩
  · exact ⟨_, rfl, q3599⟩
  · exact ⟨_, rfl, q3588⟩
  · exact ⟨_, rfl, q3606⟩
  · exact ⟨_, rfl, q3607⟩
  · exact ⟨_, rfl, q3609⟩
  · exact ⟨_, rfl, q3613⟩
  · exact ⟨_, rfl, q3614⟩
  · exact ⟨_, rfl, q3615⟩
  · exact ⟨_, rfl, q3618⟩
  · exact ⟨_, rfl, q3619⟩
  · exact ⟨_, rfl, q3595⟩
  · exact ⟨_, rfl, q3621⟩
  · exact ⟨_, rfl, q3593⟩
  · exact ⟨_, rfl, q3594⟩
  · exact ⟨_, rfl, q3626⟩
  · exact ⟨_, rfl, q3596⟩
  · exact ⟨_, rfl, q3597⟩
  · exact ⟨_, rfl, q3601⟩
  · exact ⟨_, rfl, q3604⟩
  · exact ⟨_, rfl, q3608⟩
  · exact ⟨_, rfl, q3610⟩
  · exact ⟨_, rfl, q3623⟩
  · exact ⟨_, rfl, q3625⟩
  · exact ⟨_, rfl, q3617⟩
  · exact ⟨_, rfl, q3589⟩
theorem asg_of (F : Fx x cc own nL ret rm) {C E : String} (q : Cond.castable C E ∈ lw_tbl) {c0 comp : ClassId} (h1 : x.s.vm.findClass E = some comp) (h2 : x.s.vm.findClass C = some c0) : x.s.vm.assignable c0 comp = true := by
  obtain ⟨c1, t1, f1, f2, f3⟩ := Cond.castable_spec (va_Nw.use (A := x.args) rfl (F.castable q))
  cases f1.symm.trans h2
  cases f2.symm.trans h1
  exact f3
theorem any_obj (F : Fx x cc own nL ret rm) {locs : List Loc} {H : Heap} (hw : Hw x h H locs) {b : Nat} {fl : Bool} {fs : List Value} {r : vw_C} (hr : CL[t]? = some r) (hb : h b = some (fl, t, .inl fs)) {E : String} (ha : ∀ comp c0 : ClassId, x.s.vm.findClass E = some comp → x.s.vm.findClass r.1 = some c0 → x.s.vm.assignable c0 comp = true) : va_Any E x.s H b := by
  obtain ⟨cell, h1, h2, h3, h4, h5⟩ := rd_obj F hw hb hr
  obtain ⟨q1, kC, q2, -⟩ := (F.2.2.2.2.2.1.1 t r hr).2
  refine ⟨cell, h1, h3, ⟨kC, ?_⟩, fun comp hc => ha comp cell.cls hc h4⟩
  rw [← Option.some.inj (q1.symm.trans h4)]
  exact q2
theorem any_at (F : Fx x cc own nL ret rm) {locs : List Loc} {H : Heap} (hw : Hw x h H locs) {b : Nat} (hb : inArr h 4 b) : va_Any "java/lang/Object" x.s H b := by
  rcases hb with ⟨fl, u, fs, hu, hb⟩ | ⟨f, hb⟩
  · obtain ⟨r, h1, h2⟩ := ob_word hu
    exact any_obj F hw h1 hb (fun comp c0 q1 q2 => asg_of F h2 q1 q2)
  · obtain ⟨m, f⟩ := f
    have h1 := ((hw.2.2.2 b true 5 _ hb).1 rfl).2
    have h2 : ∃ z, H[b]? = some (arrV (x.dA 5) m z) := by
      rcases f with f | f | f
      · exact ⟨fun j => .int (f j), h1⟩
      · exact ⟨fun j => .long (f j), h1⟩
      · exact ⟨fun j => va_rf (f j), h1⟩
    obtain ⟨z, h2⟩ := h2
    obtain ⟨kA, comp5, q1, q2, q3, q4⟩ := (F.2.2.2.2.2.1.2 5 _ rfl).2
    exact ⟨_, h2, rfl, ⟨kA, q1⟩, fun comp hc => asg_of F q3638 hc q4⟩
theorem assign_self (F : Fx x cc own nL ret rm) {r : vw_C} (hr : CL[t]? = some r) : ∀ comp c0 : ClassId, x.s.vm.findClass r.1 = some comp → x.s.vm.findClass r.1 = some c0 → x.s.vm.assignable c0 comp = true := by
  intro comp c0 h1 h2
  cases h1.symm.trans h2
  have h3 := (F.2.2.2.2.2.1.1 t r hr).2
  cases h3.1.symm.trans h1
  exact va_assign h3
theorem g_aast {r v : Option Nat} {E : String} {i : Int32} {K : hH → Prop} (F : Fx x cc own nL ret rm) (d : decode cc pc = .ok (.aastore, 1)) (ht : (TYS x.dA)[t]? = some (x.dA t, aTy t)) (hE : aTy t = .object E) (hin : ∀ (H : Heap) (locs : List Loc) (b : Nat), Hw x h H locs → inArr h t b → va_Any E x.s H b) (hk : stQ h r t i v K) (kk : ∀ h', K h' → G x Q (pc + 1) lv st h' c k) : G x Q pc lv (aR v :: aI i :: aR r :: st) h c k := by
  obtain ⟨a, n, f, rfl, ha, hi, hv, hk⟩ := hk
  intro H locs ls hw hls
  obtain ⟨ws, q0, A', h0, hP, hD, hS, K1⟩ := wr_put hw ha
  cases v with
  | none => exact va_astqN (C := E) F.1 F.2.1 F.2.2.2.2.2.1 hP hD hS q0 t h0 (by rw [ht, hE]) hi d (fun H1 locs1 hP1 _ hS1 => kk _ hk H1 locs1 ls (K1 (.inr (n, .inr (.inr (va_up f i.toNatClampNeg none)))) _ _ hP1 hS1) hls)
  | some b => exact va_astqM F.1 F.2.1 F.2.2.2.2.2.1 hP hD hS q0 t h0 (by rw [ht, hE]) (hin H locs b hw (hv b rfl)) hi d (fun H1 locs1 hP1 _ hS1 => kk _ hk H1 locs1 ls (K1 (.inr (n, .inr (.inr (va_up f i.toNatClampNeg (some b))))) _ _ hP1 hS1) hls)
theorem g_aast4 {r v : Option Nat} {i : Int32} {K : hH → Prop} (F : Fx x cc own nL ret rm) (d : decode cc pc = .ok (.aastore, 1)) (hk : stQ h r 4 i v K) (kk : ∀ h', K h' → G x Q (pc + 1) lv st h' c k) : G x Q pc lv (aR v :: aI i :: aR r :: st) h c k :=
  g_aast F d rfl rfl (fun H locs b hw hb => any_at F hw hb) hk kk
theorem g_aast5 {r v : Option Nat} {i : Int32} {K : hH → Prop} (F : Fx x cc own nL ret rm) (d : decode cc pc = .ok (.aastore, 1)) (hk : stQ h r 5 i v K) (kk : ∀ h', K h' → G x Q (pc + 1) lv st h' c k) : G x Q pc lv (aR v :: aI i :: aR r :: st) h c k :=
  g_aast F d rfl rfl (fun H locs b hw hb => by obtain ⟨fl, fs, hb⟩ := hb; exact any_obj (r := (RX8, TX8, 5)) F hw rfl hb (assign_self (t := 5) F rfl)) hk kk
theorem g_aast6 {r v : Option Nat} {i : Int32} {K : hH → Prop} (F : Fx x cc own nL ret rm) (d : decode cc pc = .ok (.aastore, 1)) (hk : stQ h r 6 i v K) (kk : ∀ h', K h' → G x Q (pc + 1) lv st h' c k) : G x Q pc lv (aR v :: aI i :: aR r :: st) h c k :=
  g_aast F d rfl rfl (fun H locs b hw hb => by obtain ⟨fl, fs, hb⟩ := hb; exact any_obj (r := (RJ32, TJ32, 4)) F hw rfl hb (assign_self (t := 28) F rfl)) hk kk
/-- two cells in the list at once, the second is written -/
theorem wr_put2 {locs : List Loc} {H : Heap} (hw : Hw x h H locs) {a0 t0 a t : Nat} {cv0 cv : hV} (ha0 : h a0 = some (true, t0, cv0)) (ha : h a = some (true, t, cv)) :
    ∃ (ws : va_W) (q0 q1 : Nat) (A' : Nat → Prop), ws[q0]? = some (a0, cvE x.dA t0 cv0) ∧ ws[q1]? = some (a, cvE x.dA t cv) ∧ va_P x.D CL ws H ∧ va_D A' ws ∧ va_S A' H H locs ∧ ∀ (cv' : hV) (H1 : Heap) (locs1 : List Loc), va_P x.D CL (ws.set q1 (a, cvE x.dA t cv')) H1 → va_S A' H H1 locs1 → Hw x (hup h a (true, t, cv')) H1 locs1 := by
  obtain ⟨L, nd, hL, hL0, hlo⟩ := wr_ws hw [a0, a] (fun b hb => by
    rcases List.mem_cons.mp hb with e | e
    · rw [e]; exact ⟨t0, cv0, ha0⟩
    · rw [List.mem_singleton.mp e]; exact ⟨t, cv, ha⟩)
  obtain ⟨q0, hq0⟩ := List.getElem?_of_mem (hL0 a0 (by simp))
  obtain ⟨q1, hq1⟩ := List.getElem?_of_mem (hL0 a (by simp))
  have hA0 : ∀ q, (q ∈ L ∨ ∃ l ∈ locs, l.base = q) → x.s0.heap.size ≤ q := by
    intro q hq
    rcases hq with hq | ⟨l, hl, rfl⟩
    · obtain ⟨t', cv', e⟩ := hL q hq
      exact ((hw.2.2.2 q true t' cv' e).1 rfl).1
    · exact hw.2.2.1 l hl
  refine ⟨wsOf x h L, q0, q1, fun q => q ∈ L ∨ ∃ l ∈ locs, l.base = q, wsOf_at hq0 ha0, wsOf_at hq1 ha, wsOf_P hw hL, ⟨fun i j p q hi hj e => ?_, fun i q hi => Or.inl (List.mem_of_getElem? (wsOf_fst hi))⟩, ⟨Nat.le_refl _, fun _ _ _ => rfl, fun l hl => Or.inr ⟨l, hl, rfl⟩⟩, ?_⟩
  · exact nd_inj nd (wsOf_fst hi) (by rw [e]; exact wsOf_fst hj)
  · intro cv' H1 locs1 hP1 hS1
    refine ⟨⟨Nat.le_trans hw.1.1 hS1.1, fun q hq => ?_⟩, Nat.le_trans hw.2.1 hS1.1, fun l hl => hA0 _ (hS1.2.2 l hl), ?_⟩
    · rw [hS1.2.1 q (Nat.lt_of_lt_of_le hq hw.1.1) (fun z => absurd (hA0 q z) (Nat.not_le.mpr hq))]
      exact hw.1.2 q hq
    · intro b fl t' c' hb
      have hlen : q1 < (wsOf x h L).length := (List.getElem?_eq_some_iff.mp (wsOf_at (x := x) hq1 ha)).1
      by_cases e : b = a
      · subst e
        simp only [hup, if_true] at hb
        cases hb
        refine ⟨fun _ => ⟨((hw.2.2.2 b true t cv ha).1 rfl).1, ?_⟩, fun z => by cases z⟩
        exact hP1 q1 _ (by rw [List.getElem?_set_self hlen])
      · simp only [hup, if_neg e] at hb
        have hq := hw.2.2.2 b fl t' c' hb
        refine ⟨fun hfl => ⟨(hq.1 hfl).1, ?_⟩, hq.2⟩
        subst hfl
        by_cases hbL : b ∈ L
        · obtain ⟨i, hi⟩ := List.getElem?_of_mem hbL
          have hne : q1 ≠ i := fun z => by
            subst z
            rw [hq1] at hi
            exact e (Option.some.inj hi).symm
          exact hP1 i _ (by rw [List.getElem?_set_ne hne]; exact wsOf_at hi hb)
        · refine va_at.kept (hq.1 rfl).2 (hS1.2.1 b (hq.1 rfl).2.lt ?_)
          rintro (z | ⟨l, hl, z⟩)
          · exact hbL z
          · exact hbL (by rw [← z]; exact hlo l hl t' c' (by rw [z]; exact hb))
theorem g_cpI {r0 r1 : Option Nat} {sp dp m : Int32} {K : hH → Prop} (F : Fx x cc own nL ret rm) (d : decode cc pc = .ok (.invokestatic i, 3)) (q1 : Cond.methodLink own i arraycopyName ∈ lw_all) (q2 : Cond.native arraycopyName ∈ lw_all) (q3 : Cond.static arraycopyName ∈ lw_all) (q4 : Cond.initialized "java/lang/System" ∈ lw_all) (ht : (TYS x.dA)[t]? = some (x.dA t, aTy t)) (hpr : refKind (aTy t) = false) (h1 : 1 ≤ rm.frames) (h2 : (rest.map ac).sum + (nativeFrameWords "java/lang/System" "arraycopy" 5 + 11) ≤ rm.locals)
    (hk : cpI h r0 sp r1 dp m t K) (kk : ∀ h', K h' → G x Q (pc + 3) lv rest h' c k) : G x Q pc lv (aI m :: aI dp :: aR r1 :: aI sp :: aR r0 :: rest) h c k := by
  obtain ⟨a0, a, n0, n1, sp', dp', n', f, g, rfl, rfl, ha0, ha, rfl, rfl, rfl, b0, b1, b2, b3, hfit, hk⟩ := hk
  intro H locs ls hw hls
  obtain ⟨ws, q0, q1', A', e0, e1, hP, hD, hS, K1⟩ := wr_put2 hw ha0 ha
  refine va_copyi (ty := aTy t) F.1 F.2.1 hls.1.symm F.2.2.2.1 (F.ts _ q1) (F.ts _ q2) (F.ts _ q3) (F.ts _ q4) F.2.2.2.2.2.1 hP hD hS q0 q1' t t e0 e1 ht ht hpr (nI_pos (by omega)) (nI_pos (by omega)) (nI_pos (by omega)) (by rw [nI_clamp (by omega), nI_clamp (by omega)]; exact b2) (by rw [nI_clamp (by omega), nI_clamp (by omega)]; exact b3) (by rw [nI_clamp (by omega), nI_clamp (by omega)]; exact hfit) (by rw [F.rmE]; exact h1) (by rw [F.rmE, cat_sum]; exact h2) d (fun H1 locs1 hP1 _ hS1 => ?_)
  rw [nI_clamp (show sp' < 2 ^ 31 by omega), nI_clamp (show dp' < 2 ^ 31 by omega), nI_clamp (show n' < 2 ^ 31 by omega)] at hP1
  exact kk _ hk H1 locs1 ls (K1 (.inr (n1, .inl (va_cpy f g sp' dp' n'))) _ _ hP1 hS1) hls
theorem g_cpQ {r0 r1 : Option Nat} {sp dp m : Int32} {K : hH → Prop} (F : Fx x cc own nL ret rm) (d : decode cc pc = .ok (.invokestatic i, 3)) (q1 : Cond.methodLink own i arraycopyName ∈ lw_all) (q2 : Cond.native arraycopyName ∈ lw_all) (q3 : Cond.static arraycopyName ∈ lw_all) (q4 : Cond.initialized "java/lang/System" ∈ lw_all) (h1 : 1 ≤ rm.frames) (h2 : (rest.map ac).sum + (nativeFrameWords "java/lang/System" "arraycopy" 5 + 11) ≤ rm.locals)
    (hk : cpQ h r0 sp r1 dp m K) (kk : ∀ h', K h' → G x Q (pc + 3) lv rest h' c k) : G x Q pc lv (aI m :: aI dp :: aR r1 :: aI sp :: aR r0 :: rest) h c k := by
  obtain ⟨a0, a, n0, n1, sp', dp', n', f, g, rfl, rfl, ha0, ha, rfl, rfl, rfl, b0, b1, b2, b3, hfit, hk⟩ := hk
  intro H locs ls hw hls
  obtain ⟨ws, q0, q1', A', e0, e1, hP, hD, hS, K1⟩ := wr_put2 hw ha0 ha
  refine va_copyM (E0 := "java/lang/Object") (E1 := "java/lang/Object") F.1 F.2.1 hls.1.symm F.2.2.2.1 (F.ts _ q1) (F.ts _ q2) (F.ts _ q3) (F.ts _ q4) F.2.2.2.2.2.1 hP hD hS q0 q1' 4 4 e0 e1 rfl rfl (nI_pos (by omega)) (nI_pos (by omega)) (nI_pos (by omega)) (by rw [nI_clamp (by omega), nI_clamp (by omega)]; exact b2) (by rw [nI_clamp (by omega), nI_clamp (by omega)]; exact b3) (by rw [nI_clamp (by omega), nI_clamp (by omega)]; exact fun j hj b hb => any_at F hw (hfit j hj b hb)) (by rw [F.rmE]; exact h1) (by rw [F.rmE, cat_sum]; exact h2) d (fun H1 locs1 hP1 _ hS1 => ?_)
  rw [nI_clamp (show sp' < 2 ^ 31 by omega), nI_clamp (show dp' < 2 ^ 31 by omega), nI_clamp (show n' < 2 ^ 31 by omega)] at hP1
  exact kk _ hk H1 locs1 ls (K1 (.inr (n1, .inr (.inr (va_cpy f g sp' dp' n')))) _ _ hP1 hS1) hls
theorem Hw.push {locs : List Loc} {H : Heap} (hw : Hw x h H locs) {cell : Cell} {t : Nat} {cv : hV} (hat : va_at x.D CL (H.size, cvE x.dA t cv) (H.push cell)) : h H.size = none ∧ Hw x (hup h H.size (true, t, cv)) (H.push cell) locs := by
  have o1 : ∀ q : Nat, q < H.size → (H.push cell)[q]? = H[q]? := fun q hq => by rw [Array.getElem?_push, if_neg (Nat.ne_of_lt hq)]
  have z1 : (H.push cell).size = H.size + 1 := Array.size_push _
  have lt0 : ∀ (b : Nat) (fl : Bool) (t' : Nat) (c' : hV), h b = some (fl, t', c') → b < H.size := by
    intro b fl t' c' hb
    have hq := hw.2.2.2 b fl t' c' hb
    cases fl with
    | true => exact (hq.1 rfl).2.lt
    | false => exact Nat.lt_of_lt_of_le (hq.2 rfl).1 hw.1.1
  have hn : h H.size = none := by
    cases e : h H.size with
    | none => rfl
    | some v => obtain ⟨fl, t', c'⟩ := v; exact absurd (lt0 _ _ _ _ e) (Nat.lt_irrefl _)
  refine ⟨hn, ⟨by rw [z1]; exact Nat.le_succ_of_le hw.1.1, fun q hq => ?_⟩, by rw [z1]; exact Nat.le_succ_of_le hw.2.1, hw.2.2.1, ?_⟩
  · rw [o1 q (Nat.lt_of_lt_of_le hq hw.1.1)]
    exact hw.1.2 q hq
  · intro b fl t' c' hb
    by_cases e : b = H.size
    · subst e
      simp only [hup, if_true] at hb
      cases hb
      exact ⟨fun _ => ⟨hw.1.1, hat⟩, fun z => by cases z⟩
    · simp only [hup, if_neg e] at hb
      have hq := hw.2.2.2 b fl t' c' hb
      exact ⟨fun hfl => ⟨(hq.1 hfl).1, va_at.kept (hq.1 hfl).2 (o1 b (lt0 _ _ _ _ hb))⟩, hq.2⟩
theorem arrV_of {cell : Cell} {n : Nat} {f : Nat → Int32} (hs : cell.slots.size = n) (hv : ∀ j : Nat, j < n → cell.slots[j]? = some (.int (f j))) : ({ cls := cell.cls, slots := cell.slots } : Cell) = arrV cell.cls n (fun j => .int (f j)) := by
  have e : cell.slots = (arrV cell.cls n (fun j => Value.int (f j))).slots := by
    apply Array.ext_getElem?
    intro j
    by_cases hj : j < n
    · rw [hv j hj, arrV_read _ _ hj]
    · rw [Array.getElem?_eq_none (by omega), Array.getElem?_eq_none (by rw [arrV_size]; omega)]
  rw [e]
  rfl
theorem g_clI {r : Option Nat} {lim : Nat} {K : Nat → hH → Prop} (F : Fx x cc own nL ret rm) (d : decode cc pc = .ok (.invokevirtual i, 3)) (q1 : Cond.methodLink own i ⟨"[I", "clone", "()Ljava/lang/Object;"⟩ ∈ lw_all) (q2 : Cond.sameMethod "[I" "java/lang/Object" "clone" "()Ljava/lang/Object;" ∈ lw_all) (q3 : Cond.native ⟨"java/lang/Object", "clone", "()Ljava/lang/Object;"⟩ ∈ lw_all) (q4 : Cond.instanceMethod ⟨"java/lang/Object", "clone", "()Ljava/lang/Object;"⟩ ∈ lw_all) (q5 : Cond.selects "[I" ⟨"[I", "clone", "()Ljava/lang/Object;"⟩ ⟨"java/lang/Object", "clone", "()Ljava/lang/Object;"⟩ ∈ lw_all) (q6 : Cond.castable "[I" "java/lang/Cloneable" ∈ lw_tbl)
    (h1 : 1 ≤ rm.frames) (h2 : (rest.map ac).sum + 14 ≤ rm.locals) (hce : c + 1 ≤ rm.cells) (hsl : k + lim ≤ rm.slots) (hk : clI h r lim K) (kk : ∀ q h', K q h' → G x Q (pc + 3) lv (aR (some q) :: rest) h' (c + 1) (k + lim)) : G x Q pc lv (aR r :: rest) h c k := by
  obtain ⟨a, fl, m, f, rfl, ha, hm, hk⟩ := hk
  intro H locs ls hw hls
  have hcell : ∃ cell : Cell, H[a]? = some cell ∧ cell.vm ≠ .unknown ∧ cell.vm.isStatics = false ∧ cell.slots.size = m ∧ (∀ j : Nat, j < m → cell.slots[j]? = some (.int (f j))) ∧ cell.cls = x.dA 0 := by
    have q := hw.2.2.2 a fl 0 _ ha
    cases fl with
    | true => exact ⟨_, (q.1 rfl).2, (fun e => by cases e), rfl, arrV_size _ _ _, fun j hj => arrV_read _ _ hj, rfl⟩
    | false =>
      obtain ⟨hlt, cell, g1, g2, g3, g4, g5, g6⟩ := q.2 rfl
      refine ⟨cell, by rw [hw.1.2 a hlt]; exact g1, g3, (g6 rfl).1, g4, g5, ?_⟩
      have e := (g6 rfl).2
      rw [← F.al.findClass] at e
      exact Option.some.inj (e.symm.trans F.arr0)
  obtain ⟨cell, g1, g2, g3, g4, g5, g6⟩ := hcell
  obtain ⟨c0, t0', f1, f2, f3⟩ := Cond.castable_spec (va_Nw.use (A := x.args) rfl (F.castable q6))
  cases F.arr0.symm.trans f1
  intro T hT X
  have hcellT : T.heap[a]? = some cell := by rw [hT]; exact g1
  obtain ⟨-, kA, hkA, comp, hkind⟩ := State.isArrayOf_alike X.warmed.alike ((F.2.2.2.2.2.1.2 0 _ rfl).1 0 (fun _ => .null))
  obtain ⟨-, kS, hkS, compS, hkindS⟩ := (F.2.2.2.2.2.1.2 0 _ rfl).1 0 (fun _ => .null)
  obtain ⟨vm', X', stp⟩ := X.cloneArray F.1 F.2.2.2.1 (F.ts _ q1) (F.ts _ q2) (F.ts _ q3) (F.ts _ q4) (F.ts _ q5) (a := a) (cell := cell) hcellT (fun z hz => by rw [hz] at g3; cases g3) g2 (by rw [g6]; exact F.arr0) f2 (by rw [g6]; exact f3)
    (fun j v hv => by
      rw [g6]
      have hk' : T.vm.classes[x.dA 0]? = some kA := hkA
      have hj : j < m := by rw [← g4]; exact (Array.getElem?_eq_some_iff.mp hv).1
      rw [g5 j hj] at hv
      cases hv
      simp [State.fitsSlot, State.slotType?, hk', hkind]
      rfl)
    (g := F0 x.m pc ls ((aR (some a) :: rest).map vv)) rfl hls.1 rfl (by rw [F.2.1]; exact d) (by rw [F.rmE]; exact h1) (by rw [F.rmE, cat_sum]; show 2 * 0 + _ + 14 ≤ _; omega) (by rw [F.rmE]; exact hce) (by rw [F.rmE, g4]; omega) (hloader := by rw [g6]; exact Vm.clonesLoader_of_array hkS hkindS)
  rw [arrV_of g4 g5, g6, g4] at X'
  rw [arrV_of g4 g5, g6] at stp
  subst hT
  obtain ⟨hn, hw1⟩ := Hw.push (cell := arrV (x.dA 0) m (fun j => .int (f j))) (t := 0) (cv := .inr (m, .inl f)) hw (by show (T.heap.push _)[T.heap.size]? = _; rw [Array.getElem?_push_size]; rfl)
  obtain ⟨t2, a1, b1⟩ := W.widen (Nat.le_refl _) (show k + m ≤ k + lim by omega) (kk _ _ (hk _ hn) _ locs ls hw1 hls) _ rfl X'
  exact ⟨t2, stp t2 a1, b1⟩
/-- Object[].class; the class of an Object[] -/
theorem g_ldcM4 (F : Fx x cc own nL ret rm) (d : decode cc pc = .ok (.ldc i, 2)) (q1 : Cond.classLink own i "[Ljava/lang/Object;" ∈ lw_all) (kk : G x Q (pc + 2) lv (aR (some (x.S.E 11)) :: st) h c k) : G x Q pc lv st h c k := by
  intro H locs ls hw hl
  exact va_ldcM F.1 F.2.1 F.2.2.2.1 (F.ts _ q1) (va_Mi.moved F.al F.ok.2.2.2.2.2.2.1) d (kk H locs ls hw hl)
theorem g_getC4 {r : Option Nat} {K : Prop} (F : Fx x cc own nL ret rm) (d : decode cc pc = .ok (.invokevirtual i, 3)) (q1 : Cond.methodLink own i ⟨"java/lang/Object", "getClass", "()Ljava/lang/Class;"⟩ ∈ lw_all) (q2 : Cond.declares ⟨"java/lang/Object", "getClass", "()Ljava/lang/Class;"⟩ ∈ lw_tbl) (q3 : Cond.selects "[Ljava/lang/Object;" ⟨"java/lang/Object", "getClass", "()Ljava/lang/Class;"⟩ ⟨"java/lang/Object", "getClass", "()Ljava/lang/Class;"⟩ ∈ lw_all) (q4 : Cond.instanceMethod ⟨"java/lang/Object", "getClass", "()Ljava/lang/Class;"⟩ ∈ lw_all) (q5 : Cond.native ⟨"java/lang/Object", "getClass", "()Ljava/lang/Class;"⟩ ∈ lw_all)
    (h1 : 1 ≤ rm.frames) (h2 : (rest.map ac).sum + 14 ≤ rm.locals) (hk : gC4 h r K) (kk : K → G x Q (pc + 3) lv (aR (some (x.S.E 11)) :: rest) h c k) : G x Q pc lv (aR r :: rest) h c k := by
  obtain ⟨⟨a, ⟨m, f⟩, rfl, ha⟩, hk⟩ := hk
  intro H locs ls hw hl
  have hd : (Cond.declares ⟨"java/lang/Object", "getClass", "()Ljava/lang/Class;"⟩).before x.args x.s = true := by
    obtain ⟨b, hb, -⟩ := F.ok.2.1
    exact va_Nw.use rfl (va_Nw.warmD F.hot (va_Nw.of rfl (hb _ q2)))
  have hc : ∃ cell : Cell, H[a]? = some cell ∧ cell.vm.isStatics = false ∧ x.s.vm.findClass "[Ljava/lang/Object;" = some cell.cls := by
    have g1 := ((hw.2.2.2 a true 4 _ ha).1 rfl).2
    rcases f with f | f | f
    · exact ⟨_, g1, rfl, F.arr4⟩
    · exact ⟨_, g1, rfl, F.arr4⟩
    · exact ⟨_, g1, rfl, F.arr4⟩
  exact va_getC F.1 F.2.1 hl.1.symm F.2.2.2.1 (F.ts _ q1) hd (F.ts _ q3) (F.ts _ q4) (F.ts _ q5) (va_Mi.moved F.al F.ok.2.2.2.2.2.2.1) hc (by rw [F.rmE]; exact h1) (by rw [F.rmE, cat_sum]; exact h2) d (kk hk H locs ls hw hl)
/-- the receiver's own class overrides the method that the call names -/
theorem g_O {owner : String} {y y0 : MethodName} {bytes : ByteArray} {maxL : Nat} {ret' : Option FieldType} {rm' : Room} {R : Option Value → hH → Prop} {r : Option Nat} {P : Nat → Prop} (F : Fx x cc own nL ret rm) (d : decode cc pc = .ok (.invokevirtual i, 3)) (q1 : Cond.methodLink own i y0 ∈ lw_all) (q1s : Cond.sameMethod y0.cls owner y0.name y0.desc ∈ lw_all) (qd : Cond.declares ⟨owner, y0.name, y0.desc⟩ ∈ lw_tbl) (q2 : Cond.instanceMethod y ∈ lw_all) (q3 : Cond.selects C y0 y ∈ lw_all) (q4 : Cond.initialized y.cls ∈ lw_all) (q5 : Cond.code y bytes maxL ret' ∈ lw_all) (hd : owner ≠ "java/lang/invoke/MethodHandle" ∧ owner ≠ "java/lang/invoke/VarHandle" ∧ (parseMethodDescriptor y0.desc).map (fun d => d.parameters.length) = some n) (ht : CL[t]? = some (C, T, N)) (hR : ROk rm' rm maxL) (hf : BOk rm' rm c k)
    (hn : As.length = n) (hst : st = As.reverse ++ aR r :: rest) (hW : (rest.map ac).sum ≤ 8) (hk : isT h r t P) (hM : ∀ a, P a → Ct x.S y (ws_ y bytes maxL ret') rm' ((aR (some a) :: As).map vv) h R) : Run x pc lv st rest h c k rm' R := by
  obtain ⟨a, fl, fs, rfl, ha, hk⟩ := hk
  intro H locs ls hw hl
  have hz : va_Nw (.declares ⟨owner, y0.name, y0.desc⟩) x.s := by
    obtain ⟨b, hb, -⟩ := F.ok.2.1
    exact va_Nw.warmD F.hot (va_Nw.of rfl (hb _ qd))
  exact va_runU (As := As.map vv) (b := a) F.fix (hM a hk) (va_cwA n F.ts (lw_U q1 q1s q3 q2 q4 q5) rfl rfl rfl hz hd (by rw [F.rmE]; exact hR)) ⟨GW_blind, rc_at F hw ht ha, pre_at F hw⟩ rfl (by rw [List.length_map]; exact hn) (hl.1.trans F.2.2.1) (by subst hst; show List.map vv _ = _; rw [List.map_append, List.map_reverse]; rfl) (lv_room (by rw [cat_sum]; exact hW)) d (by rw [F.rmE]; exact hf)
theorem lw_SU {y : MethodName} {bytes : ByteArray} {maxL : Nat} {ret' : Option FieldType} (h1 : Cond.methodLink own i y ∈ lw_all) (h2 : Cond.sameMethod y.cls y.cls y.name y.desc ∈ lw_all) (h3 : Cond.superclass own y.cls ∈ lw_all) (h4 : Cond.instanceMethod y ∈ lw_all) (h5 : Cond.initialized y.cls ∈ lw_all) (h6 : Cond.code y bytes maxL ret' ∈ lw_all) : GoodIn lw_all (va_wsSU own i y (ws_ y bytes maxL ret')) := by
  refine lw_app ?_ (lw_meth h6)
  intro w hw
  simp only [List.mem_cons, List.not_mem_nil, or_false] at hw
  rcases hw with e | e | e | e | e
  · rw [e]; exact h1
  · rw [e]; exact h2
  · rw [e]; exact h3
  · rw [e]; exact h4
  · rw [e]; exact h5
/-- super.method(..) -/
theorem g_SU {y : MethodName} {bytes : ByteArray} {maxL : Nat} {ret' : Option FieldType} {rm' : Room} {R : Option Value → hH → Prop} {r : Option Nat} {P : Nat → Prop} (F : Fx x cc own nL ret rm) (d : decode cc pc = .ok (.invokespecial i, 3)) (q1 : Cond.methodLink own i y ∈ lw_all) (q1s : Cond.sameMethod y.cls y.cls y.name y.desc ∈ lw_all) (qs : Cond.superclass own y.cls ∈ lw_all) (q2 : Cond.instanceMethod y ∈ lw_all) (q4 : Cond.initialized y.cls ∈ lw_all) (q5 : Cond.code y bytes maxL ret' ∈ lw_all) (hni : y.name ≠ "<init>") (hd : MOk y n) (ht : CL[t]? = some (C, T, N)) (hR : ROk rm' rm maxL) (hf : BOk rm' rm c k)
    (hn : As.length = n) (hst : st = As.reverse ++ aR r :: rest) (hW : (rest.map ac).sum ≤ 8) (hk : isT h r t P) (hM : ∀ a, P a → Ct x.S y (ws_ y bytes maxL ret') rm' ((aR (some a) :: As).map vv) h R) : Run x pc lv st rest h c k rm' R := by
  obtain ⟨a, fl, fs, rfl, ha, hk⟩ := hk
  intro H locs ls hw hl
  exact va_runSU (As := As.map vv) (b := a) (F.2.2.2.2.2.1.1 t _ ht).2 F.fix (hM a hk) (va_cwSU n F.ts (lw_SU q1 q1s qs q2 q4 q5) rfl rfl rfl ⟨hni, hd.2.2⟩ (by rw [F.rmE]; exact hR)) ⟨GW_blind, rc_at F hw ht ha, pre_at F hw⟩ rfl (by rw [List.length_map]; exact hn) (hl.1.trans F.2.2.1) (by subst hst; show List.map vv _ = _; rw [List.map_append, List.map_reverse]; rfl) (lv_room (by rw [cat_sum]; exact hW)) d (by rw [F.rmE]; exact hf)
theorem g_clB {r : Option Nat} {lim : Nat} {K : Nat → hH → Prop} (F : Fx x cc own nL ret rm) (d : decode cc pc = .ok (.invokevirtual i, 3)) (q1 : Cond.methodLink own i ⟨"[B", "clone", "()Ljava/lang/Object;"⟩ ∈ lw_all) (q2 : Cond.sameMethod "[B" "java/lang/Object" "clone" "()Ljava/lang/Object;" ∈ lw_all) (q3 : Cond.native ⟨"java/lang/Object", "clone", "()Ljava/lang/Object;"⟩ ∈ lw_all) (q4 : Cond.instanceMethod ⟨"java/lang/Object", "clone", "()Ljava/lang/Object;"⟩ ∈ lw_all) (q5 : Cond.selects "[B" ⟨"[B", "clone", "()Ljava/lang/Object;"⟩ ⟨"java/lang/Object", "clone", "()Ljava/lang/Object;"⟩ ∈ lw_all) (q6 : Cond.castable "[B" "java/lang/Cloneable" ∈ lw_tbl)
    (h1 : 1 ≤ rm.frames) (h2 : (rest.map ac).sum + 14 ≤ rm.locals) (hce : c + 1 ≤ rm.cells) (hsl : k + lim ≤ rm.slots) (hk : clB h r lim K) (kk : ∀ q h', K q h' → G x Q (pc + 3) lv (aR (some q) :: rest) h' (c + 1) (k + lim)) : G x Q pc lv (aR r :: rest) h c k := by
  obtain ⟨a, m, f, rfl, ha, hm, hfit, hk⟩ := hk
  intro H locs ls hw hls
  have hcell : ∃ cell : Cell, H[a]? = some cell ∧ cell.vm ≠ .unknown ∧ cell.vm.isStatics = false ∧ cell.slots.size = m ∧ (∀ j : Nat, j < m → cell.slots[j]? = some (.int (f j))) ∧ cell.cls = x.dA 1 := by
    exact ⟨_, ((hw.2.2.2 a true 1 _ ha).1 rfl).2, (fun e => by cases e), rfl, arrV_size _ _ _, fun j hj => arrV_read _ _ hj, rfl⟩
  obtain ⟨cell, g1, g2, g3, g4, g5, g6⟩ := hcell
  obtain ⟨c0, t0', f1, f2, f3⟩ := Cond.castable_spec (va_Nw.use (A := x.args) rfl (F.castable q6))
  cases F.arr1.symm.trans f1
  intro T hT X
  have hcellT : T.heap[a]? = some cell := by rw [hT]; exact g1
  obtain ⟨-, kA, hkA, comp, hkind⟩ := State.isArrayOf_alike X.warmed.alike ((F.2.2.2.2.2.1.2 1 _ rfl).1 0 (fun _ => .null))
  obtain ⟨-, kS, hkS, compS, hkindS⟩ := (F.2.2.2.2.2.1.2 1 _ rfl).1 0 (fun _ => .null)
  obtain ⟨vm', X', stp⟩ := X.cloneArray F.1 F.2.2.2.1 (F.ts _ q1) (F.ts _ q2) (F.ts _ q3) (F.ts _ q4) (F.ts _ q5) (a := a) (cell := cell) hcellT (fun z hz => by rw [hz] at g3; cases g3) g2 (by rw [g6]; exact F.arr1) f2 (by rw [g6]; exact f3)
    (fun j v hv => by
      rw [g6]
      have hk' : T.vm.classes[x.dA 1]? = some kA := hkA
      have hj : j < m := by rw [← g4]; exact (Array.getElem?_eq_some_iff.mp hv).1
      rw [g5 j hj] at hv
      cases hv
      simpa [State.fitsSlot, State.slotType?, hk', hkind, aTy] using hfit j hj)
    (g := F0 x.m pc ls ((aR (some a) :: rest).map vv)) rfl hls.1 rfl (by rw [F.2.1]; exact d) (by rw [F.rmE]; exact h1) (by rw [F.rmE, cat_sum]; show 2 * 0 + _ + 14 ≤ _; omega) (by rw [F.rmE]; exact hce) (by rw [F.rmE, g4]; omega) (hloader := by rw [g6]; exact Vm.clonesLoader_of_array hkS hkindS)
  rw [arrV_of g4 g5, g6, g4] at X'
  rw [arrV_of g4 g5, g6] at stp
  subst hT
  obtain ⟨hn, hw1⟩ := Hw.push (cell := arrV (x.dA 1) m (fun j => .int (f j))) (t := 1) (cv := .inr (m, .inl f)) hw (by show (T.heap.push _)[T.heap.size]? = _; rw [Array.getElem?_push_size]; rfl)
  obtain ⟨t2, a1, b1⟩ := W.widen (Nat.le_refl _) (show k + m ≤ k + lim by omega) (kk _ _ (hk _ hn) _ locs ls hw1 hls) _ rfl X'
  exact ⟨t2, stp t2 a1, b1⟩
/-- a contract of a method with handlers, out of its walk -/
theorem Ct.ofH {hh : List (Nat × Nat × Nat × Nat)} {S : Sx} (hS : Sok S) {y : MethodName} {av : List aV} {R : Option Value → hH → Prop} (hy : plainName y.cls = true) (ho : y.cls = own) (hl : aLen av ≤ nL)
    (body : ∀ x : Cx, x.S = S → Fx x cc own nL ret rm → x.meth.name = y.name → G x (xQ x rm R) 0 (aArgs 0 av) [] h 0 0) : Ct S y (wsW_ y cc nL ret hh) rm (av.map vv) h R := by
  refine va_MetW (cc := cc) (maxL := nL) (ret := ret) (hh := hh) hy rfl ?_
  intro p e s m args below meth c s₁ B hml hv
  obtain ⟨rfl, hW, hO, hR⟩ := hv
  have hts := atoms_spec (ws := wsW_ y cc nL ret hh) B.pre
  have hts : ∀ w ∈ lw_all, w.before _ s = true := fun w h => hts w (List.mem_cons_of_mem _ h)
  have hown : s.vm.findClass own = some m.cls := by rw [← ho]; exact findClass_of_methodNamed B.named
  have hnm : meth.name = y.name := (name_of_methodNamed B.named B.method).1
  have hb := body ((p, e, rm), (s, m, (av.map vv).toArray, below), (meth, c), S) rfl ⟨B.exec, B.bytes, hml, hown, hts, va_K.moved hW.alike hS.1, B.notSynchronized, B.returns, rfl, hW, hS, hO⟩ hnm
  have hlv := lv_entry (av.map vv) (n := nL) (by rw [aLen_eq]; exact hl)
  rw [lg_entry_eq]
  rw [← aArgs_eq] at hlv
  exact hb s.heap [] _ ⟨hO, Nat.le_refl _, (fun q hq => by cases hq), hR⟩ (by rw [hml]; exact hlv)
end
