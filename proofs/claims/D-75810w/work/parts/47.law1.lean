/-! THE LAW: its own end -/
set_option maxRecDepth 100000
/-- the walk is the law's, from the start itself; whatever it returns is true -/
def lawX (x : Cx) (Q : Int32 → hH → Prop) : Prop := (∃ b : Nat, x.args = #[Value.ref b]) ∧ x.s0 = x.s ∧ ∀ v h, Q v h → v = 1
theorem g_lawret {x : Cx} {pc : Nat} {lv : List (Nat × aV)} {h : hH} {c k : Nat} {v : Int32} {Q : Int32 → hH → Prop} (F : Fx x code "LockstepRoomLaw" 9 ret room_1) (hL : lawX x Q) (d : decode code pc = .ok (.ireturn, 1)) (h1 : c ≤ 603072) (h2 : k ≤ 7178346) (hk : Q v h) : G x (lw_Z x.below x.args x.s) pc lv [aI v] h c k := by
  obtain ⟨⟨b, ha⟩, hs0, hq⟩ := hL
  have hv := hq v h hk
  subst hv
  intro H locs ls hw hl
  refine va_forget (fun q hq => by rw [← hs0]; exact hw.2.2.1 q hq) (W.widen h1 h2 ?_)
  have q := lw_ret (p := x.p) (l := x.l) (e := x.e) (s := x.s) (m := x.m) (below := x.below) (meth := x.meth) (c := x.c) (b := b) F.1 F.2.1 F.2.2.2.2.2.2.2.1 F.2.2.2.2.2.2.1 (H := H) (ls := ls) d
  rw [← ha] at q
  rw [F.rmE]
  exact q
