/-! ldc_w of a String -/
set_option maxRecDepth 100000
section
variable {x : Cx} {cc : ByteArray} {own : String} {nL : Nat} {ret : Option FieldType} {rm : Room} {Q : State → Prop} {pc : Nat} {lv lv' : List (Nat × aV)} {st rest As : List aV} {h : hH} {c k : Nat}
  {i : Nat}
theorem g_ldcSw {a : Nat} {tx : String} (F : Fx x cc own nL ret rm) (d : decode cc pc = .ok (.ldc_w i, 3)) (qk : (own, i, tx, a) ∈ SK x.S.E) (kk : G x Q (pc + 3) lv (aR (some a) :: st) h c k) : G x Q pc lv st h c k := by
  intro H locs ls hw hl T hT X
  have hZ := vk_R.warm F.hot (F.ok.2.2.2.2.1 _ qk)
  obtain ⟨t, a1, b1⟩ := kk H locs ls hw hl T hT X
  exact ⟨t, X.ldcStringW F.1 F.2.2.2.1 (text := tx) (a := a) hZ.1 hZ.2 (g := F0 x.m pc ls (st.map vv)) rfl (by rw [F.2.1]; exact d) t a1, b1⟩
end
