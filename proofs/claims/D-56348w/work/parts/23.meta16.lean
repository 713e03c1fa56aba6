/-! ===== Math.min of longs ===== -/
section ZML
variable {p : Program} {l : Launch} {e : Env} {R : Room} {s : State} {m : MethodId} {args : Array Value} {below : List Frame} {meth : Method} {c : Code} {E : zE} {D : va_G} {tA : Nat → ClassId} {cc : ByteArray} {nL k0 fr : Nat} {own : String}
variable {M : zM} {lv lv' : List (Nat × zV)} {pc : Nat} {st : List zV}
theorem z_lmin (x : zCx p l R s m args meth c E D tA cc nL own fr) {index : Nat} {a b : Int64} (hlink : Cond.methodLink own index Lib.MathLoose.min_long.x ∈ lw_all) (hstat : Cond.static Lib.MathLoose.min_long.x ∈ lw_all) (hini : Cond.initialized "java/lang/Math" ∈ lw_all) (hcode : Cond.code Lib.MathLoose.min_long.x Lib.MathLoose.min_long.code 4 (some .long) ∈ lw_all) (hfr : 1 ≤ fr) (hst : (st.map zCat).sum + 15 ≤ 64 * fr) (hd : decode cc pc = .ok (.invokestatic index, 3)) (k : zW p l e R s m args below meth c E D tA nL k0 M lv (pc + 3) (zL (if b < a then b else a) :: st)) : zW p l e R s m args below meth c E D tA nL k0 M lv pc (zL b :: zL a :: st) := by
  intro h out h' em
  have hts := x.2.2.2.2.1
  have z1 := (k h out h' em).1
  refine ⟨z1, fun a1 a2 a3 a4 H locs ls r1 r2 r3 => ?_⟩
  intro T hT X
  obtain ⟨vm', X', st9⟩ := X.mathMinLH x.1 x.2.2.2.1 (hts _ hlink) (hts _ hstat) (hts _ hini) (hts _ hcode) (g := F0 m pc ls (.long b :: .long a :: zStk st)) rfl (r3.1.trans x.2.2.1.symm) (a := a) (b := b) (rest := zStk st) rfl (by rw [x.2.1]; exact hd) (by rw [x.2.2.2.2.2.2.2.2.2.2.1]; exact hfr) (by rw [zStk_cat, x.2.2.2.2.2.2.2.2.2.2.2.1]; show 2 * 0 + _ + _ ≤ _; omega) (by rw [a3]; have := z1.1; omega) (by rw [a4]; have := z1.2; omega)
  obtain ⟨t, b1, b2⟩ := (k h out h' em).2 a1 a2 a3 a4 H locs ls r1 r2 r3 (T.setVm vm') hT X'
  exact ⟨t, st9 t b1, b2⟩
end ZML
