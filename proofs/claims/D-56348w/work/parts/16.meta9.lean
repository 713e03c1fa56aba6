/-! ===== switches; small helps of the walks ===== -/
theorem zSl_len : ∀ (vs : List zV), (lg_sl (zStk vs)).length = (vs.map zCat).sum := by
  intro vs
  induction vs with
  | nil => rfl
  | cons v vs ih =>
    have e : lg_sl (zStk (v :: vs)) = (if (zVal v).category = 2 then [Slot.val (zVal v), .second] else [.val (zVal v)]) ++ lg_sl (zStk vs) := rfl
    rw [e, List.length_append, ih, zCat_eq, List.map_cons, List.sum_cons]
    congr 1
    rcases v with x | r | x | x | x <;> rfl
section ZSX
variable {p : Program} {l : Launch} {e : Env} {R : Room} {s : State} {m : MethodId} {args : Array Value} {below : List Frame} {meth : Method} {c : Code} {E : zE} {D : va_G} {tA : Nat → ClassId} {cc : ByteArray} {nL k0 fr : Nat} {own : String}
variable {M : zM} {lv lv' : List (Nat × zV)} {pc : Nat} {st : List zV}
theorem z_lv (lv' : List (Nat × zV)) (h : lv = lv') (k : zW p l e R s m args below meth c E D tA nL k0 M lv' pc st) : zW p l e R s m args below meth c E D tA nL k0 M lv pc st := h ▸ k
theorem z_lookup (x : zCx p l R s m args meth c E D tA cc nL own fr) {dflt : Int} {ps : Array (Int × Int)} {len : Nat} {v : Int32} {tgt : Nat} (off : Int) (hd : decode cc pc = .ok (.lookupswitch dflt ps, len)) (hp : (ps.toList.zip (ps.toList.drop 1)).all (fun (a, next) => a.1 < next.1) = true) (ho : Op.lookupswitch.offset ps.toList dflt v.toInt = off) (ht : (pc : Int) + off = (tgt : Int)) (k : zW p l e R s m args below meth c E D tA nL k0 M lv tgt st) : zW p l e R s m args below meth c E D tA nL k0 M lv pc (zI v :: st) :=
  k.step fun H locs cells slots Q ls hl w => lv_lookup x.1 x.2.1 hd hp ho ht (w ls hl)
theorem z_tabOut (x : zCx p l R s m args meth c E D tA cc nL own fr) {dflt lo hi : Int} {offs : Array Int} {len : Nat} {v : Int32} {tgt : Nat} (hd : decode cc pc = .ok (.tableswitch dflt lo hi offs, len)) (h : v.toInt < lo ∨ hi < v.toInt) (ht : (pc : Int) + dflt = (tgt : Int)) (k : zW p l e R s m args below meth c E D tA nL k0 M lv tgt st) : zW p l e R s m args below meth c E D tA nL k0 M lv pc (zI v :: st) :=
  k.step fun H locs cells slots Q ls hl w => lv_tableOut x.1 x.2.1 hd h ht (w ls hl)
theorem z_tabIn (x : zCx p l R s m args meth c E D tA cc nL own fr) {dflt lo hi : Int} {offs : Array Int} {len : Nat} {v k9 : Int32} {tgt : Nat} (off : Int) (hd : decode cc pc = .ok (.tableswitch dflt lo hi offs, len)) (hv : v = k9) (h1 : ¬ k9.toInt < lo) (h2 : ¬ hi < k9.toInt) (ho : offs[(k9.toInt - lo).toNat]? = some off) (ht : (pc : Int) + off = (tgt : Int)) (k : zW p l e R s m args below meth c E D tA nL k0 M lv tgt st) : zW p l e R s m args below meth c E D tA nL k0 M lv pc (zI v :: st) := by
  subst hv
  exact k.step fun H locs cells slots Q ls hl w => lv_tableIn x.1 x.2.1 hd h1 h2 ho ht (w ls hl)
theorem zx_fail {q : Nat} : zWX p l e R s m args below meth c E D tA nL k0 zFail lv pc q := fun h out h' em => nomatch em
end ZSX
theorem zSum {st : List zV} {k n b : Nat} (h : (st.map zCat).sum = k) (h2 : k + n ≤ b) : (st.map zCat).sum + n ≤ b := by rw [h]; exact h2
