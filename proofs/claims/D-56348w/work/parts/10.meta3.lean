/-! ===== the judgement, and a row an instruction ===== -/
/-- what a method's body may lean on: the machine, its code, the tables, the constants -/
def zCx (p : Program) (l : Launch) (R : Room) (s : State) (m : MethodId) (args : Array Value) (meth : Method) (c : Code) (E : zE) (D : va_G) (tA : Nat → ClassId) (cc : ByteArray) (nL : Nat) (own : String) (fr : Nat) : Prop :=
  p.tables.exec = Jvm.exec ∧ c.code = cc ∧ c.maxLocals = nL ∧ s.vm.findClass own = some m.cls ∧ (∀ w ∈ lw_all, w.before args s = true) ∧ va_K D zCL (zTys tA) s ∧ zG E s s.heap ∧ zNw s ∧ E 0 ≤ s.heap.size ∧ meth.locks = false ∧ R.frames = fr ∧ R.locals = 64 * fr ∧ l.stackTraces = false
/-- where the semantic term M stands for the rest of the run, from a frame with locals lv at pc with the stack st -/
def zW (p : Program) (l : Launch) (e : Env) (R : Room) (s : State) (m : MethodId) (args : Array Value) (below : List Frame) (meth : Method) (c : Code) (E : zE) (D : va_G) (tA : Nat → ClassId) (nL k0 : Nat) (M : zM) (lv : List (Nat × zV)) (pc : Nat) (st : List zV) : Prop :=
  ∀ (h : zH) (out : zR) (h' : zH), M h = some (out, h') → zLe h h' ∧ (s.heap.size ≤ h.1 → k0 ≤ h.2.1 → R.cells = h'.1 - s.heap.size → R.slots = h'.2.1 - k0 →
    ∀ (H : Heap) (locs : List Loc) (ls : Array Slot), zRep E D tA h H → va_S (zA E) s.heap H locs → lv_has ls nL (zLoc lv) →
      W p l e R s m args below meth c H locs (h.1 - s.heap.size) (h.2.1 - k0) (zMQ below (zQc E D tA out h') (zXc E D tA out h') args s (h'.1 - s.heap.size) (h'.2.1 - k0) (zA E)) (F0 m pc ls (zStk st)))
/-- .. and from q thrown over that frame -/
def zWX (p : Program) (l : Launch) (e : Env) (R : Room) (s : State) (m : MethodId) (args : Array Value) (below : List Frame) (meth : Method) (c : Code) (E : zE) (D : va_G) (tA : Nat → ClassId) (nL k0 : Nat) (M : zM) (lv : List (Nat × zV)) (pc : Nat) (q : Nat) : Prop :=
  ∀ (h : zH) (out : zR) (h' : zH), M h = some (out, h') → zLe h h' ∧ (s.heap.size ≤ h.1 → k0 ≤ h.2.1 → R.cells = h'.1 - s.heap.size → R.slots = h'.2.1 - k0 →
    ∀ (H : Heap) (locs : List Loc) (ls : Array Slot) (rest : List Value), zRep E D tA h H → va_S (zA E) s.heap H locs → lv_has ls nL (zLoc lv) →
      vx_W p l e R s m args below meth c H locs (h.1 - s.heap.size) (h.2.1 - k0) (zMQ below (zQc E D tA out h') (zXc E D tA out h') args s (h'.1 - s.heap.size) (h'.2.1 - k0) (zA E)) (F0 m pc ls rest) q)
/-- no way on -/
def zFail : zM := fun _ => none
/-- the fuel of a loop -/
def zN : Nat := 1000000
section ZR
variable {p : Program} {l : Launch} {e : Env} {R : Room} {s : State} {m : MethodId} {args : Array Value} {below : List Frame} {meth : Method} {c : Code} {E : zE} {D : va_G} {tA : Nat → ClassId} {cc : ByteArray} {nL k0 fr : Nat} {own : String}
variable {M : zM} {lv lv' : List (Nat × zV)} {pc : Nat} {st : List zV}
theorem zW.step {pc' : Nat} {st' : List zV} (k : zW p l e R s m args below meth c E D tA nL k0 M lv' pc' st')
    (f : ∀ (H : Heap) (locs : List Loc) (cells slots : Nat) (Q : State → Prop) (ls : Array Slot), lv_has ls nL (zLoc lv) → (∀ ls', lv_has ls' nL (zLoc lv') → W p l e R s m args below meth c H locs cells slots Q (F0 m pc' ls' (zStk st'))) → W p l e R s m args below meth c H locs cells slots Q (F0 m pc ls (zStk st))) :
    zW p l e R s m args below meth c E D tA nL k0 M lv pc st :=
  fun h out h' em => ⟨(k h out h' em).1, fun a1 a2 a3 a4 H locs ls r1 r2 r3 => f H locs _ _ _ ls r3 fun ls' hl => (k h out h' em).2 a1 a2 a3 a4 H locs ls' r1 r2 hl⟩
theorem z_fail {st : List zV} : zW p l e R s m args below meth c E D tA nL k0 zFail lv pc st := fun h out h' em => nomatch em
theorem z_sub (ks : List Nat) (hl : zPick lv ks = lv') (k : zW p l e R s m args below meth c E D tA nL k0 M lv' pc st) : zW p l e R s m args below meth c E D tA nL k0 M lv pc st :=
  fun h out h' em => ⟨(k h out h' em).1, fun a1 a2 a3 a4 H locs ls r1 r2 r3 => (k h out h' em).2 a1 a2 a3 a4 H locs ls r1 r2 (lv_sub r3 ks (by rw [zLoc_pick, hl]))⟩
theorem z_eq {M' : zM} (hm : M = M') (k : zW p l e R s m args below meth c E D tA nL k0 M' lv pc st) : zW p l e R s m args below meth c E D tA nL k0 M lv pc st := hm ▸ k
theorem z_ite {b : Prop} [Decidable b] {M1 M2 : zM} (kt : b → zW p l e R s m args below meth c E D tA nL k0 M1 lv pc st) (kf : ¬ b → zW p l e R s m args below meth c E D tA nL k0 M2 lv pc st) : zW p l e R s m args below meth c E D tA nL k0 (if b then M1 else M2) lv pc st := by
  by_cases hb : b
  · rw [if_pos hb]; exact kt hb
  · rw [if_neg hb]; exact kf hb

theorem z_iconst (x : zCx p l R s m args meth c E D tA cc nL own fr) {n : Int} {v : Int32} (hd : decode cc pc = .ok (.iconst n, 1)) (hv : Int32.ofInt n = v) (k : zW p l e R s m args below meth c E D tA nL k0 M lv (pc + 1) (zI v :: st)) : zW p l e R s m args below meth c E D tA nL k0 M lv pc (st) := by
  exact k.step fun H locs cells slots Q ls hl w => lv_iconst x.1 x.2.1 hd hv (w ls hl)
theorem z_bipush (x : zCx p l R s m args meth c E D tA cc nL own fr) {n : Int} {v : Int32} (hd : decode cc pc = .ok (.bipush n, 2)) (hv : (Int8.ofInt n).toInt32 = v) (k : zW p l e R s m args below meth c E D tA nL k0 M lv (pc + 2) (zI v :: st)) : zW p l e R s m args below meth c E D tA nL k0 M lv pc (st) := by
  exact k.step fun H locs cells slots Q ls hl w => lv_bipush x.1 x.2.1 hd hv (w ls hl)
theorem z_sipush (x : zCx p l R s m args meth c E D tA cc nL own fr) {n : Int} {v : Int32} (hd : decode cc pc = .ok (.sipush n, 3)) (hv : (Int16.ofInt n).toInt32 = v) (k : zW p l e R s m args below meth c E D tA nL k0 M lv (pc + 3) (zI v :: st)) : zW p l e R s m args below meth c E D tA nL k0 M lv pc (st) := by
  exact k.step fun H locs cells slots Q ls hl w => lv_sipush x.1 x.2.1 hd hv (w ls hl)
theorem z_lconst (x : zCx p l R s m args meth c E D tA cc nL own fr) {n : Fin 2} {v : Int64} (hd : decode cc pc = .ok (.lconst n, 1)) (hv : Int64.ofNat (n : Nat) = v) (k : zW p l e R s m args below meth c E D tA nL k0 M lv (pc + 1) (zL v :: st)) : zW p l e R s m args below meth c E D tA nL k0 M lv pc (st) := by
  exact k.step fun H locs cells slots Q ls hl w => lv_lconst x.1 x.2.1 hd hv (w ls hl)
theorem z_fconst0 (x : zCx p l R s m args meth c E D tA cc nL own fr)  (hd : decode cc pc = .ok (.fconst 0, 1)) (k : zW p l e R s m args below meth c E D tA nL k0 M lv (pc + 1) (zF FP.fconst0 :: st)) : zW p l e R s m args below meth c E D tA nL k0 M lv pc (st) := by
  exact k.step fun H locs cells slots Q ls hl w => lv_fconst0 x.1 x.2.1 hd (w ls hl)
theorem z_dconst0 (x : zCx p l R s m args meth c E D tA cc nL own fr)  (hd : decode cc pc = .ok (.dconst 0, 1)) (k : zW p l e R s m args below meth c E D tA nL k0 M lv (pc + 1) (zD FP.dconst0 :: st)) : zW p l e R s m args below meth c E D tA nL k0 M lv pc (st) := by
  exact k.step fun H locs cells slots Q ls hl w => lv_dconst0 x.1 x.2.1 hd (w ls hl)
theorem z_null (x : zCx p l R s m args meth c E D tA cc nL own fr)  (hd : decode cc pc = .ok (.aconst_null, 1)) (k : zW p l e R s m args below meth c E D tA nL k0 M lv (pc + 1) (zP none :: st)) : zW p l e R s m args below meth c E D tA nL k0 M lv pc (st) := by
  exact k.step fun H locs cells slots Q ls hl w => lv_null x.1 x.2.1 hd (w ls hl)
theorem z_ldc (x : zCx p l R s m args meth c E D tA cc nL own fr) {index : Nat} {v : Int32} (hw : Cond.constant own index v ∈ lw_all) (hd : decode cc pc = .ok (.ldc index, 2)) (k : zW p l e R s m args below meth c E D tA nL k0 M lv (pc + 2) (zI v :: st)) : zW p l e R s m args below meth c E D tA nL k0 M lv pc (st) := by
  exact k.step fun H locs cells slots Q ls hl w => lv_ldc x.1 x.2.1 x.2.2.2.1 (x.2.2.2.2.1 _ hw) hd (w ls hl)
theorem z_ldcw (x : zCx p l R s m args meth c E D tA cc nL own fr) {index : Nat} {v : Int32} (hw : Cond.constant own index v ∈ lw_all) (hd : decode cc pc = .ok (.ldc_w index, 3)) (k : zW p l e R s m args below meth c E D tA nL k0 M lv (pc + 3) (zI v :: st)) : zW p l e R s m args below meth c E D tA nL k0 M lv pc (st) := by
  exact k.step fun H locs cells slots Q ls hl w => lv_ldcw x.1 x.2.1 x.2.2.2.1 (x.2.2.2.2.1 _ hw) hd (w ls hl)
theorem z_ldc2 (x : zCx p l R s m args meth c E D tA cc nL own fr) {index : Nat} {v : Int64} (hw : Cond.constantLong own index v ∈ lw_all) (hd : decode cc pc = .ok (.ldc2_w index, 3)) (k : zW p l e R s m args below meth c E D tA nL k0 M lv (pc + 3) (zL v :: st)) : zW p l e R s m args below meth c E D tA nL k0 M lv pc (st) := by
  exact k.step fun H locs cells slots Q ls hl w => lv_ldc2 x.1 x.2.1 x.2.2.2.1 (x.2.2.2.2.1 _ hw) hd (w ls hl)
theorem z_ldcS (x : zCx p l R s m args meth c E D tA cc nL own fr) {index k : Nat} {tx : String} (hm : (own, index, tx, k) ∈ zStr) (hd : decode cc pc = .ok (.ldc index, 2)) (k : zW p l e R s m args below meth c E D tA nL k0 M lv (pc + 2) (zP (some (E k)) :: st)) : zW p l e R s m args below meth c E D tA nL k0 M lv pc (st) := by
  exact k.step fun H locs cells slots Q ls hl w => va_ldcS x.1 x.2.1 x.2.2.2.1 (x.2.2.2.2.2.2.1.2.2.1 _ hm) hd (w ls hl)
theorem z_ldcM (x : zCx p l R s m args meth c E D tA cc nL own fr) {index k : Nat} {C : String} (hm : (C, k) ∈ zMir) (hw : Cond.classLink own index C ∈ lw_all) (hd : decode cc pc = .ok (.ldc index, 2)) (k : zW p l e R s m args below meth c E D tA nL k0 M lv (pc + 2) (zP (some (E k)) :: st)) : zW p l e R s m args below meth c E D tA nL k0 M lv pc (st) := by
  exact k.step fun H locs cells slots Q ls hl w => va_ldcM x.1 x.2.1 x.2.2.2.1 (x.2.2.2.2.1 _ hw) (x.2.2.2.2.2.2.1.2.2.2.1 _ hm) hd (w ls hl)
theorem z_iload_n (x : zCx p l R s m args meth c E D tA cc nL own fr) {k9 : Fin 4} {i : Nat} {v : Int32} (j : Nat) (hd : decode cc pc = .ok (.iload_n k9, 1)) (hi : (k9 : Nat) = i) (hj : lv[j]? = some (i, zI v)) (k : zW p l e R s m args below meth c E D tA nL k0 M lv (pc + 1) (zI v :: st)) : zW p l e R s m args below meth c E D tA nL k0 M lv pc (st) := by
  exact k.step fun H locs cells slots Q ls hl w => lv_iload_n x.1 x.2.1 hd hi (lv_at hl j (zLoc_at hj)) (w ls hl)
theorem z_iload (x : zCx p l R s m args meth c E D tA cc nL own fr) {i : Nat} {v : Int32} (j : Nat) (hd : decode cc pc = .ok (.iload i, 2)) (hj : lv[j]? = some (i, zI v)) (k : zW p l e R s m args below meth c E D tA nL k0 M lv (pc + 2) (zI v :: st)) : zW p l e R s m args below meth c E D tA nL k0 M lv pc (st) := by
  exact k.step fun H locs cells slots Q ls hl w => lv_iload x.1 x.2.1 hd (lv_at hl j (zLoc_at hj)) (w ls hl)
theorem z_lload_n (x : zCx p l R s m args meth c E D tA cc nL own fr) {k9 : Fin 4} {i : Nat} {v : Int64} (j : Nat) (hd : decode cc pc = .ok (.lload_n k9, 1)) (hi : (k9 : Nat) = i) (hj : lv[j]? = some (i, zL v)) (k : zW p l e R s m args below meth c E D tA nL k0 M lv (pc + 1) (zL v :: st)) : zW p l e R s m args below meth c E D tA nL k0 M lv pc (st) := by
  exact k.step fun H locs cells slots Q ls hl w => lv_lload_n x.1 x.2.1 hd hi (lv_at hl j (zLoc_at hj)) (w ls hl)
theorem z_lload (x : zCx p l R s m args meth c E D tA cc nL own fr) {i : Nat} {v : Int64} (j : Nat) (hd : decode cc pc = .ok (.lload i, 2)) (hj : lv[j]? = some (i, zL v)) (k : zW p l e R s m args below meth c E D tA nL k0 M lv (pc + 2) (zL v :: st)) : zW p l e R s m args below meth c E D tA nL k0 M lv pc (st) := by
  exact k.step fun H locs cells slots Q ls hl w => lv_lload x.1 x.2.1 hd (lv_at hl j (zLoc_at hj)) (w ls hl)
theorem z_fload_n (x : zCx p l R s m args meth c E D tA cc nL own fr) {k9 : Fin 4} {i : Nat} {v : UInt32} (j : Nat) (hd : decode cc pc = .ok (.fload_n k9, 1)) (hi : (k9 : Nat) = i) (hj : lv[j]? = some (i, zF v)) (k : zW p l e R s m args below meth c E D tA nL k0 M lv (pc + 1) (zF v :: st)) : zW p l e R s m args below meth c E D tA nL k0 M lv pc (st) := by
  exact k.step fun H locs cells slots Q ls hl w => lv_fload_n x.1 x.2.1 hd hi (lv_at hl j (zLoc_at hj)) (w ls hl)
theorem z_fload (x : zCx p l R s m args meth c E D tA cc nL own fr) {i : Nat} {v : UInt32} (j : Nat) (hd : decode cc pc = .ok (.fload i, 2)) (hj : lv[j]? = some (i, zF v)) (k : zW p l e R s m args below meth c E D tA nL k0 M lv (pc + 2) (zF v :: st)) : zW p l e R s m args below meth c E D tA nL k0 M lv pc (st) := by
  exact k.step fun H locs cells slots Q ls hl w => lv_fload x.1 x.2.1 hd (lv_at hl j (zLoc_at hj)) (w ls hl)
theorem z_dload_n (x : zCx p l R s m args meth c E D tA cc nL own fr) {k9 : Fin 4} {i : Nat} {v : UInt64} (j : Nat) (hd : decode cc pc = .ok (.dload_n k9, 1)) (hi : (k9 : Nat) = i) (hj : lv[j]? = some (i, zD v)) (k : zW p l e R s m args below meth c E D tA nL k0 M lv (pc + 1) (zD v :: st)) : zW p l e R s m args below meth c E D tA nL k0 M lv pc (st) := by
  exact k.step fun H locs cells slots Q ls hl w => lv_dload_n x.1 x.2.1 hd hi (lv_at hl j (zLoc_at hj)) (w ls hl)
theorem z_dload (x : zCx p l R s m args meth c E D tA cc nL own fr) {i : Nat} {v : UInt64} (j : Nat) (hd : decode cc pc = .ok (.dload i, 2)) (hj : lv[j]? = some (i, zD v)) (k : zW p l e R s m args below meth c E D tA nL k0 M lv (pc + 2) (zD v :: st)) : zW p l e R s m args below meth c E D tA nL k0 M lv pc (st) := by
  exact k.step fun H locs cells slots Q ls hl w => lv_dload x.1 x.2.1 hd (lv_at hl j (zLoc_at hj)) (w ls hl)
theorem z_aload_n (x : zCx p l R s m args meth c E D tA cc nL own fr) {k9 : Fin 4} {i : Nat} {v : Option Nat} (j : Nat) (hd : decode cc pc = .ok (.aload_n k9, 1)) (hi : (k9 : Nat) = i) (hj : lv[j]? = some (i, zP v)) (k : zW p l e R s m args below meth c E D tA nL k0 M lv (pc + 1) (zP v :: st)) : zW p l e R s m args below meth c E D tA nL k0 M lv pc st := by
  refine k.step fun H locs cells slots Q ls hl w => ?_
  have h1 := lv_at hl j (zLoc_at hj)
  have h2 := w ls hl
  cases v with
  | none => exact lv_aload_nN x.1 x.2.1 hd hi h1 h2
  | some a => exact lv_aload_n x.1 x.2.1 hd hi h1 h2
theorem z_aload (x : zCx p l R s m args meth c E D tA cc nL own fr) {i : Nat} {v : Option Nat} (j : Nat) (hd : decode cc pc = .ok (.aload i, 2)) (hj : lv[j]? = some (i, zP v)) (k : zW p l e R s m args below meth c E D tA nL k0 M lv (pc + 2) (zP v :: st)) : zW p l e R s m args below meth c E D tA nL k0 M lv pc st := by
  refine k.step fun H locs cells slots Q ls hl w => ?_
  have h1 := lv_at hl j (zLoc_at hj)
  have h2 := w ls hl
  cases v with
  | none => exact lv_aloadN x.1 x.2.1 hd h1 h2
  | some a => exact lv_aload x.1 x.2.1 hd h1 h2
theorem z_astore_n (x : zCx p l R s m args meth c E D tA cc nL own fr) {k9 : Fin 4} {i : Nat} {v : Option Nat} (hd : decode cc pc = .ok (.astore_n k9, 1)) (hi : (k9 : Nat) = i) (hn : i < nL) (hp : zPut lv i (zP v) = lv') (k : zW p l e R s m args below meth c E D tA nL k0 M lv' (pc + 1) st) : zW p l e R s m args below meth c E D tA nL k0 M lv pc (zP v :: st) := by
  refine k.step fun H locs cells slots Q ls hl w => ?_
  have h1 := (zLoc_put lv i (zP v)).trans (by rw [hp])
  cases v with
  | none => exact lv_astore_nN x.1 x.2.1 hd hi hl hn h1 w
  | some a => exact lv_astore_n x.1 x.2.1 hd hi hl hn h1 w
theorem z_astore (x : zCx p l R s m args meth c E D tA cc nL own fr) {i : Nat} {v : Option Nat} (hd : decode cc pc = .ok (.astore i, 2)) (hn : i < nL) (hp : zPut lv i (zP v) = lv') (k : zW p l e R s m args below meth c E D tA nL k0 M lv' (pc + 2) st) : zW p l e R s m args below meth c E D tA nL k0 M lv pc (zP v :: st) := by
  refine k.step fun H locs cells slots Q ls hl w => ?_
  have h1 := (zLoc_put lv i (zP v)).trans (by rw [hp])
  cases v with
  | none => exact lv_astoreN x.1 x.2.1 hd hl hn h1 w
  | some a => exact lv_astore x.1 x.2.1 hd hl hn h1 w
theorem z_istore_n (x : zCx p l R s m args meth c E D tA cc nL own fr) {k9 : Fin 4} {i : Nat} {v : Int32} (hd : decode cc pc = .ok (.istore_n k9, 1)) (hi : (k9 : Nat) = i) (hn : i < nL) (hp : zPut lv i (zI v) = lv') (k : zW p l e R s m args below meth c E D tA nL k0 M lv' (pc + 1) (st)) : zW p l e R s m args below meth c E D tA nL k0 M lv pc (zI v :: st) := by
  exact k.step fun H locs cells slots Q ls hl w => lv_istore_n x.1 x.2.1 hd hi hl hn ((zLoc_put lv i (zI v)).trans (by rw [hp])) w
theorem z_istore (x : zCx p l R s m args meth c E D tA cc nL own fr) {i : Nat} {v : Int32} (hd : decode cc pc = .ok (.istore i, 2)) (hn : i < nL) (hp : zPut lv i (zI v) = lv') (k : zW p l e R s m args below meth c E D tA nL k0 M lv' (pc + 2) (st)) : zW p l e R s m args below meth c E D tA nL k0 M lv pc (zI v :: st) := by
  exact k.step fun H locs cells slots Q ls hl w => lv_istore x.1 x.2.1 hd hl hn ((zLoc_put lv i (zI v)).trans (by rw [hp])) w
theorem z_fstore_n (x : zCx p l R s m args meth c E D tA cc nL own fr) {k9 : Fin 4} {i : Nat} {v : UInt32} (hd : decode cc pc = .ok (.fstore_n k9, 1)) (hi : (k9 : Nat) = i) (hn : i < nL) (hp : zPut lv i (zF v) = lv') (k : zW p l e R s m args below meth c E D tA nL k0 M lv' (pc + 1) (st)) : zW p l e R s m args below meth c E D tA nL k0 M lv pc (zF v :: st) := by
  exact k.step fun H locs cells slots Q ls hl w => lv_fstore_n x.1 x.2.1 hd hi hl hn ((zLoc_put lv i (zF v)).trans (by rw [hp])) w
theorem z_fstore (x : zCx p l R s m args meth c E D tA cc nL own fr) {i : Nat} {v : UInt32} (hd : decode cc pc = .ok (.fstore i, 2)) (hn : i < nL) (hp : zPut lv i (zF v) = lv') (k : zW p l e R s m args below meth c E D tA nL k0 M lv' (pc + 2) (st)) : zW p l e R s m args below meth c E D tA nL k0 M lv pc (zF v :: st) := by
  exact k.step fun H locs cells slots Q ls hl w => lv_fstore x.1 x.2.1 hd hl hn ((zLoc_put lv i (zF v)).trans (by rw [hp])) w
theorem z_lstore_n (x : zCx p l R s m args meth c E D tA cc nL own fr) {k9 : Fin 4} {i : Nat} {v : Int64} (hd : decode cc pc = .ok (.lstore_n k9, 1)) (hi : (k9 : Nat) = i) (hn : i + 1 < nL) (hp : zPut2 lv i (zL v) = lv') (k : zW p l e R s m args below meth c E D tA nL k0 M lv' (pc + 1) (st)) : zW p l e R s m args below meth c E D tA nL k0 M lv pc (zL v :: st) := by
  exact k.step fun H locs cells slots Q ls hl w => lv_lstore_n x.1 x.2.1 hd hi hl hn ((zLoc_put2 lv i (zL v)).trans (by rw [hp])) w
theorem z_lstore (x : zCx p l R s m args meth c E D tA cc nL own fr) {i : Nat} {v : Int64} (hd : decode cc pc = .ok (.lstore i, 2)) (hn : i + 1 < nL) (hp : zPut2 lv i (zL v) = lv') (k : zW p l e R s m args below meth c E D tA nL k0 M lv' (pc + 2) (st)) : zW p l e R s m args below meth c E D tA nL k0 M lv pc (zL v :: st) := by
  exact k.step fun H locs cells slots Q ls hl w => lv_lstore x.1 x.2.1 hd hl hn ((zLoc_put2 lv i (zL v)).trans (by rw [hp])) w
theorem z_dstore_n (x : zCx p l R s m args meth c E D tA cc nL own fr) {k9 : Fin 4} {i : Nat} {v : UInt64} (hd : decode cc pc = .ok (.dstore_n k9, 1)) (hi : (k9 : Nat) = i) (hn : i + 1 < nL) (hp : zPut2 lv i (zD v) = lv') (k : zW p l e R s m args below meth c E D tA nL k0 M lv' (pc + 1) (st)) : zW p l e R s m args below meth c E D tA nL k0 M lv pc (zD v :: st) := by
  exact k.step fun H locs cells slots Q ls hl w => lv_dstore_n x.1 x.2.1 hd hi hl hn ((zLoc_put2 lv i (zD v)).trans (by rw [hp])) w
theorem z_dstore (x : zCx p l R s m args meth c E D tA cc nL own fr) {i : Nat} {v : UInt64} (hd : decode cc pc = .ok (.dstore i, 2)) (hn : i + 1 < nL) (hp : zPut2 lv i (zD v) = lv') (k : zW p l e R s m args below meth c E D tA nL k0 M lv' (pc + 2) (st)) : zW p l e R s m args below meth c E D tA nL k0 M lv pc (zD v :: st) := by
  exact k.step fun H locs cells slots Q ls hl w => lv_dstore x.1 x.2.1 hd hl hn ((zLoc_put2 lv i (zD v)).trans (by rw [hp])) w
theorem z_iinc (x : zCx p l R s m args meth c E D tA cc nL own fr) {i : Nat} {n : Int} {v v2 : Int32} (j : Nat) (hd : decode cc pc = .ok (.iinc i n, 3)) (hj : lv[j]? = some (i, zI v)) (hv : v + Int32.ofInt n = v2) (hn : i < nL) (hp : zPut lv i (zI v2) = lv') (k : zW p l e R s m args below meth c E D tA nL k0 M lv' (pc + 3) (st)) : zW p l e R s m args below meth c E D tA nL k0 M lv pc (st) := by
  exact k.step fun H locs cells slots Q ls hl w => lv_iinc x.1 x.2.1 hd hl (zLoc_at hj) hv hn ((zLoc_put lv i (zI v2)).trans (by rw [hp])) w
theorem z_pop (x : zCx p l R s m args meth c E D tA cc nL own fr) {v : zV} (hd : decode cc pc = .ok (.pop, 1)) (hc : zCat v = 1) (k : zW p l e R s m args below meth c E D tA nL k0 M lv (pc + 1) (st)) : zW p l e R s m args below meth c E D tA nL k0 M lv pc (v :: st) := by
  exact k.step fun H locs cells slots Q ls hl w => lv_pop x.1 x.2.1 hd ((zCat_eq v).trans hc) (w ls hl)
theorem z_dup (x : zCx p l R s m args meth c E D tA cc nL own fr) {v : zV} (hd : decode cc pc = .ok (.dup, 1)) (hc : zCat v = 1) (k : zW p l e R s m args below meth c E D tA nL k0 M lv (pc + 1) (v :: v :: st)) : zW p l e R s m args below meth c E D tA nL k0 M lv pc (v :: st) := by
  exact k.step fun H locs cells slots Q ls hl w => lv_dup x.1 x.2.1 hd ((zCat_eq v).trans hc) (w ls hl)
theorem z_dup_x1 (x : zCx p l R s m args meth c E D tA cc nL own fr) {v u : zV} (hd : decode cc pc = .ok (.dup_x1, 1)) (hc : zCat v = 1) (hc2 : zCat u = 1) (k : zW p l e R s m args below meth c E D tA nL k0 M lv (pc + 1) (v :: u :: v :: st)) : zW p l e R s m args below meth c E D tA nL k0 M lv pc (v :: u :: st) := by
  exact k.step fun H locs cells slots Q ls hl w => lv_dup_x1 x.1 x.2.1 hd ((zCat_eq v).trans hc) ((zCat_eq u).trans hc2) (w ls hl)
theorem z_dup2 (x : zCx p l R s m args meth c E D tA cc nL own fr) {v u : zV} (hd : decode cc pc = .ok (.dup2, 1)) (hc : zCat v = 1) (hc2 : zCat u = 1) (k : zW p l e R s m args below meth c E D tA nL k0 M lv (pc + 1) (v :: u :: v :: u :: st)) : zW p l e R s m args below meth c E D tA nL k0 M lv pc (v :: u :: st) := by
  exact k.step fun H locs cells slots Q ls hl w => lv_dup2_11 x.1 x.2.1 hd ((zCat_eq v).trans hc) ((zCat_eq u).trans hc2) (w ls hl)
theorem z_iadd (x : zCx p l R s m args meth c E D tA cc nL own fr) {a b : Int32} (hd : decode cc pc = .ok (.iadd, 1)) (k : zW p l e R s m args below meth c E D tA nL k0 M lv (pc + 1) (zI (a + b) :: st)) : zW p l e R s m args below meth c E D tA nL k0 M lv pc (zI b :: zI a :: st) := by
  exact k.step fun H locs cells slots Q ls hl w => lv_iadd x.1 x.2.1 hd (w ls hl)
theorem z_isub (x : zCx p l R s m args meth c E D tA cc nL own fr) {a b : Int32} (hd : decode cc pc = .ok (.isub, 1)) (k : zW p l e R s m args below meth c E D tA nL k0 M lv (pc + 1) (zI (a - b) :: st)) : zW p l e R s m args below meth c E D tA nL k0 M lv pc (zI b :: zI a :: st) := by
  exact k.step fun H locs cells slots Q ls hl w => lv_isub x.1 x.2.1 hd (w ls hl)
theorem z_imul (x : zCx p l R s m args meth c E D tA cc nL own fr) {a b : Int32} (hd : decode cc pc = .ok (.imul, 1)) (k : zW p l e R s m args below meth c E D tA nL k0 M lv (pc + 1) (zI (a * b) :: st)) : zW p l e R s m args below meth c E D tA nL k0 M lv pc (zI b :: zI a :: st) := by
  exact k.step fun H locs cells slots Q ls hl w => lv_imul x.1 x.2.1 hd (w ls hl)
theorem z_iand (x : zCx p l R s m args meth c E D tA cc nL own fr) {a b : Int32} (hd : decode cc pc = .ok (.iand, 1)) (k : zW p l e R s m args below meth c E D tA nL k0 M lv (pc + 1) (zI (a &&& b) :: st)) : zW p l e R s m args below meth c E D tA nL k0 M lv pc (zI b :: zI a :: st) := by
  exact k.step fun H locs cells slots Q ls hl w => lv_iand x.1 x.2.1 hd (w ls hl)
theorem z_ior (x : zCx p l R s m args meth c E D tA cc nL own fr) {a b : Int32} (hd : decode cc pc = .ok (.ior, 1)) (k : zW p l e R s m args below meth c E D tA nL k0 M lv (pc + 1) (zI (a ||| b) :: st)) : zW p l e R s m args below meth c E D tA nL k0 M lv pc (zI b :: zI a :: st) := by
  exact k.step fun H locs cells slots Q ls hl w => lv_ior x.1 x.2.1 hd (w ls hl)
theorem z_ixor (x : zCx p l R s m args meth c E D tA cc nL own fr) {a b : Int32} (hd : decode cc pc = .ok (.ixor, 1)) (k : zW p l e R s m args below meth c E D tA nL k0 M lv (pc + 1) (zI (a ^^^ b) :: st)) : zW p l e R s m args below meth c E D tA nL k0 M lv pc (zI b :: zI a :: st) := by
  exact k.step fun H locs cells slots Q ls hl w => lv_ixor x.1 x.2.1 hd (w ls hl)
theorem z_ishl (x : zCx p l R s m args meth c E D tA cc nL own fr) {a b : Int32} (hd : decode cc pc = .ok (.ishl, 1)) (k : zW p l e R s m args below meth c E D tA nL k0 M lv (pc + 1) (zI (a <<< (b &&& 31)) :: st)) : zW p l e R s m args below meth c E D tA nL k0 M lv pc (zI b :: zI a :: st) := by
  exact k.step fun H locs cells slots Q ls hl w => lv_ishl x.1 x.2.1 hd (w ls hl)
theorem z_ishr (x : zCx p l R s m args meth c E D tA cc nL own fr) {a b : Int32} (hd : decode cc pc = .ok (.ishr, 1)) (k : zW p l e R s m args below meth c E D tA nL k0 M lv (pc + 1) (zI (a >>> (b &&& 31)) :: st)) : zW p l e R s m args below meth c E D tA nL k0 M lv pc (zI b :: zI a :: st) := by
  exact k.step fun H locs cells slots Q ls hl w => lv_ishr x.1 x.2.1 hd (w ls hl)
theorem z_iushr (x : zCx p l R s m args meth c E D tA cc nL own fr) {a b : Int32} (hd : decode cc pc = .ok (.iushr, 1)) (k : zW p l e R s m args below meth c E D tA nL k0 M lv (pc + 1) (zI ((a.toUInt32 >>> (b.toUInt32 &&& Int32.toUInt32 31)).toInt32) :: st)) : zW p l e R s m args below meth c E D tA nL k0 M lv pc (zI b :: zI a :: st) := by
  exact k.step fun H locs cells slots Q ls hl w => lv_iushr x.1 x.2.1 hd rfl (w ls hl)
theorem z_ineg (x : zCx p l R s m args meth c E D tA cc nL own fr) {a : Int32} (hd : decode cc pc = .ok (.ineg, 1)) (k : zW p l e R s m args below meth c E D tA nL k0 M lv (pc + 1) (zI (-a) :: st)) : zW p l e R s m args below meth c E D tA nL k0 M lv pc (zI a :: st) := by
  exact k.step fun H locs cells slots Q ls hl w => lv_ineg x.1 x.2.1 hd (w ls hl)
theorem z_ladd (x : zCx p l R s m args meth c E D tA cc nL own fr) {a b : Int64} (hd : decode cc pc = .ok (.ladd, 1)) (k : zW p l e R s m args below meth c E D tA nL k0 M lv (pc + 1) (zL (a + b) :: st)) : zW p l e R s m args below meth c E D tA nL k0 M lv pc (zL b :: zL a :: st) := by
  exact k.step fun H locs cells slots Q ls hl w => lv_ladd x.1 x.2.1 hd (w ls hl)
theorem z_i2l (x : zCx p l R s m args meth c E D tA cc nL own fr) {a : Int32} (hd : decode cc pc = .ok (.i2l, 1)) (k : zW p l e R s m args below meth c E D tA nL k0 M lv (pc + 1) (zL a.toInt64 :: st)) : zW p l e R s m args below meth c E D tA nL k0 M lv pc (zI a :: st) := by
  exact k.step fun H locs cells slots Q ls hl w => lv_i2l x.1 x.2.1 hd rfl (w ls hl)
theorem z_l2i (x : zCx p l R s m args meth c E D tA cc nL own fr) {a : Int64} (hd : decode cc pc = .ok (.l2i, 1)) (k : zW p l e R s m args below meth c E D tA nL k0 M lv (pc + 1) (zI a.toInt32 :: st)) : zW p l e R s m args below meth c E D tA nL k0 M lv pc (zL a :: st) := by
  exact k.step fun H locs cells slots Q ls hl w => lv_l2i x.1 x.2.1 hd rfl (w ls hl)
theorem z_i2b (x : zCx p l R s m args meth c E D tA cc nL own fr) {a : Int32} (hd : decode cc pc = .ok (.i2b, 1)) (k : zW p l e R s m args below meth c E D tA nL k0 M lv (pc + 1) (zI a.toInt8.toInt32 :: st)) : zW p l e R s m args below meth c E D tA nL k0 M lv pc (zI a :: st) := by
  exact k.step fun H locs cells slots Q ls hl w => lv_i2b x.1 x.2.1 hd rfl (w ls hl)
theorem z_i2c (x : zCx p l R s m args meth c E D tA cc nL own fr) {a : Int32} (hd : decode cc pc = .ok (.i2c, 1)) (k : zW p l e R s m args below meth c E D tA nL k0 M lv (pc + 1) (zI (a.toUInt32 % 65536).toInt32 :: st)) : zW p l e R s m args below meth c E D tA nL k0 M lv pc (zI a :: st) := by
  exact k.step fun H locs cells slots Q ls hl w => lv_i2c x.1 x.2.1 hd rfl (w ls hl)
theorem z_i2f (x : zCx p l R s m args meth c E D tA cc nL own fr) {a : Int32} (hd : decode cc pc = .ok (.i2f, 1)) (k : zW p l e R s m args below meth c E D tA nL k0 M lv (pc + 1) (zF (FP.i2f a) :: st)) : zW p l e R s m args below meth c E D tA nL k0 M lv pc (zI a :: st) := by
  exact k.step fun H locs cells slots Q ls hl w => lv_i2f x.1 x.2.1 hd (w ls hl)
theorem z_i2d (x : zCx p l R s m args meth c E D tA cc nL own fr) {a : Int32} (hd : decode cc pc = .ok (.i2d, 1)) (k : zW p l e R s m args below meth c E D tA nL k0 M lv (pc + 1) (zD (FP.i2d a) :: st)) : zW p l e R s m args below meth c E D tA nL k0 M lv pc (zI a :: st) := by
  exact k.step fun H locs cells slots Q ls hl w => lv_i2d x.1 x.2.1 hd (w ls hl)
theorem z_lcmp (x : zCx p l R s m args meth c E D tA cc nL own fr) {a b : Int64} (hd : decode cc pc = .ok (.lcmp, 1)) (k : zW p l e R s m args below meth c E D tA nL k0 M lv (pc + 1) (zI (lg_cmp a b) :: st)) : zW p l e R s m args below meth c E D tA nL k0 M lv pc (zL b :: zL a :: st) := by
  exact k.step fun H locs cells slots Q ls hl w => W.lcmp x.1 x.2.1 hd (w ls hl)
theorem z_fcmp (x : zCx p l R s m args meth c E D tA cc nL own fr) {a b : UInt32} {op : CmpOp} (hd : decode cc pc = .ok (.fcmp op, 1)) (k : zW p l e R s m args below meth c E D tA nL k0 M lv (pc + 1) (zI (Op.cmpValue (FP.fcmp a b) op) :: st)) : zW p l e R s m args below meth c E D tA nL k0 M lv pc (zF b :: zF a :: st) := by
  exact k.step fun H locs cells slots Q ls hl w => lv_fcmp x.1 x.2.1 hd (w ls hl)
theorem z_dcmp (x : zCx p l R s m args meth c E D tA cc nL own fr) {a b : UInt64} {op : CmpOp} (hd : decode cc pc = .ok (.dcmp op, 1)) (k : zW p l e R s m args below meth c E D tA nL k0 M lv (pc + 1) (zI (Op.cmpValue (FP.dcmp a b) op) :: st)) : zW p l e R s m args below meth c E D tA nL k0 M lv pc (zD b :: zD a :: st) := by
  exact k.step fun H locs cells slots Q ls hl w => lv_dcmp x.1 x.2.1 hd (w ls hl)
theorem z_goto (x : zCx p l R s m args meth c E D tA cc nL own fr) {off : Int} {tgt : Nat} (hd : decode cc pc = .ok (.goto off, 3)) (ht : (pc : Int) + off = (tgt : Int)) (k : zW p l e R s m args below meth c E D tA nL k0 M lv (tgt) (st)) : zW p l e R s m args below meth c E D tA nL k0 M lv pc (st) := by
  exact k.step fun H locs cells slots Q ls hl w => lv_goto x.1 x.2.1 hd ht (w ls hl)
theorem z_if_eq (x : zCx p l R s m args meth c E D tA cc nL own fr) {a : Int32} {off : Int} {tgt : Nat} {Mt Mf : zM} (hd : decode cc pc = .ok (.ifCond .eq off, 3)) (ht : (pc : Int) + off = (tgt : Int)) (kt : a = 0 → zW p l e R s m args below meth c E D tA nL k0 Mt lv tgt st) (kf : ¬ (a = 0) → zW p l e R s m args below meth c E D tA nL k0 Mf lv (pc + 3) st) : zW p l e R s m args below meth c E D tA nL k0 (if a = 0 then Mt else Mf) lv pc (zI a :: st) := by
  by_cases hb : a = 0
  · rw [if_pos hb]
    exact (kt hb).step fun H locs cells slots Q ls hl w => lv_if_eq x.1 x.2.1 hd ht (fun _ => w ls hl) (fun hn => absurd hb hn)
  · rw [if_neg hb]
    exact (kf hb).step fun H locs cells slots Q ls hl w => lv_if_eq x.1 x.2.1 hd ht (fun hn => absurd hn hb) (fun _ => w ls hl)
theorem z_if_lt (x : zCx p l R s m args meth c E D tA cc nL own fr) {a : Int32} {off : Int} {tgt : Nat} {Mt Mf : zM} (hd : decode cc pc = .ok (.ifCond .lt off, 3)) (ht : (pc : Int) + off = (tgt : Int)) (kt : a < 0 → zW p l e R s m args below meth c E D tA nL k0 Mt lv tgt st) (kf : ¬ (a < 0) → zW p l e R s m args below meth c E D tA nL k0 Mf lv (pc + 3) st) : zW p l e R s m args below meth c E D tA nL k0 (if a < 0 then Mt else Mf) lv pc (zI a :: st) := by
  by_cases hb : a < 0
  · rw [if_pos hb]
    exact (kt hb).step fun H locs cells slots Q ls hl w => lv_if_lt x.1 x.2.1 hd ht (fun _ => w ls hl) (fun hn => absurd hb hn)
  · rw [if_neg hb]
    exact (kf hb).step fun H locs cells slots Q ls hl w => lv_if_lt x.1 x.2.1 hd ht (fun hn => absurd hn hb) (fun _ => w ls hl)
theorem z_if_le (x : zCx p l R s m args meth c E D tA cc nL own fr) {a : Int32} {off : Int} {tgt : Nat} {Mt Mf : zM} (hd : decode cc pc = .ok (.ifCond .le off, 3)) (ht : (pc : Int) + off = (tgt : Int)) (kt : a ≤ 0 → zW p l e R s m args below meth c E D tA nL k0 Mt lv tgt st) (kf : ¬ (a ≤ 0) → zW p l e R s m args below meth c E D tA nL k0 Mf lv (pc + 3) st) : zW p l e R s m args below meth c E D tA nL k0 (if a ≤ 0 then Mt else Mf) lv pc (zI a :: st) := by
  by_cases hb : a ≤ 0
  · rw [if_pos hb]
    exact (kt hb).step fun H locs cells slots Q ls hl w => lv_if_le x.1 x.2.1 hd ht (fun _ => w ls hl) (fun hn => absurd hb hn)
  · rw [if_neg hb]
    exact (kf hb).step fun H locs cells slots Q ls hl w => lv_if_le x.1 x.2.1 hd ht (fun hn => absurd hn hb) (fun _ => w ls hl)
theorem z_if_gt (x : zCx p l R s m args meth c E D tA cc nL own fr) {a : Int32} {off : Int} {tgt : Nat} {Mt Mf : zM} (hd : decode cc pc = .ok (.ifCond .gt off, 3)) (ht : (pc : Int) + off = (tgt : Int)) (kt : 0 < a → zW p l e R s m args below meth c E D tA nL k0 Mt lv tgt st) (kf : ¬ (0 < a) → zW p l e R s m args below meth c E D tA nL k0 Mf lv (pc + 3) st) : zW p l e R s m args below meth c E D tA nL k0 (if 0 < a then Mt else Mf) lv pc (zI a :: st) := by
  by_cases hb : 0 < a
  · rw [if_pos hb]
    exact (kt hb).step fun H locs cells slots Q ls hl w => lv_if_gt x.1 x.2.1 hd ht (fun _ => w ls hl) (fun hn => absurd hb hn)
  · rw [if_neg hb]
    exact (kf hb).step fun H locs cells slots Q ls hl w => lv_if_gt x.1 x.2.1 hd ht (fun hn => absurd hn hb) (fun _ => w ls hl)
theorem z_if_ge (x : zCx p l R s m args meth c E D tA cc nL own fr) {a : Int32} {off : Int} {tgt : Nat} {Mt Mf : zM} (hd : decode cc pc = .ok (.ifCond .ge off, 3)) (ht : (pc : Int) + off = (tgt : Int)) (kt : 0 ≤ a → zW p l e R s m args below meth c E D tA nL k0 Mt lv tgt st) (kf : ¬ (0 ≤ a) → zW p l e R s m args below meth c E D tA nL k0 Mf lv (pc + 3) st) : zW p l e R s m args below meth c E D tA nL k0 (if 0 ≤ a then Mt else Mf) lv pc (zI a :: st) := by
  by_cases hb : 0 ≤ a
  · rw [if_pos hb]
    exact (kt hb).step fun H locs cells slots Q ls hl w => lv_if_ge x.1 x.2.1 hd ht (fun _ => w ls hl) (fun hn => absurd hb hn)
  · rw [if_neg hb]
    exact (kf hb).step fun H locs cells slots Q ls hl w => lv_if_ge x.1 x.2.1 hd ht (fun hn => absurd hn hb) (fun _ => w ls hl)
theorem z_if_ne (x : zCx p l R s m args meth c E D tA cc nL own fr) {a : Int32} {off : Int} {tgt : Nat} {Mt Mf : zM} (hd : decode cc pc = .ok (.ifCond .ne off, 3)) (ht : (pc : Int) + off = (tgt : Int)) (kf : a = 0 → zW p l e R s m args below meth c E D tA nL k0 Mf lv (pc + 3) st) (kt : ¬ (a = 0) → zW p l e R s m args below meth c E D tA nL k0 Mt lv tgt st) : zW p l e R s m args below meth c E D tA nL k0 (if a = 0 then Mf else Mt) lv pc (zI a :: st) := by
  by_cases hb : a = 0
  · rw [if_pos hb]
    exact (kf hb).step fun H locs cells slots Q ls hl w => lv_if_ne x.1 x.2.1 hd ht (fun hn => absurd hb hn) (fun _ => w ls hl)
  · rw [if_neg hb]
    exact (kt hb).step fun H locs cells slots Q ls hl w => lv_if_ne x.1 x.2.1 hd ht (fun _ => w ls hl) (fun hn => absurd hn hb)
theorem z_icmp_eq (x : zCx p l R s m args meth c E D tA cc nL own fr) {a b : Int32} {off : Int} {tgt : Nat} {Mt Mf : zM} (hd : decode cc pc = .ok (.if_icmp .eq off, 3)) (ht : (pc : Int) + off = (tgt : Int)) (kt : a = b → zW p l e R s m args below meth c E D tA nL k0 Mt lv tgt st) (kf : ¬ (a = b) → zW p l e R s m args below meth c E D tA nL k0 Mf lv (pc + 3) st) : zW p l e R s m args below meth c E D tA nL k0 (if a = b then Mt else Mf) lv pc (zI b :: zI a :: st) := by
  by_cases hb : a = b
  · rw [if_pos hb]
    exact (kt hb).step fun H locs cells slots Q ls hl w => lv_icmp_eq x.1 x.2.1 hd ht (fun _ => w ls hl) (fun hn => absurd hb hn)
  · rw [if_neg hb]
    exact (kf hb).step fun H locs cells slots Q ls hl w => lv_icmp_eq x.1 x.2.1 hd ht (fun hn => absurd hn hb) (fun _ => w ls hl)
theorem z_icmp_lt (x : zCx p l R s m args meth c E D tA cc nL own fr) {a b : Int32} {off : Int} {tgt : Nat} {Mt Mf : zM} (hd : decode cc pc = .ok (.if_icmp .lt off, 3)) (ht : (pc : Int) + off = (tgt : Int)) (kt : a < b → zW p l e R s m args below meth c E D tA nL k0 Mt lv tgt st) (kf : ¬ (a < b) → zW p l e R s m args below meth c E D tA nL k0 Mf lv (pc + 3) st) : zW p l e R s m args below meth c E D tA nL k0 (if a < b then Mt else Mf) lv pc (zI b :: zI a :: st) := by
  by_cases hb : a < b
  · rw [if_pos hb]
    exact (kt hb).step fun H locs cells slots Q ls hl w => lv_icmp_lt x.1 x.2.1 hd ht (fun _ => w ls hl) (fun hn => absurd hb hn)
  · rw [if_neg hb]
    exact (kf hb).step fun H locs cells slots Q ls hl w => lv_icmp_lt x.1 x.2.1 hd ht (fun hn => absurd hn hb) (fun _ => w ls hl)
theorem z_icmp_le (x : zCx p l R s m args meth c E D tA cc nL own fr) {a b : Int32} {off : Int} {tgt : Nat} {Mt Mf : zM} (hd : decode cc pc = .ok (.if_icmp .le off, 3)) (ht : (pc : Int) + off = (tgt : Int)) (kt : a ≤ b → zW p l e R s m args below meth c E D tA nL k0 Mt lv tgt st) (kf : ¬ (a ≤ b) → zW p l e R s m args below meth c E D tA nL k0 Mf lv (pc + 3) st) : zW p l e R s m args below meth c E D tA nL k0 (if a ≤ b then Mt else Mf) lv pc (zI b :: zI a :: st) := by
  by_cases hb : a ≤ b
  · rw [if_pos hb]
    exact (kt hb).step fun H locs cells slots Q ls hl w => lv_icmp_le x.1 x.2.1 hd ht (fun _ => w ls hl) (fun hn => absurd hb hn)
  · rw [if_neg hb]
    exact (kf hb).step fun H locs cells slots Q ls hl w => lv_icmp_le x.1 x.2.1 hd ht (fun hn => absurd hn hb) (fun _ => w ls hl)
theorem z_icmp_gt (x : zCx p l R s m args meth c E D tA cc nL own fr) {a b : Int32} {off : Int} {tgt : Nat} {Mt Mf : zM} (hd : decode cc pc = .ok (.if_icmp .gt off, 3)) (ht : (pc : Int) + off = (tgt : Int)) (kt : b < a → zW p l e R s m args below meth c E D tA nL k0 Mt lv tgt st) (kf : ¬ (b < a) → zW p l e R s m args below meth c E D tA nL k0 Mf lv (pc + 3) st) : zW p l e R s m args below meth c E D tA nL k0 (if b < a then Mt else Mf) lv pc (zI b :: zI a :: st) := by
  by_cases hb : b < a
  · rw [if_pos hb]
    exact (kt hb).step fun H locs cells slots Q ls hl w => lv_icmp_gt x.1 x.2.1 hd ht (fun _ => w ls hl) (fun hn => absurd hb hn)
  · rw [if_neg hb]
    exact (kf hb).step fun H locs cells slots Q ls hl w => lv_icmp_gt x.1 x.2.1 hd ht (fun hn => absurd hn hb) (fun _ => w ls hl)
theorem z_icmp_ge (x : zCx p l R s m args meth c E D tA cc nL own fr) {a b : Int32} {off : Int} {tgt : Nat} {Mt Mf : zM} (hd : decode cc pc = .ok (.if_icmp .ge off, 3)) (ht : (pc : Int) + off = (tgt : Int)) (kt : b ≤ a → zW p l e R s m args below meth c E D tA nL k0 Mt lv tgt st) (kf : ¬ (b ≤ a) → zW p l e R s m args below meth c E D tA nL k0 Mf lv (pc + 3) st) : zW p l e R s m args below meth c E D tA nL k0 (if b ≤ a then Mt else Mf) lv pc (zI b :: zI a :: st) := by
  by_cases hb : b ≤ a
  · rw [if_pos hb]
    exact (kt hb).step fun H locs cells slots Q ls hl w => lv_icmp_ge x.1 x.2.1 hd ht (fun _ => w ls hl) (fun hn => absurd hb hn)
  · rw [if_neg hb]
    exact (kf hb).step fun H locs cells slots Q ls hl w => lv_icmp_ge x.1 x.2.1 hd ht (fun hn => absurd hn hb) (fun _ => w ls hl)
theorem z_icmp_ne (x : zCx p l R s m args meth c E D tA cc nL own fr) {a b : Int32} {off : Int} {tgt : Nat} {Mt Mf : zM} (hd : decode cc pc = .ok (.if_icmp .ne off, 3)) (ht : (pc : Int) + off = (tgt : Int)) (kf : a = b → zW p l e R s m args below meth c E D tA nL k0 Mf lv (pc + 3) st) (kt : ¬ (a = b) → zW p l e R s m args below meth c E D tA nL k0 Mt lv tgt st) : zW p l e R s m args below meth c E D tA nL k0 (if a = b then Mf else Mt) lv pc (zI b :: zI a :: st) := by
  by_cases hb : a = b
  · rw [if_pos hb]
    exact (kf hb).step fun H locs cells slots Q ls hl w => lv_icmp_ne x.1 x.2.1 hd ht (fun hn => absurd hb hn) (fun _ => w ls hl)
  · rw [if_neg hb]
    exact (kt hb).step fun H locs cells slots Q ls hl w => lv_icmp_ne x.1 x.2.1 hd ht (fun _ => w ls hl) (fun hn => absurd hn hb)
theorem z_acmp_eq (x : zCx p l R s m args meth c E D tA cc nL own fr) {a b : Option Nat} {off : Int} {tgt : Nat} {Mt Mf : zM} (hd : decode cc pc = .ok (.if_acmp .eq off, 3)) (ht : (pc : Int) + off = (tgt : Int)) (kt : a = b → zW p l e R s m args below meth c E D tA nL k0 Mt lv tgt st) (kf : ¬ (a = b) → zW p l e R s m args below meth c E D tA nL k0 Mf lv (pc + 3) st) : zW p l e R s m args below meth c E D tA nL k0 (if a = b then Mt else Mf) lv pc (zP b :: zP a :: st) := by
  by_cases hb : a = b
  · rw [if_pos hb]
    exact (kt hb).step fun H locs cells slots Q ls hl w => lv_acmp_eq x.1 x.2.1 hd ht (fun _ => w ls hl) (fun hn => absurd hb hn)
  · rw [if_neg hb]
    exact (kf hb).step fun H locs cells slots Q ls hl w => lv_acmp_eq x.1 x.2.1 hd ht (fun hn => absurd hn hb) (fun _ => w ls hl)
theorem z_acmp_ne (x : zCx p l R s m args meth c E D tA cc nL own fr) {a b : Option Nat} {off : Int} {tgt : Nat} {Mt Mf : zM} (hd : decode cc pc = .ok (.if_acmp .ne off, 3)) (ht : (pc : Int) + off = (tgt : Int)) (kf : a = b → zW p l e R s m args below meth c E D tA nL k0 Mf lv (pc + 3) st) (kt : ¬ (a = b) → zW p l e R s m args below meth c E D tA nL k0 Mt lv tgt st) : zW p l e R s m args below meth c E D tA nL k0 (if a = b then Mf else Mt) lv pc (zP b :: zP a :: st) := by
  by_cases hb : a = b
  · rw [if_pos hb]
    exact (kf hb).step fun H locs cells slots Q ls hl w => lv_acmp_ne x.1 x.2.1 hd ht (fun hn => absurd hb hn) (fun _ => w ls hl)
  · rw [if_neg hb]
    exact (kt hb).step fun H locs cells slots Q ls hl w => lv_acmp_ne x.1 x.2.1 hd ht (fun _ => w ls hl) (fun hn => absurd hn hb)
theorem z_ifnull (x : zCx p l R s m args meth c E D tA cc nL own fr) {a : Option Nat} {off : Int} {tgt : Nat} {Mt Mf : zM} (hd : decode cc pc = .ok (.ifnull off, 3)) (ht : (pc : Int) + off = (tgt : Int)) (kt : a = none → zW p l e R s m args below meth c E D tA nL k0 Mt lv tgt st) (kf : ¬ (a = none) → zW p l e R s m args below meth c E D tA nL k0 Mf lv (pc + 3) st) : zW p l e R s m args below meth c E D tA nL k0 (if a = none then Mt else Mf) lv pc (zP a :: st) := by
  cases a with
  | none =>
    rw [if_pos rfl]
    exact (kt rfl).step fun H locs cells slots Q ls hl w => lv_ifnullN x.1 x.2.1 hd ht (w ls hl)
  | some y =>
    rw [if_neg (by simp)]
    exact (kf (by simp)).step fun H locs cells slots Q ls hl w => lv_ifnull x.1 x.2.1 hd (w ls hl)
theorem z_ifnonnull (x : zCx p l R s m args meth c E D tA cc nL own fr) {a : Option Nat} {off : Int} {tgt : Nat} {Mt Mf : zM} (hd : decode cc pc = .ok (.ifnonnull off, 3)) (ht : (pc : Int) + off = (tgt : Int)) (kf : a = none → zW p l e R s m args below meth c E D tA nL k0 Mf lv (pc + 3) st) (kt : ¬ (a = none) → zW p l e R s m args below meth c E D tA nL k0 Mt lv tgt st) : zW p l e R s m args below meth c E D tA nL k0 (if a = none then Mf else Mt) lv pc (zP a :: st) := by
  cases a with
  | none =>
    rw [if_pos rfl]
    exact (kf rfl).step fun H locs cells slots Q ls hl w => lv_ifnonnullN x.1 x.2.1 hd (w ls hl)
  | some y =>
    rw [if_neg (by simp)]
    exact (kt (by simp)).step fun H locs cells slots Q ls hl w => lv_ifnonnull x.1 x.2.1 hd ht (w ls hl)
/-! division by a number that isn't 0; floats that are no NaN -/
def zDiv (a b : Int32) (K : Int32 → zM) : zM := if b = 0 then zFail else K (a / b)
def zRem (a b : Int32) (K : Int32 → zM) : zM := if b = 0 then zFail else K (a - a / b * b)
theorem z_idiv (x : zCx p l R s m args meth c E D tA cc nL own fr) {a b : Int32} {K : Int32 → zM} (hd : decode cc pc = .ok (.idiv, 1)) (k : ∀ v, zW p l e R s m args below meth c E D tA nL k0 (K v) lv (pc + 1) (zI v :: st)) : zW p l e R s m args below meth c E D tA nL k0 (zDiv a b K) lv pc (zI b :: zI a :: st) := by
  unfold zDiv
  by_cases hb : b = 0
  · rw [if_pos hb]; exact z_fail
  · rw [if_neg hb]
    exact (k _).step fun H locs cells slots Q ls hl w => lv_idiv x.1 x.2.1 hd hb (w ls hl)
theorem z_irem (x : zCx p l R s m args meth c E D tA cc nL own fr) {a b : Int32} {K : Int32 → zM} (hd : decode cc pc = .ok (.irem, 1)) (k : ∀ v, zW p l e R s m args below meth c E D tA nL k0 (K v) lv (pc + 1) (zI v :: st)) : zW p l e R s m args below meth c E D tA nL k0 (zRem a b K) lv pc (zI b :: zI a :: st) := by
  unfold zRem
  by_cases hb : b = 0
  · rw [if_pos hb]; exact z_fail
  · rw [if_neg hb]
    exact (k _).step fun H locs cells slots Q ls hl w => lv_irem x.1 x.2.1 hd hb (w ls hl)
def zNn32 (v : UInt32) (K : UInt32 → zM) : zM := if v &&& 0x7fffffff ≤ 0x7f800000 then K v else zFail
def zNn64 (v : UInt64) (K : UInt64 → zM) : zM := if v &&& 0x7fffffffffffffff ≤ 0x7ff0000000000000 then K v else zFail
theorem z_fdiv (x : zCx p l R s m args meth c E D tA cc nL own fr) {a b : UInt32} {K : UInt32 → zM} (hd : decode cc pc = .ok (.fdiv, 1)) (k : ∀ v, zW p l e R s m args below meth c E D tA nL k0 (K v) lv (pc + 1) (zF v :: st)) : zW p l e R s m args below meth c E D tA nL k0 (zNn32 (FP.fdiv a b) K) lv pc (zF b :: zF a :: st) := by
  unfold zNn32
  by_cases hb : FP.fdiv a b &&& 0x7fffffff ≤ 0x7f800000
  · rw [if_pos hb]
    exact (k _).step fun H locs cells slots Q ls hl w => lv_fdiv x.1 x.2.1 hd hb (w ls hl)
  · rw [if_neg hb]; exact z_fail
theorem z_ddiv (x : zCx p l R s m args meth c E D tA cc nL own fr) {a b : UInt64} {K : UInt64 → zM} (hd : decode cc pc = .ok (.ddiv, 1)) (k : ∀ v, zW p l e R s m args below meth c E D tA nL k0 (K v) lv (pc + 1) (zD v :: st)) : zW p l e R s m args below meth c E D tA nL k0 (zNn64 (FP.ddiv a b) K) lv pc (zD b :: zD a :: st) := by
  unfold zNn64
  by_cases hb : FP.ddiv a b &&& 0x7fffffffffffffff ≤ 0x7ff0000000000000
  · rw [if_pos hb]
    exact (k _).step fun H locs cells slots Q ls hl w => lv_ddiv x.1 x.2.1 hd hb (w ls hl)
  · rw [if_neg hb]; exact z_fail
theorem z_f2d (x : zCx p l R s m args meth c E D tA cc nL own fr) {a : UInt32} {K : UInt64 → zM} (hd : decode cc pc = .ok (.f2d, 1)) (k : ∀ v, zW p l e R s m args below meth c E D tA nL k0 (K v) lv (pc + 1) (zD v :: st)) : zW p l e R s m args below meth c E D tA nL k0 (zNn64 (FP.f2d a) K) lv pc (zF a :: st) := by
  unfold zNn64
  by_cases hb : FP.f2d a &&& 0x7fffffffffffffff ≤ 0x7ff0000000000000
  · rw [if_pos hb]
    exact (k _).step fun H locs cells slots Q ls hl w => lv_f2d x.1 x.2.1 hd hb (w ls hl)
  · rw [if_neg hb]; exact z_fail
/-! switches: nested ifs -/
def zSw (x : Int32) : List (Int32 × zM) → zM → zM
  | [], d => d
  | (k, Mk) :: r, d => if x = k then Mk else zSw x r d
end ZR
