/-! ===== rows: an array's own class's element stored, strings by a wide index, Math, getClass() of an array, exceptions of the library ===== -/
/-- a store of an object of the array's own element class ci -/
def zSaS (E : zE) (t ci : Nat) (r : Option Nat) (i : Int32) (x : Option Nat) (K : zM) : zM := fun h => match x with
  | none => zSa E t r i (zUpR x) K h
  | some b => match h.2.2 b with
    | some (.inr (c', _)) => if c' = ci then zSa E t r i (zUpR x) K h else none
    | _ => none
theorem zSaS_inv {E : zE} {t ci : Nat} {r : Option Nat} {i : Int32} {x : Option Nat} {K : zM} {h : zH} {o : zR × zH} (e : zSaS E t ci r i x K h = some o) : zSa E t r i (zUpR x) K h = some o ∧ ∀ b, x = some b → ∃ fs, h.2.2 b = some (.inr (ci, fs)) := by
  unfold zSaS at e
  split at e
  · exact ⟨e, fun b hb => nomatch hb⟩
  · rename_i b
    split at e
    · rename_i c' fs hb
      split at e
      · rename_i hcc
        subst hcc
        exact ⟨e, fun b' hb' => by cases hb'; exact ⟨fs, hb⟩⟩
      · cases e
    · cases e
/-- getClass() of an array -/
def zGcA (t : Nat) (mi : Nat) (x : Option Nat) (K : Option Nat → zM) : zM := fun h => match x with
  | none => none
  | some b => match h.2.2 b with
    | some (.inl (t', _)) => if t' = t then K (some mi) h else none
    | _ => none
/-- a place of the constant k, an array of references -/
def zGaQ (E : zE) (t k : Nat) (r : Option Nat) (i : Int32) (K : Option Nat → zM) : zM := fun h => if r = some (E k) then zGaR t r i K h else none
section ZSY
variable {p : Program} {l : Launch} {e : Env} {R : Room} {s : State} {m : MethodId} {args : Array Value} {below : List Frame} {meth : Method} {c : Code} {E : zE} {D : va_G} {tA : Nat → ClassId} {cc : ByteArray} {nL k0 fr : Nat} {own : String}
variable {M : zM} {lv lv' : List (Nat × zV)} {pc : Nat} {st : List zV}
theorem z_aaldQ (x : zCx p l R s m args meth c E D tA cc nL own fr) {r : Option Nat} {i : Int32} {K : Option Nat → zM} (hd : decode cc pc = .ok (.aaload, 1)) (kk : ∀ v, zW p l e R s m args below meth c E D tA nL k0 (K v) lv (pc + 1) (zP v :: st)) : zW p l e R s m args below meth c E D tA nL k0 (zGaQ E 10 3 r i K) lv pc (zI i :: zP r :: st) := by
  intro h out h' em
  unfold zGaQ at em
  split at em
  case isFalse => cases em
  rename_i hr
  obtain ⟨a, n, y, f, hra, ha, hin, hy, ek⟩ := zGa_inv em
  cases hr.symm.trans hra
  subst hra
  obtain rfl := zYR_eq hy
  have hlt : i.toNatClampNeg < n := Nat.not_le.mp fun q => hin (Or.inr q)
  refine ⟨(kk _ h out h' ek).1, fun a1 a2 a3 a4 H locs ls r1 r2 r3 => ?_⟩
  obtain ⟨cell, q1, q2, q3, q4, q5, -⟩ := r1.2 _ _ ha
  obtain ⟨h0, c0, k, comp, g1, g2, g3⟩ := x.2.2.2.2.2.2.1.2.2.2.2.2.2.2
  have hc0 := (r2.2.1 (E 3) (Array.getElem?_eq_some_iff.mp g1).1 (Nat.not_le.mpr h0)).trans g1
  cases hc0.symm.trans q1
  exact W.aald (v := va_rf (f i.toNatClampNeg)) (ty := .object "java/lang/Integer") x.1 x.2.1 q1 ⟨q5, k, g2, comp, g3⟩ rfl q4 (by rw [q3]; show ¬ (i < 0 ∨ (arrV _ _ _).slots.size ≤ _); rw [arrV_size]; exact hin) (by rw [q3]; show (arrV _ _ _).slots[_]? = _; rw [arrV_read _ _ hlt]) rfl rfl hd ((kk _ h out h' ek).2 a1 a2 a3 a4 H locs ls r1 r2 r3)
theorem z_aastS (x : zCx p l R s m args meth c E D tA cc nL own fr) {t ci : Nat} {C : vw_C} (ht : zTY[t]? = some (.object C.1)) (hc : zCL[ci]? = some C) {r : Option Nat} {i : Int32} {v : Option Nat} (hd : decode cc pc = .ok (.aastore, 1)) (kk : zW p l e R s m args below meth c E D tA nL k0 M lv (pc + 1) st) : zW p l e R s m args below meth c E D tA nL k0 (zSaS E t ci r i v M) lv pc (zP v :: zI i :: zP r :: st) := by
  intro h out h' em0
  obtain ⟨em, hv⟩ := zSaS_inv em0
  obtain ⟨a, n, y, y', rfl, ha, hin, hE, hy, ek⟩ := zSa_inv em
  obtain ⟨f, rfl, rfl⟩ := zUpR_eq hy
  refine ⟨(kk _ out h' ek).1, fun a1 a2 a3 a4 H locs ls r1 r2 r3 => ?_⟩
  have hlt : i.toNatClampNeg < n := Nat.not_le.mp fun q => hin (Or.inr q)
  have h0 : ¬ i < 0 := fun q => hin (Or.inl q)
  have fin : ∀ (H1 : Heap), H1[a]? = some ((vp_cell (tA t) (n, .inr (.inr (.inr (.inr f))))).setSlot i.toNatClampNeg (va_rf v)) → H1.size = H.size → (∀ q, q ≠ a → H1[q]? = H[q]?) → W p l e R s m args below meth c H1 (locs ++ [⟨a, i.toNatClampNeg⟩]) (h.1 - s.heap.size) (h.2.1 - k0) (zMQ below (zQc E D tA out h') (zXc E D tA out h') args s (h'.1 - s.heap.size) (h'.2.1 - k0) (zA E)) (F0 m (pc + 1) ls (zStk st)) := fun H1 e1 z1 o1 => by
    refine (kk _ out h' ek).2 a1 a2 a3 a4 H1 _ ls (zRep_put r1 z1 ?_ o1) (zS_put r2 z1 o1 hE) r3
    refine zAt_arr ?_
    rw [e1]
    rw [vp_cell_q, vp_cell_q, arrV_store]
    congr 2
    funext q
    by_cases hq : q = i.toNatClampNeg
    · subst hq
      simp [updV, va_up]
    · simp [updV, va_up, hq]
  cases v with
  | none =>
    exact va_WaastN (C := C.1) x.1 x.2.1 (zRep_arr r1 ha hE 0 _ rfl) ((x.2.2.2.2.2.1.2 t _ (zTys_at ht)).1 n (fun j => va_rf (f j))) (fun h => by cases h) (by show ¬ (i < 0 ∨ (arrV _ _ _).slots.size ≤ _); rw [arrV_size]; exact hin) rfl rfl hd fin
  | some b =>
    obtain ⟨fs, hb⟩ := hv b rfl
    obtain ⟨r', cellV, hr', g1, g2, -, g3, -⟩ := r1.2 b _ hb
    have hcls := (x.2.2.2.2.2.1.1 ci C hc).2
    obtain ⟨kA, comp, k1, k2, k3, -⟩ := (x.2.2.2.2.2.1.2 t _ (zTys_at ht)).2
    have hcomp : comp = D.1 ci := Option.some.inj (k3.symm.trans hcls.1)
    subst hcomp
    obtain ⟨kC, hkC, -⟩ := hcls.2
    exact W.aast x.1 x.2.1 (zRep_arr r1 ha hE 0 _ rfl) (fun q h => by cases h) (fun h => by cases h) k1 k2 rfl hkC ⟨h0, by show _ < (arrV _ _ _).slots.size; rw [arrV_size]; exact hlt⟩ g1 (fun q h => by rw [h] at g3; cases g3) (by rw [g2]; exact hkC) (by rw [g2]; exact va_assign hcls) rfl rfl hd fin
theorem z_ldcwS (x : zCx p l R s m args meth c E D tA cc nL own fr) {index k : Nat} {tx : String} (hm : (own, index, tx, k) ∈ zStr) (hd : decode cc pc = .ok (.ldc_w index, 3)) (k : zW p l e R s m args below meth c E D tA nL k0 M lv (pc + 3) (zP (some (E k)) :: st)) : zW p l e R s m args below meth c E D tA nL k0 M lv pc (st) := by
  have hZ := x.2.2.2.2.2.2.1.2.2.1 _ hm
  refine k.step fun H locs cells slots Q ls hl w => ?_
  intro T hT X
  obtain ⟨t, a1, b1⟩ := w ls hl T hT X
  exact ⟨t, X.ldcStringW x.1 x.2.2.2.1 (text := tx) (a := E _) hZ.1 hZ.2 (g := F0 m pc ls (zStk st)) rfl (by rw [x.2.1]; exact hd) t a1, b1⟩
theorem z_mmax (x : zCx p l R s m args meth c E D tA cc nL own fr) {index : Nat} {a b : Int32} (hlink : Cond.methodLink own index Lib.Math.max.name ∈ lw_all) (hstat : Cond.static Lib.Math.max.name ∈ lw_all) (hini : Cond.initialized "java/lang/Math" ∈ lw_all) (hcode : Cond.code Lib.Math.max.name Lib.Math.max.code 2 (some .int) ∈ lw_all) (hfr : 1 ≤ fr) (hst : (st.map zCat).sum + 13 ≤ 64 * fr) (hd : decode cc pc = .ok (.invokestatic index, 3)) (k : zW p l e R s m args below meth c E D tA nL k0 M lv (pc + 3) (zI (if a < b then b else a) :: st)) : zW p l e R s m args below meth c E D tA nL k0 M lv pc (zI b :: zI a :: st) := by
  intro h out h' em
  have hts := x.2.2.2.2.1
  refine ⟨(k h out h' em).1, fun a1 a2 a3 a4 H locs ls r1 r2 r3 => ?_⟩
  have z1 := (k h out h' em).1
  exact va_mmax x.1 x.2.1 (x.2.2.1.trans r3.1.symm) x.2.2.2.1 (hts _ hlink) (hts _ hstat) (hts _ hini) (hts _ hcode) (by rw [x.2.2.2.2.2.2.2.2.2.2.1]; exact hfr) (by have hz : ((st.map zVal).map fun v => v.category).sum = (st.map zCat).sum := zStk_cat st; rw [hz, x.2.2.2.2.2.2.2.2.2.2.2.1]; exact hst) (by rw [a3]; have := z1.1; omega) (by rw [a4]; have := z1.2; omega) hd ((k h out h' em).2 a1 a2 a3 a4 H locs ls r1 r2 r3)
theorem z_mmin (x : zCx p l R s m args meth c E D tA cc nL own fr) {index : Nat} {a b : Int32} (hlink : Cond.methodLink own index Lib.Math.min.name ∈ lw_all) (hstat : Cond.static Lib.Math.min.name ∈ lw_all) (hini : Cond.initialized "java/lang/Math" ∈ lw_all) (hcode : Cond.code Lib.Math.min.name Lib.Math.min.code 2 (some .int) ∈ lw_all) (hfr : 1 ≤ fr) (hst : (st.map zCat).sum + 13 ≤ 64 * fr) (hd : decode cc pc = .ok (.invokestatic index, 3)) (k : zW p l e R s m args below meth c E D tA nL k0 M lv (pc + 3) (zI (if b < a then b else a) :: st)) : zW p l e R s m args below meth c E D tA nL k0 M lv pc (zI b :: zI a :: st) := by
  intro h out h' em
  have hts := x.2.2.2.2.1
  refine ⟨(k h out h' em).1, fun a1 a2 a3 a4 H locs ls r1 r2 r3 => ?_⟩
  have z1 := (k h out h' em).1
  exact va_mmin x.1 x.2.1 (x.2.2.1.trans r3.1.symm) x.2.2.2.1 (hts _ hlink) (hts _ hstat) (hts _ hini) (hts _ hcode) (by rw [x.2.2.2.2.2.2.2.2.2.2.1]; exact hfr) (by have hz : ((st.map zVal).map fun v => v.category).sum = (st.map zCat).sum := zStk_cat st; rw [hz, x.2.2.2.2.2.2.2.2.2.2.2.1]; exact hst) (by rw [a3]; have := z1.1; omega) (by rw [a4]; have := z1.2; omega) hd ((k h out h' em).2 a1 a2 a3 a4 H locs ls r1 r2 r3)
theorem z_gcA (x : zCx p l R s m args meth c E D tA cc nL own fr) {t index mi : Nat} {ty : FieldType} {C : String} (ht : zTY[t]? = some ty) (hnm : ∀ cA, va_RA s cA ty → s.vm.findClass C = some cA) (hm : (C, mi) ∈ zMir) (hlink : Cond.methodLink own index ⟨"java/lang/Object", "getClass", "()Ljava/lang/Class;"⟩ ∈ lw_all) (hdecl : Cond.declares ⟨"java/lang/Object", "getClass", "()Ljava/lang/Class;"⟩ ∈ lw_tbl)
    (hsel : Cond.selects C ⟨"java/lang/Object", "getClass", "()Ljava/lang/Class;"⟩ ⟨"java/lang/Object", "getClass", "()Ljava/lang/Class;"⟩ ∈ lw_all) (hinst : Cond.instanceMethod ⟨"java/lang/Object", "getClass", "()Ljava/lang/Class;"⟩ ∈ lw_all) (hnat : Cond.native ⟨"java/lang/Object", "getClass", "()Ljava/lang/Class;"⟩ ∈ lw_all)
    {v : Option Nat} {K : Option Nat → zM} (hst : (st.map zCat).sum + 14 ≤ 64 * fr) (hfr : 1 ≤ fr) (hd : decode cc pc = .ok (.invokevirtual index, 3)) (kk : ∀ y, zW p l e R s m args below meth c E D tA nL k0 (K y) lv (pc + 3) (zP y :: st)) : zW p l e R s m args below meth c E D tA nL k0 (zGcA t (E mi) v K) lv pc (zP v :: st) := by
  intro h out h' em
  unfold zGcA at em
  cases v with
  | none => cases em
  | some b =>
    simp only at em
    split at em
    · rename_i t' y hb
      split at em
      · rename_i hcc
        subst hcc
        have hts := x.2.2.2.2.1
        refine ⟨(kk _ _ out h' em).1, fun a1 a2 a3 a4 H locs ls r1 r2 r3 => ?_⟩
        obtain ⟨cell, q1, q2, q3, q4, q5, -⟩ := r1.2 b _ hb
        exact va_getC x.1 x.2.1 (x.2.2.1.trans r3.1.symm) x.2.2.2.1 (hts _ hlink) (zNw.use x.2.2.2.2.2.2.2.1 hdecl rfl) (hts _ hsel) (hts _ hinst) (hts _ hnat) (x.2.2.2.2.2.2.1.2.2.2.1 _ hm) ⟨cell, q1, zNoSt q5, by rw [q2]; exact hnm _ ((x.2.2.2.2.2.1.2 t' _ (zTys_at ht)).2)⟩ (by rw [x.2.2.2.2.2.2.2.2.2.2.1]; exact hfr) (by have hz : ((st.map zVal).map fun v => v.category).sum = (st.map zCat).sum := zStk_cat st; rw [hz, x.2.2.2.2.2.2.2.2.2.2.2.1]; exact hst) hd ((kk _ _ out h' em).2 a1 a2 a3 a4 H locs ls r1 r2 r3)
      · cases em
    · cases em
end ZSY
