/-! ===== multianewarray of two dimensions ===== -/
theorem zOuter_eq (c : ClassId) (N h0 : Nat) : ∀ i, Jvm.Free.Multi.outerC c N h0 i = { cls := c, slots := (Jvm.Free.Multi.outerC c N h0 i).slots, vm := .none }
  | 0 => rfl
  | i + 1 => by
    have ih := zOuter_eq c N h0 i
    show (Jvm.Free.Multi.outerC c N h0 i).setSlot i _ = { cls := c, slots := ((Jvm.Free.Multi.outerC c N h0 i).setSlot i _).slots, vm := .none }
    generalize Jvm.Free.Multi.outerC c N h0 i = x at ih ⊢
    rw [ih]
    rfl
theorem zOuter_vp (c : ClassId) (N h0 : Nat) : Jvm.Free.Multi.outerC c N h0 N = vp_cell c (N, .inr (.inr (.inr (.inr fun j => if j < N then some (h0 + 1 + j) else none)))) := by
  rw [zOuter_eq, vp_cell_q]
  have hsz := (Jvm.Free.Multi.outerC_facts c N h0 N).2.2
  have hs : (Jvm.Free.Multi.outerC c N h0 N).slots = (arrV c N fun j => va_rf (if j < N then some (h0 + 1 + j) else none)).slots := by
    refine Array.ext_getElem? fun j => ?_
    by_cases hj : j < N
    · rw [Jvm.Free.Multi.outerC_slot c N h0 N j hj, arrV_read _ _ hj, if_pos hj, if_pos hj]
      rfl
    · rw [Array.getElem?_eq_none (by rw [hsz]; omega), Array.getElem?_eq_none (by rw [arrV_size]; omega)]
  rw [hs]
  rfl
theorem zInner_vp (c : ClassId) (M : Nat) (dv : Value) : Jvm.Free.Multi.innerC c M dv = arrV c M (fun _ => dv) := by
  unfold Jvm.Free.Multi.innerC arrV
  congr 1
  refine Array.ext_getElem? fun j => ?_
  simp [Array.getElem?_replicate, Array.getElem?_ofFn]
section ZMU
variable {p : Program} {l : Launch} {e : Env} {R : Room} {s : State} {m : MethodId} {args : Array Value} {below : List Frame} {meth : Method} {c : Code} {E : zE} {D : va_G} {tA : Nat → ClassId} {cc : ByteArray} {nL k0 fr : Nat} {own : String}
variable {M : zM} {lv lv' : List (Nat × zV)} {pc : Nat} {st : List zV}
theorem z_newM (x : zCx p l R s m args meth c E D tA cc nL own fr) {t t1 index : Nat} {ty : FieldType} (ht : zTY[t]? = some (.array ty)) (ht1 : zTY[t1]? = some ty) (hra : ∀ cA, va_RA s cA ty → s.vm.findClass (FieldType.array ty).toString = some cA) (hcb : componentBytes ty ≤ 8) (hdf : fits ty (defaultValue ty) = true) (hdd : (defaultValue ty).isDefault = true)
    (hcl : Cond.classLink own index ("[" ++ (FieldType.array ty).toString) ∈ lw_all) (hov : Cond.arrayOver (.array ty) ∈ lw_tbl) (harr : Cond.arrayClass ty ∈ lw_all) {y : (Nat → Int32) ⊕ (Nat → Int64) ⊕ (Nat → UInt32) ⊕ (Nat → UInt64) ⊕ (Nat → Option Nat)} (hy : ∀ (cA : ClassId) (n : Nat), vp_cell cA (n, y) = arrV cA n (fun _ => defaultValue ty))
    {n k : Int32} {K : Option Nat → zM} (hd : decode cc pc = .ok (.multianewarray index 2, 4)) (kk : ∀ v, zW p l e R s m args below meth c E D tA nL k0 (K v) lv (pc + 4) (zP v :: st)) : zW p l e R s m args below meth c E D tA nL k0 (zNewM t t1 y n k K) lv pc (zI k :: zI n :: st) := by
  intro h out h' em
  unfold zNewM at em
  split at em
  · cases em
  · rename_i hn
    obtain ⟨hle, hw⟩ := kk _ _ out h' em
    have l1 : h.1 + 1 + n.toNatClampNeg ≤ h'.1 := hle.1
    have l2 : h.2.1 + n.toNatClampNeg + n.toNatClampNeg * k.toNatClampNeg ≤ h'.2.1 := hle.2
    refine ⟨⟨by omega, by omega⟩, fun a1 a2 a3 a4 H locs ls r1 r2 r3 => ?_⟩
    have hts := x.2.2.2.2.1
    have hK := x.2.2.2.2.2.1
    have hn1 : ¬ n < 0 := fun q => hn (Or.inl q)
    have hk1 : ¬ k < 0 := fun q => hn (Or.inr (Or.inl q))
    have hn2 : n.toNatClampNeg ≤ 1000 := Nat.not_lt.mp fun q => hn (Or.inr (Or.inr (Or.inl q)))
    have hk2 : k.toNatClampNeg ≤ 1000 := Nat.not_lt.mp fun q => hn (Or.inr (Or.inr (Or.inr q)))
    intro T hT X
    have hcbk : k.toNatClampNeg * componentBytes ty ≤ 1000 * 8 := Nat.mul_le_mul hk2 hcb
    obtain ⟨vm₁, cA, comp, hW1, hfA, hfC, -, -, X1, step⟩ := X.multianewarray2F x.1 x.2.2.2.1 (hts _ hcl) (x.2.2.2.2.2.2.2.1.2.1.2.1 ty hov) (hts _ harr) (g := F0 m pc ls (.int k :: .int n :: zStk st)) rfl (by rw [x.2.1]; exact hd) (n := n) (k := k) (rest := zStk st) rfl hn1 hk1 (by omega) (by omega) (by omega) hdf hdd (by rw [a3]; omega) (by rw [a4]; omega)
    obtain ⟨f1, f2, f3, f4⟩ := Jvm.Free.Multi.fill_facts (T.setVm vm₁) cA comp n.toNatClampNeg k.toNatClampNeg (defaultValue ty) n.toNatClampNeg
    have hsz : (T.setVm vm₁).heap.size = H.size := by rw [← hT]; rfl
    have hcA : cA = tA t := by
      have h1 := (hK.2 t _ (zTys_at ht)).2
      have h2 : s.vm.findClass ("[" ++ (FieldType.array ty).toString) = some (tA t) := h1
      exact Option.some.inj (hfA.symm.trans h2)
    have hco : comp = tA t1 := Option.some.inj (hfC.symm.trans (hra _ ((hK.2 t1 _ (zTys_at ht1)).2)))
    subst hcA hco
    generalize hF : Jvm.Free.Multi.fill (T.setVm vm₁) (tA t) (tA t1) n.toNatClampNeg k.toNatClampNeg (defaultValue ty) n.toNatClampNeg = U at X1 step f1 f2 f3 f4
    rw [hsz] at f1 f2
    have o1 : ∀ q : Nat, q < H.size → U.heap[q]? = H[q]? := fun q hq => by
      rw [← hF, Jvm.Free.Multi.fill_old (T.setVm vm₁) (tA t) (tA t1) _ _ _ (by rw [hsz]; exact hq)]
      show T.heap[q]? = _
      rw [hT]
    have hin : ∀ j, j < n.toNatClampNeg → U.heap[H.size + 1 + j]? = some (vp_cell (tA t1) (k.toNatClampNeg, y)) := fun j hj => by
      rw [← hF, ← hsz, Jvm.Free.Multi.fill_inner (T.setVm vm₁) (tA t) (tA t1) _ _ _ _ j hj, zInner_vp, hy]
    rw [zOuter_vp] at f2
    have hrep : zRep E D tA (h.1 + 1 + n.toNatClampNeg, h.2.1 + n.toNatClampNeg + n.toNatClampNeg * k.toNatClampNeg, fun q =>
        if q = h.1 then some (.inl (t, n.toNatClampNeg, .inr (.inr (.inr (.inr fun j => if j < n.toNatClampNeg then some (h.1 + 1 + j) else none))))) else if h.1 < q ∧ q < h.1 + 1 + n.toNatClampNeg then some (.inl (t1, k.toNatClampNeg, y)) else h.2.2 q) U.heap := by
      refine ⟨by rw [f1, r1.1], fun b u hb => ?_⟩
      simp only at hb
      split at hb
      · rename_i hbe
        cases hb
        rw [hbe, ← r1.1]
        exact zAt_arr f2
      · split at hb
        · rename_i hbe
          cases hb
          have h9 := hin (b - (h.1 + 1)) (by omega)
          rw [r1.1, show h.1 + 1 + (b - (h.1 + 1)) = b by omega] at h9
          exact zAt_arr h9
        · have h9 := r1.2 b u hb
          exact zAt_kept h9 (o1 b (zAt_lt h9))
    have hq := hw (by show _ ≤ h.1 + 1 + n.toNatClampNeg; omega) (by show _ ≤ h.2.1 + n.toNatClampNeg + n.toNatClampNeg * k.toNatClampNeg; omega) a3 a4 U.heap locs ls hrep ⟨by rw [f1]; have := r2.1; omega, fun q g1 g2 => (o1 q (Nat.lt_of_lt_of_le g1 r2.1)).trans (r2.2.1 q g1 g2), r2.2.2⟩ r3
    have c1 : h.1 + 1 + n.toNatClampNeg - s.heap.size = h.1 - s.heap.size + 1 + n.toNatClampNeg := by omega
    have c2 : h.2.1 + n.toNatClampNeg + n.toNatClampNeg * k.toNatClampNeg - k0 = h.2.1 - k0 + n.toNatClampNeg + n.toNatClampNeg * k.toNatClampNeg := by omega
    have hq : W p l e R s m args below meth c U.heap locs (h.1 + 1 + n.toNatClampNeg - s.heap.size) (h.2.1 + n.toNatClampNeg + n.toNatClampNeg * k.toNatClampNeg - k0) _ (F0 m (pc + 4) ls (.ref h.1 :: zStk st)) := hq
    rw [c1, c2] at hq
    obtain ⟨t9, b1, b2⟩ := hq U rfl X1
    refine ⟨t9, step t9 ?_, b2⟩
    rw [hT, r1.1]
    exact b1
end ZMU
