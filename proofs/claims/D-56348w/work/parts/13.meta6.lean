/-! ===== rows of array places, casts, copies, statics ===== -/
section ZG
variable {p : Program} {l : Launch} {e : Env} {R : Room} {s : State} {m : MethodId} {args : Array Value} {below : List Frame} {meth : Method} {c : Code} {E : zE} {D : va_G} {tA : Nat → ClassId} {cc : ByteArray} {nL k0 fr : Nat} {own : String}
variable {M : zM} {lv lv' : List (Nat × zV)} {pc : Nat} {st : List zV}
theorem z_iald (x : zCx p l R s m args meth c E D tA cc nL own fr) {t : Nat} (ht : zTY[t]? = some .int) {r : Option Nat} {i : Int32} {K : Int32 → zM} (hd : decode cc pc = .ok (.iaload, 1)) (kk : ∀ v, zW p l e R s m args below meth c E D tA nL k0 (K v) lv (pc + 1) (zI v :: st)) : zW p l e R s m args below meth c E D tA nL k0 (zGaI t r i K) lv pc (zI i :: zP r :: st) := by
  intro h out h' em
  obtain ⟨a, n, y, f, rfl, ha, hin, hy, ek⟩ := zGa_inv em
  obtain rfl := zYI_eq hy
  have hlt : i.toNatClampNeg < n := Nat.not_le.mp fun q => hin (Or.inr q)
  refine ⟨(kk _ h out h' ek).1, fun a1 a2 a3 a4 H locs ls r1 r2 r3 => ?_⟩
  obtain ⟨cell, q1, q2, q3, q4, q5, -⟩ := r1.2 a _ ha
  exact W.iald (v := .int (f i.toNatClampNeg)) x.1 x.2.1 q1 (zArrOf ((x.2.2.2.2.2.1.2 t _ (zTys_at ht)).1 n (fun j => .int (f j))) q2 q5) q4 (by rw [q3]; show ¬ (i < 0 ∨ (arrV _ _ _).slots.size ≤ _); rw [arrV_size]; exact hin) (by rw [q3]; show (arrV _ _ _).slots[_]? = _; rw [arrV_read _ _ hlt]) rfl rfl hd ((kk _ h out h' ek).2 a1 a2 a3 a4 H locs ls r1 r2 r3)
theorem z_bald (x : zCx p l R s m args meth c E D tA cc nL own fr) {t : Nat} (ht : zTY[t]? = some .byte) {r : Option Nat} {i : Int32} {K : Int32 → zM} (hd : decode cc pc = .ok (.baload, 1)) (kk : ∀ v, zW p l e R s m args below meth c E D tA nL k0 (K v) lv (pc + 1) (zI v :: st)) : zW p l e R s m args below meth c E D tA nL k0 (zGaI t r i K) lv pc (zI i :: zP r :: st) := by
  intro h out h' em
  obtain ⟨a, n, y, f, rfl, ha, hin, hy, ek⟩ := zGa_inv em
  obtain rfl := zYI_eq hy
  have hlt : i.toNatClampNeg < n := Nat.not_le.mp fun q => hin (Or.inr q)
  refine ⟨(kk _ h out h' ek).1, fun a1 a2 a3 a4 H locs ls r1 r2 r3 => ?_⟩
  obtain ⟨cell, q1, q2, q3, q4, q5, -⟩ := r1.2 a _ ha
  exact W.bald (v := .int (f i.toNatClampNeg)) x.1 x.2.1 q1 (zArrOf ((x.2.2.2.2.2.1.2 t _ (zTys_at ht)).1 n (fun j => .int (f j))) q2 q5) q4 (by rw [q3]; show ¬ (i < 0 ∨ (arrV _ _ _).slots.size ≤ _); rw [arrV_size]; exact hin) (by rw [q3]; show (arrV _ _ _).slots[_]? = _; rw [arrV_read _ _ hlt]) rfl rfl hd ((kk _ h out h' ek).2 a1 a2 a3 a4 H locs ls r1 r2 r3)
theorem z_zald (x : zCx p l R s m args meth c E D tA cc nL own fr) {t : Nat} (ht : zTY[t]? = some .boolean) {r : Option Nat} {i : Int32} {K : Int32 → zM} (hd : decode cc pc = .ok (.baload, 1)) (kk : ∀ v, zW p l e R s m args below meth c E D tA nL k0 (K v) lv (pc + 1) (zI v :: st)) : zW p l e R s m args below meth c E D tA nL k0 (zGaI t r i K) lv pc (zI i :: zP r :: st) := by
  intro h out h' em
  obtain ⟨a, n, y, f, rfl, ha, hin, hy, ek⟩ := zGa_inv em
  obtain rfl := zYI_eq hy
  have hlt : i.toNatClampNeg < n := Nat.not_le.mp fun q => hin (Or.inr q)
  refine ⟨(kk _ h out h' ek).1, fun a1 a2 a3 a4 H locs ls r1 r2 r3 => ?_⟩
  obtain ⟨cell, q1, q2, q3, q4, q5, -⟩ := r1.2 a _ ha
  exact W.zald (v := .int (f i.toNatClampNeg)) x.1 x.2.1 q1 (zArrOf ((x.2.2.2.2.2.1.2 t _ (zTys_at ht)).1 n (fun j => .int (f j))) q2 q5) q4 (by rw [q3]; show ¬ (i < 0 ∨ (arrV _ _ _).slots.size ≤ _); rw [arrV_size]; exact hin) (by rw [q3]; show (arrV _ _ _).slots[_]? = _; rw [arrV_read _ _ hlt]) rfl rfl hd ((kk _ h out h' ek).2 a1 a2 a3 a4 H locs ls r1 r2 r3)
theorem z_lald (x : zCx p l R s m args meth c E D tA cc nL own fr) {t : Nat} (ht : zTY[t]? = some .long) {r : Option Nat} {i : Int32} {K : Int64 → zM} (hd : decode cc pc = .ok (.laload, 1)) (kk : ∀ v, zW p l e R s m args below meth c E D tA nL k0 (K v) lv (pc + 1) (zL v :: st)) : zW p l e R s m args below meth c E D tA nL k0 (zGaL t r i K) lv pc (zI i :: zP r :: st) := by
  intro h out h' em
  obtain ⟨a, n, y, f, rfl, ha, hin, hy, ek⟩ := zGa_inv em
  obtain rfl := zYL_eq hy
  have hlt : i.toNatClampNeg < n := Nat.not_le.mp fun q => hin (Or.inr q)
  refine ⟨(kk _ h out h' ek).1, fun a1 a2 a3 a4 H locs ls r1 r2 r3 => ?_⟩
  obtain ⟨cell, q1, q2, q3, q4, q5, -⟩ := r1.2 a _ ha
  exact W.lald (v := .long (f i.toNatClampNeg)) x.1 x.2.1 q1 (zArrOf ((x.2.2.2.2.2.1.2 t _ (zTys_at ht)).1 n (fun j => .long (f j))) q2 q5) q4 (by rw [q3]; show ¬ (i < 0 ∨ (arrV _ _ _).slots.size ≤ _); rw [arrV_size]; exact hin) (by rw [q3]; show (arrV _ _ _).slots[_]? = _; rw [arrV_read _ _ hlt]) rfl rfl hd ((kk _ h out h' ek).2 a1 a2 a3 a4 H locs ls r1 r2 r3)
theorem z_dald (x : zCx p l R s m args meth c E D tA cc nL own fr) {t : Nat} (ht : zTY[t]? = some .double) {r : Option Nat} {i : Int32} {K : UInt64 → zM} (hd : decode cc pc = .ok (.daload, 1)) (kk : ∀ v, zW p l e R s m args below meth c E D tA nL k0 (K v) lv (pc + 1) (zD v :: st)) : zW p l e R s m args below meth c E D tA nL k0 (zGaD t r i K) lv pc (zI i :: zP r :: st) := by
  intro h out h' em
  obtain ⟨a, n, y, f, rfl, ha, hin, hy, ek⟩ := zGa_inv em
  obtain rfl := zYD_eq hy
  have hlt : i.toNatClampNeg < n := Nat.not_le.mp fun q => hin (Or.inr q)
  refine ⟨(kk _ h out h' ek).1, fun a1 a2 a3 a4 H locs ls r1 r2 r3 => ?_⟩
  obtain ⟨cell, q1, q2, q3, q4, q5, -⟩ := r1.2 a _ ha
  exact W.dald (v := .double (f i.toNatClampNeg)) x.1 x.2.1 q1 (zArrOf ((x.2.2.2.2.2.1.2 t _ (zTys_at ht)).1 n (fun j => .double (f j))) q2 q5) q4 (by rw [q3]; show ¬ (i < 0 ∨ (arrV _ _ _).slots.size ≤ _); rw [arrV_size]; exact hin) (by rw [q3]; show (arrV _ _ _).slots[_]? = _; rw [arrV_read _ _ hlt]) rfl rfl hd ((kk _ h out h' ek).2 a1 a2 a3 a4 H locs ls r1 r2 r3)
theorem z_aald (x : zCx p l R s m args meth c E D tA cc nL own fr) {t : Nat} {ty : FieldType} (ht : zTY[t]? = some ty) (hty : ty.isReference = true) {r : Option Nat} {i : Int32} {K : Option Nat → zM} (hd : decode cc pc = .ok (.aaload, 1)) (kk : ∀ v, zW p l e R s m args below meth c E D tA nL k0 (K v) lv (pc + 1) (zP v :: st)) : zW p l e R s m args below meth c E D tA nL k0 (zGaR t r i K) lv pc (zI i :: zP r :: st) := by
  intro h out h' em
  obtain ⟨a, n, y, f, rfl, ha, hin, hy, ek⟩ := zGa_inv em
  obtain rfl := zYR_eq hy
  have hlt : i.toNatClampNeg < n := Nat.not_le.mp fun q => hin (Or.inr q)
  refine ⟨(kk _ h out h' ek).1, fun a1 a2 a3 a4 H locs ls r1 r2 r3 => ?_⟩
  obtain ⟨cell, q1, q2, q3, q4, q5, -⟩ := r1.2 a _ ha
  exact W.aald (v := va_rf (f i.toNatClampNeg)) (ty := ty) x.1 x.2.1 q1 (zArrOf ((x.2.2.2.2.2.1.2 t _ (zTys_at ht)).1 n (fun j => va_rf (f j))) q2 q5) hty q4 (by rw [q3]; show ¬ (i < 0 ∨ (arrV _ _ _).slots.size ≤ _); rw [arrV_size]; exact hin) (by rw [q3]; show (arrV _ _ _).slots[_]? = _; rw [arrV_read _ _ hlt]) rfl rfl hd ((kk _ h out h' ek).2 a1 a2 a3 a4 H locs ls r1 r2 r3)
theorem z_iast (x : zCx p l R s m args meth c E D tA cc nL own fr) {t : Nat} (ht : zTY[t]? = some .int) {r : Option Nat} {i : Int32} {v : Int32} (hd : decode cc pc = .ok (.iastore, 1)) (kk : zW p l e R s m args below meth c E D tA nL k0 M lv (pc + 1) st) : zW p l e R s m args below meth c E D tA nL k0 (zSaI E t r i v M) lv pc (zI v :: zI i :: zP r :: st) := by
  intro h out h' em
  obtain ⟨a, n, y, y', rfl, ha, hin, hE, hy, ek⟩ := zSa_inv em
  obtain ⟨f, rfl, rfl⟩ := zUpI_eq hy
  refine ⟨(kk _ out h' ek).1, fun a1 a2 a3 a4 H locs ls r1 r2 r3 => ?_⟩
  refine W.iast x.1 x.2.1 (zRep_arr r1 ha hE 0 _ rfl) ((x.2.2.2.2.2.1.2 t _ (zTys_at ht)).1 n (fun j => .int (f j))) (fun q => by cases q) (by show ¬ (i < 0 ∨ (arrV _ _ _).slots.size ≤ _); rw [arrV_size]; exact hin) rfl rfl hd fun H1 e1 z1 o1 => ?_
  refine (kk _ out h' ek).2 a1 a2 a3 a4 H1 _ ls (zRep_put r1 z1 ?_ o1) (zS_put r2 z1 o1 hE) r3
  refine zAt_arr ?_
  rw [e1]
  rw [vp_cell_i, vp_cell_i, arrV_store]
  congr 2
  funext q
  by_cases hq : q = i.toNatClampNeg
  · subst hq
    simp [updV, upd]
    try rfl
  · simp [updV, upd, hq]
theorem z_bast (x : zCx p l R s m args meth c E D tA cc nL own fr) {t : Nat} (ht : zTY[t]? = some .byte) {r : Option Nat} {i : Int32} {v : Int32} (hd : decode cc pc = .ok (.bastore, 1)) (kk : zW p l e R s m args below meth c E D tA nL k0 M lv (pc + 1) st) : zW p l e R s m args below meth c E D tA nL k0 (zSaI E t r i (vp_nar .byte v) M) lv pc (zI v :: zI i :: zP r :: st) := by
  intro h out h' em
  obtain ⟨a, n, y, y', rfl, ha, hin, hE, hy, ek⟩ := zSa_inv em
  obtain ⟨f, rfl, rfl⟩ := zUpI_eq hy
  refine ⟨(kk _ out h' ek).1, fun a1 a2 a3 a4 H locs ls r1 r2 r3 => ?_⟩
  refine W.bast x.1 x.2.1 (zRep_arr r1 ha hE 0 _ rfl) ((x.2.2.2.2.2.1.2 t _ (zTys_at ht)).1 n (fun j => .int (f j))) (fun q => by cases q) (by show ¬ (i < 0 ∨ (arrV _ _ _).slots.size ≤ _); rw [arrV_size]; exact hin) rfl rfl hd fun H1 e1 z1 o1 => ?_
  refine (kk _ out h' ek).2 a1 a2 a3 a4 H1 _ ls (zRep_put r1 z1 ?_ o1) (zS_put r2 z1 o1 hE) r3
  refine zAt_arr ?_
  rw [e1]
  rw [vp_cell_i, vp_cell_i, arrV_store]
  congr 2
  funext q
  by_cases hq : q = i.toNatClampNeg
  · subst hq
    simp [updV, upd, vp_nar]
    try rfl
  · simp [updV, upd, hq]
theorem z_zast (x : zCx p l R s m args meth c E D tA cc nL own fr) {t : Nat} (ht : zTY[t]? = some .boolean) {r : Option Nat} {i : Int32} {v : Int32} (hd : decode cc pc = .ok (.bastore, 1)) (kk : zW p l e R s m args below meth c E D tA nL k0 M lv (pc + 1) st) : zW p l e R s m args below meth c E D tA nL k0 (zSaI E t r i (vp_nar .boolean v) M) lv pc (zI v :: zI i :: zP r :: st) := by
  intro h out h' em
  obtain ⟨a, n, y, y', rfl, ha, hin, hE, hy, ek⟩ := zSa_inv em
  obtain ⟨f, rfl, rfl⟩ := zUpI_eq hy
  refine ⟨(kk _ out h' ek).1, fun a1 a2 a3 a4 H locs ls r1 r2 r3 => ?_⟩
  refine W.zast x.1 x.2.1 (zRep_arr r1 ha hE 0 _ rfl) ((x.2.2.2.2.2.1.2 t _ (zTys_at ht)).1 n (fun j => .int (f j))) (fun q => by cases q) (by show ¬ (i < 0 ∨ (arrV _ _ _).slots.size ≤ _); rw [arrV_size]; exact hin) rfl rfl hd fun H1 e1 z1 o1 => ?_
  refine (kk _ out h' ek).2 a1 a2 a3 a4 H1 _ ls (zRep_put r1 z1 ?_ o1) (zS_put r2 z1 o1 hE) r3
  refine zAt_arr ?_
  rw [e1]
  rw [vp_cell_i, vp_cell_i, arrV_store]
  congr 2
  funext q
  by_cases hq : q = i.toNatClampNeg
  · subst hq
    simp [updV, upd, vp_nar]
    try rfl
  · simp [updV, upd, hq]
theorem z_last (x : zCx p l R s m args meth c E D tA cc nL own fr) {t : Nat} (ht : zTY[t]? = some .long) {r : Option Nat} {i : Int32} {v : Int64} (hd : decode cc pc = .ok (.lastore, 1)) (kk : zW p l e R s m args below meth c E D tA nL k0 M lv (pc + 1) st) : zW p l e R s m args below meth c E D tA nL k0 (zSaL E t r i v M) lv pc (zL v :: zI i :: zP r :: st) := by
  intro h out h' em
  obtain ⟨a, n, y, y', rfl, ha, hin, hE, hy, ek⟩ := zSa_inv em
  obtain ⟨f, rfl, rfl⟩ := zUpL_eq hy
  refine ⟨(kk _ out h' ek).1, fun a1 a2 a3 a4 H locs ls r1 r2 r3 => ?_⟩
  refine W.last x.1 x.2.1 (zRep_arr r1 ha hE 0 _ rfl) ((x.2.2.2.2.2.1.2 t _ (zTys_at ht)).1 n (fun j => .long (f j))) (fun q => by cases q) (by show ¬ (i < 0 ∨ (arrV _ _ _).slots.size ≤ _); rw [arrV_size]; exact hin) rfl rfl hd fun H1 e1 z1 o1 => ?_
  refine (kk _ out h' ek).2 a1 a2 a3 a4 H1 _ ls (zRep_put r1 z1 ?_ o1) (zS_put r2 z1 o1 hE) r3
  refine zAt_arr ?_
  rw [e1]
  rw [vp_cell_l, vp_cell_l, arrV_store]
  congr 2
  funext q
  by_cases hq : q = i.toNatClampNeg
  · subst hq
    simp [updV, vp_updL]
    try rfl
  · simp [updV, vp_updL, hq]
theorem z_dast (x : zCx p l R s m args meth c E D tA cc nL own fr) {t : Nat} (ht : zTY[t]? = some .double) {r : Option Nat} {i : Int32} {v : UInt64} (hd : decode cc pc = .ok (.dastore, 1)) (kk : zW p l e R s m args below meth c E D tA nL k0 M lv (pc + 1) st) : zW p l e R s m args below meth c E D tA nL k0 (zSaD E t r i v M) lv pc (zD v :: zI i :: zP r :: st) := by
  intro h out h' em
  obtain ⟨a, n, y, y', rfl, ha, hin, hE, hy, ek⟩ := zSa_inv em
  obtain ⟨f, rfl, rfl⟩ := zUpD_eq hy
  refine ⟨(kk _ out h' ek).1, fun a1 a2 a3 a4 H locs ls r1 r2 r3 => ?_⟩
  refine W.dast x.1 x.2.1 (zRep_arr r1 ha hE 0 _ rfl) ((x.2.2.2.2.2.1.2 t _ (zTys_at ht)).1 n (fun j => .double (f j))) (fun q => by cases q) (by show ¬ (i < 0 ∨ (arrV _ _ _).slots.size ≤ _); rw [arrV_size]; exact hin) rfl rfl hd fun H1 e1 z1 o1 => ?_
  refine (kk _ out h' ek).2 a1 a2 a3 a4 H1 _ ls (zRep_put r1 z1 ?_ o1) (zS_put r2 z1 o1 hE) r3
  refine zAt_arr ?_
  rw [e1]
  rw [vp_cell_d, vp_cell_d, arrV_store]
  congr 2
  funext q
  by_cases hq : q = i.toNatClampNeg
  · subst hq
    simp [updV, vf_upd]
    try rfl
  · simp [updV, vf_upd, hq]
theorem zOkR_any (x : zCx p l R s m args meth c E D tA cc nL own fr) {h : zH} {H : Heap} {tg b : Nat} (hr : zRep E D tA h H) (ho : zOkR h tg (some b) = true) : va_Any (zTg tg) s H b := by
  unfold zOkR at ho
  simp only at ho
  split at ho
  · rename_i c' fs hb
    obtain ⟨Cq, hC, hw⟩ := zCastT_ok _ (of_decide_eq_true ho)
    obtain ⟨cell, g1, g2, g3⟩ := zRep_recv x.2.2.2.2.2.1 hr hb hC
    obtain ⟨c0, t0, f1, f2, f3⟩ := Cond.castable_spec (zNw.use (args := args) x.2.2.2.2.2.2.2.1 hw rfl)
    cases g3.symm.trans f1
    obtain ⟨kC, hkC, -⟩ := Vm.findClass_spec f1
    exact ⟨cell, g1, g2, ⟨kC, hkC⟩, fun comp hc => by
      cases hc.symm.trans f2
      exact f3⟩
  · cases ho
theorem z_aast (x : zCx p l R s m args meth c E D tA cc nL own fr) {t tg : Nat} {C : String} (ht : zTY[t]? = some (.object C)) (htg : zTg tg = C) {r : Option Nat} {i : Int32} {v : Option Nat} (hd : decode cc pc = .ok (.aastore, 1)) (kk : zW p l e R s m args below meth c E D tA nL k0 M lv (pc + 1) st) : zW p l e R s m args below meth c E D tA nL k0 (zSaR E t tg r i v M) lv pc (zP v :: zI i :: zP r :: st) := by
  intro h out h' em
  unfold zSaR at em
  split at em
  · rename_i hok
    obtain ⟨a, n, y, y', rfl, ha, hin, hE, hy, ek⟩ := zSa_inv em
    obtain ⟨f, rfl, rfl⟩ := zUpR_eq hy
    refine ⟨(kk _ out h' ek).1, fun a1 a2 a3 a4 H locs ls r1 r2 r3 => ?_⟩
    have hlt : i.toNatClampNeg < n := Nat.not_le.mp fun q => hin (Or.inr q)
    have h0 : ¬ i < 0 := fun q => hin (Or.inl q)
    have fin : ∀ (H1 : Heap), H1[a]? = some ((vp_cell (tA t) (n, .inr (.inr (.inr (.inr f))))).setSlot i.toNatClampNeg (va_rf v)) → H1.size = H.size → (∀ q, q ≠ a → H1[q]? = H[q]?) → W p l e R s m args below meth c H1 (locs ++ [⟨a, i.toNatClampNeg⟩]) (h.1 - s.heap.size) (h.2.1 - k0) (zMQ below (zQc E D tA out h') (zXc E D tA out h') args s (h'.1 - s.heap.size) (h'.2.1 - k0) (zA E)) (F0 m (pc + 1) ls (zStk st)) := fun H1 e1 z1 o1 => by
      refine (kk _ out h' ek).2 a1 a2 a3 a4 H1 _ ls (zRep_put r1 z1 ?_ o1) (zS_put r2 z1 o1 hE) r3
      refine zAt_arr ?_
      rw [e1]
      rw [vp_cell_q, vp_cell_q, arrV_store]
      congr 2
      funext q
      by_cases hq : q = i.toNatClampNeg
      · subst hq
        simp [updV, va_up]
      · simp [updV, va_up, hq]
    cases v with
    | none =>
      exact va_WaastN (C := C) x.1 x.2.1 (zRep_arr r1 ha hE 0 _ rfl) ((x.2.2.2.2.2.1.2 t _ (zTys_at ht)).1 n (fun j => va_rf (f j))) (fun h => by cases h) (by show ¬ (i < 0 ∨ (arrV _ _ _).slots.size ≤ _); rw [arrV_size]; exact hin) rfl rfl hd fin
    | some b =>
      have hany := zOkR_any x r1 hok
      rw [htg] at hany
      obtain ⟨cellV, g1, g3, ⟨kC, hkC⟩, hasg⟩ := hany
      obtain ⟨kA, comp, k1, k2, k3, -⟩ := (x.2.2.2.2.2.1.2 t _ (zTys_at ht)).2
      obtain ⟨kE, hkE, -⟩ := Vm.findClass_spec k3
      exact W.aast x.1 x.2.1 (zRep_arr r1 ha hE 0 _ rfl) (fun q h => by cases h) (fun h => by cases h) k1 k2 rfl hkE ⟨h0, by show _ < (arrV _ _ _).slots.size; rw [arrV_size]; exact hlt⟩ g1 (fun q h => by rw [h] at g3; cases g3) hkC (hasg _ k3) rfl rfl hd fin
  · cases em
theorem z_cst (x : zCx p l R s m args meth c E D tA cc nL own fr) {tg index : Nat} {nm : String} (htg : zTg tg = nm) (hlink : Cond.classLink own index nm ∈ lw_all) {v : Option Nat} (hd : decode cc pc = .ok (.checkcast index, 3)) (kk : zW p l e R s m args below meth c E D tA nL k0 M lv (pc + 3) (zP v :: st)) : zW p l e R s m args below meth c E D tA nL k0 (zCst tg v M) lv pc (zP v :: st) := by
  intro h out h' em
  unfold zCst at em
  split at em
  · rename_i hok
    refine ⟨(kk _ out h' em).1, fun a1 a2 a3 a4 H locs ls r1 r2 r3 => ?_⟩
    have hw := (kk _ out h' em).2 a1 a2 a3 a4 H locs ls r1 r2 r3
    cases v with
    | none => exact lv_castN x.1 x.2.1 hd hw
    | some b =>
      unfold zOkR at hok
      simp only at hok
      split at hok
      · rename_i c' fs hb
        obtain ⟨Cq, hC, hwd⟩ := zCastT_ok _ (of_decide_eq_true hok)
        simp only [htg] at hwd
        exact va_castY (C := Cq.1) x.1 x.2.1 x.2.2.2.1 (x.2.2.2.2.1 _ hlink) (x.2.2.2.2.2.2.2.1.1 _ hwd rfl) (zRep_recv x.2.2.2.2.2.1 r1 hb hC) hd hw
      · cases hok
  · cases em
theorem z_csS (x : zCx p l R s m args meth c E D tA cc nL own fr) {ci index : Nat} {C : vw_C} (hc : zCL[ci]? = some C) (hlink : Cond.classLink own index C.1 ∈ lw_all) {v : Option Nat} (hd : decode cc pc = .ok (.checkcast index, 3)) (kk : zW p l e R s m args below meth c E D tA nL k0 M lv (pc + 3) (zP v :: st)) : zW p l e R s m args below meth c E D tA nL k0 (zCsS ci v M) lv pc (zP v :: st) := by
  intro h out h' em
  unfold zCsS at em
  cases v with
  | none => exact ⟨(kk _ out h' em).1, fun a1 a2 a3 a4 H locs ls r1 r2 r3 => lv_castN x.1 x.2.1 hd ((kk _ out h' em).2 a1 a2 a3 a4 H locs ls r1 r2 r3)⟩
  | some b =>
    simp only at em
    split at em
    · rename_i c' fs hb
      split at em
      · rename_i hcc
        subst hcc
        exact ⟨(kk _ out h' em).1, fun a1 a2 a3 a4 H locs ls r1 r2 r3 => va_castS x.1 x.2.1 x.2.2.2.1 (x.2.2.2.2.1 _ hlink) (x.2.2.2.2.2.1.1 _ _ hc).2 (zRep_recv x.2.2.2.2.2.1 r1 hb hc) hd ((kk _ out h' em).2 a1 a2 a3 a4 H locs ls r1 r2 r3)⟩
      · cases em
    · cases em
theorem z_csA (x : zCx p l R s m args meth c E D tA cc nL own fr) {t index : Nat} {ty : FieldType} {nm : String} (ht : zTY[t]? = some ty) (hnm : ∀ cA, va_RA s cA ty → s.vm.findClass nm = some cA) (hlink : Cond.classLink own index nm ∈ lw_all) {v : Option Nat} (hd : decode cc pc = .ok (.checkcast index, 3)) (kk : zW p l e R s m args below meth c E D tA nL k0 M lv (pc + 3) (zP v :: st)) : zW p l e R s m args below meth c E D tA nL k0 (zCsA t v M) lv pc (zP v :: st) := by
  intro h out h' em
  unfold zCsA at em
  cases v with
  | none => exact ⟨(kk _ out h' em).1, fun a1 a2 a3 a4 H locs ls r1 r2 r3 => lv_castN x.1 x.2.1 hd ((kk _ out h' em).2 a1 a2 a3 a4 H locs ls r1 r2 r3)⟩
  | some b =>
    simp only at em
    split at em
    · rename_i t' y hb
      split at em
      · rename_i hcc
        subst hcc
        refine ⟨(kk _ out h' em).1, fun a1 a2 a3 a4 H locs ls r1 r2 r3 => ?_⟩
        obtain ⟨cell, q1, q2, q3, q4, q5, -⟩ := r1.2 b _ hb
        have hw := (kk _ out h' em).2 a1 a2 a3 a4 H locs ls r1 r2 r3
        intro T hT X
        obtain ⟨vm', X', stp⟩ := X.checkcastYes x.1 x.2.2.2.1 (x.2.2.2.2.1 _ hlink) (by rw [hT]; exact q1) (zNoSt q5) (hnm _ (x.2.2.2.2.2.1.2 _ _ (zTys_at ht)).2) (by rw [q2]; exact va_asg _ _) (g := F0 m pc ls (.ref b :: zStk st)) rfl rfl (by rw [x.2.1]; exact hd)
        obtain ⟨t9, b1, b2⟩ := hw (T.setVm vm') hT X'
        exact ⟨t9, stp t9 b1, b2⟩
      · cases em
    · cases em
theorem z_isS (x : zCx p l R s m args meth c E D tA cc nL own fr) {ci index : Nat} {C : vw_C} (hc : zCL[ci]? = some C) (hlink : Cond.classLink own index C.1 ∈ lw_all) {v : Option Nat} {K : Int32 → zM} (hd : decode cc pc = .ok (.instanceof index, 3)) (kk : ∀ y, zW p l e R s m args below meth c E D tA nL k0 (K y) lv (pc + 3) (zI y :: st)) : zW p l e R s m args below meth c E D tA nL k0 (zIsS ci v K) lv pc (zP v :: st) := by
  intro h out h' em
  unfold zIsS at em
  cases v with
  | none => exact ⟨(kk _ _ out h' em).1, fun a1 a2 a3 a4 H locs ls r1 r2 r3 => lv_instN x.1 x.2.1 hd ((kk _ _ out h' em).2 a1 a2 a3 a4 H locs ls r1 r2 r3)⟩
  | some b =>
    simp only at em
    split at em
    · rename_i c' fs hb
      split at em
      · rename_i hcc
        subst hcc
        exact ⟨(kk _ _ out h' em).1, fun a1 a2 a3 a4 H locs ls r1 r2 r3 => va_instS x.1 x.2.1 x.2.2.2.1 (x.2.2.2.2.1 _ hlink) (x.2.2.2.2.2.1.1 _ _ hc).2 (zRep_recv x.2.2.2.2.2.1 r1 hb hc) hd ((kk _ _ out h' em).2 a1 a2 a3 a4 H locs ls r1 r2 r3)⟩
      · cases em
    · cases em
theorem z_gc (x : zCx p l R s m args meth c E D tA cc nL own fr) {ci index mi : Nat} {C : vw_C} (hc : zCL[ci]? = some C) (hm : (C.1, mi) ∈ zMir) (hlink : Cond.methodLink own index ⟨"java/lang/Object", "getClass", "()Ljava/lang/Class;"⟩ ∈ lw_all) (hdecl : Cond.declares ⟨"java/lang/Object", "getClass", "()Ljava/lang/Class;"⟩ ∈ lw_tbl)
    (hsel : Cond.selects C.1 ⟨"java/lang/Object", "getClass", "()Ljava/lang/Class;"⟩ ⟨"java/lang/Object", "getClass", "()Ljava/lang/Class;"⟩ ∈ lw_all) (hinst : Cond.instanceMethod ⟨"java/lang/Object", "getClass", "()Ljava/lang/Class;"⟩ ∈ lw_all) (hnat : Cond.native ⟨"java/lang/Object", "getClass", "()Ljava/lang/Class;"⟩ ∈ lw_all)
    {v : Option Nat} {K : Option Nat → zM} (hst : (st.map zCat).sum + 14 ≤ 64 * fr) (hfr : 1 ≤ fr) (hd : decode cc pc = .ok (.invokevirtual index, 3)) (kk : ∀ y, zW p l e R s m args below meth c E D tA nL k0 (K y) lv (pc + 3) (zP y :: st)) : zW p l e R s m args below meth c E D tA nL k0 (zGc ci (E mi) v K) lv pc (zP v :: st) := by
  intro h out h' em
  unfold zGc at em
  cases v with
  | none => cases em
  | some b =>
    simp only at em
    split at em
    · rename_i c' fs hb
      split at em
      · rename_i hcc
        subst hcc
        have hts := x.2.2.2.2.1
        refine ⟨(kk _ _ out h' em).1, fun a1 a2 a3 a4 H locs ls r1 r2 r3 => ?_⟩
        exact va_getC x.1 x.2.1 (x.2.2.1.trans r3.1.symm) x.2.2.2.1 (hts _ hlink) (zNw.use x.2.2.2.2.2.2.2.1 hdecl rfl) (hts _ hsel) (hts _ hinst) (hts _ hnat) (x.2.2.2.2.2.2.1.2.2.2.1 _ hm) (zRep_recv x.2.2.2.2.2.1 r1 hb hc) (by rw [x.2.2.2.2.2.2.2.2.2.2.1]; exact hfr) (by have hz : ((st.map zVal).map fun v => v.category).sum = (st.map zCat).sum := zStk_cat st; rw [hz, x.2.2.2.2.2.2.2.2.2.2.2.1]; exact hst) hd ((kk _ _ out h' em).2 a1 a2 a3 a4 H locs ls r1 r2 r3)
      · cases em
    · cases em
theorem z_staI (x : zCx p l R s m args meth c E D tA cc nL own fr) {index : Nat} {C n d : String} {v : Int32} (hm : (C, n, d, v) ∈ zStI) (hlink : Cond.fieldLink own index C n d ∈ lw_all) (hd : decode cc pc = .ok (.getstatic index, 3)) (kk : zW p l e R s m args below meth c E D tA nL k0 M lv (pc + 3) (zI v :: st)) : zW p l e R s m args below meth c E D tA nL k0 M lv pc st :=
  fun h out h' em => ⟨(kk h out h' em).1, fun a1 a2 a3 a4 H locs ls r1 r2 r3 => va_gets x.1 x.2.1 (x.2.2.2.2.2.2.1.1 _ hm) r2 x.2.2.2.1 (x.2.2.2.2.1 _ hlink) (fun _ h9 => h9) hd ((kk h out h' em).2 a1 a2 a3 a4 H locs ls r1 r2 r3)⟩
theorem z_staR (x : zCx p l R s m args meth c E D tA cc nL own fr) {index k : Nat} {C n d : String} (hm : (C, n, d, k) ∈ zStR) (hlink : Cond.fieldLink own index C n d ∈ lw_all) (hd : decode cc pc = .ok (.getstatic index, 3)) (kk : zW p l e R s m args below meth c E D tA nL k0 M lv (pc + 3) (zP (some (E k)) :: st)) : zW p l e R s m args below meth c E D tA nL k0 M lv pc st :=
  fun h out h' em => ⟨(kk h out h' em).1, fun a1 a2 a3 a4 H locs ls r1 r2 r3 => va_gets x.1 x.2.1 (x.2.2.2.2.2.2.1.2.1 _ hm) r2 x.2.2.2.1 (x.2.2.2.2.1 _ hlink) (fun _ h9 => h9) hd ((kk h out h' em).2 a1 a2 a3 a4 H locs ls r1 r2 r3)⟩
theorem z_staQ (x : zCx p l R s m args meth c E D tA cc nL own fr) {index k : Nat} {C n d : String} (hm : (C, n, d, k) ∈ zStQ) (hlink : Cond.fieldLink own index C n d ∈ lw_all) (hd : decode cc pc = .ok (.getstatic index, 3)) (kk : zW p l e R s m args below meth c E D tA nL k0 M lv (pc + 3) (zP (zOpt E k) :: st)) : zW p l e R s m args below meth c E D tA nL k0 M lv pc st :=
  fun h out h' em => ⟨(kk h out h' em).1, fun a1 a2 a3 a4 H locs ls r1 r2 r3 => va_gets x.1 x.2.1 (x.2.2.2.2.2.2.1.2.2.2.2.1 _ hm) r2 x.2.2.2.1 (x.2.2.2.2.1 _ hlink) (fun _ h9 => h9) hd ((kk h out h' em).2 a1 a2 a3 a4 H locs ls r1 r2 r3)⟩
/-- a row of rows: n rows of m places of the type t1 -/
def zNewM (t t1 : Nat) (y : (Nat → Int32) ⊕ (Nat → Int64) ⊕ (Nat → UInt32) ⊕ (Nat → UInt64) ⊕ (Nat → Option Nat)) (n k : Int32) (K : Option Nat → zM) : zM := fun h =>
  if n < 0 ∨ k < 0 ∨ 1000 < n.toNatClampNeg ∨ 1000 < k.toNatClampNeg then none else K (some h.1) (h.1 + 1 + n.toNatClampNeg, h.2.1 + n.toNatClampNeg + n.toNatClampNeg * k.toNatClampNeg, fun q =>
    if q = h.1 then some (.inl (t, n.toNatClampNeg, .inr (.inr (.inr (.inr fun j => if j < n.toNatClampNeg then some (h.1 + 1 + j) else none))))) else if h.1 < q ∧ q < h.1 + 1 + n.toNatClampNeg then some (.inl (t1, k.toNatClampNeg, y)) else h.2.2 q)

end ZG
