/-! ===== rows of fields, new objects, arrays ===== -/
section ZF
variable {p : Program} {l : Launch} {e : Env} {R : Room} {s : State} {m : MethodId} {args : Array Value} {below : List Frame} {meth : Method} {c : Code} {E : zE} {D : va_G} {tA : Nat → ClassId} {cc : ByteArray} {nL k0 fr : Nat} {own : String}
variable {M : zM} {lv lv' : List (Nat × zV)} {pc : Nat} {st : List zV}
theorem zRep_fld {h : zH} {H : Heap} {a ci k : Nat} {fs : List Value} {C : vw_C} {v : Value} (r1 : zRep E D tA h H) (ha : h.2.2 a = some (.inr (ci, fs))) (hc : zCL[ci]? = some C) (hk : k < C.2.2) (hv : fs[k]? = some v) : ∃ cell : Cell, H[a]? = some cell ∧ cell.vm ≠ .unknown ∧ cell.slots[D.2 ci k]? = some v := by
  obtain ⟨C', cell, hC', q1, q2, q3, -, -, q4, -⟩ := r1.2 a _ ha
  cases hC'.symm.trans hc
  refine ⟨cell, q1, q3, ?_⟩
  rw [q4 k hk]
  simp [vp_V, hv]
theorem z_get {α : Type} {as : Value → Option α} {con : α → zV} (hcon : ∀ v y, as v = some y → v = zVal (con y)) (x : zCx p l R s m args meth c E D tA cc nL own fr) {ref C : String} {T : u_T} {N ci index : Nat} (hin : ∀ w ∈ u_ws C T N, w ∈ lw_all) (hc : zCL[ci]? = some (C, T, N)) {k : Nat} (hk : k < N) (hlink : Cond.fieldLink own index ref (T k).2.1 (T k).2.2.1 ∈ lw_all)
    (hsame : ∀ y, s.fieldFound? (T k).1 (T k).2.1 (T k).2.2.1 = some y → s.fieldFound? ref (T k).2.1 (T k).2.2.1 = some y) {r : Option Nat} {K : α → zM} (hd : decode cc pc = .ok (.getfield index, 3)) (kk : ∀ v, zW p l e R s m args below meth c E D tA nL k0 (K v) lv (pc + 3) (con v :: st)) : zW p l e R s m args below meth c E D tA nL k0 (zGet as r ci k K) lv pc (zP r :: st) := by
  intro h out h' em
  obtain ⟨a, fs, v, y, rfl, ha, hv, hy, ek⟩ := zGet_inv em
  refine ⟨(kk y h out h' ek).1, fun a1 a2 a3 a4 H locs ls r1 r2 r3 => ?_⟩
  have hw := (kk y h out h' ek).2 a1 a2 a3 a4 H locs ls r1 r2 r3
  obtain ⟨cell, q1, q3, q4⟩ := zRep_fld r1 ha hc hk hv
  have hts := x.2.2.2.2.1
  obtain ⟨hS, hfc, kC, hkC, hkind⟩ := x.2.2.2.2.2.1.1 ci _ hc
  obtain ⟨cf, kf, fi, f, hi, hsl⟩ := hS k hk
  refine W.getf x.1 x.2.1 x.2.2.2.1 (hts _ hlink) (hsame _ hi) (u_facts hfc hkC (u_lays hts hin hk) hi).1 q1 q3 (v := v) (by rw [hsl]; exact q4) rfl rfl hd ?_
  rw [hcon v y hy]
  exact hw
theorem z_getN {α : Type} {as : Value → Option α} {con : α → zV} (hcon : ∀ v y, as v = some y → v = zVal (con y)) (x : zCx p l R s m args meth c E D tA cc nL own fr) {ref C host : String} {T : u_T} {N ci index : Nat} (hin : ∀ w ∈ u_ws C T N, w ∈ lw_all) (hc : zCL[ci]? = some (C, T, N)) {k : Nat} (hk : k < N) (hlink : Cond.fieldLinkNest own index ref (T k).2.1 (T k).2.2.1 host ∈ lw_tbl)
    (hsame : ∀ y, s.fieldFound? (T k).1 (T k).2.1 (T k).2.2.1 = some y → s.fieldFound? ref (T k).2.1 (T k).2.2.1 = some y) {r : Option Nat} {K : α → zM} (hd : decode cc pc = .ok (.getfield index, 3)) (kk : ∀ v, zW p l e R s m args below meth c E D tA nL k0 (K v) lv (pc + 3) (con v :: st)) : zW p l e R s m args below meth c E D tA nL k0 (zGet as r ci k K) lv pc (zP r :: st) := by
  intro h out h' em
  obtain ⟨a, fs, v, y, rfl, ha, hv, hy, ek⟩ := zGet_inv em
  refine ⟨(kk y h out h' ek).1, fun a1 a2 a3 a4 H locs ls r1 r2 r3 => ?_⟩
  have hw := (kk y h out h' ek).2 a1 a2 a3 a4 H locs ls r1 r2 r3
  obtain ⟨cell, q1, q3, q4⟩ := zRep_fld r1 ha hc hk hv
  have hts := x.2.2.2.2.1
  obtain ⟨hS, hfc, kC, hkC, hkind⟩ := x.2.2.2.2.2.1.1 ci _ hc
  obtain ⟨cf, kf, fi, f, hi, hsl⟩ := hS k hk
  refine va_Wgetf x.1 x.2.1 x.2.2.2.1 (zNw.use x.2.2.2.2.2.2.2.1 hlink rfl) (hsame _ hi) (u_facts hfc hkC (u_lays hts hin hk) hi).1 q1 q3 (v := v) (by rw [hsl]; exact q4) rfl rfl hd ?_
  rw [hcon v y hy]
  exact hw
/-- what a field's write leaves -/
theorem zSet_rep {h : zH} {H H1 : Heap} {C : String} {T : u_T} {N ci k a : Nat} {fs : List Value} {v : Value} {cell : Cell} (r1 : zRep E D tA h H) (ha : h.2.2 a = some (.inr (ci, fs))) (hc : zCL[ci]? = some (C, T, N)) (hap : ∀ x y, x < N → y < N → x ≠ y → (D.2 ci) x ≠ (D.2 ci) y) (hk : k < N) (hl : k < fs.length)
    (q1 : H[a]? = some cell) (q2 : cell.cls = D.1 ci) (q3 : cell.vm = .none) (q4 : ∀ j, j < N → cell.slots[D.2 ci j]? = some (vp_V fs j)) (e1 : H1[a]? = some (cell.setSlot (D.2 ci k) v)) (e2 : H1.size = H.size) (e3 : ∀ q : Nat, q ≠ a → H1[q]? = H[q]?) : zRep E D tA (h.1, h.2.1, zUp h.2.2 a (.inr (ci, fs.set k v))) H1 := by
  refine zRep_put r1 e2 (zAt_ob ⟨_, hc, t_OB.to (V := updV (vp_V fs) k v) ⟨_, e1, q2, q3, t_set q4 hap hk v⟩ (fun j _ => vp_updV_set hl v j)⟩ (fun hz ce hce => ?_)) e3
  obtain ⟨_, cell', _, q1', -, -, -, -, -, hm⟩ := r1.2 a _ ha
  cases q1'.symm.trans q1
  have hm := hm hz
  rw [e1] at hce
  cases hce
  exact ⟨hm.1, hm.2.1, by show _ ≤ (cell.slots.setIfInBounds _ _).size; rw [Array.size_setIfInBounds]; exact hm.2.2⟩
theorem z_set (x : zCx p l R s m args meth c E D tA cc nL own fr) {ref C : String} {T : u_T} {N ci index : Nat} (hin : ∀ w ∈ u_ws C T N, w ∈ lw_all) (ty0 : Nat → FieldType) (hty : ∀ k, k < N → parseFieldDescriptor (T k).2.2.1 = some (ty0 k)) (hnm : ∀ a, a < N → ∀ b, b < N → a ≠ b → (T a).2.1 ≠ (T b).2.1) (hc : zCL[ci]? = some (C, T, N)) {k : Nat} (hk : k < N) (hlink : Cond.fieldLink own index ref (T k).2.1 (T k).2.2.1 ∈ lw_all)
    (hsame : ∀ y, s.fieldFound? (T k).1 (T k).2.1 (T k).2.2.1 = some y → s.fieldFound? ref (T k).2.1 (T k).2.2.1 = some y) (hfin : (T k).2.2.2 = false) {v : zV} (hn : narrow (ty0 k) (zVal v) = zVal v) (hfit : fits (ty0 k) (zVal v) = true) {r : Option Nat} (hd : decode cc pc = .ok (.putfield index, 3)) (kk : zW p l e R s m args below meth c E D tA nL k0 M lv (pc + 3) st) : zW p l e R s m args below meth c E D tA nL k0 (zSet E r ci k (zVal v) M) lv pc (v :: zP r :: st) := by
  intro h out h' em
  obtain ⟨a, fs, rfl, ha, hE, hl, ek⟩ := zSet_inv em
  refine ⟨(kk _ out h' ek).1, fun a1 a2 a3 a4 H locs ls r1 r2 r3 => ?_⟩
  have hK := x.2.2.2.2.2.1
  have hts := x.2.2.2.2.1
  have hap := va_apart (own := own) hts hin ty0 hty hnm hK hc
  obtain ⟨r', cell, hr1, q1, q2, -, -, q3, q4, -⟩ := r1.2 a _ ha
  cases hr1.symm.trans hc
  have q3 := q3 (Or.inl hE)
  obtain ⟨hS, hfc, kC, hkC, hkind⟩ := hK.1 ci _ hc
  obtain ⟨cf, kf, fi, f, hi, hsl⟩ := hS k hk
  have hlay := hts _ (hin _ (u_in_lay hk))
  unfold u_lay at hlay
  rw [if_neg (by rw [hfin]; decide)] at hlay
  have hst := (u_facts hfc hkC (u_lays hts hin hk) hi).1
  have h6 := u_store hfc hkC hkind hlay hi (hty k hk) hn hfit
  refine W.putK x.1 x.2.1 (f := f) ⟨x.2.2.2.1, hts _ hlink, ⟨_, _, _, hsame _ hi⟩, hst⟩ (by rw [q2]; exact h6) q1 q3 (by rw [hsl]; exact k2_hasslot (q4 k hk)) rfl rfl hd fun H' e1 e2 e3 => ?_
  rw [hsl] at e1 ⊢
  exact (kk _ out h' ek).2 a1 a2 a3 a4 H' _ ls (zSet_rep r1 ha hc hap hk hl q1 q2 q3 q4 e1 e2 e3) (zS_put r2 e2 e3 hE) r3
theorem z_setN (x : zCx p l R s m args meth c E D tA cc nL own fr) {ref C host : String} {T : u_T} {N ci index : Nat} (hin : ∀ w ∈ u_ws C T N, w ∈ lw_all) (ty0 : Nat → FieldType) (hty : ∀ k, k < N → parseFieldDescriptor (T k).2.2.1 = some (ty0 k)) (hnm : ∀ a, a < N → ∀ b, b < N → a ≠ b → (T a).2.1 ≠ (T b).2.1) (hc : zCL[ci]? = some (C, T, N)) {k : Nat} (hk : k < N) (hlink : Cond.fieldLinkNest own index ref (T k).2.1 (T k).2.2.1 host ∈ lw_tbl)
    (hsame : ∀ y, s.fieldFound? (T k).1 (T k).2.1 (T k).2.2.1 = some y → s.fieldFound? ref (T k).2.1 (T k).2.2.1 = some y) (hfin : (T k).2.2.2 = false) {v : zV} (hn : narrow (ty0 k) (zVal v) = zVal v) (hfit : fits (ty0 k) (zVal v) = true) {r : Option Nat} (hd : decode cc pc = .ok (.putfield index, 3)) (kk : zW p l e R s m args below meth c E D tA nL k0 M lv (pc + 3) st) : zW p l e R s m args below meth c E D tA nL k0 (zSet E r ci k (zVal v) M) lv pc (v :: zP r :: st) := by
  intro h out h' em
  obtain ⟨a, fs, rfl, ha, hE, hl, ek⟩ := zSet_inv em
  refine ⟨(kk _ out h' ek).1, fun a1 a2 a3 a4 H locs ls r1 r2 r3 => ?_⟩
  have hK := x.2.2.2.2.2.1
  have hts := x.2.2.2.2.1
  have hap := va_apart (own := own) hts hin ty0 hty hnm hK hc
  obtain ⟨r', cell, hr1, q1, q2, -, -, q3, q4, -⟩ := r1.2 a _ ha
  cases hr1.symm.trans hc
  have q3 := q3 (Or.inl hE)
  obtain ⟨hS, hfc, kC, hkC, hkind⟩ := hK.1 ci _ hc
  obtain ⟨cf, kf, fi, f, hi, hsl⟩ := hS k hk
  have hlay := hts _ (hin _ (u_in_lay hk))
  unfold u_lay at hlay
  rw [if_neg (by rw [hfin]; decide)] at hlay
  have hst := (u_facts hfc hkC (u_lays hts hin hk) hi).1
  have h6 := u_store hfc hkC hkind hlay hi (hty k hk) hn hfit
  refine va_WputK x.1 x.2.1 (f := f) x.2.2.2.1 (zNw.use x.2.2.2.2.2.2.2.1 hlink rfl) (hsame _ hi) hst (by rw [q2]; exact h6) q1 q3 (by rw [hsl]; exact k2_hasslot (q4 k hk)) rfl rfl hd fun H' e1 e2 e3 => ?_
  rw [hsl] at e1 ⊢
  exact (kk _ out h' ek).2 a1 a2 a3 a4 H' _ ls (zSet_rep r1 ha hc hap hk hl q1 q2 q3 q4 e1 e2 e3) (zS_put r2 e2 e3 hE) r3
theorem z_setF (x : zCx p l R s m args meth c E D tA cc nL own fr) {ref C : String} {T : u_T} {N ci index : Nat} (hin : ∀ w ∈ u_ws C T N, w ∈ lw_all) (ty0 : Nat → FieldType) (hty : ∀ k, k < N → parseFieldDescriptor (T k).2.2.1 = some (ty0 k)) (hnm : ∀ a, a < N → ∀ b, b < N → a ≠ b → (T a).2.1 ≠ (T b).2.1) (hc : zCL[ci]? = some (C, T, N)) {k : Nat} (hk : k < N) (hlink : Cond.fieldLink own index ref (T k).2.1 (T k).2.2.1 ∈ lw_all)
    (hsame : ∀ y, s.fieldFound? (T k).1 (T k).2.1 (T k).2.2.1 = some y → s.fieldFound? ref (T k).2.1 (T k).2.2.1 = some y) (hfin : (T k).2.2.2 = true) (hin2 : meth.name = "<init>") (hdecl : (T k).1 = own) {v : zV} (hn : narrow (ty0 k) (zVal v) = zVal v) (hfit : fits (ty0 k) (zVal v) = true) {r : Option Nat} (hd : decode cc pc = .ok (.putfield index, 3)) (kk : zW p l e R s m args below meth c E D tA nL k0 M lv (pc + 3) st) : zW p l e R s m args below meth c E D tA nL k0 (zSet E r ci k (zVal v) M) lv pc (v :: zP r :: st) := by
  intro h out h' em
  obtain ⟨a, fs, rfl, ha, hE, hl, ek⟩ := zSet_inv em
  refine ⟨(kk _ out h' ek).1, fun a1 a2 a3 a4 H locs ls r1 r2 r3 => ?_⟩
  have hK := x.2.2.2.2.2.1
  have hts := x.2.2.2.2.1
  have hown := x.2.2.2.1
  have hap := va_apart (own := own) hts hin ty0 hty hnm hK hc
  obtain ⟨r', cell, hr1, q1, q2, -, -, q3, q4, -⟩ := r1.2 a _ ha
  cases hr1.symm.trans hc
  have q3 := q3 (Or.inl hE)
  obtain ⟨hS, hfc, kC, hkC, hkind⟩ := hK.1 ci _ hc
  obtain ⟨cf, kf, fi, f, hi, hsl⟩ := hS k hk
  have hlay := hts _ (hin _ (u_in_lay hk))
  unfold u_lay at hlay
  rw [if_pos hfin] at hlay
  have hst := (u_facts hfc hkC (u_lays hts hin hk) hi).1
  have hcf : m.cls = cf := by
    obtain ⟨_, _, c', _, _, _, -, -, hf', -, -, -, hown2, -⟩ := Cond.laysFinal_spec hlay
    have e1 : c' = cf := by have := hi.symm.trans hf'; simp at this; exact this.1.symm
    rw [hdecl] at hown2
    rw [← e1]; exact Option.some.inj (hown.symm.trans hown2)
  have h6 := u_fits hfc hkC hkind (Or.inr hlay) hi (hty k hk) hn hfit
  refine W.putFinK x.1 x.2.1 hown (hts _ hlink) (hsame _ hi) hst hcf hin2 (by rw [q2]; exact h6) q1 q3 (by rw [hsl]; exact k2_hasslot (q4 k hk)) rfl rfl hd fun H' e1 e2 e3 => ?_
  rw [hsl] at e1 ⊢
  exact (kk _ out h' ek).2 a1 a2 a3 a4 H' _ ls (zSet_rep r1 ha hc hap hk hl q1 q2 q3 q4 e1 e2 e3) (zS_put r2 e2 e3 hE) r3
theorem z_set_small {ty : FieldType} {r : Option Nat} {ci k : Nat} {v : Int32} {st' : List zV} (kk : narrow ty (.int v) = .int v → fits ty (.int v) = true → zW p l e R s m args below meth c E D tA nL k0 (zSet E r ci k (zVal (zI v)) M) lv pc st') : zW p l e R s m args below meth c E D tA nL k0 (zSetN E ty r ci k v M) lv pc st' := by
  unfold zSetN
  exact z_ite (fun hb => kk hb.1 hb.2) (fun _ => z_fail)
theorem zfitR {ty : FieldType} (h : refKind ty = true) (v : Option Nat) : narrow ty (zVal (zP v)) = zVal (zP v) ∧ fits ty (zVal (zP v)) = true := by
  cases ty with
  | object n => cases v <;> exact ⟨rfl, rfl⟩
  | array t => cases v <;> exact ⟨rfl, rfl⟩
  | _ => cases h
theorem z_new (x : zCx p l R s m args meth c E D tA cc nL own fr) {C : String} {T : u_T} {N n ci index : Nat} (hin : ∀ w ∈ u_ws C T N, w ∈ lw_all) (ty0 : Nat → FieldType) (hty : ∀ k, k < N → parseFieldDescriptor (T k).2.2.1 = some (ty0 k)) (hcl : Cond.classLink own index C ∈ lw_all) (hinst : Cond.instantiable C n ∈ lw_all) (hini : Cond.initialized C ∈ lw_all) (hc : zCL[ci]? = some (C, T, N)) (hsz : zSz ci ≤ n) {fs : List Value} (hfs : ∀ j, j < N → defaultValue (ty0 j) = vp_V fs j)
    {K : Option Nat → zM} (hd : decode cc pc = .ok (.new index, 3)) (kk : ∀ v, zW p l e R s m args below meth c E D tA nL k0 (K v) lv (pc + 3) (zP v :: st)) : zW p l e R s m args below meth c E D tA nL k0 (zNew ci n fs K) lv pc st := by
  intro h out h' em
  have em : K (some h.1) (h.1 + 1, h.2.1 + n, zUp h.2.2 h.1 (.inr (ci, fs))) = some (out, h') := em
  obtain ⟨hle, hw⟩ := kk _ _ out h' em
  refine ⟨⟨Nat.le_trans (Nat.le_succ _) hle.1, Nat.le_trans (Nat.le_add_right _ _) hle.2⟩, fun a1 a2 a3 a4 H locs ls r1 r2 r3 => ?_⟩
  have hK := x.2.2.2.2.2.1
  have hts := x.2.2.2.2.1
  have hKn := hK.1 ci _ hc
  have l1 : h.1 + 1 ≤ h'.1 := hle.1
  have l2 : h.2.1 + n ≤ h'.2.1 := hle.2
  refine W.newcK x.1 x.2.1 x.2.2.2.1 (hts _ hcl) (hts _ hinst) (hts _ hini) rfl hd (by rw [a3]; omega) (by rw [a4]; omega) hKn.2.1 r1.1 fun H1 kC hkC e1 z1 o1 => ?_
  have hq := hw (Nat.le_trans a1 (Nat.le_succ _)) (Nat.le_trans a2 (Nat.le_add_right _ _)) a3 a4 H1 locs ls (zRep_push (h.2.1 + n) r1 (z1.trans (by rw [r1.1])) (zAt_ob ⟨_, hc, (u_born ty0 hts hin hKn hkC e1 hty).to hfs⟩ fun _ ce hce => by
    have e2 : H1[h.1]? = some (blank (D.1 ci) kC) := e1
    rw [e2] at hce
    cases hce
    obtain ⟨c9, k9, g1, g2, -, -, -, g3⟩ := Cond.instantiable_spec (hts _ hinst)
    cases hKn.2.1.symm.trans g1
    cases hkC.symm.trans g2
    refine ⟨rfl, rfl, Nat.le_trans hsz ?_⟩
    show n ≤ (kC.instanceTypes.map defaultValue).size
    rw [Array.size_map, g3]
    exact Nat.le_refl _) (fun q hq => o1 q (by rw [← r1.1]; exact hq))) (zS_push r2 (z1.trans (by rw [r1.1])) (fun q hq => o1 q (by rw [← r1.1]; exact hq))) r3
  have c1 : h.1 + 1 - s.heap.size = h.1 - s.heap.size + 1 := by omega
  have c2 : h.2.1 + n - k0 = h.2.1 - k0 + n := by omega
  rw [c1, c2] at hq
  exact hq
theorem zty_prim {ty : FieldType} (atype : ArrayType) (h : newarray.typeOf atype = ty) {U : State} {cA : ClassId} (hR : va_RA U cA ty) : U.vm.findClass ("[" ++ (newarray.typeOf atype).toString) = some cA := by
  subst h
  cases atype <;> exact hR
theorem z_newA (x : zCx p l R s m args meth c E D tA cc nL own fr) {atype : ArrayType} {t : Nat} {ty : FieldType} (hty : newarray.typeOf atype = ty) (hcb : componentBytes ty ≤ 8) (ht : zTY[t]? = some ty) (harr : Cond.arrayClass ty ∈ lw_all) {y : (Nat → Int32) ⊕ (Nat → Int64) ⊕ (Nat → UInt32) ⊕ (Nat → UInt64) ⊕ (Nat → Option Nat)} (hy : ∀ (cA : ClassId) (n : Nat), vp_cell cA (n, y) = arrV cA n (fun _ => defaultValue ty))
    {n : Int32} {K : Option Nat → zM} (hd : decode cc pc = .ok (.newarray atype, 2)) (kk : ∀ v, zW p l e R s m args below meth c E D tA nL k0 (K v) lv (pc + 2) (zP v :: st)) : zW p l e R s m args below meth c E D tA nL k0 (zNewA t y n K) lv pc (zI n :: st) := by
  intro h out h' em
  unfold zNewA at em
  split at em
  · cases em
  · rename_i hn
    obtain ⟨hle, hw⟩ := kk _ _ out h' em
    refine ⟨⟨Nat.le_trans (Nat.le_succ _) hle.1, Nat.le_trans (Nat.le_add_right _ _) hle.2⟩, fun a1 a2 a3 a4 H locs ls r1 r2 r3 => ?_⟩
    have hK := x.2.2.2.2.2.1
    have hts := x.2.2.2.2.1
    have l1 : h.1 + 1 ≤ h'.1 := hle.1
    have l2 : h.2.1 + n.toNatClampNeg ≤ h'.2.1 := hle.2
    have hn1 : ¬ n < 0 := fun q => hn (Or.inl q)
    have hn2 : n.toNatClampNeg ≤ 1000000 := Nat.not_lt.mp fun q => hn (Or.inr q)
    have hb8 : n.toNatClampNeg * componentBytes (newarray.typeOf atype) ≤ 536870912 := by
      rw [hty]
      exact Nat.le_trans (Nat.mul_le_mul hn2 hcb) (by decide)
    refine va_newaK x.1 x.2.1 (hts _ (by rw [hty]; exact harr)) rfl hd rfl hn1 rfl hb8 (by rw [a3]; omega) (by rw [a4]; omega) r1.1 fun H1 cA e1 z1 o1 hA hNm => ?_
    have hcA : cA = tA t := Option.some.inj (hNm.symm.trans (zty_prim atype hty (hK.2 t _ (zTys_at ht)).2))
    subst hcA
    have hq := hw (Nat.le_trans a1 (Nat.le_succ _)) (Nat.le_trans a2 (Nat.le_add_right _ _)) a3 a4 H1 locs ls (zRep_push (o := .inl (t, n.toNatClampNeg, y)) (h.2.1 + n.toNatClampNeg) r1 (z1.trans (by rw [r1.1])) (zAt_arr <| show H1[h.1]? = some (vp_cell (tA t) (n.toNatClampNeg, y)) by rw [hy]; rw [hty] at e1; exact e1) (fun q hq => o1 q (by rw [← r1.1]; exact hq))) (zS_push r2 (z1.trans (by rw [r1.1])) (fun q hq => o1 q (by rw [← r1.1]; exact hq))) r3
    have c1 : h.1 + 1 - s.heap.size = h.1 - s.heap.size + 1 := by omega
    have c2 : h.2.1 + n.toNatClampNeg - k0 = h.2.1 - k0 + n.toNatClampNeg := by omega
    rw [c1, c2] at hq
    exact hq
theorem z_newQ (x : zCx p l R s m args meth c E D tA cc nL own fr) {C : String} {t index : Nat} (ht : zTY[t]? = some (.object C)) (hcl : Cond.classLink own index C ∈ lw_all) (hov : Cond.arrayOver (.object C) ∈ lw_tbl)
    {n : Int32} {K : Option Nat → zM} (hd : decode cc pc = .ok (.anewarray index, 3)) (kk : ∀ v, zW p l e R s m args below meth c E D tA nL k0 (K v) lv (pc + 3) (zP v :: st)) : zW p l e R s m args below meth c E D tA nL k0 (zNewA t zAr0R n K) lv pc (zI n :: st) := by
  intro h out h' em
  unfold zNewA at em
  split at em
  · cases em
  · rename_i hn
    obtain ⟨hle, hw⟩ := kk _ _ out h' em
    refine ⟨⟨Nat.le_trans (Nat.le_succ _) hle.1, Nat.le_trans (Nat.le_add_right _ _) hle.2⟩, fun a1 a2 a3 a4 H locs ls r1 r2 r3 => ?_⟩
    have hK := x.2.2.2.2.2.1
    have hts := x.2.2.2.2.1
    have l1 : h.1 + 1 ≤ h'.1 := hle.1
    have l2 : h.2.1 + n.toNatClampNeg ≤ h'.2.1 := hle.2
    have hn1 : ¬ n < 0 := fun q => hn (Or.inl q)
    have hn2 : n.toNatClampNeg ≤ 1000000 := Nat.not_lt.mp fun q => hn (Or.inr q)
    refine W.anew x.1 x.2.1 x.2.2.2.1 (hts _ hcl) (va_AO.use (x.2.2.2.2.2.2.2.1.2.1.1 C hov)) rfl hd rfl hn1 (by omega) (by rw [a3]; omega) (by rw [a4]; omega) fun cA kA comp f1 f2 f3 f4 => ?_
    generalize hH1 : H.push ({ cls := cA, slots := Array.replicate n.toNatClampNeg .null, vm := .none } : Cell) = H1
    have z1 : H1.size = H.size + 1 := by rw [← hH1, Array.size_push]
    have e1 : H1[H.size]? = some (arrV cA n.toNatClampNeg (fun _ => .null)) := by rw [← hH1, Array.getElem?_push_size, ← arrV_new]
    have o1 : ∀ q : Nat, q < H.size → H1[q]? = H[q]? := fun q hq => by rw [← hH1, Array.getElem?_push, if_neg (Nat.ne_of_lt hq)]
    obtain ⟨kA', comp', g1, g2, g3, g4⟩ := (hK.2 t _ (zTys_at ht)).2
    have hcA : cA = tA t := Option.some.inj (f1.symm.trans g4)
    subst hcA
    have hq := hw (Nat.le_trans a1 (Nat.le_succ _)) (Nat.le_trans a2 (Nat.le_add_right _ _)) a3 a4 H1 locs ls (zRep_push (o := .inl (t, n.toNatClampNeg, zAr0R)) (h.2.1 + n.toNatClampNeg) r1 z1 (zAt_arr <| show H1[h.1]? = some (vp_cell (tA t) (n.toNatClampNeg, zAr0R)) by rw [← r1.1]; exact e1) o1) (zS_push r2 z1 o1) r3
    have c1 : h.1 + 1 - s.heap.size = h.1 - s.heap.size + 1 := by omega
    have c2 : h.2.1 + n.toNatClampNeg - k0 = h.2.1 - k0 + n.toNatClampNeg := by omega
    rw [c1, c2] at hq
    show W p l e R s m args below meth c H1 locs _ _ _ (F0 m (pc + 3) ls (.ref H.size :: zStk st))
    rw [r1.1]
    exact hq
theorem z_len (x : zCx p l R s m args meth c E D tA cc nL own fr) {r : Option Nat} {K : Int32 → zM} (hd : decode cc pc = .ok (.arraylength, 1)) (kk : ∀ v, zW p l e R s m args below meth c E D tA nL k0 (K v) lv (pc + 1) (zI v :: st)) : zW p l e R s m args below meth c E D tA nL k0 (zLen r K) lv pc (zP r :: st) := by
  intro h out h' em
  unfold zLen at em
  split at em
  · cases em
  · rename_i a
    split at em
    · rename_i t y ha
      split at em
      · rename_i hlt
        refine ⟨(kk _ h out h' em).1, fun a1 a2 a3 a4 H locs ls r1 r2 r3 => ?_⟩
        have ht : zTY[t]? = some (zTY.getD t .int) := by
          rw [List.getD_eq_getElem?_getD, List.getElem?_eq_getElem hlt]; rfl
        obtain ⟨cell, q1, q2, q3, q4, q5, -⟩ := r1.2 a _ ha
        have hsz : Int32.ofNat cell.slots.size = Int32.ofNat y.1 := by
          rw [q3]
          obtain ⟨n, f | f | f | f | f⟩ := y <;> first | (rw [vp_cell_i, arrV_size]) | (rw [vp_cell_l, arrV_size]) | (rw [vp_cell_f, arrV_size]) | (rw [vp_cell_d, arrV_size]) | (rw [vp_cell_q, arrV_size])
        have harr : s.isArrayOf (vp_cell (tA t) y) (zTY.getD t .int) := by
          obtain ⟨n, f | f | f | f | f⟩ := y
          · exact (x.2.2.2.2.2.1.2 t _ (zTys_at ht)).1 n (fun j => .int (f j))
          · exact (x.2.2.2.2.2.1.2 t _ (zTys_at ht)).1 n (fun j => .long (f j))
          · exact (x.2.2.2.2.2.1.2 t _ (zTys_at ht)).1 n (fun j => .float (f j))
          · exact (x.2.2.2.2.2.1.2 t _ (zTys_at ht)).1 n (fun j => .double (f j))
          · exact (x.2.2.2.2.2.1.2 t _ (zTys_at ht)).1 n (fun j => va_rf (f j))
        exact W.alen (n := Int32.ofNat y.1) x.1 x.2.1 q1 (zArrOf harr (q2.trans (zvp_cls _ _).symm) q5) hsz rfl rfl hd ((kk _ h out h' em).2 a1 a2 a3 a4 H locs ls r1 r2 r3)
      · cases em
    · cases em
end ZF
