/-! ===== System.arraycopy ===== -/
def zCpI (E : zE) (t : Nat) (src : Option Nat) (sp : Int32) (dst : Option Nat) (dp n : Int32) (K : zM) : zM := fun h => match src, dst with
  | some a0, some a => match h.2.2 a0, h.2.2 a with
    | some (.inl (t0, n0, .inl f)), some (.inl (t1, n1, .inl g)) => if t0 = t ∧ t1 = t ∧ E 0 ≤ a ∧ ¬ sp < 0 ∧ ¬ dp < 0 ∧ ¬ n < 0 ∧ sp.toNatClampNeg + n.toNatClampNeg ≤ n0 ∧ dp.toNatClampNeg + n.toNatClampNeg ≤ n1 ∧ (∀ i, i < n.toNatClampNeg → fits (zTY.getD t .int) (.int (f (sp.toNatClampNeg + i))) = true) then K (h.1, h.2.1, zUp h.2.2 a (.inl (t, n1, .inl (va_cpy f g sp.toNatClampNeg dp.toNatClampNeg n.toNatClampNeg)))) else none
    | _, _ => none
  | _, _ => none
theorem zCpI_inv {E : zE} {t : Nat} {src dst : Option Nat} {sp dp n : Int32} {K : zM} {h : zH} {o : zR × zH} (em : zCpI E t src sp dst dp n K h = some o) : ∃ a0 a n0 n1 f g, src = some a0 ∧ dst = some a ∧ h.2.2 a0 = some (.inl (t, n0, .inl f)) ∧ h.2.2 a = some (.inl (t, n1, .inl g)) ∧ E 0 ≤ a ∧ ¬ sp < 0 ∧ ¬ dp < 0 ∧ ¬ n < 0 ∧ sp.toNatClampNeg + n.toNatClampNeg ≤ n0 ∧ dp.toNatClampNeg + n.toNatClampNeg ≤ n1 ∧ (∀ i, i < n.toNatClampNeg → fits (zTY.getD t .int) (.int (f (sp.toNatClampNeg + i))) = true) ∧ K (h.1, h.2.1, zUp h.2.2 a (.inl (t, n1, .inl (va_cpy f g sp.toNatClampNeg dp.toNatClampNeg n.toNatClampNeg)))) = some o := by
  unfold zCpI at em
  split at em
  · rename_i a0 a
    split at em
    · rename_i t0 n0 f t1 n1 g ha0 ha
      split at em
      · rename_i hc
        obtain ⟨rfl, rfl, h1, h2, h3, h4, h5, h6, h7⟩ := hc
        exact ⟨a0, a, n0, n1, f, g, rfl, rfl, ha0, ha, h1, h2, h3, h4, h5, h6, h7, em⟩
      · cases em
    · cases em
  · cases em
theorem zcopied {cs cs' cd : Cell} {sp dp n : Int32} (h : cs.slots = cs'.slots) : copied cs cd sp dp n = copied cs' cd sp dp n := by
  unfold copied Cell.stretch
  rw [h]
section ZCPI
variable {p : Program} {l : Launch} {e : Env} {R : Room} {s : State} {m : MethodId} {args : Array Value} {below : List Frame} {meth : Method} {c : Code} {E : zE} {D : va_G} {tA : Nat → ClassId} {cc : ByteArray} {nL k0 fr : Nat} {own : String}
variable {M : zM} {lv lv' : List (Nat × zV)} {pc : Nat} {st : List zV}
theorem z_cpyI (x : zCx p l R s m args meth c E D tA cc nL own fr) {index : Nat} {t : Nat} {ty : FieldType} (hprim : refKind ty = false) (ht : zTY[t]? = some ty) (hlink : Cond.methodLink own index arraycopyName ∈ lw_all) (hnat : Cond.native arraycopyName ∈ lw_all) (hstat : Cond.static arraycopyName ∈ lw_all) (hini : Cond.initialized "java/lang/System" ∈ lw_all) (hfr : 1 ≤ fr) (hst : (st.map zCat).sum + 30 ≤ 64 * fr)
    {src dst : Option Nat} {sp dp n : Int32} (hd : decode cc pc = .ok (.invokestatic index, 3)) (kk : zW p l e R s m args below meth c E D tA nL k0 M lv (pc + 3) st) : zW p l e R s m args below meth c E D tA nL k0 (zCpI E t src sp dst dp n M) lv pc (zI n :: zI dp :: zP dst :: zI sp :: zP src :: st) := by
  intro h out h' em
  obtain ⟨a0, a, n0, n1, f, g, rfl, rfl, ha0, ha, hE, h1, h2, h3, h4, h5, hel, ek⟩ := zCpI_inv em
  refine ⟨(kk _ out h' ek).1, fun a1 a2 a3 a4 H locs ls r1 r2 r3 => ?_⟩
  have nn : ∀ z : Int32, ¬ z < 0 → z.toInt = (z.toNatClampNeg : Int) := by
    intro z hz
    have hz0 : (0 : Int) ≤ z.toInt := by
      have := Int32.not_lt.mp hz
      simpa using Int32.le_iff_toInt_le.mp this
    show z.toInt = ((z.toInt.toNat : Nat) : Int)
    omega
  have hts := x.2.2.2.2.1
  have hK := x.2.2.2.2.2.1
  have hzl : (zTY.getD t .int) = ty := by rw [List.getD_eq_getElem?_getD, ht]; rfl
  intro T hT X
  obtain ⟨cs, hc0, w2, w3, w4, w5, -⟩ := r1.2 a0 _ ha0
  have hc1 : H[a]? = some (vp_cell (tA t) (n1, .inl g)) := zRep_arr r1 ha hE 0 _ rfl
  obtain ⟨-, k9, hk0, cm0, hkk0⟩ := (hK.2 t _ (zTys_at ht)).1 n0 (fun j => .int (f j))
  obtain ⟨vm', X', step⟩ := X.arraycopy x.1 x.2.2.2.1 (hts _ hlink) (hts _ hnat) (hts _ hstat) (hts _ hini) (src := a0) (dst := a) (cs := cs) (cd := vp_cell (tA t) (n1, .inl g)) (srcPos := sp) (destPos := dp) (n := n) (by rw [hT]; exact hc0) (by rw [hT]; exact hc1)
    w5 (fun _ h => by cases h) w4 (fun h => by cases h) (by rw [w2]; exact hk0) hk0 hkk0 hkk0 (by simp [hprim]) h1 h2 h3
    (by rw [nn sp h1, nn n h3]; rw [w3]; show ¬ _ > ((arrV (tA t) n0 (fun j => .int (f j))).slots.size : Int); rw [arrV_size]; omega)
    (by rw [nn dp h2, nn n h3]; show ¬ _ > ((arrV (tA t) n1 (fun j => .int (g j))).slots.size : Int); rw [arrV_size]; omega)
    (fun vm₁ hal i hi => by
      have e : cs.slots.getD (sp.toNatClampNeg + i) .null = .int (f (sp.toNatClampNeg + i)) := by
        rw [w3]
        show (arrV (tA t) n0 (fun j => .int (f j))).slots.getD _ _ = _
        rw [Array.getD_eq_getD_getElem?, arrV_read _ _ (by omega)]
        rfl
      rw [hzl] at hel
      refine ⟨?_, ?_⟩
      · rw [e]
        exact hel i hi
      · rw [e]
        exact trivial)
    (g := F0 m pc ls (.int n :: .int dp :: .ref a :: .int sp :: .ref a0 :: zStk st)) rfl (r3.1.trans x.2.2.1.symm) (rest := zStk st) rfl (by rw [x.2.1]; exact hd) (by rw [x.2.2.2.2.2.2.2.2.2.2.1]; exact hfr) (by rw [zStk_cat, x.2.2.2.2.2.2.2.2.2.2.2.1]; have hw : nativeFrameWords "java/lang/System" "arraycopy" 5 ≤ 19 := (by decide); show 2 * 0 + _ + _ ≤ _; omega)
  have e1 : copied cs (vp_cell (tA t) (n1, .inl g)) sp dp n = vp_cell (tA t) (n1, .inl (va_cpy f g sp.toNatClampNeg dp.toNatClampNeg n.toNatClampNeg)) := by
    rw [zcopied w3]
    exact va_copied (fun z => .int (z)) (tA t) (tA t) f g h4
  rw [e1] at X' step
  have hl : a < H.size := (Array.getElem?_eq_some_iff.mp hc1).1
  have oq : ∀ q : Nat, q ≠ a → (H.setIfInBounds a (vp_cell (tA t) (n1, .inl (va_cpy f g sp.toNatClampNeg dp.toNatClampNeg n.toNatClampNeg))))[q]? = H[q]? := fun q hq => by simp [Array.getElem?_setIfInBounds, Ne.symm hq]
  have hrep := zRep_put (H1 := H.setIfInBounds a (vp_cell (tA t) (n1, .inl (va_cpy f g sp.toNatClampNeg dp.toNatClampNeg n.toNatClampNeg)))) r1 (by simp) (o := .inl (t, n1, .inl (va_cpy f g sp.toNatClampNeg dp.toNatClampNeg n.toNatClampNeg))) (zAt_arr <| show (H.setIfInBounds a _)[a]? = some _ by simp [Array.getElem?_setIfInBounds, hl]) oq
  obtain ⟨t9, a9, b9⟩ := (kk _ out h' ek).2 a1 a2 a3 a4 _ _ ls hrep ⟨by simp; exact r2.1, fun q g1 g2 => by
      rw [oq q (fun e => g2 (by rw [e]; exact hE))]
      exact r2.2.1 q g1 g2, fun q hq => by
      rcases List.mem_append.mp hq with h | h
      · exact r2.2.2 q h
      · obtain ⟨z, -, hz⟩ := List.mem_map.mp h
        rw [← hz]
        exact hE⟩ r3 _ (by show ((T.setVm vm').setCell a _).heap = _; rw [← hT]; rfl) X'
  exact ⟨t9, step _ a9, b9⟩
end ZCPI
def zCpR (E : zE) (t tg : Nat) (src : Option Nat) (sp : Int32) (dst : Option Nat) (dp n : Int32) (K : zM) : zM := fun h => match src, dst with
  | some a0, some a => match h.2.2 a0, h.2.2 a with
    | some (.inl (t0, n0, .inr (.inr (.inr (.inr f))))), some (.inl (t1, n1, .inr (.inr (.inr (.inr g))))) => if t0 = t ∧ t1 = t ∧ E 0 ≤ a ∧ ¬ sp < 0 ∧ ¬ dp < 0 ∧ ¬ n < 0 ∧ sp.toNatClampNeg + n.toNatClampNeg ≤ n0 ∧ dp.toNatClampNeg + n.toNatClampNeg ≤ n1 ∧ (∀ i, i < n.toNatClampNeg → zOkR h tg (f (sp.toNatClampNeg + i)) = true) then K (h.1, h.2.1, zUp h.2.2 a (.inl (t, n1, .inr (.inr (.inr (.inr (va_cpy f g sp.toNatClampNeg dp.toNatClampNeg n.toNatClampNeg))))))) else none
    | _, _ => none
  | _, _ => none
theorem zCpR_inv {E : zE} {t tg : Nat} {src dst : Option Nat} {sp dp n : Int32} {K : zM} {h : zH} {o : zR × zH} (em : zCpR E t tg src sp dst dp n K h = some o) : ∃ a0 a n0 n1 f g, src = some a0 ∧ dst = some a ∧ h.2.2 a0 = some (.inl (t, n0, .inr (.inr (.inr (.inr f))))) ∧ h.2.2 a = some (.inl (t, n1, .inr (.inr (.inr (.inr g))))) ∧ E 0 ≤ a ∧ ¬ sp < 0 ∧ ¬ dp < 0 ∧ ¬ n < 0 ∧ sp.toNatClampNeg + n.toNatClampNeg ≤ n0 ∧ dp.toNatClampNeg + n.toNatClampNeg ≤ n1 ∧ (∀ i, i < n.toNatClampNeg → zOkR h tg (f (sp.toNatClampNeg + i)) = true) ∧ K (h.1, h.2.1, zUp h.2.2 a (.inl (t, n1, .inr (.inr (.inr (.inr (va_cpy f g sp.toNatClampNeg dp.toNatClampNeg n.toNatClampNeg))))))) = some o := by
  unfold zCpR at em
  split at em
  · rename_i a0 a
    split at em
    · rename_i t0 n0 f t1 n1 g ha0 ha
      split at em
      · rename_i hc
        obtain ⟨rfl, rfl, h1, h2, h3, h4, h5, h6, h7⟩ := hc
        exact ⟨a0, a, n0, n1, f, g, rfl, rfl, ha0, ha, h1, h2, h3, h4, h5, h6, h7, em⟩
      · cases em
    · cases em
  · cases em
section ZCPR
variable {p : Program} {l : Launch} {e : Env} {R : Room} {s : State} {m : MethodId} {args : Array Value} {below : List Frame} {meth : Method} {c : Code} {E : zE} {D : va_G} {tA : Nat → ClassId} {cc : ByteArray} {nL k0 fr : Nat} {own : String}
variable {M : zM} {lv lv' : List (Nat × zV)} {pc : Nat} {st : List zV}
theorem z_cpyR (x : zCx p l R s m args meth c E D tA cc nL own fr) {index : Nat} {t tg : Nat} {ty : FieldType} {C : String} (hty : ty = .object C) (htg : zTg tg = C) (ht : zTY[t]? = some ty) (hlink : Cond.methodLink own index arraycopyName ∈ lw_all) (hnat : Cond.native arraycopyName ∈ lw_all) (hstat : Cond.static arraycopyName ∈ lw_all) (hini : Cond.initialized "java/lang/System" ∈ lw_all) (hfr : 1 ≤ fr) (hst : (st.map zCat).sum + 30 ≤ 64 * fr)
    {src dst : Option Nat} {sp dp n : Int32} (hd : decode cc pc = .ok (.invokestatic index, 3)) (kk : zW p l e R s m args below meth c E D tA nL k0 M lv (pc + 3) st) : zW p l e R s m args below meth c E D tA nL k0 (zCpR E t tg src sp dst dp n M) lv pc (zI n :: zI dp :: zP dst :: zI sp :: zP src :: st) := by
  intro h out h' em
  obtain ⟨a0, a, n0, n1, f, g, rfl, rfl, ha0, ha, hE, h1, h2, h3, h4, h5, hel, ek⟩ := zCpR_inv em
  refine ⟨(kk _ out h' ek).1, fun a1 a2 a3 a4 H locs ls r1 r2 r3 => ?_⟩
  have nn : ∀ z : Int32, ¬ z < 0 → z.toInt = (z.toNatClampNeg : Int) := by
    intro z hz
    have hz0 : (0 : Int) ≤ z.toInt := by
      have := Int32.not_lt.mp hz
      simpa using Int32.le_iff_toInt_le.mp this
    show z.toInt = ((z.toInt.toNat : Nat) : Int)
    omega
  subst hty
  have hts := x.2.2.2.2.1
  have hK := x.2.2.2.2.2.1
  intro T hT X
  obtain ⟨cs, hc0, w2, w3, w4, w5, -⟩ := r1.2 a0 _ ha0
  have hc1 : H[a]? = some (vp_cell (tA t) (n1, .inr (.inr (.inr (.inr g))))) := zRep_arr r1 ha hE 0 _ rfl
  obtain ⟨-, k9, hk0, cm0, hkk0⟩ := (hK.2 t _ (zTys_at ht)).1 n0 (fun j => va_rf (f j))
  obtain ⟨vm', X', step⟩ := X.arraycopy x.1 x.2.2.2.1 (hts _ hlink) (hts _ hnat) (hts _ hstat) (hts _ hini) (src := a0) (dst := a) (cs := cs) (cd := vp_cell (tA t) (n1, .inr (.inr (.inr (.inr g))))) (srcPos := sp) (destPos := dp) (n := n) (by rw [hT]; exact hc0) (by rw [hT]; exact hc1)
    w5 (fun _ h => by cases h) w4 (fun h => by cases h) (by rw [w2]; exact hk0) hk0 hkk0 hkk0 rfl h1 h2 h3
    (by rw [nn sp h1, nn n h3]; rw [w3]; show ¬ _ > ((arrV (tA t) n0 (fun j => va_rf (f j))).slots.size : Int); rw [arrV_size]; omega)
    (by rw [nn dp h2, nn n h3]; show ¬ _ > ((arrV (tA t) n1 (fun j => va_rf (g j))).slots.size : Int); rw [arrV_size]; omega)
    (fun vm₁ hal i hi => by
      have e : cs.slots.getD (sp.toNatClampNeg + i) .null = va_rf (f (sp.toNatClampNeg + i)) := by
        rw [w3]
        show (arrV (tA t) n0 (fun j => va_rf (f j))).slots.getD _ _ = _
        rw [Array.getD_eq_getD_getElem?, arrV_read _ _ (by omega)]
        rfl
      rw [e]
      cases hy : f (sp.toNatClampNeg + i) with
      | none => exact ⟨rfl, trivial⟩
      | some y =>
        have hok := hel i hi
        rw [hy] at hok
        have hany := zOkR_any x r1 hok
        rw [htg] at hany
        obtain ⟨cellV, g1, g2, ⟨kC, hkC⟩, hasg⟩ := hany
        obtain ⟨kA, comp, r1, r2, r3, -⟩ := (hK.2 t _ (zTys_at ht)).2
        cases hk0.symm.trans r1
        cases hkk0.symm.trans r2
        obtain ⟨kE, hkE, -⟩ := Vm.findClass_spec r3
        obtain ⟨kC', hkC', -⟩ := hal.2.2 _ _ hkC
        obtain ⟨kE', hkE', -⟩ := hal.2.2 _ _ hkE
        refine ⟨rfl, cellV, (show T.heap[y]? = some cellV by rw [hT]; exact g1), (fun q h => by rw [h] at g2; cases g2), ⟨kC', hkC'⟩, ?_, ?_⟩
        · exact ⟨kE', hkE'⟩
        · show vm₁.assignable _ _ = true
          rw [hal.assignable]
          exact hasg _ r3)
    (g := F0 m pc ls (.int n :: .int dp :: .ref a :: .int sp :: .ref a0 :: zStk st)) rfl (r3.1.trans x.2.2.1.symm) (rest := zStk st) rfl (by rw [x.2.1]; exact hd) (by rw [x.2.2.2.2.2.2.2.2.2.2.1]; exact hfr) (by rw [zStk_cat, x.2.2.2.2.2.2.2.2.2.2.2.1]; have hw : nativeFrameWords "java/lang/System" "arraycopy" 5 ≤ 19 := (by decide); show 2 * 0 + _ + _ ≤ _; omega)
  have e1 : copied cs (vp_cell (tA t) (n1, .inr (.inr (.inr (.inr g))))) sp dp n = vp_cell (tA t) (n1, .inr (.inr (.inr (.inr (va_cpy f g sp.toNatClampNeg dp.toNatClampNeg n.toNatClampNeg))))) := by
    rw [zcopied w3, vp_cell_q, vp_cell_q, vp_cell_q]
    exact va_copied (fun z => va_rf (z)) (tA t) (tA t) f g h4
  rw [e1] at X' step
  have hl : a < H.size := (Array.getElem?_eq_some_iff.mp hc1).1
  have oq : ∀ q : Nat, q ≠ a → (H.setIfInBounds a (vp_cell (tA t) (n1, .inr (.inr (.inr (.inr (va_cpy f g sp.toNatClampNeg dp.toNatClampNeg n.toNatClampNeg)))))))[q]? = H[q]? := fun q hq => by simp [Array.getElem?_setIfInBounds, Ne.symm hq]
  have hrep := zRep_put (H1 := H.setIfInBounds a (vp_cell (tA t) (n1, .inr (.inr (.inr (.inr (va_cpy f g sp.toNatClampNeg dp.toNatClampNeg n.toNatClampNeg))))))) r1 (by simp) (o := .inl (t, n1, .inr (.inr (.inr (.inr (va_cpy f g sp.toNatClampNeg dp.toNatClampNeg n.toNatClampNeg)))))) (zAt_arr <| show (H.setIfInBounds a _)[a]? = some _ by simp [Array.getElem?_setIfInBounds, hl]) oq
  obtain ⟨t9, a9, b9⟩ := (kk _ out h' ek).2 a1 a2 a3 a4 _ _ ls hrep ⟨by simp; exact r2.1, fun q g1 g2 => by
      rw [oq q (fun e => g2 (by rw [e]; exact hE))]
      exact r2.2.1 q g1 g2, fun q hq => by
      rcases List.mem_append.mp hq with h | h
      · exact r2.2.2 q h
      · obtain ⟨z, -, hz⟩ := List.mem_map.mp h
        rw [← hz]
        exact hE⟩ r3 _ (by show ((T.setVm vm').setCell a _).heap = _; rw [← hT]; rfl) X'
  exact ⟨t9, step _ a9, b9⟩
end ZCPR
