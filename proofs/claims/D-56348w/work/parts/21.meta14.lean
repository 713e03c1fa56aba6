/-! ===== an array's copy by clone() ===== -/
theorem zCln_inv {t : Nat} {x : Option Nat} {K : Option Nat → zM} {h : zH} {o : zR × zH} (e : zCln t x K h = some o) : ∃ b n f, x = some b ∧ h.2.2 b = some (.inl (t, n, .inl f)) ∧ (∀ i, i < n → fits (zTY.getD t .int) (.int (f i)) = true) ∧ K (some h.1) (h.1 + 1, h.2.1 + n, zUp h.2.2 h.1 (.inl (t, n, .inl f))) = some o := by
  unfold zCln at e
  split at e
  · cases e
  · rename_i b
    split at e
    · rename_i t' n f hb
      split at e
      · rename_i hc
        obtain ⟨rfl, h1⟩ := hc
        exact ⟨b, n, f, rfl, hb, h1, e⟩
      · cases e
    · cases e
section ZCLN
variable {p : Program} {l : Launch} {e : Env} {R : Room} {s : State} {m : MethodId} {args : Array Value} {below : List Frame} {meth : Method} {c : Code} {E : zE} {D : va_G} {tA : Nat → ClassId} {cc : ByteArray} {nL k0 fr : Nat} {own : String}
variable {M : zM} {lv lv' : List (Nat × zV)} {pc : Nat} {st : List zV}
theorem z_cln (x : zCx p l R s m args meth c E D tA cc nL own fr) {ad : String} {t index : Nat} {ty : FieldType} (ht : zTY[t]? = some ty) (hnm : ∀ cA, va_RA s cA ty → s.vm.findClass ad = some cA) (hlink : Cond.methodLink own index ⟨ad, "clone", "()Ljava/lang/Object;"⟩ ∈ lw_all) (hsame : Cond.sameMethod ad "java/lang/Object" "clone" "()Ljava/lang/Object;" ∈ lw_all)
    (hnat : Cond.native ⟨"java/lang/Object", "clone", "()Ljava/lang/Object;"⟩ ∈ lw_all) (hinst : Cond.instanceMethod ⟨"java/lang/Object", "clone", "()Ljava/lang/Object;"⟩ ∈ lw_all) (hsel : Cond.selects ad ⟨ad, "clone", "()Ljava/lang/Object;"⟩ ⟨"java/lang/Object", "clone", "()Ljava/lang/Object;"⟩ ∈ lw_all) (hcl : Cond.castable ad "java/lang/Cloneable" ∈ lw_tbl)
    (hfr : 1 ≤ fr) (hst : (st.map zCat).sum + 14 ≤ 64 * fr) {v : Option Nat} {K : Option Nat → zM} (hd : decode cc pc = .ok (.invokevirtual index, 3)) (kk : ∀ y, zW p l e R s m args below meth c E D tA nL k0 (K y) lv (pc + 3) (zP y :: st)) : zW p l e R s m args below meth c E D tA nL k0 (zCln t v K) lv pc (zP v :: st) := by
  intro h out h' em
  obtain ⟨a, n, f, rfl, ha, hfit0, ek⟩ := zCln_inv em
  obtain ⟨hle, hw⟩ := kk _ _ out h' ek
  refine ⟨⟨Nat.le_trans (Nat.le_succ _) hle.1, Nat.le_trans (Nat.le_add_right _ _) hle.2⟩, fun a1 a2 a3 a4 H locs ls r1 r2 r3 => ?_⟩
  have hts := x.2.2.2.2.1
  have hK := x.2.2.2.2.2.1
  have l1 : h.1 + 1 ≤ h'.1 := hle.1
  have l2 : h.2.1 + n ≤ h'.2.1 := hle.2
  have hzl : (zTY.getD t .int) = ty := by rw [List.getD_eq_getElem?_getD, ht]; rfl
  rw [hzl] at hfit0
  have hnm := hnm _ ((hK.2 t _ (zTys_at ht)).2)
  have hfit : ∀ (i : Nat) (v : Value), (vp_cell (tA t) (n, .inl f)).slots[i]? = some v → fits ty v = true := va_fit (F := fun j => .int (f j)) hfit0
  obtain ⟨c0, t0', f1, f2, f3⟩ := Cond.castable_spec (zNw.use (args := args) x.2.2.2.2.2.2.2.1 hcl rfl)
  cases hnm.symm.trans f1
  intro T hT X
  obtain ⟨cell, q1, w2, w3, w4, w5, -⟩ := r1.2 a _ ha
  have hcellT : T.heap[a]? = some cell := by rw [hT]; exact q1
  obtain ⟨-, kA, hkA, comp, hkind⟩ := State.isArrayOf_alike X.warmed.alike ((hK.2 t _ (zTys_at ht)).1 0 (fun _ => .null))
  obtain ⟨-, kS, hkS, compS, hkindS⟩ := (hK.2 t _ (zTys_at ht)).1 0 (fun _ => .null)
  have hsz : cell.slots.size = n := by rw [w3]; exact arrV_size _ _ _
  obtain ⟨vm', X', stp⟩ := X.cloneArray x.1 x.2.2.2.1 (hts _ hlink) (hts _ hsame) (hts _ hnat) (hts _ hinst) (hts _ hsel) (a := a) (cell := cell) hcellT w5 w4 (by rw [w2]; exact hnm) f2 (by rw [w2]; exact f3)
    (fun i v hv => by
      rw [w3] at hv
      show T.fitsSlot cell.cls .none i v = true
      rw [w2]
      have hk' : T.vm.classes[tA t]? = some kA := hkA
      simpa [State.fitsSlot, State.slotType?, hk', hkind] using hfit i v hv)
    (g := F0 m pc ls (.ref a :: zStk st)) rfl (r3.1.trans x.2.2.1.symm) rfl (by rw [x.2.1]; exact hd) (by rw [x.2.2.2.2.2.2.2.2.2.2.1]; exact hfr) (by rw [zStk_cat, x.2.2.2.2.2.2.2.2.2.2.2.1]; show 2 * 0 + _ + 14 ≤ _; omega) (by rw [a3]; omega) (by rw [hsz, a4]; omega) (hloader := by rw [w2]; exact Vm.clonesLoader_of_array hkS hkindS)
  have hcellE : ({ cls := cell.cls, slots := cell.slots } : Cell) = vp_cell (tA t) (n, .inl f) := by rw [w2, w3]; rfl
  rw [hcellE, hsz] at X'
  generalize hH1 : H.push (vp_cell (tA t) (n, .inl f)) = H1
  have z1 : H1.size = H.size + 1 := by rw [← hH1, Array.size_push]
  have e1 : H1[H.size]? = some (vp_cell (tA t) (n, .inl f)) := by rw [← hH1, Array.getElem?_push_size]
  have o1 : ∀ q : Nat, q < H.size → H1[q]? = H[q]? := fun q hq => by rw [← hH1, Array.getElem?_push, if_neg (Nat.ne_of_lt hq)]
  have hrep := zRep_push (h.2.1 + n) r1 z1 (o := .inl (t, n, .inl f)) (zAt_arr (by rw [← r1.1]; exact e1)) o1
  have hq := hw (Nat.le_trans a1 (Nat.le_succ _)) (Nat.le_trans a2 (Nat.le_add_right _ _)) a3 a4 H1 locs ls hrep (zS_push r2 z1 o1) r3
  have c1 : h.1 + 1 - s.heap.size = h.1 - s.heap.size + 1 := by omega
  have c2 : h.2.1 + n - k0 = h.2.1 - k0 + n := by omega
  have hq : W p l e R s m args below meth c H1 locs (h.1 + 1 - s.heap.size) (h.2.1 + n - k0) _ (F0 m (pc + 3) ls (.ref h.1 :: zStk st)) := hq
  rw [c1, c2] at hq
  obtain ⟨t9, b1, b2⟩ := hq ((T.setVm vm').pushCell (vp_cell (tA t) (n, .inl f))) (by rw [← hH1, ← hT]; rfl) X'
  refine ⟨t9, stp t9 ?_, b2⟩
  rw [hcellE, hT, r1.1]
  exact b1
end ZCLN
