/-! ===== rows: exceptions of the library made ===== -/
section ZSZ
variable {p : Program} {l : Launch} {e : Env} {R : Room} {s : State} {m : MethodId} {args : Array Value} {below : List Frame} {meth : Method} {c : Code} {E : zE} {D : va_G} {tA : Nat → ClassId} {cc : ByteArray} {nL k0 fr : Nat} {own : String}
variable {M : zM} {lv lv' : List (Nat × zV)} {pc : Nat} {st : List zV}
theorem z_exc (x : zCx p l R s m args meth c E D tA cc nL own fr) {cls : String} (names : List String) {ik ic ci : Nat} {T0 : u_T} (hci : 2 < ci) (hcls : Bundle.fit cls = true) (hnames : ∀ n ∈ names, Bundle.fit n = true)
    (hk : Cond.classLink own ik cls ∈ lw_all) (hini : Cond.initialized cls ∈ lw_all) (hat : ∀ w ∈ vx_at0 own ic cls names, w.before args s = true) (hgood : ∀ w ∈ Cond.classLink own ik cls :: Cond.initialized cls :: vx_at0 own ic cls names, vx_ot w = true)
    (hc : zCL[ci]? = some (cls, T0, 0)) (hRf : names.length + 3 < fr) (hRl : (st.map zCat).sum + (13 * (names.length + 1) + 42) ≤ 64 * fr)
    (d0 : decode cc pc = .ok (.new ik, 3)) (d3 : decode cc (pc + 3) = .ok (.dup, 1)) (d4 : decode cc (pc + 4) = .ok (.invokespecial ic, 3)) {K : Option Nat → zM}
    (kk : ∀ v, zW p l e R s m args below meth c E D tA nL k0 (K v) lv (pc + 7) (zP v :: st)) : zW p l e R s m args below meth c E D tA nL k0 (zNew ci 6 [] K) lv pc st := by
  intro h out h' em
  have em : K (some h.1) (h.1 + 1, h.2.1 + 6, zUp h.2.2 h.1 (.inr (ci, []))) = some (out, h') := em
  obtain ⟨hle, hw⟩ := kk _ _ out h' em
  refine ⟨⟨Nat.le_trans (Nat.le_succ _) hle.1, Nat.le_trans (Nat.le_add_right _ _) hle.2⟩, fun a1 a2 a3 a4 H locs ls r1 r2 r3 => ?_⟩
  have hK := x.2.2.2.2.2.1
  have hts := x.2.2.2.2.1
  have l1 : h.1 + 1 ≤ h'.1 := hle.1
  have l2 : h.2.1 + 6 ≤ h'.2.1 := hle.2
  have hexec := x.1
  have hb := x.2.1
  have hown := x.2.2.2.1
  have hU := x.2.2.2.2.2.2.1.2.2.2.2.2.1
  have hN := x.2.2.2.2.2.2.1.2.2.2.2.2.2.1
  have hl := x.2.2.2.2.2.2.2.2.2.2.2.2
  have hfr := x.2.2.2.2.2.2.2.2.2.2.1
  have hlo := x.2.2.2.2.2.2.2.2.2.2.2.1
  have hRcells : h.1 - s.heap.size + 1 ≤ R.cells := by rw [a3]; omega
  have hRslots : h.2.1 - k0 + 6 ≤ R.slots := by rw [a4]; omega
  have hS := r2
  have hsize : ls.size = c.maxLocals := r3.1.trans x.2.2.1.symm
  intro T hT X
  subst hT
  have htr : e.platform.stackTraces = false := (show e.platform.stackTraces = l.stackTraces by rw [X.admits.platform]).trans hl
  have Y := vx_rebase X (R' := { frames := R.frames, locals := R.locals, cells := 1, slots := 6 }) (Nat.le_refl _) (Nat.le_refl _) hRcells hRslots
  obtain ⟨s', hA'⟩ : ∃ z, z = (T.setVm s.vm).setFrames (.invoking m args :: below) := ⟨_, rfl⟩
  rw [← hA'] at Y
  have hvm : s'.vm = s.vm := by rw [hA']; rfl
  have hhp : s'.heap = T.heap := by rw [hA']; rfl
  have hW0 : s.WarmedH s'.vm := by rw [hvm]; exact State.WarmedH.refl s
  have hat' : ∀ w ∈ vx_at0 own ic cls names, w.before args s' = true := fun w hw => vx_ot_at hW0 hvm.symm (hgood w (List.mem_cons_of_mem _ (List.mem_cons_of_mem _ hw))) (hat w hw)
  have hk' : (Cond.classLink own ik cls).before args s' = true := vx_ot_at hW0 hvm.symm (hgood _ List.mem_cons_self) (hts _ hk)
  have hini' : (Cond.initialized cls).before args s' = true := vx_ot_at hW0 hvm.symm (hgood _ (List.mem_cons_of_mem _ List.mem_cons_self)) (hts _ hini)
  have hU' : vx_Zq Bundle.tN "UNASSIGNED_STACK" Bundle.steD (zA E) s' s'.heap := by rw [hhp]; exact vx_Zq.moved hW0.alike (hU.kept hS.2.1)
  have hN' : vx_Zq Bundle.tN "SUPPRESSED_SENTINEL" Bundle.listD (zA E) s' s'.heap := by rw [hhp]; exact vx_Zq.moved hW0.alike (hN.kept hS.2.1)
  have hh0 : ∀ w ∈ Bundle.ownAtoms0 own ic cls names, w.before args s' = true := vx_own hat' (vx_isRefq hU'.1) (vx_isRefq hN'.1) hU'.2.word hN'.2.word
  have hown' : s'.vm.findClass own = some m.cls := by rw [hvm]; exact hown
  have hins : (Cond.instantiable cls 6).before args s' = true := hh0 _ (by simp [Bundle.ownAtoms0])
  obtain ⟨vm₁, cX, kX, hfX, hkX, -, -, X₁, st1⟩ := Y.newCold hexec (own := own) (C := cls) (index := ik) (n := 6) hown' hk' hins hini'
    (g := F0 m pc ls (zStk st)) rfl (by rw [hb]; exact d0) (Nat.le_refl _) (Nat.le_refl _)
  generalize hT1 : (T.setVm vm₁).pushCell { cls := cX, slots := kX.instanceTypes.map defaultValue, vm := .none } = T1 at X₁ st1
  have hcat : (Value.ref T.heap.size).category = 1 := rfl
  have hcellA : T1.heap[T.heap.size]? = some (freshCell cX kX) := by rw [← hT1]; exact State.heap_pushCell_size _ _
  have d3' : decode c.code (pc + 3) = .ok (.dup, 1) := by rw [hb]; exact d3
  obtain ⟨V, ce, L, Z, hL, hlt, hcl9, hvm9, stp⟩ := vx_ctorMade0 X₁ hexec htr (own := own) (cls := cls) (names := names) (ic := ic) hown' hcls hnames hh0 (fun x hx => nomatch hx) hfX hkX hcellA (by rw [hhp]; exact Nat.le_refl _)
    (g := { method := m, pc := pc + 4, locals := ls, stack := .ref T.heap.size :: .ref T.heap.size :: zStk st, locked := none }) rfl hsize (rest := zStk st) rfl
    (by rw [hb]; exact d4) (by rw [hfr]; exact hRf) (by simp only [List.map_cons, List.sum_cons, hcat]; rw [zStk_cat, hlo]; show 2 * 0 + _ + _ ≤ _; omega)
  have Z0 := Stand.forget (locs := []) Z (fun y hy => by rw [hL y hy, hhp]; exact Nat.le_refl _)
  obtain ⟨f1, f2⟩ := vx_frame Z0.same
  have f3 : (V.setCell T.heap.size ce).heap.size ≤ s'.heap.size + 1 := Z0.same.2.2.1
  rw [hhp] at f1 f2 f3
  have hcid : ce.cls = D.1 ci := by
    rw [hcl9]
    have h1 := (hK.1 ci _ hc).2.1
    rw [hvm] at hfX
    exact Option.some.inj (hfX.symm.trans h1)
  have hh : (V.setCell T.heap.size ce).heap[T.heap.size]? = some ce := heapAt_setCell_self (s := V) ce hlt
  subst hA'
  have X5 := vx_back9 X Y Z0
  have X6 : Stand p l e R s m args below meth c (V.setCell T.heap.size ce) locs (h.1 - s.heap.size + 1) (h.2.1 - k0 + 6) := { X5 with same := X5.same.mono (by omega) (by omega) }
  have hz1 : (V.setCell T.heap.size ce).heap.size = T.heap.size + 1 := by
    have hlt2 := (Array.getElem?_eq_some_iff.mp hh).1
    exact Nat.le_antisymm f3 hlt2
  have ho : ∀ q : Nat, q < T.heap.size → (V.setCell T.heap.size ce).heap[q]? = T.heap[q]? := fun q hq => f2 q hq (fun z hz => nomatch hz)
  have hrep : zRep E D tA (h.1 + 1, h.2.1 + 6, zUp h.2.2 h.1 (.inr (ci, []))) (V.setCell T.heap.size ce).heap := by
    refine zRep_push _ r1 hz1 ?_ ho
    rw [← r1.1]
    exact zAt_ob ⟨_, hc, ce, hh, hcid, hvm9, fun k hk => absurd hk (Nat.not_lt_zero k)⟩ (fun h2 => absurd h2 (Nat.not_le.mpr hci))
  have hq := hw (Nat.le_trans a1 (Nat.le_succ _)) (Nat.le_trans a2 (Nat.le_add_right _ _)) a3 a4 _ locs ls hrep (zS_push r2 hz1 ho) r3
  have c1 : h.1 + 1 - s.heap.size = h.1 - s.heap.size + 1 := by omega
  have c2 : h.2.1 + 6 - k0 = h.2.1 - k0 + 6 := by omega
  have hq : W p l e R s m args below meth c (V.setCell T.heap.size ce).heap locs (h.1 + 1 - s.heap.size) (h.2.1 + 6 - k0) _ (F0 m (pc + 7) ls (.ref h.1 :: zStk st)) := hq
  rw [c1, c2] at hq
  obtain ⟨t, a5, b5⟩ := hq _ rfl X6
  refine ⟨t, st1 _ ?_, b5⟩
  show Steps p.tables e below (T1.setTop { method := m, pc := pc + 3, locals := ls, stack := .ref T.heap.size :: zStk st, locked := none }) _
  jvm_step X₁.here [X₁.here.top, hexec, d3', Value.category]
  rw [← r1.1] at a5
  exact stp _ a5
end ZSZ
