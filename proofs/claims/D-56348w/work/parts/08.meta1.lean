/-! ===== z: abstract heaps, semantic terms, the judgement zW, one row an instruction ===== -/
/-- a cell: an array (its type by number in zTY, its contents) or an object (its class by number in zCL, its fields) -/
abbrev zO : Type := (Nat × vp_A) ⊕ (Nat × List Value)
/-- a heap: how many cells, how many slots were taken so far, what is known of the cells -/
abbrev zH : Type := Nat × Nat × (Nat → Option zO)
/-- a method's end: it returned, or threw -/
abbrev zR : Type := Option Value ⊕ Nat
abbrev zM : Type := zH → Option (zR × zH)
/-- where the constants lie: 0: the first cell that may be written -/
abbrev zE : Type := Nat → Nat
abbrev zV : Type := Int32 ⊕ (Option Nat ⊕ (Int64 ⊕ (UInt32 ⊕ UInt64)))
abbrev zI (x : Int32) : zV := .inl x
abbrev zP (r : Option Nat) : zV := .inr (.inl r)
abbrev zL (x : Int64) : zV := .inr (.inr (.inl x))
abbrev zF (x : UInt32) : zV := .inr (.inr (.inr (.inl x)))
abbrev zD (x : UInt64) : zV := .inr (.inr (.inr (.inr x)))
def zVal : zV → Value
  | .inl x => .int x
  | .inr (.inl r) => va_rf r
  | .inr (.inr (.inl x)) => .long x
  | .inr (.inr (.inr (.inl x))) => .float x
  | .inr (.inr (.inr (.inr x))) => .double x
def zCat : zV → Nat
  | .inl _ => 1
  | .inr (.inl _) => 1
  | .inr (.inr (.inl _)) => 2
  | .inr (.inr (.inr (.inl _))) => 1
  | .inr (.inr (.inr (.inr _))) => 2
theorem zCat_eq (v : zV) : (zVal v).category = zCat v := by
  rcases v with x | r | x | x | x
  · rfl
  · cases r <;> rfl
  · rfl
  · rfl
  · rfl
def zLoc (lv : List (Nat × zV)) : List (Nat × Value) := lv.map fun q => (q.1, zVal q.2)
def zStk (st : List zV) : List Value := st.map zVal
theorem zLoc_at {lv : List (Nat × zV)} {k i : Nat} {v : zV} (h : lv[k]? = some (i, v)) : (zLoc lv)[k]? = some (i, zVal v) := by
  rw [zLoc, List.getElem?_map, h]; rfl
/-- locals behind a store -/
def zPut (lv : List (Nat × zV)) (i : Nat) (v : zV) : List (Nat × zV) := (i, v) :: lv.filter fun q => !(q.1 == i) && !(q.1 + 1 == i && zCat q.2 == 2)
def zPut2 (lv : List (Nat × zV)) (i : Nat) (v : zV) : List (Nat × zV) := (i, v) :: lv.filter fun q => !(q.1 == i) && (!(q.1 == i + 1) && !(q.1 + 1 == i && zCat q.2 == 2))
theorem zLoc_put (lv : List (Nat × zV)) (i : Nat) (v : zV) : (i, zVal v) :: (zLoc lv).filter (fun q => !(q.1 == i) && !(q.1 + 1 == i && q.2.category == 2)) = zLoc (zPut lv i v) := by
  unfold zPut zLoc
  rw [List.map_cons, List.filter_map]
  have hf : ((fun q : Nat × Value => !(q.1 == i) && !(q.1 + 1 == i && q.2.category == 2)) ∘ fun q : Nat × zV => (q.1, zVal q.2)) = fun q : Nat × zV => !(q.1 == i) && !(q.1 + 1 == i && zCat q.2 == 2) := by
    funext q
    simp only [Function.comp]
    rw [zCat_eq]
  rw [hf]
theorem zLoc_put2 (lv : List (Nat × zV)) (i : Nat) (v : zV) : (i, zVal v) :: (zLoc lv).filter (fun q => !(q.1 == i) && (!(q.1 == i + 1) && !(q.1 + 1 == i && q.2.category == 2))) = zLoc (zPut2 lv i v) := by
  unfold zPut2 zLoc
  rw [List.map_cons, List.filter_map]
  have hf : ((fun q : Nat × Value => !(q.1 == i) && (!(q.1 == i + 1) && !(q.1 + 1 == i && q.2.category == 2))) ∘ fun q : Nat × zV => (q.1, zVal q.2)) = fun q : Nat × zV => !(q.1 == i) && (!(q.1 == i + 1) && !(q.1 + 1 == i && zCat q.2 == 2)) := by
    funext q
    simp only [Function.comp]
    rw [zCat_eq]
  rw [hf]
def zPick (lv : List (Nat × zV)) (ks : List Nat) : List (Nat × zV) := ks.filterMap fun k => lv[k]?
theorem zLoc_pick (lv : List (Nat × zV)) (ks : List Nat) : lv_pick (zLoc lv) ks = zLoc (zPick lv ks) := by
  unfold lv_pick zPick zLoc
  rw [List.map_filterMap]
  congr 1
  funext k
  rw [List.getElem?_map]
def zArgs : Nat → List zV → List (Nat × zV)
  | _, [] => []
  | i, v :: vs => (i, v) :: zArgs (if zCat v = 2 then i + 2 else i + 1) vs
theorem zLoc_args : ∀ (vs : List zV) (i : Nat), lv_args i (zStk vs) = zLoc (zArgs i vs) := by
  intro vs
  induction vs with
  | nil => intro i; rfl
  | cons v vs ih =>
    intro i
    show (i, zVal v) :: lv_args _ (zStk vs) = (i, zVal v) :: zLoc (zArgs _ vs)
    rw [zCat_eq, ih]
theorem zStk_cat (st : List zV) : ((zStk st).map fun v => v.category).sum = (st.map zCat).sum := by
  unfold zStk
  rw [List.map_map]
  congr 1
  apply List.map_congr_left
  intro v _
  exact zCat_eq v
/-- how many slots an exception of the program's own has -/
def zSz : Nat → Nat
  | 1 => 7
  | 2 => 8
  | _ => 0
/-- a cell of the heap is what the picture says: the program's own cells to the last bit, constants as far as the precondition tells -/
def zAt (E : zE) (D : va_G) (tA : Nat → ClassId) (H : Heap) (a : Nat) (o : zO) : Prop := match o with
  | .inl (t, x) => ∃ cell : Cell, H[a]? = some cell ∧ cell.cls = tA t ∧ cell.slots = (vp_cell (tA t) x).slots ∧ cell.vm ≠ .unknown ∧ (∀ k, cell.vm ≠ .statics k) ∧ (E 0 ≤ a → cell = vp_cell (tA t) x)
  | .inr (c, fs) => ∃ (C : vw_C) (cell : Cell), zCL[c]? = some C ∧ H[a]? = some cell ∧ cell.cls = D.1 c ∧ cell.vm ≠ .unknown ∧ cell.vm.isStatics = false ∧ (E 0 ≤ a ∨ c ≤ 8 → cell.vm = .none) ∧ (∀ k, k < C.2.2 → cell.slots[D.2 c k]? = some (vp_V fs k)) ∧ (c ≤ 2 → cell.monitor.owner = none ∧ cell.monitor.count = 0 ∧ zSz c ≤ cell.slots.size)
def zRep (E : zE) (D : va_G) (tA : Nat → ClassId) (h : zH) (H : Heap) : Prop := H.size = h.1 ∧ ∀ a o, h.2.2 a = some o → zAt E D tA H a o
def zUp (f : Nat → Option zO) (a : Nat) (o : zO) : Nat → Option zO := fun q => if q = a then some o else f q
theorem zUp_self (f : Nat → Option zO) (a : Nat) (o : zO) : zUp f a o a = some o := if_pos rfl
theorem zUp_ne (f : Nat → Option zO) {a q : Nat} (o : zO) (h : q ≠ a) : zUp f a o q = f q := if_neg h
theorem zAt_kept {E : zE} {D : va_G} {tA : Nat → ClassId} {H H1 : Heap} {a : Nat} {o : zO} (h : zAt E D tA H a o) (hq : H1[a]? = H[a]?) : zAt E D tA H1 a o := by
  rcases o with ⟨t, x⟩ | ⟨c, fs⟩
  · obtain ⟨cell, h1, h2⟩ := h
    exact ⟨cell, hq.trans h1, h2⟩
  · obtain ⟨C, cell, h0, h1, h2⟩ := h
    exact ⟨C, cell, h0, hq.trans h1, h2⟩
theorem zAt_lt {E : zE} {D : va_G} {tA : Nat → ClassId} {H : Heap} {a : Nat} {o : zO} (h : zAt E D tA H a o) : a < H.size := by
  rcases o with ⟨t, x⟩ | ⟨c, fs⟩
  · obtain ⟨cell, h1, h2⟩ := h
    exact (Array.getElem?_eq_some_iff.mp h1).1
  · obtain ⟨C, cell, h0, h1, h2⟩ := h
    exact (Array.getElem?_eq_some_iff.mp h1).1
theorem zvp_cls (cA : ClassId) (x : vp_A) : (vp_cell cA x).cls = cA := by
  obtain ⟨n, f | f | f | f | f⟩ := x <;> rfl
theorem zvp_vm (cA : ClassId) (x : vp_A) : (vp_cell cA x).vm = .none := by
  obtain ⟨n, f | f | f | f | f⟩ := x <;> rfl
theorem zAt_arr {E : zE} {D : va_G} {tA : Nat → ClassId} {H : Heap} {a t : Nat} {x : vp_A} (h : H[a]? = some (vp_cell (tA t) x)) : zAt E D tA H a (.inl (t, x)) :=
  ⟨_, h, zvp_cls _ _, rfl, by rw [zvp_vm]; exact fun q => (by cases q), fun k => by rw [zvp_vm]; exact fun q => (by cases q), fun _ => rfl⟩
theorem zAt_ob {E : zE} {D : va_G} {tA : Nat → ClassId} {H : Heap} {a c : Nat} {fs : List Value} (h : va_at D zCL (a, .inr (c, fs)) H) (h2 : c ≤ 2 → ∀ ce, H[a]? = some ce → ce.monitor.owner = none ∧ ce.monitor.count = 0 ∧ zSz c ≤ ce.slots.size) : zAt E D tA H a (.inr (c, fs)) := by
  obtain ⟨C, hC, cell, q1, q2, q3, q4⟩ := h
  exact ⟨C, cell, hC, q1, q2, by rw [q3]; exact fun q => (by cases q), by rw [q3]; rfl, fun _ => q3, q4, fun hc => h2 hc cell q1⟩
theorem zRep_put {E : zE} {D : va_G} {tA : Nat → ClassId} {h : zH} {H H1 : Heap} {a : Nat} {o : zO} (hR : zRep E D tA h H) (hz : H1.size = H.size) (ho : zAt E D tA H1 a o) (hq : ∀ q : Nat, q ≠ a → H1[q]? = H[q]?) : zRep E D tA (h.1, h.2.1, zUp h.2.2 a o) H1 := by
  refine ⟨hz.trans hR.1, fun b u hb => ?_⟩
  by_cases e : b = a
  · subst e
    cases (zUp_self h.2.2 b o).symm.trans hb
    exact ho
  · exact zAt_kept (hR.2 b u ((zUp_ne h.2.2 o e).symm.trans hb)) (hq b e)
theorem zRep_push {E : zE} {D : va_G} {tA : Nat → ClassId} {h : zH} {H H1 : Heap} {o : zO} (k : Nat) (hR : zRep E D tA h H) (hz : H1.size = H.size + 1) (ho : zAt E D tA H1 h.1 o) (hq : ∀ q : Nat, q < H.size → H1[q]? = H[q]?) : zRep E D tA (h.1 + 1, k, zUp h.2.2 h.1 o) H1 := by
  refine ⟨by rw [hz, hR.1], fun b u hb => ?_⟩
  by_cases e : b = h.1
  · subst e
    cases (zUp_self h.2.2 h.1 o).symm.trans hb
    exact ho
  · have h2 := hR.2 b u ((zUp_ne h.2.2 o e).symm.trans hb)
    exact zAt_kept h2 (hq b (zAt_lt h2))
theorem zRep_one {E : zE} {D : va_G} {tA : Nat → ClassId} {h : zH} {H : Heap} {a c : Nat} {fs : List Value} (hR : zRep E D tA h H) (ha : h.2.2 a = some (.inr (c, fs))) (hE : E 0 ≤ a ∨ c ≤ 8) : va_P D zCL [(a, .inr (c, fs))] H := by
  intro k q hk
  cases k with
  | zero =>
    cases hk
    obtain ⟨C, cell, hC, q1, q2, -, -, q3, q4, -⟩ := hR.2 a _ ha
    exact ⟨C, hC, cell, q1, q2, q3 hE, q4⟩
  | succ k => cases hk
theorem zRep_arr {E : zE} {D : va_G} {tA : Nat → ClassId} {h : zH} {H : Heap} {a t : Nat} {x : vp_A} (hR : zRep E D tA h H) (ha : h.2.2 a = some (.inl (t, x))) (hE : E 0 ≤ a) : va_P D zCL [(a, .inl (tA t, x))] H := by
  intro k q hk
  cases k with
  | zero =>
    cases hk
    obtain ⟨cell, q1, -, -, -, -, q2⟩ := hR.2 a _ ha
    show H[a]? = some _
    rw [q1, q2 hE]
  | succ k => cases hk
/-- the receiver of a call -/
theorem zRep_recv {E : zE} {s : State} {D : va_G} {tA : Nat → ClassId} {h : zH} {H : Heap} {a c : Nat} {fs : List Value} {C : vw_C} {tys : List (ClassId × FieldType)} (hK : va_K D zCL tys s) (hR : zRep E D tA h H) (ha : h.2.2 a = some (.inr (c, fs))) (hC : zCL[c]? = some C) : ∃ cell : Cell, H[a]? = some cell ∧ cell.vm.isStatics = false ∧ s.vm.findClass C.1 = some cell.cls := by
  obtain ⟨C', cell, hC', q1, q2, -, q3, -⟩ := hR.2 a _ ha
  exact ⟨cell, q1, q3, by rw [q2]; exact (hK.1 c C hC).2.1⟩
theorem zNoSt {cell : Cell} (h : ∀ k, cell.vm ≠ .statics k) : cell.vm.isStatics = false := by
  cases hv : cell.vm with
  | statics k => exact absurd hv (h k)
  | _ => rfl
/-- a cell of an array type -/
theorem zArrOf {U : State} {ty : FieldType} {c0 cell : Cell} (h : U.isArrayOf c0 ty) (h1 : cell.cls = c0.cls) (h2 : ∀ k, cell.vm ≠ .statics k) : U.isArrayOf cell ty := by
  obtain ⟨-, k, hk, hx⟩ := h
  exact ⟨h2, k, by rw [h1]; exact hk, hx⟩
abbrev zTys (tA : Nat → ClassId) : List (ClassId × FieldType) := (List.range zTY.length).map fun t => (tA t, zTY.getD t .int)
theorem zTys_at {tA : Nat → ClassId} {t : Nat} {ty : FieldType} (h : zTY[t]? = some ty) : (zTys tA)[t]? = some (tA t, ty) := by
  have hl : t < zTY.length := (List.getElem?_eq_some_iff.mp h).1
  unfold zTys
  rw [List.getElem?_map, List.getElem?_range hl]
  show some (tA t, zTY.getD t .int) = _
  rw [List.getD_eq_getElem?_getD, h]; rfl
def zA (E : zE) : Nat → Prop := fun q => E 0 ≤ q
theorem zS_put {E : zE} {H0 H H1 : Heap} {locs : List Loc} {a k : Nat} (h : va_S (zA E) H0 H locs) (z : H1.size = H.size) (oq : ∀ q : Nat, q ≠ a → H1[q]? = H[q]?) (ha : E 0 ≤ a) : va_S (zA E) H0 H1 (locs ++ [⟨a, k⟩]) := h.put z oq ha
theorem zS_push {E : zE} {H0 H H1 : Heap} {locs : List Loc} (h : va_S (zA E) H0 H locs) (z : H1.size = H.size + 1) (oq : ∀ q : Nat, q < H.size → H1[q]? = H[q]?) : va_S (zA E) H0 H1 locs :=
  ⟨Nat.le_trans h.1 (by omega), fun q h1 h2 => (oq q (Nat.lt_of_lt_of_le h1 h.1)).trans (h.2.1 q h1 h2), h.2.2⟩
/-! words that are not good ones, but hold all through a run -/
def zNwK : Cond → Bool
  | .fieldLinkNest .. => true
  | .methodLinkNest .. => true
  | w => w.faceAtom
theorem zNw_on {w : Cond} (h : zNwK w = true) : w.onTables = true := by
  cases w <;> first | rfl | (simp [zNwK, Cond.faceAtom] at h)
theorem zNw_moved {w : Cond} (hk : zNwK w = true) {s U : State} (hW : s.WarmedH U.vm) (h : va_Nw w s) : va_Nw w U := by
  by_cases hf : w.faceAtom = true
  · have h1 := Cond.faceAtom_setVm (args := #[]) hW.alike w hf h
    exact va_tabs (zNw_on hk) (rfl : (s.setVm U.vm).vm = U.vm) h1
  · cases w with
    | fieldLinkNest a i b n d x => exact va_Nw.warmF hW h
    | methodLinkNest a i x y => exact va_Nw.warmM hW h
    | _ => exact absurd hk hf
/-- arrays over arrays -/
def zAO (t : FieldType) (U : State) : Prop := (Cond.arrayOver (.array t)).before #[] U = true
theorem zAO_spec {args : Array Value} {first s : State} {o : Option Outcome} {idx : List Nat} {t : FieldType} (h : (Cond.arrayOver (.array t)).holds args first o s idx = true) :
    ∃ comp c k, s.vm.findClass (FieldType.array t).toString = some comp ∧ (s.vm.classes.findIdx? fun (x : Class) => match x.kind with | .array component _ => component == comp | _ => false) = some c ∧ s.vm.classes[c]? = some k ∧ k.kind = .array comp (.array t) ∧ s.vm.findClass ("[" ++ (FieldType.array t).toString) = some c := by
  simp only [Cond.holds, Cond.value, beq_iff_eq] at h
  cases hc : s.vm.findClass (FieldType.array t).toString with
  | none => simp [hc] at h
  | some comp =>
    simp only [hc, Option.bind_some, Option.bind_eq_some_iff, Option.map_eq_some_iff] at h
    obtain ⟨c, hi, k, hk, hb⟩ := h
    obtain ⟨hlt, hp, -⟩ := Array.findIdx?_eq_some_iff_getElem.mp hi
    have hkk : s.vm.classes[c] = k := (Array.getElem?_eq_some_iff.mp hk).2
    rw [hkk] at hp
    cases hkind : k.kind with
    | array component ty =>
      rw [hkind] at hb hp
      simp at hb hp
      exact ⟨comp, c, k, rfl, hi, hk, by rw [hkind, hp, hb.1], hb.2⟩
    | _ => rw [hkind] at hb; simp at hb
theorem zAO.moved {t : FieldType} {u U : State} (hvm : u.vm.Alike U.vm) (h : zAO t u) : zAO t U := by
  obtain ⟨comp, c, k, h1, h2, h3, h4, h5⟩ := zAO_spec h
  obtain ⟨k', hk', he⟩ := hvm.2.2 _ _ h3
  have hi : (U.vm.classes.findIdx? fun (x : Class) => match x.kind with | .array component _ => component == comp | _ => false) = some c := by
    refine (va_idx_bare U.vm comp).symm.trans ?_
    first | rw [hvm.bare_eq] | rw [← hvm.bare_eq]
    exact (va_idx_bare u.vm comp).trans h2
  have hkind : k'.kind = .array comp (.array t) := by rw [he]; exact h4
  have f1 : U.vm.findClass (FieldType.array t).toString = some comp := by rw [hvm.findClass]; exact h1
  have f2 : U.vm.findClass ("[" ++ (FieldType.array t).toString) = some c := by rw [hvm.findClass]; exact h5
  unfold zAO Cond.before Cond.holds
  simp only [Cond.value]
  rw [f1, Option.bind_some]
  refine (congrArg (fun o : Option Nat => (o.bind (fun c => (U.vm.classes[c]?).map fun (k : Class) => match k.kind with | .array _ ty => decide (ty = FieldType.array t) && decide (U.vm.findClass ("[" ++ (FieldType.array t).toString) = some c) | _ => false) == some true)) hi).trans ?_
  simp [hk', hkind, f2]
/-- words of the precondition that no list of the tables holds -/
def zNx : List Cond := [.methodLink "BrambleLogic" 391 ⟨"java/util/Deque", "isEmpty", "()Z"⟩, .methodLink "BrambleLogic" 400 ⟨"java/util/Deque", "clear", "()V"⟩, .methodLink "BrambleLogic$Needs" 106 ⟨"java/util/Deque", "isEmpty", "()Z"⟩,
  .interfaceMethod "java/util/Deque" "java/util/Collection" "isEmpty" "()Z", .interfaceMethod "java/util/Deque" "java/util/Collection" "clear" "()V",
  .landsInDefault "BrambleLogic$Comparison" ⟨"BrambleLogic$Literal", "atom", "()Ljava/util/Optional;"⟩ ⟨"BrambleLogic$Literal", "atom", "()Ljava/util/Optional;"⟩, .landsInDefault "BrambleLogic$AtomLiteral" ⟨"BrambleLogic$Literal", "isNegative", "()Z"⟩ ⟨"BrambleLogic$Literal", "isNegative", "()Z"⟩,
  .landsInDefault "BrambleLogic$Comparison" ⟨"BrambleLogic$Literal", "isPositive", "()Z"⟩ ⟨"BrambleLogic$Literal", "isPositive", "()Z"⟩, .landsInDefault "BrambleLogic$Comparison" ⟨"BrambleLogic$Literal", "isNegative", "()Z"⟩ ⟨"BrambleLogic$Literal", "isNegative", "()Z"⟩]
theorem zIf_moved {s U : State} (hal : s.vm.Alike U.vm) {ref owner name desc : String} (h : va_Nw (.interfaceMethod ref owner name desc) s) : va_Nw (.interfaceMethod ref owner name desc) U := by
  have h1 : (Cond.interfaceMethod ref owner name desc).before #[] (s.setVm U.vm) = (Cond.interfaceMethod ref owner name desc).before #[] s := by
    simp only [Cond.before, Cond.holds, Cond.value, State.vm_setVm, hal.findClass, State.methodFound?_setVm hal, State.methodNamed?_setVm hal, arm_isInterface_setVm hal]
  have h2 : (Cond.interfaceMethod ref owner name desc).before #[] U = (Cond.interfaceMethod ref owner name desc).before #[] (s.setVm U.vm) := rfl
  show _ = true
  rw [h2, h1]; exact h
theorem zLd_moved {s U : State} (hal : s.vm.Alike U.vm) {C : String} {x y : MethodName} (h : va_Nw (.landsInDefault C x y) s) : va_Nw (.landsInDefault C x y) U := by
  have h1 := Cond.landsInDefault_setVm (args := #[]) (args' := #[]) (cls := C) (x := x) (y := y) hal (by rw [State.methodFound?_setVm hal])
  have h2 : (Cond.landsInDefault C x y).before #[] U = (Cond.landsInDefault C x y).before #[] (s.setVm U.vm) := rfl
  show _ = true
  rw [h2, h1]; exact h
theorem zNx_moved {w : Cond} (hw : w ∈ zNx) {s U : State} (hW : s.WarmedH U.vm) (h : va_Nw w s) : va_Nw w U := by
  simp only [zNx, List.mem_cons, List.not_mem_nil, or_false] at hw
  rcases hw with rfl | rfl | rfl | rfl | rfl | rfl | rfl | rfl | rfl
  · exact word_at hW (Or.inl rfl) h
  · exact word_at hW (Or.inl rfl) h
  · exact word_at hW (Or.inl rfl) h
  · exact zIf_moved hW.alike h
  · exact zIf_moved hW.alike h
  · exact zLd_moved hW.alike h
  · exact zLd_moved hW.alike h
  · exact zLd_moved hW.alike h
  · exact zLd_moved hW.alike h
theorem zLd_use {args : Array Value} {s : State} {C : String} {x y : MethodName} (h : va_Nw (.landsInDefault C x y) s) : (Cond.landsInDefault C x y).before args s = true := by
  have h1 := Cond.landsInDefault_setVm (args := #[]) (args' := args) (s := s) (cls := C) (x := x) (y := y) (Vm.Alike.refl s.vm) (by rw [State.methodFound?_setVm (Vm.Alike.refl s.vm)])
  have h2 : (Cond.landsInDefault C x y).before args s = (Cond.landsInDefault C x y).before args (s.setVm s.vm) := rfl
  rw [h2, h1]; exact h
theorem zNx_use {args : Array Value} {s : State} {w : Cond} (hw : w ∈ zNx) (h : va_Nw w s) : w.before args s = true := by
  simp only [zNx, List.mem_cons, List.not_mem_nil, or_false] at hw
  rcases hw with rfl | rfl | rfl | rfl | rfl | rfl | rfl | rfl | rfl
  · exact va_Nw.use rfl h
  · exact va_Nw.use rfl h
  · exact va_Nw.use rfl h
  · exact va_Nw.use rfl h
  · exact va_Nw.use rfl h
  · exact zLd_use h
  · exact zLd_use h
  · exact zLd_use h
  · exact zLd_use h
/-- all of the tables' words of that kind -/
def zNw (U : State) : Prop := (∀ w ∈ lw_tbl, zNwK w = true → va_Nw w U) ∧ ((∀ C : String, Cond.arrayOver (.object C) ∈ lw_tbl → va_AO C U) ∧ (∀ t : FieldType, Cond.arrayOver (.array t) ∈ lw_tbl → zAO t U) ∧ ∀ w ∈ zNx, va_Nw w U) ∧ ∀ q ∈ zNcT, ∀ C : vw_C, zCL[q.1]? = some C → va_Nc C.1 (zTg q.2) U
theorem zNw.moved {s U : State} (hW : s.WarmedH U.vm) (h : zNw s) : zNw U := ⟨fun w hw hk => zNw_moved hk hW (h.1 w hw hk), ⟨fun C hC => va_AO.moved hW.alike (h.2.1.1 C hC), fun t ht => zAO.moved hW.alike (h.2.1.2.1 t ht), fun w hw => zNx_moved hw hW (h.2.1.2.2 w hw)⟩, fun q hq C hC => va_Nc.moved hW.alike (h.2.2 q hq C hC)⟩
theorem zNw.useX {args : Array Value} {s : State} (h : zNw s) {w : Cond} (hw : w ∈ zNx) : w.before args s = true := zNx_use hw (h.2.1.2.2 w hw)
theorem zNw.use {args : Array Value} {s : State} (h : zNw s) {w : Cond} (hw : w ∈ lw_tbl) (hk : zNwK w = true) : w.before args s = true := va_Nw.use (zNw_on hk) (h.1 w hw hk)
/-! what the constants' part of the heap holds, and where -/
/-- a constant that may be null -/
def zOpt (E : zE) (k : Nat) : Option Nat := if E k = 0 then none else some (E k - 1)
/-- the cache of small Integers is an array over Integer -/
def zAI (E : zE) (U : State) (H : Heap) : Prop := E 3 < E 0 ∧ ∃ (c0 : Cell) (k : Class) (comp : ClassId), H[E 3]? = some c0 ∧ U.vm.classes[c0.cls]? = some k ∧ k.kind = .array comp (.object "java/lang/Integer")
theorem zAI.moved {E : zE} {s U : State} {H H1 : Heap} (hvm : s.vm.Alike U.vm) (hq : ∀ a : Nat, a < H.size → ¬ zA E a → H1[a]? = H[a]?) (h : zAI E s H) : zAI E U H1 := by
  obtain ⟨h0, c0, k, comp, h1, h2, h3⟩ := h
  obtain ⟨k', hk', he⟩ := hvm.2.2 _ _ h2
  exact ⟨h0, c0, k', comp, (hq _ (Array.getElem?_eq_some_iff.mp h1).1 (Nat.not_le.mpr h0)).trans h1, hk', by rw [he]; exact h3⟩
def zG (E : zE) (U : State) (H : Heap) : Prop :=
  (∀ q ∈ zStI, va_Z q.1 q.2.1 q.2.2.1 (.int q.2.2.2) (zA E) U H) ∧ (∀ q ∈ zStR, va_Z q.1 q.2.1 q.2.2.1 (.ref (E q.2.2.2)) (zA E) U H) ∧ (∀ q ∈ zStr, vk_R q.1 q.2.1 q.2.2.1 (E q.2.2.2) U) ∧ (∀ q ∈ zMir, va_Mi q.1 (E q.2) U) ∧ (∀ q ∈ zStQ, va_Z q.1 q.2.1 q.2.2.1 (va_rf (zOpt E q.2.2.2)) (zA E) U H) ∧
  vx_Zq Bundle.tN "UNASSIGNED_STACK" Bundle.steD (zA E) U H ∧ vx_Zq Bundle.tN "SUPPRESSED_SENTINEL" Bundle.listD (zA E) U H ∧ zAI E U H
theorem zG.moved {E : zE} {s U : State} {H H1 : Heap} (hW : s.WarmedH U.vm) (hq : ∀ a : Nat, a < H.size → ¬ zA E a → H1[a]? = H[a]?) (h : zG E s H) : zG E U H1 := by
  obtain ⟨h1, h2, h3, h4, h7, h5, h6, h8⟩ := h
  exact ⟨fun q hm => ((h1 q hm).kept hq).moved hW.alike, fun q hm => ((h2 q hm).kept hq).moved hW.alike, fun q hm => (h3 q hm).warm hW, fun q hm => (h4 q hm).moved hW.alike, fun q hm => ((h7 q hm).kept hq).moved hW.alike, (h5.kept hq).moved hW.alike, (h6.kept hq).moved hW.alike, h8.moved hW.alike hq⟩
/-- what holds at a method's start -/
def zInv (E : zE) (D : va_G) (tA : Nat → ClassId) (h : zH) (U : State) : Prop := zRep E D tA h U.heap ∧ va_K D zCL (zTys tA) U ∧ zG E U U.heap ∧ zNw U ∧ E 0 ≤ U.heap.size
def zPc (E : zE) (D : va_G) (tA : Nat → ClassId) (As : List zV) (h : zH) : Array Value → State → Prop := fun v U => v = (zStk As).toArray ∧ zInv E D tA h U
theorem zPc_blind {E : zE} {D : va_G} {tA : Nat → ClassId} {As : List zV} {h : zH} : FrameBlind (zPc E D tA As h) := by
  intro a U g mk hp
  obtain ⟨h1, h2, h3, h4, h5, h6⟩ := hp
  have hW : U.WarmedH (U.calling g mk a).vm := State.WarmedH.refl U
  exact ⟨h1, h2, va_K.moved (u := U) (U := U.calling g mk a) (Vm.Alike.refl U.vm) h3, zG.moved hW (fun _ _ _ => rfl) h4, zNw.moved hW h5, h6⟩
/-- a method's end: what it answers, the heap -/
def zQc (E : zE) (D : va_G) (tA : Nat → ClassId) (out : zR) (h' : zH) : Array Value → State → Outcome → State → Prop := fun _ st o t => (∃ v, out = .inl v ∧ o = .returned v) ∧ zRep E D tA h' t.heap ∧ va_F (zA E) st t
def zXc (E : zE) (D : va_G) (tA : Nat → ClassId) (out : zR) (h' : zH) : Addr → String → State → State → Prop := fun q _ st t => out = .inr q ∧ zRep E D tA h' t.heap ∧ va_F (zA E) st t
def zQ (Qc : Array Value → State → Outcome → State → Prop) (XC : Addr → String → State → State → Prop) (mc ms : Nat) (free : Addr → Prop) : Array Value → State → Outcome → State → Prop := fun a st o t =>
  (Qc a st o t ∧ ∃ L, FrameEnd st o t L mc ms ∧ ∀ q ∈ L, free q.base) ∨ ∃ q, o = .threw q ∧ vx_T (XC q) st q t mc ms free
def zMt (l : Launch) (y : MethodName) (ws : List Cond) (rm : Room) (Pc : Array Value → State → Prop) (Qc : Array Value → State → Outcome → State → Prop) (XC : Addr → String → State → State → Prop) (mc ms : Nat) (free : Addr → Prop) : Prop :=
  MetFree l y (headSpec ws rm) Pc (fun _ _ _ _ _ => True) (zQ Qc XC mc ms free)
def zLe (h h' : zH) : Prop := h.1 ≤ h'.1 ∧ h.2.1 ≤ h'.2.1
theorem zLe.rfl {h : zH} : zLe h h := ⟨Nat.le_refl _, Nat.le_refl _⟩
theorem zLe.trans {a b c : zH} (h1 : zLe a b) (h2 : zLe b c) : zLe a c := ⟨Nat.le_trans h1.1 h2.1, Nat.le_trans h1.2 h2.2⟩
/-- a method's room: so many frames, and its cells and slots -/
def zRm (fr mc ms : Nat) : Room := { frames := fr, cells := mc, slots := ms, locals := 64 * fr }
/-- METHOD y, with words ws, room fr, does F on arguments As -/
def zMet (l : Launch) (E : zE) (D : va_G) (tA : Nat → ClassId) (y : MethodName) (ws : List Cond) (fr : Nat) (F : zM) (As : List zV) : Prop :=
  ∀ (h : zH) (out : zR) (h' : zH), F h = some (out, h') → zMt l y ws (zRm fr (h'.1 - h.1) (h'.2.1 - h.2.1)) (zPc E D tA As h) (zQc E D tA out h') (zXc E D tA out h') (h'.1 - h.1) (h'.2.1 - h.2.1) (zA E)
