/-! ===== calls of objects' methods, returns, throws, contracts ===== -/
section ZCM
variable {p : Program} {l : Launch} {e : Env} {R : Room} {s : State} {m : MethodId} {args : Array Value} {below : List Frame} {meth : Method} {c : Code} {E : zE} {D : va_G} {tA : Nat → ClassId} {cc : ByteArray} {nL k0 fr : Nat} {own : String}
variable {M : zM} {lv lv' : List (Nat × zV)} {pc : Nat} {st : List zV}
/-- a call of an object's own method, whatever its class -/
def zSp (r : Option Nat) (F : Nat → zM) : zM := fun h => match r with
  | none => none
  | some b => F b h
theorem zStk_rev1 (As : List zV) (b : Nat) (st : List zV) : zStk (As.reverse ++ zP (some b) :: st) = (zStk As).reverse ++ .ref b :: zStk st := by
  simp [zStk, List.map_append, List.map_reverse, zVal, va_rf]
theorem zRv_inv {r : Option Nat} {ci : Nat} {F : Nat → zM} {h : zH} {o : zR × zH} (e : zRv r [(ci, F)] h = some o) : ∃ b fs, r = some b ∧ h.2.2 b = some (.inr (ci, fs)) ∧ F b h = some o := by
  cases r with
  | none => cases e
  | some b =>
    simp only [zRv] at e
    split at e
    · rename_i c' fs hb
      split at e
      · rename_i hcc
        subst hcc
        exact ⟨b, fs, rfl, hb, e⟩
      · cases e
    · cases e
theorem zSp_inv {r : Option Nat} {F : Nat → zM} {h : zH} {o : zR × zH} (e : zSp r F h = some o) : ∃ b, r = some b ∧ F b h = some o := by
  cases r with
  | none => cases e
  | some b => exact ⟨b, rfl, e⟩
theorem z_cls {h : zH} {H : Heap} {T : State} {ci b : Nat} {C : vw_C} {fs : List Value} (hK : va_K D zCL (zTys tA) s) (hc : zCL[ci]? = some C) (r1 : zRep E D tA h H) (hT : T.heap = H) (hb : h.2.2 b = some (.inr (ci, fs))) : ∃ cell : Cell, T.heap[b]? = some cell ∧ cell.vm.isStatics = false ∧ s.vm.findClass C.1 = some cell.cls := by
  rw [hT]
  exact zRep_recv hK r1 hb hc
/-- a class that is no interface -/
def zNi (C : String) (s : State) : Prop := ∀ c1, s.vm.findClass C = some c1 → ∃ k, s.vm.classes[c1]? = some k ∧ k.isInterface = false
theorem zNi_inst (x : zCx p l R s m args meth c E D tA cc nL own fr) {C : String} {n : Nat} (hins : Cond.instantiable C n ∈ lw_all) : zNi C s := by
  obtain ⟨c1, k, hc, hk, -, hniab, -, -⟩ := Cond.instantiable_spec (x.2.2.2.2.1 _ hins)
  intro c2 h2
  cases hc.symm.trans h2
  exact ⟨k, hk, (Bool.or_eq_false_iff.mp hniab).1⟩
theorem zNi_sel (x : zCx p l R s m args meth c E D tA cc nL own fr) {C : String} {y z : MethodName} (h : Cond.selects C y z ∈ lw_all) : zNi z.cls s := by
  obtain ⟨c1, r, mz, -, -, h3, -, mk, h4, h5⟩ := Cond.selects_spec (x.2.2.2.2.1 _ h)
  intro c2 h2
  cases (findClass_of_methodNamed h3).symm.trans h2
  exact ⟨mk, h4, h5⟩
theorem z_selP (x : zCx p l R s m args meth c E D tA cc nL own fr) {C : vw_C} {ci : Nat} (hc : zCL[ci]? = some C) {y : MethodName} (hy : y.cls ≠ "java/lang/invoke/MethodHandle" ∧ y.cls ≠ "java/lang/invoke/VarHandle") (hni : zNi y.cls s) (hpriv : Cond.privateMethod y ∈ lw_tbl) (hinst : Cond.instanceMethod y ∈ lw_all) : (Cond.selects C.1 y y).before args s = true := by
  have hc := (x.2.2.2.2.2.1.1 ci _ hc).2.1
  obtain ⟨mk, methM, hnamed, hmethM, -, -⟩ := Cond.instanceMethod_spec (x.2.2.2.2.1 _ hinst)
  obtain ⟨k, hk, hni⟩ := hni _ (findClass_of_methodNamed hnamed)
  have hfound : s.methodFound? y.cls y.name y.desc = some mk := State.methodFound?_of_named hnamed hy
  have hsel : selectMethod {} s.vm (D.1 ci) mk = .method mk := selectMethod_private hmethM (Cond.privateMethod_at (zNw.use (args := args) x.2.2.2.2.2.2.2.1 hpriv rfl) mk methM hnamed hmethM)
  simp only [Cond.before, Cond.holds, Cond.value, hc, hfound, hnamed, hsel, hk]
  simp; exact hni
theorem z_canV (x : zCx p l R s m args meth c E D tA cc nL own fr) {C : vw_C} {ci : Nat} (hc : zCL[ci]? = some C) {y : MethodName} {bytes : ByteArray} {maxL fr1 index : Nat} {ret : Option FieldType} {r : Option Nat} {F : Nat → zM} {As : List zV} (hM : ∀ b, zMet l E D tA y (ws_ y bytes maxL ret) fr1 (F b) (zP (some b) :: As)) (hlink : Cond.methodLink own index y ∈ lw_all) (hinst : Cond.instanceMethod y ∈ lw_all) (hsel : (Cond.selects C.1 y y).before args s = true) (hini : Cond.initialized y.cls ∈ lw_all) (hcode : Cond.code y bytes maxL ret ∈ lw_all)
    (hn : zNm y As.length) (hR : fr1 + 1 ≤ fr ∧ 8 + (maxL + 11) + 64 * fr1 ≤ 64 * fr) (hs8 : (st.map zCat).sum ≤ 8) (hd : decode cc pc = .ok (.invokevirtual index, 3)) : zCan p l e R s m args below meth c E D tA nL pc 3 (zRv r [(ci, F)]) (As.reverse ++ zP r :: st) st := by
  intro h o1 h1 em H locs ls cells slots T r1 r2 hls hc1 hc2 hT X
  obtain ⟨b, fs, rfl, hb, hf⟩ := zRv_inv em
  have hts := x.2.2.2.2.1
  obtain ⟨cellB, g1, g2, g3⟩ := z_cls x.2.2.2.2.2.1 hc r1 hT hb
  refine ⟨(Value.ref b :: zStk As).toArray, ?_⟩
  exact vx_callV X x.1 (C := C.1) x.2.2.2.1 (hts _ hlink) (hts _ hinst) hsel (hts _ hcode) ⟨hn.1, hn.2.1⟩ (zMet_back x (hM b) hcode hini hR.1 hR.2 hf) g1 g2 g3 (g := F0 m pc ls (zStk (As.reverse ++ zP (some b) :: st))) rfl (hls.trans x.2.2.1.symm) (argsL := zStk As) (rest := zStk st) (zNm_len hn (by simp [zStk])) (zStk_rev1 As b st) (zStk_cat8 hs8) (by rw [x.2.1]; exact hd) (fun vm₁ hW => ⟨hc1, hc2, rfl, zInv_of x r1 r2 hT hW⟩)
theorem z_canVX (x : zCx p l R s m args meth c E D tA cc nL own fr) {C : vw_C} {ci : Nat} {hh : List (Nat × Nat × Nat × Nat)} (hc : zCL[ci]? = some C) {y : MethodName} {bytes : ByteArray} {maxL fr1 index : Nat} {ret : Option FieldType} {r : Option Nat} {F : Nat → zM} {As : List zV} (hM : ∀ b, zMet l E D tA y (wsW_ y bytes maxL ret hh) fr1 (F b) (zP (some b) :: As)) (hlink : Cond.methodLink own index y ∈ lw_all) (hinst : Cond.instanceMethod y ∈ lw_all) (hsel : (Cond.selects C.1 y y).before args s = true) (hini : Cond.initialized y.cls ∈ lw_all) (hcode : Cond.codeWith y bytes maxL ret hh ∈ lw_all)
    (hn : zNm y As.length) (hR : fr1 + 1 ≤ fr ∧ 8 + (maxL + 11) + 64 * fr1 ≤ 64 * fr) (hs8 : (st.map zCat).sum ≤ 8) (hd : decode cc pc = .ok (.invokevirtual index, 3)) : zCan p l e R s m args below meth c E D tA nL pc 3 (zRv r [(ci, F)]) (As.reverse ++ zP r :: st) st := by
  intro h o1 h1 em H locs ls cells slots T r1 r2 hls hc1 hc2 hT X
  obtain ⟨b, fs, rfl, hb, hf⟩ := zRv_inv em
  have hts := x.2.2.2.2.1
  obtain ⟨cellB, g1, g2, g3⟩ := z_cls x.2.2.2.2.2.1 hc r1 hT hb
  refine ⟨(Value.ref b :: zStk As).toArray, ?_⟩
  exact vx_callVX X x.1 (C := C.1) (hh := hh) x.2.2.2.1 (hts _ hlink) (hts _ hinst) hsel (hts _ hcode) ⟨hn.1, hn.2.1⟩ (zMet_backW x (hM b) hcode hini hR.1 hR.2 hf) g1 g2 g3 (g := F0 m pc ls (zStk (As.reverse ++ zP (some b) :: st))) rfl (hls.trans x.2.2.1.symm) (argsL := zStk As) (rest := zStk st) (zNm_len hn (by simp [zStk])) (zStk_rev1 As b st) (zStk_cat8 hs8) (by rw [x.2.1]; exact hd) (fun vm₁ hW => ⟨hc1, hc2, rfl, zInv_of x r1 r2 hT hW⟩)
theorem z_canVN (x : zCx p l R s m args meth c E D tA cc nL own fr) {C : vw_C} {ci : Nat} {host : String} (hc : zCL[ci]? = some C) {y : MethodName} {bytes : ByteArray} {maxL fr1 index : Nat} {ret : Option FieldType} {r : Option Nat} {F : Nat → zM} {As : List zV} (hM : ∀ b, zMet l E D tA y (ws_ y bytes maxL ret) fr1 (F b) (zP (some b) :: As)) (hlink : Cond.methodLinkNest own index y host ∈ lw_tbl) (hinst : Cond.instanceMethod y ∈ lw_all) (hsel : (Cond.selects C.1 y y).before args s = true) (hini : Cond.initialized y.cls ∈ lw_all) (hcode : Cond.code y bytes maxL ret ∈ lw_all)
    (hn : zNm y As.length) (hR : fr1 + 1 ≤ fr ∧ 8 + (maxL + 11) + 64 * fr1 ≤ 64 * fr) (hs8 : (st.map zCat).sum ≤ 8) (hd : decode cc pc = .ok (.invokevirtual index, 3)) : zCan p l e R s m args below meth c E D tA nL pc 3 (zRv r [(ci, F)]) (As.reverse ++ zP r :: st) st := by
  intro h o1 h1 em H locs ls cells slots T r1 r2 hls hc1 hc2 hT X
  obtain ⟨b, fs, rfl, hb, hf⟩ := zRv_inv em
  have hts := x.2.2.2.2.1
  obtain ⟨cellB, g1, g2, g3⟩ := z_cls x.2.2.2.2.2.1 hc r1 hT hb
  refine ⟨(Value.ref b :: zStk As).toArray, ?_⟩
  exact vx_callVN X x.1 (C := C.1) x.2.2.2.1 (zNw.use x.2.2.2.2.2.2.2.1 hlink rfl) (hts _ hinst) hsel (hts _ hcode) ⟨hn.1, hn.2.1⟩ (zMet_back x (hM b) hcode hini hR.1 hR.2 hf) g1 g2 g3 (g := F0 m pc ls (zStk (As.reverse ++ zP (some b) :: st))) rfl (hls.trans x.2.2.1.symm) (argsL := zStk As) (rest := zStk st) (zNm_len hn (by simp [zStk])) (zStk_rev1 As b st) (zStk_cat8 hs8) (by rw [x.2.1]; exact hd) (fun vm₁ hW => ⟨hc1, hc2, rfl, zInv_of x r1 r2 hT hW⟩)
theorem z_canVU (x : zCx p l R s m args meth c E D tA cc nL own fr) {C : vw_C} {ci : Nat} {owner : String} {x9 : MethodName} (hc : zCL[ci]? = some C) {y : MethodName} {bytes : ByteArray} {maxL fr1 index : Nat} {ret : Option FieldType} {r : Option Nat} {F : Nat → zM} {As : List zV} (hM : ∀ b, zMet l E D tA y (ws_ y bytes maxL ret) fr1 (F b) (zP (some b) :: As)) (hlink : Cond.methodLink own index x9 ∈ lw_all) (hsame : Cond.sameMethod x9.cls owner x9.name x9.desc ∈ lw_all) (hdecl : va_Decl s ⟨owner, x9.name, x9.desc⟩) (howner : owner ≠ "java/lang/invoke/MethodHandle" ∧ owner ≠ "java/lang/invoke/VarHandle") (hinst : Cond.instanceMethod y ∈ lw_all) (hsel : Cond.selects C.1 x9 y ∈ lw_all) (hini : Cond.initialized y.cls ∈ lw_all) (hcode : Cond.code y bytes maxL ret ∈ lw_all)
    (hn : zNm x9 As.length) (hR : fr1 + 1 ≤ fr ∧ 8 + (maxL + 11) + 64 * fr1 ≤ 64 * fr) (hs8 : (st.map zCat).sum ≤ 8) (hd : decode cc pc = .ok (.invokevirtual index, 3)) : zCan p l e R s m args below meth c E D tA nL pc 3 (zRv r [(ci, F)]) (As.reverse ++ zP r :: st) st := by
  intro h o1 h1 em H locs ls cells slots T r1 r2 hls hc1 hc2 hT X
  obtain ⟨b, fs, rfl, hb, hf⟩ := zRv_inv em
  have hts := x.2.2.2.2.1
  obtain ⟨cellB, g1, g2, g3⟩ := z_cls x.2.2.2.2.2.1 hc r1 hT hb
  refine ⟨(Value.ref b :: zStk As).toArray, ?_⟩
  exact vx_callVU X x.1 (C := C.1) x.2.2.2.1 (hts _ hlink) (hts _ hsame) hdecl howner (hts _ hsel) (hts _ hinst) (hts _ hcode) (zMet_back x (hM b) hcode hini hR.1 hR.2 hf) g1 g2 g3 (g := F0 m pc ls (zStk (As.reverse ++ zP (some b) :: st))) rfl (hls.trans x.2.2.1.symm) (argsL := zStk As) (rest := zStk st) (zNm_len hn (by simp [zStk])) (zStk_rev1 As b st) (zStk_cat8 hs8) (by rw [x.2.1]; exact hd) (fun vm₁ hW => ⟨hc1, hc2, rfl, zInv_of x r1 r2 hT hW⟩)
theorem z_canI (x : zCx p l R s m args meth c E D tA cc nL own fr) {y : MethodName} {bytes : ByteArray} {maxL fr1 index : Nat} {ret : Option FieldType} {r : Option Nat} {F : Nat → zM} {As : List zV} (hM : ∀ b, zMet l E D tA y (ws_ y bytes maxL none) fr1 (F b) (zP (some b) :: As)) (hlink : Cond.methodLink own index y ∈ lw_all) (hy1 : y.name = "<init>") (hinst : Cond.instanceMethod y ∈ lw_all) (hini : Cond.initialized y.cls ∈ lw_all) (hcode : Cond.code y bytes maxL none ∈ lw_all)
    (hn : zNm y As.length) (hR : fr1 + 1 ≤ fr ∧ 8 + (maxL + 11) + 64 * fr1 ≤ 64 * fr) (hs8 : (st.map zCat).sum ≤ 8) (hd : decode cc pc = .ok (.invokespecial index, 3)) : zCan p l e R s m args below meth c E D tA nL pc 3 (zSp r F) (As.reverse ++ zP r :: st) st := by
  intro h o1 h1 em H locs ls cells slots T r1 r2 hls hc1 hc2 hT X
  obtain ⟨b, rfl, hf⟩ := zSp_inv em
  have hts := x.2.2.2.2.1
  refine ⟨(Value.ref b :: zStk As).toArray, ?_⟩
  exact vx_callI X x.1 x.2.2.2.1 hy1 (hts _ hlink) (hts _ hinst) (hts _ hcode) ⟨hn.1, hn.2.1⟩ (zMet_back x (hM b) hcode hini hR.1 hR.2 hf) (g := F0 m pc ls (zStk (As.reverse ++ zP (some b) :: st))) rfl (hls.trans x.2.2.1.symm) (argsL := zStk As) (rest := zStk st) (zNm_len hn (by simp [zStk])) (zStk_rev1 As b st) (zStk_cat8 hs8) (by rw [x.2.1]; exact hd) (fun vm₁ hW => ⟨hc1, hc2, rfl, zInv_of x r1 r2 hT hW⟩)
theorem z_canIN (x : zCx p l R s m args meth c E D tA cc nL own fr) {host : String} {y : MethodName} {bytes : ByteArray} {maxL fr1 index : Nat} {ret : Option FieldType} {r : Option Nat} {F : Nat → zM} {As : List zV} (hM : ∀ b, zMet l E D tA y (ws_ y bytes maxL none) fr1 (F b) (zP (some b) :: As)) (hlink : Cond.methodLinkNest own index y host ∈ lw_tbl) (hy1 : y.name = "<init>") (hinst : Cond.instanceMethod y ∈ lw_all) (hini : Cond.initialized y.cls ∈ lw_all) (hcode : Cond.code y bytes maxL none ∈ lw_all)
    (hn : zNm y As.length) (hR : fr1 + 1 ≤ fr ∧ 8 + (maxL + 11) + 64 * fr1 ≤ 64 * fr) (hs8 : (st.map zCat).sum ≤ 8) (hd : decode cc pc = .ok (.invokespecial index, 3)) : zCan p l e R s m args below meth c E D tA nL pc 3 (zSp r F) (As.reverse ++ zP r :: st) st := by
  intro h o1 h1 em H locs ls cells slots T r1 r2 hls hc1 hc2 hT X
  obtain ⟨b, rfl, hf⟩ := zSp_inv em
  have hts := x.2.2.2.2.1
  refine ⟨(Value.ref b :: zStk As).toArray, ?_⟩
  exact vx_callIN X x.1 x.2.2.2.1 hy1 (zNw.use x.2.2.2.2.2.2.2.1 hlink rfl) (hts _ hinst) (hts _ hcode) ⟨hn.1, hn.2.1⟩ (zMet_back x (hM b) hcode hini hR.1 hR.2 hf) (g := F0 m pc ls (zStk (As.reverse ++ zP (some b) :: st))) rfl (hls.trans x.2.2.1.symm) (argsL := zStk As) (rest := zStk st) (zNm_len hn (by simp [zStk])) (zStk_rev1 As b st) (zStk_cat8 hs8) (by rw [x.2.1]; exact hd) (fun vm₁ hW => ⟨hc1, hc2, rfl, zInv_of x r1 r2 hT hW⟩)
theorem z_canSU (x : zCx p l R s m args meth c E D tA cc nL own fr) {C : vw_C} {ci : Nat} (hc : zCL[ci]? = some C) {y : MethodName} {bytes : ByteArray} {maxL fr1 index : Nat} {ret : Option FieldType} {r : Option Nat} {F : Nat → zM} {As : List zV} (hM : ∀ b, zMet l E D tA y (ws_ y bytes maxL ret) fr1 (F b) (zP (some b) :: As)) (hlink : Cond.methodLink own index y ∈ lw_all) (hsame : Cond.sameMethod y.cls y.cls y.name y.desc ∈ lw_all) (hsup : Cond.superclass own y.cls ∈ lw_all) (hno : y.name ≠ "<init>") (hinst : Cond.instanceMethod y ∈ lw_all) (hini : Cond.initialized y.cls ∈ lw_all) (hcode : Cond.code y bytes maxL ret ∈ lw_all)
    (hn : zNm y As.length) (hR : fr1 + 1 ≤ fr ∧ 8 + (maxL + 11) + 64 * fr1 ≤ 64 * fr) (hs8 : (st.map zCat).sum ≤ 8) (hd : decode cc pc = .ok (.invokespecial index, 3)) : zCan p l e R s m args below meth c E D tA nL pc 3 (zRv r [(ci, F)]) (As.reverse ++ zP r :: st) st := by
  intro h o1 h1 em H locs ls cells slots T r1 r2 hls hc1 hc2 hT X
  obtain ⟨b, fs, rfl, hb, hf⟩ := zRv_inv em
  have hts := x.2.2.2.2.1
  obtain ⟨cellB, g1, g2, g3⟩ := z_cls x.2.2.2.2.2.1 hc r1 hT hb
  obtain ⟨kB, g4, -⟩ := Vm.findClass_spec g3
  refine ⟨(Value.ref b :: zStk As).toArray, ?_⟩
  exact vx_callSU X x.1 x.2.2.2.1 (hts _ hlink) (hts _ hsame) (hts _ hsup) (hts _ hinst) (hts _ hcode) hno (zMet_back x (hM b) hcode hini hR.1 hR.2 hf) g1 g2 g4 (g := F0 m pc ls (zStk (As.reverse ++ zP (some b) :: st))) rfl (hls.trans x.2.2.1.symm) (argsL := zStk As) (rest := zStk st) (zNm_len hn (by simp [zStk])) (zStk_rev1 As b st) (zStk_cat8 hs8) (by rw [x.2.1]; exact hd) (fun vm₁ hW => ⟨hc1, hc2, rfl, zInv_of x r1 r2 hT hW⟩)
theorem z_canIF (x : zCx p l R s m args meth c E D tA cc nL own fr) {C : vw_C} {ci count : Nat} {x9 : MethodName} (hc : zCL[ci]? = some C) {y : MethodName} {bytes : ByteArray} {maxL fr1 index : Nat} {ret : Option FieldType} {r : Option Nat} {F : Nat → zM} {As : List zV} (hM : ∀ b, zMet l E D tA y (ws_ y bytes maxL ret) fr1 (F b) (zP (some b) :: As)) (hlink : Cond.methodLink own index x9 ∈ lw_all) (hdecl : Cond.declares x9 ∈ lw_tbl) (hface : Cond.interfaceMethod x9.cls x9.cls x9.name x9.desc ∈ lw_tbl) (hfk : x9.cls ≠ "java/lang/invoke/MethodHandle" ∧ x9.cls ≠ "java/lang/invoke/VarHandle") (hsel : Cond.selects C.1 x9 y ∈ lw_all) (hinst : Cond.instanceMethod y ∈ lw_all) (hpub : Cond.publicMethod y ∈ lw_tbl) (hunh : Cond.unhidden C.1 x9.name x9.desc ∈ lw_tbl) (hcast : Cond.castable C.1 x9.cls ∈ lw_tbl) (hini : Cond.initialized y.cls ∈ lw_all) (hcode : Cond.code y bytes maxL ret ∈ lw_all)
    (hn : zNm x9 As.length) (hR : fr1 + 1 ≤ fr ∧ 8 + (maxL + 11) + 64 * fr1 ≤ 64 * fr) (hs8 : (st.map zCat).sum ≤ 8) (hd : decode cc pc = .ok (.invokeinterface index count, 5)) : zCan p l e R s m args below meth c E D tA nL pc 5 (zRv r [(ci, F)]) (As.reverse ++ zP r :: st) st := by
  intro h o1 h1 em H locs ls cells slots T r1 r2 hls hc1 hc2 hT X
  obtain ⟨b, fs, rfl, hb, hf⟩ := zRv_inv em
  have hts := x.2.2.2.2.1
  obtain ⟨cellB, g1, g2, g3⟩ := z_cls x.2.2.2.2.2.1 hc r1 hT hb
  obtain ⟨kB, g4, -⟩ := Vm.findClass_spec g3
  refine ⟨(Value.ref b :: zStk As).toArray, ?_⟩
  exact vx_callIF X x.1 (C := C.1) x.2.2.2.1 (hts _ hlink) (zNw.use x.2.2.2.2.2.2.2.1 hdecl rfl) (zNw.use x.2.2.2.2.2.2.2.1 hface (by simp [zNwK, Cond.faceAtom, hfk.1, hfk.2])) (hts _ hsel) (hts _ hinst) (zNw.use x.2.2.2.2.2.2.2.1 hpub rfl) (zNw.use x.2.2.2.2.2.2.2.1 hunh rfl) (zNw.use x.2.2.2.2.2.2.2.1 hcast rfl) (hts _ hcode) hfk (zMet_back x (hM b) hcode hini hR.1 hR.2 hf) g1 g2 g3 g4 (g := F0 m pc ls (zStk (As.reverse ++ zP (some b) :: st))) rfl (hls.trans x.2.2.1.symm) (argsL := zStk As) (rest := zStk st) (zNm_len hn (by simp [zStk])) (zStk_rev1 As b st) (zStk_cat8 hs8) (by rw [x.2.1]; exact hd) (fun vm₁ hW => ⟨hc1, hc2, rfl, zInv_of x r1 r2 hT hW⟩)
theorem zDecl_of (x : zCx p l R s m args meth c E D tA cc nL own fr) {y : MethodName} {b : ByteArray} {n : Nat} {ret : Option FieldType} (h1 : Cond.instanceMethod y ∈ lw_all) (h2 : Cond.code y b n ret ∈ lw_all) : va_Decl s y := va_Decl.of (x.2.2.2.2.1 _ h1) (x.2.2.2.2.1 _ h2)
theorem zDecl_ab (x : zCx p l R s m args meth c E D tA cc nL own fr) {y : MethodName} (h1 : Cond.declares y ∈ lw_tbl) : va_Decl s y := va_Decl.abs (x.2.2.2.2.2.2.2.1.1 _ h1 rfl)
theorem z_objInit (x : zCx p l R s m args meth c E D tA cc nL own fr) {index : Nat} {r : Option Nat} (hlink : Cond.methodLink own index objectInit ∈ lw_all) (hinst : Cond.instanceMethod objectInit ∈ lw_all) (hcode : Cond.code objectInit ⟨#[0xb1]⟩ 1 none ∈ lw_all) (hfr : 1 ≤ fr) (hst : (st.map zCat).sum + 12 ≤ 64 * fr) (hd : decode cc pc = .ok (.invokespecial index, 3)) (kk : zW p l e R s m args below meth c E D tA nL k0 M lv (pc + 3) st) : zW p l e R s m args below meth c E D tA nL k0 (zSp r fun _ => M) lv pc (zP r :: st) := by
  intro h out h' em
  obtain ⟨b, rfl, ek⟩ := zSp_inv em
  have hts := x.2.2.2.2.1
  refine ⟨(kk h out h' ek).1, fun a1 a2 a3 a4 H locs ls r1 r2 r3 => ?_⟩
  refine W.objInit x.1 x.2.1 x.2.2.2.1 (hts _ hlink) (hts _ hinst) (hts _ hcode) rfl (by rw [x.2.2.1]; exact r3.1) (rest := zStk st) rfl hd (by rw [x.2.2.2.2.2.2.2.2.2.2.1]; exact hfr) (by rw [zStk_cat, x.2.2.2.2.2.2.2.2.2.2.2.1]; show 2 * 0 + _ + 12 ≤ _; omega) ?_
  exact (kk h out h' ek).2 a1 a2 a3 a4 H locs ls r1 r2 r3
theorem z_iret (x : zCx p l R s m args meth c E D tA cc nL own fr) {v : Int32} (hret : meth.sig.returnType = some .int) (hd : decode cc pc = .ok (.ireturn, 1)) : zW p l e R s m args below meth c E D tA nL k0 (zRet (some (.int v))) lv pc [zI v] := by
  intro h out h' em
  cases em
  refine ⟨zLe.rfl, fun a1 a2 a3 a4 H locs ls r1 r2 r3 => z_ret0 ?_⟩
  exact W.iret x.1 x.2.1 hret (fun t ht hW => ⟨⟨_, rfl, rfl⟩, by rw [ht]; exact r1, r2.F ht⟩) r2.2.2 hd x.2.2.2.2.2.2.2.2.2.1
theorem z_lret (x : zCx p l R s m args meth c E D tA cc nL own fr) {v : Int64} (hret : meth.sig.returnType = some .long) (hd : decode cc pc = .ok (.lreturn, 1)) : zW p l e R s m args below meth c E D tA nL k0 (zRet (some (.long v))) lv pc [zL v] := by
  intro h out h' em
  cases em
  refine ⟨zLe.rfl, fun a1 a2 a3 a4 H locs ls r1 r2 r3 => z_ret0 ?_⟩
  exact W.lret x.1 x.2.1 hret (fun t ht hW => ⟨⟨_, rfl, rfl⟩, by rw [ht]; exact r1, r2.F ht⟩) r2.2.2 hd x.2.2.2.2.2.2.2.2.2.1
theorem z_fret (x : zCx p l R s m args meth c E D tA cc nL own fr) {v : UInt32} (hret : meth.sig.returnType = some .float) (hd : decode cc pc = .ok (.freturn, 1)) : zW p l e R s m args below meth c E D tA nL k0 (zRet (some (.float v))) lv pc [zF v] := by
  intro h out h' em
  cases em
  refine ⟨zLe.rfl, fun a1 a2 a3 a4 H locs ls r1 r2 r3 => z_ret0 ?_⟩
  exact W.fret x.1 x.2.1 hret (fun t ht hW => ⟨⟨_, rfl, rfl⟩, by rw [ht]; exact r1, r2.F ht⟩) r2.2.2 hd x.2.2.2.2.2.2.2.2.2.1
theorem z_dret (x : zCx p l R s m args meth c E D tA cc nL own fr) {v : UInt64} (hret : meth.sig.returnType = some .double) (hd : decode cc pc = .ok (.dreturn, 1)) : zW p l e R s m args below meth c E D tA nL k0 (zRet (some (.double v))) lv pc [zD v] := by
  intro h out h' em
  cases em
  refine ⟨zLe.rfl, fun a1 a2 a3 a4 H locs ls r1 r2 r3 => z_ret0 ?_⟩
  exact W.dret x.1 x.2.1 hret (fun t ht hW => ⟨⟨_, rfl, rfl⟩, by rw [ht]; exact r1, r2.F ht⟩) r2.2.2 hd x.2.2.2.2.2.2.2.2.2.1
theorem z_zret (x : zCx p l R s m args meth c E D tA cc nL own fr) {v : Int32} {ty : FieldType} (hret : meth.sig.returnType = some ty) (hd : decode cc pc = .ok (.ireturn, 1)) : zW p l e R s m args below meth c E D tA nL k0 (zRetN ty v) lv pc [zI v] := by
  unfold zRetN
  refine z_ite (fun hn => ?_) (fun _ => z_fail)
  intro h out h' em
  cases em
  refine ⟨zLe.rfl, fun a1 a2 a3 a4 H locs ls r1 r2 r3 => z_ret0 ?_⟩
  exact W.zret x.1 x.2.1 hret hn (fun t ht hW => ⟨⟨_, rfl, rfl⟩, by rw [ht]; exact r1, r2.F ht⟩) r2.2.2 hd x.2.2.2.2.2.2.2.2.2.1
theorem z_aret (x : zCx p l R s m args meth c E D tA cc nL own fr) {v : Option Nat} {ty : FieldType} (hret : meth.sig.returnType = some ty) (hty : (∃ n, ty = .object n) ∨ ∃ t, ty = .array t) (hd : decode cc pc = .ok (.areturn, 1)) : zW p l e R s m args below meth c E D tA nL k0 (zRet (some (va_rf v))) lv pc [zP v] := by
  intro h out h' em
  cases em
  refine ⟨zLe.rfl, fun a1 a2 a3 a4 H locs ls r1 r2 r3 => z_ret0 ?_⟩
  refine W.aret (v := va_rf v) x.1 x.2.1 hret hty ?_ (fun t ht hW => ⟨⟨_, rfl, rfl⟩, by rw [ht]; exact r1, r2.F ht⟩) r2.2.2 hd x.2.2.2.2.2.2.2.2.2.1
  cases v with
  | none => exact Or.inl rfl
  | some a => exact Or.inr ⟨a, rfl⟩
theorem z_vret (x : zCx p l R s m args meth c E D tA cc nL own fr) (hret : meth.sig.returnType = none) (hd : decode cc pc = .ok (.return_, 1)) : zW p l e R s m args below meth c E D tA nL k0 (zRet none) lv pc [] := by
  intro h out h' em
  cases em
  refine ⟨zLe.rfl, fun a1 a2 a3 a4 H locs ls r1 r2 r3 => z_ret0 ?_⟩
  exact W.vret x.1 x.2.1 hret (fun t ht hW => ⟨⟨_, rfl, rfl⟩, by rw [ht]; exact r1, r2.F ht⟩) r2.2.2 hd x.2.2.2.2.2.2.2.2.2.1
def zAth (r : Option Nat) (X : Nat → zM) : zM := fun h => match r with
  | none => none
  | some q => X q h
theorem z_athrow (x : zCx p l R s m args meth c E D tA cc nL own fr) {r : Option Nat} {X : Nat → zM} (hd : decode cc pc = .ok (.athrow, 1)) (kx : ∀ q, zWX p l e R s m args below meth c E D tA nL k0 (X q) lv pc q) : zW p l e R s m args below meth c E D tA nL k0 (zAth r X) lv pc (zP r :: st) := by
  intro h out h' em
  cases r with
  | none => cases em
  | some q =>
    have em : X q h = some (out, h') := em
    exact ⟨(kx q h out h' em).1, fun a1 a2 a3 a4 H locs ls r1 r2 r3 => vx_athrow x.1 x.2.1 hd ((kx q h out h' em).2 a1 a2 a3 a4 H locs ls (zStk st) r1 r2 r3)⟩
theorem z_thrown (x : zCx p l R s m args meth c E D tA cc nL own fr) {h : zH} {H : Heap} {q c0 : Nat} {fs : List Value} (r1 : zRep E D tA h H) (hq : h.2.2 q = some (.inr (c0, fs))) (h8 : c0 ≤ 8) : ∃ (C : vw_C) (ce : Cell), zCL[c0]? = some C ∧ H[q]? = some ce ∧ ce.vm = .none ∧ s.vm.findClass C.1 = some ce.cls := by
  obtain ⟨C, cell, hC, g1, g2, -, -, g3, -⟩ := r1.2 q _ hq
  exact ⟨C, cell, hC, g1, g3 (Or.inr h8), by rw [g2]; exact (x.2.2.2.2.2.1.1 c0 C hC).2.1⟩
/-- q leaves a method that has no handler there -/
theorem zx_thr (x : zCx p l R s m args meth c E D tA cc nL own fr) (hout : ∀ z ∈ c.exceptionTable.toList, covers z pc = false) (q : Nat) : zWX p l e R s m args below meth c E D tA nL k0 (zThr q) lv pc q := by
  intro h out h' em
  unfold zThr at em
  split at em
  · rename_i o hq
    obtain ⟨c0, fs⟩ := o
    split at em
    case isFalse => cases em
    rename_i h8
    cases em
    refine ⟨zLe.rfl, fun a1 a2 a3 a4 H locs ls rest r1 r2 r3 => ?_⟩
    obtain ⟨C, ce, -, g1, g2, g3⟩ := z_thrown x r1 hq h8
    exact z_out0 hout x.2.2.2.2.2.2.2.2.2.1 g1 g2 g3 (fun t ht hW => ⟨rfl, by rw [ht]; exact r1, r2.F ht⟩) r2.2.2 (Nat.le_refl _) (Nat.le_refl _)
  · cases em
theorem zx_cats (x : zCx p l R s m args meth c E D tA cc nL own fr) {q : Nat} : ∀ (js : List (Nat × zM × ExceptionTableEntry)) (pre : List ExceptionTableEntry), c.exceptionTable.toList = pre ++ js.map (fun j => j.2.2) →
    (∀ j ∈ js, covers j.2.2 pc = true ∧ j.2.2.catchType ≠ 0 ∧ Cond.classLink own j.2.2.catchType (zTg j.1) ∈ lw_all ∧ zW p l e R s m args below meth c E D tA nL k0 j.2.1 lv j.2.2.handlerPc [zP (some q)]) →
    ∀ (h : zH) (out : zR) (h' : zH) (c0 : Nat) (fs : List Value), h.2.2 q = some (.inr (c0, fs)) → (∀ z ∈ pre, covers z pc = false ∨ (z.catchType ≠ 0 ∧ ∃ nm : String, (Cond.classLink own z.catchType nm).before args s = true ∧ ∀ C : vw_C, zCL[c0]? = some C → va_Nc C.1 nm s)) →
    zCat1 q (js.map fun j => (j.1, j.2.1)) h = some (out, h') → zLe h h' ∧ (s.heap.size ≤ h.1 → k0 ≤ h.2.1 → R.cells = h'.1 - s.heap.size → R.slots = h'.2.1 - k0 →
    ∀ (H : Heap) (locs : List Loc) (ls : Array Slot) (rest : List Value), zRep E D tA h H → va_S (zA E) s.heap H locs → lv_has ls nL (zLoc lv) →
      vx_W p l e R s m args below meth c H locs (h.1 - s.heap.size) (h.2.1 - k0) (zMQ below (zQc E D tA out h') (zXc E D tA out h') args s (h'.1 - s.heap.size) (h'.2.1 - k0) (zA E)) (F0 m pc ls rest) q) := by
  intro js
  induction js with
  | nil =>
    intro pre htab hjs h out h' c0 fs hq hpass em
    have em : zThr q h = some (out, h') := em
    unfold zThr at em
    rw [hq] at em
    simp only at em
    split at em
    case isFalse => cases em
    rename_i h8
    cases em
    refine ⟨zLe.rfl, fun a1 a2 a3 a4 H locs ls rest r1 r2 r3 => ?_⟩
    obtain ⟨C, ce, hC, g1, g2, g3⟩ := z_thrown x r1 hq h8
    refine z_outP0 x.2.2.2.1 x.2.2.2.2.2.2.2.2.2.1 (fun z hz => ?_) g1 g2 g3 (fun t ht hW => ⟨rfl, by rw [ht]; exact r1, r2.F ht⟩) r2.2.2 (Nat.le_refl _) (Nat.le_refl _)
    rw [htab] at hz
    rcases hpass z (by simpa using hz) with hz | ⟨hz0, nm, h1, h2⟩
    · exact Or.inl hz
    · exact Or.inr ⟨hz0, nm, h1, h2 C hC⟩
  | cons j js ih =>
    intro pre htab hjs h out h' c0 fs hq hpass em
    obtain ⟨hcov, h0, hlk, hk⟩ := hjs j List.mem_cons_self
    simp only [List.map_cons, zCat1, hq] at em
    split at em
    · cases em
    rename_i h8
    have h8 := Nat.not_lt.mp h8
    split at em
    · rename_i hcast
      refine ⟨(hk h out h' em).1, fun a1 a2 a3 a4 H locs ls rest r1 r2 r3 => ?_⟩
      obtain ⟨C, ce, hC, g1, g2, g3⟩ := z_thrown x r1 hq h8
      obtain ⟨C2, hC2, hw2⟩ := zCastT_ok _ hcast
      cases hC.symm.trans hC2
      refine vx_catch x.2.2.2.1 pre j.2.2 (js.map (fun j : Nat × zM × ExceptionTableEntry => j.2.2)) (by rw [htab]; rfl) (fun z hz => ?_) hcov h0 (x.2.2.2.2.1 _ hlk) (zNw.use x.2.2.2.2.2.2.2.1 hw2 rfl) g1 g2 g3 ((hk h out h' em).2 a1 a2 a3 a4 H locs ls r1 r2 r3)
      rcases hpass z hz with hz | ⟨hz0, nm, h1, h2⟩
      · exact Or.inl hz
      · exact Or.inr ⟨hz0, nm, h1, h2 C hC⟩
    · split at em
      · rename_i hnc
        refine ih (pre ++ [j.2.2]) (by rw [htab]; simp) (fun j2 hj2 => hjs j2 (List.mem_cons_of_mem _ hj2)) h out h' c0 fs hq (fun z hz => ?_) em
        rcases List.mem_append.mp hz with hz | hz
        · exact hpass z hz
        · rw [List.mem_singleton.mp hz]
          exact Or.inr ⟨h0, _, x.2.2.2.2.1 _ hlk, fun C hC => x.2.2.2.2.2.2.2.1.2.2 _ hnc C hC⟩
      · cases em
theorem zx_cat (x : zCx p l R s m args meth c E D tA cc nL own fr) (js : List (Nat × zM × ExceptionTableEntry)) (htab : c.exceptionTable.toList = js.map (fun j => j.2.2)) {q : Nat}
    (hjs : ∀ j ∈ js, covers j.2.2 pc = true ∧ j.2.2.catchType ≠ 0 ∧ Cond.classLink own j.2.2.catchType (zTg j.1) ∈ lw_all ∧ zW p l e R s m args below meth c E D tA nL k0 j.2.1 lv j.2.2.handlerPc [zP (some q)]) : zWX p l e R s m args below meth c E D tA nL k0 (zCat1 q (js.map fun j => (j.1, j.2.1))) lv pc q := by
  intro h out h' em
  cases hq : h.2.2 q with
  | none =>
    exfalso
    cases js with
    | nil => simp [zCat1, zThr, hq] at em
    | cons j js => simp [zCat1, hq] at em
  | some o =>
    rcases o with y | ⟨c0, fs⟩
    · exfalso
      cases js with
      | nil => simp [zCat1, zThr, hq] at em
      | cons j js => simp [zCat1, hq] at em
    · exact zx_cats x js [] htab hjs h out h' c0 fs hq (fun z hz => nomatch hz) em
end ZCM
/-- a contract out of its body's walk -/
theorem z_met {l : Launch} {E : zE} {D : va_G} {tA : Nat → ClassId} {y : MethodName} {bytes : ByteArray} {nL fr : Nat} {ret : Option FieldType} {F : zM} {As : List zV} (hl : l.stackTraces = false) (hplain : plainName y.cls = true) (hlen : (lg_sl (zStk As)).length ≤ nL)
    (body : ∀ (p : Program) (e : Env) (R : Room) (s : State) (m : MethodId) (args : Array Value) (below : List Frame) (meth : Method) (c : Code) (k0 : Nat), zCx p l R s m args meth c E D tA bytes nL y.cls fr → meth.sig.returnType = ret → meth.name = y.name → (∀ z ∈ c.exceptionTable.toList, False) → zW p l e R s m args below meth c E D tA nL k0 F (zArgs 0 As) 0 []) : zMet l E D tA y (ws_ y bytes nL ret) fr F As := by
  intro h out h' hf
  refine z_ofW (cc := bytes) (maxL := nL) (ret := ret) hplain rfl ?_
  intro p e s m args below meth c s₁ B hml ht hpc
  obtain ⟨rfl, r1, hK, hG, hNw, hE⟩ := hpc
  have hts := atoms_spec (ws := ws_ y bytes nL ret) B.pre
  have hx : zCx p l (headSpec (ws_ y bytes nL ret) (zRm fr (h'.1 - h.1) (h'.2.1 - h.2.1))).room s m (zStk As).toArray meth c E D tA bytes nL y.cls fr := ⟨B.exec, B.bytes, hml, findClass_of_methodNamed B.named, fun w hw => hts w (List.mem_cons_of_mem _ hw), hK, hG, hNw, hE, B.notSynchronized, rfl, rfl, hl⟩
  have hw := body p e _ s m _ below meth c h.2.1 hx B.returns (name_of_methodNamed B.named B.method).1 ht h out h' hf
  have e1 : h.1 = s.heap.size := r1.1.symm
  have hent := lv_entry (zStk As) hlen
  rw [lg_entry_eq]
  have hr := hw.2 (Nat.le_of_eq e1.symm) (Nat.le_refl _) (by rw [← e1]; rfl) rfl s.heap [] _ r1 va_S.rf (by rw [← zLoc_args]; exact hent)
  rw [e1, Nat.sub_self, Nat.sub_self] at hr
  rw [e1]
  exact hr
theorem z_metW {l : Launch} {E : zE} {D : va_G} {tA : Nat → ClassId} {y : MethodName} {bytes : ByteArray} {nL fr : Nat} {ret : Option FieldType} {hh : List (Nat × Nat × Nat × Nat)} {F : zM} {As : List zV} (hl : l.stackTraces = false) (hplain : plainName y.cls = true) (hlen : (lg_sl (zStk As)).length ≤ nL)
    (body : ∀ (p : Program) (e : Env) (R : Room) (s : State) (m : MethodId) (args : Array Value) (below : List Frame) (meth : Method) (c : Code) (k0 : Nat), zCx p l R s m args meth c E D tA bytes nL y.cls fr → meth.sig.returnType = ret → meth.name = y.name → c.exceptionTable.toList = tableOf hh → zW p l e R s m args below meth c E D tA nL k0 F (zArgs 0 As) 0 []) : zMet l E D tA y (wsW_ y bytes nL ret hh) fr F As := by
  intro h out h' hf
  refine z_ofWH (cc := bytes) (maxL := nL) (ret := ret) (hh := hh) hplain rfl ?_
  intro p e s m args below meth c s₁ B hml hpc
  obtain ⟨rfl, r1, hK, hG, hNw, hE⟩ := hpc
  have hts := atoms_spec (ws := wsW_ y bytes nL ret hh) B.pre
  have ht : c.exceptionTable.toList = tableOf hh := vx_table (x := y) B (hts _ List.mem_cons_self)
  have hx : zCx p l (headSpec (wsW_ y bytes nL ret hh) (zRm fr (h'.1 - h.1) (h'.2.1 - h.2.1))).room s m (zStk As).toArray meth c E D tA bytes nL y.cls fr := ⟨B.exec, B.bytes, hml, findClass_of_methodNamed B.named, fun w hw => hts w (List.mem_cons_of_mem _ hw), hK, hG, hNw, hE, B.notSynchronized, rfl, rfl, hl⟩
  have hw := body p e _ s m _ below meth c h.2.1 hx B.returns (name_of_methodNamed B.named B.method).1 ht h out h' hf
  have e1 : h.1 = s.heap.size := r1.1.symm
  have hent := lv_entry (zStk As) hlen
  rw [lg_entry_eq]
  have hr := hw.2 (Nat.le_of_eq e1.symm) (Nat.le_refl _) (by rw [← e1]; rfl) rfl s.heap [] _ r1 va_S.rf (by rw [← zLoc_args]; exact hent)
  rw [e1, Nat.sub_self, Nat.sub_self] at hr
  rw [e1]
  exact hr
