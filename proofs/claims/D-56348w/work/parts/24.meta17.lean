/-! ===== calls by an interface that land in a default method, or whose method another interface declares ===== -/
section ZCD
variable {p : Program} {l : Launch} {e : Env} {R : Room} {s : State} {m : MethodId} {args : Array Value} {below : List Frame} {meth : Method} {c : Code} {E : zE} {D : va_G} {tA : Nat → ClassId} {cc : ByteArray} {nL k0 fr : Nat} {own : String}
variable {M : zM} {lv lv' : List (Nat × zV)} {pc : Nat} {st : List zV}
theorem z_canID (x : zCx p l R s m args meth c E D tA cc nL own fr) {C : vw_C} {ci count : Nat} {x9 : MethodName} (hc : zCL[ci]? = some C) {y : MethodName} {bytes : ByteArray} {maxL fr1 index : Nat} {ret : Option FieldType} {r : Option Nat} {F : Nat → zM} {As : List zV} (hM : ∀ b, zMet l E D tA y (ws_ y bytes maxL ret) fr1 (F b) (zP (some b) :: As)) (hlink : Cond.methodLink own index x9 ∈ lw_all) (hdecl : Cond.declares x9 ∈ lw_tbl) (hface : Cond.interfaceMethod x9.cls x9.cls x9.name x9.desc ∈ lw_tbl) (hfk : x9.cls ≠ "java/lang/invoke/MethodHandle" ∧ x9.cls ≠ "java/lang/invoke/VarHandle") (hsel : Cond.landsInDefault C.1 x9 y ∈ zNx) (hinst : Cond.instanceMethod y ∈ lw_all) (hpub : Cond.publicMethod y ∈ lw_tbl) (hcast : Cond.castable C.1 x9.cls ∈ lw_tbl) (hini : Cond.initialized y.cls ∈ lw_all) (hcode : Cond.code y bytes maxL ret ∈ lw_all)
    (hn : zNm x9 As.length) (hR : fr1 + 1 ≤ fr ∧ 8 + (maxL + 11) + 64 * fr1 ≤ 64 * fr) (hs8 : (st.map zCat).sum ≤ 8) (hd : decode cc pc = .ok (.invokeinterface index count, 5)) : zCan p l e R s m args below meth c E D tA nL pc 5 (zRv r [(ci, F)]) (As.reverse ++ zP r :: st) st := by
  intro h o1 h1 em H locs ls cells slots T r1 r2 hls hc1 hc2 hT X
  obtain ⟨b, fs, rfl, hb, hf⟩ := zRv_inv em
  have hts := x.2.2.2.2.1
  have hNw := x.2.2.2.2.2.2.2.1
  obtain ⟨cellB, g1, g2, g3⟩ := z_cls x.2.2.2.2.2.1 hc r1 hT hb
  obtain ⟨kB, g4, -⟩ := Vm.findClass_spec g3
  refine ⟨(Value.ref b :: zStk As).toArray, ?_⟩
  have hK := zMet_back (e := e) (below := below) x (len := 5) (hM b) hcode hini hR.1 hR.2 hf
  obtain ⟨r0, r, hn9, hrm, hstR, hsigR⟩ := Cond.declares_spec (zNw.use (args := args) hNw hdecl rfl)
  obtain ⟨cL, kL, r1', hcL, hkL, hiL, hfoundL, hn1⟩ := Cond.interfaceMethod_spec (zNw.use (args := args) hNw hface (by simp [zNwK, Cond.faceAtom, hfk.1, hfk.2]))
  cases hn9.symm.trans hn1
  have hr0cls : r0.cls = cL := Option.some.inj ((findClass_of_methodNamed hn9).symm.trans hcL)
  obtain ⟨hnameR, hdescR⟩ := name_of_methodNamed hn9 hrm
  obtain ⟨mk, methM, hnamed, hmethM, -, habM⟩ := Cond.instanceMethod_spec (hts _ hinst)
  obtain ⟨c2, r2', m2, rm, q1, q2, q3, q5, q4, -, q6, -⟩ := Cond.landsInDefault_spec (zNw.useX (args := args) hNw hsel)
  cases g3.symm.trans q1
  cases hfoundL.symm.trans q2
  cases hnamed.symm.trans q3
  cases hrm.symm.trans q5
  have hselP : selectMethod e.platform s.vm cellB.cls r0 = .method mk := by rw [Launch.admits_selectMethod X.admits]; exact q4
  have hpubM : hasFlag methM.accessFlags Acc.public_ = true := Cond.publicMethod_spec hnamed hmethM (zNw.use (args := args) hNw hpub rfl)
  obtain ⟨c3, t3, w1, w2, w3⟩ := Cond.castable_spec (zNw.use (args := args) hNw hcast rfl)
  cases g3.symm.trans w1
  cases hcL.symm.trans w2
  obtain ⟨vm₁, X₁, hstep₁⟩ := X.invokeinterface x.1 x.2.2.2.1 (hts _ hlink) hn9 hrm hstR (by rw [hr0cls]; exact hkL) hiL hfk (a := b) (cell := cellB) (kcell := kB) g1
    (fun z h => by rw [h] at g2; cases g2) g4 (by rw [hr0cls]; exact w3) hselP hmethM q6 hpubM habM (g := F0 m pc ls (zStk (As.reverse ++ zP (some b) :: st))) rfl (argsL := zStk As) (rest := zStk st) (zNm_len hn (by simp [zStk]) _ hsigR) (zStk_rev1 As b st) (by rw [x.2.1]; exact hd)
  rcases hK m meth c ⟨T.setVm vm₁, locs, cells, slots⟩ { F0 m pc ls (zStk (As.reverse ++ zP (some b) :: st)) with stack := zStk st } (.invokeinterface index count) mk (Value.ref b :: zStk As).toArray X₁ rfl (hls.trans x.2.2.1.symm) (by rw [x.2.1]; exact hd) (by show 2 * 0 + ((zStk st).map fun v => v.category).sum ≤ 8; rw [zStk_cat]; omega) (X₁.named hnamed) ⟨hc1, hc2, rfl, zInv_of x r1 r2 hT X₁.warmed⟩ with ⟨v, B, X', hpost, hsteps⟩ | ⟨q, B, X', hpost, hsteps⟩
  · exact Or.inl ⟨v, vm₁, B, X₁.warmed, X', hpost, fun target h => hstep₁ _ fun acts => by rw [doInvoke_state]; exact hsteps.trans h⟩
  · exact Or.inr ⟨q, vm₁, B, X₁.warmed, X', hpost, hstep₁ _ fun acts => by rw [doInvoke_state]; exact hsteps⟩
theorem z_canIG (x : zCx p l R s m args meth c E D tA cc nL own fr) {C : vw_C} {ci count : Nat} {x9 : MethodName} {J : String} (hc : zCL[ci]? = some C) {y : MethodName} {bytes : ByteArray} {maxL fr1 index : Nat} {ret : Option FieldType} {r : Option Nat} {F : Nat → zM} {As : List zV} (hM : ∀ b, zMet l E D tA y (ws_ y bytes maxL ret) fr1 (F b) (zP (some b) :: As)) (hlink : Cond.methodLink own index x9 ∈ zNx) (hdecl : Cond.declares ⟨J, x9.name, x9.desc⟩ ∈ lw_tbl) (hpubJ : Cond.publicMethod ⟨J, x9.name, x9.desc⟩ ∈ lw_tbl) (hface : Cond.interfaceMethod x9.cls J x9.name x9.desc ∈ zNx) (hxo : x9.cls ≠ J) (hfk : x9.cls ≠ "java/lang/invoke/MethodHandle" ∧ x9.cls ≠ "java/lang/invoke/VarHandle") (hJ : J ≠ "java/lang/invoke/MethodHandle" ∧ J ≠ "java/lang/invoke/VarHandle") (hsel : Cond.selects C.1 ⟨J, x9.name, x9.desc⟩ y ∈ lw_all) (hinst : Cond.instanceMethod y ∈ lw_all) (hpub : Cond.publicMethod y ∈ lw_tbl) (hunh : Cond.unhidden C.1 x9.name x9.desc ∈ lw_tbl) (hcast : Cond.castable C.1 x9.cls ∈ lw_tbl) (hini : Cond.initialized y.cls ∈ lw_all) (hcode : Cond.code y bytes maxL ret ∈ lw_all)
    (hn : zNm x9 As.length) (hR : fr1 + 1 ≤ fr ∧ 8 + (maxL + 11) + 64 * fr1 ≤ 64 * fr) (hs8 : (st.map zCat).sum ≤ 8) (hd : decode cc pc = .ok (.invokeinterface index count, 5)) : zCan p l e R s m args below meth c E D tA nL pc 5 (zRv r [(ci, F)]) (As.reverse ++ zP r :: st) st := by
  intro h o1 h1 em H locs ls cells slots T r1 r2 hls hc1 hc2 hT X
  obtain ⟨b, fs, rfl, hb, hf⟩ := zRv_inv em
  have hts := x.2.2.2.2.1
  have hNw := x.2.2.2.2.2.2.2.1
  obtain ⟨cellB, g1, g2, g3⟩ := z_cls x.2.2.2.2.2.1 hc r1 hT hb
  obtain ⟨kB, g4, -⟩ := Vm.findClass_spec g3
  refine ⟨(Value.ref b :: zStk As).toArray, ?_⟩
  have hK := zMet_back (e := e) (below := below) x (len := 5) (hM b) hcode hini hR.1 hR.2 hf
  obtain ⟨r0, r, hn9, hrm, hstR, hsigR⟩ := Cond.declares_spec (zNw.use (args := args) hNw hdecl rfl)
  obtain ⟨cL, kL, r1', hcL, hkL, hiL, hfoundL, hn1⟩ := Cond.interfaceMethod_spec (zNw.useX (args := args) hNw hface)
  cases hn9.symm.trans hn1
  obtain ⟨hnameR, hdescR⟩ := name_of_methodNamed hn9 hrm
  obtain ⟨mk, methM, hnamed, hmethM, -, habM⟩ := Cond.instanceMethod_spec (hts _ hinst)
  obtain ⟨c2, r2', m2, q1, q2, q3, q4, -⟩ := Cond.selects_spec (hts _ hsel)
  cases g3.symm.trans q1
  cases (State.methodFound?_of_named hn9 hJ).symm.trans q2
  cases hnamed.symm.trans q3
  have hselP : selectMethod e.platform s.vm cellB.cls r0 = .method mk := by rw [Launch.admits_selectMethod X.admits]; exact q4
  have hpubM : hasFlag methM.accessFlags Acc.public_ = true := Cond.publicMethod_spec hnamed hmethM (zNw.use (args := args) hNw hpub rfl)
  have hway : ((cellB.cls :: s.vm.superclasses cellB.cls).any fun k => (declaredIn s.vm r.name r.desc k).any fun (_, z) => z.isPrivate || z.isStatic) = false := by
    rw [hnameR, hdescR]; exact Cond.unhidden_spec g3 (zNw.use (args := args) hNw hunh rfl)
  obtain ⟨c3, t3, w1, w2, w3⟩ := Cond.castable_spec (zNw.use (args := args) hNw hcast rfl)
  cases g3.symm.trans w1
  cases hcL.symm.trans w2
  obtain ⟨vm₁, X₁, hstep₁⟩ := X.invokeinterfaceUp x.1 (J := J) x.2.2.2.1 (zNw.useX (args := args) hNw hlink) (zNw.useX (args := args) hNw hface) (zNw.use (args := args) hNw hdecl rfl) (zNw.use (args := args) hNw hpubJ rfl) hxo hfk (a := b) (cell := cellB) (kcell := kB) hcL g1
    (fun z h => by rw [h] at g2; cases g2) g4 w3 hn9 hrm hselP hmethM hway hpubM habM (g := F0 m pc ls (zStk (As.reverse ++ zP (some b) :: st))) rfl (argsL := zStk As) (rest := zStk st) (zNm_len hn (by simp [zStk]) _ hsigR) (zStk_rev1 As b st) (by rw [x.2.1]; exact hd)
  rcases hK m meth c ⟨T.setVm vm₁, locs, cells, slots⟩ { F0 m pc ls (zStk (As.reverse ++ zP (some b) :: st)) with stack := zStk st } (.invokeinterface index count) mk (Value.ref b :: zStk As).toArray X₁ rfl (hls.trans x.2.2.1.symm) (by rw [x.2.1]; exact hd) (by show 2 * 0 + ((zStk st).map fun v => v.category).sum ≤ 8; rw [zStk_cat]; omega) (X₁.named hnamed) ⟨hc1, hc2, rfl, zInv_of x r1 r2 hT X₁.warmed⟩ with ⟨v, B, X', hpost, hsteps⟩ | ⟨q, B, X', hpost, hsteps⟩
  · exact Or.inl ⟨v, vm₁, B, X₁.warmed, X', hpost, fun target h => hstep₁ _ fun acts => by rw [doInvoke_state]; exact hsteps.trans h⟩
  · exact Or.inr ⟨q, vm₁, B, X₁.warmed, X', hpost, hstep₁ _ fun acts => by rw [doInvoke_state]; exact hsteps⟩
end ZCD
