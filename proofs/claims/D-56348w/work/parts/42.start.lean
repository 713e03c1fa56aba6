/-! ===== the start: where the constants lie, and what the precondition says of them ===== -/
/-- the address that a term names -/
def zEv (b : Nat) (s : State) (t : Term) : Option Nat := match t.eval #[Value.ref b] s none [] s with
  | some (.ref a) => some a
  | _ => none
/-- the constants' terms, by number -/
def zTm (k : Nat) : Option Term :=
  match zStR.find? (fun q => q.2.2.2 == k) with
  | some q => some (.static q.1 q.2.1 q.2.2.1)
  | none => match zMir.find? (fun q => q.2 == k) with
    | some q => some (.mirror q.1)
    | none => match zStr.find? (fun q => q.2.2.2 == k) with
      | some q => some (.string q.1 q.2.1)
      | none => none
def zEof (b : Nat) (s : State) : zE := fun k =>
  if k = 0 then s.heap.size else match zTm k with
    | some t => (zEv b s t).getD 0
    | none => match zStQ.find? (fun q => q.2.2.2 == k) with
      | some q => match zEv b s (.static q.1 q.2.1 q.2.2.1) with
        | some a => a + 1
        | none => 0
      | none => 0
/-- what the precondition says, one by one -/
abbrev zFl : List Cond := flatC (Jvm.Cond.and given_1 narrow_1)
theorem zEv_of {b : Nat} {s : State} {t : Term} {a : Nat} (h : t.eval #[Value.ref b] s none [] s = some (.ref a)) : zEv b s t = some a := by
  unfold zEv
  rw [h]
theorem zEof_tm {b : Nat} {s : State} {k : Nat} {t : Term} (hk : k ≠ 0) (ht : zTm k = some t) {a : Nat} (h : t.eval #[Value.ref b] s none [] s = some (.ref a)) : zEof b s k = a := by
  unfold zEof
  rw [if_neg hk]
  simp only [ht]
  rw [zEv_of h]
  rfl
theorem zk1 : ∀ q ∈ zStI, Cond.laysStatic q.1 q.2.1 q.2.2.1 ∈ lw_tbl ∧ Cond.initialized q.1 ∈ lw_tbl ∧ Cond.eq (.static q.1 q.2.1 q.2.2.1) (.int q.2.2.2) ∈ zFl := by decide +kernel
theorem zk2 : ∀ q ∈ zStR, Cond.laysStatic q.1 q.2.1 q.2.2.1 ∈ lw_tbl ∧ Cond.initialized q.1 ∈ lw_tbl ∧ Cond.untouched (.static q.1 q.2.1 q.2.2.1) ∈ zFl ∧ zTm q.2.2.2 = some (.static q.1 q.2.1 q.2.2.1) ∧ q.2.2.2 ≠ 0 := by decide +kernel
theorem zk3 : ∀ q ∈ zStr, Cond.stringRef q.1 q.2.1 q.2.2.1 ∈ lw_tbl ∧ Cond.exactly (.string q.1 q.2.1) "java/lang/String" ∈ zFl ∧ zTm q.2.2.2 = some (.string q.1 q.2.1) ∧ q.2.2.2 ≠ 0 := by decide +kernel
theorem zk4 : ∀ q ∈ zMir, Cond.isRef (.mirror q.1) ∈ zFl ∧ zTm q.2 = some (.mirror q.1) ∧ q.2 ≠ 0 := by decide +kernel
theorem zk5 : ∀ q ∈ zStQ, Cond.laysStatic q.1 q.2.1 q.2.2.1 ∈ lw_tbl ∧ Cond.initialized q.1 ∈ lw_tbl ∧ Cond.isRef (.static q.1 q.2.1 q.2.2.1) ∈ zFl ∧ zTm q.2.2.2 = none ∧ (zStQ.find? fun r => r.2.2.2 == q.2.2.2) = some q ∧ q.2.2.2 ≠ 0 := by decide +kernel
section ZST
variable {p : Program} {s : State} {m : MethodId} {meth : Method} {c : Code} {b L : Nat} {xs : Nat → Int32}
theorem zSt_tbl (h : lw_At p s m meth c b L xs) : ∀ w ∈ lw_tbl, w.before #[Value.ref b] s = true := h.2.2.2.2.2.1
theorem zSt_fl (h : lw_At p s m meth c b L xs) : ∀ w ∈ zFl, w.before #[Value.ref b] s = true := flat_of_before _ h.2.2.2.2.2.2.2.2.2
theorem zSt_A (a : Nat) (h : a < s.heap.size) : ¬ zA (zEof b s) a := Nat.not_le.mpr h
theorem zSt_I (h : lw_At p s m meth c b L xs) : ∀ q ∈ zStI, va_Z q.1 q.2.1 q.2.2.1 (.int q.2.2.2) (zA (zEof b s)) s s.heap := fun q hq => by
  obtain ⟨h1, h2, h3⟩ := zk1 q hq
  exact va_Zof (zSt_tbl h _ h1) (zSt_tbl h _ h2) (va_eqi (zSt_fl h _ h3)) zSt_A
theorem zSt_R0 (h : lw_At p s m meth c b L xs) : ∀ q ∈ zStR, ∃ cell, (Term.static q.1 q.2.1 q.2.2.1).eval #[Value.ref b] s none [] s = some (.ref (zEof b s q.2.2.2)) ∧ s.heap[zEof b s q.2.2.2]? = some cell ∧ cell.monitor = {} ∧ cell.hash = none ∧ cell.vm = .none := fun q hq => by
  obtain ⟨h1, h2, h3, h4, h5⟩ := zk2 q hq
  obtain ⟨a, cell, e1, e2⟩ := Cond.untouched_spec (zSt_fl h _ h3)
  rw [zEof_tm h5 h4 e1]
  exact ⟨cell, e1, e2⟩
theorem zSt_R (h : lw_At p s m meth c b L xs) : ∀ q ∈ zStR, va_Z q.1 q.2.1 q.2.2.1 (.ref (zEof b s q.2.2.2)) (zA (zEof b s)) s s.heap := fun q hq => by
  obtain ⟨h1, h2, -⟩ := zk2 q hq
  obtain ⟨cell, e1, -⟩ := zSt_R0 h q hq
  exact va_Zof (zSt_tbl h _ h1) (zSt_tbl h _ h2) e1 zSt_A
theorem zSt_S0 (h : lw_At p s m meth c b L xs) : ∀ q ∈ zStr, ∃ cell, (Term.string q.1 q.2.1).eval #[Value.ref b] s none [] s = some (.ref (zEof b s q.2.2.2)) ∧ s.heap[zEof b s q.2.2.2]? = some cell ∧ cell.vm.isStatics = false ∧ s.vm.findClass "java/lang/String" = some cell.cls := fun q hq => by
  obtain ⟨h1, h3, h4, h5⟩ := zk3 q hq
  obtain ⟨a, c0, cell, k, e1, e2, e3, e4, e5, e6, -⟩ := Cond.exactly_spec (zSt_fl h _ h3)
  rw [zEof_tm h5 h4 e1]
  exact ⟨cell, e1, e3, e5, by rw [e6]; exact e2⟩
theorem zSt_S (h : lw_At p s m meth c b L xs) : ∀ q ∈ zStr, vk_R q.1 q.2.1 q.2.2.1 (zEof b s q.2.2.2) s := fun q hq => by
  obtain ⟨h1, -⟩ := zk3 q hq
  obtain ⟨cell, e1, -⟩ := zSt_S0 h q hq
  exact vk_R.of (zSt_tbl h _ h1) e1
theorem zSt_M (h : lw_At p s m meth c b L xs) : ∀ q ∈ zMir, va_Mi q.1 (zEof b s q.2) s := fun q hq => by
  obtain ⟨h1, h4, h5⟩ := zk4 q hq
  obtain ⟨v, hv, -⟩ := Cond.isRef_spec (zSt_fl h _ h1)
  obtain ⟨c0, k, a, g1, g2, g3, rfl⟩ := Term.mirror_spec hv
  rw [zEof_tm h5 h4 hv]
  exact ⟨c0, k, g1, g2, g3⟩
theorem zSt_Q (h : lw_At p s m meth c b L xs) : ∀ q ∈ zStQ, va_Z q.1 q.2.1 q.2.2.1 (va_rf (zOpt (zEof b s) q.2.2.2)) (zA (zEof b s)) s s.heap := fun q hq => by
  obtain ⟨h1, h2, h3, h4, h5, h6⟩ := zk5 q hq
  obtain ⟨v, hv, hr⟩ := Cond.isRef_spec (zSt_fl h _ h3)
  have e : va_rf (zOpt (zEof b s) q.2.2.2) = v := by
    unfold zOpt zEof
    rw [if_neg h6]
    simp only [h4, h5]
    cases v with
    | ref a => rw [zEv_of hv]; rfl
    | null =>
      have e0 : zEv b s (.static q.1 q.2.1 q.2.2.1) = none := by unfold zEv; rw [hv]
      rw [e0]; rfl
    | _ => cases hr
  rw [e]
  exact va_Zof (zSt_tbl h _ h1) (zSt_tbl h _ h2) hv zSt_A
theorem zSt_AI (h : lw_At p s m meth c b L xs) : zAI (zEof b s) s s.heap := by
  obtain ⟨cell, e1, e2, -⟩ := zSt_R0 h ("java/lang/Integer$IntegerCache", "cache", "[Ljava/lang/Integer;", 3) (by decide +kernel)
  obtain ⟨⟨-, k, hk, comp, hkind⟩, -⟩ := Cond.arrayOf_spec (zSt_fl h (.arrayOf (.static "java/lang/Integer$IntegerCache" "cache" "[Ljava/lang/Integer;") (.object "java/lang/Integer")) (by decide +kernel)) e1 e2
  exact ⟨(Array.getElem?_eq_some_iff.mp e2).1, cell, k, comp, e2, hk, hkind⟩
theorem zSt_G (h : lw_At p s m meth c b L xs) : zG (zEof b s) s s.heap :=
  ⟨zSt_I h, zSt_R h, zSt_S h, zSt_M h, zSt_Q h,
    vx_Zqof (zSt_tbl h _ (by decide +kernel)) (zSt_tbl h _ (by decide +kernel)) (zSt_fl h _ (by decide +kernel)) zSt_A,
    vx_Zqof (zSt_tbl h _ (by decide +kernel)) (zSt_tbl h _ (by decide +kernel)) (zSt_fl h _ (by decide +kernel)) zSt_A, zSt_AI h⟩
theorem zk6 : ∀ w ∈ zNx, w ∈ zFl := by decide +kernel
def zPk : Cond → Option (String × String) := fun w => match w with
  | .not (.castable a b) => some (a, b)
  | _ => none
theorem zPk_of {w : Cond} {q : String × String} (h : zPk w = some q) : w = .not (.castable q.1 q.2) := by
  unfold zPk at h
  split at h
  · cases h; rfl
  · cases h
theorem zk7a : (fun l : List (String × String) => zNcT.all fun q => match zCL[q.1]? with
  | some C => l.contains (C.1, zTg q.2)
  | none => true) (zFl.filterMap zPk) = true := by decide +kernel
theorem zk7 {q : Nat × Nat} (hq : q ∈ zNcT) {C : vw_C} (hC : zCL[q.1]? = some C) : Cond.not (.castable C.1 (zTg q.2)) ∈ zFl := by
  have h := List.all_eq_true.mp zk7a q hq
  rw [hC] at h
  obtain ⟨w, hw, he⟩ := List.mem_filterMap.mp (List.contains_iff_mem.mp h)
  rw [zPk_of he] at hw
  exact hw
theorem zNx_of {args : Array Value} {s : State} {w : Cond} (hw : w ∈ zNx) (h : w.before args s = true) : va_Nw w s := by
  simp only [zNx, List.mem_cons, List.not_mem_nil, or_false] at hw
  have ld : ∀ (C : String) (x y : MethodName), (Cond.landsInDefault C x y).before args s = true → va_Nw (Cond.landsInDefault C x y) s := fun C x y h => by
    have h1 := Cond.landsInDefault_setVm (args := args) (args' := #[]) (s := s) (cls := C) (x := x) (y := y) (Vm.Alike.refl s.vm) (by rw [State.methodFound?_setVm (Vm.Alike.refl s.vm)])
    have h2 : (Cond.landsInDefault C x y).before #[] s = (Cond.landsInDefault C x y).before #[] (s.setVm s.vm) := rfl
    show _ = true
    rw [h2, h1]; exact h
  rcases hw with rfl | rfl | rfl | rfl | rfl | rfl | rfl | rfl | rfl
  · exact va_Nw.of rfl h
  · exact va_Nw.of rfl h
  · exact va_Nw.of rfl h
  · exact va_Nw.of rfl h
  · exact va_Nw.of rfl h
  · exact ld _ _ _ h
  · exact ld _ _ _ h
  · exact ld _ _ _ h
  · exact ld _ _ _ h
theorem zSt_Nw (h : lw_At p s m meth c b L xs) : zNw s := by
  refine ⟨fun w hw hk => va_Nw.of (zNw_on hk) (zSt_tbl h w hw), ⟨fun C hC => va_AO.of (zSt_tbl h _ hC), fun t ht => zSt_tbl h _ ht, fun w hw => zNx_of hw (zSt_fl h w (zk6 w hw))⟩, fun q hq C hC => ?_⟩
  exact va_Nc.of (zSt_fl h _ (zk7 hq hC))
theorem zk8_0 : (∀ w ∈ u_ws RX3 TX3 2, w ∈ lw_tbl) ∧ ∃ n, Cond.instantiable RX3 n ∈ lw_tbl := ⟨fun w hw => lw_all_tbl (in_X3 w hw), ⟨_, lw_all_tbl q211⟩⟩
theorem zk8_1 : (∀ w ∈ u_ws RX21 TZX21 2, w ∈ lw_tbl) ∧ ∃ n, Cond.instantiable RX21 n ∈ lw_tbl := ⟨fun w hw => lw_all_tbl (in_ZX21 w hw), ⟨_, lw_all_tbl q2266⟩⟩
theorem zk8_2 : (∀ w ∈ u_ws RX27 TZX27 3, w ∈ lw_tbl) ∧ ∃ n, Cond.instantiable RX27 n ∈ lw_tbl := ⟨fun w hw => lw_all_tbl (in_ZX27 w hw), ⟨_, lw_all_tbl q2621⟩⟩
theorem zk8_3 : (∀ w ∈ u_ws RJ12 TJ12 0, w ∈ lw_tbl) ∧ ∃ n, Cond.instantiable RJ12 n ∈ lw_tbl := ⟨fun w hw => absurd (show w ∈ ([] : List Cond) from hw) List.not_mem_nil, ⟨_, lw_all_tbl q1403⟩⟩
theorem zk8_4 : (∀ w ∈ u_ws RJ19 TJ19 0, w ∈ lw_tbl) ∧ ∃ n, Cond.instantiable RJ19 n ∈ lw_tbl := ⟨fun w hw => absurd (show w ∈ ([] : List Cond) from hw) List.not_mem_nil, ⟨_, lw_all_tbl q1538⟩⟩
theorem zk8_5 : (∀ w ∈ u_ws RJ20 TJ20 0, w ∈ lw_tbl) ∧ ∃ n, Cond.instantiable RJ20 n ∈ lw_tbl := ⟨fun w hw => absurd (show w ∈ ([] : List Cond) from hw) List.not_mem_nil, ⟨_, lw_all_tbl q1556⟩⟩
theorem zk8_6 : (∀ w ∈ u_ws RJ21 TJ21 0, w ∈ lw_tbl) ∧ ∃ n, Cond.instantiable RJ21 n ∈ lw_tbl := ⟨fun w hw => absurd (show w ∈ ([] : List Cond) from hw) List.not_mem_nil, ⟨_, lw_all_tbl q434⟩⟩
theorem zk8_7 : (∀ w ∈ u_ws RJ25 TJ25 0, w ∈ lw_tbl) ∧ ∃ n, Cond.instantiable RJ25 n ∈ lw_tbl := ⟨fun w hw => absurd (show w ∈ ([] : List Cond) from hw) List.not_mem_nil, ⟨_, lw_all_tbl q1706⟩⟩
theorem zk8_8 : (∀ w ∈ u_ws RJ27 TJ27 0, w ∈ lw_tbl) ∧ ∃ n, Cond.instantiable RJ27 n ∈ lw_tbl := ⟨fun w hw => absurd (show w ∈ ([] : List Cond) from hw) List.not_mem_nil, ⟨_, lw_all_tbl q2104⟩⟩
theorem zk8_9 : (∀ w ∈ u_ws RJ14 TJ14 1, w ∈ lw_tbl) ∧ ∃ n, Cond.instantiable RJ14 n ∈ lw_tbl := ⟨fun w hw => lw_all_tbl (in_J14 w hw), ⟨_, lw_all_tbl q2002⟩⟩
theorem zk8_10 : (∀ w ∈ u_ws RJ2 TJ2 3, w ∈ lw_tbl) ∧ ∃ n, Cond.instantiable RJ2 n ∈ lw_tbl := ⟨fun w hw => lw_all_tbl (in_J2 w hw), ⟨_, lw_all_tbl q182⟩⟩
theorem zk8_11 : (∀ w ∈ u_ws RJ22 TJ22 4, w ∈ lw_tbl) ∧ ∃ n, Cond.instantiable RJ22 n ∈ lw_tbl := ⟨fun w hw => lw_all_tbl (in_J22 w hw), ⟨_, lw_all_tbl q391⟩⟩
theorem zk8_12 : (∀ w ∈ u_ws RJ23 TJ23 1, w ∈ lw_tbl) ∧ ∃ n, Cond.instantiable RJ23 n ∈ lw_tbl := ⟨fun w hw => lw_all_tbl (in_J23 w hw), ⟨_, lw_all_tbl q524⟩⟩
theorem zk8_13 : (∀ w ∈ u_ws RJ3 TJ3 3, w ∈ lw_tbl) ∧ ∃ n, Cond.instantiable RJ3 n ∈ lw_tbl := ⟨fun w hw => lw_all_tbl (in_J3 w hw), ⟨_, lw_all_tbl q269⟩⟩
theorem zk8_14 : (∀ w ∈ u_ws RJ5 TJ5 4, w ∈ lw_tbl) ∧ ∃ n, Cond.instantiable RJ5 n ∈ lw_tbl := ⟨fun w hw => lw_all_tbl (in_J5 w hw), ⟨_, lw_all_tbl q287⟩⟩
theorem zk8_15 : (∀ w ∈ u_ws RJ6 TJ6 4, w ∈ lw_tbl) ∧ ∃ n, Cond.instantiable RJ6 n ∈ lw_tbl := ⟨fun w hw => lw_all_tbl (in_J6 w hw), ⟨_, lw_all_tbl q1378⟩⟩
theorem zk8_16 : (∀ w ∈ u_ws RX1 TX1 8, w ∈ lw_tbl) ∧ ∃ n, Cond.instantiable RX1 n ∈ lw_tbl := ⟨fun w hw => lw_all_tbl (in_X1 w hw), ⟨_, lw_all_tbl q168⟩⟩
theorem zk8_17 : (∀ w ∈ u_ws RX11 TX11 2, w ∈ lw_tbl) ∧ ∃ n, Cond.instantiable RX11 n ∈ lw_tbl := ⟨fun w hw => lw_all_tbl (in_X11 w hw), ⟨_, lw_all_tbl q902⟩⟩
theorem zk8_18 : (∀ w ∈ u_ws RX12 TX12 2, w ∈ lw_tbl) ∧ ∃ n, Cond.instantiable RX12 n ∈ lw_tbl := ⟨fun w hw => lw_all_tbl (in_X12 w hw), ⟨_, lw_all_tbl q952⟩⟩
theorem zk8_19 : (∀ w ∈ u_ws RX13 TX13 1, w ∈ lw_tbl) ∧ ∃ n, Cond.instantiable RX13 n ∈ lw_tbl := ⟨fun w hw => lw_all_tbl (in_X13 w hw), ⟨_, lw_all_tbl q1017⟩⟩
theorem zk8_20 : (∀ w ∈ u_ws RX14 TX14 2, w ∈ lw_tbl) ∧ ∃ n, Cond.instantiable RX14 n ∈ lw_tbl := ⟨fun w hw => lw_all_tbl (in_X14 w hw), ⟨_, lw_all_tbl q1042⟩⟩
theorem zk8_21 : (∀ w ∈ u_ws RX15 TX15 5, w ∈ lw_tbl) ∧ ∃ n, Cond.instantiable RX15 n ∈ lw_tbl := ⟨fun w hw => lw_all_tbl (in_X15 w hw), ⟨_, lw_all_tbl q1852⟩⟩
theorem zk8_22 : (∀ w ∈ u_ws RX16 TX16 3, w ∈ lw_tbl) ∧ ∃ n, Cond.instantiable RX16 n ∈ lw_tbl := ⟨fun w hw => lw_all_tbl (in_X16 w hw), ⟨_, lw_all_tbl q1879⟩⟩
theorem zk8_23 : (∀ w ∈ u_ws RX17 TX17 4, w ∈ lw_tbl) ∧ ∃ n, Cond.instantiable RX17 n ∈ lw_tbl := ⟨fun w hw => lw_all_tbl (in_X17 w hw), ⟨_, lw_all_tbl q1108⟩⟩
theorem zk8_24 : (∀ w ∈ u_ws RX18 TX18 5, w ∈ lw_tbl) ∧ ∃ n, Cond.instantiable RX18 n ∈ lw_tbl := ⟨fun w hw => lw_all_tbl (in_X18 w hw), ⟨_, lw_all_tbl q1064⟩⟩
theorem zk8_25 : (∀ w ∈ u_ws RX19 TX19 1, w ∈ lw_tbl) ∧ ∃ n, Cond.instantiable RX19 n ∈ lw_tbl := ⟨fun w hw => lw_all_tbl (in_X19 w hw), ⟨_, lw_all_tbl q2043⟩⟩
theorem zk8_26 : (∀ w ∈ u_ws RX2 TX2 4, w ∈ lw_tbl) ∧ ∃ n, Cond.instantiable RX2 n ∈ lw_tbl := ⟨fun w hw => lw_all_tbl (in_X2 w hw), ⟨_, lw_all_tbl q176⟩⟩
theorem zk8_27 : (∀ w ∈ u_ws RX20 TX20 3, w ∈ lw_tbl) ∧ ∃ n, Cond.instantiable RX20 n ∈ lw_tbl := ⟨fun w hw => lw_all_tbl (in_X20 w hw), ⟨_, lw_all_tbl q2163⟩⟩
theorem zk8_28 : (∀ w ∈ u_ws RX22 TX22 5, w ∈ lw_tbl) ∧ ∃ n, Cond.instantiable RX22 n ∈ lw_tbl := ⟨fun w hw => lw_all_tbl (in_X22 w hw), ⟨_, lw_all_tbl q2311⟩⟩
theorem zk8_29 : (∀ w ∈ u_ws RX23 TX23 2, w ∈ lw_tbl) ∧ ∃ n, Cond.instantiable RX23 n ∈ lw_tbl := ⟨fun w hw => lw_all_tbl (in_X23 w hw), ⟨_, lw_all_tbl q2386⟩⟩
theorem zk8_30 : (∀ w ∈ u_ws RX24 TX24 3, w ∈ lw_tbl) ∧ ∃ n, Cond.instantiable RX24 n ∈ lw_tbl := ⟨fun w hw => lw_all_tbl (in_X24 w hw), ⟨_, lw_all_tbl q2399⟩⟩
theorem zk8_31 : (∀ w ∈ u_ws RX25 TX25 5, w ∈ lw_tbl) ∧ ∃ n, Cond.instantiable RX25 n ∈ lw_tbl := ⟨fun w hw => lw_all_tbl (in_X25 w hw), ⟨_, lw_all_tbl q2420⟩⟩
theorem zk8_32 : (∀ w ∈ u_ws RX4 TX4 1, w ∈ lw_tbl) ∧ ∃ n, Cond.instantiable RX4 n ∈ lw_tbl := ⟨fun w hw => lw_all_tbl (in_X4 w hw), ⟨_, lw_all_tbl q224⟩⟩
theorem zk8_33 : (∀ w ∈ u_ws RX5 TX5 1, w ∈ lw_tbl) ∧ ∃ n, Cond.instantiable RX5 n ∈ lw_tbl := ⟨fun w hw => lw_all_tbl (in_X5 w hw), ⟨_, lw_all_tbl q231⟩⟩
theorem zk8_34 : (∀ w ∈ u_ws RX6 TX6 28, w ∈ lw_tbl) ∧ ∃ n, Cond.instantiable RX6 n ∈ lw_tbl := ⟨fun w hw => lw_all_tbl (in_X6 w hw), ⟨_, lw_all_tbl q2780⟩⟩
theorem zk8_35 : (∀ w ∈ u_ws RX7 TX7 2, w ∈ lw_tbl) ∧ ∃ n, Cond.instantiable RX7 n ∈ lw_tbl := ⟨fun w hw => lw_all_tbl (in_X7 w hw), ⟨_, lw_all_tbl q373⟩⟩
theorem zk8_36 : (∀ w ∈ u_ws RX8 TX8 3, w ∈ lw_tbl) ∧ ∃ n, Cond.instantiable RX8 n ∈ lw_tbl := ⟨fun w hw => lw_all_tbl (in_X8 w hw), ⟨_, lw_all_tbl q616⟩⟩
theorem zk8_37 : (∀ w ∈ u_ws RX9 TX9 3, w ∈ lw_tbl) ∧ ∃ n, Cond.instantiable RX9 n ∈ lw_tbl := ⟨fun w hw => lw_all_tbl (in_X9 w hw), ⟨_, lw_all_tbl q2353⟩⟩
theorem zk8 : ∀ q ∈ zCL, (∀ w ∈ u_ws q.1 q.2.1 q.2.2, w ∈ lw_tbl) ∧ ∃ n, Cond.instantiable q.1 n ∈ lw_tbl := by
  intro q hq
  simp only [zCL, List.mem_cons, List.not_mem_nil, or_false] at hq
  rcases hq with rfl | rfl | rfl | rfl | rfl | rfl | rfl | rfl | rfl | rfl | rfl | rfl | rfl | rfl | rfl | rfl | rfl | rfl | rfl | rfl | rfl | rfl | rfl | rfl | rfl | rfl | rfl | rfl | rfl | rfl | rfl | rfl | rfl | rfl | rfl | rfl | rfl | rfl
  · exact zk8_0
  · exact zk8_1
  · exact zk8_2
  · exact zk8_3
  · exact zk8_4
  · exact zk8_5
  · exact zk8_6
  · exact zk8_7
  · exact zk8_8
  · exact zk8_9
  · exact zk8_10
  · exact zk8_11
  · exact zk8_12
  · exact zk8_13
  · exact zk8_14
  · exact zk8_15
  · exact zk8_16
  · exact zk8_17
  · exact zk8_18
  · exact zk8_19
  · exact zk8_20
  · exact zk8_21
  · exact zk8_22
  · exact zk8_23
  · exact zk8_24
  · exact zk8_25
  · exact zk8_26
  · exact zk8_27
  · exact zk8_28
  · exact zk8_29
  · exact zk8_30
  · exact zk8_31
  · exact zk8_32
  · exact zk8_33
  · exact zk8_34
  · exact zk8_35
  · exact zk8_36
  · exact zk8_37
theorem zSt_C (h : lw_At p s m meth c b L xs) : ∀ i : Nat, ∃ x : ClassId × (Nat → Nat), ∀ q, zCL[i]? = some q → u_Kn s q.1 q.2.1 q.2.2 x.1 x.2 := fun i => by
  cases hq : zCL[i]? with
  | none => exact ⟨(0, fun _ => 0), fun q e => by cases e⟩
  | some q =>
    obtain ⟨h1, n, hw⟩ := zk8 q (List.mem_of_getElem? hq)
    obtain ⟨cC, iS, hk⟩ := u_known (zSt_tbl h) h1 (zSt_tbl h _ hw)
    exact ⟨(cC, iS), fun q' e => by cases e; exact hk⟩
theorem zArT {cA : ClassId} {ty : FieldType} {k : Class} {comp : ClassId} (hk : s.vm.classes[cA]? = some k) (hkind : k.kind = .array comp ty) : ArrOfT s cA ty := fun n f => ⟨fun q => by simp [arrV], k, hk, comp, hkind⟩
theorem zSt_T (h : lw_At p s m meth c b L xs) : ∀ t : Nat, ∃ cA : ClassId, ∀ ty, zTY[t]? = some ty → ArrOfT s cA ty ∧ va_RA s cA ty := fun t => by
  have hp : ∀ ty : FieldType, (∀ C, ty ≠ .object C) → Cond.arrayClass ty ∈ lw_tbl → ∃ cA : ClassId, ArrOfT s cA ty ∧ va_RA s cA ty := fun ty hn hw => by
    obtain ⟨c0, k, comp, e1, e2, e3⟩ := Cond.arrayClass_spec (zSt_tbl h _ hw)
    refine ⟨c0, zArT e2 e3, ?_⟩
    cases ty with
    | object C => exact absurd rfl (hn C)
    | _ => exact e1
  have ho : ∀ C : String, Cond.arrayOver (.object C) ∈ lw_tbl → ∃ cA : ClassId, ArrOfT s cA (.object C) ∧ va_RA s cA (.object C) := fun C hw => by
    obtain ⟨comp, cA, k, e1, e2, e3, e4, e5⟩ := Cond.arrayOver_spec (zSt_tbl h _ hw)
    exact ⟨cA, zArT e3 e4, k, comp, e3, e4, e1, e5⟩
  have ha : ∀ t : FieldType, Cond.arrayOver (.array t) ∈ lw_tbl → ∃ cA : ClassId, ArrOfT s cA (.array t) ∧ va_RA s cA (.array t) := fun t hw => by
    obtain ⟨comp, cA, k, e1, e2, e3, e4, e5⟩ := zAO_spec (zSt_tbl h _ hw)
    exact ⟨cA, zArT e3 e4, e5⟩
  have fin : ∀ ty, zTY[t]? = some ty → ∃ cA : ClassId, ArrOfT s cA ty ∧ va_RA s cA ty := fun ty hty => by
    have hm := List.mem_of_getElem? hty
    simp only [zTY, List.mem_cons, List.not_mem_nil, or_false] at hm
    rcases hm with rfl | rfl | rfl | rfl | rfl | rfl | rfl | rfl | rfl | rfl
    · exact hp _ (fun C e => by cases e) (by decide +kernel)
    · exact hp _ (fun C e => by cases e) (by decide +kernel)
    · exact hp _ (fun C e => by cases e) (by decide +kernel)
    · exact hp _ (fun C e => by cases e) (by decide +kernel)
    · exact hp _ (fun C e => by cases e) (by decide +kernel)
    · exact ho _ (by decide +kernel)
    · exact ho _ (by decide +kernel)
    · exact ha _ (by decide +kernel)
    · exact ha _ (by decide +kernel)
    · exact ha _ (by decide +kernel)
  cases hq : zTY[t]? with
  | none => exact ⟨0, fun ty e => by cases e⟩
  | some ty =>
    obtain ⟨cA, hc⟩ := fin ty hq
    exact ⟨cA, fun ty' e => by cases e; exact hc⟩
theorem zSt_K (h : lw_At p s m meth c b L xs) : ∃ (D : va_G) (tA : Nat → ClassId), va_K D zCL (zTys tA) s := by
  obtain ⟨f, hf⟩ := Classical.axiomOfChoice (zSt_C h)
  obtain ⟨g, hg⟩ := Classical.axiomOfChoice (zSt_T h)
  refine ⟨(fun i => (f i).1, fun i => (f i).2), g, fun i q hq => hf i q hq, fun k q hk => ?_⟩
  unfold zTys at hk
  rw [List.getElem?_map] at hk
  cases hr : (List.range zTY.length)[k]? with
  | none => rw [hr] at hk; cases hk
  | some k' =>
    rw [hr] at hk
    cases hk
    have hkk := List.getElem?_eq_some_iff.mp hr
    obtain ⟨hl, he⟩ := hkk
    have hl2 : k < zTY.length := by simpa using hl
    have he2 : k' = k := by simpa using he.symm
    subst he2
    exact hg k' _ (show zTY[k']? = some (zTY.getD k' .int) by rw [List.getD_eq_getElem?_getD, List.getElem?_eq_getElem hl2]; rfl)
end ZST
