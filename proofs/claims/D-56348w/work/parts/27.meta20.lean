/-! ===== Account's synchronized methods ===== -/
section ZSF
variable {p : Program} {l : Launch} {e : Env} {R : Room} {s : State} {m : MethodId} {args : Array Value} {below : List Frame} {meth : Method} {c : Code} {H : Heap} {locs : List Loc} {cells slots : Nat} {Q : State → Prop} {cc : ByteArray} {pc : Nat} {ls : Array Slot} {rest : List Value} {a : Addr} {D : va_G} {tA : Nat → ClassId} {own : String}
theorem zs_get (hexec : p.tables.exec = Jvm.exec) (hb : c.code = cc) (hown : s.vm.findClass own = some m.cls) (hts : ∀ w ∈ lw_all, w.before args s = true) (hK : va_K D zCL (zTys tA) s) {b k index : Nat} {V : Nat → Value} (hob : t_OB b (D.1 0) 2 (D.2 0) H V) (hk : k < 2) (hlink : Cond.fieldLink own index (TX3 k).1 (TX3 k).2.1 (TX3 k).2.2.1 ∈ lw_all) (hd : decode cc pc = .ok (.getfield index, 3))
    (kk : W p l e R s m args below meth c H locs cells slots Q (F1 m (pc + 3) ls (V k :: rest) a)) : W p l e R s m args below meth c H locs cells slots Q (F1 m pc ls (.ref b :: rest) a) := by
  obtain ⟨cell, q1, q2, q3, q4⟩ := hob
  obtain ⟨hS, hfc, kC, hkC, hkind⟩ := hK.1 0 (RX3, TX3, 2) rfl
  obtain ⟨cf, kf, fi, f, hi, hsl⟩ := hS k hk
  have hst := (u_facts hfc hkC (u_lays hts in_X3 hk) hi).1
  exact W.getf hexec hb hown (hts _ hlink) hi hst q1 (by rw [q3]; exact fun h => by cases h) (by rw [hsl]; exact q4 k hk) (g := F1 m pc ls (.ref b :: rest) a) rfl rfl hd kk
theorem zs_set (hexec : p.tables.exec = Jvm.exec) (hb : c.code = cc) (hown : s.vm.findClass own = some m.cls) (hts : ∀ w ∈ lw_all, w.before args s = true) (hK : va_K D zCL (zTys tA) s) {b k index : Nat} {V : Nat → Value} {v : Int32} (hob : t_OB b (D.1 0) 2 (D.2 0) H V) (hk : k < 2) (hlink : Cond.fieldLink own index (TX3 k).1 (TX3 k).2.1 (TX3 k).2.2.1 ∈ lw_all) (hfin : (TX3 k).2.2.2 = false) (hty : tyX3 k = .int) (hd : decode cc pc = .ok (.putfield index, 3))
    (kk : ∀ H1 : Heap, t_OB b (D.1 0) 2 (D.2 0) H1 (updV V k (.int v)) → H1.size = H.size → (∀ q : Nat, q ≠ b → H1[q]? = H[q]?) → W p l e R s m args below meth c H1 (locs ++ [⟨b, D.2 0 k⟩]) cells slots Q (F1 m (pc + 3) ls rest a)) : W p l e R s m args below meth c H locs cells slots Q (F1 m pc ls (.int v :: .ref b :: rest) a) := by
  obtain ⟨cell, q1, q2, q3, q4⟩ := hob
  have hap := va_apart (own := own) hts in_X3 tyX3 tyX3_ok nmX3 hK (ci := 0) rfl
  obtain ⟨hS, hfc, kC, hkC, hkind⟩ := hK.1 0 (RX3, TX3, 2) rfl
  obtain ⟨cf, kf, fi, f, hi, hsl⟩ := hS k hk
  have hlay := hts _ (in_X3 _ (u_in_lay hk))
  unfold u_lay at hlay
  rw [if_neg (by rw [hfin]; decide)] at hlay
  have hst := (u_facts hfc hkC (u_lays hts in_X3 hk) hi).1
  have h6 := u_store (v := .int v) hfc hkC hkind hlay hi (tyX3_ok k hk) (by rw [hty]; rfl) (by rw [hty]; rfl)
  refine W.putK hexec hb (f := f) ⟨hown, hts _ hlink, ⟨_, _, _, hi⟩, hst⟩ (by rw [q2]; exact h6) q1 q3 (by rw [hsl]; exact k2_hasslot (q4 k hk)) (g := F1 m pc ls (.int v :: .ref b :: rest) a) rfl rfl hd fun H' e1 e2 e3 => ?_
  rw [hsl] at e1 ⊢
  exact kk H' ⟨_, e1, q2, q3, t_set q4 hap hk _⟩ e2 e3
end ZSF
/-- the walk through a synchronized method of Account, whose receiver is a, from its fields fs to fs', answering v -/
def zsWalk (l : Launch) (E : zE) (D : va_G) (tA : Nat → ClassId) (y : MethodName) (cc : ByteArray) (nL : Nat) (ret : Option FieldType) (a : Nat) (fs' : List Value) (v : Option Value) (h : zH) (As : Array Value) : Prop :=
  ∀ (p : Program) (e : Env) (R : Room) (s : State) (m : MethodId) (below : List Frame) (meth : Method) (c : Code) (cell : Cell), p.tables.exec = Jvm.exec → c.code = cc → c.maxLocals = nL → meth.sig.returnType = ret → (s.setCell a (cell.withEntry s.cur)).vm.findClass y.cls = some m.cls → (∀ w ∈ lw_all, w.before As (s.setCell a (cell.withEntry s.cur)) = true) → va_K D zCL (zTys tA) (s.setCell a (cell.withEntry s.cur)) → zRep E D tA h s.heap → s.heap[a]? = some cell →
    ∀ Q : State → Prop, (∀ (H1 : Heap) (locs1 : List Loc) (g : JFrame), t_OB a (D.1 0) 2 (D.2 0) H1 (vp_V fs') → H1.size = s.heap.size → (∀ q : Nat, q ≠ a → H1[q]? = s.heap[q]?) → (∀ z ∈ locs1, z.base = a) →
      (∀ (T Z : State), T.heap = H1 → Stand p l e R (s.setCell a (cell.withEntry s.cur)) m As below meth c T locs1 0 0 → (∀ (f : JFrame) (acts : List Action), f.method = m → f.locked = some a → f.entered = [] → (doReturn e (T.setTop f) acts v).1 = Z) → Steps p.tables e below (T.setTop g) Z) →
      W p l e R (s.setCell a (cell.withEntry s.cur)) m As below meth c H1 locs1 0 0 Q g) →
    W p l e R (s.setCell a (cell.withEntry s.cur)) m As below meth c (s.setCell a (cell.withEntry s.cur)).heap [] 0 0 Q (entryFrameSync m As nL a)
theorem z_sync {l : Launch} {E : zE} {D : va_G} {tA : Nat → ClassId} {y : MethodName} {bytes : ByteArray} {nL fr : Nat} {ret : Option FieldType} {F : zM} {r0 : Option Nat} {As : List zV} (hplain : plainName y.cls = true) (hin : Cond.instanceMethod y ∈ lw_all)
    (hF : ∀ h out h', F h = some (out, h') → ∃ (a : Nat) (fs fs' : List Value) (v : Option Value), r0 = some a ∧ h.2.2 a = some (.inr (0, fs)) ∧ E 0 ≤ a ∧ out = .inl v ∧ (ret = none → v = none) ∧ h'.1 = h.1 ∧ h'.2.1 = h.2.1 ∧ h'.2.2 a = some (.inr (0, fs')) ∧ (∀ b, b ≠ a → h'.2.2 b = h.2.2 b) ∧ zsWalk l E D tA y bytes nL ret a fs' v h (zStk (zP r0 :: As)).toArray) : zMet l E D tA y (wsS_ y bytes nL ret) fr F (zP r0 :: As) := by
  intro h out h' hf
  obtain ⟨a, fs, fs', v, rfl, ha, hE, rfl, hv0, e1, e2, ha', hb', hwalk⟩ := hF h out h' hf
  refine z_ofS (cc := bytes) (maxL := nL) (ret := ret) hplain rfl (List.mem_cons_of_mem _ hin) ?_ ?_
  · intro args s hP
    obtain ⟨rfl, r1, -⟩ := hP
    obtain ⟨r', cell, hr1, q1, -, -, -, -, -, hm⟩ := r1.2 a _ ha
    obtain ⟨m1, m2, -⟩ := hm (Nat.zero_le _)
    exact ⟨a, cell, rfl, q1, m1, m2⟩
  · intro p e s m args below meth c a1 cell hexec hb hml hret hlocks hname hts harg hcell hfree hcount hP
    obtain ⟨rfl, r1, hK, hG, hNw, hE9⟩ := hP
    have haa : a1 = a := by
      have hz : (zStk (zP (some a) :: As)).toArray[0]? = some (.ref a) := rfl
      have := harg.symm.trans hz
      injection this with this
      injection this
    subst haa
    have hts0 : ∀ w ∈ lw_all, w.before (zStk (zP (some a1) :: As)).toArray (s.setCell a1 (cell.withEntry s.cur)) = true := fun w hw => vx_ot_at (s := s) (U := s.setCell a1 (cell.withEntry s.cur)) (State.WarmedH.refl s) rfl (by simp [vx_ot, (List.mem_filter.mp hw).2]) (hts w (List.mem_cons_of_mem _ hw))
    have hK0 : va_K D zCL (zTys tA) (s.setCell a1 (cell.withEntry s.cur)) := va_K.moved (u := s) (U := s.setCell a1 (cell.withEntry s.cur)) (Vm.Alike.refl s.vm) hK
    refine hwalk p e _ s m below meth c cell hexec hb hml hret (findClass_of_methodNamed hname) hts0 hK0 r1 hcell _ fun H1 locs1 g hob hsz hoth hlocs hst => ?_
    refine zs_left hcell (Or.inl ⟨hfree, hcount⟩) hlocks (v := v) (fun hh => hv0 (by rw [← hret]; exact hh)) hst (fun t DT g1 g2 g3 => ?_) (fun z hz => by rw [hlocs z hz]; exact hE) (Nat.zero_le _) (Nat.zero_le _)
    have hlt : a1 < H1.size := (Array.getElem?_eq_some_iff.mp g1).1
    have ht1 : t.heap[a1]? = some DT.left := by rw [g3]; simp [Array.getElem?_setIfInBounds, hlt]
    have ht2 : ∀ q : Nat, q ≠ a1 → t.heap[q]? = s.heap[q]? := fun q hq => by rw [g3, Array.getElem?_setIfInBounds, if_neg (fun z => hq z.symm)]; exact hoth q hq
    have htz : t.heap.size = s.heap.size := by rw [g3, Array.size_setIfInBounds, hsz]
    refine ⟨⟨v, rfl, rfl⟩, ⟨by rw [htz, r1.1, e1], fun b u hbu => ?_⟩, ⟨by rw [htz]; exact Nat.le_refl _, fun q h1 h2 => ht2 q (fun z => h2 (by rw [z]; exact hE))⟩⟩
    by_cases hba : b = a1
    · subst hba
      cases ha'.symm.trans hbu
      obtain ⟨r', c0, hr1, q1, q2, -, -, q3', q4, -⟩ := r1.2 b _ ha
      have q3 := q3' (Or.inr (Nat.zero_le _))
      clear q3'
      cases q1.symm.trans hcell
      obtain ⟨c1, w1, w2, w3, w4⟩ := hob
      cases g1.symm.trans w1
      refine zAt_ob ⟨(RX3, TX3, 2), rfl, DT.left, ht1, ?_, ?_, ?_⟩ (fun _ ce hce => ?_)
      · rw [g2]; exact q2
      · rw [g2]; exact q3
      · intro k hk
        rw [g2]
        exact w4 k hk
      · cases ht1.symm.trans hce
        rw [g2]
        exact ⟨hfree, hcount, Nat.zero_le _⟩
    · have hbu2 : h.2.2 b = some u := (hb' b hba).symm.trans hbu
      exact zAt_kept (r1.2 b u hbu2) (ht2 b hba)
theorem zs_ob {E : zE} {D : va_G} {tA : Nat → ClassId} {h : zH} {s : State} {a b : Nat} {fs : List Value} {cell : Cell} (r1 : zRep E D tA h s.heap) (hb : h.2.2 b = some (.inr (0, fs))) (hc : s.heap[a]? = some cell) : t_OB b (D.1 0) 2 (D.2 0) (s.setCell a (cell.withEntry s.cur)).heap (vp_V fs) := by
  obtain ⟨r', c0, hr1, q1, q2, -, -, q3', q4, -⟩ := r1.2 b _ hb
  have q3 := q3' (Or.inr (Nat.zero_le _))
  clear q3'
  cases hr1
  by_cases hba : b = a
  · subst hba
    cases q1.symm.trans hc
    exact ⟨_, State.heap_setCell_self (x := Cell.withEntry _ s.cur) hc, q2, q3, q4⟩
  · refine ⟨c0, ?_, q2, q3, q4⟩
    show (s.heap.setIfInBounds a _)[b]? = _
    rw [Array.getElem?_setIfInBounds, if_neg (fun z => hba z.symm)]
    exact q1
theorem zs_size {s : State} {a : Nat} {x : Cell} : (s.setCell a x).heap.size = s.heap.size := by simp [State.setCell]
theorem zs_oth {s : State} {a : Nat} {x : Cell} (q : Nat) (hq : q ≠ a) : (s.setCell a x).heap[q]? = s.heap[q]? := by
  show (s.heap.setIfInBounds a x)[q]? = _
  rw [Array.getElem?_setIfInBounds, if_neg (fun z => hq z.symm)]
def yX3_come : MethodName := ⟨RX3, "come", "()V"⟩
theorem n_X3_come : zNm yX3_come 0 := ⟨by decide +kernel, by decide +kernel, by decide +kernel⟩
def yX3_go : MethodName := ⟨RX3, "go", "()V"⟩
theorem n_X3_go : zNm yX3_go 0 := ⟨by decide +kernel, by decide +kernel, by decide +kernel⟩
def yX3_left : MethodName := ⟨RX3, "left", "()I"⟩
theorem n_X3_left : zNm yX3_left 0 := ⟨by decide +kernel, by decide +kernel, by decide +kernel⟩
def yX3_copy : MethodName := ⟨RX3, "copy", "(LBrambleLogic$Account;)V"⟩
theorem n_X3_copy : zNm yX3_copy 1 := ⟨by decide +kernel, by decide +kernel, by decide +kernel⟩
theorem dX3_come_0 : decode prog_2_method_2_code 0 = .ok (.aload_n 0, 1) := by decide +kernel
theorem dX3_come_1 : decode prog_2_method_2_code 1 = .ok (.dup, 1) := by decide +kernel
theorem dX3_come_2 : decode prog_2_method_2_code 2 = .ok (.getfield 7, 3) := by decide +kernel
theorem dX3_come_5 : decode prog_2_method_2_code 5 = .ok (.iconst 1, 1) := by decide +kernel
theorem dX3_come_6 : decode prog_2_method_2_code 6 = .ok (.iadd, 1) := by decide +kernel
theorem dX3_come_7 : decode prog_2_method_2_code 7 = .ok (.putfield 7, 3) := by decide +kernel
theorem dX3_come_10 : decode prog_2_method_2_code 10 = .ok (.return_, 1) := by decide +kernel
theorem dX3_go_0 : decode prog_2_method_3_code 0 = .ok (.aload_n 0, 1) := by decide +kernel
theorem dX3_go_1 : decode prog_2_method_3_code 1 = .ok (.dup, 1) := by decide +kernel
theorem dX3_go_2 : decode prog_2_method_3_code 2 = .ok (.getfield 13, 3) := by decide +kernel
theorem dX3_go_5 : decode prog_2_method_3_code 5 = .ok (.iconst 1, 1) := by decide +kernel
theorem dX3_go_6 : decode prog_2_method_3_code 6 = .ok (.iadd, 1) := by decide +kernel
theorem dX3_go_7 : decode prog_2_method_3_code 7 = .ok (.putfield 13, 3) := by decide +kernel
theorem dX3_go_10 : decode prog_2_method_3_code 10 = .ok (.return_, 1) := by decide +kernel
theorem dX3_left_0 : decode prog_2_method_4_code 0 = .ok (.aload_n 0, 1) := by decide +kernel
theorem dX3_left_1 : decode prog_2_method_4_code 1 = .ok (.getfield 7, 3) := by decide +kernel
theorem dX3_left_4 : decode prog_2_method_4_code 4 = .ok (.aload_n 0, 1) := by decide +kernel
theorem dX3_left_5 : decode prog_2_method_4_code 5 = .ok (.getfield 13, 3) := by decide +kernel
theorem dX3_left_8 : decode prog_2_method_4_code 8 = .ok (.isub, 1) := by decide +kernel
theorem dX3_left_9 : decode prog_2_method_4_code 9 = .ok (.ireturn, 1) := by decide +kernel
theorem dX3_copy_0 : decode prog_2_method_5_code 0 = .ok (.aload_n 0, 1) := by decide +kernel
theorem dX3_copy_1 : decode prog_2_method_5_code 1 = .ok (.aload_n 1, 1) := by decide +kernel
theorem dX3_copy_2 : decode prog_2_method_5_code 2 = .ok (.getfield 7, 3) := by decide +kernel
theorem dX3_copy_5 : decode prog_2_method_5_code 5 = .ok (.putfield 7, 3) := by decide +kernel
theorem dX3_copy_8 : decode prog_2_method_5_code 8 = .ok (.aload_n 0, 1) := by decide +kernel
theorem dX3_copy_9 : decode prog_2_method_5_code 9 = .ok (.aload_n 1, 1) := by decide +kernel
theorem dX3_copy_10 : decode prog_2_method_5_code 10 = .ok (.getfield 13, 3) := by decide +kernel
theorem dX3_copy_13 : decode prog_2_method_5_code 13 = .ok (.putfield 13, 3) := by decide +kernel
theorem dX3_copy_16 : decode prog_2_method_5_code 16 = .ok (.return_, 1) := by decide +kernel
def zGrd (E : zE) (r : Option Nat) (K : zM) : zM := fun h => match r with
  | none => none
  | some a => if E 0 ≤ a then K h else none
def zGrd2 (E : zE) (r r2 : Option Nat) (K : zM) : zM := if r = r2 then zFail else zGrd E r K
theorem zGrd_inv {E : zE} {r : Option Nat} {K : zM} {h : zH} {o : zR × zH} (e : zGrd E r K h = some o) : ∃ a, r = some a ∧ E 0 ≤ a ∧ K h = some o := by
  unfold zGrd at e
  split at e
  · cases e
  · rename_i a
    split at e
    · rename_i hc
      exact ⟨a, rfl, hc, e⟩
    · cases e
def s_X3_come (E : zE) (a0 : Option Nat) : zM := zGetI a0 0 0 fun v => zSet E a0 0 0 (zVal (zI (v + 1))) (zRet none)
theorem m_X3_come {l : Launch} {E : zE} {D : va_G} {tA : Nat → ClassId} (_ : l.stackTraces = false) (a0 : Option Nat) : zMet l E D tA yX3_come (wsS_ yX3_come prog_2_method_2_code 1 (Option.none : Option Jvm.ClassFile.FieldType)) 9 (s_X3_come E a0) [zP a0] := by
  refine z_sync (by decide +kernel) q1572 fun h out h' hf => ?_
  obtain ⟨a, fs, v, x, rfl, ha, hv, hx, ek⟩ := zGet_inv hf
  obtain ⟨a2, fs2, e2, ha2, hE, hl, ek⟩ := zSet_inv ek
  cases e2
  cases ha.symm.trans ha2
  cases ek
  have hvx : v = .int x := zAsI_eq hx
  subst hvx
  refine ⟨a, fs, fs.set 0 (.int (x + 1)), none, rfl, ha, hE, rfl, fun _ => rfl, rfl, rfl, zUp_self _ _ _, fun b hb => zUp_ne _ _ hb, ?_⟩
  intro p e R s m below meth c cell hexec hb hml hret hown hts hK r1 hcell Q fin
  have hob := zs_ob r1 ha hcell
  have hV : vp_V fs 0 = .int x := by simp [vp_V, hv]
  refine zs_aload hexec hb dX3_come_0 rfl rfl ?_
  refine zs_dup (pc := 1) hexec hb dX3_come_1 rfl ?_
  refine zs_get (pc := 2) hexec hb hown hts hK (k := 0) hob (by decide) q216 dX3_come_2 ?_
  rw [hV]
  refine zs_iconst (pc := 5) (v := 1) hexec hb dX3_come_5 rfl ?_
  refine zs_iadd (pc := 6) hexec hb dX3_come_6 ?_
  refine zs_set (pc := 7) hexec hb hown hts hK (k := 0) hob (by decide) q216 rfl rfl dX3_come_7 fun H1 g1 g2 g3 => ?_
  exact fin H1 _ _ (g1.to (fun j _ => vp_updV_set hl _ j)) (g2.trans zs_size) (fun q hq => (g3 q hq).trans (zs_oth q hq)) (fun z hz => by
    have hz := List.mem_singleton.mp hz
    rw [hz]) fun T Z hT Y hleave => zs_vret (pc := 10) Y hexec hb hret dX3_come_10 hleave
def s_X3_go (E : zE) (a0 : Option Nat) : zM := zGetI a0 0 1 fun v => zSet E a0 0 1 (zVal (zI (v + 1))) (zRet none)
theorem m_X3_go {l : Launch} {E : zE} {D : va_G} {tA : Nat → ClassId} (_ : l.stackTraces = false) (a0 : Option Nat) : zMet l E D tA yX3_go (wsS_ yX3_go prog_2_method_3_code 1 (Option.none : Option Jvm.ClassFile.FieldType)) 9 (s_X3_go E a0) [zP a0] := by
  refine z_sync (by decide +kernel) q1667 fun h out h' hf => ?_
  obtain ⟨a, fs, v, x, rfl, ha, hv, hx, ek⟩ := zGet_inv hf
  obtain ⟨a2, fs2, e2, ha2, hE, hl, ek⟩ := zSet_inv ek
  cases e2
  cases ha.symm.trans ha2
  cases ek
  have hvx : v = .int x := zAsI_eq hx
  subst hvx
  refine ⟨a, fs, fs.set 1 (.int (x + 1)), none, rfl, ha, hE, rfl, fun _ => rfl, rfl, rfl, zUp_self _ _ _, fun b hb => zUp_ne _ _ hb, ?_⟩
  intro p e R s m below meth c cell hexec hb hml hret hown hts hK r1 hcell Q fin
  have hob := zs_ob r1 ha hcell
  have hV : vp_V fs 1 = .int x := by simp [vp_V, hv]
  refine zs_aload hexec hb dX3_go_0 rfl rfl ?_
  refine zs_dup (pc := 1) hexec hb dX3_go_1 rfl ?_
  refine zs_get (pc := 2) hexec hb hown hts hK (k := 1) hob (by decide) q217 dX3_go_2 ?_
  rw [hV]
  refine zs_iconst (pc := 5) (v := 1) hexec hb dX3_go_5 rfl ?_
  refine zs_iadd (pc := 6) hexec hb dX3_go_6 ?_
  refine zs_set (pc := 7) hexec hb hown hts hK (k := 1) hob (by decide) q217 rfl rfl dX3_go_7 fun H1 g1 g2 g3 => ?_
  exact fin H1 _ _ (g1.to (fun j _ => vp_updV_set hl _ j)) (g2.trans zs_size) (fun q hq => (g3 q hq).trans (zs_oth q hq)) (fun z hz => by
    have hz := List.mem_singleton.mp hz
    rw [hz]) fun T Z hT Y hleave => zs_vret (pc := 10) Y hexec hb hret dX3_go_10 hleave
def s_X3_left (E : zE) (a0 : Option Nat) : zM := zGrd E a0 (zGetI a0 0 0 fun v => zGetI a0 0 1 fun u => zRet (some (.int (v - u))))
theorem m_X3_left {l : Launch} {E : zE} {D : va_G} {tA : Nat → ClassId} (_ : l.stackTraces = false) (a0 : Option Nat) : zMet l E D tA yX3_left (wsS_ yX3_left prog_2_method_4_code 1 (Option.some Jvm.ClassFile.FieldType.int)) 9 (s_X3_left E a0) [zP a0] := by
  refine z_sync (by decide +kernel) q886 fun h out h' hf => ?_
  obtain ⟨a9, rfl, hE, hf⟩ := zGrd_inv hf
  obtain ⟨a, fs, v, x, ea, ha, hv, hx, ek⟩ := zGet_inv hf
  cases ea
  obtain ⟨a2, fs2, v2, x2, e2, ha2, hv2, hx2, ek⟩ := zGet_inv ek
  cases e2
  cases ha.symm.trans ha2
  cases ek
  have hvx : v = .int x := zAsI_eq hx
  subst hvx
  have hvx2 : v2 = .int x2 := zAsI_eq hx2
  subst hvx2
  refine ⟨a9, fs, fs, _, rfl, ha, hE, rfl, (fun h => by cases h), rfl, rfl, ha, fun b hb => rfl, ?_⟩
  intro p e R s m below meth c cell hexec hb hml hret hown hts hK r1 hcell Q fin
  have hob := zs_ob r1 ha hcell
  have hV : vp_V fs 0 = .int x := by simp [vp_V, hv]
  have hV2 : vp_V fs 1 = .int x2 := by simp [vp_V, hv2]
  refine zs_aload hexec hb dX3_left_0 rfl rfl ?_
  refine zs_get (pc := 1) hexec hb hown hts hK (k := 0) hob (by decide) q216 dX3_left_1 ?_
  rw [hV]
  refine zs_aload (pc := 4) hexec hb dX3_left_4 rfl rfl ?_
  refine zs_get (pc := 5) hexec hb hown hts hK (k := 1) hob (by decide) q217 dX3_left_5 ?_
  rw [hV2]
  refine zs_isub (pc := 8) hexec hb dX3_left_8 ?_
  exact fin _ _ _ hob zs_size (fun q hq => zs_oth q hq) (fun z hz => nomatch hz) fun T Z hT Y hleave => zs_iret (pc := 9) Y hexec hb hret dX3_left_9 hleave
def s_X3_copy (E : zE) (a0 a1 : Option Nat) : zM := zGrd2 E a0 a1 (zGetI a1 0 0 fun v => zGetI a1 0 1 fun u => zSet E a0 0 0 (zVal (zI v)) (zSet E a0 0 1 (zVal (zI u)) (zRet none)))
theorem m_X3_copy {l : Launch} {E : zE} {D : va_G} {tA : Nat → ClassId} (_ : l.stackTraces = false) (a0 a1 : Option Nat) : zMet l E D tA yX3_copy (wsS_ yX3_copy prog_2_method_5_code 2 (Option.none : Option Jvm.ClassFile.FieldType)) 9 (s_X3_copy E a0 a1) [zP a0, zP a1] := by
  refine z_sync (by decide +kernel) q1509 fun h out h' hf => ?_
  unfold s_X3_copy zGrd2 at hf
  split at hf
  · cases hf
  rename_i hne
  obtain ⟨a, rfl, hE, hf⟩ := zGrd_inv hf
  obtain ⟨b, gs, v, x, rfl, hgb, hv, hx, ek⟩ := zGet_inv hf
  obtain ⟨b2, gs2, v2, x2, e2, hgb2, hv2, hx2, ek⟩ := zGet_inv ek
  cases e2
  cases hgb.symm.trans hgb2
  obtain ⟨a2, fs, e2, ha, -, hl, ek⟩ := zSet_inv ek
  cases e2
  obtain ⟨a3, fs3, e2, ha3, -, hl3, ek⟩ := zSet_inv ek
  cases e2
  have ha3 : zUp h.2.2 a (.inr (0, fs.set 0 (zVal (zI x)))) a = some (.inr (0, fs3)) := ha3
  cases (zUp_self _ _ _).symm.trans ha3
  cases ek
  have hvx : v = .int x := zAsI_eq hx
  subst hvx
  have hvx2 : v2 = .int x2 := zAsI_eq hx2
  subst hvx2
  have hab : b ≠ a := fun z => hne (by rw [z])
  refine ⟨a, fs, _, none, rfl, ha, hE, rfl, fun _ => rfl, rfl, rfl, zUp_self _ _ _, fun q hq => (zUp_ne _ _ hq).trans (zUp_ne _ _ hq), ?_⟩
  intro p e R s m below meth c cell hexec hb hml hret hown hts hK r1 hcell Q fin
  have hob := zs_ob r1 ha hcell
  have hgo := zs_ob r1 hgb hcell
  have hV : vp_V gs 0 = .int x := by simp [vp_V, hv]
  have hV2 : vp_V gs 1 = .int x2 := by simp [vp_V, hv2]
  refine zs_aload hexec hb dX3_copy_0 rfl rfl ?_
  refine zs_aload (pc := 1) hexec hb dX3_copy_1 rfl rfl ?_
  refine zs_get (pc := 2) hexec hb hown hts hK (k := 0) hgo (by decide) q216 dX3_copy_2 ?_
  rw [hV]
  refine zs_set (pc := 5) hexec hb hown hts hK (k := 0) hob (by decide) q216 rfl rfl dX3_copy_5 fun H1 g1 g2 g3 => ?_
  have hgo1 := hgo.kept (g3 b hab)
  refine zs_aload (pc := 8) hexec hb dX3_copy_8 rfl rfl ?_
  refine zs_aload (pc := 9) hexec hb dX3_copy_9 rfl rfl ?_
  refine zs_get (pc := 10) hexec hb hown hts hK (k := 1) hgo1 (by decide) q217 dX3_copy_10 ?_
  rw [hV2]
  refine zs_set (pc := 13) hexec hb hown hts hK (k := 1) (g1.to (fun j _ => vp_updV_set hl _ j)) (by decide) q217 rfl rfl dX3_copy_13 fun H2 w1 w2 w3 => ?_
  exact fin H2 _ _ (w1.to (fun j _ => vp_updV_set hl3 _ j)) (w2.trans (g2.trans zs_size)) (fun q hq => (w3 q hq).trans ((g3 q hq).trans (zs_oth q hq))) (fun z hz => by
    rcases List.mem_append.mp hz with hz | hz
    · have hz := List.mem_singleton.mp hz
      rw [hz]
    · have hz := List.mem_singleton.mp hz
      rw [hz]) fun T Z hT Y hleave => zs_vret (pc := 16) Y hexec hb hret dX3_copy_16 hleave
