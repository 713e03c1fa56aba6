/-! ===== synchronized methods: the entry, a few rows over a locked frame, the return ===== -/
theorem z_ofS {l : Launch} {y : MethodName} {ws ws' : List Cond} {rm : Room} {Pc : Array Value → State → Prop} {Qc : Array Value → State → Outcome → State → Prop} {XC : Addr → String → State → State → Prop} {mc ms : Nat} {free : Addr → Prop} {cc : ByteArray} {maxL : Nat} {ret : Option FieldType}
    (hy : plainName y.cls = true) (hw : ws = Cond.codeSync y cc maxL ret :: ws') (hin : Cond.instanceMethod y ∈ ws)
    (hrecv : ∀ args s, Pc args s → ∃ (a : Addr) (cell : Cell), args[0]? = some (.ref a) ∧ s.heap[a]? = some cell ∧ cell.monitor.owner = none ∧ cell.monitor.count = 0)
    (body : ∀ (p : Program) (e : Env) (s : State) (m : MethodId) (args : Array Value) (below : List Frame) (meth : Method) (c : Code) (a : Addr) (cell : Cell), p.tables.exec = Jvm.exec → c.code = cc → c.maxLocals = maxL → meth.sig.returnType = ret → meth.locks = true → s.methodNamed? y = some m → (∀ w ∈ ws, w.before args s = true) → args[0]? = some (.ref a) → s.heap[a]? = some cell → cell.monitor.owner = none → cell.monitor.count = 0 → Pc args s →
      W p l e (headSpec ws rm).room (s.setCell a (cell.withEntry s.cur)) m args below meth c (s.setCell a (cell.withEntry s.cur)).heap [] 0 0 (zMQ below Qc XC args s mc ms free) (entryFrameSync m args maxL a)) : zMt l y ws rm Pc Qc XC mc ms free := by
  intro p e ha hc hk s m args below hf happ hP _
  obtain ⟨hrun, hable, halone, hname, hhears, hinit, hroom, hpre⟩ := (Spec.appliesLoose_iff hf).mp happ
  have hts := atoms_spec (ws := ws) hpre
  obtain ⟨meth, c, hmeth, hcode, hbytes, hlocals, hret, hlocks, -, -⟩ := Cond.codeSync_spec hname (hts _ (by rw [hw]; exact List.mem_cons_self))
  obtain ⟨mk9, meth9, hn9, hm9, hst, -⟩ := Cond.instanceMethod_spec (hts _ hin)
  cases hname.symm.trans hn9
  cases hmeth.symm.trans hm9
  obtain ⟨a, cell, harg, hcell, hfree, hcount⟩ := hrecv args s hP
  have hcur := State.cur_lt_of_frames hf
  have hcur' : (s.setCell a (cell.withEntry s.cur)).cur < (s.setCell a (cell.withEntry s.cur)).threads.size := hcur
  have hf1 : ((s.setCell a (cell.withEntry s.cur)).setFrames (.java (entryFrameSync m args maxL a) :: below)).frames = .java (entryFrameSync m args maxL a) :: below := State.frames_setFrames _ hcur'
  have ht1 := State.topJava?_of_frames hf1
  have hplain : ((s.setCell a (cell.withEntry s.cur)).setFrames (.java (entryFrameSync m args maxL a) :: below)).plainMethod m := by
    refine State.plainMethod.of_name fun k hk => ?_
    obtain ⟨k', hk', hn⟩ := className_of_methodNamed hname
    cases (show s.vm.classes[m.cls]? = some k from hk).symm.trans hk'
    rw [hn]; exact hy
  have hAt : At ((s.setCell a (cell.withEntry s.cur)).setFrames (.java (entryFrameSync m args maxL a) :: below)) m c below :=
    ⟨by rw [ht1]; rfl, ⟨[], by rw [hf1]; rfl⟩, hrun, by simpa using hable, by simpa using halone, by rw [State.code?_eq]; simp [State.setFrames, State.setCell, hmeth, hcode], hplain⟩
  obtain ⟨t0, ht0, -⟩ := State.frames_cons hf
  have hX : Stand p l e (headSpec ws rm).room (s.setCell a (cell.withEntry s.cur)) m args below meth c ((s.setCell a (cell.withEntry s.cur)).setFrames (.java (entryFrameSync m args maxL a) :: below)) [] 0 0 := by
    refine ⟨ha, hc, hk, hf, by rw [State.hasRoom_setCell (x := cell.withEntry s.cur) hcell rfl]; exact hroom, hhears, hmeth, hcode, hAt, by rw [hf1]; rfl, State.WarmedH.refl (s.setCell a (cell.withEntry s.cur)), by rw [State.stackLimits_setFrames], by rw [State.stackBytes_setFrames], ?_⟩
    exact (State.sameButNew.refl (s.setCell a (cell.withEntry s.cur)) (x := t0) ht0).setFrames (.java (entryFrameSync m args maxL a) :: below) hcur
  obtain ⟨t, a1, o, b1, b2, b3⟩ := body p e s m args below meth c a cell (by cases p <;> rfl) hbytes hlocals hret hlocks hname hts harg hcell hfree hcount hP ((s.setCell a (cell.withEntry s.cur)).setFrames (.java (entryFrameSync m args maxL a) :: below)) rfl hX
  have hstep : (stepThread p.tables e s).1 = ((s.setCell a (cell.withEntry s.cur)).setFrames (.java (entryFrameSync m args maxL a) :: below)).setTop (entryFrameSync m args maxL a) := by
    have hfull : e.platform.stackFull (s.setFrames below).me (s.setFrames below).frames (c.maxLocals + 2) = false := by
      obtain ⟨-, h1, -, h2⟩ := State.hasRoom_stack hroom
      rw [hf, List.length_cons] at h1
      rw [State.localsInUse_invoking hf hmeth hcode] at h2
      have hw := stackUse_le_stackWeight below
      rw [State.frames_setFrames _ hcur]
      simp only [vmFrameWords] at h2
      exact Platform.stackFull_eq_false (by rw [State.stackLimits_setFrames]; omega) (by rw [State.stackLimits_setFrames]; omega)
    rw [stepThread_invoking hf, (doInvoke_java_sync (s := s.setFrames below) (e := e) (meth := meth) (code := c) (a := a) (cell := cell) hmeth hcode hlocks hst harg hcell (Or.inl hfree) hfull).1,
      State.setTop_self ht1, hlocals]
    show (((s.setFrames below).setCell a (cell.withEntry s.cur)).setFrames (.java (entryFrameSync m args maxL a) :: ((s.setFrames below).setCell a (cell.withEntry s.cur)).frames)) = _
    rw [show ((s.setFrames below).setCell a (cell.withEntry s.cur)).frames = below from State.frames_setFrames _ hcur, State.setCell_setFrames, State.setFrames_setFrames]
  obtain ⟨n, hn, hw9⟩ := Steps.head (tb := p.tables) (e := e) ⟨hrun, hable, halone⟩ ⟨[.invoking m args], hf, by simp, by simp⟩ (hstep ▸ a1)
  exact ⟨n, o, hw9, hn ▸ b1, hn ▸ b2, hn ▸ b3⟩
abbrev F1 (m : MethodId) (pc : Nat) (ls : Array Slot) (st : List Value) (a : Addr) : JFrame := { method := m, pc := pc, locals := ls, stack := st, locked := some a, monitorRoom := 1 }
section ZSN
variable {p : Program} {l : Launch} {e : Env} {R : Room} {s : State} {m : MethodId} {args : Array Value} {below : List Frame} {meth : Method} {c : Code} {H : Heap} {locs : List Loc} {cells slots : Nat} {Q : State → Prop} {cc : ByteArray} {pc : Nat} {ls : Array Slot} {rest : List Value} {a : Addr}
theorem zs_aload (hexec : p.tables.exec = Jvm.exec) (hb : c.code = cc) {k9 : Fin 4} {i b : Nat} (hdg : decode cc pc = .ok (.aload_n k9, 1)) (hi : (k9 : Nat) = i) (hl : ls[i]? = some (.val (.ref b))) (k : W p l e R s m args below meth c H locs cells slots Q (F1 m (pc + 1) ls (.ref b :: rest) a)) : W p l e R s m args below meth c H locs cells slots Q (F1 m pc ls rest a) := by
  subst hi
  intro T hT X
  obtain ⟨t, a1, b1⟩ := k T hT X
  refine ⟨t, ?_, b1⟩
  jvm_step X.here [X.here.top, hexec, hb, hdg, hl, Value.isRef]
  exact a1
theorem zs_dup (hexec : p.tables.exec = Jvm.exec) (hb : c.code = cc) {v : Value} (hdg : decode cc pc = .ok (.dup, 1)) (hv : v.category = 1) (k : W p l e R s m args below meth c H locs cells slots Q (F1 m (pc + 1) ls (v :: v :: rest) a)) : W p l e R s m args below meth c H locs cells slots Q (F1 m pc ls (v :: rest) a) := by
  intro T hT X
  obtain ⟨t, a1, b1⟩ := k T hT X
  refine ⟨t, ?_, b1⟩
  jvm_step X.here [X.here.top, hexec, hb, hdg, hv]
  exact a1
theorem zs_iconst (hexec : p.tables.exec = Jvm.exec) (hb : c.code = cc) {n : Int} {v : Int32} (hdg : decode cc pc = .ok (.iconst n, 1)) (hv : Int32.ofInt n = v) (k : W p l e R s m args below meth c H locs cells slots Q (F1 m (pc + 1) ls (.int v :: rest) a)) : W p l e R s m args below meth c H locs cells slots Q (F1 m pc ls rest a) := by
  intro T hT X
  obtain ⟨t, a1, b1⟩ := k T hT X
  refine ⟨t, ?_, b1⟩
  rw [← hv] at a1
  jvm_step X.here [X.here.top, hexec, hb, hdg]
  exact a1
theorem zs_iadd (hexec : p.tables.exec = Jvm.exec) (hb : c.code = cc) {x y : Int32} (hdg : decode cc pc = .ok (.iadd, 1)) (k : W p l e R s m args below meth c H locs cells slots Q (F1 m (pc + 1) ls (.int (x + y) :: rest) a)) : W p l e R s m args below meth c H locs cells slots Q (F1 m pc ls (.int y :: .int x :: rest) a) := by
  intro T hT X
  obtain ⟨t, a1, b1⟩ := k T hT X
  refine ⟨t, ?_, b1⟩
  jvm_step X.here [X.here.top, hexec, hb, hdg]
  exact a1
theorem zs_isub (hexec : p.tables.exec = Jvm.exec) (hb : c.code = cc) {x y : Int32} (hdg : decode cc pc = .ok (.isub, 1)) (k : W p l e R s m args below meth c H locs cells slots Q (F1 m (pc + 1) ls (.int (x - y) :: rest) a)) : W p l e R s m args below meth c H locs cells slots Q (F1 m pc ls (.int y :: .int x :: rest) a) := by
  intro T hT X
  obtain ⟨t, a1, b1⟩ := k T hT X
  refine ⟨t, ?_, b1⟩
  jvm_step X.here [X.here.top, hexec, hb, hdg]
  exact a1
variable {cell : Cell} {Qc : Array Value → State → Outcome → State → Prop} {XC : Addr → String → State → State → Prop} {mc ms : Nat} {free : Addr → Prop}
theorem zs_left (hs : s.heap[a]? = some cell) (hent : cell.enterable s.cur) (hlocks : meth.locks = true) {v : Option Value} (hv : meth.sig.returnType = none → v = none) {g : JFrame}
    (hst : ∀ (T Z : State), T.heap = H → Stand p l e R (s.setCell a (cell.withEntry s.cur)) m args below meth c T locs cells slots → (∀ (f : JFrame) (acts : List Action), f.method = m → f.locked = some a → f.entered = [] → (doReturn e (T.setTop f) acts v).1 = Z) → Steps p.tables e below (T.setTop g) Z)
    (hx : ∀ (t : State) (DT : Cell), H[a]? = some DT → DT.left = { cell with slots := DT.slots } → t.heap = H.setIfInBounds a DT.left → Qc args s (.returned v) t) (hf : ∀ z ∈ locs, free z.base) (hc : cells ≤ mc) (hsl : slots ≤ ms) :
    W p l e R (s.setCell a (cell.withEntry s.cur)) m args below meth c H locs cells slots (zMQ below Qc XC args s mc ms free) g := by
  intro T hT X
  obtain ⟨fs, DT, q1, hret, hrun, hended, hWend, hsame⟩ := X.leaveSync hs hent hlocks (v := v) hv
  obtain ⟨DT', w1, w2, -⟩ := X.cellAt (State.heap_setCell_self (x := cell.withEntry s.cur) hs)
  cases q1.symm.trans w1
  have hm : DT.left = { cell with slots := DT.slots } := by
    rw [w2, Cell.left_withSlots, Cell.left_withEntry' hent]
  refine ⟨_, hst T _ hT X hret, .returned v, hrun, hended, Or.inl ⟨hx _ DT (by rw [← hT]; exact q1) hm ?_, locs, ⟨⟨_, rfl⟩, hWend, hsame.mono hc hsl⟩, hf⟩⟩
  rw [← hT]
  rfl
theorem zs_vret {T Z : State} (Y : Stand p l e R s m args below meth c T locs cells slots) (hexec : p.tables.exec = Jvm.exec) (hb : c.code = cc) (hret : meth.sig.returnType = none) (hdg : decode cc pc = .ok (.return_, 1))
    (hleave : ∀ (f : JFrame) (acts : List Action), f.method = m → f.locked = some a → f.entered = [] → (doReturn e (T.setTop f) acts none).1 = Z) : Steps p.tables e below (T.setTop (F1 m pc ls [] a)) Z := by
  have hm' : T.vm.method? m = some meth := Y.method'
  jvm_step Y.here [Y.here.top, hexec, hb, hdg, hm', hret]
  first | (intro acts; rw [hleave _ acts rfl rfl rfl]) | rw [hleave _ _ rfl rfl rfl]
  exact Steps.refl _
theorem zs_iret {T Z : State} (Y : Stand p l e R s m args below meth c T locs cells slots) (hexec : p.tables.exec = Jvm.exec) (hb : c.code = cc) {w : Int32} (hret : meth.sig.returnType = some .int) (hdg : decode cc pc = .ok (.ireturn, 1))
    (hleave : ∀ (f : JFrame) (acts : List Action), f.method = m → f.locked = some a → f.entered = [] → (doReturn e (T.setTop f) acts (some (.int w))).1 = Z) : Steps p.tables e below (T.setTop (F1 m pc ls [.int w] a)) Z := by
  have hm' : T.vm.method? m = some meth := Y.method'
  have hn : narrow .int (.int w) = .int w := rfl
  jvm_step Y.here [Y.here.top, hexec, hb, hdg, hm', hret, hn]
  first | (intro acts; rw [hleave _ acts rfl rfl rfl]) | rw [hleave _ _ rfl rfl rfl]
  exact Steps.refl _
end ZSN
