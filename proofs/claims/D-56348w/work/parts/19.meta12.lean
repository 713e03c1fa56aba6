/-! ===== the words of a throwable's making (by program) ===== -/
def zWd (w : Cond) : Prop := w ∈ lw_all ∨ (w ∈ lw_tbl ∧ zNwK w = true)
theorem zWd.use {p : Program} {l : Launch} {R : Room} {s : State} {m : MethodId} {args : Array Value} {meth : Method} {c : Code} {E : zE} {D : va_G} {tA : Nat → ClassId} {cc : ByteArray} {nL fr : Nat} {own : String} (x : zCx p l R s m args meth c E D tA cc nL own fr) {w : Cond} (h : zWd w) : w.before args s = true :=
  h.elim (fun h => x.2.2.2.2.1 _ h) (fun h => zNw.use x.2.2.2.2.2.2.2.1 h.1 h.2)
set_option maxRecDepth 20000
theorem zx_thr0 : ∀ w ∈ Bundle.throwableAtoms, vx_no w = true → zWd w := (List.forall_mem_cons.mpr ⟨(fun _ => .inl q123), (List.forall_mem_cons.mpr ⟨(fun _ => .inl q455), (List.forall_mem_cons.mpr ⟨(fun _ => .inl q464), (List.forall_mem_cons.mpr ⟨(fun _ => .inl q475), (List.forall_mem_cons.mpr ⟨(fun _ => .inl q478), (List.forall_mem_cons.mpr ⟨(fun _ => .inl q480), (List.forall_mem_cons.mpr ⟨(fun _ => .inl q456), (List.forall_mem_cons.mpr ⟨(fun _ => .inl q457), (List.forall_mem_cons.mpr ⟨(fun _ => .inl q173), (List.forall_mem_cons.mpr ⟨(fun _ => .inl q174), (List.forall_mem_cons.mpr ⟨(fun _ => .inl q458), (List.forall_mem_cons.mpr ⟨(fun _ => .inl q463), (List.forall_mem_cons.mpr ⟨(fun _ => .inl q476), (List.forall_mem_cons.mpr ⟨(fun _ => .inl q493), (List.forall_mem_cons.mpr ⟨(fun _ => .inl q445), (List.forall_mem_cons.mpr ⟨(fun _ => .inl q494), (List.forall_mem_cons.mpr ⟨(fun _ => .inl q447), (List.forall_mem_cons.mpr ⟨(fun _ => .inl q495), (List.forall_mem_cons.mpr ⟨(fun _ => .inl q449), (List.forall_mem_cons.mpr ⟨(fun _ => .inl q459), (List.forall_mem_cons.mpr ⟨(fun h => absurd h (by decide)), (List.forall_mem_cons.mpr ⟨(fun _ => .inl q461), (List.forall_mem_cons.mpr ⟨(fun h => absurd h (by decide)), (List.forall_mem_cons.mpr ⟨(fun _ => .inl q451), (fun _ h => nomatch h)⟩)⟩)⟩)⟩)⟩)⟩)⟩)⟩)⟩)⟩)⟩)⟩)⟩)⟩)⟩)⟩)⟩)⟩)⟩)⟩)⟩)⟩)⟩)⟩)
theorem zx_last : zWd (Cond.fieldLink Bundle.tN 198 Bundle.tN "backtrace" "Ljava/lang/Object;") ∧ zWd (Cond.lays Bundle.tN Bundle.tN "backtrace" "Ljava/lang/Object;") := ⟨.inl q491, .inl q453⟩
/-- all the words of 'new X()' of a library's exception -/
def zXat (X : String) (names : List String) : Prop := (∀ w ∈ Bundle.chain0Atoms X names, zWd w) ∧ (∀ w ∈ ([.instantiable X 6, .castable X X, .selects X Bundle.tFill0 Bundle.tFill0, .selects X Bundle.tFill Bundle.tFill, .lays X Bundle.tN "cause" "Ljava/lang/Throwable;", .lays X Bundle.tN "stackTrace" Bundle.steD, .lays X Bundle.tN "suppressedExceptions" Bundle.listD, .lays X Bundle.tN "detailMessage" "Ljava/lang/String;"] : List Cond), zWd w) ∧ zWd (.lays X Bundle.tN "backtrace" "Ljava/lang/Object;")
theorem zx_at0 {p : Program} {l : Launch} {R : Room} {s : State} {m : MethodId} {args : Array Value} {meth : Method} {c : Code} {E : zE} {D : va_G} {tA : Nat → ClassId} {cc : ByteArray} {nL fr : Nat} {own : String} (x : zCx p l R s m args meth c E D tA cc nL own fr) {X : String} {names : List String} {ic : Nat} (h : zXat X names) (hl : Cond.methodLink own ic (Bundle.init0 X) ∈ lw_all) : ∀ w ∈ vx_at0 own ic X names, w.before args s = true := by
  intro w hw
  obtain ⟨hw, hno⟩ := List.mem_filter.mp hw
  refine zWd.use x ?_
  obtain ⟨h1, h2, h3⟩ := h
  rcases List.mem_append.mp hw with hw | hw
  · rcases List.mem_append.mp hw with hw | hw
    · exact zx_thr0 w hw hno
    · exact h1 w hw
  · simp only [List.mem_cons, List.not_mem_nil, or_false] at hw
    rcases hw with rfl | rfl | rfl | rfl | rfl | rfl | rfl | rfl | rfl | rfl | rfl | rfl | rfl | rfl
    · exact .inl hl
    · exact h2 _ (by simp)
    · exact h2 _ (by simp)
    · exact h2 _ (by simp)
    · exact h2 _ (by simp)
    · exact h2 _ (by simp)
    · exact h2 _ (by simp)
    · exact h2 _ (by simp)
    · exact h2 _ (by simp)
    · exact absurd hno (by decide)
    · exact absurd hno (by decide)
    · exact zx_last.1
    · exact zx_last.2
    · exact h3
theorem zxa_IllegalArgumentException : zXat "java/lang/IllegalArgumentException" ["java/lang/RuntimeException", "java/lang/Exception"] := ⟨(List.forall_mem_cons.mpr ⟨(.inl q1530), (List.forall_mem_cons.mpr ⟨(.inl q1531), (List.forall_mem_cons.mpr ⟨(.inl q1532), (List.forall_mem_cons.mpr ⟨(.inl q485), (List.forall_mem_cons.mpr ⟨(.inr ⟨q436, rfl⟩), (List.forall_mem_cons.mpr ⟨(.inl q485), (List.forall_mem_cons.mpr ⟨(.inl q486), (List.forall_mem_cons.mpr ⟨(.inl q487), (List.forall_mem_cons.mpr ⟨(.inl q488), (List.forall_mem_cons.mpr ⟨(.inr ⟨q438, rfl⟩), (List.forall_mem_cons.mpr ⟨(.inl q488), (List.forall_mem_cons.mpr ⟨(.inl q489), (List.forall_mem_cons.mpr ⟨(.inl q490), (List.forall_mem_cons.mpr ⟨(.inl q456), (List.forall_mem_cons.mpr ⟨(.inr ⟨q440, rfl⟩), (fun _ h => nomatch h)⟩)⟩)⟩)⟩)⟩)⟩)⟩)⟩)⟩)⟩)⟩)⟩)⟩)⟩)⟩), (List.forall_mem_cons.mpr ⟨(.inl q1403), (List.forall_mem_cons.mpr ⟨(.inr ⟨q1404, rfl⟩), (List.forall_mem_cons.mpr ⟨(.inl q1405), (List.forall_mem_cons.mpr ⟨(.inl q470), (List.forall_mem_cons.mpr ⟨(.inl q1406), (List.forall_mem_cons.mpr ⟨(.inl q1407), (List.forall_mem_cons.mpr ⟨(.inl q1408), (List.forall_mem_cons.mpr ⟨(.inl q1409), (fun _ h => nomatch h)⟩)⟩)⟩)⟩)⟩)⟩)⟩)⟩), .inl q1410⟩
theorem zxa_UnsupportedOperationException : zXat "java/lang/UnsupportedOperationException" ["java/lang/RuntimeException", "java/lang/Exception"] := ⟨(List.forall_mem_cons.mpr ⟨(.inl q1547), (List.forall_mem_cons.mpr ⟨(.inl q1548), (List.forall_mem_cons.mpr ⟨(.inl q1549), (List.forall_mem_cons.mpr ⟨(.inl q485), (List.forall_mem_cons.mpr ⟨(.inr ⟨q436, rfl⟩), (List.forall_mem_cons.mpr ⟨(.inl q485), (List.forall_mem_cons.mpr ⟨(.inl q486), (List.forall_mem_cons.mpr ⟨(.inl q487), (List.forall_mem_cons.mpr ⟨(.inl q488), (List.forall_mem_cons.mpr ⟨(.inr ⟨q438, rfl⟩), (List.forall_mem_cons.mpr ⟨(.inl q488), (List.forall_mem_cons.mpr ⟨(.inl q489), (List.forall_mem_cons.mpr ⟨(.inl q490), (List.forall_mem_cons.mpr ⟨(.inl q456), (List.forall_mem_cons.mpr ⟨(.inr ⟨q440, rfl⟩), (fun _ h => nomatch h)⟩)⟩)⟩)⟩)⟩)⟩)⟩)⟩)⟩)⟩)⟩)⟩)⟩)⟩)⟩), (List.forall_mem_cons.mpr ⟨(.inl q1538), (List.forall_mem_cons.mpr ⟨(.inr ⟨q1539, rfl⟩), (List.forall_mem_cons.mpr ⟨(.inl q1540), (List.forall_mem_cons.mpr ⟨(.inl q474), (List.forall_mem_cons.mpr ⟨(.inl q1541), (List.forall_mem_cons.mpr ⟨(.inl q1542), (List.forall_mem_cons.mpr ⟨(.inl q1543), (List.forall_mem_cons.mpr ⟨(.inl q1544), (fun _ h => nomatch h)⟩)⟩)⟩)⟩)⟩)⟩)⟩)⟩), .inl q1545⟩
theorem zxa_IllegalStateException : zXat "java/lang/IllegalStateException" ["java/lang/RuntimeException", "java/lang/Exception"] := ⟨(List.forall_mem_cons.mpr ⟨(.inl q1565), (List.forall_mem_cons.mpr ⟨(.inl q1566), (List.forall_mem_cons.mpr ⟨(.inl q1567), (List.forall_mem_cons.mpr ⟨(.inl q485), (List.forall_mem_cons.mpr ⟨(.inr ⟨q436, rfl⟩), (List.forall_mem_cons.mpr ⟨(.inl q485), (List.forall_mem_cons.mpr ⟨(.inl q486), (List.forall_mem_cons.mpr ⟨(.inl q487), (List.forall_mem_cons.mpr ⟨(.inl q488), (List.forall_mem_cons.mpr ⟨(.inr ⟨q438, rfl⟩), (List.forall_mem_cons.mpr ⟨(.inl q488), (List.forall_mem_cons.mpr ⟨(.inl q489), (List.forall_mem_cons.mpr ⟨(.inl q490), (List.forall_mem_cons.mpr ⟨(.inl q456), (List.forall_mem_cons.mpr ⟨(.inr ⟨q440, rfl⟩), (fun _ h => nomatch h)⟩)⟩)⟩)⟩)⟩)⟩)⟩)⟩)⟩)⟩)⟩)⟩)⟩)⟩)⟩), (List.forall_mem_cons.mpr ⟨(.inl q1556), (List.forall_mem_cons.mpr ⟨(.inr ⟨q1557, rfl⟩), (List.forall_mem_cons.mpr ⟨(.inl q1558), (List.forall_mem_cons.mpr ⟨(.inl q471), (List.forall_mem_cons.mpr ⟨(.inl q1559), (List.forall_mem_cons.mpr ⟨(.inl q1560), (List.forall_mem_cons.mpr ⟨(.inl q1561), (List.forall_mem_cons.mpr ⟨(.inl q1562), (fun _ h => nomatch h)⟩)⟩)⟩)⟩)⟩)⟩)⟩)⟩), .inl q1563⟩
theorem zxa_NoSuchElementException : zXat "java/util/NoSuchElementException" ["java/lang/RuntimeException", "java/lang/Exception"] := ⟨(List.forall_mem_cons.mpr ⟨(.inl q482), (List.forall_mem_cons.mpr ⟨(.inl q483), (List.forall_mem_cons.mpr ⟨(.inl q484), (List.forall_mem_cons.mpr ⟨(.inl q485), (List.forall_mem_cons.mpr ⟨(.inr ⟨q436, rfl⟩), (List.forall_mem_cons.mpr ⟨(.inl q485), (List.forall_mem_cons.mpr ⟨(.inl q486), (List.forall_mem_cons.mpr ⟨(.inl q487), (List.forall_mem_cons.mpr ⟨(.inl q488), (List.forall_mem_cons.mpr ⟨(.inr ⟨q438, rfl⟩), (List.forall_mem_cons.mpr ⟨(.inl q488), (List.forall_mem_cons.mpr ⟨(.inl q489), (List.forall_mem_cons.mpr ⟨(.inl q490), (List.forall_mem_cons.mpr ⟨(.inl q456), (List.forall_mem_cons.mpr ⟨(.inr ⟨q440, rfl⟩), (fun _ h => nomatch h)⟩)⟩)⟩)⟩)⟩)⟩)⟩)⟩)⟩)⟩)⟩)⟩)⟩)⟩)⟩), (List.forall_mem_cons.mpr ⟨(.inl q434), (List.forall_mem_cons.mpr ⟨(.inr ⟨q435, rfl⟩), (List.forall_mem_cons.mpr ⟨(.inl q442), (List.forall_mem_cons.mpr ⟨(.inl q443), (List.forall_mem_cons.mpr ⟨(.inl q444), (List.forall_mem_cons.mpr ⟨(.inl q446), (List.forall_mem_cons.mpr ⟨(.inl q448), (List.forall_mem_cons.mpr ⟨(.inl q450), (fun _ h => nomatch h)⟩)⟩)⟩)⟩)⟩)⟩)⟩)⟩), .inl q452⟩
theorem zxa_IndexOutOfBoundsException : zXat "java/lang/IndexOutOfBoundsException" ["java/lang/RuntimeException", "java/lang/Exception"] := ⟨(List.forall_mem_cons.mpr ⟨(.inl q1715), (List.forall_mem_cons.mpr ⟨(.inl q1716), (List.forall_mem_cons.mpr ⟨(.inl q1717), (List.forall_mem_cons.mpr ⟨(.inl q485), (List.forall_mem_cons.mpr ⟨(.inr ⟨q436, rfl⟩), (List.forall_mem_cons.mpr ⟨(.inl q485), (List.forall_mem_cons.mpr ⟨(.inl q486), (List.forall_mem_cons.mpr ⟨(.inl q487), (List.forall_mem_cons.mpr ⟨(.inl q488), (List.forall_mem_cons.mpr ⟨(.inr ⟨q438, rfl⟩), (List.forall_mem_cons.mpr ⟨(.inl q488), (List.forall_mem_cons.mpr ⟨(.inl q489), (List.forall_mem_cons.mpr ⟨(.inl q490), (List.forall_mem_cons.mpr ⟨(.inl q456), (List.forall_mem_cons.mpr ⟨(.inr ⟨q440, rfl⟩), (fun _ h => nomatch h)⟩)⟩)⟩)⟩)⟩)⟩)⟩)⟩)⟩)⟩)⟩)⟩)⟩)⟩)⟩), (List.forall_mem_cons.mpr ⟨(.inl q1706), (List.forall_mem_cons.mpr ⟨(.inr ⟨q1707, rfl⟩), (List.forall_mem_cons.mpr ⟨(.inl q1708), (List.forall_mem_cons.mpr ⟨(.inl q472), (List.forall_mem_cons.mpr ⟨(.inl q1709), (List.forall_mem_cons.mpr ⟨(.inl q1710), (List.forall_mem_cons.mpr ⟨(.inl q1711), (List.forall_mem_cons.mpr ⟨(.inl q1712), (fun _ h => nomatch h)⟩)⟩)⟩)⟩)⟩)⟩)⟩)⟩), .inl q1713⟩
theorem zxa_ArithmeticException : zXat "java/lang/ArithmeticException" ["java/lang/RuntimeException", "java/lang/Exception"] := ⟨(List.forall_mem_cons.mpr ⟨(.inl q2126), (List.forall_mem_cons.mpr ⟨(.inl q2127), (List.forall_mem_cons.mpr ⟨(.inl q2128), (List.forall_mem_cons.mpr ⟨(.inl q485), (List.forall_mem_cons.mpr ⟨(.inr ⟨q436, rfl⟩), (List.forall_mem_cons.mpr ⟨(.inl q485), (List.forall_mem_cons.mpr ⟨(.inl q486), (List.forall_mem_cons.mpr ⟨(.inl q487), (List.forall_mem_cons.mpr ⟨(.inl q488), (List.forall_mem_cons.mpr ⟨(.inr ⟨q438, rfl⟩), (List.forall_mem_cons.mpr ⟨(.inl q488), (List.forall_mem_cons.mpr ⟨(.inl q489), (List.forall_mem_cons.mpr ⟨(.inl q490), (List.forall_mem_cons.mpr ⟨(.inl q456), (List.forall_mem_cons.mpr ⟨(.inr ⟨q440, rfl⟩), (fun _ h => nomatch h)⟩)⟩)⟩)⟩)⟩)⟩)⟩)⟩)⟩)⟩)⟩)⟩)⟩)⟩)⟩), (List.forall_mem_cons.mpr ⟨(.inl q2104), (List.forall_mem_cons.mpr ⟨(.inr ⟨q2115, rfl⟩), (List.forall_mem_cons.mpr ⟨(.inl q2116), (List.forall_mem_cons.mpr ⟨(.inl q468), (List.forall_mem_cons.mpr ⟨(.inl q2110), (List.forall_mem_cons.mpr ⟨(.inl q2111), (List.forall_mem_cons.mpr ⟨(.inl q2113), (List.forall_mem_cons.mpr ⟨(.inl q2109), (fun _ h => nomatch h)⟩)⟩)⟩)⟩)⟩)⟩)⟩)⟩), .inl q2108⟩
theorem zx_chE : ∀ w ∈ Bundle.chain0Atoms "java/lang/Exception" [], zWd w := (List.forall_mem_cons.mpr ⟨(.inl q488), (List.forall_mem_cons.mpr ⟨(.inl q489), (List.forall_mem_cons.mpr ⟨(.inl q490), (List.forall_mem_cons.mpr ⟨(.inl q456), (List.forall_mem_cons.mpr ⟨(.inr ⟨q440, rfl⟩), (fun _ h => nomatch h)⟩)⟩)⟩)⟩)⟩)
/-- super() of an exception of the program's own: ci its class, jb the place of 'backtrace' among its fields -/
def zXi (E : zE) (r : Option Nat) (ci jb : Nat) (K : zM) : zM := fun h => match r with
  | none => none
  | some a => match h.2.2 a with
    | some (.inr (c', fs)) => if c' = ci ∧ E 0 ≤ a ∧ fs[jb]? = some .null then K h else none
    | _ => none
theorem zXi_inv {E : zE} {r : Option Nat} {ci jb : Nat} {K : zM} {h : zH} {o : zR × zH} (e : zXi E r ci jb K h = some o) : ∃ a fs, r = some a ∧ h.2.2 a = some (.inr (ci, fs)) ∧ E 0 ≤ a ∧ fs[jb]? = some .null ∧ K h = some o := by
  unfold zXi at e
  split at e
  · cases e
  · rename_i a
    split at e
    · rename_i c' fs ha
      split at e
      · rename_i hc
        obtain ⟨rfl, h1, h2⟩ := hc
        exact ⟨a, fs, rfl, ha, h1, h2, e⟩
      · cases e
    · cases e
theorem z_xinit {p : Program} {l : Launch} {e : Env} {R : Room} {s : State} {m : MethodId} {args : Array Value} {below : List Frame} {meth : Method} {c : Code} {E : zE} {D : va_G} {tA : Nat → ClassId} {cc : ByteArray} {nL k0 fr : Nat} {own : String} {M : zM} {lv : List (Nat × zV)} {pc : Nat} {st : List zV}
    (x : zCx p l R s m args meth c E D tA cc nL own fr) {X sup : String} {T0 : u_T} {N n ci jb ic : Nat} (hci : ci ≤ 2) (hszn : zSz ci = n) (hc : zCL[ci]? = some (X, T0, N)) (hin : ∀ w ∈ u_ws X T0 N, w ∈ lw_all) (ty0 : Nat → FieldType) (hty : ∀ k, k < N → parseFieldDescriptor (T0 k).2.2.1 = some (ty0 k)) (hjb : jb < N) (hTb : T0 jb = (Bundle.tN, "backtrace", "Ljava/lang/Object;", false)) (hn3 : ∀ k, k < N → (T0 k).2.1 ≠ "cause" ∧ (T0 k).2.1 ≠ "stackTrace" ∧ (T0 k).2.1 ≠ "suppressedExceptions")
    (hfit : Bundle.fit sup = true) (hch : ∀ w ∈ Bundle.chain0Atoms sup [], zWd w) (w1 : Cond.methodLink own ic (Bundle.init0 sup) ∈ lw_all) (w2 : Cond.instantiable X n ∈ lw_all) (w3 : Cond.selects X Bundle.tFill0 Bundle.tFill0 ∈ lw_all) (w4 : Cond.selects X Bundle.tFill Bundle.tFill ∈ lw_all)
    (w5 : Cond.lays X Bundle.tN "cause" "Ljava/lang/Throwable;" ∈ lw_all) (w6 : Cond.lays X Bundle.tN "stackTrace" Bundle.steD ∈ lw_all) (w7 : Cond.lays X Bundle.tN "suppressedExceptions" Bundle.listD ∈ lw_all) (w8 : Cond.lays X Bundle.tN "backtrace" "Ljava/lang/Object;" ∈ lw_all)
    (hRf : 3 < fr) (hRl : (st.map zCat).sum + 56 ≤ 64 * fr) {r : Option Nat} (hd : decode cc pc = .ok (.invokespecial ic, 3)) (kk : zW p l e R s m args below meth c E D tA nL k0 M lv (pc + 3) st) : zW p l e R s m args below meth c E D tA nL k0 (zXi E r ci jb M) lv pc (zP r :: st) := by
  intro h out h' em
  obtain ⟨a, fs, rfl, ha, hE, hfb, ek⟩ := zXi_inv em
  refine ⟨(kk h out h' ek).1, fun a1 a2 a3 a4 H locs ls r1 r2 r3 => ?_⟩
  have hK := x.2.2.2.2.2.1
  have hts := x.2.2.2.2.1
  have hexec := x.1
  have hb := x.2.1
  have hown := x.2.2.2.1
  have hU := x.2.2.2.2.2.2.1.2.2.2.2.2.1
  have hN := x.2.2.2.2.2.2.1.2.2.2.2.2.2.1
  have hl := x.2.2.2.2.2.2.2.2.2.2.2.2
  have hfr := x.2.2.2.2.2.2.2.2.2.2.1
  have hlo := x.2.2.2.2.2.2.2.2.2.2.2.1
  have hsize : ls.size = c.maxLocals := r3.1.trans x.2.2.1.symm
  obtain ⟨r', cell, hr1, q1, q2, -, -, q3', q4, hmm⟩ := r1.2 a _ ha
  have q3 := q3' (Or.inl hE)
  clear q3'
  cases hr1.symm.trans hc
  obtain ⟨hmo, hmc, hsz⟩ := hmm hci
  intro T hT X
  subst hT
  have htr : e.platform.stackTraces = false := (show e.platform.stackTraces = l.stackTraces by rw [X.admits.platform]).trans hl
  have howns : e.platform.frameOwnsMonitors = true := by rw [X.admits.platform]
  have hfin : e.platform.finalization = false := by rw [X.admits.platform]
  have hpl : e.platform.magicAccessors = ({} : Platform).magicAccessors := by rw [X.admits.platform]
  have hthr : ∀ w ∈ Bundle.throwableAtoms, w.before args s = true := by
    refine vx_own (L := Bundle.throwableAtoms) (fun w hw => ?_) (vx_isRefq hU.1) (vx_isRefq hN.1) hU.2.word hN.2.word
    obtain ⟨hw, hno⟩ := List.mem_filter.mp hw
    exact zWd.use x (zx_thr0 w hw hno)
  obtain ⟨T9, Z, L9, LZ, Y⟩ := ThrowableC.of_atoms (args := args) howns hfin hpl hthr
  obtain ⟨P1, Ps, hlen, L1, hL, hP1m, hlink1, hlink⟩ := Bundle.chain0 (args := args) hpl Y.init0 [] sup hfit (fun _ h => nomatch h) (fun w hw => zWd.use x (hch w hw))
  obtain ⟨hS, hfc, kC, hkC, hkind⟩ := hK.1 ci _ hc
  obtain ⟨c1, kX, hc1, hk, hord, -, -, hn6⟩ := Cond.instantiable_spec (hts _ w2)
  cases Option.some.inj (hc1.symm.trans hfc)
  cases Option.some.inj (hkC.symm.trans hk)
  have hsel0 : selectMethod e.platform s.vm cell.cls T9.fill0 = .method T9.fill0 := by
    obtain ⟨c2, r2, m2, q1', q2', q3', q4', -⟩ := Cond.selects_spec (hts _ w3)
    cases Option.some.inj (q1'.symm.trans hfc)
    cases Option.some.inj (q2'.symm.trans (State.methodFound?_of_named Y.fill0 (by decide)))
    cases Option.some.inj (q3'.symm.trans Y.fill0)
    rw [Launch.admits_selectMethod X.admits, q2]; exact q4'
  have hselF : selectMethod e.platform s.vm cell.cls T9.fill = .method T9.fill := by
    obtain ⟨c2, r2, m2, q1', q2', q3', q4', -⟩ := Cond.selects_spec (hts _ w4)
    cases Option.some.inj (q1'.symm.trans hfc)
    cases Option.some.inj (q2'.symm.trans (State.methodFound?_of_named Y.fill (by decide)))
    cases Option.some.inj (q3'.symm.trans Y.fill)
    rw [Launch.admits_selectMethod X.admits, q2]; exact q4'
  obtain ⟨cellS0, hcS0, hiss⟩ := Y.statics
  obtain ⟨u0, hu0⟩ := Cond.staticRefV Y.unassigned L9.unassignedStatic L9.statics hcS0 hiss (vx_isRefq (args := args) hU.1)
  obtain ⟨sen, hsen⟩ := Cond.staticRefV Y.sentinel L9.sentinelStatic L9.statics hcS0 hiss (vx_isRefq (args := args) hN.1)
  have haS : ¬ zA E T9.aS := by
    obtain ⟨c5, k5, i5, f5, a5, cell5, g1, g2, -, g4, -, -, -, -, -, g10⟩ := hU.2
    cases g1.symm.trans Y.found
    cases (State.fieldFound?_spec g2).1.symm.trans L9.cls
    cases g4.symm.trans L9.statics
    exact g10
  have hcellS : T.heap[T9.aS]? = some cellS0 := (r2.2.1 _ (Array.getElem?_eq_some_iff.mp hcS0).1 haS).trans hcS0
  have hneS : T9.aS ≠ a := fun q => haS (by rw [q]; exact hE)
  have hknownS : cellS0.vm ≠ .unknown := by
    intro hu
    rw [hu] at hiss
    cases hiss
  obtain ⟨ci198, i198, fB, hk198, hg198, ha198, hsB, -, hnB, htB, hffB⟩ := Cond.ownField (t := .object "java/lang/Object") Y.found L9.cls (by decide +kernel) (zWd.use x zx_last.1) (zWd.use x zx_last.2) e.platform hpl
  obtain ⟨tyC, dC, hdC, hdnC⟩ := Cond.laysAt hfc hk Y.cause (hts _ w5)
  obtain ⟨tyS, dS, hdS, hdnS⟩ := Cond.laysAt hfc hk Y.stack (hts _ w6)
  obtain ⟨tyP, dP, hdP, hdnP⟩ := Cond.laysAt hfc hk Y.supp (hts _ w7)
  obtain ⟨tyB, dB, hdB, hdnB⟩ := Cond.laysAt hfc hk hffB (hts _ w8)
  have bC := Cond.laysApart hdB hdC hdnB hdnC (by rw [hnB, Y.causeName]; decide)
  have bS := Cond.laysApart hdB hdS hdnB hdnS (by rw [hnB, Y.stackName]; decide)
  have bP := Cond.laysApart hdB hdP hdnB hdnP (by rw [hnB, Y.suppName]; decide)
  have hbk : cell.slots[fB.slot]? = some .null := by
    have h1 := q4 jb hjb
    obtain ⟨cf, kf, fi, fd, g1, g2⟩ := hS jb hjb
    have g1 : s.fieldFound? (T0 jb).1 (T0 jb).2.1 (T0 jb).2.2.1 = some (cf, kf, fi, fd) := g1
    rw [hTb] at g1
    cases g1.symm.trans hffB
    rw [g2, h1]
    simp [vp_V, hfb]
  have hskip : SkipFacts T9 e.platform s (fun u => u) u0 ((preparedCellV T9.toThrowableT cell a u0 sen).withEntry T.cur) :=
    ⟨{ ci198 := ci198, i198 := i198, fBack := fB }, ⟨hk198, hg198, ha198, hsB⟩, by
      simpa [preparedCellV, Cell.setSlot, Cell.withEntry, Array.getElem?_setIfInBounds, bC, bS, bP, bC.symm, bS.symm, bP.symm] using hbk, fun _ _ => rfl⟩
  have htk : ∀ (f : Field) (v : Value), kC.instanceTypes[f.slot]? = some f.type → fits f.type v = true → Takes s cell f v := by
    intro f v h1 h2
    have h3 := (Array.getElem?_eq_some_iff.mp h1).1
    refine ⟨by omega, ?_⟩
    rw [q2, q3]
    exact (Takes.of_laid (v := v) hk hord h1 h2).2
  have hap : ∀ k, k < N → D.2 ci k ≠ T9.fCause.slot ∧ D.2 ci k ≠ T9.fStack.slot ∧ D.2 ci k ≠ T9.fSupp.slot := by
    intro k hk
    obtain ⟨cf, kf, fi, fd, g1, g2⟩ := hS k hk
    have hnmk := (State.fieldFound?_type g1 (hty k hk)).1
    obtain ⟨n1, n2, n3⟩ := hn3 k hk
    have hly := u_lays hts hin hk
    rw [← g2]
    exact ⟨u_apart hly (Or.inl (hts _ w5)) g1 Y.cause (by rw [hnmk, Y.causeName]; exact n1), u_apart hly (Or.inl (hts _ w6)) g1 Y.stack (by rw [hnmk, Y.stackName]; exact n2), u_apart hly (Or.inl (hts _ w7)) g1 Y.supp (by rw [hnmk, Y.suppName]; exact n3)⟩
  have hmmC : T.heap[a]? = some cell := q1
  have hmn := hP1m
  obtain ⟨tm, methC, cdC, kC9, vm₁, hnC, -, -, -, -, -, -, -, hW₁, st1⟩ := Steps.initCold (tb := p.tables) (e := e) (below := below) (s := s) (U := T) X.here hexec X.warmed hpl hown (t := Bundle.init0 sup) rfl rfl (Bundle.fit_spec hfit).2
    (hts _ w1) (zWd.use x (hch _ (by simp [Bundle.chain0Atoms, Bundle.passAtoms]))) (bytes := Bundle.five) (maxL := 1) (zWd.use x (hch _ (by simp [Bundle.chain0Atoms, Bundle.passAtoms])))
    (f := F0 m pc ls (.ref a :: zStk st)) rfl (a := a) (rest := zStk st) rfl (by rw [hb]; exact hd)
  cases Option.some.inj (hnC.symm.trans hP1m)
  have X₁ := X.noted hW₁
  obtain ⟨vm₂, X₂, st2⟩ := X₁.ctorPlainOffV hexec (g := F0 m pc ls (zStk st)) rfl hsize T9 L9 Z LZ (P1 :: Ps)
    (fun P hP => by rcases List.mem_cons.mp hP with rfl | hP; exact L1; exact hL P hP) ⟨hlink1, hlink⟩ (u0 := u0) (sen := sen) (self := a) (cell := cell) (cellS := cellS0)
    q1 (fun k hk => by rw [q3] at hk; cases hk) (fun hk => by rw [q3] at hk; cases hk) hmo hmc hsel0 hselF hcellS hneS hknownS hu0 hsen
    (htk _ _ tyC (by rw [Y.causeType]; rfl)) (htk _ _ tyS (by rw [Y.stackType]; exact fits_refV_array _ u0)) (htk _ _ tyP (by rw [Y.suppType]; exact fits_refV_object _ sen)) Y.objLocals hskip htr [] (by rw [hb]; exact hd)
    (by simp only [List.length_cons, hlen, List.length_nil]; rw [hfr]; omega) (by simp only [List.length_cons, hlen, List.length_nil]; rw [hlo]; show 2 * 0 + ((zStk st).map fun v => v.category).sum + _ ≤ _; rw [zStk_cat]; omega)
  have hlt : a < ((T.setVm vm₁).setVm vm₂).heap.size := (Array.getElem?_eq_some_iff.mp q1).1
  generalize hce : (preparedCellV T9.toThrowableT cell a u0 sen).setSlot T9.fStack.slot u0.v = ce at X₂ st2
  have hh : (((T.setVm vm₁).setVm vm₂).setCell a ce).heap[a]? = some ce := heapAt_setCell_self (s := (T.setVm vm₁).setVm vm₂) ce hlt
  have hz1 : (((T.setVm vm₁).setVm vm₂).setCell a ce).heap.size = T.heap.size := by simp [State.setCell]
  have ho : ∀ q : Nat, q ≠ a → (((T.setVm vm₁).setVm vm₂).setCell a ce).heap[q]? = T.heap[q]? := fun q hq => by
    show (T.heap.setIfInBounds a ce)[q]? = _
    rw [Array.getElem?_setIfInBounds, if_neg (fun z => hq z.symm)]
  have hcecls : ce.cls = cell.cls ∧ ce.vm = cell.vm ∧ ce.monitor = cell.monitor ∧ ce.slots.size = cell.slots.size := by
    rw [← hce]
    refine ⟨rfl, rfl, rfl, ?_⟩
    simp [preparedCellV, Cell.setSlot]
  have hrep : zRep E D tA h (((T.setVm vm₁).setVm vm₂).setCell a ce).heap := by
    refine ⟨hz1.trans r1.1, fun b u hbu => ?_⟩
    by_cases hba : b = a
    · subst hba
      cases ha.symm.trans hbu
      refine zAt_ob ⟨_, hc, ce, hh, by rw [hcecls.1]; exact q2, by rw [hcecls.2.1]; exact q3, fun k hk => ?_⟩ (fun _ ce2 hce2 => ?_)
      · have h1 := q4 k hk
        obtain ⟨n1, n2, n3⟩ := hap k hk
        rw [← hce]
        simpa [preparedCellV, Cell.setSlot, Array.getElem?_setIfInBounds, n1, n2, n3, n1.symm, n2.symm, n3.symm] using h1
      · cases hh.symm.trans hce2
        rw [hcecls.2.2.1, hcecls.2.2.2]
        exact ⟨hmo, hmc, hsz⟩
    · exact zAt_kept (r1.2 b u hbu) (ho b hba)
  have hS2 : va_S (zA E) s.heap (((T.setVm vm₁).setVm vm₂).setCell a ce).heap (locs ++ [⟨a, T9.fCause.slot⟩, ⟨a, T9.fStack.slot⟩, ⟨a, T9.fSupp.slot⟩, ⟨a, T9.fStack.slot⟩]) := by
    refine ⟨by rw [hz1]; exact r2.1, fun q y1 y2 => ?_, fun q hq => ?_⟩
    · rw [ho q (fun z => y2 (by rw [z]; exact hE))]
      exact r2.2.1 q y1 y2
    · rcases List.mem_append.mp hq with hq | hq
      · exact r2.2.2 q hq
      · simp only [List.mem_cons, List.not_mem_nil, or_false] at hq
        rcases hq with rfl | rfl | rfl | rfl <;> exact hE
  obtain ⟨t, a5, b5⟩ := (kk h out h' ek).2 a1 a2 a3 a4 _ _ ls hrep hS2 r3 _ rfl X₂
  refine ⟨t, st1 _ (fun acts => ?_), b5⟩
  rw [doInvoke_state]
  exact st2 _ a5

