/-! ===== calls, returns, throws ===== -/
/-- a call of F; what it throws goes to X -/
def zC (F : zM) (X : Nat → zM) (K : Option Value → zM) : zM := fun h => match F h with
  | none => none
  | some (o, h1) => if h.1 ≤ h1.1 ∧ h.2.1 ≤ h1.2.1 then (match o with
    | .inl v => K v h1
    | .inr q => X q h1) else none
theorem zC_ret {F : zM} {X : Nat → zM} {K : Option Value → zM} {h h1 : zH} {v : Option Value} (e : F h = some (.inl v, h1)) (hl : zLe h h1) : zC F X K h = K v h1 := by
  unfold zC
  rw [e]
  simp only
  rw [if_pos ⟨hl.1, hl.2⟩]
theorem zC_thr {F : zM} {X : Nat → zM} {K : Option Value → zM} {h h1 : zH} {q : Nat} (e : F h = some (.inr q, h1)) (hl : zLe h h1) : zC F X K h = X q h1 := by
  unfold zC
  rw [e]
  simp only
  rw [if_pos ⟨hl.1, hl.2⟩]
theorem zC_inv {F : zM} {X : Nat → zM} {K : Option Value → zM} {h : zH} {o : zR × zH} (e : zC F X K h = some o) : ∃ o1 h1, F h = some (o1, h1) ∧ zLe h h1 ∧ ((∃ v, o1 = .inl v ∧ K v h1 = some o) ∨ ∃ q, o1 = .inr q ∧ X q h1 = some o) := by
  unfold zC at e
  split at e
  · cases e
  · rename_i o1 h1 hf
    split at e
    · rename_i hl
      refine ⟨o1, h1, hf, ⟨hl.1, hl.2⟩, ?_⟩
      split at e
      · exact Or.inl ⟨_, rfl, e⟩
      · exact Or.inr ⟨_, rfl, e⟩
    · cases e
def zKI (f : Int32 → zM) : Option Value → zM
  | some (.int x) => f x
  | _ => zFail
def zKR (f : Option Nat → zM) : Option Value → zM
  | some (.ref a) => f (some a)
  | some .null => f none
  | _ => zFail
def zKL (f : Int64 → zM) : Option Value → zM
  | some (.long x) => f x
  | _ => zFail
def zKF (f : UInt32 → zM) : Option Value → zM
  | some (.float x) => f x
  | _ => zFail
def zKD (f : UInt64 → zM) : Option Value → zM
  | some (.double x) => f x
  | _ => zFail
def zKV (f : zM) : Option Value → zM
  | none => f
  | _ => zFail
theorem zKR_rf (f : Option Nat → zM) (r : Option Nat) : zKR f (some (va_rf r)) = f r := by cases r <;> rfl
/-- q leaves the method -/
def zThr (q : Nat) : zM := fun h => match h.2.2 q with
  | some (.inr o) => if o.1 ≤ 8 then some (.inr q, h) else none
  | _ => none
def zRet (v : Option Value) : zM := fun h => some (.inl v, h)
def zRetN (ty : FieldType) (x : Int32) : zM := if narrow ty (.int x) = .int x then zRet (some (.int x)) else zFail
/-- the receiver r, of class c, does F -/
def zRv (r : Option Nat) : List (Nat × (Nat → zM)) → zM
  | [] => zFail
  | (c, F) :: t => fun h => match r with
    | none => none
    | some b => match h.2.2 b with
      | some (.inr (c', _)) => if c' = c then F b h else zRv r t h
      | _ => none
theorem zRv_one {b c : Nat} {F : Nat → zM} {t : List (Nat × (Nat → zM))} {h : zH} {fs : List Value} (hb : h.2.2 b = some (.inr (c, fs))) : zRv (some b) ((c, F) :: t) h = F b h := by
  simp [zRv, hb]
theorem zRv_skip {b c c' : Nat} {F : Nat → zM} {t : List (Nat × (Nat → zM))} {h : zH} {fs : List Value} (hb : h.2.2 b = some (.inr (c', fs))) (hne : c' ≠ c) : zRv (some b) ((c, F) :: t) h = zRv (some b) t h := by
  simp [zRv, hb, hne]
/-- where q is caught: handlers by their targets -/
def zCat1 (q : Nat) : List (Nat × zM) → zM
  | [] => zThr q
  | (tg, J) :: t => fun h => match h.2.2 q with
    | some (.inr (c, _)) => if 8 < c then none else if (c, tg) ∈ zCastT then J h else if (c, tg) ∈ zNcT then zCat1 q t h else none
    | _ => none
section ZCL
variable {p : Program} {l : Launch} {e : Env} {R : Room} {s : State} {m : MethodId} {args : Array Value} {below : List Frame} {meth : Method} {c : Code} {E : zE} {D : va_G} {tA : Nat → ClassId} {cc : ByteArray} {nL k0 fr : Nat} {own : String}
variable {M : zM} {lv lv' : List (Nat × zV)} {pc : Nat} {st : List zV}
/-- the machine does F from a frame at pc with the stack st0, and goes on len bytes further, F's arguments off the stack -/
def zCan (p : Program) (l : Launch) (e : Env) (R : Room) (s : State) (m : MethodId) (args : Array Value) (below : List Frame) (meth : Method) (c : Code) (E : zE) (D : va_G) (tA : Nat → ClassId) (nL : Nat) (pc len : Nat) (F : zM) (st0 st : List zV) : Prop :=
  ∀ (h : zH) (o1 : zR) (h1 : zH), F h = some (o1, h1) → ∀ (H : Heap) (locs : List Loc) (ls : Array Slot) (cells slots : Nat) (T : State), zRep E D tA h H → va_S (zA E) s.heap H locs → ls.size = nL → cells + (h1.1 - h.1) ≤ R.cells → slots + (h1.2.1 - h.2.1) ≤ R.slots → T.heap = H → Stand p l e R s m args below meth c T locs cells slots →
    ∃ a : Array Value,
    (∃ (v : Option Value) (vm₁ : Vm) (B : Pt), s.WarmedH vm₁ ∧ Stand p l e R s m args below meth c B.U B.locs B.cells B.slots ∧ PostOf (zQc E D tA o1 h1) (h1.1 - h.1) (h1.2.1 - h.2.1) (zA E) ⟨T.setVm vm₁, locs, cells, slots⟩ a v B ∧
      ∀ target, Steps p.tables e below (B.U.setTop (F0 m (pc + len) ls (v.toList ++ zStk st))) target → Steps p.tables e below (T.setTop (F0 m pc ls (zStk st0))) target) ∨
    (∃ (q : Addr) (vm₁ : Vm) (B : Pt), s.WarmedH vm₁ ∧ Stand p l e R s m args below meth c B.U B.locs B.cells B.slots ∧ zPost (zXc E D tA o1 h1) (h1.1 - h.1) (h1.2.1 - h.2.1) (zA E) ⟨T.setVm vm₁, locs, cells, slots⟩ a q B ∧
      Steps p.tables e below (T.setTop (F0 m pc ls (zStk st0))) ((B.U.setTop (F0 m pc ls (zStk st))).pushFrame (.throwing q)))
/-- zW with a raw value on the stack -/
def zWv (p : Program) (l : Launch) (e : Env) (R : Room) (s : State) (m : MethodId) (args : Array Value) (below : List Frame) (meth : Method) (c : Code) (E : zE) (D : va_G) (tA : Nat → ClassId) (nL k0 : Nat) (M : zM) (lv : List (Nat × zV)) (pc : Nat) (v : Option Value) (st : List zV) : Prop :=
  ∀ (h : zH) (out : zR) (h' : zH), M h = some (out, h') → zLe h h' ∧ (s.heap.size ≤ h.1 → k0 ≤ h.2.1 → R.cells = h'.1 - s.heap.size → R.slots = h'.2.1 - k0 →
    ∀ (H : Heap) (locs : List Loc) (ls : Array Slot), zRep E D tA h H → va_S (zA E) s.heap H locs → lv_has ls nL (zLoc lv) →
      W p l e R s m args below meth c H locs (h.1 - s.heap.size) (h.2.1 - k0) (zMQ below (zQc E D tA out h') (zXc E D tA out h') args s (h'.1 - s.heap.size) (h'.2.1 - k0) (zA E)) (F0 m pc ls (v.toList ++ zStk st)))
theorem zv_fail {v : Option Value} : zWv p l e R s m args below meth c E D tA nL k0 zFail lv pc v st := fun h out h' em => nomatch em
theorem zv_I {f : Int32 → zM} (k : ∀ v, zW p l e R s m args below meth c E D tA nL k0 (f v) lv pc (zI v :: st)) (v : Option Value) : zWv p l e R s m args below meth c E D tA nL k0 (zKI f v) lv pc v st := by
  rcases v with _ | v
  · exact zv_fail
  · cases v <;> first | exact k _ | exact zv_fail
theorem zv_R {f : Option Nat → zM} (k : ∀ v, zW p l e R s m args below meth c E D tA nL k0 (f v) lv pc (zP v :: st)) (v : Option Value) : zWv p l e R s m args below meth c E D tA nL k0 (zKR f v) lv pc v st := by
  rcases v with _ | v
  · exact zv_fail
  · cases v <;> first | exact k (some _) | exact k none | exact zv_fail
theorem zv_L {f : Int64 → zM} (k : ∀ v, zW p l e R s m args below meth c E D tA nL k0 (f v) lv pc (zL v :: st)) (v : Option Value) : zWv p l e R s m args below meth c E D tA nL k0 (zKL f v) lv pc v st := by
  rcases v with _ | v
  · exact zv_fail
  · cases v <;> first | exact k _ | exact zv_fail
theorem zv_F {f : UInt32 → zM} (k : ∀ v, zW p l e R s m args below meth c E D tA nL k0 (f v) lv pc (zF v :: st)) (v : Option Value) : zWv p l e R s m args below meth c E D tA nL k0 (zKF f v) lv pc v st := by
  rcases v with _ | v
  · exact zv_fail
  · cases v <;> first | exact k _ | exact zv_fail
theorem zv_D {f : UInt64 → zM} (k : ∀ v, zW p l e R s m args below meth c E D tA nL k0 (f v) lv pc (zD v :: st)) (v : Option Value) : zWv p l e R s m args below meth c E D tA nL k0 (zKD f v) lv pc v st := by
  rcases v with _ | v
  · exact zv_fail
  · cases v <;> first | exact k _ | exact zv_fail
theorem zv_V {f : zM} (k : zW p l e R s m args below meth c E D tA nL k0 f lv pc st) (v : Option Value) : zWv p l e R s m args below meth c E D tA nL k0 (zKV f v) lv pc v st := by
  rcases v with _ | v
  · exact k
  · exact zv_fail
theorem z_call {F : zM} {X : Nat → zM} {K : Option Value → zM} {st0 : List zV} {len : Nat} (hF : zCan p l e R s m args below meth c E D tA nL pc len F st0 st) (kk : ∀ v, zWv p l e R s m args below meth c E D tA nL k0 (K v) lv (pc + len) v st) (kx : ∀ q, zWX p l e R s m args below meth c E D tA nL k0 (X q) lv pc q) : zW p l e R s m args below meth c E D tA nL k0 (zC F X K) lv pc st0 := by
  intro h out h' em
  obtain ⟨o1, h1, hf, hle, hc⟩ := zC_inv em
  have hle2 : zLe h1 h' := by
    rcases hc with ⟨v, -, ek⟩ | ⟨q, -, ek⟩
    · exact (kk v h1 out h' ek).1
    · exact (kx q h1 out h' ek).1
  refine ⟨hle.trans hle2, fun a1 a2 a3 a4 H locs ls r1 r2 r3 => ?_⟩
  have l1 := hle.1
  have l2 := hle.2
  have l3 := hle2.1
  have l4 := hle2.2
  intro T hT X0
  have c1 : h.1 - s.heap.size + (h1.1 - h.1) = h1.1 - s.heap.size := by omega
  have c2 : h.2.1 - k0 + (h1.2.1 - h.2.1) = h1.2.1 - k0 := by omega
  obtain ⟨a, hgo⟩ := hF h o1 h1 hf H locs ls _ _ T r1 r2 r3.1 (by rw [c1, a3]; omega) (by rw [c2, a4]; omega) hT X0
  have keep : ∀ (vm₁ : Vm) (g : JFrame) (mk : MethodId) (t : State) (L : List Loc), va_F (zA E) ((T.setVm vm₁).calling g mk a) t → (∀ q ∈ L, zA E q.base) → va_S (zA E) s.heap t.heap (locs ++ L) := by
    intro vm₁ g mk t L hF2 hL
    obtain ⟨z1, z2⟩ := hF2
    have e0 : ((T.setVm vm₁).calling g mk a).heap = H := hT
    rw [e0] at z1 z2
    exact ⟨Nat.le_trans r2.1 z1, fun q y1 y2 => by rw [z2 q (Nat.lt_of_lt_of_le y1 r2.1) y2]; exact r2.2.1 q y1 y2, fun q hq => (List.mem_append.mp hq).elim (r2.2.2 q) (hL q)⟩
  rcases hgo with ⟨v, vm₁, B, hW1, X', ⟨g, mk, t, L, e1, e2, ⟨⟨v', hv', hv2⟩, hrep, hfr⟩, e3, hL, e4, e5⟩, hst⟩ | ⟨q, vm₁, B, hW1, X', ⟨g, mk, t, L, En, ce, e1, e2, ⟨hq', hrep, hfr⟩, hce, hcv, hcl, e3, hL, e4, e5⟩, hst⟩
  · cases hv2
    rcases hc with ⟨v2, ho, ek⟩ | ⟨q2, ho, ek⟩
    · cases ho.symm.trans hv'
      have hw := (kk v h1 out h' ek).2 (Nat.le_trans a1 l1) (Nat.le_trans a2 l2) a3 a4 t.heap (locs ++ L) ls hrep (keep vm₁ g mk t L hfr hL) r3
      rw [← c1, ← c2] at hw
      have e3 : B.locs = locs ++ L := e3
      have e4 : B.cells = h.1 - s.heap.size + (h1.1 - h.1) := e4
      have e5 : B.slots = h.2.1 - k0 + (h1.2.1 - h.2.1) := e5
      obtain ⟨t2, s2, q2⟩ := hw B.U e1 (by rw [← e3, ← e4, ← e5]; exact X')
      exact ⟨t2, hst t2 s2, q2⟩
    · cases ho.symm.trans hv'
  · rcases hc with ⟨v2, ho, ek⟩ | ⟨q2, ho, ek⟩
    · cases ho.symm.trans hq'
    · cases ho.symm.trans hq'
      have hw := (kx q h1 out h' ek).2 (Nat.le_trans a1 l1) (Nat.le_trans a2 l2) a3 a4 t.heap (locs ++ L) ls (zStk st) hrep (keep vm₁ g mk t L hfr hL) r3
      rw [← c1, ← c2] at hw
      have e3 : B.locs = locs ++ L := e3
      have e4 : B.cells = h.1 - s.heap.size + (h1.1 - h.1) := e4
      have e5 : B.slots = h.2.1 - k0 + (h1.2.1 - h.2.1) := e5
      obtain ⟨t2, s2, q2⟩ := hw B.U e1 (by rw [← e3, ← e4, ← e5]; exact X')
      exact ⟨t2, hst.trans s2, q2⟩
theorem z_can_nil {pc len : Nat} {r : Option Nat} {st0 : List zV} : zCan p l e R s m args below meth c E D tA nL pc len (zRv r []) st0 st := fun h o1 h1 em => nomatch em
theorem z_can_cons {pc len ci : Nat} {r : Option Nat} {F : Nat → zM} {t : List (Nat × (Nat → zM))} {st0 : List zV} (h1 : zCan p l e R s m args below meth c E D tA nL pc len (zRv r [(ci, F)]) st0 st) (h2 : zCan p l e R s m args below meth c E D tA nL pc len (zRv r t) st0 st) : zCan p l e R s m args below meth c E D tA nL pc len (zRv r ((ci, F) :: t)) st0 st := by
  intro h o1 h' em
  cases r with
  | none => cases em
  | some b =>
    simp only [zRv] at em
    split at em
    · rename_i c' fs hb
      split at em
      · rename_i hcc
        exact h1 h o1 h' (by simp [zRv, hb, hcc]; rw [hcc] at *; exact em)
      · exact h2 h o1 h' em
    · cases em
/-- what every call asks of the callee's contract -/
theorem zMet_back (x : zCx p l R s m args meth c E D tA cc nL own fr) {y : MethodName} {bytes : ByteArray} {maxL fr1 len : Nat} {ret : Option FieldType} {F : zM} {As : List zV} (hM : zMet l E D tA y (ws_ y bytes maxL ret) fr1 F As) (hcode : Cond.code y bytes maxL ret ∈ lw_all) (hini : Cond.initialized y.cls ∈ lw_all) (hfr : fr1 + 1 ≤ fr) (hlo : 8 + (maxL + 11) + 64 * fr1 ≤ 64 * fr)
    {h : zH} {o1 : zR} {h1 : zH} (hf : F h = some (o1, h1)) : vx_Back l R p e below s args y len 8 (PreOf R (h1.1 - h.1) (h1.2.1 - h.2.1) (zPc E D tA As h)) (PostOf (zQc E D tA o1 h1) (h1.1 - h.1) (h1.2.1 - h.2.1) (zA E)) (zPost (zXc E D tA o1 h1) (h1.1 - h.1) (h1.2.1 - h.2.1) (zA E)) :=
  z_back0 (bytes := bytes) (maxL := maxL) (ret := ret) (hM h o1 h1 hf) zPc_blind rfl rfl (by rw [x.2.2.2.2.2.2.2.2.2.2.1]; exact hfr) (by rw [x.2.2.2.2.2.2.2.2.2.2.2.1]; exact hlo) (pay_in x.2.2.2.2.1 (lw_meth hcode)) List.mem_cons_self (fun a' U hW => word_at hW (Or.inl rfl) (x.2.2.2.2.1 _ hini))
theorem zMet_backW (x : zCx p l R s m args meth c E D tA cc nL own fr) {y : MethodName} {bytes : ByteArray} {maxL fr1 len : Nat} {ret : Option FieldType} {hh : List (Nat × Nat × Nat × Nat)} {F : zM} {As : List zV} (hM : zMet l E D tA y (wsW_ y bytes maxL ret hh) fr1 F As) (hcode : Cond.codeWith y bytes maxL ret hh ∈ lw_all) (hini : Cond.initialized y.cls ∈ lw_all) (hfr : fr1 + 1 ≤ fr) (hlo : 8 + (maxL + 11) + 64 * fr1 ≤ 64 * fr)
    {h : zH} {o1 : zR} {h1 : zH} (hf : F h = some (o1, h1)) : vx_Back l R p e below s args y len 8 (PreOf R (h1.1 - h.1) (h1.2.1 - h.2.1) (zPc E D tA As h)) (PostOf (zQc E D tA o1 h1) (h1.1 - h.1) (h1.2.1 - h.2.1) (zA E)) (zPost (zXc E D tA o1 h1) (h1.1 - h.1) (h1.2.1 - h.2.1) (zA E)) :=
  z_backW0 (hh := hh) (bytes := bytes) (maxL := maxL) (ret := ret) (hM h o1 h1 hf) zPc_blind rfl rfl (by rw [x.2.2.2.2.2.2.2.2.2.2.1]; exact hfr) (by rw [x.2.2.2.2.2.2.2.2.2.2.2.1]; exact hlo) (pay_in x.2.2.2.2.1 (lw_methW hcode)) List.mem_cons_self (fun a' U hW => word_at hW (Or.inl rfl) (x.2.2.2.2.1 _ hini))
/-- what holds of the heap, the tables and the constants, seen from the callee -/
theorem zInv_of (x : zCx p l R s m args meth c E D tA cc nL own fr) {h : zH} {H : Heap} {locs : List Loc} {T : State} {vm₁ : Vm} (r1 : zRep E D tA h H) (r2 : va_S (zA E) s.heap H locs) (hT : T.heap = H) (hW : s.WarmedH vm₁) : zInv E D tA h (T.setVm vm₁) := by
  have hW' : s.WarmedH (T.setVm vm₁).vm := hW
  refine ⟨by show zRep E D tA h T.heap; rw [hT]; exact r1, va_K.moved hW'.alike x.2.2.2.2.2.1, ?_, zNw.moved hW' x.2.2.2.2.2.2.2.1, ?_⟩
  · show zG E (T.setVm vm₁) T.heap
    rw [hT]
    exact zG.moved hW' r2.2.1 x.2.2.2.2.2.2.1
  · show E 0 ≤ T.heap.size
    rw [hT]
    exact Nat.le_trans x.2.2.2.2.2.2.2.2.1 r2.1
/-- a method's name, and how many arguments it takes -/
def zNm (y : MethodName) (n : Nat) : Prop := y.cls ≠ "java/lang/invoke/MethodHandle" ∧ y.cls ≠ "java/lang/invoke/VarHandle" ∧ (parseMethodDescriptor y.desc).map (fun d => d.parameters.length) = some n
theorem zNm_len {y : MethodName} {n : Nat} (h : zNm y n) {k : Nat} (hk : k = n) : ∀ sig, parseMethodDescriptor y.desc = some sig → k = sig.parameters.length := by
  intro sig hs
  have h2 := h.2.2
  rw [hs] at h2
  rw [hk]
  exact (Option.some.inj h2).symm
theorem zStk_rev (As : List zV) (st : List zV) : zStk (As.reverse ++ st) = (zStk As).reverse ++ zStk st := by
  simp [zStk, List.map_append, List.map_reverse]
theorem zStk_cat8 {ls : Array Slot} {st : List zV} {st0 : List Value} {pc : Nat} (h : (st.map zCat).sum ≤ 8) : 2 * (F0 m pc ls st0).monitorRoom + ((zStk st).map fun v => v.category).sum ≤ 8 := by
  rw [zStk_cat]
  show 2 * 0 + _ ≤ 8
  omega
theorem z_canS (x : zCx p l R s m args meth c E D tA cc nL own fr) {y : MethodName} {bytes : ByteArray} {maxL fr1 index : Nat} {ret : Option FieldType} {F : zM} {As : List zV} (hM : zMet l E D tA y (ws_ y bytes maxL ret) fr1 F As) (hlink : Cond.methodLink own index y ∈ lw_all) (hstat : Cond.static y ∈ lw_all) (hini : Cond.initialized y.cls ∈ lw_all) (hcode : Cond.code y bytes maxL ret ∈ lw_all)
    (hn : zNm y As.length) (hR : fr1 + 1 ≤ fr ∧ 8 + (maxL + 11) + 64 * fr1 ≤ 64 * fr) (hs8 : (st.map zCat).sum ≤ 8) (hd : decode cc pc = .ok (.invokestatic index, 3)) : zCan p l e R s m args below meth c E D tA nL pc 3 F (As.reverse ++ st) st := by
  intro h o1 h1 hf H locs ls cells slots T r1 r2 hls hc1 hc2 hT X
  have hts := x.2.2.2.2.1
  refine ⟨(zStk As).toArray, ?_⟩
  exact vx_callS X x.1 x.2.2.2.1 (hts _ hlink) (hts _ hstat) (hts _ hini) (hts _ hcode) ⟨hn.1, hn.2.1⟩ (zMet_back x hM hcode hini hR.1 hR.2 hf) (g := F0 m pc ls (zStk (As.reverse ++ st))) rfl (hls.trans x.2.2.1.symm) (argsL := zStk As) (rest := zStk st) (zNm_len hn (by simp [zStk])) (zStk_rev As st) (zStk_cat8 hs8) (by rw [x.2.1]; exact hd)
    (fun vm₁ hW => ⟨hc1, hc2, rfl, zInv_of x r1 r2 hT hW⟩)
theorem z_canSX (x : zCx p l R s m args meth c E D tA cc nL own fr) {y : MethodName} {bytes : ByteArray} {maxL fr1 index : Nat} {ret : Option FieldType} {hh : List (Nat × Nat × Nat × Nat)} {F : zM} {As : List zV} (hM : zMet l E D tA y (wsW_ y bytes maxL ret hh) fr1 F As) (hlink : Cond.methodLink own index y ∈ lw_all) (hstat : Cond.static y ∈ lw_all) (hini : Cond.initialized y.cls ∈ lw_all) (hcode : Cond.codeWith y bytes maxL ret hh ∈ lw_all)
    (hn : zNm y As.length) (hR : fr1 + 1 ≤ fr ∧ 8 + (maxL + 11) + 64 * fr1 ≤ 64 * fr) (hs8 : (st.map zCat).sum ≤ 8) (hd : decode cc pc = .ok (.invokestatic index, 3)) : zCan p l e R s m args below meth c E D tA nL pc 3 F (As.reverse ++ st) st := by
  intro h o1 h1 hf H locs ls cells slots T r1 r2 hls hc1 hc2 hT X
  have hts := x.2.2.2.2.1
  refine ⟨(zStk As).toArray, ?_⟩
  exact vx_callSX X x.1 (hh := hh) x.2.2.2.1 (hts _ hlink) (hts _ hstat) (hts _ hini) (hts _ hcode) ⟨hn.1, hn.2.1⟩ (zMet_backW x hM hcode hini hR.1 hR.2 hf) (g := F0 m pc ls (zStk (As.reverse ++ st))) rfl (hls.trans x.2.2.1.symm) (argsL := zStk As) (rest := zStk st) (zNm_len hn (by simp [zStk])) (zStk_rev As st) (zStk_cat8 hs8) (by rw [x.2.1]; exact hd)
    (fun vm₁ hW => ⟨hc1, hc2, rfl, zInv_of x r1 r2 hT hW⟩)
theorem z_canSN (x : zCx p l R s m args meth c E D tA cc nL own fr) {y : MethodName} {bytes : ByteArray} {maxL fr1 index : Nat} {ret : Option FieldType} {host : String} {F : zM} {As : List zV} (hM : zMet l E D tA y (ws_ y bytes maxL ret) fr1 F As) (hlink : Cond.methodLinkNest own index y host ∈ lw_tbl) (hstat : Cond.static y ∈ lw_all) (hini : Cond.initialized y.cls ∈ lw_all) (hcode : Cond.code y bytes maxL ret ∈ lw_all)
    (hn : zNm y As.length) (hR : fr1 + 1 ≤ fr ∧ 8 + (maxL + 11) + 64 * fr1 ≤ 64 * fr) (hs8 : (st.map zCat).sum ≤ 8) (hd : decode cc pc = .ok (.invokestatic index, 3)) : zCan p l e R s m args below meth c E D tA nL pc 3 F (As.reverse ++ st) st := by
  intro h o1 h1 hf H locs ls cells slots T r1 r2 hls hc1 hc2 hT X
  have hts := x.2.2.2.2.1
  refine ⟨(zStk As).toArray, ?_⟩
  exact vx_callSN X x.1 x.2.2.2.1 (zNw.use x.2.2.2.2.2.2.2.1 hlink rfl) (hts _ hstat) (hts _ hini) (hts _ hcode) ⟨hn.1, hn.2.1⟩ (zMet_back x hM hcode hini hR.1 hR.2 hf) (g := F0 m pc ls (zStk (As.reverse ++ st))) rfl (hls.trans x.2.2.1.symm) (argsL := zStk As) (rest := zStk st) (zNm_len hn (by simp [zStk])) (zStk_rev As st) (zStk_cat8 hs8) (by rw [x.2.1]; exact hd)
    (fun vm₁ hW => ⟨hc1, hc2, rfl, zInv_of x r1 r2 hT hW⟩)
end ZCL
