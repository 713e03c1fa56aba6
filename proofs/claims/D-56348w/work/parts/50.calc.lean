set_option maxRecDepth 20000
/-! ===== plain law: whole numbers in an Int32 ===== -/
set_option linter.unusedVariables false
set_option linter.unusedSimpArgs false
theorem nrfl {α : Sort _} {a b : α} (h : a = b) : a = b := Eq.trans h rfl
def zi (z : Int) : Int32 := Int32.ofInt z
theorem zi_lit (n : Nat) : (@OfNat.ofNat Int32 n Int32.instOfNat) = zi (@OfNat.ofNat Int n (@instOfNat n)) := by
  show _ = Int32.ofInt ((n : Nat) : Int)
  rw [Int32.ofInt_eq_ofNat]
  rfl
theorem zi_0 : (0 : Int32) = zi 0 := nrfl rfl
theorem zi_add (a b : Int) : zi a + zi b = zi (a + b) := nrfl (Int32.ofInt_add a b).symm
theorem zi_sub (a b : Int) : zi a - zi b = zi (a - b) := (Int32.ofInt_sub a b).symm
theorem zi_mul (a b : Int) : zi a * zi b = zi (a * b) := (Int32.ofInt_mul a b).symm
theorem zi_neg (a : Int) : - zi a = zi (-a) := (Int32.ofInt_neg a).symm
theorem zi_toInt {a : Int} (h : -2147483648 ≤ a ∧ a < 2147483648) : (zi a).toInt = a := by
  have h4 : ((Int32.size : Nat) : Int) = 4294967296 := by decide
  rw [zi, Int32.toInt_ofInt, Int.bmod_def, h4]; omega
theorem zi_le {a b : Int} (ha : -2147483648 ≤ a ∧ a < 2147483648) (hb : -2147483648 ≤ b ∧ b < 2147483648) : (zi a ≤ zi b) = (a ≤ b) := by
  rw [Int32.le_iff_toInt_le, zi_toInt ha, zi_toInt hb]
theorem zi_lt {a b : Int} (ha : -2147483648 ≤ a ∧ a < 2147483648) (hb : -2147483648 ≤ b ∧ b < 2147483648) : (zi a < zi b) = (a < b) := by
  rw [Int32.lt_iff_toInt_lt, zi_toInt ha, zi_toInt hb]
theorem zi_eq {a b : Int} (ha : -2147483648 ≤ a ∧ a < 2147483648) (hb : -2147483648 ≤ b ∧ b < 2147483648) : (zi a = zi b) = (a = b) := by
  refine propext ⟨fun h => ?_, fun h => h ▸ rfl⟩
  have := congrArg Int32.toInt h
  rwa [zi_toInt ha, zi_toInt hb] at this
theorem zi_nat {a : Int} (h : -2147483648 ≤ a ∧ a < 2147483648) : (zi a).toNatClampNeg = a.toNat := by
  rw [Int32.toNatClampNeg, zi_toInt h]
theorem zi_of (x : Int32) : x = zi x.toInt := by simp [zi]
theorem zi_rng (x : Int32) : -2147483648 ≤ x.toInt ∧ x.toInt < 2147483648 := ⟨Int32.le_toInt x, Int32.toInt_lt x⟩
/-- any int is a whole number in its range -/
theorem zi_ex (x : Int32) : ∃ z : Int, x = zi z ∧ -2147483648 ≤ z ∧ z < 2147483648 := ⟨x.toInt, zi_of x, zi_rng x⟩
theorem zi_div {a b : Int} (ha : 0 ≤ a ∧ a < 2147483648) (hb : 0 < b ∧ b < 2147483648) : zi a / zi b = zi (a / b) := by
  have h1 := Int.ediv_le_self b ha.1
  have h2 := Int.ediv_nonneg ha.1 (Int.le_of_lt hb.1)
  apply Int32.toInt_inj.mp
  rw [Int32.toInt_div_of_ne_left, zi_toInt (by omega), zi_toInt (by omega), zi_toInt (by omega), Int.tdiv_eq_ediv_of_nonneg ha.1]
  intro h3
  have := congrArg Int32.toInt h3
  rw [zi_toInt (by omega)] at this
  have h4 : Int32.minValue.toInt = -2147483648 := by decide
  omega
theorem zi_mod {a b : Int} (ha : 0 ≤ a ∧ a < 2147483648) (hb : 0 < b ∧ b < 2147483648) : zi a % zi b = zi (a % b) := by
  have h1 := Int.emod_lt_of_pos a hb.1
  have h2 := Int.emod_nonneg a (Int.ne_of_gt hb.1)
  apply Int32.toInt_inj.mp
  rw [Int32.toInt_mod, zi_toInt (by omega), zi_toInt (by omega), zi_toInt (by omega), Int.tmod_eq_emod_of_nonneg ha.1]
/-- a char out of an int -/
theorem zi_char (a : Int) : ((zi a).toUInt32 % 65536).toInt32 = zi (a % 65536) := by
  apply Int32.toInt_inj.mp
  rw [zi_toInt (by omega)]
  have h4 : ((Int32.size : Nat) : Int) = 4294967296 := by decide
  have h1 : (zi a).toUInt32.toNat = (a % 4294967296).toNat := by
    show (zi a).toBitVec.toNat = _
    rw [zi]
    show (BitVec.ofInt 32 a).toNat = _
    rw [BitVec.toNat_ofInt]
    rfl
  have h2 : ((zi a).toUInt32 % 65536).toNat = (a % 65536).toNat := by
    rw [UInt32.toNat_mod, h1]
    show _ % 65536 = _
    omega
  have h3 : ((zi a).toUInt32 % 65536).toInt32.toInt = (((zi a).toUInt32 % 65536).toNat : Int).bmod 4294967296 := by
    show ((zi a).toUInt32 % 65536).toBitVec.toInt = _
    rw [BitVec.toInt_eq_toNat_bmod]
    rfl
  rw [h3, h2, Int.bmod_def]
  omega
/-! truth in an int -/
def zb (b : Bool) : Int32 := if b then 1 else 0
theorem zb_zi (b : Bool) : zb b = zi (if b then 1 else 0) := by cases b <;> rfl
theorem zb_eq0 (b : Bool) : (zb b = zi 0) = (b = false) := by cases b <;> simp [zb] <;> decide
theorem zb_eq1 (b : Bool) : (zb b = zi 1) = (b = true) := by cases b <;> simp [zb] <;> decide
theorem zb_le0 (b : Bool) : (zb b ≤ zi 0) = (b = false) := by cases b <;> simp [zb] <;> decide
theorem zi_t : zi 1 = zb true := nrfl rfl
theorem zi_f : zi 0 = zb false := nrfl rfl
theorem zb_or (a b : Bool) : zb a ||| zb b = zb (a || b) := by cases a <;> cases b <;> decide
theorem zb_and (a b : Bool) : zb a &&& zb b = zb (a && b) := by cases a <;> cases b <;> decide
theorem zb_or1 (b : Bool) : zb b ||| zi 1 = zb true := by cases b <;> decide
theorem zb_or0 (b : Bool) : zb b ||| zi 0 = zb b := by cases b <;> decide
theorem zb_1or (b : Bool) : zi 1 ||| zb b = zb true := by cases b <;> decide
theorem zb_0or (b : Bool) : zi 0 ||| zb b = zb b := by cases b <;> decide
theorem zb_and1 (b : Bool) : zb b &&& zi 1 = zb b := by cases b <;> decide
theorem zb_and0 (b : Bool) : zb b &&& zi 0 = zb false := by cases b <;> decide
theorem zb_1and (b : Bool) : zi 1 &&& zb b = zb b := by cases b <;> decide
theorem zb_0and (b : Bool) : zi 0 &&& zb b = zb false := by cases b <;> decide
theorem zb_ite (p : Prop) [Decidable p] : (if p then zb true else zb false) = zb (decide p) := by by_cases h : p <;> simp [h]
theorem zb_nar (b : Bool) : vp_nar .boolean (zb b) = zb b := by cases b <;> decide
theorem zi_nar0 : vp_nar .boolean (zi 0) = zb false := by decide
theorem zi_nar1 : vp_nar .boolean (zi 1) = zb true := by decide
/-! ===== running the terms ===== -/
theorem zl_ite (c : Prop) [Decidable c] (A B : zM) (h : zH) : (if c then A else B) h = if c then A h else B h := by split <;> rfl
theorem zl_ret (v : Option Value) (h : zH) : zRet v h = some (.inl v, h) := nrfl rfl
theorem zl_retb (b : Bool) (h : zH) : zRetN .boolean (zb b) h = some (.inl (some (.int (zb b))), h) := by cases b <;> rfl
theorem zl_retb1 (h : zH) : zRetN .boolean (zi 1) h = some (.inl (some (.int (zb true))), h) := nrfl rfl
theorem zl_retb0 (h : zH) : zRetN .boolean (zi 0) h = some (.inl (some (.int (zb false))), h) := nrfl rfl
theorem zl_retc {a : Int} (h : zH) (ha : 0 ≤ a ∧ a < 65536) : zRetN .char (zi a) h = some (.inl (some (.int (zi a))), h) := by
  have h1 : narrow .char (.int (zi a)) = .int (zi a) := by
    show Value.int ((zi a).toUInt32 % 65536).toInt32 = _
    rw [zi_char, Int.emod_eq_of_lt ha.1 ha.2]
  unfold zRetN
  rw [if_pos h1]; rfl
theorem zl_ki (f : Int32 → zM) (x : Int32) : zKI f (some (.int x)) = f x := nrfl rfl
theorem zl_kr (f : Option Nat → zM) (a : Nat) : zKR f (some (.ref a)) = f (some a) := nrfl rfl
theorem zl_kr0 (f : Option Nat → zM) : zKR f (some .null) = f none := nrfl rfl
theorem zl_krf (f : Option Nat → zM) (r : Option Nat) : zKR f (some (va_rf r)) = f r := by cases r <;> rfl
theorem zl_kl (f : Int64 → zM) (x : Int64) : zKL f (some (.long x)) = f x := nrfl rfl
theorem zl_kf (f : UInt32 → zM) (x : UInt32) : zKF f (some (.float x)) = f x := nrfl rfl
theorem zl_kd (f : UInt64 → zM) (x : UInt64) : zKD f (some (.double x)) = f x := nrfl rfl
theorem zl_kv (f : zM) : zKV f none = f := nrfl rfl
theorem zl_rf (a : Nat) : va_rf (some a) = .ref a := nrfl rfl
theorem zl_rf0 : va_rf none = .null := nrfl rfl
theorem zl_valI (x : Int32) : zVal (zI x) = .int x := nrfl rfl
theorem zl_valP (r : Option Nat) : zVal (zP r) = va_rf r := nrfl rfl
theorem zl_valL (x : Int64) : zVal (.inr (.inr (.inl x))) = .long x := nrfl rfl
/-- the field k of what a cell holds -/
def zFk (o : Option zO) (c k : Nat) : Option Value := match o with
  | some (.inr (c', fs)) => if c' = c then fs[k]? else none
  | _ => none
def zGetk {α : Type} (as : Value → Option α) (v : Option Value) (K : α → zM) : zM := fun h => match v with
  | some v => (match as v with
    | some x => K x h
    | none => none)
  | none => none
theorem zl_get {α : Type} (as : Value → Option α) (a c k : Nat) (K : α → zM) (n m : Nat) (f : Nat → Option zO) : zGet as (some a) c k K (n, m, f) = zGetk as (zFk (f a) c k) K (n, m, f) := by
  unfold zGet zFk zGetk
  dsimp only
  rcases f a with _ | (⟨t, x⟩ | ⟨c', fs⟩) <;> dsimp only
  by_cases hc : c' = c <;> simp only [hc, if_true, if_false]
  rcases fs[k]? with _ | v <;> dsimp only
  all_goals (try rcases as v with _ | x <;> rfl)
theorem zl_getI (x : Int32) (K : Int32 → zM) (h : zH) : zGetk zAsI (some (.int x)) K h = K x h := nrfl rfl
theorem zl_getR (a : Nat) (K : Option Nat → zM) (h : zH) : zGetk zAsR (some (.ref a)) K h = K (some a) h := nrfl rfl
theorem zl_get0 (K : Option Nat → zM) (h : zH) : zGetk zAsR (some .null) K h = K none h := nrfl rfl
theorem zl_getr (r : Option Nat) (K : Option Nat → zM) (h : zH) : zGetk zAsR (some (va_rf r)) K h = K r h := by cases r <;> rfl
theorem zl_fk (c k : Nat) (fs : List Value) : zFk (some (.inr (c, fs))) c k = fs[k]? := by simp [zFk]
def zSetk (c k : Nat) (v : Value) (a : Nat) (o : Option zO) (K : zM) : zM := fun h => match o with
  | some (.inr (c', fs)) => if c' = c ∧ k < fs.length then K (h.1, h.2.1, zUp h.2.2 a (.inr (c, fs.set k v))) else none
  | _ => none
theorem zl_set {E : zE} {a : Nat} (hE : E 0 ≤ a) (c k : Nat) (v : Value) (K : zM) (n m : Nat) (f : Nat → Option zO) : zSet E (some a) c k v K (n, m, f) = zSetk c k v a (f a) K (n, m, f) := by
  unfold zSet zSetk
  dsimp only
  rcases f a with _ | (⟨t, x⟩ | ⟨c', fs⟩) <;> dsimp only
  simp only [hE, true_and]
theorem zl_setk (c k : Nat) (fs : List Value) (v : Value) (a : Nat) (K : zM) (n m : Nat) (f : Nat → Option zO) : zSetk c k v a (some (.inr (c, fs))) K (n, m, f) = if k < fs.length then K (n, m, zUp f a (.inr (c, fs.set k v))) else none := by
  simp [zSetk]
theorem zl_setN (E : zE) (ty : FieldType) (r : Option Nat) (c k : Nat) {x : Int32} (hx : narrow ty (.int x) = .int x ∧ fits ty (.int x) = true) (K : zM) (h : zH) : zSetN E ty r c k x K h = zSet E r c k (.int x) K h := by
  simp only [zSetN, if_pos hx]
theorem zl_setNb (E : zE) (r : Option Nat) (c k : Nat) (b : Bool) (K : zM) (h : zH) : zSetN E .boolean r c k (zb b) K h = zSet E r c k (.int (zb b)) K h :=
  zl_setN E .boolean r c k (by cases b <;> exact ⟨rfl, rfl⟩) K h
theorem zl_setN1 (E : zE) (r : Option Nat) (c k : Nat) (K : zM) (h : zH) : zSetN E .boolean r c k (zi 1) K h = zSet E r c k (.int (zb true)) K h := zl_setNb E r c k true K h
theorem zl_setN0 (E : zE) (r : Option Nat) (c k : Nat) (K : zM) (h : zH) : zSetN E .boolean r c k (zi 0) K h = zSet E r c k (.int (zb false)) K h := zl_setNb E r c k false K h
theorem zl_up (f : Nat → Option zO) (a : Nat) (o : zO) (q : Nat) : zUp f a o q = if q = a then some o else f q := nrfl rfl
theorem zl_up1 {f : Nat → Option zO} {a : Nat} {o : zO} {q : Nat} (h : q = a) : zUp f a o q = some o := if_pos h
theorem zl_up2 {f : Nat → Option zO} {a : Nat} {o : zO} {q : Nat} (h : q ≠ a) : zUp f a o q = f q := if_neg h
theorem zl_upup (f : Nat → Option zO) (a : Nat) (o o' : zO) : zUp (zUp f a o) a o' = zUp f a o' := by
  funext q; unfold zUp; split <;> rfl
theorem zl_new (c s : Nat) (fs : List Value) (K : Option Nat → zM) (n m : Nat) (f : Nat → Option zO) : zNew c s fs K (n, m, f) = K (some n) (n + 1, m + s, zUp f n (.inr (c, fs))) := nrfl rfl
theorem zl_newA (t : Nat) (y : (Nat → Int32) ⊕ (Nat → Int64) ⊕ (Nat → UInt32) ⊕ (Nat → UInt64) ⊕ (Nat → Option Nat)) {a : Int} (ha : 0 ≤ a ∧ a ≤ 1000000) (K : Option Nat → zM) (n m : Nat) (f : Nat → Option zO) : zNewA t y (zi a) K (n, m, f) = K (some n) (n + 1, m + a.toNat, zUp f n (.inl (t, a.toNat, y))) := by
  have h1 : ¬ ((zi a) < 0 ∨ 1000000 < (zi a).toNatClampNeg) := by
    rw [zi_0, zi_lt (by omega) (by omega), zi_nat (by omega)]; omega
  unfold zNewA
  rw [if_neg h1, zi_nat (by omega)]
def zLenk (o : Option zO) (K : Int32 → zM) : zM := fun h => match o with
  | some (.inl (t, x)) => if t < 10 then K (zi x.1) h else none
  | _ => none
theorem zl_len (a : Nat) (K : Int32 → zM) (n m : Nat) (f : Nat → Option zO) : zLen (some a) K (n, m, f) = zLenk (f a) K (n, m, f) := by
  unfold zLen zLenk
  dsimp only
  rcases f a with _ | (⟨t, x⟩ | ⟨c', fs⟩) <;> dsimp only
  have h1 : Int32.ofNat x.1 = zi (x.1 : Int) := (Int32.ofInt_eq_ofNat).symm
  rw [h1]; rfl
theorem zl_lenk {t : Nat} (ht : t < 10) (l : Nat) (y : (Nat → Int32) ⊕ (Nat → Int64) ⊕ (Nat → UInt32) ⊕ (Nat → UInt64) ⊕ (Nat → Option Nat)) (K : Int32 → zM) (h : zH) : zLenk (some (.inl (t, l, y))) K h = K (zi l) h := by simp [zLenk, ht]
/-- place i of the array that a cell holds -/
def zGak {α : Type} (as : ((Nat → Int32) ⊕ (Nat → Int64) ⊕ (Nat → UInt32) ⊕ (Nat → UInt64) ⊕ (Nat → Option Nat)) → Option (Nat → α)) (t : Nat) (o : Option zO) (i : Nat) (K : α → zM) : zM := fun h => match o with
  | some (.inl (t', n, y)) => if t' = t ∧ i < n then (match as y with
    | some f => K (f i) h
    | none => none) else none
  | _ => none
theorem zl_ga {α : Type} (as : ((Nat → Int32) ⊕ (Nat → Int64) ⊕ (Nat → UInt32) ⊕ (Nat → UInt64) ⊕ (Nat → Option Nat)) → Option (Nat → α)) (t a : Nat) {i : Int} (hi : 0 ≤ i ∧ i < 2147483648) (K : α → zM) (n m : Nat) (f : Nat → Option zO) : zGa as t (some a) (zi i) K (n, m, f) = zGak as t (f a) i.toNat K (n, m, f) := by
  unfold zGa zGak
  dsimp only
  rcases f a with _ | (⟨t', l, y⟩ | ⟨c', fs⟩) <;> dsimp only
  have h0 : ¬ zi i < 0 := by rw [zi_0, zi_lt (by omega) (by omega)]; omega
  simp only [h0, not_false_eq_true, true_and, zi_nat (show -2147483648 ≤ i ∧ i < 2147483648 by omega)]
  rcases as y with _ | x <;> rfl
theorem zl_gaI {t l i : Nat} (hi : i < l) (g : Nat → Int32) (K : Int32 → zM) (h : zH) : zGak zYI t (some (.inl (t, l, .inl g))) i K h = K (g i) h := by simp [zGak, hi, zYI]
theorem zl_gaL {t l i : Nat} (hi : i < l) (g : Nat → Int64) (K : Int64 → zM) (h : zH) : zGak zYL t (some (.inl (t, l, .inr (.inl g)))) i K h = K (g i) h := by simp [zGak, hi, zYL]
theorem zl_gaD {t l i : Nat} (hi : i < l) (g : Nat → UInt64) (K : UInt64 → zM) (h : zH) : zGak zYD t (some (.inl (t, l, .inr (.inr (.inr (.inl g)))))) i K h = K (g i) h := by simp [zGak, hi, zYD]
theorem zl_gaR {t l i : Nat} (hi : i < l) (g : Nat → Option Nat) (K : Option Nat → zM) (h : zH) : zGak zYR t (some (.inl (t, l, .inr (.inr (.inr (.inr g)))))) i K h = K (g i) h := by simp [zGak, hi, zYR]
def zSak (t : Nat) (up : ((Nat → Int32) ⊕ (Nat → Int64) ⊕ (Nat → UInt32) ⊕ (Nat → UInt64) ⊕ (Nat → Option Nat)) → Nat → Option ((Nat → Int32) ⊕ (Nat → Int64) ⊕ (Nat → UInt32) ⊕ (Nat → UInt64) ⊕ (Nat → Option Nat))) (a : Nat) (o : Option zO) (i : Nat) (K : zM) : zM := fun h => match o with
  | some (.inl (t', n, y)) => if t' = t ∧ i < n then (match up y i with
    | some y' => K (h.1, h.2.1, zUp h.2.2 a (.inl (t, n, y')))
    | none => none) else none
  | _ => none
theorem zl_sa {E : zE} (t : Nat) {a : Nat} (hE : E 0 ≤ a) {i : Int} (hi : 0 ≤ i ∧ i < 2147483648) (up : ((Nat → Int32) ⊕ (Nat → Int64) ⊕ (Nat → UInt32) ⊕ (Nat → UInt64) ⊕ (Nat → Option Nat)) → Nat → Option ((Nat → Int32) ⊕ (Nat → Int64) ⊕ (Nat → UInt32) ⊕ (Nat → UInt64) ⊕ (Nat → Option Nat))) (K : zM) (n m : Nat) (f : Nat → Option zO) : zSa E t (some a) (zi i) up K (n, m, f) = zSak t up a (f a) i.toNat K (n, m, f) := by
  unfold zSa zSak
  dsimp only
  rcases f a with _ | (⟨t', l, y⟩ | ⟨c', fs⟩) <;> dsimp only
  have h0 : ¬ zi i < 0 := by rw [zi_0, zi_lt (by omega) (by omega)]; omega
  simp only [h0, not_false_eq_true, true_and, zi_nat (show -2147483648 ≤ i ∧ i < 2147483648 by omega), hE, and_true]
  rcases up y i.toNat with _ | x <;> rfl
theorem zl_saI {t l i : Nat} (hi : i < l) (x : Int32) (a : Nat) (g : Nat → Int32) (K : zM) (n m : Nat) (f : Nat → Option zO) : zSak t (zUpI x) a (some (.inl (t, l, .inl g))) i K (n, m, f) = K (n, m, zUp f a (.inl (t, l, .inl (upd g i x)))) := by simp [zSak, hi, zUpI]
theorem zl_saL {t l i : Nat} (hi : i < l) (x : Int64) (a : Nat) (g : Nat → Int64) (K : zM) (n m : Nat) (f : Nat → Option zO) : zSak t (zUpL x) a (some (.inl (t, l, .inr (.inl g)))) i K (n, m, f) = K (n, m, zUp f a (.inl (t, l, .inr (.inl (vp_updL g i x))))) := by simp [zSak, hi, zUpL]
theorem zl_saD {t l i : Nat} (hi : i < l) (x : UInt64) (a : Nat) (g : Nat → UInt64) (K : zM) (n m : Nat) (f : Nat → Option zO) : zSak t (zUpD x) a (some (.inl (t, l, .inr (.inr (.inr (.inl g)))))) i K (n, m, f) = K (n, m, zUp f a (.inl (t, l, .inr (.inr (.inr (.inl (vf_upd g i x))))))) := by simp [zSak, hi, zUpD]
theorem zl_saR {t l i : Nat} (hi : i < l) (x : Option Nat) (a : Nat) (g : Nat → Option Nat) (K : zM) (n m : Nat) (f : Nat → Option zO) : zSak t (zUpR x) a (some (.inl (t, l, .inr (.inr (.inr (.inr g)))))) i K (n, m, f) = K (n, m, zUp f a (.inl (t, l, .inr (.inr (.inr (.inr (va_up g i x))))))) := by simp [zSak, hi, zUpR]
/-- the class of the object that a cell holds -/
def zCk (o : Option zO) : Option Nat := match o with
  | some (.inr (c, _)) => some c
  | _ => none
theorem zl_ck (c : Nat) (fs : List Value) : zCk (some (.inr (c, fs))) = some c := nrfl rfl
def zOkk (tg : Nat) (c : Option Nat) : Bool := match c with
  | some c => decide ((c, tg) ∈ zCastT)
  | none => false
theorem zl_ok (n m : Nat) (f : Nat → Option zO) (tg b : Nat) : zOkR (n, m, f) tg (some b) = zOkk tg (zCk (f b)) := by
  unfold zOkR zOkk zCk
  dsimp only
  rcases f b with _ | (⟨t', l, y⟩ | ⟨c', fs⟩) <;> dsimp only
theorem zl_ok0 (h : zH) (tg : Nat) : zOkR h tg none = true := nrfl rfl
theorem zl_saRr (E : zE) (t tg : Nat) (r : Option Nat) (i : Int32) (x : Option Nat) (K : zM) {h : zH} (hx : zOkR h tg x = true) : zSaR E t tg r i x K h = zSa E t r i (zUpR x) K h := by
  unfold zSaR; rw [if_pos hx]
theorem zl_cst (tg : Nat) (x : Option Nat) (K : zM) {h : zH} (hx : zOkR h tg x = true) : zCst tg x K h = K h := by unfold zCst; rw [if_pos hx]
def zCsk (c : Nat) (o : Option Nat) (K : zM) : zM := fun h => match o with
  | some c' => if c' = c then K h else none
  | none => none
theorem zl_csS (c b : Nat) (K : zM) (n m : Nat) (f : Nat → Option zO) : zCsS c (some b) K (n, m, f) = zCsk c (zCk (f b)) K (n, m, f) := by
  unfold zCsS zCsk zCk
  dsimp only
  rcases f b with _ | (⟨t', l, y⟩ | ⟨c', fs⟩) <;> dsimp only
theorem zl_csS0 (c : Nat) (K : zM) (h : zH) : zCsS c none K h = K h := nrfl rfl
theorem zl_csk (c : Nat) (K : zM) (h : zH) : zCsk c (some c) K h = K h := by simp [zCsk]
/-- the type of the array that a cell holds -/
def zTk (o : Option zO) : Option Nat := match o with
  | some (.inl (t, _)) => some t
  | _ => none
theorem zl_tk (t : Nat) (x : vp_A) : zTk (some (.inl (t, x))) = some t := nrfl rfl
theorem zl_csA (c b : Nat) (K : zM) (n m : Nat) (f : Nat → Option zO) : zCsA c (some b) K (n, m, f) = zCsk c (zTk (f b)) K (n, m, f) := by
  unfold zCsA zCsk zTk
  dsimp only
  rcases f b with _ | (⟨t', l, y⟩ | ⟨c', fs⟩) <;> dsimp only
theorem zl_saS {E : zE} {t ci : Nat} (r : Option Nat) (i : Int32) (b : Nat) (K : zM) {n m : Nat} {f : Nat → Option zO} (hx : zCk (f b) = some ci) : zSaS E t ci r i (some b) K (n, m, f) = zSa E t r i (zUpR (some b)) K (n, m, f) := by
  revert hx
  unfold zSaS zCk
  dsimp only
  rcases f b with _ | (⟨t', l, y⟩ | ⟨c', fs⟩) <;> intro hx <;> dsimp only at hx ⊢ <;> try cases hx
  rw [if_pos rfl]
theorem zl_isS0 (c : Nat) (K : Int32 → zM) (h : zH) : zIsS c none K h = K (zb false) h := nrfl rfl
theorem zl_isS {c b : Nat} (K : Int32 → zM) {n m : Nat} {f : Nat → Option zO} (hx : zCk (f b) = some c) : zIsS c (some b) K (n, m, f) = K (zb true) (n, m, f) := by
  revert hx
  unfold zIsS zCk
  dsimp only
  rcases f b with _ | (⟨t', l, y⟩ | ⟨c', fs⟩) <;> intro hx <;> dsimp only at hx ⊢ <;> try cases hx
  rw [if_pos rfl]; rfl
theorem zl_gcA {t b : Nat} (mi : Nat) (K : Option Nat → zM) {n m : Nat} {f : Nat → Option zO} (hx : zTk (f b) = some t) : zGcA t mi (some b) K (n, m, f) = K (some mi) (n, m, f) := by
  revert hx
  unfold zGcA zTk
  dsimp only
  rcases f b with _ | (⟨t', l, y⟩ | ⟨c', fs⟩) <;> intro hx <;> dsimp only at hx ⊢ <;> try cases hx
  rw [if_pos rfl]
/-- a call: what it answers, then the rest -/
def zCc (n m : Nat) (r : Option (zR × zH)) (X : Nat → zM) (K : Option Value → zM) : Option (zR × zH) := match r with
  | none => none
  | some (o, h1) => if n ≤ h1.1 ∧ m ≤ h1.2.1 then (match o with
    | .inl v => K v h1
    | .inr q => X q h1) else none
theorem zl_c (F : zM) (X : Nat → zM) (K : Option Value → zM) (n m : Nat) (f : Nat → Option zO) : zC F X K (n, m, f) = zCc n m (F (n, m, f)) X K := by
  unfold zC zCc; rcases F (n, m, f) with _ | ⟨o, h1⟩ <;> rfl
theorem zl_cv {n m n1 m1 : Nat} (h1 : n ≤ n1) (h2 : m ≤ m1) (v : Option Value) (f1 : Nat → Option zO) (X : Nat → zM) (K : Option Value → zM) : zCc n m (some (.inl v, (n1, m1, f1))) X K = K v (n1, m1, f1) := by
  simp [zCc, h1, h2]
theorem zl_cx {n m n1 m1 : Nat} (h1 : n ≤ n1) (h2 : m ≤ m1) (q : Nat) (f1 : Nat → Option zO) (X : Nat → zM) (K : Option Value → zM) : zCc n m (some (.inr q, (n1, m1, f1))) X K = X q (n1, m1, f1) := by
  simp [zCc, h1, h2]
theorem zl_sp (b : Nat) (F : Nat → zM) (h : zH) : zSp (some b) F h = F b h := nrfl rfl
def zRvk (b : Nat) (o : Option Nat) (l : List (Nat × (Nat → zM))) : zM := fun h => match o with
  | none => none
  | some c' => (match l with
    | [] => none
    | (c, F) :: t => if c' = c then F b h else zRvk b o t h)
theorem zl_rv (b c : Nat) (F : Nat → zM) (l : List (Nat × (Nat → zM))) (n m : Nat) (f : Nat → Option zO) : zRv (some b) ((c, F) :: l) (n, m, f) = zRvk b (zCk (f b)) ((c, F) :: l) (n, m, f) := by
  have key : ∀ l : List (Nat × (Nat → zM)), l ≠ [] → zRv (some b) l (n, m, f) = zRvk b (zCk (f b)) l (n, m, f) := by
    intro l
    induction l with
    | nil => intro h; exact absurd rfl h
    | cons q t ih =>
      intro _
      obtain ⟨c, F⟩ := q
      unfold zRv
      dsimp only
      unfold zRvk
      rcases hf : f b with _ | (⟨t', l, y⟩ | ⟨c', fs⟩) <;> dsimp only [zCk]
      split
      · rfl
      · cases t with
        | nil => unfold zRv; rfl
        | cons p t => rw [ih (by simp), hf]; rfl
  exact key _ (by simp)
theorem zl_rvk (b c : Nat) (F : Nat → zM) (l : List (Nat × (Nat → zM))) (h : zH) : zRvk b (some c) ((c, F) :: l) h = F b h := by unfold zRvk; simp
theorem zl_rvk2 {b c c' : Nat} (hc : c' ≠ c) (F : Nat → zM) (l : List (Nat × (Nat → zM))) (h : zH) : zRvk b (some c') ((c, F) :: l) h = zRvk b (some c') l h := by
  rw [zRvk]; simp [hc]
theorem zl_div {b : Int} (hb : 0 < b ∧ b < 2147483648) (a : Int32) (K : Int32 → zM) (h : zH) : zDiv a (zi b) K h = K (a / zi b) h := by
  unfold zDiv
  rw [if_neg]
  rw [zi_0, zi_eq (by omega) (by omega)]; omega
theorem zl_rem {a b : Int} (ha : 0 ≤ a ∧ a < 2147483648) (hb : 0 < b ∧ b < 2147483648) (K : Int32 → zM) (h : zH) : zRem (zi a) (zi b) K h = K (zi (a % b)) h := by
  unfold zRem
  rw [if_neg, zi_div ha hb, zi_mul, zi_sub, Int.emod_def, Int.mul_comm]
  rw [zi_0, zi_eq (by omega) (by omega)]; omega
theorem zl_thr {n m q c : Nat} {f : Nat → Option zO} (hq : zCk (f q) = some c) (hc : c ≤ 8) : zThr q (n, m, f) = some (.inr q, (n, m, f)) := by
  revert hq
  unfold zThr zCk
  dsimp only
  rcases f q with _ | (⟨t', l, y⟩ | ⟨c', fs⟩) <;> intro hq <;> dsimp only at hq ⊢ <;> try cases hq
  rw [if_pos hc]
theorem zl_ath (q : Nat) (X : Nat → zM) (h : zH) : zAth (some q) X h = X q h := nrfl rfl
def zCat1k (q : Nat) (c : Option Nat) (l : List (Nat × zM)) : zM := fun h => match l with
  | [] => zThr q h
  | (tg, J) :: t => (match c with
    | none => none
    | some c => if 8 < c then none else if (c, tg) ∈ zCastT then J h else if (c, tg) ∈ zNcT then zCat1k q (some c) t h else none)
theorem zl_cat (q : Nat) (l : List (Nat × zM)) (n m : Nat) (f : Nat → Option zO) : zCat1 q l (n, m, f) = zCat1k q (zCk (f q)) l (n, m, f) := by
  induction l with
  | nil => rfl
  | cons p t ih =>
    obtain ⟨tg, J⟩ := p
    unfold zCat1 zCat1k
    dsimp only
    rcases hf : f q with _ | (⟨t', l, y⟩ | ⟨c', fs⟩) <;> dsimp only [zCk]
    split
    · rfl
    split
    · rfl
    split
    · rw [ih, hf]; rfl
    · rfl
theorem zl_catn (q : Nat) (c : Option Nat) (h : zH) : zCat1k q c [] h = zThr q h := nrfl rfl
theorem zl_cat1 {c tg : Nat} (hc : c ≤ 8) (hm : (c, tg) ∈ zCastT) (q : Nat) (J : zM) (t : List (Nat × zM)) (h : zH) : zCat1k q (some c) ((tg, J) :: t) h = J h := by
  unfold zCat1k; dsimp only; rw [if_neg (by omega), if_pos hm]
theorem zl_cat2 {c tg : Nat} (hc : c ≤ 8) (hn : (c, tg) ∉ zCastT) (hm : (c, tg) ∈ zNcT) (q : Nat) (J : zM) (t : List (Nat × zM)) (h : zH) : zCat1k q (some c) ((tg, J) :: t) h = zCat1k q (some c) t h := by
  rw [zCat1k]; rw [if_neg (by omega), if_neg hn, if_pos hm]
theorem zl_xi {E : zE} {a ci jb : Nat} (hE : E 0 ≤ a) (K : zM) {n m : Nat} {f : Nat → Option zO} (hf : zFk (f a) ci jb = some .null) : zXi E (some a) ci jb K (n, m, f) = K (n, m, f) := by
  revert hf
  unfold zXi zFk
  dsimp only
  rcases f a with _ | (⟨t', l, y⟩ | ⟨c', fs⟩) <;> intro hf <;> dsimp only at hf ⊢ <;> try cases hf
  split at hf
  · rename_i h1; rw [if_pos ⟨h1, hE, hf⟩]
  · cases hf
/-- an array's copy (ints) -/
theorem zl_cln {t b l : Nat} {g : Nat → Int32} (K : Option Nat → zM) {n m : Nat} {f : Nat → Option zO} (hf : f b = some (.inl (t, l, .inl g))) (hg : ∀ i, i < l → fits (zTY.getD t .int) (.int (g i)) = true) : zCln t (some b) K (n, m, f) = K (some n) (n + 1, m + l, zUp f n (.inl (t, l, .inl g))) := by
  unfold zCln
  dsimp only
  rw [hf]
  dsimp only
  rw [if_pos ⟨rfl, hg⟩]
theorem zl_cln0 {b l : Nat} {g : Nat → Int32} (K : Option Nat → zM) {n m : Nat} {f : Nat → Option zO} (hf : f b = some (.inl (0, l, .inl g))) : zCln 0 (some b) K (n, m, f) = K (some n) (n + 1, m + l, zUp f n (.inl (0, l, .inl g))) :=
  zl_cln K hf fun _ _ => rfl
theorem zl_updE (g : Nat → Int32) (i j : Nat) (x : Int32) : upd g i x j = if j = i then x else g j := nrfl rfl
theorem zl_upE {α : Type} (g : Nat → α) (i j : Nat) (x : α) : va_up g i x j = if j = i then x else g j := nrfl rfl
theorem zl_zN : zN = 1000000 := nrfl rfl
theorem zl_l0 (v : Value) (l : List Value) : (v :: l)[0]? = some v := nrfl rfl
theorem zl_ls (v : Value) (l : List Value) (k : Nat) : (v :: l)[k + 1]? = l[k]? := nrfl rfl
theorem zl_s0 (v w : Value) (l : List Value) : (v :: l).set 0 w = w :: l := nrfl rfl
theorem zl_ss (v w : Value) (l : List Value) (k : Nat) : (v :: l).set (k + 1) w = v :: l.set k w := nrfl rfl
theorem zl_aa (a n m : Nat) : a + (no_index (@OfNat.ofNat Nat n (instOfNatNat n))) + (no_index (@OfNat.ofNat Nat m (instOfNatNat m))) = a + (@OfNat.ofNat Nat n (instOfNatNat n) + @OfNat.ofNat Nat m (instOfNatNat m)) := Nat.add_assoc _ _ _
def zClnk (t : Nat) (o : Option zO) (K : Option Nat → zM) : zM := fun h => match o with
  | some (.inl (t', n, .inl f)) => if t' = t ∧ (∀ i, i < n → fits (zTY.getD t .int) (.int (f i)) = true) then K (some h.1) (h.1 + 1, h.2.1 + n, zUp h.2.2 h.1 (.inl (t, n, .inl f))) else none
  | _ => none
theorem zl_clnk (t b : Nat) (K : Option Nat → zM) (n m : Nat) (f : Nat → Option zO) : zCln t (some b) K (n, m, f) = zClnk t (f b) K (n, m, f) := by
  unfold zCln zClnk
  dsimp only
  rcases f b with _ | (⟨t', l, (y | y)⟩ | ⟨c', fs⟩) <;> rfl
theorem zl_clnk0 (l : Nat) (g : Nat → Int32) (K : Option Nat → zM) (n m : Nat) (f : Nat → Option zO) : zClnk 0 (some (.inl (0, l, .inl g))) K (n, m, f) = K (some n) (n + 1, m + l, zUp f n (.inl (0, l, .inl g))) := by
  show (if 0 = 0 ∧ (∀ i, i < l → fits (zTY.getD 0 .int) (.int (g i)) = true) then _ else _) = _
  rw [if_pos ⟨rfl, fun _ _ => rfl⟩]
