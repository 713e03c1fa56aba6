/-! ===== fields, new objects, arrays ===== -/
def zAsI : Value → Option Int32
  | .int x => some x
  | _ => none
def zAsR : Value → Option (Option Nat)
  | .ref a => some (some a)
  | .null => some none
  | _ => none
theorem zAsI_eq {v : Value} {x : Int32} (h : zAsI v = some x) : v = zVal (zI x) := by
  cases v <;> first | (cases h; rfl) | cases h
theorem zAsR_eq {v : Value} {x : Option Nat} (h : zAsR v = some x) : v = zVal (zP x) := by
  cases v <;> first | (cases h; rfl) | cases h
theorem zAsR_rf (r : Option Nat) : zAsR (va_rf r) = some r := by cases r <;> rfl
def zGet {α : Type} (as : Value → Option α) (r : Option Nat) (c k : Nat) (K : α → zM) : zM := fun h => match r with
  | none => none
  | some a => match h.2.2 a with
    | some (.inr (c', fs)) => if c' = c then (match fs[k]? with
      | some v => (match as v with
        | some x => K x h
        | none => none)
      | none => none) else none
    | _ => none
abbrev zGetI (r : Option Nat) (c k : Nat) (K : Int32 → zM) : zM := zGet zAsI r c k K
abbrev zGetR (r : Option Nat) (c k : Nat) (K : Option Nat → zM) : zM := zGet zAsR r c k K
theorem zGet_inv {α : Type} {as : Value → Option α} {r : Option Nat} {c k : Nat} {K : α → zM} {h : zH} {o : zR × zH} (e : zGet as r c k K h = some o) : ∃ a fs v x, r = some a ∧ h.2.2 a = some (.inr (c, fs)) ∧ fs[k]? = some v ∧ as v = some x ∧ K x h = some o := by
  unfold zGet at e
  split at e
  · cases e
  · rename_i a
    split at e
    · rename_i c' fs ha
      split at e
      · rename_i hc
        subst hc
        split at e
        · rename_i v hv
          split at e
          · rename_i x hx
            exact ⟨a, fs, v, x, rfl, ha, hv, hx, e⟩
          · cases e
        · cases e
      · cases e
    · cases e
theorem zGetI_of {a c k : Nat} {K : Int32 → zM} {h : zH} {fs : List Value} {x : Int32} (ha : h.2.2 a = some (.inr (c, fs))) (hv : fs[k]? = some (.int x)) : zGetI (some a) c k K h = K x h := by
  simp [zGetI, zGet, ha, hv, zAsI]
theorem zGetR_of {a c k : Nat} {K : Option Nat → zM} {h : zH} {fs : List Value} {x : Option Nat} (ha : h.2.2 a = some (.inr (c, fs))) (hv : fs[k]? = some (va_rf x)) : zGetR (some a) c k K h = K x h := by
  simp [zGetR, zGet, ha, hv, zAsR_rf]
def zSet (E : zE) (r : Option Nat) (c k : Nat) (v : Value) (K : zM) : zM := fun h => match r with
  | none => none
  | some a => match h.2.2 a with
    | some (.inr (c', fs)) => if c' = c ∧ E 0 ≤ a ∧ k < fs.length then K (h.1, h.2.1, zUp h.2.2 a (.inr (c, fs.set k v))) else none
    | _ => none
theorem zSet_inv {E : zE} {r : Option Nat} {c k : Nat} {v : Value} {K : zM} {h : zH} {o : zR × zH} (e : zSet E r c k v K h = some o) : ∃ a fs, r = some a ∧ h.2.2 a = some (.inr (c, fs)) ∧ E 0 ≤ a ∧ k < fs.length ∧ K (h.1, h.2.1, zUp h.2.2 a (.inr (c, fs.set k v))) = some o := by
  unfold zSet at e
  split at e
  · cases e
  · rename_i a
    split at e
    · rename_i c' fs ha
      split at e
      · rename_i hc
        obtain ⟨rfl, h1, h2⟩ := hc
        exact ⟨a, fs, rfl, ha, h1, h2, e⟩
      · cases e
    · cases e
theorem zSet_of {E : zE} {a c k : Nat} {v : Value} {K : zM} {h : zH} {fs : List Value} (ha : h.2.2 a = some (.inr (c, fs))) (hE : E 0 ≤ a) (hk : k < fs.length) : zSet E (some a) c k v K h = K (h.1, h.2.1, zUp h.2.2 a (.inr (c, fs.set k v))) := by
  simp [zSet, ha, hE, hk]
/-- a field of a small type -/
def zSetN (E : zE) (ty : FieldType) (r : Option Nat) (c k : Nat) (x : Int32) (K : zM) : zM := if narrow ty (.int x) = .int x ∧ fits ty (.int x) = true then zSet E r c k (.int x) K else zFail
def zNew (c n : Nat) (fs : List Value) (K : Option Nat → zM) : zM := fun h => K (some h.1) (h.1 + 1, h.2.1 + n, zUp h.2.2 h.1 (.inr (c, fs)))
def zNewA (t : Nat) (y : (Nat → Int32) ⊕ (Nat → Int64) ⊕ (Nat → UInt32) ⊕ (Nat → UInt64) ⊕ (Nat → Option Nat)) (n : Int32) (K : Option Nat → zM) : zM := fun h =>
  if n < 0 ∨ 1000000 < n.toNatClampNeg then none else K (some h.1) (h.1 + 1, h.2.1 + n.toNatClampNeg, zUp h.2.2 h.1 (.inl (t, n.toNatClampNeg, y)))
abbrev zAr0 : (Nat → Int32) ⊕ (Nat → Int64) ⊕ (Nat → UInt32) ⊕ (Nat → UInt64) ⊕ (Nat → Option Nat) := .inl fun _ => 0
abbrev zAr0L : (Nat → Int32) ⊕ (Nat → Int64) ⊕ (Nat → UInt32) ⊕ (Nat → UInt64) ⊕ (Nat → Option Nat) := .inr (.inl fun _ => 0)
abbrev zAr0D : (Nat → Int32) ⊕ (Nat → Int64) ⊕ (Nat → UInt32) ⊕ (Nat → UInt64) ⊕ (Nat → Option Nat) := .inr (.inr (.inr (.inl fun _ => 0)))
abbrev zAr0R : (Nat → Int32) ⊕ (Nat → Int64) ⊕ (Nat → UInt32) ⊕ (Nat → UInt64) ⊕ (Nat → Option Nat) := .inr (.inr (.inr (.inr fun _ => none)))
def zLen (r : Option Nat) (K : Int32 → zM) : zM := fun h => match r with
  | none => none
  | some a => match h.2.2 a with
    | some (.inl (t, x)) => if t < zTY.length then K (Int32.ofNat x.1) h else none
    | _ => none
/-- the places of an array of ints (bytes, booleans), of longs, doubles, references -/
def zGa {α : Type} (as : ((Nat → Int32) ⊕ (Nat → Int64) ⊕ (Nat → UInt32) ⊕ (Nat → UInt64) ⊕ (Nat → Option Nat)) → Option (Nat → α)) (t : Nat) (r : Option Nat) (i : Int32) (K : α → zM) : zM := fun h => match r with
  | none => none
  | some a => match h.2.2 a with
    | some (.inl (t', n, y)) => if t' = t ∧ ¬ (i < 0) ∧ i.toNatClampNeg < n then (match as y with
      | some f => K (f i.toNatClampNeg) h
      | none => none) else none
    | _ => none
def zYI : ((Nat → Int32) ⊕ (Nat → Int64) ⊕ (Nat → UInt32) ⊕ (Nat → UInt64) ⊕ (Nat → Option Nat)) → Option (Nat → Int32)
  | .inl f => some f
  | _ => none
def zYL : ((Nat → Int32) ⊕ (Nat → Int64) ⊕ (Nat → UInt32) ⊕ (Nat → UInt64) ⊕ (Nat → Option Nat)) → Option (Nat → Int64)
  | .inr (.inl f) => some f
  | _ => none
def zYD : ((Nat → Int32) ⊕ (Nat → Int64) ⊕ (Nat → UInt32) ⊕ (Nat → UInt64) ⊕ (Nat → Option Nat)) → Option (Nat → UInt64)
  | .inr (.inr (.inr (.inl f))) => some f
  | _ => none
def zYR : ((Nat → Int32) ⊕ (Nat → Int64) ⊕ (Nat → UInt32) ⊕ (Nat → UInt64) ⊕ (Nat → Option Nat)) → Option (Nat → Option Nat)
  | .inr (.inr (.inr (.inr f))) => some f
  | _ => none
theorem zYI_eq {y f} (h : zYI y = some f) : y = .inl f := by
  rcases y with g | g | g | g | g <;> cases h; rfl
theorem zYL_eq {y f} (h : zYL y = some f) : y = .inr (.inl f) := by
  rcases y with g | g | g | g | g <;> cases h; rfl
theorem zYD_eq {y f} (h : zYD y = some f) : y = .inr (.inr (.inr (.inl f))) := by
  rcases y with g | g | g | g | g <;> cases h; rfl
theorem zYR_eq {y f} (h : zYR y = some f) : y = .inr (.inr (.inr (.inr f))) := by
  rcases y with g | g | g | g | g <;> cases h; rfl
theorem zGa_inv {α : Type} {as : ((Nat → Int32) ⊕ (Nat → Int64) ⊕ (Nat → UInt32) ⊕ (Nat → UInt64) ⊕ (Nat → Option Nat)) → Option (Nat → α)} {t : Nat} {r : Option Nat} {i : Int32} {K : α → zM} {h : zH} {o : zR × zH} (e : zGa as t r i K h = some o) :
    ∃ a n y f, r = some a ∧ h.2.2 a = some (.inl (t, n, y)) ∧ vp_in i n ∧ as y = some f ∧ K (f i.toNatClampNeg) h = some o := by
  unfold zGa at e
  split at e
  · cases e
  · rename_i a
    split at e
    · rename_i t' n y ha
      split at e
      · rename_i hc
        obtain ⟨rfl, h1, h2⟩ := hc
        split at e
        · rename_i f hf
          exact ⟨a, n, y, f, rfl, ha, fun z => z.elim h1 (fun q => Nat.not_le.mpr h2 q), hf, e⟩
        · cases e
      · cases e
    · cases e
abbrev zGaI (t : Nat) (r : Option Nat) (i : Int32) (K : Int32 → zM) : zM := zGa zYI t r i K
abbrev zGaL (t : Nat) (r : Option Nat) (i : Int32) (K : Int64 → zM) : zM := zGa zYL t r i K
abbrev zGaD (t : Nat) (r : Option Nat) (i : Int32) (K : UInt64 → zM) : zM := zGa zYD t r i K
abbrev zGaR (t : Nat) (r : Option Nat) (i : Int32) (K : Option Nat → zM) : zM := zGa zYR t r i K
theorem zGaI_of {t a n : Nat} {i : Int32} {K : Int32 → zM} {h : zH} {f : Nat → Int32} (ha : h.2.2 a = some (.inl (t, n, .inl f))) (h0 : ¬ i < 0) (hn : i.toNatClampNeg < n) : zGaI t (some a) i K h = K (f i.toNatClampNeg) h := by
  have h0' : 0 ≤ i := Int32.not_lt.mp h0
  simp [zGaI, zGa, ha, h0', hn, zYI]
theorem zGaR_of {t a n : Nat} {i : Int32} {K : Option Nat → zM} {h : zH} {f : Nat → Option Nat} (ha : h.2.2 a = some (.inl (t, n, .inr (.inr (.inr (.inr f)))))) (h0 : ¬ i < 0) (hn : i.toNatClampNeg < n) : zGaR t (some a) i K h = K (f i.toNatClampNeg) h := by
  have h0' : 0 ≤ i := Int32.not_lt.mp h0
  simp [zGaR, zGa, ha, h0', hn, zYR]
def zSa (E : zE) (t : Nat) (r : Option Nat) (i : Int32) (up : ((Nat → Int32) ⊕ (Nat → Int64) ⊕ (Nat → UInt32) ⊕ (Nat → UInt64) ⊕ (Nat → Option Nat)) → Nat → Option ((Nat → Int32) ⊕ (Nat → Int64) ⊕ (Nat → UInt32) ⊕ (Nat → UInt64) ⊕ (Nat → Option Nat))) (K : zM) : zM := fun h => match r with
  | none => none
  | some a => match h.2.2 a with
    | some (.inl (t', n, y)) => if t' = t ∧ ¬ (i < 0) ∧ i.toNatClampNeg < n ∧ E 0 ≤ a then (match up y i.toNatClampNeg with
      | some y' => K (h.1, h.2.1, zUp h.2.2 a (.inl (t, n, y')))
      | none => none) else none
    | _ => none
def zUpI (x : Int32) : ((Nat → Int32) ⊕ (Nat → Int64) ⊕ (Nat → UInt32) ⊕ (Nat → UInt64) ⊕ (Nat → Option Nat)) → Nat → Option ((Nat → Int32) ⊕ (Nat → Int64) ⊕ (Nat → UInt32) ⊕ (Nat → UInt64) ⊕ (Nat → Option Nat))
  | .inl f, k => some (.inl (upd f k x))
  | _, _ => none
def zUpL (x : Int64) : ((Nat → Int32) ⊕ (Nat → Int64) ⊕ (Nat → UInt32) ⊕ (Nat → UInt64) ⊕ (Nat → Option Nat)) → Nat → Option ((Nat → Int32) ⊕ (Nat → Int64) ⊕ (Nat → UInt32) ⊕ (Nat → UInt64) ⊕ (Nat → Option Nat))
  | .inr (.inl f), k => some (.inr (.inl (vp_updL f k x)))
  | _, _ => none
def zUpD (x : UInt64) : ((Nat → Int32) ⊕ (Nat → Int64) ⊕ (Nat → UInt32) ⊕ (Nat → UInt64) ⊕ (Nat → Option Nat)) → Nat → Option ((Nat → Int32) ⊕ (Nat → Int64) ⊕ (Nat → UInt32) ⊕ (Nat → UInt64) ⊕ (Nat → Option Nat))
  | .inr (.inr (.inr (.inl f))), k => some (.inr (.inr (.inr (.inl (vf_upd f k x)))))
  | _, _ => none
def zUpR (x : Option Nat) : ((Nat → Int32) ⊕ (Nat → Int64) ⊕ (Nat → UInt32) ⊕ (Nat → UInt64) ⊕ (Nat → Option Nat)) → Nat → Option ((Nat → Int32) ⊕ (Nat → Int64) ⊕ (Nat → UInt32) ⊕ (Nat → UInt64) ⊕ (Nat → Option Nat))
  | .inr (.inr (.inr (.inr f))), k => some (.inr (.inr (.inr (.inr (va_up f k x)))))
  | _, _ => none
theorem zSa_inv {E : zE} {t : Nat} {r : Option Nat} {i : Int32} {up} {K : zM} {h : zH} {o : zR × zH} (e : zSa E t r i up K h = some o) :
    ∃ a n y y', r = some a ∧ h.2.2 a = some (.inl (t, n, y)) ∧ vp_in i n ∧ E 0 ≤ a ∧ up y i.toNatClampNeg = some y' ∧ K (h.1, h.2.1, zUp h.2.2 a (.inl (t, n, y'))) = some o := by
  unfold zSa at e
  split at e
  · cases e
  · rename_i a
    split at e
    · rename_i t' n y ha
      split at e
      · rename_i hc
        obtain ⟨rfl, h1, h2, h3⟩ := hc
        split at e
        · rename_i y' hf
          exact ⟨a, n, y, y', rfl, ha, fun z => z.elim h1 (fun q => Nat.not_le.mpr h2 q), h3, hf, e⟩
        · cases e
      · cases e
    · cases e
theorem zUpI_eq {x y k y'} (h : zUpI x y k = some y') : ∃ f, y = .inl f ∧ y' = .inl (upd f k x) := by
  rcases y with g | g | g | g | g <;> cases h; exact ⟨g, rfl, rfl⟩
theorem zUpL_eq {x y k y'} (h : zUpL x y k = some y') : ∃ f, y = .inr (.inl f) ∧ y' = .inr (.inl (vp_updL f k x)) := by
  rcases y with g | g | g | g | g <;> cases h; exact ⟨g, rfl, rfl⟩
theorem zUpD_eq {x y k y'} (h : zUpD x y k = some y') : ∃ f, y = .inr (.inr (.inr (.inl f))) ∧ y' = .inr (.inr (.inr (.inl (vf_upd f k x)))) := by
  rcases y with g | g | g | g | g <;> cases h; exact ⟨g, rfl, rfl⟩
theorem zUpR_eq {x y k y'} (h : zUpR x y k = some y') : ∃ f, y = .inr (.inr (.inr (.inr f))) ∧ y' = .inr (.inr (.inr (.inr (va_up f k x)))) := by
  rcases y with g | g | g | g | g <;> cases h; exact ⟨g, rfl, rfl⟩
abbrev zSaI (E : zE) (t : Nat) (r : Option Nat) (i x : Int32) (K : zM) : zM := zSa E t r i (zUpI x) K
abbrev zSaL (E : zE) (t : Nat) (r : Option Nat) (i : Int32) (x : Int64) (K : zM) : zM := zSa E t r i (zUpL x) K
abbrev zSaD (E : zE) (t : Nat) (r : Option Nat) (i : Int32) (x : UInt64) (K : zM) : zM := zSa E t r i (zUpD x) K
theorem zSaI_of {E : zE} {t a n : Nat} {i x : Int32} {K : zM} {h : zH} {f : Nat → Int32} (ha : h.2.2 a = some (.inl (t, n, .inl f))) (h0 : ¬ i < 0) (hn : i.toNatClampNeg < n) (hE : E 0 ≤ a) : zSaI E t (some a) i x K h = K (h.1, h.2.1, zUp h.2.2 a (.inl (t, n, .inl (upd f i.toNatClampNeg x)))) := by
  have h0' : 0 ≤ i := Int32.not_lt.mp h0
  simp [zSaI, zSa, ha, h0', hn, hE, zUpI]
/-- x is null, or an object of a class that may be cast to the target tg -/
def zOkR (h : zH) (tg : Nat) (x : Option Nat) : Bool := match x with
  | none => true
  | some b => match h.2.2 b with
    | some (.inr (c, _)) => decide ((c, tg) ∈ zCastT)
    | _ => false
def zSaR (E : zE) (t tg : Nat) (r : Option Nat) (i : Int32) (x : Option Nat) (K : zM) : zM := fun h => if zOkR h tg x = true then zSa E t r i (zUpR x) K h else none
/-- a cast of an object -/
def zCst (tg : Nat) (x : Option Nat) (K : zM) : zM := fun h => if zOkR h tg x = true then K h else none
/-- a cast to x's own class -/
def zCsS (c : Nat) (x : Option Nat) (K : zM) : zM := fun h => match x with
  | none => K h
  | some b => match h.2.2 b with
    | some (.inr (c', _)) => if c' = c then K h else none
    | _ => none
/-- .. to its own array type -/
def zCsA (t : Nat) (x : Option Nat) (K : zM) : zM := fun h => match x with
  | none => K h
  | some b => match h.2.2 b with
    | some (.inl (t', _)) => if t' = t then K h else none
    | _ => none
/-- instanceof x's own class -/
def zIsS (c : Nat) (x : Option Nat) (K : Int32 → zM) : zM := fun h => match x with
  | none => K 0 h
  | some b => match h.2.2 b with
    | some (.inr (c', _)) => if c' = c then K 1 h else none
    | _ => none
/-- .. its own array type -/
def zIsA (t : Nat) (x : Option Nat) (K : Int32 → zM) : zM := fun h => match x with
  | none => K 0 h
  | some b => match h.2.2 b with
    | some (.inl (t', _)) => if t' = t then K 1 h else none
    | _ => none
/-- getClass() of an object of class c, whose class object is mi -/
def zGc (c : Nat) (mi : Nat) (x : Option Nat) (K : Option Nat → zM) : zM := fun h => match x with
  | none => none
  | some b => match h.2.2 b with
    | some (.inr (c', _)) => if c' = c then K (some mi) h else none
    | _ => none
/-- an array's copy -/
def zCln (t : Nat) (x : Option Nat) (K : Option Nat → zM) : zM := fun h => match x with
  | none => none
  | some b => match h.2.2 b with
    | some (.inl (t', n, .inl f)) => if t' = t ∧ (∀ i, i < n → fits (zTY.getD t .int) (.int (f i)) = true) then K (some h.1) (h.1 + 1, h.2.1 + n, zUp h.2.2 h.1 (.inl (t, n, .inl f))) else none
    | _ => none
