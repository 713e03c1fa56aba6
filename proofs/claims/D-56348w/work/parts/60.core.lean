set_option maxRecDepth 20000
/-! ===== plain law: what is true ===== -/
def hd (R : zRule) (s : Nat → Int) : Nat := (ac s R.1).toNat
/-- a set that holds the given facts and what the rule's steps make of them -/
def TC (R : zRule) (G S : Nat → Nat → Bool) : Prop := (∀ p c, G p c = true → S p c = true) ∧ ∀ s, vs R s → (∀ L ∈ R.2.1, L.1 = 0 → S L.2.1 (ac (sgs s) L.2).toNat = true) → (∀ L ∈ R.2.1, L.1 ≠ 0 → lv G (sgs s) L = true) → S R.1.1 (hd R (sgs s)) = true
def TT (R : zRule) (G : Nat → Nat → Bool) (p c : Nat) : Prop := ∀ S, TC R G S → S p c = true
noncomputable def tt (R : zRule) (G : Nat → Nat → Bool) (p c : Nat) : Bool := @decide (TT R G p c) (Classical.propDecidable _)
theorem tt_iff (R : zRule) (G : Nat → Nat → Bool) (p c : Nat) : tt R G p c = true ↔ TT R G p c := by
  unfold tt; exact @decide_eq_true_iff _ (Classical.propDecidable _)
/-- no negated literal asks for the head's predicate -/
def strat (R : zRule) : Prop := ∀ L ∈ R.2.1, L.1 = 1 → L.2.1 ≠ R.1.1
theorem tt_given {R : zRule} {G : Nat → Nat → Bool} {p c : Nat} (h : G p c = true) : tt R G p c = true := (tt_iff ..).mpr fun _ hS => hS.1 _ _ h
theorem tt_TC (R : zRule) (G : Nat → Nat → Bool) : TC R G (tt R G) :=
  ⟨fun _ _ h => tt_given h, fun s hs h1 h2 => (tt_iff ..).mpr fun S hS => hS.2 s hs (fun L hL h0 => (tt_iff ..).mp (h1 L hL h0) S hS) h2⟩
theorem tt_min {R : zRule} {G S : Nat → Nat → Bool} (h : TC R G S) {p c : Nat} (ht : tt R G p c = true) : S p c = true := (tt_iff ..).mp ht S h
theorem tt_other {R : zRule} (G : Nat → Nat → Bool) {p : Nat} (hp : p ≠ R.1.1) (c : Nat) : tt R G p c = G p c := by
  cases hg : G p c
  · cases ht : tt R G p c
    · rfl
    · have := tt_min (S := fun q c => if q = R.1.1 then true else G q c) ⟨fun q c h => by dsimp only; split <;> simp [h], fun s _ _ _ => by simp⟩ ht
      simp only [hp, if_false] at this
      rw [hg] at this; cases this
  · exact tt_given hg
/-- between the given facts and the true ones -/
def btw (R : zRule) (G F : Nat → Nat → Bool) : Prop := (∀ p c, G p c = true → F p c = true) ∧ ∀ p c, F p c = true → tt R G p c = true
theorem btw_refl (R : zRule) (G : Nat → Nat → Bool) : btw R G G := ⟨fun _ _ h => h, fun _ _ h => tt_given h⟩
theorem btw_tt (R : zRule) (G : Nat → Nat → Bool) : btw R G (tt R G) := ⟨fun _ _ h => tt_given h, fun _ _ h => h⟩
theorem btw_other {R : zRule} {G F : Nat → Nat → Bool} (h : btw R G F) {p : Nat} (hp : p ≠ R.1.1) (c : Nat) : F p c = G p c := by
  cases hg : G p c
  · cases hf : F p c
    · rfl
    · have := h.2 _ _ hf
      rw [tt_other G hp, hg] at this; cases this
  · exact h.1 _ _ hg
theorem lv_btw {R : zRule} {G F : Nat → Nat → Bool} (h : btw R G F) (hst : strat R) {L : zLit} (hL : L ∈ R.2.1) (h0 : L.1 ≠ 0) (s : Nat → Int) : lv F s L = lv G s L := by
  unfold lv
  rw [if_neg h0, if_neg h0]
  by_cases h1 : L.1 = 1
  · rw [if_pos h1, if_pos h1, btw_other h (hst L hL h1)]
  · rw [if_neg h1, if_neg h1]
/-- the literals that hold: the positive ones in F, the others by the given facts -/
theorem rH_iff {R : zRule} {G F : Nat → Nat → Bool} (h : btw R G F) (hst : strat R) (s : Nat → Int) : rH F s R = true ↔ (∀ L ∈ R.2.1, L.1 = 0 → F L.2.1 (ac s L.2).toNat = true) ∧ (∀ L ∈ R.2.1, L.1 ≠ 0 → lv G s L = true) := by
  unfold rH
  rw [List.all_eq_true]
  constructor
  · intro h1
    refine ⟨fun L hL h0 => ?_, fun L hL h0 => ?_⟩
    · have := h1 L hL
      unfold lv at this
      rwa [if_pos h0] at this
    · rw [← lv_btw h hst hL h0]; exact h1 L hL
  · intro ⟨h1, h2⟩ L hL
    by_cases h0 : L.1 = 0
    · unfold lv; rw [if_pos h0]; exact h1 L hL h0
    · rw [lv_btw h hst hL h0]; exact h2 L hL h0
theorem tt_of {R : zRule} {G F : Nat → Nat → Bool} (h : btw R G F) (hst : strat R) {s : Nat} (hs : vs R s) (hr : rH F (sgs s) R = true) : tt R G R.1.1 (hd R (sgs s)) = true := by
  obtain ⟨h1, h2⟩ := (rH_iff h hst _).mp hr
  exact (tt_TC R G).2 s hs (fun L hL h0 => h.2 _ _ (h1 L hL h0)) h2
theorem fset_self (F : Nat → Nat → Bool) {p c : Nat} (h : F p c = true) : fset F p c true = F := by
  funext q d
  unfold fset bset
  by_cases hq : q = p
  · subst hq
    by_cases hd : d = c
    · subst hd; simp [h]
    · simp [hd]
  · simp [hq]
theorem fset_t (F : Nat → Nat → Bool) (p c q d : Nat) : fset F p c true q d = (decide (q = p ∧ d = c) || F q d) := by
  unfold fset bset
  by_cases hq : q = p
  · subst hq
    by_cases hd : d = c
    · subst hd; simp
    · simp [hd]
  · simp [hq]
theorem btw_add {R : zRule} {G F : Nat → Nat → Bool} (h : btw R G F) {p c : Nat} (ht : tt R G p c = true) : btw R G (fset F p c true) := by
  refine ⟨fun q d hg => ?_, fun q d hf => ?_⟩
  · rw [fset_t, h.1 _ _ hg, Bool.or_true]
  · rw [fset_t] at hf
    rcases (Bool.or_eq_true _ _ ▸ hf) with h1 | h1
    · obtain ⟨rfl, rfl⟩ := of_decide_eq_true h1; exact ht
    · exact h.2 _ _ h1
theorem btw_closed {R : zRule} {G F : Nat → Nat → Bool} (h : btw R G F) (hst : strat R) (hc : ∀ s, vs R s → rH F (sgs s) R = true → F R.1.1 (hd R (sgs s)) = true) : F = tt R G := by
  have key : TC R G F := ⟨h.1, fun s hs h1 h2 => hc s hs ((rH_iff h hst _).mpr ⟨h1, h2⟩)⟩
  funext p c
  cases ht : tt R G p c
  · cases hf : F p c
    · rfl
    · rw [h.2 _ _ hf] at ht; cases ht
  · exact tt_min key ht
/-- how many facts more: a measure -/
def fdif (T F : Nat → Nat → Bool) (p : Nat) : Nat := bcnt (fun c => T p c && !F p c) 128
theorem bcnt_lt {g g' : Nat → Bool} {k c : Nat} (hc : c < k) (h1 : g c = true) (h2 : g' c = false) (h : ∀ i, g' i = true → g i = true) : bcnt g' k < bcnt g k := by
  have hle : ∀ k, bcnt g' k ≤ bcnt g k := by
    intro k
    induction k with
    | zero => exact Nat.le_refl _
    | succ k ih =>
      rw [bcnt, bcnt]
      cases e : g' k
      · simp; omega
      · simp [h k e]; exact ih
  induction k with
  | zero => omega
  | succ k ih =>
    rw [bcnt, bcnt]
    by_cases hk : c = k
    · subst hk; have := hle c; simp [h1, h2]; omega
    · have := ih (by omega)
      cases e : g' k
      · simp; omega
      · simp [h k e]; exact this
theorem bcnt_mono {g g' : Nat → Bool} (h : ∀ i, g' i = true → g i = true) (k : Nat) : bcnt g' k ≤ bcnt g k := by
  induction k with
  | zero => exact Nat.le_refl _
  | succ k ih =>
    rw [bcnt, bcnt]
    cases e : g' k
    · simp; omega
    · simp [h k e]; exact ih
theorem fdif_add {T F : Nat → Nat → Bool} {p c : Nat} (hc : c < 128) (ht : T p c = true) (hf : F p c = false) : fdif T (fset F p c true) p < fdif T F p := by
  refine bcnt_lt hc (by simp [ht, hf]) (by simp [fset_t]) fun i hi => ?_
  simp only [fset_t, Bool.and_eq_true, Bool.not_eq_true', Bool.or_eq_false_iff] at hi ⊢
  exact ⟨hi.1, hi.2.2⟩
