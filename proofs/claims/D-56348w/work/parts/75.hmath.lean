set_option maxRecDepth 20000
/-! ===== plain law: heights ===== -/
/-- what can be proved in so many steps one upon another -/
def dlP (R : zRule) (G : Nat → Nat → Bool) : Nat → Nat → Nat → Prop
  | 0, p, c => G p c = true
  | k + 1, p, c => dlP R G k p c ∨ ∃ s, vs R s ∧ p = R.1.1 ∧ c = hd R (sgs s) ∧ (∀ L ∈ R.2.1, L.1 = 0 → dlP R G k L.2.1 (ac (sgs s) L.2).toNat) ∧ ∀ L ∈ R.2.1, L.1 ≠ 0 → lv G (sgs s) L = true
noncomputable def dl (R : zRule) (G : Nat → Nat → Bool) (k p c : Nat) : Bool := @decide (dlP R G k p c) (Classical.propDecidable _)
theorem dl_iff (R : zRule) (G : Nat → Nat → Bool) (k p c : Nat) : dl R G k p c = true ↔ dlP R G k p c := by
  unfold dl; exact @decide_eq_true_iff _ (Classical.propDecidable _)
theorem dlP_mono {R : zRule} {G : Nat → Nat → Bool} {k p c : Nat} (h : dlP R G k p c) : ∀ j, dlP R G (k + j) p c := by
  intro j
  induction j with
  | zero => exact h
  | succ j ih => exact Or.inl ih
theorem dlP_le {R : zRule} {G : Nat → Nat → Bool} {k j p c : Nat} (h : dlP R G k p c) (hk : k ≤ j) : dlP R G j p c := by
  have := dlP_mono h (j - k)
  rwa [show k + (j - k) = j by omega] at this
theorem dl_tt {R : zRule} {G : Nat → Nat → Bool} {k p c : Nat} (h : dlP R G k p c) : tt R G p c = true := by
  induction k generalizing p c with
  | zero => exact tt_given h
  | succ k ih =>
    rcases h with h | ⟨s, hs, rfl, rfl, h1, h2⟩
    · exact ih h
    · exact (tt_TC R G).2 s hs (fun L hL h0 => ih (h1 L hL h0)) h2
theorem dl_btw (R : zRule) (G : Nat → Nat → Bool) (k : Nat) : btw R G (dl R G k) :=
  ⟨fun p c h => (dl_iff ..).mpr (dlP_le (k := 0) h (Nat.zero_le _)), fun p c h => dl_tt ((dl_iff ..).mp h)⟩
/-- a level that brings nothing new is the last one -/
theorem dl_stop {R : zRule} {G : Nat → Nat → Bool} (hst : strat R) {k : Nat} (h : ∀ p c, dlP R G (k + 1) p c → dlP R G k p c) : dl R G k = tt R G := by
  refine btw_closed (dl_btw R G k) hst fun s hs hr => ?_
  obtain ⟨h1, h2⟩ := (rH_iff (dl_btw R G k) hst _).mp hr
  exact (dl_iff ..).mpr (h _ _ (Or.inr ⟨s, hs, rfl, rfl, fun L hL h0 => (dl_iff ..).mp (h1 L hL h0), h2⟩))
theorem dl_new {R : zRule} {G : Nat → Nat → Bool} (hR : okRule R) {k p c : Nat} (h : dlP R G (k + 1) p c) (hn : ¬ dlP R G k p c) : p = R.1.1 ∧ c < 128 := by
  rcases h with h | ⟨s, hs, rfl, rfl, -⟩
  · exact absurd h hn
  · have := hd_lt hR hs.1; exact ⟨rfl, by omega⟩
theorem dl_fdif {R : zRule} {G : Nat → Nat → Bool} (hst : strat R) (hR : okRule R) (k : Nat) : dl R G k = tt R G ∨ fdif (tt R G) (dl R G k) R.1.1 + k ≤ nd R G := by
  induction k with
  | zero =>
    right
    have : dl R G 0 = G := by
      funext p c
      cases hg : G p c
      · cases hd : dl R G 0 p c
        · rfl
        · have := (dl_iff ..).mp hd
          unfold dlP at this; rw [hg] at this; cases this
      · exact (dl_iff ..).mpr hg
    rw [this]; exact Nat.le_refl _
  | succ k ih =>
    have up : ∀ p c, dl R G k p c = true → dl R G (k + 1) p c = true := fun p c h => (dl_iff ..).mpr (Or.inl ((dl_iff ..).mp h))
    rcases ih with h | h
    · left
      funext p c
      cases ht : tt R G p c
      · cases hd : dl R G (k + 1) p c
        · rfl
        · have := dl_tt ((dl_iff ..).mp hd); rw [ht] at this; cases this
      · rw [← h] at ht; exact up p c ht
    · by_cases hs : ∀ p c, dlP R G (k + 1) p c → dlP R G k p c
      · left
        have h1 := dl_stop hst hs
        funext p c
        rw [← h1]
        cases hd : dl R G k p c
        · cases hd2 : dl R G (k + 1) p c
          · rfl
          · have := (dl_iff ..).mpr (hs p c ((dl_iff ..).mp hd2)); rw [hd] at this; cases this
        · exact up p c hd
      · right
        simp only [Classical.not_forall] at hs
        obtain ⟨p, c, h1, h2⟩ := hs
        obtain ⟨rfl, hc⟩ := dl_new hR h1 h2
        have hlt : fdif (tt R G) (dl R G (k + 1)) R.1.1 < fdif (tt R G) (dl R G k) R.1.1 := by
          have hdk : dl R G k R.1.1 c = false := by
            cases hd : dl R G k R.1.1 c
            · rfl
            · exact absurd ((dl_iff ..).mp hd) h2
          refine bcnt_lt hc ?_ ?_ fun i hi => ?_
          · rw [dl_tt h1, hdk]; rfl
          · rw [(dl_iff ..).mpr h1]; simp
          · simp only [Bool.and_eq_true, Bool.not_eq_true'] at hi ⊢
            refine ⟨hi.1, ?_⟩
            cases hd : dl R G k R.1.1 i
            · rfl
            · rw [up _ _ hd] at hi; cases hi.2
        omega
theorem fdif_zero {T F : Nat → Nat → Bool} {p : Nat} (h : fdif T F p = 0) {c : Nat} (hc : c < 128) (ht : T p c = true) : F p c = true := by
  cases hf : F p c
  · have := fdif_add (p := p) hc ht hf
    omega
  · rfl
theorem dl_all {R : zRule} {G : Nat → Nat → Bool} (hst : strat R) (hR : okRule R) : dl R G (nd R G) = tt R G := by
  rcases dl_fdif hst hR (nd R G) (G := G) with h | h
  · exact h
  · have h0 : fdif (tt R G) (dl R G (nd R G)) R.1.1 = 0 := by omega
    refine btw_closed (dl_btw R G _) hst fun s hs hr => ?_
    have ht := tt_of (dl_btw R G _) hst hs hr
    have := hd_lt hR hs.1
    exact fdif_zero h0 (by omega) ht
/-- a fact's height; 1000 for what isn't true -/
noncomputable def hgt (R : zRule) (G : Nat → Nat → Bool) (p c : Nat) : Nat := if tt R G p c then bcnt (fun k => !dl R G k p c) 200 else 1000
theorem bcnt_pre {g : Nat → Bool} {k : Nat} (h : ∀ i, i < k → g i = true) : bcnt g k = k := by
  induction k with
  | zero => rfl
  | succ k ih => rw [bcnt, ih fun i hi => h i (by omega), h k (by omega)]; rfl
theorem bcnt_cut {g : Nat → Bool} {k N : Nat} (hk : k ≤ N) (h1 : ∀ i, i < k → g i = true) (h2 : ∀ i, k ≤ i → g i = false) : bcnt g N = k := by
  obtain ⟨d, rfl⟩ : ∃ d, N = k + d := ⟨N - k, by omega⟩
  rw [bcnt_add, bcnt_pre h1]
  have : bcnt (fun i => g (k + i)) d = 0 := by
    induction d with
    | zero => rfl
    | succ d ih => rw [bcnt, ih (by omega), h2 _ (by omega)]; rfl
  omega
theorem nd_le (R : zRule) (G : Nat → Nat → Bool) : nd R G ≤ 128 := bcnt_le _ _
theorem hgt_iff {R : zRule} {G : Nat → Nat → Bool} (hst : strat R) (hR : okRule R) {p c k : Nat} (hk : k < 200) : dlP R G k p c ↔ tt R G p c = true ∧ hgt R G p c ≤ k := by
  have hle := nd_le R G
  constructor
  · intro h
    have ht := dl_tt h
    refine ⟨ht, ?_⟩
    unfold hgt; rw [if_pos ht]
    have hb : bcnt (fun j => !dl R G j p c) (k + (200 - k)) = bcnt (fun j => !dl R G j p c) k + bcnt (fun j => !dl R G (k + j) p c) (200 - k) := bcnt_add _ _ _
    rw [show k + (200 - k) = 200 by omega] at hb
    have h0 : ∀ N, bcnt (fun j => !dl R G (k + j) p c) N = 0 := fun N => by
      induction N with
      | zero => rfl
      | succ N ih => rw [bcnt, ih, (dl_iff ..).mpr (dlP_mono h N)]; rfl
    have := bcnt_le (fun j => !dl R G j p c) k
    rw [hb, h0]; omega
  · rintro ⟨ht, h⟩
    unfold hgt at h; rw [if_pos ht] at h
    have hlast : dlP R G 199 p c := by
      have : dl R G (nd R G) p c = true := by rw [dl_all hst hR]; exact ht
      exact dlP_le ((dl_iff ..).mp this) (by omega)
    refine Classical.byContradiction fun hn => ?_
    have hpre : ∀ j, j < k + 1 → (fun j => !dl R G j p c) j = true := fun j hj => by
      dsimp only
      cases hd : dl R G j p c
      · rfl
      · exact absurd (dlP_le ((dl_iff ..).mp hd) (by omega)) hn
    have hb : bcnt (fun j => !dl R G j p c) (k + 1 + (200 - (k + 1))) = bcnt (fun j => !dl R G j p c) (k + 1) + bcnt (fun j => !dl R G (k + 1 + j) p c) (200 - (k + 1)) := bcnt_add _ _ _
    rw [show k + 1 + (200 - (k + 1)) = 200 by omega, bcnt_pre hpre] at hb
    omega
theorem hgt_lt {R : zRule} {G : Nat → Nat → Bool} (hst : strat R) (hR : okRule R) {p c : Nat} (ht : tt R G p c = true) : hgt R G p c ≤ nd R G := by
  have : dl R G (nd R G) p c = true := by rw [dl_all hst hR]; exact ht
  have hle := nd_le R G
  exact ((hgt_iff hst hR (by omega)).mp ((dl_iff ..).mp this)).2
theorem hgt_0 {R : zRule} {G : Nat → Nat → Bool} (hst : strat R) (hR : okRule R) {p c : Nat} : hgt R G p c = 0 ↔ G p c = true := by
  have hle := nd_le R G
  constructor
  · intro h
    have ht : tt R G p c = true := by
      cases ht : tt R G p c
      · unfold hgt at h; rw [ht] at h; simp at h
      · rfl
    exact (hgt_iff hst hR (k := 0) (by omega)).mpr ⟨ht, by omega⟩
  · intro h
    have := ((hgt_iff hst hR (k := 0) (by omega)).mp h).2
    omega
theorem hgt_far {R : zRule} {G : Nat → Nat → Bool} {p c : Nat} (ht : tt R G p c = false) : hgt R G p c = 1000 := by
  unfold hgt; rw [ht]; rfl
/-- the height that a step gives by the heights of its premises -/
def hby (h : Nat → Nat → Nat) (s : Nat → Int) (ps : List zAtom) : Nat := ps.foldl (fun a A => max a (h A.1 (ac s A).toNat)) 0 + 1
theorem foldl_max_le {α : Type} (g : α → Nat) (l : List α) (a b : Nat) : l.foldl (fun a x => max a (g x)) a ≤ b ↔ a ≤ b ∧ ∀ x ∈ l, g x ≤ b := by
  induction l generalizing a with
  | nil => simp
  | cons x l ih =>
    rw [List.foldl_cons, ih]
    simp only [List.mem_cons, forall_eq_or_imp, Nat.max_le, and_assoc]
theorem hby_le {h : Nat → Nat → Nat} {s : Nat → Int} {ps : List zAtom} {b : Nat} : hby h s ps ≤ b + 1 ↔ ∀ A ∈ ps, h A.1 (ac s A).toNat ≤ b := by
  unfold hby
  have := foldl_max_le (fun A : zAtom => h A.1 (ac s A).toNat) ps 0 b
  constructor
  · intro h1; exact (this.mp (by omega)).2
  · intro h1; have := this.mpr ⟨Nat.zero_le _, h1⟩; omega
theorem hby_mono {h h' : Nat → Nat → Nat} (hh : ∀ p c, h p c ≤ h' p c) (s : Nat → Int) (ps : List zAtom) : hby h s ps ≤ hby h' s ps := by
  have h1 : hby h' s ps = (hby h' s ps - 1) + 1 := by unfold hby; omega
  rw [h1, hby_le]
  intro A hA
  have := (hby_le (b := hby h' s ps - 1)).mp (Nat.le_of_eq h1) A hA
  exact Nat.le_trans (hh _ _) this
theorem prem_iff {R : zRule} {Q : zAtom → Prop} : (∀ A ∈ prem R.2.1, Q A) ↔ ∀ L ∈ R.2.1, L.1 = 0 → Q L.2 := by
  unfold prem
  constructor
  · intro h L hL h0
    exact h L.2 (List.mem_map.mpr ⟨L, List.mem_filter.mpr ⟨hL, by simp [h0]⟩, rfl⟩)
  · intro h A hA
    obtain ⟨L, hL, rfl⟩ := List.mem_map.mp hA
    obtain ⟨h1, h2⟩ := List.mem_filter.mp hL
    exact h L h1 (of_decide_eq_true h2)
/-- every step of what is true: its head is no higher than it gives -/
theorem hgt_step {R : zRule} {G : Nat → Nat → Bool} (hst : strat R) (hR : okRule R) {s : Nat} (hs : vs R s) (hr : rH (tt R G) (sgs s) R = true) : hgt R G R.1.1 (hd R (sgs s)) ≤ hby (hgt R G) (sgs s) (prem R.2.1) := by
  obtain ⟨h1, h2⟩ := (rH_iff (btw_tt R G) hst _).mp hr
  have hle := nd_le R G
  have hpm : hby (hgt R G) (sgs s) (prem R.2.1) = (hby (hgt R G) (sgs s) (prem R.2.1) - 1) + 1 := by unfold hby; omega
  have hb := (hby_le (b := hby (hgt R G) (sgs s) (prem R.2.1) - 1)).mp (Nat.le_of_eq hpm)
  have hb' := prem_iff.mp hb
  have hlt : hby (hgt R G) (sgs s) (prem R.2.1) ≤ 128 + 1 := hby_le.mpr (prem_iff.mpr fun L hL h0 => by
    have := hgt_lt hst hR (h1 L hL h0); omega)
  have hd1 : dlP R G (hby (hgt R G) (sgs s) (prem R.2.1) - 1 + 1) R.1.1 (hd R (sgs s)) := Or.inr ⟨s, hs, rfl, rfl, fun L hL h0 => (hgt_iff hst hR (by omega)).mpr ⟨h1 L hL h0, hb' L hL h0⟩, h2⟩
  have := ((hgt_iff hst hR (by omega)).mp hd1).2
  omega
/-- a derived fact has a step that gives its height -/
theorem hgt_ex {R : zRule} {G : Nat → Nat → Bool} (hst : strat R) (hR : okRule R) {p c : Nat} (ht : tt R G p c = true) (hg : G p c = false) : ∃ s, vs R s ∧ p = R.1.1 ∧ c = hd R (sgs s) ∧ rH (tt R G) (sgs s) R = true ∧ hby (hgt R G) (sgs s) (prem R.2.1) = hgt R G p c := by
  have hle := nd_le R G
  have hlt := hgt_lt hst hR ht
  have h0 : hgt R G p c ≠ 0 := fun h => by have := (hgt_0 hst hR).mp h; rw [hg] at this; cases this
  obtain ⟨k, hk⟩ : ∃ k, hgt R G p c = k + 1 := ⟨hgt R G p c - 1, by omega⟩
  have h1 := (hgt_iff hst hR (k := k + 1) (by omega)).mpr ⟨ht, by omega⟩
  have h2 : ¬ dlP R G k p c := fun h => by have := ((hgt_iff hst hR (by omega)).mp h).2; omega
  rcases h1 with h1 | ⟨s, hs, rfl, rfl, h3, h4⟩
  · exact absurd h1 h2
  · have hr : rH (tt R G) (sgs s) R = true := (rH_iff (btw_tt R G) hst _).mpr ⟨fun L hL h0 => dl_tt (h3 L hL h0), h4⟩
    refine ⟨s, hs, rfl, rfl, hr, ?_⟩
    have hup : hby (hgt R G) (sgs s) (prem R.2.1) ≤ k + 1 := hby_le.mpr (prem_iff.mpr fun L hL h0 => ((hgt_iff hst hR (by omega)).mp (h3 L hL h0)).2)
    have := hgt_step hst hR hs hr
    omega
