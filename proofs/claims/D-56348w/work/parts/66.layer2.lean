set_option maxRecDepth 20000
/-! ===== plain law: layers of none or one rule ===== -/
theorem ndL_eq (h : Nat) (ls : List zLit) (N : Nat → Nat → Bool) (p q : Nat) : ndL h N ls p q = (N p q || (decide (p = h) && ls.any fun L => decide (L.1 < 2) && decide (L.2.1 = q))) := by
  induction ls generalizing N with
  | nil => simp [ndL]
  | cons L ls ih =>
    have := ih (ndA N h L)
    unfold ndL at this ⊢
    rw [List.foldl_cons, this, List.any_cons]
    unfold ndA
    by_cases hl : L.1 < 2
    · rw [if_pos hl, fset_t]
      simp only [hl, decide_true, Bool.true_and]
      by_cases hp : p = h <;> by_cases hq : q = L.2.1
      · subst hq; simp [hp]
      · have : ¬ L.2.1 = q := fun e => hq e.symm
        simp [hp, hq, this]
      · simp [hp]
      · simp [hp]
    · rw [if_neg hl]; simp [hl]
theorem ngL_eq (h : Nat) (ls : List zLit) (M : Nat → Nat → Bool) (p q : Nat) : ngL h M ls p q = (M p q || (decide (p = h) && ls.any fun L => decide (L.1 = 1) && decide (L.2.1 = q))) := by
  induction ls generalizing M with
  | nil => simp [ngL]
  | cons L ls ih =>
    have := ih (ngA M h L)
    unfold ngL at this ⊢
    rw [List.foldl_cons, this, List.any_cons]
    unfold ngA
    by_cases hl : L.1 < 2
    · rw [if_pos hl]
      unfold fset bset
      by_cases hp : p = h
      · subst hp
        by_cases hq : q = L.2.1
        · subst hq; simp [Bool.or_assoc]
        · have : ¬ L.2.1 = q := fun e => hq e.symm
          simp [hq, this]
      · simp [hp]
    · rw [if_neg hl]
      have : ¬ L.1 = 1 := by omega
      simp [this]
def anyneg (R : zRule) : Bool := R.2.1.any fun L => decide (L.1 = 1)
def stratB (R : zRule) : Bool := !(R.2.1.any fun L => decide (L.1 = 1) && decide (L.2.1 = R.1.1))
theorem strat_iff (R : zRule) : stratB R = true ↔ strat R := by
  unfold stratB strat
  simp only [Bool.not_eq_true', List.any_eq_false, Bool.and_eq_true, decide_eq_true_eq, not_and]
/-- one layer raised -/
def ly1 (h x : Nat) : Nat → Nat := fun q => if q = h then x else 0
/-- the bounds of what a rule wants of its head -/
theorem wl_row {R : zRule} {p : Nat} (hp : p ≠ R.1.1) (ly : Nat → Nat) (k : Nat) : wl (ndR [R]) (ngR [R]) p ly k = 0 := by
  induction k with
  | zero => rfl
  | succ k ih =>
    have : ndR [R] p k = false := by unfold ndR; dsimp only; rw [ndL_eq]; simp [hp]
    rw [wl, this, ih]; rfl
theorem wl_up {R : zRule} (x k : Nat) : wl (ndR [R]) (ngR [R]) R.1.1 (ly1 R.1.1 x) k ≤ x + 1 ∧ (stratB R = true → wl (ndR [R]) (ngR [R]) R.1.1 (ly1 R.1.1 x) k ≤ max x 1) ∧ (anyneg R = false → wl (ndR [R]) (ngR [R]) R.1.1 (ly1 R.1.1 x) k ≤ x) := by
  induction k with
  | zero => simp [wl]
  | succ k ih =>
    obtain ⟨i1, i2, i3⟩ := ih
    rw [wl]
    have hl : ly1 R.1.1 x k = if k = R.1.1 then x else 0 := rfl
    have hm : ngR [R] R.1.1 k = R.2.1.any fun L => decide (L.1 = 1) && decide (L.2.1 = k) := by
      unfold ngR; dsimp only; rw [ngL_eq]; simp
    have ha : anyneg R = false → ngR [R] R.1.1 k = false := fun h => by
      rw [hm]
      unfold anyneg at h
      simp only [List.any_eq_false, Bool.and_eq_true, decide_eq_true_eq, not_and] at h ⊢
      exact fun L hL h1 => absurd h1 (h L hL)
    have hs : stratB R = true → k = R.1.1 → ngR [R] R.1.1 k = false := fun h hk => by
      rw [hm, hk]
      unfold stratB at h
      simpa using h
    split
    · refine ⟨?_, fun h => ?_, fun h => ?_⟩
      · rw [hl]; split <;> split <;> omega
      · have := i2 h
        have := hs h
        rw [hl]
        by_cases hk : k = R.1.1
        · rw [if_pos hk, this hk]; simp; omega
        · rw [if_neg hk]; split <;> omega
      · have := i3 h
        rw [hl, ha h]; split <;> simp <;> omega
    · exact ⟨i1, i2, i3⟩
theorem wl_lo {R : zRule} (x : Nat) {q k : Nat} (hq : q < k) (hN : ndR [R] R.1.1 q = true) : (ly1 R.1.1 x q + if ngR [R] R.1.1 q then 1 else 0) ≤ wl (ndR [R]) (ngR [R]) R.1.1 (ly1 R.1.1 x) k := by
  induction k with
  | zero => omega
  | succ k ih =>
    rw [wl]
    by_cases h : q = k
    · subst h; rw [if_pos hN]; exact Nat.le_max_right _ _
    · have := ih (by omega)
      by_cases hN2 : ndR [R] R.1.1 k = true
      · rw [if_pos hN2]; exact Nat.le_trans this (Nat.le_max_left _ _)
      · rw [if_neg hN2]; exact this
theorem neg_nd {R : zRule} {L : zLit} (hL : L ∈ R.2.1) (h1 : L.1 = 1) : ndR [R] R.1.1 L.2.1 = true ∧ ngR [R] R.1.1 L.2.1 = true := by
  unfold ndR ngR; dsimp only
  rw [ndL_eq, ngL_eq]
  constructor
  · simp only [decide_true, Bool.true_and, Bool.false_or, List.any_eq_true]
    exact ⟨L, hL, by simp [h1]⟩
  · simp only [decide_true, Bool.true_and, Bool.false_or, List.any_eq_true]
    exact ⟨L, hL, by simp [h1]⟩
theorem lyR_row {R : zRule} (x : Nat) (fl : Bool) (k : Nat) (hx : x ≤ 8) : lyR (ndR [R]) (ngR [R]) (ly1 R.1.1 x, fl) k = if R.1.1 < k then (ly1 R.1.1 (max x (min (wl (ndR [R]) (ngR [R]) R.1.1 (ly1 R.1.1 x) 8) 8)), fl || (decide (x < wl (ndR [R]) (ngR [R]) R.1.1 (ly1 R.1.1 x) 8) && decide (wl (ndR [R]) (ngR [R]) R.1.1 (ly1 R.1.1 x) 8 ≤ 8))) else (ly1 R.1.1 x, fl) := by
  induction k with
  | zero => rfl
  | succ k ih =>
    rw [lyR, ih]
    unfold lyS
    by_cases hk : k = R.1.1
    · rw [if_neg (by omega), if_pos (by omega), hk]
      dsimp only
      have e1 : ly1 R.1.1 x R.1.1 = x := if_pos rfl
      simp only [e1]
      congr 1
      funext q
      unfold ly1
      by_cases hq : q = R.1.1
      · rw [if_pos hq, if_pos hq]
      · rw [if_neg hq, if_neg hq, if_neg hq]
    · have hst : ∀ a : (Nat → Nat) × Bool, (fun q => if q = k then max (a.1 k) (min (wl (ndR [R]) (ngR [R]) k a.1 8) 8) else a.1 q, a.2 || (decide (a.1 k < wl (ndR [R]) (ngR [R]) k a.1 8) && decide (wl (ndR [R]) (ngR [R]) k a.1 8 ≤ 8))) = a := fun a => by
        rw [wl_row hk]
        apply Prod.ext
        · funext q
          dsimp only
          by_cases hq : q = k
          · rw [if_pos hq, hq]; omega
          · rw [if_neg hq]
        · simp
      rw [hst]
      by_cases h2 : R.1.1 < k
      · rw [if_pos h2, if_pos (by omega)]
      · rw [if_neg h2, if_neg (by omega)]
/-- the layers that come out -/
def lays (rs : List zRule) : Nat → Nat := match rs with
  | [] => fun _ => 0
  | R :: _ => ly1 R.1.1 (if stratB R then (if anyneg R then 1 else 0) else 8)
theorem sp_layers_1 {E : zE} {f0 : Nat → Option zO} {b v : Nat} {R : zRule} (hR : okRule R) (hN : rNeeds f0 b (ndR [R]) (ngR [R])) (hvb : b + 19 ≤ v) (hE : E 0 ≤ v) (n m : Nat) : ∀ (d x k : Nat) (f : Nat → Option zO) (fl : Bool), x + d = 8 → d + 2 < k → (∀ q, q ≠ v → f q = f0 q) → rLay f v (ly1 R.1.1 x) → (fl = false → x = (if stratB R then (if anyneg R then 1 else 0) else 8)) → x ≤ (if stratB R then (if anyneg R then 1 else 0) else 8) →
    ∃ f', s_X7_layers_7 E k (some b) (some v) (zb fl) (n, m, f) = some (.inl (some (.ref v)), (n, m, f')) ∧ (∀ q, q ≠ v → f' q = f0 q) ∧ rLay f' v (lays [R]) := by
  have fin : ∀ (k : Nat) (f : Nat → Option zO), 0 < k → s_X7_layers_7 E k (some b) (some v) (zb false) (n, m, f) = some (.inl (some (.ref v)), (n, m, f)) := fun k f hk => by
    obtain ⟨k, rfl⟩ : ∃ k', k = k' + 1 := ⟨k - 1, by omega⟩
    rw [s_X7_layers_7]
    simp (disch := omega) only [zi_lit, zi_neg, zi_add, zi_sub, zi_mul, zi_div, zi_char, zb_eq0, zb_eq1, zb_le0, zb_or, zb_and, zb_or1, zb_or0, zb_1or, zb_0or, zb_and1, zb_and0, zb_1and, zb_0and, zb_nar, zi_nar0, zi_nar1, zl_ite, zl_ret, zl_retb, zl_retb1, zl_retb0, zl_retc, zl_ki, zl_kr, zl_kr0, zl_krf, zl_kl, zl_kf, zl_kd, zl_kv, zl_rf, zl_rf0, zl_valI, zl_valP, zl_valL, zl_get, zl_getI, zl_getR, zl_get0, zl_getr, zl_fk, zl_set, zl_setk, zl_setNb, zl_setN1, zl_setN0, zl_up1, zl_up2, zl_new, zl_newA, zl_len, zl_lenk, zl_ga, zl_gaI, zl_gaL, zl_gaD, zl_gaR, zl_sa, zl_saI, zl_saL, zl_saD, zl_saR, zl_ck, zl_ok, zl_ok0, zl_csS, zl_csS0, zl_csk, zl_tk, zl_csA, zl_isS0, zl_c, zl_cv, zl_cx, zl_sp, zl_rv, zl_rvk, zl_rvk2, zl_div, zl_rem, zl_ath, zl_clnk, zl_clnk0, zl_cat, zl_catn, zl_l0, zl_ls, zl_s0, zl_ss, List.length_cons, List.length_nil, Nat.reduceLT, Nat.zero_add, Nat.lt_add_one, reduceCtorEq, zi_le, zi_lt, zi_eq, if_pos, if_neg, if_true, if_false, Bool.true_eq_false, Bool.false_eq_true, eq_self, Bool.not_true, Bool.not_false, Int.toNat_natCast, Nat.reduceAdd, Int.reduceAdd, Int.reduceSub, Int.reduceMul, Int.reduceNeg, Int.reduceToNat, zl_aa]
  have rnd : ∀ (x k : Nat) (f : Nat → Option zO), x ≤ 8 → (∀ q, q ≠ v → f q = f0 q) → rLay f v (ly1 R.1.1 x) → ∃ f', s_X7_layers_7 E (k + 1) (some b) (some v) (zb true) (n, m, f) = s_X7_layers_7 E k (some b) (some v) (zb (decide (x < wl (ndR [R]) (ngR [R]) R.1.1 (ly1 R.1.1 x) 8) && decide (wl (ndR [R]) (ngR [R]) R.1.1 (ly1 R.1.1 x) 8 ≤ 8))) (n, m, f') ∧ (∀ q, q ≠ v → f' q = f0 q) ∧ rLay f' v (ly1 R.1.1 (max x (min (wl (ndR [R]) (ngR [R]) R.1.1 (ly1 R.1.1 x) 8) 8))) := fun x k f hx hf hv => by
    obtain ⟨f', e1, e2, e3⟩ := sp_layers_r (E := E) (a := (ly1 R.1.1 x, false)) hN hvb hE (fun i => by unfold ly1; dsimp only; split <;> omega) (s_X7_layers_7 E k) n m 8 0 zN f (by omega) (by unfold zN; omega) hf hv
    rw [lyR_row x false 8 hx, if_pos hR.1.1] at e1 e3
    refine ⟨f', ?_, e2, e3⟩
    rw [s_X7_layers_7]
    rw [show lyR (ndR [R]) (ngR [R]) (ly1 R.1.1 x, false) 0 = (ly1 R.1.1 x, false) from rfl, show ((0 : Nat) : Int) = 0 from rfl] at e1
    simp (disch := omega) only [zi_lit, zi_neg, zi_add, zi_sub, zi_mul, zi_div, zi_char, zb_eq0, zb_eq1, zb_le0, zb_or, zb_and, zb_or1, zb_or0, zb_1or, zb_0or, zb_and1, zb_and0, zb_1and, zb_0and, zb_nar, zi_nar0, zi_nar1, zl_ite, zl_ret, zl_retb, zl_retb1, zl_retb0, zl_retc, zl_ki, zl_kr, zl_kr0, zl_krf, zl_kl, zl_kf, zl_kd, zl_kv, zl_rf, zl_rf0, zl_valI, zl_valP, zl_valL, zl_get, zl_getI, zl_getR, zl_get0, zl_getr, zl_fk, zl_set, zl_setk, zl_setNb, zl_setN1, zl_setN0, zl_up1, zl_up2, zl_new, zl_newA, zl_len, zl_lenk, zl_ga, zl_gaI, zl_gaL, zl_gaD, zl_gaR, zl_sa, zl_saI, zl_saL, zl_saD, zl_saR, zl_ck, zl_ok, zl_ok0, zl_csS, zl_csS0, zl_csk, zl_tk, zl_csA, zl_isS0, zl_c, zl_cv, zl_cx, zl_sp, zl_rv, zl_rvk, zl_rvk2, zl_div, zl_rem, zl_ath, zl_clnk, zl_clnk0, zl_cat, zl_catn, zl_l0, zl_ls, zl_s0, zl_ss, List.length_cons, List.length_nil, Nat.reduceLT, Nat.zero_add, Nat.lt_add_one, reduceCtorEq, zi_le, zi_lt, zi_eq, if_pos, if_neg, if_true, if_false, Bool.true_eq_false, Bool.false_eq_true, eq_self, Bool.not_true, Bool.not_false, Int.toNat_natCast, Nat.reduceAdd, Int.reduceAdd, Int.reduceSub, Int.reduceMul, Int.reduceNeg, Int.reduceToNat, zl_aa, zi_f] at e1 ⊢
    exact e1
  intro d
  induction d with
  | zero =>
    intro x k f fl hx hk hf hv hfl hle
    obtain rfl : x = 8 := by omega
    have hns : stratB R = false := by
      cases h : stratB R
      · rfl
      · rw [h] at hle; simp at hle; split at hle <;> omega
    have hl : lays [R] = ly1 R.1.1 8 := by simp [lays, hns]
    cases fl
    · exact ⟨f, fin k f (by omega), hf, by rw [hl]; exact hv⟩
    · obtain ⟨k, rfl⟩ : ∃ k', k = k' + 1 := ⟨k - 1, by omega⟩
      obtain ⟨f', e1, e2, e3⟩ := rnd 8 k f (by omega) hf hv
      have hfal : (decide (8 < wl (ndR [R]) (ngR [R]) R.1.1 (ly1 R.1.1 8) 8) && decide (wl (ndR [R]) (ngR [R]) R.1.1 (ly1 R.1.1 8) 8 ≤ 8)) = false := by
        rw [Bool.and_eq_false_iff]
        by_cases h : 8 < wl (ndR [R]) (ngR [R]) R.1.1 (ly1 R.1.1 8) 8
        · right; simp; omega
        · left; simp; omega
      rw [hfal] at e1
      refine ⟨f', e1.trans (fin k f' (by omega)), e2, ?_⟩
      rw [hl]
      have : max 8 (min (wl (ndR [R]) (ngR [R]) R.1.1 (ly1 R.1.1 8) 8) 8) = 8 := by omega
      rw [this] at e3
      exact e3
  | succ d ih =>
    intro x k f fl hx hk hf hv hfl hle
    cases fl
    · refine ⟨f, fin k f (by omega), hf, ?_⟩
      unfold lays
      dsimp only
      rw [← hfl rfl]; exact hv
    · obtain ⟨k, rfl⟩ : ∃ k', k = k' + 1 := ⟨k - 1, by omega⟩
      obtain ⟨f', e1, e2, e3⟩ := rnd x k f (by omega) hf hv
      obtain ⟨u1, u2, u3⟩ := wl_up (R := R) x 8
      cases hs : stratB R
      · rw [hs] at hle hfl
        have hex : ∃ L ∈ R.2.1, L.1 = 1 ∧ L.2.1 = R.1.1 := by
          unfold stratB at hs
          simpa using hs
        obtain ⟨L, hL, hL1, hL2⟩ := hex
        have hnn := neg_nd hL hL1
        rw [hL2] at hnn
        have hlo := wl_lo (R := R) x (k := 8) hR.1.1 hnn.1
        rw [hnn.2] at hlo
        have hly : ly1 R.1.1 x R.1.1 = x := if_pos rfl
        rw [hly] at hlo
        simp only [if_true] at hlo
        have hw : wl (ndR [R]) (ngR [R]) R.1.1 (ly1 R.1.1 x) 8 = x + 1 := by omega
        rw [hw] at e1 e3
        have e4 : max x (min (x + 1) 8) = x + 1 := by omega
        rw [e4] at e3
        have e5 : (decide (x < x + 1) && decide (x + 1 ≤ 8)) = true := by simp; omega
        rw [e5] at e1
        obtain ⟨f2, g1, g2, g3⟩ := ih (x + 1) k f' true (by omega) (by omega) e2 e3 (fun h => by cases h) (by rw [hs]; simp; omega)
        exact ⟨f2, e1.trans g1, g2, g3⟩
      · rw [hs] at hle hfl
        simp only [if_true] at hle hfl
        cases ha : anyneg R
        · rw [ha] at hle
          simp only [Bool.false_eq_true, if_false] at hle
          have := u3 ha
          have hw : wl (ndR [R]) (ngR [R]) R.1.1 (ly1 R.1.1 x) 8 = 0 := by omega
          rw [hw] at e1 e3
          have hx0 : x = 0 := by omega
          subst hx0
          have hl : lays [R] = ly1 R.1.1 0 := by simp [lays, hs, ha]
          exact ⟨f', e1.trans (fin k f' (by omega)), e2, by rw [hl]; exact e3⟩
        · rw [ha] at hle
          simp only [if_true] at hle
          have hl : lays [R] = ly1 R.1.1 1 := by simp [lays, hs, ha]
          have hex : ∃ L ∈ R.2.1, L.1 = 1 := by
            unfold anyneg at ha
            simpa using ha
          obtain ⟨L, hL, hL1⟩ := hex
          have hnn := neg_nd hL hL1
          have hlo := wl_lo (R := R) x (k := 8) (hR.2.1 L hL).2.1 hnn.1
          rw [hnn.2] at hlo
          simp only [if_true] at hlo
          have := u2 hs
          have hw : wl (ndR [R]) (ngR [R]) R.1.1 (ly1 R.1.1 x) 8 = 1 := by omega
          rw [hw] at e1 e3
          have hx01 : x = 0 ∨ x = 1 := by omega
          rcases hx01 with rfl | rfl
          · obtain ⟨f2, g1, g2, g3⟩ := ih 1 k f' true (by omega) (by omega) e2 e3 (fun h => by cases h) (by rw [hs, ha]; simp)
            exact ⟨f2, e1.trans g1, g2, g3⟩
          · exact ⟨f', e1.trans (fin k f' (by omega)), e2, by rw [hl]; exact e3⟩
theorem sp_layers {E : zE} {f : Nat → Option zO} {b n : Nat} {rs : List zRule} (hR : ∀ R ∈ rs, okRule R) (hlen : rs.length ≤ 1) (hN : rNeeds f b (ndR rs) (ngR rs)) (hvb : b + 19 ≤ n) (hE : E 0 ≤ n) (m : Nat) : ∃ f', s_X7_layers E (some b) (n, m, f) = some (.inl (some (.ref n)), (n + 1, m + 8, f')) ∧ zX n f f' ∧ rLay f' n (lays rs) := by
  generalize hf1 : zUp f n (.inl (0, 8, zAr0)) = f1
  have hf1' : ∀ q, q ≠ n → f1 q = f q := fun q hq => by rw [← hf1, zl_up2 hq]
  have hN1 := hN.mv (f' := f1) fun q _ _ => hf1' q (by omega)
  have hv : rLay f1 n (fun _ => 0) := ⟨fun _ => 0, by rw [← hf1, zl_up1 rfl], fun i hi => rfl⟩
  cases rs with
  | nil =>
    obtain ⟨k, hk⟩ : ∃ k, zN = k + 2 := ⟨zN - 2, by unfold zN; omega⟩
    have hw0 : ∀ p ly j, wl (ndR []) (ngR []) p ly j = 0 := fun p ly j => by
      induction j with
      | zero => rfl
      | succ j ih => rw [wl, ih]; rfl
    have hr : ∀ j, lyR (ndR []) (ngR []) ((fun _ => 0), false) j = ((fun _ => 0), false) := fun j => by
      induction j with
      | zero => rfl
      | succ j ih =>
        rw [lyR, ih]
        unfold lyS
        rw [hw0]
        apply Prod.ext
        · funext q; dsimp only; split <;> rfl
        · rfl
    obtain ⟨f', e1, e2, e3⟩ := sp_layers_r (E := E) (a := ((fun _ => 0), false)) hN1 hvb hE (fun i => by dsimp only; omega) (s_X7_layers_7 E (k + 1)) (n + 1) (m + 8) 8 0 zN f1 (by omega) (by unfold zN; omega) (fun _ _ => rfl) hv
    rw [hr] at e3
    refine ⟨f', ?_, fun q hq => (e2 q (by omega)).trans (hf1' q (by omega)), e3⟩
    rw [hr, hr] at e1
    rw [show ((0 : Nat) : Int) = 0 from rfl] at e1
    unfold s_X7_layers
    simp (disch := omega) only [zi_lit, zi_neg, zi_add, zi_sub, zi_mul, zi_div, zi_char, zb_eq0, zb_eq1, zb_le0, zb_or, zb_and, zb_or1, zb_or0, zb_1or, zb_0or, zb_and1, zb_and0, zb_1and, zb_0and, zb_nar, zi_nar0, zi_nar1, zl_ite, zl_ret, zl_retb, zl_retb1, zl_retb0, zl_retc, zl_ki, zl_kr, zl_kr0, zl_krf, zl_kl, zl_kf, zl_kd, zl_kv, zl_rf, zl_rf0, zl_valI, zl_valP, zl_valL, zl_get, zl_getI, zl_getR, zl_get0, zl_getr, zl_fk, zl_set, zl_setk, zl_setNb, zl_setN1, zl_setN0, zl_up1, zl_up2, zl_new, zl_newA, zl_len, zl_lenk, zl_ga, zl_gaI, zl_gaL, zl_gaD, zl_gaR, zl_sa, zl_saI, zl_saL, zl_saD, zl_saR, zl_ck, zl_ok, zl_ok0, zl_csS, zl_csS0, zl_csk, zl_tk, zl_csA, zl_isS0, zl_c, zl_cv, zl_cx, zl_sp, zl_rv, zl_rvk, zl_rvk2, zl_div, zl_rem, zl_ath, zl_clnk, zl_clnk0, zl_cat, zl_catn, zl_l0, zl_ls, zl_s0, zl_ss, List.length_cons, List.length_nil, Nat.reduceLT, Nat.zero_add, Nat.lt_add_one, reduceCtorEq, zi_le, zi_lt, zi_eq, if_pos, if_neg, if_true, if_false, Bool.true_eq_false, Bool.false_eq_true, eq_self, Bool.not_true, Bool.not_false, Int.toNat_natCast, Nat.reduceAdd, Int.reduceAdd, Int.reduceSub, Int.reduceMul, Int.reduceNeg, Int.reduceToNat, zl_aa, hf1]
    rw [hk, s_X7_layers_7]
    rw [← zi_f] at e1
    simp (disch := omega) only [zi_lit, zi_neg, zi_add, zi_sub, zi_mul, zi_div, zi_char, zb_eq0, zb_eq1, zb_le0, zb_or, zb_and, zb_or1, zb_or0, zb_1or, zb_0or, zb_and1, zb_and0, zb_1and, zb_0and, zb_nar, zi_nar0, zi_nar1, zl_ite, zl_ret, zl_retb, zl_retb1, zl_retb0, zl_retc, zl_ki, zl_kr, zl_kr0, zl_krf, zl_kl, zl_kf, zl_kd, zl_kv, zl_rf, zl_rf0, zl_valI, zl_valP, zl_valL, zl_get, zl_getI, zl_getR, zl_get0, zl_getr, zl_fk, zl_set, zl_setk, zl_setNb, zl_setN1, zl_setN0, zl_up1, zl_up2, zl_new, zl_newA, zl_len, zl_lenk, zl_ga, zl_gaI, zl_gaL, zl_gaD, zl_gaR, zl_sa, zl_saI, zl_saL, zl_saD, zl_saR, zl_ck, zl_ok, zl_ok0, zl_csS, zl_csS0, zl_csk, zl_tk, zl_csA, zl_isS0, zl_c, zl_cv, zl_cx, zl_sp, zl_rv, zl_rvk, zl_rvk2, zl_div, zl_rem, zl_ath, zl_clnk, zl_clnk0, zl_cat, zl_catn, zl_l0, zl_ls, zl_s0, zl_ss, List.length_cons, List.length_nil, Nat.reduceLT, Nat.zero_add, Nat.lt_add_one, reduceCtorEq, zi_le, zi_lt, zi_eq, if_pos, if_neg, if_true, if_false, Bool.true_eq_false, Bool.false_eq_true, eq_self, Bool.not_true, Bool.not_false, Int.toNat_natCast, Nat.reduceAdd, Int.reduceAdd, Int.reduceSub, Int.reduceMul, Int.reduceNeg, Int.reduceToNat, zl_aa]
    rw [e1, s_X7_layers_7]
    simp (disch := omega) only [zi_lit, zi_neg, zi_add, zi_sub, zi_mul, zi_div, zi_char, zb_eq0, zb_eq1, zb_le0, zb_or, zb_and, zb_or1, zb_or0, zb_1or, zb_0or, zb_and1, zb_and0, zb_1and, zb_0and, zb_nar, zi_nar0, zi_nar1, zl_ite, zl_ret, zl_retb, zl_retb1, zl_retb0, zl_retc, zl_ki, zl_kr, zl_kr0, zl_krf, zl_kl, zl_kf, zl_kd, zl_kv, zl_rf, zl_rf0, zl_valI, zl_valP, zl_valL, zl_get, zl_getI, zl_getR, zl_get0, zl_getr, zl_fk, zl_set, zl_setk, zl_setNb, zl_setN1, zl_setN0, zl_up1, zl_up2, zl_new, zl_newA, zl_len, zl_lenk, zl_ga, zl_gaI, zl_gaL, zl_gaD, zl_gaR, zl_sa, zl_saI, zl_saL, zl_saD, zl_saR, zl_ck, zl_ok, zl_ok0, zl_csS, zl_csS0, zl_csk, zl_tk, zl_csA, zl_isS0, zl_c, zl_cv, zl_cx, zl_sp, zl_rv, zl_rvk, zl_rvk2, zl_div, zl_rem, zl_ath, zl_clnk, zl_clnk0, zl_cat, zl_catn, zl_l0, zl_ls, zl_s0, zl_ss, List.length_cons, List.length_nil, Nat.reduceLT, Nat.zero_add, Nat.lt_add_one, reduceCtorEq, zi_le, zi_lt, zi_eq, if_pos, if_neg, if_true, if_false, Bool.true_eq_false, Bool.false_eq_true, eq_self, Bool.not_true, Bool.not_false, Int.toNat_natCast, Nat.reduceAdd, Int.reduceAdd, Int.reduceSub, Int.reduceMul, Int.reduceNeg, Int.reduceToNat, zl_aa]
  | cons R rs =>
    have : rs = [] := by
      cases rs with
      | nil => rfl
      | cons => simp at hlen
    subst this
    obtain ⟨f', e1, e2, e3⟩ := sp_layers_1 (E := E) (hR R (by simp)) hN1 hvb hE (n + 1) (m + 8) 8 0 zN f1 true (by omega) (by unfold zN; omega) (fun _ _ => rfl) (by
      obtain ⟨w, w1, w2⟩ := hv
      refine ⟨w, w1, fun i hi => ?_⟩
      rw [w2 i hi]; unfold ly1; split <;> rfl) (fun h => by cases h) (Nat.zero_le _)
    refine ⟨f', ?_, fun q hq => (e2 q (by omega)).trans (hf1' q (by omega)), e3⟩
    unfold s_X7_layers
    rw [← zi_t] at e1
    simp (disch := omega) only [zi_lit, zi_neg, zi_add, zi_sub, zi_mul, zi_div, zi_char, zb_eq0, zb_eq1, zb_le0, zb_or, zb_and, zb_or1, zb_or0, zb_1or, zb_0or, zb_and1, zb_and0, zb_1and, zb_0and, zb_nar, zi_nar0, zi_nar1, zl_ite, zl_ret, zl_retb, zl_retb1, zl_retb0, zl_retc, zl_ki, zl_kr, zl_kr0, zl_krf, zl_kl, zl_kf, zl_kd, zl_kv, zl_rf, zl_rf0, zl_valI, zl_valP, zl_valL, zl_get, zl_getI, zl_getR, zl_get0, zl_getr, zl_fk, zl_set, zl_setk, zl_setNb, zl_setN1, zl_setN0, zl_up1, zl_up2, zl_new, zl_newA, zl_len, zl_lenk, zl_ga, zl_gaI, zl_gaL, zl_gaD, zl_gaR, zl_sa, zl_saI, zl_saL, zl_saD, zl_saR, zl_ck, zl_ok, zl_ok0, zl_csS, zl_csS0, zl_csk, zl_tk, zl_csA, zl_isS0, zl_c, zl_cv, zl_cx, zl_sp, zl_rv, zl_rvk, zl_rvk2, zl_div, zl_rem, zl_ath, zl_clnk, zl_clnk0, zl_cat, zl_catn, zl_l0, zl_ls, zl_s0, zl_ss, List.length_cons, List.length_nil, Nat.reduceLT, Nat.zero_add, Nat.lt_add_one, reduceCtorEq, zi_le, zi_lt, zi_eq, if_pos, if_neg, if_true, if_false, Bool.true_eq_false, Bool.false_eq_true, eq_self, Bool.not_true, Bool.not_false, Int.toNat_natCast, Nat.reduceAdd, Int.reduceAdd, Int.reduceSub, Int.reduceMul, Int.reduceNeg, Int.reduceToNat, zl_aa, hf1]
    exact e1
theorem sp_isCircle_l {E : zE} {f : Nat → Option zO} {v : Nat} {ly : Nat → Nat} (hv : rLay f v ly) (hl : ∀ i, ly i ≤ 8) (n m : Nat) : ∀ (d j k : Nat) (acc : Bool), j + d = 8 → d < k → s_X7_isCircle_13 E k (zb acc) (some v) (zi 8) (zi j) (n, m, f) = some (.inl (some (.int (zb (acc || (List.range d).any fun i => decide (ly (j + i) = 8))))), (n, m, f)) := by
  obtain ⟨w, w1, w2⟩ := hv
  intro d
  induction d with
  | zero =>
    intro j k acc hj hk
    obtain ⟨k, rfl⟩ : ∃ k', k = k' + 1 := ⟨k - 1, by omega⟩
    obtain rfl : j = 8 := by omega
    rw [s_X7_isCircle_13]
    simp (disch := omega) only [zi_lit, zi_neg, zi_add, zi_sub, zi_mul, zi_div, zi_char, zb_eq0, zb_eq1, zb_le0, zb_or, zb_and, zb_or1, zb_or0, zb_1or, zb_0or, zb_and1, zb_and0, zb_1and, zb_0and, zb_nar, zi_nar0, zi_nar1, zl_ite, zl_ret, zl_retb, zl_retb1, zl_retb0, zl_retc, zl_ki, zl_kr, zl_kr0, zl_krf, zl_kl, zl_kf, zl_kd, zl_kv, zl_rf, zl_rf0, zl_valI, zl_valP, zl_valL, zl_get, zl_getI, zl_getR, zl_get0, zl_getr, zl_fk, zl_set, zl_setk, zl_setNb, zl_setN1, zl_setN0, zl_up1, zl_up2, zl_new, zl_newA, zl_len, zl_lenk, zl_ga, zl_gaI, zl_gaL, zl_gaD, zl_gaR, zl_sa, zl_saI, zl_saL, zl_saD, zl_saR, zl_ck, zl_ok, zl_ok0, zl_csS, zl_csS0, zl_csk, zl_tk, zl_csA, zl_isS0, zl_c, zl_cv, zl_cx, zl_sp, zl_rv, zl_rvk, zl_rvk2, zl_div, zl_rem, zl_ath, zl_clnk, zl_clnk0, zl_cat, zl_catn, zl_l0, zl_ls, zl_s0, zl_ss, List.length_cons, List.length_nil, Nat.reduceLT, Nat.zero_add, Nat.lt_add_one, reduceCtorEq, zi_le, zi_lt, zi_eq, if_pos, if_neg, if_true, if_false, Bool.true_eq_false, Bool.false_eq_true, eq_self, Bool.not_true, Bool.not_false, Int.toNat_natCast, Nat.reduceAdd, Int.reduceAdd, Int.reduceSub, Int.reduceMul, Int.reduceNeg, Int.reduceToNat, zl_aa]
    simp
  | succ d ih =>
    intro j k acc hj hk
    obtain ⟨k, rfl⟩ : ∃ k', k = k' + 1 := ⟨k - 1, by omega⟩
    have wj := w2 j (by omega)
    have hlj := hl j
    rw [s_X7_isCircle_13]
    unfold s_X7_isCircle_38
    rw [List.range_succ_eq_map, List.any_cons, List.any_map]
    by_cases h : ly j = 8
    · simp (disch := omega) only [zi_lit, zi_neg, zi_add, zi_sub, zi_mul, zi_div, zi_char, zb_eq0, zb_eq1, zb_le0, zb_or, zb_and, zb_or1, zb_or0, zb_1or, zb_0or, zb_and1, zb_and0, zb_1and, zb_0and, zb_nar, zi_nar0, zi_nar1, zl_ite, zl_ret, zl_retb, zl_retb1, zl_retb0, zl_retc, zl_ki, zl_kr, zl_kr0, zl_krf, zl_kl, zl_kf, zl_kd, zl_kv, zl_rf, zl_rf0, zl_valI, zl_valP, zl_valL, zl_get, zl_getI, zl_getR, zl_get0, zl_getr, zl_fk, zl_set, zl_setk, zl_setNb, zl_setN1, zl_setN0, zl_up1, zl_up2, zl_new, zl_newA, zl_len, zl_lenk, zl_ga, zl_gaI, zl_gaL, zl_gaD, zl_gaR, zl_sa, zl_saI, zl_saL, zl_saD, zl_saR, zl_ck, zl_ok, zl_ok0, zl_csS, zl_csS0, zl_csk, zl_tk, zl_csA, zl_isS0, zl_c, zl_cv, zl_cx, zl_sp, zl_rv, zl_rvk, zl_rvk2, zl_div, zl_rem, zl_ath, zl_clnk, zl_clnk0, zl_cat, zl_catn, zl_l0, zl_ls, zl_s0, zl_ss, List.length_cons, List.length_nil, Nat.reduceLT, Nat.zero_add, Nat.lt_add_one, reduceCtorEq, zi_le, zi_lt, zi_eq, if_pos, if_neg, if_true, if_false, Bool.true_eq_false, Bool.false_eq_true, eq_self, Bool.not_true, Bool.not_false, Int.toNat_natCast, Nat.reduceAdd, Int.reduceAdd, Int.reduceSub, Int.reduceMul, Int.reduceNeg, Int.reduceToNat, zl_aa, w1, wj, zc_add]
      rw [ih (j + 1) k true (by omega) (by omega)]
      simp [h]
    · simp (disch := omega) only [zi_lit, zi_neg, zi_add, zi_sub, zi_mul, zi_div, zi_char, zb_eq0, zb_eq1, zb_le0, zb_or, zb_and, zb_or1, zb_or0, zb_1or, zb_0or, zb_and1, zb_and0, zb_1and, zb_0and, zb_nar, zi_nar0, zi_nar1, zl_ite, zl_ret, zl_retb, zl_retb1, zl_retb0, zl_retc, zl_ki, zl_kr, zl_kr0, zl_krf, zl_kl, zl_kf, zl_kd, zl_kv, zl_rf, zl_rf0, zl_valI, zl_valP, zl_valL, zl_get, zl_getI, zl_getR, zl_get0, zl_getr, zl_fk, zl_set, zl_setk, zl_setNb, zl_setN1, zl_setN0, zl_up1, zl_up2, zl_new, zl_newA, zl_len, zl_lenk, zl_ga, zl_gaI, zl_gaL, zl_gaD, zl_gaR, zl_sa, zl_saI, zl_saL, zl_saD, zl_saR, zl_ck, zl_ok, zl_ok0, zl_csS, zl_csS0, zl_csk, zl_tk, zl_csA, zl_isS0, zl_c, zl_cv, zl_cx, zl_sp, zl_rv, zl_rvk, zl_rvk2, zl_div, zl_rem, zl_ath, zl_clnk, zl_clnk0, zl_cat, zl_catn, zl_l0, zl_ls, zl_s0, zl_ss, List.length_cons, List.length_nil, Nat.reduceLT, Nat.zero_add, Nat.lt_add_one, reduceCtorEq, zi_le, zi_lt, zi_eq, if_pos, if_neg, if_true, if_false, Bool.true_eq_false, Bool.false_eq_true, eq_self, Bool.not_true, Bool.not_false, Int.toNat_natCast, Nat.reduceAdd, Int.reduceAdd, Int.reduceSub, Int.reduceMul, Int.reduceNeg, Int.reduceToNat, zl_aa, w1, wj, zc_add]
      rw [ih (j + 1) k acc (by omega) (by omega)]
      simp only [Nat.add_zero, h, decide_false, Bool.false_or]
      rw [show (fun i => decide (ly (j + 1 + i) = 8)) = ((fun i => decide (ly (j + i) = 8)) ∘ Nat.succ) from funext fun i => by simp only [Function.comp]; rw [show j + 1 + i = j + Nat.succ i by omega]]
theorem lays_le (rs : List zRule) (i : Nat) : lays rs i ≤ 8 := by
  cases rs with
  | nil => simp [lays]
  | cons R rs => unfold lays ly1; dsimp only; split <;> (try split) <;> (try split) <;> omega
theorem sp_isCircle {E : zE} {f : Nat → Option zO} {b n : Nat} {rs : List zRule} (hR : ∀ R ∈ rs, okRule R) (hlen : rs.length ≤ 1) (hN : rNeeds f b (ndR rs) (ngR rs)) (hvb : b + 19 ≤ n) (hE : E 0 ≤ n) (m : Nat) : ∃ f', s_X7_isCircle E (some b) (n, m, f) = some (.inl (some (.int (zb (rs.any fun R => !stratB R)))), (n + 1, m + 8, f')) ∧ zX n f f' := by
  obtain ⟨f', e1, e2, e3⟩ := sp_layers (E := E) hR hlen hN hvb hE m
  refine ⟨f', ?_, e2⟩
  have e4 := sp_isCircle_l (E := E) e3 (lays_le rs) (n + 1) (m + 8) 8 0 zN false (by omega) (by unfold zN; omega)
  rw [show ((0 : Nat) : Int) = 0 from rfl] at e4
  obtain ⟨w, w1, w2⟩ := e3
  unfold s_X7_isCircle
  simp (disch := omega) only [zi_lit, zi_neg, zi_add, zi_sub, zi_mul, zi_div, zi_char, zb_eq0, zb_eq1, zb_le0, zb_or, zb_and, zb_or1, zb_or0, zb_1or, zb_0or, zb_and1, zb_and0, zb_1and, zb_0and, zb_nar, zi_nar0, zi_nar1, zl_ite, zl_ret, zl_retb, zl_retb1, zl_retb0, zl_retc, zl_ki, zl_kr, zl_kr0, zl_krf, zl_kl, zl_kf, zl_kd, zl_kv, zl_rf, zl_rf0, zl_valI, zl_valP, zl_valL, zl_get, zl_getI, zl_getR, zl_get0, zl_getr, zl_fk, zl_set, zl_setk, zl_setNb, zl_setN1, zl_setN0, zl_up1, zl_up2, zl_new, zl_newA, zl_len, zl_lenk, zl_ga, zl_gaI, zl_gaL, zl_gaD, zl_gaR, zl_sa, zl_saI, zl_saL, zl_saD, zl_saR, zl_ck, zl_ok, zl_ok0, zl_csS, zl_csS0, zl_csk, zl_tk, zl_csA, zl_isS0, zl_c, zl_cv, zl_cx, zl_sp, zl_rv, zl_rvk, zl_rvk2, zl_div, zl_rem, zl_ath, zl_clnk, zl_clnk0, zl_cat, zl_catn, zl_l0, zl_ls, zl_s0, zl_ss, List.length_cons, List.length_nil, Nat.reduceLT, Nat.zero_add, Nat.lt_add_one, reduceCtorEq, zi_le, zi_lt, zi_eq, if_pos, if_neg, if_true, if_false, Bool.true_eq_false, Bool.false_eq_true, eq_self, Bool.not_true, Bool.not_false, Int.toNat_natCast, Nat.reduceAdd, Int.reduceAdd, Int.reduceSub, Int.reduceMul, Int.reduceNeg, Int.reduceToNat, zl_aa, hN.ck, e1, w1]
  rw [zi_f, show ((8 : Nat) : Int) = 8 from rfl]
  rw [← zi_f] at e4 ⊢
  rw [e4]
  congr 6
  cases rs with
  | nil => rfl
  | cons R rs =>
    have : rs = [] := by
      cases rs with
      | nil => rfl
      | cons => simp at hlen
    subst this
    have hok := hR R (by simp)
    simp only [List.any_cons, List.any_nil, Bool.or_false, Bool.false_or]
    cases hs : stratB R
    · simp only [Bool.not_false, List.any_eq_true]
      exact ⟨R.1.1, by simpa using hok.1.1, by simp [lays, ly1, hs]⟩
    · simp only [Bool.not_true, List.any_eq_false]
      intro i _
      simp only [lays, ly1, hs, if_true]
      simp only [decide_eq_true_eq]
      split
      · split <;> omega
      · omega
