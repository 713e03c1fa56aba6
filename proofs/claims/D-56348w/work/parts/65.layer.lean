set_option maxRecDepth 20000
/-! ===== plain law: layers ===== -/
theorem zi_ite (c : Prop) [Decidable c] (a b : Int) : (if c then zi a else zi b) = zi (if c then a else b) := by split <;> rfl
def rLay (f : Nat → Option zO) (v : Nat) (ly : Nat → Nat) : Prop := ∃ w : Nat → Int32, f v = some (.inl (0, 8, .inl w)) ∧ ∀ i, i < 8 → w i = zi (ly i)
def wl (N M : Nat → Nat → Bool) (h : Nat) (ly : Nat → Nat) : Nat → Nat
  | 0 => 0
  | k + 1 => if N h k then max (wl N M h ly k) (ly k + if M h k then 1 else 0) else wl N M h ly k
theorem wl_le {N M : Nat → Nat → Bool} {h : Nat} {ly : Nat → Nat} (hl : ∀ i, ly i ≤ 8) (k : Nat) : wl N M h ly k ≤ 9 := by
  induction k with
  | zero => simp [wl]
  | succ k ih =>
    rw [wl]
    have := hl k
    split
    · split <;> omega
    · exact ih
theorem sp_want_l {E : zE} {f : Nat → Option zO} {b v h : Nat} {N M : Nat → Nat → Bool} {ly : Nat → Nat} (hN : rNeeds f b N M) (hv : rLay f v ly) (hl : ∀ i, ly i ≤ 8) (hh : h < 8) (n m : Nat) : ∀ (d j k : Nat), j + d = 8 → d < k → s_X7_wantedLayer_5 E k (some b) (zi h) (some v) (zi (wl N M h ly j)) (zi j) (n, m, f) = some (.inl (some (.int (zi (wl N M h ly 8)))), (n, m, f)) := by
  obtain ⟨hN0, ⟨⟨g, g1, g2⟩, g3⟩, ⟨⟨g', g1', g2'⟩, g3'⟩⟩ := hN
  obtain ⟨w, w1, w2⟩ := hv
  obtain ⟨u, u1, u2⟩ := g3 h hh
  obtain ⟨u', u1', u2'⟩ := g3' h hh
  intro d
  induction d with
  | zero =>
    intro j k hj hk
    obtain ⟨k, rfl⟩ : ∃ k', k = k' + 1 := ⟨k - 1, by omega⟩
    obtain rfl : j = 8 := by omega
    rw [s_X7_wantedLayer_5]
    simp (disch := omega) only [zi_lit, zi_neg, zi_add, zi_sub, zi_mul, zi_div, zi_char, zb_eq0, zb_eq1, zb_le0, zb_or, zb_and, zb_or1, zb_or0, zb_1or, zb_0or, zb_and1, zb_and0, zb_1and, zb_0and, zb_nar, zi_nar0, zi_nar1, zl_ite, zl_ret, zl_retb, zl_retb1, zl_retb0, zl_retc, zl_ki, zl_kr, zl_kr0, zl_krf, zl_kl, zl_kf, zl_kd, zl_kv, zl_rf, zl_rf0, zl_valI, zl_valP, zl_valL, zl_get, zl_getI, zl_getR, zl_get0, zl_getr, zl_fk, zl_set, zl_setk, zl_setNb, zl_setN1, zl_setN0, zl_up1, zl_up2, zl_new, zl_newA, zl_len, zl_lenk, zl_ga, zl_gaI, zl_gaL, zl_gaD, zl_gaR, zl_sa, zl_saI, zl_saL, zl_saD, zl_saR, zl_ck, zl_ok, zl_ok0, zl_csS, zl_csS0, zl_csk, zl_tk, zl_csA, zl_isS0, zl_c, zl_cv, zl_cx, zl_sp, zl_rv, zl_rvk, zl_rvk2, zl_div, zl_rem, zl_ath, zl_clnk, zl_clnk0, zl_cat, zl_catn, zl_l0, zl_ls, zl_s0, zl_ss, List.length_cons, List.length_nil, Nat.reduceLT, Nat.zero_add, Nat.lt_add_one, reduceCtorEq, zi_le, zi_lt, zi_eq, if_pos, if_neg, if_true, if_false, Bool.true_eq_false, Bool.false_eq_true, eq_self, Bool.not_true, Bool.not_false, Int.toNat_natCast, Nat.reduceAdd, Int.reduceAdd, Int.reduceSub, Int.reduceMul, Int.reduceNeg, Int.reduceToNat, zl_aa]
  | succ d ih =>
    intro j k hj hk
    obtain ⟨k, rfl⟩ : ∃ k', k = k' + 1 := ⟨k - 1, by omega⟩
    have hw := wl_le (N := N) (M := M) (h := h) hl j
    have hlj := hl j
    have ihj := ih (j + 1) k (by omega) (by omega)
    rw [wl] at ihj
    rw [s_X7_wantedLayer_5]
    unfold s_X7_wantedLayer_33 s_X7_wantedLayer_58
    have wj := w2 j (by omega); have uj := u2 j (by omega); have uj' := u2' j (by omega)
    cases hNj : N h j <;> cases hMj : M h j <;> rw [hNj, hMj] at ihj <;> rw [hNj] at uj <;> rw [hMj] at uj' <;> simp (disch := omega) only [zi_lit, zi_neg, zi_add, zi_sub, zi_mul, zi_div, zi_char, zb_eq0, zb_eq1, zb_le0, zb_or, zb_and, zb_or1, zb_or0, zb_1or, zb_0or, zb_and1, zb_and0, zb_1and, zb_0and, zb_nar, zi_nar0, zi_nar1, zl_ite, zl_ret, zl_retb, zl_retb1, zl_retb0, zl_retc, zl_ki, zl_kr, zl_kr0, zl_krf, zl_kl, zl_kf, zl_kd, zl_kv, zl_rf, zl_rf0, zl_valI, zl_valP, zl_valL, zl_get, zl_getI, zl_getR, zl_get0, zl_getr, zl_fk, zl_set, zl_setk, zl_setNb, zl_setN1, zl_setN0, zl_up1, zl_up2, zl_new, zl_newA, zl_len, zl_lenk, zl_ga, zl_gaI, zl_gaL, zl_gaD, zl_gaR, zl_sa, zl_saI, zl_saL, zl_saD, zl_saR, zl_ck, zl_ok, zl_ok0, zl_csS, zl_csS0, zl_csk, zl_tk, zl_csA, zl_isS0, zl_c, zl_cv, zl_cx, zl_sp, zl_rv, zl_rvk, zl_rvk2, zl_div, zl_rem, zl_ath, zl_clnk, zl_clnk0, zl_cat, zl_catn, zl_l0, zl_ls, zl_s0, zl_ss, List.length_cons, List.length_nil, Nat.reduceLT, Nat.zero_add, Nat.lt_add_one, reduceCtorEq, zi_le, zi_lt, zi_eq, if_pos, if_neg, if_true, if_false, Bool.true_eq_false, Bool.false_eq_true, eq_self, Bool.not_true, Bool.not_false, Int.toNat_natCast, Nat.reduceAdd, Int.reduceAdd, Int.reduceSub, Int.reduceMul, Int.reduceNeg, Int.reduceToNat, zl_aa, w1, wj, hN0, g1, g1', g2 h hh, g2' h hh, u1, u1', uj, uj', zi_ite, zc_add] at ihj ⊢
    · exact ihj
    · exact ihj
    · have e : (if ((wl N M h ly j : Nat) : Int) < ((ly j + 0 : Nat) : Int) then ((ly j + 0 : Nat) : Int) else ((wl N M h ly j : Nat) : Int)) = ((max (wl N M h ly j) (ly j + 0) : Nat) : Int) := by split <;> omega
      rw [e]; exact ihj
    · have e : (if ((wl N M h ly j : Nat) : Int) < ((ly j + 1 : Nat) : Int) then ((ly j + 1 : Nat) : Int) else (wl N M h ly j : Nat)) = ((max (wl N M h ly j) (ly j + 1) : Nat) : Int) := by split <;> omega
      rw [e]; exact ihj
theorem sp_want {E : zE} {f : Nat → Option zO} {b v h : Nat} {N M : Nat → Nat → Bool} {ly : Nat → Nat} (hN : rNeeds f b N M) (hv : rLay f v ly) (hl : ∀ i, ly i ≤ 8) (hh : h < 8) (n m : Nat) : s_X7_wantedLayer E (some b) (zi h) (some v) (n, m, f) = some (.inl (some (.int (zi (wl N M h ly 8)))), (n, m, f)) := by
  unfold s_X7_wantedLayer
  have := sp_want_l (E := E) hN hv hl hh n m 8 0 zN (by omega) (by unfold zN; omega)
  exact this
/-- a round over the predicates below k: the layers, whether one was raised -/
def lyS (N M : Nat → Nat → Bool) (p : Nat) (a : (Nat → Nat) × Bool) : (Nat → Nat) × Bool :=
  let w := wl N M p a.1 8
  (fun q => if q = p then max (a.1 p) (min w 8) else a.1 q, a.2 || (decide (a.1 p < w) && decide (w ≤ 8)))
theorem lyS_le {N M : Nat → Nat → Bool} {p : Nat} {a : (Nat → Nat) × Bool} (h : ∀ i, a.1 i ≤ 8) : ∀ i, (lyS N M p a).1 i ≤ 8 := fun i => by
  unfold lyS; dsimp only
  have := h p; have := h i
  split <;> omega
def lyR (N M : Nat → Nat → Bool) (a : (Nat → Nat) × Bool) : Nat → (Nat → Nat) × Bool
  | 0 => a
  | k + 1 => lyS N M k (lyR N M a k)
theorem lyR_le {N M : Nat → Nat → Bool} {a : (Nat → Nat) × Bool} (h : ∀ i, a.1 i ≤ 8) (k : Nat) : ∀ i, (lyR N M a k).1 i ≤ 8 := by
  induction k with
  | zero => exact h
  | succ k ih => exact lyS_le ih
theorem sp_layers_r {E : zE} {f0 : Nat → Option zO} {b v : Nat} {N M : Nat → Nat → Bool} {a : (Nat → Nat) × Bool} (hN : rNeeds f0 b N M) (hvb : b + 19 ≤ v) (hE : E 0 ≤ v) (ha : ∀ i, a.1 i ≤ 8) (k7 : Option Nat → Option Nat → Int32 → zM) (n m : Nat) : ∀ (d j k : Nat) (f : Nat → Option zO), j + d = 8 → d < k → (∀ q, q ≠ v → f q = f0 q) → rLay f v (lyR N M a j).1 →
    ∃ f', s_X7_layers_15 E k7 k (some b) (some v) (zb (lyR N M a j).2) (zi j) (n, m, f) = k7 (some b) (some v) (zb (lyR N M a 8).2) (n, m, f') ∧ (∀ q, q ≠ v → f' q = f0 q) ∧ rLay f' v (lyR N M a 8).1 := by
  intro d
  induction d with
  | zero =>
    intro j k f hj hk hf hv
    obtain ⟨k, rfl⟩ : ∃ k', k = k' + 1 := ⟨k - 1, by omega⟩
    obtain rfl : j = 8 := by omega
    refine ⟨f, ?_, hf, hv⟩
    rw [s_X7_layers_15]
    simp (disch := omega) only [zi_lit, zi_neg, zi_add, zi_sub, zi_mul, zi_div, zi_char, zb_eq0, zb_eq1, zb_le0, zb_or, zb_and, zb_or1, zb_or0, zb_1or, zb_0or, zb_and1, zb_and0, zb_1and, zb_0and, zb_nar, zi_nar0, zi_nar1, zl_ite, zl_ret, zl_retb, zl_retb1, zl_retb0, zl_retc, zl_ki, zl_kr, zl_kr0, zl_krf, zl_kl, zl_kf, zl_kd, zl_kv, zl_rf, zl_rf0, zl_valI, zl_valP, zl_valL, zl_get, zl_getI, zl_getR, zl_get0, zl_getr, zl_fk, zl_set, zl_setk, zl_setNb, zl_setN1, zl_setN0, zl_up1, zl_up2, zl_new, zl_newA, zl_len, zl_lenk, zl_ga, zl_gaI, zl_gaL, zl_gaD, zl_gaR, zl_sa, zl_saI, zl_saL, zl_saD, zl_saR, zl_ck, zl_ok, zl_ok0, zl_csS, zl_csS0, zl_csk, zl_tk, zl_csA, zl_isS0, zl_c, zl_cv, zl_cx, zl_sp, zl_rv, zl_rvk, zl_rvk2, zl_div, zl_rem, zl_ath, zl_clnk, zl_clnk0, zl_cat, zl_catn, zl_l0, zl_ls, zl_s0, zl_ss, List.length_cons, List.length_nil, Nat.reduceLT, Nat.zero_add, Nat.lt_add_one, reduceCtorEq, zi_le, zi_lt, zi_eq, if_pos, if_neg, if_true, if_false, Bool.true_eq_false, Bool.false_eq_true, eq_self, Bool.not_true, Bool.not_false, Int.toNat_natCast, Nat.reduceAdd, Int.reduceAdd, Int.reduceSub, Int.reduceMul, Int.reduceNeg, Int.reduceToNat, zl_aa]
  | succ d ih =>
    intro j k f hj hk hf hv
    obtain ⟨k, rfl⟩ : ∃ k', k = k' + 1 := ⟨k - 1, by omega⟩
    have hNf : rNeeds f b N M := hN.mv fun q _ _ => hf q (by omega)
    have hle := lyR_le (N := N) (M := M) ha j
    generalize hA : lyR N M a j = A at *
    have hst : lyR N M a (j + 1) = lyS N M j A := by rw [lyR, hA]
    have hw := sp_want (E := E) hNf hv hle (show j < 8 by omega) n m
    have hwl := wl_le (N := N) (M := M) (h := j) hle 8
    obtain ⟨w, w1, w2⟩ := hv
    have wj := w2 j (by omega)
    have hAj := hle j
    generalize hfu : zUp f v (.inl (0, 8, .inl (upd w j (zi (max (A.1 j) (min (wl N M j A.1 8) 8) : Nat))))) = f2
    have hf2 : ∀ q, q ≠ v → f2 q = f0 q := fun q hq => by rw [← hfu, zl_up2 hq]; exact hf q hq
    have hv2 : rLay f2 v (lyR N M a (j + 1)).1 := by
      rw [hst]
      refine ⟨_, by rw [← hfu, zl_up1 rfl], fun i hi => ?_⟩
      rw [zl_updE]
      unfold lyS; dsimp only
      by_cases hij : i = j
      · rw [if_pos hij, if_pos hij]
      · rw [if_neg hij, if_neg hij]; exact w2 i hi
    obtain ⟨f', e1, e2, e3⟩ := ih (j + 1) k f2 (by omega) (by omega) hf2 hv2
    refine ⟨f', ?_, e2, e3⟩
    rw [s_X7_layers_15]
    unfold s_X7_layers_49 s_X7_layers_50
    have hval : zi (if ((A.1 j : Nat) : Int) < (if (8 : Int) < ((wl N M j A.1 8 : Nat) : Int) then (8 : Int) else ((wl N M j A.1 8 : Nat) : Int)) then (if (8 : Int) < ((wl N M j A.1 8 : Nat) : Int) then (8 : Int) else ((wl N M j A.1 8 : Nat) : Int)) else ((A.1 j : Nat) : Int)) = zi (max (A.1 j) (min (wl N M j A.1 8) 8) : Nat) := by
      congr 1
      split <;> split at * <;> omega
    rw [hst] at e1
    have hsnd : (lyS N M j A).2 = (A.2 || (decide (A.1 j < wl N M j A.1 8) && decide (wl N M j A.1 8 ≤ 8))) := rfl
    rw [hsnd] at e1
    by_cases c1 : wl N M j A.1 8 ≤ A.1 j
    · rw [decide_eq_false (Nat.not_lt.mpr c1), Bool.false_and, Bool.or_false] at e1
      simp (disch := omega) only [zi_lit, zi_neg, zi_add, zi_sub, zi_mul, zi_div, zi_char, zb_eq0, zb_eq1, zb_le0, zb_or, zb_and, zb_or1, zb_or0, zb_1or, zb_0or, zb_and1, zb_and0, zb_1and, zb_0and, zb_nar, zi_nar0, zi_nar1, zl_ite, zl_ret, zl_retb, zl_retb1, zl_retb0, zl_retc, zl_ki, zl_kr, zl_kr0, zl_krf, zl_kl, zl_kf, zl_kd, zl_kv, zl_rf, zl_rf0, zl_valI, zl_valP, zl_valL, zl_get, zl_getI, zl_getR, zl_get0, zl_getr, zl_fk, zl_set, zl_setk, zl_setNb, zl_setN1, zl_setN0, zl_up1, zl_up2, zl_new, zl_newA, zl_len, zl_lenk, zl_ga, zl_gaI, zl_gaL, zl_gaD, zl_gaR, zl_sa, zl_saI, zl_saL, zl_saD, zl_saR, zl_ck, zl_ok, zl_ok0, zl_csS, zl_csS0, zl_csk, zl_tk, zl_csA, zl_isS0, zl_c, zl_cv, zl_cx, zl_sp, zl_rv, zl_rvk, zl_rvk2, zl_div, zl_rem, zl_ath, zl_clnk, zl_clnk0, zl_cat, zl_catn, zl_l0, zl_ls, zl_s0, zl_ss, List.length_cons, List.length_nil, Nat.reduceLT, Nat.zero_add, Nat.lt_add_one, reduceCtorEq, zi_le, zi_lt, zi_eq, if_pos, if_neg, if_true, if_false, Bool.true_eq_false, Bool.false_eq_true, eq_self, Bool.not_true, Bool.not_false, Int.toNat_natCast, Nat.reduceAdd, Int.reduceAdd, Int.reduceSub, Int.reduceMul, Int.reduceNeg, Int.reduceToNat, zl_aa, hNf.ck, hw, w1, wj, zi_ite, zc_add] at hval ⊢
      rw [hval, hfu]; exact e1
    · rw [decide_eq_true (Nat.not_le.mp c1), Bool.true_and] at e1
      by_cases c2 : 8 < wl N M j A.1 8
      · rw [decide_eq_false (Nat.not_le.mpr c2), Bool.or_false] at e1
        simp (disch := omega) only [zi_lit, zi_neg, zi_add, zi_sub, zi_mul, zi_div, zi_char, zb_eq0, zb_eq1, zb_le0, zb_or, zb_and, zb_or1, zb_or0, zb_1or, zb_0or, zb_and1, zb_and0, zb_1and, zb_0and, zb_nar, zi_nar0, zi_nar1, zl_ite, zl_ret, zl_retb, zl_retb1, zl_retb0, zl_retc, zl_ki, zl_kr, zl_kr0, zl_krf, zl_kl, zl_kf, zl_kd, zl_kv, zl_rf, zl_rf0, zl_valI, zl_valP, zl_valL, zl_get, zl_getI, zl_getR, zl_get0, zl_getr, zl_fk, zl_set, zl_setk, zl_setNb, zl_setN1, zl_setN0, zl_up1, zl_up2, zl_new, zl_newA, zl_len, zl_lenk, zl_ga, zl_gaI, zl_gaL, zl_gaD, zl_gaR, zl_sa, zl_saI, zl_saL, zl_saD, zl_saR, zl_ck, zl_ok, zl_ok0, zl_csS, zl_csS0, zl_csk, zl_tk, zl_csA, zl_isS0, zl_c, zl_cv, zl_cx, zl_sp, zl_rv, zl_rvk, zl_rvk2, zl_div, zl_rem, zl_ath, zl_clnk, zl_clnk0, zl_cat, zl_catn, zl_l0, zl_ls, zl_s0, zl_ss, List.length_cons, List.length_nil, Nat.reduceLT, Nat.zero_add, Nat.lt_add_one, reduceCtorEq, zi_le, zi_lt, zi_eq, if_pos, if_neg, if_true, if_false, Bool.true_eq_false, Bool.false_eq_true, eq_self, Bool.not_true, Bool.not_false, Int.toNat_natCast, Nat.reduceAdd, Int.reduceAdd, Int.reduceSub, Int.reduceMul, Int.reduceNeg, Int.reduceToNat, zl_aa, hNf.ck, hw, w1, wj, zi_ite, zc_add] at hval ⊢
        rw [hval, hfu]; exact e1
      · rw [decide_eq_true (Nat.not_lt.mp c2), Bool.or_true] at e1
        simp (disch := omega) only [zi_lit, zi_neg, zi_add, zi_sub, zi_mul, zi_div, zi_char, zb_eq0, zb_eq1, zb_le0, zb_or, zb_and, zb_or1, zb_or0, zb_1or, zb_0or, zb_and1, zb_and0, zb_1and, zb_0and, zb_nar, zi_nar0, zi_nar1, zl_ite, zl_ret, zl_retb, zl_retb1, zl_retb0, zl_retc, zl_ki, zl_kr, zl_kr0, zl_krf, zl_kl, zl_kf, zl_kd, zl_kv, zl_rf, zl_rf0, zl_valI, zl_valP, zl_valL, zl_get, zl_getI, zl_getR, zl_get0, zl_getr, zl_fk, zl_set, zl_setk, zl_setNb, zl_setN1, zl_setN0, zl_up1, zl_up2, zl_new, zl_newA, zl_len, zl_lenk, zl_ga, zl_gaI, zl_gaL, zl_gaD, zl_gaR, zl_sa, zl_saI, zl_saL, zl_saD, zl_saR, zl_ck, zl_ok, zl_ok0, zl_csS, zl_csS0, zl_csk, zl_tk, zl_csA, zl_isS0, zl_c, zl_cv, zl_cx, zl_sp, zl_rv, zl_rvk, zl_rvk2, zl_div, zl_rem, zl_ath, zl_clnk, zl_clnk0, zl_cat, zl_catn, zl_l0, zl_ls, zl_s0, zl_ss, List.length_cons, List.length_nil, Nat.reduceLT, Nat.zero_add, Nat.lt_add_one, reduceCtorEq, zi_le, zi_lt, zi_eq, if_pos, if_neg, if_true, if_false, Bool.true_eq_false, Bool.false_eq_true, eq_self, Bool.not_true, Bool.not_false, Int.toNat_natCast, Nat.reduceAdd, Int.reduceAdd, Int.reduceSub, Int.reduceMul, Int.reduceNeg, Int.reduceToNat, zl_aa, hNf.ck, hw, w1, wj, zi_ite, zc_add] at hval ⊢
        rw [hval, hfu]; exact e1
