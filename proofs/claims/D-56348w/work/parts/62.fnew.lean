set_option maxRecDepth 20000
/-! ===== plain law: new Facts, copies, differences ===== -/
def rFpart (f : Nat → Option zO) (b i : Nat) (F : Nat → Nat → Bool) : Prop := f b = some (.inr (32, [.ref (b + 1)])) ∧ (∃ g : Nat → Option Nat, f (b + 1) = some (.inl (6, 8, .inr (.inr (.inr (.inr g))))) ∧ ∀ j, j < i → g j = some (b + 2 + 2 * j)) ∧ ∀ p, p < i → rCodes f (b + 2 + 2 * p) (F p)
theorem rFpart.step {f : Nat → Option zO} {b i : Nat} {F : Nat → Nat → Bool} (h : rFpart f b i F) (hi : i < 8) (g : Nat → Option Nat) (hg : f (b + 1) = some (.inl (6, 8, .inr (.inr (.inr (.inr g)))))) (f' : Nat → Option zO) (h1 : ∀ q, q < b + 2 + 2 * i → q ≠ b + 1 → f' q = f q) (h2 : f' (b + 1) = some (.inl (6, 8, .inr (.inr (.inr (.inr (va_up g i (some (b + 2 + 2 * i)))))))) ) (h3 : rCodes f' (b + 2 + 2 * i) (F i)) : rFpart f' b (i + 1) F := by
  obtain ⟨k1, ⟨g', k2, k3⟩, k4⟩ := h
  rw [hg] at k2
  obtain rfl : g' = g := by injection k2 with k2; injection k2 with k2; injection k2 with _ k2; injection k2 with _ k2; injection k2 with k2; injection k2 with k2; injection k2 with k2; injection k2 with k2; exact k2.symm
  refine ⟨(h1 b (by omega) (by omega)).trans k1, ⟨_, h2, fun j hj => ?_⟩, fun p hp => ?_⟩
  · rw [zl_upE]
    by_cases hji : j = i
    · subst hji; rw [if_pos rfl]
    · rw [if_neg hji]; exact k3 j (by omega)
  · by_cases hpi : p = i
    · subst hpi; exact h3
    · exact (k4 p (by omega)).mv fun q hq hq' => h1 q (by omega) (by omega)
/-- new Codes(other) -/
theorem sp_cCopy {E : zE} {f : Nat → Option zO} {b o n : Nat} {S : Nat → Bool} (hb : f b = some (.inr (33, [.null]))) (hE : E 0 ≤ b) (hbn : b < n) (ho : rCodes f o S) (hon : o < n) (m : Nat) : s_X5_init_2 E (some b) (some o) (n, m, f) = some (.inl none, (n + 1, m + 4, zUp (zUp f n (.inl (0, 4, .inl (cw S)))) b (.inr (33, [.ref n])))) := by
  obtain ⟨h1, h2⟩ := ho
  unfold s_X5_init_2
  simp (disch := omega) only [zi_lit, zi_neg, zi_add, zi_sub, zi_mul, zi_div, zi_char, zb_eq0, zb_eq1, zb_le0, zb_or, zb_and, zb_or1, zb_or0, zb_1or, zb_0or, zb_and1, zb_and0, zb_1and, zb_0and, zb_nar, zi_nar0, zi_nar1, zl_ite, zl_ret, zl_retb, zl_retb1, zl_retb0, zl_retc, zl_ki, zl_kr, zl_kr0, zl_krf, zl_kl, zl_kf, zl_kd, zl_kv, zl_rf, zl_rf0, zl_valI, zl_valP, zl_valL, zl_get, zl_getI, zl_getR, zl_get0, zl_getr, zl_fk, zl_set, zl_setk, zl_setNb, zl_setN1, zl_setN0, zl_up1, zl_up2, zl_new, zl_newA, zl_len, zl_lenk, zl_ga, zl_gaI, zl_gaL, zl_gaD, zl_gaR, zl_sa, zl_saI, zl_saL, zl_saD, zl_saR, zl_ck, zl_ok, zl_ok0, zl_csS, zl_csS0, zl_csk, zl_tk, zl_csA, zl_isS0, zl_c, zl_cv, zl_cx, zl_sp, zl_rv, zl_rvk, zl_rvk2, zl_div, zl_rem, zl_ath, zl_clnk, zl_clnk0, zl_cat, zl_catn, zl_l0, zl_ls, zl_s0, zl_ss, List.length_cons, List.length_nil, Nat.reduceLT, Nat.zero_add, Nat.lt_add_one, reduceCtorEq, zi_le, zi_lt, zi_eq, if_pos, if_neg, if_true, if_false, Bool.true_eq_false, Bool.false_eq_true, eq_self, Bool.not_true, Bool.not_false, Int.toNat_natCast, Nat.reduceAdd, Int.reduceAdd, Int.reduceSub, Int.reduceMul, Int.reduceNeg, Int.reduceToNat, zl_aa, hb, h1, h2]
theorem sp_fCopy_l {E : zE} {b ob : Nat} {F : Nat → Nat → Bool} {f0 : Nat → Option zO} (hE : E 0 ≤ b) (ho : rFacts f0 ob F) (hob : ob + 18 ≤ b) : ∀ (d i k m : Nat) (f : Nat → Option zO), i + d = 8 → d < k → zX b f0 f → rFpart f b i F → ∃ f', s_X4_init_2_15 E k (some b) (some ob) (zi i) (b + 2 + 2 * i, m, f) = some (.inl none, (b + 18, m + 5 * d, f')) ∧ zX b f0 f' ∧ rFpart f' b 8 F := by
  intro d
  induction d with
  | zero =>
    intro i k m f hi hk hX hp
    obtain ⟨k, rfl⟩ : ∃ k', k = k' + 1 := ⟨k - 1, by omega⟩
    obtain rfl : i = 8 := by omega
    refine ⟨f, ?_, hX, hp⟩
    rw [s_X4_init_2_15]
    simp (disch := omega) only [zi_lit, zi_neg, zi_add, zi_sub, zi_mul, zi_div, zi_char, zb_eq0, zb_eq1, zb_le0, zb_or, zb_and, zb_or1, zb_or0, zb_1or, zb_0or, zb_and1, zb_and0, zb_1and, zb_0and, zb_nar, zi_nar0, zi_nar1, zl_ite, zl_ret, zl_retb, zl_retb1, zl_retb0, zl_retc, zl_ki, zl_kr, zl_kr0, zl_krf, zl_kl, zl_kf, zl_kd, zl_kv, zl_rf, zl_rf0, zl_valI, zl_valP, zl_valL, zl_get, zl_getI, zl_getR, zl_get0, zl_getr, zl_fk, zl_set, zl_setk, zl_setNb, zl_setN1, zl_setN0, zl_up1, zl_up2, zl_new, zl_newA, zl_len, zl_lenk, zl_ga, zl_gaI, zl_gaL, zl_gaD, zl_gaR, zl_sa, zl_saI, zl_saL, zl_saD, zl_saR, zl_ck, zl_ok, zl_ok0, zl_csS, zl_csS0, zl_csk, zl_tk, zl_csA, zl_isS0, zl_c, zl_cv, zl_cx, zl_sp, zl_rv, zl_rvk, zl_rvk2, zl_div, zl_rem, zl_ath, zl_clnk, zl_clnk0, zl_cat, zl_catn, zl_l0, zl_ls, zl_s0, zl_ss, List.length_cons, List.length_nil, Nat.reduceLT, Nat.zero_add, Nat.lt_add_one, reduceCtorEq, zi_le, zi_lt, zi_eq, if_pos, if_neg, if_true, if_false, Bool.true_eq_false, Bool.false_eq_true, eq_self, Bool.not_true, Bool.not_false, Int.toNat_natCast, Nat.reduceAdd, Int.reduceAdd, Int.reduceSub, Int.reduceMul, Int.reduceNeg, Int.reduceToNat, zl_aa]
    rfl
  | succ d ih =>
    intro i k m f hi hk hX hp
    obtain ⟨k, rfl⟩ : ∃ k', k = k' + 1 := ⟨k - 1, by omega⟩
    obtain ⟨o1, ⟨og, o2, o3⟩, o4⟩ := ho
    obtain ⟨o5, o6⟩ := o4 i (by omega)
    have hp' := hp
    obtain ⟨k1, ⟨g, k2, k3⟩, k4⟩ := hp
    have o1' := (hX _ (by omega)).trans o1
    have o2' := (hX _ (by omega)).trans o2
    have o5' := (hX _ (by omega)).trans o5
    have o6' := (hX _ (by omega)).trans o6
    have oc : rCodes (zUp f (b + 2 + 2 * i) (.inr (33, [.null]))) (ob + 2 + 2 * i) (F i) := (o4 i (by omega)).mv fun q hq hq' => (zl_up2 (by omega)).trans (hX q (by omega))
    have hc := sp_cCopy (E := E) (b := b + 2 + 2 * i) (n := b + 2 + 2 * i + 1) (f := zUp f (b + 2 + 2 * i) (.inr (33, [.null]))) (zl_up1 rfl) (by omega) (by omega) oc (by omega) (m + 1)
    generalize hf1 : zUp (zUp (zUp f (b + 2 + 2 * i) (.inr (33, [.null]))) (b + 2 + 2 * i + 1) (.inl (0, 4, .inl (cw (F i))))) (b + 2 + 2 * i) (.inr (33, [.ref (b + 2 + 2 * i + 1)])) = f1 at hc
    have hf1' : ∀ q, q < b + 2 + 2 * i → f1 q = f q := fun q hq => by
      rw [← hf1, zl_up2 (by omega), zl_up2 (by omega), zl_up2 (by omega)]
    have hf1a : f1 (b + 2 + 2 * i) = some (.inr (33, [.ref (b + 2 + 2 * i + 1)])) := by rw [← hf1, zl_up1 rfl]
    have hf1b : f1 (b + 2 + 2 * i + 1) = some (.inl (0, 4, .inl (cw (F i)))) := by rw [← hf1, zl_up2 (by omega), zl_up1 rfl]
    have k2' := (hf1' (b + 1) (by omega)).trans k2
    generalize hf2 : zUp f1 (b + 1) (.inl (6, 8, .inr (.inr (.inr (.inr (va_up g i (some (b + 2 + 2 * i)))))))) = f2
    have hf2' : ∀ q, q ≠ b + 1 → f2 q = f1 q := fun q hq => by rw [← hf2, zl_up2 hq]
    obtain ⟨f', e1, e2, e3⟩ := ih (i + 1) k (m + 5) f2 (by omega) (by omega) (fun q hq => (hf2' q (by omega)).trans ((hf1' q (by omega)).trans (hX q hq))) (hp'.step (by omega) g k2 f2 (fun q hq hq' => (hf2' q hq').trans (hf1' q hq)) (by rw [← hf2, zl_up1 rfl]) ⟨(hf2' _ (by omega)).trans hf1a, (hf2' _ (by omega)).trans hf1b⟩)
    refine ⟨f', ?_, e2, e3⟩
    rw [s_X4_init_2_15]
    rw [show b + 2 + 2 * (i + 1) = b + 2 + 2 * i + 2 by omega] at e1
    simp (disch := omega) only [zi_lit, zi_neg, zi_add, zi_sub, zi_mul, zi_div, zi_char, zb_eq0, zb_eq1, zb_le0, zb_or, zb_and, zb_or1, zb_or0, zb_1or, zb_0or, zb_and1, zb_and0, zb_1and, zb_0and, zb_nar, zi_nar0, zi_nar1, zl_ite, zl_ret, zl_retb, zl_retb1, zl_retb0, zl_retc, zl_ki, zl_kr, zl_kr0, zl_krf, zl_kl, zl_kf, zl_kd, zl_kv, zl_rf, zl_rf0, zl_valI, zl_valP, zl_valL, zl_get, zl_getI, zl_getR, zl_get0, zl_getr, zl_fk, zl_set, zl_setk, zl_setNb, zl_setN1, zl_setN0, zl_up1, zl_up2, zl_new, zl_newA, zl_len, zl_lenk, zl_ga, zl_gaI, zl_gaL, zl_gaD, zl_gaR, zl_sa, zl_saI, zl_saL, zl_saD, zl_saR, zl_ck, zl_ok, zl_ok0, zl_csS, zl_csS0, zl_csk, zl_tk, zl_csA, zl_isS0, zl_c, zl_cv, zl_cx, zl_sp, zl_rv, zl_rvk, zl_rvk2, zl_div, zl_rem, zl_ath, zl_clnk, zl_clnk0, zl_cat, zl_catn, zl_l0, zl_ls, zl_s0, zl_ss, List.length_cons, List.length_nil, Nat.reduceLT, Nat.zero_add, Nat.lt_add_one, reduceCtorEq, zi_le, zi_lt, zi_eq, if_pos, if_neg, if_true, if_false, Bool.true_eq_false, Bool.false_eq_true, eq_self, Bool.not_true, Bool.not_false, Int.toNat_natCast, Nat.reduceAdd, Int.reduceAdd, Int.reduceSub, Int.reduceMul, Int.reduceNeg, Int.reduceToNat, zl_aa, k1, o1', o2', o3 i (by omega), hc]
    rw [zl_saS _ _ _ _ (by rw [hf1a]; rfl)]
    simp (disch := omega) only [zi_lit, zi_neg, zi_add, zi_sub, zi_mul, zi_div, zi_char, zb_eq0, zb_eq1, zb_le0, zb_or, zb_and, zb_or1, zb_or0, zb_1or, zb_0or, zb_and1, zb_and0, zb_1and, zb_0and, zb_nar, zi_nar0, zi_nar1, zl_ite, zl_ret, zl_retb, zl_retb1, zl_retb0, zl_retc, zl_ki, zl_kr, zl_kr0, zl_krf, zl_kl, zl_kf, zl_kd, zl_kv, zl_rf, zl_rf0, zl_valI, zl_valP, zl_valL, zl_get, zl_getI, zl_getR, zl_get0, zl_getr, zl_fk, zl_set, zl_setk, zl_setNb, zl_setN1, zl_setN0, zl_up1, zl_up2, zl_new, zl_newA, zl_len, zl_lenk, zl_ga, zl_gaI, zl_gaL, zl_gaD, zl_gaR, zl_sa, zl_saI, zl_saL, zl_saD, zl_saR, zl_ck, zl_ok, zl_ok0, zl_csS, zl_csS0, zl_csk, zl_tk, zl_csA, zl_isS0, zl_c, zl_cv, zl_cx, zl_sp, zl_rv, zl_rvk, zl_rvk2, zl_div, zl_rem, zl_ath, zl_clnk, zl_clnk0, zl_cat, zl_catn, zl_l0, zl_ls, zl_s0, zl_ss, List.length_cons, List.length_nil, Nat.reduceLT, Nat.zero_add, Nat.lt_add_one, reduceCtorEq, zi_le, zi_lt, zi_eq, if_pos, if_neg, if_true, if_false, Bool.true_eq_false, Bool.false_eq_true, eq_self, Bool.not_true, Bool.not_false, Int.toNat_natCast, Nat.reduceAdd, Int.reduceAdd, Int.reduceSub, Int.reduceMul, Int.reduceNeg, Int.reduceToNat, zl_aa, k2', hf2, zc_add]
    rw [e1]
    congr 4
    omega
theorem sp_fCopy {E : zE} {b ob m : Nat} {F : Nat → Nat → Bool} {f : Nat → Option zO} (hE : E 0 ≤ b) (hb : f b = some (.inr (32, [.null]))) (ho : rFacts f ob F) (hob : ob + 18 ≤ b) : ∃ f', s_X4_init_2 E (some b) (some ob) (b + 1, m, f) = some (.inl none, (b + 18, m + 48, f')) ∧ zX b f f' ∧ rFacts f' b F := by
  generalize hf1 : zUp (zUp f (b + 1) (.inl (6, 8, zAr0R))) b (.inr (32, [.ref (b + 1)])) = f1
  have hf1' : ∀ q, q < b → f1 q = f q := fun q hq => by rw [← hf1, zl_up2 (by omega), zl_up2 (by omega)]
  obtain ⟨f', e1, e2, e3⟩ := sp_fCopy_l (E := E) (b := b) hE (f0 := f1) (ho.mv fun q _ _ => hf1' q (by omega)) hob 8 0 zN (m + 8) f1 (by omega) (by unfold zN; omega) (fun _ _ => rfl) ⟨by rw [← hf1, zl_up1 rfl], ⟨_, by rw [← hf1, zl_up2 (by omega), zl_up1 rfl], fun j hj => by omega⟩, fun p hp => by omega⟩
  refine ⟨f', ?_, fun q hq => (e2 q hq).trans (hf1' q hq), e3⟩
  unfold s_X4_init_2
  simp (disch := omega) only [zi_lit, zi_neg, zi_add, zi_sub, zi_mul, zi_div, zi_char, zb_eq0, zb_eq1, zb_le0, zb_or, zb_and, zb_or1, zb_or0, zb_1or, zb_0or, zb_and1, zb_and0, zb_1and, zb_0and, zb_nar, zi_nar0, zi_nar1, zl_ite, zl_ret, zl_retb, zl_retb1, zl_retb0, zl_retc, zl_ki, zl_kr, zl_kr0, zl_krf, zl_kl, zl_kf, zl_kd, zl_kv, zl_rf, zl_rf0, zl_valI, zl_valP, zl_valL, zl_get, zl_getI, zl_getR, zl_get0, zl_getr, zl_fk, zl_set, zl_setk, zl_setNb, zl_setN1, zl_setN0, zl_up1, zl_up2, zl_new, zl_newA, zl_len, zl_lenk, zl_ga, zl_gaI, zl_gaL, zl_gaD, zl_gaR, zl_sa, zl_saI, zl_saL, zl_saD, zl_saR, zl_ck, zl_ok, zl_ok0, zl_csS, zl_csS0, zl_csk, zl_tk, zl_csA, zl_isS0, zl_c, zl_cv, zl_cx, zl_sp, zl_rv, zl_rvk, zl_rvk2, zl_div, zl_rem, zl_ath, zl_clnk, zl_clnk0, zl_cat, zl_catn, zl_l0, zl_ls, zl_s0, zl_ss, List.length_cons, List.length_nil, Nat.reduceLT, Nat.zero_add, Nat.lt_add_one, reduceCtorEq, zi_le, zi_lt, zi_eq, if_pos, if_neg, if_true, if_false, Bool.true_eq_false, Bool.false_eq_true, eq_self, Bool.not_true, Bool.not_false, Int.toNat_natCast, Nat.reduceAdd, Int.reduceAdd, Int.reduceSub, Int.reduceMul, Int.reduceNeg, Int.reduceToNat, zl_aa, hb, hf1]
  exact e1
theorem sp_fNew_l {E : zE} {b : Nat} {f0 : Nat → Option zO} (hE : E 0 ≤ b) : ∀ (d i k m : Nat) (f : Nat → Option zO), i + d = 8 → d < k → zX b f0 f → rFpart f b i (fun _ _ => false) → ∃ f', s_X4_init_15 E k (some b) (zi i) (b + 2 + 2 * i, m, f) = some (.inl none, (b + 18, m + 5 * d, f')) ∧ zX b f0 f' ∧ rFpart f' b 8 (fun _ _ => false) := by
  intro d
  induction d with
  | zero =>
    intro i k m f hi hk hX hp
    obtain ⟨k, rfl⟩ : ∃ k', k = k' + 1 := ⟨k - 1, by omega⟩
    obtain rfl : i = 8 := by omega
    refine ⟨f, ?_, hX, hp⟩
    rw [s_X4_init_15]
    simp (disch := omega) only [zi_lit, zi_neg, zi_add, zi_sub, zi_mul, zi_div, zi_char, zb_eq0, zb_eq1, zb_le0, zb_or, zb_and, zb_or1, zb_or0, zb_1or, zb_0or, zb_and1, zb_and0, zb_1and, zb_0and, zb_nar, zi_nar0, zi_nar1, zl_ite, zl_ret, zl_retb, zl_retb1, zl_retb0, zl_retc, zl_ki, zl_kr, zl_kr0, zl_krf, zl_kl, zl_kf, zl_kd, zl_kv, zl_rf, zl_rf0, zl_valI, zl_valP, zl_valL, zl_get, zl_getI, zl_getR, zl_get0, zl_getr, zl_fk, zl_set, zl_setk, zl_setNb, zl_setN1, zl_setN0, zl_up1, zl_up2, zl_new, zl_newA, zl_len, zl_lenk, zl_ga, zl_gaI, zl_gaL, zl_gaD, zl_gaR, zl_sa, zl_saI, zl_saL, zl_saD, zl_saR, zl_ck, zl_ok, zl_ok0, zl_csS, zl_csS0, zl_csk, zl_tk, zl_csA, zl_isS0, zl_c, zl_cv, zl_cx, zl_sp, zl_rv, zl_rvk, zl_rvk2, zl_div, zl_rem, zl_ath, zl_clnk, zl_clnk0, zl_cat, zl_catn, zl_l0, zl_ls, zl_s0, zl_ss, List.length_cons, List.length_nil, Nat.reduceLT, Nat.zero_add, Nat.lt_add_one, reduceCtorEq, zi_le, zi_lt, zi_eq, if_pos, if_neg, if_true, if_false, Bool.true_eq_false, Bool.false_eq_true, eq_self, Bool.not_true, Bool.not_false, Int.toNat_natCast, Nat.reduceAdd, Int.reduceAdd, Int.reduceSub, Int.reduceMul, Int.reduceNeg, Int.reduceToNat, zl_aa]
    rfl
  | succ d ih =>
    intro i k m f hi hk hX hp
    obtain ⟨k, rfl⟩ : ∃ k', k = k' + 1 := ⟨k - 1, by omega⟩
    have hp' := hp
    obtain ⟨k1, ⟨g, k2, k3⟩, k4⟩ := hp
    have hc := sp_cInit (E := E) (b := b + 2 + 2 * i) (n := b + 2 + 2 * i + 1) (f := zUp f (b + 2 + 2 * i) (.inr (33, [.null]))) (zl_up1 rfl) (by omega) (by omega) (m + 1)
    generalize hf1 : zUp (zUp (zUp f (b + 2 + 2 * i) (.inr (33, [.null]))) (b + 2 + 2 * i + 1) (.inl (0, 4, .inl (cw fun _ => false)))) (b + 2 + 2 * i) (.inr (33, [.ref (b + 2 + 2 * i + 1)])) = f1 at hc
    have hf1' : ∀ q, q < b + 2 + 2 * i → f1 q = f q := fun q hq => by
      rw [← hf1, zl_up2 (by omega), zl_up2 (by omega), zl_up2 (by omega)]
    have hf1a : f1 (b + 2 + 2 * i) = some (.inr (33, [.ref (b + 2 + 2 * i + 1)])) := by rw [← hf1, zl_up1 rfl]
    have hf1b : f1 (b + 2 + 2 * i + 1) = some (.inl (0, 4, .inl (cw fun _ => false))) := by rw [← hf1, zl_up2 (by omega), zl_up1 rfl]
    have k2' := (hf1' (b + 1) (by omega)).trans k2
    generalize hf2 : zUp f1 (b + 1) (.inl (6, 8, .inr (.inr (.inr (.inr (va_up g i (some (b + 2 + 2 * i)))))))) = f2
    have hf2' : ∀ q, q ≠ b + 1 → f2 q = f1 q := fun q hq => by rw [← hf2, zl_up2 hq]
    obtain ⟨f', e1, e2, e3⟩ := ih (i + 1) k (m + 5) f2 (by omega) (by omega) (fun q hq => (hf2' q (by omega)).trans ((hf1' q (by omega)).trans (hX q hq))) (hp'.step (by omega) g k2 f2 (fun q hq hq' => (hf2' q hq').trans (hf1' q hq)) (by rw [← hf2, zl_up1 rfl]) ⟨(hf2' _ (by omega)).trans hf1a, (hf2' _ (by omega)).trans hf1b⟩)
    refine ⟨f', ?_, e2, e3⟩
    rw [s_X4_init_15]
    rw [show b + 2 + 2 * (i + 1) = b + 2 + 2 * i + 2 by omega] at e1
    simp (disch := omega) only [zi_lit, zi_neg, zi_add, zi_sub, zi_mul, zi_div, zi_char, zb_eq0, zb_eq1, zb_le0, zb_or, zb_and, zb_or1, zb_or0, zb_1or, zb_0or, zb_and1, zb_and0, zb_1and, zb_0and, zb_nar, zi_nar0, zi_nar1, zl_ite, zl_ret, zl_retb, zl_retb1, zl_retb0, zl_retc, zl_ki, zl_kr, zl_kr0, zl_krf, zl_kl, zl_kf, zl_kd, zl_kv, zl_rf, zl_rf0, zl_valI, zl_valP, zl_valL, zl_get, zl_getI, zl_getR, zl_get0, zl_getr, zl_fk, zl_set, zl_setk, zl_setNb, zl_setN1, zl_setN0, zl_up1, zl_up2, zl_new, zl_newA, zl_len, zl_lenk, zl_ga, zl_gaI, zl_gaL, zl_gaD, zl_gaR, zl_sa, zl_saI, zl_saL, zl_saD, zl_saR, zl_ck, zl_ok, zl_ok0, zl_csS, zl_csS0, zl_csk, zl_tk, zl_csA, zl_isS0, zl_c, zl_cv, zl_cx, zl_sp, zl_rv, zl_rvk, zl_rvk2, zl_div, zl_rem, zl_ath, zl_clnk, zl_clnk0, zl_cat, zl_catn, zl_l0, zl_ls, zl_s0, zl_ss, List.length_cons, List.length_nil, Nat.reduceLT, Nat.zero_add, Nat.lt_add_one, reduceCtorEq, zi_le, zi_lt, zi_eq, if_pos, if_neg, if_true, if_false, Bool.true_eq_false, Bool.false_eq_true, eq_self, Bool.not_true, Bool.not_false, Int.toNat_natCast, Nat.reduceAdd, Int.reduceAdd, Int.reduceSub, Int.reduceMul, Int.reduceNeg, Int.reduceToNat, zl_aa, k1, hc]
    rw [zl_saS _ _ _ _ (by rw [hf1a]; rfl)]
    simp (disch := omega) only [zi_lit, zi_neg, zi_add, zi_sub, zi_mul, zi_div, zi_char, zb_eq0, zb_eq1, zb_le0, zb_or, zb_and, zb_or1, zb_or0, zb_1or, zb_0or, zb_and1, zb_and0, zb_1and, zb_0and, zb_nar, zi_nar0, zi_nar1, zl_ite, zl_ret, zl_retb, zl_retb1, zl_retb0, zl_retc, zl_ki, zl_kr, zl_kr0, zl_krf, zl_kl, zl_kf, zl_kd, zl_kv, zl_rf, zl_rf0, zl_valI, zl_valP, zl_valL, zl_get, zl_getI, zl_getR, zl_get0, zl_getr, zl_fk, zl_set, zl_setk, zl_setNb, zl_setN1, zl_setN0, zl_up1, zl_up2, zl_new, zl_newA, zl_len, zl_lenk, zl_ga, zl_gaI, zl_gaL, zl_gaD, zl_gaR, zl_sa, zl_saI, zl_saL, zl_saD, zl_saR, zl_ck, zl_ok, zl_ok0, zl_csS, zl_csS0, zl_csk, zl_tk, zl_csA, zl_isS0, zl_c, zl_cv, zl_cx, zl_sp, zl_rv, zl_rvk, zl_rvk2, zl_div, zl_rem, zl_ath, zl_clnk, zl_clnk0, zl_cat, zl_catn, zl_l0, zl_ls, zl_s0, zl_ss, List.length_cons, List.length_nil, Nat.reduceLT, Nat.zero_add, Nat.lt_add_one, reduceCtorEq, zi_le, zi_lt, zi_eq, if_pos, if_neg, if_true, if_false, Bool.true_eq_false, Bool.false_eq_true, eq_self, Bool.not_true, Bool.not_false, Int.toNat_natCast, Nat.reduceAdd, Int.reduceAdd, Int.reduceSub, Int.reduceMul, Int.reduceNeg, Int.reduceToNat, zl_aa, k2', hf2, zc_add]
    rw [e1]
    congr 4
    omega
theorem sp_fNew {E : zE} {b m : Nat} {f : Nat → Option zO} (hE : E 0 ≤ b) (hb : f b = some (.inr (32, [.null]))) : ∃ f', s_X4_init E (some b) (b + 1, m, f) = some (.inl none, (b + 18, m + 48, f')) ∧ zX b f f' ∧ rFacts f' b (fun _ _ => false) := by
  generalize hf1 : zUp (zUp f (b + 1) (.inl (6, 8, zAr0R))) b (.inr (32, [.ref (b + 1)])) = f1
  have hf1' : ∀ q, q < b → f1 q = f q := fun q hq => by rw [← hf1, zl_up2 (by omega), zl_up2 (by omega)]
  obtain ⟨f', e1, e2, e3⟩ := sp_fNew_l (E := E) (b := b) hE (f0 := f1) 8 0 zN (m + 8) f1 (by omega) (by unfold zN; omega) (fun _ _ => rfl) ⟨by rw [← hf1, zl_up1 rfl], ⟨_, by rw [← hf1, zl_up2 (by omega), zl_up1 rfl], fun j hj => by omega⟩, fun p hp => by omega⟩
  refine ⟨f', ?_, fun q hq => (e2 q hq).trans (hf1' q hq), e3⟩
  unfold s_X4_init
  simp (disch := omega) only [zi_lit, zi_neg, zi_add, zi_sub, zi_mul, zi_div, zi_char, zb_eq0, zb_eq1, zb_le0, zb_or, zb_and, zb_or1, zb_or0, zb_1or, zb_0or, zb_and1, zb_and0, zb_1and, zb_0and, zb_nar, zi_nar0, zi_nar1, zl_ite, zl_ret, zl_retb, zl_retb1, zl_retb0, zl_retc, zl_ki, zl_kr, zl_kr0, zl_krf, zl_kl, zl_kf, zl_kd, zl_kv, zl_rf, zl_rf0, zl_valI, zl_valP, zl_valL, zl_get, zl_getI, zl_getR, zl_get0, zl_getr, zl_fk, zl_set, zl_setk, zl_setNb, zl_setN1, zl_setN0, zl_up1, zl_up2, zl_new, zl_newA, zl_len, zl_lenk, zl_ga, zl_gaI, zl_gaL, zl_gaD, zl_gaR, zl_sa, zl_saI, zl_saL, zl_saD, zl_saR, zl_ck, zl_ok, zl_ok0, zl_csS, zl_csS0, zl_csk, zl_tk, zl_csA, zl_isS0, zl_c, zl_cv, zl_cx, zl_sp, zl_rv, zl_rvk, zl_rvk2, zl_div, zl_rem, zl_ath, zl_clnk, zl_clnk0, zl_cat, zl_catn, zl_l0, zl_ls, zl_s0, zl_ss, List.length_cons, List.length_nil, Nat.reduceLT, Nat.zero_add, Nat.lt_add_one, reduceCtorEq, zi_le, zi_lt, zi_eq, if_pos, if_neg, if_true, if_false, Bool.true_eq_false, Bool.false_eq_true, eq_self, Bool.not_true, Bool.not_false, Int.toNat_natCast, Nat.reduceAdd, Int.reduceAdd, Int.reduceSub, Int.reduceMul, Int.reduceNeg, Int.reduceToNat, zl_aa, hb, hf1]
  exact e1
/-- how many codes below a number are in A and not in B -/
def fwo (A B : Nat → Nat → Bool) (p k : Nat) : Nat := bcnt (fun c => A p c && !B p c) k
def fwos (A B : Nat → Nat → Bool) : Nat → Nat
  | 0 => 0
  | p + 1 => fwos A B p + fwo A B p 100
theorem sp_fWo_l1 {E : zE} {f : Nat → Option zO} {a b : Nat} {A B : Nat → Nat → Bool} (ha : rFacts f a A) (hb : rFacts f b B) (k4 : Option Nat → Option Nat → Int32 → Int32 → zM) {p : Nat} (hp : p < 8) (n m : Nat) : ∀ (d c k : Nat) (s : Int), c + d = 100 → d < k → s_X4_countWithout_13 E k4 k (some a) (some b) (zi s) (zi p) (zi c) (n, m, f) = k4 (some a) (some b) (zi (s + (fwo A B p 100 : Nat) - (fwo A B p c : Nat))) (zi (p + 1 : Nat)) (n, m, f) := by
  intro d
  induction d with
  | zero =>
    intro c k s hc hk
    obtain ⟨k, rfl⟩ : ∃ k', k = k' + 1 := ⟨k - 1, by omega⟩
    obtain rfl : c = 100 := by omega
    rw [s_X4_countWithout_13]
    simp (disch := omega) only [zi_lit, zi_neg, zi_add, zi_sub, zi_mul, zi_div, zi_char, zb_eq0, zb_eq1, zb_le0, zb_or, zb_and, zb_or1, zb_or0, zb_1or, zb_0or, zb_and1, zb_and0, zb_1and, zb_0and, zb_nar, zi_nar0, zi_nar1, zl_ite, zl_ret, zl_retb, zl_retb1, zl_retb0, zl_retc, zl_ki, zl_kr, zl_kr0, zl_krf, zl_kl, zl_kf, zl_kd, zl_kv, zl_rf, zl_rf0, zl_valI, zl_valP, zl_valL, zl_get, zl_getI, zl_getR, zl_get0, zl_getr, zl_fk, zl_set, zl_setk, zl_setNb, zl_setN1, zl_setN0, zl_up1, zl_up2, zl_new, zl_newA, zl_len, zl_lenk, zl_ga, zl_gaI, zl_gaL, zl_gaD, zl_gaR, zl_sa, zl_saI, zl_saL, zl_saD, zl_saR, zl_ck, zl_ok, zl_ok0, zl_csS, zl_csS0, zl_csk, zl_tk, zl_csA, zl_isS0, zl_c, zl_cv, zl_cx, zl_sp, zl_rv, zl_rvk, zl_rvk2, zl_div, zl_rem, zl_ath, zl_clnk, zl_clnk0, zl_cat, zl_catn, zl_l0, zl_ls, zl_s0, zl_ss, List.length_cons, List.length_nil, Nat.reduceLT, Nat.zero_add, Nat.lt_add_one, reduceCtorEq, zi_le, zi_lt, zi_eq, if_pos, if_neg, if_true, if_false, Bool.true_eq_false, Bool.false_eq_true, eq_self, Bool.not_true, Bool.not_false, Int.toNat_natCast, Nat.reduceAdd, Int.reduceAdd, Int.reduceSub, Int.reduceMul, Int.reduceNeg, Int.reduceToNat, zl_aa, zc_add]
    congr 2; omega
  | succ d ih =>
    intro c k s hc hk
    obtain ⟨k, rfl⟩ : ∃ k', k = k' + 1 := ⟨k - 1, by omega⟩
    have h1 := sp_fHas (E := E) ha hp (c := c) (by omega) n m
    have h2 := sp_fHas (E := E) hb hp (c := c) (by omega) n m
    have e : (fwo A B p (c + 1) : Int) = (fwo A B p c : Nat) + (if A p c && !B p c then 1 else 0 : Int) := by
      unfold fwo; rw [bcnt]; split <;> simp
    rw [s_X4_countWithout_13]
    unfold s_X4_countWithout_45 s_X4_countWithout_46
    cases hA : A p c <;> cases hB : B p c <;> rw [hA, hB] at e <;> simp (disch := omega) only [zi_lit, zi_neg, zi_add, zi_sub, zi_mul, zi_div, zi_char, zb_eq0, zb_eq1, zb_le0, zb_or, zb_and, zb_or1, zb_or0, zb_1or, zb_0or, zb_and1, zb_and0, zb_1and, zb_0and, zb_nar, zi_nar0, zi_nar1, zl_ite, zl_ret, zl_retb, zl_retb1, zl_retb0, zl_retc, zl_ki, zl_kr, zl_kr0, zl_krf, zl_kl, zl_kf, zl_kd, zl_kv, zl_rf, zl_rf0, zl_valI, zl_valP, zl_valL, zl_get, zl_getI, zl_getR, zl_get0, zl_getr, zl_fk, zl_set, zl_setk, zl_setNb, zl_setN1, zl_setN0, zl_up1, zl_up2, zl_new, zl_newA, zl_len, zl_lenk, zl_ga, zl_gaI, zl_gaL, zl_gaD, zl_gaR, zl_sa, zl_saI, zl_saL, zl_saD, zl_saR, zl_ck, zl_ok, zl_ok0, zl_csS, zl_csS0, zl_csk, zl_tk, zl_csA, zl_isS0, zl_c, zl_cv, zl_cx, zl_sp, zl_rv, zl_rvk, zl_rvk2, zl_div, zl_rem, zl_ath, zl_clnk, zl_clnk0, zl_cat, zl_catn, zl_l0, zl_ls, zl_s0, zl_ss, List.length_cons, List.length_nil, Nat.reduceLT, Nat.zero_add, Nat.lt_add_one, reduceCtorEq, zi_le, zi_lt, zi_eq, if_pos, if_neg, if_true, if_false, Bool.true_eq_false, Bool.false_eq_true, eq_self, Bool.not_true, Bool.not_false, Int.toNat_natCast, Nat.reduceAdd, Int.reduceAdd, Int.reduceSub, Int.reduceMul, Int.reduceNeg, Int.reduceToNat, zl_aa, ha.ck, hb.ck, h1, h2, hA, hB, zc_add] <;> rw [ih (c + 1) k _ (by omega) (by omega)] <;> congr 2 <;> simp at e <;> omega
theorem sp_fWo_l {E : zE} {f : Nat → Option zO} {a b : Nat} {A B : Nat → Nat → Bool} (ha : rFacts f a A) (hb : rFacts f b B) (n m : Nat) : ∀ (d p k : Nat) (s : Int), p + d = 8 → d < k → s_X4_countWithout_4 E k (some a) (some b) (zi s) (zi p) (n, m, f) = some (.inl (some (.int (zi (s + (fwos A B 8 : Nat) - (fwos A B p : Nat))))), (n, m, f)) := by
  intro d
  induction d with
  | zero =>
    intro p k s hp hk
    obtain ⟨k, rfl⟩ : ∃ k', k = k' + 1 := ⟨k - 1, by omega⟩
    obtain rfl : p = 8 := by omega
    rw [s_X4_countWithout_4]
    simp (disch := omega) only [zi_lit, zi_neg, zi_add, zi_sub, zi_mul, zi_div, zi_char, zb_eq0, zb_eq1, zb_le0, zb_or, zb_and, zb_or1, zb_or0, zb_1or, zb_0or, zb_and1, zb_and0, zb_1and, zb_0and, zb_nar, zi_nar0, zi_nar1, zl_ite, zl_ret, zl_retb, zl_retb1, zl_retb0, zl_retc, zl_ki, zl_kr, zl_kr0, zl_krf, zl_kl, zl_kf, zl_kd, zl_kv, zl_rf, zl_rf0, zl_valI, zl_valP, zl_valL, zl_get, zl_getI, zl_getR, zl_get0, zl_getr, zl_fk, zl_set, zl_setk, zl_setNb, zl_setN1, zl_setN0, zl_up1, zl_up2, zl_new, zl_newA, zl_len, zl_lenk, zl_ga, zl_gaI, zl_gaL, zl_gaD, zl_gaR, zl_sa, zl_saI, zl_saL, zl_saD, zl_saR, zl_ck, zl_ok, zl_ok0, zl_csS, zl_csS0, zl_csk, zl_tk, zl_csA, zl_isS0, zl_c, zl_cv, zl_cx, zl_sp, zl_rv, zl_rvk, zl_rvk2, zl_div, zl_rem, zl_ath, zl_clnk, zl_clnk0, zl_cat, zl_catn, zl_l0, zl_ls, zl_s0, zl_ss, List.length_cons, List.length_nil, Nat.reduceLT, Nat.zero_add, Nat.lt_add_one, reduceCtorEq, zi_le, zi_lt, zi_eq, if_pos, if_neg, if_true, if_false, Bool.true_eq_false, Bool.false_eq_true, eq_self, Bool.not_true, Bool.not_false, Int.toNat_natCast, Nat.reduceAdd, Int.reduceAdd, Int.reduceSub, Int.reduceMul, Int.reduceNeg, Int.reduceToNat, zl_aa]
    congr 6; omega
  | succ d ih =>
    intro p k s hp hk
    obtain ⟨k, rfl⟩ : ∃ k', k = k' + 1 := ⟨k - 1, by omega⟩
    rw [s_X4_countWithout_4]
    have := sp_fWo_l1 (E := E) ha hb (s_X4_countWithout_4 E k) (p := p) (by omega) n m 100 0 zN s (by omega) (by unfold zN; omega)
    rw [show ((0 : Nat) : Int) = 0 from rfl] at this
    simp (disch := omega) only [zi_lit, zi_neg, zi_add, zi_sub, zi_mul, zi_div, zi_char, zb_eq0, zb_eq1, zb_le0, zb_or, zb_and, zb_or1, zb_or0, zb_1or, zb_0or, zb_and1, zb_and0, zb_1and, zb_0and, zb_nar, zi_nar0, zi_nar1, zl_ite, zl_ret, zl_retb, zl_retb1, zl_retb0, zl_retc, zl_ki, zl_kr, zl_kr0, zl_krf, zl_kl, zl_kf, zl_kd, zl_kv, zl_rf, zl_rf0, zl_valI, zl_valP, zl_valL, zl_get, zl_getI, zl_getR, zl_get0, zl_getr, zl_fk, zl_set, zl_setk, zl_setNb, zl_setN1, zl_setN0, zl_up1, zl_up2, zl_new, zl_newA, zl_len, zl_lenk, zl_ga, zl_gaI, zl_gaL, zl_gaD, zl_gaR, zl_sa, zl_saI, zl_saL, zl_saD, zl_saR, zl_ck, zl_ok, zl_ok0, zl_csS, zl_csS0, zl_csk, zl_tk, zl_csA, zl_isS0, zl_c, zl_cv, zl_cx, zl_sp, zl_rv, zl_rvk, zl_rvk2, zl_div, zl_rem, zl_ath, zl_clnk, zl_clnk0, zl_cat, zl_catn, zl_l0, zl_ls, zl_s0, zl_ss, List.length_cons, List.length_nil, Nat.reduceLT, Nat.zero_add, Nat.lt_add_one, reduceCtorEq, zi_le, zi_lt, zi_eq, if_pos, if_neg, if_true, if_false, Bool.true_eq_false, Bool.false_eq_true, eq_self, Bool.not_true, Bool.not_false, Int.toNat_natCast, Nat.reduceAdd, Int.reduceAdd, Int.reduceSub, Int.reduceMul, Int.reduceNeg, Int.reduceToNat, zl_aa]
    rw [this, ih (p + 1) k _ (by omega) (by omega)]
    rw [show fwos A B (p + 1) = fwos A B p + fwo A B p 100 from rfl, show fwo A B p 0 = 0 from rfl]
    congr 6; omega
theorem sp_fWo {E : zE} {f : Nat → Option zO} {a b : Nat} {A B : Nat → Nat → Bool} (ha : rFacts f a A) (hb : rFacts f b B) (n m : Nat) : s_X4_countWithout E (some a) (some b) (n, m, f) = some (.inl (some (.int (zi (fwos A B 8 : Nat)))), (n, m, f)) := by
  have := sp_fWo_l (E := E) ha hb n m 8 0 zN 0 (by omega) (by unfold zN; omega)
  rw [show ((0 : Nat) : Int) = 0 from rfl] at this
  unfold s_X4_countWithout
  simp (disch := omega) only [zi_lit, zi_neg, zi_add, zi_sub, zi_mul, zi_div, zi_char, zb_eq0, zb_eq1, zb_le0, zb_or, zb_and, zb_or1, zb_or0, zb_1or, zb_0or, zb_and1, zb_and0, zb_1and, zb_0and, zb_nar, zi_nar0, zi_nar1, zl_ite, zl_ret, zl_retb, zl_retb1, zl_retb0, zl_retc, zl_ki, zl_kr, zl_kr0, zl_krf, zl_kl, zl_kf, zl_kd, zl_kv, zl_rf, zl_rf0, zl_valI, zl_valP, zl_valL, zl_get, zl_getI, zl_getR, zl_get0, zl_getr, zl_fk, zl_set, zl_setk, zl_setNb, zl_setN1, zl_setN0, zl_up1, zl_up2, zl_new, zl_newA, zl_len, zl_lenk, zl_ga, zl_gaI, zl_gaL, zl_gaD, zl_gaR, zl_sa, zl_saI, zl_saL, zl_saD, zl_saR, zl_ck, zl_ok, zl_ok0, zl_csS, zl_csS0, zl_csk, zl_tk, zl_csA, zl_isS0, zl_c, zl_cv, zl_cx, zl_sp, zl_rv, zl_rvk, zl_rvk2, zl_div, zl_rem, zl_ath, zl_clnk, zl_clnk0, zl_cat, zl_catn, zl_l0, zl_ls, zl_s0, zl_ss, List.length_cons, List.length_nil, Nat.reduceLT, Nat.zero_add, Nat.lt_add_one, reduceCtorEq, zi_le, zi_lt, zi_eq, if_pos, if_neg, if_true, if_false, Bool.true_eq_false, Bool.false_eq_true, eq_self, Bool.not_true, Bool.not_false, Int.toNat_natCast, Nat.reduceAdd, Int.reduceAdd, Int.reduceSub, Int.reduceMul, Int.reduceNeg, Int.reduceToNat, zl_aa]
  rw [this, show fwos A B 0 = 0 from rfl]
  congr 6; omega
