set_option maxRecDepth 20000
/-! ===== plain law: a loop over a list ===== -/
def rIt (E : zE) (f : Nat → Option zO) (t lo hi b : Nat) (xs : List Nat) (i : Nat) : Prop := lo ≤ b ∧ b < hi ∧ ∃ ar cap md, rList E f b ar cap md xs ∧ ar ≠ b ∧ (ar = E 5 ∨ lo ≤ ar ∧ ar < hi) ∧ rItr f t b md i
theorem rIt.mv {E : zE} {f f' : Nat → Option zO} {t lo hi b i : Nat} {xs : List Nat} (h : rIt E f t lo hi b xs i) (ht : f' t = f t) (h5 : f' (E 5) = f (E 5)) (hf : ∀ q, lo ≤ q → q < hi → f' q = f q) : rIt E f' t lo hi b xs i := by
  obtain ⟨h1, h2, ar, cap, md, h3, h4, h6, h7⟩ := h
  refine ⟨h1, h2, ar, cap, md, h3.mv (hf b h1 h2) ?_, h4, h6, h7.mv ht⟩
  rcases h6 with rfl | h6
  · exact h5
  · exact hf ar h6.1 h6.2
theorem rIt.ck {E : zE} {f : Nat → Option zO} {t lo hi b i : Nat} {xs : List Nat} (h : rIt E f t lo hi b xs i) : zCk (f t) = some 11 := by
  obtain ⟨h1, h2, ar, cap, md, h3, h4, h6, h7⟩ := h; exact h7.ck
theorem rIt.list {E : zE} {f : Nat → Option zO} {t lo hi b i : Nat} {xs : List Nat} (h : rIt E f t lo hi b xs i) : rListB E f lo hi b xs := by
  obtain ⟨h1, h2, ar, cap, md, h3, h4, h6, h7⟩ := h; exact ⟨h1, h2, ar, cap, md, h3, h4, h6⟩
theorem rIt.has {E : zE} {f : Nat → Option zO} {t lo hi b i : Nat} {xs : List Nat} (h : rIt E f t lo hi b xs i) (hi : i < xs.length) (n m : Nat) : s_J22_hasNext E (some t) (n, m, f) = some (.inl (some (.int (zb true))), (n, m, f)) := by
  obtain ⟨h1, h2, ar, cap, md, h3, h4, h6, h7⟩ := h
  rw [sp_iHas h3 h7 (Nat.le_of_lt hi), decide_eq_true hi]
theorem rIt.no {E : zE} {f : Nat → Option zO} {t lo hi b : Nat} {xs : List Nat} (h : rIt E f t lo hi b xs xs.length) (n m : Nat) : s_J22_hasNext E (some t) (n, m, f) = some (.inl (some (.int (zb false))), (n, m, f)) := by
  obtain ⟨h1, h2, ar, cap, md, h3, h4, h6, h7⟩ := h
  rw [sp_iHas h3 h7 (Nat.le_refl _), decide_eq_false (Nat.lt_irrefl _)]
theorem rIt.next {E : zE} {f : Nat → Option zO} {t lo hi b i x : Nat} {xs : List Nat} (h : rIt E f t lo hi b xs i) (hx : xs[i]? = some x) (hE : E 0 ≤ t) (ht : hi ≤ t) (h5 : E 5 < E 0) : ∃ f2, (∀ n m, s_J22_next E (some t) (n, m, f) = some (.inl (some (.ref x)), (n, m, f2))) ∧ rIt E f2 t lo hi b xs (i + 1) ∧ ∀ q, q ≠ t → f2 q = f q := by
  obtain ⟨h1, h2, ar, cap, md, h3, h4, h6, h7⟩ := h
  have hat : ar ≠ t := by rcases h6 with h6 | h6 <;> omega
  have hf2 : ∀ q, q ≠ t → zUp f t (.inr (11, [.int (zi (i + 1 : Nat)), .int (zi i), .int (zi md), .ref b])) q = f q := fun q hq => zl_up2 hq
  exact ⟨_, fun n m => sp_iNext h3 h7 hx hE (by omega) hat n m, ⟨h1, h2, ar, cap, md, h3.mv (hf2 b (by omega)) (hf2 ar hat), h4, h6, _, zl_up1 rfl⟩, hf2⟩
theorem sp_iter {E : zE} {f : Nat → Option zO} {lo hi b n : Nat} {xs : List Nat} (h : rListB E f lo hi b xs) (hE : E 0 ≤ n) (hn : hi ≤ n) (h5 : E 5 < E 0) (m : Nat) : ∃ f1, s_J2_iterator E (some b) (n, m, f) = some (.inl (some (.ref n)), (n + 1, m + 4, f1)) ∧ rIt E f1 n lo hi b xs 0 ∧ ∀ q, q ≠ n → f1 q = f q := by
  obtain ⟨h1, h2, ar, cap, md, h3, h4, h6⟩ := h
  have hat : ar ≠ n := by rcases h6 with h6 | h6 <;> omega
  have hf2 : ∀ q, q ≠ n → zUp f n (.inr (11, [.int (zi 0), .int (zi (-1)), .int (zi md), .ref b])) q = f q := fun q hq => zl_up2 hq
  exact ⟨_, sp_lIter h3 hE (by omega) m, ⟨h1, h2, ar, cap, md, h3.mv (hf2 b (by omega)) (hf2 ar hat), h4, h6, zi (-1), by rw [zl_up1 rfl]; rfl⟩, hf2⟩
/-! ===== plain law: Needs ===== -/
def rMat (f : Nat → Option zO) (a : Nat) (N : Nat → Nat → Bool) : Prop := (∃ g : Nat → Option Nat, f a = some (.inl (8, 8, .inr (.inr (.inr (.inr g))))) ∧ ∀ i, i < 8 → g i = some (a + 1 + i)) ∧ ∀ i, i < 8 → ∃ w : Nat → Int32, f (a + 1 + i) = some (.inl (2, 8, .inl w)) ∧ ∀ j, j < 8 → w j = zb (N i j)
theorem rMat.mv {f f' : Nat → Option zO} {a : Nat} {N : Nat → Nat → Bool} (h : rMat f a N) (hf : ∀ q, a ≤ q → q < a + 9 → f' q = f q) : rMat f' a N := by
  obtain ⟨⟨g, h1, h2⟩, h3⟩ := h
  refine ⟨⟨g, (hf a (by omega) (by omega)).trans h1, h2⟩, fun i hi => ?_⟩
  obtain ⟨w, h4, h5⟩ := h3 i hi
  exact ⟨w, (hf _ (by omega) (by omega)).trans h4, h5⟩
theorem rMat.set {f : Nat → Option zO} {a : Nat} {N : Nat → Nat → Bool} (h : rMat f a N) {i j : Nat} (hi : i < 8) (hj : j < 8) (v : Bool) {w : Nat → Int32} (hw : f (a + 1 + i) = some (.inl (2, 8, .inl w))) : rMat (zUp f (a + 1 + i) (.inl (2, 8, .inl (upd w j (zb v))))) a (fset N i j v) := by
  obtain ⟨⟨g, h1, h2⟩, h3⟩ := h
  refine ⟨⟨g, (zl_up2 (by omega)).trans h1, h2⟩, fun i' hi' => ?_⟩
  obtain ⟨w', h4, h5⟩ := h3 i' hi'
  by_cases hii : i' = i
  · subst hii
    refine ⟨_, zl_up1 rfl, fun j' hj' => ?_⟩
    rw [hw] at h4
    injection h4 with h4; injection h4 with h4; injection h4 with _ h4; injection h4 with _ h4; injection h4 with h4
    subst h4
    unfold fset bset
    rw [zl_updE, if_pos rfl]
    by_cases hjj : j' = j
    · rw [if_pos hjj, if_pos hjj]
    · rw [if_neg hjj, if_neg hjj]; exact h5 j' hj'
  · refine ⟨w', (zl_up2 (by omega)).trans h4, fun j' hj' => ?_⟩
    unfold fset
    rw [if_neg hii]; exact h5 j' hj'
def rNeeds (f : Nat → Option zO) (b : Nat) (N M : Nat → Nat → Bool) : Prop := f b = some (.inr (35, [.ref (b + 1), .ref (b + 10)])) ∧ rMat f (b + 1) N ∧ rMat f (b + 10) M
theorem rNeeds.ck {f : Nat → Option zO} {b : Nat} {N M : Nat → Nat → Bool} (h : rNeeds f b N M) : zCk (f b) = some 35 := by rw [h.1]; rfl
theorem rNeeds.mv {f f' : Nat → Option zO} {b : Nat} {N M : Nat → Nat → Bool} (h : rNeeds f b N M) (hf : ∀ q, b ≤ q → q < b + 19 → f' q = f q) : rNeeds f' b N M :=
  ⟨(hf b (by omega) (by omega)).trans h.1, h.2.1.mv fun q _ _ => hf q (by omega) (by omega), h.2.2.mv fun q _ _ => hf q (by omega) (by omega)⟩
/-- needs by a literal of a rule with this head -/
def ndA (N : Nat → Nat → Bool) (h : Nat) (L : zLit) : Nat → Nat → Bool := if L.1 < 2 then fset N h L.2.1 true else N
def ngA (M : Nat → Nat → Bool) (h : Nat) (L : zLit) : Nat → Nat → Bool := if L.1 < 2 then fset M h L.2.1 (M h L.2.1 || decide (L.1 = 1)) else M
theorem sp_nAdd {E : zE} {f : Nat → Option zO} {b lo hi lb h n : Nat} {N M : Nat → Nat → Bool} {L : zLit} (hN : rNeeds f b N M) (hL : rLit f lo hi lb L) (hc : zC1 E f) (hh : h < 8) (hE : E 0 ≤ b) (hbn : b + 19 ≤ n) (hhi : hi ≤ b) (m : Nat) : ∃ (n' m' : Nat) (f' : Nat → Option zO), s_X7_add E (some b) (zi h) (some lb) (n, m, f) = some (.inl none, (n', m', f')) ∧ n ≤ n' ∧ n' ≤ n + 2 ∧ m ≤ m' ∧ m' ≤ m + 2 ∧ rNeeds f' b (ndA N h L) (ngA M h L) ∧ ∀ q, q < n → (q < b ∨ b + 19 ≤ q) → f' q = f q := by
  have hk := hL.ck
  have hNk := hN.ck
  obtain ⟨hN0, hN1, hN2⟩ := hN
  obtain ⟨l1, l2, ⟨o1, o2, o3, o4⟩, l4, l5⟩ := hL
  by_cases hl : L.1 < 2
  · rw [if_pos hl] at hk
    obtain ⟨a, a1, a2', a3, a4⟩ := l4 hl
    obtain ⟨⟨g1, g2, g3⟩, g4⟩ := hN1
    obtain ⟨⟨k1, k2, k3⟩, k4⟩ := hN2
    obtain ⟨w, w1, w2⟩ := g4 h hh
    obtain ⟨v, v1, v2⟩ := k4 h hh
    have hN1 : rMat f (b + 1) N := ⟨⟨g1, g2, g3⟩, g4⟩
    have hN2 : rMat f (b + 10) M := ⟨⟨k1, k2, k3⟩, k4⟩
    generalize hf1 : zUp f n (.inr (12, [.ref a])) = f1
    have hf1' : ∀ q, q ≠ n → f1 q = f q := fun q hq => by rw [← hf1, zl_up2 hq]
    generalize hf2 : zUp f1 (b + 1 + 1 + h) (.inl (2, 8, .inl (upd w L.2.1 (zb true)))) = f2
    have hf2' : ∀ q, q ≠ b + 1 + 1 + h → f2 q = f1 q := fun q hq => by rw [← hf2, zl_up2 hq]
    generalize hf3 : zUp f2 (n + 1) (.inr (12, [.ref a])) = f3
    have hf3' : ∀ q, q ≠ n + 1 → f3 q = f2 q := fun q hq => by rw [← hf3, zl_up2 hq]
    have q1 : f1 n = some (.inr (12, [.ref a])) := by rw [← hf1, zl_up1 rfl]
    have q2 : f3 (n + 1) = some (.inr (12, [.ref a])) := by rw [← hf3, zl_up1 rfl]
    have eb1 := (hf1' b (by omega)).trans hN0
    have eg1 := (hf1' (b + 1) (by omega)).trans g2
    have ew1 := (hf1' (b + 1 + 1 + h) (by omega)).trans w1
    have ea1 := (hf1' a (by omega)).trans a4.1
    have eq2 := (hf2' n (by omega)).trans q1
    have eb2 := (hf2' b (by omega)).trans eb1
    have ek2 := (hf2' (b + 10) (by omega)).trans ((hf1' (b + 10) (by omega)).trans k2)
    have ea2 := (hf2' a (by omega)).trans ea1
    have el2 := (hf2' lb (by omega)).trans ((hf1' lb (by omega)).trans a3)
    have ev2 := (hf2' (b + 10 + 1 + h) (by omega)).trans ((hf1' (b + 10 + 1 + h) (by omega)).trans v1)
    have el3 := (hf3' lb (by omega)).trans el2
    have ev3 := (hf3' (b + 10 + 1 + h) (by omega)).trans ev2
    have opt1 := sp_optOf (E := E) (f := f) (a := a) (n := n) (by omega) m
    rw [hf1] at opt1
    have opt2 := sp_optOf (E := E) (f := f2) (a := a) (n := n + 1) (by omega) (m + 1)
    rw [hf3] at opt2
    have hm1 : rMat f2 (b + 1) (fset N h L.2.1 true) := by rw [← hf2]; exact (hN1.mv fun q _ _ => hf1' q (by omega)).set hh o2 true ew1
    have neg : s_X26_isNegative E (some lb) (n + 1, m + 1, f2) = some (.inl (some (.int (zb (decide (L.1 = 1))))), (n + 2, m + 2, f3)) := by
      unfold s_X26_isNegative s_X23_atom s_X23_isPositive
      have hk2 : zCk (f2 lb) = some 29 := by rw [el2]; rfl
      have hk3 : zCk (f3 lb) = some 29 := by rw [el3]; rfl
      have hcase : L.1 = 0 ∨ L.1 = 1 := by omega
      have hk3' : zCk (f3 (n + 1)) = some 12 := by rw [q2]; rfl
      rcases hcase with h0 | h0 <;> rw [h0] at el2 el3 <;> simp (disch := omega) only [zi_lit, zi_neg, zi_add, zi_sub, zi_mul, zi_div, zi_char, zb_eq0, zb_eq1, zb_le0, zb_or, zb_and, zb_or1, zb_or0, zb_1or, zb_0or, zb_and1, zb_and0, zb_1and, zb_0and, zb_nar, zi_nar0, zi_nar1, zl_ite, zl_ret, zl_retb, zl_retb1, zl_retb0, zl_retc, zl_ki, zl_kr, zl_kr0, zl_krf, zl_kl, zl_kf, zl_kd, zl_kv, zl_rf, zl_rf0, zl_valI, zl_valP, zl_valL, zl_get, zl_getI, zl_getR, zl_get0, zl_getr, zl_fk, zl_set, zl_setk, zl_setNb, zl_setN1, zl_setN0, zl_up1, zl_up2, zl_new, zl_newA, zl_len, zl_lenk, zl_ga, zl_gaI, zl_gaL, zl_gaD, zl_gaR, zl_sa, zl_saI, zl_saL, zl_saD, zl_saR, zl_ck, zl_ok, zl_ok0, zl_csS, zl_csS0, zl_csk, zl_tk, zl_csA, zl_isS0, zl_c, zl_cv, zl_cx, zl_sp, zl_rv, zl_rvk, zl_rvk2, zl_div, zl_rem, zl_ath, zl_clnk, zl_clnk0, zl_cat, zl_catn, zl_l0, zl_ls, zl_s0, zl_ss, List.length_cons, List.length_nil, Nat.reduceLT, Nat.zero_add, Nat.lt_add_one, reduceCtorEq, zi_le, zi_lt, zi_eq, if_pos, if_neg, if_true, if_false, Bool.true_eq_false, Bool.false_eq_true, eq_self, Bool.not_true, Bool.not_false, Int.toNat_natCast, Nat.reduceAdd, Int.reduceAdd, Int.reduceSub, Int.reduceMul, Int.reduceNeg, Int.reduceToNat, zl_aa, hk2, hk3, el2, el3, opt2, hk3', sp_optIs (E := E) q2, h0, decide_true] <;> rfl
    refine ⟨n + 2, m + 2, zUp f3 (b + 10 + 1 + h) (.inl (2, 8, .inl (upd v L.2.1 (zb (M h L.2.1 || decide (L.1 = 1)))))), ?_, by omega, by omega, by omega, by omega, ⟨?_, ?_, ?_⟩, fun q hq hq' => ?_⟩
    · unfold s_X7_add s_X23_atom
      have hk2 : zCk (f2 lb) = some 29 := by rw [el2]; rfl
      have hq1 : zCk (f1 n) = some 12 := by rw [q1]; rfl
      have hq2 : zCk (f2 n) = some 12 := by rw [eq2]; rfl
      have ea1' : zCk (f1 a) = some 37 := by rw [ea1]; rfl
      have ea2' : zCk (f2 a) = some 37 := by rw [ea2]; rfl
      rw [zl_c, zl_rv, hk, zl_rvk]
      simp (disch := omega) only [zi_lit, zi_neg, zi_add, zi_sub, zi_mul, zi_div, zi_char, zb_eq0, zb_eq1, zb_le0, zb_or, zb_and, zb_or1, zb_or0, zb_1or, zb_0or, zb_and1, zb_and0, zb_1and, zb_0and, zb_nar, zi_nar0, zi_nar1, zl_ite, zl_ret, zl_retb, zl_retb1, zl_retb0, zl_retc, zl_ki, zl_kr, zl_kr0, zl_krf, zl_kl, zl_kf, zl_kd, zl_kv, zl_rf, zl_rf0, zl_valI, zl_valP, zl_valL, zl_get, zl_getI, zl_getR, zl_get0, zl_getr, zl_fk, zl_set, zl_setk, zl_setNb, zl_setN1, zl_setN0, zl_up1, zl_up2, zl_new, zl_newA, zl_len, zl_lenk, zl_ga, zl_gaI, zl_gaL, zl_gaD, zl_gaR, zl_sa, zl_saI, zl_saL, zl_saD, zl_saR, zl_ck, zl_ok, zl_ok0, zl_csS, zl_csS0, zl_csk, zl_tk, zl_csA, zl_isS0, zl_c, zl_cv, zl_cx, zl_sp, zl_rv, zl_rvk, zl_rvk2, zl_div, zl_rem, zl_ath, zl_clnk, zl_clnk0, zl_cat, zl_catn, zl_l0, zl_ls, zl_s0, zl_ss, List.length_cons, List.length_nil, Nat.reduceLT, Nat.zero_add, Nat.lt_add_one, reduceCtorEq, zi_le, zi_lt, zi_eq, if_pos, if_neg, if_true, if_false, Bool.true_eq_false, Bool.false_eq_true, eq_self, Bool.not_true, Bool.not_false, Int.toNat_natCast, Nat.reduceAdd, Int.reduceAdd, Int.reduceSub, Int.reduceMul, Int.reduceNeg, Int.reduceToNat, zl_aa, a3, opt1, hq1, sp_optIs (E := E) q1, eb1, eg1, g3 h hh, sp_optGet (E := E) q1, ea1', ea1, ew1, hf2]
      simp (disch := omega) only [zi_lit, zi_neg, zi_add, zi_sub, zi_mul, zi_div, zi_char, zb_eq0, zb_eq1, zb_le0, zb_or, zb_and, zb_or1, zb_or0, zb_1or, zb_0or, zb_and1, zb_and0, zb_1and, zb_0and, zb_nar, zi_nar0, zi_nar1, zl_ite, zl_ret, zl_retb, zl_retb1, zl_retb0, zl_retc, zl_ki, zl_kr, zl_kr0, zl_krf, zl_kl, zl_kf, zl_kd, zl_kv, zl_rf, zl_rf0, zl_valI, zl_valP, zl_valL, zl_get, zl_getI, zl_getR, zl_get0, zl_getr, zl_fk, zl_set, zl_setk, zl_setNb, zl_setN1, zl_setN0, zl_up1, zl_up2, zl_new, zl_newA, zl_len, zl_lenk, zl_ga, zl_gaI, zl_gaL, zl_gaD, zl_gaR, zl_sa, zl_saI, zl_saL, zl_saD, zl_saR, zl_ck, zl_ok, zl_ok0, zl_csS, zl_csS0, zl_csk, zl_tk, zl_csA, zl_isS0, zl_c, zl_cv, zl_cx, zl_sp, zl_rv, zl_rvk, zl_rvk2, zl_div, zl_rem, zl_ath, zl_clnk, zl_clnk0, zl_cat, zl_catn, zl_l0, zl_ls, zl_s0, zl_ss, List.length_cons, List.length_nil, Nat.reduceLT, Nat.zero_add, Nat.lt_add_one, reduceCtorEq, zi_le, zi_lt, zi_eq, if_pos, if_neg, if_true, if_false, Bool.true_eq_false, Bool.false_eq_true, eq_self, Bool.not_true, Bool.not_false, Int.toNat_natCast, Nat.reduceAdd, Int.reduceAdd, Int.reduceSub, Int.reduceMul, Int.reduceNeg, Int.reduceToNat, zl_aa, eb2, ek2, k3 h hh, hq2, sp_optGet (E := E) eq2, ea2', ea2, ev2, hk2, neg, v2 _ o2, ev3]
    · rw [zl_up2 (by omega), hf3' _ (by omega)]; exact eb2
    · unfold ndA; rw [if_pos hl]
      exact hm1.mv fun q _ _ => (zl_up2 (by omega)).trans (hf3' q (by omega))
    · unfold ngA; rw [if_pos hl]
      exact (hN2.mv fun q _ _ => (hf3' q (by omega)).trans ((hf2' q (by omega)).trans (hf1' q (by omega)))).set hh o2 _ ev3
    · rw [zl_up2 (by omega), hf3' q (by omega), hf2' q (by omega), hf1' q (by omega)]
  · rw [if_neg hl] at hk
    refine ⟨n, m, f, ?_, by omega, by omega, by omega, by omega, ?_, fun _ _ _ => rfl⟩
    · unfold s_X7_add s_X26_atom s_J23_empty
      have h7 : zCk (f (E 7)) = some 12 := by rw [hc.2.2.1]; rfl
      rw [zl_c, zl_rv, hk]
      simp (disch := omega) only [zi_lit, zi_neg, zi_add, zi_sub, zi_mul, zi_div, zi_char, zb_eq0, zb_eq1, zb_le0, zb_or, zb_and, zb_or1, zb_or0, zb_1or, zb_0or, zb_and1, zb_and0, zb_1and, zb_0and, zb_nar, zi_nar0, zi_nar1, zl_ite, zl_ret, zl_retb, zl_retb1, zl_retb0, zl_retc, zl_ki, zl_kr, zl_kr0, zl_krf, zl_kl, zl_kf, zl_kd, zl_kv, zl_rf, zl_rf0, zl_valI, zl_valP, zl_valL, zl_get, zl_getI, zl_getR, zl_get0, zl_getr, zl_fk, zl_set, zl_setk, zl_setNb, zl_setN1, zl_setN0, zl_up1, zl_up2, zl_new, zl_newA, zl_len, zl_lenk, zl_ga, zl_gaI, zl_gaL, zl_gaD, zl_gaR, zl_sa, zl_saI, zl_saL, zl_saD, zl_saR, zl_ck, zl_ok, zl_ok0, zl_csS, zl_csS0, zl_csk, zl_tk, zl_csA, zl_isS0, zl_c, zl_cv, zl_cx, zl_sp, zl_rv, zl_rvk, zl_rvk2, zl_div, zl_rem, zl_ath, zl_clnk, zl_clnk0, zl_cat, zl_catn, zl_l0, zl_ls, zl_s0, zl_ss, List.length_cons, List.length_nil, Nat.reduceLT, Nat.zero_add, Nat.lt_add_one, reduceCtorEq, zi_le, zi_lt, zi_eq, if_pos, if_neg, if_true, if_false, Bool.true_eq_false, Bool.false_eq_true, eq_self, Bool.not_true, Bool.not_false, Int.toNat_natCast, Nat.reduceAdd, Int.reduceAdd, Int.reduceSub, Int.reduceMul, Int.reduceNeg, Int.reduceToNat, zl_aa, h7, sp_optIs0 (E := E) hc.2.2.1]
    · unfold ndA ngA; rw [if_neg hl, if_neg hl]
      exact ⟨hN0, hN1, hN2⟩
