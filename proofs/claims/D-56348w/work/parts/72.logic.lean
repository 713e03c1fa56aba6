set_option maxRecDepth 20000
/-! ===== plain law: Logic.rulesOf, facts, byTrying ===== -/
theorem rLit.mono {f : Nat → Option zO} {lo hi lo' hi' b : Nat} {L : zLit} (h : rLit f lo hi b L) (h1 : lo' ≤ lo) (h2 : hi ≤ hi') : rLit f lo' hi' b L := by
  obtain ⟨a1, a2, a3, a4, a5⟩ := h
  refine ⟨by omega, by omega, a3, fun hl => ?_, a5⟩
  obtain ⟨a, b1, b2, b3, b4⟩ := a4 hl
  exact ⟨a, by omega, by omega, b3, b4⟩
theorem rListB.mono {E : zE} {f : Nat → Option zO} {lo hi lo' hi' b : Nat} {xs : List Nat} (h : rListB E f lo hi b xs) (h1 : lo' ≤ lo) (h2 : hi ≤ hi') : rListB E f lo' hi' b xs := by
  obtain ⟨a1, a2, ar, cap, md, a3, a4, a5⟩ := h
  refine ⟨by omega, by omega, ar, cap, md, a3, a4, ?_⟩
  rcases a5 with a5 | a5
  · exact Or.inl a5
  · exact Or.inr (by omega)
theorem rRule.mono {E : zE} {f : Nat → Option zO} {lo hi lo' hi' b : Nat} {R : zRule} (h : rRule E f lo hi b R) (h1 : lo' ≤ lo) (h2 : hi ≤ hi') : rRule E f lo' hi' b R := by
  obtain ⟨a1, a2, a3, ha, la, pa, ta, bs, ps, a4, a6, a7, a8, a9, a10, a11, a12⟩ := h
  exact ⟨by omega, by omega, a3, ha, la, pa, ta, bs, ps, a4, Nat.le_trans h1 a6, Nat.lt_of_lt_of_le a7 h2, a8, a9.mono h1 h2, ⟨a10.1, fun i b L c1 c2 => (a10.2 i b L c1 c2).mono h1 h2⟩, a11.mono h1 h2, a12.1, fun i b A c1 c2 => by
    obtain ⟨d1, d2, d3⟩ := a12.2 i b A c1 c2
    exact ⟨d1, by omega, by omega⟩⟩
/-- the rules of one layer -/
def rsL (rs : List zRule) (y : Nat) : List zRule := rs.filter fun R => decide (lays rs R.1.1 = y)
theorem sp_rulesOf {E : zE} {f : Nat → Option zO} {lo hi lb b n v y : Nat} {rs : List zRule} {g0 g2 g3 : Value} (hc : zC1 E f) (hb : f b = some (.inr (26, [g0, .ref lb, g2, g3]))) (hR : rRules E f lo hi lb rs) (hhi : hi ≤ n) (hbn : b < n) (hv : rLay f v (lays rs)) (hvn : v < n) (hy : y < 8) (hE : E 0 ≤ n) (m : Nat) :
    ∃ (n' m' : Nat) (f' : Nat → Option zO), s_X2_rulesOf E (some b) (zi y) (some v) (n, m, f) = some (.inl (some (.ref n)), (n', m', f')) ∧ n ≤ n' ∧ n' ≤ n + 3 ∧ m ≤ m' ∧ m' ≤ m + 17 ∧ zX n f f' ∧ ((rsL rs y = [] ∧ rListB E f' n n' n []) ∨ ∃ rb R, rs = [R] ∧ rsL rs y = [R] ∧ rRule E f lo hi rb R ∧ rListB E f' n n' n [rb]) := by
  have h5 := hc.2.2.2.1
  generalize hf0 : zUp f n (.inr (10, [.int (zi 0), .null, .int (zi 0)])) = f0
  have hini := sp_lInit (E := E) (f := f0) (b := n) (l := []) (by rw [← hf0, zl_up1 rfl]) hE (n + 1) (m + 3)
  rw [zl_upup] at hini
  generalize hf1 : zUp f0 n (.inr (10, [.int (zi 0), .ref (E 5), .int (zi 0)])) = f1 at hini
  have hf1' : ∀ q, q ≠ n → f1 q = f q := fun q hq => by rw [← hf1, zl_up2 hq, ← hf0, zl_up2 hq]
  have hf1l : rList E f1 n (E 5) 0 0 [] := by
    rw [← hf1]; exact rList.nil (hc.mv (f' := f0) fun q hq => by rw [← hf0, zl_up2 (by omega)]) hE
  have hb1 := (hf1' b (by omega)).trans hb
  have hR1 : rRules E f1 lo hi lb rs := hR.mv (hf1' _ (by omega)) fun q _ hq => hf1' q (by omega)
  have hk1 := hR1.ck
  rcases hR1 with ⟨hrs, hl⟩ | ⟨rb, R, hrs, hRr, hl⟩
  · subst hrs
    obtain ⟨f2, t1, t2, t3⟩ := sp_iter hl (n := n + 1) (by omega) (by omega) h5 (m + 3)
    refine ⟨n + 2, m + 7, f2, ?_, by omega, by omega, by omega, by omega, fun q hq => (t3 q (by omega)).trans (hf1' q (by omega)), Or.inl ⟨rfl, by omega, by omega, E 5, 0, 0, hf1l.mv (t3 n (by omega)) (t3 _ (by omega)), by omega, Or.inl rfl⟩⟩
    obtain ⟨j, hj⟩ : ∃ j, zN = j + 2 := ⟨zN - 2, by unfold zN; omega⟩
    unfold s_X2_rulesOf
    simp only [zi_lit]
    rw [zl_new, hf0]
    simp (disch := omega) only [zi_lit, zi_neg, zi_add, zi_sub, zi_mul, zi_div, zi_char, zb_eq0, zb_eq1, zb_le0, zb_or, zb_and, zb_or1, zb_or0, zb_1or, zb_0or, zb_and1, zb_and0, zb_1and, zb_0and, zb_nar, zi_nar0, zi_nar1, zl_ite, zl_ret, zl_retb, zl_retb1, zl_retb0, zl_retc, zl_ki, zl_kr, zl_kr0, zl_krf, zl_kl, zl_kf, zl_kd, zl_kv, zl_rf, zl_rf0, zl_valI, zl_valP, zl_valL, zl_get, zl_getI, zl_getR, zl_get0, zl_getr, zl_fk, zl_set, zl_setk, zl_setNb, zl_setN1, zl_setN0, zl_up1, zl_up2, zl_new, zl_newA, zl_len, zl_lenk, zl_ga, zl_gaI, zl_gaL, zl_gaD, zl_gaR, zl_sa, zl_saI, zl_saL, zl_saD, zl_saR, zl_ck, zl_ok, zl_ok0, zl_csS, zl_csS0, zl_csk, zl_tk, zl_csA, zl_isS0, zl_c, zl_cv, zl_cx, zl_sp, zl_rv, zl_rvk, zl_rvk2, zl_div, zl_rem, zl_ath, zl_clnk, zl_clnk0, zl_cat, zl_catn, zl_l0, zl_ls, zl_s0, zl_ss, List.length_cons, List.length_nil, Nat.reduceLT, Nat.zero_add, Nat.lt_add_one, reduceCtorEq, zi_le, zi_lt, zi_eq, if_pos, if_neg, if_true, if_false, Bool.true_eq_false, Bool.false_eq_true, eq_self, Bool.not_true, Bool.not_false, Int.toNat_natCast, Nat.reduceAdd, Int.reduceAdd, Int.reduceSub, Int.reduceMul, Int.reduceNeg, Int.reduceToNat, zl_aa, hini, hb1, hk1, t1]
    rw [hj, s_X2_rulesOf_19]
    simp (disch := omega) only [zi_lit, zi_neg, zi_add, zi_sub, zi_mul, zi_div, zi_char, zb_eq0, zb_eq1, zb_le0, zb_or, zb_and, zb_or1, zb_or0, zb_1or, zb_0or, zb_and1, zb_and0, zb_1and, zb_0and, zb_nar, zi_nar0, zi_nar1, zl_ite, zl_ret, zl_retb, zl_retb1, zl_retb0, zl_retc, zl_ki, zl_kr, zl_kr0, zl_krf, zl_kl, zl_kf, zl_kd, zl_kv, zl_rf, zl_rf0, zl_valI, zl_valP, zl_valL, zl_get, zl_getI, zl_getR, zl_get0, zl_getr, zl_fk, zl_set, zl_setk, zl_setNb, zl_setN1, zl_setN0, zl_up1, zl_up2, zl_new, zl_newA, zl_len, zl_lenk, zl_ga, zl_gaI, zl_gaL, zl_gaD, zl_gaR, zl_sa, zl_saI, zl_saL, zl_saD, zl_saR, zl_ck, zl_ok, zl_ok0, zl_csS, zl_csS0, zl_csk, zl_tk, zl_csA, zl_isS0, zl_c, zl_cv, zl_cx, zl_sp, zl_rv, zl_rvk, zl_rvk2, zl_div, zl_rem, zl_ath, zl_clnk, zl_clnk0, zl_cat, zl_catn, zl_l0, zl_ls, zl_s0, zl_ss, List.length_cons, List.length_nil, Nat.reduceLT, Nat.zero_add, Nat.lt_add_one, reduceCtorEq, zi_le, zi_lt, zi_eq, if_pos, if_neg, if_true, if_false, Bool.true_eq_false, Bool.false_eq_true, eq_self, Bool.not_true, Bool.not_false, Int.toNat_natCast, Nat.reduceAdd, Int.reduceAdd, Int.reduceSub, Int.reduceMul, Int.reduceNeg, Int.reduceToNat, zl_aa, t2.ck, t2.no]
  · subst hrs
    obtain ⟨f2, t1, t2, t3⟩ := sp_iter hl (n := n + 1) (by omega) (by omega) h5 (m + 3)
    obtain ⟨f3, t4, t5, t6⟩ := t2.next (x := rb) rfl (by omega) (by omega) h5
    have h3 : ∀ q, q ≠ n + 1 → f3 q = f1 q := fun q hq => (t6 q hq).trans (t3 q hq)
    have h3f : ∀ q, q < n → f3 q = f q := fun q hq => (h3 q (by omega)).trans (hf1' q (by omega))
    have hR3 : rRule E f3 lo hi rb R := hRr.mv (h3 _ (by omega)) fun q _ hq => h3 q (by omega)
    have hRk := hR3.ck
    have hv3 : rLay f3 v (lays [R]) := by
      obtain ⟨w, w1, w2⟩ := hv
      exact ⟨w, (h3f v hvn).trans w1, w2⟩
    have hl3 := hf1l.mv (f' := f3) (h3 n (by omega)) (h3 _ (by omega))
    have hly := lays_le [R] R.1.1
    obtain ⟨j, hj⟩ : ∃ j, zN = j + 2 := ⟨zN - 2, by unfold zN; omega⟩
    have hRo := hR3.2.2.1
    obtain ⟨r1, r2, r3, ha, la, pa, ta, bs, ps, q4, q6, q7, q8, -⟩ := hR3
    have q9 := q8.1
    obtain ⟨w, w1, w2⟩ := hv3
    have wp := w2 _ hRo.1.1
    have hp8 := hRo.1.1
    by_cases hyl : lays [R] R.1.1 = y
    · have hrl : rsL [R] y = [R] := by unfold rsL; simp [hyl]
      have hadd := sp_lAdd0 (E := E) hl3 hE h5 (n := n + 2) (by omega) (x := rb) (by rw [hRk]; rfl) (by omega) (by omega) (m + 7)
      generalize hf4 : zUp (zUp f3 (n + 2) (.inl (5, 10, .inr (.inr (.inr (.inr (va_up (fun _ => none) 0 (some rb)))))))) n (.inr (10, [.int (zi (0 + 1)), .ref (n + 2), .int (zi 1)])) = f4 at hadd
      have hl4 : rList E f4 n (n + 2) 10 (0 + 1) [rb] := by rw [← hf4]; exact rList.add0 (by omega) (by omega)
      have h4 : ∀ q, q ≠ n → q ≠ n + 2 → f4 q = f3 q := fun q hq hq' => by rw [← hf4, zl_up2 hq, zl_up2 hq']
      have t8 : rIt E f4 (n + 1) lo hi lb [rb] 1 := t5.mv (h4 _ (by omega) (by omega)) (h4 _ (by omega) (by omega)) fun q _ hq => h4 q (by omega) (by omega)
      refine ⟨n + 3, m + 17, f4, ?_, by omega, by omega, by omega, by omega, fun q hq => (h4 q (by omega) (by omega)).trans (h3f q hq), Or.inr ⟨rb, R, rfl, hrl, hRr.mv (hf1' _ (by omega)).symm fun q _ hq => (hf1' q (by omega)).symm, by omega, by omega, n + 2, 10, 0 + 1, hl4, by omega, Or.inr (by omega)⟩⟩
      unfold s_X2_rulesOf
      simp only [zi_lit]
      rw [zl_new, hf0]
      simp (disch := omega) only [zi_lit, zi_neg, zi_add, zi_sub, zi_mul, zi_div, zi_char, zb_eq0, zb_eq1, zb_le0, zb_or, zb_and, zb_or1, zb_or0, zb_1or, zb_0or, zb_and1, zb_and0, zb_1and, zb_0and, zb_nar, zi_nar0, zi_nar1, zl_ite, zl_ret, zl_retb, zl_retb1, zl_retb0, zl_retc, zl_ki, zl_kr, zl_kr0, zl_krf, zl_kl, zl_kf, zl_kd, zl_kv, zl_rf, zl_rf0, zl_valI, zl_valP, zl_valL, zl_get, zl_getI, zl_getR, zl_get0, zl_getr, zl_fk, zl_set, zl_setk, zl_setNb, zl_setN1, zl_setN0, zl_up1, zl_up2, zl_new, zl_newA, zl_len, zl_lenk, zl_ga, zl_gaI, zl_gaL, zl_gaD, zl_gaR, zl_sa, zl_saI, zl_saL, zl_saD, zl_saR, zl_ck, zl_ok, zl_ok0, zl_csS, zl_csS0, zl_csk, zl_tk, zl_csA, zl_isS0, zl_c, zl_cv, zl_cx, zl_sp, zl_rv, zl_rvk, zl_rvk2, zl_div, zl_rem, zl_ath, zl_clnk, zl_clnk0, zl_cat, zl_catn, zl_l0, zl_ls, zl_s0, zl_ss, List.length_cons, List.length_nil, Nat.reduceLT, Nat.zero_add, Nat.lt_add_one, reduceCtorEq, zi_le, zi_lt, zi_eq, if_pos, if_neg, if_true, if_false, Bool.true_eq_false, Bool.false_eq_true, eq_self, Bool.not_true, Bool.not_false, Int.toNat_natCast, Nat.reduceAdd, Int.reduceAdd, Int.reduceSub, Int.reduceMul, Int.reduceNeg, Int.reduceToNat, zl_aa, hini, hb1, hk1, t1]
      rw [hj, s_X2_rulesOf_19]
      unfold s_X2_rulesOf_64
      simp (disch := omega) only [zi_lit, zi_neg, zi_add, zi_sub, zi_mul, zi_div, zi_char, zb_eq0, zb_eq1, zb_le0, zb_or, zb_and, zb_or1, zb_or0, zb_1or, zb_0or, zb_and1, zb_and0, zb_1and, zb_0and, zb_nar, zi_nar0, zi_nar1, zl_ite, zl_ret, zl_retb, zl_retb1, zl_retb0, zl_retc, zl_ki, zl_kr, zl_kr0, zl_krf, zl_kl, zl_kf, zl_kd, zl_kv, zl_rf, zl_rf0, zl_valI, zl_valP, zl_valL, zl_get, zl_getI, zl_getR, zl_get0, zl_getr, zl_fk, zl_set, zl_setk, zl_setNb, zl_setN1, zl_setN0, zl_up1, zl_up2, zl_new, zl_newA, zl_len, zl_lenk, zl_ga, zl_gaI, zl_gaL, zl_gaD, zl_gaR, zl_sa, zl_saI, zl_saL, zl_saD, zl_saR, zl_ck, zl_ok, zl_ok0, zl_csS, zl_csS0, zl_csk, zl_tk, zl_csA, zl_isS0, zl_c, zl_cv, zl_cx, zl_sp, zl_rv, zl_rvk, zl_rvk2, zl_div, zl_rem, zl_ath, zl_clnk, zl_clnk0, zl_cat, zl_catn, zl_l0, zl_ls, zl_s0, zl_ss, List.length_cons, List.length_nil, Nat.reduceLT, Nat.zero_add, Nat.lt_add_one, reduceCtorEq, zi_le, zi_lt, zi_eq, if_pos, if_neg, if_true, if_false, Bool.true_eq_false, Bool.false_eq_true, eq_self, Bool.not_true, Bool.not_false, Int.toNat_natCast, Nat.reduceAdd, Int.reduceAdd, Int.reduceSub, Int.reduceMul, Int.reduceNeg, Int.reduceToNat, zl_aa, t2.ck, t2.has (Nat.zero_lt_one), t4, hRk, q4, q9, w1, wp, hyl, hl3.ck, hadd]
      rw [s_X2_rulesOf_19]
      simp (disch := omega) only [zi_lit, zi_neg, zi_add, zi_sub, zi_mul, zi_div, zi_char, zb_eq0, zb_eq1, zb_le0, zb_or, zb_and, zb_or1, zb_or0, zb_1or, zb_0or, zb_and1, zb_and0, zb_1and, zb_0and, zb_nar, zi_nar0, zi_nar1, zl_ite, zl_ret, zl_retb, zl_retb1, zl_retb0, zl_retc, zl_ki, zl_kr, zl_kr0, zl_krf, zl_kl, zl_kf, zl_kd, zl_kv, zl_rf, zl_rf0, zl_valI, zl_valP, zl_valL, zl_get, zl_getI, zl_getR, zl_get0, zl_getr, zl_fk, zl_set, zl_setk, zl_setNb, zl_setN1, zl_setN0, zl_up1, zl_up2, zl_new, zl_newA, zl_len, zl_lenk, zl_ga, zl_gaI, zl_gaL, zl_gaD, zl_gaR, zl_sa, zl_saI, zl_saL, zl_saD, zl_saR, zl_ck, zl_ok, zl_ok0, zl_csS, zl_csS0, zl_csk, zl_tk, zl_csA, zl_isS0, zl_c, zl_cv, zl_cx, zl_sp, zl_rv, zl_rvk, zl_rvk2, zl_div, zl_rem, zl_ath, zl_clnk, zl_clnk0, zl_cat, zl_catn, zl_l0, zl_ls, zl_s0, zl_ss, List.length_cons, List.length_nil, Nat.reduceLT, Nat.zero_add, Nat.lt_add_one, reduceCtorEq, zi_le, zi_lt, zi_eq, if_pos, if_neg, if_true, if_false, Bool.true_eq_false, Bool.false_eq_true, eq_self, Bool.not_true, Bool.not_false, Int.toNat_natCast, Nat.reduceAdd, Int.reduceAdd, Int.reduceSub, Int.reduceMul, Int.reduceNeg, Int.reduceToNat, zl_aa, t8.ck, t8.no]
    · have hrl : rsL [R] y = [] := by unfold rsL; simp [hyl]
      refine ⟨n + 2, m + 7, f3, ?_, by omega, by omega, by omega, by omega, h3f, Or.inl ⟨hrl, by omega, by omega, E 5, 0, 0, hl3, by omega, Or.inl rfl⟩⟩
      unfold s_X2_rulesOf
      simp only [zi_lit]
      rw [zl_new, hf0]
      simp (disch := omega) only [zi_lit, zi_neg, zi_add, zi_sub, zi_mul, zi_div, zi_char, zb_eq0, zb_eq1, zb_le0, zb_or, zb_and, zb_or1, zb_or0, zb_1or, zb_0or, zb_and1, zb_and0, zb_1and, zb_0and, zb_nar, zi_nar0, zi_nar1, zl_ite, zl_ret, zl_retb, zl_retb1, zl_retb0, zl_retc, zl_ki, zl_kr, zl_kr0, zl_krf, zl_kl, zl_kf, zl_kd, zl_kv, zl_rf, zl_rf0, zl_valI, zl_valP, zl_valL, zl_get, zl_getI, zl_getR, zl_get0, zl_getr, zl_fk, zl_set, zl_setk, zl_setNb, zl_setN1, zl_setN0, zl_up1, zl_up2, zl_new, zl_newA, zl_len, zl_lenk, zl_ga, zl_gaI, zl_gaL, zl_gaD, zl_gaR, zl_sa, zl_saI, zl_saL, zl_saD, zl_saR, zl_ck, zl_ok, zl_ok0, zl_csS, zl_csS0, zl_csk, zl_tk, zl_csA, zl_isS0, zl_c, zl_cv, zl_cx, zl_sp, zl_rv, zl_rvk, zl_rvk2, zl_div, zl_rem, zl_ath, zl_clnk, zl_clnk0, zl_cat, zl_catn, zl_l0, zl_ls, zl_s0, zl_ss, List.length_cons, List.length_nil, Nat.reduceLT, Nat.zero_add, Nat.lt_add_one, reduceCtorEq, zi_le, zi_lt, zi_eq, if_pos, if_neg, if_true, if_false, Bool.true_eq_false, Bool.false_eq_true, eq_self, Bool.not_true, Bool.not_false, Int.toNat_natCast, Nat.reduceAdd, Int.reduceAdd, Int.reduceSub, Int.reduceMul, Int.reduceNeg, Int.reduceToNat, zl_aa, hini, hb1, hk1, t1]
      rw [hj, s_X2_rulesOf_19]
      unfold s_X2_rulesOf_64
      simp (disch := omega) only [zi_lit, zi_neg, zi_add, zi_sub, zi_mul, zi_div, zi_char, zb_eq0, zb_eq1, zb_le0, zb_or, zb_and, zb_or1, zb_or0, zb_1or, zb_0or, zb_and1, zb_and0, zb_1and, zb_0and, zb_nar, zi_nar0, zi_nar1, zl_ite, zl_ret, zl_retb, zl_retb1, zl_retb0, zl_retc, zl_ki, zl_kr, zl_kr0, zl_krf, zl_kl, zl_kf, zl_kd, zl_kv, zl_rf, zl_rf0, zl_valI, zl_valP, zl_valL, zl_get, zl_getI, zl_getR, zl_get0, zl_getr, zl_fk, zl_set, zl_setk, zl_setNb, zl_setN1, zl_setN0, zl_up1, zl_up2, zl_new, zl_newA, zl_len, zl_lenk, zl_ga, zl_gaI, zl_gaL, zl_gaD, zl_gaR, zl_sa, zl_saI, zl_saL, zl_saD, zl_saR, zl_ck, zl_ok, zl_ok0, zl_csS, zl_csS0, zl_csk, zl_tk, zl_csA, zl_isS0, zl_c, zl_cv, zl_cx, zl_sp, zl_rv, zl_rvk, zl_rvk2, zl_div, zl_rem, zl_ath, zl_clnk, zl_clnk0, zl_cat, zl_catn, zl_l0, zl_ls, zl_s0, zl_ss, List.length_cons, List.length_nil, Nat.reduceLT, Nat.zero_add, Nat.lt_add_one, reduceCtorEq, zi_le, zi_lt, zi_eq, if_pos, if_neg, if_true, if_false, Bool.true_eq_false, Bool.false_eq_true, eq_self, Bool.not_true, Bool.not_false, Int.toNat_natCast, Nat.reduceAdd, Int.reduceAdd, Int.reduceSub, Int.reduceMul, Int.reduceNeg, Int.reduceToNat, zl_aa, t2.ck, t2.has (Nat.zero_lt_one), t4, hRk, q4, q9, w1, wp, hyl]
      rw [s_X2_rulesOf_19]
      simp (disch := omega) only [zi_lit, zi_neg, zi_add, zi_sub, zi_mul, zi_div, zi_char, zb_eq0, zb_eq1, zb_le0, zb_or, zb_and, zb_or1, zb_or0, zb_1or, zb_0or, zb_and1, zb_and0, zb_1and, zb_0and, zb_nar, zi_nar0, zi_nar1, zl_ite, zl_ret, zl_retb, zl_retb1, zl_retb0, zl_retc, zl_ki, zl_kr, zl_kr0, zl_krf, zl_kl, zl_kf, zl_kd, zl_kv, zl_rf, zl_rf0, zl_valI, zl_valP, zl_valL, zl_get, zl_getI, zl_getR, zl_get0, zl_getr, zl_fk, zl_set, zl_setk, zl_setNb, zl_setN1, zl_setN0, zl_up1, zl_up2, zl_new, zl_newA, zl_len, zl_lenk, zl_ga, zl_gaI, zl_gaL, zl_gaD, zl_gaR, zl_sa, zl_saI, zl_saL, zl_saD, zl_saR, zl_ck, zl_ok, zl_ok0, zl_csS, zl_csS0, zl_csk, zl_tk, zl_csA, zl_isS0, zl_c, zl_cv, zl_cx, zl_sp, zl_rv, zl_rvk, zl_rvk2, zl_div, zl_rem, zl_ath, zl_clnk, zl_clnk0, zl_cat, zl_catn, zl_l0, zl_ls, zl_s0, zl_ss, List.length_cons, List.length_nil, Nat.reduceLT, Nat.zero_add, Nat.lt_add_one, reduceCtorEq, zi_le, zi_lt, zi_eq, if_pos, if_neg, if_true, if_false, Bool.true_eq_false, Bool.false_eq_true, eq_self, Bool.not_true, Bool.not_false, Int.toNat_natCast, Nat.reduceAdd, Int.reduceAdd, Int.reduceSub, Int.reduceMul, Int.reduceNeg, Int.reduceToNat, zl_aa, t5.ck, t5.no]
