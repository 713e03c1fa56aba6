set_option maxRecDepth 20000
/-! ===== plain law: Changing.close, whole ===== -/
def rChg (f : Nat → Option zO) (a0 fb : Nat) (lv xv : Value) : Prop := f a0 = some (.inr (36, [.ref fb, lv, xv]))
theorem sp_close50 {E : zE} {G : Nat → Nat → Bool} {R : zRule} {lo hi rlo rhi l a0 rb fb M : Nat} {f0 : Nat → Option zO} (hst : strat R) (hsf : safe R) (hR : rRule E f0 rlo rhi rb R) (h5 : E 5 < E 0) (hE : E 0 ≤ a0) (hlo : fb + 18 ≤ lo) (hrh : rhi ≤ a0) (haf : a0 < fb) (hM : ∀ p, bcnt (tt R G p) 100 ≤ M) :
    ∀ (d k n m xb : Nat) (f : Nat → Option zO) (F X : Nat → Nat → Bool) (lv : Value), fdif (tt R G) F R.1.1 < d → d < k → fb + 18 ≤ xb → xb + 18 ≤ n → zX a0 f0 f → f a0 = some (.inr (36, [.ref fb, lv, .ref xb])) → rFacts f fb F → rFacts f xb X → cS R G F X → hi ≤ n → rListB E f lo hi l [rb] →
    ∃ (n' m' : Nat) (f' : Nat → Option zO), s_X8_close_50 E k (some a0) (some l) (n, m, f) = some (.inl none, (n', m', f')) ∧ n ≤ n' ∧ n' ≤ n + d * (19 + kp R * (1 + Jc M (kp R))) ∧ m ≤ m' ∧ m' ≤ m + d * (53 + kp R * (3 + Js M (kp R))) ∧ zX a0 f0 f' ∧ (∃ lv xv, f' a0 = some (.inr (36, [.ref fb, lv, xv]))) ∧ rFacts f' fb (tt R G) := by
  intro d
  induction d with
  | zero => intro k n m xb f F X lv hd; omega
  | succ d ih =>
    intro k n m xb f F X lv hd hk hfx hxn hX0 ha hF hX hS hhi hL
    obtain ⟨k, rfl⟩ : ∃ k', k = k' + 1 := ⟨k - 1, by omega⟩
    have hcs := hS
    obtain ⟨s1, s2, s3, s4, s5⟩ := hS
    obtain ⟨f1, g1, g2, g3, g4, g5, g6⟩ := sp_goOn (E := E) hE ha haf hfx hxn hF hX s3 m
    have hX1 : zX a0 f0 f1 := fun q hq => (g6 q (by omega) (by omega) (by omega)).trans (hX0 q hq)
    have hak : zCk (f a0) = some 36 := by rw [ha]; rfl
    have hmul : ∀ a : Nat, (d + 1) * a = d * a + a := fun a => Nat.succ_mul _ _
    by_cases hx : 0 < fcnt X 8
    · obtain ⟨p, c, hpc⟩ := (fcnt_pos s3).mp hx
      have hdec := cS_dec hst hcs hpc
      obtain ⟨u1, u2⟩ := cS_uni hst hcs
      have hRf1 := hR.mvX hX1 hrh (by omega)
      have hLf1 : rListB E f1 lo hi l [rb] := hL.mv (g6 _ (by omega) (by omega) (by omega)) fun q hq' hq => g6 q (by omega) (by omega) (by omega)
      obtain ⟨f2, t1, t2, t3⟩ := sp_iter hLf1 (n := n + 18) (by omega) (by omega) h5 (m + 49)
      obtain ⟨f3, t4, t5, t6⟩ := t2.next (x := rb) rfl (by omega) (by omega) h5
      have t7 : ∀ q, q ≠ n + 18 → f3 q = f1 q := fun q hq => (t6 q hq).trans (t3 q hq)
      have hRf3 := hRf1.mv (f' := f3) (t7 _ (by omega)) fun q _ hq => t7 q (by omega)
      have hc3 : cJ E f3 rlo rhi a0 rb fb xb n R (funi F X) X 0 := ⟨hRf3, ⟨_, (t7 a0 (by omega)).trans g2, fun _ => rfl⟩, g3.mv fun q _ _ => t7 q (by omega), fun _ => g4.mv fun q _ _ => t7 q (by omega)⟩
      have hMM : ∀ p, bcnt (funi F X p) 100 ≤ M ∧ bcnt (X p) 100 ≤ M := fun p => by
        have m1 : bcnt (funi F X p) 100 ≤ bcnt (tt R G p) 100 := bcnt_mono (fun i hi => u1.2 _ _ hi) 100
        have m2 : bcnt (X p) 100 ≤ bcnt (tt R G p) 100 := bcnt_mono (fun i hi => newh_tt hst s1 (s4 _ _ hi)) 100
        have := hM p
        omega
      have hlen3 : kp R < zN := by
        have := hR.2.2.1.2.2.1
        unfold kp prem zN
        rw [List.length_map]
        have := List.length_filter_le (fun L : zLit => decide (L.1 = 0)) R.2.1
        omega
      obtain ⟨n4, m4, f4, X4, v1, v2, v3, v4, v5, v6, v7, v8, v9⟩ := sp_close86 (E := E) (M := M) hsf h5 hE hrh haf (show fb + 18 ≤ n by omega) (show xb + 18 ≤ n by omega) u2 s3 hMM (s_X8_close_50 E k) (s_X8_close_64 E (s_X8_close_50 E k) (zN - 1)) (some l) (some (n + 18)) (kp R) 0 zN (n + 19) (m + 53) f3 (fun _ _ => false) (by omega) (by omega) (by omega) hc3 (g5.mv fun q _ _ => t7 q (by omega))
      have hS4 := cS_next hst hRf3.2.2.1 hcs v8 v9
      have hX4 : zX a0 f0 f4 := fun q hq => (v6 q (by omega) (by omega)).trans ((t7 q (by omega)).trans (hX1 q hq))
      have t8 : rIt E f4 (n + 18) lo hi l [rb] 1 := t5.mv (v6 _ (by omega) (by omega)) (v6 _ (by omega) (by omega)) fun q _ hq => v6 q (by omega) (by omega)
      obtain ⟨n', m', f', i1, i2, i3, i4, i5, i6, i7, i8⟩ := ih k n4 m4 n f4 (funi F X) X4 (.ref xb) (by omega) (by omega) (by omega) (by omega) hX4 ((v6 a0 (by omega) (by omega)).trans ((t7 a0 (by omega)).trans g2)) ((g3.mv fun q _ _ => t7 q (by omega)).mv fun q _ _ => v6 q (by omega) (by omega)) v7 hS4 (by omega) t8.list
      refine ⟨n', m', f', ?_, by omega, ?_, by omega, ?_, i6, i7, i8⟩
      · rw [decide_eq_true hx] at g1
        obtain ⟨j, hj⟩ : ∃ j, zN = j + 2 := ⟨zN - 2, by unfold zN; omega⟩
        rw [s_X8_close_50]
        simp (disch := omega) only [zi_lit, zi_neg, zi_add, zi_sub, zi_mul, zi_div, zi_char, zb_eq0, zb_eq1, zb_le0, zb_or, zb_and, zb_or1, zb_or0, zb_1or, zb_0or, zb_and1, zb_and0, zb_1and, zb_0and, zb_nar, zi_nar0, zi_nar1, zl_ite, zl_ret, zl_retb, zl_retb1, zl_retb0, zl_retc, zl_ki, zl_kr, zl_kr0, zl_krf, zl_kl, zl_kf, zl_kd, zl_kv, zl_rf, zl_rf0, zl_valI, zl_valP, zl_valL, zl_get, zl_getI, zl_getR, zl_get0, zl_getr, zl_fk, zl_set, zl_setk, zl_setNb, zl_setN1, zl_setN0, zl_up1, zl_up2, zl_new, zl_newA, zl_len, zl_lenk, zl_ga, zl_gaI, zl_gaL, zl_gaD, zl_gaR, zl_sa, zl_saI, zl_saL, zl_saD, zl_saR, zl_ck, zl_ok, zl_ok0, zl_csS, zl_csS0, zl_csk, zl_tk, zl_csA, zl_isS0, zl_c, zl_cv, zl_cx, zl_sp, zl_rv, zl_rvk, zl_rvk2, zl_div, zl_rem, zl_ath, zl_clnk, zl_clnk0, zl_cat, zl_catn, zl_l0, zl_ls, zl_s0, zl_ss, List.length_cons, List.length_nil, Nat.reduceLT, Nat.zero_add, Nat.lt_add_one, reduceCtorEq, zi_le, zi_lt, zi_eq, if_pos, if_neg, if_true, if_false, Bool.true_eq_false, Bool.false_eq_true, eq_self, Bool.not_true, Bool.not_false, Int.toNat_natCast, Nat.reduceAdd, Int.reduceAdd, Int.reduceSub, Int.reduceMul, Int.reduceNeg, Int.reduceToNat, zl_aa, hak, g1, hLf1.ck, t1]
        rw [hj, s_X8_close_64]
        rw [show zN - 1 = j + 1 by omega] at v1
        rw [show ((0 : Nat) : Int) = 0 from rfl] at v1
        simp (disch := omega) only [zi_lit, zi_neg, zi_add, zi_sub, zi_mul, zi_div, zi_char, zb_eq0, zb_eq1, zb_le0, zb_or, zb_and, zb_or1, zb_or0, zb_1or, zb_0or, zb_and1, zb_and0, zb_1and, zb_0and, zb_nar, zi_nar0, zi_nar1, zl_ite, zl_ret, zl_retb, zl_retb1, zl_retb0, zl_retc, zl_ki, zl_kr, zl_kr0, zl_krf, zl_kl, zl_kf, zl_kd, zl_kv, zl_rf, zl_rf0, zl_valI, zl_valP, zl_valL, zl_get, zl_getI, zl_getR, zl_get0, zl_getr, zl_fk, zl_set, zl_setk, zl_setNb, zl_setN1, zl_setN0, zl_up1, zl_up2, zl_new, zl_newA, zl_len, zl_lenk, zl_ga, zl_gaI, zl_gaL, zl_gaD, zl_gaR, zl_sa, zl_saI, zl_saL, zl_saD, zl_saR, zl_ck, zl_ok, zl_ok0, zl_csS, zl_csS0, zl_csk, zl_tk, zl_csA, zl_isS0, zl_c, zl_cv, zl_cx, zl_sp, zl_rv, zl_rvk, zl_rvk2, zl_div, zl_rem, zl_ath, zl_clnk, zl_clnk0, zl_cat, zl_catn, zl_l0, zl_ls, zl_s0, zl_ss, List.length_cons, List.length_nil, Nat.reduceLT, Nat.zero_add, Nat.lt_add_one, reduceCtorEq, zi_le, zi_lt, zi_eq, if_pos, if_neg, if_true, if_false, Bool.true_eq_false, Bool.false_eq_true, eq_self, Bool.not_true, Bool.not_false, Int.toNat_natCast, Nat.reduceAdd, Int.reduceAdd, Int.reduceSub, Int.reduceMul, Int.reduceNeg, Int.reduceToNat, zl_aa, t2.ck, t2.has (Nat.zero_lt_one), t4, hRf3.ck]
        rw [v1, s_X8_close_64]
        simp (disch := omega) only [zi_lit, zi_neg, zi_add, zi_sub, zi_mul, zi_div, zi_char, zb_eq0, zb_eq1, zb_le0, zb_or, zb_and, zb_or1, zb_or0, zb_1or, zb_0or, zb_and1, zb_and0, zb_1and, zb_0and, zb_nar, zi_nar0, zi_nar1, zl_ite, zl_ret, zl_retb, zl_retb1, zl_retb0, zl_retc, zl_ki, zl_kr, zl_kr0, zl_krf, zl_kl, zl_kf, zl_kd, zl_kv, zl_rf, zl_rf0, zl_valI, zl_valP, zl_valL, zl_get, zl_getI, zl_getR, zl_get0, zl_getr, zl_fk, zl_set, zl_setk, zl_setNb, zl_setN1, zl_setN0, zl_up1, zl_up2, zl_new, zl_newA, zl_len, zl_lenk, zl_ga, zl_gaI, zl_gaL, zl_gaD, zl_gaR, zl_sa, zl_saI, zl_saL, zl_saD, zl_saR, zl_ck, zl_ok, zl_ok0, zl_csS, zl_csS0, zl_csk, zl_tk, zl_csA, zl_isS0, zl_c, zl_cv, zl_cx, zl_sp, zl_rv, zl_rvk, zl_rvk2, zl_div, zl_rem, zl_ath, zl_clnk, zl_clnk0, zl_cat, zl_catn, zl_l0, zl_ls, zl_s0, zl_ss, List.length_cons, List.length_nil, Nat.reduceLT, Nat.zero_add, Nat.lt_add_one, reduceCtorEq, zi_le, zi_lt, zi_eq, if_pos, if_neg, if_true, if_false, Bool.true_eq_false, Bool.false_eq_true, eq_self, Bool.not_true, Bool.not_false, Int.toNat_natCast, Nat.reduceAdd, Int.reduceAdd, Int.reduceSub, Int.reduceMul, Int.reduceNeg, Int.reduceToNat, zl_aa, t8.ck, t8.no]
        exact i1
      · rw [hmul]; omega
      · rw [hmul]; omega
    · have hx0 : ∀ p c, X p c = false := fun p c => by
        cases h : X p c
        · rfl
        · exact absurd ((fcnt_pos s3).mpr ⟨p, c, h⟩) hx
      have hu : funi F X = tt R G := by
        rw [← cS_closed hst hcs hx0]
        funext p c; unfold funi; rw [hx0, Bool.or_false]
      rw [hu] at g3
      refine ⟨n + 18, m + 49, f1, ?_, by omega, ?_, by omega, ?_, hX1, ⟨_, _, g2⟩, g3⟩
      · rw [decide_eq_false hx] at g1
        rw [s_X8_close_50]
        simp (disch := omega) only [zi_lit, zi_neg, zi_add, zi_sub, zi_mul, zi_div, zi_char, zb_eq0, zb_eq1, zb_le0, zb_or, zb_and, zb_or1, zb_or0, zb_1or, zb_0or, zb_and1, zb_and0, zb_1and, zb_0and, zb_nar, zi_nar0, zi_nar1, zl_ite, zl_ret, zl_retb, zl_retb1, zl_retb0, zl_retc, zl_ki, zl_kr, zl_kr0, zl_krf, zl_kl, zl_kf, zl_kd, zl_kv, zl_rf, zl_rf0, zl_valI, zl_valP, zl_valL, zl_get, zl_getI, zl_getR, zl_get0, zl_getr, zl_fk, zl_set, zl_setk, zl_setNb, zl_setN1, zl_setN0, zl_up1, zl_up2, zl_new, zl_newA, zl_len, zl_lenk, zl_ga, zl_gaI, zl_gaL, zl_gaD, zl_gaR, zl_sa, zl_saI, zl_saL, zl_saD, zl_saR, zl_ck, zl_ok, zl_ok0, zl_csS, zl_csS0, zl_csk, zl_tk, zl_csA, zl_isS0, zl_c, zl_cv, zl_cx, zl_sp, zl_rv, zl_rvk, zl_rvk2, zl_div, zl_rem, zl_ath, zl_clnk, zl_clnk0, zl_cat, zl_catn, zl_l0, zl_ls, zl_s0, zl_ss, List.length_cons, List.length_nil, Nat.reduceLT, Nat.zero_add, Nat.lt_add_one, reduceCtorEq, zi_le, zi_lt, zi_eq, if_pos, if_neg, if_true, if_false, Bool.true_eq_false, Bool.false_eq_true, eq_self, Bool.not_true, Bool.not_false, Int.toNat_natCast, Nat.reduceAdd, Int.reduceAdd, Int.reduceSub, Int.reduceMul, Int.reduceNeg, Int.reduceToNat, zl_aa, hak, g1]
      · rw [hmul]; omega
      · rw [hmul]; omega
/-- a layer that has no rules -/
theorem sp_close0 {E : zE} {lo hi l a0 fb n : Nat} {f : Nat → Option zO} {F : Nat → Nat → Bool} {lv xv : Value} (hL : rListB E f lo hi l []) (h5 : E 5 < E 0) (hE : E 0 ≤ a0) (hlo : fb + 18 ≤ lo) (hhi : hi ≤ n) (haf : a0 < fb) (hfn : fb + 18 ≤ n) (ha : f a0 = some (.inr (36, [.ref fb, lv, xv]))) (hF : rFacts f fb F) (m : Nat) :
    ∃ (f' : Nat → Option zO), s_X8_close E (some a0) (some l) (n, m, f) = some (.inl none, (n + 37, m + 102, f')) ∧ zX a0 f f' ∧ (∃ lv xv, f' a0 = some (.inr (36, [.ref fb, lv, xv]))) ∧ rFacts f' fb F := by
  generalize hf1 : zUp f n (.inr (32, [.null])) = f1
  have hf1' : ∀ q, q ≠ n → f1 q = f q := fun q hq => by rw [← hf1, zl_up2 hq]
  obtain ⟨f2, g1, g2, g3⟩ := sp_fNew (E := E) (b := n) (m := m + 1) (f := f1) (by omega) (by rw [← hf1, zl_up1 rfl])
  have hx2 : ∀ q, q < n → f2 q = f q := fun q hq => (g2 q hq).trans (hf1' q (by omega))
  generalize hf3 : zUp f2 a0 (.inr (36, [.ref fb, lv, .ref n])) = f3
  have hf3' : ∀ q, q ≠ a0 → f3 q = f2 q := fun q hq => by rw [← hf3, zl_up2 hq]
  have hf3a : f3 a0 = some (.inr (36, [.ref fb, lv, .ref n])) := by rw [← hf3, zl_up1 rfl]
  have hL3 : rListB E f3 lo hi l [] := hL.mv ((hf3' _ (by omega)).trans (hx2 _ (by omega))) fun q hq' hq => (hf3' q (by omega)).trans (hx2 q (by omega))
  obtain ⟨f4, t1, t2, t3⟩ := sp_iter hL3 (n := n + 18) (by omega) (by omega) h5 (m + 49)
  have hF4 : rFacts f4 fb F := hF.mv fun q _ _ => (t3 q (by omega)).trans ((hf3' q (by omega)).trans (hx2 q (by omega)))
  have hN4 : rFacts f4 n (fun _ _ => false) := g3.mv fun q _ _ => (t3 q (by omega)).trans (hf3' q (by omega))
  have ha4 := (t3 a0 (by omega)).trans hf3a
  obtain ⟨f5, w1, w2, w3, w4, w5, w6⟩ := sp_goOn (E := E) hE ha4 haf hfn (show n + 18 ≤ n + 19 by omega) hF4 hN4 (fun _ _ h => by cases h) (m + 53)
  have hu : funi F (fun _ _ => false) = F := by funext p c; unfold funi; rw [Bool.or_false]
  rw [hu] at w3
  have hd : decide (0 < fcnt (fun _ _ => false) 8) = false := by decide
  rw [hd] at w1
  refine ⟨f5, ?_, fun q hq => (w6 q (by omega) (by omega) (by omega)).trans ((t3 q (by omega)).trans ((hf3' q (by omega)).trans (hx2 q (by omega)))), ⟨_, _, w2⟩, w3⟩
  obtain ⟨j, hj⟩ : ∃ j, zN = j + 2 := ⟨zN - 2, by unfold zN; omega⟩
  have hx2a := (hx2 a0 (by omega)).trans ha
  have hak4 : zCk (f4 a0) = some 36 := by rw [ha4]; rfl
  unfold s_X8_close
  simp (disch := omega) only [zi_lit, zi_neg, zi_add, zi_sub, zi_mul, zi_div, zi_char, zb_eq0, zb_eq1, zb_le0, zb_or, zb_and, zb_or1, zb_or0, zb_1or, zb_0or, zb_and1, zb_and0, zb_1and, zb_0and, zb_nar, zi_nar0, zi_nar1, zl_ite, zl_ret, zl_retb, zl_retb1, zl_retb0, zl_retc, zl_ki, zl_kr, zl_kr0, zl_krf, zl_kl, zl_kf, zl_kd, zl_kv, zl_rf, zl_rf0, zl_valI, zl_valP, zl_valL, zl_get, zl_getI, zl_getR, zl_get0, zl_getr, zl_fk, zl_set, zl_setk, zl_setNb, zl_setN1, zl_setN0, zl_up1, zl_up2, zl_new, zl_newA, zl_len, zl_lenk, zl_ga, zl_gaI, zl_gaL, zl_gaD, zl_gaR, zl_sa, zl_saI, zl_saL, zl_saD, zl_saR, zl_ck, zl_ok, zl_ok0, zl_csS, zl_csS0, zl_csk, zl_tk, zl_csA, zl_isS0, zl_c, zl_cv, zl_cx, zl_sp, zl_rv, zl_rvk, zl_rvk2, zl_div, zl_rem, zl_ath, zl_clnk, zl_clnk0, zl_cat, zl_catn, zl_l0, zl_ls, zl_s0, zl_ss, List.length_cons, List.length_nil, Nat.reduceLT, Nat.zero_add, Nat.lt_add_one, reduceCtorEq, zi_le, zi_lt, zi_eq, if_pos, if_neg, if_true, if_false, Bool.true_eq_false, Bool.false_eq_true, eq_self, Bool.not_true, Bool.not_false, Int.toNat_natCast, Nat.reduceAdd, Int.reduceAdd, Int.reduceSub, Int.reduceMul, Int.reduceNeg, Int.reduceToNat, zl_aa, hf1, g1, hx2a, hf3, hL3.ck, t1]
  rw [hj, s_X8_close_18, hj]
  simp (disch := omega) only [zi_lit, zi_neg, zi_add, zi_sub, zi_mul, zi_div, zi_char, zb_eq0, zb_eq1, zb_le0, zb_or, zb_and, zb_or1, zb_or0, zb_1or, zb_0or, zb_and1, zb_and0, zb_1and, zb_0and, zb_nar, zi_nar0, zi_nar1, zl_ite, zl_ret, zl_retb, zl_retb1, zl_retb0, zl_retc, zl_ki, zl_kr, zl_kr0, zl_krf, zl_kl, zl_kf, zl_kd, zl_kv, zl_rf, zl_rf0, zl_valI, zl_valP, zl_valL, zl_get, zl_getI, zl_getR, zl_get0, zl_getr, zl_fk, zl_set, zl_setk, zl_setNb, zl_setN1, zl_setN0, zl_up1, zl_up2, zl_new, zl_newA, zl_len, zl_lenk, zl_ga, zl_gaI, zl_gaL, zl_gaD, zl_gaR, zl_sa, zl_saI, zl_saL, zl_saD, zl_saR, zl_ck, zl_ok, zl_ok0, zl_csS, zl_csS0, zl_csk, zl_tk, zl_csA, zl_isS0, zl_c, zl_cv, zl_cx, zl_sp, zl_rv, zl_rvk, zl_rvk2, zl_div, zl_rem, zl_ath, zl_clnk, zl_clnk0, zl_cat, zl_catn, zl_l0, zl_ls, zl_s0, zl_ss, List.length_cons, List.length_nil, Nat.reduceLT, Nat.zero_add, Nat.lt_add_one, reduceCtorEq, zi_le, zi_lt, zi_eq, if_pos, if_neg, if_true, if_false, Bool.true_eq_false, Bool.false_eq_true, eq_self, Bool.not_true, Bool.not_false, Int.toNat_natCast, Nat.reduceAdd, Int.reduceAdd, Int.reduceSub, Int.reduceMul, Int.reduceNeg, Int.reduceToNat, zl_aa, t2.ck, t2.no]
  rw [s_X8_close_50]
  simp (disch := omega) only [zi_lit, zi_neg, zi_add, zi_sub, zi_mul, zi_div, zi_char, zb_eq0, zb_eq1, zb_le0, zb_or, zb_and, zb_or1, zb_or0, zb_1or, zb_0or, zb_and1, zb_and0, zb_1and, zb_0and, zb_nar, zi_nar0, zi_nar1, zl_ite, zl_ret, zl_retb, zl_retb1, zl_retb0, zl_retc, zl_ki, zl_kr, zl_kr0, zl_krf, zl_kl, zl_kf, zl_kd, zl_kv, zl_rf, zl_rf0, zl_valI, zl_valP, zl_valL, zl_get, zl_getI, zl_getR, zl_get0, zl_getr, zl_fk, zl_set, zl_setk, zl_setNb, zl_setN1, zl_setN0, zl_up1, zl_up2, zl_new, zl_newA, zl_len, zl_lenk, zl_ga, zl_gaI, zl_gaL, zl_gaD, zl_gaR, zl_sa, zl_saI, zl_saL, zl_saD, zl_saR, zl_ck, zl_ok, zl_ok0, zl_csS, zl_csS0, zl_csk, zl_tk, zl_csA, zl_isS0, zl_c, zl_cv, zl_cx, zl_sp, zl_rv, zl_rvk, zl_rvk2, zl_div, zl_rem, zl_ath, zl_clnk, zl_clnk0, zl_cat, zl_catn, zl_l0, zl_ls, zl_s0, zl_ss, List.length_cons, List.length_nil, Nat.reduceLT, Nat.zero_add, Nat.lt_add_one, reduceCtorEq, zi_le, zi_lt, zi_eq, if_pos, if_neg, if_true, if_false, Bool.true_eq_false, Bool.false_eq_true, eq_self, Bool.not_true, Bool.not_false, Int.toNat_natCast, Nat.reduceAdd, Int.reduceAdd, Int.reduceSub, Int.reduceMul, Int.reduceNeg, Int.reduceToNat, zl_aa, hak4, w1]
theorem jPost_new {R : zRule} {G : Nat → Nat → Bool} {X' : Nat → Nat → Bool} (hR : okRule R) (hwG : wfF G) (hp : jPost R G (fun _ _ => false) X') (hc : ∀ s, vs R s → rH G (sgs s) R = true → G R.1.1 (hd R (sgs s)) = false → X' R.1.1 (hd R (sgs s)) = true) : cS R G G X' := by
  have hnew : ∀ p c, X' p c = true → newh R G p c := fun p c hx => by
    rcases hp.2 p c hx with h | h
    · cases h
    · exact h
  exact ⟨btw_refl R G, hwG, fun p c hx => newh_wf hR (hnew p c hx), hnew, hc⟩
def clC (R : zRule) (M D : Nat) : Nat := 20 + Jc M (kp R) + (D + 1) * (19 + kp R * (1 + Jc M (kp R)))
def clS (R : zRule) (M D : Nat) : Nat := 56 + Js M (kp R) + (D + 1) * (53 + kp R * (3 + Js M (kp R)))
/-- the layer of the rule -/
theorem sp_close1 {E : zE} {G : Nat → Nat → Bool} {R : zRule} {lo hi rlo rhi l a0 rb fb n M : Nat} {f : Nat → Option zO} {lw xv : Value} (hst : strat R) (hsf : safe R) (hwG : wfF G) (hR : rRule E f rlo rhi rb R) (hL : rListB E f lo hi l [rb]) (h5 : E 5 < E 0) (hE : E 0 ≤ a0) (hlo : fb + 18 ≤ lo) (hhi : hi ≤ n) (hrh : rhi ≤ a0) (haf : a0 < fb) (hfn : fb + 18 ≤ n) (hM : ∀ p, bcnt (tt R G p) 100 ≤ M) (ha : f a0 = some (.inr (36, [.ref fb, lw, xv]))) (hF : rFacts f fb G) (m : Nat) :
    ∃ (n' m' : Nat) (f' : Nat → Option zO), s_X8_close E (some a0) (some l) (n, m, f) = some (.inl none, (n', m', f')) ∧ n ≤ n' ∧ n' ≤ n + clC R M (nd R G) ∧ m ≤ m' ∧ m' ≤ m + clS R M (nd R G) ∧ zX a0 f f' ∧ (∃ lv xv, f' a0 = some (.inr (36, [.ref fb, lv, xv]))) ∧ rFacts f' fb (tt R G) := by
  generalize hf1 : zUp f n (.inr (32, [.null])) = f1
  have hf1' : ∀ q, q ≠ n → f1 q = f q := fun q hq => by rw [← hf1, zl_up2 hq]
  obtain ⟨f2, g1, g2, g3⟩ := sp_fNew (E := E) (b := n) (m := m + 1) (f := f1) (by omega) (by rw [← hf1, zl_up1 rfl])
  have hx2 : ∀ q, q < n → f2 q = f q := fun q hq => (g2 q hq).trans (hf1' q (by omega))
  generalize hf3 : zUp f2 a0 (.inr (36, [.ref fb, lw, .ref n])) = f3
  have hf3' : ∀ q, q ≠ a0 → f3 q = f2 q := fun q hq => by rw [← hf3, zl_up2 hq]
  have hf3a : f3 a0 = some (.inr (36, [.ref fb, lw, .ref n])) := by rw [← hf3, zl_up1 rfl]
  have hf3x : ∀ q, q < a0 → f3 q = f q := fun q hq => (hf3' q (by omega)).trans (hx2 q (by omega))
  have hL3 : rListB E f3 lo hi l [rb] := hL.mv (hf3x _ (by omega)) fun q hq' hq => (hf3' q (by omega)).trans (hx2 q (by omega))
  obtain ⟨f4, t1, t2, t3⟩ := sp_iter hL3 (n := n + 18) (by omega) (by omega) h5 (m + 49)
  obtain ⟨f5, t4, t5, t6⟩ := t2.next (x := rb) rfl (by omega) (by omega) h5
  obtain ⟨f6, u1, u2, u3⟩ := sp_unknown (E := E) (n := n + 19) (by omega) (m + 53) f5
  have h6 : ∀ q, q < n + 18 → f6 q = f3 q := fun q hq => (u3 q (by omega)).trans ((t6 q (by omega)).trans (t3 q (by omega)))
  have h6x : ∀ q, q < a0 → f6 q = f q := fun q hq => (h6 q (by omega)).trans (hf3x q hq)
  have hR6 := hR.mv (f' := f6) (h6x _ (by omega)) fun q _ hq => h6x q (by omega)
  have hR5 := hR.mv (f' := f5) ((t6 _ (by omega)).trans ((t3 _ (by omega)).trans (hf3x _ (by omega)))) fun q _ hq => (t6 q (by omega)).trans ((t3 q (by omega)).trans (hf3x q (by omega)))
  have hF6 : rFacts f6 fb G := hF.mv fun q _ _ => (h6 q (by omega)).trans ((hf3' q (by omega)).trans (hx2 q (by omega)))
  have hN6 : rFacts f6 n (fun _ _ => false) := g3.mv fun q _ _ => (h6 q (by omega)).trans (hf3' q (by omega))
  have ha6 := (h6 a0 (by omega)).trans hf3a
  have hc6 : cJ E f6 rlo rhi a0 rb fb fb n R G G (-1) := ⟨hR6, ⟨_, ha6, fun h => absurd rfl h⟩, hF6, fun h => absurd rfl h⟩
  have hMM : ∀ p, bcnt (G p) 100 ≤ M ∧ bcnt (G p) 100 ≤ M := fun p => by
    have m1 : bcnt (G p) 100 ≤ bcnt (tt R G p) 100 := bcnt_mono (fun i hi => tt_given hi) 100
    have := hM p; omega
  have hkp3 : kp R ≤ 3 := by
    have := hR.2.2.1.2.2.1
    unfold kp prem
    rw [List.length_map]
    have := List.length_filter_le (fun L : zLit => decide (L.1 = 0)) R.2.1
    omega
  obtain ⟨n7, m7, f7, X7, j1, j2, j3, j4, j5, j6, j7, j8, j9⟩ := sp_join (E := E) (lb := fb) (M := M) (ch := -1) (by omega) hsf h5 hE hrh haf hfn hfn hwG hwG hMM (kp R) 0 10 (n + 20) (m + 56) (n + 19) f6 (fun _ _ => false) (fun _ => -1) (by unfold kp; omega) (by omega) (by omega) (by omega) hc6 hN6 u2 (fun _ _ => Or.inl rfl)
  have hS : cS R G G X7 := jPost_new hR6.2.2.1 hwG j8 fun s hs hr hf => j9 (fun j A hj => by omega) s hs (ext_unk _) (fun j B _ hB => by
    unfold srcF
    rw [if_neg (by omega)]
    unfold rH at hr
    have hm := List.mem_of_getElem? hB
    unfold prem at hm
    obtain ⟨Lt, hLt, rfl⟩ := List.mem_map.mp hm
    obtain ⟨hLt1, hLt2⟩ := List.mem_filter.mp hLt
    have := List.all_eq_true.mp hr Lt hLt1
    unfold lv at this
    rw [if_pos (of_decide_eq_true hLt2)] at this
    exact this) hr hf
  have h7 : ∀ q, q < n → f7 q = f3 q := fun q hq => (j6 q (by omega) (by omega)).trans (h6 q (by omega))
  have h7x : zX a0 f f7 := fun q hq => (h7 q (by omega)).trans (hf3x q hq)
  have ha7 := (h7 a0 (by omega)).trans hf3a
  have hF7 : rFacts f7 fb G := hF6.mv fun q _ _ => j6 q (by omega) (by omega)
  have t8 : rIt E f7 (n + 18) lo hi l [rb] 1 := t5.mv ((j6 _ (by omega) (by omega)).trans (u3 _ (by omega))) ((j6 _ (by omega) (by omega)).trans (u3 _ (by omega))) fun q _ hq => (j6 q (by omega) (by omega)).trans (u3 q (by omega))
  have hnd : nd R G ≤ 128 := bcnt_le _ _
  obtain ⟨n', m', f', i1, i2, i3, i4, i5, i6, i7, i8⟩ := sp_close50 (E := E) (M := M) hst hsf hR h5 hE hlo hrh haf hM (nd R G + 1) zN n7 m7 n f7 G X7 lw (Nat.lt_succ_self _) (by unfold zN; omega) hfn (by omega) h7x ha7 hF7 j7 hS (by omega) t8.list
  refine ⟨n', m', f', ?_, by omega, by unfold clC; omega, by omega, by unfold clS; omega, i6, i7, i8⟩
  obtain ⟨j, hj⟩ : ∃ j, zN = j + 2 := ⟨zN - 2, by unfold zN; omega⟩
  have hx2a := (hx2 a0 (by omega)).trans ha
  have hak6 : zCk (f6 a0) = some 36 := by rw [ha6]; rfl
  unfold s_X8_close
  simp (disch := omega) only [zi_lit, zi_neg, zi_add, zi_sub, zi_mul, zi_div, zi_char, zb_eq0, zb_eq1, zb_le0, zb_or, zb_and, zb_or1, zb_or0, zb_1or, zb_0or, zb_and1, zb_and0, zb_1and, zb_0and, zb_nar, zi_nar0, zi_nar1, zl_ite, zl_ret, zl_retb, zl_retb1, zl_retb0, zl_retc, zl_ki, zl_kr, zl_kr0, zl_krf, zl_kl, zl_kf, zl_kd, zl_kv, zl_rf, zl_rf0, zl_valI, zl_valP, zl_valL, zl_get, zl_getI, zl_getR, zl_get0, zl_getr, zl_fk, zl_set, zl_setk, zl_setNb, zl_setN1, zl_setN0, zl_up1, zl_up2, zl_new, zl_newA, zl_len, zl_lenk, zl_ga, zl_gaI, zl_gaL, zl_gaD, zl_gaR, zl_sa, zl_saI, zl_saL, zl_saD, zl_saR, zl_ck, zl_ok, zl_ok0, zl_csS, zl_csS0, zl_csk, zl_tk, zl_csA, zl_isS0, zl_c, zl_cv, zl_cx, zl_sp, zl_rv, zl_rvk, zl_rvk2, zl_div, zl_rem, zl_ath, zl_clnk, zl_clnk0, zl_cat, zl_catn, zl_l0, zl_ls, zl_s0, zl_ss, List.length_cons, List.length_nil, Nat.reduceLT, Nat.zero_add, Nat.lt_add_one, reduceCtorEq, zi_le, zi_lt, zi_eq, if_pos, if_neg, if_true, if_false, Bool.true_eq_false, Bool.false_eq_true, eq_self, Bool.not_true, Bool.not_false, Int.toNat_natCast, Nat.reduceAdd, Int.reduceAdd, Int.reduceSub, Int.reduceMul, Int.reduceNeg, Int.reduceToNat, zl_aa, hf1, g1, hx2a, hf3, hL3.ck, t1]
  rw [hj, s_X8_close_18]
  rw [show ((0 : Nat) : Int) = 0 from rfl] at j1
  simp (disch := omega) only [zi_lit, zi_neg, zi_add, zi_sub, zi_mul, zi_div, zi_char, zb_eq0, zb_eq1, zb_le0, zb_or, zb_and, zb_or1, zb_or0, zb_1or, zb_0or, zb_and1, zb_and0, zb_1and, zb_0and, zb_nar, zi_nar0, zi_nar1, zl_ite, zl_ret, zl_retb, zl_retb1, zl_retb0, zl_retc, zl_ki, zl_kr, zl_kr0, zl_krf, zl_kl, zl_kf, zl_kd, zl_kv, zl_rf, zl_rf0, zl_valI, zl_valP, zl_valL, zl_get, zl_getI, zl_getR, zl_get0, zl_getr, zl_fk, zl_set, zl_setk, zl_setNb, zl_setN1, zl_setN0, zl_up1, zl_up2, zl_new, zl_newA, zl_len, zl_lenk, zl_ga, zl_gaI, zl_gaL, zl_gaD, zl_gaR, zl_sa, zl_saI, zl_saL, zl_saD, zl_saR, zl_ck, zl_ok, zl_ok0, zl_csS, zl_csS0, zl_csk, zl_tk, zl_csA, zl_isS0, zl_c, zl_cv, zl_cx, zl_sp, zl_rv, zl_rvk, zl_rvk2, zl_div, zl_rem, zl_ath, zl_clnk, zl_clnk0, zl_cat, zl_catn, zl_l0, zl_ls, zl_s0, zl_ss, List.length_cons, List.length_nil, Nat.reduceLT, Nat.zero_add, Nat.lt_add_one, reduceCtorEq, zi_le, zi_lt, zi_eq, if_pos, if_neg, if_true, if_false, Bool.true_eq_false, Bool.false_eq_true, eq_self, Bool.not_true, Bool.not_false, Int.toNat_natCast, Nat.reduceAdd, Int.reduceAdd, Int.reduceSub, Int.reduceMul, Int.reduceNeg, Int.reduceToNat, zl_aa, t2.ck, t2.has (Nat.zero_lt_one), t4, hR5.ck, u1, hak6, j1]
  rw [s_X8_close_18]
  simp (disch := omega) only [zi_lit, zi_neg, zi_add, zi_sub, zi_mul, zi_div, zi_char, zb_eq0, zb_eq1, zb_le0, zb_or, zb_and, zb_or1, zb_or0, zb_1or, zb_0or, zb_and1, zb_and0, zb_1and, zb_0and, zb_nar, zi_nar0, zi_nar1, zl_ite, zl_ret, zl_retb, zl_retb1, zl_retb0, zl_retc, zl_ki, zl_kr, zl_kr0, zl_krf, zl_kl, zl_kf, zl_kd, zl_kv, zl_rf, zl_rf0, zl_valI, zl_valP, zl_valL, zl_get, zl_getI, zl_getR, zl_get0, zl_getr, zl_fk, zl_set, zl_setk, zl_setNb, zl_setN1, zl_setN0, zl_up1, zl_up2, zl_new, zl_newA, zl_len, zl_lenk, zl_ga, zl_gaI, zl_gaL, zl_gaD, zl_gaR, zl_sa, zl_saI, zl_saL, zl_saD, zl_saR, zl_ck, zl_ok, zl_ok0, zl_csS, zl_csS0, zl_csk, zl_tk, zl_csA, zl_isS0, zl_c, zl_cv, zl_cx, zl_sp, zl_rv, zl_rvk, zl_rvk2, zl_div, zl_rem, zl_ath, zl_clnk, zl_clnk0, zl_cat, zl_catn, zl_l0, zl_ls, zl_s0, zl_ss, List.length_cons, List.length_nil, Nat.reduceLT, Nat.zero_add, Nat.lt_add_one, reduceCtorEq, zi_le, zi_lt, zi_eq, if_pos, if_neg, if_true, if_false, Bool.true_eq_false, Bool.false_eq_true, eq_self, Bool.not_true, Bool.not_false, Int.toNat_natCast, Nat.reduceAdd, Int.reduceAdd, Int.reduceSub, Int.reduceMul, Int.reduceNeg, Int.reduceToNat, zl_aa, t8.ck, t8.no]
  exact i1
