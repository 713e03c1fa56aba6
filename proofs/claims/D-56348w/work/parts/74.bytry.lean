set_option maxRecDepth 20000
/-! ===== plain law: Logic.byTrying ===== -/
def xtC (R : zRule) (D : Nat) : Nat := (D + 1) * (2 + vc R 1000)
def xtS (R : zRule) (D : Nat) : Nat := (D + 1) * (7 + 4 * vc R 1000)
noncomputable def xemC (rs : List zRule) (G : Nat → Nat → Bool) (y : Nat) : Nat := match rs with
  | [] => 0
  | R :: _ => if lays [R] R.1.1 < y then 0 else xtC R (nd R G)
noncomputable def xemS (rs : List zRule) (G : Nat → Nat → Bool) (y : Nat) : Nat := match rs with
  | [] => 0
  | R :: _ => if lays [R] R.1.1 < y then 0 else xtS R (nd R G)
theorem xemC_le (rs : List zRule) (G : Nat → Nat → Bool) (y : Nat) : xemC rs G (y + 1) ≤ xemC rs G y ∧ xemS rs G (y + 1) ≤ xemS rs G y := by
  cases rs with
  | nil => exact ⟨Nat.le_refl _, Nat.le_refl _⟩
  | cons R rs =>
    unfold xemC xemS; dsimp only
    by_cases h : lays [R] R.1.1 < y
    · rw [if_pos h, if_pos (by omega), if_pos h, if_pos (by omega)]; exact ⟨Nat.le_refl _, Nat.le_refl _⟩
    · rw [if_neg h, if_neg h]
      constructor <;> split <;> omega
theorem sp_bytry_l {E : zE} {G : Nat → Nat → Bool} {rs : List zRule} {lo hi lb b v cb fb : Nat} {g0 g2 g3 : Value} {f0 : Nat → Option zO} (hc : zC1 E f0) (hok : rsOk rs) (hb : f0 b = some (.inr (26, [g0, .ref lb, g2, g3]))) (hR : rRules E f0 lo hi lb rs) (hv : rLay f0 v (lays rs)) (hE : E 0 ≤ cb) (hhi : hi ≤ cb) (hbc : b < cb) (hvc : v < cb) (hcf : cb < fb) :
    ∀ (d y k n m : Nat) (f : Nat → Option zO), y + d = 8 → d < k → fb + 18 ≤ n → zX cb f0 f → (∃ b0, rTry f cb fb (fly rs G y) b0) →
    ∃ (n' m' : Nat) (f' : Nat → Option zO) (k' : Nat), s_X2_byTrying_29 E k (some b) (some v) (some cb) (zi y) (n, m, f) = s_X2_byTrying_29 E (k' + 1) (some b) (some v) (some cb) (zi 8) (n', m', f') ∧ n ≤ n' ∧ n' ≤ n + d * 4 + xemC rs G y ∧ m ≤ m' ∧ m' ≤ m + d * 21 + xemS rs G y ∧ zX cb f0 f' ∧ (∃ b0, rTry f' cb fb (tr rs G) b0) := by
  intro d
  induction d with
  | zero =>
    intro y k n m f hy hk hn hX hF
    obtain rfl : y = 8 := by omega
    rw [fly_8 hok] at hF
    exact ⟨n, m, f, k - 1, by rw [show k - 1 + 1 = k by omega]; rfl, by omega, by omega, by omega, by omega, hX, hF⟩
  | succ d ih =>
    intro y k n m f hy hk hn hX hF
    obtain ⟨k, rfl⟩ : ∃ k', k = k' + 1 := ⟨k - 1, by omega⟩
    have h5 := hc.2.2.2.1
    have hXE : zX (E 0) f0 f := hX.le hE
    have hbf := (hX b hbc).trans hb
    have hRf : rRules E f lo hi lb rs := hR.mvX hX hhi (by omega)
    have hvf : rLay f v (lays rs) := by
      obtain ⟨w, w1, w2⟩ := hv
      exact ⟨w, (hX v hvc).trans w1, w2⟩
    obtain ⟨n1, m1, f1, e1, e2, e3, e4, e5, e6, e7⟩ := sp_rulesOf (E := E) (y := y) (hc.mv hXE) hbf hRf (n := n) (by omega) (by omega) hvf (by omega) (by omega) (by omega) m
    have hX1 : zX cb f0 f1 := hX.trans e6 (by omega)
    obtain ⟨b0, ht⟩ := hF
    have ht1 : rTry f1 cb fb (fly rs G y) b0 := ⟨(e6 cb (by omega)).trans ht.1, ht.2.mv fun q _ _ => e6 q (by omega)⟩
    have hbk : zCk (f b) = some 26 := by rw [hbf]; rfl
    have hcbk : zCk (f1 cb) = some 17 := by rw [ht1.1]; rfl
    rcases e7 with ⟨r1, r2⟩ | ⟨rb, R, r1, r2, r3, r4⟩
    · have hfl : fly rs G (y + 1) = fly rs G y := by
        rcases rsL_cases hok.1 y G with h | ⟨R, h1, h2, -⟩
        · exact h.2
        · rw [r1] at h2; cases h2
      obtain ⟨f2, c1, c2, c3⟩ := sp_xClose0 (E := E) (n := n1) r2 hE (by omega) (by omega) hcf (by omega) h5 ht1 m1
      rw [← hfl] at c3
      obtain ⟨n', m', f', k', i1, i2, i3, i4, i5, i6, i7⟩ := ih (y + 1) k (n1 + 1) (m1 + 4) f2 (by omega) (by omega) (by omega) (hX1.trans c2 (Nat.le_refl _)) ⟨_, c3⟩
      refine ⟨n', m', f', k', ?_, by omega, ?_, by omega, ?_, i6, i7⟩
      · rw [s_X2_byTrying_29]
        simp (disch := omega) only [zi_lit, zi_neg, zi_add, zi_sub, zi_mul, zi_div, zi_char, zb_eq0, zb_eq1, zb_le0, zb_or, zb_and, zb_or1, zb_or0, zb_1or, zb_0or, zb_and1, zb_and0, zb_1and, zb_0and, zb_nar, zi_nar0, zi_nar1, zl_ite, zl_ret, zl_retb, zl_retb1, zl_retb0, zl_retc, zl_ki, zl_kr, zl_kr0, zl_krf, zl_kl, zl_kf, zl_kd, zl_kv, zl_rf, zl_rf0, zl_valI, zl_valP, zl_valL, zl_get, zl_getI, zl_getR, zl_get0, zl_getr, zl_fk, zl_set, zl_setk, zl_setNb, zl_setN1, zl_setN0, zl_up1, zl_up2, zl_new, zl_newA, zl_len, zl_lenk, zl_ga, zl_gaI, zl_gaL, zl_gaD, zl_gaR, zl_sa, zl_saI, zl_saL, zl_saD, zl_saR, zl_ck, zl_ok, zl_ok0, zl_csS, zl_csS0, zl_csk, zl_tk, zl_csA, zl_isS0, zl_c, zl_cv, zl_cx, zl_sp, zl_rv, zl_rvk, zl_rvk2, zl_div, zl_rem, zl_ath, zl_clnk, zl_clnk0, zl_cat, zl_catn, zl_l0, zl_ls, zl_s0, zl_ss, List.length_cons, List.length_nil, Nat.reduceLT, Nat.zero_add, Nat.lt_add_one, reduceCtorEq, zi_le, zi_lt, zi_eq, if_pos, if_neg, if_true, if_false, Bool.true_eq_false, Bool.false_eq_true, eq_self, Bool.not_true, Bool.not_false, Int.toNat_natCast, Nat.reduceAdd, Int.reduceAdd, Int.reduceSub, Int.reduceMul, Int.reduceNeg, Int.reduceToNat, zl_aa, hbk, e1, hcbk, c1, zc_add]
        exact i1
      · have := (xemC_le rs G y).1
        rw [Nat.succ_mul]; omega
      · have := (xemC_le rs G y).2
        rw [Nat.succ_mul]; omega
    · subst r1
      obtain ⟨R', q1, q2, q3, q4, q5⟩ : ∃ R', [R] = [R'] ∧ rsL [R] y = [R'] ∧ fly [R] G y = G ∧ fly [R] G (y + 1) = tt R' G ∧ lays [R'] R'.1.1 = y := by
        rcases rsL_cases hok.1 y G with h | h
        · rw [r2] at h; cases h.1
        · exact h
      cases q1
      rw [q3] at ht1
      obtain ⟨o1, o2, o3⟩ := hok.2 R (by simp)
      have r3' := r3.mv (f' := f1) (e6 _ (by omega)) fun q _ hq => e6 q (by omega)
      obtain ⟨n2, m2, f2, c1, c2, c3, c4, c5, c6, c7⟩ := sp_xClose1 (E := E) (n := n1) o1 r3' r4 h5 hE (by omega) (by omega) (by omega) hcf (by omega) ht1 m1
      rw [← q4] at c7
      obtain ⟨n', m', f', k', i1, i2, i3, i4, i5, i6, i7⟩ := ih (y + 1) k n2 m2 f2 (by omega) (by omega) (by omega) (hX1.trans c6 (Nat.le_refl _)) ⟨_, c7⟩
      refine ⟨n', m', f', k', ?_, by omega, ?_, by omega, ?_, i6, i7⟩
      · rw [s_X2_byTrying_29]
        simp (disch := omega) only [zi_lit, zi_neg, zi_add, zi_sub, zi_mul, zi_div, zi_char, zb_eq0, zb_eq1, zb_le0, zb_or, zb_and, zb_or1, zb_or0, zb_1or, zb_0or, zb_and1, zb_and0, zb_1and, zb_0and, zb_nar, zi_nar0, zi_nar1, zl_ite, zl_ret, zl_retb, zl_retb1, zl_retb0, zl_retc, zl_ki, zl_kr, zl_kr0, zl_krf, zl_kl, zl_kf, zl_kd, zl_kv, zl_rf, zl_rf0, zl_valI, zl_valP, zl_valL, zl_get, zl_getI, zl_getR, zl_get0, zl_getr, zl_fk, zl_set, zl_setk, zl_setNb, zl_setN1, zl_setN0, zl_up1, zl_up2, zl_new, zl_newA, zl_len, zl_lenk, zl_ga, zl_gaI, zl_gaL, zl_gaD, zl_gaR, zl_sa, zl_saI, zl_saL, zl_saD, zl_saR, zl_ck, zl_ok, zl_ok0, zl_csS, zl_csS0, zl_csk, zl_tk, zl_csA, zl_isS0, zl_c, zl_cv, zl_cx, zl_sp, zl_rv, zl_rvk, zl_rvk2, zl_div, zl_rem, zl_ath, zl_clnk, zl_clnk0, zl_cat, zl_catn, zl_l0, zl_ls, zl_s0, zl_ss, List.length_cons, List.length_nil, Nat.reduceLT, Nat.zero_add, Nat.lt_add_one, reduceCtorEq, zi_le, zi_lt, zi_eq, if_pos, if_neg, if_true, if_false, Bool.true_eq_false, Bool.false_eq_true, eq_self, Bool.not_true, Bool.not_false, Int.toNat_natCast, Nat.reduceAdd, Int.reduceAdd, Int.reduceSub, Int.reduceMul, Int.reduceNeg, Int.reduceToNat, zl_aa, hbk, e1, hcbk, c1, zc_add]
        exact i1
      · have h1 : xemC [R] G y = xtC R (nd R G) := by unfold xemC; dsimp only; rw [if_neg (by omega)]
        have h2 : xemC [R] G (y + 1) = 0 := by unfold xemC; dsimp only; rw [if_pos (by omega)]
        unfold xtC at h1
        rw [Nat.succ_mul]; omega
      · have h1 : xemS [R] G y = xtS R (nd R G) := by unfold xemS; dsimp only; rw [if_neg (by omega)]
        have h2 : xemS [R] G (y + 1) = 0 := by unfold xemS; dsimp only; rw [if_pos (by omega)]
        unfold xtS at h1
        rw [Nat.succ_mul]; omega
noncomputable def btC (rs : List zRule) (G : Nat → Nat → Bool) : Nat := 100 + xemC rs G 0
noncomputable def btS (rs : List zRule) (G : Nat → Nat → Bool) : Nat := 400 + xemS rs G 0
theorem sp_byTrying {E : zE} {G : Nat → Nat → Bool} {rs : List zRule} {lo hi lb gb b n : Nat} {g2 kv : Value} {f : Nat → Option zO} (hc : zC1 E f) (hok : rsOk rs) (hb : f b = some (.inr (26, [.ref gb, .ref lb, g2, kv]))) (hG : rFacts f gb G) (hR : rRules E f lo hi lb rs) (hE : E 0 ≤ n) (hhi : hi ≤ n) (hbn : b < n) (hgn : gb + 18 ≤ n) (m : Nat) :
    ∃ (n' m' kb : Nat) (f' : Nat → Option zO), s_X2_byTrying E (some b) (n, m, f) = some (.inl (some (.ref kb)), (n', m', f')) ∧ n ≤ n' ∧ n' ≤ n + btC rs G ∧ m ≤ m' ∧ m' ≤ m + btS rs G ∧ zX n f f' ∧ rFacts f' kb (tr rs G) ∧ kb + 18 ≤ n' ∧ n ≤ kb := by
  have h5 := hc.2.2.2.1
  have hbk : zCk (f b) = some 26 := by rw [hb]; rfl
  generalize hf1 : zUp f n (.inr (35, [.null, .null])) = f1
  have hf1' : ∀ q, q ≠ n → f1 q = f q := fun q hq => by rw [← hf1, zl_up2 hq]
  have hX1 : zX n f f1 := fun q hq => hf1' q (by omega)
  obtain ⟨n2, m2, f2, a1, a2, a3, a4, a5, a6, a7⟩ := sp_nInit (E := E) (b := n) (f := f1) (rs := rs) (hc.mv (hX1.le (by omega))) (by rw [← hf1, zl_up1 rfl]) (by omega) (hR.mvX hX1 hhi (by omega)) hhi (m + 2)
  have hX2 : zX n f f2 := hX1.trans a7 (Nat.le_refl _)
  obtain ⟨f3, b1, b2, b3⟩ := sp_layers (E := E) (rs := rs) (fun R hR => (hok.2 R hR).2.2) hok.1 a6 (n := n2) (by omega) (by omega) m2
  have hX3 : zX n f f3 := hX2.trans b2 (by omega)
  generalize hf4 : zUp f3 (n2 + 1) (.inr (17, [.null, .int (zi 0)])) = f4
  have hf4' : ∀ q, q ≠ n2 + 1 → f4 q = f3 q := fun q hq => by rw [← hf4, zl_up2 hq]
  have hX4 : zX n f f4 := fun q hq => (hf4' q (by omega)).trans (hX3 q hq)
  generalize hf5 : zUp f4 (n2 + 2) (.inr (32, [.null])) = f5
  have hf5' : ∀ q, q ≠ n2 + 2 → f5 q = f4 q := fun q hq => by rw [← hf5, zl_up2 hq]
  have hX5 : zX n f f5 := fun q hq => (hf5' q (by omega)).trans (hX4 q hq)
  obtain ⟨f6, c1, c2, c3⟩ := sp_fCopy (E := E) (b := n2 + 2) (ob := gb) (f := f5) (m := m2 + 11) (by omega) (by rw [← hf5, zl_up1 rfl]) (hG.mv fun q _ _ => hX5 q (by omega)) (by omega)
  generalize hf7 : zUp f6 (n2 + 1) (.inr (17, [.ref (n2 + 2), .int (zi 0)])) = f7
  have hf7' : ∀ q, q ≠ n2 + 1 → f7 q = f6 q := fun q hq => by rw [← hf7, zl_up2 hq]
  have h47 : ∀ q, q < n2 + 1 → f7 q = f3 q := fun q hq => (hf7' q (by omega)).trans ((c2 q (by omega)).trans ((hf5' q (by omega)).trans (hf4' q (by omega))))
  have hX7 : zX n f f7 := fun q hq => (h47 q (by omega)).trans (hX3 q hq)
  have hv7 : rLay f7 n2 (lays rs) := by
    obtain ⟨w, w1, w2⟩ := b3
    exact ⟨w, (h47 n2 (by omega)).trans w1, w2⟩
  have hfl0 := fly_0 rs G
  obtain ⟨n8, m8, f8, k', d1, d2, d3, d4, d5, d6, b8, d7, d8⟩ := sp_bytry_l (E := E) (G := G) (cb := n2 + 1) (fb := n2 + 2) (v := n2) (f0 := f7) (hc.mv (hX7.le (by omega))) hok ((hX7 b hbn).trans hb) (hR.mvX hX7 hhi (by omega)) hv7 (by omega) (by omega) (by omega) (by omega) (by omega) 8 0 zN (n2 + 20) (m2 + 59) f7 (by omega) (by unfold zN; omega) (by omega) (fun _ _ => rfl) ⟨false, by rw [← hf7, zl_up1 rfl]; rfl, by rw [hfl0]; exact c3.mv fun q _ _ => hf7' q (by omega)⟩
  have hX8 : zX n f f8 := hX7.trans d6 (by omega)
  refine ⟨n8, m8, n2 + 2, f8, ?_, by omega, by unfold btC; omega, by omega, by unfold btS; omega, hX8, d8, by omega, by omega⟩
  have hb1 := (hX1 b hbn).trans hb
  have hb4 := (hX4 b hbn).trans hb
  have e4 : f4 (n2 + 1) = some (.inr (17, [.null, .int (zi 0)])) := by rw [← hf4, zl_up1 rfl]
  have e6 : f6 (n2 + 1) = some (.inr (17, [.null, .int (zi 0)])) := (c2 _ (by omega)).trans ((hf5' _ (by omega)).trans e4)
  rw [show ((0 : Nat) : Int) = 0 from rfl] at d1
  unfold s_X2_byTrying
  simp (disch := omega) only [zi_lit, zi_neg, zi_add, zi_sub, zi_mul, zi_div, zi_char, zb_eq0, zb_eq1, zb_le0, zb_or, zb_and, zb_or1, zb_or0, zb_1or, zb_0or, zb_and1, zb_and0, zb_1and, zb_0and, zb_nar, zi_nar0, zi_nar1, zl_ite, zl_ret, zl_retb, zl_retb1, zl_retb0, zl_retc, zl_ki, zl_kr, zl_kr0, zl_krf, zl_kl, zl_kf, zl_kd, zl_kv, zl_rf, zl_rf0, zl_valI, zl_valP, zl_valL, zl_get, zl_getI, zl_getR, zl_get0, zl_getr, zl_fk, zl_set, zl_setk, zl_setNb, zl_setN1, zl_setN0, zl_up1, zl_up2, zl_new, zl_newA, zl_len, zl_lenk, zl_ga, zl_gaI, zl_gaL, zl_gaD, zl_gaR, zl_sa, zl_saI, zl_saL, zl_saD, zl_saR, zl_ck, zl_ok, zl_ok0, zl_csS, zl_csS0, zl_csk, zl_tk, zl_csA, zl_isS0, zl_c, zl_cv, zl_cx, zl_sp, zl_rv, zl_rvk, zl_rvk2, zl_div, zl_rem, zl_ath, zl_clnk, zl_clnk0, zl_cat, zl_catn, zl_l0, zl_ls, zl_s0, zl_ss, List.length_cons, List.length_nil, Nat.reduceLT, Nat.zero_add, Nat.lt_add_one, reduceCtorEq, zi_le, zi_lt, zi_eq, if_pos, if_neg, if_true, if_false, Bool.true_eq_false, Bool.false_eq_true, eq_self, Bool.not_true, Bool.not_false, Int.toNat_natCast, Nat.reduceAdd, Int.reduceAdd, Int.reduceSub, Int.reduceMul, Int.reduceNeg, Int.reduceToNat, zl_aa, hf1, hb1, a1, a6.ck, b1, hf4, hb4]
  unfold s_X11_init s_X10_init
  simp (disch := omega) only [zi_lit, zi_neg, zi_add, zi_sub, zi_mul, zi_div, zi_char, zb_eq0, zb_eq1, zb_le0, zb_or, zb_and, zb_or1, zb_or0, zb_1or, zb_0or, zb_and1, zb_and0, zb_1and, zb_0and, zb_nar, zi_nar0, zi_nar1, zl_ite, zl_ret, zl_retb, zl_retb1, zl_retb0, zl_retc, zl_ki, zl_kr, zl_kr0, zl_krf, zl_kl, zl_kf, zl_kd, zl_kv, zl_rf, zl_rf0, zl_valI, zl_valP, zl_valL, zl_get, zl_getI, zl_getR, zl_get0, zl_getr, zl_fk, zl_set, zl_setk, zl_setNb, zl_setN1, zl_setN0, zl_up1, zl_up2, zl_new, zl_newA, zl_len, zl_lenk, zl_ga, zl_gaI, zl_gaL, zl_gaD, zl_gaR, zl_sa, zl_saI, zl_saL, zl_saD, zl_saR, zl_ck, zl_ok, zl_ok0, zl_csS, zl_csS0, zl_csk, zl_tk, zl_csA, zl_isS0, zl_c, zl_cv, zl_cx, zl_sp, zl_rv, zl_rvk, zl_rvk2, zl_div, zl_rem, zl_ath, zl_clnk, zl_clnk0, zl_cat, zl_catn, zl_l0, zl_ls, zl_s0, zl_ss, List.length_cons, List.length_nil, Nat.reduceLT, Nat.zero_add, Nat.lt_add_one, reduceCtorEq, zi_le, zi_lt, zi_eq, if_pos, if_neg, if_true, if_false, Bool.true_eq_false, Bool.false_eq_true, eq_self, Bool.not_true, Bool.not_false, Int.toNat_natCast, Nat.reduceAdd, Int.reduceAdd, Int.reduceSub, Int.reduceMul, Int.reduceNeg, Int.reduceToNat, zl_aa, hf5, c1, e6, hf7]
  rw [d1, s_X2_byTrying_29]
  simp (disch := omega) only [zi_lit, zi_neg, zi_add, zi_sub, zi_mul, zi_div, zi_char, zb_eq0, zb_eq1, zb_le0, zb_or, zb_and, zb_or1, zb_or0, zb_1or, zb_0or, zb_and1, zb_and0, zb_1and, zb_0and, zb_nar, zi_nar0, zi_nar1, zl_ite, zl_ret, zl_retb, zl_retb1, zl_retb0, zl_retc, zl_ki, zl_kr, zl_kr0, zl_krf, zl_kl, zl_kf, zl_kd, zl_kv, zl_rf, zl_rf0, zl_valI, zl_valP, zl_valL, zl_get, zl_getI, zl_getR, zl_get0, zl_getr, zl_fk, zl_set, zl_setk, zl_setNb, zl_setN1, zl_setN0, zl_up1, zl_up2, zl_new, zl_newA, zl_len, zl_lenk, zl_ga, zl_gaI, zl_gaL, zl_gaD, zl_gaR, zl_sa, zl_saI, zl_saL, zl_saD, zl_saR, zl_ck, zl_ok, zl_ok0, zl_csS, zl_csS0, zl_csk, zl_tk, zl_csA, zl_isS0, zl_c, zl_cv, zl_cx, zl_sp, zl_rv, zl_rvk, zl_rvk2, zl_div, zl_rem, zl_ath, zl_clnk, zl_clnk0, zl_cat, zl_catn, zl_l0, zl_ls, zl_s0, zl_ss, List.length_cons, List.length_nil, Nat.reduceLT, Nat.zero_add, Nat.lt_add_one, reduceCtorEq, zi_le, zi_lt, zi_eq, if_pos, if_neg, if_true, if_false, Bool.true_eq_false, Bool.false_eq_true, eq_self, Bool.not_true, Bool.not_false, Int.toNat_natCast, Nat.reduceAdd, Int.reduceAdd, Int.reduceSub, Int.reduceMul, Int.reduceNeg, Int.reduceToNat, zl_aa, d7]
