set_option maxRecDepth 20000
/-! ===== plain law: Heights in rounds ===== -/
def rsum (h : Nat → Nat → Nat) (p : Nat) : Nat → Nat
  | 0 => 0
  | k + 1 => rsum h p k + h p k
def hsum (h : Nat → Nat → Nat) : Nat → Nat
  | 0 => 0
  | k + 1 => hsum h k + rsum h k 100
theorem rsum_le {h : Nat → Nat → Nat} (hle : ∀ p c, h p c ≤ 1000) (p k : Nat) : rsum h p k ≤ 1000 * k := by
  induction k with
  | zero => exact Nat.le_refl _
  | succ k ih => rw [rsum]; have := hle p k; omega
theorem hsum_le {h : Nat → Nat → Nat} (hle : ∀ p c, h p c ≤ 1000) (k : Nat) : hsum h k ≤ 100000 * k := by
  induction k with
  | zero => exact Nat.le_refl _
  | succ k ih => rw [hsum]; have := rsum_le hle k 100; omega
theorem rsum_mono {h h' : Nat → Nat → Nat} (hh : ∀ p c, h' p c ≤ h p c) (p k : Nat) : rsum h' p k ≤ rsum h p k := by
  induction k with
  | zero => exact Nat.le_refl _
  | succ k ih => rw [rsum, rsum]; have := hh p k; omega
theorem hsum_mono {h h' : Nat → Nat → Nat} (hh : ∀ p c, h' p c ≤ h p c) (k : Nat) : hsum h' k ≤ hsum h k := by
  induction k with
  | zero => exact Nat.le_refl _
  | succ k ih => rw [hsum, hsum]; have := rsum_mono hh k 100; omega
theorem rsum_eq {h h' : Nat → Nat → Nat} (hh : ∀ p c, h' p c ≤ h p c) {p : Nat} : ∀ k, rsum h' p k = rsum h p k → ∀ c, c < k → h' p c = h p c := by
  intro k
  induction k with
  | zero => intro _ c hc; omega
  | succ k ih =>
    intro he c hc
    rw [rsum, rsum] at he
    have h1 := rsum_mono hh p k
    have h2 := hh p k
    by_cases hck : c = k
    · subst hck; omega
    · exact ih (by omega) c (by omega)
theorem hsum_eq {h h' : Nat → Nat → Nat} (hh : ∀ p c, h' p c ≤ h p c) : ∀ k, hsum h' k = hsum h k → ∀ p c, p < k → c < 100 → h' p c = h p c := by
  intro k
  induction k with
  | zero => intro _ p c hp; omega
  | succ k ih =>
    intro he p c hp hc
    rw [hsum, hsum] at he
    have h1 := hsum_mono hh k
    have h2 := rsum_mono hh k 100
    by_cases hpk : p = k
    · subst hpk; exact rsum_eq hh 100 (by omega) c hc
    · exact ih (by omega) p c (by omega) hc
theorem sp_sum_l1 {E : zE} {a p : Nat} {h : Nat → Nat → Nat} {f : Nat → Option zO} (hh : rHt f a h) (hp : p < 8) (k13 : Int32 → Option Nat → Int32 → Int32 → zM) (A : Option Nat) (B C : Int32) (n m : Nat) : ∀ (d c k : Nat) (s : Int), c + d = 100 → d < k → s_X12_sum_37 E k13 k (zi s) A B C (some (a + 1 + p)) (zi 100) (zi c) (n, m, f) = k13 (zi (s + (rsum h p 100 : Nat) - (rsum h p c : Nat))) A B (C + 1) (n, m, f) := by
  obtain ⟨-, g4⟩ := hh
  obtain ⟨w, w1, w2⟩ := g4 p hp
  intro d
  induction d with
  | zero =>
    intro c k s hc hk
    obtain ⟨k, rfl⟩ : ∃ k', k = k' + 1 := ⟨k - 1, by omega⟩
    obtain rfl : c = 100 := by omega
    rw [s_X12_sum_37]
    simp (disch := omega) only [zi_lit, zi_neg, zi_add, zi_sub, zi_mul, zi_div, zi_char, zb_eq0, zb_eq1, zb_le0, zb_or, zb_and, zb_or1, zb_or0, zb_1or, zb_0or, zb_and1, zb_and0, zb_1and, zb_0and, zb_nar, zi_nar0, zi_nar1, zl_ite, zl_ret, zl_retb, zl_retb1, zl_retb0, zl_retc, zl_ki, zl_kr, zl_kr0, zl_krf, zl_kl, zl_kf, zl_kd, zl_kv, zl_rf, zl_rf0, zl_valI, zl_valP, zl_valL, zl_get, zl_getI, zl_getR, zl_get0, zl_getr, zl_fk, zl_set, zl_setk, zl_setNb, zl_setN1, zl_setN0, zl_up1, zl_up2, zl_new, zl_newA, zl_len, zl_lenk, zl_ga, zl_gaI, zl_gaL, zl_gaD, zl_gaR, zl_sa, zl_saI, zl_saL, zl_saD, zl_saR, zl_ck, zl_ok, zl_ok0, zl_csS, zl_csS0, zl_csk, zl_tk, zl_csA, zl_isS0, zl_c, zl_cv, zl_cx, zl_sp, zl_rv, zl_rvk, zl_rvk2, zl_div, zl_rem, zl_ath, zl_clnk, zl_clnk0, zl_cat, zl_catn, zl_l0, zl_ls, zl_s0, zl_ss, List.length_cons, List.length_nil, Nat.reduceLT, Nat.zero_add, Nat.lt_add_one, reduceCtorEq, zi_le, zi_lt, zi_eq, if_pos, if_neg, if_true, if_false, Bool.true_eq_false, Bool.false_eq_true, eq_self, Bool.not_true, Bool.not_false, Int.toNat_natCast, Nat.reduceAdd, Int.reduceAdd, Int.reduceSub, Int.reduceMul, Int.reduceNeg, Int.reduceToNat, zl_aa]
    congr 2; omega
  | succ d ih =>
    intro c k s hc hk
    obtain ⟨k, rfl⟩ : ∃ k', k = k' + 1 := ⟨k - 1, by omega⟩
    have wc := w2 c (by omega)
    rw [s_X12_sum_37]
    simp (disch := omega) only [zi_lit, zi_neg, zi_add, zi_sub, zi_mul, zi_div, zi_char, zb_eq0, zb_eq1, zb_le0, zb_or, zb_and, zb_or1, zb_or0, zb_1or, zb_0or, zb_and1, zb_and0, zb_1and, zb_0and, zb_nar, zi_nar0, zi_nar1, zl_ite, zl_ret, zl_retb, zl_retb1, zl_retb0, zl_retc, zl_ki, zl_kr, zl_kr0, zl_krf, zl_kl, zl_kf, zl_kd, zl_kv, zl_rf, zl_rf0, zl_valI, zl_valP, zl_valL, zl_get, zl_getI, zl_getR, zl_get0, zl_getr, zl_fk, zl_set, zl_setk, zl_setNb, zl_setN1, zl_setN0, zl_up1, zl_up2, zl_new, zl_newA, zl_len, zl_lenk, zl_ga, zl_gaI, zl_gaL, zl_gaD, zl_gaR, zl_sa, zl_saI, zl_saL, zl_saD, zl_saR, zl_ck, zl_ok, zl_ok0, zl_csS, zl_csS0, zl_csk, zl_tk, zl_csA, zl_isS0, zl_c, zl_cv, zl_cx, zl_sp, zl_rv, zl_rvk, zl_rvk2, zl_div, zl_rem, zl_ath, zl_clnk, zl_clnk0, zl_cat, zl_catn, zl_l0, zl_ls, zl_s0, zl_ss, List.length_cons, List.length_nil, Nat.reduceLT, Nat.zero_add, Nat.lt_add_one, reduceCtorEq, zi_le, zi_lt, zi_eq, if_pos, if_neg, if_true, if_false, Bool.true_eq_false, Bool.false_eq_true, eq_self, Bool.not_true, Bool.not_false, Int.toNat_natCast, Nat.reduceAdd, Int.reduceAdd, Int.reduceSub, Int.reduceMul, Int.reduceNeg, Int.reduceToNat, zl_aa, w1, wc, zc_add]
    rw [ih (c + 1) k _ (by omega) (by omega), show rsum h p (c + 1) = rsum h p c + h p c from rfl]
    simp only [zi_lit]
    congr 2; omega
theorem sp_sum_l {E : zE} {a : Nat} {h : Nat → Nat → Nat} {f : Nat → Option zO} (hh : rHt f a h) (n m : Nat) : ∀ (d p k : Nat) (s : Int), p + d = 8 → d < k → s_X12_sum_13 E k (zi s) (some a) (zi 8) (zi p) (n, m, f) = some (.inl (some (.int (zi (s + (hsum h 8 : Nat) - (hsum h p : Nat))))), (n, m, f)) := by
  have hh' := hh
  obtain ⟨⟨g, g2, g3⟩, g4⟩ := hh
  intro d
  induction d with
  | zero =>
    intro p k s hp hk
    obtain ⟨k, rfl⟩ : ∃ k', k = k' + 1 := ⟨k - 1, by omega⟩
    obtain rfl : p = 8 := by omega
    rw [s_X12_sum_13]
    simp (disch := omega) only [zi_lit, zi_neg, zi_add, zi_sub, zi_mul, zi_div, zi_char, zb_eq0, zb_eq1, zb_le0, zb_or, zb_and, zb_or1, zb_or0, zb_1or, zb_0or, zb_and1, zb_and0, zb_1and, zb_0and, zb_nar, zi_nar0, zi_nar1, zl_ite, zl_ret, zl_retb, zl_retb1, zl_retb0, zl_retc, zl_ki, zl_kr, zl_kr0, zl_krf, zl_kl, zl_kf, zl_kd, zl_kv, zl_rf, zl_rf0, zl_valI, zl_valP, zl_valL, zl_get, zl_getI, zl_getR, zl_get0, zl_getr, zl_fk, zl_set, zl_setk, zl_setNb, zl_setN1, zl_setN0, zl_up1, zl_up2, zl_new, zl_newA, zl_len, zl_lenk, zl_ga, zl_gaI, zl_gaL, zl_gaD, zl_gaR, zl_sa, zl_saI, zl_saL, zl_saD, zl_saR, zl_ck, zl_ok, zl_ok0, zl_csS, zl_csS0, zl_csk, zl_tk, zl_csA, zl_isS0, zl_c, zl_cv, zl_cx, zl_sp, zl_rv, zl_rvk, zl_rvk2, zl_div, zl_rem, zl_ath, zl_clnk, zl_clnk0, zl_cat, zl_catn, zl_l0, zl_ls, zl_s0, zl_ss, List.length_cons, List.length_nil, Nat.reduceLT, Nat.zero_add, Nat.lt_add_one, reduceCtorEq, zi_le, zi_lt, zi_eq, if_pos, if_neg, if_true, if_false, Bool.true_eq_false, Bool.false_eq_true, eq_self, Bool.not_true, Bool.not_false, Int.toNat_natCast, Nat.reduceAdd, Int.reduceAdd, Int.reduceSub, Int.reduceMul, Int.reduceNeg, Int.reduceToNat, zl_aa]
    congr 6; omega
  | succ d ih =>
    intro p k s hp hk
    obtain ⟨k, rfl⟩ : ∃ k', k = k' + 1 := ⟨k - 1, by omega⟩
    obtain ⟨w, w1, w2⟩ := g4 p (by omega)
    rw [s_X12_sum_13]
    have := sp_sum_l1 (E := E) hh' (show p < 8 by omega) (s_X12_sum_13 E k) (some a) (zi 8) (zi p) n m 100 0 zN s (by omega) (by unfold zN; omega)
    rw [show ((0 : Nat) : Int) = 0 from rfl] at this
    simp (disch := omega) only [zi_lit, zi_neg, zi_add, zi_sub, zi_mul, zi_div, zi_char, zb_eq0, zb_eq1, zb_le0, zb_or, zb_and, zb_or1, zb_or0, zb_1or, zb_0or, zb_and1, zb_and0, zb_1and, zb_0and, zb_nar, zi_nar0, zi_nar1, zl_ite, zl_ret, zl_retb, zl_retb1, zl_retb0, zl_retc, zl_ki, zl_kr, zl_kr0, zl_krf, zl_kl, zl_kf, zl_kd, zl_kv, zl_rf, zl_rf0, zl_valI, zl_valP, zl_valL, zl_get, zl_getI, zl_getR, zl_get0, zl_getr, zl_fk, zl_set, zl_setk, zl_setNb, zl_setN1, zl_setN0, zl_up1, zl_up2, zl_new, zl_newA, zl_len, zl_lenk, zl_ga, zl_gaI, zl_gaL, zl_gaD, zl_gaR, zl_sa, zl_saI, zl_saL, zl_saD, zl_saR, zl_ck, zl_ok, zl_ok0, zl_csS, zl_csS0, zl_csk, zl_tk, zl_csA, zl_isS0, zl_c, zl_cv, zl_cx, zl_sp, zl_rv, zl_rvk, zl_rvk2, zl_div, zl_rem, zl_ath, zl_clnk, zl_clnk0, zl_cat, zl_catn, zl_l0, zl_ls, zl_s0, zl_ss, List.length_cons, List.length_nil, Nat.reduceLT, Nat.zero_add, Nat.lt_add_one, reduceCtorEq, zi_le, zi_lt, zi_eq, if_pos, if_neg, if_true, if_false, Bool.true_eq_false, Bool.false_eq_true, eq_self, Bool.not_true, Bool.not_false, Int.toNat_natCast, Nat.reduceAdd, Int.reduceAdd, Int.reduceSub, Int.reduceMul, Int.reduceNeg, Int.reduceToNat, zl_aa, g2, g3 p (by omega), w1]
    rw [show ((100 : Nat) : Int) = 100 from rfl, this]
    simp (disch := omega) only [zi_lit, zi_neg, zi_add, zi_sub, zi_mul, zi_div, zi_char, zb_eq0, zb_eq1, zb_le0, zb_or, zb_and, zb_or1, zb_or0, zb_1or, zb_0or, zb_and1, zb_and0, zb_1and, zb_0and, zb_nar, zi_nar0, zi_nar1, zl_ite, zl_ret, zl_retb, zl_retb1, zl_retb0, zl_retc, zl_ki, zl_kr, zl_kr0, zl_krf, zl_kl, zl_kf, zl_kd, zl_kv, zl_rf, zl_rf0, zl_valI, zl_valP, zl_valL, zl_get, zl_getI, zl_getR, zl_get0, zl_getr, zl_fk, zl_set, zl_setk, zl_setNb, zl_setN1, zl_setN0, zl_up1, zl_up2, zl_new, zl_newA, zl_len, zl_lenk, zl_ga, zl_gaI, zl_gaL, zl_gaD, zl_gaR, zl_sa, zl_saI, zl_saL, zl_saD, zl_saR, zl_ck, zl_ok, zl_ok0, zl_csS, zl_csS0, zl_csk, zl_tk, zl_csA, zl_isS0, zl_c, zl_cv, zl_cx, zl_sp, zl_rv, zl_rvk, zl_rvk2, zl_div, zl_rem, zl_ath, zl_clnk, zl_clnk0, zl_cat, zl_catn, zl_l0, zl_ls, zl_s0, zl_ss, List.length_cons, List.length_nil, Nat.reduceLT, Nat.zero_add, Nat.lt_add_one, reduceCtorEq, zi_le, zi_lt, zi_eq, if_pos, if_neg, if_true, if_false, Bool.true_eq_false, Bool.false_eq_true, eq_self, Bool.not_true, Bool.not_false, Int.toNat_natCast, Nat.reduceAdd, Int.reduceAdd, Int.reduceSub, Int.reduceMul, Int.reduceNeg, Int.reduceToNat, zl_aa, zc_add]
    rw [ih (p + 1) k _ (by omega) (by omega)]
    rw [show hsum h (p + 1) = hsum h p + rsum h p 100 from rfl, show rsum h p 0 = 0 from rfl]
    congr 6; omega
theorem sp_sum {E : zE} {hb b : Nat} {h : Nat → Nat → Nat} {f : Nat → Option zO} (hh : rHei f hb b h) (n m : Nat) : s_X12_sum E (some hb) (n, m, f) = some (.inl (some (.int (zi (hsum h 8 : Nat)))), (n, m, f)) := by
  obtain ⟨g1, hm⟩ := hh
  have := sp_sum_l (E := E) hm n m 8 0 zN 0 (by omega) (by unfold zN; omega)
  obtain ⟨⟨g, g2, g3⟩, g4⟩ := hm
  rw [show ((0 : Nat) : Int) = 0 from rfl] at this
  unfold s_X12_sum
  simp (disch := omega) only [zi_lit, zi_neg, zi_add, zi_sub, zi_mul, zi_div, zi_char, zb_eq0, zb_eq1, zb_le0, zb_or, zb_and, zb_or1, zb_or0, zb_1or, zb_0or, zb_and1, zb_and0, zb_1and, zb_0and, zb_nar, zi_nar0, zi_nar1, zl_ite, zl_ret, zl_retb, zl_retb1, zl_retb0, zl_retc, zl_ki, zl_kr, zl_kr0, zl_krf, zl_kl, zl_kf, zl_kd, zl_kv, zl_rf, zl_rf0, zl_valI, zl_valP, zl_valL, zl_get, zl_getI, zl_getR, zl_get0, zl_getr, zl_fk, zl_set, zl_setk, zl_setNb, zl_setN1, zl_setN0, zl_up1, zl_up2, zl_new, zl_newA, zl_len, zl_lenk, zl_ga, zl_gaI, zl_gaL, zl_gaD, zl_gaR, zl_sa, zl_saI, zl_saL, zl_saD, zl_saR, zl_ck, zl_ok, zl_ok0, zl_csS, zl_csS0, zl_csk, zl_tk, zl_csA, zl_isS0, zl_c, zl_cv, zl_cx, zl_sp, zl_rv, zl_rvk, zl_rvk2, zl_div, zl_rem, zl_ath, zl_clnk, zl_clnk0, zl_cat, zl_catn, zl_l0, zl_ls, zl_s0, zl_ss, List.length_cons, List.length_nil, Nat.reduceLT, Nat.zero_add, Nat.lt_add_one, reduceCtorEq, zi_le, zi_lt, zi_eq, if_pos, if_neg, if_true, if_false, Bool.true_eq_false, Bool.false_eq_true, eq_self, Bool.not_true, Bool.not_false, Int.toNat_natCast, Nat.reduceAdd, Int.reduceAdd, Int.reduceSub, Int.reduceMul, Int.reduceNeg, Int.reduceToNat, zl_aa, g1, g2]
  rw [show ((8 : Nat) : Int) = 8 from rfl, this, show hsum h 0 = 0 from rfl]
  congr 6; omega
theorem rHei.congr {f : Nat → Option zO} {hb b : Nat} {h h' : Nat → Nat → Nat} (hh : rHei f hb b h) (he : ∀ p c, p < 8 → c < 100 → h p c = h' p c) : rHei f hb b h' := by
  obtain ⟨h1, h2, h3⟩ := hh
  refine ⟨h1, h2, fun i hi => ?_⟩
  obtain ⟨w, w1, w2⟩ := h3 i hi
  exact ⟨w, w1, fun j hj => by rw [← he i j hi hj]; exact w2 j hj⟩
/-- between the heights and what stood before the pass -/
def P13 (R : zRule) (G : Nat → Nat → Bool) (hs : Nat → Nat → Nat) (s : Nat) (h : Nat → Nat → Nat) : Prop := (∀ p c, hgt R G p c ≤ h p c) ∧ (∀ p c, h p c ≤ hs p c) ∧ ∀ t, t < s → vs R t → rH (tt R G) (sgs t) R = true → h R.1.1 (hd R (sgs t)) ≤ hby hs (sgs t) (prem R.2.1)
theorem P13_up {R : zRule} {G : Nat → Nat → Bool} (hst : strat R) (hR : okRule R) {hs h : Nat → Nat → Nat} {s : Nat} (hP : P13 R G hs s h) (hv : vs R s) (hr : rH (tt R G) (sgs s) R = true) : P13 R G hs (s + 1) (up13 R h s) := by
  obtain ⟨p1, p2, p3⟩ := hP
  have hst' := hgt_step hst hR hv hr
  have hm1 := hby_mono p1 (sgs s) (prem R.2.1)
  have hm2 := hby_mono p2 (sgs s) (prem R.2.1)
  have hval : ∀ p c, up13 R h s p c = if p = R.1.1 ∧ c = hd R (sgs s) then min (h p c) (hby h (sgs s) (prem R.2.1)) else h p c := fun p c => by
    unfold up13 hset
    by_cases hc : p = R.1.1 ∧ c = hd R (sgs s)
    · rw [if_pos hc, if_pos hc, hc.1, hc.2]
    · rw [if_neg hc, if_neg hc]
  refine ⟨fun p c => ?_, fun p c => ?_, fun t ht1 ht2 ht3 => ?_⟩
  · rw [hval]
    have := p1 p c
    split
    · rename_i hc; obtain ⟨rfl, rfl⟩ := hc; omega
    · exact this
  · rw [hval]
    have := p2 p c
    split <;> omega
  · rw [hval]
    rcases Nat.lt_succ_iff_lt_or_eq.mp ht1 with h1 | h1
    · have := p3 t h1 ht2 ht3
      split <;> omega
    · subst h1; rw [if_pos ⟨rfl, rfl⟩]; omega
theorem P13_no {R : zRule} {G : Nat → Nat → Bool} {hs h : Nat → Nat → Nat} {s : Nat} (hP : P13 R G hs s h) (hn : ¬ (vs R s ∧ rH (tt R G) (sgs s) R = true)) : P13 R G hs (s + 1) h := by
  obtain ⟨p1, p2, p3⟩ := hP
  refine ⟨p1, p2, fun t ht1 ht2 ht3 => ?_⟩
  rcases Nat.lt_succ_iff_lt_or_eq.mp ht1 with h1 | h1
  · exact p3 t h1 ht2 ht3
  · subst h1; exact absurd ⟨ht2, ht3⟩ hn
theorem up13_le {R : zRule} {h : Nat → Nat → Nat} (s : Nat) (hle : ∀ p c, h p c ≤ 1000) : ∀ p c, up13 R h s p c ≤ 1000 := fun p c => by
  unfold up13 hset
  have := hle p c; have := hle R.1.1 (hd R (sgs s))
  split <;> omega
/-- closed under all steps: the heights themselves -/
theorem hgt_closed {R : zRule} {G : Nat → Nat → Bool} (hst : strat R) (hR : okRule R) {h : Nat → Nat → Nat} (h1 : ∀ p c, hgt R G p c ≤ h p c) (hle : ∀ p c, h p c ≤ 1000) (hG : ∀ p c, G p c = true → h p c = 0) (hc : ∀ t, vs R t → rH (tt R G) (sgs t) R = true → h R.1.1 (hd R (sgs t)) ≤ hby h (sgs t) (prem R.2.1)) (p c : Nat) : h p c = hgt R G p c := by
  cases ht : tt R G p c
  · have := h1 p c; have := hle p c
    rw [hgt_far ht] at *; omega
  · have key : ∀ k p c, tt R G p c = true → hgt R G p c ≤ k → h p c ≤ hgt R G p c := by
      intro k
      induction k with
      | zero =>
        intro p c ht hk
        have : G p c = true := (hgt_0 hst hR).mp (by omega)
        rw [hG p c this]; omega
      | succ k ih =>
        intro p c ht hk
        cases hg : G p c
        · obtain ⟨s, hs, rfl, rfl, hr, he⟩ := hgt_ex hst hR ht hg
          have h3 := hc s hs hr
          have hpm : hgt R G R.1.1 (hd R (sgs s)) = (hgt R G R.1.1 (hd R (sgs s)) - 1) + 1 := by unfold hby at he; omega
          have hb := (hby_le (b := hgt R G R.1.1 (hd R (sgs s)) - 1)).mp (by omega : hby (hgt R G) (sgs s) (prem R.2.1) ≤ _)
          have hpt := ((rH_iff (btw_tt R G) hst _).mp hr).1
          have : hby h (sgs s) (prem R.2.1) ≤ (hgt R G R.1.1 (hd R (sgs s)) - 1) + 1 := hby_le.mpr (prem_iff.mpr fun L hL h0 => by
            have hb' := prem_iff.mp hb L hL h0
            exact Nat.le_trans (ih _ _ (hpt L hL h0) (by omega)) hb')
          omega
        · rw [hG p c hg]; omega
    have := key _ p c ht (Nat.le_refl _)
    have := h1 p c
    omega
/-- how many are not exact yet -/
noncomputable def nex (R : zRule) (G : Nat → Nat → Bool) (h : Nat → Nat → Nat) : Nat := bcnt (fun c => tt R G R.1.1 c && !decide (h R.1.1 c = hgt R G R.1.1 c)) 128
theorem nex_dec {R : zRule} {G : Nat → Nat → Bool} (hst : strat R) (hR : okRule R) {hs h : Nat → Nat → Nat} (hG : ∀ p c, G p c = true → hs p c = 0) (hoff : ∀ p c, p ≠ R.1.1 → hs p c = hgt R G p c) (hP : P13 R G hs 1000 h) (hpos : 0 < nex R G hs) : nex R G h < nex R G hs := by
  obtain ⟨p1, p2, p3⟩ := hP
  have hex : ∃ k c, c < 128 ∧ tt R G R.1.1 c = true ∧ hs R.1.1 c ≠ hgt R G R.1.1 c ∧ hgt R G R.1.1 c = k := by
    refine Classical.byContradiction fun hn => ?_
    have : nex R G hs = 0 := by
      unfold nex
      have h0 : ∀ N, N ≤ 128 → bcnt (fun c => tt R G R.1.1 c && !decide (hs R.1.1 c = hgt R G R.1.1 c)) N = 0 := fun N => by
        induction N with
        | zero => intro _; rfl
        | succ N ih =>
          intro hN
          rw [bcnt, ih (by omega)]
          rw [if_neg]
          intro hc
          simp only [Bool.and_eq_true, Bool.not_eq_true', decide_eq_false_iff_not] at hc
          exact hn ⟨_, N, by omega, hc.1, hc.2, rfl⟩
      exact h0 128 (Nat.le_refl _)
    omega
  obtain ⟨c, hc128, hct, hcn, hmin⟩ : ∃ c, c < 128 ∧ tt R G R.1.1 c = true ∧ hs R.1.1 c ≠ hgt R G R.1.1 c ∧ ∀ c', tt R G R.1.1 c' = true → hgt R G R.1.1 c' < hgt R G R.1.1 c → c' < 128 → hs R.1.1 c' = hgt R G R.1.1 c' := by
    obtain ⟨k, h⟩ := hex
    induction k using Nat.strongRecOn with
    | ind k ih =>
      obtain ⟨c, h1, h2, h3, h4⟩ := h
      by_cases hm : ∃ c', tt R G R.1.1 c' = true ∧ hgt R G R.1.1 c' < hgt R G R.1.1 c ∧ c' < 128 ∧ hs R.1.1 c' ≠ hgt R G R.1.1 c'
      · obtain ⟨c', m1, m2, m3, m4⟩ := hm
        exact ih _ (by omega) ⟨c', m3, m1, m4, rfl⟩
      · refine ⟨c, h1, h2, h3, fun c' m1 m2 m3 => ?_⟩
        refine Classical.byContradiction fun m4 => hm ⟨c', m1, m2, m3, m4⟩
  have hgc : G R.1.1 c = false := by
    cases hg : G R.1.1 c
    · rfl
    · exact absurd (by rw [hG _ _ hg, (hgt_0 hst hR).mpr hg]) hcn
  obtain ⟨s, hs1, -, hcs, hr, he⟩ := hgt_ex hst hR hct hgc
  have hpt := ((rH_iff (btw_tt R G) hst _).mp hr).1
  have hpre : ∀ A ∈ prem R.2.1, hs A.1 (ac (sgs s) A).toNat = hgt R G A.1 (ac (sgs s) A).toNat := fun A hA => by
    have hin := prem_inR hR hA
    have hac := ac_ok (sgs_ok hs1.1) hin.1
    have htA : tt R G A.1 (ac (sgs s) A).toNat = true := by
      have := (prem_iff (Q := fun A => tt R G A.1 (ac (sgs s) A).toNat = true)).mpr hpt A hA
      exact this
    by_cases hp : A.1 = R.1.1
    · rw [hp]
      rw [hp] at htA
      refine hmin _ htA ?_ (by omega)
      have hb := (hby_le (h := hgt R G) (s := sgs s) (ps := prem R.2.1) (b := hgt R G R.1.1 c - 1)).mp (by unfold hby at he ⊢; omega) A hA
      rw [hp] at hb
      have : 1 ≤ hgt R G R.1.1 c := by unfold hby at he; omega
      omega
    · exact hoff _ _ hp
  have hbe : hby hs (sgs s) (prem R.2.1) = hby (hgt R G) (sgs s) (prem R.2.1) := by
    apply Nat.le_antisymm
    · have h1 : hby (hgt R G) (sgs s) (prem R.2.1) = (hby (hgt R G) (sgs s) (prem R.2.1) - 1) + 1 := by unfold hby; omega
      rw [h1, hby_le]
      intro A hA
      rw [hpre A hA]
      exact (hby_le (b := hby (hgt R G) (sgs s) (prem R.2.1) - 1)).mp (Nat.le_of_eq h1) A hA
    · exact hby_mono (fun p c => Nat.le_trans (p1 p c) (p2 p c)) _ _
  have h3 := p3 s hs1.1 hs1 hr
  rw [← hcs, hbe, he] at h3
  have h4 : h R.1.1 c = hgt R G R.1.1 c := by have := p1 R.1.1 c; omega
  refine bcnt_lt hc128 (by simp [hct, hcn]) (by simp [h4]) fun i hi => ?_
  simp only [Bool.and_eq_true, Bool.not_eq_true', decide_eq_false_iff_not] at hi ⊢
  refine ⟨hi.1, fun hh => hi.2 ?_⟩
  have := p1 R.1.1 i; have := p2 R.1.1 i; omega
