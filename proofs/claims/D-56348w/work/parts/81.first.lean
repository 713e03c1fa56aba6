set_option maxRecDepth 20000
/-! ===== plain law: sums, comparisons of Heights; counting steps; the first step ===== -/
theorem sp_same_l1 {E : zE} {ha hb b b' p : Nat} {h h' : Nat → Nat → Nat} {f : Nat → Option zO} (h1 : rHei f ha b h) (h2 : rHei f hb b' h') (hle : ∀ p c, p < 8 → c < 100 → h p c = h' p c) (hl : ∀ p c, h p c ≤ 1000) (hp : p < 8) (k4 : Option Nat → Option Nat → Int32 → Int32 → zM) (n m : Nat) : ∀ (d c k : Nat), c + d = 100 → d < k → s_X12_isSameAs_13 E k4 k (some ha) (some hb) (zb true) (zi p) (zi c) (n, m, f) = k4 (some ha) (some hb) (zb true) (zi (p + 1 : Nat)) (n, m, f) := by
  obtain ⟨a1, ⟨⟨g, a2, a3⟩, a4⟩⟩ := h1
  obtain ⟨b1, ⟨⟨g', b2, b3⟩, b4⟩⟩ := h2
  obtain ⟨w, w1, w2⟩ := a4 p hp
  obtain ⟨w', w1', w2'⟩ := b4 p hp
  intro d
  induction d with
  | zero =>
    intro c k hc hk
    obtain ⟨k, rfl⟩ : ∃ k', k = k' + 1 := ⟨k - 1, by omega⟩
    obtain rfl : c = 100 := by omega
    rw [s_X12_isSameAs_13]
    simp (disch := omega) only [zi_lit, zi_neg, zi_add, zi_sub, zi_mul, zi_div, zi_char, zb_eq0, zb_eq1, zb_le0, zb_or, zb_and, zb_or1, zb_or0, zb_1or, zb_0or, zb_and1, zb_and0, zb_1and, zb_0and, zb_nar, zi_nar0, zi_nar1, zl_ite, zl_ret, zl_retb, zl_retb1, zl_retb0, zl_retc, zl_ki, zl_kr, zl_kr0, zl_krf, zl_kl, zl_kf, zl_kd, zl_kv, zl_rf, zl_rf0, zl_valI, zl_valP, zl_valL, zl_get, zl_getI, zl_getR, zl_get0, zl_getr, zl_fk, zl_set, zl_setk, zl_setNb, zl_setN1, zl_setN0, zl_up1, zl_up2, zl_new, zl_newA, zl_len, zl_lenk, zl_ga, zl_gaI, zl_gaL, zl_gaD, zl_gaR, zl_sa, zl_saI, zl_saL, zl_saD, zl_saR, zl_ck, zl_ok, zl_ok0, zl_csS, zl_csS0, zl_csk, zl_tk, zl_csA, zl_isS0, zl_c, zl_cv, zl_cx, zl_sp, zl_rv, zl_rvk, zl_rvk2, zl_div, zl_rem, zl_ath, zl_clnk, zl_clnk0, zl_cat, zl_catn, zl_l0, zl_ls, zl_s0, zl_ss, List.length_cons, List.length_nil, Nat.reduceLT, Nat.zero_add, Nat.lt_add_one, reduceCtorEq, zi_le, zi_lt, zi_eq, if_pos, if_neg, if_true, if_false, Bool.true_eq_false, Bool.false_eq_true, eq_self, Bool.not_true, Bool.not_false, Int.toNat_natCast, Nat.reduceAdd, Int.reduceAdd, Int.reduceSub, Int.reduceMul, Int.reduceNeg, Int.reduceToNat, zl_aa, zc_add]
  | succ d ih =>
    intro c k hc hk
    obtain ⟨k, rfl⟩ : ∃ k', k = k' + 1 := ⟨k - 1, by omega⟩
    have wc := w2 c (by omega)
    have wc' := w2' c (by omega)
    rw [← hle p c hp (by omega)] at wc'
    have hlc := hl p c
    rw [s_X12_isSameAs_13]
    unfold s_X12_isSameAs_47
    simp (disch := omega) only [zi_lit, zi_neg, zi_add, zi_sub, zi_mul, zi_div, zi_char, zb_eq0, zb_eq1, zb_le0, zb_or, zb_and, zb_or1, zb_or0, zb_1or, zb_0or, zb_and1, zb_and0, zb_1and, zb_0and, zb_nar, zi_nar0, zi_nar1, zl_ite, zl_ret, zl_retb, zl_retb1, zl_retb0, zl_retc, zl_ki, zl_kr, zl_kr0, zl_krf, zl_kl, zl_kf, zl_kd, zl_kv, zl_rf, zl_rf0, zl_valI, zl_valP, zl_valL, zl_get, zl_getI, zl_getR, zl_get0, zl_getr, zl_fk, zl_set, zl_setk, zl_setNb, zl_setN1, zl_setN0, zl_up1, zl_up2, zl_new, zl_newA, zl_len, zl_lenk, zl_ga, zl_gaI, zl_gaL, zl_gaD, zl_gaR, zl_sa, zl_saI, zl_saL, zl_saD, zl_saR, zl_ck, zl_ok, zl_ok0, zl_csS, zl_csS0, zl_csk, zl_tk, zl_csA, zl_isS0, zl_c, zl_cv, zl_cx, zl_sp, zl_rv, zl_rvk, zl_rvk2, zl_div, zl_rem, zl_ath, zl_clnk, zl_clnk0, zl_cat, zl_catn, zl_l0, zl_ls, zl_s0, zl_ss, List.length_cons, List.length_nil, Nat.reduceLT, Nat.zero_add, Nat.lt_add_one, reduceCtorEq, zi_le, zi_lt, zi_eq, if_pos, if_neg, if_true, if_false, Bool.true_eq_false, Bool.false_eq_true, eq_self, Bool.not_true, Bool.not_false, Int.toNat_natCast, Nat.reduceAdd, Int.reduceAdd, Int.reduceSub, Int.reduceMul, Int.reduceNeg, Int.reduceToNat, zl_aa, a1, a2, a3 p hp, w1, wc, b1, b2, b3 p hp, w1', wc', zc_add]
    exact ih (c + 1) k (by omega) (by omega)
theorem sp_same_l {E : zE} {ha hb b b' : Nat} {h h' : Nat → Nat → Nat} {f : Nat → Option zO} (h1 : rHei f ha b h) (h2 : rHei f hb b' h') (hle : ∀ p c, p < 8 → c < 100 → h p c = h' p c) (hl : ∀ p c, h p c ≤ 1000) (n m : Nat) : ∀ (d p k : Nat), p + d = 8 → d < k → s_X12_isSameAs_4 E k (some ha) (some hb) (zb true) (zi p) (n, m, f) = some (.inl (some (.int (zb true))), (n, m, f)) := by
  intro d
  induction d with
  | zero =>
    intro p k hp hk
    obtain ⟨k, rfl⟩ : ∃ k', k = k' + 1 := ⟨k - 1, by omega⟩
    obtain rfl : p = 8 := by omega
    rw [s_X12_isSameAs_4]
    simp (disch := omega) only [zi_lit, zi_neg, zi_add, zi_sub, zi_mul, zi_div, zi_char, zb_eq0, zb_eq1, zb_le0, zb_or, zb_and, zb_or1, zb_or0, zb_1or, zb_0or, zb_and1, zb_and0, zb_1and, zb_0and, zb_nar, zi_nar0, zi_nar1, zl_ite, zl_ret, zl_retb, zl_retb1, zl_retb0, zl_retc, zl_ki, zl_kr, zl_kr0, zl_krf, zl_kl, zl_kf, zl_kd, zl_kv, zl_rf, zl_rf0, zl_valI, zl_valP, zl_valL, zl_get, zl_getI, zl_getR, zl_get0, zl_getr, zl_fk, zl_set, zl_setk, zl_setNb, zl_setN1, zl_setN0, zl_up1, zl_up2, zl_new, zl_newA, zl_len, zl_lenk, zl_ga, zl_gaI, zl_gaL, zl_gaD, zl_gaR, zl_sa, zl_saI, zl_saL, zl_saD, zl_saR, zl_ck, zl_ok, zl_ok0, zl_csS, zl_csS0, zl_csk, zl_tk, zl_csA, zl_isS0, zl_c, zl_cv, zl_cx, zl_sp, zl_rv, zl_rvk, zl_rvk2, zl_div, zl_rem, zl_ath, zl_clnk, zl_clnk0, zl_cat, zl_catn, zl_l0, zl_ls, zl_s0, zl_ss, List.length_cons, List.length_nil, Nat.reduceLT, Nat.zero_add, Nat.lt_add_one, reduceCtorEq, zi_le, zi_lt, zi_eq, if_pos, if_neg, if_true, if_false, Bool.true_eq_false, Bool.false_eq_true, eq_self, Bool.not_true, Bool.not_false, Int.toNat_natCast, Nat.reduceAdd, Int.reduceAdd, Int.reduceSub, Int.reduceMul, Int.reduceNeg, Int.reduceToNat, zl_aa]
  | succ d ih =>
    intro p k hp hk
    obtain ⟨k, rfl⟩ : ∃ k', k = k' + 1 := ⟨k - 1, by omega⟩
    have := sp_same_l1 (E := E) h1 h2 hle hl (show p < 8 by omega) (s_X12_isSameAs_4 E k) n m 100 0 zN (by omega) (by unfold zN; omega)
    rw [show ((0 : Nat) : Int) = 0 from rfl] at this
    rw [s_X12_isSameAs_4]
    simp (disch := omega) only [zi_lit, zi_neg, zi_add, zi_sub, zi_mul, zi_div, zi_char, zb_eq0, zb_eq1, zb_le0, zb_or, zb_and, zb_or1, zb_or0, zb_1or, zb_0or, zb_and1, zb_and0, zb_1and, zb_0and, zb_nar, zi_nar0, zi_nar1, zl_ite, zl_ret, zl_retb, zl_retb1, zl_retb0, zl_retc, zl_ki, zl_kr, zl_kr0, zl_krf, zl_kl, zl_kf, zl_kd, zl_kv, zl_rf, zl_rf0, zl_valI, zl_valP, zl_valL, zl_get, zl_getI, zl_getR, zl_get0, zl_getr, zl_fk, zl_set, zl_setk, zl_setNb, zl_setN1, zl_setN0, zl_up1, zl_up2, zl_new, zl_newA, zl_len, zl_lenk, zl_ga, zl_gaI, zl_gaL, zl_gaD, zl_gaR, zl_sa, zl_saI, zl_saL, zl_saD, zl_saR, zl_ck, zl_ok, zl_ok0, zl_csS, zl_csS0, zl_csk, zl_tk, zl_csA, zl_isS0, zl_c, zl_cv, zl_cx, zl_sp, zl_rv, zl_rvk, zl_rvk2, zl_div, zl_rem, zl_ath, zl_clnk, zl_clnk0, zl_cat, zl_catn, zl_l0, zl_ls, zl_s0, zl_ss, List.length_cons, List.length_nil, Nat.reduceLT, Nat.zero_add, Nat.lt_add_one, reduceCtorEq, zi_le, zi_lt, zi_eq, if_pos, if_neg, if_true, if_false, Bool.true_eq_false, Bool.false_eq_true, eq_self, Bool.not_true, Bool.not_false, Int.toNat_natCast, Nat.reduceAdd, Int.reduceAdd, Int.reduceSub, Int.reduceMul, Int.reduceNeg, Int.reduceToNat, zl_aa]
    rw [this]
    exact ih (p + 1) k (by omega) (by omega)
theorem sp_isSame {E : zE} {ha hb b b' : Nat} {h h' : Nat → Nat → Nat} {f : Nat → Option zO} (h1 : rHei f ha b h) (h2 : rHei f hb b' h') (hle : ∀ p c, p < 8 → c < 100 → h p c = h' p c) (hl : ∀ p c, h p c ≤ 1000) (n m : Nat) : s_X12_isSameAs E (some ha) (some hb) (n, m, f) = some (.inl (some (.int (zb true))), (n, m, f)) := by
  have := sp_same_l (E := E) h1 h2 hle hl n m 8 0 zN (by omega) (by unfold zN; omega)
  rw [← zi_t, show ((0 : Nat) : Int) = 0 from rfl] at this
  unfold s_X12_isSameAs
  simp (disch := omega) only [zi_lit, zi_neg, zi_add, zi_sub, zi_mul, zi_div, zi_char, zb_eq0, zb_eq1, zb_le0, zb_or, zb_and, zb_or1, zb_or0, zb_1or, zb_0or, zb_and1, zb_and0, zb_1and, zb_0and, zb_nar, zi_nar0, zi_nar1, zl_ite, zl_ret, zl_retb, zl_retb1, zl_retb0, zl_retc, zl_ki, zl_kr, zl_kr0, zl_krf, zl_kl, zl_kf, zl_kd, zl_kv, zl_rf, zl_rf0, zl_valI, zl_valP, zl_valL, zl_get, zl_getI, zl_getR, zl_get0, zl_getr, zl_fk, zl_set, zl_setk, zl_setNb, zl_setN1, zl_setN0, zl_up1, zl_up2, zl_new, zl_newA, zl_len, zl_lenk, zl_ga, zl_gaI, zl_gaL, zl_gaD, zl_gaR, zl_sa, zl_saI, zl_saL, zl_saD, zl_saR, zl_ck, zl_ok, zl_ok0, zl_csS, zl_csS0, zl_csk, zl_tk, zl_csA, zl_isS0, zl_c, zl_cv, zl_cx, zl_sp, zl_rv, zl_rvk, zl_rvk2, zl_div, zl_rem, zl_ath, zl_clnk, zl_clnk0, zl_cat, zl_catn, zl_l0, zl_ls, zl_s0, zl_ss, List.length_cons, List.length_nil, Nat.reduceLT, Nat.zero_add, Nat.lt_add_one, reduceCtorEq, zi_le, zi_lt, zi_eq, if_pos, if_neg, if_true, if_false, Bool.true_eq_false, Bool.false_eq_true, eq_self, Bool.not_true, Bool.not_false, Int.toNat_natCast, Nat.reduceAdd, Int.reduceAdd, Int.reduceSub, Int.reduceMul, Int.reduceNeg, Int.reduceToNat, zl_aa]
  exact this
def tsr (T : Nat → Nat → Bool) (h : Nat → Nat → Nat) (p : Nat) : Nat → Nat
  | 0 => 0
  | k + 1 => tsr T h p k + if T p k then h p k else 0
/-- the sum of the heights of all that is true -/
def tsum (T : Nat → Nat → Bool) (h : Nat → Nat → Nat) : Nat → Nat
  | 0 => 0
  | k + 1 => tsum T h k + tsr T h k 100
theorem sp_sot_l1 {E : zE} {hb b lo hi gb lb kb p : Nat} {G : Nat → Nat → Bool} {rs : List zRule} {h : Nat → Nat → Nat} {f : Nat → Option zO} (hL : rLK E f b lo hi gb lb kb G rs) (hh : rHei f hb b h) (hp : p < 8) (k4 : Option Nat → Int32 → Int32 → zM) (n m : Nat) : ∀ (d c k : Nat) (s : Int), c + d = 100 → d < k → s_X12_sumOfTrue_12 E k4 k (some hb) (zi s) (zi p) (zi c) (n, m, f) = k4 (some hb) (zi (s + (tsr (tr rs G) h p 100 : Nat) - (tsr (tr rs G) h p c : Nat))) (zi (p + 1 : Nat)) (n, m, f) := by
  obtain ⟨h1, ⟨⟨g, g2, g3⟩, g4⟩⟩ := hh
  obtain ⟨w, w1, w2⟩ := g4 p hp
  intro d
  induction d with
  | zero =>
    intro c k s hc hk
    obtain ⟨k, rfl⟩ : ∃ k', k = k' + 1 := ⟨k - 1, by omega⟩
    obtain rfl : c = 100 := by omega
    rw [s_X12_sumOfTrue_12]
    simp (disch := omega) only [zi_lit, zi_neg, zi_add, zi_sub, zi_mul, zi_div, zi_char, zb_eq0, zb_eq1, zb_le0, zb_or, zb_and, zb_or1, zb_or0, zb_1or, zb_0or, zb_and1, zb_and0, zb_1and, zb_0and, zb_nar, zi_nar0, zi_nar1, zl_ite, zl_ret, zl_retb, zl_retb1, zl_retb0, zl_retc, zl_ki, zl_kr, zl_kr0, zl_krf, zl_kl, zl_kf, zl_kd, zl_kv, zl_rf, zl_rf0, zl_valI, zl_valP, zl_valL, zl_get, zl_getI, zl_getR, zl_get0, zl_getr, zl_fk, zl_set, zl_setk, zl_setNb, zl_setN1, zl_setN0, zl_up1, zl_up2, zl_new, zl_newA, zl_len, zl_lenk, zl_ga, zl_gaI, zl_gaL, zl_gaD, zl_gaR, zl_sa, zl_saI, zl_saL, zl_saD, zl_saR, zl_ck, zl_ok, zl_ok0, zl_csS, zl_csS0, zl_csk, zl_tk, zl_csA, zl_isS0, zl_c, zl_cv, zl_cx, zl_sp, zl_rv, zl_rvk, zl_rvk2, zl_div, zl_rem, zl_ath, zl_clnk, zl_clnk0, zl_cat, zl_catn, zl_l0, zl_ls, zl_s0, zl_ss, List.length_cons, List.length_nil, Nat.reduceLT, Nat.zero_add, Nat.lt_add_one, reduceCtorEq, zi_le, zi_lt, zi_eq, if_pos, if_neg, if_true, if_false, Bool.true_eq_false, Bool.false_eq_true, eq_self, Bool.not_true, Bool.not_false, Int.toNat_natCast, Nat.reduceAdd, Int.reduceAdd, Int.reduceSub, Int.reduceMul, Int.reduceNeg, Int.reduceToNat, zl_aa, zc_add]
    congr 2; omega
  | succ d ih =>
    intro c k s hc hk
    obtain ⟨k, rfl⟩ : ∃ k', k = k' + 1 := ⟨k - 1, by omega⟩
    have wc := w2 c (by omega)
    have hx := sp_fHas (E := E) hL.2.2.2 hp (c := c) (by omega) n m
    have e : tsr (tr rs G) h p (c + 1) = tsr (tr rs G) h p c + if tr rs G p c then h p c else 0 := rfl
    rw [s_X12_sumOfTrue_12]
    unfold s_X12_sumOfTrue_46
    cases ht : tr rs G p c <;> rw [ht] at hx e <;> simp only [if_true, if_false, Bool.false_eq_true] at e <;> simp (disch := omega) only [zi_lit, zi_neg, zi_add, zi_sub, zi_mul, zi_div, zi_char, zb_eq0, zb_eq1, zb_le0, zb_or, zb_and, zb_or1, zb_or0, zb_1or, zb_0or, zb_and1, zb_and0, zb_1and, zb_0and, zb_nar, zi_nar0, zi_nar1, zl_ite, zl_ret, zl_retb, zl_retb1, zl_retb0, zl_retc, zl_ki, zl_kr, zl_kr0, zl_krf, zl_kl, zl_kf, zl_kd, zl_kv, zl_rf, zl_rf0, zl_valI, zl_valP, zl_valL, zl_get, zl_getI, zl_getR, zl_get0, zl_getr, zl_fk, zl_set, zl_setk, zl_setNb, zl_setN1, zl_setN0, zl_up1, zl_up2, zl_new, zl_newA, zl_len, zl_lenk, zl_ga, zl_gaI, zl_gaL, zl_gaD, zl_gaR, zl_sa, zl_saI, zl_saL, zl_saD, zl_saR, zl_ck, zl_ok, zl_ok0, zl_csS, zl_csS0, zl_csk, zl_tk, zl_csA, zl_isS0, zl_c, zl_cv, zl_cx, zl_sp, zl_rv, zl_rvk, zl_rvk2, zl_div, zl_rem, zl_ath, zl_clnk, zl_clnk0, zl_cat, zl_catn, zl_l0, zl_ls, zl_s0, zl_ss, List.length_cons, List.length_nil, Nat.reduceLT, Nat.zero_add, Nat.lt_add_one, reduceCtorEq, zi_le, zi_lt, zi_eq, if_pos, if_neg, if_true, if_false, Bool.true_eq_false, Bool.false_eq_true, eq_self, Bool.not_true, Bool.not_false, Int.toNat_natCast, Nat.reduceAdd, Int.reduceAdd, Int.reduceSub, Int.reduceMul, Int.reduceNeg, Int.reduceToNat, zl_aa, h1, hL.ck, sp_factsK hL, hL.2.2.2.ck, hx, g2, g3 p hp, w1, wc, zc_add] <;> rw [ih (c + 1) k _ (by omega) (by omega)] <;> congr 2 <;> omega
theorem sp_sot_l {E : zE} {hb b lo hi gb lb kb : Nat} {G : Nat → Nat → Bool} {rs : List zRule} {h : Nat → Nat → Nat} {f : Nat → Option zO} (hL : rLK E f b lo hi gb lb kb G rs) (hh : rHei f hb b h) (n m : Nat) : ∀ (d p k : Nat) (s : Int), p + d = 8 → d < k → s_X12_sumOfTrue_4 E k (some hb) (zi s) (zi p) (n, m, f) = some (.inl (some (.int (zi (s + (tsum (tr rs G) h 8 : Nat) - (tsum (tr rs G) h p : Nat))))), (n, m, f)) := by
  intro d
  induction d with
  | zero =>
    intro p k s hp hk
    obtain ⟨k, rfl⟩ : ∃ k', k = k' + 1 := ⟨k - 1, by omega⟩
    obtain rfl : p = 8 := by omega
    rw [s_X12_sumOfTrue_4]
    simp (disch := omega) only [zi_lit, zi_neg, zi_add, zi_sub, zi_mul, zi_div, zi_char, zb_eq0, zb_eq1, zb_le0, zb_or, zb_and, zb_or1, zb_or0, zb_1or, zb_0or, zb_and1, zb_and0, zb_1and, zb_0and, zb_nar, zi_nar0, zi_nar1, zl_ite, zl_ret, zl_retb, zl_retb1, zl_retb0, zl_retc, zl_ki, zl_kr, zl_kr0, zl_krf, zl_kl, zl_kf, zl_kd, zl_kv, zl_rf, zl_rf0, zl_valI, zl_valP, zl_valL, zl_get, zl_getI, zl_getR, zl_get0, zl_getr, zl_fk, zl_set, zl_setk, zl_setNb, zl_setN1, zl_setN0, zl_up1, zl_up2, zl_new, zl_newA, zl_len, zl_lenk, zl_ga, zl_gaI, zl_gaL, zl_gaD, zl_gaR, zl_sa, zl_saI, zl_saL, zl_saD, zl_saR, zl_ck, zl_ok, zl_ok0, zl_csS, zl_csS0, zl_csk, zl_tk, zl_csA, zl_isS0, zl_c, zl_cv, zl_cx, zl_sp, zl_rv, zl_rvk, zl_rvk2, zl_div, zl_rem, zl_ath, zl_clnk, zl_clnk0, zl_cat, zl_catn, zl_l0, zl_ls, zl_s0, zl_ss, List.length_cons, List.length_nil, Nat.reduceLT, Nat.zero_add, Nat.lt_add_one, reduceCtorEq, zi_le, zi_lt, zi_eq, if_pos, if_neg, if_true, if_false, Bool.true_eq_false, Bool.false_eq_true, eq_self, Bool.not_true, Bool.not_false, Int.toNat_natCast, Nat.reduceAdd, Int.reduceAdd, Int.reduceSub, Int.reduceMul, Int.reduceNeg, Int.reduceToNat, zl_aa]
    congr 6; omega
  | succ d ih =>
    intro p k s hp hk
    obtain ⟨k, rfl⟩ : ∃ k', k = k' + 1 := ⟨k - 1, by omega⟩
    have := sp_sot_l1 (E := E) hL hh (show p < 8 by omega) (s_X12_sumOfTrue_4 E k) n m 100 0 zN s (by omega) (by unfold zN; omega)
    rw [show ((0 : Nat) : Int) = 0 from rfl] at this
    rw [s_X12_sumOfTrue_4]
    simp (disch := omega) only [zi_lit, zi_neg, zi_add, zi_sub, zi_mul, zi_div, zi_char, zb_eq0, zb_eq1, zb_le0, zb_or, zb_and, zb_or1, zb_or0, zb_1or, zb_0or, zb_and1, zb_and0, zb_1and, zb_0and, zb_nar, zi_nar0, zi_nar1, zl_ite, zl_ret, zl_retb, zl_retb1, zl_retb0, zl_retc, zl_ki, zl_kr, zl_kr0, zl_krf, zl_kl, zl_kf, zl_kd, zl_kv, zl_rf, zl_rf0, zl_valI, zl_valP, zl_valL, zl_get, zl_getI, zl_getR, zl_get0, zl_getr, zl_fk, zl_set, zl_setk, zl_setNb, zl_setN1, zl_setN0, zl_up1, zl_up2, zl_new, zl_newA, zl_len, zl_lenk, zl_ga, zl_gaI, zl_gaL, zl_gaD, zl_gaR, zl_sa, zl_saI, zl_saL, zl_saD, zl_saR, zl_ck, zl_ok, zl_ok0, zl_csS, zl_csS0, zl_csk, zl_tk, zl_csA, zl_isS0, zl_c, zl_cv, zl_cx, zl_sp, zl_rv, zl_rvk, zl_rvk2, zl_div, zl_rem, zl_ath, zl_clnk, zl_clnk0, zl_cat, zl_catn, zl_l0, zl_ls, zl_s0, zl_ss, List.length_cons, List.length_nil, Nat.reduceLT, Nat.zero_add, Nat.lt_add_one, reduceCtorEq, zi_le, zi_lt, zi_eq, if_pos, if_neg, if_true, if_false, Bool.true_eq_false, Bool.false_eq_true, eq_self, Bool.not_true, Bool.not_false, Int.toNat_natCast, Nat.reduceAdd, Int.reduceAdd, Int.reduceSub, Int.reduceMul, Int.reduceNeg, Int.reduceToNat, zl_aa]
    rw [this, ih (p + 1) k _ (by omega) (by omega)]
    rw [show tsum (tr rs G) h (p + 1) = tsum (tr rs G) h p + tsr (tr rs G) h p 100 from rfl, show tsr (tr rs G) h p 0 = 0 from rfl]
    congr 6; omega
theorem sp_sumOfTrue {E : zE} {hb b lo hi gb lb kb : Nat} {G : Nat → Nat → Bool} {rs : List zRule} {h : Nat → Nat → Nat} {f : Nat → Option zO} (hL : rLK E f b lo hi gb lb kb G rs) (hh : rHei f hb b h) (n m : Nat) : s_X12_sumOfTrue E (some hb) (n, m, f) = some (.inl (some (.int (zi (tsum (tr rs G) h 8 : Nat)))), (n, m, f)) := by
  have := sp_sot_l (E := E) hL hh n m 8 0 zN 0 (by omega) (by unfold zN; omega)
  rw [show ((0 : Nat) : Int) = 0 from rfl] at this
  unfold s_X12_sumOfTrue
  simp (disch := omega) only [zi_lit, zi_neg, zi_add, zi_sub, zi_mul, zi_div, zi_char, zb_eq0, zb_eq1, zb_le0, zb_or, zb_and, zb_or1, zb_or0, zb_1or, zb_0or, zb_and1, zb_and0, zb_1and, zb_0and, zb_nar, zi_nar0, zi_nar1, zl_ite, zl_ret, zl_retb, zl_retb1, zl_retb0, zl_retc, zl_ki, zl_kr, zl_kr0, zl_krf, zl_kl, zl_kf, zl_kd, zl_kv, zl_rf, zl_rf0, zl_valI, zl_valP, zl_valL, zl_get, zl_getI, zl_getR, zl_get0, zl_getr, zl_fk, zl_set, zl_setk, zl_setNb, zl_setN1, zl_setN0, zl_up1, zl_up2, zl_new, zl_newA, zl_len, zl_lenk, zl_ga, zl_gaI, zl_gaL, zl_gaD, zl_gaR, zl_sa, zl_saI, zl_saL, zl_saD, zl_saR, zl_ck, zl_ok, zl_ok0, zl_csS, zl_csS0, zl_csk, zl_tk, zl_csA, zl_isS0, zl_c, zl_cv, zl_cx, zl_sp, zl_rv, zl_rvk, zl_rvk2, zl_div, zl_rem, zl_ath, zl_clnk, zl_clnk0, zl_cat, zl_catn, zl_l0, zl_ls, zl_s0, zl_ss, List.length_cons, List.length_nil, Nat.reduceLT, Nat.zero_add, Nat.lt_add_one, reduceCtorEq, zi_le, zi_lt, zi_eq, if_pos, if_neg, if_true, if_false, Bool.true_eq_false, Bool.false_eq_true, eq_self, Bool.not_true, Bool.not_false, Int.toNat_natCast, Nat.reduceAdd, Int.reduceAdd, Int.reduceSub, Int.reduceMul, Int.reduceNeg, Int.reduceToNat, zl_aa]
  rw [this, show tsum (tr rs G) h 0 = 0 from rfl]
  have e : (0 : Int) + ((tsum (tr rs G) h 8 : Nat) : Int) - ((0 : Nat) : Int) = ((tsum (tr rs G) h 8 : Nat) : Int) := by omega
  rw [e]
/-! counting the steps -/
def stB (R : zRule) (T : Nat → Nat → Bool) (s : Nat) : Bool := vsd R s && rH T (sgs s) R
def cJ19 (R : zRule) (T : Nat → Nat → Bool) (a0 ns n0 m0 : Nat) (fS : Nat → Option zO) (s n m : Nat) (f : Nat → Option zO) : Prop :=
  (∀ q, q < ns → q ≠ a0 → f q = fS q) ∧ f a0 = some (.inr (25, [.int (zi (bcnt (stB R T) s : Nat))])) ∧ n0 ≤ n ∧ n ≤ n0 + vc R s ∧ m ≤ m0 + 4 * vc R s
theorem sp_take19 {E : zE} {T : Nat → Nat → Bool} {R : zRule} {lo hi a0 rb kb n m : Nat} {f : Nat → Option zO} (h5 : E 5 < E 0) (hE : E 0 ≤ a0) (hR : rRule E f lo hi rb R) (hhi : hi ≤ a0) (hK : rFacts f kb T) (hkb : kb + 18 ≤ a0) (han : a0 < n) (ha : f a0 = some (.inr (25, [.int (zi 0)]))) :
    ∃ (n' m' : Nat) (f' : Nat → Option zO), s_X10_take E (some a0) (some rb) (some kb) (n, m, f) = some (.inl none, (n', m', f')) ∧ n + 1 ≤ n' ∧ n' ≤ n + 1 + vc R 1000 ∧ m + 3 ≤ m' ∧ m' ≤ m + 3 + 4 * vc R 1000 ∧ (∀ q, q < n → q ≠ a0 → f' q = f q) ∧ f' a0 = some (.inr (25, [.int (zi (bcnt (stB R T) 1000 : Nat))])) := by
  have hmv : ∀ {g : Nat → Option zO}, (∀ q, q < n → q ≠ a0 → g q = f q) → rRule E g lo hi rb R := fun hg => hR.mv (hg _ (by omega) (by omega)) fun q _ hq => hg q (by omega) (by omega)
  have key := sp_take (E := E) (a0 := a0) (rb := rb) (fb := kb) (n := n) (m := m) (f := f) (R := R) (J := cJ19 R T a0 n (n + 1) (m + 3) f) (by omega) ⟨?_, ?_, ?_⟩ ?_ ?_
  · obtain ⟨n', m', f', e1, e2, e3, g1, g2, g3, g4, g5⟩ := key
    exact ⟨n', m', f', e1, by omega, by omega, by omega, by omega, g1, g2⟩
  · rintro s n' m' g ⟨hg, -⟩
    exact ⟨lo, hi, hmv hg⟩
  · rintro s n' m' g w ⟨hg, h1, h2⟩
    exact ⟨fun q hq hq' => (zl_up2 (by omega)).trans (hg q hq hq'), (zl_up2 (by omega)).trans h1, h2⟩
  · rintro s n' m' g ⟨hg, h1, h2, h3, h4⟩ hs
    rw [← vc_out hs] at h3 h4
    have : bcnt (stB R T) (s + 1) = bcnt (stB R T) s := by
      rw [bcnt, if_neg]; rfl
      intro hc
      unfold stB at hc
      rw [Bool.and_eq_true] at hc
      exact hs ((vsd_iff R s).mp hc.1)
    exact ⟨hg, by rw [this]; exact h1, h2, h3, h4⟩
  · rintro s n' m' g hs ⟨hg, h1, h2, h3, h4⟩ hv
    have hRg := hmv hg
    have hKg : rFacts g kb T := hK.mv fun q _ _ => hg q (by omega) (by omega)
    obtain ⟨f1, e1, x1⟩ := sp_rHolds (E := E) hRg hv (sgs_ok hs.1) hKg (n := n') (by omega) (by omega) (by omega) (by omega) h5 m'
    have hvc := vc_in hs
    have ha1 := (x1 a0 (by omega)).trans h1
    have hbc : bcnt (stB R T) (s + 1) = bcnt (stB R T) s + (if rH T (sgs s) R then 1 else 0) := by
      rw [bcnt]
      unfold stB
      rw [(vsd_iff R s).mpr hs, Bool.true_and]
    refine ⟨rH T (sgs s) R, n' + 1, m' + 4, f1, e1, by omega, by omega, x1 _ (by omega), fun hf => ?_, fun hf => ?_⟩
    · rw [hf] at hbc
      refine ⟨fun q hq hq' => (x1 q (by omega)).trans (hg q hq hq'), ?_, by omega, by omega, by omega⟩
      rw [hbc]; exact ha1
    · rw [hf] at hbc
      simp only [if_true] at hbc
      have hk : zCk (f1 a0) = some 25 := by rw [ha1]; rfl
      refine ⟨n' + 1, m' + 4, zUp f1 a0 (.inr (25, [.int (zi (bcnt (stB R T) (s + 1) : Nat))])), ?_, by omega, by omega, (zl_up2 (by omega)).trans (x1 _ (by omega)), fun q hq hq' => (zl_up2 hq').trans ((x1 q (by omega)).trans (hg q hq hq')), zl_up1 rfl, by omega, by omega, by omega⟩
      unfold meets s_X19_meet
      simp (disch := omega) only [zi_lit, zi_neg, zi_add, zi_sub, zi_mul, zi_div, zi_char, zb_eq0, zb_eq1, zb_le0, zb_or, zb_and, zb_or1, zb_or0, zb_1or, zb_0or, zb_and1, zb_and0, zb_1and, zb_0and, zb_nar, zi_nar0, zi_nar1, zl_ite, zl_ret, zl_retb, zl_retb1, zl_retb0, zl_retc, zl_ki, zl_kr, zl_kr0, zl_krf, zl_kl, zl_kf, zl_kd, zl_kv, zl_rf, zl_rf0, zl_valI, zl_valP, zl_valL, zl_get, zl_getI, zl_getR, zl_get0, zl_getr, zl_fk, zl_set, zl_setk, zl_setNb, zl_setN1, zl_setN0, zl_up1, zl_up2, zl_new, zl_newA, zl_len, zl_lenk, zl_ga, zl_gaI, zl_gaL, zl_gaD, zl_gaR, zl_sa, zl_saI, zl_saL, zl_saD, zl_saR, zl_ck, zl_ok, zl_ok0, zl_csS, zl_csS0, zl_csk, zl_tk, zl_csA, zl_isS0, zl_c, zl_cv, zl_cx, zl_sp, zl_rv, zl_rvk, zl_rvk2, zl_div, zl_rem, zl_ath, zl_clnk, zl_clnk0, zl_cat, zl_catn, zl_l0, zl_ls, zl_s0, zl_ss, List.length_cons, List.length_nil, Nat.reduceLT, Nat.zero_add, Nat.lt_add_one, reduceCtorEq, zi_le, zi_lt, zi_eq, if_pos, if_neg, if_true, if_false, Bool.true_eq_false, Bool.false_eq_true, eq_self, Bool.not_true, Bool.not_false, Int.toNat_natCast, Nat.reduceAdd, Int.reduceAdd, Int.reduceSub, Int.reduceMul, Int.reduceNeg, Int.reduceToNat, zl_aa, hk, ha1, zc_add]
      rw [hbc]
  · intro w
    exact ⟨fun q hq hq' => zl_up2 (by omega), (zl_up2 (by omega)).trans ha, by omega, by omega, by omega⟩
