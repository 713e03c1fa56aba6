set_option maxRecDepth 20000
/-! ===== plain law: in rounds, whole; by levels ===== -/
noncomputable def irC (rs : List zRule) (G : Nat → Nat → Bool) : Nat := match rs with
  | [] => 2
  | R :: _ => (nd R G + 1) * (3 + 2 * vc R 1000)
noncomputable def irS (rs : List zRule) (G : Nat → Nat → Bool) : Nat := match rs with
  | [] => 5
  | R :: _ => (nd R G + 1) * (8 + 8 * vc R 1000)
theorem sp_inRounds {E : zE} {hb b lo hi gb lb kb n : Nat} {G : Nat → Nat → Bool} {rs : List zRule} {f : Nat → Option zO} (hok : rsOk rs) (h5 : E 5 < E 0) (hE : E 0 ≤ hb) (hbN : b < hb) (hhi : hi ≤ hb) (hgb : gb + 18 ≤ hb) (hkb : kb + 18 ≤ hb) (hn : hb + 10 ≤ n) (hL : rLK E f b lo hi gb lb kb G rs) (hh : rHei f hb b (h00 G)) (m : Nat) :
    ∃ (n' m' : Nat) (f' : Nat → Option zO), s_X12_inRounds E (some hb) (n, m, f) = some (.inl (some (.ref hb)), (n', m', f')) ∧ n ≤ n' ∧ n' ≤ n + irC rs G ∧ m ≤ m' ∧ m' ≤ m + irS rs G ∧ zHx n hb f f' ∧ rHei f' hb b (hgtr rs G) := by
  cases rs with
  | nil =>
    obtain ⟨k, hk⟩ : ∃ k, zN = k + 2 := ⟨zN - 2, by unfold zN; omega⟩
    have hs := sp_sum (E := E) hh n m
    have hb8 := hsum_le (h00_le G) 8
    generalize hf1 : zUp f n (.inr (19, [.ref hb])) = f1
    have hf1' : ∀ q, q ≠ n → f1 q = f q := fun q hq => by rw [← hf1, zl_up2 hq]
    have hX1 : zX n f f1 := fun q hq => hf1' q (by omega)
    have hh1 : rHei f1 hb b (h00 G) := hh.mv fun q _ _ => hf1' q (by omega)
    obtain ⟨f2, e1, e2⟩ := sp_takeAll0 (E := E) (a0 := n) (n := n + 1) h5 (by omega) (hL.mv hX1 (by omega) (by omega) (by omega) (by omega) (by omega)) hh1 (by omega) (m + 1) (by omega)
    have hh2 : rHei f2 hb b (h00 G) := hh1.mv fun q _ _ => e2 q (by omega)
    have hs2 := sp_sum (E := E) hh2 (n + 2) (m + 5)
    refine ⟨n + 2, m + 5, f2, ?_, by omega, Nat.le_refl _, by omega, Nat.le_refl _, fun q hq _ => (e2 q (by omega)).trans (hf1' q (by omega)), hh2⟩
    unfold s_X12_inRounds
    rw [hk, s_X12_inRounds_2]
    unfold s_X13_init s_X10_init
    simp (disch := omega) only [zi_lit, zi_neg, zi_add, zi_sub, zi_mul, zi_div, zi_char, zb_eq0, zb_eq1, zb_le0, zb_or, zb_and, zb_or1, zb_or0, zb_1or, zb_0or, zb_and1, zb_and0, zb_1and, zb_0and, zb_nar, zi_nar0, zi_nar1, zl_ite, zl_ret, zl_retb, zl_retb1, zl_retb0, zl_retc, zl_ki, zl_kr, zl_kr0, zl_krf, zl_kl, zl_kf, zl_kd, zl_kv, zl_rf, zl_rf0, zl_valI, zl_valP, zl_valL, zl_get, zl_getI, zl_getR, zl_get0, zl_getr, zl_fk, zl_set, zl_setk, zl_setNb, zl_setN1, zl_setN0, zl_up1, zl_up2, zl_new, zl_newA, zl_len, zl_lenk, zl_ga, zl_gaI, zl_gaL, zl_gaD, zl_gaR, zl_sa, zl_saI, zl_saL, zl_saD, zl_saR, zl_ck, zl_ok, zl_ok0, zl_csS, zl_csS0, zl_csk, zl_tk, zl_csA, zl_isS0, zl_c, zl_cv, zl_cx, zl_sp, zl_rv, zl_rvk, zl_rvk2, zl_div, zl_rem, zl_ath, zl_clnk, zl_clnk0, zl_cat, zl_catn, zl_l0, zl_ls, zl_s0, zl_ss, List.length_cons, List.length_nil, Nat.reduceLT, Nat.zero_add, Nat.lt_add_one, reduceCtorEq, zi_le, zi_lt, zi_eq, if_pos, if_neg, if_true, if_false, Bool.true_eq_false, Bool.false_eq_true, eq_self, Bool.not_true, Bool.not_false, Int.toNat_natCast, Nat.reduceAdd, Int.reduceAdd, Int.reduceSub, Int.reduceMul, Int.reduceNeg, Int.reduceToNat, zl_aa, hh.ck, hs, zl_upup, hf1, hh1.ck, e1]
    rw [s_X12_inRounds_2]
    simp (disch := omega) only [zi_lit, zi_neg, zi_add, zi_sub, zi_mul, zi_div, zi_char, zb_eq0, zb_eq1, zb_le0, zb_or, zb_and, zb_or1, zb_or0, zb_1or, zb_0or, zb_and1, zb_and0, zb_1and, zb_0and, zb_nar, zi_nar0, zi_nar1, zl_ite, zl_ret, zl_retb, zl_retb1, zl_retb0, zl_retc, zl_ki, zl_kr, zl_kr0, zl_krf, zl_kl, zl_kf, zl_kd, zl_kv, zl_rf, zl_rf0, zl_valI, zl_valP, zl_valL, zl_get, zl_getI, zl_getR, zl_get0, zl_getr, zl_fk, zl_set, zl_setk, zl_setNb, zl_setN1, zl_setN0, zl_up1, zl_up2, zl_new, zl_newA, zl_len, zl_lenk, zl_ga, zl_gaI, zl_gaL, zl_gaD, zl_gaR, zl_sa, zl_saI, zl_saL, zl_saD, zl_saR, zl_ck, zl_ok, zl_ok0, zl_csS, zl_csS0, zl_csk, zl_tk, zl_csA, zl_isS0, zl_c, zl_cv, zl_cx, zl_sp, zl_rv, zl_rvk, zl_rvk2, zl_div, zl_rem, zl_ath, zl_clnk, zl_clnk0, zl_cat, zl_catn, zl_l0, zl_ls, zl_s0, zl_ss, List.length_cons, List.length_nil, Nat.reduceLT, Nat.zero_add, Nat.lt_add_one, reduceCtorEq, zi_le, zi_lt, zi_eq, if_pos, if_neg, if_true, if_false, Bool.true_eq_false, Bool.false_eq_true, eq_self, Bool.not_true, Bool.not_false, Int.toNat_natCast, Nat.reduceAdd, Int.reduceAdd, Int.reduceSub, Int.reduceMul, Int.reduceNeg, Int.reduceToNat, zl_aa, hh2.ck, hs2]
  | cons R rs =>
    have : rs = [] := by
      have := hok.1
      cases rs with
      | nil => rfl
      | cons => simp at this
    subst this
    obtain ⟨o1, o2, o3⟩ := hok.2 R (by simp)
    have hnl := nd_le R G
    obtain ⟨n', m', f', e1, e2, e3, e4, e5, e6, e7⟩ := sp_inRounds_l (E := E) (N := 0) o1 o3 h5 hE hbN hhi hgb hkb (nd R G + 1) zN n m f (h00 G) (-1) (Nat.lt_succ_of_le (nex_le R G o1 o3)) (by unfold zN; omega) hn hL hh (h00_le G) (hgt_le o1 o3) (fun p c hg => by unfold h00; rw [hg]; rfl) (h00_off o1 o3) (by omega) (by omega) (fun h => by omega)
    refine ⟨n', m', f', ?_, e2, e3, e4, e5, e6, e7⟩
    unfold s_X12_inRounds
    simp (disch := omega) only [zi_lit, zi_neg, zi_add, zi_sub, zi_mul, zi_div, zi_char, zb_eq0, zb_eq1, zb_le0, zb_or, zb_and, zb_or1, zb_or0, zb_1or, zb_0or, zb_and1, zb_and0, zb_1and, zb_0and, zb_nar, zi_nar0, zi_nar1, zl_ite, zl_ret, zl_retb, zl_retb1, zl_retb0, zl_retc, zl_ki, zl_kr, zl_kr0, zl_krf, zl_kl, zl_kf, zl_kd, zl_kv, zl_rf, zl_rf0, zl_valI, zl_valP, zl_valL, zl_get, zl_getI, zl_getR, zl_get0, zl_getr, zl_fk, zl_set, zl_setk, zl_setNb, zl_setN1, zl_setN0, zl_up1, zl_up2, zl_new, zl_newA, zl_len, zl_lenk, zl_ga, zl_gaI, zl_gaL, zl_gaD, zl_gaR, zl_sa, zl_saI, zl_saL, zl_saD, zl_saR, zl_ck, zl_ok, zl_ok0, zl_csS, zl_csS0, zl_csk, zl_tk, zl_csA, zl_isS0, zl_c, zl_cv, zl_cx, zl_sp, zl_rv, zl_rvk, zl_rvk2, zl_div, zl_rem, zl_ath, zl_clnk, zl_clnk0, zl_cat, zl_catn, zl_l0, zl_ls, zl_s0, zl_ss, List.length_cons, List.length_nil, Nat.reduceLT, Nat.zero_add, Nat.lt_add_one, reduceCtorEq, zi_le, zi_lt, zi_eq, if_pos, if_neg, if_true, if_false, Bool.true_eq_false, Bool.false_eq_true, eq_self, Bool.not_true, Bool.not_false, Int.toNat_natCast, Nat.reduceAdd, Int.reduceAdd, Int.reduceSub, Int.reduceMul, Int.reduceNeg, Int.reduceToNat, zl_aa]
    exact e1
/-- is something open (at 1000) among the true ones -/
def opn (T : Nat → Nat → Bool) (h : Nat → Nat → Nat) (p c : Nat) : Bool := T p c && decide (h p c = 1000)
def opr (T : Nat → Nat → Bool) (h : Nat → Nat → Nat) (p : Nat) : Nat → Bool
  | 0 => false
  | k + 1 => opr T h p k || opn T h p k
def ops (T : Nat → Nat → Bool) (h : Nat → Nat → Nat) : Nat → Bool
  | 0 => false
  | k + 1 => ops T h k || opr T h k 100
theorem sp_open_l1 {E : zE} {hb b lo hi gb lb kb p : Nat} {G : Nat → Nat → Bool} {rs : List zRule} {h : Nat → Nat → Nat} {f : Nat → Option zO} (hL : rLK E f b lo hi gb lb kb G rs) (hh : rHei f hb b h) (hle : ∀ p c, h p c ≤ 1000) (hp : p < 8) (k4 : Option Nat → Int32 → Int32 → zM) (n m : Nat) (a : Bool) : ∀ (d c k : Nat), c + d = 100 → d < k → s_X12_hasOpen_12 E k4 k (some hb) (zb (a || opr (tr rs G) h p c)) (zi p) (zi c) (n, m, f) = k4 (some hb) (zb (a || opr (tr rs G) h p 100)) (zi (p + 1 : Nat)) (n, m, f) := by
  have hck := hh.ck
  obtain ⟨h1, ⟨⟨g, g2, g3⟩, g4⟩⟩ := hh
  obtain ⟨w, w1, w2⟩ := g4 p hp
  intro d
  induction d with
  | zero =>
    intro c k hc hk
    obtain ⟨k, rfl⟩ : ∃ k', k = k' + 1 := ⟨k - 1, by omega⟩
    obtain rfl : c = 100 := by omega
    rw [s_X12_hasOpen_12]
    simp (disch := omega) only [zi_lit, zi_neg, zi_add, zi_sub, zi_mul, zi_div, zi_char, zb_eq0, zb_eq1, zb_le0, zb_or, zb_and, zb_or1, zb_or0, zb_1or, zb_0or, zb_and1, zb_and0, zb_1and, zb_0and, zb_nar, zi_nar0, zi_nar1, zl_ite, zl_ret, zl_retb, zl_retb1, zl_retb0, zl_retc, zl_ki, zl_kr, zl_kr0, zl_krf, zl_kl, zl_kf, zl_kd, zl_kv, zl_rf, zl_rf0, zl_valI, zl_valP, zl_valL, zl_get, zl_getI, zl_getR, zl_get0, zl_getr, zl_fk, zl_set, zl_setk, zl_setNb, zl_setN1, zl_setN0, zl_up1, zl_up2, zl_new, zl_newA, zl_len, zl_lenk, zl_ga, zl_gaI, zl_gaL, zl_gaD, zl_gaR, zl_sa, zl_saI, zl_saL, zl_saD, zl_saR, zl_ck, zl_ok, zl_ok0, zl_csS, zl_csS0, zl_csk, zl_tk, zl_csA, zl_isS0, zl_c, zl_cv, zl_cx, zl_sp, zl_rv, zl_rvk, zl_rvk2, zl_div, zl_rem, zl_ath, zl_clnk, zl_clnk0, zl_cat, zl_catn, zl_l0, zl_ls, zl_s0, zl_ss, List.length_cons, List.length_nil, Nat.reduceLT, Nat.zero_add, Nat.lt_add_one, reduceCtorEq, zi_le, zi_lt, zi_eq, if_pos, if_neg, if_true, if_false, Bool.true_eq_false, Bool.false_eq_true, eq_self, Bool.not_true, Bool.not_false, Int.toNat_natCast, Nat.reduceAdd, Int.reduceAdd, Int.reduceSub, Int.reduceMul, Int.reduceNeg, Int.reduceToNat, zl_aa, zc_add]
  | succ d ih =>
    intro c k hc hk
    obtain ⟨k, rfl⟩ : ∃ k', k = k' + 1 := ⟨k - 1, by omega⟩
    have wc := w2 c (by omega)
    have hl := hle p c
    have hx := sp_fHas (E := E) hL.2.2.2 hp (c := c) (by omega) n m
    have ihc := ih (c + 1) k (by omega) (by omega)
    rw [show opr (tr rs G) h p (c + 1) = (opr (tr rs G) h p c || opn (tr rs G) h p c) from rfl] at ihc
    rw [s_X12_hasOpen_12]
    unfold s_X12_hasOpen_52 s_X12_hasOpen_53
    unfold opn at ihc
    cases ht : tr rs G p c
    · rw [ht] at hx ihc
      simp only [Bool.false_and, Bool.or_false] at ihc
      simp (disch := omega) only [zi_lit, zi_neg, zi_add, zi_sub, zi_mul, zi_div, zi_char, zb_eq0, zb_eq1, zb_le0, zb_or, zb_and, zb_or1, zb_or0, zb_1or, zb_0or, zb_and1, zb_and0, zb_1and, zb_0and, zb_nar, zi_nar0, zi_nar1, zl_ite, zl_ret, zl_retb, zl_retb1, zl_retb0, zl_retc, zl_ki, zl_kr, zl_kr0, zl_krf, zl_kl, zl_kf, zl_kd, zl_kv, zl_rf, zl_rf0, zl_valI, zl_valP, zl_valL, zl_get, zl_getI, zl_getR, zl_get0, zl_getr, zl_fk, zl_set, zl_setk, zl_setNb, zl_setN1, zl_setN0, zl_up1, zl_up2, zl_new, zl_newA, zl_len, zl_lenk, zl_ga, zl_gaI, zl_gaL, zl_gaD, zl_gaR, zl_sa, zl_saI, zl_saL, zl_saD, zl_saR, zl_ck, zl_ok, zl_ok0, zl_csS, zl_csS0, zl_csk, zl_tk, zl_csA, zl_isS0, zl_c, zl_cv, zl_cx, zl_sp, zl_rv, zl_rvk, zl_rvk2, zl_div, zl_rem, zl_ath, zl_clnk, zl_clnk0, zl_cat, zl_catn, zl_l0, zl_ls, zl_s0, zl_ss, List.length_cons, List.length_nil, Nat.reduceLT, Nat.zero_add, Nat.lt_add_one, reduceCtorEq, zi_le, zi_lt, zi_eq, if_pos, if_neg, if_true, if_false, Bool.true_eq_false, Bool.false_eq_true, eq_self, Bool.not_true, Bool.not_false, Int.toNat_natCast, Nat.reduceAdd, Int.reduceAdd, Int.reduceSub, Int.reduceMul, Int.reduceNeg, Int.reduceToNat, zl_aa, h1, hL.ck, sp_factsK hL, hL.2.2.2.ck, hx, zc_add]
      exact ihc
    · rw [ht] at hx ihc
      by_cases hv : h p c = 1000
      · rw [decide_eq_true hv] at ihc
        simp only [Bool.true_and, Bool.or_true] at ihc
        simp (disch := omega) only [zi_lit, zi_neg, zi_add, zi_sub, zi_mul, zi_div, zi_char, zb_eq0, zb_eq1, zb_le0, zb_or, zb_and, zb_or1, zb_or0, zb_1or, zb_0or, zb_and1, zb_and0, zb_1and, zb_0and, zb_nar, zi_nar0, zi_nar1, zl_ite, zl_ret, zl_retb, zl_retb1, zl_retb0, zl_retc, zl_ki, zl_kr, zl_kr0, zl_krf, zl_kl, zl_kf, zl_kd, zl_kv, zl_rf, zl_rf0, zl_valI, zl_valP, zl_valL, zl_get, zl_getI, zl_getR, zl_get0, zl_getr, zl_fk, zl_set, zl_setk, zl_setNb, zl_setN1, zl_setN0, zl_up1, zl_up2, zl_new, zl_newA, zl_len, zl_lenk, zl_ga, zl_gaI, zl_gaL, zl_gaD, zl_gaR, zl_sa, zl_saI, zl_saL, zl_saD, zl_saR, zl_ck, zl_ok, zl_ok0, zl_csS, zl_csS0, zl_csk, zl_tk, zl_csA, zl_isS0, zl_c, zl_cv, zl_cx, zl_sp, zl_rv, zl_rvk, zl_rvk2, zl_div, zl_rem, zl_ath, zl_clnk, zl_clnk0, zl_cat, zl_catn, zl_l0, zl_ls, zl_s0, zl_ss, List.length_cons, List.length_nil, Nat.reduceLT, Nat.zero_add, Nat.lt_add_one, reduceCtorEq, zi_le, zi_lt, zi_eq, if_pos, if_neg, if_true, if_false, Bool.true_eq_false, Bool.false_eq_true, eq_self, Bool.not_true, Bool.not_false, Int.toNat_natCast, Nat.reduceAdd, Int.reduceAdd, Int.reduceSub, Int.reduceMul, Int.reduceNeg, Int.reduceToNat, zl_aa, h1, hL.ck, sp_factsK hL, hL.2.2.2.ck, hx, g2, g3 p hp, w1, wc, zc_add]
        exact ihc
      · rw [decide_eq_false hv] at ihc
        simp only [Bool.and_false, Bool.or_false] at ihc
        simp (disch := omega) only [zi_lit, zi_neg, zi_add, zi_sub, zi_mul, zi_div, zi_char, zb_eq0, zb_eq1, zb_le0, zb_or, zb_and, zb_or1, zb_or0, zb_1or, zb_0or, zb_and1, zb_and0, zb_1and, zb_0and, zb_nar, zi_nar0, zi_nar1, zl_ite, zl_ret, zl_retb, zl_retb1, zl_retb0, zl_retc, zl_ki, zl_kr, zl_kr0, zl_krf, zl_kl, zl_kf, zl_kd, zl_kv, zl_rf, zl_rf0, zl_valI, zl_valP, zl_valL, zl_get, zl_getI, zl_getR, zl_get0, zl_getr, zl_fk, zl_set, zl_setk, zl_setNb, zl_setN1, zl_setN0, zl_up1, zl_up2, zl_new, zl_newA, zl_len, zl_lenk, zl_ga, zl_gaI, zl_gaL, zl_gaD, zl_gaR, zl_sa, zl_saI, zl_saL, zl_saD, zl_saR, zl_ck, zl_ok, zl_ok0, zl_csS, zl_csS0, zl_csk, zl_tk, zl_csA, zl_isS0, zl_c, zl_cv, zl_cx, zl_sp, zl_rv, zl_rvk, zl_rvk2, zl_div, zl_rem, zl_ath, zl_clnk, zl_clnk0, zl_cat, zl_catn, zl_l0, zl_ls, zl_s0, zl_ss, List.length_cons, List.length_nil, Nat.reduceLT, Nat.zero_add, Nat.lt_add_one, reduceCtorEq, zi_le, zi_lt, zi_eq, if_pos, if_neg, if_true, if_false, Bool.true_eq_false, Bool.false_eq_true, eq_self, Bool.not_true, Bool.not_false, Int.toNat_natCast, Nat.reduceAdd, Int.reduceAdd, Int.reduceSub, Int.reduceMul, Int.reduceNeg, Int.reduceToNat, zl_aa, h1, hL.ck, sp_factsK hL, hL.2.2.2.ck, hx, g2, g3 p hp, w1, wc, zc_add]
        exact ihc
theorem sp_open_l {E : zE} {hb b lo hi gb lb kb : Nat} {G : Nat → Nat → Bool} {rs : List zRule} {h : Nat → Nat → Nat} {f : Nat → Option zO} (hL : rLK E f b lo hi gb lb kb G rs) (hh : rHei f hb b h) (hle : ∀ p c, h p c ≤ 1000) (n m : Nat) : ∀ (d p k : Nat), p + d = 8 → d < k → s_X12_hasOpen_4 E k (some hb) (zb (ops (tr rs G) h p)) (zi p) (n, m, f) = some (.inl (some (.int (zb (ops (tr rs G) h 8)))), (n, m, f)) := by
  intro d
  induction d with
  | zero =>
    intro p k hp hk
    obtain ⟨k, rfl⟩ : ∃ k', k = k' + 1 := ⟨k - 1, by omega⟩
    obtain rfl : p = 8 := by omega
    rw [s_X12_hasOpen_4]
    simp (disch := omega) only [zi_lit, zi_neg, zi_add, zi_sub, zi_mul, zi_div, zi_char, zb_eq0, zb_eq1, zb_le0, zb_or, zb_and, zb_or1, zb_or0, zb_1or, zb_0or, zb_and1, zb_and0, zb_1and, zb_0and, zb_nar, zi_nar0, zi_nar1, zl_ite, zl_ret, zl_retb, zl_retb1, zl_retb0, zl_retc, zl_ki, zl_kr, zl_kr0, zl_krf, zl_kl, zl_kf, zl_kd, zl_kv, zl_rf, zl_rf0, zl_valI, zl_valP, zl_valL, zl_get, zl_getI, zl_getR, zl_get0, zl_getr, zl_fk, zl_set, zl_setk, zl_setNb, zl_setN1, zl_setN0, zl_up1, zl_up2, zl_new, zl_newA, zl_len, zl_lenk, zl_ga, zl_gaI, zl_gaL, zl_gaD, zl_gaR, zl_sa, zl_saI, zl_saL, zl_saD, zl_saR, zl_ck, zl_ok, zl_ok0, zl_csS, zl_csS0, zl_csk, zl_tk, zl_csA, zl_isS0, zl_c, zl_cv, zl_cx, zl_sp, zl_rv, zl_rvk, zl_rvk2, zl_div, zl_rem, zl_ath, zl_clnk, zl_clnk0, zl_cat, zl_catn, zl_l0, zl_ls, zl_s0, zl_ss, List.length_cons, List.length_nil, Nat.reduceLT, Nat.zero_add, Nat.lt_add_one, reduceCtorEq, zi_le, zi_lt, zi_eq, if_pos, if_neg, if_true, if_false, Bool.true_eq_false, Bool.false_eq_true, eq_self, Bool.not_true, Bool.not_false, Int.toNat_natCast, Nat.reduceAdd, Int.reduceAdd, Int.reduceSub, Int.reduceMul, Int.reduceNeg, Int.reduceToNat, zl_aa]
  | succ d ih =>
    intro p k hp hk
    obtain ⟨k, rfl⟩ : ∃ k', k = k' + 1 := ⟨k - 1, by omega⟩
    have := sp_open_l1 (E := E) hL hh hle (show p < 8 by omega) (s_X12_hasOpen_4 E k) n m (ops (tr rs G) h p) 100 0 zN (by omega) (by unfold zN; omega)
    rw [show ((0 : Nat) : Int) = 0 from rfl, show opr (tr rs G) h p 0 = false from rfl, Bool.or_false] at this
    rw [s_X12_hasOpen_4]
    simp (disch := omega) only [zi_lit, zi_neg, zi_add, zi_sub, zi_mul, zi_div, zi_char, zb_eq0, zb_eq1, zb_le0, zb_or, zb_and, zb_or1, zb_or0, zb_1or, zb_0or, zb_and1, zb_and0, zb_1and, zb_0and, zb_nar, zi_nar0, zi_nar1, zl_ite, zl_ret, zl_retb, zl_retb1, zl_retb0, zl_retc, zl_ki, zl_kr, zl_kr0, zl_krf, zl_kl, zl_kf, zl_kd, zl_kv, zl_rf, zl_rf0, zl_valI, zl_valP, zl_valL, zl_get, zl_getI, zl_getR, zl_get0, zl_getr, zl_fk, zl_set, zl_setk, zl_setNb, zl_setN1, zl_setN0, zl_up1, zl_up2, zl_new, zl_newA, zl_len, zl_lenk, zl_ga, zl_gaI, zl_gaL, zl_gaD, zl_gaR, zl_sa, zl_saI, zl_saL, zl_saD, zl_saR, zl_ck, zl_ok, zl_ok0, zl_csS, zl_csS0, zl_csk, zl_tk, zl_csA, zl_isS0, zl_c, zl_cv, zl_cx, zl_sp, zl_rv, zl_rvk, zl_rvk2, zl_div, zl_rem, zl_ath, zl_clnk, zl_clnk0, zl_cat, zl_catn, zl_l0, zl_ls, zl_s0, zl_ss, List.length_cons, List.length_nil, Nat.reduceLT, Nat.zero_add, Nat.lt_add_one, reduceCtorEq, zi_le, zi_lt, zi_eq, if_pos, if_neg, if_true, if_false, Bool.true_eq_false, Bool.false_eq_true, eq_self, Bool.not_true, Bool.not_false, Int.toNat_natCast, Nat.reduceAdd, Int.reduceAdd, Int.reduceSub, Int.reduceMul, Int.reduceNeg, Int.reduceToNat, zl_aa]
    rw [this]
    exact ih (p + 1) k (by omega) (by omega)
theorem sp_hasOpen {E : zE} {hb b lo hi gb lb kb : Nat} {G : Nat → Nat → Bool} {rs : List zRule} {h : Nat → Nat → Nat} {f : Nat → Option zO} (hL : rLK E f b lo hi gb lb kb G rs) (hh : rHei f hb b h) (hle : ∀ p c, h p c ≤ 1000) (n m : Nat) : s_X12_hasOpen E (some hb) (n, m, f) = some (.inl (some (.int (zb (ops (tr rs G) h 8)))), (n, m, f)) := by
  have := sp_open_l (E := E) hL hh hle n m 8 0 zN (by omega) (by unfold zN; omega)
  unfold s_X12_hasOpen
  rw [show ops (tr rs G) h 0 = false from rfl, show ((0 : Nat) : Int) = 0 from rfl, ← zi_f] at this
  simp (disch := omega) only [zi_lit, zi_neg, zi_add, zi_sub, zi_mul, zi_div, zi_char, zb_eq0, zb_eq1, zb_le0, zb_or, zb_and, zb_or1, zb_or0, zb_1or, zb_0or, zb_and1, zb_and0, zb_1and, zb_0and, zb_nar, zi_nar0, zi_nar1, zl_ite, zl_ret, zl_retb, zl_retb1, zl_retb0, zl_retc, zl_ki, zl_kr, zl_kr0, zl_krf, zl_kl, zl_kf, zl_kd, zl_kv, zl_rf, zl_rf0, zl_valI, zl_valP, zl_valL, zl_get, zl_getI, zl_getR, zl_get0, zl_getr, zl_fk, zl_set, zl_setk, zl_setNb, zl_setN1, zl_setN0, zl_up1, zl_up2, zl_new, zl_newA, zl_len, zl_lenk, zl_ga, zl_gaI, zl_gaL, zl_gaD, zl_gaR, zl_sa, zl_saI, zl_saL, zl_saD, zl_saR, zl_ck, zl_ok, zl_ok0, zl_csS, zl_csS0, zl_csk, zl_tk, zl_csA, zl_isS0, zl_c, zl_cv, zl_cx, zl_sp, zl_rv, zl_rvk, zl_rvk2, zl_div, zl_rem, zl_ath, zl_clnk, zl_clnk0, zl_cat, zl_catn, zl_l0, zl_ls, zl_s0, zl_ss, List.length_cons, List.length_nil, Nat.reduceLT, Nat.zero_add, Nat.lt_add_one, reduceCtorEq, zi_le, zi_lt, zi_eq, if_pos, if_neg, if_true, if_false, Bool.true_eq_false, Bool.false_eq_true, eq_self, Bool.not_true, Bool.not_false, Int.toNat_natCast, Nat.reduceAdd, Int.reduceAdd, Int.reduceSub, Int.reduceMul, Int.reduceNeg, Int.reduceToNat, zl_aa]
  exact this
theorem opr_iff {T : Nat → Nat → Bool} {h : Nat → Nat → Nat} {p : Nat} (k : Nat) : opr T h p k = true ↔ ∃ c, c < k ∧ opn T h p c = true := by
  induction k with
  | zero => simp [opr]
  | succ k ih =>
    rw [opr, Bool.or_eq_true, ih]
    constructor
    · rintro (⟨c, h1, h2⟩ | h)
      · exact ⟨c, by omega, h2⟩
      · exact ⟨k, by omega, h⟩
    · rintro ⟨c, h1, h2⟩
      by_cases hc : c = k
      · subst hc; exact Or.inr h2
      · exact Or.inl ⟨c, by omega, h2⟩
theorem ops_iff {T : Nat → Nat → Bool} {h : Nat → Nat → Nat} (k : Nat) : ops T h k = true ↔ ∃ p c, p < k ∧ c < 100 ∧ opn T h p c = true := by
  induction k with
  | zero => simp [ops]
  | succ k ih =>
    rw [ops, Bool.or_eq_true, ih, opr_iff]
    constructor
    · rintro (⟨p, c, h1, h2, h3⟩ | ⟨c, h1, h2⟩)
      · exact ⟨p, c, by omega, h2, h3⟩
      · exact ⟨k, c, by omega, h1, h2⟩
    · rintro ⟨p, c, h1, h2, h3⟩
      by_cases hc : p = k
      · subst hc; exact Or.inr ⟨c, h2, h3⟩
      · exact Or.inl ⟨p, c, by omega, h2, h3⟩
def LV (R : zRule) (G : Nat → Nat → Bool) (y : Nat) (h : Nat → Nat → Nat) : Prop := (∀ p c, hgt R G p c < y → h p c = hgt R G p c) ∧ ∀ p c, y ≤ hgt R G p c → h p c = 1000
def P14 (R : zRule) (G : Nat → Nat → Bool) (y s : Nat) (h : Nat → Nat → Nat) : Prop := (∀ p c, hgt R G p c < y → h p c = hgt R G p c) ∧ (∀ p c, y ≤ hgt R G p c → h p c = 1000 ∨ (h p c = y ∧ hgt R G p c = y)) ∧ ∀ t, t < s → vs R t → rH (tt R G) (sgs t) R = true → hby (hgt R G) (sgs t) (prem R.2.1) ≤ y → h R.1.1 (hd R (sgs t)) ≠ 1000
theorem P14_low {R : zRule} {G : Nat → Nat → Bool} {y s : Nat} {h : Nat → Nat → Nat} (hy : 1 ≤ y ∧ y < 1000) (hP : P14 R G y s h) (t : Nat → Int) : hby h t (prem R.2.1) ≤ y ↔ hby (hgt R G) t (prem R.2.1) ≤ y := by
  obtain ⟨p1, p2, p3⟩ := hP
  obtain ⟨z, rfl⟩ : ∃ z, y = z + 1 := ⟨y - 1, by omega⟩
  rw [hby_le, hby_le]
  constructor
  · intro h1 A hA
    have := h1 A hA
    rcases Nat.lt_or_ge (hgt R G A.1 (ac t A).toNat) (z + 1) with h2 | h2
    · omega
    · rcases p2 _ _ h2 with h3 | h3 <;> omega
  · intro h1 A hA
    have := h1 A hA
    rw [p1 _ _ (by omega)]; exact this
theorem P14_up {R : zRule} {G : Nat → Nat → Bool} (hst : strat R) (hR : okRule R) {h : Nat → Nat → Nat} {y s : Nat} (hy : 1 ≤ y ∧ y < 1000) (hP : P14 R G y s h) (hv : vs R s) (hr : rH (tt R G) (sgs s) R = true) : P14 R G y (s + 1) (up14 R y h s) := by
  have hlow := P14_low hy hP (sgs s)
  obtain ⟨p1, p2, p3⟩ := hP
  have hst' := hgt_step hst hR hv hr
  have hval : ∀ p c, up14 R y h s p c = if (p = R.1.1 ∧ c = hd R (sgs s)) ∧ (h p c = 1000 ∧ hby h (sgs s) (prem R.2.1) ≤ y) then y else h p c := fun p c => by
    unfold up14 hset
    by_cases hc : p = R.1.1 ∧ c = hd R (sgs s)
    · obtain ⟨rfl, rfl⟩ := hc
      rw [if_pos ⟨rfl, rfl⟩]
      by_cases hd : h R.1.1 (hd R (sgs s)) = 1000 ∧ hby h (sgs s) (prem R.2.1) ≤ y
      · rw [if_pos hd, if_pos ⟨⟨rfl, rfl⟩, hd⟩]
      · rw [if_neg hd, if_neg (fun h => hd h.2)]
    · rw [if_neg hc, if_neg (fun h => hc h.1)]
  refine ⟨fun p c hlt => ?_, fun p c hge => ?_, fun t ht1 ht2 ht3 ht4 => ?_⟩
  · rw [hval, if_neg]
    · exact p1 p c hlt
    · rintro ⟨⟨rfl, rfl⟩, h1, h2⟩
      have := p1 _ _ hlt
      omega
  · rw [hval]
    split
    · rename_i hc
      obtain ⟨⟨rfl, rfl⟩, h1, h2⟩ := hc
      have := hlow.mp h2
      right; exact ⟨rfl, by omega⟩
    · exact p2 p c hge
  · rw [hval]
    split
    · omega
    · rename_i hc
      rcases Nat.lt_succ_iff_lt_or_eq.mp ht1 with h1 | h1
      · exact p3 t h1 ht2 ht3 ht4
      · subst h1
        intro he
        exact hc ⟨⟨rfl, rfl⟩, he, hlow.mpr ht4⟩
theorem P14_no {R : zRule} {G : Nat → Nat → Bool} {h : Nat → Nat → Nat} {y s : Nat} (hP : P14 R G y s h) (hn : ¬ (vs R s ∧ rH (tt R G) (sgs s) R = true)) : P14 R G y (s + 1) h := by
  obtain ⟨p1, p2, p3⟩ := hP
  refine ⟨p1, p2, fun t ht1 ht2 ht3 ht4 => ?_⟩
  rcases Nat.lt_succ_iff_lt_or_eq.mp ht1 with h1 | h1
  · exact p3 t h1 ht2 ht3 ht4
  · subst h1; exact absurd ⟨ht2, ht3⟩ hn
theorem LV_next {R : zRule} {G : Nat → Nat → Bool} (hst : strat R) (hR : okRule R) {h : Nat → Nat → Nat} {y : Nat} (hy : 1 ≤ y ∧ y < 1000) (hP : P14 R G y 1000 h) : LV R G (y + 1) h := by
  obtain ⟨p1, p2, p3⟩ := hP
  refine ⟨fun p c hlt => ?_, fun p c hge => ?_⟩
  · rcases Nat.lt_or_ge (hgt R G p c) y with h1 | h1
    · exact p1 p c h1
    · have he : hgt R G p c = y := by omega
      have ht : tt R G p c = true := by
        cases ht : tt R G p c
        · rw [hgt_far ht] at he; omega
        · rfl
      have hg : G p c = false := by
        cases hg : G p c
        · rfl
        · have := (hgt_0 hst hR).mpr hg; omega
      obtain ⟨s, hs, rfl, rfl, hr, hb⟩ := hgt_ex hst hR ht hg
      have := p3 s hs.1 hs hr (by omega)
      rcases p2 _ _ h1 with h2 | h2
      · exact absurd h2 this
      · omega
  · rcases p2 p c (by omega) with h2 | h2 <;> omega
theorem up14_le {R : zRule} {y : Nat} (hy : y < 1000) (h : Nat → Nat → Nat) (s : Nat) (hle : ∀ p c, h p c ≤ 1000) : ∀ p c, up14 R y h s p c ≤ 1000 := fun p c => by
  unfold up14 hset
  have := hle p c; have := hle R.1.1 (hd R (sgs s))
  split
  · split <;> omega
  · omega
theorem sp_byLevels_l {E : zE} {hb b lo hi gb lb kb : Nat} {G : Nat → Nat → Bool} {R : zRule} (hst : strat R) (hok : okRule R) (hsf : safe R) (h5 : E 5 < E 0) (hE : E 0 ≤ hb) (hbN : b < hb) (hhi : hi ≤ hb) (hgb : gb + 18 ≤ hb) (hkb : kb + 18 ≤ hb) :
    ∀ (d y k n m : Nat) (f : Nat → Option zO) (h : Nat → Nat → Nat), nd R G + 1 ≤ y + d → 1 ≤ y → y ≤ 200 → d + 1 < k → hb + 10 ≤ n → rLK E f b lo hi gb lb kb G [R] → rHei f hb b h → (∀ p c, h p c ≤ 1000) → LV R G y h →
    ∃ (n' m' : Nat) (f' : Nat → Option zO), s_X12_byLevels_2 E k (some hb) (zi y) (n, m, f) = some (.inl (some (.ref hb)), (n', m', f')) ∧ n ≤ n' ∧ n' ≤ n + d * (3 + 2 * vc R 1000) ∧ m ≤ m' ∧ m' ≤ m + d * (9 + 8 * vc R 1000) ∧ zHx n hb f f' ∧ rHei f' hb b (hgt R G) := by
  intro d
  induction d with
  | zero =>
    intro y k n m f h hd hy1 hy2 hk hn hL hh hle hV
    obtain ⟨k, rfl⟩ : ∃ k', k = k' + 1 := ⟨k - 1, by omega⟩
    have ho := sp_hasOpen (E := E) hL hh hle n m
    have hno : ops (tr [R] G) h 8 = false := by
      cases hop : ops (tr [R] G) h 8
      · rfl
      · obtain ⟨p, c, h1, h2, h3⟩ := (ops_iff 8).mp hop
        unfold opn at h3
        rw [Bool.and_eq_true, decide_eq_true_eq] at h3
        have hlt := hgt_lt hst hok h3.1
        have := hV.1 p c (by omega)
        have := nd_le R G
        omega
    rw [hno] at ho
    refine ⟨n, m, f, ?_, by omega, by omega, by omega, by omega, fun _ _ _ => rfl, hh.congr fun p c hp hc => ?_⟩
    · rw [s_X12_byLevels_2]
      simp (disch := omega) only [zi_lit, zi_neg, zi_add, zi_sub, zi_mul, zi_div, zi_char, zb_eq0, zb_eq1, zb_le0, zb_or, zb_and, zb_or1, zb_or0, zb_1or, zb_0or, zb_and1, zb_and0, zb_1and, zb_0and, zb_nar, zi_nar0, zi_nar1, zl_ite, zl_ret, zl_retb, zl_retb1, zl_retb0, zl_retc, zl_ki, zl_kr, zl_kr0, zl_krf, zl_kl, zl_kf, zl_kd, zl_kv, zl_rf, zl_rf0, zl_valI, zl_valP, zl_valL, zl_get, zl_getI, zl_getR, zl_get0, zl_getr, zl_fk, zl_set, zl_setk, zl_setNb, zl_setN1, zl_setN0, zl_up1, zl_up2, zl_new, zl_newA, zl_len, zl_lenk, zl_ga, zl_gaI, zl_gaL, zl_gaD, zl_gaR, zl_sa, zl_saI, zl_saL, zl_saD, zl_saR, zl_ck, zl_ok, zl_ok0, zl_csS, zl_csS0, zl_csk, zl_tk, zl_csA, zl_isS0, zl_c, zl_cv, zl_cx, zl_sp, zl_rv, zl_rvk, zl_rvk2, zl_div, zl_rem, zl_ath, zl_clnk, zl_clnk0, zl_cat, zl_catn, zl_l0, zl_ls, zl_s0, zl_ss, List.length_cons, List.length_nil, Nat.reduceLT, Nat.zero_add, Nat.lt_add_one, reduceCtorEq, zi_le, zi_lt, zi_eq, if_pos, if_neg, if_true, if_false, Bool.true_eq_false, Bool.false_eq_true, eq_self, Bool.not_true, Bool.not_false, Int.toNat_natCast, Nat.reduceAdd, Int.reduceAdd, Int.reduceSub, Int.reduceMul, Int.reduceNeg, Int.reduceToNat, zl_aa, hh.ck, ho]
    · rcases Nat.lt_or_ge (hgt R G p c) y with h1 | h1
      · exact hV.1 p c h1
      · rw [hV.2 p c h1]
        cases ht : tt R G p c
        · rw [hgt_far ht]
        · have := hgt_lt hst hok ht; omega
  | succ d ih =>
    intro y k n m f h hd hy1 hy2 hk hn hL hh hle hV
    obtain ⟨k, rfl⟩ : ∃ k', k = k' + 1 := ⟨k - 1, by omega⟩
    have hmul : ∀ a : Nat, (d + 1) * a = d * a + a := fun a => Nat.succ_mul _ _
    have ho := sp_hasOpen (E := E) hL hh hle n m
    cases hop : ops (tr [R] G) h 8
    · rw [hop] at ho
      refine ⟨n, m, f, ?_, by omega, by omega, by omega, by omega, fun _ _ _ => rfl, hh.congr fun p c hp hc => ?_⟩
      · rw [s_X12_byLevels_2]
        simp (disch := omega) only [zi_lit, zi_neg, zi_add, zi_sub, zi_mul, zi_div, zi_char, zb_eq0, zb_eq1, zb_le0, zb_or, zb_and, zb_or1, zb_or0, zb_1or, zb_0or, zb_and1, zb_and0, zb_1and, zb_0and, zb_nar, zi_nar0, zi_nar1, zl_ite, zl_ret, zl_retb, zl_retb1, zl_retb0, zl_retc, zl_ki, zl_kr, zl_kr0, zl_krf, zl_kl, zl_kf, zl_kd, zl_kv, zl_rf, zl_rf0, zl_valI, zl_valP, zl_valL, zl_get, zl_getI, zl_getR, zl_get0, zl_getr, zl_fk, zl_set, zl_setk, zl_setNb, zl_setN1, zl_setN0, zl_up1, zl_up2, zl_new, zl_newA, zl_len, zl_lenk, zl_ga, zl_gaI, zl_gaL, zl_gaD, zl_gaR, zl_sa, zl_saI, zl_saL, zl_saD, zl_saR, zl_ck, zl_ok, zl_ok0, zl_csS, zl_csS0, zl_csk, zl_tk, zl_csA, zl_isS0, zl_c, zl_cv, zl_cx, zl_sp, zl_rv, zl_rvk, zl_rvk2, zl_div, zl_rem, zl_ath, zl_clnk, zl_clnk0, zl_cat, zl_catn, zl_l0, zl_ls, zl_s0, zl_ss, List.length_cons, List.length_nil, Nat.reduceLT, Nat.zero_add, Nat.lt_add_one, reduceCtorEq, zi_le, zi_lt, zi_eq, if_pos, if_neg, if_true, if_false, Bool.true_eq_false, Bool.false_eq_true, eq_self, Bool.not_true, Bool.not_false, Int.toNat_natCast, Nat.reduceAdd, Int.reduceAdd, Int.reduceSub, Int.reduceMul, Int.reduceNeg, Int.reduceToNat, zl_aa, hh.ck, ho]
      · rcases Nat.lt_or_ge (hgt R G p c) y with h1 | h1
        · exact hV.1 p c h1
        · rw [hV.2 p c h1]
          cases ht : tt R G p c
          · rw [hgt_far ht]
          · have : ops (tr [R] G) h 8 = true := (ops_iff 8).mpr ⟨p, c, hp, hc, by unfold opn; rw [show tr [R] G p c = tt R G p c from rfl, ht, hV.2 p c h1]; rfl⟩
            rw [hop] at this; cases this
    · rw [hop] at ho
      obtain ⟨p, c, q1, q2, q3⟩ := (ops_iff 8).mp hop
      unfold opn at q3
      rw [Bool.and_eq_true, decide_eq_true_eq] at q3
      have hlt := hgt_lt hst hok q3.1
      have hnl := nd_le R G
      have hylt : y ≤ 128 := by
        rcases Nat.lt_or_ge (hgt R G p c) y with h1 | h1
        · have := hV.1 p c h1; omega
        · omega
      generalize hf1 : zUp f n (.inr (20, [.int (zi y), .ref hb])) = f1
      have hf1' : ∀ q, q ≠ n → f1 q = f q := fun q hq => by rw [← hf1, zl_up2 hq]
      have ha1 : f1 n = some (.inr (20, [.int (zi y), .ref hb])) := by rw [← hf1, zl_up1 rfl]
      have hX1 : zX n f f1 := fun q hq => hf1' q (by omega)
      have hh1 : rHei f1 hb b h := hh.mv fun q _ _ => hf1' q (by omega)
      obtain ⟨n1, m1, f2, h2, e1, e2, e3, e4, e5, e6, e7, e8, e9⟩ := sp_takeAll1 (E := E) (P := P14 R G y) (up := up14 R y) (h0 := h) (n := n + 1) (m := m + 2) (a0 := n) (Or.inr rfl) (by rw [ha1]; rfl) h5 hE (hL.mv hX1 (by omega) (by omega) (by omega) (by omega) (by omega)) hbN hhi hgb hkb hh1 hle (by omega) (by omega)
        (fun n2 m2 v s rb f2 h2 q1 q2 q3 q4 q5 q6 q7 q8 => sp_14 (E := E) (a0 := n) (q1.trans ha1) (by omega) q3 q4 q2 q5 q6 h5 hE (by omega) (by omega) q8 q7 m2)
        (fun h s => up14_le (by omega) h s) ⟨hV.1, fun p c hge => Or.inl (hV.2 p c hge), fun t ht => by omega⟩ (fun s h hP hv hr => P14_up hst hok (by omega) hP hv hr) (fun s h hP hn => P14_no hP hn)
      have hX2 : zHx n hb f f2 := fun q hq hq' => (e6 q (by omega) hq').trans (hf1' q (by omega))
      have hV2 := LV_next hst hok (by omega) e9
      obtain ⟨n', m', f', i1, i2, i3, i4, i5, i6, i7⟩ := ih (y + 1) k n1 m1 f2 h2 (by omega) (by omega) (by omega) (by omega) (by omega) (hL.mv (hX2.x (by omega)) (by omega) (by omega) (by omega) (by omega) (by omega)) e7 e8 hV2
      refine ⟨n', m', f', ?_, by omega, by rw [hmul]; omega, by omega, by rw [hmul]; omega, hX2.tr i6 (by omega), i7⟩
      rw [s_X12_byLevels_2]
      unfold s_X14_init s_X10_init
      simp (disch := omega) only [zi_lit, zi_neg, zi_add, zi_sub, zi_mul, zi_div, zi_char, zb_eq0, zb_eq1, zb_le0, zb_or, zb_and, zb_or1, zb_or0, zb_1or, zb_0or, zb_and1, zb_and0, zb_1and, zb_0and, zb_nar, zi_nar0, zi_nar1, zl_ite, zl_ret, zl_retb, zl_retb1, zl_retb0, zl_retc, zl_ki, zl_kr, zl_kr0, zl_krf, zl_kl, zl_kf, zl_kd, zl_kv, zl_rf, zl_rf0, zl_valI, zl_valP, zl_valL, zl_get, zl_getI, zl_getR, zl_get0, zl_getr, zl_fk, zl_set, zl_setk, zl_setNb, zl_setN1, zl_setN0, zl_up1, zl_up2, zl_new, zl_newA, zl_len, zl_lenk, zl_ga, zl_gaI, zl_gaL, zl_gaD, zl_gaR, zl_sa, zl_saI, zl_saL, zl_saD, zl_saR, zl_ck, zl_ok, zl_ok0, zl_csS, zl_csS0, zl_csk, zl_tk, zl_csA, zl_isS0, zl_c, zl_cv, zl_cx, zl_sp, zl_rv, zl_rvk, zl_rvk2, zl_div, zl_rem, zl_ath, zl_clnk, zl_clnk0, zl_cat, zl_catn, zl_l0, zl_ls, zl_s0, zl_ss, List.length_cons, List.length_nil, Nat.reduceLT, Nat.zero_add, Nat.lt_add_one, reduceCtorEq, zi_le, zi_lt, zi_eq, if_pos, if_neg, if_true, if_false, Bool.true_eq_false, Bool.false_eq_true, eq_self, Bool.not_true, Bool.not_false, Int.toNat_natCast, Nat.reduceAdd, Int.reduceAdd, Int.reduceSub, Int.reduceMul, Int.reduceNeg, Int.reduceToNat, zl_aa, hh.ck, ho, zl_upup, hf1, hh1.ck, e1, zc_add]
      exact i1
noncomputable def blC (rs : List zRule) (G : Nat → Nat → Bool) : Nat := match rs with
  | [] => 0
  | R :: _ => (nd R G + 1) * (3 + 2 * vc R 1000)
noncomputable def blS (rs : List zRule) (G : Nat → Nat → Bool) : Nat := match rs with
  | [] => 0
  | R :: _ => (nd R G + 1) * (9 + 8 * vc R 1000)
theorem sp_byLevels {E : zE} {hb b lo hi gb lb kb n : Nat} {G : Nat → Nat → Bool} {rs : List zRule} {f : Nat → Option zO} (hok : rsOk rs) (h5 : E 5 < E 0) (hE : E 0 ≤ hb) (hbN : b < hb) (hhi : hi ≤ hb) (hgb : gb + 18 ≤ hb) (hkb : kb + 18 ≤ hb) (hn : hb + 10 ≤ n) (hL : rLK E f b lo hi gb lb kb G rs) (hh : rHei f hb b (h00 G)) (m : Nat) :
    ∃ (n' m' : Nat) (f' : Nat → Option zO), s_X12_byLevels E (some hb) (n, m, f) = some (.inl (some (.ref hb)), (n', m', f')) ∧ n ≤ n' ∧ n' ≤ n + blC rs G ∧ m ≤ m' ∧ m' ≤ m + blS rs G ∧ zHx n hb f f' ∧ rHei f' hb b (hgtr rs G) := by
  cases rs with
  | nil =>
    obtain ⟨k, hk⟩ : ∃ k, zN = k + 2 := ⟨zN - 2, by unfold zN; omega⟩
    have ho := sp_hasOpen (E := E) hL hh (h00_le G) n m
    have hno : ops (tr [] G) (h00 G) 8 = false := by
      cases hop : ops (tr [] G) (h00 G) 8
      · rfl
      · obtain ⟨p, c, h1, h2, h3⟩ := (ops_iff 8).mp hop
        unfold opn at h3
        rw [Bool.and_eq_true, decide_eq_true_eq, show tr [] G p c = G p c from rfl] at h3
        have := h3.2
        unfold h00 at this
        rw [h3.1] at this
        simp at this
    rw [hno] at ho
    refine ⟨n, m, f, ?_, by omega, by omega, by omega, by omega, fun _ _ _ => rfl, hh⟩
    unfold s_X12_byLevels
    rw [hk, s_X12_byLevels_2]
    simp (disch := omega) only [zi_lit, zi_neg, zi_add, zi_sub, zi_mul, zi_div, zi_char, zb_eq0, zb_eq1, zb_le0, zb_or, zb_and, zb_or1, zb_or0, zb_1or, zb_0or, zb_and1, zb_and0, zb_1and, zb_0and, zb_nar, zi_nar0, zi_nar1, zl_ite, zl_ret, zl_retb, zl_retb1, zl_retb0, zl_retc, zl_ki, zl_kr, zl_kr0, zl_krf, zl_kl, zl_kf, zl_kd, zl_kv, zl_rf, zl_rf0, zl_valI, zl_valP, zl_valL, zl_get, zl_getI, zl_getR, zl_get0, zl_getr, zl_fk, zl_set, zl_setk, zl_setNb, zl_setN1, zl_setN0, zl_up1, zl_up2, zl_new, zl_newA, zl_len, zl_lenk, zl_ga, zl_gaI, zl_gaL, zl_gaD, zl_gaR, zl_sa, zl_saI, zl_saL, zl_saD, zl_saR, zl_ck, zl_ok, zl_ok0, zl_csS, zl_csS0, zl_csk, zl_tk, zl_csA, zl_isS0, zl_c, zl_cv, zl_cx, zl_sp, zl_rv, zl_rvk, zl_rvk2, zl_div, zl_rem, zl_ath, zl_clnk, zl_clnk0, zl_cat, zl_catn, zl_l0, zl_ls, zl_s0, zl_ss, List.length_cons, List.length_nil, Nat.reduceLT, Nat.zero_add, Nat.lt_add_one, reduceCtorEq, zi_le, zi_lt, zi_eq, if_pos, if_neg, if_true, if_false, Bool.true_eq_false, Bool.false_eq_true, eq_self, Bool.not_true, Bool.not_false, Int.toNat_natCast, Nat.reduceAdd, Int.reduceAdd, Int.reduceSub, Int.reduceMul, Int.reduceNeg, Int.reduceToNat, zl_aa, hh.ck, ho]
  | cons R rs =>
    have : rs = [] := by
      have := hok.1
      cases rs with
      | nil => rfl
      | cons => simp at this
    subst this
    obtain ⟨o1, o2, o3⟩ := hok.2 R (by simp)
    have hnl := nd_le R G
    obtain ⟨n', m', f', e1, e2, e3, e4, e5, e6, e7⟩ := sp_byLevels_l (E := E) (G := G) o1 o3 o2 h5 hE hbN hhi hgb hkb (nd R G + 1) 1 zN n m f (h00 G) (by omega) (by omega) (by omega) (by unfold zN; omega) hn hL hh (h00_le G) ⟨fun p c hlt => by
      have h0 : hgt R G p c = 0 := by omega
      rw [h0]; unfold h00; rw [(hgt_0 o1 o3).mp h0]; rfl, fun p c hge => by
      unfold h00
      cases hg : G p c
      · rfl
      · have := (hgt_0 o1 o3).mpr hg; omega⟩
    refine ⟨n', m', f', ?_, e2, e3, e4, e5, e6, e7⟩
    unfold s_X12_byLevels
    simp (disch := omega) only [zi_lit, zi_neg, zi_add, zi_sub, zi_mul, zi_div, zi_char, zb_eq0, zb_eq1, zb_le0, zb_or, zb_and, zb_or1, zb_or0, zb_1or, zb_0or, zb_and1, zb_and0, zb_1and, zb_0and, zb_nar, zi_nar0, zi_nar1, zl_ite, zl_ret, zl_retb, zl_retb1, zl_retb0, zl_retc, zl_ki, zl_kr, zl_kr0, zl_krf, zl_kl, zl_kf, zl_kd, zl_kv, zl_rf, zl_rf0, zl_valI, zl_valP, zl_valL, zl_get, zl_getI, zl_getR, zl_get0, zl_getr, zl_fk, zl_set, zl_setk, zl_setNb, zl_setN1, zl_setN0, zl_up1, zl_up2, zl_new, zl_newA, zl_len, zl_lenk, zl_ga, zl_gaI, zl_gaL, zl_gaD, zl_gaR, zl_sa, zl_saI, zl_saL, zl_saD, zl_saR, zl_ck, zl_ok, zl_ok0, zl_csS, zl_csS0, zl_csk, zl_tk, zl_csA, zl_isS0, zl_c, zl_cv, zl_cx, zl_sp, zl_rv, zl_rvk, zl_rvk2, zl_div, zl_rem, zl_ath, zl_clnk, zl_clnk0, zl_cat, zl_catn, zl_l0, zl_ls, zl_s0, zl_ss, List.length_cons, List.length_nil, Nat.reduceLT, Nat.zero_add, Nat.lt_add_one, reduceCtorEq, zi_le, zi_lt, zi_eq, if_pos, if_neg, if_true, if_false, Bool.true_eq_false, Bool.false_eq_true, eq_self, Bool.not_true, Bool.not_false, Int.toNat_natCast, Nat.reduceAdd, Int.reduceAdd, Int.reduceSub, Int.reduceMul, Int.reduceNeg, Int.reduceToNat, zl_aa]
    exact e1
