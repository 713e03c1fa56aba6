set_option maxRecDepth 20000
/-! ===== plain law: new Heights, in rounds, by levels ===== -/
def upH (f : Nat → Option zO) (a : Nat) : Nat → Option zO := fun q =>
    if q = a then some (.inl (7, 8, .inr (.inr (.inr (.inr fun j => if j < 8 then some (a + 1 + j) else none))))) else if a < q ∧ q < a + 1 + 8 then some (.inl (0, 100, zAr0)) else f q
theorem sp_newMH (K : Option Nat → zM) (n m : Nat) (f : Nat → Option zO) : zNewM 7 0 zAr0 (zi 8) (zi 100) K (n, m, f) = K (some n) (n + 9, m + 808, upH f n) := by
  have h1 : ¬ (zi 8 < 0 ∨ zi 100 < 0 ∨ 1000 < (zi 8).toNatClampNeg ∨ 1000 < (zi 100).toNatClampNeg) := by decide
  have h2 : (zi 8).toNatClampNeg = 8 := by decide
  have h3 : (zi 100).toNatClampNeg = 100 := by decide
  unfold zNewM
  rw [if_neg h1]
  simp only [h2, h3]
  rfl
theorem upH_ht (f : Nat → Option zO) (a : Nat) : rHt (upH f a) a (fun _ _ => 0) := by
  refine ⟨⟨_, if_pos rfl, fun i hi => if_pos hi⟩, fun i hi => ⟨fun _ => 0, ?_, fun j hj => rfl⟩⟩
  unfold upH
  rw [if_neg (by omega), if_pos (by omega)]
theorem upH_x (f : Nat → Option zO) (a : Nat) {q : Nat} (h : q < a ∨ a + 9 ≤ q) : upH f a q = f q := by
  unfold upH; rw [if_neg (by omega), if_neg (by omega)]
def h00 (G : Nat → Nat → Bool) (p c : Nat) : Nat := if G p c then 0 else 1000
def hprt (h : Nat → Nat → Nat) (p c : Nat) : Nat → Nat → Nat := fun p' c' => if p' < p ∨ (p' = p ∧ c' < c) then h p' c' else 0
theorem hprt_set (h : Nat → Nat → Nat) (p c : Nat) : hset (hprt h p c) p c (h p c) = hprt h p (c + 1) := by
  funext p' c'
  unfold hset hprt
  by_cases h1 : p' = p ∧ c' = c
  · rw [if_pos h1, if_pos (by omega), h1.1, h1.2]
  · rw [if_neg h1]
    by_cases h2 : p' < p ∨ (p' = p ∧ c' < c)
    · rw [if_pos h2, if_pos (by omega)]
    · rw [if_neg h2, if_neg (by omega)]
theorem sp_hInit_l1 {E : zE} {hb b gb p : Nat} {G : Nat → Nat → Bool} {g1 g2 g3 : Value} {f0 : Nat → Option zO} (hE : E 0 ≤ hb) (hL : f0 b = some (.inr (26, [.ref gb, g1, g2, g3]))) (hG : rFacts f0 gb G) (hbb : b < hb) (hgb : gb + 18 ≤ hb) (hp : p < 8) (k23 : Option Nat → Option Nat → Int32 → zM) (n m : Nat) :
    ∀ (d c k : Nat) (f : Nat → Option zO), c + d = 100 → d < k → (∀ q, (q < hb ∨ hb + 10 ≤ q) → f q = f0 q) → rHei f hb b (hprt (h00 G) p c) →
    ∃ f', s_X12_init_31 E k23 k (some hb) (some b) (zi p) (zi c) (n, m, f) = k23 (some hb) (some b) (zi (p + 1 : Nat)) (n, m, f') ∧ (∀ q, (q < hb ∨ hb + 10 ≤ q) → f' q = f0 q) ∧ rHei f' hb b (hprt (h00 G) p 100) := by
  intro d
  induction d with
  | zero =>
    intro c k f hc hk hf hh
    obtain ⟨k, rfl⟩ : ∃ k', k = k' + 1 := ⟨k - 1, by omega⟩
    obtain rfl : c = 100 := by omega
    refine ⟨f, ?_, hf, hh⟩
    rw [s_X12_init_31]
    simp (disch := omega) only [zi_lit, zi_neg, zi_add, zi_sub, zi_mul, zi_div, zi_char, zb_eq0, zb_eq1, zb_le0, zb_or, zb_and, zb_or1, zb_or0, zb_1or, zb_0or, zb_and1, zb_and0, zb_1and, zb_0and, zb_nar, zi_nar0, zi_nar1, zl_ite, zl_ret, zl_retb, zl_retb1, zl_retb0, zl_retc, zl_ki, zl_kr, zl_kr0, zl_krf, zl_kl, zl_kf, zl_kd, zl_kv, zl_rf, zl_rf0, zl_valI, zl_valP, zl_valL, zl_get, zl_getI, zl_getR, zl_get0, zl_getr, zl_fk, zl_set, zl_setk, zl_setNb, zl_setN1, zl_setN0, zl_up1, zl_up2, zl_new, zl_newA, zl_len, zl_lenk, zl_ga, zl_gaI, zl_gaL, zl_gaD, zl_gaR, zl_sa, zl_saI, zl_saL, zl_saD, zl_saR, zl_ck, zl_ok, zl_ok0, zl_csS, zl_csS0, zl_csk, zl_tk, zl_csA, zl_isS0, zl_c, zl_cv, zl_cx, zl_sp, zl_rv, zl_rvk, zl_rvk2, zl_div, zl_rem, zl_ath, zl_clnk, zl_clnk0, zl_cat, zl_catn, zl_l0, zl_ls, zl_s0, zl_ss, List.length_cons, List.length_nil, Nat.reduceLT, Nat.zero_add, Nat.lt_add_one, reduceCtorEq, zi_le, zi_lt, zi_eq, if_pos, if_neg, if_true, if_false, Bool.true_eq_false, Bool.false_eq_true, eq_self, Bool.not_true, Bool.not_false, Int.toNat_natCast, Nat.reduceAdd, Int.reduceAdd, Int.reduceSub, Int.reduceMul, Int.reduceNeg, Int.reduceToNat, zl_aa, zc_add]
  | succ d ih =>
    intro c k f hc hk hf hh
    obtain ⟨k, rfl⟩ : ∃ k', k = k' + 1 := ⟨k - 1, by omega⟩
    have hLf := (hf b (Or.inl hbb)).trans hL
    have hGf : rFacts f gb G := hG.mv fun q _ _ => hf q (by omega)
    have hhas := sp_fHas (E := E) hGf hp (c := c) (by omega) n m
    obtain ⟨e1, hm⟩ := hh
    have hm' := hm
    obtain ⟨⟨g, e2, e3⟩, e4⟩ := hm
    obtain ⟨w, w1, w2⟩ := e4 p hp
    have hset := hm'.set (j := c) hp (h00 G p c) w1
    rw [hprt_set] at hset
    obtain ⟨f', i1, i2, i3⟩ := ih (c + 1) k _ (by omega) (by omega) (fun q hq => (zl_up2 (by omega)).trans (hf q hq)) ⟨(zl_up2 (by omega)).trans e1, hset⟩
    refine ⟨f', ?_, i2, i3⟩
    rw [s_X12_init_31]
    unfold s_X12_init_63
    unfold h00 at i1
    cases hgc : G p c <;> rw [hgc] at hhas i1 <;> simp (disch := omega) only [zi_lit, zi_neg, zi_add, zi_sub, zi_mul, zi_div, zi_char, zb_eq0, zb_eq1, zb_le0, zb_or, zb_and, zb_or1, zb_or0, zb_1or, zb_0or, zb_and1, zb_and0, zb_1and, zb_0and, zb_nar, zi_nar0, zi_nar1, zl_ite, zl_ret, zl_retb, zl_retb1, zl_retb0, zl_retc, zl_ki, zl_kr, zl_kr0, zl_krf, zl_kl, zl_kf, zl_kd, zl_kv, zl_rf, zl_rf0, zl_valI, zl_valP, zl_valL, zl_get, zl_getI, zl_getR, zl_get0, zl_getr, zl_fk, zl_set, zl_setk, zl_setNb, zl_setN1, zl_setN0, zl_up1, zl_up2, zl_new, zl_newA, zl_len, zl_lenk, zl_ga, zl_gaI, zl_gaL, zl_gaD, zl_gaR, zl_sa, zl_saI, zl_saL, zl_saD, zl_saR, zl_ck, zl_ok, zl_ok0, zl_csS, zl_csS0, zl_csk, zl_tk, zl_csA, zl_isS0, zl_c, zl_cv, zl_cx, zl_sp, zl_rv, zl_rvk, zl_rvk2, zl_div, zl_rem, zl_ath, zl_clnk, zl_clnk0, zl_cat, zl_catn, zl_l0, zl_ls, zl_s0, zl_ss, List.length_cons, List.length_nil, Nat.reduceLT, Nat.zero_add, Nat.lt_add_one, reduceCtorEq, zi_le, zi_lt, zi_eq, if_pos, if_neg, if_true, if_false, Bool.true_eq_false, Bool.false_eq_true, eq_self, Bool.not_true, Bool.not_false, Int.toNat_natCast, Nat.reduceAdd, Int.reduceAdd, Int.reduceSub, Int.reduceMul, Int.reduceNeg, Int.reduceToNat, zl_aa, e1, e2, e3 p hp, hLf, hGf.ck, hhas, w1, zc_add] <;> exact i1
theorem sp_hInit_l {E : zE} {hb b gb : Nat} {G : Nat → Nat → Bool} {g1 g2 g3 : Value} {f0 : Nat → Option zO} (hE : E 0 ≤ hb) (hL : f0 b = some (.inr (26, [.ref gb, g1, g2, g3]))) (hG : rFacts f0 gb G) (hbb : b < hb) (hgb : gb + 18 ≤ hb) (n m : Nat) :
    ∀ (d p k : Nat) (f : Nat → Option zO), p + d = 8 → d < k → (∀ q, (q < hb ∨ hb + 10 ≤ q) → f q = f0 q) → rHei f hb b (hprt (h00 G) p 0) →
    ∃ f', s_X12_init_23 E k (some hb) (some b) (zi p) (n, m, f) = some (.inl none, (n, m, f')) ∧ (∀ q, (q < hb ∨ hb + 10 ≤ q) → f' q = f0 q) ∧ rHei f' hb b (h00 G) := by
  intro d
  induction d with
  | zero =>
    intro p k f hp hk hf hh
    obtain ⟨k, rfl⟩ : ∃ k', k = k' + 1 := ⟨k - 1, by omega⟩
    obtain rfl : p = 8 := by omega
    refine ⟨f, ?_, hf, hh.congr fun p c hp _ => by unfold hprt; rw [if_pos (by omega)]⟩
    rw [s_X12_init_23]
    simp (disch := omega) only [zi_lit, zi_neg, zi_add, zi_sub, zi_mul, zi_div, zi_char, zb_eq0, zb_eq1, zb_le0, zb_or, zb_and, zb_or1, zb_or0, zb_1or, zb_0or, zb_and1, zb_and0, zb_1and, zb_0and, zb_nar, zi_nar0, zi_nar1, zl_ite, zl_ret, zl_retb, zl_retb1, zl_retb0, zl_retc, zl_ki, zl_kr, zl_kr0, zl_krf, zl_kl, zl_kf, zl_kd, zl_kv, zl_rf, zl_rf0, zl_valI, zl_valP, zl_valL, zl_get, zl_getI, zl_getR, zl_get0, zl_getr, zl_fk, zl_set, zl_setk, zl_setNb, zl_setN1, zl_setN0, zl_up1, zl_up2, zl_new, zl_newA, zl_len, zl_lenk, zl_ga, zl_gaI, zl_gaL, zl_gaD, zl_gaR, zl_sa, zl_saI, zl_saL, zl_saD, zl_saR, zl_ck, zl_ok, zl_ok0, zl_csS, zl_csS0, zl_csk, zl_tk, zl_csA, zl_isS0, zl_c, zl_cv, zl_cx, zl_sp, zl_rv, zl_rvk, zl_rvk2, zl_div, zl_rem, zl_ath, zl_clnk, zl_clnk0, zl_cat, zl_catn, zl_l0, zl_ls, zl_s0, zl_ss, List.length_cons, List.length_nil, Nat.reduceLT, Nat.zero_add, Nat.lt_add_one, reduceCtorEq, zi_le, zi_lt, zi_eq, if_pos, if_neg, if_true, if_false, Bool.true_eq_false, Bool.false_eq_true, eq_self, Bool.not_true, Bool.not_false, Int.toNat_natCast, Nat.reduceAdd, Int.reduceAdd, Int.reduceSub, Int.reduceMul, Int.reduceNeg, Int.reduceToNat, zl_aa]
  | succ d ih =>
    intro p k f hp hk hf hh
    obtain ⟨k, rfl⟩ : ∃ k', k = k' + 1 := ⟨k - 1, by omega⟩
    obtain ⟨f1, e1, e2, e3⟩ := sp_hInit_l1 (E := E) hE hL hG hbb hgb (show p < 8 by omega) (s_X12_init_23 E k) n m 100 0 zN f (by omega) (by unfold zN; omega) hf hh
    obtain ⟨f', i1, i2, i3⟩ := ih (p + 1) k f1 (by omega) (by omega) e2 (e3.congr fun p' c' hp' hc' => by
      unfold hprt
      by_cases h : p' < p ∨ (p' = p ∧ c' < 100)
      · rw [if_pos h, if_pos (by omega)]
      · rw [if_neg h, if_neg (by omega)])
    refine ⟨f', ?_, i2, i3⟩
    rw [s_X12_init_23]
    rw [show ((0 : Nat) : Int) = 0 from rfl] at e1
    simp (disch := omega) only [zi_lit, zi_neg, zi_add, zi_sub, zi_mul, zi_div, zi_char, zb_eq0, zb_eq1, zb_le0, zb_or, zb_and, zb_or1, zb_or0, zb_1or, zb_0or, zb_and1, zb_and0, zb_1and, zb_0and, zb_nar, zi_nar0, zi_nar1, zl_ite, zl_ret, zl_retb, zl_retb1, zl_retb0, zl_retc, zl_ki, zl_kr, zl_kr0, zl_krf, zl_kl, zl_kf, zl_kd, zl_kv, zl_rf, zl_rf0, zl_valI, zl_valP, zl_valL, zl_get, zl_getI, zl_getR, zl_get0, zl_getr, zl_fk, zl_set, zl_setk, zl_setNb, zl_setN1, zl_setN0, zl_up1, zl_up2, zl_new, zl_newA, zl_len, zl_lenk, zl_ga, zl_gaI, zl_gaL, zl_gaD, zl_gaR, zl_sa, zl_saI, zl_saL, zl_saD, zl_saR, zl_ck, zl_ok, zl_ok0, zl_csS, zl_csS0, zl_csk, zl_tk, zl_csA, zl_isS0, zl_c, zl_cv, zl_cx, zl_sp, zl_rv, zl_rvk, zl_rvk2, zl_div, zl_rem, zl_ath, zl_clnk, zl_clnk0, zl_cat, zl_catn, zl_l0, zl_ls, zl_s0, zl_ss, List.length_cons, List.length_nil, Nat.reduceLT, Nat.zero_add, Nat.lt_add_one, reduceCtorEq, zi_le, zi_lt, zi_eq, if_pos, if_neg, if_true, if_false, Bool.true_eq_false, Bool.false_eq_true, eq_self, Bool.not_true, Bool.not_false, Int.toNat_natCast, Nat.reduceAdd, Int.reduceAdd, Int.reduceSub, Int.reduceMul, Int.reduceNeg, Int.reduceToNat, zl_aa]
    rw [e1, i1]
theorem sp_hInit {E : zE} {hb b gb : Nat} {G : Nat → Nat → Bool} {g1 g2 g3 : Value} {f : Nat → Option zO} (hE : E 0 ≤ hb) (hL : f b = some (.inr (26, [.ref gb, g1, g2, g3]))) (hG : rFacts f gb G) (hbb : b < hb) (hgb : gb + 18 ≤ hb) (hh : f hb = some (.inr (18, [.null, .null]))) (m : Nat) :
    ∃ f', s_X12_init E (some hb) (some b) (hb + 1, m, f) = some (.inl none, (hb + 10, m + 808, f')) ∧ zX hb f f' ∧ rHei f' hb b (h00 G) := by
  generalize hf1 : zUp (zUp (upH f (hb + 1)) hb (.inr (18, [.null, .ref (hb + 1)]))) hb (.inr (18, [.ref b, .ref (hb + 1)])) = f1
  have hf1' : ∀ q, (q < hb ∨ hb + 10 ≤ q) → f1 q = f q := fun q hq => by
    rw [← hf1, zl_up2 (by omega), zl_up2 (by omega), upH_x _ _ (by omega)]
  have e0 : (upH f (hb + 1)) hb = some (.inr (18, [.null, .null])) := (upH_x _ _ (by omega)).trans hh
  have hh1 : rHei f1 hb b (hprt (h00 G) 0 0) := by
    have hz : rHei f1 hb b (fun _ _ => 0) := by
      refine ⟨by rw [← hf1, zl_up1 rfl], ((upH_ht f (hb + 1)).mv fun q _ _ => ?_)⟩
      rw [← hf1, zl_up2 (by omega), zl_up2 (by omega)]
    exact hz.congr fun p c _ _ => by unfold hprt; rw [if_neg (by omega)]
  obtain ⟨f', e1, e2, e3⟩ := sp_hInit_l (E := E) hE ((hf1' b (Or.inl hbb)).trans hL) (hG.mv fun q _ _ => hf1' q (by omega)) hbb hgb (hb + 10) (m + 808) 8 0 zN f1 (by omega) (by unfold zN; omega) (fun _ _ => rfl) hh1
  refine ⟨f', ?_, fun q hq => (e2 q (Or.inl hq)).trans (hf1' q (Or.inl hq)), e3⟩
  rw [show ((0 : Nat) : Int) = 0 from rfl] at e1
  unfold s_X12_init
  simp only [zi_lit, zl_sp, sp_newMH]
  rw [zl_upup] at hf1
  simp (disch := omega) only [zi_lit, zi_neg, zi_add, zi_sub, zi_mul, zi_div, zi_char, zb_eq0, zb_eq1, zb_le0, zb_or, zb_and, zb_or1, zb_or0, zb_1or, zb_0or, zb_and1, zb_and0, zb_1and, zb_0and, zb_nar, zi_nar0, zi_nar1, zl_ite, zl_ret, zl_retb, zl_retb1, zl_retb0, zl_retc, zl_ki, zl_kr, zl_kr0, zl_krf, zl_kl, zl_kf, zl_kd, zl_kv, zl_rf, zl_rf0, zl_valI, zl_valP, zl_valL, zl_get, zl_getI, zl_getR, zl_get0, zl_getr, zl_fk, zl_set, zl_setk, zl_setNb, zl_setN1, zl_setN0, zl_up1, zl_up2, zl_new, zl_newA, zl_len, zl_lenk, zl_ga, zl_gaI, zl_gaL, zl_gaD, zl_gaR, zl_sa, zl_saI, zl_saL, zl_saD, zl_saR, zl_ck, zl_ok, zl_ok0, zl_csS, zl_csS0, zl_csk, zl_tk, zl_csA, zl_isS0, zl_c, zl_cv, zl_cx, zl_sp, zl_rv, zl_rvk, zl_rvk2, zl_div, zl_rem, zl_ath, zl_clnk, zl_clnk0, zl_cat, zl_catn, zl_l0, zl_ls, zl_s0, zl_ss, List.length_cons, List.length_nil, Nat.reduceLT, Nat.zero_add, Nat.lt_add_one, reduceCtorEq, zi_le, zi_lt, zi_eq, if_pos, if_neg, if_true, if_false, Bool.true_eq_false, Bool.false_eq_true, eq_self, Bool.not_true, Bool.not_false, Int.toNat_natCast, Nat.reduceAdd, Int.reduceAdd, Int.reduceSub, Int.reduceMul, Int.reduceNeg, Int.reduceToNat, zl_aa, e0, zl_upup, hf1]
  exact e1
noncomputable def hgtr (rs : List zRule) (G : Nat → Nat → Bool) : Nat → Nat → Nat := match rs with
  | [] => h00 G
  | R :: _ => hgt R G
theorem h00_le (G : Nat → Nat → Bool) (p c : Nat) : h00 G p c ≤ 1000 := by unfold h00; split <;> omega
theorem hgt_le {R : zRule} {G : Nat → Nat → Bool} (hst : strat R) (hR : okRule R) (p c : Nat) : hgt R G p c ≤ h00 G p c := by
  unfold h00
  cases hg : G p c
  · simp only [Bool.false_eq_true, if_false]
    cases ht : tt R G p c
    · rw [hgt_far ht]; omega
    · have := hgt_lt hst hR ht; have := nd_le R G; omega
  · simp only [if_true]
    rw [(hgt_0 hst hR).mpr hg]; omega
theorem h00_off {R : zRule} {G : Nat → Nat → Bool} (hst : strat R) (hR : okRule R) (p c : Nat) (hp : p ≠ R.1.1) : h00 G p c = hgt R G p c := by
  unfold h00
  cases hg : G p c
  · rw [hgt_far (by rw [tt_other G hp]; exact hg)]; rfl
  · rw [(hgt_0 hst hR).mpr hg]; rfl
theorem nex_le (R : zRule) (G : Nat → Nat → Bool) (hst : strat R) (hR : okRule R) : nex R G (h00 G) ≤ nd R G := by
  unfold nex nd fdif
  refine bcnt_mono (fun i hi => ?_) 128
  simp only [Bool.and_eq_true, Bool.not_eq_true', decide_eq_false_iff_not] at hi ⊢
  refine ⟨hi.1, ?_⟩
  cases hg : G R.1.1 i
  · rfl
  · exact absurd (by unfold h00; rw [hg, (hgt_0 hst hR).mpr hg]; rfl) hi.2
/-- one round -/
theorem sp_round1 {E : zE} {hb b lo hi gb lb kb n m : Nat} {G : Nat → Nat → Bool} {R : zRule} {h : Nat → Nat → Nat} {f : Nat → Option zO} (hst : strat R) (hok : okRule R) (h5 : E 5 < E 0) (hE : E 0 ≤ hb) (hL : rLK E f b lo hi gb lb kb G [R]) (hbN : b < hb) (hhi : hi ≤ hb) (hgb : gb + 18 ≤ hb) (hkb : kb + 18 ≤ hb) (hh : rHei f hb b h) (hle : ∀ p c, h p c ≤ 1000) (hge : ∀ p c, hgt R G p c ≤ h p c) (hn : hb + 10 ≤ n) :
    ∃ (n' m' : Nat) (f' : Nat → Option zO) (h' : Nat → Nat → Nat), (zC (zRv (some hb) [(18, fun b => s_X12_takeAll E (some b) (some n))]) zThr (zKV (zRet none))) (n + 1, m + 1, zUp f n (.inr (19, [.ref hb]))) = some (.inl none, (n', m', f')) ∧ s_X12_takeAll E (some hb) (some n) (n + 1, m + 1, zUp f n (.inr (19, [.ref hb]))) = some (.inl none, (n', m', f')) ∧ n + 1 ≤ n' ∧ n' ≤ n + 3 + 2 * vc R 1000 ∧ m + 1 ≤ m' ∧ m' ≤ m + 8 + 8 * vc R 1000 ∧ zHx n hb f f' ∧ rHei f' hb b h' ∧ (∀ p c, h' p c ≤ 1000) ∧ P13 R G h 1000 h' := by
  generalize hf1 : zUp f n (.inr (19, [.ref hb])) = f1
  have hf1' : ∀ q, q ≠ n → f1 q = f q := fun q hq => by rw [← hf1, zl_up2 hq]
  have ha1 : f1 n = some (.inr (19, [.ref hb])) := by rw [← hf1, zl_up1 rfl]
  have hX1 : zX n f f1 := fun q hq => hf1' q (by omega)
  have hh1 : rHei f1 hb b h := hh.mv fun q _ _ => hf1' q (by omega)
  obtain ⟨n', m', f', h', e1, e2, e3, e4, e5, e6, e7, e8, e9⟩ := sp_takeAll1 (E := E) (P := P13 R G h) (up := up13 R) (h0 := h) (n := n + 1) (m := m + 1) (a0 := n) (Or.inl rfl) (by rw [ha1]; rfl) h5 hE (hL.mv hX1 (by omega) (by omega) (by omega) (by omega) (by omega)) hbN hhi hgb hkb hh1 hle (by omega) (by omega)
    (fun n2 m2 v s rb f2 h2 q1 q2 q3 q4 q5 q6 q7 q8 => by
      obtain ⟨f3, r1, r2, r3⟩ := sp_13 (E := E) (a0 := n) (q1.trans ha1) q3 q4 q2 q5 q6 h5 hE (by omega) (by omega) q8 q7 m2
      exact ⟨_, _, f3, r1, by omega, by omega, by omega, by omega, r2, r3⟩)
    (fun h s => up13_le s) ⟨hge, fun _ _ => Nat.le_refl _, fun t ht => by omega⟩ (fun s h hP hv hr => P13_up hst hok hP hv hr) (fun s h hP hn => P13_no hP hn)
  refine ⟨n', m', f', h', ?_, e1, by omega, by omega, by omega, by omega, fun q hq hq' => (e6 q (by omega) hq').trans (hf1' q (by omega)), e7, e8, e9⟩
  simp (disch := omega) only [zi_lit, zi_neg, zi_add, zi_sub, zi_mul, zi_div, zi_char, zb_eq0, zb_eq1, zb_le0, zb_or, zb_and, zb_or1, zb_or0, zb_1or, zb_0or, zb_and1, zb_and0, zb_1and, zb_0and, zb_nar, zi_nar0, zi_nar1, zl_ite, zl_ret, zl_retb, zl_retb1, zl_retb0, zl_retc, zl_ki, zl_kr, zl_kr0, zl_krf, zl_kl, zl_kf, zl_kd, zl_kv, zl_rf, zl_rf0, zl_valI, zl_valP, zl_valL, zl_get, zl_getI, zl_getR, zl_get0, zl_getr, zl_fk, zl_set, zl_setk, zl_setNb, zl_setN1, zl_setN0, zl_up1, zl_up2, zl_new, zl_newA, zl_len, zl_lenk, zl_ga, zl_gaI, zl_gaL, zl_gaD, zl_gaR, zl_sa, zl_saI, zl_saL, zl_saD, zl_saR, zl_ck, zl_ok, zl_ok0, zl_csS, zl_csS0, zl_csk, zl_tk, zl_csA, zl_isS0, zl_c, zl_cv, zl_cx, zl_sp, zl_rv, zl_rvk, zl_rvk2, zl_div, zl_rem, zl_ath, zl_clnk, zl_clnk0, zl_cat, zl_catn, zl_l0, zl_ls, zl_s0, zl_ss, List.length_cons, List.length_nil, Nat.reduceLT, Nat.zero_add, Nat.lt_add_one, reduceCtorEq, zi_le, zi_lt, zi_eq, if_pos, if_neg, if_true, if_false, Bool.true_eq_false, Bool.false_eq_true, eq_self, Bool.not_true, Bool.not_false, Int.toNat_natCast, Nat.reduceAdd, Int.reduceAdd, Int.reduceSub, Int.reduceMul, Int.reduceNeg, Int.reduceToNat, zl_aa, hh1.ck, e1]
theorem sp_inRounds_l {E : zE} {hb b lo hi gb lb kb N : Nat} {G : Nat → Nat → Bool} {R : zRule} (hst : strat R) (hok : okRule R) (h5 : E 5 < E 0) (hE : E 0 ≤ hb) (hbN : b < hb) (hhi : hi ≤ hb) (hgb : gb + 18 ≤ hb) (hkb : kb + 18 ≤ hb) :
    ∀ (d k n m : Nat) (f : Nat → Option zO) (h : Nat → Nat → Nat) (x : Int), nex R G h < d → d + 1 < k → hb + 10 ≤ n → rLK E f b lo hi gb lb kb G [R] → rHei f hb b h → (∀ p c, h p c ≤ 1000) → (∀ p c, hgt R G p c ≤ h p c) → (∀ p c, G p c = true → h p c = 0) → (∀ p c, p ≠ R.1.1 → h p c = hgt R G p c) → -1 ≤ x → x ≤ 800000 → (x = (hsum h 8 : Nat) → ∀ p c, p < 8 → c < 100 → h p c = hgt R G p c) →
    ∃ (n' m' : Nat) (f' : Nat → Option zO), s_X12_inRounds_2 E k (some hb) (zi x) (n, m, f) = some (.inl (some (.ref hb)), (n', m', f')) ∧ n ≤ n' ∧ n' ≤ n + d * (3 + 2 * vc R 1000) ∧ m ≤ m' ∧ m' ≤ m + d * (8 + 8 * vc R 1000) ∧ zHx n hb f f' ∧ rHei f' hb b (hgt R G) := by
  intro d
  induction d with
  | zero => intro k n m f h x hd; omega
  | succ d ih =>
    intro k n m f h x hd hk hn hL hh hle hge hG hoff hx1 hx2 hx3
    obtain ⟨k, rfl⟩ : ∃ k', k = k' + 1 := ⟨k - 1, by omega⟩
    have hs := sp_sum (E := E) hh n m
    have hb8 := hsum_le hle 8
    have hmul : ∀ a : Nat, (d + 1) * a = d * a + a := fun a => Nat.succ_mul _ _
    by_cases hx : ((hsum h 8 : Nat) : Int) = x
    · refine ⟨n, m, f, ?_, by omega, by omega, by omega, by omega, fun _ _ _ => rfl, hh.congr (hx3 hx.symm)⟩
      rw [s_X12_inRounds_2]
      simp (disch := omega) only [zi_lit, zi_neg, zi_add, zi_sub, zi_mul, zi_div, zi_char, zb_eq0, zb_eq1, zb_le0, zb_or, zb_and, zb_or1, zb_or0, zb_1or, zb_0or, zb_and1, zb_and0, zb_1and, zb_0and, zb_nar, zi_nar0, zi_nar1, zl_ite, zl_ret, zl_retb, zl_retb1, zl_retb0, zl_retc, zl_ki, zl_kr, zl_kr0, zl_krf, zl_kl, zl_kf, zl_kd, zl_kv, zl_rf, zl_rf0, zl_valI, zl_valP, zl_valL, zl_get, zl_getI, zl_getR, zl_get0, zl_getr, zl_fk, zl_set, zl_setk, zl_setNb, zl_setN1, zl_setN0, zl_up1, zl_up2, zl_new, zl_newA, zl_len, zl_lenk, zl_ga, zl_gaI, zl_gaL, zl_gaD, zl_gaR, zl_sa, zl_saI, zl_saL, zl_saD, zl_saR, zl_ck, zl_ok, zl_ok0, zl_csS, zl_csS0, zl_csk, zl_tk, zl_csA, zl_isS0, zl_c, zl_cv, zl_cx, zl_sp, zl_rv, zl_rvk, zl_rvk2, zl_div, zl_rem, zl_ath, zl_clnk, zl_clnk0, zl_cat, zl_catn, zl_l0, zl_ls, zl_s0, zl_ss, List.length_cons, List.length_nil, Nat.reduceLT, Nat.zero_add, Nat.lt_add_one, reduceCtorEq, zi_le, zi_lt, zi_eq, if_pos, if_neg, if_true, if_false, Bool.true_eq_false, Bool.false_eq_true, eq_self, Bool.not_true, Bool.not_false, Int.toNat_natCast, Nat.reduceAdd, Int.reduceAdd, Int.reduceSub, Int.reduceMul, Int.reduceNeg, Int.reduceToNat, zl_aa, hh.ck, hs]
    · obtain ⟨n1, m1, f1, h1, e0, e1, e2, e3, e4, e5, e6, e7, e8, e9⟩ := sp_round1 (E := E) (n := n) (m := m) hst hok h5 hE hL hbN hhi hgb hkb hh hle hge hn
      have hL1 : rLK E f1 b lo hi gb lb kb G [R] := hL.mv (e6.x (by omega)) (by omega) (by omega) (by omega) (by omega) (by omega)
      have hup1 : (zUp f n (.inr (19, [.ref hb]))) hb = some (.inr (18, [.ref b, .ref (hb + 1)])) := (zl_up2 (by omega)).trans hh.1
      have hun : zCk ((zUp f n (.inr (19, [.ref hb]))) hb) = some 18 := by rw [hup1]; rfl
      obtain ⟨p1, p2, p3⟩ := e9
      have run : ∀ Z, s_X12_inRounds_2 E k (some hb) (zi (hsum h 8 : Nat)) (n1, m1, f1) = Z → s_X12_inRounds_2 E (k + 1) (some hb) (zi x) (n, m, f) = Z := fun Z hZ => by
        rw [s_X12_inRounds_2]
        unfold s_X13_init s_X10_init
        simp (disch := omega) only [zi_lit, zi_neg, zi_add, zi_sub, zi_mul, zi_div, zi_char, zb_eq0, zb_eq1, zb_le0, zb_or, zb_and, zb_or1, zb_or0, zb_1or, zb_0or, zb_and1, zb_and0, zb_1and, zb_0and, zb_nar, zi_nar0, zi_nar1, zl_ite, zl_ret, zl_retb, zl_retb1, zl_retb0, zl_retc, zl_ki, zl_kr, zl_kr0, zl_krf, zl_kl, zl_kf, zl_kd, zl_kv, zl_rf, zl_rf0, zl_valI, zl_valP, zl_valL, zl_get, zl_getI, zl_getR, zl_get0, zl_getr, zl_fk, zl_set, zl_setk, zl_setNb, zl_setN1, zl_setN0, zl_up1, zl_up2, zl_new, zl_newA, zl_len, zl_lenk, zl_ga, zl_gaI, zl_gaL, zl_gaD, zl_gaR, zl_sa, zl_saI, zl_saL, zl_saD, zl_saR, zl_ck, zl_ok, zl_ok0, zl_csS, zl_csS0, zl_csk, zl_tk, zl_csA, zl_isS0, zl_c, zl_cv, zl_cx, zl_sp, zl_rv, zl_rvk, zl_rvk2, zl_div, zl_rem, zl_ath, zl_clnk, zl_clnk0, zl_cat, zl_catn, zl_l0, zl_ls, zl_s0, zl_ss, List.length_cons, List.length_nil, Nat.reduceLT, Nat.zero_add, Nat.lt_add_one, reduceCtorEq, zi_le, zi_lt, zi_eq, if_pos, if_neg, if_true, if_false, Bool.true_eq_false, Bool.false_eq_true, eq_self, Bool.not_true, Bool.not_false, Int.toNat_natCast, Nat.reduceAdd, Int.reduceAdd, Int.reduceSub, Int.reduceMul, Int.reduceNeg, Int.reduceToNat, zl_aa, hh.ck, hs, zl_upup, e1]
        exact hZ
      have hG1 : ∀ p c, G p c = true → h1 p c = 0 := fun p c hg => by have := p2 p c; rw [hG p c hg] at this; omega
      have hoff1 : ∀ p c, p ≠ R.1.1 → h1 p c = hgt R G p c := fun p c hp => by have := p1 p c; have := p2 p c; rw [hoff p c hp] at this; omega
      have hend : (((hsum h 8 : Nat) : Int) = (hsum h1 8 : Nat)) → ∀ p c, p < 8 → c < 100 → h1 p c = hgt R G p c := fun he p c hp hc => by
        have heq := hsum_eq p2 8 (by omega)
        have hall : ∀ p c, h1 p c = h p c ∨ (8 ≤ p ∨ 100 ≤ c) := fun p c => by
          by_cases hpc : p < 8 ∧ c < 100
          · exact Or.inl (heq p c hpc.1 hpc.2)
          · right; omega
        refine hgt_closed hst hok p1 e8 hG1 (fun t ht1 ht2 => ?_) p c
        have h3 := p3 t ht1.1 ht1 ht2
        have hpe : hby h (sgs t) (prem R.2.1) = hby h1 (sgs t) (prem R.2.1) := by
          apply Nat.le_antisymm
          · have q1 : hby h1 (sgs t) (prem R.2.1) = (hby h1 (sgs t) (prem R.2.1) - 1) + 1 := by unfold hby; omega
            rw [q1, hby_le]
            intro A hA
            have hin := prem_inR hok hA
            have hac := ac_ok (sgs_ok ht1.1) hin.1
            have := (hby_le (b := hby h1 (sgs t) (prem R.2.1) - 1)).mp (Nat.le_of_eq q1) A hA
            have h8 := hin.1.1
            rw [← heq A.1 _ h8 (show (ac (sgs t) A).toNat < 100 by omega)]; exact this
          · exact hby_mono p2 _ _
        rw [← hpe]; exact h3
      by_cases hnx : nex R G h = 0
      · -- already exact: nothing changes
        have hex : ∀ p c, c < 128 → h p c = hgt R G p c := fun p c hc => by
          by_cases hp : p = R.1.1
          · subst hp
            cases ht : tt R G R.1.1 c
            · have := hge R.1.1 c; have := hle R.1.1 c; rw [hgt_far ht] at *; omega
            · refine Classical.byContradiction fun hne => ?_
              have : 0 < nex R G h := by
                have := bcnt_lt (g := fun c => tt R G R.1.1 c && !decide (h R.1.1 c = hgt R G R.1.1 c)) (g' := fun _ => false) hc (by simp [ht, hne]) rfl (fun i hi => by cases hi)
                unfold nex; omega
              omega
          · exact hoff p c hp
        have heq : ∀ p c, p < 8 → c < 100 → h1 p c = h p c := fun p c hp hc => by
          have := p1 p c; have := p2 p c; have := hex p c (by omega); omega
        have hsq : hsum h1 8 = hsum h 8 := by
          have hr : ∀ p, p < 8 → ∀ k, k ≤ 100 → rsum h1 p k = rsum h p k := fun p hp k => by
            induction k with
            | zero => intro _; rfl
            | succ k ih => intro hk; rw [rsum, rsum, ih (by omega), heq p k hp (by omega)]
          have hq : ∀ k, k ≤ 8 → hsum h1 k = hsum h k := fun k => by
            induction k with
            | zero => intro _; rfl
            | succ k ih => intro hk; rw [hsum, hsum, ih (by omega), hr k (by omega) 100 (Nat.le_refl _)]
          exact hq 8 (Nat.le_refl _)
        obtain ⟨k', rfl⟩ : ∃ k', k = k' + 1 := ⟨k - 1, by omega⟩
        refine ⟨n1, m1, f1, run _ ?_, by omega, by rw [hmul]; omega, by omega, by rw [hmul]; omega, e6, e7.congr (hend (by omega))⟩
        have hs1 := sp_sum (E := E) e7 n1 m1
        rw [hsq] at hs1
        rw [s_X12_inRounds_2]
        simp (disch := omega) only [zi_lit, zi_neg, zi_add, zi_sub, zi_mul, zi_div, zi_char, zb_eq0, zb_eq1, zb_le0, zb_or, zb_and, zb_or1, zb_or0, zb_1or, zb_0or, zb_and1, zb_and0, zb_1and, zb_0and, zb_nar, zi_nar0, zi_nar1, zl_ite, zl_ret, zl_retb, zl_retb1, zl_retb0, zl_retc, zl_ki, zl_kr, zl_kr0, zl_krf, zl_kl, zl_kf, zl_kd, zl_kv, zl_rf, zl_rf0, zl_valI, zl_valP, zl_valL, zl_get, zl_getI, zl_getR, zl_get0, zl_getr, zl_fk, zl_set, zl_setk, zl_setNb, zl_setN1, zl_setN0, zl_up1, zl_up2, zl_new, zl_newA, zl_len, zl_lenk, zl_ga, zl_gaI, zl_gaL, zl_gaD, zl_gaR, zl_sa, zl_saI, zl_saL, zl_saD, zl_saR, zl_ck, zl_ok, zl_ok0, zl_csS, zl_csS0, zl_csk, zl_tk, zl_csA, zl_isS0, zl_c, zl_cv, zl_cx, zl_sp, zl_rv, zl_rvk, zl_rvk2, zl_div, zl_rem, zl_ath, zl_clnk, zl_clnk0, zl_cat, zl_catn, zl_l0, zl_ls, zl_s0, zl_ss, List.length_cons, List.length_nil, Nat.reduceLT, Nat.zero_add, Nat.lt_add_one, reduceCtorEq, zi_le, zi_lt, zi_eq, if_pos, if_neg, if_true, if_false, Bool.true_eq_false, Bool.false_eq_true, eq_self, Bool.not_true, Bool.not_false, Int.toNat_natCast, Nat.reduceAdd, Int.reduceAdd, Int.reduceSub, Int.reduceMul, Int.reduceNeg, Int.reduceToNat, zl_aa, e7.ck, hs1]
      · have hdec := nex_dec hst hok hG hoff ⟨p1, p2, p3⟩ (by omega)
        obtain ⟨n', m', f', i1, i2, i3, i4, i5, i6, i7⟩ := ih k n1 m1 f1 h1 ((hsum h 8 : Nat) : Int) (by omega) (by omega) (by omega) hL1 e7 e8 p1 hG1 hoff1 (by omega) (by omega) hend
        exact ⟨n', m', f', run _ i1, by omega, by rw [hmul]; omega, by omega, by rw [hmul]; omega, e6.tr i6 (by omega), i7⟩
