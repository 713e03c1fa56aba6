set_option maxRecDepth 20000
/-! ===== plain law: new Needs(rules) ===== -/
def ndL (h : Nat) (N : Nat → Nat → Bool) (ls : List zLit) : Nat → Nat → Bool := ls.foldl (fun N L => ndA N h L) N
def ngL (h : Nat) (M : Nat → Nat → Bool) (ls : List zLit) : Nat → Nat → Bool := ls.foldl (fun M L => ngA M h L) M
theorem sp_nInit_l {E : zE} {lo hi la b t rb rlo rhi n0 : Nat} {bs : List Nat} {R : zRule} {f0 : Nat → Option zO} (hc : zC1 E f0) (hR : rRule E f0 rlo rhi rb R) (hls : rLits f0 lo hi bs R.2.1) (hE : E 0 ≤ b) (hhi : hi ≤ b) (hrh : rhi ≤ b) (hbt : b + 19 ≤ t) (htn : t < n0) (k35 : Option Nat → Option Nat → zM) (it : Option Nat) :
    ∀ (d i k n m : Nat) (f : Nat → Option zO) (N M : Nat → Nat → Bool), i + d = R.2.1.length → d < k → n0 ≤ n → zX b f0 f → rNeeds f b N M → rIt E f t lo hi la bs i →
    ∃ (n' m' : Nat) (f' : Nat → Option zO), s_X7_init_65 E k35 k (some b) it (some rb) (some t) (n, m, f) = k35 (some b) it (n', m', f') ∧ n ≤ n' ∧ n' ≤ n + 2 * d ∧ m ≤ m' ∧ m' ≤ m + 2 * d ∧ rNeeds f' b (ndL R.1.1 N (R.2.1.drop i)) (ngL R.1.1 M (R.2.1.drop i)) ∧ (∀ q, q < n0 → (q < b ∨ b + 19 ≤ q) → q ≠ t → f' q = f q) := by
  intro d
  induction d with
  | zero =>
    intro i k n m f N M hid hk hn hX hN hit
    obtain ⟨k, rfl⟩ : ∃ k', k = k' + 1 := ⟨k - 1, by omega⟩
    have hi' : i = bs.length := by rw [hls.1]; omega
    subst hi'
    refine ⟨n, m, f, ?_, by omega, by omega, by omega, by omega, ?_, fun _ _ _ _ => rfl⟩
    · rw [s_X7_init_65]
      simp (disch := omega) only [zi_lit, zi_neg, zi_add, zi_sub, zi_mul, zi_div, zi_char, zb_eq0, zb_eq1, zb_le0, zb_or, zb_and, zb_or1, zb_or0, zb_1or, zb_0or, zb_and1, zb_and0, zb_1and, zb_0and, zb_nar, zi_nar0, zi_nar1, zl_ite, zl_ret, zl_retb, zl_retb1, zl_retb0, zl_retc, zl_ki, zl_kr, zl_kr0, zl_krf, zl_kl, zl_kf, zl_kd, zl_kv, zl_rf, zl_rf0, zl_valI, zl_valP, zl_valL, zl_get, zl_getI, zl_getR, zl_get0, zl_getr, zl_fk, zl_set, zl_setk, zl_setNb, zl_setN1, zl_setN0, zl_up1, zl_up2, zl_new, zl_newA, zl_len, zl_lenk, zl_ga, zl_gaI, zl_gaL, zl_gaD, zl_gaR, zl_sa, zl_saI, zl_saL, zl_saD, zl_saR, zl_ck, zl_ok, zl_ok0, zl_csS, zl_csS0, zl_csk, zl_tk, zl_csA, zl_isS0, zl_c, zl_cv, zl_cx, zl_sp, zl_rv, zl_rvk, zl_rvk2, zl_div, zl_rem, zl_ath, zl_clnk, zl_clnk0, zl_cat, zl_catn, zl_l0, zl_ls, zl_s0, zl_ss, List.length_cons, List.length_nil, Nat.reduceLT, Nat.zero_add, Nat.lt_add_one, reduceCtorEq, zi_le, zi_lt, zi_eq, if_pos, if_neg, if_true, if_false, Bool.true_eq_false, Bool.false_eq_true, eq_self, Bool.not_true, Bool.not_false, Int.toNat_natCast, Nat.reduceAdd, Int.reduceAdd, Int.reduceSub, Int.reduceMul, Int.reduceNeg, Int.reduceToNat, zl_aa, hit.ck, hit.no]
    · rw [List.drop_eq_nil_of_le (by omega)]; exact hN
  | succ d ih =>
    intro i k n m f N M hid hk hn hX hN hit
    obtain ⟨k, rfl⟩ : ∃ k', k = k' + 1 := ⟨k - 1, by omega⟩
    have h5 := hc.2.2.2.1
    obtain ⟨x, hx⟩ : ∃ x, bs[i]? = some x := ⟨bs[i]'(by rw [hls.1]; omega), List.getElem?_eq_getElem _⟩
    obtain ⟨L, hL⟩ : ∃ L, R.2.1[i]? = some L := ⟨R.2.1[i]'(by omega), List.getElem?_eq_getElem _⟩
    have hilt : i < bs.length := by rw [hls.1]; omega
    obtain ⟨f2, e1, it2, x2⟩ := hit.next hx (by omega) (by omega) h5
    have hX2 : zX b f0 f2 := fun q hq => (x2 q (by omega)).trans (hX q hq)
    have hlit : rLit f2 lo hi x L := (hls.2 i x L hx hL).mv fun q _ hq => hX2 q (by omega)
    have hN2 := hN.mv (f' := f2) fun q _ _ => x2 q (by omega)
    have hR2 : rRule E f2 rlo rhi rb R := hR.mvX hX2 hrh (by omega)
    obtain ⟨r1, r2, ⟨r3, -⟩, ha, la', pa, ta, bs', ps, q4, q6, q7, q8, -⟩ := hR2
    have hcast : zOkR (n, m, f2) 12 (some x) = true := by
      rw [zl_ok, hlit.ck]; split <;> rfl
    obtain ⟨n3, m3, f3, e3, a1, a2, a3, a4, a5, a6⟩ := sp_nAdd (E := E) (n := n) hN2 hlit (hc.mv (hX2.le hE)) r3.1 hE (by omega) hhi m
    have hX3 : zX b f0 f3 := fun q hq => (a6 q (by omega) (by omega)).trans (hX2 q hq)
    have it3 : rIt E f3 t lo hi la bs (i + 1) := it2.mv (a6 t (by omega) (by omega)) (a6 _ (by omega) (by omega)) fun q _ hq => a6 q (by omega) (by omega)
    obtain ⟨n', m', f', b1, b2, b3, b4, b5, b6, b7⟩ := ih (i + 1) k n3 m3 f3 _ _ (by omega) (by omega) (by omega) hX3 a5 it3
    have hdrop : R.2.1.drop i = L :: R.2.1.drop (i + 1) := by
      obtain ⟨h5, h6⟩ := (List.getElem?_eq_some_iff.mp hL)
      rw [← h6]; exact List.drop_eq_getElem_cons h5
    refine ⟨n', m', f', ?_, by omega, by omega, by omega, by omega, ?_, fun q hq hq' hq'' => ?_⟩
    · rw [s_X7_init_65]
      have q9 := q8.1
      simp (disch := omega) only [zi_lit, zi_neg, zi_add, zi_sub, zi_mul, zi_div, zi_char, zb_eq0, zb_eq1, zb_le0, zb_or, zb_and, zb_or1, zb_or0, zb_1or, zb_0or, zb_and1, zb_and0, zb_1and, zb_0and, zb_nar, zi_nar0, zi_nar1, zl_ite, zl_ret, zl_retb, zl_retb1, zl_retb0, zl_retc, zl_ki, zl_kr, zl_kr0, zl_krf, zl_kl, zl_kf, zl_kd, zl_kv, zl_rf, zl_rf0, zl_valI, zl_valP, zl_valL, zl_get, zl_getI, zl_getR, zl_get0, zl_getr, zl_fk, zl_set, zl_setk, zl_setNb, zl_setN1, zl_setN0, zl_up1, zl_up2, zl_new, zl_newA, zl_len, zl_lenk, zl_ga, zl_gaI, zl_gaL, zl_gaD, zl_gaR, zl_sa, zl_saI, zl_saL, zl_saD, zl_saR, zl_ck, zl_ok, zl_ok0, zl_csS, zl_csS0, zl_csk, zl_tk, zl_csA, zl_isS0, zl_c, zl_cv, zl_cx, zl_sp, zl_rv, zl_rvk, zl_rvk2, zl_div, zl_rem, zl_ath, zl_clnk, zl_clnk0, zl_cat, zl_catn, zl_l0, zl_ls, zl_s0, zl_ss, List.length_cons, List.length_nil, Nat.reduceLT, Nat.zero_add, Nat.lt_add_one, reduceCtorEq, zi_le, zi_lt, zi_eq, if_pos, if_neg, if_true, if_false, Bool.true_eq_false, Bool.false_eq_true, eq_self, Bool.not_true, Bool.not_false, Int.toNat_natCast, Nat.reduceAdd, Int.reduceAdd, Int.reduceSub, Int.reduceMul, Int.reduceNeg, Int.reduceToNat, zl_aa, hit.ck, hit.has hilt, e1, zl_cst _ _ _ hcast, q4, q9, hN2.ck, e3]
      exact b1
    · rw [hdrop]; exact b6
    · rw [b7 q hq hq' hq'', a6 q (by omega) hq', x2 q hq'']
/-- what needs what, by the rules -/
def ndR (rs : List zRule) : Nat → Nat → Bool := match rs with
  | [] => fun _ _ => false
  | R :: _ => ndL R.1.1 (fun _ _ => false) R.2.1
def ngR (rs : List zRule) : Nat → Nat → Bool := match rs with
  | [] => fun _ _ => false
  | R :: _ => ngL R.1.1 (fun _ _ => false) R.2.1
def upM (f : Nat → Option zO) (a : Nat) : Nat → Option zO := fun q =>
    if q = a then some (.inl (8, 8, .inr (.inr (.inr (.inr fun j => if j < 8 then some (a + 1 + j) else none))))) else if a < q ∧ q < a + 1 + 8 then some (.inl (2, 8, zAr0)) else f q
theorem sp_newM (K : Option Nat → zM) (n m : Nat) (f : Nat → Option zO) : zNewM 8 2 zAr0 (zi 8) (zi 8) K (n, m, f) = K (some n) (n + 9, m + 72, upM f n) := by
  have h1 : ¬ (zi 8 < 0 ∨ zi 8 < 0 ∨ 1000 < (zi 8).toNatClampNeg ∨ 1000 < (zi 8).toNatClampNeg) := by decide
  have h2 : (zi 8).toNatClampNeg = 8 := by decide
  unfold zNewM
  rw [if_neg h1]
  simp only [h2]
  rfl
theorem upM_mat (f : Nat → Option zO) (a : Nat) : rMat (upM f a) a (fun _ _ => false) := by
  refine ⟨⟨_, if_pos rfl, fun i hi => if_pos hi⟩, fun i hi => ⟨fun _ => 0, ?_, fun j hj => rfl⟩⟩
  unfold upM
  rw [if_neg (by omega), if_pos (by omega)]
theorem upM_x (f : Nat → Option zO) (a : Nat) {q : Nat} (h : q < a ∨ a + 9 ≤ q) : upM f a q = f q := by
  unfold upM; rw [if_neg (by omega), if_neg (by omega)]
theorem sp_nInit {E : zE} {f : Nat → Option zO} {lo hi lb b : Nat} {rs : List zRule} (hc : zC1 E f) (hb : f b = some (.inr (35, [.null, .null]))) (hE : E 0 ≤ b) (hR : rRules E f lo hi lb rs) (hhi : hi ≤ b) (m : Nat) :
    ∃ (n' m' : Nat) (f' : Nat → Option zO), s_X7_init E (some b) (some lb) (b + 1, m, f) = some (.inl none, (n', m', f')) ∧ b + 19 ≤ n' ∧ n' ≤ b + 27 ∧ m ≤ m' ∧ m' ≤ m + 158 ∧ rNeeds f' b (ndR rs) (ngR rs) ∧ zX b f f' := by
  have h5 := hc.2.2.2.1
  generalize hf1 : zUp (upM f (b + 1)) b (.inr (35, [.ref (b + 1), .null])) = f1
  have hf1' : ∀ q, q < b → f1 q = f q := fun q hq => by rw [← hf1, zl_up2 (by omega), upM_x _ _ (by omega)]
  have hf1b : f1 b = some (.inr (35, [.ref (b + 1), .null])) := by rw [← hf1, zl_up1 rfl]
  have hf1m : rMat f1 (b + 1) (fun _ _ => false) := (upM_mat f (b + 1)).mv fun q _ _ => by rw [← hf1, zl_up2 (by omega)]
  generalize hf2 : zUp (upM f1 (b + 10)) b (.inr (35, [.ref (b + 1), .ref (b + 10)])) = f2
  have hf2' : ∀ q, q < b → f2 q = f q := fun q hq => by rw [← hf2, zl_up2 (by omega), upM_x _ _ (by omega)]; exact hf1' q hq
  have hN : rNeeds f2 b (fun _ _ => false) (fun _ _ => false) := by
    refine ⟨by rw [← hf2, zl_up1 rfl], hf1m.mv fun q _ _ => ?_, (upM_mat f1 (b + 10)).mv fun q _ _ => ?_⟩
    · rw [← hf2, zl_up2 (by omega), upM_x _ _ (by omega)]
    · rw [← hf2, zl_up2 (by omega)]
  have hX2 : zX b f f2 := hf2'
  have e1 : (upM f (b + 1)) b = some (.inr (35, [.null, .null])) := (upM_x _ _ (by omega)).trans hb
  have e2 : (upM f1 (b + 10)) b = some (.inr (35, [.ref (b + 1), .null])) := (upM_x _ _ (by omega)).trans hf1b
  have hR2 := hR.mvX hX2 hhi (by omega)
  obtain ⟨k, hk⟩ : ∃ k, zN = k + 2 := ⟨zN - 2, by unfold zN; omega⟩
  have run : ∀ X, (zC (zRv (some lb) [(10, fun b => s_J2_iterator E (some b))]) zThr (zKR (fun v29 => s_X7_init_35 E zN (some b) v29))) (b + 19, m + 144, f2) = X → s_X7_init E (some b) (some lb) (b + 1, m, f) = X := fun X hX => by
    unfold s_X7_init
    simp only [zi_lit, zl_sp, sp_newM]
    simp (disch := omega) only [zi_lit, zi_neg, zi_add, zi_sub, zi_mul, zi_div, zi_char, zb_eq0, zb_eq1, zb_le0, zb_or, zb_and, zb_or1, zb_or0, zb_1or, zb_0or, zb_and1, zb_and0, zb_1and, zb_0and, zb_nar, zi_nar0, zi_nar1, zl_ite, zl_ret, zl_retb, zl_retb1, zl_retb0, zl_retc, zl_ki, zl_kr, zl_kr0, zl_krf, zl_kl, zl_kf, zl_kd, zl_kv, zl_rf, zl_rf0, zl_valI, zl_valP, zl_valL, zl_get, zl_getI, zl_getR, zl_get0, zl_getr, zl_fk, zl_set, zl_setk, zl_setNb, zl_setN1, zl_setN0, zl_up1, zl_up2, zl_new, zl_newA, zl_len, zl_lenk, zl_ga, zl_gaI, zl_gaL, zl_gaD, zl_gaR, zl_sa, zl_saI, zl_saL, zl_saD, zl_saR, zl_ck, zl_ok, zl_ok0, zl_csS, zl_csS0, zl_csk, zl_tk, zl_csA, zl_isS0, zl_c, zl_cv, zl_cx, zl_sp, zl_rv, zl_rvk, zl_rvk2, zl_div, zl_rem, zl_ath, zl_clnk, zl_clnk0, zl_cat, zl_catn, zl_l0, zl_ls, zl_s0, zl_ss, List.length_cons, List.length_nil, Nat.reduceLT, Nat.zero_add, Nat.lt_add_one, reduceCtorEq, zi_le, zi_lt, zi_eq, if_pos, if_neg, if_true, if_false, Bool.true_eq_false, Bool.false_eq_true, eq_self, Bool.not_true, Bool.not_false, Int.toNat_natCast, Nat.reduceAdd, Int.reduceAdd, Int.reduceSub, Int.reduceMul, Int.reduceNeg, Int.reduceToNat, zl_aa, e1, hf1]
    simp only [sp_newM]
    simp (disch := omega) only [zi_lit, zi_neg, zi_add, zi_sub, zi_mul, zi_div, zi_char, zb_eq0, zb_eq1, zb_le0, zb_or, zb_and, zb_or1, zb_or0, zb_1or, zb_0or, zb_and1, zb_and0, zb_1and, zb_0and, zb_nar, zi_nar0, zi_nar1, zl_ite, zl_ret, zl_retb, zl_retb1, zl_retb0, zl_retc, zl_ki, zl_kr, zl_kr0, zl_krf, zl_kl, zl_kf, zl_kd, zl_kv, zl_rf, zl_rf0, zl_valI, zl_valP, zl_valL, zl_get, zl_getI, zl_getR, zl_get0, zl_getr, zl_fk, zl_set, zl_setk, zl_setNb, zl_setN1, zl_setN0, zl_up1, zl_up2, zl_new, zl_newA, zl_len, zl_lenk, zl_ga, zl_gaI, zl_gaL, zl_gaD, zl_gaR, zl_sa, zl_saI, zl_saL, zl_saD, zl_saR, zl_ck, zl_ok, zl_ok0, zl_csS, zl_csS0, zl_csk, zl_tk, zl_csA, zl_isS0, zl_c, zl_cv, zl_cx, zl_sp, zl_rv, zl_rvk, zl_rvk2, zl_div, zl_rem, zl_ath, zl_clnk, zl_clnk0, zl_cat, zl_catn, zl_l0, zl_ls, zl_s0, zl_ss, List.length_cons, List.length_nil, Nat.reduceLT, Nat.zero_add, Nat.lt_add_one, reduceCtorEq, zi_le, zi_lt, zi_eq, if_pos, if_neg, if_true, if_false, Bool.true_eq_false, Bool.false_eq_true, eq_self, Bool.not_true, Bool.not_false, Int.toNat_natCast, Nat.reduceAdd, Int.reduceAdd, Int.reduceSub, Int.reduceMul, Int.reduceNeg, Int.reduceToNat, zl_aa, e2, hf2]
    rw [zl_c] at hX
    rw [show b + 1 + 9 = b + 10 from rfl] at *
    simp only [zl_rv] at hX
    exact hX
  rcases hR2 with ⟨hrs, hl⟩ | ⟨rb, R, hrs, hRr, hl⟩
  · subst hrs
    obtain ⟨f3, g1, g2, g3⟩ := sp_iter hl (n := b + 19) (by omega) (by omega) h5 (m + 144)
    refine ⟨b + 20, m + 148, f3, run _ ?_, by omega, by omega, by omega, by omega, hN.mv fun q _ _ => g3 q (by omega), fun q hq => (g3 q (by omega)).trans (hX2 q hq)⟩
    simp (disch := omega) only [zi_lit, zi_neg, zi_add, zi_sub, zi_mul, zi_div, zi_char, zb_eq0, zb_eq1, zb_le0, zb_or, zb_and, zb_or1, zb_or0, zb_1or, zb_0or, zb_and1, zb_and0, zb_1and, zb_0and, zb_nar, zi_nar0, zi_nar1, zl_ite, zl_ret, zl_retb, zl_retb1, zl_retb0, zl_retc, zl_ki, zl_kr, zl_kr0, zl_krf, zl_kl, zl_kf, zl_kd, zl_kv, zl_rf, zl_rf0, zl_valI, zl_valP, zl_valL, zl_get, zl_getI, zl_getR, zl_get0, zl_getr, zl_fk, zl_set, zl_setk, zl_setNb, zl_setN1, zl_setN0, zl_up1, zl_up2, zl_new, zl_newA, zl_len, zl_lenk, zl_ga, zl_gaI, zl_gaL, zl_gaD, zl_gaR, zl_sa, zl_saI, zl_saL, zl_saD, zl_saR, zl_ck, zl_ok, zl_ok0, zl_csS, zl_csS0, zl_csk, zl_tk, zl_csA, zl_isS0, zl_c, zl_cv, zl_cx, zl_sp, zl_rv, zl_rvk, zl_rvk2, zl_div, zl_rem, zl_ath, zl_clnk, zl_clnk0, zl_cat, zl_catn, zl_l0, zl_ls, zl_s0, zl_ss, List.length_cons, List.length_nil, Nat.reduceLT, Nat.zero_add, Nat.lt_add_one, reduceCtorEq, zi_le, zi_lt, zi_eq, if_pos, if_neg, if_true, if_false, Bool.true_eq_false, Bool.false_eq_true, eq_self, Bool.not_true, Bool.not_false, Int.toNat_natCast, Nat.reduceAdd, Int.reduceAdd, Int.reduceSub, Int.reduceMul, Int.reduceNeg, Int.reduceToNat, zl_aa, hl.ck, g1]
    rw [hk, s_X7_init_35]
    simp (disch := omega) only [zi_lit, zi_neg, zi_add, zi_sub, zi_mul, zi_div, zi_char, zb_eq0, zb_eq1, zb_le0, zb_or, zb_and, zb_or1, zb_or0, zb_1or, zb_0or, zb_and1, zb_and0, zb_1and, zb_0and, zb_nar, zi_nar0, zi_nar1, zl_ite, zl_ret, zl_retb, zl_retb1, zl_retb0, zl_retc, zl_ki, zl_kr, zl_kr0, zl_krf, zl_kl, zl_kf, zl_kd, zl_kv, zl_rf, zl_rf0, zl_valI, zl_valP, zl_valL, zl_get, zl_getI, zl_getR, zl_get0, zl_getr, zl_fk, zl_set, zl_setk, zl_setNb, zl_setN1, zl_setN0, zl_up1, zl_up2, zl_new, zl_newA, zl_len, zl_lenk, zl_ga, zl_gaI, zl_gaL, zl_gaD, zl_gaR, zl_sa, zl_saI, zl_saL, zl_saD, zl_saR, zl_ck, zl_ok, zl_ok0, zl_csS, zl_csS0, zl_csk, zl_tk, zl_csA, zl_isS0, zl_c, zl_cv, zl_cx, zl_sp, zl_rv, zl_rvk, zl_rvk2, zl_div, zl_rem, zl_ath, zl_clnk, zl_clnk0, zl_cat, zl_catn, zl_l0, zl_ls, zl_s0, zl_ss, List.length_cons, List.length_nil, Nat.reduceLT, Nat.zero_add, Nat.lt_add_one, reduceCtorEq, zi_le, zi_lt, zi_eq, if_pos, if_neg, if_true, if_false, Bool.true_eq_false, Bool.false_eq_true, eq_self, Bool.not_true, Bool.not_false, Int.toNat_natCast, Nat.reduceAdd, Int.reduceAdd, Int.reduceSub, Int.reduceMul, Int.reduceNeg, Int.reduceToNat, zl_aa, g2.ck, g2.no]
  · subst hrs
    obtain ⟨f3, g1, g2, g3⟩ := sp_iter hl (n := b + 19) (by omega) (by omega) h5 (m + 144)
    obtain ⟨f4, g4, g5, g6⟩ := g2.next (x := rb) rfl (by omega) (by omega) h5
    have g7 : ∀ q, q ≠ b + 19 → f4 q = f2 q := fun q hq => (g6 q hq).trans (g3 q hq)
    have hX4 : zX b f f4 := fun q hq => (g7 q (by omega)).trans (hX2 q hq)
    have hR4 := hRr.mv (f' := f4) (g7 _ (by omega)) fun q _ hq => g7 q (by omega)
    have hRk := hR4.ck
    have hR4' := hR4
    obtain ⟨r1, r2, r3, ha, la, pa, ta, bs, ps, q4, q6, q7, q8, q9, q10, -⟩ := hR4'
    have hlen : R.2.1.length ≤ 3 := r3.2.2.1
    obtain ⟨f5, p1, p2, p3⟩ := sp_iter q9 (n := b + 20) (by omega) (by omega) h5 (m + 148)
    have hX5 : zX b f f5 := fun q hq => (p3 q (by omega)).trans (hX4 q hq)
    have hN5 : rNeeds f5 b (fun _ _ => false) (fun _ _ => false) := hN.mv fun q _ _ => (p3 q (by omega)).trans (g7 q (by omega))
    obtain ⟨n', m', f', b1, b2, b3, b4, b5, b6, b7⟩ := sp_nInit_l (E := E) (t := b + 20) (n0 := b + 21) (f0 := f5) (hc.mv (hX5.le hE)) (hR4.mv (p3 _ (by omega)) fun q _ hq => p3 q (by omega)) (q10.mv fun q _ hq => p3 q (by omega)) hE hhi hhi (by omega) (by omega) (s_X7_init_35 E (k + 1)) (some (b + 19)) R.2.1.length 0 zN (b + 21) (m + 152) f5 (fun _ _ => false) (fun _ _ => false) (by omega) (by unfold zN; omega) (by omega) (fun _ _ => rfl) hN5 p2
    have g8 : rIt E f' (b + 19) lo hi lb [rb] 1 := g5.mv ((b7 _ (by omega) (by omega) (by omega)).trans (p3 _ (by omega))) ((b7 _ (by omega) (by omega) (by omega)).trans (p3 _ (by omega))) fun q _ hq => (b7 q (by omega) (by omega) (by omega)).trans (p3 q (by omega))
    refine ⟨n', m', f', run _ ?_, by omega, by omega, by omega, by omega, b6, fun q hq => (b7 q (by omega) (by omega) (by omega)).trans (hX5 q hq)⟩
    simp (disch := omega) only [zi_lit, zi_neg, zi_add, zi_sub, zi_mul, zi_div, zi_char, zb_eq0, zb_eq1, zb_le0, zb_or, zb_and, zb_or1, zb_or0, zb_1or, zb_0or, zb_and1, zb_and0, zb_1and, zb_0and, zb_nar, zi_nar0, zi_nar1, zl_ite, zl_ret, zl_retb, zl_retb1, zl_retb0, zl_retc, zl_ki, zl_kr, zl_kr0, zl_krf, zl_kl, zl_kf, zl_kd, zl_kv, zl_rf, zl_rf0, zl_valI, zl_valP, zl_valL, zl_get, zl_getI, zl_getR, zl_get0, zl_getr, zl_fk, zl_set, zl_setk, zl_setNb, zl_setN1, zl_setN0, zl_up1, zl_up2, zl_new, zl_newA, zl_len, zl_lenk, zl_ga, zl_gaI, zl_gaL, zl_gaD, zl_gaR, zl_sa, zl_saI, zl_saL, zl_saD, zl_saR, zl_ck, zl_ok, zl_ok0, zl_csS, zl_csS0, zl_csk, zl_tk, zl_csA, zl_isS0, zl_c, zl_cv, zl_cx, zl_sp, zl_rv, zl_rvk, zl_rvk2, zl_div, zl_rem, zl_ath, zl_clnk, zl_clnk0, zl_cat, zl_catn, zl_l0, zl_ls, zl_s0, zl_ss, List.length_cons, List.length_nil, Nat.reduceLT, Nat.zero_add, Nat.lt_add_one, reduceCtorEq, zi_le, zi_lt, zi_eq, if_pos, if_neg, if_true, if_false, Bool.true_eq_false, Bool.false_eq_true, eq_self, Bool.not_true, Bool.not_false, Int.toNat_natCast, Nat.reduceAdd, Int.reduceAdd, Int.reduceSub, Int.reduceMul, Int.reduceNeg, Int.reduceToNat, zl_aa, hl.ck, g1]
    rw [hk, s_X7_init_35]
    simp (disch := omega) only [zi_lit, zi_neg, zi_add, zi_sub, zi_mul, zi_div, zi_char, zb_eq0, zb_eq1, zb_le0, zb_or, zb_and, zb_or1, zb_or0, zb_1or, zb_0or, zb_and1, zb_and0, zb_1and, zb_0and, zb_nar, zi_nar0, zi_nar1, zl_ite, zl_ret, zl_retb, zl_retb1, zl_retb0, zl_retc, zl_ki, zl_kr, zl_kr0, zl_krf, zl_kl, zl_kf, zl_kd, zl_kv, zl_rf, zl_rf0, zl_valI, zl_valP, zl_valL, zl_get, zl_getI, zl_getR, zl_get0, zl_getr, zl_fk, zl_set, zl_setk, zl_setNb, zl_setN1, zl_setN0, zl_up1, zl_up2, zl_new, zl_newA, zl_len, zl_lenk, zl_ga, zl_gaI, zl_gaL, zl_gaD, zl_gaR, zl_sa, zl_saI, zl_saL, zl_saD, zl_saR, zl_ck, zl_ok, zl_ok0, zl_csS, zl_csS0, zl_csk, zl_tk, zl_csA, zl_isS0, zl_c, zl_cv, zl_cx, zl_sp, zl_rv, zl_rvk, zl_rvk2, zl_div, zl_rem, zl_ath, zl_clnk, zl_clnk0, zl_cat, zl_catn, zl_l0, zl_ls, zl_s0, zl_ss, List.length_cons, List.length_nil, Nat.reduceLT, Nat.zero_add, Nat.lt_add_one, reduceCtorEq, zi_le, zi_lt, zi_eq, if_pos, if_neg, if_true, if_false, Bool.true_eq_false, Bool.false_eq_true, eq_self, Bool.not_true, Bool.not_false, Int.toNat_natCast, Nat.reduceAdd, Int.reduceAdd, Int.reduceSub, Int.reduceMul, Int.reduceNeg, Int.reduceToNat, zl_aa, g2.ck, g2.has (Nat.zero_lt_one), g4, hRk, q4, q9.ck, p1]
    rw [b1, s_X7_init_35]
    simp (disch := omega) only [zi_lit, zi_neg, zi_add, zi_sub, zi_mul, zi_div, zi_char, zb_eq0, zb_eq1, zb_le0, zb_or, zb_and, zb_or1, zb_or0, zb_1or, zb_0or, zb_and1, zb_and0, zb_1and, zb_0and, zb_nar, zi_nar0, zi_nar1, zl_ite, zl_ret, zl_retb, zl_retb1, zl_retb0, zl_retc, zl_ki, zl_kr, zl_kr0, zl_krf, zl_kl, zl_kf, zl_kd, zl_kv, zl_rf, zl_rf0, zl_valI, zl_valP, zl_valL, zl_get, zl_getI, zl_getR, zl_get0, zl_getr, zl_fk, zl_set, zl_setk, zl_setNb, zl_setN1, zl_setN0, zl_up1, zl_up2, zl_new, zl_newA, zl_len, zl_lenk, zl_ga, zl_gaI, zl_gaL, zl_gaD, zl_gaR, zl_sa, zl_saI, zl_saL, zl_saD, zl_saR, zl_ck, zl_ok, zl_ok0, zl_csS, zl_csS0, zl_csk, zl_tk, zl_csA, zl_isS0, zl_c, zl_cv, zl_cx, zl_sp, zl_rv, zl_rvk, zl_rvk2, zl_div, zl_rem, zl_ath, zl_clnk, zl_clnk0, zl_cat, zl_catn, zl_l0, zl_ls, zl_s0, zl_ss, List.length_cons, List.length_nil, Nat.reduceLT, Nat.zero_add, Nat.lt_add_one, reduceCtorEq, zi_le, zi_lt, zi_eq, if_pos, if_neg, if_true, if_false, Bool.true_eq_false, Bool.false_eq_true, eq_self, Bool.not_true, Bool.not_false, Int.toNat_natCast, Nat.reduceAdd, Int.reduceAdd, Int.reduceSub, Int.reduceMul, Int.reduceNeg, Int.reduceToNat, zl_aa, g8.ck, g8.no]
