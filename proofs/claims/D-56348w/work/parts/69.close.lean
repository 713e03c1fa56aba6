set_option maxRecDepth 20000
/-! ===== plain law: Changing.join, goOn, close ===== -/
theorem bcnt_add' (g : Nat → Bool) (a b : Nat) (h : a ≤ b) : bcnt g a ≤ bcnt g b := by
  obtain ⟨d, rfl⟩ : ∃ d, b = a + d := ⟨b - a, by omega⟩
  rw [bcnt_add]; omega
theorem sp_join {E : zE} {lo hi a0 rb fb lb xb M : Nat} {R : zRule} {F L : Nat → Nat → Bool} {ch : Int} (hch : -1 ≤ ch ∧ ch < 3) (hsf : safe R) (h5 : E 5 < E 0) (hE : E 0 ≤ a0) (hhi : hi ≤ a0) (haf : a0 < fb) (hfx : fb + 18 ≤ xb) (hlx : lb + 18 ≤ xb) (hwF : wfF F) (hwL : wfF L) (hM : ∀ p, bcnt (F p) 100 ≤ M ∧ bcnt (L p) 100 ≤ M) :
    ∀ (r at' fu n m v : Nat) (f : Nat → Option zO) (X : Nat → Nat → Bool) (a : Nat → Int), at' + r = (prem R.2.1).length → r < fu → xb + 18 ≤ v → v < n → cJ E f lo hi a0 rb fb lb xb R F L ch → rFacts f xb X → rVals f v a → okA R a →
    jOut E (s_X8_join E fu (some a0) (some rb) (zi at') (zi ch) (some v)) n m (Jc M r) (Js M r) xb f R F X (fun X' => bnd R at' a → ∀ s, vs R s → ext a (sgs s) → (∀ j B, at' ≤ j → (prem R.2.1)[j]? = some B → srcF ch F L j B.1 (ac (sgs s) B).toNat = true) → rH F (sgs s) R = true → F R.1.1 (hd R (sgs s)) = false → X' R.1.1 (hd R (sgs s)) = true) := by
  intro r
  induction r with
  | zero =>
    intro at' fu n m v f X a hat hfu hxv hvn h hX hv ha
    obtain ⟨k, rfl⟩ : ∃ k, fu = k + 1 := ⟨fu - 1, by omega⟩
    obtain rfl : at' = (prem R.2.1).length := by omega
    obtain ⟨n', m', f', X', e1, e2, e3, e4, e5, e6, e7, e8, e9⟩ := sp_join0 hsf h5 hE hhi haf hfx hlx hxv hvn h hX hv ha M k (n := n) (m := m)
    exact ⟨n', m', f', X', e1, e2, e3, e4, e5, e6, e7, e8, fun hb s hs he _ hr hF => e9 hb s hs he hr hF⟩
  | succ r ih =>
    intro at' fu n m v f X a hat hfu hxv hvn h hX hv ha
    obtain ⟨k, rfl⟩ : ∃ k, fu = k + 1 := ⟨fu - 1, by omega⟩
    obtain ⟨A, hA⟩ : ∃ A, (prem R.2.1)[at']? = some A := ⟨(prem R.2.1)[at']'(by omega), List.getElem?_eq_getElem _⟩
    have hin := prem_inR h.1.2.2.1 (List.mem_of_getElem? hA)
    have h' := h
    obtain ⟨hR, ⟨lv', g2, g3⟩, g4, g5⟩ := h
    obtain ⟨-, -, hok, hha, la, pa, ta, bs, ps, q4, q6, q7, q8, q9, q10, ⟨w1, w2, par, pcap, pmd, w3, w4, w5⟩, q12⟩ := hR
    have hlen := q12.1
    have hp3 : (prem R.2.1).length ≤ 3 := by
      have := hok.2.2.1
      unfold prem
      rw [List.length_map]
      exact Nat.le_trans (List.length_filter_le _ _) this
    obtain ⟨pb, hpb⟩ : ∃ pb, ps[at']? = some pb := ⟨ps[at']'(by omega), List.getElem?_eq_getElem _⟩
    obtain ⟨hpA, hp1, hp2⟩ := q12.2 at' pb A hpb hA
    have hne : ¬ ((at' : Nat) : Int) = (ps.length : Nat) := by omega
    have get := sp_lGet (E := E) w3 hpb n m
    have hgo : ∀ (sb : Nat) (S : Nat → Nat → Bool), rFacts f sb S → sb + 18 ≤ xb → S = srcF ch F L at' → wfF S → bcnt (S A.1) 100 ≤ M →
        jOut E (s_X8_join_72 E (s_X8_join E k) (some a0) (some rb) (zi at') (zi ch) (some v) (some pb) (some sb)) n m (Jc M (r + 1)) (Js M (r + 1)) xb f R F X (fun X' => bnd R at' a → ∀ s, vs R s → ext a (sgs s) → (∀ j B, at' ≤ j → (prem R.2.1)[j]? = some B → srcF ch F L j B.1 (ac (sgs s) B).toNat = true) → rH F (sgs s) R = true → F R.1.1 (hd R (sgs s)) = false → X' R.1.1 (hd R (sgs s)) = true) := fun sb S hS hsb hSe hwS hMS => by
      obtain ⟨s1, ⟨sg', s2, s3⟩, s4⟩ := hS
      obtain ⟨n', m', f', X', e1, e2, e3, e4, e5, e6, e7, e8, e9⟩ := sp_joinL (E := E) (M := M) (r := r) (S := S) (L := L) (ch := ch) (J := s_X8_join E k) (pb := pb) (cb := sb + 2 + 2 * A.1) h5 hE hhi haf hfx hlx hxv ha hA hin (by omega) (by have := hin.1.1; omega) (fun c hc => (hwS _ _ hc).2)
        (fun n m v' f X b hv1 hv2 hc hX hv hb _ => ih (at' + 1) k n m v' f X b (by omega) (by omega) (by omega) hv2 hc hX hv hb) 100 0 zN n m f X (by omega) (by unfold zN; omega) hvn h' hX hv hpA (s4 _ hin.1.1)
      refine ⟨n', m', f', X', ?_, e2, ?_, e4, ?_, e6, e7, e8, fun hb s hs he hsrc hr hF => ?_⟩
      · have h9 := hpA.1
        unfold s_X8_join_72
        rw [show ((0 : Nat) : Int) = 0 from rfl] at e1
        have hp8 := hin.1.1
        simp (disch := omega) only [zi_lit, zi_neg, zi_add, zi_sub, zi_mul, zi_div, zi_char, zb_eq0, zb_eq1, zb_le0, zb_or, zb_and, zb_or1, zb_or0, zb_1or, zb_0or, zb_and1, zb_and0, zb_1and, zb_0and, zb_nar, zi_nar0, zi_nar1, zl_ite, zl_ret, zl_retb, zl_retb1, zl_retb0, zl_retc, zl_ki, zl_kr, zl_kr0, zl_krf, zl_kl, zl_kf, zl_kd, zl_kv, zl_rf, zl_rf0, zl_valI, zl_valP, zl_valL, zl_get, zl_getI, zl_getR, zl_get0, zl_getr, zl_fk, zl_set, zl_setk, zl_setNb, zl_setN1, zl_setN0, zl_up1, zl_up2, zl_new, zl_newA, zl_len, zl_lenk, zl_ga, zl_gaI, zl_gaL, zl_gaD, zl_gaR, zl_sa, zl_saI, zl_saL, zl_saD, zl_saR, zl_ck, zl_ok, zl_ok0, zl_csS, zl_csS0, zl_csk, zl_tk, zl_csA, zl_isS0, zl_c, zl_cv, zl_cx, zl_sp, zl_rv, zl_rvk, zl_rvk2, zl_div, zl_rem, zl_ath, zl_clnk, zl_clnk0, zl_cat, zl_catn, zl_l0, zl_ls, zl_s0, zl_ss, List.length_cons, List.length_nil, Nat.reduceLT, Nat.zero_add, Nat.lt_add_one, reduceCtorEq, zi_le, zi_lt, zi_eq, if_pos, if_neg, if_true, if_false, Bool.true_eq_false, Bool.false_eq_true, eq_self, Bool.not_true, Bool.not_false, Int.toNat_natCast, Nat.reduceAdd, Int.reduceAdd, Int.reduceSub, Int.reduceMul, Int.reduceNeg, Int.reduceToNat, zl_aa, s1, h9, s2, s3 A.1 hin.1.1]
        exact e1
      · refine Nat.le_trans e3 (Nat.add_le_add_left ?_ _)
        rw [Jc]
        exact Nat.add_le_add_left (Nat.mul_le_mul_right _ (by omega)) _
      · refine Nat.le_trans e5 (Nat.add_le_add_left ?_ _)
        rw [Js]
        exact Nat.add_le_add_left (Nat.mul_le_mul_right _ (by omega)) _
      · refine e9 hb s hs he (Nat.zero_le _) ?_ (fun j B hj hB => hsrc j B (by omega) hB) hr hF
        rw [hSe]; exact hsrc at' A (Nat.le_refl _) hA
    have run : ∀ Z, (if zi at' = zi ch then zGetR (some a0) 36 1 (fun v62 => s_X8_join_72 E (s_X8_join E k) (some a0) (some rb) (zi at') (zi ch) (some v) (some pb) v62) else zGetR (some a0) 36 0 (fun v69 => s_X8_join_72 E (s_X8_join E k) (some a0) (some rb) (zi at') (zi ch) (some v) (some pb) v69)) (n, m, f) = Z → s_X8_join E (k + 1) (some a0) (some rb) (zi at') (zi ch) (some v) (n, m, f) = Z := fun Z hZ => by
      rw [s_X8_join]
      unfold s_X8_joinb
      simp (disch := omega) only [zi_lit, zi_neg, zi_add, zi_sub, zi_mul, zi_div, zi_char, zb_eq0, zb_eq1, zb_le0, zb_or, zb_and, zb_or1, zb_or0, zb_1or, zb_0or, zb_and1, zb_and0, zb_1and, zb_0and, zb_nar, zi_nar0, zi_nar1, zl_ite, zl_ret, zl_retb, zl_retb1, zl_retb0, zl_retc, zl_ki, zl_kr, zl_kr0, zl_krf, zl_kl, zl_kf, zl_kd, zl_kv, zl_rf, zl_rf0, zl_valI, zl_valP, zl_valL, zl_get, zl_getI, zl_getR, zl_get0, zl_getr, zl_fk, zl_set, zl_setk, zl_setNb, zl_setN1, zl_setN0, zl_up1, zl_up2, zl_new, zl_newA, zl_len, zl_lenk, zl_ga, zl_gaI, zl_gaL, zl_gaD, zl_gaR, zl_sa, zl_saI, zl_saL, zl_saD, zl_saR, zl_ck, zl_ok, zl_ok0, zl_csS, zl_csS0, zl_csk, zl_tk, zl_csA, zl_isS0, zl_c, zl_cv, zl_cx, zl_sp, zl_rv, zl_rvk, zl_rvk2, zl_div, zl_rem, zl_ath, zl_clnk, zl_clnk0, zl_cat, zl_catn, zl_l0, zl_ls, zl_s0, zl_ss, List.length_cons, List.length_nil, Nat.reduceLT, Nat.zero_add, Nat.lt_add_one, reduceCtorEq, zi_le, zi_lt, zi_eq, if_pos, if_neg, if_true, if_false, Bool.true_eq_false, Bool.false_eq_true, eq_self, Bool.not_true, Bool.not_false, Int.toNat_natCast, Nat.reduceAdd, Int.reduceAdd, Int.reduceSub, Int.reduceMul, Int.reduceNeg, Int.reduceToNat, zl_aa, q4, w3.ck, sp_lSize (E := E) w3, get, hpA.ck]
      simp (disch := omega) only [zl_ite, zi_eq, zl_get] at hZ
      exact hZ
    by_cases hac : ((at' : Nat) : Int) = ch
    · have hlv := g3 (by omega)
      subst hlv
      obtain ⟨n', m', f', X', e1, e⟩ := hgo lb L (g5 (by omega)) hlx (by unfold srcF; rw [if_pos hac]) hwL (hM _).2
      refine ⟨n', m', f', X', run _ ?_, e⟩
      simp (disch := omega) only [zi_lit, zi_neg, zi_add, zi_sub, zi_mul, zi_div, zi_char, zb_eq0, zb_eq1, zb_le0, zb_or, zb_and, zb_or1, zb_or0, zb_1or, zb_0or, zb_and1, zb_and0, zb_1and, zb_0and, zb_nar, zi_nar0, zi_nar1, zl_ite, zl_ret, zl_retb, zl_retb1, zl_retb0, zl_retc, zl_ki, zl_kr, zl_kr0, zl_krf, zl_kl, zl_kf, zl_kd, zl_kv, zl_rf, zl_rf0, zl_valI, zl_valP, zl_valL, zl_get, zl_getI, zl_getR, zl_get0, zl_getr, zl_fk, zl_set, zl_setk, zl_setNb, zl_setN1, zl_setN0, zl_up1, zl_up2, zl_new, zl_newA, zl_len, zl_lenk, zl_ga, zl_gaI, zl_gaL, zl_gaD, zl_gaR, zl_sa, zl_saI, zl_saL, zl_saD, zl_saR, zl_ck, zl_ok, zl_ok0, zl_csS, zl_csS0, zl_csk, zl_tk, zl_csA, zl_isS0, zl_c, zl_cv, zl_cx, zl_sp, zl_rv, zl_rvk, zl_rvk2, zl_div, zl_rem, zl_ath, zl_clnk, zl_clnk0, zl_cat, zl_catn, zl_l0, zl_ls, zl_s0, zl_ss, List.length_cons, List.length_nil, Nat.reduceLT, Nat.zero_add, Nat.lt_add_one, reduceCtorEq, zi_le, zi_lt, zi_eq, if_pos, if_neg, if_true, if_false, Bool.true_eq_false, Bool.false_eq_true, eq_self, Bool.not_true, Bool.not_false, Int.toNat_natCast, Nat.reduceAdd, Int.reduceAdd, Int.reduceSub, Int.reduceMul, Int.reduceNeg, Int.reduceToNat, zl_aa, g2]
      exact e1
    · obtain ⟨n', m', f', X', e1, e⟩ := hgo fb F g4 hfx (by unfold srcF; rw [if_neg hac]) hwF (hM _).1
      refine ⟨n', m', f', X', run _ ?_, e⟩
      simp (disch := omega) only [zi_lit, zi_neg, zi_add, zi_sub, zi_mul, zi_div, zi_char, zb_eq0, zb_eq1, zb_le0, zb_or, zb_and, zb_or1, zb_or0, zb_1or, zb_0or, zb_and1, zb_and0, zb_1and, zb_0and, zb_nar, zi_nar0, zi_nar1, zl_ite, zl_ret, zl_retb, zl_retb1, zl_retb0, zl_retc, zl_ki, zl_kr, zl_kr0, zl_krf, zl_kl, zl_kf, zl_kd, zl_kv, zl_rf, zl_rf0, zl_valI, zl_valP, zl_valL, zl_get, zl_getI, zl_getR, zl_get0, zl_getr, zl_fk, zl_set, zl_setk, zl_setNb, zl_setN1, zl_setN0, zl_up1, zl_up2, zl_new, zl_newA, zl_len, zl_lenk, zl_ga, zl_gaI, zl_gaL, zl_gaD, zl_gaR, zl_sa, zl_saI, zl_saL, zl_saD, zl_saR, zl_ck, zl_ok, zl_ok0, zl_csS, zl_csS0, zl_csk, zl_tk, zl_csA, zl_isS0, zl_c, zl_cv, zl_cx, zl_sp, zl_rv, zl_rvk, zl_rvk2, zl_div, zl_rem, zl_ath, zl_clnk, zl_clnk0, zl_cat, zl_catn, zl_l0, zl_ls, zl_s0, zl_ss, List.length_cons, List.length_nil, Nat.reduceLT, Nat.zero_add, Nat.lt_add_one, reduceCtorEq, zi_le, zi_lt, zi_eq, if_pos, if_neg, if_true, if_false, Bool.true_eq_false, Bool.false_eq_true, eq_self, Bool.not_true, Bool.not_false, Int.toNat_natCast, Nat.reduceAdd, Int.reduceAdd, Int.reduceSub, Int.reduceMul, Int.reduceNeg, Int.reduceToNat, zl_aa, g2]
      exact e1
/-- goOn: the union -/
def funi (F X : Nat → Nat → Bool) : Nat → Nat → Bool := fun p c => F p c || X p c
def fuk (F X : Nat → Nat → Bool) (p c : Nat) : Nat → Nat → Bool := fun p' c' => F p' c' || (X p' c' && (decide (p' < p) || (decide (p' = p) && decide (c' < c))))
theorem fuk_set {F X : Nat → Nat → Bool} {p c : Nat} (h : X p c = true) : fset (fuk F X p c) p c true = fuk F X p (c + 1) := by
  funext p' c'
  rw [fset_t]
  unfold fuk
  by_cases h1 : p' = p
  · subst h1
    by_cases h2 : c' = c
    · subst h2; simp [h]
    · have : (c' < c + 1) = (c' < c) := propext (by omega)
      simp [h2, this]
  · simp [h1]
theorem fuk_no {F X : Nat → Nat → Bool} {p c : Nat} (h : X p c = false) : fuk F X p c = fuk F X p (c + 1) := by
  funext p' c'
  unfold fuk
  by_cases h1 : p' = p
  · subst h1
    by_cases h2 : c' = c
    · subst h2; simp [h]
    · have : (c' < c + 1) = (c' < c) := propext (by omega)
      simp [this]
  · simp [h1]
theorem fuk_row {F X : Nat → Nat → Bool} (hX : wfF X) (p : Nat) : fuk F X p 100 = fuk F X (p + 1) 0 := by
  funext p' c'
  unfold fuk
  cases hx : X p' c'
  · simp
  · have hc : c' < 100 := by
      have := (hX _ _ hx).2
      unfold okC at this; split at this <;> omega
    by_cases h1 : p' = p
    · subst h1; simp [hc]
    · have : (p' < p + 1) = (p' < p) := propext (by omega)
      simp [h1, this]
theorem sp_goOn_l1 {E : zE} {a0 fb xb p : Nat} {lv : Value} {F X : Nat → Nat → Bool} {f0 : Nat → Option zO} (hE : E 0 ≤ fb) (ha : f0 a0 = some (.inr (36, [.ref fb, lv, .ref xb]))) (haf : a0 < fb) (hfx : fb + 18 ≤ xb) (hX : rFacts f0 xb X) (hp : p < 8) (k2 : Option Nat → Int32 → zM) (n m : Nat) :
    ∀ (d c k : Nat) (f : Nat → Option zO), c + d = 100 → d < k → (∀ q, (q < fb ∨ fb + 18 ≤ q) → f q = f0 q) → rFacts f fb (fuk F X p c) →
    ∃ f', s_X8_goOn_10 E k2 k (some a0) (zi p) (zi c) (n, m, f) = k2 (some a0) (zi (p + 1 : Nat)) (n, m, f') ∧ (∀ q, (q < fb ∨ fb + 18 ≤ q) → f' q = f0 q) ∧ rFacts f' fb (fuk F X p 100) := by
  intro d
  induction d with
  | zero =>
    intro c k f hc hk hf hF
    obtain ⟨k, rfl⟩ : ∃ k', k = k' + 1 := ⟨k - 1, by omega⟩
    obtain rfl : c = 100 := by omega
    refine ⟨f, ?_, hf, hF⟩
    rw [s_X8_goOn_10]
    simp (disch := omega) only [zi_lit, zi_neg, zi_add, zi_sub, zi_mul, zi_div, zi_char, zb_eq0, zb_eq1, zb_le0, zb_or, zb_and, zb_or1, zb_or0, zb_1or, zb_0or, zb_and1, zb_and0, zb_1and, zb_0and, zb_nar, zi_nar0, zi_nar1, zl_ite, zl_ret, zl_retb, zl_retb1, zl_retb0, zl_retc, zl_ki, zl_kr, zl_kr0, zl_krf, zl_kl, zl_kf, zl_kd, zl_kv, zl_rf, zl_rf0, zl_valI, zl_valP, zl_valL, zl_get, zl_getI, zl_getR, zl_get0, zl_getr, zl_fk, zl_set, zl_setk, zl_setNb, zl_setN1, zl_setN0, zl_up1, zl_up2, zl_new, zl_newA, zl_len, zl_lenk, zl_ga, zl_gaI, zl_gaL, zl_gaD, zl_gaR, zl_sa, zl_saI, zl_saL, zl_saD, zl_saR, zl_ck, zl_ok, zl_ok0, zl_csS, zl_csS0, zl_csk, zl_tk, zl_csA, zl_isS0, zl_c, zl_cv, zl_cx, zl_sp, zl_rv, zl_rvk, zl_rvk2, zl_div, zl_rem, zl_ath, zl_clnk, zl_clnk0, zl_cat, zl_catn, zl_l0, zl_ls, zl_s0, zl_ss, List.length_cons, List.length_nil, Nat.reduceLT, Nat.zero_add, Nat.lt_add_one, reduceCtorEq, zi_le, zi_lt, zi_eq, if_pos, if_neg, if_true, if_false, Bool.true_eq_false, Bool.false_eq_true, eq_self, Bool.not_true, Bool.not_false, Int.toNat_natCast, Nat.reduceAdd, Int.reduceAdd, Int.reduceSub, Int.reduceMul, Int.reduceNeg, Int.reduceToNat, zl_aa, zc_add]
  | succ d ih =>
    intro c k f hc hk hf hF
    obtain ⟨k, rfl⟩ : ∃ k', k = k' + 1 := ⟨k - 1, by omega⟩
    have ha' := (hf a0 (by omega)).trans ha
    have hX' : rFacts f xb X := hX.mv fun q _ _ => hf q (by omega)
    have hx := sp_fHas (E := E) hX' hp (c := c) (by omega) n m
    cases hxc : X p c
    · rw [hxc] at hx
      obtain ⟨f', e1, e2, e3⟩ := ih (c + 1) k f (by omega) (by omega) hf (by rw [← fuk_no hxc]; exact hF)
      refine ⟨f', ?_, e2, e3⟩
      rw [s_X8_goOn_10]
      unfold s_X8_goOn_38
      simp (disch := omega) only [zi_lit, zi_neg, zi_add, zi_sub, zi_mul, zi_div, zi_char, zb_eq0, zb_eq1, zb_le0, zb_or, zb_and, zb_or1, zb_or0, zb_1or, zb_0or, zb_and1, zb_and0, zb_1and, zb_0and, zb_nar, zi_nar0, zi_nar1, zl_ite, zl_ret, zl_retb, zl_retb1, zl_retb0, zl_retc, zl_ki, zl_kr, zl_kr0, zl_krf, zl_kl, zl_kf, zl_kd, zl_kv, zl_rf, zl_rf0, zl_valI, zl_valP, zl_valL, zl_get, zl_getI, zl_getR, zl_get0, zl_getr, zl_fk, zl_set, zl_setk, zl_setNb, zl_setN1, zl_setN0, zl_up1, zl_up2, zl_new, zl_newA, zl_len, zl_lenk, zl_ga, zl_gaI, zl_gaL, zl_gaD, zl_gaR, zl_sa, zl_saI, zl_saL, zl_saD, zl_saR, zl_ck, zl_ok, zl_ok0, zl_csS, zl_csS0, zl_csk, zl_tk, zl_csA, zl_isS0, zl_c, zl_cv, zl_cx, zl_sp, zl_rv, zl_rvk, zl_rvk2, zl_div, zl_rem, zl_ath, zl_clnk, zl_clnk0, zl_cat, zl_catn, zl_l0, zl_ls, zl_s0, zl_ss, List.length_cons, List.length_nil, Nat.reduceLT, Nat.zero_add, Nat.lt_add_one, reduceCtorEq, zi_le, zi_lt, zi_eq, if_pos, if_neg, if_true, if_false, Bool.true_eq_false, Bool.false_eq_true, eq_self, Bool.not_true, Bool.not_false, Int.toNat_natCast, Nat.reduceAdd, Int.reduceAdd, Int.reduceSub, Int.reduceMul, Int.reduceNeg, Int.reduceToNat, zl_aa, ha', hX'.ck, hx, zc_add]
      exact e1
    · rw [hxc] at hx
      have hadd := sp_fAdd (E := E) hF hE hp (c := c) (by omega) n m
      have hset := hF.set hp c true
      rw [fuk_set hxc] at hset
      obtain ⟨f', e1, e2, e3⟩ := ih (c + 1) k _ (by omega) (by omega) (fun q hq => (zl_up2 (by omega)).trans (hf q hq)) hset
      refine ⟨f', ?_, e2, e3⟩
      rw [s_X8_goOn_10]
      unfold s_X8_goOn_38
      simp (disch := omega) only [zi_lit, zi_neg, zi_add, zi_sub, zi_mul, zi_div, zi_char, zb_eq0, zb_eq1, zb_le0, zb_or, zb_and, zb_or1, zb_or0, zb_1or, zb_0or, zb_and1, zb_and0, zb_1and, zb_0and, zb_nar, zi_nar0, zi_nar1, zl_ite, zl_ret, zl_retb, zl_retb1, zl_retb0, zl_retc, zl_ki, zl_kr, zl_kr0, zl_krf, zl_kl, zl_kf, zl_kd, zl_kv, zl_rf, zl_rf0, zl_valI, zl_valP, zl_valL, zl_get, zl_getI, zl_getR, zl_get0, zl_getr, zl_fk, zl_set, zl_setk, zl_setNb, zl_setN1, zl_setN0, zl_up1, zl_up2, zl_new, zl_newA, zl_len, zl_lenk, zl_ga, zl_gaI, zl_gaL, zl_gaD, zl_gaR, zl_sa, zl_saI, zl_saL, zl_saD, zl_saR, zl_ck, zl_ok, zl_ok0, zl_csS, zl_csS0, zl_csk, zl_tk, zl_csA, zl_isS0, zl_c, zl_cv, zl_cx, zl_sp, zl_rv, zl_rvk, zl_rvk2, zl_div, zl_rem, zl_ath, zl_clnk, zl_clnk0, zl_cat, zl_catn, zl_l0, zl_ls, zl_s0, zl_ss, List.length_cons, List.length_nil, Nat.reduceLT, Nat.zero_add, Nat.lt_add_one, reduceCtorEq, zi_le, zi_lt, zi_eq, if_pos, if_neg, if_true, if_false, Bool.true_eq_false, Bool.false_eq_true, eq_self, Bool.not_true, Bool.not_false, Int.toNat_natCast, Nat.reduceAdd, Int.reduceAdd, Int.reduceSub, Int.reduceMul, Int.reduceNeg, Int.reduceToNat, zl_aa, ha', hX'.ck, hx, hF.ck, hadd, zc_add]
      exact e1
theorem sp_goOn_l {E : zE} {a0 fb xb : Nat} {lv : Value} {F X : Nat → Nat → Bool} {f0 : Nat → Option zO} (hE : E 0 ≤ fb) (ha : f0 a0 = some (.inr (36, [.ref fb, lv, .ref xb]))) (haf : a0 < fb) (hfx : fb + 18 ≤ xb) (hX : rFacts f0 xb X) (hw : wfF X) (n m : Nat) :
    ∀ (d p k : Nat) (f : Nat → Option zO), p + d = 8 → d < k → (∀ q, (q < fb ∨ fb + 18 ≤ q) → f q = f0 q) → rFacts f fb (fuk F X p 0) →
    ∃ f' k', s_X8_goOn_2 E k (some a0) (zi p) (n, m, f) = s_X8_goOn_2 E (k' + 1) (some a0) (zi 8) (n, m, f') ∧ (∀ q, (q < fb ∨ fb + 18 ≤ q) → f' q = f0 q) ∧ rFacts f' fb (fuk F X 8 0) := by
  intro d
  induction d with
  | zero =>
    intro p k f hp hk hf hF
    obtain rfl : p = 8 := by omega
    exact ⟨f, k - 1, by rw [show k - 1 + 1 = k by omega]; rfl, hf, hF⟩
  | succ d ih =>
    intro p k f hp hk hf hF
    obtain ⟨k, rfl⟩ : ∃ k', k = k' + 1 := ⟨k - 1, by omega⟩
    obtain ⟨f1, e1, e2, e3⟩ := sp_goOn_l1 (E := E) hE ha haf hfx hX (show p < 8 by omega) (s_X8_goOn_2 E k) n m 100 0 zN f (by omega) (by unfold zN; omega) hf hF
    rw [fuk_row hw] at e3
    obtain ⟨f', k', g1, g2, g3⟩ := ih (p + 1) k f1 (by omega) (by omega) e2 e3
    refine ⟨f', k', ?_, g2, g3⟩
    rw [s_X8_goOn_2]
    rw [show ((0 : Nat) : Int) = 0 from rfl] at e1
    simp (disch := omega) only [zi_lit, zi_neg, zi_add, zi_sub, zi_mul, zi_div, zi_char, zb_eq0, zb_eq1, zb_le0, zb_or, zb_and, zb_or1, zb_or0, zb_1or, zb_0or, zb_and1, zb_and0, zb_1and, zb_0and, zb_nar, zi_nar0, zi_nar1, zl_ite, zl_ret, zl_retb, zl_retb1, zl_retb0, zl_retc, zl_ki, zl_kr, zl_kr0, zl_krf, zl_kl, zl_kf, zl_kd, zl_kv, zl_rf, zl_rf0, zl_valI, zl_valP, zl_valL, zl_get, zl_getI, zl_getR, zl_get0, zl_getr, zl_fk, zl_set, zl_setk, zl_setNb, zl_setN1, zl_setN0, zl_up1, zl_up2, zl_new, zl_newA, zl_len, zl_lenk, zl_ga, zl_gaI, zl_gaL, zl_gaD, zl_gaR, zl_sa, zl_saI, zl_saL, zl_saD, zl_saR, zl_ck, zl_ok, zl_ok0, zl_csS, zl_csS0, zl_csk, zl_tk, zl_csA, zl_isS0, zl_c, zl_cv, zl_cx, zl_sp, zl_rv, zl_rvk, zl_rvk2, zl_div, zl_rem, zl_ath, zl_clnk, zl_clnk0, zl_cat, zl_catn, zl_l0, zl_ls, zl_s0, zl_ss, List.length_cons, List.length_nil, Nat.reduceLT, Nat.zero_add, Nat.lt_add_one, reduceCtorEq, zi_le, zi_lt, zi_eq, if_pos, if_neg, if_true, if_false, Bool.true_eq_false, Bool.false_eq_true, eq_self, Bool.not_true, Bool.not_false, Int.toNat_natCast, Nat.reduceAdd, Int.reduceAdd, Int.reduceSub, Int.reduceMul, Int.reduceNeg, Int.reduceToNat, zl_aa]
    rw [e1, g1]
theorem fcnt_le (F : Nat → Nat → Bool) (p : Nat) : fcnt F p ≤ 128 * p := by
  induction p with
  | zero => exact Nat.le_refl _
  | succ p ih => rw [fcnt]; have := bcnt_le (F p) 128; omega
theorem sp_goOn {E : zE} {a0 fb xb n : Nat} {lv : Value} {F X : Nat → Nat → Bool} {f : Nat → Option zO} (hE : E 0 ≤ a0) (ha : f a0 = some (.inr (36, [.ref fb, lv, .ref xb]))) (haf : a0 < fb) (hfx : fb + 18 ≤ xb) (hxn : xb + 18 ≤ n) (hF : rFacts f fb F) (hX : rFacts f xb X) (hw : wfF X) (m : Nat) : ∃ f', s_X8_goOn E (some a0) (n, m, f) = some (.inl (some (.int (zb (decide (0 < fcnt X 8))))), (n + 18, m + 49, f')) ∧ f' a0 = some (.inr (36, [.ref fb, .ref xb, .ref n])) ∧ rFacts f' fb (funi F X) ∧ rFacts f' xb X ∧ rFacts f' n (fun _ _ => false) ∧ ∀ q, q < n → q ≠ a0 → (q < fb ∨ fb + 18 ≤ q) → f' q = f q := by
  have h0 : fuk F X 0 0 = F := by funext p c; unfold fuk; simp
  have h8 : fuk F X 8 0 = funi F X := by
    funext p c; unfold fuk funi
    cases hx : X p c
    · simp
    · have := (hw _ _ hx).1; simp [this]
  obtain ⟨f1, k', e1, e2, e3⟩ := sp_goOn_l (E := E) (by omega) ha haf hfx hX hw n m 8 0 zN f (by omega) (by unfold zN; omega) (fun _ _ => rfl) (by rw [h0]; exact hF)
  rw [h8] at e3
  have ha1 := (e2 a0 (by omega)).trans ha
  have hX1 : rFacts f1 xb X := hX.mv fun q _ _ => e2 q (by omega)
  generalize hf2 : zUp (zUp f1 a0 (.inr (36, [.ref fb, .ref xb, .ref xb]))) n (.inr (32, [.null])) = f2
  have hf2' : ∀ q, q ≠ a0 → q ≠ n → f2 q = f1 q := fun q hq hq' => by rw [← hf2, zl_up2 hq', zl_up2 hq]
  have hf2n : f2 n = some (.inr (32, [.null])) := by rw [← hf2, zl_up1 rfl]
  have hf2a : f2 a0 = some (.inr (36, [.ref fb, .ref xb, .ref xb])) := by rw [← hf2, zl_up2 (by omega), zl_up1 rfl]
  obtain ⟨f3, g1, g2, g3⟩ := sp_fNew (E := E) (b := n) (m := m + 1) (f := f2) (by omega) hf2n
  have hf3a := (g2 a0 (by omega)).trans hf2a
  have hX3 : rFacts f3 xb X := hX1.mv fun q _ _ => by
    rw [g2 q (by omega), hf2' q (by omega) (by omega)]
  have hX4 : rFacts (zUp f3 a0 (.inr (36, [.ref fb, .ref xb, .ref n]))) xb X := hX1.mv fun q _ _ => by
    rw [zl_up2 (by omega), g2 q (by omega), hf2' q (by omega) (by omega)]
  refine ⟨zUp f3 a0 (.inr (36, [.ref fb, .ref xb, .ref n])), ?_, zl_up1 rfl, e3.mv fun q _ _ => ?_, hX4, g3.mv fun q _ _ => zl_up2 (by omega), fun q hq hq' hq'' => ?_⟩
  · unfold s_X8_goOn
    rw [show ((0 : Nat) : Int) = 0 from rfl] at e1
    have hc := fcnt_le X 8
    simp only [zi_lit]
    rw [e1, s_X8_goOn_2]
    by_cases hz : 0 < fcnt X 8
    · simp (disch := omega) only [zi_lit, zi_neg, zi_add, zi_sub, zi_mul, zi_div, zi_char, zb_eq0, zb_eq1, zb_le0, zb_or, zb_and, zb_or1, zb_or0, zb_1or, zb_0or, zb_and1, zb_and0, zb_1and, zb_0and, zb_nar, zi_nar0, zi_nar1, zl_ite, zl_ret, zl_retb, zl_retb1, zl_retb0, zl_retc, zl_ki, zl_kr, zl_kr0, zl_krf, zl_kl, zl_kf, zl_kd, zl_kv, zl_rf, zl_rf0, zl_valI, zl_valP, zl_valL, zl_get, zl_getI, zl_getR, zl_get0, zl_getr, zl_fk, zl_set, zl_setk, zl_setNb, zl_setN1, zl_setN0, zl_up1, zl_up2, zl_new, zl_newA, zl_len, zl_lenk, zl_ga, zl_gaI, zl_gaL, zl_gaD, zl_gaR, zl_sa, zl_saI, zl_saL, zl_saD, zl_saR, zl_ck, zl_ok, zl_ok0, zl_csS, zl_csS0, zl_csk, zl_tk, zl_csA, zl_isS0, zl_c, zl_cv, zl_cx, zl_sp, zl_rv, zl_rvk, zl_rvk2, zl_div, zl_rem, zl_ath, zl_clnk, zl_clnk0, zl_cat, zl_catn, zl_l0, zl_ls, zl_s0, zl_ss, List.length_cons, List.length_nil, Nat.reduceLT, Nat.zero_add, Nat.lt_add_one, reduceCtorEq, zi_le, zi_lt, zi_eq, if_pos, if_neg, if_true, if_false, Bool.true_eq_false, Bool.false_eq_true, eq_self, Bool.not_true, Bool.not_false, Int.toNat_natCast, Nat.reduceAdd, Int.reduceAdd, Int.reduceSub, Int.reduceMul, Int.reduceNeg, Int.reduceToNat, zl_aa, ha1, zl_upup, hf2, g1, hf3a, hX3.ck, sp_fCount (E := E) hX4, decide_true, hz]
    · simp (disch := omega) only [zi_lit, zi_neg, zi_add, zi_sub, zi_mul, zi_div, zi_char, zb_eq0, zb_eq1, zb_le0, zb_or, zb_and, zb_or1, zb_or0, zb_1or, zb_0or, zb_and1, zb_and0, zb_1and, zb_0and, zb_nar, zi_nar0, zi_nar1, zl_ite, zl_ret, zl_retb, zl_retb1, zl_retb0, zl_retc, zl_ki, zl_kr, zl_kr0, zl_krf, zl_kl, zl_kf, zl_kd, zl_kv, zl_rf, zl_rf0, zl_valI, zl_valP, zl_valL, zl_get, zl_getI, zl_getR, zl_get0, zl_getr, zl_fk, zl_set, zl_setk, zl_setNb, zl_setN1, zl_setN0, zl_up1, zl_up2, zl_new, zl_newA, zl_len, zl_lenk, zl_ga, zl_gaI, zl_gaL, zl_gaD, zl_gaR, zl_sa, zl_saI, zl_saL, zl_saD, zl_saR, zl_ck, zl_ok, zl_ok0, zl_csS, zl_csS0, zl_csk, zl_tk, zl_csA, zl_isS0, zl_c, zl_cv, zl_cx, zl_sp, zl_rv, zl_rvk, zl_rvk2, zl_div, zl_rem, zl_ath, zl_clnk, zl_clnk0, zl_cat, zl_catn, zl_l0, zl_ls, zl_s0, zl_ss, List.length_cons, List.length_nil, Nat.reduceLT, Nat.zero_add, Nat.lt_add_one, reduceCtorEq, zi_le, zi_lt, zi_eq, if_pos, if_neg, if_true, if_false, Bool.true_eq_false, Bool.false_eq_true, eq_self, Bool.not_true, Bool.not_false, Int.toNat_natCast, Nat.reduceAdd, Int.reduceAdd, Int.reduceSub, Int.reduceMul, Int.reduceNeg, Int.reduceToNat, zl_aa, ha1, zl_upup, hf2, g1, hf3a, hX3.ck, sp_fCount (E := E) hX4, decide_false, hz]
  · rw [zl_up2 (by omega), g2 q (by omega), hf2' q (by omega) (by omega)]
  · rw [zl_up2 hq', g2 q (by omega), hf2' q hq' (by omega), e2 q hq'']
