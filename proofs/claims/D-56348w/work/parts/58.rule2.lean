set_option maxRecDepth 20000
/-! ===== plain law: a rule's object; whether it holds ===== -/
def rRule (E : zE) (f : Nat → Option zO) (lo hi b : Nat) (R : zRule) : Prop := lo ≤ b ∧ b < hi ∧ okRule R ∧ ∃ ha la pa ta bs ps, f b = some (.inr (31, [.ref ha, .ref la, .ref pa, .ref ta, .int (zi (vm (rV R)))])) ∧ lo ≤ ha ∧ ha < hi ∧ rAtom f ha R.1 ∧ rListB E f lo hi la bs ∧ rLits f lo hi bs R.2.1 ∧ rListB E f lo hi pa ps ∧ rAtoms f lo hi ps (prem R.2.1)
theorem rRule.mv {E : zE} {f f' : Nat → Option zO} {lo hi b : Nat} {R : zRule} (h : rRule E f lo hi b R) (h5 : f' (E 5) = f (E 5)) (hf : ∀ q, lo ≤ q → q < hi → f' q = f q) : rRule E f' lo hi b R := by
  obtain ⟨h1, h2, h3, ha, la, pa, ta, bs, ps, h4, h6, h7, h8, h9, h10, h11, h12⟩ := h
  exact ⟨h1, h2, h3, ha, la, pa, ta, bs, ps, (hf b h1 h2).trans h4, h6, h7, h8.mv (hf ha h6 h7), h9.mv h5 hf, h10.mv hf, h11.mv h5 hf, h12.mv hf⟩
theorem rRule.mvX {E : zE} {f f' : Nat → Option zO} {lo hi b n : Nat} {R : zRule} (h : rRule E f lo hi b R) (hf : zX n f f') (hn : hi ≤ n) (h5 : E 5 < n) : rRule E f' lo hi b R :=
  h.mv (hf _ h5) fun q _ hq => hf q (by omega)
theorem rRule.ck {E : zE} {f : Nat → Option zO} {lo hi b : Nat} {R : zRule} (h : rRule E f lo hi b R) : zCk (f b) = some 31 := by
  obtain ⟨h1, h2, h3, ha, la, pa, ta, bs, ps, h4, -⟩ := h; rw [h4]; rfl
theorem sp_rHolds_l {E : zE} {f0 : Nat → Option zO} {lo hi b ar cap t v fb : Nat} {md : Int} {bs : List Nat} {ls : List zLit} {s : Nat → Int} {F : Nat → Nat → Bool} (hl : rList E f0 b ar cap md bs) (hls : rLits f0 lo hi bs ls) (hE : E 0 ≤ t) (hbt : b ≠ t) (hat : ar ≠ t) (hht : hi ≤ t) (hv : rVals f0 v s) (hvt : v ≠ t) (hs : okS s) (hF : rFacts f0 fb F) (hft : fb + 18 ≤ t) (n m : Nat) : ∀ (d i k : Nat) (acc : Bool) (f : Nat → Option zO), i + d = ls.length → d < k → (∀ q, q ≠ t → f q = f0 q) → rItr f t b md i →
    ∃ f', s_X25_holds_13 E k (some fb) (some v) (zb acc) (some t) (n, m, f) = some (.inl (some (.int (zb (acc && (ls.drop i).all fun L => lv F s L)))), (n, m, f')) ∧ ∀ q, q ≠ t → f' q = f0 q := by
  intro d
  induction d with
  | zero =>
    intro i k acc f hid hk hf ht
    obtain ⟨k, rfl⟩ : ∃ k', k = k' + 1 := ⟨k - 1, by omega⟩
    have hl' : rList E f b ar cap md bs := hl.mv (hf b hbt) (hf ar hat)
    refine ⟨f, ?_, hf⟩
    have h1 : decide (i < bs.length) = false := by simp; rw [hls.1]; omega
    rw [s_X25_holds_13]
    simp (disch := omega) only [zi_lit, zi_neg, zi_add, zi_sub, zi_mul, zi_div, zi_char, zb_eq0, zb_eq1, zb_le0, zb_or, zb_and, zb_or1, zb_or0, zb_1or, zb_0or, zb_and1, zb_and0, zb_1and, zb_0and, zb_nar, zi_nar0, zi_nar1, zl_ite, zl_ret, zl_retb, zl_retb1, zl_retb0, zl_retc, zl_ki, zl_kr, zl_kr0, zl_krf, zl_kl, zl_kf, zl_kd, zl_kv, zl_rf, zl_rf0, zl_valI, zl_valP, zl_valL, zl_get, zl_getI, zl_getR, zl_get0, zl_getr, zl_fk, zl_set, zl_setk, zl_setNb, zl_setN1, zl_setN0, zl_up1, zl_up2, zl_new, zl_newA, zl_len, zl_lenk, zl_ga, zl_gaI, zl_gaL, zl_gaD, zl_gaR, zl_sa, zl_saI, zl_saL, zl_saD, zl_saR, zl_ck, zl_ok, zl_ok0, zl_csS, zl_csS0, zl_csk, zl_tk, zl_csA, zl_isS0, zl_c, zl_cv, zl_cx, zl_sp, zl_rv, zl_rvk, zl_rvk2, zl_div, zl_rem, zl_ath, zl_clnk, zl_clnk0, zl_cat, zl_catn, zl_l0, zl_ls, zl_s0, zl_ss, List.length_cons, List.length_nil, Nat.reduceLT, Nat.zero_add, Nat.lt_add_one, reduceCtorEq, zi_le, zi_lt, zi_eq, if_pos, if_neg, if_true, if_false, Bool.true_eq_false, Bool.false_eq_true, eq_self, Bool.not_true, Bool.not_false, Int.toNat_natCast, Nat.reduceAdd, Int.reduceAdd, Int.reduceSub, Int.reduceMul, Int.reduceNeg, Int.reduceToNat, zl_aa, ht.ck, sp_iHas (E := E) hl' ht (by rw [hls.1]; omega), h1]
    have : ls.drop i = [] := List.drop_eq_nil_of_le (by omega)
    rw [this]
    simp only [List.all_nil, Bool.and_true]
  | succ d ih =>
    intro i k acc f hid hk hf ht
    obtain ⟨k, rfl⟩ : ∃ k', k = k' + 1 := ⟨k - 1, by omega⟩
    have hl' : rList E f b ar cap md bs := hl.mv (hf b hbt) (hf ar hat)
    have h1 : decide (i < bs.length) = true := by simp; rw [hls.1]; omega
    obtain ⟨x, hx⟩ : ∃ x, bs[i]? = some x := ⟨bs[i]'(by rw [hls.1]; omega), List.getElem?_eq_getElem _⟩
    obtain ⟨L, hL⟩ : ∃ L, ls[i]? = some L := ⟨ls[i]'(by omega), List.getElem?_eq_getElem _⟩
    have hlit := hls.2 i x L hx hL
    have hxt : x ≠ t := by have := hlit.1; have := hlit.2.1; omega
    have hn := sp_iNext (E := E) hl' ht hx hE hbt hat n m
    generalize hf2 : zUp f t (.inr (11, [.int (zi (i + 1 : Nat)), .int (zi i), .int (zi md), .ref b])) = f2 at hn
    have hf2' : ∀ q, q ≠ t → f2 q = f0 q := fun q hq => by rw [← hf2, zl_up2 hq]; exact hf q hq
    have ht2 : rItr f2 t b md (i + 1) := ⟨zi i, by rw [← hf2, zl_up1 rfl]⟩
    have hlit2 : rLit f2 lo hi x L := hlit.mv fun q h3 h4 => hf2' q (by omega)
    have hdrop : ls.drop i = L :: ls.drop (i + 1) := by
      obtain ⟨h5, h6⟩ := (List.getElem?_eq_some_iff.mp hL)
      rw [← h6]; exact List.drop_eq_getElem_cons h5
    have hk2 := hlit2.ck
    have hcast : zOkR (n, m, f2) 12 (some x) = true := by
      rw [zl_ok, hk2]; split <;> rfl
    have hho := sp_lHolds (E := E) hlit2 (hv.mv (hf2' v hvt)) hs (hF.mv fun q h3 h4 => hf2' q (by omega)) n m
    cases acc
    · obtain ⟨f', h7, h8⟩ := ih (i + 1) k false f2 (by omega) (by omega) hf2' ht2
      refine ⟨f', ?_, h8⟩
      rw [s_X25_holds_13]
      unfold s_X25_holds_55 s_X25_holds_56
      simp (disch := omega) only [zi_lit, zi_neg, zi_add, zi_sub, zi_mul, zi_div, zi_char, zb_eq0, zb_eq1, zb_le0, zb_or, zb_and, zb_or1, zb_or0, zb_1or, zb_0or, zb_and1, zb_and0, zb_1and, zb_0and, zb_nar, zi_nar0, zi_nar1, zl_ite, zl_ret, zl_retb, zl_retb1, zl_retb0, zl_retc, zl_ki, zl_kr, zl_kr0, zl_krf, zl_kl, zl_kf, zl_kd, zl_kv, zl_rf, zl_rf0, zl_valI, zl_valP, zl_valL, zl_get, zl_getI, zl_getR, zl_get0, zl_getr, zl_fk, zl_set, zl_setk, zl_setNb, zl_setN1, zl_setN0, zl_up1, zl_up2, zl_new, zl_newA, zl_len, zl_lenk, zl_ga, zl_gaI, zl_gaL, zl_gaD, zl_gaR, zl_sa, zl_saI, zl_saL, zl_saD, zl_saR, zl_ck, zl_ok, zl_ok0, zl_csS, zl_csS0, zl_csk, zl_tk, zl_csA, zl_isS0, zl_c, zl_cv, zl_cx, zl_sp, zl_rv, zl_rvk, zl_rvk2, zl_div, zl_rem, zl_ath, zl_clnk, zl_clnk0, zl_cat, zl_catn, zl_l0, zl_ls, zl_s0, zl_ss, List.length_cons, List.length_nil, Nat.reduceLT, Nat.zero_add, Nat.lt_add_one, reduceCtorEq, zi_le, zi_lt, zi_eq, if_pos, if_neg, if_true, if_false, Bool.true_eq_false, Bool.false_eq_true, eq_self, Bool.not_true, Bool.not_false, Int.toNat_natCast, Nat.reduceAdd, Int.reduceAdd, Int.reduceSub, Int.reduceMul, Int.reduceNeg, Int.reduceToNat, zl_aa, ht.ck, sp_iHas (E := E) hl' ht (by rw [hls.1]; omega), h1, hn, zl_cst _ _ _ hcast]
      rw [zi_f, h7]
      rfl
    · cases hlv : lv F s L
      · obtain ⟨f', h7, h8⟩ := ih (i + 1) k false f2 (by omega) (by omega) hf2' ht2
        refine ⟨f', ?_, h8⟩
        rw [s_X25_holds_13]
        unfold s_X25_holds_55 s_X25_holds_56
        rw [hlv, zl_rv] at hho
        have := ht.ck
        rw [zl_c, zl_rv, this, zl_rvk, sp_iHas (E := E) hl' ht (by rw [hls.1]; omega), h1]
        simp (disch := omega) only [zi_lit, zi_neg, zi_add, zi_sub, zi_mul, zi_div, zi_char, zb_eq0, zb_eq1, zb_le0, zb_or, zb_and, zb_or1, zb_or0, zb_1or, zb_0or, zb_and1, zb_and0, zb_1and, zb_0and, zb_nar, zi_nar0, zi_nar1, zl_ite, zl_ret, zl_retb, zl_retb1, zl_retb0, zl_retc, zl_ki, zl_kr, zl_kr0, zl_krf, zl_kl, zl_kf, zl_kd, zl_kv, zl_rf, zl_rf0, zl_valI, zl_valP, zl_valL, zl_get, zl_getI, zl_getR, zl_get0, zl_getr, zl_fk, zl_set, zl_setk, zl_setNb, zl_setN1, zl_setN0, zl_up1, zl_up2, zl_new, zl_newA, zl_len, zl_lenk, zl_ga, zl_gaI, zl_gaL, zl_gaD, zl_gaR, zl_sa, zl_saI, zl_saL, zl_saD, zl_saR, zl_ck, zl_ok, zl_ok0, zl_csS, zl_csS0, zl_csk, zl_tk, zl_csA, zl_isS0, zl_c, zl_cv, zl_cx, zl_sp, zl_rv, zl_rvk, zl_rvk2, zl_div, zl_rem, zl_ath, zl_clnk, zl_clnk0, zl_cat, zl_catn, zl_l0, zl_ls, zl_s0, zl_ss, List.length_cons, List.length_nil, Nat.reduceLT, Nat.zero_add, Nat.lt_add_one, reduceCtorEq, zi_le, zi_lt, zi_eq, if_pos, if_neg, if_true, if_false, Bool.true_eq_false, Bool.false_eq_true, eq_self, Bool.not_true, Bool.not_false, Int.toNat_natCast, Nat.reduceAdd, Int.reduceAdd, Int.reduceSub, Int.reduceMul, Int.reduceNeg, Int.reduceToNat, zl_aa, this, hn, zl_cst _ _ _ hcast, hho]
        rw [zi_f, h7, hdrop]
        simp [hlv]
      · obtain ⟨f', h7, h8⟩ := ih (i + 1) k true f2 (by omega) (by omega) hf2' ht2
        refine ⟨f', ?_, h8⟩
        rw [s_X25_holds_13]
        unfold s_X25_holds_55 s_X25_holds_56
        rw [hlv, zl_rv] at hho
        have := ht.ck
        rw [zl_c, zl_rv, this, zl_rvk, sp_iHas (E := E) hl' ht (by rw [hls.1]; omega), h1]
        simp (disch := omega) only [zi_lit, zi_neg, zi_add, zi_sub, zi_mul, zi_div, zi_char, zb_eq0, zb_eq1, zb_le0, zb_or, zb_and, zb_or1, zb_or0, zb_1or, zb_0or, zb_and1, zb_and0, zb_1and, zb_0and, zb_nar, zi_nar0, zi_nar1, zl_ite, zl_ret, zl_retb, zl_retb1, zl_retb0, zl_retc, zl_ki, zl_kr, zl_kr0, zl_krf, zl_kl, zl_kf, zl_kd, zl_kv, zl_rf, zl_rf0, zl_valI, zl_valP, zl_valL, zl_get, zl_getI, zl_getR, zl_get0, zl_getr, zl_fk, zl_set, zl_setk, zl_setNb, zl_setN1, zl_setN0, zl_up1, zl_up2, zl_new, zl_newA, zl_len, zl_lenk, zl_ga, zl_gaI, zl_gaL, zl_gaD, zl_gaR, zl_sa, zl_saI, zl_saL, zl_saD, zl_saR, zl_ck, zl_ok, zl_ok0, zl_csS, zl_csS0, zl_csk, zl_tk, zl_csA, zl_isS0, zl_c, zl_cv, zl_cx, zl_sp, zl_rv, zl_rvk, zl_rvk2, zl_div, zl_rem, zl_ath, zl_clnk, zl_clnk0, zl_cat, zl_catn, zl_l0, zl_ls, zl_s0, zl_ss, List.length_cons, List.length_nil, Nat.reduceLT, Nat.zero_add, Nat.lt_add_one, reduceCtorEq, zi_le, zi_lt, zi_eq, if_pos, if_neg, if_true, if_false, Bool.true_eq_false, Bool.false_eq_true, eq_self, Bool.not_true, Bool.not_false, Int.toNat_natCast, Nat.reduceAdd, Int.reduceAdd, Int.reduceSub, Int.reduceMul, Int.reduceNeg, Int.reduceToNat, zl_aa, this, hn, zl_cst _ _ _ hcast, hho]
        rw [zi_t, h7, hdrop]
        simp [hlv]
/-- all literals hold -/
def rH (F : Nat → Nat → Bool) (s : Nat → Int) (R : zRule) : Bool := R.2.1.all fun L => lv F s L
theorem sp_rHolds {E : zE} {f : Nat → Option zO} {lo hi b v fb : Nat} {R : zRule} {s : Nat → Int} {F : Nat → Nat → Bool} (hR : rRule E f lo hi b R) (hv : rVals f v s) (hs : okS s) (hF : rFacts f fb F) {n : Nat} (hE : E 0 ≤ n) (hhn : hi ≤ n) (hvn : v < n) (hfn : fb + 18 ≤ n) (h5 : E 5 < E 0) (m : Nat) : ∃ f', s_X25_holds E (some b) (some fb) (some v) (n, m, f) = some (.inl (some (.int (zb (rH F s R)))), (n + 1, m + 4, f')) ∧ zX n f f' := by
  obtain ⟨q1, q2, q3, ha, la, pa, ta, bs, ps, q4, q6, q7, q8, hl, hls, -, -⟩ := hR
  have hk := hl.ck
  obtain ⟨h1, h2, ar, cap, md, h3, h4, h6⟩ := hl
  have hb : la ≠ n := Nat.ne_of_lt (Nat.lt_of_lt_of_le h2 hhn)
  have ha : ar ≠ n := by rcases h6 with h6 | h6 <;> omega
  have hit := sp_lIter h3 hE (by omega) m
  generalize hf1 : zUp f n (.inr (11, [.int (zi 0), .int (zi (-1)), .int (zi md), .ref la])) = f1 at hit
  have hf1' : ∀ q, q ≠ n → f1 q = f q := fun q hq => by rw [← hf1, zl_up2 hq]
  obtain ⟨f', h7, h8⟩ := sp_rHolds_l (E := E) (h3.mv (hf1' la hb) (hf1' ar ha)) (hls.mv fun q hq hq' => hf1' q (by omega)) hE hb ha hhn (hv.mv (hf1' v (by omega))) (by omega) hs (hF.mv fun q hq hq' => hf1' q (by omega)) hfn (n + 1) (m + 4) R.2.1.length 0 zN true f1 (by omega) (by
    have := h3.2.2
    rw [← hls.1]; unfold zN; omega) (fun _ _ => rfl) ⟨zi (-1), by rw [← hf1, zl_up1 rfl]; rfl⟩
  refine ⟨f', ?_, fun q hq => (h8 q (by omega)).trans (hf1' q (by omega))⟩
  unfold s_X25_holds
  simp (disch := omega) only [zi_lit, zi_neg, zi_add, zi_sub, zi_mul, zi_div, zi_char, zb_eq0, zb_eq1, zb_le0, zb_or, zb_and, zb_or1, zb_or0, zb_1or, zb_0or, zb_and1, zb_and0, zb_1and, zb_0and, zb_nar, zi_nar0, zi_nar1, zl_ite, zl_ret, zl_retb, zl_retb1, zl_retb0, zl_retc, zl_ki, zl_kr, zl_kr0, zl_krf, zl_kl, zl_kf, zl_kd, zl_kv, zl_rf, zl_rf0, zl_valI, zl_valP, zl_valL, zl_get, zl_getI, zl_getR, zl_get0, zl_getr, zl_fk, zl_set, zl_setk, zl_setNb, zl_setN1, zl_setN0, zl_up1, zl_up2, zl_new, zl_newA, zl_len, zl_lenk, zl_ga, zl_gaI, zl_gaL, zl_gaD, zl_gaR, zl_sa, zl_saI, zl_saL, zl_saD, zl_saR, zl_ck, zl_ok, zl_ok0, zl_csS, zl_csS0, zl_csk, zl_tk, zl_csA, zl_isS0, zl_c, zl_cv, zl_cx, zl_sp, zl_rv, zl_rvk, zl_rvk2, zl_div, zl_rem, zl_ath, zl_clnk, zl_clnk0, zl_cat, zl_catn, zl_l0, zl_ls, zl_s0, zl_ss, List.length_cons, List.length_nil, Nat.reduceLT, Nat.zero_add, Nat.lt_add_one, reduceCtorEq, zi_le, zi_lt, zi_eq, if_pos, if_neg, if_true, if_false, Bool.true_eq_false, Bool.false_eq_true, eq_self, Bool.not_true, Bool.not_false, Int.toNat_natCast, Nat.reduceAdd, Int.reduceAdd, Int.reduceSub, Int.reduceMul, Int.reduceNeg, Int.reduceToNat, zl_aa, q4, hk, hit, zi_t]
  rw [h7]
  simp only [Bool.true_and, List.drop_zero]
  rfl
theorem sp_range {E : zE} {f : Nat → Option zO} {lo hi b : Nat} {R : zRule} (hR : rRule E f lo hi b R) {i : Nat} (hi3 : i < 3) (n m : Nat) : s_X25_range E (some b) (zi i) (n, m, f) = some (.inl (some (.int (zi (if rV R i then 10 else 1)))), (n, m, f)) := by
  obtain ⟨q1, q2, q3, ha, la, pa, ta, bs, ps, q4, -⟩ := hR
  unfold s_X25_range
  cases hV : rV R i <;> simp (disch := omega) only [zi_lit, zi_neg, zi_add, zi_sub, zi_mul, zi_div, zi_char, zb_eq0, zb_eq1, zb_le0, zb_or, zb_and, zb_or1, zb_or0, zb_1or, zb_0or, zb_and1, zb_and0, zb_1and, zb_0and, zb_nar, zi_nar0, zi_nar1, zl_ite, zl_ret, zl_retb, zl_retb1, zl_retb0, zl_retc, zl_ki, zl_kr, zl_kr0, zl_krf, zl_kl, zl_kf, zl_kd, zl_kv, zl_rf, zl_rf0, zl_valI, zl_valP, zl_valL, zl_get, zl_getI, zl_getR, zl_get0, zl_getr, zl_fk, zl_set, zl_setk, zl_setNb, zl_setN1, zl_setN0, zl_up1, zl_up2, zl_new, zl_newA, zl_len, zl_lenk, zl_ga, zl_gaI, zl_gaL, zl_gaD, zl_gaR, zl_sa, zl_saI, zl_saL, zl_saD, zl_saR, zl_ck, zl_ok, zl_ok0, zl_csS, zl_csS0, zl_csk, zl_tk, zl_csA, zl_isS0, zl_c, zl_cv, zl_cx, zl_sp, zl_rv, zl_rvk, zl_rvk2, zl_div, zl_rem, zl_ath, zl_clnk, zl_clnk0, zl_cat, zl_catn, zl_l0, zl_ls, zl_s0, zl_ss, List.length_cons, List.length_nil, Nat.reduceLT, Nat.zero_add, Nat.lt_add_one, reduceCtorEq, zi_le, zi_lt, zi_eq, if_pos, if_neg, if_true, if_false, Bool.true_eq_false, Bool.false_eq_true, eq_self, Bool.not_true, Bool.not_false, Int.toNat_natCast, Nat.reduceAdd, Int.reduceAdd, Int.reduceSub, Int.reduceMul, Int.reduceNeg, Int.reduceToNat, zl_aa, q4, vm_bit _ hi3, hV] <;> rfl
theorem sp_unsafe_l (E : zE) (V : Nat → Bool) (h : zH) : s_X25_unsafeVariable_32 E zN (zi (vm V)) (zi (-1)) (zi 2) h = some (.inl (some (.int (zi (if V 0 then 0 else if V 1 then 1 else if V 2 then 2 else -1)))), h) := by
  have k : ∀ j r, s_X25_unsafeVariable_32 E (j + 1) (zi (vm V)) r (zi (-1)) h = some (.inl (some (.int r)), h) := fun j r => by
    rw [s_X25_unsafeVariable_32]
    simp (disch := omega) only [zi_lit, zi_neg, zi_add, zi_sub, zi_mul, zi_div, zi_char, zb_eq0, zb_eq1, zb_le0, zb_or, zb_and, zb_or1, zb_or0, zb_1or, zb_0or, zb_and1, zb_and0, zb_1and, zb_0and, zb_nar, zi_nar0, zi_nar1, zl_ite, zl_ret, zl_retb, zl_retb1, zl_retb0, zl_retc, zl_ki, zl_kr, zl_kr0, zl_krf, zl_kl, zl_kf, zl_kd, zl_kv, zl_rf, zl_rf0, zl_valI, zl_valP, zl_valL, zl_get, zl_getI, zl_getR, zl_get0, zl_getr, zl_fk, zl_set, zl_setk, zl_setNb, zl_setN1, zl_setN0, zl_up1, zl_up2, zl_new, zl_newA, zl_len, zl_lenk, zl_ga, zl_gaI, zl_gaL, zl_gaD, zl_gaR, zl_sa, zl_saI, zl_saL, zl_saD, zl_saR, zl_ck, zl_ok, zl_ok0, zl_csS, zl_csS0, zl_csk, zl_tk, zl_csA, zl_isS0, zl_c, zl_cv, zl_cx, zl_sp, zl_rv, zl_rvk, zl_rvk2, zl_div, zl_rem, zl_ath, zl_clnk, zl_clnk0, zl_cat, zl_catn, zl_l0, zl_ls, zl_s0, zl_ss, List.length_cons, List.length_nil, Nat.reduceLT, Nat.zero_add, Nat.lt_add_one, reduceCtorEq, zi_le, zi_lt, zi_eq, if_pos, if_neg, if_true, if_false, Bool.true_eq_false, Bool.false_eq_true, eq_self, Bool.not_true, Bool.not_false, Int.toNat_natCast, Nat.reduceAdd, Int.reduceAdd, Int.reduceSub, Int.reduceMul, Int.reduceNeg, Int.reduceToNat, zl_aa]
  have b0 := vm_bit V (i := 0) (by omega)
  have b1 := vm_bit V (i := 1) (by omega)
  have b2 := vm_bit V (i := 2) (by omega)
  rw [show ((0 : Nat) : Int) = 0 from rfl] at b0
  rw [show ((1 : Nat) : Int) = 1 from rfl] at b1
  rw [show ((2 : Nat) : Int) = 2 from rfl] at b2
  have k0 : ∀ j r, s_X25_unsafeVariable_32 E (j + 2) (zi (vm V)) (zi r) (zi 0) h = some (.inl (some (.int (zi (if V 0 then 0 else r)))), h) := fun j r => by
    rw [s_X25_unsafeVariable_32]
    unfold s_X25_unsafeVariable_50
    cases hV : V 0 <;> simp (disch := omega) only [zi_lit, zi_neg, zi_add, zi_sub, zi_mul, zi_div, zi_char, zb_eq0, zb_eq1, zb_le0, zb_or, zb_and, zb_or1, zb_or0, zb_1or, zb_0or, zb_and1, zb_and0, zb_1and, zb_0and, zb_nar, zi_nar0, zi_nar1, zl_ite, zl_ret, zl_retb, zl_retb1, zl_retb0, zl_retc, zl_ki, zl_kr, zl_kr0, zl_krf, zl_kl, zl_kf, zl_kd, zl_kv, zl_rf, zl_rf0, zl_valI, zl_valP, zl_valL, zl_get, zl_getI, zl_getR, zl_get0, zl_getr, zl_fk, zl_set, zl_setk, zl_setNb, zl_setN1, zl_setN0, zl_up1, zl_up2, zl_new, zl_newA, zl_len, zl_lenk, zl_ga, zl_gaI, zl_gaL, zl_gaD, zl_gaR, zl_sa, zl_saI, zl_saL, zl_saD, zl_saR, zl_ck, zl_ok, zl_ok0, zl_csS, zl_csS0, zl_csk, zl_tk, zl_csA, zl_isS0, zl_c, zl_cv, zl_cx, zl_sp, zl_rv, zl_rvk, zl_rvk2, zl_div, zl_rem, zl_ath, zl_clnk, zl_clnk0, zl_cat, zl_catn, zl_l0, zl_ls, zl_s0, zl_ss, List.length_cons, List.length_nil, Nat.reduceLT, Nat.zero_add, Nat.lt_add_one, reduceCtorEq, zi_le, zi_lt, zi_eq, if_pos, if_neg, if_true, if_false, Bool.true_eq_false, Bool.false_eq_true, eq_self, Bool.not_true, Bool.not_false, Int.toNat_natCast, Nat.reduceAdd, Int.reduceAdd, Int.reduceSub, Int.reduceMul, Int.reduceNeg, Int.reduceToNat, zl_aa, b0, hV] <;> rw [k]
  have k1 : ∀ j r, s_X25_unsafeVariable_32 E (j + 3) (zi (vm V)) (zi r) (zi 1) h = some (.inl (some (.int (zi (if V 0 then 0 else if V 1 then 1 else r)))), h) := fun j r => by
    rw [s_X25_unsafeVariable_32]
    unfold s_X25_unsafeVariable_50
    cases hV : V 1 <;> simp (disch := omega) only [zi_lit, zi_neg, zi_add, zi_sub, zi_mul, zi_div, zi_char, zb_eq0, zb_eq1, zb_le0, zb_or, zb_and, zb_or1, zb_or0, zb_1or, zb_0or, zb_and1, zb_and0, zb_1and, zb_0and, zb_nar, zi_nar0, zi_nar1, zl_ite, zl_ret, zl_retb, zl_retb1, zl_retb0, zl_retc, zl_ki, zl_kr, zl_kr0, zl_krf, zl_kl, zl_kf, zl_kd, zl_kv, zl_rf, zl_rf0, zl_valI, zl_valP, zl_valL, zl_get, zl_getI, zl_getR, zl_get0, zl_getr, zl_fk, zl_set, zl_setk, zl_setNb, zl_setN1, zl_setN0, zl_up1, zl_up2, zl_new, zl_newA, zl_len, zl_lenk, zl_ga, zl_gaI, zl_gaL, zl_gaD, zl_gaR, zl_sa, zl_saI, zl_saL, zl_saD, zl_saR, zl_ck, zl_ok, zl_ok0, zl_csS, zl_csS0, zl_csk, zl_tk, zl_csA, zl_isS0, zl_c, zl_cv, zl_cx, zl_sp, zl_rv, zl_rvk, zl_rvk2, zl_div, zl_rem, zl_ath, zl_clnk, zl_clnk0, zl_cat, zl_catn, zl_l0, zl_ls, zl_s0, zl_ss, List.length_cons, List.length_nil, Nat.reduceLT, Nat.zero_add, Nat.lt_add_one, reduceCtorEq, zi_le, zi_lt, zi_eq, if_pos, if_neg, if_true, if_false, Bool.true_eq_false, Bool.false_eq_true, eq_self, Bool.not_true, Bool.not_false, Int.toNat_natCast, Nat.reduceAdd, Int.reduceAdd, Int.reduceSub, Int.reduceMul, Int.reduceNeg, Int.reduceToNat, zl_aa, b1, hV] <;> rw [k0]
  obtain ⟨j, hj⟩ : ∃ j, zN = j + 4 := ⟨zN - 4, by unfold zN; omega⟩
  rw [hj, s_X25_unsafeVariable_32]
  unfold s_X25_unsafeVariable_50
  cases hV : V 2 <;> simp (disch := omega) only [zi_lit, zi_neg, zi_add, zi_sub, zi_mul, zi_div, zi_char, zb_eq0, zb_eq1, zb_le0, zb_or, zb_and, zb_or1, zb_or0, zb_1or, zb_0or, zb_and1, zb_and0, zb_1and, zb_0and, zb_nar, zi_nar0, zi_nar1, zl_ite, zl_ret, zl_retb, zl_retb1, zl_retb0, zl_retc, zl_ki, zl_kr, zl_kr0, zl_krf, zl_kl, zl_kf, zl_kd, zl_kv, zl_rf, zl_rf0, zl_valI, zl_valP, zl_valL, zl_get, zl_getI, zl_getR, zl_get0, zl_getr, zl_fk, zl_set, zl_setk, zl_setNb, zl_setN1, zl_setN0, zl_up1, zl_up2, zl_new, zl_newA, zl_len, zl_lenk, zl_ga, zl_gaI, zl_gaL, zl_gaD, zl_gaR, zl_sa, zl_saI, zl_saL, zl_saD, zl_saR, zl_ck, zl_ok, zl_ok0, zl_csS, zl_csS0, zl_csk, zl_tk, zl_csA, zl_isS0, zl_c, zl_cv, zl_cx, zl_sp, zl_rv, zl_rvk, zl_rvk2, zl_div, zl_rem, zl_ath, zl_clnk, zl_clnk0, zl_cat, zl_catn, zl_l0, zl_ls, zl_s0, zl_ss, List.length_cons, List.length_nil, Nat.reduceLT, Nat.zero_add, Nat.lt_add_one, reduceCtorEq, zi_le, zi_lt, zi_eq, if_pos, if_neg, if_true, if_false, Bool.true_eq_false, Bool.false_eq_true, eq_self, Bool.not_true, Bool.not_false, Int.toNat_natCast, Nat.reduceAdd, Int.reduceAdd, Int.reduceSub, Int.reduceMul, Int.reduceNeg, Int.reduceToNat, zl_aa, b2, hV] <;> rw [k1]
/-- the first variable that makes a rule not safe, -1 for none -/
def unsafeV (R : zRule) : Int :=
  let V := fun i => (aV R.1 i || lsV false R.2.1 i) && !lsV true R.2.1 i
  if V 0 then 0 else if V 1 then 1 else if V 2 then 2 else -1
theorem sp_unsafeV {E : zE} {f : Nat → Option zO} {lo hi b : Nat} {R : zRule} (hR : rRule E f lo hi b R) {n : Nat} (hE : E 0 ≤ n) (hn : hi ≤ n) (h5 : E 5 < E 0) (m : Nat) : ∃ f', s_X25_unsafeVariable E (some b) (n, m, f) = some (.inl (some (.int (zi (unsafeV R)))), (n + 2, m + 8, f')) ∧ zX n f f' := by
  obtain ⟨q1, q2, q3, ha, la, pa, ta, bs, ps, q4, q6, q7, q8, hl, hls, -, -⟩ := hR
  obtain ⟨f1, e1, x1⟩ := sp_masks hl hls hE hn h5 false m
  have hl1 := hl.mv (x1 _ (by omega)) fun q hq hq' => x1 q (by omega)
  have hls1 := hls.mv fun q hq hq' => x1 q (by omega)
  obtain ⟨f2, e2, x2⟩ := sp_masks hl1 hls1 (n := n + 1) (by omega) (by omega) h5 true (m + 4)
  refine ⟨f2, ?_, x1.trans x2 (by omega)⟩
  have q4' := (x1 b (by omega)).trans q4
  unfold s_X25_unsafeVariable
  simp (disch := omega) only [zi_lit, zi_neg, zi_add, zi_sub, zi_mul, zi_div, zi_char, zb_eq0, zb_eq1, zb_le0, zb_or, zb_and, zb_or1, zb_or0, zb_1or, zb_0or, zb_and1, zb_and0, zb_1and, zb_0and, zb_nar, zi_nar0, zi_nar1, zl_ite, zl_ret, zl_retb, zl_retb1, zl_retb0, zl_retc, zl_ki, zl_kr, zl_kr0, zl_krf, zl_kl, zl_kf, zl_kd, zl_kv, zl_rf, zl_rf0, zl_valI, zl_valP, zl_valL, zl_get, zl_getI, zl_getR, zl_get0, zl_getr, zl_fk, zl_set, zl_setk, zl_setNb, zl_setN1, zl_setN0, zl_up1, zl_up2, zl_new, zl_newA, zl_len, zl_lenk, zl_ga, zl_gaI, zl_gaL, zl_gaD, zl_gaR, zl_sa, zl_saI, zl_saL, zl_saD, zl_saR, zl_ck, zl_ok, zl_ok0, zl_csS, zl_csS0, zl_csk, zl_tk, zl_csA, zl_isS0, zl_c, zl_cv, zl_cx, zl_sp, zl_rv, zl_rvk, zl_rvk2, zl_div, zl_rem, zl_ath, zl_clnk, zl_clnk0, zl_cat, zl_catn, zl_l0, zl_ls, zl_s0, zl_ss, List.length_cons, List.length_nil, Nat.reduceLT, Nat.zero_add, Nat.lt_add_one, reduceCtorEq, zi_le, zi_lt, zi_eq, if_pos, if_neg, if_true, if_false, Bool.true_eq_false, Bool.false_eq_true, eq_self, Bool.not_true, Bool.not_false, Int.toNat_natCast, Nat.reduceAdd, Int.reduceAdd, Int.reduceSub, Int.reduceMul, Int.reduceNeg, Int.reduceToNat, zl_aa, q4, q8.ck, sp_aMask (E := E) q8]
  rw [zi_f, e1]
  simp (disch := omega) only [zi_lit, zi_neg, zi_add, zi_sub, zi_mul, zi_div, zi_char, zb_eq0, zb_eq1, zb_le0, zb_or, zb_and, zb_or1, zb_or0, zb_1or, zb_0or, zb_and1, zb_and0, zb_1and, zb_0and, zb_nar, zi_nar0, zi_nar1, zl_ite, zl_ret, zl_retb, zl_retb1, zl_retb0, zl_retc, zl_ki, zl_kr, zl_kr0, zl_krf, zl_kl, zl_kf, zl_kd, zl_kv, zl_rf, zl_rf0, zl_valI, zl_valP, zl_valL, zl_get, zl_getI, zl_getR, zl_get0, zl_getr, zl_fk, zl_set, zl_setk, zl_setNb, zl_setN1, zl_setN0, zl_up1, zl_up2, zl_new, zl_newA, zl_len, zl_lenk, zl_ga, zl_gaI, zl_gaL, zl_gaD, zl_gaR, zl_sa, zl_saI, zl_saL, zl_saD, zl_saR, zl_ck, zl_ok, zl_ok0, zl_csS, zl_csS0, zl_csk, zl_tk, zl_csA, zl_isS0, zl_c, zl_cv, zl_cx, zl_sp, zl_rv, zl_rvk, zl_rvk2, zl_div, zl_rem, zl_ath, zl_clnk, zl_clnk0, zl_cat, zl_catn, zl_l0, zl_ls, zl_s0, zl_ss, List.length_cons, List.length_nil, Nat.reduceLT, Nat.zero_add, Nat.lt_add_one, reduceCtorEq, zi_le, zi_lt, zi_eq, if_pos, if_neg, if_true, if_false, Bool.true_eq_false, Bool.false_eq_true, eq_self, Bool.not_true, Bool.not_false, Int.toNat_natCast, Nat.reduceAdd, Int.reduceAdd, Int.reduceSub, Int.reduceMul, Int.reduceNeg, Int.reduceToNat, zl_aa, q4']
  rw [zi_t, e2, zl_cv (by omega) (by omega), zl_ki, vm_or, vm_andn]
  rw [sp_unsafe_l]
  rfl
