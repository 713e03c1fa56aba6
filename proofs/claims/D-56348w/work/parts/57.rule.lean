set_option maxRecDepth 20000
/-! ===== plain law: rules ===== -/
/-- a rule: its head, its literals, its text -/
abbrev zRule : Type := zAtom × List zLit × List Nat
def okRule (R : zRule) : Prop := okAtom R.1 ∧ (∀ L ∈ R.2.1, okLit L) ∧ R.2.1.length ≤ 3 ∧ R.2.1 ≠ []
def lV (L : zLit) : Nat → Bool := if L.1 < 2 then aV L.2 else fun i => decide (L.2.2.1 = 10 + i) || decide (L.2.2.2 = 10 + i)
/-- the variables of the positive literals, or of the others -/
def lsV (pos : Bool) (ls : List zLit) : Nat → Bool := fun i => ls.any fun L => decide (decide (L.1 = 0) = pos) && lV L i
def rV (R : zRule) : Nat → Bool := fun i => (aV R.1 i || lsV true R.2.1 i) || lsV false R.2.1 i
def prem (ls : List zLit) : List zAtom := (ls.filter fun L => decide (L.1 = 0)).map fun L => L.2
/-- literals at bs -/
def rLits (f : Nat → Option zO) (lo hi : Nat) (bs : List Nat) (ls : List zLit) : Prop := bs.length = ls.length ∧ ∀ (i b : Nat) (L : zLit), bs[i]? = some b → ls[i]? = some L → rLit f lo hi b L
theorem rLits.mv {f f' : Nat → Option zO} {lo hi : Nat} {bs : List Nat} {ls : List zLit} (h : rLits f lo hi bs ls) (hf : ∀ q, lo ≤ q → q < hi → f' q = f q) : rLits f' lo hi bs ls :=
  ⟨h.1, fun (i b : Nat) (L : zLit) (h1 : bs[i]? = some b) (h2 : ls[i]? = some L) => (h.2 i b L h1 h2).mv hf⟩
def rAtoms (f : Nat → Option zO) (lo hi : Nat) (bs : List Nat) (as : List zAtom) : Prop := bs.length = as.length ∧ ∀ (i b : Nat) (A : zAtom), bs[i]? = some b → as[i]? = some A → rAtom f b A ∧ lo ≤ b ∧ b < hi
theorem rAtoms.mv {f f' : Nat → Option zO} {lo hi : Nat} {bs : List Nat} {as : List zAtom} (h : rAtoms f lo hi bs as) (hf : ∀ q, lo ≤ q → q < hi → f' q = f q) : rAtoms f' lo hi bs as :=
  ⟨h.1, fun (i b : Nat) (A : zAtom) (h1 : bs[i]? = some b) (h2 : as[i]? = some A) => by obtain ⟨h3, h4, h5⟩ := h.2 i b A h1 h2; exact ⟨h3.mv (hf b h4 h5), h4, h5⟩⟩
/-- a list all of whose cells lie between lo and hi (its array perhaps is the constant) -/
def rListB (E : zE) (f : Nat → Option zO) (lo hi b : Nat) (xs : List Nat) : Prop := lo ≤ b ∧ b < hi ∧ ∃ ar cap md, rList E f b ar cap md xs ∧ ar ≠ b ∧ (ar = E 5 ∨ lo ≤ ar ∧ ar < hi)
theorem rListB.mv {E : zE} {f f' : Nat → Option zO} {lo hi b : Nat} {xs : List Nat} (h : rListB E f lo hi b xs) (h5 : f' (E 5) = f (E 5)) (hf : ∀ q, lo ≤ q → q < hi → f' q = f q) : rListB E f' lo hi b xs := by
  obtain ⟨h1, h2, ar, cap, md, h3, h4, h6⟩ := h
  refine ⟨h1, h2, ar, cap, md, h3.mv (hf b h1 h2) ?_, h4, h6⟩
  rcases h6 with rfl | h6
  · exact h5
  · exact hf ar h6.1 h6.2
theorem rListB.ck {E : zE} {f : Nat → Option zO} {lo hi b : Nat} {xs : List Nat} (h : rListB E f lo hi b xs) : zCk (f b) = some 10 := by
  obtain ⟨h1, h2, ar, cap, md, h3, h4, h6⟩ := h; exact h3.ck
/-- masks: the iterator's cell is all that is new -/
theorem sp_masks_l {E : zE} {f0 : Nat → Option zO} {lo hi b ar cap t : Nat} {md : Int} {bs : List Nat} {ls : List zLit} (hl : rList E f0 b ar cap md bs) (hls : rLits f0 lo hi bs ls) (hE : E 0 ≤ t) (hbt : b ≠ t) (hat : ar ≠ t) (hht : hi ≤ t) (pos : Bool) (n m : Nat) : ∀ (d i k : Nat) (V : Nat → Bool) (f : Nat → Option zO), i + d = ls.length → d < k → (∀ q, q ≠ t → f q = f0 q) → rItr f t b md i →
    ∃ f', s_X26_masks_9 E k (zb pos) (zi (vm V)) (some t) (n, m, f) = some (.inl (some (.int (zi (vm fun j => V j || lsV pos (ls.drop i) j)))), (n, m, f')) ∧ ∀ q, q ≠ t → f' q = f0 q := by
  intro d
  induction d with
  | zero =>
    intro i k V f hid hk hf ht
    obtain ⟨k, rfl⟩ : ∃ k', k = k' + 1 := ⟨k - 1, by omega⟩
    have hl' : rList E f b ar cap md bs := hl.mv (hf b hbt) (hf ar hat)
    refine ⟨f, ?_, hf⟩
    have h1 : decide (i < bs.length) = false := by simp; rw [hls.1]; omega
    rw [s_X26_masks_9]
    simp (disch := omega) only [zi_lit, zi_neg, zi_add, zi_sub, zi_mul, zi_div, zi_char, zb_eq0, zb_eq1, zb_le0, zb_or, zb_and, zb_or1, zb_or0, zb_1or, zb_0or, zb_and1, zb_and0, zb_1and, zb_0and, zb_nar, zi_nar0, zi_nar1, zl_ite, zl_ret, zl_retb, zl_retb1, zl_retb0, zl_retc, zl_ki, zl_kr, zl_kr0, zl_krf, zl_kl, zl_kf, zl_kd, zl_kv, zl_rf, zl_rf0, zl_valI, zl_valP, zl_valL, zl_get, zl_getI, zl_getR, zl_get0, zl_getr, zl_fk, zl_set, zl_setk, zl_setNb, zl_setN1, zl_setN0, zl_up1, zl_up2, zl_new, zl_newA, zl_len, zl_lenk, zl_ga, zl_gaI, zl_gaL, zl_gaD, zl_gaR, zl_sa, zl_saI, zl_saL, zl_saD, zl_saR, zl_ck, zl_ok, zl_ok0, zl_csS, zl_csS0, zl_csk, zl_tk, zl_csA, zl_isS0, zl_c, zl_cv, zl_cx, zl_sp, zl_rv, zl_rvk, zl_rvk2, zl_div, zl_rem, zl_ath, zl_clnk, zl_clnk0, zl_cat, zl_catn, zl_l0, zl_ls, zl_s0, zl_ss, List.length_cons, List.length_nil, Nat.reduceLT, Nat.zero_add, Nat.lt_add_one, reduceCtorEq, zi_le, zi_lt, zi_eq, if_pos, if_neg, if_true, if_false, Bool.true_eq_false, Bool.false_eq_true, eq_self, Bool.not_true, Bool.not_false, Int.toNat_natCast, Nat.reduceAdd, Int.reduceAdd, Int.reduceSub, Int.reduceMul, Int.reduceNeg, Int.reduceToNat, zl_aa, ht.ck, sp_iHas (E := E) hl' ht (by rw [hls.1]; omega), h1]
    have : ls.drop i = [] := List.drop_eq_nil_of_le (by omega)
    rw [this]
    simp only [lsV, List.any_nil, Bool.or_false]
  | succ d ih =>
    intro i k V f hid hk hf ht
    obtain ⟨k, rfl⟩ : ∃ k', k = k' + 1 := ⟨k - 1, by omega⟩
    have hl' : rList E f b ar cap md bs := hl.mv (hf b hbt) (hf ar hat)
    have h1 : decide (i < bs.length) = true := by simp; rw [hls.1]; omega
    obtain ⟨x, hx⟩ : ∃ x, bs[i]? = some x := ⟨bs[i]'(by rw [hls.1]; omega), List.getElem?_eq_getElem _⟩
    obtain ⟨L, hL⟩ : ∃ L, ls[i]? = some L := ⟨ls[i]'(by omega), List.getElem?_eq_getElem _⟩
    have hlit := hls.2 i x L hx hL
    have hxt : x ≠ t := by have := hlit.1; have := hlit.2.1; omega
    have hn := sp_iNext (E := E) hl' ht hx hE hbt hat n m
    generalize hf2 : zUp f t (.inr (11, [.int (zi (i + 1 : Nat)), .int (zi i), .int (zi md), .ref b])) = f2 at hn
    have hf2' : ∀ q, q ≠ t → f2 q = f0 q := fun q hq => by rw [← hf2, zl_up2 hq]; exact hf q hq
    have ht2 : rItr f2 t b md (i + 1) := ⟨zi i, by rw [← hf2, zl_up1 rfl]⟩
    have hlit2 : rLit f2 lo hi x L := hlit.mv fun q h3 h4 => hf2' q (by omega)
    have hdrop : ls.drop i = L :: ls.drop (i + 1) := by
      have := (List.getElem?_eq_some_iff.mp hL)
      obtain ⟨h5, h6⟩ := this
      rw [← h6]; exact List.drop_eq_getElem_cons h5
    have hk2 := hlit2.ck
    obtain ⟨o1, o2, o3, o4⟩ := hlit2.2.2.1
    have hcast : zOkR (n, m, f2) 12 (some x) = true := by
      rw [zl_ok, hk2]; split <;> rfl
    have key : ∀ W : Nat → Bool, (∀ j, W j = (decide (decide (L.1 = 0) = pos) && lV L j)) → ∃ f', s_X26_masks_52 E (s_X26_masks_9 E k) (zb pos) (some t) (zi (vm V)) (zi (vm W)) (n, m, f2) = some (.inl (some (.int (zi (vm fun j => V j || lsV pos (ls.drop i) j)))), (n, m, f')) ∧ ∀ q, q ≠ t → f' q = f0 q := fun W hW => by
      obtain ⟨f', h7, h8⟩ := ih (i + 1) k (fun j => V j || W j) f2 (by omega) (by omega) hf2' ht2
      refine ⟨f', ?_, h8⟩
      unfold s_X26_masks_52
      rw [vm_or, h7, hdrop]
      congr 8
      funext j
      unfold lsV
      rw [List.any_cons, hW j, Bool.or_assoc]
    by_cases hc : L.1 < 2
    · rw [if_pos hc] at hk2
      obtain ⟨a, ha1, ha2, ha3, ha4⟩ := hlit2.2.2.2.1 hc
      by_cases hp : decide (L.1 = 0) = pos
      · obtain ⟨f', h7, h8⟩ := key (aV L.2) (fun j => by unfold lV; rw [if_pos hc]; simp [hp])
        refine ⟨f', ?_, h8⟩
        rw [s_X26_masks_9]
        simp (disch := omega) only [zi_lit, zi_neg, zi_add, zi_sub, zi_mul, zi_div, zi_char, zb_eq0, zb_eq1, zb_le0, zb_or, zb_and, zb_or1, zb_or0, zb_1or, zb_0or, zb_and1, zb_and0, zb_1and, zb_0and, zb_nar, zi_nar0, zi_nar1, zl_ite, zl_ret, zl_retb, zl_retb1, zl_retb0, zl_retc, zl_ki, zl_kr, zl_kr0, zl_krf, zl_kl, zl_kf, zl_kd, zl_kv, zl_rf, zl_rf0, zl_valI, zl_valP, zl_valL, zl_get, zl_getI, zl_getR, zl_get0, zl_getr, zl_fk, zl_set, zl_setk, zl_setNb, zl_setN1, zl_setN0, zl_up1, zl_up2, zl_new, zl_newA, zl_len, zl_lenk, zl_ga, zl_gaI, zl_gaL, zl_gaD, zl_gaR, zl_sa, zl_saI, zl_saL, zl_saD, zl_saR, zl_ck, zl_ok, zl_ok0, zl_csS, zl_csS0, zl_csk, zl_tk, zl_csA, zl_isS0, zl_c, zl_cv, zl_cx, zl_sp, zl_rv, zl_rvk, zl_rvk2, zl_div, zl_rem, zl_ath, zl_clnk, zl_clnk0, zl_cat, zl_catn, zl_l0, zl_ls, zl_s0, zl_ss, List.length_cons, List.length_nil, Nat.reduceLT, Nat.zero_add, Nat.lt_add_one, reduceCtorEq, zi_le, zi_lt, zi_eq, if_pos, if_neg, if_true, if_false, Bool.true_eq_false, Bool.false_eq_true, eq_self, Bool.not_true, Bool.not_false, Int.toNat_natCast, Nat.reduceAdd, Int.reduceAdd, Int.reduceSub, Int.reduceMul, Int.reduceNeg, Int.reduceToNat, zl_aa, ht.ck, sp_iHas (E := E) hl' ht (by rw [hls.1]; omega), h1, hn, zl_cst _ _ _ hcast, hk2]
        unfold s_X23_isPositive s_X23_mask
        simp (disch := omega) only [zi_lit, zi_neg, zi_add, zi_sub, zi_mul, zi_div, zi_char, zb_eq0, zb_eq1, zb_le0, zb_or, zb_and, zb_or1, zb_or0, zb_1or, zb_0or, zb_and1, zb_and0, zb_1and, zb_0and, zb_nar, zi_nar0, zi_nar1, zl_ite, zl_ret, zl_retb, zl_retb1, zl_retb0, zl_retc, zl_ki, zl_kr, zl_kr0, zl_krf, zl_kl, zl_kf, zl_kd, zl_kv, zl_rf, zl_rf0, zl_valI, zl_valP, zl_valL, zl_get, zl_getI, zl_getR, zl_get0, zl_getr, zl_fk, zl_set, zl_setk, zl_setNb, zl_setN1, zl_setN0, zl_up1, zl_up2, zl_new, zl_newA, zl_len, zl_lenk, zl_ga, zl_gaI, zl_gaL, zl_gaD, zl_gaR, zl_sa, zl_saI, zl_saL, zl_saD, zl_saR, zl_ck, zl_ok, zl_ok0, zl_csS, zl_csS0, zl_csk, zl_tk, zl_csA, zl_isS0, zl_c, zl_cv, zl_cx, zl_sp, zl_rv, zl_rvk, zl_rvk2, zl_div, zl_rem, zl_ath, zl_clnk, zl_clnk0, zl_cat, zl_catn, zl_l0, zl_ls, zl_s0, zl_ss, List.length_cons, List.length_nil, Nat.reduceLT, Nat.zero_add, Nat.lt_add_one, reduceCtorEq, zi_le, zi_lt, zi_eq, if_pos, if_neg, if_true, if_false, Bool.true_eq_false, Bool.false_eq_true, eq_self, Bool.not_true, Bool.not_false, Int.toNat_natCast, Nat.reduceAdd, Int.reduceAdd, Int.reduceSub, Int.reduceMul, Int.reduceNeg, Int.reduceToNat, zl_aa, ha3, ha4.ck, sp_aMask (E := E) ha4, hp, hk2]
        exact h7
      · obtain ⟨f', h7, h8⟩ := key (fun _ => false) (fun j => by simp [hp])
        refine ⟨f', ?_, h8⟩
        have hne : (zb (decide (L.1 = 0)) = zb pos) = False := by
          revert hp; cases decide (L.1 = 0) <;> cases pos <;> simp [zb]
        rw [s_X26_masks_9]
        simp (disch := omega) only [zi_lit, zi_neg, zi_add, zi_sub, zi_mul, zi_div, zi_char, zb_eq0, zb_eq1, zb_le0, zb_or, zb_and, zb_or1, zb_or0, zb_1or, zb_0or, zb_and1, zb_and0, zb_1and, zb_0and, zb_nar, zi_nar0, zi_nar1, zl_ite, zl_ret, zl_retb, zl_retb1, zl_retb0, zl_retc, zl_ki, zl_kr, zl_kr0, zl_krf, zl_kl, zl_kf, zl_kd, zl_kv, zl_rf, zl_rf0, zl_valI, zl_valP, zl_valL, zl_get, zl_getI, zl_getR, zl_get0, zl_getr, zl_fk, zl_set, zl_setk, zl_setNb, zl_setN1, zl_setN0, zl_up1, zl_up2, zl_new, zl_newA, zl_len, zl_lenk, zl_ga, zl_gaI, zl_gaL, zl_gaD, zl_gaR, zl_sa, zl_saI, zl_saL, zl_saD, zl_saR, zl_ck, zl_ok, zl_ok0, zl_csS, zl_csS0, zl_csk, zl_tk, zl_csA, zl_isS0, zl_c, zl_cv, zl_cx, zl_sp, zl_rv, zl_rvk, zl_rvk2, zl_div, zl_rem, zl_ath, zl_clnk, zl_clnk0, zl_cat, zl_catn, zl_l0, zl_ls, zl_s0, zl_ss, List.length_cons, List.length_nil, Nat.reduceLT, Nat.zero_add, Nat.lt_add_one, reduceCtorEq, zi_le, zi_lt, zi_eq, if_pos, if_neg, if_true, if_false, Bool.true_eq_false, Bool.false_eq_true, eq_self, Bool.not_true, Bool.not_false, Int.toNat_natCast, Nat.reduceAdd, Int.reduceAdd, Int.reduceSub, Int.reduceMul, Int.reduceNeg, Int.reduceToNat, zl_aa, ht.ck, sp_iHas (E := E) hl' ht (by rw [hls.1]; omega), h1, hn, zl_cst _ _ _ hcast, hk2]
        unfold s_X23_isPositive
        simp (disch := omega) only [zi_lit, zi_neg, zi_add, zi_sub, zi_mul, zi_div, zi_char, zb_eq0, zb_eq1, zb_le0, zb_or, zb_and, zb_or1, zb_or0, zb_1or, zb_0or, zb_and1, zb_and0, zb_1and, zb_0and, zb_nar, zi_nar0, zi_nar1, zl_ite, zl_ret, zl_retb, zl_retb1, zl_retb0, zl_retc, zl_ki, zl_kr, zl_kr0, zl_krf, zl_kl, zl_kf, zl_kd, zl_kv, zl_rf, zl_rf0, zl_valI, zl_valP, zl_valL, zl_get, zl_getI, zl_getR, zl_get0, zl_getr, zl_fk, zl_set, zl_setk, zl_setNb, zl_setN1, zl_setN0, zl_up1, zl_up2, zl_new, zl_newA, zl_len, zl_lenk, zl_ga, zl_gaI, zl_gaL, zl_gaD, zl_gaR, zl_sa, zl_saI, zl_saL, zl_saD, zl_saR, zl_ck, zl_ok, zl_ok0, zl_csS, zl_csS0, zl_csk, zl_tk, zl_csA, zl_isS0, zl_c, zl_cv, zl_cx, zl_sp, zl_rv, zl_rvk, zl_rvk2, zl_div, zl_rem, zl_ath, zl_clnk, zl_clnk0, zl_cat, zl_catn, zl_l0, zl_ls, zl_s0, zl_ss, List.length_cons, List.length_nil, Nat.reduceLT, Nat.zero_add, Nat.lt_add_one, reduceCtorEq, zi_le, zi_lt, zi_eq, if_pos, if_neg, if_true, if_false, Bool.true_eq_false, Bool.false_eq_true, eq_self, Bool.not_true, Bool.not_false, Int.toNat_natCast, Nat.reduceAdd, Int.reduceAdd, Int.reduceSub, Int.reduceMul, Int.reduceNeg, Int.reduceToNat, zl_aa, ha3, hk2, hne]
        exact h7
    · rw [if_neg hc] at hk2
      have ha := hlit2.2.2.2.2 (by omega)
      have hz : decide (L.1 = 0) = false := by simp; omega
      cases hp : pos
      · obtain ⟨f', h7, h8⟩ := key (lV L) (fun j => by rw [hz, hp]; simp)
        refine ⟨f', ?_, h8⟩
        rw [s_X26_masks_9]
        rw [hp] at h7
        simp (disch := omega) only [zi_lit, zi_neg, zi_add, zi_sub, zi_mul, zi_div, zi_char, zb_eq0, zb_eq1, zb_le0, zb_or, zb_and, zb_or1, zb_or0, zb_1or, zb_0or, zb_and1, zb_and0, zb_1and, zb_0and, zb_nar, zi_nar0, zi_nar1, zl_ite, zl_ret, zl_retb, zl_retb1, zl_retb0, zl_retc, zl_ki, zl_kr, zl_kr0, zl_krf, zl_kl, zl_kf, zl_kd, zl_kv, zl_rf, zl_rf0, zl_valI, zl_valP, zl_valL, zl_get, zl_getI, zl_getR, zl_get0, zl_getr, zl_fk, zl_set, zl_setk, zl_setNb, zl_setN1, zl_setN0, zl_up1, zl_up2, zl_new, zl_newA, zl_len, zl_lenk, zl_ga, zl_gaI, zl_gaL, zl_gaD, zl_gaR, zl_sa, zl_saI, zl_saL, zl_saD, zl_saR, zl_ck, zl_ok, zl_ok0, zl_csS, zl_csS0, zl_csk, zl_tk, zl_csA, zl_isS0, zl_c, zl_cv, zl_cx, zl_sp, zl_rv, zl_rvk, zl_rvk2, zl_div, zl_rem, zl_ath, zl_clnk, zl_clnk0, zl_cat, zl_catn, zl_l0, zl_ls, zl_s0, zl_ss, List.length_cons, List.length_nil, Nat.reduceLT, Nat.zero_add, Nat.lt_add_one, reduceCtorEq, zi_le, zi_lt, zi_eq, if_pos, if_neg, if_true, if_false, Bool.true_eq_false, Bool.false_eq_true, eq_self, Bool.not_true, Bool.not_false, Int.toNat_natCast, Nat.reduceAdd, Int.reduceAdd, Int.reduceSub, Int.reduceMul, Int.reduceNeg, Int.reduceToNat, zl_aa, ht.ck, sp_iHas (E := E) hl' ht (by rw [hls.1]; omega), h1, hn, zl_cst _ _ _ hcast, hk2]
        unfold s_X26_isPositive s_X24_mask
        simp (disch := omega) only [zi_lit, zi_neg, zi_add, zi_sub, zi_mul, zi_div, zi_char, zb_eq0, zb_eq1, zb_le0, zb_or, zb_and, zb_or1, zb_or0, zb_1or, zb_0or, zb_and1, zb_and0, zb_1and, zb_0and, zb_nar, zi_nar0, zi_nar1, zl_ite, zl_ret, zl_retb, zl_retb1, zl_retb0, zl_retc, zl_ki, zl_kr, zl_kr0, zl_krf, zl_kl, zl_kf, zl_kd, zl_kv, zl_rf, zl_rf0, zl_valI, zl_valP, zl_valL, zl_get, zl_getI, zl_getR, zl_get0, zl_getr, zl_fk, zl_set, zl_setk, zl_setNb, zl_setN1, zl_setN0, zl_up1, zl_up2, zl_new, zl_newA, zl_len, zl_lenk, zl_ga, zl_gaI, zl_gaL, zl_gaD, zl_gaR, zl_sa, zl_saI, zl_saL, zl_saD, zl_saR, zl_ck, zl_ok, zl_ok0, zl_csS, zl_csS0, zl_csk, zl_tk, zl_csA, zl_isS0, zl_c, zl_cv, zl_cx, zl_sp, zl_rv, zl_rvk, zl_rvk2, zl_div, zl_rem, zl_ath, zl_clnk, zl_clnk0, zl_cat, zl_catn, zl_l0, zl_ls, zl_s0, zl_ss, List.length_cons, List.length_nil, Nat.reduceLT, Nat.zero_add, Nat.lt_add_one, reduceCtorEq, zi_le, zi_lt, zi_eq, if_pos, if_neg, if_true, if_false, Bool.true_eq_false, Bool.false_eq_true, eq_self, Bool.not_true, Bool.not_false, Int.toNat_natCast, Nat.reduceAdd, Int.reduceAdd, Int.reduceSub, Int.reduceMul, Int.reduceNeg, Int.reduceToNat, zl_aa, ha, hk2, sp_maskV, vm_or]
        have : vm (lV L) = vm (fun i => tV L.2.2.1 i || tV L.2.2.2 i) := by unfold lV; rw [if_neg hc]; rfl
        rw [← this, h7]
      · obtain ⟨f', h7, h8⟩ := key (fun _ => false) (fun j => by rw [hz, hp]; simp)
        refine ⟨f', ?_, h8⟩
        rw [s_X26_masks_9]
        rw [hp] at h7
        simp (disch := omega) only [zi_lit, zi_neg, zi_add, zi_sub, zi_mul, zi_div, zi_char, zb_eq0, zb_eq1, zb_le0, zb_or, zb_and, zb_or1, zb_or0, zb_1or, zb_0or, zb_and1, zb_and0, zb_1and, zb_0and, zb_nar, zi_nar0, zi_nar1, zl_ite, zl_ret, zl_retb, zl_retb1, zl_retb0, zl_retc, zl_ki, zl_kr, zl_kr0, zl_krf, zl_kl, zl_kf, zl_kd, zl_kv, zl_rf, zl_rf0, zl_valI, zl_valP, zl_valL, zl_get, zl_getI, zl_getR, zl_get0, zl_getr, zl_fk, zl_set, zl_setk, zl_setNb, zl_setN1, zl_setN0, zl_up1, zl_up2, zl_new, zl_newA, zl_len, zl_lenk, zl_ga, zl_gaI, zl_gaL, zl_gaD, zl_gaR, zl_sa, zl_saI, zl_saL, zl_saD, zl_saR, zl_ck, zl_ok, zl_ok0, zl_csS, zl_csS0, zl_csk, zl_tk, zl_csA, zl_isS0, zl_c, zl_cv, zl_cx, zl_sp, zl_rv, zl_rvk, zl_rvk2, zl_div, zl_rem, zl_ath, zl_clnk, zl_clnk0, zl_cat, zl_catn, zl_l0, zl_ls, zl_s0, zl_ss, List.length_cons, List.length_nil, Nat.reduceLT, Nat.zero_add, Nat.lt_add_one, reduceCtorEq, zi_le, zi_lt, zi_eq, if_pos, if_neg, if_true, if_false, Bool.true_eq_false, Bool.false_eq_true, eq_self, Bool.not_true, Bool.not_false, Int.toNat_natCast, Nat.reduceAdd, Int.reduceAdd, Int.reduceSub, Int.reduceMul, Int.reduceNeg, Int.reduceToNat, zl_aa, ht.ck, sp_iHas (E := E) hl' ht (by rw [hls.1]; omega), h1, hn, zl_cst _ _ _ hcast, hk2]
        unfold s_X26_isPositive
        have hne : (zb false = zb true) = False := by simp [zb]
        simp (disch := omega) only [zi_lit, zi_neg, zi_add, zi_sub, zi_mul, zi_div, zi_char, zb_eq0, zb_eq1, zb_le0, zb_or, zb_and, zb_or1, zb_or0, zb_1or, zb_0or, zb_and1, zb_and0, zb_1and, zb_0and, zb_nar, zi_nar0, zi_nar1, zl_ite, zl_ret, zl_retb, zl_retb1, zl_retb0, zl_retc, zl_ki, zl_kr, zl_kr0, zl_krf, zl_kl, zl_kf, zl_kd, zl_kv, zl_rf, zl_rf0, zl_valI, zl_valP, zl_valL, zl_get, zl_getI, zl_getR, zl_get0, zl_getr, zl_fk, zl_set, zl_setk, zl_setNb, zl_setN1, zl_setN0, zl_up1, zl_up2, zl_new, zl_newA, zl_len, zl_lenk, zl_ga, zl_gaI, zl_gaL, zl_gaD, zl_gaR, zl_sa, zl_saI, zl_saL, zl_saD, zl_saR, zl_ck, zl_ok, zl_ok0, zl_csS, zl_csS0, zl_csk, zl_tk, zl_csA, zl_isS0, zl_c, zl_cv, zl_cx, zl_sp, zl_rv, zl_rvk, zl_rvk2, zl_div, zl_rem, zl_ath, zl_clnk, zl_clnk0, zl_cat, zl_catn, zl_l0, zl_ls, zl_s0, zl_ss, List.length_cons, List.length_nil, Nat.reduceLT, Nat.zero_add, Nat.lt_add_one, reduceCtorEq, zi_le, zi_lt, zi_eq, if_pos, if_neg, if_true, if_false, Bool.true_eq_false, Bool.false_eq_true, eq_self, Bool.not_true, Bool.not_false, Int.toNat_natCast, Nat.reduceAdd, Int.reduceAdd, Int.reduceSub, Int.reduceMul, Int.reduceNeg, Int.reduceToNat, zl_aa, hk2, hne]
        exact h7
theorem sp_masks {E : zE} {f : Nat → Option zO} {lo hi b : Nat} {bs : List Nat} {ls : List zLit} (hl : rListB E f lo hi b bs) (hls : rLits f lo hi bs ls) {n : Nat} (hE : E 0 ≤ n) (hn : hi ≤ n) (h5 : E 5 < E 0) (pos : Bool) (m : Nat) : ∃ f', s_X26_masks E (some b) (zb pos) (n, m, f) = some (.inl (some (.int (zi (vm (lsV pos ls))))), (n + 1, m + 4, f')) ∧ zX n f f' := by
  have hk := hl.ck
  obtain ⟨h1, h2, ar, cap, md, h3, h4, h6⟩ := hl
  have hb : b ≠ n := by omega
  have ha : ar ≠ n := by omega
  have hit := sp_lIter h3 hE (by omega) m
  generalize hf1 : zUp f n (.inr (11, [.int (zi 0), .int (zi (-1)), .int (zi md), .ref b])) = f1 at hit
  have hf1' : ∀ q, q ≠ n → f1 q = f q := fun q hq => by rw [← hf1, zl_up2 hq]
  obtain ⟨f', h7, h8⟩ := sp_masks_l (E := E) (h3.mv (hf1' b hb) (hf1' ar ha)) (hls.mv fun q hq hq' => hf1' q (by omega)) hE hb ha hn pos (n + 1) (m + 4) ls.length 0 zN (fun _ => false) f1 (by omega) (by
    have := h3.2.2
    rw [← hls.1]; unfold zN; omega) (fun _ _ => rfl) ⟨zi (-1), by rw [← hf1, zl_up1 rfl]; rfl⟩
  refine ⟨f', ?_, fun q hq => (h8 q (by omega)).trans (hf1' q (by omega))⟩
  unfold s_X26_masks
  rw [show vm (fun _ => false) = 0 from rfl] at h7
  simp (disch := omega) only [zi_lit, zi_neg, zi_add, zi_sub, zi_mul, zi_div, zi_char, zb_eq0, zb_eq1, zb_le0, zb_or, zb_and, zb_or1, zb_or0, zb_1or, zb_0or, zb_and1, zb_and0, zb_1and, zb_0and, zb_nar, zi_nar0, zi_nar1, zl_ite, zl_ret, zl_retb, zl_retb1, zl_retb0, zl_retc, zl_ki, zl_kr, zl_kr0, zl_krf, zl_kl, zl_kf, zl_kd, zl_kv, zl_rf, zl_rf0, zl_valI, zl_valP, zl_valL, zl_get, zl_getI, zl_getR, zl_get0, zl_getr, zl_fk, zl_set, zl_setk, zl_setNb, zl_setN1, zl_setN0, zl_up1, zl_up2, zl_new, zl_newA, zl_len, zl_lenk, zl_ga, zl_gaI, zl_gaL, zl_gaD, zl_gaR, zl_sa, zl_saI, zl_saL, zl_saD, zl_saR, zl_ck, zl_ok, zl_ok0, zl_csS, zl_csS0, zl_csk, zl_tk, zl_csA, zl_isS0, zl_c, zl_cv, zl_cx, zl_sp, zl_rv, zl_rvk, zl_rvk2, zl_div, zl_rem, zl_ath, zl_clnk, zl_clnk0, zl_cat, zl_catn, zl_l0, zl_ls, zl_s0, zl_ss, List.length_cons, List.length_nil, Nat.reduceLT, Nat.zero_add, Nat.lt_add_one, reduceCtorEq, zi_le, zi_lt, zi_eq, if_pos, if_neg, if_true, if_false, Bool.true_eq_false, Bool.false_eq_true, eq_self, Bool.not_true, Bool.not_false, Int.toNat_natCast, Nat.reduceAdd, Int.reduceAdd, Int.reduceSub, Int.reduceMul, Int.reduceNeg, Int.reduceToNat, zl_aa, hk, hit]
  rw [h7]
  simp only [Bool.false_or, List.drop_zero]
