set_option maxRecDepth 20000
/-! ===== plain law: atoms, literals ===== -/
/-- a term's value: a constant, or a variable's value -/
def tv (s : Nat → Int) (t : Nat) : Int := if t < 10 then t else s (t - 10)
/-- three values in an int[3] -/
def rVals (f : Nat → Option zO) (v : Nat) (s : Nat → Int) : Prop := ∃ w : Nat → Int32, f v = some (.inl (0, 3, .inl w)) ∧ ∀ i, i < 3 → w i = zi (s i)
theorem rVals.mv {f f' : Nat → Option zO} {v : Nat} {s : Nat → Int} (h : rVals f v s) (h1 : f' v = f v) : rVals f' v s := by
  unfold rVals at *; rw [h1]; exact h
theorem sp_valueOf {E : zE} {f : Nat → Option zO} {v : Nat} {s : Nat → Int} (h : rVals f v s) {t : Nat} (ht : t < 13) (n m : Nat) : s_X1_valueOf E (zi t) (some v) (n, m, f) = some (.inl (some (.int (zi (tv s t)))), (n, m, f)) := by
  obtain ⟨w, h1, h2⟩ := h
  unfold s_X1_valueOf tv
  by_cases h3 : t < 10
  · simp (disch := omega) only [zi_lit, zi_neg, zi_add, zi_sub, zi_mul, zi_div, zi_char, zb_eq0, zb_eq1, zb_le0, zb_or, zb_and, zb_or1, zb_or0, zb_1or, zb_0or, zb_and1, zb_and0, zb_1and, zb_0and, zb_nar, zi_nar0, zi_nar1, zl_ite, zl_ret, zl_retb, zl_retb1, zl_retb0, zl_retc, zl_ki, zl_kr, zl_kr0, zl_krf, zl_kl, zl_kf, zl_kd, zl_kv, zl_rf, zl_rf0, zl_valI, zl_valP, zl_valL, zl_get, zl_getI, zl_getR, zl_get0, zl_getr, zl_fk, zl_set, zl_setk, zl_setNb, zl_setN1, zl_setN0, zl_up1, zl_up2, zl_new, zl_newA, zl_len, zl_lenk, zl_ga, zl_gaI, zl_gaL, zl_gaD, zl_gaR, zl_sa, zl_saI, zl_saL, zl_saD, zl_saR, zl_ck, zl_ok, zl_ok0, zl_csS, zl_csS0, zl_csk, zl_tk, zl_csA, zl_isS0, zl_c, zl_cv, zl_cx, zl_sp, zl_rv, zl_rvk, zl_rvk2, zl_div, zl_rem, zl_ath, zl_clnk, zl_clnk0, zl_cat, zl_catn, zl_l0, zl_ls, zl_s0, zl_ss, List.length_cons, List.length_nil, Nat.reduceLT, Nat.zero_add, Nat.lt_add_one, reduceCtorEq, zi_le, zi_lt, zi_eq, if_pos, if_neg, if_true, if_false, Bool.true_eq_false, Bool.false_eq_true, eq_self, Bool.not_true, Bool.not_false, Int.toNat_natCast, Nat.reduceAdd, Int.reduceAdd, Int.reduceSub, Int.reduceMul, Int.reduceNeg, Int.reduceToNat, zl_aa, h3]
  · have e : ((t : Int) - 10).toNat = t - 10 := by omega
    simp (disch := omega) only [zi_lit, zi_neg, zi_add, zi_sub, zi_mul, zi_div, zi_char, zb_eq0, zb_eq1, zb_le0, zb_or, zb_and, zb_or1, zb_or0, zb_1or, zb_0or, zb_and1, zb_and0, zb_1and, zb_0and, zb_nar, zi_nar0, zi_nar1, zl_ite, zl_ret, zl_retb, zl_retb1, zl_retb0, zl_retc, zl_ki, zl_kr, zl_kr0, zl_krf, zl_kl, zl_kf, zl_kd, zl_kv, zl_rf, zl_rf0, zl_valI, zl_valP, zl_valL, zl_get, zl_getI, zl_getR, zl_get0, zl_getr, zl_fk, zl_set, zl_setk, zl_setNb, zl_setN1, zl_setN0, zl_up1, zl_up2, zl_new, zl_newA, zl_len, zl_lenk, zl_ga, zl_gaI, zl_gaL, zl_gaD, zl_gaR, zl_sa, zl_saI, zl_saL, zl_saD, zl_saR, zl_ck, zl_ok, zl_ok0, zl_csS, zl_csS0, zl_csk, zl_tk, zl_csA, zl_isS0, zl_c, zl_cv, zl_cx, zl_sp, zl_rv, zl_rvk, zl_rvk2, zl_div, zl_rem, zl_ath, zl_clnk, zl_clnk0, zl_cat, zl_catn, zl_l0, zl_ls, zl_s0, zl_ss, List.length_cons, List.length_nil, Nat.reduceLT, Nat.zero_add, Nat.lt_add_one, reduceCtorEq, zi_le, zi_lt, zi_eq, if_pos, if_neg, if_true, if_false, Bool.true_eq_false, Bool.false_eq_true, eq_self, Bool.not_true, Bool.not_false, Int.toNat_natCast, Nat.reduceAdd, Int.reduceAdd, Int.reduceSub, Int.reduceMul, Int.reduceNeg, Int.reduceToNat, zl_aa, h1, e, h2 (t - 10) (by omega), h3]
abbrev zAtom : Type := Nat × Nat × Nat
def okAtom (A : zAtom) : Prop := A.1 < 8 ∧ A.2.1 < 13 ∧ A.2.2 < 13
/-- the second term of an atom as it is kept -/
def a2 (A : zAtom) : Int := if A.1 < 4 then A.2.2 else -1
def rAtom (f : Nat → Option zO) (b : Nat) (A : zAtom) : Prop := f b = some (.inr (37, [.int (zi A.1), .int (zi A.2.1), .int (zi (a2 A))])) ∧ okAtom A
theorem rAtom.ck {f : Nat → Option zO} {b : Nat} {A : zAtom} (h : rAtom f b A) : zCk (f b) = some 37 := by rw [h.1]; rfl
theorem rAtom.mv {f f' : Nat → Option zO} {b : Nat} {A : zAtom} (h : rAtom f b A) (h1 : f' b = f b) : rAtom f' b A := ⟨h1.trans h.1, h.2⟩
/-- the code of an atom under values -/
def ac (s : Nat → Int) (A : zAtom) : Int := cd A.1 (tv s A.2.1) (tv s A.2.2)
theorem sp_isPairN (E : zE) {p : Nat} (hp : p < 8) (h : zH) : s_X1_isPair E (zi p) h = some (.inl (some (.int (zb (decide (p < 4))))), h) := by
  rw [sp_isPair E (by omega)]
  have : decide ((p : Int) < 4) = decide (p < 4) := by simp; omega
  rw [this]
theorem sp_aCode {E : zE} {f : Nat → Option zO} {b v : Nat} {A : zAtom} {s : Nat → Int} (hb : rAtom f b A) (hv : rVals f v s) (n m : Nat) : s_X9_code E (some b) (some v) (n, m, f) = some (.inl (some (.int (zi (ac s A)))), (n, m, f)) := by
  obtain ⟨h1, h2, h3, h4⟩ := hb
  unfold s_X9_code s_X9_code_34 ac a2 at *
  by_cases hp : A.1 < 4
  · have hd : decide (A.1 < 4) = true := by simp [hp]
    rw [if_pos hp] at h1
    simp (disch := omega) only [zi_lit, zi_neg, zi_add, zi_sub, zi_mul, zi_div, zi_char, zb_eq0, zb_eq1, zb_le0, zb_or, zb_and, zb_or1, zb_or0, zb_1or, zb_0or, zb_and1, zb_and0, zb_1and, zb_0and, zb_nar, zi_nar0, zi_nar1, zl_ite, zl_ret, zl_retb, zl_retb1, zl_retb0, zl_retc, zl_ki, zl_kr, zl_kr0, zl_krf, zl_kl, zl_kf, zl_kd, zl_kv, zl_rf, zl_rf0, zl_valI, zl_valP, zl_valL, zl_get, zl_getI, zl_getR, zl_get0, zl_getr, zl_fk, zl_set, zl_setk, zl_setNb, zl_setN1, zl_setN0, zl_up1, zl_up2, zl_new, zl_newA, zl_len, zl_lenk, zl_ga, zl_gaI, zl_gaL, zl_gaD, zl_gaR, zl_sa, zl_saI, zl_saL, zl_saD, zl_saR, zl_ck, zl_ok, zl_ok0, zl_csS, zl_csS0, zl_csk, zl_tk, zl_csA, zl_isS0, zl_c, zl_cv, zl_cx, zl_sp, zl_rv, zl_rvk, zl_rvk2, zl_div, zl_rem, zl_ath, zl_clnk, zl_clnk0, zl_cat, zl_catn, zl_l0, zl_ls, zl_s0, zl_ss, List.length_cons, List.length_nil, Nat.reduceLT, Nat.zero_add, Nat.lt_add_one, reduceCtorEq, zi_le, zi_lt, zi_eq, if_pos, if_neg, if_true, if_false, Bool.true_eq_false, Bool.false_eq_true, eq_self, Bool.not_true, Bool.not_false, Int.toNat_natCast, Nat.reduceAdd, Int.reduceAdd, Int.reduceSub, Int.reduceMul, Int.reduceNeg, Int.reduceToNat, zl_aa, h1, sp_valueOf (E := E) hv, sp_isPairN, sp_codeOf, hd]
  · have hd : decide (A.1 < 4) = false := by simp [hp]
    rw [if_neg hp] at h1
    simp (disch := omega) only [zi_lit, zi_neg, zi_add, zi_sub, zi_mul, zi_div, zi_char, zb_eq0, zb_eq1, zb_le0, zb_or, zb_and, zb_or1, zb_or0, zb_1or, zb_0or, zb_and1, zb_and0, zb_1and, zb_0and, zb_nar, zi_nar0, zi_nar1, zl_ite, zl_ret, zl_retb, zl_retb1, zl_retb0, zl_retc, zl_ki, zl_kr, zl_kr0, zl_krf, zl_kl, zl_kf, zl_kd, zl_kv, zl_rf, zl_rf0, zl_valI, zl_valP, zl_valL, zl_get, zl_getI, zl_getR, zl_get0, zl_getr, zl_fk, zl_set, zl_setk, zl_setNb, zl_setN1, zl_setN0, zl_up1, zl_up2, zl_new, zl_newA, zl_len, zl_lenk, zl_ga, zl_gaI, zl_gaL, zl_gaD, zl_gaR, zl_sa, zl_saI, zl_saL, zl_saD, zl_saR, zl_ck, zl_ok, zl_ok0, zl_csS, zl_csS0, zl_csk, zl_tk, zl_csA, zl_isS0, zl_c, zl_cv, zl_cx, zl_sp, zl_rv, zl_rvk, zl_rvk2, zl_div, zl_rem, zl_ath, zl_clnk, zl_clnk0, zl_cat, zl_catn, zl_l0, zl_ls, zl_s0, zl_ss, List.length_cons, List.length_nil, Nat.reduceLT, Nat.zero_add, Nat.lt_add_one, reduceCtorEq, zi_le, zi_lt, zi_eq, if_pos, if_neg, if_true, if_false, Bool.true_eq_false, Bool.false_eq_true, eq_self, Bool.not_true, Bool.not_false, Int.toNat_natCast, Nat.reduceAdd, Int.reduceAdd, Int.reduceSub, Int.reduceMul, Int.reduceNeg, Int.reduceToNat, zl_aa, h1, sp_valueOf (E := E) hv, sp_isPairN, sp_codeOf, hd]
    unfold cd
    rw [if_neg (by omega), if_neg (by omega)]
theorem sp_maskOf (E : zE) {t : Nat} (ht : t < 13) (h : zH) : s_X1_maskOf E (zi t) h = some (.inl (some (.int (zi (if t < 10 then 0 else 2 ^ (t - 10) : Nat)))), h) := by
  unfold s_X1_maskOf
  by_cases h3 : t < 10
  · simp (disch := omega) only [zi_lit, zi_neg, zi_add, zi_sub, zi_mul, zi_div, zi_char, zb_eq0, zb_eq1, zb_le0, zb_or, zb_and, zb_or1, zb_or0, zb_1or, zb_0or, zb_and1, zb_and0, zb_1and, zb_0and, zb_nar, zi_nar0, zi_nar1, zl_ite, zl_ret, zl_retb, zl_retb1, zl_retb0, zl_retc, zl_ki, zl_kr, zl_kr0, zl_krf, zl_kl, zl_kf, zl_kd, zl_kv, zl_rf, zl_rf0, zl_valI, zl_valP, zl_valL, zl_get, zl_getI, zl_getR, zl_get0, zl_getr, zl_fk, zl_set, zl_setk, zl_setNb, zl_setN1, zl_setN0, zl_up1, zl_up2, zl_new, zl_newA, zl_len, zl_lenk, zl_ga, zl_gaI, zl_gaL, zl_gaD, zl_gaR, zl_sa, zl_saI, zl_saL, zl_saD, zl_saR, zl_ck, zl_ok, zl_ok0, zl_csS, zl_csS0, zl_csk, zl_tk, zl_csA, zl_isS0, zl_c, zl_cv, zl_cx, zl_sp, zl_rv, zl_rvk, zl_rvk2, zl_div, zl_rem, zl_ath, zl_clnk, zl_clnk0, zl_cat, zl_catn, zl_l0, zl_ls, zl_s0, zl_ss, List.length_cons, List.length_nil, Nat.reduceLT, Nat.zero_add, Nat.lt_add_one, reduceCtorEq, zi_le, zi_lt, zi_eq, if_pos, if_neg, if_true, if_false, Bool.true_eq_false, Bool.false_eq_true, eq_self, Bool.not_true, Bool.not_false, Int.toNat_natCast, Nat.reduceAdd, Int.reduceAdd, Int.reduceSub, Int.reduceMul, Int.reduceNeg, Int.reduceToNat, zl_aa, h3]
    rfl
  · simp (disch := omega) only [zi_lit, zi_neg, zi_add, zi_sub, zi_mul, zi_div, zi_char, zb_eq0, zb_eq1, zb_le0, zb_or, zb_and, zb_or1, zb_or0, zb_1or, zb_0or, zb_and1, zb_and0, zb_1and, zb_0and, zb_nar, zi_nar0, zi_nar1, zl_ite, zl_ret, zl_retb, zl_retb1, zl_retb0, zl_retc, zl_ki, zl_kr, zl_kr0, zl_krf, zl_kl, zl_kf, zl_kd, zl_kv, zl_rf, zl_rf0, zl_valI, zl_valP, zl_valL, zl_get, zl_getI, zl_getR, zl_get0, zl_getr, zl_fk, zl_set, zl_setk, zl_setNb, zl_setN1, zl_setN0, zl_up1, zl_up2, zl_new, zl_newA, zl_len, zl_lenk, zl_ga, zl_gaI, zl_gaL, zl_gaD, zl_gaR, zl_sa, zl_saI, zl_saL, zl_saD, zl_saR, zl_ck, zl_ok, zl_ok0, zl_csS, zl_csS0, zl_csk, zl_tk, zl_csA, zl_isS0, zl_c, zl_cv, zl_cx, zl_sp, zl_rv, zl_rvk, zl_rvk2, zl_div, zl_rem, zl_ath, zl_clnk, zl_clnk0, zl_cat, zl_catn, zl_l0, zl_ls, zl_s0, zl_ss, List.length_cons, List.length_nil, Nat.reduceLT, Nat.zero_add, Nat.lt_add_one, reduceCtorEq, zi_le, zi_lt, zi_eq, if_pos, if_neg, if_true, if_false, Bool.true_eq_false, Bool.false_eq_true, eq_self, Bool.not_true, Bool.not_false, Int.toNat_natCast, Nat.reduceAdd, Int.reduceAdd, Int.reduceSub, Int.reduceMul, Int.reduceNeg, Int.reduceToNat, zl_aa, h3]
    have : t = 10 ∨ t = 11 ∨ t = 12 := by omega
    rcases this with rfl | rfl | rfl <;> rfl
/-- a set of variables in an int: bit i is variable i -/
def vm3 (a b c : Bool) : Int := (if a then 1 else 0) + (if b then 2 else 0) + (if c then 4 else 0)
theorem vm3_or : ∀ a b c x y z : Bool, zi (vm3 a b c) ||| zi (vm3 x y z) = zi (vm3 (a || x) (b || y) (c || z)) := by decide +kernel
theorem vm3_an : ∀ a b c x y z : Bool, zi (vm3 a b c) &&& (zi (vm3 x y z) ^^^ zi (-1)) = zi (vm3 (a && !x) (b && !y) (c && !z)) := by decide +kernel
theorem vm3_bit : ∀ a b c : Bool, (((zi (vm3 a b c) >>> (zi 0 &&& zi 31)) &&& zi 1 = zi 1) ↔ (a = true)) ∧ (((zi (vm3 a b c) >>> (zi 1 &&& zi 31)) &&& zi 1 = zi 1) ↔ (b = true)) ∧ (((zi (vm3 a b c) >>> (zi 2 &&& zi 31)) &&& zi 1 = zi 1) ↔ (c = true)) := by decide +kernel
def vm (V : Nat → Bool) : Int := vm3 (V 0) (V 1) (V 2)
theorem vm_or (V W : Nat → Bool) : zi (vm V) ||| zi (vm W) = zi (vm fun i => V i || W i) := vm3_or _ _ _ _ _ _
theorem vm_andn (V W : Nat → Bool) : zi (vm V) &&& (zi (vm W) ^^^ zi (-1)) = zi (vm fun i => V i && !W i) := vm3_an _ _ _ _ _ _
theorem vm_bit (V : Nat → Bool) {i : Nat} (hi : i < 3) : ((zi (vm V) >>> (zi i &&& zi 31)) &&& zi 1 = zi 1) = (V i = true) := by
  have h := vm3_bit (V 0) (V 1) (V 2)
  have : i = 0 ∨ i = 1 ∨ i = 2 := by omega
  rcases this with rfl | rfl | rfl
  · exact propext h.1
  · exact propext h.2.1
  · exact propext h.2.2
def tV (t : Nat) : Nat → Bool := fun i => decide (t = 10 + i)
theorem vm_t {t : Nat} (ht : t < 13) : zi (if t < 10 then 0 else 2 ^ (t - 10) : Nat) = zi (vm (tV t)) := by
  have h1 : ∀ t : Fin 13, zi (if t.val < 10 then 0 else 2 ^ (t.val - 10) : Nat) = zi (vm (tV t.val)) := by decide +kernel
  exact h1 ⟨t, ht⟩
theorem sp_maskV (E : zE) {t : Nat} (ht : t < 13) (h : zH) : s_X1_maskOf E (zi t) h = some (.inl (some (.int (zi (vm (tV t))))), h) := by rw [sp_maskOf E ht, vm_t ht]
/-- the variables of an atom -/
def aV (A : zAtom) : Nat → Bool := fun i => decide (A.2.1 = 10 + i) || (decide (A.1 < 4) && decide (A.2.2 = 10 + i))
theorem sp_aMask {E : zE} {f : Nat → Option zO} {b : Nat} {A : zAtom} (hb : rAtom f b A) (n m : Nat) : s_X9_mask E (some b) (n, m, f) = some (.inl (some (.int (zi (vm (aV A))))), (n, m, f)) := by
  obtain ⟨h1, h2, h3, h4⟩ := hb
  unfold s_X9_mask s_X9_mask_28 aV a2 at *
  by_cases hp : A.1 < 4
  · have hd : decide (A.1 < 4) = true := by simp [hp]
    rw [if_pos hp] at h1
    simp (disch := omega) only [zi_lit, zi_neg, zi_add, zi_sub, zi_mul, zi_div, zi_char, zb_eq0, zb_eq1, zb_le0, zb_or, zb_and, zb_or1, zb_or0, zb_1or, zb_0or, zb_and1, zb_and0, zb_1and, zb_0and, zb_nar, zi_nar0, zi_nar1, zl_ite, zl_ret, zl_retb, zl_retb1, zl_retb0, zl_retc, zl_ki, zl_kr, zl_kr0, zl_krf, zl_kl, zl_kf, zl_kd, zl_kv, zl_rf, zl_rf0, zl_valI, zl_valP, zl_valL, zl_get, zl_getI, zl_getR, zl_get0, zl_getr, zl_fk, zl_set, zl_setk, zl_setNb, zl_setN1, zl_setN0, zl_up1, zl_up2, zl_new, zl_newA, zl_len, zl_lenk, zl_ga, zl_gaI, zl_gaL, zl_gaD, zl_gaR, zl_sa, zl_saI, zl_saL, zl_saD, zl_saR, zl_ck, zl_ok, zl_ok0, zl_csS, zl_csS0, zl_csk, zl_tk, zl_csA, zl_isS0, zl_c, zl_cv, zl_cx, zl_sp, zl_rv, zl_rvk, zl_rvk2, zl_div, zl_rem, zl_ath, zl_clnk, zl_clnk0, zl_cat, zl_catn, zl_l0, zl_ls, zl_s0, zl_ss, List.length_cons, List.length_nil, Nat.reduceLT, Nat.zero_add, Nat.lt_add_one, reduceCtorEq, zi_le, zi_lt, zi_eq, if_pos, if_neg, if_true, if_false, Bool.true_eq_false, Bool.false_eq_true, eq_self, Bool.not_true, Bool.not_false, Int.toNat_natCast, Nat.reduceAdd, Int.reduceAdd, Int.reduceSub, Int.reduceMul, Int.reduceNeg, Int.reduceToNat, zl_aa, h1, sp_isPairN, sp_maskV, hd, vm_or]
    rfl
  · have hd : decide (A.1 < 4) = false := by simp [hp]
    rw [if_neg hp] at h1
    simp (disch := omega) only [zi_lit, zi_neg, zi_add, zi_sub, zi_mul, zi_div, zi_char, zb_eq0, zb_eq1, zb_le0, zb_or, zb_and, zb_or1, zb_or0, zb_1or, zb_0or, zb_and1, zb_and0, zb_1and, zb_0and, zb_nar, zi_nar0, zi_nar1, zl_ite, zl_ret, zl_retb, zl_retb1, zl_retb0, zl_retc, zl_ki, zl_kr, zl_kr0, zl_krf, zl_kl, zl_kf, zl_kd, zl_kv, zl_rf, zl_rf0, zl_valI, zl_valP, zl_valL, zl_get, zl_getI, zl_getR, zl_get0, zl_getr, zl_fk, zl_set, zl_setk, zl_setNb, zl_setN1, zl_setN0, zl_up1, zl_up2, zl_new, zl_newA, zl_len, zl_lenk, zl_ga, zl_gaI, zl_gaL, zl_gaD, zl_gaR, zl_sa, zl_saI, zl_saL, zl_saD, zl_saR, zl_ck, zl_ok, zl_ok0, zl_csS, zl_csS0, zl_csk, zl_tk, zl_csA, zl_isS0, zl_c, zl_cv, zl_cx, zl_sp, zl_rv, zl_rvk, zl_rvk2, zl_div, zl_rem, zl_ath, zl_clnk, zl_clnk0, zl_cat, zl_catn, zl_l0, zl_ls, zl_s0, zl_ss, List.length_cons, List.length_nil, Nat.reduceLT, Nat.zero_add, Nat.lt_add_one, reduceCtorEq, zi_le, zi_lt, zi_eq, if_pos, if_neg, if_true, if_false, Bool.true_eq_false, Bool.false_eq_true, eq_self, Bool.not_true, Bool.not_false, Int.toNat_natCast, Nat.reduceAdd, Int.reduceAdd, Int.reduceSub, Int.reduceMul, Int.reduceNeg, Int.reduceToNat, zl_aa, h1, sp_isPairN, sp_maskV, hd]
    rw [show zi 0 = zi (vm fun _ => false) from rfl, vm_or]
    simp only [Bool.or_false, Bool.false_and]
    rfl
abbrev zLit : Type := Nat × Nat × Nat × Nat
def okLit (L : zLit) : Prop := L.1 < 4 ∧ L.2.1 < 8 ∧ L.2.2.1 < 13 ∧ L.2.2.2 < 13
/-- a literal: kind 0 an atom, 1 a negated one, 2 less, 3 same -/
def rLit (f : Nat → Option zO) (lo hi b : Nat) (L : zLit) : Prop := lo ≤ b ∧ b < hi ∧ okLit L ∧ (L.1 < 2 → ∃ a, lo ≤ a ∧ a < hi ∧ f b = some (.inr (29, [.ref a, .int (zb (decide (L.1 = 0)))])) ∧ rAtom f a L.2) ∧ (2 ≤ L.1 → f b = some (.inr (30, [.int (zi L.2.2.1), .int (zi L.2.2.2), .int (zi (if L.1 = 2 then 60 else 61))])))
theorem rLit.mv {f f' : Nat → Option zO} {lo hi b : Nat} {L : zLit} (h : rLit f lo hi b L) (hf : ∀ q, lo ≤ q → q < hi → f' q = f q) : rLit f' lo hi b L := by
  obtain ⟨h1, h2, h3, h4, h5⟩ := h
  refine ⟨h1, h2, h3, fun hl => ?_, fun hl => (hf b h1 h2).trans (h5 hl)⟩
  obtain ⟨a, ha, hb, hc, hd⟩ := h4 hl
  exact ⟨a, ha, hb, (hf b h1 h2).trans hc, hd.mv (hf a ha hb)⟩
theorem rLit.ck {f : Nat → Option zO} {lo hi b : Nat} {L : zLit} (h : rLit f lo hi b L) : zCk (f b) = some (if L.1 < 2 then 29 else 30) := by
  obtain ⟨h1, h2, h3, h4, h5⟩ := h
  by_cases hl : L.1 < 2
  · obtain ⟨a, ha, hb, hc, hd⟩ := h4 hl
    rw [hc, if_pos hl]; rfl
  · rw [h5 (by omega), if_neg hl]; rfl
/-- whether a literal holds -/
def lv (F : Nat → Nat → Bool) (s : Nat → Int) (L : zLit) : Bool :=
  if L.1 = 0 then F L.2.1 (ac s L.2).toNat else if L.1 = 1 then !F L.2.1 (ac s L.2).toNat else if L.1 = 2 then decide (tv s L.2.2.1 < tv s L.2.2.2) else decide (tv s L.2.2.1 = tv s L.2.2.2)
/-- good values: constants -/
def okS (s : Nat → Int) : Prop := ∀ i, i < 3 → 0 ≤ s i ∧ s i ≤ 9
theorem tv_ok {s : Nat → Int} (h : okS s) {t : Nat} (ht : t < 13) : 0 ≤ tv s t ∧ tv s t ≤ 9 := by
  unfold tv; split
  · omega
  · exact h _ (by omega)
theorem ac_ok {s : Nat → Int} (h : okS s) {A : zAtom} (hA : okAtom A) : 0 ≤ ac s A ∧ ac s A < 100 := by
  have h1 := tv_ok h hA.2.1
  have h2 := tv_ok h hA.2.2
  unfold ac cd; split <;> omega
/-- the call of holds on a literal -/
theorem sp_lHolds {E : zE} {f : Nat → Option zO} {lo hi b v fb : Nat} {L : zLit} {s : Nat → Int} {F : Nat → Nat → Bool} (hb : rLit f lo hi b L) (hv : rVals f v s) (hs : okS s) (hF : rFacts f fb F) (n m : Nat) : zRv (some b) [(29, fun b => s_X23_holds E (some b) (some fb) (some v)), (30, fun b => s_X24_holds E (some b) (some fb) (some v))] (n, m, f) = some (.inl (some (.int (zb (lv F s L)))), (n, m, f)) := by
  have hk := hb.ck
  obtain ⟨-, -, ⟨k1, k2, k3, k4⟩, h4, h5⟩ := hb
  by_cases hl : L.1 < 2
  · rw [if_pos hl] at hk
    obtain ⟨a, -, -, h6, h7⟩ := h4 hl
    have h8 := ac_ok hs h7.2
    have h9 : zi (ac s L.2) = zi ((ac s L.2).toNat : Nat) := by rw [Int.toNat_of_nonneg h8.1]
    have hf := sp_fHas (E := E) hF k2 (c := (ac s L.2).toNat) (by omega) n m
    rw [← h9] at hf
    have h10 := h7.1
    unfold s_X23_holds lv
    simp (disch := omega) only [zi_lit, zi_neg, zi_add, zi_sub, zi_mul, zi_div, zi_char, zb_eq0, zb_eq1, zb_le0, zb_or, zb_and, zb_or1, zb_or0, zb_1or, zb_0or, zb_and1, zb_and0, zb_1and, zb_0and, zb_nar, zi_nar0, zi_nar1, zl_ite, zl_ret, zl_retb, zl_retb1, zl_retb0, zl_retc, zl_ki, zl_kr, zl_kr0, zl_krf, zl_kl, zl_kf, zl_kd, zl_kv, zl_rf, zl_rf0, zl_valI, zl_valP, zl_valL, zl_get, zl_getI, zl_getR, zl_get0, zl_getr, zl_fk, zl_set, zl_setk, zl_setNb, zl_setN1, zl_setN0, zl_up1, zl_up2, zl_new, zl_newA, zl_len, zl_lenk, zl_ga, zl_gaI, zl_gaL, zl_gaD, zl_gaR, zl_sa, zl_saI, zl_saL, zl_saD, zl_saR, zl_ck, zl_ok, zl_ok0, zl_csS, zl_csS0, zl_csk, zl_tk, zl_csA, zl_isS0, zl_c, zl_cv, zl_cx, zl_sp, zl_rv, zl_rvk, zl_rvk2, zl_div, zl_rem, zl_ath, zl_clnk, zl_clnk0, zl_cat, zl_catn, zl_l0, zl_ls, zl_s0, zl_ss, List.length_cons, List.length_nil, Nat.reduceLT, Nat.zero_add, Nat.lt_add_one, reduceCtorEq, zi_le, zi_lt, zi_eq, if_pos, if_neg, if_true, if_false, Bool.true_eq_false, Bool.false_eq_true, eq_self, Bool.not_true, Bool.not_false, Int.toNat_natCast, Nat.reduceAdd, Int.reduceAdd, Int.reduceSub, Int.reduceMul, Int.reduceNeg, Int.reduceToNat, zl_aa, hk, h6, h7.ck, h10, sp_aCode (E := E) h7 hv, hF.ck, hf]
    have hc : L.1 = 0 ∨ L.1 = 1 := by omega
    rcases hc with hc | hc
    · simp only [hc, decide_true, if_true]
      cases F L.2.1 (ac s L.2).toNat <;> rfl
    · simp only [hc, Nat.one_ne_zero, decide_false, if_false, if_true]
      cases F L.2.1 (ac s L.2).toNat <;> rfl
  · rw [if_neg hl] at hk
    have h6 := h5 (by omega)
    have t1 := tv_ok hs k3
    have t2 := tv_ok hs k4
    unfold s_X24_holds lv
    have hc : L.1 = 2 ∨ L.1 = 3 := by omega
    rcases hc with hc | hc
    · rw [if_pos hc] at h6
      by_cases h : tv s L.2.2.1 < tv s L.2.2.2
      · have hd : decide (tv s L.2.2.1 < tv s L.2.2.2) = true := by simp; omega
        simp (disch := omega) only [zi_lit, zi_neg, zi_add, zi_sub, zi_mul, zi_div, zi_char, zb_eq0, zb_eq1, zb_le0, zb_or, zb_and, zb_or1, zb_or0, zb_1or, zb_0or, zb_and1, zb_and0, zb_1and, zb_0and, zb_nar, zi_nar0, zi_nar1, zl_ite, zl_ret, zl_retb, zl_retb1, zl_retb0, zl_retc, zl_ki, zl_kr, zl_kr0, zl_krf, zl_kl, zl_kf, zl_kd, zl_kv, zl_rf, zl_rf0, zl_valI, zl_valP, zl_valL, zl_get, zl_getI, zl_getR, zl_get0, zl_getr, zl_fk, zl_set, zl_setk, zl_setNb, zl_setN1, zl_setN0, zl_up1, zl_up2, zl_new, zl_newA, zl_len, zl_lenk, zl_ga, zl_gaI, zl_gaL, zl_gaD, zl_gaR, zl_sa, zl_saI, zl_saL, zl_saD, zl_saR, zl_ck, zl_ok, zl_ok0, zl_csS, zl_csS0, zl_csk, zl_tk, zl_csA, zl_isS0, zl_c, zl_cv, zl_cx, zl_sp, zl_rv, zl_rvk, zl_rvk2, zl_div, zl_rem, zl_ath, zl_clnk, zl_clnk0, zl_cat, zl_catn, zl_l0, zl_ls, zl_s0, zl_ss, List.length_cons, List.length_nil, Nat.reduceLT, Nat.zero_add, Nat.lt_add_one, reduceCtorEq, zi_le, zi_lt, zi_eq, if_pos, if_neg, if_true, if_false, Bool.true_eq_false, Bool.false_eq_true, eq_self, Bool.not_true, Bool.not_false, Int.toNat_natCast, Nat.reduceAdd, Int.reduceAdd, Int.reduceSub, Int.reduceMul, Int.reduceNeg, Int.reduceToNat, zl_aa, hk, h6, sp_valueOf (E := E) hv, hc, hd]
      · have hd : decide (tv s L.2.2.1 < tv s L.2.2.2) = false := by simp; omega
        simp (disch := omega) only [zi_lit, zi_neg, zi_add, zi_sub, zi_mul, zi_div, zi_char, zb_eq0, zb_eq1, zb_le0, zb_or, zb_and, zb_or1, zb_or0, zb_1or, zb_0or, zb_and1, zb_and0, zb_1and, zb_0and, zb_nar, zi_nar0, zi_nar1, zl_ite, zl_ret, zl_retb, zl_retb1, zl_retb0, zl_retc, zl_ki, zl_kr, zl_kr0, zl_krf, zl_kl, zl_kf, zl_kd, zl_kv, zl_rf, zl_rf0, zl_valI, zl_valP, zl_valL, zl_get, zl_getI, zl_getR, zl_get0, zl_getr, zl_fk, zl_set, zl_setk, zl_setNb, zl_setN1, zl_setN0, zl_up1, zl_up2, zl_new, zl_newA, zl_len, zl_lenk, zl_ga, zl_gaI, zl_gaL, zl_gaD, zl_gaR, zl_sa, zl_saI, zl_saL, zl_saD, zl_saR, zl_ck, zl_ok, zl_ok0, zl_csS, zl_csS0, zl_csk, zl_tk, zl_csA, zl_isS0, zl_c, zl_cv, zl_cx, zl_sp, zl_rv, zl_rvk, zl_rvk2, zl_div, zl_rem, zl_ath, zl_clnk, zl_clnk0, zl_cat, zl_catn, zl_l0, zl_ls, zl_s0, zl_ss, List.length_cons, List.length_nil, Nat.reduceLT, Nat.zero_add, Nat.lt_add_one, reduceCtorEq, zi_le, zi_lt, zi_eq, if_pos, if_neg, if_true, if_false, Bool.true_eq_false, Bool.false_eq_true, eq_self, Bool.not_true, Bool.not_false, Int.toNat_natCast, Nat.reduceAdd, Int.reduceAdd, Int.reduceSub, Int.reduceMul, Int.reduceNeg, Int.reduceToNat, zl_aa, hk, h6, sp_valueOf (E := E) hv, hc, hd]
    · rw [if_neg (by omega)] at h6
      by_cases h : tv s L.2.2.1 = tv s L.2.2.2
      · have hd : decide (tv s L.2.2.1 = tv s L.2.2.2) = true := by simp; omega
        simp (disch := omega) only [zi_lit, zi_neg, zi_add, zi_sub, zi_mul, zi_div, zi_char, zb_eq0, zb_eq1, zb_le0, zb_or, zb_and, zb_or1, zb_or0, zb_1or, zb_0or, zb_and1, zb_and0, zb_1and, zb_0and, zb_nar, zi_nar0, zi_nar1, zl_ite, zl_ret, zl_retb, zl_retb1, zl_retb0, zl_retc, zl_ki, zl_kr, zl_kr0, zl_krf, zl_kl, zl_kf, zl_kd, zl_kv, zl_rf, zl_rf0, zl_valI, zl_valP, zl_valL, zl_get, zl_getI, zl_getR, zl_get0, zl_getr, zl_fk, zl_set, zl_setk, zl_setNb, zl_setN1, zl_setN0, zl_up1, zl_up2, zl_new, zl_newA, zl_len, zl_lenk, zl_ga, zl_gaI, zl_gaL, zl_gaD, zl_gaR, zl_sa, zl_saI, zl_saL, zl_saD, zl_saR, zl_ck, zl_ok, zl_ok0, zl_csS, zl_csS0, zl_csk, zl_tk, zl_csA, zl_isS0, zl_c, zl_cv, zl_cx, zl_sp, zl_rv, zl_rvk, zl_rvk2, zl_div, zl_rem, zl_ath, zl_clnk, zl_clnk0, zl_cat, zl_catn, zl_l0, zl_ls, zl_s0, zl_ss, List.length_cons, List.length_nil, Nat.reduceLT, Nat.zero_add, Nat.lt_add_one, reduceCtorEq, zi_le, zi_lt, zi_eq, if_pos, if_neg, if_true, if_false, Bool.true_eq_false, Bool.false_eq_true, eq_self, Bool.not_true, Bool.not_false, Int.toNat_natCast, Nat.reduceAdd, Int.reduceAdd, Int.reduceSub, Int.reduceMul, Int.reduceNeg, Int.reduceToNat, zl_aa, hk, h6, sp_valueOf (E := E) hv, hc, hd]
      · have hd : decide (tv s L.2.2.1 = tv s L.2.2.2) = false := by simp; omega
        simp (disch := omega) only [zi_lit, zi_neg, zi_add, zi_sub, zi_mul, zi_div, zi_char, zb_eq0, zb_eq1, zb_le0, zb_or, zb_and, zb_or1, zb_or0, zb_1or, zb_0or, zb_and1, zb_and0, zb_1and, zb_0and, zb_nar, zi_nar0, zi_nar1, zl_ite, zl_ret, zl_retb, zl_retb1, zl_retb0, zl_retc, zl_ki, zl_kr, zl_kr0, zl_krf, zl_kl, zl_kf, zl_kd, zl_kv, zl_rf, zl_rf0, zl_valI, zl_valP, zl_valL, zl_get, zl_getI, zl_getR, zl_get0, zl_getr, zl_fk, zl_set, zl_setk, zl_setNb, zl_setN1, zl_setN0, zl_up1, zl_up2, zl_new, zl_newA, zl_len, zl_lenk, zl_ga, zl_gaI, zl_gaL, zl_gaD, zl_gaR, zl_sa, zl_saI, zl_saL, zl_saD, zl_saR, zl_ck, zl_ok, zl_ok0, zl_csS, zl_csS0, zl_csk, zl_tk, zl_csA, zl_isS0, zl_c, zl_cv, zl_cx, zl_sp, zl_rv, zl_rvk, zl_rvk2, zl_div, zl_rem, zl_ath, zl_clnk, zl_clnk0, zl_cat, zl_catn, zl_l0, zl_ls, zl_s0, zl_ss, List.length_cons, List.length_nil, Nat.reduceLT, Nat.zero_add, Nat.lt_add_one, reduceCtorEq, zi_le, zi_lt, zi_eq, if_pos, if_neg, if_true, if_false, Bool.true_eq_false, Bool.false_eq_true, eq_self, Bool.not_true, Bool.not_false, Int.toNat_natCast, Nat.reduceAdd, Int.reduceAdd, Int.reduceSub, Int.reduceMul, Int.reduceNeg, Int.reduceToNat, zl_aa, hk, h6, sp_valueOf (E := E) hv, hc, hd]
