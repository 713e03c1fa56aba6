set_option maxRecDepth 20000
/-! ===== plain law: binding and matching ===== -/
/-- values as far as they are known: -1 for unknown -/
def okA (R : zRule) (a : Nat → Int) : Prop := ∀ i, i < 3 → a i = -1 ∨ (0 ≤ a i ∧ a i ≤ 9 ∧ rV R i = true)
def ext (a s : Nat → Int) : Prop := ∀ i, i < 3 → a i = -1 ∨ a i = s i
def iset (a : Nat → Int) (i : Nat) (x : Int) : Nat → Int := fun j => if j = i then x else a j
def bindF (t : Nat) (x : Int) (a : Nat → Int) : Bool × (Nat → Int) :=
  (decide (tv a t = -1) || decide (tv a t = x), if tv a t = -1 then iset a (t - 10) x else a)
theorem rVals.set {f : Nat → Option zO} {v : Nat} {s : Nat → Int} {w : Nat → Int32} (hw : f v = some (.inl (0, 3, .inl w))) (h : rVals f v s) (i : Nat) (x : Int) : rVals (zUp f v (.inl (0, 3, .inl (upd w i (zi x))))) v (iset s i x) := by
  obtain ⟨w', h1, h2⟩ := h
  rw [hw] at h1
  injection h1 with h1; injection h1 with h1; injection h1 with _ h1; injection h1 with _ h1; injection h1 with h1
  subst h1
  refine ⟨_, zl_up1 rfl, fun j hj => ?_⟩
  rw [zl_updE]; unfold iset
  split
  · rfl
  · exact h2 j hj
theorem tv_rng {R : zRule} {a : Nat → Int} (ha : okA R a) {t : Nat} (ht : t < 13) : -1 ≤ tv a t ∧ tv a t ≤ 9 := by
  unfold tv; split
  · omega
  · have := ha (t - 10) (by omega); omega
theorem sp_bind {E : zE} {f : Nat → Option zO} {v t : Nat} {R : zRule} {a : Nat → Int} {x : Int} (hv : rVals f v a) (ha : okA R a) (ht : t < 13) (hx : 0 ≤ x ∧ x ≤ 99) (hE : E 0 ≤ v) (n m : Nat) : ∃ f', s_X9_bind E (zi t) (zi x) (some v) (n, m, f) = some (.inl (some (.int (zb (bindF t x a).1))), (n, m, f')) ∧ rVals f' v (bindF t x a).2 ∧ ∀ q, q ≠ v → f' q = f q := by
  have hr := tv_rng ha ht
  have hv' := hv
  obtain ⟨w, h1, h2⟩ := hv
  by_cases h : tv a t = -1
  · have ht10 : 10 ≤ t := by
      unfold tv at h; split at h <;> omega
    have e : ((t : Int) - 10).toNat = t - 10 := by omega
    refine ⟨zUp f v (.inl (0, 3, .inl (upd w (t - 10) (zi x)))), ?_, ?_, fun q hq => zl_up2 hq⟩
    · unfold s_X9_bind s_X9_bind_18 bindF
      simp (disch := omega) only [zi_lit, zi_neg, zi_add, zi_sub, zi_mul, zi_div, zi_char, zb_eq0, zb_eq1, zb_le0, zb_or, zb_and, zb_or1, zb_or0, zb_1or, zb_0or, zb_and1, zb_and0, zb_1and, zb_0and, zb_nar, zi_nar0, zi_nar1, zl_ite, zl_ret, zl_retb, zl_retb1, zl_retb0, zl_retc, zl_ki, zl_kr, zl_kr0, zl_krf, zl_kl, zl_kf, zl_kd, zl_kv, zl_rf, zl_rf0, zl_valI, zl_valP, zl_valL, zl_get, zl_getI, zl_getR, zl_get0, zl_getr, zl_fk, zl_set, zl_setk, zl_setNb, zl_setN1, zl_setN0, zl_up1, zl_up2, zl_new, zl_newA, zl_len, zl_lenk, zl_ga, zl_gaI, zl_gaL, zl_gaD, zl_gaR, zl_sa, zl_saI, zl_saL, zl_saD, zl_saR, zl_ck, zl_ok, zl_ok0, zl_csS, zl_csS0, zl_csk, zl_tk, zl_csA, zl_isS0, zl_c, zl_cv, zl_cx, zl_sp, zl_rv, zl_rvk, zl_rvk2, zl_div, zl_rem, zl_ath, zl_clnk, zl_clnk0, zl_cat, zl_catn, zl_l0, zl_ls, zl_s0, zl_ss, List.length_cons, List.length_nil, Nat.reduceLT, Nat.zero_add, Nat.lt_add_one, reduceCtorEq, zi_le, zi_lt, zi_eq, if_pos, if_neg, if_true, if_false, Bool.true_eq_false, Bool.false_eq_true, eq_self, Bool.not_true, Bool.not_false, Int.toNat_natCast, Nat.reduceAdd, Int.reduceAdd, Int.reduceSub, Int.reduceMul, Int.reduceNeg, Int.reduceToNat, zl_aa, sp_valueOf (E := E) hv' ht, h, h1, e, decide_true, Bool.true_or]
    · unfold bindF; dsimp only; rw [if_pos h]
      exact hv'.set h1 _ _
  · refine ⟨f, ?_, ?_, fun _ _ => rfl⟩
    · unfold s_X9_bind s_X9_bind_18 bindF
      by_cases h3 : tv a t = x
      · simp (disch := omega) only [zi_lit, zi_neg, zi_add, zi_sub, zi_mul, zi_div, zi_char, zb_eq0, zb_eq1, zb_le0, zb_or, zb_and, zb_or1, zb_or0, zb_1or, zb_0or, zb_and1, zb_and0, zb_1and, zb_0and, zb_nar, zi_nar0, zi_nar1, zl_ite, zl_ret, zl_retb, zl_retb1, zl_retb0, zl_retc, zl_ki, zl_kr, zl_kr0, zl_krf, zl_kl, zl_kf, zl_kd, zl_kv, zl_rf, zl_rf0, zl_valI, zl_valP, zl_valL, zl_get, zl_getI, zl_getR, zl_get0, zl_getr, zl_fk, zl_set, zl_setk, zl_setNb, zl_setN1, zl_setN0, zl_up1, zl_up2, zl_new, zl_newA, zl_len, zl_lenk, zl_ga, zl_gaI, zl_gaL, zl_gaD, zl_gaR, zl_sa, zl_saI, zl_saL, zl_saD, zl_saR, zl_ck, zl_ok, zl_ok0, zl_csS, zl_csS0, zl_csk, zl_tk, zl_csA, zl_isS0, zl_c, zl_cv, zl_cx, zl_sp, zl_rv, zl_rvk, zl_rvk2, zl_div, zl_rem, zl_ath, zl_clnk, zl_clnk0, zl_cat, zl_catn, zl_l0, zl_ls, zl_s0, zl_ss, List.length_cons, List.length_nil, Nat.reduceLT, Nat.zero_add, Nat.lt_add_one, reduceCtorEq, zi_le, zi_lt, zi_eq, if_pos, if_neg, if_true, if_false, Bool.true_eq_false, Bool.false_eq_true, eq_self, Bool.not_true, Bool.not_false, Int.toNat_natCast, Nat.reduceAdd, Int.reduceAdd, Int.reduceSub, Int.reduceMul, Int.reduceNeg, Int.reduceToNat, zl_aa, sp_valueOf (E := E) hv' ht, h3, decide_true, Bool.or_true]
      · simp (disch := omega) only [zi_lit, zi_neg, zi_add, zi_sub, zi_mul, zi_div, zi_char, zb_eq0, zb_eq1, zb_le0, zb_or, zb_and, zb_or1, zb_or0, zb_1or, zb_0or, zb_and1, zb_and0, zb_1and, zb_0and, zb_nar, zi_nar0, zi_nar1, zl_ite, zl_ret, zl_retb, zl_retb1, zl_retb0, zl_retc, zl_ki, zl_kr, zl_kr0, zl_krf, zl_kl, zl_kf, zl_kd, zl_kv, zl_rf, zl_rf0, zl_valI, zl_valP, zl_valL, zl_get, zl_getI, zl_getR, zl_get0, zl_getr, zl_fk, zl_set, zl_setk, zl_setNb, zl_setN1, zl_setN0, zl_up1, zl_up2, zl_new, zl_newA, zl_len, zl_lenk, zl_ga, zl_gaI, zl_gaL, zl_gaD, zl_gaR, zl_sa, zl_saI, zl_saL, zl_saD, zl_saR, zl_ck, zl_ok, zl_ok0, zl_csS, zl_csS0, zl_csk, zl_tk, zl_csA, zl_isS0, zl_c, zl_cv, zl_cx, zl_sp, zl_rv, zl_rvk, zl_rvk2, zl_div, zl_rem, zl_ath, zl_clnk, zl_clnk0, zl_cat, zl_catn, zl_l0, zl_ls, zl_s0, zl_ss, List.length_cons, List.length_nil, Nat.reduceLT, Nat.zero_add, Nat.lt_add_one, reduceCtorEq, zi_le, zi_lt, zi_eq, if_pos, if_neg, if_true, if_false, Bool.true_eq_false, Bool.false_eq_true, eq_self, Bool.not_true, Bool.not_false, Int.toNat_natCast, Nat.reduceAdd, Int.reduceAdd, Int.reduceSub, Int.reduceMul, Int.reduceNeg, Int.reduceToNat, zl_aa, sp_valueOf (E := E) hv' ht, h, h3, decide_false, Bool.or_false]
    · unfold bindF; dsimp only; rw [if_neg h]; exact hv'
/-- the first and the second constant of a code -/
def c1 (p c : Nat) : Nat := if p < 4 then c / 10 else c
def matchF (A : zAtom) (c : Nat) (a : Nat → Int) : Bool × (Nat → Int) :=
  if A.1 < 4 then (if (bindF A.2.1 (c / 10 : Nat) a).1 then bindF A.2.2 (c % 10 : Nat) (bindF A.2.1 (c / 10 : Nat) a).2 else (false, (bindF A.2.1 (c / 10 : Nat) a).2)) else bindF A.2.1 c a
theorem bindF_ok {R : zRule} {t : Nat} {x : Int} {a : Nat → Int} (ha : okA R a) (ht : t < 13) (hx : 0 ≤ x ∧ x ≤ 9) (hV : 10 ≤ t → rV R (t - 10) = true) : okA R (bindF t x a).2 := by
  unfold bindF; dsimp only
  split
  · rename_i h
    have ht10 : 10 ≤ t := by
      unfold tv at h; split at h <;> omega
    intro i hi
    unfold iset
    split
    · rename_i h2; subst h2; exact Or.inr ⟨by omega, by omega, hV ht10⟩
    · exact ha i hi
  · exact ha
theorem bindF_ext (t : Nat) (x : Int) (a : Nat → Int) : ext a (bindF t x a).2 := by
  intro i hi
  unfold bindF; dsimp only
  split
  · rename_i h
    unfold iset
    split
    · rename_i h2
      unfold tv at h
      split at h
      · omega
      · left; rw [h2]; exact h
    · exact Or.inr rfl
  · exact Or.inr rfl
theorem bindF_tv {t : Nat} {x : Int} {a : Nat → Int} (h : (bindF t x a).1 = true) : tv (bindF t x a).2 t = x := by
  unfold bindF at h ⊢; dsimp only at h ⊢
  by_cases h1 : tv a t = -1
  · rw [if_pos h1]
    have ht10 : ¬ t < 10 := by intro h2; unfold tv at h1; rw [if_pos h2] at h1; omega
    unfold tv iset; rw [if_neg ht10, if_pos rfl]
  · rw [if_neg h1]
    simpa [h1] using h
theorem bindF_to {t : Nat} {x : Int} {a s : Nat → Int} (he : ext a s) (ht : t < 13) (hs : tv s t = x) : (bindF t x a).1 = true ∧ ext (bindF t x a).2 s := by
  unfold bindF; dsimp only
  by_cases h1 : tv a t = -1
  · rw [if_pos h1, h1]
    refine ⟨by simp, fun i hi => ?_⟩
    unfold iset
    split
    · rename_i h2
      right
      have ht10 : ¬ t < 10 := by intro h2; unfold tv at h1; rw [if_pos h2] at h1; omega
      unfold tv at hs; rw [if_neg ht10] at hs
      rw [h2, hs]
    · exact he i hi
  · rw [if_neg h1]
    refine ⟨?_, he⟩
    have : tv a t = x := by
      unfold tv at h1 hs ⊢
      split
      · rename_i h2; rw [if_pos h2] at hs; exact hs
      · rename_i h2
        rw [if_neg h2] at hs h1
        rcases he (t - 10) (by omega) with h | h
        · exact absurd h h1
        · rw [h]; exact hs
    simp [this]
theorem tv_ext {a s : Nat → Int} (he : ext a s) {t : Nat} (ht : t < 13) (h : tv a t ≠ -1) : tv s t = tv a t := by
  unfold tv at h ⊢
  split
  · rfl
  · rename_i h2
    rw [if_neg h2] at h
    rcases he (t - 10) (by omega) with h3 | h3
    · exact absurd h3 h
    · exact h3.symm
theorem ext_trans {a b s : Nat → Int} (h1 : ext a b) (h2 : ext b s) : ext a s := fun i hi => by
  rcases h1 i hi with h | h
  · exact Or.inl h
  · rcases h2 i hi with h' | h'
    · left; rw [h]; exact h'
    · right; rw [h]; exact h'
/-- a code that there can be -/
def okC (p c : Nat) : Prop := if p < 4 then c < 100 else c < 10
/-- a rule's atom: its variables are the rule's -/
def inR (R : zRule) (A : zAtom) : Prop := okAtom A ∧ ∀ i, i < 3 → aV A i = true → rV R i = true
theorem inR_1 {R : zRule} {A : zAtom} (h : inR R A) : 10 ≤ A.2.1 → rV R (A.2.1 - 10) = true := fun h10 => by
  have := h.1.2.1
  refine h.2 _ (by omega) ?_
  unfold aV
  have : A.2.1 = 10 + (A.2.1 - 10) := by omega
  simp [← this]
theorem inR_2 {R : zRule} {A : zAtom} (h : inR R A) (hp : A.1 < 4) : 10 ≤ A.2.2 → rV R (A.2.2 - 10) = true := fun h10 => by
  have := h.1.2.2
  refine h.2 _ (by omega) ?_
  unfold aV
  have : A.2.2 = 10 + (A.2.2 - 10) := by omega
  simp [← this, hp]
theorem matchF_ok {R : zRule} {A : zAtom} {c : Nat} {a : Nat → Int} (ha : okA R a) (hA : inR R A) (hc : okC A.1 c) : okA R (matchF A c a).2 := by
  unfold matchF okC at *
  by_cases hp : A.1 < 4
  · rw [if_pos hp] at hc ⊢
    have h1 := bindF_ok (x := (c / 10 : Nat)) ha hA.1.2.1 (by omega) (inR_1 hA)
    split
    · exact bindF_ok h1 hA.1.2.2 (by omega) (inR_2 hA hp)
    · exact h1
  · rw [if_neg hp] at hc ⊢
    exact bindF_ok ha hA.1.2.1 (by omega) (inR_1 hA)
theorem matchF_ext (A : zAtom) (c : Nat) (a : Nat → Int) : ext a (matchF A c a).2 := by
  unfold matchF
  split
  · split
    · exact ext_trans (bindF_ext _ _ _) (bindF_ext _ _ _)
    · exact bindF_ext _ _ _
  · exact bindF_ext _ _ _
theorem matchF_tv {R : zRule} {A : zAtom} {c : Nat} {a : Nat → Int} (hA : okAtom A) (h : (matchF A c a).1 = true) : tv (matchF A c a).2 A.2.1 = (c1 A.1 c : Nat) ∧ (A.1 < 4 → tv (matchF A c a).2 A.2.2 = (c % 10 : Nat)) := by
  unfold matchF c1 at *
  by_cases hp : A.1 < 4
  · rw [if_pos hp] at h ⊢
    rw [if_pos hp]
    cases hb : (bindF A.2.1 (c / 10 : Nat) a).1
    · rw [hb] at h; simp at h
    · rw [hb] at h
      simp only [if_true] at h ⊢
      have h1 := bindF_tv hb
      refine ⟨?_, fun _ => bindF_tv h⟩
      rw [tv_ext (bindF_ext _ _ _) hA.2.1 (by rw [h1]; omega), h1]
  · rw [if_neg hp] at h ⊢
    rw [if_neg hp]
    exact ⟨bindF_tv h, fun h2 => absurd h2 hp⟩
theorem matchF_to {A : zAtom} {c : Nat} {a s : Nat → Int} (hA : okAtom A) (he : ext a s) (hs : okS s) (hc : ac s A = c) : (matchF A c a).1 = true ∧ ext (matchF A c a).2 s := by
  have t1 := tv_ok hs hA.2.1
  have t2 := tv_ok hs hA.2.2
  unfold matchF ac cd at *
  by_cases hp : A.1 < 4
  · rw [if_pos hp]
    rw [if_pos (by omega)] at hc
    obtain ⟨h1, h2⟩ := bindF_to (x := (c / 10 : Nat)) he hA.2.1 (by omega)
    rw [h1]
    simp only [if_true]
    exact bindF_to h2 hA.2.2 (by omega)
  · rw [if_neg hp]
    rw [if_neg (by omega)] at hc
    exact bindF_to he hA.2.1 hc
theorem sp_match {E : zE} {f : Nat → Option zO} {v b c : Nat} {R : zRule} {A : zAtom} {a : Nat → Int} (hb : rAtom f b A) (hv : rVals f v a) (ha : okA R a) (hA : inR R A) (hc : okC A.1 c) (hE : E 0 ≤ v) (hbv : b ≠ v) (n m : Nat) : ∃ f', s_X9_match E (some b) (zi c) (some v) (n, m, f) = some (.inl (some (.int (zb (matchF A c a).1))), (n, m, f')) ∧ rVals f' v (matchF A c a).2 ∧ ∀ q, q ≠ v → f' q = f q := by
  obtain ⟨h1, h2, h3, h4⟩ := hb
  unfold matchF okC a2 at *
  by_cases hp : A.1 < 4
  · have hd : decide (A.1 < 4) = true := by simp [hp]
    rw [if_pos hp] at h1 hc ⊢
    obtain ⟨f1, e1, v1, x1⟩ := sp_bind (E := E) (x := (c / 10 : Nat)) hv ha h3 (by omega) hE n m
    have hb1 := (x1 b hbv).trans h1
    cases hr : (bindF A.2.1 (c / 10 : Nat) a).1
    · rw [hr] at e1
      refine ⟨f1, ?_, v1, x1⟩
      unfold s_X9_match
      simp (disch := omega) only [zi_lit, zi_neg, zi_add, zi_sub, zi_mul, zi_div, zi_char, zb_eq0, zb_eq1, zb_le0, zb_or, zb_and, zb_or1, zb_or0, zb_1or, zb_0or, zb_and1, zb_and0, zb_1and, zb_0and, zb_nar, zi_nar0, zi_nar1, zl_ite, zl_ret, zl_retb, zl_retb1, zl_retb0, zl_retc, zl_ki, zl_kr, zl_kr0, zl_krf, zl_kl, zl_kf, zl_kd, zl_kv, zl_rf, zl_rf0, zl_valI, zl_valP, zl_valL, zl_get, zl_getI, zl_getR, zl_get0, zl_getr, zl_fk, zl_set, zl_setk, zl_setNb, zl_setN1, zl_setN0, zl_up1, zl_up2, zl_new, zl_newA, zl_len, zl_lenk, zl_ga, zl_gaI, zl_gaL, zl_gaD, zl_gaR, zl_sa, zl_saI, zl_saL, zl_saD, zl_saR, zl_ck, zl_ok, zl_ok0, zl_csS, zl_csS0, zl_csk, zl_tk, zl_csA, zl_isS0, zl_c, zl_cv, zl_cx, zl_sp, zl_rv, zl_rvk, zl_rvk2, zl_div, zl_rem, zl_ath, zl_clnk, zl_clnk0, zl_cat, zl_catn, zl_l0, zl_ls, zl_s0, zl_ss, List.length_cons, List.length_nil, Nat.reduceLT, Nat.zero_add, Nat.lt_add_one, reduceCtorEq, zi_le, zi_lt, zi_eq, if_pos, if_neg, if_true, if_false, Bool.true_eq_false, Bool.false_eq_true, eq_self, Bool.not_true, Bool.not_false, Int.toNat_natCast, Nat.reduceAdd, Int.reduceAdd, Int.reduceSub, Int.reduceMul, Int.reduceNeg, Int.reduceToNat, zl_aa, h1, sp_isPairN, hd, zc_div, zc_mod, e1]
    · rw [hr] at e1
      obtain ⟨f2, e2, v2, x2⟩ := sp_bind (E := E) (x := (c % 10 : Nat)) v1 (bindF_ok ha h3 (by omega) (inR_1 hA)) h4 (by omega) hE n m
      refine ⟨f2, ?_, v2, fun q hq => (x2 q hq).trans (x1 q hq)⟩
      unfold s_X9_match
      cases hr2 : (bindF A.2.2 (c % 10 : Nat) (bindF A.2.1 (c / 10 : Nat) a).2).1 <;> rw [hr2] at e2 <;> simp (disch := omega) only [zi_lit, zi_neg, zi_add, zi_sub, zi_mul, zi_div, zi_char, zb_eq0, zb_eq1, zb_le0, zb_or, zb_and, zb_or1, zb_or0, zb_1or, zb_0or, zb_and1, zb_and0, zb_1and, zb_0and, zb_nar, zi_nar0, zi_nar1, zl_ite, zl_ret, zl_retb, zl_retb1, zl_retb0, zl_retc, zl_ki, zl_kr, zl_kr0, zl_krf, zl_kl, zl_kf, zl_kd, zl_kv, zl_rf, zl_rf0, zl_valI, zl_valP, zl_valL, zl_get, zl_getI, zl_getR, zl_get0, zl_getr, zl_fk, zl_set, zl_setk, zl_setNb, zl_setN1, zl_setN0, zl_up1, zl_up2, zl_new, zl_newA, zl_len, zl_lenk, zl_ga, zl_gaI, zl_gaL, zl_gaD, zl_gaR, zl_sa, zl_saI, zl_saL, zl_saD, zl_saR, zl_ck, zl_ok, zl_ok0, zl_csS, zl_csS0, zl_csk, zl_tk, zl_csA, zl_isS0, zl_c, zl_cv, zl_cx, zl_sp, zl_rv, zl_rvk, zl_rvk2, zl_div, zl_rem, zl_ath, zl_clnk, zl_clnk0, zl_cat, zl_catn, zl_l0, zl_ls, zl_s0, zl_ss, List.length_cons, List.length_nil, Nat.reduceLT, Nat.zero_add, Nat.lt_add_one, reduceCtorEq, zi_le, zi_lt, zi_eq, if_pos, if_neg, if_true, if_false, Bool.true_eq_false, Bool.false_eq_true, eq_self, Bool.not_true, Bool.not_false, Int.toNat_natCast, Nat.reduceAdd, Int.reduceAdd, Int.reduceSub, Int.reduceMul, Int.reduceNeg, Int.reduceToNat, zl_aa, h1, hb1, sp_isPairN, hd, zc_div, zc_mod, e1, e2, hr2]
  · have hd : decide (A.1 < 4) = false := by simp [hp]
    rw [if_neg hp] at h1 hc ⊢
    obtain ⟨f1, e1, v1, x1⟩ := sp_bind (E := E) (x := (c : Nat)) hv ha h3 (by omega) hE n m
    refine ⟨f1, ?_, v1, x1⟩
    unfold s_X9_match
    simp (disch := omega) only [zi_lit, zi_neg, zi_add, zi_sub, zi_mul, zi_div, zi_char, zb_eq0, zb_eq1, zb_le0, zb_or, zb_and, zb_or1, zb_or0, zb_1or, zb_0or, zb_and1, zb_and0, zb_1and, zb_0and, zb_nar, zi_nar0, zi_nar1, zl_ite, zl_ret, zl_retb, zl_retb1, zl_retb0, zl_retc, zl_ki, zl_kr, zl_kr0, zl_krf, zl_kl, zl_kf, zl_kd, zl_kv, zl_rf, zl_rf0, zl_valI, zl_valP, zl_valL, zl_get, zl_getI, zl_getR, zl_get0, zl_getr, zl_fk, zl_set, zl_setk, zl_setNb, zl_setN1, zl_setN0, zl_up1, zl_up2, zl_new, zl_newA, zl_len, zl_lenk, zl_ga, zl_gaI, zl_gaL, zl_gaD, zl_gaR, zl_sa, zl_saI, zl_saL, zl_saD, zl_saR, zl_ck, zl_ok, zl_ok0, zl_csS, zl_csS0, zl_csk, zl_tk, zl_csA, zl_isS0, zl_c, zl_cv, zl_cx, zl_sp, zl_rv, zl_rvk, zl_rvk2, zl_div, zl_rem, zl_ath, zl_clnk, zl_clnk0, zl_cat, zl_catn, zl_l0, zl_ls, zl_s0, zl_ss, List.length_cons, List.length_nil, Nat.reduceLT, Nat.zero_add, Nat.lt_add_one, reduceCtorEq, zi_le, zi_lt, zi_eq, if_pos, if_neg, if_true, if_false, Bool.true_eq_false, Bool.false_eq_true, eq_self, Bool.not_true, Bool.not_false, Int.toNat_natCast, Nat.reduceAdd, Int.reduceAdd, Int.reduceSub, Int.reduceMul, Int.reduceNeg, Int.reduceToNat, zl_aa, h1, sp_isPairN, hd, e1]
/-- known(values) -/
def knF (a : Nat → Int) : Nat → Int := fun i => if a i < 0 then 0 else a i
theorem sp_known {E : zE} {f : Nat → Option zO} {v n : Nat} {R : zRule} {a : Nat → Int} (hv : rVals f v a) (ha : okA R a) (hE : E 0 ≤ n) (m : Nat) : ∃ f', s_X8_known E (some v) (n, m, f) = some (.inl (some (.ref n)), (n + 1, m + 3, f')) ∧ rVals f' n (knF a) ∧ ∀ q, q ≠ n → f' q = f q := by
  obtain ⟨w, h1, h2⟩ := hv
  have w0 := h2 0 (by omega); have w1 := h2 1 (by omega); have w2 := h2 2 (by omega)
  have a0 := ha 0 (by omega); have a1 := ha 1 (by omega); have a2 := ha 2 (by omega)
  obtain ⟨k, hk⟩ : ∃ k, zN = k + 4 := ⟨zN - 4, by unfold zN; omega⟩
  refine ⟨zUp (zUp (zUp (zUp f n (.inl (0, 3, .inl w))) n (.inl (0, 3, .inl (upd w 0 (zi (knF a 0)))))) n (.inl (0, 3, .inl (upd (upd w 0 (zi (knF a 0))) 1 (zi (knF a 1)))))) n (.inl (0, 3, .inl (upd (upd (upd w 0 (zi (knF a 0))) 1 (zi (knF a 1))) 2 (zi (knF a 2))))), ?_, ⟨_, zl_up1 rfl, fun i hi => ?_⟩, fun q hq => ?_⟩
  · have k0 : (if a 0 < 0 then (0 : Int) else a 0) = knF a 0 := rfl
    have k1 : (if a 1 < 0 then (0 : Int) else a 1) = knF a 1 := rfl
    have k2 : (if a 2 < 0 then (0 : Int) else a 2) = knF a 2 := rfl
    unfold s_X8_known
    simp (disch := omega) only [zi_lit, zi_neg, zi_add, zi_sub, zi_mul, zi_div, zi_char, zb_eq0, zb_eq1, zb_le0, zb_or, zb_and, zb_or1, zb_or0, zb_1or, zb_0or, zb_and1, zb_and0, zb_1and, zb_0and, zb_nar, zi_nar0, zi_nar1, zl_ite, zl_ret, zl_retb, zl_retb1, zl_retb0, zl_retc, zl_ki, zl_kr, zl_kr0, zl_krf, zl_kl, zl_kf, zl_kd, zl_kv, zl_rf, zl_rf0, zl_valI, zl_valP, zl_valL, zl_get, zl_getI, zl_getR, zl_get0, zl_getr, zl_fk, zl_set, zl_setk, zl_setNb, zl_setN1, zl_setN0, zl_up1, zl_up2, zl_new, zl_newA, zl_len, zl_lenk, zl_ga, zl_gaI, zl_gaL, zl_gaD, zl_gaR, zl_sa, zl_saI, zl_saL, zl_saD, zl_saR, zl_ck, zl_ok, zl_ok0, zl_csS, zl_csS0, zl_csk, zl_tk, zl_csA, zl_isS0, zl_c, zl_cv, zl_cx, zl_sp, zl_rv, zl_rvk, zl_rvk2, zl_div, zl_rem, zl_ath, zl_clnk, zl_clnk0, zl_cat, zl_catn, zl_l0, zl_ls, zl_s0, zl_ss, List.length_cons, List.length_nil, Nat.reduceLT, Nat.zero_add, Nat.lt_add_one, reduceCtorEq, zi_le, zi_lt, zi_eq, if_pos, if_neg, if_true, if_false, Bool.true_eq_false, Bool.false_eq_true, eq_self, Bool.not_true, Bool.not_false, Int.toNat_natCast, Nat.reduceAdd, Int.reduceAdd, Int.reduceSub, Int.reduceMul, Int.reduceNeg, Int.reduceToNat, zl_aa, h1]
    rw [hk, s_X8_known_10]
    simp (disch := omega) only [zi_lit, zi_neg, zi_add, zi_sub, zi_mul, zi_div, zi_char, zb_eq0, zb_eq1, zb_le0, zb_or, zb_and, zb_or1, zb_or0, zb_1or, zb_0or, zb_and1, zb_and0, zb_1and, zb_0and, zb_nar, zi_nar0, zi_nar1, zl_ite, zl_ret, zl_retb, zl_retb1, zl_retb0, zl_retc, zl_ki, zl_kr, zl_kr0, zl_krf, zl_kl, zl_kf, zl_kd, zl_kv, zl_rf, zl_rf0, zl_valI, zl_valP, zl_valL, zl_get, zl_getI, zl_getR, zl_get0, zl_getr, zl_fk, zl_set, zl_setk, zl_setNb, zl_setN1, zl_setN0, zl_up1, zl_up2, zl_new, zl_newA, zl_len, zl_lenk, zl_ga, zl_gaI, zl_gaL, zl_gaD, zl_gaR, zl_sa, zl_saI, zl_saL, zl_saD, zl_saR, zl_ck, zl_ok, zl_ok0, zl_csS, zl_csS0, zl_csk, zl_tk, zl_csA, zl_isS0, zl_c, zl_cv, zl_cx, zl_sp, zl_rv, zl_rvk, zl_rvk2, zl_div, zl_rem, zl_ath, zl_clnk, zl_clnk0, zl_cat, zl_catn, zl_l0, zl_ls, zl_s0, zl_ss, List.length_cons, List.length_nil, Nat.reduceLT, Nat.zero_add, Nat.lt_add_one, reduceCtorEq, zi_le, zi_lt, zi_eq, if_pos, if_neg, if_true, if_false, Bool.true_eq_false, Bool.false_eq_true, eq_self, Bool.not_true, Bool.not_false, Int.toNat_natCast, Nat.reduceAdd, Int.reduceAdd, Int.reduceSub, Int.reduceMul, Int.reduceNeg, Int.reduceToNat, zl_aa, zl_updE, w0, w1, w2, zi_ite, k0]
    rw [s_X8_known_10]
    simp (disch := omega) only [zi_lit, zi_neg, zi_add, zi_sub, zi_mul, zi_div, zi_char, zb_eq0, zb_eq1, zb_le0, zb_or, zb_and, zb_or1, zb_or0, zb_1or, zb_0or, zb_and1, zb_and0, zb_1and, zb_0and, zb_nar, zi_nar0, zi_nar1, zl_ite, zl_ret, zl_retb, zl_retb1, zl_retb0, zl_retc, zl_ki, zl_kr, zl_kr0, zl_krf, zl_kl, zl_kf, zl_kd, zl_kv, zl_rf, zl_rf0, zl_valI, zl_valP, zl_valL, zl_get, zl_getI, zl_getR, zl_get0, zl_getr, zl_fk, zl_set, zl_setk, zl_setNb, zl_setN1, zl_setN0, zl_up1, zl_up2, zl_new, zl_newA, zl_len, zl_lenk, zl_ga, zl_gaI, zl_gaL, zl_gaD, zl_gaR, zl_sa, zl_saI, zl_saL, zl_saD, zl_saR, zl_ck, zl_ok, zl_ok0, zl_csS, zl_csS0, zl_csk, zl_tk, zl_csA, zl_isS0, zl_c, zl_cv, zl_cx, zl_sp, zl_rv, zl_rvk, zl_rvk2, zl_div, zl_rem, zl_ath, zl_clnk, zl_clnk0, zl_cat, zl_catn, zl_l0, zl_ls, zl_s0, zl_ss, List.length_cons, List.length_nil, Nat.reduceLT, Nat.zero_add, Nat.lt_add_one, reduceCtorEq, zi_le, zi_lt, zi_eq, if_pos, if_neg, if_true, if_false, Bool.true_eq_false, Bool.false_eq_true, eq_self, Bool.not_true, Bool.not_false, Int.toNat_natCast, Nat.reduceAdd, Int.reduceAdd, Int.reduceSub, Int.reduceMul, Int.reduceNeg, Int.reduceToNat, zl_aa, zl_updE, w0, w1, w2, zi_ite, k1]
    rw [s_X8_known_10]
    simp (disch := omega) only [zi_lit, zi_neg, zi_add, zi_sub, zi_mul, zi_div, zi_char, zb_eq0, zb_eq1, zb_le0, zb_or, zb_and, zb_or1, zb_or0, zb_1or, zb_0or, zb_and1, zb_and0, zb_1and, zb_0and, zb_nar, zi_nar0, zi_nar1, zl_ite, zl_ret, zl_retb, zl_retb1, zl_retb0, zl_retc, zl_ki, zl_kr, zl_kr0, zl_krf, zl_kl, zl_kf, zl_kd, zl_kv, zl_rf, zl_rf0, zl_valI, zl_valP, zl_valL, zl_get, zl_getI, zl_getR, zl_get0, zl_getr, zl_fk, zl_set, zl_setk, zl_setNb, zl_setN1, zl_setN0, zl_up1, zl_up2, zl_new, zl_newA, zl_len, zl_lenk, zl_ga, zl_gaI, zl_gaL, zl_gaD, zl_gaR, zl_sa, zl_saI, zl_saL, zl_saD, zl_saR, zl_ck, zl_ok, zl_ok0, zl_csS, zl_csS0, zl_csk, zl_tk, zl_csA, zl_isS0, zl_c, zl_cv, zl_cx, zl_sp, zl_rv, zl_rvk, zl_rvk2, zl_div, zl_rem, zl_ath, zl_clnk, zl_clnk0, zl_cat, zl_catn, zl_l0, zl_ls, zl_s0, zl_ss, List.length_cons, List.length_nil, Nat.reduceLT, Nat.zero_add, Nat.lt_add_one, reduceCtorEq, zi_le, zi_lt, zi_eq, if_pos, if_neg, if_true, if_false, Bool.true_eq_false, Bool.false_eq_true, eq_self, Bool.not_true, Bool.not_false, Int.toNat_natCast, Nat.reduceAdd, Int.reduceAdd, Int.reduceSub, Int.reduceMul, Int.reduceNeg, Int.reduceToNat, zl_aa, zl_updE, w0, w1, w2, zi_ite, k2]
    rw [s_X8_known_10]
    simp (disch := omega) only [zi_lit, zi_neg, zi_add, zi_sub, zi_mul, zi_div, zi_char, zb_eq0, zb_eq1, zb_le0, zb_or, zb_and, zb_or1, zb_or0, zb_1or, zb_0or, zb_and1, zb_and0, zb_1and, zb_0and, zb_nar, zi_nar0, zi_nar1, zl_ite, zl_ret, zl_retb, zl_retb1, zl_retb0, zl_retc, zl_ki, zl_kr, zl_kr0, zl_krf, zl_kl, zl_kf, zl_kd, zl_kv, zl_rf, zl_rf0, zl_valI, zl_valP, zl_valL, zl_get, zl_getI, zl_getR, zl_get0, zl_getr, zl_fk, zl_set, zl_setk, zl_setNb, zl_setN1, zl_setN0, zl_up1, zl_up2, zl_new, zl_newA, zl_len, zl_lenk, zl_ga, zl_gaI, zl_gaL, zl_gaD, zl_gaR, zl_sa, zl_saI, zl_saL, zl_saD, zl_saR, zl_ck, zl_ok, zl_ok0, zl_csS, zl_csS0, zl_csk, zl_tk, zl_csA, zl_isS0, zl_c, zl_cv, zl_cx, zl_sp, zl_rv, zl_rvk, zl_rvk2, zl_div, zl_rem, zl_ath, zl_clnk, zl_clnk0, zl_cat, zl_catn, zl_l0, zl_ls, zl_s0, zl_ss, List.length_cons, List.length_nil, Nat.reduceLT, Nat.zero_add, Nat.lt_add_one, reduceCtorEq, zi_le, zi_lt, zi_eq, if_pos, if_neg, if_true, if_false, Bool.true_eq_false, Bool.false_eq_true, eq_self, Bool.not_true, Bool.not_false, Int.toNat_natCast, Nat.reduceAdd, Int.reduceAdd, Int.reduceSub, Int.reduceMul, Int.reduceNeg, Int.reduceToNat, zl_aa]
  · have : i = 0 ∨ i = 1 ∨ i = 2 := by omega
    rcases this with rfl | rfl | rfl <;> simp [zl_updE]
  · rw [zl_up2 hq, zl_up2 hq, zl_up2 hq, zl_up2 hq]
theorem sp_unknown {E : zE} {n : Nat} (hE : E 0 ≤ n) (m : Nat) (f : Nat → Option zO) : ∃ f', s_X8_unknown E (n, m, f) = some (.inl (some (.ref n)), (n + 1, m + 3, f')) ∧ rVals f' n (fun _ => -1) ∧ ∀ q, q ≠ n → f' q = f q := by
  obtain ⟨k, hk⟩ : ∃ k, zN = k + 4 := ⟨zN - 4, by unfold zN; omega⟩
  refine ⟨zUp (zUp (zUp (zUp f n (.inl (0, 3, zAr0))) n (.inl (0, 3, .inl (upd (fun _ => 0) 0 (zi (-1)))))) n (.inl (0, 3, .inl (upd (upd (fun _ => 0) 0 (zi (-1))) 1 (zi (-1)))))) n (.inl (0, 3, .inl (upd (upd (upd (fun _ => 0) 0 (zi (-1))) 1 (zi (-1))) 2 (zi (-1))))), ?_, ⟨_, zl_up1 rfl, fun i hi => ?_⟩, fun q hq => ?_⟩
  · unfold s_X8_unknown
    simp (disch := omega) only [zi_lit, zi_neg, zi_add, zi_sub, zi_mul, zi_div, zi_char, zb_eq0, zb_eq1, zb_le0, zb_or, zb_and, zb_or1, zb_or0, zb_1or, zb_0or, zb_and1, zb_and0, zb_1and, zb_0and, zb_nar, zi_nar0, zi_nar1, zl_ite, zl_ret, zl_retb, zl_retb1, zl_retb0, zl_retc, zl_ki, zl_kr, zl_kr0, zl_krf, zl_kl, zl_kf, zl_kd, zl_kv, zl_rf, zl_rf0, zl_valI, zl_valP, zl_valL, zl_get, zl_getI, zl_getR, zl_get0, zl_getr, zl_fk, zl_set, zl_setk, zl_setNb, zl_setN1, zl_setN0, zl_up1, zl_up2, zl_new, zl_newA, zl_len, zl_lenk, zl_ga, zl_gaI, zl_gaL, zl_gaD, zl_gaR, zl_sa, zl_saI, zl_saL, zl_saD, zl_saR, zl_ck, zl_ok, zl_ok0, zl_csS, zl_csS0, zl_csk, zl_tk, zl_csA, zl_isS0, zl_c, zl_cv, zl_cx, zl_sp, zl_rv, zl_rvk, zl_rvk2, zl_div, zl_rem, zl_ath, zl_clnk, zl_clnk0, zl_cat, zl_catn, zl_l0, zl_ls, zl_s0, zl_ss, List.length_cons, List.length_nil, Nat.reduceLT, Nat.zero_add, Nat.lt_add_one, reduceCtorEq, zi_le, zi_lt, zi_eq, if_pos, if_neg, if_true, if_false, Bool.true_eq_false, Bool.false_eq_true, eq_self, Bool.not_true, Bool.not_false, Int.toNat_natCast, Nat.reduceAdd, Int.reduceAdd, Int.reduceSub, Int.reduceMul, Int.reduceNeg, Int.reduceToNat, zl_aa]
    rw [hk, s_X8_unknown_6]
    simp (disch := omega) only [zi_lit, zi_neg, zi_add, zi_sub, zi_mul, zi_div, zi_char, zb_eq0, zb_eq1, zb_le0, zb_or, zb_and, zb_or1, zb_or0, zb_1or, zb_0or, zb_and1, zb_and0, zb_1and, zb_0and, zb_nar, zi_nar0, zi_nar1, zl_ite, zl_ret, zl_retb, zl_retb1, zl_retb0, zl_retc, zl_ki, zl_kr, zl_kr0, zl_krf, zl_kl, zl_kf, zl_kd, zl_kv, zl_rf, zl_rf0, zl_valI, zl_valP, zl_valL, zl_get, zl_getI, zl_getR, zl_get0, zl_getr, zl_fk, zl_set, zl_setk, zl_setNb, zl_setN1, zl_setN0, zl_up1, zl_up2, zl_new, zl_newA, zl_len, zl_lenk, zl_ga, zl_gaI, zl_gaL, zl_gaD, zl_gaR, zl_sa, zl_saI, zl_saL, zl_saD, zl_saR, zl_ck, zl_ok, zl_ok0, zl_csS, zl_csS0, zl_csk, zl_tk, zl_csA, zl_isS0, zl_c, zl_cv, zl_cx, zl_sp, zl_rv, zl_rvk, zl_rvk2, zl_div, zl_rem, zl_ath, zl_clnk, zl_clnk0, zl_cat, zl_catn, zl_l0, zl_ls, zl_s0, zl_ss, List.length_cons, List.length_nil, Nat.reduceLT, Nat.zero_add, Nat.lt_add_one, reduceCtorEq, zi_le, zi_lt, zi_eq, if_pos, if_neg, if_true, if_false, Bool.true_eq_false, Bool.false_eq_true, eq_self, Bool.not_true, Bool.not_false, Int.toNat_natCast, Nat.reduceAdd, Int.reduceAdd, Int.reduceSub, Int.reduceMul, Int.reduceNeg, Int.reduceToNat, zl_aa]
    rw [s_X8_unknown_6]
    simp (disch := omega) only [zi_lit, zi_neg, zi_add, zi_sub, zi_mul, zi_div, zi_char, zb_eq0, zb_eq1, zb_le0, zb_or, zb_and, zb_or1, zb_or0, zb_1or, zb_0or, zb_and1, zb_and0, zb_1and, zb_0and, zb_nar, zi_nar0, zi_nar1, zl_ite, zl_ret, zl_retb, zl_retb1, zl_retb0, zl_retc, zl_ki, zl_kr, zl_kr0, zl_krf, zl_kl, zl_kf, zl_kd, zl_kv, zl_rf, zl_rf0, zl_valI, zl_valP, zl_valL, zl_get, zl_getI, zl_getR, zl_get0, zl_getr, zl_fk, zl_set, zl_setk, zl_setNb, zl_setN1, zl_setN0, zl_up1, zl_up2, zl_new, zl_newA, zl_len, zl_lenk, zl_ga, zl_gaI, zl_gaL, zl_gaD, zl_gaR, zl_sa, zl_saI, zl_saL, zl_saD, zl_saR, zl_ck, zl_ok, zl_ok0, zl_csS, zl_csS0, zl_csk, zl_tk, zl_csA, zl_isS0, zl_c, zl_cv, zl_cx, zl_sp, zl_rv, zl_rvk, zl_rvk2, zl_div, zl_rem, zl_ath, zl_clnk, zl_clnk0, zl_cat, zl_catn, zl_l0, zl_ls, zl_s0, zl_ss, List.length_cons, List.length_nil, Nat.reduceLT, Nat.zero_add, Nat.lt_add_one, reduceCtorEq, zi_le, zi_lt, zi_eq, if_pos, if_neg, if_true, if_false, Bool.true_eq_false, Bool.false_eq_true, eq_self, Bool.not_true, Bool.not_false, Int.toNat_natCast, Nat.reduceAdd, Int.reduceAdd, Int.reduceSub, Int.reduceMul, Int.reduceNeg, Int.reduceToNat, zl_aa]
    rw [s_X8_unknown_6]
    simp (disch := omega) only [zi_lit, zi_neg, zi_add, zi_sub, zi_mul, zi_div, zi_char, zb_eq0, zb_eq1, zb_le0, zb_or, zb_and, zb_or1, zb_or0, zb_1or, zb_0or, zb_and1, zb_and0, zb_1and, zb_0and, zb_nar, zi_nar0, zi_nar1, zl_ite, zl_ret, zl_retb, zl_retb1, zl_retb0, zl_retc, zl_ki, zl_kr, zl_kr0, zl_krf, zl_kl, zl_kf, zl_kd, zl_kv, zl_rf, zl_rf0, zl_valI, zl_valP, zl_valL, zl_get, zl_getI, zl_getR, zl_get0, zl_getr, zl_fk, zl_set, zl_setk, zl_setNb, zl_setN1, zl_setN0, zl_up1, zl_up2, zl_new, zl_newA, zl_len, zl_lenk, zl_ga, zl_gaI, zl_gaL, zl_gaD, zl_gaR, zl_sa, zl_saI, zl_saL, zl_saD, zl_saR, zl_ck, zl_ok, zl_ok0, zl_csS, zl_csS0, zl_csk, zl_tk, zl_csA, zl_isS0, zl_c, zl_cv, zl_cx, zl_sp, zl_rv, zl_rvk, zl_rvk2, zl_div, zl_rem, zl_ath, zl_clnk, zl_clnk0, zl_cat, zl_catn, zl_l0, zl_ls, zl_s0, zl_ss, List.length_cons, List.length_nil, Nat.reduceLT, Nat.zero_add, Nat.lt_add_one, reduceCtorEq, zi_le, zi_lt, zi_eq, if_pos, if_neg, if_true, if_false, Bool.true_eq_false, Bool.false_eq_true, eq_self, Bool.not_true, Bool.not_false, Int.toNat_natCast, Nat.reduceAdd, Int.reduceAdd, Int.reduceSub, Int.reduceMul, Int.reduceNeg, Int.reduceToNat, zl_aa]
    rw [s_X8_unknown_6]
    simp (disch := omega) only [zi_lit, zi_neg, zi_add, zi_sub, zi_mul, zi_div, zi_char, zb_eq0, zb_eq1, zb_le0, zb_or, zb_and, zb_or1, zb_or0, zb_1or, zb_0or, zb_and1, zb_and0, zb_1and, zb_0and, zb_nar, zi_nar0, zi_nar1, zl_ite, zl_ret, zl_retb, zl_retb1, zl_retb0, zl_retc, zl_ki, zl_kr, zl_kr0, zl_krf, zl_kl, zl_kf, zl_kd, zl_kv, zl_rf, zl_rf0, zl_valI, zl_valP, zl_valL, zl_get, zl_getI, zl_getR, zl_get0, zl_getr, zl_fk, zl_set, zl_setk, zl_setNb, zl_setN1, zl_setN0, zl_up1, zl_up2, zl_new, zl_newA, zl_len, zl_lenk, zl_ga, zl_gaI, zl_gaL, zl_gaD, zl_gaR, zl_sa, zl_saI, zl_saL, zl_saD, zl_saR, zl_ck, zl_ok, zl_ok0, zl_csS, zl_csS0, zl_csk, zl_tk, zl_csA, zl_isS0, zl_c, zl_cv, zl_cx, zl_sp, zl_rv, zl_rvk, zl_rvk2, zl_div, zl_rem, zl_ath, zl_clnk, zl_clnk0, zl_cat, zl_catn, zl_l0, zl_ls, zl_s0, zl_ss, List.length_cons, List.length_nil, Nat.reduceLT, Nat.zero_add, Nat.lt_add_one, reduceCtorEq, zi_le, zi_lt, zi_eq, if_pos, if_neg, if_true, if_false, Bool.true_eq_false, Bool.false_eq_true, eq_self, Bool.not_true, Bool.not_false, Int.toNat_natCast, Nat.reduceAdd, Int.reduceAdd, Int.reduceSub, Int.reduceMul, Int.reduceNeg, Int.reduceToNat, zl_aa]
  · have : i = 0 ∨ i = 1 ∨ i = 2 := by omega
    rcases this with rfl | rfl | rfl <;> simp [zl_updE]
  · rw [zl_up2 hq, zl_up2 hq, zl_up2 hq, zl_up2 hq]
