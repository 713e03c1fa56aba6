set_option maxRecDepth 20000
/-! ===== plain law: Heights, its cells ===== -/
def rHt (f : Nat → Option zO) (a : Nat) (h : Nat → Nat → Nat) : Prop := (∃ g : Nat → Option Nat, f a = some (.inl (7, 8, .inr (.inr (.inr (.inr g))))) ∧ ∀ i, i < 8 → g i = some (a + 1 + i)) ∧ ∀ i, i < 8 → ∃ w : Nat → Int32, f (a + 1 + i) = some (.inl (0, 100, .inl w)) ∧ ∀ j, j < 100 → w j = zi (h i j)
theorem rHt.mv {f f' : Nat → Option zO} {a : Nat} {h : Nat → Nat → Nat} (hh : rHt f a h) (hf : ∀ q, a ≤ q → q < a + 9 → f' q = f q) : rHt f' a h := by
  obtain ⟨⟨g, h1, h2⟩, h3⟩ := hh
  refine ⟨⟨g, (hf a (by omega) (by omega)).trans h1, h2⟩, fun i hi => ?_⟩
  obtain ⟨w, h4, h5⟩ := h3 i hi
  exact ⟨w, (hf _ (by omega) (by omega)).trans h4, h5⟩
def hset (h : Nat → Nat → Nat) (i j v : Nat) : Nat → Nat → Nat := fun p c => if p = i ∧ c = j then v else h p c
theorem rHt.set {f : Nat → Option zO} {a : Nat} {h : Nat → Nat → Nat} (hh : rHt f a h) {i j : Nat} (hi : i < 8) (v : Nat) {w : Nat → Int32} (hw : f (a + 1 + i) = some (.inl (0, 100, .inl w))) : rHt (zUp f (a + 1 + i) (.inl (0, 100, .inl (upd w j (zi v))))) a (hset h i j v) := by
  obtain ⟨⟨g, h1, h2⟩, h3⟩ := hh
  refine ⟨⟨g, (zl_up2 (by omega)).trans h1, h2⟩, fun i' hi' => ?_⟩
  obtain ⟨w', h4, h5⟩ := h3 i' hi'
  by_cases hii : i' = i
  · subst hii
    refine ⟨_, zl_up1 rfl, fun j' hj' => ?_⟩
    rw [hw] at h4
    injection h4 with h4; injection h4 with h4; injection h4 with _ h4; injection h4 with _ h4; injection h4 with h4
    subst h4
    unfold hset
    rw [zl_updE]
    by_cases hjj : j' = j
    · rw [if_pos hjj, if_pos ⟨rfl, hjj⟩]
    · rw [if_neg hjj, if_neg (fun h => hjj h.2)]; exact h5 j' hj'
  · refine ⟨w', (zl_up2 (by omega)).trans h4, fun j' hj' => ?_⟩
    unfold hset
    rw [if_neg (fun h => hii h.1)]; exact h5 j' hj'
def rHei (f : Nat → Option zO) (hb b : Nat) (h : Nat → Nat → Nat) : Prop := f hb = some (.inr (18, [.ref b, .ref (hb + 1)])) ∧ rHt f (hb + 1) h
theorem rHei.ck {f : Nat → Option zO} {hb b : Nat} {h : Nat → Nat → Nat} (hh : rHei f hb b h) : zCk (f hb) = some 18 := by rw [hh.1]; rfl
theorem rHei.mv {f f' : Nat → Option zO} {hb b : Nat} {h : Nat → Nat → Nat} (hh : rHei f hb b h) (hf : ∀ q, hb ≤ q → q < hb + 10 → f' q = f q) : rHei f' hb b h :=
  ⟨(hf hb (by omega) (by omega)).trans hh.1, hh.2.mv fun q _ _ => hf q (by omega) (by omega)⟩
theorem sp_hby_l {E : zE} {lo hi hb b t la v : Nat} {h : Nat → Nat → Nat} {ps : List Nat} {as : List zAtom} {s : Nat → Int} {f0 : Nat → Option zO} (hh : rHei f0 hb b h) (hle : ∀ p c, h p c ≤ 1000) (has : rAtoms f0 lo hi ps as) (hv : rVals f0 v s) (hs : okS s) (h5 : E 5 < E 0) (hE : E 0 ≤ t) (hht : hi ≤ t) (hbt : hb + 10 ≤ t) (hvt : v < t) (n m : Nat) :
    ∀ (d i k acc : Nat) (f : Nat → Option zO), i + d = as.length → d < k → acc ≤ 1000 → (∀ q, q ≠ t → f q = f0 q) → rIt E f t lo hi la ps i →
    ∃ f', s_X12_heightBy_13 E k (some hb) (some v) (zi acc) (some t) (n, m, f) = some (.inl (some (.int (zi ((as.drop i).foldl (fun a A => max a (h A.1 (ac s A).toNat)) acc + 1 : Nat)))), (n, m, f')) ∧ ∀ q, q ≠ t → f' q = f0 q := by
  intro d
  induction d with
  | zero =>
    intro i k acc f hid hk hacc hf hit
    obtain ⟨k, rfl⟩ : ∃ k', k = k' + 1 := ⟨k - 1, by omega⟩
    have hi' : i = ps.length := by rw [has.1]; omega
    subst hi'
    refine ⟨f, ?_, hf⟩
    rw [s_X12_heightBy_13]
    simp (disch := omega) only [zi_lit, zi_neg, zi_add, zi_sub, zi_mul, zi_div, zi_char, zb_eq0, zb_eq1, zb_le0, zb_or, zb_and, zb_or1, zb_or0, zb_1or, zb_0or, zb_and1, zb_and0, zb_1and, zb_0and, zb_nar, zi_nar0, zi_nar1, zl_ite, zl_ret, zl_retb, zl_retb1, zl_retb0, zl_retc, zl_ki, zl_kr, zl_kr0, zl_krf, zl_kl, zl_kf, zl_kd, zl_kv, zl_rf, zl_rf0, zl_valI, zl_valP, zl_valL, zl_get, zl_getI, zl_getR, zl_get0, zl_getr, zl_fk, zl_set, zl_setk, zl_setNb, zl_setN1, zl_setN0, zl_up1, zl_up2, zl_new, zl_newA, zl_len, zl_lenk, zl_ga, zl_gaI, zl_gaL, zl_gaD, zl_gaR, zl_sa, zl_saI, zl_saL, zl_saD, zl_saR, zl_ck, zl_ok, zl_ok0, zl_csS, zl_csS0, zl_csk, zl_tk, zl_csA, zl_isS0, zl_c, zl_cv, zl_cx, zl_sp, zl_rv, zl_rvk, zl_rvk2, zl_div, zl_rem, zl_ath, zl_clnk, zl_clnk0, zl_cat, zl_catn, zl_l0, zl_ls, zl_s0, zl_ss, List.length_cons, List.length_nil, Nat.reduceLT, Nat.zero_add, Nat.lt_add_one, reduceCtorEq, zi_le, zi_lt, zi_eq, if_pos, if_neg, if_true, if_false, Bool.true_eq_false, Bool.false_eq_true, eq_self, Bool.not_true, Bool.not_false, Int.toNat_natCast, Nat.reduceAdd, Int.reduceAdd, Int.reduceSub, Int.reduceMul, Int.reduceNeg, Int.reduceToNat, zl_aa, hit.ck, hit.no]
    rw [List.drop_eq_nil_of_le (by omega)]
    rfl
  | succ d ih =>
    intro i k acc f hid hk hacc hf hit
    obtain ⟨k, rfl⟩ : ∃ k', k = k' + 1 := ⟨k - 1, by omega⟩
    obtain ⟨x, hx⟩ : ∃ x, ps[i]? = some x := ⟨ps[i]'(by rw [has.1]; omega), List.getElem?_eq_getElem _⟩
    obtain ⟨A, hA⟩ : ∃ A, as[i]? = some A := ⟨as[i]'(by omega), List.getElem?_eq_getElem _⟩
    have hilt : i < ps.length := by rw [has.1]; omega
    obtain ⟨f2, e1, it2, x2⟩ := hit.next hx hE hht h5
    have hf2 : ∀ q, q ≠ t → f2 q = f0 q := fun q hq => (x2 q hq).trans (hf q hq)
    obtain ⟨a1, a2', a3⟩ := has.2 i x A hx hA
    have hxA : rAtom f2 x A := a1.mv (hf2 x (by omega))
    have hv2 : rVals f2 v s := hv.mv (hf2 v (by omega))
    have hh2 : rHei f2 hb b h := hh.mv fun q _ _ => hf2 q (by omega)
    have hac := ac_ok hs a1.2
    have hz : zi (ac s A) = zi ((ac s A).toNat : Nat) := by rw [Int.toNat_of_nonneg hac.1]
    obtain ⟨g1, ⟨⟨g, g2, g3⟩, g4⟩⟩ := hh2
    obtain ⟨w, w1, w2⟩ := g4 A.1 a1.2.1
    have wc := w2 (ac s A).toNat (by omega)
    have hlh := hle A.1 (ac s A).toNat
    have hp8 := a1.2.1
    have q9 := hxA.1
    obtain ⟨f', i1, i2⟩ := ih (i + 1) k (max acc (h A.1 (ac s A).toNat)) f2 (by omega) (by omega) (by omega) hf2 it2
    refine ⟨f', ?_, i2⟩
    have hdrop : as.drop i = A :: as.drop (i + 1) := by
      obtain ⟨h5, h6⟩ := (List.getElem?_eq_some_iff.mp hA)
      rw [← h6]; exact List.drop_eq_getElem_cons h5
    have hmx : (if ((acc : Nat) : Int) < ((h A.1 (ac s A).toNat : Nat) : Int) then ((h A.1 (ac s A).toNat : Nat) : Int) else ((acc : Nat) : Int)) = ((max acc (h A.1 (ac s A).toNat) : Nat) : Int) := by split <;> omega
    rw [s_X12_heightBy_13]
    simp (disch := omega) only [zi_lit, zi_neg, zi_add, zi_sub, zi_mul, zi_div, zi_char, zb_eq0, zb_eq1, zb_le0, zb_or, zb_and, zb_or1, zb_or0, zb_1or, zb_0or, zb_and1, zb_and0, zb_1and, zb_0and, zb_nar, zi_nar0, zi_nar1, zl_ite, zl_ret, zl_retb, zl_retb1, zl_retb0, zl_retc, zl_ki, zl_kr, zl_kr0, zl_krf, zl_kl, zl_kf, zl_kd, zl_kv, zl_rf, zl_rf0, zl_valI, zl_valP, zl_valL, zl_get, zl_getI, zl_getR, zl_get0, zl_getr, zl_fk, zl_set, zl_setk, zl_setNb, zl_setN1, zl_setN0, zl_up1, zl_up2, zl_new, zl_newA, zl_len, zl_lenk, zl_ga, zl_gaI, zl_gaL, zl_gaD, zl_gaR, zl_sa, zl_saI, zl_saL, zl_saD, zl_saR, zl_ck, zl_ok, zl_ok0, zl_csS, zl_csS0, zl_csk, zl_tk, zl_csA, zl_isS0, zl_c, zl_cv, zl_cx, zl_sp, zl_rv, zl_rvk, zl_rvk2, zl_div, zl_rem, zl_ath, zl_clnk, zl_clnk0, zl_cat, zl_catn, zl_l0, zl_ls, zl_s0, zl_ss, List.length_cons, List.length_nil, Nat.reduceLT, Nat.zero_add, Nat.lt_add_one, reduceCtorEq, zi_le, zi_lt, zi_eq, if_pos, if_neg, if_true, if_false, Bool.true_eq_false, Bool.false_eq_true, eq_self, Bool.not_true, Bool.not_false, Int.toNat_natCast, Nat.reduceAdd, Int.reduceAdd, Int.reduceSub, Int.reduceMul, Int.reduceNeg, Int.reduceToNat, zl_aa, hit.ck, hit.has hilt, e1, hxA.ck, g1, q9, g2, g3 A.1 hp8, sp_aCode (E := E) hxA hv2, hz, w1, wc, zi_ite]
    rw [hmx, i1, hdrop]
    rfl
theorem sp_heightBy {E : zE} {lo hi hb b rb v n : Nat} {h : Nat → Nat → Nat} {R : zRule} {s : Nat → Int} {f : Nat → Option zO} (hh : rHei f hb b h) (hle : ∀ p c, h p c ≤ 1000) (hR : rRule E f lo hi rb R) (hv : rVals f v s) (hs : okS s) (h5 : E 5 < E 0) (hE : E 0 ≤ n) (hhn : hi ≤ n) (hbn : hb + 10 ≤ n) (hvn : v < n) (m : Nat) :
    ∃ f', s_X12_heightBy E (some hb) (some rb) (some v) (n, m, f) = some (.inl (some (.int (zi (hby h s (prem R.2.1) : Nat)))), (n + 1, m + 4, f')) ∧ zX n f f' := by
  obtain ⟨-, -, hok, hha, la, pa, ta, bs, ps, q4, q6, q7, q8, q9, q10, q11, q12⟩ := hR
  obtain ⟨f1, t1, t2, t3⟩ := sp_iter q11 (n := n) hE hhn h5 m
  have hlen : (prem R.2.1).length < zN := by
    have := hok.2.2.1
    unfold prem zN
    rw [List.length_map]
    have := List.length_filter_le (fun L : zLit => decide (L.1 = 0)) R.2.1
    omega
  obtain ⟨f', e1, e2⟩ := sp_hby_l (E := E) (hh.mv (f' := f1) fun q _ _ => t3 q (by omega)) hle (q12.mv fun q _ hq => t3 q (by omega)) (hv.mv (t3 v (by omega))) hs h5 hE hhn hbn hvn (n + 1) (m + 4) (prem R.2.1).length 0 zN 0 f1 (by omega) hlen (by omega) (fun _ _ => rfl) t2
  refine ⟨f', ?_, fun q hq => (e2 q (by omega)).trans (t3 q (by omega))⟩
  rw [show ((0 : Nat) : Int) = 0 from rfl] at e1
  unfold s_X12_heightBy
  simp (disch := omega) only [zi_lit, zi_neg, zi_add, zi_sub, zi_mul, zi_div, zi_char, zb_eq0, zb_eq1, zb_le0, zb_or, zb_and, zb_or1, zb_or0, zb_1or, zb_0or, zb_and1, zb_and0, zb_1and, zb_0and, zb_nar, zi_nar0, zi_nar1, zl_ite, zl_ret, zl_retb, zl_retb1, zl_retb0, zl_retc, zl_ki, zl_kr, zl_kr0, zl_krf, zl_kl, zl_kf, zl_kd, zl_kv, zl_rf, zl_rf0, zl_valI, zl_valP, zl_valL, zl_get, zl_getI, zl_getR, zl_get0, zl_getr, zl_fk, zl_set, zl_setk, zl_setNb, zl_setN1, zl_setN0, zl_up1, zl_up2, zl_new, zl_newA, zl_len, zl_lenk, zl_ga, zl_gaI, zl_gaL, zl_gaD, zl_gaR, zl_sa, zl_saI, zl_saL, zl_saD, zl_saR, zl_ck, zl_ok, zl_ok0, zl_csS, zl_csS0, zl_csk, zl_tk, zl_csA, zl_isS0, zl_c, zl_cv, zl_cx, zl_sp, zl_rv, zl_rvk, zl_rvk2, zl_div, zl_rem, zl_ath, zl_clnk, zl_clnk0, zl_cat, zl_catn, zl_l0, zl_ls, zl_s0, zl_ss, List.length_cons, List.length_nil, Nat.reduceLT, Nat.zero_add, Nat.lt_add_one, reduceCtorEq, zi_le, zi_lt, zi_eq, if_pos, if_neg, if_true, if_false, Bool.true_eq_false, Bool.false_eq_true, eq_self, Bool.not_true, Bool.not_false, Int.toNat_natCast, Nat.reduceAdd, Int.reduceAdd, Int.reduceSub, Int.reduceMul, Int.reduceNeg, Int.reduceToNat, zl_aa, q4, q11.ck, t1]
  rw [e1]
  rfl
theorem hby_bd {h : Nat → Nat → Nat} (hle : ∀ p c, h p c ≤ 1000) (s : Nat → Int) (ps : List zAtom) : 1 ≤ hby h s ps ∧ hby h s ps ≤ 1001 := by
  refine ⟨by unfold hby; omega, ?_⟩
  exact hby_le.mpr fun A _ => hle _ _
def up13 (R : zRule) (h : Nat → Nat → Nat) (s : Nat) : Nat → Nat → Nat := hset h R.1.1 (hd R (sgs s)) (min (h R.1.1 (hd R (sgs s))) (hby h (sgs s) (prem R.2.1)))
def up14 (R : zRule) (y : Nat) (h : Nat → Nat → Nat) (s : Nat) : Nat → Nat → Nat := hset h R.1.1 (hd R (sgs s)) (if h R.1.1 (hd R (sgs s)) = 1000 ∧ hby h (sgs s) (prem R.2.1) ≤ y then y else h R.1.1 (hd R (sgs s)))
/-- what leaves all but a Heights object's cells as it is -/
def zHx (n hb : Nat) (f f' : Nat → Option zO) : Prop := ∀ q, q < n → (q < hb ∨ hb + 10 ≤ q) → f' q = f q
theorem sp_13 {E : zE} {lo hi hb b rb v n a0 s : Nat} {h : Nat → Nat → Nat} {R : zRule} {f : Nat → Option zO} (ha : f a0 = some (.inr (19, [.ref hb]))) (hh : rHei f hb b h) (hle : ∀ p c, h p c ≤ 1000) (hR : rRule E f lo hi rb R) (hv : rVals f v (sgs s)) (hs : s < 1000) (h5 : E 5 < E 0) (hE : E 0 ≤ hb) (hhn : hi ≤ n) (hbn : hb + 10 ≤ n) (hvn : v < n) (ha0 : a0 < n) (m : Nat) :
    ∃ f', zRv (some a0) (meets E (some rb) (some v)) (n, m, f) = some (.inl none, (n + 1, m + 4, f')) ∧ zHx n hb f f' ∧ rHei f' hb b (up13 R h s) := by
  have hok := hR.2.2.1
  obtain ⟨f1, e1, x1⟩ := sp_heightBy hh hle hR hv (sgs_ok hs) h5 (by omega) hhn hbn hvn m
  have hak : zCk (f a0) = some 19 := by rw [ha]; rfl
  have hRk := hR
  obtain ⟨-, -, -, hha, la, pa, ta, bs, ps, q4, q6, q7, q8, -⟩ := hRk
  have hlt := hd_lt hok hs
  have hz := hd_zi hok hs
  have hp8 := hok.1.1
  obtain ⟨g1, ⟨⟨g, g2, g3⟩, g4⟩⟩ := hh
  have hh : rHei f hb b h := ⟨g1, ⟨⟨g, g2, g3⟩, g4⟩⟩
  obtain ⟨w, w1, w2⟩ := g4 R.1.1 hp8
  have wc := w2 (hd R (sgs s)) (by omega)
  have hb1 := hby_bd hle (sgs s) (prem R.2.1)
  have hlh := hle R.1.1 (hd R (sgs s))
  have w1' := (x1 _ (by omega)).trans w1
  have q9 := q8.1
  have hmn : (if ((hby h (sgs s) (prem R.2.1) : Nat) : Int) < ((h R.1.1 (hd R (sgs s)) : Nat) : Int) then ((hby h (sgs s) (prem R.2.1) : Nat) : Int) else ((h R.1.1 (hd R (sgs s)) : Nat) : Int)) = ((min (h R.1.1 (hd R (sgs s))) (hby h (sgs s) (prem R.2.1)) : Nat) : Int) := by split <;> omega
  refine ⟨zUp f1 (hb + 1 + 1 + R.1.1) (.inl (0, 100, .inl (upd w (hd R (sgs s)) (zi (min (h R.1.1 (hd R (sgs s))) (hby h (sgs s) (prem R.2.1)) : Nat))))), ?_, fun q hq hq' => (zl_up2 (by omega)).trans (x1 q hq), (zl_up2 (by omega)).trans ((x1 hb (by omega)).trans g1), (hh.2.mv fun q _ _ => x1 q (by omega)).set hp8 _ w1'⟩
  unfold meets s_X13_meet
  simp (disch := omega) only [zi_lit, zi_neg, zi_add, zi_sub, zi_mul, zi_div, zi_char, zb_eq0, zb_eq1, zb_le0, zb_or, zb_and, zb_or1, zb_or0, zb_1or, zb_0or, zb_and1, zb_and0, zb_1and, zb_0and, zb_nar, zi_nar0, zi_nar1, zl_ite, zl_ret, zl_retb, zl_retb1, zl_retb0, zl_retc, zl_ki, zl_kr, zl_kr0, zl_krf, zl_kl, zl_kf, zl_kd, zl_kv, zl_rf, zl_rf0, zl_valI, zl_valP, zl_valL, zl_get, zl_getI, zl_getR, zl_get0, zl_getr, zl_fk, zl_set, zl_setk, zl_setNb, zl_setN1, zl_setN0, zl_up1, zl_up2, zl_new, zl_newA, zl_len, zl_lenk, zl_ga, zl_gaI, zl_gaL, zl_gaD, zl_gaR, zl_sa, zl_saI, zl_saL, zl_saD, zl_saR, zl_ck, zl_ok, zl_ok0, zl_csS, zl_csS0, zl_csk, zl_tk, zl_csA, zl_isS0, zl_c, zl_cv, zl_cx, zl_sp, zl_rv, zl_rvk, zl_rvk2, zl_div, zl_rem, zl_ath, zl_clnk, zl_clnk0, zl_cat, zl_catn, zl_l0, zl_ls, zl_s0, zl_ss, List.length_cons, List.length_nil, Nat.reduceLT, Nat.zero_add, Nat.lt_add_one, reduceCtorEq, zi_le, zi_lt, zi_eq, if_pos, if_neg, if_true, if_false, Bool.true_eq_false, Bool.false_eq_true, eq_self, Bool.not_true, Bool.not_false, Int.toNat_natCast, Nat.reduceAdd, Int.reduceAdd, Int.reduceSub, Int.reduceMul, Int.reduceNeg, Int.reduceToNat, zl_aa, hak, q4, q8.ck, sp_aCode (E := E) q8 hv, hz, ha, g1, g2, q9, g3 R.1.1 hp8, w1, wc, hh.ck, e1, w1', zi_ite, hmn]
theorem sp_14 {E : zE} {lo hi hb b rb v n a0 s y : Nat} {h : Nat → Nat → Nat} {R : zRule} {f : Nat → Option zO} (ha : f a0 = some (.inr (20, [.int (zi y), .ref hb]))) (hy : y ≤ 999) (hh : rHei f hb b h) (hle : ∀ p c, h p c ≤ 1000) (hR : rRule E f lo hi rb R) (hv : rVals f v (sgs s)) (hs : s < 1000) (h5 : E 5 < E 0) (hE : E 0 ≤ hb) (hhn : hi ≤ n) (hbn : hb + 10 ≤ n) (hvn : v < n) (ha0 : a0 < n) (m : Nat) :
    ∃ (n' m' : Nat) (f' : Nat → Option zO), zRv (some a0) (meets E (some rb) (some v)) (n, m, f) = some (.inl none, (n', m', f')) ∧ n ≤ n' ∧ n' ≤ n + 1 ∧ m ≤ m' ∧ m' ≤ m + 4 ∧ zHx n hb f f' ∧ rHei f' hb b (up14 R y h s) := by
  have hok := hR.2.2.1
  obtain ⟨f1, e1, x1⟩ := sp_heightBy hh hle hR hv (sgs_ok hs) h5 (by omega) hhn hbn hvn m
  have hak : zCk (f a0) = some 20 := by rw [ha]; rfl
  have hRk := hR
  obtain ⟨-, -, -, hha, la, pa, ta, bs, ps, q4, q6, q7, q8, -⟩ := hRk
  have hlt := hd_lt hok hs
  have hz := hd_zi hok hs
  have hp8 := hok.1.1
  obtain ⟨g1, ⟨⟨g, g2, g3⟩, g4⟩⟩ := hh
  have hh : rHei f hb b h := ⟨g1, ⟨⟨g, g2, g3⟩, g4⟩⟩
  obtain ⟨w, w1, w2⟩ := g4 R.1.1 hp8
  have wc := w2 (hd R (sgs s)) (by omega)
  have hb1 := hby_bd hle (sgs s) (prem R.2.1)
  have hlh := hle R.1.1 (hd R (sgs s))
  have w1' := (x1 _ (by omega)).trans w1
  have ha1 := (x1 a0 ha0).trans ha
  have q9 := q8.1
  by_cases c1 : h R.1.1 (hd R (sgs s)) = 1000
  · by_cases c2 : hby h (sgs s) (prem R.2.1) ≤ y
    · refine ⟨n + 1, m + 4, zUp f1 (hb + 1 + 1 + R.1.1) (.inl (0, 100, .inl (upd w (hd R (sgs s)) (zi (y : Nat))))), ?_, by omega, by omega, by omega, by omega, fun q hq hq' => (zl_up2 (by omega)).trans (x1 q hq), (zl_up2 (by omega)).trans ((x1 hb (by omega)).trans g1), ?_⟩
      · unfold meets s_X14_meet s_X14_meet_62 s_X14_meet_66
        simp (disch := omega) only [zi_lit, zi_neg, zi_add, zi_sub, zi_mul, zi_div, zi_char, zb_eq0, zb_eq1, zb_le0, zb_or, zb_and, zb_or1, zb_or0, zb_1or, zb_0or, zb_and1, zb_and0, zb_1and, zb_0and, zb_nar, zi_nar0, zi_nar1, zl_ite, zl_ret, zl_retb, zl_retb1, zl_retb0, zl_retc, zl_ki, zl_kr, zl_kr0, zl_krf, zl_kl, zl_kf, zl_kd, zl_kv, zl_rf, zl_rf0, zl_valI, zl_valP, zl_valL, zl_get, zl_getI, zl_getR, zl_get0, zl_getr, zl_fk, zl_set, zl_setk, zl_setNb, zl_setN1, zl_setN0, zl_up1, zl_up2, zl_new, zl_newA, zl_len, zl_lenk, zl_ga, zl_gaI, zl_gaL, zl_gaD, zl_gaR, zl_sa, zl_saI, zl_saL, zl_saD, zl_saR, zl_ck, zl_ok, zl_ok0, zl_csS, zl_csS0, zl_csk, zl_tk, zl_csA, zl_isS0, zl_c, zl_cv, zl_cx, zl_sp, zl_rv, zl_rvk, zl_rvk2, zl_div, zl_rem, zl_ath, zl_clnk, zl_clnk0, zl_cat, zl_catn, zl_l0, zl_ls, zl_s0, zl_ss, List.length_cons, List.length_nil, Nat.reduceLT, Nat.zero_add, Nat.lt_add_one, reduceCtorEq, zi_le, zi_lt, zi_eq, if_pos, if_neg, if_true, if_false, Bool.true_eq_false, Bool.false_eq_true, eq_self, Bool.not_true, Bool.not_false, Int.toNat_natCast, Nat.reduceAdd, Int.reduceAdd, Int.reduceSub, Int.reduceMul, Int.reduceNeg, Int.reduceToNat, zl_aa, hak, q4, q8.ck, sp_aCode (E := E) q8 hv, hz, ha, g1, g2, q9, g3 R.1.1 hp8, w1, wc, hh.ck, e1, w1', ha1]
      · unfold up14; rw [if_pos ⟨c1, c2⟩]
        exact (hh.2.mv fun q _ _ => x1 q (by omega)).set hp8 _ w1'
    · refine ⟨n + 1, m + 4, zUp f1 (hb + 1 + 1 + R.1.1) (.inl (0, 100, .inl (upd w (hd R (sgs s)) (zi (h R.1.1 (hd R (sgs s)) : Nat))))), ?_, by omega, by omega, by omega, by omega, fun q hq hq' => (zl_up2 (by omega)).trans (x1 q hq), (zl_up2 (by omega)).trans ((x1 hb (by omega)).trans g1), ?_⟩
      · unfold meets s_X14_meet s_X14_meet_62 s_X14_meet_66
        simp (disch := omega) only [zi_lit, zi_neg, zi_add, zi_sub, zi_mul, zi_div, zi_char, zb_eq0, zb_eq1, zb_le0, zb_or, zb_and, zb_or1, zb_or0, zb_1or, zb_0or, zb_and1, zb_and0, zb_1and, zb_0and, zb_nar, zi_nar0, zi_nar1, zl_ite, zl_ret, zl_retb, zl_retb1, zl_retb0, zl_retc, zl_ki, zl_kr, zl_kr0, zl_krf, zl_kl, zl_kf, zl_kd, zl_kv, zl_rf, zl_rf0, zl_valI, zl_valP, zl_valL, zl_get, zl_getI, zl_getR, zl_get0, zl_getr, zl_fk, zl_set, zl_setk, zl_setNb, zl_setN1, zl_setN0, zl_up1, zl_up2, zl_new, zl_newA, zl_len, zl_lenk, zl_ga, zl_gaI, zl_gaL, zl_gaD, zl_gaR, zl_sa, zl_saI, zl_saL, zl_saD, zl_saR, zl_ck, zl_ok, zl_ok0, zl_csS, zl_csS0, zl_csk, zl_tk, zl_csA, zl_isS0, zl_c, zl_cv, zl_cx, zl_sp, zl_rv, zl_rvk, zl_rvk2, zl_div, zl_rem, zl_ath, zl_clnk, zl_clnk0, zl_cat, zl_catn, zl_l0, zl_ls, zl_s0, zl_ss, List.length_cons, List.length_nil, Nat.reduceLT, Nat.zero_add, Nat.lt_add_one, reduceCtorEq, zi_le, zi_lt, zi_eq, if_pos, if_neg, if_true, if_false, Bool.true_eq_false, Bool.false_eq_true, eq_self, Bool.not_true, Bool.not_false, Int.toNat_natCast, Nat.reduceAdd, Int.reduceAdd, Int.reduceSub, Int.reduceMul, Int.reduceNeg, Int.reduceToNat, zl_aa, hak, q4, q8.ck, sp_aCode (E := E) q8 hv, hz, ha, g1, g2, q9, g3 R.1.1 hp8, w1, wc, hh.ck, e1, w1', ha1]
      · unfold up14; rw [if_neg (fun h => c2 h.2)]
        exact (hh.2.mv fun q _ _ => x1 q (by omega)).set hp8 _ w1'
  · refine ⟨n, m, zUp f (hb + 1 + 1 + R.1.1) (.inl (0, 100, .inl (upd w (hd R (sgs s)) (zi (h R.1.1 (hd R (sgs s)) : Nat))))), ?_, by omega, by omega, by omega, by omega, fun q hq hq' => zl_up2 (by omega), (zl_up2 (by omega)).trans g1, ?_⟩
    · unfold meets s_X14_meet s_X14_meet_62 s_X14_meet_66
      simp (disch := omega) only [zi_lit, zi_neg, zi_add, zi_sub, zi_mul, zi_div, zi_char, zb_eq0, zb_eq1, zb_le0, zb_or, zb_and, zb_or1, zb_or0, zb_1or, zb_0or, zb_and1, zb_and0, zb_1and, zb_0and, zb_nar, zi_nar0, zi_nar1, zl_ite, zl_ret, zl_retb, zl_retb1, zl_retb0, zl_retc, zl_ki, zl_kr, zl_kr0, zl_krf, zl_kl, zl_kf, zl_kd, zl_kv, zl_rf, zl_rf0, zl_valI, zl_valP, zl_valL, zl_get, zl_getI, zl_getR, zl_get0, zl_getr, zl_fk, zl_set, zl_setk, zl_setNb, zl_setN1, zl_setN0, zl_up1, zl_up2, zl_new, zl_newA, zl_len, zl_lenk, zl_ga, zl_gaI, zl_gaL, zl_gaD, zl_gaR, zl_sa, zl_saI, zl_saL, zl_saD, zl_saR, zl_ck, zl_ok, zl_ok0, zl_csS, zl_csS0, zl_csk, zl_tk, zl_csA, zl_isS0, zl_c, zl_cv, zl_cx, zl_sp, zl_rv, zl_rvk, zl_rvk2, zl_div, zl_rem, zl_ath, zl_clnk, zl_clnk0, zl_cat, zl_catn, zl_l0, zl_ls, zl_s0, zl_ss, List.length_cons, List.length_nil, Nat.reduceLT, Nat.zero_add, Nat.lt_add_one, reduceCtorEq, zi_le, zi_lt, zi_eq, if_pos, if_neg, if_true, if_false, Bool.true_eq_false, Bool.false_eq_true, eq_self, Bool.not_true, Bool.not_false, Int.toNat_natCast, Nat.reduceAdd, Int.reduceAdd, Int.reduceSub, Int.reduceMul, Int.reduceNeg, Int.reduceToNat, zl_aa, hak, q4, q8.ck, sp_aCode (E := E) q8 hv, hz, ha, g1, g2, q9, g3 R.1.1 hp8, w1, wc, hh.ck]
    · unfold up14; rw [if_neg (fun h => c1 h.1)]
      exact hh.2.set hp8 _ w1
