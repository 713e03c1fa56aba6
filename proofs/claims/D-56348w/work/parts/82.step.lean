set_option maxRecDepth 20000
/-! ===== plain law: the first step that gives a fact its height; sizes ===== -/
/-- a step that makes the code c with its height -/
def fsP (R : zRule) (G : Nat → Nat → Bool) (c s : Nat) : Prop := vs R s ∧ rH (tt R G) (sgs s) R = true ∧ hd R (sgs s) = c ∧ hby (hgt R G) (sgs s) (prem R.2.1) = hgt R G R.1.1 c
def isFst (R : zRule) (G : Nat → Nat → Bool) (c s : Nat) : Prop := fsP R G c s ∧ ∀ t, t < s → ¬ fsP R G c t
theorem fst_ex {R : zRule} {G : Nat → Nat → Bool} (hst : strat R) (hR : okRule R) {c : Nat} (ht : tt R G R.1.1 c = true) (hg : G R.1.1 c = false) : ∃ s, isFst R G c s := by
  obtain ⟨s, h1, -, h3, h4, h5⟩ := hgt_ex hst hR ht hg
  have h : fsP R G c s := ⟨h1, h4, h3.symm, h5⟩
  clear h1 h3 h4 h5
  induction s using Nat.strongRecOn with
  | ind s ih =>
    by_cases hm : ∃ t, t < s ∧ fsP R G c t
    · obtain ⟨t, h1, h2⟩ := hm
      exact ih t h1 h2
    · exact ⟨s, h, fun t h1 h2 => hm ⟨t, h1, h2⟩⟩
theorem fst_uni {R : zRule} {G : Nat → Nat → Bool} {c s t : Nat} (h : isFst R G c s) (h' : isFst R G c t) : s = t := by
  rcases Nat.lt_trichotomy s t with h1 | h1 | h1
  · exact absurd h.1 (h'.2 s h1)
  · exact h1
  · exact absurd h'.1 (h.2 t h1)
/-- J of First: fo the array of what is found -/
def fJ (R : zRule) (G : Nat → Nat → Bool) (hb a0 fo c ns n0 m0 : Nat) (fS : Nat → Option zO) (s n m : Nat) (f : Nat → Option zO) : Prop :=
  ∃ fl : Bool, (∀ q, q < ns → q ≠ a0 → q ≠ fo → f q = fS q) ∧ f a0 = some (.inr (21, [.int (zi (hgt R G R.1.1 c)), .int (zi c), .ref fo, .int (zb fl), .ref hb])) ∧ (fl = false → ∀ t, t < s → ¬ fsP R G c t) ∧ (fl = true → ∃ t, t < 1000 ∧ isFst R G c t ∧ rVals f fo (sgs t)) ∧ (∃ w, f fo = some (.inl (0, 3, .inl w))) ∧ n0 ≤ n ∧ n ≤ n0 + 2 * vc R s ∧ m ≤ m0 + 8 * vc R s
theorem sp_first_copy {E : zE} {f : Nat → Option zO} {a0 fo v : Nat} {s : Nat → Int} {w0 : Nat → Int32} {x0 x1 x3 x4 : Value} (hE : E 0 ≤ fo) (ha : f a0 = some (.inr (21, [x0, x1, .ref fo, x3, x4]))) (hf : f fo = some (.inl (0, 3, .inl w0))) (hv : rVals f v s) (hvf : v ≠ fo) (haf : a0 ≠ fo) (A : Option Nat) (n m : Nat) : ∃ f', s_X15_meet_45 E zN (some a0) (some v) (zi 0) (n, m, f) = some (.inl none, (n, m, f')) ∧ rVals f' fo s ∧ ∀ q, q ≠ fo → f' q = f q := by
  obtain ⟨w, v1, v2⟩ := hv
  have k0 := v2 0 (by omega); have k1 := v2 1 (by omega); have k2 := v2 2 (by omega)
  obtain ⟨j, hj⟩ : ∃ j, zN = j + 4 := ⟨zN - 4, by unfold zN; omega⟩
  generalize hf1 : zUp f fo (.inl (0, 3, .inl (upd w0 0 (zi (s 0))))) = f1
  have h1 : ∀ q, q ≠ fo → f1 q = f q := fun q hq => by rw [← hf1, zl_up2 hq]
  generalize hf2 : zUp f1 fo (.inl (0, 3, .inl (upd (upd w0 0 (zi (s 0))) 1 (zi (s 1))))) = f2
  have h2 : ∀ q, q ≠ fo → f2 q = f1 q := fun q hq => by rw [← hf2, zl_up2 hq]
  generalize hf3 : zUp f2 fo (.inl (0, 3, .inl (upd (upd (upd w0 0 (zi (s 0))) 1 (zi (s 1))) 2 (zi (s 2))))) = f3
  have h3 : ∀ q, q ≠ fo → f3 q = f2 q := fun q hq => by rw [← hf3, zl_up2 hq]
  have a1 := (h1 a0 haf).trans ha
  have a2 := (h2 a0 haf).trans a1
  have b1 := (h1 v hvf).trans v1
  have b2 := (h2 v hvf).trans b1
  have c1 : f1 fo = some (.inl (0, 3, .inl (upd w0 0 (zi (s 0))))) := by rw [← hf1, zl_up1 rfl]
  have c2 : f2 fo = some (.inl (0, 3, .inl (upd (upd w0 0 (zi (s 0))) 1 (zi (s 1))))) := by rw [← hf2, zl_up1 rfl]
  refine ⟨f3, ?_, ⟨_, by rw [← hf3, zl_up1 rfl], fun i hi => ?_⟩, fun q hq => (h3 q hq).trans ((h2 q hq).trans (h1 q hq))⟩
  · rw [hj, s_X15_meet_45]
    simp (disch := omega) only [zi_lit, zi_neg, zi_add, zi_sub, zi_mul, zi_div, zi_char, zb_eq0, zb_eq1, zb_le0, zb_or, zb_and, zb_or1, zb_or0, zb_1or, zb_0or, zb_and1, zb_and0, zb_1and, zb_0and, zb_nar, zi_nar0, zi_nar1, zl_ite, zl_ret, zl_retb, zl_retb1, zl_retb0, zl_retc, zl_ki, zl_kr, zl_kr0, zl_krf, zl_kl, zl_kf, zl_kd, zl_kv, zl_rf, zl_rf0, zl_valI, zl_valP, zl_valL, zl_get, zl_getI, zl_getR, zl_get0, zl_getr, zl_fk, zl_set, zl_setk, zl_setNb, zl_setN1, zl_setN0, zl_up1, zl_up2, zl_new, zl_newA, zl_len, zl_lenk, zl_ga, zl_gaI, zl_gaL, zl_gaD, zl_gaR, zl_sa, zl_saI, zl_saL, zl_saD, zl_saR, zl_ck, zl_ok, zl_ok0, zl_csS, zl_csS0, zl_csk, zl_tk, zl_csA, zl_isS0, zl_c, zl_cv, zl_cx, zl_sp, zl_rv, zl_rvk, zl_rvk2, zl_div, zl_rem, zl_ath, zl_clnk, zl_clnk0, zl_cat, zl_catn, zl_l0, zl_ls, zl_s0, zl_ss, List.length_cons, List.length_nil, Nat.reduceLT, Nat.zero_add, Nat.lt_add_one, reduceCtorEq, zi_le, zi_lt, zi_eq, if_pos, if_neg, if_true, if_false, Bool.true_eq_false, Bool.false_eq_true, eq_self, Bool.not_true, Bool.not_false, Int.toNat_natCast, Nat.reduceAdd, Int.reduceAdd, Int.reduceSub, Int.reduceMul, Int.reduceNeg, Int.reduceToNat, zl_aa, ha, v1, k0, hf, hf1]
    rw [s_X15_meet_45]
    simp (disch := omega) only [zi_lit, zi_neg, zi_add, zi_sub, zi_mul, zi_div, zi_char, zb_eq0, zb_eq1, zb_le0, zb_or, zb_and, zb_or1, zb_or0, zb_1or, zb_0or, zb_and1, zb_and0, zb_1and, zb_0and, zb_nar, zi_nar0, zi_nar1, zl_ite, zl_ret, zl_retb, zl_retb1, zl_retb0, zl_retc, zl_ki, zl_kr, zl_kr0, zl_krf, zl_kl, zl_kf, zl_kd, zl_kv, zl_rf, zl_rf0, zl_valI, zl_valP, zl_valL, zl_get, zl_getI, zl_getR, zl_get0, zl_getr, zl_fk, zl_set, zl_setk, zl_setNb, zl_setN1, zl_setN0, zl_up1, zl_up2, zl_new, zl_newA, zl_len, zl_lenk, zl_ga, zl_gaI, zl_gaL, zl_gaD, zl_gaR, zl_sa, zl_saI, zl_saL, zl_saD, zl_saR, zl_ck, zl_ok, zl_ok0, zl_csS, zl_csS0, zl_csk, zl_tk, zl_csA, zl_isS0, zl_c, zl_cv, zl_cx, zl_sp, zl_rv, zl_rvk, zl_rvk2, zl_div, zl_rem, zl_ath, zl_clnk, zl_clnk0, zl_cat, zl_catn, zl_l0, zl_ls, zl_s0, zl_ss, List.length_cons, List.length_nil, Nat.reduceLT, Nat.zero_add, Nat.lt_add_one, reduceCtorEq, zi_le, zi_lt, zi_eq, if_pos, if_neg, if_true, if_false, Bool.true_eq_false, Bool.false_eq_true, eq_self, Bool.not_true, Bool.not_false, Int.toNat_natCast, Nat.reduceAdd, Int.reduceAdd, Int.reduceSub, Int.reduceMul, Int.reduceNeg, Int.reduceToNat, zl_aa, a1, b1, k1, c1, hf2]
    rw [s_X15_meet_45]
    simp (disch := omega) only [zi_lit, zi_neg, zi_add, zi_sub, zi_mul, zi_div, zi_char, zb_eq0, zb_eq1, zb_le0, zb_or, zb_and, zb_or1, zb_or0, zb_1or, zb_0or, zb_and1, zb_and0, zb_1and, zb_0and, zb_nar, zi_nar0, zi_nar1, zl_ite, zl_ret, zl_retb, zl_retb1, zl_retb0, zl_retc, zl_ki, zl_kr, zl_kr0, zl_krf, zl_kl, zl_kf, zl_kd, zl_kv, zl_rf, zl_rf0, zl_valI, zl_valP, zl_valL, zl_get, zl_getI, zl_getR, zl_get0, zl_getr, zl_fk, zl_set, zl_setk, zl_setNb, zl_setN1, zl_setN0, zl_up1, zl_up2, zl_new, zl_newA, zl_len, zl_lenk, zl_ga, zl_gaI, zl_gaL, zl_gaD, zl_gaR, zl_sa, zl_saI, zl_saL, zl_saD, zl_saR, zl_ck, zl_ok, zl_ok0, zl_csS, zl_csS0, zl_csk, zl_tk, zl_csA, zl_isS0, zl_c, zl_cv, zl_cx, zl_sp, zl_rv, zl_rvk, zl_rvk2, zl_div, zl_rem, zl_ath, zl_clnk, zl_clnk0, zl_cat, zl_catn, zl_l0, zl_ls, zl_s0, zl_ss, List.length_cons, List.length_nil, Nat.reduceLT, Nat.zero_add, Nat.lt_add_one, reduceCtorEq, zi_le, zi_lt, zi_eq, if_pos, if_neg, if_true, if_false, Bool.true_eq_false, Bool.false_eq_true, eq_self, Bool.not_true, Bool.not_false, Int.toNat_natCast, Nat.reduceAdd, Int.reduceAdd, Int.reduceSub, Int.reduceMul, Int.reduceNeg, Int.reduceToNat, zl_aa, a2, b2, k2, c2, hf3]
    rw [s_X15_meet_45]
    simp (disch := omega) only [zi_lit, zi_neg, zi_add, zi_sub, zi_mul, zi_div, zi_char, zb_eq0, zb_eq1, zb_le0, zb_or, zb_and, zb_or1, zb_or0, zb_1or, zb_0or, zb_and1, zb_and0, zb_1and, zb_0and, zb_nar, zi_nar0, zi_nar1, zl_ite, zl_ret, zl_retb, zl_retb1, zl_retb0, zl_retc, zl_ki, zl_kr, zl_kr0, zl_krf, zl_kl, zl_kf, zl_kd, zl_kv, zl_rf, zl_rf0, zl_valI, zl_valP, zl_valL, zl_get, zl_getI, zl_getR, zl_get0, zl_getr, zl_fk, zl_set, zl_setk, zl_setNb, zl_setN1, zl_setN0, zl_up1, zl_up2, zl_new, zl_newA, zl_len, zl_lenk, zl_ga, zl_gaI, zl_gaL, zl_gaD, zl_gaR, zl_sa, zl_saI, zl_saL, zl_saD, zl_saR, zl_ck, zl_ok, zl_ok0, zl_csS, zl_csS0, zl_csk, zl_tk, zl_csA, zl_isS0, zl_c, zl_cv, zl_cx, zl_sp, zl_rv, zl_rvk, zl_rvk2, zl_div, zl_rem, zl_ath, zl_clnk, zl_clnk0, zl_cat, zl_catn, zl_l0, zl_ls, zl_s0, zl_ss, List.length_cons, List.length_nil, Nat.reduceLT, Nat.zero_add, Nat.lt_add_one, reduceCtorEq, zi_le, zi_lt, zi_eq, if_pos, if_neg, if_true, if_false, Bool.true_eq_false, Bool.false_eq_true, eq_self, Bool.not_true, Bool.not_false, Int.toNat_natCast, Nat.reduceAdd, Int.reduceAdd, Int.reduceSub, Int.reduceMul, Int.reduceNeg, Int.reduceToNat, zl_aa]
  · have : i = 0 ∨ i = 1 ∨ i = 2 := by omega
    rcases this with rfl | rfl | rfl <;> simp [zl_updE]
theorem sp_firstTake {E : zE} {G : Nat → Nat → Bool} {R : zRule} {lo hi hb b a0 fo rb kb c n m : Nat} {f : Nat → Option zO} (hst : strat R) (hok : okRule R) (h5 : E 5 < E 0) (hE : E 0 ≤ hb) (hR : rRule E f lo hi rb R) (hhi : hi ≤ hb) (hK : rFacts f kb (tt R G)) (hkb : kb + 18 ≤ hb) (hh : rHei f hb b (hgt R G)) (hba : hb + 10 ≤ a0) (haf : a0 < fo) (hfn : fo < n) (hc : c < 100) (htc : tt R G R.1.1 c = true) (hgc : G R.1.1 c = false) (ha : f a0 = some (.inr (21, [.int (zi (hgt R G R.1.1 c)), .int (zi c), .ref fo, .int (zb false), .ref hb]))) (hfo : ∃ w, f fo = some (.inl (0, 3, .inl w))) :
    ∃ (n' m' : Nat) (f' : Nat → Option zO) (s : Nat), s_X10_take E (some a0) (some rb) (some kb) (n, m, f) = some (.inl none, (n', m', f')) ∧ n + 1 ≤ n' ∧ n' ≤ n + 1 + 2 * vc R 1000 ∧ m + 3 ≤ m' ∧ m' ≤ m + 3 + 8 * vc R 1000 ∧ (∀ q, q < n → q ≠ a0 → q ≠ fo → f' q = f q) ∧ f' a0 = some (.inr (21, [.int (zi (hgt R G R.1.1 c)), .int (zi c), .ref fo, .int (zb true), .ref hb])) ∧ s < 1000 ∧ isFst R G c s ∧ rVals f' fo (sgs s) := by
  have hmv : ∀ {g : Nat → Option zO}, (∀ q, q < n → q ≠ a0 → q ≠ fo → g q = f q) → rRule E g lo hi rb R := fun hg => hR.mv (hg _ (by omega) (by omega) (by omega)) fun q _ hq => hg q (by omega) (by omega) (by omega)
  have hle : ∀ p c, hgt R G p c ≤ 1000 := fun p c => Nat.le_trans (hgt_le hst hok p c) (h00_le G p c)
  have key := sp_take (E := E) (a0 := a0) (rb := rb) (fb := kb) (n := n) (m := m) (f := f) (R := R) (J := fJ R G hb a0 fo c n (n + 1) (m + 3) f) (by omega) ⟨?_, ?_, ?_⟩ ?_ ?_
  · obtain ⟨n', m', f', e1, e2, e3, fl, g1, g2, g3, g4, g5, g6, g7, g8⟩ := key
    cases fl
    · obtain ⟨s, hs⟩ := fst_ex hst hok htc hgc
      exact absurd hs.1 (g3 rfl s hs.1.1.1)
    · obtain ⟨t, t1, t2, t3⟩ := g4 rfl
      exact ⟨n', m', f', t, e1, by omega, by omega, by omega, by omega, g1, g2, t1, t2, t3⟩
  · rintro s n' m' g ⟨fl, hg, -⟩
    exact ⟨lo, hi, hmv hg⟩
  · rintro s n' m' g w ⟨fl, hg, h1, h2, h3, ⟨w', h4⟩, h6⟩
    refine ⟨fl, fun q hq hq' hq'' => (zl_up2 (by omega)).trans (hg q hq hq' hq''), (zl_up2 (by omega)).trans h1, h2, fun hfl => ?_, ⟨w', (zl_up2 (by omega)).trans h4⟩, h6⟩
    obtain ⟨t, t1, t2, t3⟩ := h3 hfl
    exact ⟨t, t1, t2, t3.mv (zl_up2 (by omega))⟩
  · rintro s n' m' g ⟨fl, hg, h1, h2, h3, h4, h6, h7, h8⟩ hs
    rw [← vc_out hs] at h7 h8
    refine ⟨fl, hg, h1, fun hfl t ht => ?_, h3, h4, h6, h7, h8⟩
    rcases Nat.lt_succ_iff_lt_or_eq.mp ht with h | h
    · exact h2 hfl t h
    · subst h; exact fun hf => hs hf.1
  · rintro s n' m' g hs ⟨fl, hg, h1, h2, h3, ⟨w', h4⟩, h6, h7, h8⟩ hv
    have hRg := hmv hg
    have hKg : rFacts g kb (tt R G) := hK.mv fun q _ _ => hg q (by omega) (by omega) (by omega)
    obtain ⟨f1, e1, x1⟩ := sp_rHolds (E := E) hRg hv (sgs_ok hs.1) hKg (n := n') (by omega) (by omega) (by omega) (by omega) h5 m'
    have hvc := vc_in hs
    have ha1 := (x1 a0 (by omega)).trans h1
    have hw1 := (x1 fo (by omega)).trans h4
    have hR1 := hRg.mvX x1 (by omega) (by omega)
    have hv1 : rVals f1 n (sgs s) := hv.mv (x1 n (by omega))
    have hg1 : ∀ q, q < n → q ≠ a0 → q ≠ fo → f1 q = f q := fun q hq hq' hq'' => (x1 q (by omega)).trans (hg q hq hq' hq'')
    have hh1 : rHei f1 hb b (hgt R G) := hh.mv fun q _ _ => hg1 q (by omega) (by omega) (by omega)
    have hk : zCk (f1 a0) = some 21 := by rw [ha1]; rfl
    refine ⟨rH (tt R G) (sgs s) R, n' + 1, m' + 4, f1, e1, by omega, by omega, x1 _ (by omega), fun hf => ?_, fun hf => ?_⟩
    · refine ⟨fl, hg1, ha1, fun hfl t ht => ?_, fun hfl => ?_, ⟨w', hw1⟩, by omega, by omega, by omega⟩
      · rcases Nat.lt_succ_iff_lt_or_eq.mp ht with h | h
        · exact h2 hfl t h
        · subst h; exact fun hh => by have h9 := hh.2.1; rw [hf] at h9; cases h9
      · obtain ⟨t, t1, t2, t3⟩ := h3 hfl
        exact ⟨t, t1, t2, t3.mv (x1 fo (by omega))⟩
    · have hR1' := hR1
      obtain ⟨-, -, -, hha, la, pa, ta, bs, ps, q4, q6, q7, q8, -⟩ := hR1'
      have hz := hd_zi hok hs.1
      have hlt := hd_lt hok hs.1
      have hz2 := hd_zi hok hs.1
      have q9 := q8.1
      cases fl
      · by_cases hcc : hd R (sgs s) = c
        · obtain ⟨f2, e2, x2⟩ := sp_heightBy (E := E) hh1 hle hR1 hv1 (sgs_ok hs.1) h5 (n := n' + 1) (by omega) (by omega) (by omega) (by omega) (m' + 4)
          have hbd := hby_bd hle (sgs s) (prem R.2.1)
          have hlc := hle R.1.1 c
          have ha2 := (x2 a0 (by omega)).trans ha1
          have hw2 := (x2 fo (by omega)).trans hw1
          have hv2 := hv1.mv (x2 n (by omega))
          by_cases hbe : hby (hgt R G) (sgs s) (prem R.2.1) = hgt R G R.1.1 c
          · generalize hf3 : zUp f2 a0 (.inr (21, [.int (zi (hgt R G R.1.1 c)), .int (zi c), .ref fo, .int (zb true), .ref hb])) = f3
            have hx3 : ∀ q, q ≠ a0 → f3 q = f2 q := fun q hq => by rw [← hf3, zl_up2 hq]
            have ha3 : f3 a0 = some (.inr (21, [.int (zi (hgt R G R.1.1 c)), .int (zi c), .ref fo, .int (zb true), .ref hb])) := by rw [← hf3, zl_up1 rfl]
            obtain ⟨f4, e4, v4, x4⟩ := sp_first_copy (E := E) (by omega) ha3 ((hx3 fo (by omega)).trans hw2) (hv2.mv (hx3 n (by omega))) (by omega) (by omega) none (n' + 2) (m' + 8)
            refine ⟨n' + 2, m' + 8, f4, ?_, by omega, by omega, (x4 n (by omega)).trans ((hx3 n (by omega)).trans ((x2 n (by omega)).trans (x1 n (by omega)))), true, fun q hq hq' hq'' => (x4 q hq'').trans ((hx3 q hq').trans ((x2 q (by omega)).trans (hg1 q hq hq' hq''))), (x4 a0 (by omega)).trans ha3, (fun h => by cases h), fun _ => ⟨s, hs.1, ⟨⟨hs, hf, hcc, hbe⟩, h2 rfl⟩, v4⟩, ?_, by omega, by omega, by omega⟩
            · unfold meets s_X15_meet
              rw [hcc] at hz
              simp (disch := omega) only [zi_lit, zi_neg, zi_add, zi_sub, zi_mul, zi_div, zi_char, zb_eq0, zb_eq1, zb_le0, zb_or, zb_and, zb_or1, zb_or0, zb_1or, zb_0or, zb_and1, zb_and0, zb_1and, zb_0and, zb_nar, zi_nar0, zi_nar1, zl_ite, zl_ret, zl_retb, zl_retb1, zl_retb0, zl_retc, zl_ki, zl_kr, zl_kr0, zl_krf, zl_kl, zl_kf, zl_kd, zl_kv, zl_rf, zl_rf0, zl_valI, zl_valP, zl_valL, zl_get, zl_getI, zl_getR, zl_get0, zl_getr, zl_fk, zl_set, zl_setk, zl_setNb, zl_setN1, zl_setN0, zl_up1, zl_up2, zl_new, zl_newA, zl_len, zl_lenk, zl_ga, zl_gaI, zl_gaL, zl_gaD, zl_gaR, zl_sa, zl_saI, zl_saL, zl_saD, zl_saR, zl_ck, zl_ok, zl_ok0, zl_csS, zl_csS0, zl_csk, zl_tk, zl_csA, zl_isS0, zl_c, zl_cv, zl_cx, zl_sp, zl_rv, zl_rvk, zl_rvk2, zl_div, zl_rem, zl_ath, zl_clnk, zl_clnk0, zl_cat, zl_catn, zl_l0, zl_ls, zl_s0, zl_ss, List.length_cons, List.length_nil, Nat.reduceLT, Nat.zero_add, Nat.lt_add_one, reduceCtorEq, zi_le, zi_lt, zi_eq, if_pos, if_neg, if_true, if_false, Bool.true_eq_false, Bool.false_eq_true, eq_self, Bool.not_true, Bool.not_false, Int.toNat_natCast, Nat.reduceAdd, Int.reduceAdd, Int.reduceSub, Int.reduceMul, Int.reduceNeg, Int.reduceToNat, zl_aa, hk, ha1, q4, q8.ck, sp_aCode (E := E) q8 hv1, hz, hh1.ck, e2, ha2, hbe, hf3]
              exact e4
            · obtain ⟨w4, w41, w42⟩ := v4
              exact ⟨w4, w41⟩
          · refine ⟨n' + 2, m' + 8, f2, ?_, by omega, by omega, (x2 n (by omega)).trans (x1 n (by omega)), false, fun q hq hq' hq'' => (x2 q (by omega)).trans (hg1 q hq hq' hq''), ha2, fun _ t ht => ?_, (fun h => by cases h), ⟨w', hw2⟩, by omega, by omega, by omega⟩
            · unfold meets s_X15_meet
              rw [hcc] at hz
              simp (disch := omega) only [zi_lit, zi_neg, zi_add, zi_sub, zi_mul, zi_div, zi_char, zb_eq0, zb_eq1, zb_le0, zb_or, zb_and, zb_or1, zb_or0, zb_1or, zb_0or, zb_and1, zb_and0, zb_1and, zb_0and, zb_nar, zi_nar0, zi_nar1, zl_ite, zl_ret, zl_retb, zl_retb1, zl_retb0, zl_retc, zl_ki, zl_kr, zl_kr0, zl_krf, zl_kl, zl_kf, zl_kd, zl_kv, zl_rf, zl_rf0, zl_valI, zl_valP, zl_valL, zl_get, zl_getI, zl_getR, zl_get0, zl_getr, zl_fk, zl_set, zl_setk, zl_setNb, zl_setN1, zl_setN0, zl_up1, zl_up2, zl_new, zl_newA, zl_len, zl_lenk, zl_ga, zl_gaI, zl_gaL, zl_gaD, zl_gaR, zl_sa, zl_saI, zl_saL, zl_saD, zl_saR, zl_ck, zl_ok, zl_ok0, zl_csS, zl_csS0, zl_csk, zl_tk, zl_csA, zl_isS0, zl_c, zl_cv, zl_cx, zl_sp, zl_rv, zl_rvk, zl_rvk2, zl_div, zl_rem, zl_ath, zl_clnk, zl_clnk0, zl_cat, zl_catn, zl_l0, zl_ls, zl_s0, zl_ss, List.length_cons, List.length_nil, Nat.reduceLT, Nat.zero_add, Nat.lt_add_one, reduceCtorEq, zi_le, zi_lt, zi_eq, if_pos, if_neg, if_true, if_false, Bool.true_eq_false, Bool.false_eq_true, eq_self, Bool.not_true, Bool.not_false, Int.toNat_natCast, Nat.reduceAdd, Int.reduceAdd, Int.reduceSub, Int.reduceMul, Int.reduceNeg, Int.reduceToNat, zl_aa, hk, ha1, q4, q8.ck, sp_aCode (E := E) q8 hv1, hz, hh1.ck, e2, ha2, hbe]
            · rcases Nat.lt_succ_iff_lt_or_eq.mp ht with h | h
              · exact h2 rfl t h
              · subst h; exact fun hp => hbe hp.2.2.2
        · refine ⟨n' + 1, m' + 4, f1, ?_, by omega, by omega, x1 n (by omega), false, hg1, ha1, fun _ t ht => ?_, (fun h => by cases h), ⟨w', hw1⟩, by omega, by omega, by omega⟩
          · unfold meets s_X15_meet
            simp (disch := omega) only [zi_lit, zi_neg, zi_add, zi_sub, zi_mul, zi_div, zi_char, zb_eq0, zb_eq1, zb_le0, zb_or, zb_and, zb_or1, zb_or0, zb_1or, zb_0or, zb_and1, zb_and0, zb_1and, zb_0and, zb_nar, zi_nar0, zi_nar1, zl_ite, zl_ret, zl_retb, zl_retb1, zl_retb0, zl_retc, zl_ki, zl_kr, zl_kr0, zl_krf, zl_kl, zl_kf, zl_kd, zl_kv, zl_rf, zl_rf0, zl_valI, zl_valP, zl_valL, zl_get, zl_getI, zl_getR, zl_get0, zl_getr, zl_fk, zl_set, zl_setk, zl_setNb, zl_setN1, zl_setN0, zl_up1, zl_up2, zl_new, zl_newA, zl_len, zl_lenk, zl_ga, zl_gaI, zl_gaL, zl_gaD, zl_gaR, zl_sa, zl_saI, zl_saL, zl_saD, zl_saR, zl_ck, zl_ok, zl_ok0, zl_csS, zl_csS0, zl_csk, zl_tk, zl_csA, zl_isS0, zl_c, zl_cv, zl_cx, zl_sp, zl_rv, zl_rvk, zl_rvk2, zl_div, zl_rem, zl_ath, zl_clnk, zl_clnk0, zl_cat, zl_catn, zl_l0, zl_ls, zl_s0, zl_ss, List.length_cons, List.length_nil, Nat.reduceLT, Nat.zero_add, Nat.lt_add_one, reduceCtorEq, zi_le, zi_lt, zi_eq, if_pos, if_neg, if_true, if_false, Bool.true_eq_false, Bool.false_eq_true, eq_self, Bool.not_true, Bool.not_false, Int.toNat_natCast, Nat.reduceAdd, Int.reduceAdd, Int.reduceSub, Int.reduceMul, Int.reduceNeg, Int.reduceToNat, zl_aa, hk, ha1, q4, q8.ck, sp_aCode (E := E) q8 hv1, hz, hcc]
          · rcases Nat.lt_succ_iff_lt_or_eq.mp ht with h | h
            · exact h2 rfl t h
            · subst h; exact fun hp => hcc hp.2.2.1
      · obtain ⟨t, t1, t2, t3⟩ := h3 rfl
        refine ⟨n' + 1, m' + 4, f1, ?_, by omega, by omega, x1 n (by omega), true, hg1, ha1, (fun h => by cases h), fun _ => ⟨t, t1, t2, t3.mv (x1 fo (by omega))⟩, ⟨w', hw1⟩, by omega, by omega, by omega⟩
        unfold meets s_X15_meet
        simp (disch := omega) only [zi_lit, zi_neg, zi_add, zi_sub, zi_mul, zi_div, zi_char, zb_eq0, zb_eq1, zb_le0, zb_or, zb_and, zb_or1, zb_or0, zb_1or, zb_0or, zb_and1, zb_and0, zb_1and, zb_0and, zb_nar, zi_nar0, zi_nar1, zl_ite, zl_ret, zl_retb, zl_retb1, zl_retb0, zl_retc, zl_ki, zl_kr, zl_kr0, zl_krf, zl_kl, zl_kf, zl_kd, zl_kv, zl_rf, zl_rf0, zl_valI, zl_valP, zl_valL, zl_get, zl_getI, zl_getR, zl_get0, zl_getr, zl_fk, zl_set, zl_setk, zl_setNb, zl_setN1, zl_setN0, zl_up1, zl_up2, zl_new, zl_newA, zl_len, zl_lenk, zl_ga, zl_gaI, zl_gaL, zl_gaD, zl_gaR, zl_sa, zl_saI, zl_saL, zl_saD, zl_saR, zl_ck, zl_ok, zl_ok0, zl_csS, zl_csS0, zl_csk, zl_tk, zl_csA, zl_isS0, zl_c, zl_cv, zl_cx, zl_sp, zl_rv, zl_rvk, zl_rvk2, zl_div, zl_rem, zl_ath, zl_clnk, zl_clnk0, zl_cat, zl_catn, zl_l0, zl_ls, zl_s0, zl_ss, List.length_cons, List.length_nil, Nat.reduceLT, Nat.zero_add, Nat.lt_add_one, reduceCtorEq, zi_le, zi_lt, zi_eq, if_pos, if_neg, if_true, if_false, Bool.true_eq_false, Bool.false_eq_true, eq_self, Bool.not_true, Bool.not_false, Int.toNat_natCast, Nat.reduceAdd, Int.reduceAdd, Int.reduceSub, Int.reduceMul, Int.reduceNeg, Int.reduceToNat, zl_aa, hk, ha1]
  · intro w
    obtain ⟨w0, hw0⟩ := hfo
    exact ⟨false, fun q hq hq' _ => zl_up2 (by omega), (zl_up2 (by omega)).trans ha, fun _ t ht => by omega, (fun h => by cases h), ⟨w0, (zl_up2 (by omega)).trans hw0⟩, by omega, by omega, by omega⟩
/-- the step of a derived fact -/
theorem sp_step {E : zE} {G : Nat → Nat → Bool} {R : zRule} {lo hi hb b gb lb kb c n m : Nat} {f : Nat → Option zO} (hst : strat R) (hok : okRule R) (h5 : E 5 < E 0) (hE : E 0 ≤ hb) (hL : rLK E f b lo hi gb lb kb G [R]) (hbN : b < hb) (hhi : hi ≤ hb) (hgb : gb + 18 ≤ hb) (hkb : kb + 18 ≤ hb) (hh : rHei f hb b (hgt R G)) (hbn : hb + 10 ≤ n) (hc : c < 100) (htc : tt R G R.1.1 c = true) (hgc : G R.1.1 c = false) :
    ∃ (n' m' sb rb fo s : Nat) (f' : Nat → Option zO), s_X12_step E (some hb) (zi R.1.1) (zi c) (n, m, f) = some (.inl (some (.ref sb)), (n', m', f')) ∧ n ≤ n' ∧ n' ≤ n + 4 + 2 * vc R 1000 ∧ m ≤ m' ∧ m' ≤ m + 14 + 8 * vc R 1000 ∧ zX n f f' ∧ n ≤ sb ∧ sb < n' ∧ f' sb = some (.inr (22, [.int (zi 0), .ref rb, .ref fo])) ∧ rRule E f lo hi rb R ∧ n ≤ fo ∧ fo < n' ∧ s < 1000 ∧ isFst R G c s ∧ rVals f' fo (sgs s) := by
  have hLc := hL.ck
  have hfK := fun n m => sp_factsK (E := E) hL n m
  have hle : ∀ p c, hgt R G p c ≤ 1000 := fun p c => Nat.le_trans (hgt_le hst hok p c) (h00_le G p c)
  have hLk := hL
  obtain ⟨⟨g2, l1⟩, l2, l3, l4⟩ := hL
  rcases l3 with ⟨hrs, hl⟩ | ⟨rb, R', hrs, hRr, hl⟩
  · cases hrs
  · cases hrs
    have hRr' := hRr
    obtain ⟨-, -, -, hha, la, pa, ta, bs, ps, q4, q6, q7, q8, -⟩ := hRr'
    have q9 := q8.1
    obtain ⟨z1, z2, ar, cap, md, z3, z4, z5⟩ := hl
    have hh' := hh
    obtain ⟨g1, ⟨⟨g, g2', g3⟩, g4⟩⟩ := hh'
    obtain ⟨w, w1, w2⟩ := g4 R.1.1 hok.1.1
    have wc := w2 c hc
    have hp8 := hok.1.1
    generalize hf1 : zUp (zUp f n (.inr (21, [.int (zi 0), .int (zi 0), .null, .int (zi 0), .null]))) n (.inr (21, [.int (zi 0), .int (zi 0), .null, .int (zi 0), .ref hb])) = f1
    generalize hf2 : zUp (zUp (zUp (zUp f1 (n + 1) (.inl (0, 3, zAr0))) n (.inr (21, [.int (zi 0), .int (zi 0), .ref (n + 1), .int (zi 0), .ref hb]))) n (.inr (21, [.int (zi (hgt R G R.1.1 c)), .int (zi 0), .ref (n + 1), .int (zi 0), .ref hb]))) n (.inr (21, [.int (zi (hgt R G R.1.1 c)), .int (zi c), .ref (n + 1), .int (zi 0), .ref hb])) = f2
    have hx2 : ∀ q, q < n → f2 q = f q := fun q hq => by
      rw [← hf2, zl_up2 (by omega), zl_up2 (by omega), zl_up2 (by omega), zl_up2 (by omega), ← hf1, zl_up2 (by omega), zl_up2 (by omega)]
    have ha2 : f2 n = some (.inr (21, [.int (zi (hgt R G R.1.1 c)), .int (zi c), .ref (n + 1), .int (zb false), .ref hb])) := by rw [← hf2, zl_up1 rfl]; rfl
    have hw2 : f2 (n + 1) = some (.inl (0, 3, zAr0)) := by rw [← hf2, zl_up2 (by omega), zl_up2 (by omega), zl_up2 (by omega), zl_up1 rfl]
    have hX2 : zX n f f2 := hx2
    have hL2 : rLK E f2 b lo hi gb lb kb G [R] := hLk.mv hX2 (by omega) (by omega) (by omega) (by omega) (by omega)
    have hR2 : rRule E f2 lo hi rb R := hRr.mvX hX2 (by omega) (by omega)
    have hh2 : rHei f2 hb b (hgt R G) := hh.mv fun q _ _ => hx2 q (by omega)
    obtain ⟨n3, m3, f3, s, t1, t2, t3, t4, t5, t6, t7, t8, t9, t10⟩ := sp_firstTake (E := E) (a0 := n) (fo := n + 1) (n := n + 2) (m := m + 8) hst hok h5 hE hR2 hhi hL2.2.2.2 hkb hh2 hbn (by omega) (by omega) hc htc hgc ha2 ⟨_, hw2⟩
    have hX3 : zX n f f3 := fun q hq => (t6 q (by omega) (by omega) (by omega)).trans (hx2 q hq)
    generalize hf4 : zUp (zUp (zUp (zUp f3 n3 (.inr (22, [.int (zi 0), .null, .null]))) n3 (.inr (22, [.int (zi 0), .null, .null]))) n3 (.inr (22, [.int (zi 0), .ref rb, .null]))) n3 (.inr (22, [.int (zi 0), .ref rb, .ref (n + 1)])) = f4
    have hx4 : ∀ q, q ≠ n3 → f4 q = f3 q := fun q hq => by rw [← hf4, zl_up2 hq, zl_up2 hq, zl_up2 hq, zl_up2 hq]
    have hX4 : zX n f f4 := fun q hq => (hx4 q (by omega)).trans (hX3 q hq)
    refine ⟨n3 + 1, m3 + 3, n3, rb, n + 1, s, f4, ?_, by omega, by omega, by omega, by omega, hX4, by omega, by omega, by rw [← hf4, zl_up1 rfl], hRr, by omega, by omega, t8, t9, t10.mv (hx4 _ (by omega))⟩
    have e1 := (hX2 hb (by omega)).trans g1
    have b2 := (hX2 b (by omega)).trans l1
    have e3 := (hX3 hb (by omega)).trans g1
    have b3 := (hX3 b (by omega)).trans l1
    have e4 := (hX4 hb (by omega)).trans g1
    have b4 := (hX4 b (by omega)).trans l1
    have get0 := fun n m => sp_lGet (E := E) z3 (i := 0) (x := rb) rfl n m
    have zl2 : rList E f2 lb ar cap md [rb] := z3.mv (hX2 _ (by omega)) (hX2 _ (by rcases z5 with z5 | z5 <;> omega))
    have zl3 : rList E f3 lb ar cap md [rb] := z3.mv (hX3 _ (by omega)) (hX3 _ (by rcases z5 with z5 | z5 <;> omega))
    have zl4 : rList E f4 lb ar cap md [rb] := z3.mv (hX4 _ (by omega)) (hX4 _ (by rcases z5 with z5 | z5 <;> omega))
    have get2 := fun n m => sp_lGet (E := E) zl2 (i := 0) (x := rb) rfl n m
    have get3 := fun n m => sp_lGet (E := E) zl3 (i := 0) (x := rb) rfl n m
    have rk3 : zCk (f3 rb) = some 31 := (hRr.mvX hX3 (by omega) (by omega)).ck
    have siz0 := fun n m => sp_lSize (E := E) z3 n m
    have siz4 := fun n m => sp_lSize (E := E) zl4 n m
    have n2k : zCk (f2 n) = some 21 := by rw [ha2]; rfl
    obtain ⟨j, hj⟩ : ∃ j, zN = j + 2 := ⟨zN - 2, by unfold zN; omega⟩
    rw [show ((0 : Nat) : Int) = 0 from rfl] at get0 get2 get3
    rw [show (([rb] : List Nat).length : Int) = 1 from rfl] at siz0 siz4
    have rk0 := hRr.ck
    have hfK2 := fun n m => sp_factsK (E := E) hL2 n m
    unfold s_X12_step
    simp only [zi_lit]
    rw [hj, s_X12_step_5]
    unfold s_X12_step_144 s_X12_step_145 s_X15_init s_X10_init s_X16_init
    simp (disch := omega) only [zi_lit, zi_neg, zi_add, zi_sub, zi_mul, zi_div, zi_char, zb_eq0, zb_eq1, zb_le0, zb_or, zb_and, zb_or1, zb_or0, zb_1or, zb_0or, zb_and1, zb_and0, zb_1and, zb_0and, zb_nar, zi_nar0, zi_nar1, zl_ite, zl_ret, zl_retb, zl_retb1, zl_retb0, zl_retc, zl_ki, zl_kr, zl_kr0, zl_krf, zl_kl, zl_kf, zl_kd, zl_kv, zl_rf, zl_rf0, zl_valI, zl_valP, zl_valL, zl_get, zl_getI, zl_getR, zl_get0, zl_getr, zl_fk, zl_set, zl_setk, zl_setNb, zl_setN1, zl_setN0, zl_up1, zl_up2, zl_new, zl_newA, zl_len, zl_lenk, zl_ga, zl_gaI, zl_gaL, zl_gaD, zl_gaR, zl_sa, zl_saI, zl_saL, zl_saD, zl_saR, zl_ck, zl_ok, zl_ok0, zl_csS, zl_csS0, zl_csk, zl_tk, zl_csA, zl_isS0, zl_c, zl_cv, zl_cx, zl_sp, zl_rv, zl_rvk, zl_rvk2, zl_div, zl_rem, zl_ath, zl_clnk, zl_clnk0, zl_cat, zl_catn, zl_l0, zl_ls, zl_s0, zl_ss, List.length_cons, List.length_nil, Nat.reduceLT, Nat.zero_add, Nat.lt_add_one, reduceCtorEq, zi_le, zi_lt, zi_eq, if_pos, if_neg, if_true, if_false, Bool.true_eq_false, Bool.false_eq_true, eq_self, Bool.not_true, Bool.not_false, Int.toNat_natCast, Nat.reduceAdd, Int.reduceAdd, Int.reduceSub, Int.reduceMul, Int.reduceNeg, Int.reduceToNat, zl_aa, g1, l1, hLc, z3.ck, siz0, get0, rk0, q4, q9, g2', g3 R.1.1 hp8, w1, wc]
    rw [hf1, hf2, get2]
    simp (disch := omega) only [zi_lit, zi_neg, zi_add, zi_sub, zi_mul, zi_div, zi_char, zb_eq0, zb_eq1, zb_le0, zb_or, zb_and, zb_or1, zb_or0, zb_1or, zb_0or, zb_and1, zb_and0, zb_1and, zb_0and, zb_nar, zi_nar0, zi_nar1, zl_ite, zl_ret, zl_retb, zl_retb1, zl_retb0, zl_retc, zl_ki, zl_kr, zl_kr0, zl_krf, zl_kl, zl_kf, zl_kd, zl_kv, zl_rf, zl_rf0, zl_valI, zl_valP, zl_valL, zl_get, zl_getI, zl_getR, zl_get0, zl_getr, zl_fk, zl_set, zl_setk, zl_setNb, zl_setN1, zl_setN0, zl_up1, zl_up2, zl_new, zl_newA, zl_len, zl_lenk, zl_ga, zl_gaI, zl_gaL, zl_gaD, zl_gaR, zl_sa, zl_saI, zl_saL, zl_saD, zl_saR, zl_ck, zl_ok, zl_ok0, zl_csS, zl_csS0, zl_csk, zl_tk, zl_csA, zl_isS0, zl_c, zl_cv, zl_cx, zl_sp, zl_rv, zl_rvk, zl_rvk2, zl_div, zl_rem, zl_ath, zl_clnk, zl_clnk0, zl_cat, zl_catn, zl_l0, zl_ls, zl_s0, zl_ss, List.length_cons, List.length_nil, Nat.reduceLT, Nat.zero_add, Nat.lt_add_one, reduceCtorEq, zi_le, zi_lt, zi_eq, if_pos, if_neg, if_true, if_false, Bool.true_eq_false, Bool.false_eq_true, eq_self, Bool.not_true, Bool.not_false, Int.toNat_natCast, Nat.reduceAdd, Int.reduceAdd, Int.reduceSub, Int.reduceMul, Int.reduceNeg, Int.reduceToNat, zl_aa, hR2.ck, e1, hL2.ck, hfK2, n2k, t1, t7, e3, b3, zl3.ck]
    generalize hf3' : zUp f3 n3 (.inr (22, [.int (zi 0), .null, .null])) = f3' at hf4 ⊢
    have hx3' : ∀ q, q ≠ n3 → f3' q = f3 q := fun q hq => by rw [← hf3', zl_up2 hq]
    have zl3' : rList E f3' lb ar cap md [rb] := zl3.mv (hx3' _ (by omega)) (hx3' _ (by rcases z5 with z5 | z5 <;> omega))
    have get3' := fun n m => sp_lGet (E := E) zl3' (i := 0) (x := rb) rfl n m
    rw [show ((0 : Nat) : Int) = 0 from rfl] at get3'
    have e3' := (hx3' hb (by omega)).trans e3
    have b3' := (hx3' b (by omega)).trans b3
    have rk3' : zCk (f3' rb) = some 31 := by rw [hx3' rb (by have := hRr.2.1; omega)]; exact rk3
    have n3' : f3' n3 = some (.inr (22, [.int (zi 0), .null, .null])) := by rw [← hf3', zl_up1 rfl]
    have t7' := (hx3' n (by omega)).trans t7
    rw [get3']
    simp (disch := omega) only [zi_lit, zi_neg, zi_add, zi_sub, zi_mul, zi_div, zi_char, zb_eq0, zb_eq1, zb_le0, zb_or, zb_and, zb_or1, zb_or0, zb_1or, zb_0or, zb_and1, zb_and0, zb_1and, zb_0and, zb_nar, zi_nar0, zi_nar1, zl_ite, zl_ret, zl_retb, zl_retb1, zl_retb0, zl_retc, zl_ki, zl_kr, zl_kr0, zl_krf, zl_kl, zl_kf, zl_kd, zl_kv, zl_rf, zl_rf0, zl_valI, zl_valP, zl_valL, zl_get, zl_getI, zl_getR, zl_get0, zl_getr, zl_fk, zl_set, zl_setk, zl_setNb, zl_setN1, zl_setN0, zl_up1, zl_up2, zl_new, zl_newA, zl_len, zl_lenk, zl_ga, zl_gaI, zl_gaL, zl_gaD, zl_gaR, zl_sa, zl_saI, zl_saL, zl_saD, zl_saR, zl_ck, zl_ok, zl_ok0, zl_csS, zl_csS0, zl_csk, zl_tk, zl_csA, zl_isS0, zl_c, zl_cv, zl_cx, zl_sp, zl_rv, zl_rvk, zl_rvk2, zl_div, zl_rem, zl_ath, zl_clnk, zl_clnk0, zl_cat, zl_catn, zl_l0, zl_ls, zl_s0, zl_ss, List.length_cons, List.length_nil, Nat.reduceLT, Nat.zero_add, Nat.lt_add_one, reduceCtorEq, zi_le, zi_lt, zi_eq, if_pos, if_neg, if_true, if_false, Bool.true_eq_false, Bool.false_eq_true, eq_self, Bool.not_true, Bool.not_false, Int.toNat_natCast, Nat.reduceAdd, Int.reduceAdd, Int.reduceSub, Int.reduceMul, Int.reduceNeg, Int.reduceToNat, zl_aa, rk3', t7', n3', hf4]
    rw [s_X12_step_5]
    simp (disch := omega) only [zi_lit, zi_neg, zi_add, zi_sub, zi_mul, zi_div, zi_char, zb_eq0, zb_eq1, zb_le0, zb_or, zb_and, zb_or1, zb_or0, zb_1or, zb_0or, zb_and1, zb_and0, zb_1and, zb_0and, zb_nar, zi_nar0, zi_nar1, zl_ite, zl_ret, zl_retb, zl_retb1, zl_retb0, zl_retc, zl_ki, zl_kr, zl_kr0, zl_krf, zl_kl, zl_kf, zl_kd, zl_kv, zl_rf, zl_rf0, zl_valI, zl_valP, zl_valL, zl_get, zl_getI, zl_getR, zl_get0, zl_getr, zl_fk, zl_set, zl_setk, zl_setNb, zl_setN1, zl_setN0, zl_up1, zl_up2, zl_new, zl_newA, zl_len, zl_lenk, zl_ga, zl_gaI, zl_gaL, zl_gaD, zl_gaR, zl_sa, zl_saI, zl_saL, zl_saD, zl_saR, zl_ck, zl_ok, zl_ok0, zl_csS, zl_csS0, zl_csk, zl_tk, zl_csA, zl_isS0, zl_c, zl_cv, zl_cx, zl_sp, zl_rv, zl_rvk, zl_rvk2, zl_div, zl_rem, zl_ath, zl_clnk, zl_clnk0, zl_cat, zl_catn, zl_l0, zl_ls, zl_s0, zl_ss, List.length_cons, List.length_nil, Nat.reduceLT, Nat.zero_add, Nat.lt_add_one, reduceCtorEq, zi_le, zi_lt, zi_eq, if_pos, if_neg, if_true, if_false, Bool.true_eq_false, Bool.false_eq_true, eq_self, Bool.not_true, Bool.not_false, Int.toNat_natCast, Nat.reduceAdd, Int.reduceAdd, Int.reduceSub, Int.reduceMul, Int.reduceNeg, Int.reduceToNat, zl_aa, e4, b4, zl4.ck, siz4]
