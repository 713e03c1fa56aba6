set_option maxRecDepth 20000
/-! ===== plain law: Logic.facts ===== -/
noncomputable def fly (rs : List zRule) (G : Nat → Nat → Bool) (y : Nat) : Nat → Nat → Bool := match rs with
  | [] => G
  | R :: _ => if lays [R] R.1.1 < y then tt R G else G
def rsOk (rs : List zRule) : Prop := rs.length ≤ 1 ∧ ∀ R ∈ rs, strat R ∧ safe R ∧ okRule R
noncomputable def ndr (rs : List zRule) (G : Nat → Nat → Bool) : Nat := match rs with
  | [] => 0
  | R :: _ => nd R G
noncomputable def clCs (rs : List zRule) (G : Nat → Nat → Bool) (M : Nat) : Nat := match rs with
  | [] => 0
  | R :: _ => clC R M (nd R G)
noncomputable def clSs (rs : List zRule) (G : Nat → Nat → Bool) (M : Nat) : Nat := match rs with
  | [] => 0
  | R :: _ => clS R M (nd R G)
noncomputable def remC (rs : List zRule) (G : Nat → Nat → Bool) (M y : Nat) : Nat := match rs with
  | [] => 0
  | R :: _ => if lays [R] R.1.1 < y then 0 else clC R M (nd R G)
noncomputable def remS (rs : List zRule) (G : Nat → Nat → Bool) (M y : Nat) : Nat := match rs with
  | [] => 0
  | R :: _ => if lays [R] R.1.1 < y then 0 else clS R M (nd R G)
theorem remC_le (rs : List zRule) (G : Nat → Nat → Bool) (M y : Nat) : remC rs G M (y + 1) ≤ remC rs G M y ∧ remS rs G M (y + 1) ≤ remS rs G M y := by
  cases rs with
  | nil => exact ⟨Nat.le_refl _, Nat.le_refl _⟩
  | cons R rs =>
    unfold remC remS; dsimp only
    by_cases h : lays [R] R.1.1 < y
    · rw [if_pos h, if_pos (by omega), if_pos h, if_pos (by omega)]; exact ⟨Nat.le_refl _, Nat.le_refl _⟩
    · rw [if_neg h, if_neg h]
      constructor <;> split <;> omega
theorem rsL_cases {rs : List zRule} (h : rs.length ≤ 1) (y : Nat) (G : Nat → Nat → Bool) : (rsL rs y = [] ∧ fly rs G (y + 1) = fly rs G y) ∨ ∃ R, rs = [R] ∧ rsL rs y = [R] ∧ fly rs G y = G ∧ fly rs G (y + 1) = tt R G ∧ lays [R] R.1.1 = y := by
  cases rs with
  | nil => exact Or.inl ⟨rfl, rfl⟩
  | cons R rs =>
    have : rs = [] := by
      cases rs with
      | nil => rfl
      | cons => simp at h
    subst this
    by_cases hy : lays [R] R.1.1 = y
    · right
      refine ⟨R, rfl, by unfold rsL; simp [hy], ?_, ?_, hy⟩
      · unfold fly; dsimp only; rw [if_neg (by omega)]
      · unfold fly; dsimp only; rw [if_pos (by omega)]
    · left
      refine ⟨by unfold rsL; simp [hy], ?_⟩
      unfold fly; dsimp only
      by_cases h1 : lays [R] R.1.1 < y
      · rw [if_pos h1, if_pos (by omega)]
      · rw [if_neg h1, if_neg (by omega)]
theorem fly_8 {rs : List zRule} (h : rsOk rs) (G : Nat → Nat → Bool) : fly rs G 8 = tr rs G := by
  cases rs with
  | nil => rfl
  | cons R rs =>
    have : rs = [] := by
      have := h.1
      cases rs with
      | nil => rfl
      | cons => simp at this
    subst this
    unfold fly tr; dsimp only
    have hs := (strat_iff R).mpr (h.2 R (by simp)).1
    rw [if_pos]
    simp only [lays, ly1, hs, if_true]
    split <;> omega
theorem fly_0 (rs : List zRule) (G : Nat → Nat → Bool) : fly rs G 0 = G := by
  cases rs with
  | nil => rfl
  | cons R rs => unfold fly; dsimp only; rw [if_neg (by omega)]
theorem sp_facts_l {E : zE} {G : Nat → Nat → Bool} {rs : List zRule} {lo hi lb b v cb fb M : Nat} {g0 g2 g3 : Value} {f0 : Nat → Option zO} (hc : zC1 E f0) (hok : rsOk rs) (hwG : wfF G) (hM : ∀ p, bcnt (tr rs G p) 100 ≤ M) (hb : f0 b = some (.inr (26, [g0, .ref lb, g2, g3]))) (hR : rRules E f0 lo hi lb rs) (hv : rLay f0 v (lays rs)) (hE : E 0 ≤ cb) (hhi : hi ≤ cb) (hbc : b < cb) (hvc : v < cb) (hcf : cb < fb) :
    ∀ (d y k n m : Nat) (f : Nat → Option zO), y + d = 8 → d < k → fb + 18 ≤ n → zX cb f0 f → (∃ lw xv, f cb = some (.inr (36, [.ref fb, lw, xv]))) → rFacts f fb (fly rs G y) →
    ∃ (n' m' : Nat) (f' : Nat → Option zO) (k' : Nat), s_X2_facts_36 E k (some b) (some v) (some cb) (zi y) (n, m, f) = s_X2_facts_36 E (k' + 1) (some b) (some v) (some cb) (zi 8) (n', m', f') ∧ n ≤ n' ∧ n' ≤ n + d * 40 + remC rs G M y ∧ m ≤ m' ∧ m' ≤ m + d * 119 + remS rs G M y ∧ zX cb f0 f' ∧ (∃ lw xv, f' cb = some (.inr (36, [.ref fb, lw, xv]))) ∧ rFacts f' fb (tr rs G) := by
  intro d
  induction d with
  | zero =>
    intro y k n m f hy hk hn hX hcb hF
    obtain rfl : y = 8 := by omega
    rw [fly_8 hok] at hF
    exact ⟨n, m, f, k - 1, by rw [show k - 1 + 1 = k by omega]; rfl, by omega, by omega, by omega, by omega, hX, hcb, hF⟩
  | succ d ih =>
    intro y k n m f hy hk hn hX hcb hF
    obtain ⟨k, rfl⟩ : ∃ k', k = k' + 1 := ⟨k - 1, by omega⟩
    have h5 := hc.2.2.2.1
    have hXE : zX (E 0) f0 f := hX.le hE
    have hbf := (hX b hbc).trans hb
    have hRf : rRules E f lo hi lb rs := hR.mvX hX hhi (by omega)
    have hvf : rLay f v (lays rs) := by
      obtain ⟨w, w1, w2⟩ := hv
      exact ⟨w, (hX v hvc).trans w1, w2⟩
    obtain ⟨n1, m1, f1, e1, e2, e3, e4, e5, e6, e7⟩ := sp_rulesOf (E := E) (y := y) (hc.mv hXE) hbf hRf (n := n) (by omega) (by omega) hvf (by omega) (by omega) (by omega) m
    have hX1 : zX cb f0 f1 := hX.trans e6 (by omega)
    obtain ⟨lw, xv, hcbf⟩ := hcb
    have hcb1 := (e6 cb (by omega)).trans hcbf
    have hF1 : rFacts f1 fb (fly rs G y) := hF.mv fun q _ _ => e6 q (by omega)
    have hbk : zCk (f b) = some 26 := by rw [hbf]; rfl
    have hcbk : zCk (f1 cb) = some 36 := by rw [hcb1]; rfl
    rcases e7 with ⟨r1, r2⟩ | ⟨rb, R, r1, r2, r3, r4⟩
    · have hfl : fly rs G (y + 1) = fly rs G y := by
        rcases rsL_cases hok.1 y G with h | ⟨R, h1, h2, -⟩
        · exact h.2
        · rw [r1] at h2; cases h2
      obtain ⟨f2, c1, c2, c3, c4⟩ := sp_close0 (E := E) (n := n1) r2 h5 hE (by omega) (by omega) hcf (by omega) hcb1 hF1 m1
      rw [← hfl] at c4
      obtain ⟨n', m', f', k', i1, i2, i3, i4, i5, i6, i7, i8⟩ := ih (y + 1) k (n1 + 37) (m1 + 102) f2 (by omega) (by omega) (by omega) (hX1.trans c2 (Nat.le_refl _)) c3 c4
      refine ⟨n', m', f', k', ?_, by omega, ?_, by omega, ?_, i6, i7, i8⟩
      · rw [s_X2_facts_36]
        simp (disch := omega) only [zi_lit, zi_neg, zi_add, zi_sub, zi_mul, zi_div, zi_char, zb_eq0, zb_eq1, zb_le0, zb_or, zb_and, zb_or1, zb_or0, zb_1or, zb_0or, zb_and1, zb_and0, zb_1and, zb_0and, zb_nar, zi_nar0, zi_nar1, zl_ite, zl_ret, zl_retb, zl_retb1, zl_retb0, zl_retc, zl_ki, zl_kr, zl_kr0, zl_krf, zl_kl, zl_kf, zl_kd, zl_kv, zl_rf, zl_rf0, zl_valI, zl_valP, zl_valL, zl_get, zl_getI, zl_getR, zl_get0, zl_getr, zl_fk, zl_set, zl_setk, zl_setNb, zl_setN1, zl_setN0, zl_up1, zl_up2, zl_new, zl_newA, zl_len, zl_lenk, zl_ga, zl_gaI, zl_gaL, zl_gaD, zl_gaR, zl_sa, zl_saI, zl_saL, zl_saD, zl_saR, zl_ck, zl_ok, zl_ok0, zl_csS, zl_csS0, zl_csk, zl_tk, zl_csA, zl_isS0, zl_c, zl_cv, zl_cx, zl_sp, zl_rv, zl_rvk, zl_rvk2, zl_div, zl_rem, zl_ath, zl_clnk, zl_clnk0, zl_cat, zl_catn, zl_l0, zl_ls, zl_s0, zl_ss, List.length_cons, List.length_nil, Nat.reduceLT, Nat.zero_add, Nat.lt_add_one, reduceCtorEq, zi_le, zi_lt, zi_eq, if_pos, if_neg, if_true, if_false, Bool.true_eq_false, Bool.false_eq_true, eq_self, Bool.not_true, Bool.not_false, Int.toNat_natCast, Nat.reduceAdd, Int.reduceAdd, Int.reduceSub, Int.reduceMul, Int.reduceNeg, Int.reduceToNat, zl_aa, hbk, e1, hcbk, c1, zc_add]
        exact i1
      · have := (remC_le rs G M y).1
        rw [Nat.succ_mul]; omega
      · have := (remC_le rs G M y).2
        rw [Nat.succ_mul]; omega
    · subst r1
      obtain ⟨R', q1, q2, q3, q4, q5⟩ : ∃ R', [R] = [R'] ∧ rsL [R] y = [R'] ∧ fly [R] G y = G ∧ fly [R] G (y + 1) = tt R' G ∧ lays [R'] R'.1.1 = y := by
        rcases rsL_cases hok.1 y G with h | h
        · rw [r2] at h; cases h.1
        · exact h
      cases q1
      rw [q3] at hF1
      obtain ⟨o1, o2, o3⟩ := hok.2 R (by simp)
      have r3' := r3.mv (f' := f1) (e6 _ (by omega)) fun q _ hq => e6 q (by omega)
      obtain ⟨n2, m2, f2, c1, c2, c3, c4, c5, c6, c7, c8⟩ := sp_close1 (E := E) (M := M) (n := n1) o1 o2 hwG r3' r4 h5 hE (by omega) (by omega) (by omega) hcf (by omega) hM hcb1 hF1 m1
      rw [← q4] at c8
      obtain ⟨n', m', f', k', i1, i2, i3, i4, i5, i6, i7, i8⟩ := ih (y + 1) k n2 m2 f2 (by omega) (by omega) (by omega) (hX1.trans c6 (Nat.le_refl _)) c7 c8
      refine ⟨n', m', f', k', ?_, by omega, ?_, by omega, ?_, i6, i7, i8⟩
      · rw [s_X2_facts_36]
        simp (disch := omega) only [zi_lit, zi_neg, zi_add, zi_sub, zi_mul, zi_div, zi_char, zb_eq0, zb_eq1, zb_le0, zb_or, zb_and, zb_or1, zb_or0, zb_1or, zb_0or, zb_and1, zb_and0, zb_1and, zb_0and, zb_nar, zi_nar0, zi_nar1, zl_ite, zl_ret, zl_retb, zl_retb1, zl_retb0, zl_retc, zl_ki, zl_kr, zl_kr0, zl_krf, zl_kl, zl_kf, zl_kd, zl_kv, zl_rf, zl_rf0, zl_valI, zl_valP, zl_valL, zl_get, zl_getI, zl_getR, zl_get0, zl_getr, zl_fk, zl_set, zl_setk, zl_setNb, zl_setN1, zl_setN0, zl_up1, zl_up2, zl_new, zl_newA, zl_len, zl_lenk, zl_ga, zl_gaI, zl_gaL, zl_gaD, zl_gaR, zl_sa, zl_saI, zl_saL, zl_saD, zl_saR, zl_ck, zl_ok, zl_ok0, zl_csS, zl_csS0, zl_csk, zl_tk, zl_csA, zl_isS0, zl_c, zl_cv, zl_cx, zl_sp, zl_rv, zl_rvk, zl_rvk2, zl_div, zl_rem, zl_ath, zl_clnk, zl_clnk0, zl_cat, zl_catn, zl_l0, zl_ls, zl_s0, zl_ss, List.length_cons, List.length_nil, Nat.reduceLT, Nat.zero_add, Nat.lt_add_one, reduceCtorEq, zi_le, zi_lt, zi_eq, if_pos, if_neg, if_true, if_false, Bool.true_eq_false, Bool.false_eq_true, eq_self, Bool.not_true, Bool.not_false, Int.toNat_natCast, Nat.reduceAdd, Int.reduceAdd, Int.reduceSub, Int.reduceMul, Int.reduceNeg, Int.reduceToNat, zl_aa, hbk, e1, hcbk, c1, zc_add]
        exact i1
      · have h1 : remC [R] G M y = clC R M (nd R G) := by unfold remC; dsimp only; rw [if_neg (by omega)]
        have h2 : remC [R] G M (y + 1) = 0 := by unfold remC; dsimp only; rw [if_pos (by omega)]
        rw [Nat.succ_mul]; omega
      · have h1 : remS [R] G M y = clS R M (nd R G) := by unfold remS; dsimp only; rw [if_neg (by omega)]
        have h2 : remS [R] G M (y + 1) = 0 := by unfold remS; dsimp only; rw [if_pos (by omega)]
        rw [Nat.succ_mul]; omega
theorem rFacts.off {f : Nat → Option zO} {b kb c : Nat} {F : Nat → Nat → Bool} (h : rFacts f kb F) (hb : zCk (f b) = some c) (hc : c ≠ 32 ∧ c ≠ 33) : b < kb ∨ kb + 18 ≤ b := by
  rcases Nat.lt_or_ge b kb with h1 | h1
  · exact Or.inl h1
  rcases Nat.lt_or_ge b (kb + 18) with h2 | h2
  · exfalso
    obtain ⟨k1, ⟨g, k2, -⟩, k3⟩ := h
    by_cases e0 : b = kb
    · rw [e0, k1] at hb; simp [zCk] at hb; omega
    by_cases e1 : b = kb + 1
    · rw [e1, k2] at hb; simp [zCk] at hb
    obtain ⟨q1, q2⟩ := k3 ((b - kb - 2) / 2) (by omega)
    by_cases e2 : (b - kb) % 2 = 0
    · rw [show kb + 2 + 2 * ((b - kb - 2) / 2) = b by omega] at q1
      rw [q1] at hb; simp [zCk] at hb; omega
    · rw [show kb + 2 + 2 * ((b - kb - 2) / 2) + 1 = b by omega] at q2
      rw [q2] at hb; simp [zCk] at hb
  · exact Or.inr h2
noncomputable def fcC (rs : List zRule) (G : Nat → Nat → Bool) (M : Nat) : Nat := 400 + clCs rs G M
noncomputable def fcS (rs : List zRule) (G : Nat → Nat → Bool) (M : Nat) : Nat := 1300 + clSs rs G M
theorem sp_facts {E : zE} {G : Nat → Nat → Bool} {rs : List zRule} {lo hi lb gb b n M : Nat} {g2 kv : Value} {f : Nat → Option zO} (hc : zC1 E f) (hok : rsOk rs) (hwG : wfF G) (hM : ∀ p, bcnt (tr rs G p) 100 ≤ M) (hb : f b = some (.inr (26, [.ref gb, .ref lb, g2, kv]))) (hG : rFacts f gb G) (hR : rRules E f lo hi lb rs) (hK : kv = .null ∨ ∃ kb, kv = .ref kb ∧ rFacts f kb (tr rs G) ∧ kb + 18 ≤ n) (hE : E 0 ≤ b) (hhi : hi ≤ n) (hbn : b < n) (hgn : gb + 18 ≤ n) (hgb : b < gb ∨ gb + 18 ≤ b) (m : Nat) :
    ∃ (n' m' kb : Nat) (f' : Nat → Option zO), s_X2_facts E (some b) (n, m, f) = some (.inl (some (.ref kb)), (n', m', f')) ∧ n ≤ n' ∧ n' ≤ n + fcC rs G M ∧ m ≤ m' ∧ m' ≤ m + fcS rs G M ∧ (∀ q, q < n → q ≠ b → f' q = f q) ∧ f' b = some (.inr (26, [.ref gb, .ref lb, g2, .ref kb])) ∧ rFacts f' kb (tr rs G) ∧ kb + 18 ≤ n' ∧ (kv = .ref kb ∨ n ≤ kb) ∧ b ≠ kb ∧ (b < kb ∨ kb + 18 ≤ b) := by
  have h5 := hc.2.2.2.1
  have hbk : zCk (f b) = some 26 := by rw [hb]; rfl
  rcases hK with rfl | ⟨kb, rfl, hkb, hkn⟩
  · generalize hf1 : zUp f n (.inr (35, [.null, .null])) = f1
    have hf1' : ∀ q, q ≠ n → f1 q = f q := fun q hq => by rw [← hf1, zl_up2 hq]
    have hX1 : zX n f f1 := fun q hq => hf1' q (by omega)
    obtain ⟨n2, m2, f2, a1, a2, a3, a4, a5, a6, a7⟩ := sp_nInit (E := E) (b := n) (f := f1) (rs := rs) (hc.mv (hX1.le (by omega))) (by rw [← hf1, zl_up1 rfl]) (by omega) (hR.mvX hX1 hhi (by omega)) hhi (m + 2)
    have hX2 : zX n f f2 := hX1.trans a7 (Nat.le_refl _)
    obtain ⟨f3, b1, b2, b3⟩ := sp_layers (E := E) (rs := rs) (fun R hR => (hok.2 R hR).2.2) hok.1 a6 (n := n2) (by omega) (by omega) m2
    have hX3 : zX n f f3 := hX2.trans b2 (by omega)
    generalize hf4 : zUp f3 (n2 + 1) (.inr (36, [.null, .null, .null])) = f4
    have hf4' : ∀ q, q ≠ n2 + 1 → f4 q = f3 q := fun q hq => by rw [← hf4, zl_up2 hq]
    have hX4 : zX n f f4 := fun q hq => (hf4' q (by omega)).trans (hX3 q hq)
    generalize hf5 : zUp f4 (n2 + 2) (.inr (32, [.null])) = f5
    have hf5' : ∀ q, q ≠ n2 + 2 → f5 q = f4 q := fun q hq => by rw [← hf5, zl_up2 hq]
    have hX5 : zX n f f5 := fun q hq => (hf5' q (by omega)).trans (hX4 q hq)
    obtain ⟨f6, c1, c2, c3⟩ := sp_fCopy (E := E) (b := n2 + 2) (ob := gb) (f := f5) (m := m2 + 12) (by omega) (by rw [← hf5, zl_up1 rfl]) (hG.mv fun q _ _ => hX5 q (by omega)) (by omega)
    generalize hf7 : zUp f6 (n2 + 1) (.inr (36, [.ref (n2 + 2), .null, .null])) = f7
    have hf7' : ∀ q, q ≠ n2 + 1 → f7 q = f6 q := fun q hq => by rw [← hf7, zl_up2 hq]
    have h47 : ∀ q, q < n2 + 1 → f7 q = f3 q := fun q hq => (hf7' q (by omega)).trans ((c2 q (by omega)).trans ((hf5' q (by omega)).trans (hf4' q (by omega))))
    have hX7 : zX n f f7 := fun q hq => (h47 q (by omega)).trans (hX3 q hq)
    have hv7 : rLay f7 n2 (lays rs) := by
      obtain ⟨w, w1, w2⟩ := b3
      exact ⟨w, (h47 n2 (by omega)).trans w1, w2⟩
    have hfl0 := fly_0 rs G
    obtain ⟨n8, m8, f8, k', d1, d2, d3, d4, d5, d6, ⟨lw, xv, d7⟩, d8⟩ := sp_facts_l (E := E) (cb := n2 + 1) (fb := n2 + 2) (v := n2) (f0 := f7) (M := M) (hc.mv (hX7.le (by omega))) hok hwG hM ((hX7 b hbn).trans hb) (hR.mvX hX7 hhi (by omega)) hv7 (by omega) (by omega) (by omega) (by omega) (by omega) 8 0 zN (n2 + 20) (m2 + 60) f7 (by omega) (by unfold zN; omega) (by omega) (fun _ _ => rfl) ⟨.null, .null, by rw [← hf7, zl_up1 rfl]⟩ (by rw [hfl0]; exact c3.mv fun q _ _ => hf7' q (by omega))
    have hX8 : zX n f f8 := hX7.trans d6 (by omega)
    have hb8 := (hX8 b hbn).trans hb
    have hrem : remC rs G M 0 = clCs rs G M ∧ remS rs G M 0 = clSs rs G M := by
      cases rs with
      | nil => exact ⟨rfl, rfl⟩
      | cons R rs => unfold remC remS clCs clSs; dsimp only; rw [if_neg (by omega), if_neg (by omega)]; exact ⟨rfl, rfl⟩
    rw [hrem.1] at d3
    rw [hrem.2] at d5
    refine ⟨n8, m8, n2 + 2, zUp f8 b (.inr (26, [.ref gb, .ref lb, g2, .ref (n2 + 2)])), ?_, by omega, by unfold fcC; omega, by omega, by unfold fcS; omega, fun q hq hq' => (zl_up2 hq').trans (hX8 q hq), zl_up1 rfl, d8.mv fun q _ _ => zl_up2 (by omega), by omega, Or.inr (by omega), by omega, by omega⟩
    have hb1 := (hX1 b hbn).trans hb
    have hb3 := (hX3 b hbn).trans hb
    have hb4 := (hX4 b hbn).trans hb
    have e4 : f4 (n2 + 1) = some (.inr (36, [.null, .null, .null])) := by rw [← hf4, zl_up1 rfl]
    have e6 : f6 (n2 + 1) = some (.inr (36, [.null, .null, .null])) := (c2 _ (by omega)).trans ((hf5' _ (by omega)).trans e4)
    rw [show ((0 : Nat) : Int) = 0 from rfl] at d1
    unfold s_X2_facts s_X2_facts_66
    simp (disch := omega) only [zi_lit, zi_neg, zi_add, zi_sub, zi_mul, zi_div, zi_char, zb_eq0, zb_eq1, zb_le0, zb_or, zb_and, zb_or1, zb_or0, zb_1or, zb_0or, zb_and1, zb_and0, zb_1and, zb_0and, zb_nar, zi_nar0, zi_nar1, zl_ite, zl_ret, zl_retb, zl_retb1, zl_retb0, zl_retc, zl_ki, zl_kr, zl_kr0, zl_krf, zl_kl, zl_kf, zl_kd, zl_kv, zl_rf, zl_rf0, zl_valI, zl_valP, zl_valL, zl_get, zl_getI, zl_getR, zl_get0, zl_getr, zl_fk, zl_set, zl_setk, zl_setNb, zl_setN1, zl_setN0, zl_up1, zl_up2, zl_new, zl_newA, zl_len, zl_lenk, zl_ga, zl_gaI, zl_gaL, zl_gaD, zl_gaR, zl_sa, zl_saI, zl_saL, zl_saD, zl_saR, zl_ck, zl_ok, zl_ok0, zl_csS, zl_csS0, zl_csk, zl_tk, zl_csA, zl_isS0, zl_c, zl_cv, zl_cx, zl_sp, zl_rv, zl_rvk, zl_rvk2, zl_div, zl_rem, zl_ath, zl_clnk, zl_clnk0, zl_cat, zl_catn, zl_l0, zl_ls, zl_s0, zl_ss, List.length_cons, List.length_nil, Nat.reduceLT, Nat.zero_add, Nat.lt_add_one, reduceCtorEq, zi_le, zi_lt, zi_eq, if_pos, if_neg, if_true, if_false, Bool.true_eq_false, Bool.false_eq_true, eq_self, Bool.not_true, Bool.not_false, Int.toNat_natCast, Nat.reduceAdd, Int.reduceAdd, Int.reduceSub, Int.reduceMul, Int.reduceNeg, Int.reduceToNat, zl_aa, hb, hf1, hb1, a1, a6.ck, b1, hf4, hb4]
    unfold s_X8_init
    simp (disch := omega) only [zi_lit, zi_neg, zi_add, zi_sub, zi_mul, zi_div, zi_char, zb_eq0, zb_eq1, zb_le0, zb_or, zb_and, zb_or1, zb_or0, zb_1or, zb_0or, zb_and1, zb_and0, zb_1and, zb_0and, zb_nar, zi_nar0, zi_nar1, zl_ite, zl_ret, zl_retb, zl_retb1, zl_retb0, zl_retc, zl_ki, zl_kr, zl_kr0, zl_krf, zl_kl, zl_kf, zl_kd, zl_kv, zl_rf, zl_rf0, zl_valI, zl_valP, zl_valL, zl_get, zl_getI, zl_getR, zl_get0, zl_getr, zl_fk, zl_set, zl_setk, zl_setNb, zl_setN1, zl_setN0, zl_up1, zl_up2, zl_new, zl_newA, zl_len, zl_lenk, zl_ga, zl_gaI, zl_gaL, zl_gaD, zl_gaR, zl_sa, zl_saI, zl_saL, zl_saD, zl_saR, zl_ck, zl_ok, zl_ok0, zl_csS, zl_csS0, zl_csk, zl_tk, zl_csA, zl_isS0, zl_c, zl_cv, zl_cx, zl_sp, zl_rv, zl_rvk, zl_rvk2, zl_div, zl_rem, zl_ath, zl_clnk, zl_clnk0, zl_cat, zl_catn, zl_l0, zl_ls, zl_s0, zl_ss, List.length_cons, List.length_nil, Nat.reduceLT, Nat.zero_add, Nat.lt_add_one, reduceCtorEq, zi_le, zi_lt, zi_eq, if_pos, if_neg, if_true, if_false, Bool.true_eq_false, Bool.false_eq_true, eq_self, Bool.not_true, Bool.not_false, Int.toNat_natCast, Nat.reduceAdd, Int.reduceAdd, Int.reduceSub, Int.reduceMul, Int.reduceNeg, Int.reduceToNat, zl_aa, hf5, c1, e6, hf7]
    rw [d1, s_X2_facts_36]
    simp (disch := omega) only [zi_lit, zi_neg, zi_add, zi_sub, zi_mul, zi_div, zi_char, zb_eq0, zb_eq1, zb_le0, zb_or, zb_and, zb_or1, zb_or0, zb_1or, zb_0or, zb_and1, zb_and0, zb_1and, zb_0and, zb_nar, zi_nar0, zi_nar1, zl_ite, zl_ret, zl_retb, zl_retb1, zl_retb0, zl_retc, zl_ki, zl_kr, zl_kr0, zl_krf, zl_kl, zl_kf, zl_kd, zl_kv, zl_rf, zl_rf0, zl_valI, zl_valP, zl_valL, zl_get, zl_getI, zl_getR, zl_get0, zl_getr, zl_fk, zl_set, zl_setk, zl_setNb, zl_setN1, zl_setN0, zl_up1, zl_up2, zl_new, zl_newA, zl_len, zl_lenk, zl_ga, zl_gaI, zl_gaL, zl_gaD, zl_gaR, zl_sa, zl_saI, zl_saL, zl_saD, zl_saR, zl_ck, zl_ok, zl_ok0, zl_csS, zl_csS0, zl_csk, zl_tk, zl_csA, zl_isS0, zl_c, zl_cv, zl_cx, zl_sp, zl_rv, zl_rvk, zl_rvk2, zl_div, zl_rem, zl_ath, zl_clnk, zl_clnk0, zl_cat, zl_catn, zl_l0, zl_ls, zl_s0, zl_ss, List.length_cons, List.length_nil, Nat.reduceLT, Nat.zero_add, Nat.lt_add_one, reduceCtorEq, zi_le, zi_lt, zi_eq, if_pos, if_neg, if_true, if_false, Bool.true_eq_false, Bool.false_eq_true, eq_self, Bool.not_true, Bool.not_false, Int.toNat_natCast, Nat.reduceAdd, Int.reduceAdd, Int.reduceSub, Int.reduceMul, Int.reduceNeg, Int.reduceToNat, zl_aa, d7, hb8]
    unfold s_X2_facts_66
    simp (disch := omega) only [zi_lit, zi_neg, zi_add, zi_sub, zi_mul, zi_div, zi_char, zb_eq0, zb_eq1, zb_le0, zb_or, zb_and, zb_or1, zb_or0, zb_1or, zb_0or, zb_and1, zb_and0, zb_1and, zb_0and, zb_nar, zi_nar0, zi_nar1, zl_ite, zl_ret, zl_retb, zl_retb1, zl_retb0, zl_retc, zl_ki, zl_kr, zl_kr0, zl_krf, zl_kl, zl_kf, zl_kd, zl_kv, zl_rf, zl_rf0, zl_valI, zl_valP, zl_valL, zl_get, zl_getI, zl_getR, zl_get0, zl_getr, zl_fk, zl_set, zl_setk, zl_setNb, zl_setN1, zl_setN0, zl_up1, zl_up2, zl_new, zl_newA, zl_len, zl_lenk, zl_ga, zl_gaI, zl_gaL, zl_gaD, zl_gaR, zl_sa, zl_saI, zl_saL, zl_saD, zl_saR, zl_ck, zl_ok, zl_ok0, zl_csS, zl_csS0, zl_csk, zl_tk, zl_csA, zl_isS0, zl_c, zl_cv, zl_cx, zl_sp, zl_rv, zl_rvk, zl_rvk2, zl_div, zl_rem, zl_ath, zl_clnk, zl_clnk0, zl_cat, zl_catn, zl_l0, zl_ls, zl_s0, zl_ss, List.length_cons, List.length_nil, Nat.reduceLT, Nat.zero_add, Nat.lt_add_one, reduceCtorEq, zi_le, zi_lt, zi_eq, if_pos, if_neg, if_true, if_false, Bool.true_eq_false, Bool.false_eq_true, eq_self, Bool.not_true, Bool.not_false, Int.toNat_natCast, Nat.reduceAdd, Int.reduceAdd, Int.reduceSub, Int.reduceMul, Int.reduceNeg, Int.reduceToNat, zl_aa]
  · refine ⟨n, m, kb, f, ?_, by omega, by omega, by omega, by omega, fun _ _ _ => rfl, hb, hkb, hkn, Or.inl rfl, ?_, ?_⟩
    · unfold s_X2_facts s_X2_facts_66
      simp (disch := omega) only [zi_lit, zi_neg, zi_add, zi_sub, zi_mul, zi_div, zi_char, zb_eq0, zb_eq1, zb_le0, zb_or, zb_and, zb_or1, zb_or0, zb_1or, zb_0or, zb_and1, zb_and0, zb_1and, zb_0and, zb_nar, zi_nar0, zi_nar1, zl_ite, zl_ret, zl_retb, zl_retb1, zl_retb0, zl_retc, zl_ki, zl_kr, zl_kr0, zl_krf, zl_kl, zl_kf, zl_kd, zl_kv, zl_rf, zl_rf0, zl_valI, zl_valP, zl_valL, zl_get, zl_getI, zl_getR, zl_get0, zl_getr, zl_fk, zl_set, zl_setk, zl_setNb, zl_setN1, zl_setN0, zl_up1, zl_up2, zl_new, zl_newA, zl_len, zl_lenk, zl_ga, zl_gaI, zl_gaL, zl_gaD, zl_gaR, zl_sa, zl_saI, zl_saL, zl_saD, zl_saR, zl_ck, zl_ok, zl_ok0, zl_csS, zl_csS0, zl_csk, zl_tk, zl_csA, zl_isS0, zl_c, zl_cv, zl_cx, zl_sp, zl_rv, zl_rvk, zl_rvk2, zl_div, zl_rem, zl_ath, zl_clnk, zl_clnk0, zl_cat, zl_catn, zl_l0, zl_ls, zl_s0, zl_ss, List.length_cons, List.length_nil, Nat.reduceLT, Nat.zero_add, Nat.lt_add_one, reduceCtorEq, zi_le, zi_lt, zi_eq, if_pos, if_neg, if_true, if_false, Bool.true_eq_false, Bool.false_eq_true, eq_self, Bool.not_true, Bool.not_false, Int.toNat_natCast, Nat.reduceAdd, Int.reduceAdd, Int.reduceSub, Int.reduceMul, Int.reduceNeg, Int.reduceToNat, zl_aa, hb]
    · intro he
      subst he
      rw [hkb.1] at hb; cases hb
    · exact hkb.off hbk (by omega)
