set_option maxRecDepth 20000
/-! ===== plain law: Changing.join ===== -/
def wfF (F : Nat → Nat → Bool) : Prop := ∀ p c, F p c = true → p < 8 ∧ okC p c
/-- a new fact by a step that holds in F -/
def newh (R : zRule) (F : Nat → Nat → Bool) (p c : Nat) : Prop := ∃ s, vs R s ∧ rH F (sgs s) R = true ∧ p = R.1.1 ∧ c = hd R (sgs s) ∧ F p c = false
def Jc (M : Nat) : Nat → Nat
  | 0 => 2
  | r + 1 => 100 + M * Jc M r
def Js (M : Nat) : Nat → Nat
  | 0 => 7
  | r + 1 => 300 + M * Js M r
/-- the premises before a place are bound -/
def bnd (R : zRule) (at' : Nat) (a : Nat → Int) : Prop := ∀ j A, j < at' → (prem R.2.1)[j]? = some A → ∀ i, i < 3 → aV A i = true → a i ≠ -1
def srcF (ch : Int) (F L : Nat → Nat → Bool) (j : Nat) : Nat → Nat → Bool := if (j : Int) = ch then L else F
def cJ (E : zE) (f : Nat → Option zO) (lo hi a0 rb fb lb xb : Nat) (R : zRule) (F L : Nat → Nat → Bool) (ch : Int) : Prop := rRule E f lo hi rb R ∧ (∃ lv, f a0 = some (.inr (36, [.ref fb, lv, .ref xb])) ∧ (ch ≠ -1 → lv = .ref lb)) ∧ rFacts f fb F ∧ (ch ≠ -1 → rFacts f lb L)
theorem cJ.mv {E : zE} {f f' : Nat → Option zO} {lo hi a0 rb fb lb xb : Nat} {R : zRule} {F L : Nat → Nat → Bool} {ch : Int} (h : cJ E f lo hi a0 rb fb lb xb R F L ch) (h5 : E 5 < xb) (hhi : hi ≤ xb) (ha : a0 < xb) (hfx : fb + 18 ≤ xb) (hlx : lb + 18 ≤ xb) (hf : ∀ q, q < xb → f' q = f q) : cJ E f' lo hi a0 rb fb lb xb R F L ch := by
  obtain ⟨h1, ⟨lv, h2, h3⟩, h4, h6⟩ := h
  exact ⟨h1.mv (hf _ h5) fun q _ hq => hf q (by omega), ⟨lv, (hf _ ha).trans h2, h3⟩, h4.mv fun q _ _ => hf q (by omega), fun h => (h6 h).mv fun q _ _ => hf q (by omega)⟩
theorem prem_inR {R : zRule} (hR : okRule R) {A : zAtom} (hA : A ∈ prem R.2.1) : inR R A := by
  unfold prem at hA
  obtain ⟨L, hL, rfl⟩ := List.mem_map.mp hA
  obtain ⟨hL1, hL2⟩ := List.mem_filter.mp hL
  have h0 : L.1 = 0 := of_decide_eq_true hL2
  obtain ⟨o1, o2, o3, o4⟩ := hR.2.1 L hL1
  refine ⟨⟨o2, o3, o4⟩, fun i hi hv => ?_⟩
  unfold rV
  have : lsV true R.2.1 i = true := by
    unfold lsV
    rw [List.any_eq_true]
    refine ⟨L, hL1, ?_⟩
    unfold lV
    simp [h0, hv]
  rw [this]; simp
/-- a rule is safe -/
def safe (R : zRule) : Prop := ∀ i, i < 3 → rV R i = true → lsV true R.2.1 i = true
theorem bnd_all {R : zRule} {a : Nat → Int} (hs : safe R) (hb : bnd R (prem R.2.1).length a) {i : Nat} (hi : i < 3) (hv : rV R i = true) : a i ≠ -1 := by
  have h1 := hs i hi hv
  unfold lsV at h1
  obtain ⟨L, hL, h2⟩ := List.any_eq_true.mp h1
  rw [Bool.and_eq_true] at h2
  obtain ⟨h3, h4⟩ := h2
  have h0 : L.1 = 0 := by simpa using h3
  have hm : L.2 ∈ prem R.2.1 := List.mem_map.mpr ⟨L, List.mem_filter.mpr ⟨hL, by simp [h0]⟩, rfl⟩
  obtain ⟨j, hj⟩ := List.getElem?_of_mem hm
  have hjl := (List.getElem?_eq_some_iff.mp hj).1
  unfold lV at h4
  rw [if_pos (by omega)] at h4
  exact hb j L.2 hjl hj i hi h4
/-- the known values of a full match: a step -/
theorem kn_step {R : zRule} {a : Nat → Int} (ha : okA R a) : ∃ s, vs R s ∧ ∀ i, i < 3 → sgs s i = knF a i := by
  have k : ∀ i, i < 3 → 0 ≤ knF a i ∧ (knF a i).toNat < rg R i := fun i hi => by
    unfold knF rg
    rcases ha i hi with h | ⟨h1, h2, h3⟩
    · rw [h]; simp; split <;> omega
    · rw [if_neg (by omega), h3]; simp; omega
  have k0 := k 0 (by omega); have k1 := k 1 (by omega); have k2 := k 2 (by omega)
  have r0 := rg_le R 0; have r1 := rg_le R 1; have r2 := rg_le R 2
  refine ⟨100 * (knF a 0).toNat + 10 * (knF a 1).toNat + (knF a 2).toNat, vs_of R k0.2 k1.2 k2.2, fun i hi => ?_⟩
  rw [sgs_of (by omega) (by omega)]
  unfold sg
  have : i = 0 ∨ i = 1 ∨ i = 2 := by omega
  rcases this with rfl | rfl | rfl
  · simp; omega
  · simp; omega
  · simp; omega
theorem tv_congr {s s' : Nat → Int} (h : ∀ i, i < 3 → s i = s' i) {t : Nat} (ht : t < 13) : tv s t = tv s' t := by
  unfold tv; split
  · rfl
  · exact h _ (by omega)
theorem ac_congr {s s' : Nat → Int} (h : ∀ i, i < 3 → s i = s' i) {A : zAtom} (hA : okAtom A) : ac s A = ac s' A := by
  unfold ac; rw [tv_congr h hA.2.1, tv_congr h hA.2.2]
theorem rH_congr {F : Nat → Nat → Bool} {s s' : Nat → Int} (h : ∀ i, i < 3 → s i = s' i) {R : zRule} (hR : okRule R) : rH F s R = rH F s' R := by
  unfold rH
  have : ∀ L ∈ R.2.1, lv F s L = lv F s' L := fun L hL => by
    obtain ⟨o1, o2, o3, o4⟩ := hR.2.1 L hL
    unfold lv
    rw [ac_congr (A := L.2) h ⟨o2, o3, o4⟩, tv_congr h o3, tv_congr h o4]
  rw [List.all_eq, List.all_eq]
  apply decide_eq_decide.mpr
  constructor
  · intro h1 L hL; rw [← this L hL]; exact h1 L hL
  · intro h1 L hL; rw [this L hL]; exact h1 L hL
theorem rVals.congr {f : Nat → Option zO} {v : Nat} {s s' : Nat → Int} (h : rVals f v s) (he : ∀ i, i < 3 → s' i = s i) : rVals f v s' := by
  obtain ⟨w, h1, h2⟩ := h
  exact ⟨w, h1, fun i hi => by rw [he i hi]; exact h2 i hi⟩
/-- what join leaves, over what it found -/
def jPost (R : zRule) (F : Nat → Nat → Bool) (X X' : Nat → Nat → Bool) : Prop := (∀ p c, X p c = true → X' p c = true) ∧ ∀ p c, X' p c = true → X p c = true ∨ newh R F p c
theorem jPost.trans {R : zRule} {F X X' X'' : Nat → Nat → Bool} (h : jPost R F X X') (h' : jPost R F X' X'') : jPost R F X X'' :=
  ⟨fun p c hx => h'.1 p c (h.1 p c hx), fun p c hx => by
    rcases h'.2 p c hx with h1 | h1
    · exact h.2 p c h1
    · exact Or.inr h1⟩
def jOut (E : zE) (F0 : zM) (n m cn cm xb : Nat) (f : Nat → Option zO) (R : zRule) (F X : Nat → Nat → Bool) (C : (Nat → Nat → Bool) → Prop) : Prop :=
  ∃ (n' m' : Nat) (f' : Nat → Option zO) (X' : Nat → Nat → Bool), F0 (n, m, f) = some (.inl none, (n', m', f')) ∧ n ≤ n' ∧ n' ≤ n + cn ∧ m ≤ m' ∧ m' ≤ m + cm ∧ (∀ q, q < n → (q < xb ∨ xb + 18 ≤ q) → f' q = f q) ∧ rFacts f' xb X' ∧ jPost R F X X' ∧ C X'
theorem sp_found {E : zE} {f : Nat → Option zO} {lo hi a0 rb fb lb xb v s : Nat} {R : zRule} {F L X : Nat → Nat → Bool} {ch : Int} (h : cJ E f lo hi a0 rb fb lb xb R F L ch) (hX : rFacts f xb X) (hv : rVals f v (sgs s)) (hs : s < 1000) (hE : E 0 ≤ xb) (n m : Nat) : s_X8_found E (some a0) (some rb) (some v) (n, m, f) = some (.inl none, (n, m, if F R.1.1 (hd R (sgs s)) then f else zUp f (xb + 2 + 2 * R.1.1 + 1) (.inl (0, 4, .inl (cw (bset (X R.1.1) (hd R (sgs s)) true)))))) := by
  obtain ⟨hR, ⟨lv, h2, -⟩, h4, -⟩ := h
  obtain ⟨-, -, hok, ha, la, pa, ta, bs, ps, q4, q6, q7, q8, -⟩ := hR
  have hlt := hd_lt hok hs
  have hz := hd_zi hok hs
  have hadd := sp_fAdd (E := E) hX (by omega) hok.1.1 (c := hd R (sgs s)) (by omega) n m
  have hhas := sp_fHas (E := E) h4 hok.1.1 (c := hd R (sgs s)) (by omega) n m
  have h9 := q8.1
  unfold s_X8_found
  cases hF : F R.1.1 (hd R (sgs s)) <;> rw [hF] at hhas <;> simp (disch := omega) only [zi_lit, zi_neg, zi_add, zi_sub, zi_mul, zi_div, zi_char, zb_eq0, zb_eq1, zb_le0, zb_or, zb_and, zb_or1, zb_or0, zb_1or, zb_0or, zb_and1, zb_and0, zb_1and, zb_0and, zb_nar, zi_nar0, zi_nar1, zl_ite, zl_ret, zl_retb, zl_retb1, zl_retb0, zl_retc, zl_ki, zl_kr, zl_kr0, zl_krf, zl_kl, zl_kf, zl_kd, zl_kv, zl_rf, zl_rf0, zl_valI, zl_valP, zl_valL, zl_get, zl_getI, zl_getR, zl_get0, zl_getr, zl_fk, zl_set, zl_setk, zl_setNb, zl_setN1, zl_setN0, zl_up1, zl_up2, zl_new, zl_newA, zl_len, zl_lenk, zl_ga, zl_gaI, zl_gaL, zl_gaD, zl_gaR, zl_sa, zl_saI, zl_saL, zl_saD, zl_saR, zl_ck, zl_ok, zl_ok0, zl_csS, zl_csS0, zl_csk, zl_tk, zl_csA, zl_isS0, zl_c, zl_cv, zl_cx, zl_sp, zl_rv, zl_rvk, zl_rvk2, zl_div, zl_rem, zl_ath, zl_clnk, zl_clnk0, zl_cat, zl_catn, zl_l0, zl_ls, zl_s0, zl_ss, List.length_cons, List.length_nil, Nat.reduceLT, Nat.zero_add, Nat.lt_add_one, reduceCtorEq, zi_le, zi_lt, zi_eq, if_pos, if_neg, if_true, if_false, Bool.true_eq_false, Bool.false_eq_true, eq_self, Bool.not_true, Bool.not_false, Int.toNat_natCast, Nat.reduceAdd, Int.reduceAdd, Int.reduceSub, Int.reduceMul, Int.reduceNeg, Int.reduceToNat, zl_aa, h2, q4, h9, q8.ck, sp_aCode (E := E) q8 hv, hz, h4.ck, hX.ck, hhas, hadd]
/-- all premises matched -/
theorem sp_join0 {E : zE} {lo hi a0 rb fb lb xb v n m : Nat} {f : Nat → Option zO} {R : zRule} {F L X : Nat → Nat → Bool} {ch : Int} {a : Nat → Int} (hsf : safe R) (h5 : E 5 < E 0) (hE : E 0 ≤ a0) (hhi : hi ≤ a0) (haf : a0 < fb) (hfx : fb + 18 ≤ xb) (hlx : lb + 18 ≤ xb) (hxv : xb + 18 ≤ v) (hvn : v < n) (h : cJ E f lo hi a0 rb fb lb xb R F L ch) (hX : rFacts f xb X) (hv : rVals f v a) (ha : okA R a) (M k : Nat) :
    jOut E (s_X8_join E (k + 1) (some a0) (some rb) (zi (prem R.2.1).length) (zi ch) (some v)) n m (Jc M 0) (Js M 0) xb f R F X (fun X' => bnd R (prem R.2.1).length a → ∀ s, vs R s → ext a (sgs s) → rH F (sgs s) R = true → F R.1.1 (hd R (sgs s)) = false → X' R.1.1 (hd R (sgs s)) = true) := by
  obtain ⟨s0, hs0, hk0⟩ := kn_step ha
  obtain ⟨f1, e1, v1, x1⟩ := sp_known (E := E) (n := n) hv ha (by omega) m
  have hX1 : ∀ q, q < n → f1 q = f q := fun q hq => x1 q (by omega)
  have hv1 : rVals f1 n (sgs s0) := v1.congr hk0
  have h1 := h.mv (f' := f1) (by omega) (by omega) (by omega) hfx hlx fun q hq => hX1 q (by omega)
  have hXf1 : rFacts f1 xb X := hX.mv fun q _ _ => hX1 q (by omega)
  have hRf1 := h1.1
  obtain ⟨f2, e2, x2⟩ := sp_rHolds (E := E) hRf1 hv1 (sgs_ok hs0.1) h1.2.2.1 (n := n + 1) (by omega) (by omega) (by omega) (by omega) h5 (m + 3)
  have h2 := h1.mv (f' := f2) (by omega) (by omega) (by omega) hfx hlx fun q hq => x2 q (by omega)
  have hXf2 : rFacts f2 xb X := hXf1.mv fun q _ _ => x2 q (by omega)
  have e3 := sp_found (E := E) h2 hXf2 (hv1.mv (x2 n (by omega))) hs0.1 (by omega) (n + 2) (m + 7)
  have fr : ∀ q, q < n → f2 q = f q := fun q hq => (x2 q (by omega)).trans (hX1 q hq)
  obtain ⟨hR, ⟨lv', g2, -⟩, g4, -⟩ := h
  have hRk := hR.ck
  obtain ⟨-, -, hok, hha, la, pa, ta, bs, ps, q4, q6, q7, q8, q9, q10, ⟨w1, w2, par, pcap, pmd, w3, w4, w5⟩, q12⟩ := hR
  have hlen := q12.1
  have hg2' := (x2 a0 (by omega)).trans ((hX1 a0 (by omega)).trans g2)
  have hp3 : (prem R.2.1).length ≤ 3 := by
    have := hok.2.2.1
    unfold prem
    rw [List.length_map]
    exact Nat.le_trans (List.length_filter_le _ _) this
  have hcmp : ∀ s, vs R s → ext a (sgs s) → bnd R (prem R.2.1).length a → ∀ i, i < 3 → sgs s i = sgs s0 i := fun s hs he hb i hi => by
    rw [hk0 i hi]
    unfold knF
    rcases ha i hi with hc | ⟨hc1, hc2, hc3⟩
    · rw [hc]
      simp only [show ((-1 : Int) < 0) = True by simp, if_true]
      have hnv : rV R i = false := by
        cases hr : rV R i
        · rfl
        · exact absurd hc (bnd_all hsf hb hi hr)
      have hg : rg R i = 1 := by unfold rg; rw [hnv]; rfl
      obtain ⟨v0, v1, v2, v3⟩ := hs
      have : i = 0 ∨ i = 1 ∨ i = 2 := by omega
      unfold sgs sg
      rcases this with rfl | rfl | rfl
      · simp; omega
      · simp; omega
      · simp; omega
    · rw [if_neg (by omega)]
      rcases he i hi with h' | h'
      · omega
      · exact h'.symm
  have base : ∀ Z, (zC (zRv (some rb) [(31, fun b => s_X25_holds E (some b) (some fb) (some n))]) zThr (zKI (fun v27 => if v27 = 0 then (zRet none) else (zC (zRv (some a0) [(36, fun b => s_X8_found E (some b) (some rb) (some n))]) zThr (zKV (zRet none)))))) (n + 1, m + 3, f1) = Z → s_X8_join E (k + 1) (some a0) (some rb) (zi (prem R.2.1).length) (zi ch) (some v) (n, m, f) = Z := fun Z hZ => by
    have g2' := (hX1 a0 (by omega)).trans g2
    rw [s_X8_join]
    unfold s_X8_joinb
    simp (disch := omega) only [zi_lit, zi_neg, zi_add, zi_sub, zi_mul, zi_div, zi_char, zb_eq0, zb_eq1, zb_le0, zb_or, zb_and, zb_or1, zb_or0, zb_1or, zb_0or, zb_and1, zb_and0, zb_1and, zb_0and, zb_nar, zi_nar0, zi_nar1, zl_ite, zl_ret, zl_retb, zl_retb1, zl_retb0, zl_retc, zl_ki, zl_kr, zl_kr0, zl_krf, zl_kl, zl_kf, zl_kd, zl_kv, zl_rf, zl_rf0, zl_valI, zl_valP, zl_valL, zl_get, zl_getI, zl_getR, zl_get0, zl_getr, zl_fk, zl_set, zl_setk, zl_setNb, zl_setN1, zl_setN0, zl_up1, zl_up2, zl_new, zl_newA, zl_len, zl_lenk, zl_ga, zl_gaI, zl_gaL, zl_gaD, zl_gaR, zl_sa, zl_saI, zl_saL, zl_saD, zl_saR, zl_ck, zl_ok, zl_ok0, zl_csS, zl_csS0, zl_csk, zl_tk, zl_csA, zl_isS0, zl_c, zl_cv, zl_cx, zl_sp, zl_rv, zl_rvk, zl_rvk2, zl_div, zl_rem, zl_ath, zl_clnk, zl_clnk0, zl_cat, zl_catn, zl_l0, zl_ls, zl_s0, zl_ss, List.length_cons, List.length_nil, Nat.reduceLT, Nat.zero_add, Nat.lt_add_one, reduceCtorEq, zi_le, zi_lt, zi_eq, if_pos, if_neg, if_true, if_false, Bool.true_eq_false, Bool.false_eq_true, eq_self, Bool.not_true, Bool.not_false, Int.toNat_natCast, Nat.reduceAdd, Int.reduceAdd, Int.reduceSub, Int.reduceMul, Int.reduceNeg, Int.reduceToNat, zl_aa, q4, w3.ck, sp_lSize (E := E) w3, hlen, e1, g2']
    simp only [zl_c, zl_rv, zi_lit] at hZ
    exact hZ
  have hRk1 := hRf1.ck
  have ha0k : zCk (f2 a0) = some 36 := by rw [hg2']; rfl
  cases hrh : rH F (sgs s0) R
  · rw [hrh] at e2
    refine ⟨n + 2, m + 7, f2, X, base _ ?_, by omega, by unfold Jc; omega, by omega, by unfold Js; omega, fun q hq _ => fr q hq, hXf2, ⟨fun _ _ h => h, fun _ _ h => Or.inl h⟩, fun hb s hs he hr => ?_⟩
    · simp (disch := omega) only [zi_lit, zi_neg, zi_add, zi_sub, zi_mul, zi_div, zi_char, zb_eq0, zb_eq1, zb_le0, zb_or, zb_and, zb_or1, zb_or0, zb_1or, zb_0or, zb_and1, zb_and0, zb_1and, zb_0and, zb_nar, zi_nar0, zi_nar1, zl_ite, zl_ret, zl_retb, zl_retb1, zl_retb0, zl_retc, zl_ki, zl_kr, zl_kr0, zl_krf, zl_kl, zl_kf, zl_kd, zl_kv, zl_rf, zl_rf0, zl_valI, zl_valP, zl_valL, zl_get, zl_getI, zl_getR, zl_get0, zl_getr, zl_fk, zl_set, zl_setk, zl_setNb, zl_setN1, zl_setN0, zl_up1, zl_up2, zl_new, zl_newA, zl_len, zl_lenk, zl_ga, zl_gaI, zl_gaL, zl_gaD, zl_gaR, zl_sa, zl_saI, zl_saL, zl_saD, zl_saR, zl_ck, zl_ok, zl_ok0, zl_csS, zl_csS0, zl_csk, zl_tk, zl_csA, zl_isS0, zl_c, zl_cv, zl_cx, zl_sp, zl_rv, zl_rvk, zl_rvk2, zl_div, zl_rem, zl_ath, zl_clnk, zl_clnk0, zl_cat, zl_catn, zl_l0, zl_ls, zl_s0, zl_ss, List.length_cons, List.length_nil, Nat.reduceLT, Nat.zero_add, Nat.lt_add_one, reduceCtorEq, zi_le, zi_lt, zi_eq, if_pos, if_neg, if_true, if_false, Bool.true_eq_false, Bool.false_eq_true, eq_self, Bool.not_true, Bool.not_false, Int.toNat_natCast, Nat.reduceAdd, Int.reduceAdd, Int.reduceSub, Int.reduceMul, Int.reduceNeg, Int.reduceToNat, zl_aa, hRk1, e2]
    · rw [rH_congr (hcmp s hs he hb) hok, hrh] at hr; cases hr
  · rw [hrh] at e2
    cases hF : F R.1.1 (hd R (sgs s0))
    · rw [hF] at e3
      refine ⟨n + 2, m + 7, _, fset X R.1.1 (hd R (sgs s0)) true, base _ ?_, by omega, by unfold Jc; omega, by omega, by unfold Js; omega, fun q hq hq' => ?_, hXf2.set hok.1.1 _ _, ⟨fun p c hx => by rw [fset_t, hx, Bool.or_true], fun p c hx => ?_⟩, fun hb s hs he hr hF' => ?_⟩
      · simp (disch := omega) only [zi_lit, zi_neg, zi_add, zi_sub, zi_mul, zi_div, zi_char, zb_eq0, zb_eq1, zb_le0, zb_or, zb_and, zb_or1, zb_or0, zb_1or, zb_0or, zb_and1, zb_and0, zb_1and, zb_0and, zb_nar, zi_nar0, zi_nar1, zl_ite, zl_ret, zl_retb, zl_retb1, zl_retb0, zl_retc, zl_ki, zl_kr, zl_kr0, zl_krf, zl_kl, zl_kf, zl_kd, zl_kv, zl_rf, zl_rf0, zl_valI, zl_valP, zl_valL, zl_get, zl_getI, zl_getR, zl_get0, zl_getr, zl_fk, zl_set, zl_setk, zl_setNb, zl_setN1, zl_setN0, zl_up1, zl_up2, zl_new, zl_newA, zl_len, zl_lenk, zl_ga, zl_gaI, zl_gaL, zl_gaD, zl_gaR, zl_sa, zl_saI, zl_saL, zl_saD, zl_saR, zl_ck, zl_ok, zl_ok0, zl_csS, zl_csS0, zl_csk, zl_tk, zl_csA, zl_isS0, zl_c, zl_cv, zl_cx, zl_sp, zl_rv, zl_rvk, zl_rvk2, zl_div, zl_rem, zl_ath, zl_clnk, zl_clnk0, zl_cat, zl_catn, zl_l0, zl_ls, zl_s0, zl_ss, List.length_cons, List.length_nil, Nat.reduceLT, Nat.zero_add, Nat.lt_add_one, reduceCtorEq, zi_le, zi_lt, zi_eq, if_pos, if_neg, if_true, if_false, Bool.true_eq_false, Bool.false_eq_true, eq_self, Bool.not_true, Bool.not_false, Int.toNat_natCast, Nat.reduceAdd, Int.reduceAdd, Int.reduceSub, Int.reduceMul, Int.reduceNeg, Int.reduceToNat, zl_aa, hRk1, e2, ha0k, e3]
      · have := hok.1.1
        rw [zl_up2 (by omega)]; exact fr q hq
      · rw [fset_t] at hx
        rcases (Bool.or_eq_true _ _ ▸ hx) with h1 | h1
        · obtain ⟨rfl, rfl⟩ := of_decide_eq_true h1
          exact Or.inr ⟨s0, hs0, hrh, rfl, rfl, hF⟩
        · exact Or.inl h1
      · have : hd R (sgs s) = hd R (sgs s0) := by unfold hd; rw [ac_congr (hcmp s hs he hb) hok.1]
        rw [this, fset_t]; simp
    · rw [hF] at e3
      refine ⟨n + 2, m + 7, f2, X, base _ ?_, by omega, by unfold Jc; omega, by omega, by unfold Js; omega, fun q hq _ => fr q hq, hXf2, ⟨fun _ _ h => h, fun _ _ h => Or.inl h⟩, fun hb s hs he hr hF' => ?_⟩
      · simp (disch := omega) only [zi_lit, zi_neg, zi_add, zi_sub, zi_mul, zi_div, zi_char, zb_eq0, zb_eq1, zb_le0, zb_or, zb_and, zb_or1, zb_or0, zb_1or, zb_0or, zb_and1, zb_and0, zb_1and, zb_0and, zb_nar, zi_nar0, zi_nar1, zl_ite, zl_ret, zl_retb, zl_retb1, zl_retb0, zl_retc, zl_ki, zl_kr, zl_kr0, zl_krf, zl_kl, zl_kf, zl_kd, zl_kv, zl_rf, zl_rf0, zl_valI, zl_valP, zl_valL, zl_get, zl_getI, zl_getR, zl_get0, zl_getr, zl_fk, zl_set, zl_setk, zl_setNb, zl_setN1, zl_setN0, zl_up1, zl_up2, zl_new, zl_newA, zl_len, zl_lenk, zl_ga, zl_gaI, zl_gaL, zl_gaD, zl_gaR, zl_sa, zl_saI, zl_saL, zl_saD, zl_saR, zl_ck, zl_ok, zl_ok0, zl_csS, zl_csS0, zl_csk, zl_tk, zl_csA, zl_isS0, zl_c, zl_cv, zl_cx, zl_sp, zl_rv, zl_rvk, zl_rvk2, zl_div, zl_rem, zl_ath, zl_clnk, zl_clnk0, zl_cat, zl_catn, zl_l0, zl_ls, zl_s0, zl_ss, List.length_cons, List.length_nil, Nat.reduceLT, Nat.zero_add, Nat.lt_add_one, reduceCtorEq, zi_le, zi_lt, zi_eq, if_pos, if_neg, if_true, if_false, Bool.true_eq_false, Bool.false_eq_true, eq_self, Bool.not_true, Bool.not_false, Int.toNat_natCast, Nat.reduceAdd, Int.reduceAdd, Int.reduceSub, Int.reduceMul, Int.reduceNeg, Int.reduceToNat, zl_aa, hRk1, e2, ha0k, e3]
      · have : hd R (sgs s) = hd R (sgs s0) := by unfold hd; rw [ac_congr (hcmp s hs he hb) hok.1]
        rw [this, hF] at hF'; cases hF'
/-- the loop over the codes of one premise, by what join does behind it -/
theorem sp_joinL {E : zE} {lo hi a0 rb fb lb xb v pb cb at' r M : Nat} {R : zRule} {F L S : Nat → Nat → Bool} {A : zAtom} {ch : Int} {a : Nat → Int} {J : Option Nat → Option Nat → Int32 → Int32 → Option Nat → zM} (h5 : E 5 < E 0) (hE : E 0 ≤ a0) (hhi : hi ≤ a0) (haf : a0 < fb) (hfx : fb + 18 ≤ xb) (hlx : lb + 18 ≤ xb) (hxv : xb + 18 ≤ v) (ha : okA R a) (hA : (prem R.2.1)[at']? = some A) (hin : inR R A) (hpb : pb < xb) (hcb : cb + 2 ≤ xb) (hS : ∀ c, S A.1 c = true → okC A.1 c)
    (hJ : ∀ (n m v' : Nat) (f : Nat → Option zO) (X : Nat → Nat → Bool) (b : Nat → Int), v < v' → v' < n → cJ E f lo hi a0 rb fb lb xb R F L ch → rFacts f xb X → rVals f v' b → okA R b → ext a b → jOut E (J (some a0) (some rb) (zi (at' + 1 : Nat)) (zi ch) (some v')) n m (Jc M r) (Js M r) xb f R F X (fun X' => bnd R (at' + 1) b → ∀ s, vs R s → ext b (sgs s) → (∀ j B, at' + 1 ≤ j → (prem R.2.1)[j]? = some B → srcF ch F L j B.1 (ac (sgs s) B).toNat = true) → rH F (sgs s) R = true → F R.1.1 (hd R (sgs s)) = false → X' R.1.1 (hd R (sgs s)) = true)) :
    ∀ (d c k n m : Nat) (f : Nat → Option zO) (X : Nat → Nat → Bool), c + d = 100 → d < k → v < n → cJ E f lo hi a0 rb fb lb xb R F L ch → rFacts f xb X → rVals f v a → rAtom f pb A → rCodes f cb (S A.1) →
    jOut E (s_X8_join_86 E J k (some a0) (some rb) (zi at') (zi ch) (some v) (some pb) (some cb) (zi c)) n m (d + (bcnt (S A.1) 100 - bcnt (S A.1) c) * Jc M r) (3 * d + (bcnt (S A.1) 100 - bcnt (S A.1) c) * Js M r) xb f R F X (fun X' => bnd R at' a → ∀ s, vs R s → ext a (sgs s) → c ≤ (ac (sgs s) A).toNat → S A.1 (ac (sgs s) A).toNat = true → (∀ j B, at' + 1 ≤ j → (prem R.2.1)[j]? = some B → srcF ch F L j B.1 (ac (sgs s) B).toNat = true) → rH F (sgs s) R = true → F R.1.1 (hd R (sgs s)) = false → X' R.1.1 (hd R (sgs s)) = true) := by
  intro d
  induction d with
  | zero =>
    intro c k n m f X hc hk hvn h hX hv hp hS'
    obtain ⟨k, rfl⟩ : ∃ k', k = k' + 1 := ⟨k - 1, by omega⟩
    obtain rfl : c = 100 := by omega
    refine ⟨n, m, f, X, ?_, by omega, by omega, by omega, by omega, fun _ _ _ => rfl, hX, ⟨fun _ _ h => h, fun _ _ h => Or.inl h⟩, fun _ s hs _ hle => ?_⟩
    · rw [s_X8_join_86]
      simp (disch := omega) only [zi_lit, zi_neg, zi_add, zi_sub, zi_mul, zi_div, zi_char, zb_eq0, zb_eq1, zb_le0, zb_or, zb_and, zb_or1, zb_or0, zb_1or, zb_0or, zb_and1, zb_and0, zb_1and, zb_0and, zb_nar, zi_nar0, zi_nar1, zl_ite, zl_ret, zl_retb, zl_retb1, zl_retb0, zl_retc, zl_ki, zl_kr, zl_kr0, zl_krf, zl_kl, zl_kf, zl_kd, zl_kv, zl_rf, zl_rf0, zl_valI, zl_valP, zl_valL, zl_get, zl_getI, zl_getR, zl_get0, zl_getr, zl_fk, zl_set, zl_setk, zl_setNb, zl_setN1, zl_setN0, zl_up1, zl_up2, zl_new, zl_newA, zl_len, zl_lenk, zl_ga, zl_gaI, zl_gaL, zl_gaD, zl_gaR, zl_sa, zl_saI, zl_saL, zl_saD, zl_saR, zl_ck, zl_ok, zl_ok0, zl_csS, zl_csS0, zl_csk, zl_tk, zl_csA, zl_isS0, zl_c, zl_cv, zl_cx, zl_sp, zl_rv, zl_rvk, zl_rvk2, zl_div, zl_rem, zl_ath, zl_clnk, zl_clnk0, zl_cat, zl_catn, zl_l0, zl_ls, zl_s0, zl_ss, List.length_cons, List.length_nil, Nat.reduceLT, Nat.zero_add, Nat.lt_add_one, reduceCtorEq, zi_le, zi_lt, zi_eq, if_pos, if_neg, if_true, if_false, Bool.true_eq_false, Bool.false_eq_true, eq_self, Bool.not_true, Bool.not_false, Int.toNat_natCast, Nat.reduceAdd, Int.reduceAdd, Int.reduceSub, Int.reduceMul, Int.reduceNeg, Int.reduceToNat, zl_aa]
    · have := ac_ok (sgs_ok hs.1) hin.1; omega
  | succ d ih =>
    intro c k n m f X hc hk hvn h hX hv hp hS'
    obtain ⟨k, rfl⟩ : ∃ k', k = k' + 1 := ⟨k - 1, by omega⟩
    obtain ⟨w, w1, w2⟩ := hv
    have hv : rVals f v a := ⟨w, w1, w2⟩
    generalize hf1 : zUp f n (.inl (0, 3, .inl w)) = f1
    have hf1' : ∀ q, q ≠ n → f1 q = f q := fun q hq => by rw [← hf1, zl_up2 hq]
    have w1' : zTk (f1 n) = some 0 := by rw [← hf1, zl_up1 rfl]; rfl
    have h1 := h.mv (f' := f1) (by omega) (by omega) (by omega) hfx hlx fun q hq => hf1' q (by omega)
    have hX1 : rFacts f1 xb X := hX.mv fun q _ _ => hf1' q (by omega)
    have hv1 : rVals f1 v a := hv.mv (hf1' v (by omega))
    have hn1 : rVals f1 n a := ⟨w, by rw [← hf1, zl_up1 rfl], w2⟩
    have hp1 : rAtom f1 pb A := hp.mv (hf1' pb (by omega))
    have hS1 : rCodes f1 cb (S A.1) := hS'.mv fun q _ _ => hf1' q (by omega)
    have hhas := sp_cHas (E := E) hS1 (c := c) (by omega) (n + 1) (m + 3)
    have ha0 : zCk (f1 a0) = some 36 := by obtain ⟨lv, e, -⟩ := h1.2.1; rw [e]; rfl
    have hmono : bcnt (S A.1) (c + 1) = bcnt (S A.1) c + (if S A.1 c then 1 else 0) := rfl
    have hle100 : bcnt (S A.1) (c + 1) ≤ bcnt (S A.1) 100 := by
      have : ∀ e, bcnt (S A.1) (c + 1) ≤ bcnt (S A.1) (c + 1 + e) := fun e => by rw [bcnt_add _ (c + 1) e]; omega
      have := this d
      rw [show c + 1 + d = 100 by omega] at this; exact this
    have run0 : ∀ Z, (∀ f2, (∀ q, q ≠ n → f2 q = f1 q) → rFacts f2 xb X → s_X8_join_86 E J k (some a0) (some rb) (zi at') (zi ch) (some v) (some pb) (some cb) (zi (c + 1 : Nat)) (n + 1, m + 3, f2) = Z → True) → True := fun _ _ => trivial
    cases hSc : S A.1 c
    · rw [hSc] at hhas
      obtain ⟨n', m', f', X', e1, e2, e3, e4, e5, e6, e7, e8, e9⟩ := ih (c + 1) k (n + 1) (m + 3) f1 X (by omega) (by omega) (by omega) h1 hX1 hv1 hp1 hS1
      rw [hmono, hSc] at e3 e5
      simp only [Bool.false_eq_true, if_false, Nat.add_zero] at e3 e5
      refine ⟨n', m', f', X', ?_, by omega, by omega, by omega, by omega, fun q hq hq' => (e6 q (by omega) hq').trans (hf1' q (by omega)), e7, e8, fun hb s hs he hle hsc => ?_⟩
      · rw [s_X8_join_86]
        unfold s_X8_join_136
        simp (disch := omega) only [zi_lit, zi_neg, zi_add, zi_sub, zi_mul, zi_div, zi_char, zb_eq0, zb_eq1, zb_le0, zb_or, zb_and, zb_or1, zb_or0, zb_1or, zb_0or, zb_and1, zb_and0, zb_1and, zb_0and, zb_nar, zi_nar0, zi_nar1, zl_ite, zl_ret, zl_retb, zl_retb1, zl_retb0, zl_retc, zl_ki, zl_kr, zl_kr0, zl_krf, zl_kl, zl_kf, zl_kd, zl_kv, zl_rf, zl_rf0, zl_valI, zl_valP, zl_valL, zl_get, zl_getI, zl_getR, zl_get0, zl_getr, zl_fk, zl_set, zl_setk, zl_setNb, zl_setN1, zl_setN0, zl_up1, zl_up2, zl_new, zl_newA, zl_len, zl_lenk, zl_ga, zl_gaI, zl_gaL, zl_gaD, zl_gaR, zl_sa, zl_saI, zl_saL, zl_saD, zl_saR, zl_ck, zl_ok, zl_ok0, zl_csS, zl_csS0, zl_csk, zl_tk, zl_csA, zl_isS0, zl_c, zl_cv, zl_cx, zl_sp, zl_rv, zl_rvk, zl_rvk2, zl_div, zl_rem, zl_ath, zl_clnk, zl_clnk0, zl_cat, zl_catn, zl_l0, zl_ls, zl_s0, zl_ss, List.length_cons, List.length_nil, Nat.reduceLT, Nat.zero_add, Nat.lt_add_one, reduceCtorEq, zi_le, zi_lt, zi_eq, if_pos, if_neg, if_true, if_false, Bool.true_eq_false, Bool.false_eq_true, eq_self, Bool.not_true, Bool.not_false, Int.toNat_natCast, Nat.reduceAdd, Int.reduceAdd, Int.reduceSub, Int.reduceMul, Int.reduceNeg, Int.reduceToNat, zl_aa, w1, hf1, w1', hS1.ck, hhas, zc_add]
        exact e1
      · refine e9 hb s hs he ?_ hsc
        have : (ac (sgs s) A).toNat ≠ c := fun e => by rw [e, hSc] at hsc; cases hsc
        omega
    · rw [hSc] at hhas
      have hok := hS c hSc
      obtain ⟨f2, g1, g2, g3⟩ := sp_match (E := E) (v := n) hp1 hn1 ha hin hok (by omega) (by omega) (n + 1) (m + 3)
      have h2 := h1.mv (f' := f2) (by omega) (by omega) (by omega) hfx hlx fun q hq => g3 q (by omega)
      have hX2 : rFacts f2 xb X := hX1.mv fun q _ _ => g3 q (by omega)
      have hv2 : rVals f2 v a := hv1.mv (g3 v (by omega))
      have hp2 : rAtom f2 pb A := hp1.mv (g3 pb (by omega))
      have hS2 : rCodes f2 cb (S A.1) := hS1.mv fun q _ _ => g3 q (by omega)
      have ha2 : zCk (f2 a0) = some 36 := by rw [g3 a0 (by omega)]; exact ha0
      rw [hSc] at hmono
      simp only [if_true] at hmono
      have hcost : (bcnt (S A.1) 100 - bcnt (S A.1) c) * Jc M r = Jc M r + (bcnt (S A.1) 100 - bcnt (S A.1) (c + 1)) * Jc M r := by
        rw [show bcnt (S A.1) 100 - bcnt (S A.1) c = 1 + (bcnt (S A.1) 100 - bcnt (S A.1) (c + 1)) by omega, Nat.add_mul, Nat.one_mul]
      have hcost2 : (bcnt (S A.1) 100 - bcnt (S A.1) c) * Js M r = Js M r + (bcnt (S A.1) 100 - bcnt (S A.1) (c + 1)) * Js M r := by
        rw [show bcnt (S A.1) 100 - bcnt (S A.1) c = 1 + (bcnt (S A.1) 100 - bcnt (S A.1) (c + 1)) by omega, Nat.add_mul, Nat.one_mul]
      cases hm : (matchF A c a).1
      · rw [hm] at g1
        obtain ⟨n', m', f', X', e1, e2, e3, e4, e5, e6, e7, e8, e9⟩ := ih (c + 1) k (n + 1) (m + 3) f2 X (by omega) (by omega) (by omega) h2 hX2 hv2 hp2 hS2
        refine ⟨n', m', f', X', ?_, by omega, by omega, by omega, by omega, fun q hq hq' => (e6 q (by omega) hq').trans ((g3 q (by omega)).trans (hf1' q (by omega))), e7, e8, fun hb s hs he hle hsc => ?_⟩
        · rw [s_X8_join_86]
          unfold s_X8_join_136
          simp (disch := omega) only [zi_lit, zi_neg, zi_add, zi_sub, zi_mul, zi_div, zi_char, zb_eq0, zb_eq1, zb_le0, zb_or, zb_and, zb_or1, zb_or0, zb_1or, zb_0or, zb_and1, zb_and0, zb_1and, zb_0and, zb_nar, zi_nar0, zi_nar1, zl_ite, zl_ret, zl_retb, zl_retb1, zl_retb0, zl_retc, zl_ki, zl_kr, zl_kr0, zl_krf, zl_kl, zl_kf, zl_kd, zl_kv, zl_rf, zl_rf0, zl_valI, zl_valP, zl_valL, zl_get, zl_getI, zl_getR, zl_get0, zl_getr, zl_fk, zl_set, zl_setk, zl_setNb, zl_setN1, zl_setN0, zl_up1, zl_up2, zl_new, zl_newA, zl_len, zl_lenk, zl_ga, zl_gaI, zl_gaL, zl_gaD, zl_gaR, zl_sa, zl_saI, zl_saL, zl_saD, zl_saR, zl_ck, zl_ok, zl_ok0, zl_csS, zl_csS0, zl_csk, zl_tk, zl_csA, zl_isS0, zl_c, zl_cv, zl_cx, zl_sp, zl_rv, zl_rvk, zl_rvk2, zl_div, zl_rem, zl_ath, zl_clnk, zl_clnk0, zl_cat, zl_catn, zl_l0, zl_ls, zl_s0, zl_ss, List.length_cons, List.length_nil, Nat.reduceLT, Nat.zero_add, Nat.lt_add_one, reduceCtorEq, zi_le, zi_lt, zi_eq, if_pos, if_neg, if_true, if_false, Bool.true_eq_false, Bool.false_eq_true, eq_self, Bool.not_true, Bool.not_false, Int.toNat_natCast, Nat.reduceAdd, Int.reduceAdd, Int.reduceSub, Int.reduceMul, Int.reduceNeg, Int.reduceToNat, zl_aa, w1, hf1, w1', hS1.ck, hhas, hp1.ck, g1, zc_add]
          exact e1
        · refine e9 hb s hs he ?_ hsc
          have : (ac (sgs s) A).toNat ≠ c := fun e => by
            have hac := ac_ok (sgs_ok hs.1) hin.1
            have := (matchF_to (c := c) hin.1 he (sgs_ok hs.1) (by omega)).1
            rw [hm] at this; cases this
          omega
      · rw [hm] at g1
        have hokb := matchF_ok ha hin hok
        have hextb := matchF_ext A c a
        obtain ⟨n3, m3, f3, X3, j1, j2, j3, j4, j5, j6, j7, j8, j9⟩ := hJ (n + 1) (m + 3) n f2 X _ hvn (by omega) h2 hX2 g2 hokb hextb
        have hx3 : ∀ q, q < xb → f3 q = f2 q := fun q hq => j6 q (by omega) (by omega)
        have h3 := h2.mv (f' := f3) (by omega) (by omega) (by omega) hfx hlx hx3
        obtain ⟨n', m', f', X', e1, e2, e3, e4, e5, e6, e7, e8, e9⟩ := ih (c + 1) k n3 m3 f3 X3 (by omega) (by omega) (by omega) h3 j7 (hv2.mv (j6 v (by omega) (by omega))) (hp2.mv (hx3 pb (by omega))) (hS2.mv fun q _ _ => hx3 q (by omega))
        refine ⟨n', m', f', X', ?_, by omega, by omega, by omega, by omega, fun q hq hq' => (e6 q (by omega) hq').trans ((j6 q (by omega) hq').trans ((g3 q (by omega)).trans (hf1' q (by omega)))), e7, j8.trans e8, fun hb s hs he hle hsc hrest hr hF => ?_⟩
        · rw [s_X8_join_86]
          unfold s_X8_join_136
          simp (disch := omega) only [zi_lit, zi_neg, zi_add, zi_sub, zi_mul, zi_div, zi_char, zb_eq0, zb_eq1, zb_le0, zb_or, zb_and, zb_or1, zb_or0, zb_1or, zb_0or, zb_and1, zb_and0, zb_1and, zb_0and, zb_nar, zi_nar0, zi_nar1, zl_ite, zl_ret, zl_retb, zl_retb1, zl_retb0, zl_retc, zl_ki, zl_kr, zl_kr0, zl_krf, zl_kl, zl_kf, zl_kd, zl_kv, zl_rf, zl_rf0, zl_valI, zl_valP, zl_valL, zl_get, zl_getI, zl_getR, zl_get0, zl_getr, zl_fk, zl_set, zl_setk, zl_setNb, zl_setN1, zl_setN0, zl_up1, zl_up2, zl_new, zl_newA, zl_len, zl_lenk, zl_ga, zl_gaI, zl_gaL, zl_gaD, zl_gaR, zl_sa, zl_saI, zl_saL, zl_saD, zl_saR, zl_ck, zl_ok, zl_ok0, zl_csS, zl_csS0, zl_csk, zl_tk, zl_csA, zl_isS0, zl_c, zl_cv, zl_cx, zl_sp, zl_rv, zl_rvk, zl_rvk2, zl_div, zl_rem, zl_ath, zl_clnk, zl_clnk0, zl_cat, zl_catn, zl_l0, zl_ls, zl_s0, zl_ss, List.length_cons, List.length_nil, Nat.reduceLT, Nat.zero_add, Nat.lt_add_one, reduceCtorEq, zi_le, zi_lt, zi_eq, if_pos, if_neg, if_true, if_false, Bool.true_eq_false, Bool.false_eq_true, eq_self, Bool.not_true, Bool.not_false, Int.toNat_natCast, Nat.reduceAdd, Int.reduceAdd, Int.reduceSub, Int.reduceMul, Int.reduceNeg, Int.reduceToNat, zl_aa, w1, hf1, w1', hS1.ck, hhas, hp1.ck, g1, ha2, j1, zc_add]
          exact e1
        · by_cases hcc : (ac (sgs s) A).toNat = c
          · apply e8.1
            have hac := ac_ok (sgs_ok hs.1) hin.1
            have hto := matchF_to (c := c) hin.1 he (sgs_ok hs.1) (by omega)
            refine j9 (fun j B hj hB i hi hvi => ?_) s hs hto.2 hrest hr hF
            by_cases hja : j = at'
            · subst hja
              rw [hA] at hB
              cases hB
              have htv := matchF_tv (R := R) hin.1 hm
              unfold aV at hvi
              rw [Bool.or_eq_true, Bool.and_eq_true, decide_eq_true_eq, decide_eq_true_eq, decide_eq_true_eq] at hvi
              rcases hvi with h1 | ⟨h1, h2⟩
              · have := htv.1
                unfold tv at this
                rw [if_neg (by omega), show A.2.1 - 10 = i by omega] at this
                rw [this]; omega
              · have := htv.2 h1
                unfold tv at this
                rw [if_neg (by omega), show A.2.2 - 10 = i by omega] at this
                rw [this]; omega
            · have hb0 := hb j B (by omega) hB i hi hvi
              rcases hextb i hi with h1 | h1
              · exact absurd h1 hb0
              · rw [← h1]; exact hb0
          · exact e9 hb s hs he (by omega) hsc hrest hr hF
