set_option maxRecDepth 20000
/-! ===== plain law: Trying ===== -/
def vsd (R : zRule) (s : Nat) : Bool := decide (s < 1000) && (decide (s / 100 < rg R 0) && (decide (s / 10 % 10 < rg R 1) && decide (s % 10 < rg R 2)))
theorem vsd_iff (R : zRule) (s : Nat) : vsd R s = true ↔ vs R s := by
  unfold vsd vs; simp only [Bool.and_eq_true, decide_eq_true_eq]
/-- how many steps lie below a number -/
def vc (R : zRule) (s : Nat) : Nat := bcnt (vsd R) s
theorem vc_in {R : zRule} {s : Nat} (h : vs R s) : vc R (s + 1) = vc R s + 1 := by
  unfold vc; rw [bcnt, if_pos ((vsd_iff R s).mpr h)]
theorem vc_out {R : zRule} {s : Nat} (h : ¬ vs R s) : vc R (s + 1) = vc R s := by
  unfold vc; rw [bcnt, if_neg (fun e => h ((vsd_iff R s).mp e))]; rfl
/-- how many facts are derived -/
noncomputable def nd (R : zRule) (G : Nat → Nat → Bool) : Nat := fdif (tt R G) G R.1.1
theorem hd_lt {R : zRule} (hR : okRule R) {s : Nat} (hs : s < 1000) : hd R (sgs s) < 100 := by
  have := ac_ok (sgs_ok hs) hR.1
  unfold hd; omega
theorem hd_zi {R : zRule} (hR : okRule R) {s : Nat} (hs : s < 1000) : zi (ac (sgs s) R.1) = zi (hd R (sgs s) : Nat) := by
  have := ac_ok (sgs_ok hs) hR.1
  unfold hd; rw [Int.toNat_of_nonneg this.1]
def rTry (f : Nat → Option zO) (a0 fb : Nat) (F : Nat → Nat → Bool) (b : Bool) : Prop := f a0 = some (.inr (17, [.ref fb, .int (zb b)])) ∧ rFacts f fb F
theorem sp_xMeet {E : zE} {f : Nat → Option zO} {lo hi a0 rb fb v s : Nat} {R : zRule} {F : Nat → Nat → Bool} {b : Bool} (hR : rRule E f lo hi rb R) (hv : rVals f v (sgs s)) (hs : s < 1000) (ht : rTry f a0 fb F b) (hE : E 0 ≤ a0) (haf : a0 < fb) (n m : Nat) : zRv (some a0) (meets E (some rb) (some v)) (n, m, f) = some (.inl none, (n, m, zUp (zUp f (fb + 2 + 2 * R.1.1 + 1) (.inl (0, 4, .inl (cw (bset (F R.1.1) (hd R (sgs s)) true))))) a0 (.inr (17, [.ref fb, .int (zb (b || !F R.1.1 (hd R (sgs s))))])))) := by
  obtain ⟨h1, h2⟩ := ht
  obtain ⟨-, -, hok, ha, la, pa, ta, bs, ps, q4, q6, q7, q8, -⟩ := hR
  have h3 : zCk (f a0) = some 17 := by rw [h1]; rfl
  have hlt := hd_lt hok hs
  have hz := hd_zi hok hs
  have hadd := sp_fAdd (E := E) h2 (by omega) hok.1.1 (c := hd R (sgs s)) (by omega) n m
  have h9 := q8.1
  unfold meets
  rw [zl_rv, h3, zl_rvk]
  unfold s_X11_meet
  simp (disch := omega) only [zi_lit, zi_neg, zi_add, zi_sub, zi_mul, zi_div, zi_char, zb_eq0, zb_eq1, zb_le0, zb_or, zb_and, zb_or1, zb_or0, zb_1or, zb_0or, zb_and1, zb_and0, zb_1and, zb_0and, zb_nar, zi_nar0, zi_nar1, zl_ite, zl_ret, zl_retb, zl_retb1, zl_retb0, zl_retc, zl_ki, zl_kr, zl_kr0, zl_krf, zl_kl, zl_kf, zl_kd, zl_kv, zl_rf, zl_rf0, zl_valI, zl_valP, zl_valL, zl_get, zl_getI, zl_getR, zl_get0, zl_getr, zl_fk, zl_set, zl_setk, zl_setNb, zl_setN1, zl_setN0, zl_up1, zl_up2, zl_new, zl_newA, zl_len, zl_lenk, zl_ga, zl_gaI, zl_gaL, zl_gaD, zl_gaR, zl_sa, zl_saI, zl_saL, zl_saD, zl_saR, zl_ck, zl_ok, zl_ok0, zl_csS, zl_csS0, zl_csk, zl_tk, zl_csA, zl_isS0, zl_c, zl_cv, zl_cx, zl_sp, zl_rv, zl_rvk, zl_rvk2, zl_div, zl_rem, zl_ath, zl_clnk, zl_clnk0, zl_cat, zl_catn, zl_l0, zl_ls, zl_s0, zl_ss, List.length_cons, List.length_nil, Nat.reduceLT, Nat.zero_add, Nat.lt_add_one, reduceCtorEq, zi_le, zi_lt, zi_eq, if_pos, if_neg, if_true, if_false, Bool.true_eq_false, Bool.false_eq_true, eq_self, Bool.not_true, Bool.not_false, Int.toNat_natCast, Nat.reduceAdd, Int.reduceAdd, Int.reduceSub, Int.reduceMul, Int.reduceNeg, Int.reduceToNat, zl_aa, h1, q4, h9, q8.ck, sp_aCode (E := E) q8 hv, hz, h2.ck, hadd]
/-- what a pass of Trying leaves as it is -/
def zY (n a0 fb : Nat) (f f' : Nat → Option zO) : Prop := ∀ q, q < n → q ≠ a0 → (q < fb ∨ fb + 18 ≤ q) → f' q = f q
theorem zY.up {n a0 fb a : Nat} {f f' : Nat → Option zO} {o : zO} (h : zY n a0 fb f f') (ha : n ≤ a ∨ a = a0 ∨ (fb ≤ a ∧ a < fb + 18)) : zY n a0 fb f (zUp f' a o) := fun q hq h1 h2 => (zl_up2 (by omega)).trans (h q hq h1 h2)
theorem zY.tr {n n' a0 fb : Nat} {f f' f'' : Nat → Option zO} (h : zY n a0 fb f f') (h' : zX n' f' f'') (hn : n ≤ n') : zY n a0 fb f f'' := fun q hq h1 h2 => (h' q (by omega)).trans (h q hq h1 h2)
theorem zY.x {n a0 fb : Nat} {f f' : Nat → Option zO} (h : zY n a0 fb f f') (haf : a0 < fb) (hn : a0 ≤ n) : zX a0 f f' := fun q hq => h q (by omega) (by omega) (by omega)
/-- J of a pass of Trying: from F0 on -/
def xJ (E : zE) (G F0 : Nat → Nat → Bool) (R : zRule) (lo hi a0 rb fb ns n0 m0 : Nat) (f0 : Nat → Option zO) (s n m : Nat) (f : Nat → Option zO) : Prop :=
  ∃ F b, zY ns a0 fb f0 f ∧ rTry f a0 fb F b ∧ btw R G F ∧ (∀ p c, F0 p c = true → F p c = true) ∧ (b = false → F = F0 ∧ ∀ t, t < s → vs R t → rH F0 (sgs t) R = true → F0 R.1.1 (hd R (sgs t)) = true) ∧ (b = true → fdif (tt R G) F R.1.1 < fdif (tt R G) F0 R.1.1) ∧ n0 ≤ n ∧ n ≤ n0 + vc R s ∧ m ≤ m0 + 4 * vc R s
theorem sp_xTake {E : zE} {G F0 : Nat → Nat → Bool} {R : zRule} {lo hi a0 rb fb n m : Nat} {f0 f : Nat → Option zO} (hst : strat R) (hR : rRule E f0 lo hi rb R) (h5 : E 5 < E 0) (hE : E 0 ≤ a0) (hhi : hi ≤ a0) (haf : a0 < fb) (hfn : fb + 18 ≤ n) (hX : zX a0 f0 f) (ht : rTry f a0 fb F0 false) (hG : btw R G F0) :
    ∃ (n' m' : Nat) (f' : Nat → Option zO), s_X10_take E (some a0) (some rb) (some fb) (n, m, f) = some (.inl none, (n', m', f')) ∧ n + 1 ≤ n' ∧ m + 3 ≤ m' ∧ xJ E G F0 R lo hi a0 rb fb n (n + 1) (m + 3) f 1000 n' m' f' := by
  have hmv : ∀ {g : Nat → Option zO}, zY n a0 fb f g → rRule E g lo hi rb R := fun hg => hR.mvX (hX.trans (hg.x haf (by omega)) (Nat.le_refl _)) hhi (by omega)
  refine sp_take (R := R) (by omega) ⟨?_, ?_, ?_⟩ ?_ ?_
  · rintro s n' m' g ⟨F, b, hg, -⟩
    exact ⟨lo, hi, hmv hg⟩
  · rintro s n' m' g w ⟨F, b, hg, h1, h2⟩
    refine ⟨F, b, hg.up (by omega), ⟨(zl_up2 (by omega)).trans h1.1, h1.2.mv fun q _ _ => zl_up2 (by omega)⟩, h2⟩
  · rintro s n' m' g ⟨F, b, hg, h1, h2, h3, h4, h6, h7⟩ hs
    rw [← vc_out hs] at h7
    refine ⟨F, b, hg, h1, h2, h3, fun hb => ⟨(h4 hb).1, fun t ht1 ht2 => ?_⟩, h6, h7⟩
    rcases Nat.lt_succ_iff_lt_or_eq.mp ht1 with h | h
    · exact (h4 hb).2 t h ht2
    · subst h; exact absurd ht2 hs
  · rintro s n' m' g hs ⟨F, b, hg, h1, h2, h3, h4, h6, h7, h8, h9⟩ hv
    have hRg := hmv hg
    obtain ⟨f1, e1, x1⟩ := sp_rHolds (E := E) hRg hv (sgs_ok hs.1) h1.2 (n := n') (by omega) (by omega) (by omega) (by omega) h5 m'
    have ht1 : rTry f1 a0 fb F b := ⟨(x1 _ (by omega)).trans h1.1, h1.2.mv fun q _ _ => x1 q (by omega)⟩
    have hg1 : zY n a0 fb f f1 := hg.tr x1 (by omega)
    have hvc := vc_in hs
    refine ⟨rH F (sgs s) R, n' + 1, m' + 4, f1, e1, by omega, by omega, x1 _ (by omega), fun hf => ?_, fun hf => ?_⟩
    · refine ⟨F, b, hg1, ht1, h2, h3, fun hb => ⟨(h4 hb).1, fun t ht1 ht2 ht3 => ?_⟩, h6, by omega, by omega, by omega⟩
      obtain ⟨hF, h10⟩ := h4 hb
      rcases Nat.lt_succ_iff_lt_or_eq.mp ht1 with h | h
      · exact h10 t h ht2 ht3
      · subst h; rw [hF] at hf; rw [hf] at ht3; cases ht3
    · have hok := hR.2.2.1
      have hlt := hd_lt hok hs.1
      have hp := hok.1.1
      have htt := tt_of h2 hst hs hf
      have hm := sp_xMeet (E := E) (hmv hg1) (hv.mv (x1 _ (by omega))) hs.1 ht1 hE haf (n' + 1) (m' + 4)
      refine ⟨_, _, _, hm, by omega, by omega, ?_, fset F R.1.1 (hd R (sgs s)) true, b || !F R.1.1 (hd R (sgs s)), ?_, ⟨zl_up1 rfl, ?_⟩, btw_add h2 htt, fun p c hpc => by rw [fset_t, h3 p c hpc, Bool.or_true], fun hb => ?_, fun hb => ?_, by omega, by omega, by omega⟩
      · rw [zl_up2 (by omega), zl_up2 (by omega)]; exact x1 _ (by omega)
      · exact (hg1.up (by omega)).up (by omega)
      · exact (ht1.2.set hp _ _).mv fun q _ _ => zl_up2 (by omega)
      · obtain ⟨hb1, hb2⟩ := Bool.or_eq_false_iff.mp hb
        obtain ⟨hF, h10⟩ := h4 hb1
        have hin : F R.1.1 (hd R (sgs s)) = true := by simpa using hb2
        refine ⟨by rw [fset_self F hin, hF], fun t ht1 ht2 ht3 => ?_⟩
        rcases Nat.lt_succ_iff_lt_or_eq.mp ht1 with h | h
        · exact h10 t h ht2 ht3
        · subst h; rw [← hF]; exact hin
      · cases hin : F R.1.1 (hd R (sgs s))
        · refine Nat.lt_of_lt_of_le (fdif_add (by omega) htt hin) ?_
          cases b
          · rw [(h4 rfl).1]; exact Nat.le_refl _
          · exact Nat.le_of_lt (h6 rfl)
        · rw [fset_self F hin]
          rw [hin] at hb
          exact h6 (by simpa using hb)
  · intro w
    refine ⟨F0, false, zY.up (fun _ _ _ _ => rfl) (by omega), ⟨(zl_up2 (by omega)).trans ht.1, ht.2.mv fun q _ _ => zl_up2 (by omega)⟩, hG, fun _ _ h => h, fun _ => ⟨rfl, fun t h => by omega⟩, (fun h => by cases h), by omega, by omega, by omega⟩
/-- the rules of an engine: none, or one -/
def rRules (E : zE) (f : Nat → Option zO) (lo hi b : Nat) (rs : List zRule) : Prop := (rs = [] ∧ rListB E f lo hi b []) ∨ ∃ rb R, rs = [R] ∧ rRule E f lo hi rb R ∧ rListB E f lo hi b [rb]
theorem rRules.mv {E : zE} {f f' : Nat → Option zO} {lo hi b : Nat} {rs : List zRule} (h : rRules E f lo hi b rs) (h5 : f' (E 5) = f (E 5)) (hf : ∀ q, lo ≤ q → q < hi → f' q = f q) : rRules E f' lo hi b rs := by
  rcases h with ⟨h1, h2⟩ | ⟨rb, R, h1, h2, h3⟩
  · exact Or.inl ⟨h1, h2.mv h5 hf⟩
  · exact Or.inr ⟨rb, R, h1, h2.mv h5 hf, h3.mv h5 hf⟩
theorem rRules.mvX {E : zE} {f f' : Nat → Option zO} {lo hi b n : Nat} {rs : List zRule} (h : rRules E f lo hi b rs) (hf : zX n f f') (hn : hi ≤ n) (h5 : E 5 < n) : rRules E f' lo hi b rs :=
  h.mv (hf _ h5) fun q _ hq => hf q (by omega)
theorem rRules.ck {E : zE} {f : Nat → Option zO} {lo hi b : Nat} {rs : List zRule} (h : rRules E f lo hi b rs) : zCk (f b) = some 10 := by
  rcases h with ⟨h1, h2⟩ | ⟨rb, R, h1, h2, h3⟩
  · exact h2.ck
  · exact h3.ck
/-- what is true by the rules -/
noncomputable def tr (rs : List zRule) (G : Nat → Nat → Bool) : Nat → Nat → Bool := match rs with
  | [] => G
  | R :: _ => tt R G
/-- hasNext and next of a new iterator over a list of none -/
theorem sp_it0 {E : zE} {f : Nat → Option zO} {lo hi b n : Nat} (h : rListB E f lo hi b []) (hE : E 0 ≤ n) (hn : hi ≤ n) (h5 : E 5 < E 0) (m : Nat) : ∃ f1, s_J2_iterator E (some b) (n, m, f) = some (.inl (some (.ref n)), (n + 1, m + 4, f1)) ∧ zX n f f1 ∧ zCk (f1 n) = some 11 ∧ ∀ n' m' f', f' n = f1 n → f' (E 5) = f1 (E 5) → (∀ q, lo ≤ q → q < hi → f' q = f1 q) → s_J22_hasNext E (some n) (n', m', f') = some (.inl (some (.int (zb false))), (n', m', f')) := by
  obtain ⟨h1, h2, ar, cap, md, h3, h4, h6⟩ := h
  have hit := sp_lIter h3 hE (by omega) m
  generalize hf1 : zUp f n (.inr (11, [.int (zi 0), .int (zi (-1)), .int (zi md), .ref b])) = f1 at hit
  have hf1' : ∀ q, q ≠ n → f1 q = f q := fun q hq => by rw [← hf1, zl_up2 hq]
  have hr : rItr f1 n b md 0 := ⟨zi (-1), by rw [← hf1, zl_up1 rfl]; rfl⟩
  refine ⟨f1, hit, fun q hq => hf1' q (by omega), hr.ck, fun n' m' f' hn' h5' hf' => ?_⟩
  have har : f' ar = f1 ar := by
    rcases h6 with rfl | h6
    · exact h5'
    · exact hf' ar h6.1 h6.2
  exact sp_iHas (E := E) (h3.mv ((hf' b (by omega) (by omega)).trans (hf1' b (by omega))) (har.trans (hf1' ar (by omega)))) (hr.mv hn') (by simp) n' m'
/-- .. of one -/
theorem sp_it1 {E : zE} {f : Nat → Option zO} {lo hi b n x : Nat} (h : rListB E f lo hi b [x]) (hE : E 0 ≤ n) (hn : hi ≤ n) (h5 : E 5 < E 0) (m : Nat) : ∃ f1, s_J2_iterator E (some b) (n, m, f) = some (.inl (some (.ref n)), (n + 1, m + 4, f1)) ∧ zX n f f1 ∧ zCk (f1 n) = some 11 ∧ (∀ m', s_J22_hasNext E (some n) (n + 1, m', f1) = some (.inl (some (.int (zb true))), (n + 1, m', f1))) ∧ ∃ f2, (∀ m', s_J22_next E (some n) (n + 1, m', f1) = some (.inl (some (.ref x)), (n + 1, m', f2))) ∧ zX n f f2 ∧ zCk (f2 n) = some 11 ∧ ∀ n' m' f', f' n = f2 n → f' (E 5) = f2 (E 5) → (∀ q, lo ≤ q → q < hi → f' q = f2 q) → s_J22_hasNext E (some n) (n', m', f') = some (.inl (some (.int (zb false))), (n', m', f')) := by
  obtain ⟨h1, h2, ar, cap, md, h3, h4, h6⟩ := h
  have hb : b ≠ n := by omega
  have ha : ar ≠ n := by rcases h6 with h6 | h6 <;> omega
  have hit := sp_lIter h3 hE (by omega) m
  generalize hf1 : zUp f n (.inr (11, [.int (zi 0), .int (zi (-1)), .int (zi md), .ref b])) = f1 at hit
  have hf1' : ∀ q, q ≠ n → f1 q = f q := fun q hq => by rw [← hf1, zl_up2 hq]
  have hr : rItr f1 n b md 0 := ⟨zi (-1), by rw [← hf1, zl_up1 rfl]; rfl⟩
  have hl1 := h3.mv (hf1' b hb) (hf1' ar ha)
  have hnx := fun m' => sp_iNext (E := E) hl1 hr rfl hE hb ha (n + 1) m'
  generalize hf2 : zUp f1 n (.inr (11, [.int (zi (0 + 1 : Nat)), .int (zi (0 : Nat)), .int (zi md), .ref b])) = f2 at hnx
  have hf2' : ∀ q, q ≠ n → f2 q = f q := fun q hq => by rw [← hf2, zl_up2 hq]; exact hf1' q hq
  have hr2 : rItr f2 n b md 1 := ⟨_, by rw [← hf2, zl_up1 rfl]⟩
  refine ⟨f1, hit, fun q hq => hf1' q (by omega), hr.ck, fun m' => sp_iHas (E := E) hl1 hr (by simp) (n + 1) m', f2, hnx, fun q hq => hf2' q (by omega), hr2.ck, fun n' m' f' hn' h5' hf' => ?_⟩
  have har : f' ar = f2 ar := by
    rcases h6 with rfl | h6
    · exact h5'
    · exact hf' ar h6.1 h6.2
  exact sp_iHas (E := E) (h3.mv ((hf' b (by omega) (by omega)).trans (hf2' b (by omega))) (har.trans (hf2' ar (by omega)))) (hr2.mv hn') (by simp) n' m'
theorem sp_xClose0 {E : zE} {f : Nat → Option zO} {lo hi b a0 fb n : Nat} {F : Nat → Nat → Bool} {b0 : Bool} (h : rListB E f lo hi b []) (hE : E 0 ≤ a0) (hlo : fb + 18 ≤ lo) (hhi : hi ≤ n) (haf : a0 < fb) (hfn : fb + 18 ≤ n) (h5 : E 5 < E 0) (ht : rTry f a0 fb F b0) (m : Nat) : ∃ f', s_X11_close E (some a0) (some b) (n, m, f) = some (.inl none, (n + 1, m + 4, f')) ∧ zX a0 f f' ∧ rTry f' a0 fb F false := by
  obtain ⟨h1, h2⟩ := ht
  generalize hg : zUp f a0 (.inr (17, [.ref fb, .int (zb false)])) = g
  have hg' : ∀ q, q ≠ a0 → g q = f q := fun q hq => by rw [← hg, zl_up2 hq]
  have hga : g a0 = some (.inr (17, [.ref fb, .int (zb false)])) := by rw [← hg, zl_up1 rfl]
  have hlg : rListB E g lo hi b [] := h.mv (hg' _ (by omega)) fun q hq' hq => hg' q (by omega)
  obtain ⟨f1, e1, x1, c1, e2⟩ := sp_it0 hlg (n := n) (by omega) (by omega) h5 m
  refine ⟨f1, ?_, fun q hq => (x1 q (by omega)).trans (hg' q (by omega)), (x1 a0 (by omega)).trans hga, (h2.mv fun q _ _ => hg' q (by omega)).mv fun q _ _ => x1 q (by omega)⟩
  obtain ⟨k, hk⟩ : ∃ k, zN = k + 2 := ⟨zN - 2, by unfold zN; omega⟩
  have e3 := e2 (n + 1) (m + 4) f1 rfl rfl (fun _ _ _ => rfl)
  have ga := (x1 a0 (by omega)).trans hga
  unfold s_X11_close
  rw [hk, s_X11_close_5, hk]
  simp (disch := omega) only [zi_lit, zi_neg, zi_add, zi_sub, zi_mul, zi_div, zi_char, zb_eq0, zb_eq1, zb_le0, zb_or, zb_and, zb_or1, zb_or0, zb_1or, zb_0or, zb_and1, zb_and0, zb_1and, zb_0and, zb_nar, zi_nar0, zi_nar1, zl_ite, zl_ret, zl_retb, zl_retb1, zl_retb0, zl_retc, zl_ki, zl_kr, zl_kr0, zl_krf, zl_kl, zl_kf, zl_kd, zl_kv, zl_rf, zl_rf0, zl_valI, zl_valP, zl_valL, zl_get, zl_getI, zl_getR, zl_get0, zl_getr, zl_fk, zl_set, zl_setk, zl_setNb, zl_setN1, zl_setN0, zl_up1, zl_up2, zl_new, zl_newA, zl_len, zl_lenk, zl_ga, zl_gaI, zl_gaL, zl_gaD, zl_gaR, zl_sa, zl_saI, zl_saL, zl_saD, zl_saR, zl_ck, zl_ok, zl_ok0, zl_csS, zl_csS0, zl_csk, zl_tk, zl_csA, zl_isS0, zl_c, zl_cv, zl_cx, zl_sp, zl_rv, zl_rvk, zl_rvk2, zl_div, zl_rem, zl_ath, zl_clnk, zl_clnk0, zl_cat, zl_catn, zl_l0, zl_ls, zl_s0, zl_ss, List.length_cons, List.length_nil, Nat.reduceLT, Nat.zero_add, Nat.lt_add_one, reduceCtorEq, zi_le, zi_lt, zi_eq, if_pos, if_neg, if_true, if_false, Bool.true_eq_false, Bool.false_eq_true, eq_self, Bool.not_true, Bool.not_false, Int.toNat_natCast, Nat.reduceAdd, Int.reduceAdd, Int.reduceSub, Int.reduceMul, Int.reduceNeg, Int.reduceToNat, zl_aa, h1, zl_upup, hg, hlg.ck, e1]
  rw [s_X11_close_24]
  simp (disch := omega) only [zi_lit, zi_neg, zi_add, zi_sub, zi_mul, zi_div, zi_char, zb_eq0, zb_eq1, zb_le0, zb_or, zb_and, zb_or1, zb_or0, zb_1or, zb_0or, zb_and1, zb_and0, zb_1and, zb_0and, zb_nar, zi_nar0, zi_nar1, zl_ite, zl_ret, zl_retb, zl_retb1, zl_retb0, zl_retc, zl_ki, zl_kr, zl_kr0, zl_krf, zl_kl, zl_kf, zl_kd, zl_kv, zl_rf, zl_rf0, zl_valI, zl_valP, zl_valL, zl_get, zl_getI, zl_getR, zl_get0, zl_getr, zl_fk, zl_set, zl_setk, zl_setNb, zl_setN1, zl_setN0, zl_up1, zl_up2, zl_new, zl_newA, zl_len, zl_lenk, zl_ga, zl_gaI, zl_gaL, zl_gaD, zl_gaR, zl_sa, zl_saI, zl_saL, zl_saD, zl_saR, zl_ck, zl_ok, zl_ok0, zl_csS, zl_csS0, zl_csk, zl_tk, zl_csA, zl_isS0, zl_c, zl_cv, zl_cx, zl_sp, zl_rv, zl_rvk, zl_rvk2, zl_div, zl_rem, zl_ath, zl_clnk, zl_clnk0, zl_cat, zl_catn, zl_l0, zl_ls, zl_s0, zl_ss, List.length_cons, List.length_nil, Nat.reduceLT, Nat.zero_add, Nat.lt_add_one, reduceCtorEq, zi_le, zi_lt, zi_eq, if_pos, if_neg, if_true, if_false, Bool.true_eq_false, Bool.false_eq_true, eq_self, Bool.not_true, Bool.not_false, Int.toNat_natCast, Nat.reduceAdd, Int.reduceAdd, Int.reduceSub, Int.reduceMul, Int.reduceNeg, Int.reduceToNat, zl_aa, c1, e3]
  rw [s_X11_close_5]
  simp (disch := omega) only [zi_lit, zi_neg, zi_add, zi_sub, zi_mul, zi_div, zi_char, zb_eq0, zb_eq1, zb_le0, zb_or, zb_and, zb_or1, zb_or0, zb_1or, zb_0or, zb_and1, zb_and0, zb_1and, zb_0and, zb_nar, zi_nar0, zi_nar1, zl_ite, zl_ret, zl_retb, zl_retb1, zl_retb0, zl_retc, zl_ki, zl_kr, zl_kr0, zl_krf, zl_kl, zl_kf, zl_kd, zl_kv, zl_rf, zl_rf0, zl_valI, zl_valP, zl_valL, zl_get, zl_getI, zl_getR, zl_get0, zl_getr, zl_fk, zl_set, zl_setk, zl_setNb, zl_setN1, zl_setN0, zl_up1, zl_up2, zl_new, zl_newA, zl_len, zl_lenk, zl_ga, zl_gaI, zl_gaL, zl_gaD, zl_gaR, zl_sa, zl_saI, zl_saL, zl_saD, zl_saR, zl_ck, zl_ok, zl_ok0, zl_csS, zl_csS0, zl_csk, zl_tk, zl_csA, zl_isS0, zl_c, zl_cv, zl_cx, zl_sp, zl_rv, zl_rvk, zl_rvk2, zl_div, zl_rem, zl_ath, zl_clnk, zl_clnk0, zl_cat, zl_catn, zl_l0, zl_ls, zl_s0, zl_ss, List.length_cons, List.length_nil, Nat.reduceLT, Nat.zero_add, Nat.lt_add_one, reduceCtorEq, zi_le, zi_lt, zi_eq, if_pos, if_neg, if_true, if_false, Bool.true_eq_false, Bool.false_eq_true, eq_self, Bool.not_true, Bool.not_false, Int.toNat_natCast, Nat.reduceAdd, Int.reduceAdd, Int.reduceSub, Int.reduceMul, Int.reduceNeg, Int.reduceToNat, zl_aa, ga]
/-- one more round of Trying over the one rule, down to the next test -/
theorem sp_xClose_l {E : zE} {G : Nat → Nat → Bool} {R : zRule} {lo hi rlo rhi b a0 rb fb : Nat} {f0 : Nat → Option zO} (hst : strat R) (hR : rRule E f0 rlo rhi rb R) (h5 : E 5 < E 0) (hE : E 0 ≤ a0) (hlo : fb + 18 ≤ lo) (hrh : rhi ≤ a0) (haf : a0 < fb) :
    ∀ (d k n m : Nat) (f : Nat → Option zO) (F : Nat → Nat → Bool), fdif (tt R G) F R.1.1 < d → d + 1 < k → fb + 18 ≤ n → zX a0 f0 f → rTry f a0 fb F true → btw R G F → hi ≤ n → rListB E f lo hi b [rb] →
    ∃ (n' m' : Nat) (f' : Nat → Option zO), s_X11_close_5 E k (some a0) (some b) (n, m, f) = some (.inl none, (n', m', f')) ∧ n ≤ n' ∧ n' ≤ n + d * (2 + vc R 1000) ∧ m ≤ m' ∧ m' ≤ m + d * (7 + 4 * vc R 1000) ∧ zX a0 f0 f' ∧ rTry f' a0 fb (tt R G) false := by
  intro d
  induction d with
  | zero => intro k n m f F hd; omega
  | succ d ih =>
    intro k n m f F hd hk hn hX ht hb hhi hL
    obtain ⟨k, rfl⟩ : ∃ k', k = k' + 1 := ⟨k - 1, by omega⟩
    obtain ⟨h1, h2⟩ := ht
    generalize hg : zUp f a0 (.inr (17, [.ref fb, .int (zb false)])) = g
    have hg' : ∀ q, q ≠ a0 → g q = f q := fun q hq => by rw [← hg, zl_up2 hq]
    have hga : g a0 = some (.inr (17, [.ref fb, .int (zb false)])) := by rw [← hg, zl_up1 rfl]
    have hXg : zX a0 f0 g := fun q hq => (hg' q (by omega)).trans (hX q hq)
    have hlg : rListB E g lo hi b [rb] := hL.mv (hg' _ (by omega)) fun q hq' hq => hg' q (by omega)
    obtain ⟨f1, e1, x1, c1, e2, f2, e3, x2, c2, e4⟩ := sp_it1 hlg (n := n) (by omega) (by omega) h5 m
    have hX2 : zX a0 f0 f2 := fun q hq => (x2 q (by omega)).trans (hXg q hq)
    have ht2 : rTry f2 a0 fb F false := ⟨(x2 a0 (by omega)).trans hga, (h2.mv fun q _ _ => hg' q (by omega)).mv fun q _ _ => x2 q (by omega)⟩
    have hRk2 := (hR.mvX hX2 hrh (by omega)).ck
    obtain ⟨n3, m3, f3, e5, e6, e7, F3, b3, g1, g2, g3, g4, g5, g6, g7, g8, g9⟩ := sp_xTake (n := n + 1) (m := m + 4) (F0 := F) hst hR h5 hE hrh haf (by omega) hX2 ht2 hb
    have gx : zX a0 f0 f3 := hX2.trans (g1.x haf (by omega)) (Nat.le_refl _)
    have gn : f3 n = f2 n := g1 n (by omega) (by omega) (by omega)
    have e8 := e4 n3 m3 f3 gn (g1 _ (by omega) (by omega) (by omega)) fun q hq' hq => g1 q (by omega) (by omega) (by omega)
    have hl2 : rListB E f3 lo hi b [rb] := hlg.mv ((g1 _ (by omega) (by omega) (by omega)).trans (x2 _ (by omega))) fun q hq' hq => (g1 q (by omega) (by omega) (by omega)).trans (x2 q (by omega))
    have hvc : vc R 1000 ≤ 1000 := bcnt_le _ _
    have gck : zCk (f3 n) = some 11 := by rw [gn]; exact c2
    have ga1 := ht2.1
    obtain ⟨kk, hkk⟩ : ∃ k, zN = k + 2 := ⟨zN - 2, by unfold zN; omega⟩
    have run : ∀ X, s_X11_close_5 E k (some a0) (some b) (n3, m3, f3) = X → s_X11_close_5 E (k + 1) (some a0) (some b) (n, m, f) = X := fun X hXX => by
      rw [s_X11_close_5, hkk]
      simp (disch := omega) only [zi_lit, zi_neg, zi_add, zi_sub, zi_mul, zi_div, zi_char, zb_eq0, zb_eq1, zb_le0, zb_or, zb_and, zb_or1, zb_or0, zb_1or, zb_0or, zb_and1, zb_and0, zb_1and, zb_0and, zb_nar, zi_nar0, zi_nar1, zl_ite, zl_ret, zl_retb, zl_retb1, zl_retb0, zl_retc, zl_ki, zl_kr, zl_kr0, zl_krf, zl_kl, zl_kf, zl_kd, zl_kv, zl_rf, zl_rf0, zl_valI, zl_valP, zl_valL, zl_get, zl_getI, zl_getR, zl_get0, zl_getr, zl_fk, zl_set, zl_setk, zl_setNb, zl_setN1, zl_setN0, zl_up1, zl_up2, zl_new, zl_newA, zl_len, zl_lenk, zl_ga, zl_gaI, zl_gaL, zl_gaD, zl_gaR, zl_sa, zl_saI, zl_saL, zl_saD, zl_saR, zl_ck, zl_ok, zl_ok0, zl_csS, zl_csS0, zl_csk, zl_tk, zl_csA, zl_isS0, zl_c, zl_cv, zl_cx, zl_sp, zl_rv, zl_rvk, zl_rvk2, zl_div, zl_rem, zl_ath, zl_clnk, zl_clnk0, zl_cat, zl_catn, zl_l0, zl_ls, zl_s0, zl_ss, List.length_cons, List.length_nil, Nat.reduceLT, Nat.zero_add, Nat.lt_add_one, reduceCtorEq, zi_le, zi_lt, zi_eq, if_pos, if_neg, if_true, if_false, Bool.true_eq_false, Bool.false_eq_true, eq_self, Bool.not_true, Bool.not_false, Int.toNat_natCast, Nat.reduceAdd, Int.reduceAdd, Int.reduceSub, Int.reduceMul, Int.reduceNeg, Int.reduceToNat, zl_aa, h1, zl_upup, hg, hlg.ck, e1]
      rw [s_X11_close_24]
      simp (disch := omega) only [zi_lit, zi_neg, zi_add, zi_sub, zi_mul, zi_div, zi_char, zb_eq0, zb_eq1, zb_le0, zb_or, zb_and, zb_or1, zb_or0, zb_1or, zb_0or, zb_and1, zb_and0, zb_1and, zb_0and, zb_nar, zi_nar0, zi_nar1, zl_ite, zl_ret, zl_retb, zl_retb1, zl_retb0, zl_retc, zl_ki, zl_kr, zl_kr0, zl_krf, zl_kl, zl_kf, zl_kd, zl_kv, zl_rf, zl_rf0, zl_valI, zl_valP, zl_valL, zl_get, zl_getI, zl_getR, zl_get0, zl_getr, zl_fk, zl_set, zl_setk, zl_setNb, zl_setN1, zl_setN0, zl_up1, zl_up2, zl_new, zl_newA, zl_len, zl_lenk, zl_ga, zl_gaI, zl_gaL, zl_gaD, zl_gaR, zl_sa, zl_saI, zl_saL, zl_saD, zl_saR, zl_ck, zl_ok, zl_ok0, zl_csS, zl_csS0, zl_csk, zl_tk, zl_csA, zl_isS0, zl_c, zl_cv, zl_cx, zl_sp, zl_rv, zl_rvk, zl_rvk2, zl_div, zl_rem, zl_ath, zl_clnk, zl_clnk0, zl_cat, zl_catn, zl_l0, zl_ls, zl_s0, zl_ss, List.length_cons, List.length_nil, Nat.reduceLT, Nat.zero_add, Nat.lt_add_one, reduceCtorEq, zi_le, zi_lt, zi_eq, if_pos, if_neg, if_true, if_false, Bool.true_eq_false, Bool.false_eq_true, eq_self, Bool.not_true, Bool.not_false, Int.toNat_natCast, Nat.reduceAdd, Int.reduceAdd, Int.reduceSub, Int.reduceMul, Int.reduceNeg, Int.reduceToNat, zl_aa, c1, e2, e3, hRk2, ga1, e5]
      rw [s_X11_close_24]
      simp (disch := omega) only [zi_lit, zi_neg, zi_add, zi_sub, zi_mul, zi_div, zi_char, zb_eq0, zb_eq1, zb_le0, zb_or, zb_and, zb_or1, zb_or0, zb_1or, zb_0or, zb_and1, zb_and0, zb_1and, zb_0and, zb_nar, zi_nar0, zi_nar1, zl_ite, zl_ret, zl_retb, zl_retb1, zl_retb0, zl_retc, zl_ki, zl_kr, zl_kr0, zl_krf, zl_kl, zl_kf, zl_kd, zl_kv, zl_rf, zl_rf0, zl_valI, zl_valP, zl_valL, zl_get, zl_getI, zl_getR, zl_get0, zl_getr, zl_fk, zl_set, zl_setk, zl_setNb, zl_setN1, zl_setN0, zl_up1, zl_up2, zl_new, zl_newA, zl_len, zl_lenk, zl_ga, zl_gaI, zl_gaL, zl_gaD, zl_gaR, zl_sa, zl_saI, zl_saL, zl_saD, zl_saR, zl_ck, zl_ok, zl_ok0, zl_csS, zl_csS0, zl_csk, zl_tk, zl_csA, zl_isS0, zl_c, zl_cv, zl_cx, zl_sp, zl_rv, zl_rvk, zl_rvk2, zl_div, zl_rem, zl_ath, zl_clnk, zl_clnk0, zl_cat, zl_catn, zl_l0, zl_ls, zl_s0, zl_ss, List.length_cons, List.length_nil, Nat.reduceLT, Nat.zero_add, Nat.lt_add_one, reduceCtorEq, zi_le, zi_lt, zi_eq, if_pos, if_neg, if_true, if_false, Bool.true_eq_false, Bool.false_eq_true, eq_self, Bool.not_true, Bool.not_false, Int.toNat_natCast, Nat.reduceAdd, Int.reduceAdd, Int.reduceSub, Int.reduceMul, Int.reduceNeg, Int.reduceToNat, zl_aa, gck, e8]
      exact hXX
    cases b3
    · obtain ⟨g10, g11⟩ := g5 rfl
      subst g10
      have hT : F3 = tt R G := btw_closed g3 hst fun s hs hr => g11 s hs.1 hs hr
      obtain ⟨k', rfl⟩ : ∃ k', k = k' + 1 := ⟨k - 1, by omega⟩
      rw [hT] at g2
      refine ⟨n3, m3, f3, run _ ?_, by omega, ?_, by omega, ?_, gx, g2⟩
      · rw [s_X11_close_5]
        simp (disch := omega) only [zi_lit, zi_neg, zi_add, zi_sub, zi_mul, zi_div, zi_char, zb_eq0, zb_eq1, zb_le0, zb_or, zb_and, zb_or1, zb_or0, zb_1or, zb_0or, zb_and1, zb_and0, zb_1and, zb_0and, zb_nar, zi_nar0, zi_nar1, zl_ite, zl_ret, zl_retb, zl_retb1, zl_retb0, zl_retc, zl_ki, zl_kr, zl_kr0, zl_krf, zl_kl, zl_kf, zl_kd, zl_kv, zl_rf, zl_rf0, zl_valI, zl_valP, zl_valL, zl_get, zl_getI, zl_getR, zl_get0, zl_getr, zl_fk, zl_set, zl_setk, zl_setNb, zl_setN1, zl_setN0, zl_up1, zl_up2, zl_new, zl_newA, zl_len, zl_lenk, zl_ga, zl_gaI, zl_gaL, zl_gaD, zl_gaR, zl_sa, zl_saI, zl_saL, zl_saD, zl_saR, zl_ck, zl_ok, zl_ok0, zl_csS, zl_csS0, zl_csk, zl_tk, zl_csA, zl_isS0, zl_c, zl_cv, zl_cx, zl_sp, zl_rv, zl_rvk, zl_rvk2, zl_div, zl_rem, zl_ath, zl_clnk, zl_clnk0, zl_cat, zl_catn, zl_l0, zl_ls, zl_s0, zl_ss, List.length_cons, List.length_nil, Nat.reduceLT, Nat.zero_add, Nat.lt_add_one, reduceCtorEq, zi_le, zi_lt, zi_eq, if_pos, if_neg, if_true, if_false, Bool.true_eq_false, Bool.false_eq_true, eq_self, Bool.not_true, Bool.not_false, Int.toNat_natCast, Nat.reduceAdd, Int.reduceAdd, Int.reduceSub, Int.reduceMul, Int.reduceNeg, Int.reduceToNat, zl_aa, g2.1]
      · rw [Nat.succ_mul]; omega
      · rw [Nat.succ_mul]; omega
    · have hlt := g6 rfl
      obtain ⟨n', m', f', i1, i2, i3, i4, i5, i6, i7⟩ := ih k n3 m3 f3 F3 (by omega) (by omega) (by omega) gx g2 g3 (by omega) hl2
      refine ⟨n', m', f', run _ i1, by omega, ?_, by omega, ?_, i6, i7⟩
      · rw [Nat.succ_mul]; omega
      · rw [Nat.succ_mul]; omega
theorem sp_xClose1 {E : zE} {G : Nat → Nat → Bool} {R : zRule} {lo hi rlo rhi b a0 rb fb n : Nat} {f : Nat → Option zO} {b0 : Bool} (hst : strat R) (hR : rRule E f rlo rhi rb R) (hL : rListB E f lo hi b [rb]) (h5 : E 5 < E 0) (hE : E 0 ≤ a0) (hlo : fb + 18 ≤ lo) (hhi : hi ≤ n) (hrh : rhi ≤ a0) (haf : a0 < fb) (hfn : fb + 18 ≤ n) (ht : rTry f a0 fb G b0) (m : Nat) :
    ∃ (n' m' : Nat) (f' : Nat → Option zO), s_X11_close E (some a0) (some b) (n, m, f) = some (.inl none, (n', m', f')) ∧ n ≤ n' ∧ n' ≤ n + (nd R G + 1) * (2 + vc R 1000) ∧ m ≤ m' ∧ m' ≤ m + (nd R G + 1) * (7 + 4 * vc R 1000) ∧ zX a0 f f' ∧ rTry f' a0 fb (tt R G) false := by
  obtain ⟨h1, h2⟩ := ht
  have hd : nd R G ≤ 128 := bcnt_le _ _
  generalize hg : zUp f a0 (.inr (17, [.ref fb, .int (zb true)])) = g
  have hg' : ∀ q, q ≠ a0 → g q = f q := fun q hq => by rw [← hg, zl_up2 hq]
  obtain ⟨n', m', f', e1, e2, e3, e4, e5, e6, e7⟩ := sp_xClose_l (E := E) hst hR h5 hE hlo hrh haf (nd R G + 1) zN n m g G (Nat.lt_succ_self _) (by unfold zN; omega) hfn (fun q hq => hg' q (by omega)) ⟨by rw [← hg, zl_up1 rfl], h2.mv fun q _ _ => hg' q (by omega)⟩ (btw_refl R G) hhi (hL.mv (hg' _ (by omega)) fun q hq' hq => hg' q (by omega))
  refine ⟨n', m', f', ?_, e2, e3, e4, e5, e6, e7⟩
  unfold s_X11_close
  simp (disch := omega) only [zi_lit, zi_neg, zi_add, zi_sub, zi_mul, zi_div, zi_char, zb_eq0, zb_eq1, zb_le0, zb_or, zb_and, zb_or1, zb_or0, zb_1or, zb_0or, zb_and1, zb_and0, zb_1and, zb_0and, zb_nar, zi_nar0, zi_nar1, zl_ite, zl_ret, zl_retb, zl_retb1, zl_retb0, zl_retc, zl_ki, zl_kr, zl_kr0, zl_krf, zl_kl, zl_kf, zl_kd, zl_kv, zl_rf, zl_rf0, zl_valI, zl_valP, zl_valL, zl_get, zl_getI, zl_getR, zl_get0, zl_getr, zl_fk, zl_set, zl_setk, zl_setNb, zl_setN1, zl_setN0, zl_up1, zl_up2, zl_new, zl_newA, zl_len, zl_lenk, zl_ga, zl_gaI, zl_gaL, zl_gaD, zl_gaR, zl_sa, zl_saI, zl_saL, zl_saD, zl_saR, zl_ck, zl_ok, zl_ok0, zl_csS, zl_csS0, zl_csk, zl_tk, zl_csA, zl_isS0, zl_c, zl_cv, zl_cx, zl_sp, zl_rv, zl_rvk, zl_rvk2, zl_div, zl_rem, zl_ath, zl_clnk, zl_clnk0, zl_cat, zl_catn, zl_l0, zl_ls, zl_s0, zl_ss, List.length_cons, List.length_nil, Nat.reduceLT, Nat.zero_add, Nat.lt_add_one, reduceCtorEq, zi_le, zi_lt, zi_eq, if_pos, if_neg, if_true, if_false, Bool.true_eq_false, Bool.false_eq_true, eq_self, Bool.not_true, Bool.not_false, Int.toNat_natCast, Nat.reduceAdd, Int.reduceAdd, Int.reduceSub, Int.reduceMul, Int.reduceNeg, Int.reduceToNat, zl_aa, h1, hg]
  exact e1
