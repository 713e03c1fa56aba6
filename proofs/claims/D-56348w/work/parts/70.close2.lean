set_option maxRecDepth 20000
/-! ===== plain law: Changing.close ===== -/
def kp (R : zRule) : Nat := (prem R.2.1).length
theorem ext_unk (s : Nat → Int) : ext (fun _ => -1) s := fun _ _ => Or.inl rfl
theorem sp_close86 {E : zE} {lo hi a0 rb fb lb xb M : Nat} {R : zRule} {F L : Nat → Nat → Bool} (hsf : safe R) (h5 : E 5 < E 0) (hE : E 0 ≤ a0) (hhi : hi ≤ a0) (haf : a0 < fb) (hfx : fb + 18 ≤ xb) (hlx : lb + 18 ≤ xb) (hwF : wfF F) (hwL : wfF L) (hM : ∀ p, bcnt (F p) 100 ≤ M ∧ bcnt (L p) 100 ≤ M) (k50 : Option Nat → Option Nat → zM) (k64 : Option Nat → Option Nat → Option Nat → zM) (l it : Option Nat) :
    ∀ (d ch k n m : Nat) (f : Nat → Option zO) (X : Nat → Nat → Bool), ch + d = kp R → d < k → xb + 18 ≤ n → cJ E f lo hi a0 rb fb lb xb R F L 0 → rFacts f xb X →
    ∃ (n' m' : Nat) (f' : Nat → Option zO) (X' : Nat → Nat → Bool), s_X8_close_86 E k50 k64 k (some a0) l it (some rb) (zi ch) (n, m, f) = k64 (some a0) l it (n', m', f') ∧ n ≤ n' ∧ n' ≤ n + d * (1 + Jc M (kp R)) ∧ m ≤ m' ∧ m' ≤ m + d * (3 + Js M (kp R)) ∧ (∀ q, q < n → (q < xb ∨ xb + 18 ≤ q) → f' q = f q) ∧ rFacts f' xb X' ∧ jPost R F X X' ∧
      (∀ s j A, vs R s → rH F (sgs s) R = true → F R.1.1 (hd R (sgs s)) = false → ch ≤ j → (prem R.2.1)[j]? = some A → L A.1 (ac (sgs s) A).toNat = true → X' R.1.1 (hd R (sgs s)) = true) := by
  intro d
  induction d with
  | zero =>
    intro ch k n m f X hch hk hn h hX
    obtain ⟨k, rfl⟩ : ∃ k', k = k' + 1 := ⟨k - 1, by omega⟩
    have h' := h
    obtain ⟨hR, -⟩ := h
    obtain ⟨-, -, hok, hha, la, pa, ta, bs, ps, q4, q6, q7, q8, q9, q10, ⟨w1, w2, par, pcap, pmd, w3, w4, w5⟩, q12⟩ := hR
    have hlen := q12.1
    have hp3 : (prem R.2.1).length ≤ 3 := by
      have := hok.2.2.1
      unfold prem
      rw [List.length_map]
      exact Nat.le_trans (List.length_filter_le _ _) this
    unfold kp at hch
    refine ⟨n, m, f, X, ?_, by omega, by omega, by omega, by omega, fun _ _ _ => rfl, hX, ⟨fun _ _ h => h, fun _ _ h => Or.inl h⟩, fun s j A _ _ _ hj hA => ?_⟩
    · rw [s_X8_close_86]
      simp (disch := omega) only [zi_lit, zi_neg, zi_add, zi_sub, zi_mul, zi_div, zi_char, zb_eq0, zb_eq1, zb_le0, zb_or, zb_and, zb_or1, zb_or0, zb_1or, zb_0or, zb_and1, zb_and0, zb_1and, zb_0and, zb_nar, zi_nar0, zi_nar1, zl_ite, zl_ret, zl_retb, zl_retb1, zl_retb0, zl_retc, zl_ki, zl_kr, zl_kr0, zl_krf, zl_kl, zl_kf, zl_kd, zl_kv, zl_rf, zl_rf0, zl_valI, zl_valP, zl_valL, zl_get, zl_getI, zl_getR, zl_get0, zl_getr, zl_fk, zl_set, zl_setk, zl_setNb, zl_setN1, zl_setN0, zl_up1, zl_up2, zl_new, zl_newA, zl_len, zl_lenk, zl_ga, zl_gaI, zl_gaL, zl_gaD, zl_gaR, zl_sa, zl_saI, zl_saL, zl_saD, zl_saR, zl_ck, zl_ok, zl_ok0, zl_csS, zl_csS0, zl_csk, zl_tk, zl_csA, zl_isS0, zl_c, zl_cv, zl_cx, zl_sp, zl_rv, zl_rvk, zl_rvk2, zl_div, zl_rem, zl_ath, zl_clnk, zl_clnk0, zl_cat, zl_catn, zl_l0, zl_ls, zl_s0, zl_ss, List.length_cons, List.length_nil, Nat.reduceLT, Nat.zero_add, Nat.lt_add_one, reduceCtorEq, zi_le, zi_lt, zi_eq, if_pos, if_neg, if_true, if_false, Bool.true_eq_false, Bool.false_eq_true, eq_self, Bool.not_true, Bool.not_false, Int.toNat_natCast, Nat.reduceAdd, Int.reduceAdd, Int.reduceSub, Int.reduceMul, Int.reduceNeg, Int.reduceToNat, zl_aa, q4, w3.ck, sp_lSize (E := E) w3]
    · have := (List.getElem?_eq_some_iff.mp hA).1; omega
  | succ d ih =>
    intro ch k n m f X hch hk hn h hX
    obtain ⟨k, rfl⟩ : ∃ k', k = k' + 1 := ⟨k - 1, by omega⟩
    have hR := h.1
    have ha0 : zCk (f a0) = some 36 := by obtain ⟨lv, e, -⟩ := h.2.1; rw [e]; rfl
    have hR0 := hR
    obtain ⟨-, -, hok, hha, la, pa, ta, bs, ps, q4, q6, q7, q8, q9, q10, ⟨w1, w2, par, pcap, pmd, w3, w4, w5⟩, q12⟩ := hR0
    have hlen := q12.1
    have hp3 : (prem R.2.1).length ≤ 3 := by
      have := hok.2.2.1
      unfold prem
      rw [List.length_map]
      exact Nat.le_trans (List.length_filter_le _ _) this
    have hkp : kp R = (prem R.2.1).length := rfl
    obtain ⟨f1, u1, u2, u3⟩ := sp_unknown (E := E) (n := n) (by omega) m f
    have h1 := h.mv (f' := f1) (by omega) (by omega) (by omega) hfx hlx fun q hq => u3 q (by omega)
    have hX1 : rFacts f1 xb X := hX.mv fun q _ _ => u3 q (by omega)
    have h1c : cJ E f1 lo hi a0 rb fb lb xb R F L (ch : Nat) := by
      obtain ⟨b1, ⟨lv, b2, b3⟩, b4, b5⟩ := h1
      exact ⟨b1, ⟨lv, b2, fun _ => b3 (by omega)⟩, b4, fun _ => b5 (by omega)⟩
    obtain ⟨n2, m2, f2, X2, e1, e2, e3, e4, e5, e6, e7, e8, e9⟩ := sp_join (E := E) (lb := lb) (M := M) (ch := (ch : Nat)) (by omega) hsf h5 hE hhi haf hfx hlx hwF hwL hM (kp R) 0 10 (n + 1) (m + 3) n f1 X (fun _ => -1) (by omega) (by omega) (by omega) (by omega) h1c hX1 u2 (fun _ _ => Or.inl rfl)
    have hx2 : ∀ q, q < xb → f2 q = f q := fun q hq => (e6 q (by omega) (by omega)).trans (u3 q (by omega))
    have h2 := h.mv (f' := f2) (by omega) (by omega) (by omega) hfx hlx hx2
    obtain ⟨n', m', f', X', g1, g2, g3, g4, g5, g6, g7, g8, g9⟩ := ih (ch + 1) k n2 m2 f2 X2 (by omega) (by omega) (by omega) h2 e7
    have hmul : (d + 1) * (1 + Jc M (kp R)) = d * (1 + Jc M (kp R)) + (1 + Jc M (kp R)) := Nat.succ_mul _ _
    have hmul2 : (d + 1) * (3 + Js M (kp R)) = d * (3 + Js M (kp R)) + (3 + Js M (kp R)) := Nat.succ_mul _ _
    refine ⟨n', m', f', X', ?_, by omega, by omega, by omega, by omega, fun q hq hq' => (g6 q (by omega) hq').trans ((e6 q (by omega) hq').trans (u3 q (by omega))), g7, e8.trans g8, fun s j A hs hr hF hj hA hL => ?_⟩
    · rw [s_X8_close_86]
      rw [show ((0 : Nat) : Int) = 0 from rfl] at e1
      have ha1 : zCk (f1 a0) = some 36 := by rw [u3 a0 (by omega)]; exact ha0
      simp (disch := omega) only [zi_lit, zi_neg, zi_add, zi_sub, zi_mul, zi_div, zi_char, zb_eq0, zb_eq1, zb_le0, zb_or, zb_and, zb_or1, zb_or0, zb_1or, zb_0or, zb_and1, zb_and0, zb_1and, zb_0and, zb_nar, zi_nar0, zi_nar1, zl_ite, zl_ret, zl_retb, zl_retb1, zl_retb0, zl_retc, zl_ki, zl_kr, zl_kr0, zl_krf, zl_kl, zl_kf, zl_kd, zl_kv, zl_rf, zl_rf0, zl_valI, zl_valP, zl_valL, zl_get, zl_getI, zl_getR, zl_get0, zl_getr, zl_fk, zl_set, zl_setk, zl_setNb, zl_setN1, zl_setN0, zl_up1, zl_up2, zl_new, zl_newA, zl_len, zl_lenk, zl_ga, zl_gaI, zl_gaL, zl_gaD, zl_gaR, zl_sa, zl_saI, zl_saL, zl_saD, zl_saR, zl_ck, zl_ok, zl_ok0, zl_csS, zl_csS0, zl_csk, zl_tk, zl_csA, zl_isS0, zl_c, zl_cv, zl_cx, zl_sp, zl_rv, zl_rvk, zl_rvk2, zl_div, zl_rem, zl_ath, zl_clnk, zl_clnk0, zl_cat, zl_catn, zl_l0, zl_ls, zl_s0, zl_ss, List.length_cons, List.length_nil, Nat.reduceLT, Nat.zero_add, Nat.lt_add_one, reduceCtorEq, zi_le, zi_lt, zi_eq, if_pos, if_neg, if_true, if_false, Bool.true_eq_false, Bool.false_eq_true, eq_self, Bool.not_true, Bool.not_false, Int.toNat_natCast, Nat.reduceAdd, Int.reduceAdd, Int.reduceSub, Int.reduceMul, Int.reduceNeg, Int.reduceToNat, zl_aa, q4, w3.ck, sp_lSize (E := E) w3, u1, ha1, e1, zc_add]
      exact g1
    · by_cases hjc : j = ch
      · subst hjc
        apply g8.1
        refine e9 (fun j' A' hj' => by omega) s hs (ext_unk _) (fun j' B hj' hB => ?_) hr hF
        unfold srcF
        by_cases hjj : j' = j
        · subst hjj
          rw [if_pos rfl]
          rw [hA] at hB; cases hB; exact hL
        · rw [if_neg (by omega)]
          unfold rH at hr
          have hm := List.mem_of_getElem? hB
          unfold prem at hm
          obtain ⟨Lt, hLt, rfl⟩ := List.mem_map.mp hm
          obtain ⟨hLt1, hLt2⟩ := List.mem_filter.mp hLt
          have := List.all_eq_true.mp hr Lt hLt1
          unfold lv at this
          rw [if_pos (of_decide_eq_true hLt2)] at this
          exact this
      · exact g9 s j A hs hr hF (by omega) hA hL
/-- before goOn: F so far, X the new ones of all its steps -/
def cS (R : zRule) (G F X : Nat → Nat → Bool) : Prop := btw R G F ∧ wfF F ∧ wfF X ∧ (∀ p c, X p c = true → newh R F p c) ∧ ∀ s, vs R s → rH F (sgs s) R = true → F R.1.1 (hd R (sgs s)) = false → X R.1.1 (hd R (sgs s)) = true
theorem newh_tt {R : zRule} {G F : Nat → Nat → Bool} (hst : strat R) (hb : btw R G F) {p c : Nat} (h : newh R F p c) : tt R G p c = true := by
  obtain ⟨s, hs, hr, rfl, rfl, -⟩ := h
  exact tt_of hb hst hs hr
theorem newh_wf {R : zRule} (hR : okRule R) {F : Nat → Nat → Bool} {p c : Nat} (h : newh R F p c) : p < 8 ∧ okC p c := by
  obtain ⟨s, hs, hr, rfl, rfl, -⟩ := h
  have t1 := tv_ok (sgs_ok hs.1) hR.1.2.1
  have t2 := tv_ok (sgs_ok hs.1) hR.1.2.2
  refine ⟨hR.1.1, ?_⟩
  unfold okC hd ac cd
  split
  · rw [if_pos (by omega)]; omega
  · rw [if_neg (by omega)]; omega
theorem cS_closed {R : zRule} {G F X : Nat → Nat → Bool} (hst : strat R) (h : cS R G F X) (hx : ∀ p c, X p c = false) : F = tt R G := by
  obtain ⟨h1, h2, h3, h4, h5⟩ := h
  refine btw_closed h1 hst fun s hs hr => ?_
  cases hf : F R.1.1 (hd R (sgs s))
  · have := h5 s hs hr hf; rw [hx] at this; cases this
  · rfl
theorem cS_uni {R : zRule} {G F X : Nat → Nat → Bool} (hst : strat R) (h : cS R G F X) : btw R G (funi F X) ∧ wfF (funi F X) := by
  obtain ⟨h1, h2, h3, h4, h5⟩ := h
  refine ⟨⟨fun p c hg => by unfold funi; rw [h1.1 p c hg]; rfl, fun p c hf => ?_⟩, fun p c hf => ?_⟩
  · unfold funi at hf
    rcases (Bool.or_eq_true _ _ ▸ hf) with h | h
    · exact h1.2 _ _ h
    · exact newh_tt hst h1 (h4 _ _ h)
  · unfold funi at hf
    rcases (Bool.or_eq_true _ _ ▸ hf) with h | h
    · exact h2 _ _ h
    · exact h3 _ _ h
theorem cS_next {R : zRule} {G F X X' : Nat → Nat → Bool} (hst : strat R) (hR : okRule R) (h : cS R G F X) (hp : jPost R (funi F X) (fun _ _ => false) X') (hc : ∀ s j A, vs R s → rH (funi F X) (sgs s) R = true → funi F X R.1.1 (hd R (sgs s)) = false → 0 ≤ j → (prem R.2.1)[j]? = some A → X A.1 (ac (sgs s) A).toNat = true → X' R.1.1 (hd R (sgs s)) = true) : cS R G (funi F X) X' := by
  obtain ⟨k1, k2⟩ := cS_uni hst h
  obtain ⟨h1, h2, h3, h4, h5⟩ := h
  have hnew : ∀ p c, X' p c = true → newh R (funi F X) p c := fun p c hx => by
    rcases hp.2 p c hx with h | h
    · cases h
    · exact h
  refine ⟨k1, k2, fun p c hx => newh_wf hR (hnew p c hx), hnew, fun s hs hr hf => ?_⟩
  obtain ⟨r1, r2⟩ := (rH_iff k1 hst _).mp hr
  have hf' := hf
  unfold funi at hf'
  rw [Bool.or_eq_false_iff] at hf'
  by_cases hall : ∀ L ∈ R.2.1, L.1 = 0 → F L.2.1 (ac (sgs s) L.2).toNat = true
  · have := h5 s hs ((rH_iff h1 hst _).mpr ⟨hall, r2⟩) hf'.1
    rw [hf'.2] at this; cases this
  · simp only [Classical.not_forall, Bool.not_eq_true] at hall
    obtain ⟨L, hL, h0, hLF⟩ := hall
    have hLu := r1 L hL h0
    unfold funi at hLu
    rw [hLF, Bool.false_or] at hLu
    have hm : L.2 ∈ prem R.2.1 := List.mem_map.mpr ⟨L, List.mem_filter.mpr ⟨hL, by simp [h0]⟩, rfl⟩
    obtain ⟨j, hj⟩ := List.getElem?_of_mem hm
    exact hc s j L.2 hs hr hf (Nat.zero_le _) hj hLu
theorem fcnt_pos {X : Nat → Nat → Bool} (hw : wfF X) : (0 < fcnt X 8) ↔ ∃ p c, X p c = true := by
  constructor
  · intro h
    have key : ∀ k, 0 < fcnt X k → ∃ p c, X p c = true := by
      intro k
      induction k with
      | zero => intro h; exact absurd h (by simp [fcnt])
      | succ k ih =>
        intro h
        rw [fcnt] at h
        by_cases h1 : 0 < fcnt X k
        · exact ih h1
        · have key2 : ∀ j, 0 < bcnt (X k) j → ∃ c, X k c = true := by
            intro j
            induction j with
            | zero => intro h; exact absurd h (by simp [bcnt])
            | succ j ih2 =>
              intro h
              rw [bcnt] at h
              cases hx : X k j
              · rw [hx] at h; exact ih2 (by simpa using h)
              · exact ⟨j, hx⟩
          obtain ⟨c, hc⟩ := key2 128 (by omega)
          exact ⟨k, c, hc⟩
    exact key 8 h
  · rintro ⟨p, c, h⟩
    obtain ⟨h1, h2⟩ := hw p c h
    have hc : c < 128 := by unfold okC at h2; split at h2 <;> omega
    have hb : 0 < bcnt (X p) 128 := by
      have := bcnt_lt (g := X p) (g' := fun _ => false) hc h rfl (fun i hi => by cases hi)
      omega
    have key : ∀ k, p < k → 0 < fcnt X k := by
      intro k
      induction k with
      | zero => intro h; omega
      | succ k ih =>
        intro hk
        rw [fcnt]
        by_cases hpk : p = k
        · subst hpk; omega
        · have := ih (by omega); omega
    exact key 8 h1
theorem cS_dec {R : zRule} {G F X : Nat → Nat → Bool} (hst : strat R) (h : cS R G F X) {p c : Nat} (hx : X p c = true) : fdif (tt R G) (funi F X) R.1.1 < fdif (tt R G) F R.1.1 := by
  obtain ⟨h1, h2, h3, h4, h5⟩ := h
  have hn := h4 p c hx
  have ht := newh_tt hst h1 hn
  have hc : c < 128 := by
    have := (h3 p c hx).2; unfold okC at this; split at this <;> omega
  obtain ⟨s, hs, hr, rfl, hcc, hF⟩ := hn
  refine bcnt_lt hc (by simp [ht, hF]) ?_ fun i hi => ?_
  · simp [funi, hx]
  · simp only [funi, Bool.and_eq_true, Bool.not_eq_true', Bool.or_eq_false_iff] at hi ⊢
    exact ⟨hi.1, hi.2.1⟩
