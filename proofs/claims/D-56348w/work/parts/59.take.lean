set_option maxRecDepth 20000
/-! ===== plain law: all steps of a rule ===== -/
def sg (x y z : Nat) : Nat → Int := fun i => if i = 0 then x else if i = 1 then y else z
def rg (R : zRule) (i : Nat) : Nat := if rV R i then 10 else 1
theorem rg_le (R : zRule) (i : Nat) : 1 ≤ rg R i ∧ rg R i ≤ 10 := by unfold rg; split <;> omega
/-- the steps by number: X, Y and Z as digits -/
def vs (R : zRule) (s : Nat) : Prop := s < 1000 ∧ s / 100 < rg R 0 ∧ s / 10 % 10 < rg R 1 ∧ s % 10 < rg R 2
def sgs (s : Nat) : Nat → Int := sg (s / 100) (s / 10 % 10) (s % 10)
theorem sgs_of {x y z : Nat} (hy : y < 10) (hz : z < 10) : sgs (100 * x + 10 * y + z) = sg x y z := by
  unfold sgs
  rw [show (100 * x + 10 * y + z) / 100 = x by omega, show (100 * x + 10 * y + z) / 10 % 10 = y by omega, show (100 * x + 10 * y + z) % 10 = z by omega]
theorem vs_of (R : zRule) {x y z : Nat} (hx : x < rg R 0) (hy : y < rg R 1) (hz : z < rg R 2) : vs R (100 * x + 10 * y + z) := by
  have h0 := rg_le R 0; have h1 := rg_le R 1; have h2 := rg_le R 2
  refine ⟨by omega, ?_, ?_, ?_⟩
  · rw [show (100 * x + 10 * y + z) / 100 = x by omega]; exact hx
  · rw [show (100 * x + 10 * y + z) / 10 % 10 = y by omega]; exact hy
  · rw [show (100 * x + 10 * y + z) % 10 = z by omega]; exact hz
theorem sgs_ok {s : Nat} (hs : s < 1000) : okS (sgs s) := by
  intro i hi
  unfold sgs sg
  split
  · omega
  split <;> omega
theorem J_skip {R : zRule} {J : Nat → Nat → Nat → (Nat → Option zO) → Prop} (hskip : ∀ s n m f, J s n m f → ¬ vs R s → J (s + 1) n m f) : ∀ (d s : Nat) (n m : Nat) (f : Nat → Option zO), J s n m f → (∀ t, s ≤ t → t < s + d → ¬ vs R t) → J (s + d) n m f := by
  intro d
  induction d with
  | zero => intro s n m f h _; exact h
  | succ d ih =>
    intro s n m f h hn
    have := ih (s + 1) n m f (hskip s n m f h (hn s (by omega) (by omega))) fun t h1 h2 => hn t (by omega) (by omega)
    rw [show s + (d + 1) = s + 1 + d by omega]; exact this
def meets (E : zE) (R V : Option Nat) : List (Nat × (Nat → zM)) := [(17, fun b => s_X11_meet E (some b) R V), (19, fun b => s_X13_meet E (some b) R V), (20, fun b => s_X14_meet E (some b) R V), (21, fun b => s_X15_meet E (some b) R V), (25, fun b => s_X19_meet E (some b) R V)]
/-- what one step must do -/
def stepOk (E : zE) (a0 rb fb v : Nat) (R : zRule) (J : Nat → Nat → Nat → (Nat → Option zO) → Prop) : Prop :=
  ∀ s n m f, vs R s → J s n m f → rVals f v (sgs s) →
    ∃ (bl : Bool) (n1 m1 : Nat) (f1 : Nat → Option zO), s_X25_holds E (some rb) (some fb) (some v) (n, m, f) = some (.inl (some (.int (zb bl))), (n1, m1, f1)) ∧ n ≤ n1 ∧ m ≤ m1 ∧ f1 v = f v ∧
      (bl = false → J (s + 1) n1 m1 f1) ∧ (bl = true → ∃ (n2 m2 : Nat) (f2 : Nat → Option zO), zRv (some a0) (meets E (some rb) (some v)) (n1, m1, f1) = some (.inl none, (n2, m2, f2)) ∧ n1 ≤ n2 ∧ m1 ≤ m2 ∧ f2 v = f v ∧ J (s + 1) n2 m2 f2)
/-- what stays all through -/
def takeOk (E : zE) (rb v : Nat) (R : zRule) (J : Nat → Nat → Nat → (Nat → Option zO) → Prop) : Prop :=
  (∀ s n m f, J s n m f → ∃ lo hi, rRule E f lo hi rb R) ∧ (∀ s n m f w, J s n m f → J s n m (zUp f v (.inl (0, 3, .inl w)))) ∧ (∀ s n m f, J s n m f → ¬ vs R s → J (s + 1) n m f)
theorem sp_take2 {E : zE} {a0 rb fb v : Nat} {R : zRule} {J : Nat → Nat → Nat → (Nat → Option zO) → Prop} (hE : E 0 ≤ v) (hT : takeOk E rb v R J) (hS : stepOk E a0 rb fb v R J) (k8 k23 : Option Nat → Option Nat → Option Nat → Option Nat → zM) {x y : Nat} (hx : x < rg R 0) (hy : y < rg R 1) :
    ∀ (d z k n m : Nat) (f : Nat → Option zO), z + d = rg R 2 → d < k → J (100 * x + 10 * y + z) n m f → rVals f v (sg x y z) →
    ∃ (n' m' : Nat) (f' : Nat → Option zO), s_X10_take_38 E k8 k23 k (some a0) (some rb) (some fb) (some v) (n, m, f) = k23 (some a0) (some rb) (some fb) (some v) (n', m', f') ∧ n ≤ n' ∧ m ≤ m' ∧ J (100 * x + 10 * (y + 1)) n' m' f' ∧ ∃ z', rVals f' v (sg x (y + 1) z') := by
  have r0 := rg_le R 0; have r1 := rg_le R 1; have r2 := rg_le R 2
  intro d
  induction d with
  | zero =>
    intro z k n m f hz hk hJ hv
    obtain ⟨k, rfl⟩ : ∃ k', k = k' + 1 := ⟨k - 1, by omega⟩
    obtain ⟨lo, hi, hR⟩ := hT.1 _ _ _ _ hJ
    have hr := sp_range (E := E) hR (i := 2) (by omega) n m
    rw [show ((2 : Nat) : Int) = 2 from rfl] at hr
    have hrz : zi (if rV R 2 then 10 else 1) = zi (rg R 2 : Nat) := by unfold rg; split <;> rfl
    rw [hrz] at hr
    obtain ⟨w, h1, h2⟩ := hv
    have w0 : w 0 = zi (x : Nat) := h2 0 (by omega)
    have w1 : w 1 = zi (y : Nat) := h2 1 (by omega)
    have w2 : w 2 = zi (z : Nat) := h2 2 (by omega)
    refine ⟨n, m, zUp f v (.inl (0, 3, .inl (upd w 1 (zi (y + 1 : Nat))))), ?_, Nat.le_refl _, Nat.le_refl _, ?_, ?_⟩
    · rw [s_X10_take_38]
      simp (disch := omega) only [zi_lit, zi_neg, zi_add, zi_sub, zi_mul, zi_div, zi_char, zb_eq0, zb_eq1, zb_le0, zb_or, zb_and, zb_or1, zb_or0, zb_1or, zb_0or, zb_and1, zb_and0, zb_1and, zb_0and, zb_nar, zi_nar0, zi_nar1, zl_ite, zl_ret, zl_retb, zl_retb1, zl_retb0, zl_retc, zl_ki, zl_kr, zl_kr0, zl_krf, zl_kl, zl_kf, zl_kd, zl_kv, zl_rf, zl_rf0, zl_valI, zl_valP, zl_valL, zl_get, zl_getI, zl_getR, zl_get0, zl_getr, zl_fk, zl_set, zl_setk, zl_setNb, zl_setN1, zl_setN0, zl_up1, zl_up2, zl_new, zl_newA, zl_len, zl_lenk, zl_ga, zl_gaI, zl_gaL, zl_gaD, zl_gaR, zl_sa, zl_saI, zl_saL, zl_saD, zl_saR, zl_ck, zl_ok, zl_ok0, zl_csS, zl_csS0, zl_csk, zl_tk, zl_csA, zl_isS0, zl_c, zl_cv, zl_cx, zl_sp, zl_rv, zl_rvk, zl_rvk2, zl_div, zl_rem, zl_ath, zl_clnk, zl_clnk0, zl_cat, zl_catn, zl_l0, zl_ls, zl_s0, zl_ss, List.length_cons, List.length_nil, Nat.reduceLT, Nat.zero_add, Nat.lt_add_one, reduceCtorEq, zi_le, zi_lt, zi_eq, if_pos, if_neg, if_true, if_false, Bool.true_eq_false, Bool.false_eq_true, eq_self, Bool.not_true, Bool.not_false, Int.toNat_natCast, Nat.reduceAdd, Int.reduceAdd, Int.reduceSub, Int.reduceMul, Int.reduceNeg, Int.reduceToNat, zl_aa, h1, w2, w1, hR.ck, hr, zc_add]
    · have := J_skip hT.2.2 (10 - z) _ _ _ _ hJ fun t t1 t2 ht => by
        have h4 := ht.2.2.2
        omega
      rw [show 100 * x + 10 * y + z + (10 - z) = 100 * x + 10 * (y + 1) by omega] at this
      exact hT.2.1 _ _ _ _ _ this
    · refine ⟨z, _, zl_up1 rfl, fun i hi => ?_⟩
      rw [zl_updE]
      have : i = 0 ∨ i = 1 ∨ i = 2 := by omega
      rcases this with rfl | rfl | rfl
      · exact w0
      · rfl
      · exact w2
  | succ d ih =>
    intro z k n m f hz hk hJ hv
    obtain ⟨k, rfl⟩ : ∃ k', k = k' + 1 := ⟨k - 1, by omega⟩
    obtain ⟨lo, hi, hR⟩ := hT.1 _ _ _ _ hJ
    have hr := sp_range (E := E) hR (i := 2) (by omega) n m
    rw [show ((2 : Nat) : Int) = 2 from rfl] at hr
    have hrz : zi (if rV R 2 then 10 else 1) = zi (rg R 2 : Nat) := by unfold rg; split <;> rfl
    rw [hrz] at hr
    have hsg : sgs (100 * x + 10 * y + z) = sg x y z := sgs_of (by omega) (by omega)
    obtain ⟨bl, n1, m1, f1, g1, g2, g3, g4, g5, g6⟩ := hS _ n m f (vs_of R hx hy (show z < rg R 2 by omega)) hJ (by rw [hsg]; exact hv)
    obtain ⟨w, h1, h2⟩ := hv
    have w0 : w 0 = zi (x : Nat) := h2 0 (by omega)
    have w1 : w 1 = zi (y : Nat) := h2 1 (by omega)
    have w2 : w 2 = zi (z : Nat) := h2 2 (by omega)
    have hw : ∀ f2 : Nat → Option zO, f2 v = f v → rVals (zUp f2 v (.inl (0, 3, .inl (upd w 2 (zi (z + 1 : Nat)))))) v (sg x y (z + 1)) := fun f2 hf2 => by
      refine ⟨_, zl_up1 rfl, fun i hi => ?_⟩
      rw [zl_updE]
      have : i = 0 ∨ i = 1 ∨ i = 2 := by omega
      rcases this with rfl | rfl | rfl
      · exact w0
      · exact w1
      · rfl
    cases bl
    · have hJ2 := hT.2.1 _ _ _ _ (upd w 2 (zi (z + 1 : Nat))) (g5 rfl)
      obtain ⟨n', m', f', e1, e2, e3, e4, e5⟩ := ih (z + 1) k n1 m1 _ (by omega) (by omega) hJ2 (hw f1 g4)
      refine ⟨n', m', f', ?_, by omega, by omega, e4, e5⟩
      rw [s_X10_take_38]
      unfold s_X10_take_64
      simp (disch := omega) only [zi_lit, zi_neg, zi_add, zi_sub, zi_mul, zi_div, zi_char, zb_eq0, zb_eq1, zb_le0, zb_or, zb_and, zb_or1, zb_or0, zb_1or, zb_0or, zb_and1, zb_and0, zb_1and, zb_0and, zb_nar, zi_nar0, zi_nar1, zl_ite, zl_ret, zl_retb, zl_retb1, zl_retb0, zl_retc, zl_ki, zl_kr, zl_kr0, zl_krf, zl_kl, zl_kf, zl_kd, zl_kv, zl_rf, zl_rf0, zl_valI, zl_valP, zl_valL, zl_get, zl_getI, zl_getR, zl_get0, zl_getr, zl_fk, zl_set, zl_setk, zl_setNb, zl_setN1, zl_setN0, zl_up1, zl_up2, zl_new, zl_newA, zl_len, zl_lenk, zl_ga, zl_gaI, zl_gaL, zl_gaD, zl_gaR, zl_sa, zl_saI, zl_saL, zl_saD, zl_saR, zl_ck, zl_ok, zl_ok0, zl_csS, zl_csS0, zl_csk, zl_tk, zl_csA, zl_isS0, zl_c, zl_cv, zl_cx, zl_sp, zl_rv, zl_rvk, zl_rvk2, zl_div, zl_rem, zl_ath, zl_clnk, zl_clnk0, zl_cat, zl_catn, zl_l0, zl_ls, zl_s0, zl_ss, List.length_cons, List.length_nil, Nat.reduceLT, Nat.zero_add, Nat.lt_add_one, reduceCtorEq, zi_le, zi_lt, zi_eq, if_pos, if_neg, if_true, if_false, Bool.true_eq_false, Bool.false_eq_true, eq_self, Bool.not_true, Bool.not_false, Int.toNat_natCast, Nat.reduceAdd, Int.reduceAdd, Int.reduceSub, Int.reduceMul, Int.reduceNeg, Int.reduceToNat, zl_aa, h1, w2, hR.ck, hr, g1, g4, zc_add]
      exact e1
    · obtain ⟨n2, m2, f2, g7, g8, g9, g10, g11⟩ := g6 rfl
      have hJ2 := hT.2.1 _ _ _ _ (upd w 2 (zi (z + 1 : Nat))) g11
      obtain ⟨n', m', f', e1, e2, e3, e4, e5⟩ := ih (z + 1) k n2 m2 _ (by omega) (by omega) hJ2 (hw f2 g10)
      refine ⟨n', m', f', ?_, by omega, by omega, e4, e5⟩
      unfold meets at g7
      rw [zl_rv] at g7
      rw [s_X10_take_38]
      unfold s_X10_take_64
      simp (disch := omega) only [zi_lit, zi_neg, zi_add, zi_sub, zi_mul, zi_div, zi_char, zb_eq0, zb_eq1, zb_le0, zb_or, zb_and, zb_or1, zb_or0, zb_1or, zb_0or, zb_and1, zb_and0, zb_1and, zb_0and, zb_nar, zi_nar0, zi_nar1, zl_ite, zl_ret, zl_retb, zl_retb1, zl_retb0, zl_retc, zl_ki, zl_kr, zl_kr0, zl_krf, zl_kl, zl_kf, zl_kd, zl_kv, zl_rf, zl_rf0, zl_valI, zl_valP, zl_valL, zl_get, zl_getI, zl_getR, zl_get0, zl_getr, zl_fk, zl_set, zl_setk, zl_setNb, zl_setN1, zl_setN0, zl_up1, zl_up2, zl_new, zl_newA, zl_len, zl_lenk, zl_ga, zl_gaI, zl_gaL, zl_gaD, zl_gaR, zl_sa, zl_saI, zl_saL, zl_saD, zl_saR, zl_ck, zl_ok, zl_ok0, zl_csS, zl_csS0, zl_csk, zl_tk, zl_csA, zl_isS0, zl_c, zl_cv, zl_cx, zl_sp, zl_rv, zl_rvk, zl_rvk2, zl_div, zl_rem, zl_ath, zl_clnk, zl_clnk0, zl_cat, zl_catn, zl_l0, zl_ls, zl_s0, zl_ss, List.length_cons, List.length_nil, Nat.reduceLT, Nat.zero_add, Nat.lt_add_one, reduceCtorEq, zi_le, zi_lt, zi_eq, if_pos, if_neg, if_true, if_false, Bool.true_eq_false, Bool.false_eq_true, eq_self, Bool.not_true, Bool.not_false, Int.toNat_natCast, Nat.reduceAdd, Int.reduceAdd, Int.reduceSub, Int.reduceMul, Int.reduceNeg, Int.reduceToNat, zl_aa, h1, w2, hR.ck, hr, g1, g7, g10, zc_add]
      exact e1
theorem sp_take1 {E : zE} {a0 rb fb v : Nat} {R : zRule} {J : Nat → Nat → Nat → (Nat → Option zO) → Prop} (hE : E 0 ≤ v) (hT : takeOk E rb v R J) (hS : stepOk E a0 rb fb v R J) (k8 : Option Nat → Option Nat → Option Nat → Option Nat → zM) {x : Nat} (hx : x < rg R 0) :
    ∀ (d y k n m : Nat) (f : Nat → Option zO), y + d = rg R 1 → d < k → J (100 * x + 10 * y) n m f → (∃ z', rVals f v (sg x y z')) →
    ∃ (n' m' : Nat) (f' : Nat → Option zO), s_X10_take_23 E k8 k (some a0) (some rb) (some fb) (some v) (n, m, f) = k8 (some a0) (some rb) (some fb) (some v) (n', m', f') ∧ n ≤ n' ∧ m ≤ m' ∧ J (100 * (x + 1)) n' m' f' ∧ ∃ y' z', rVals f' v (sg (x + 1) y' z') := by
  have r0 := rg_le R 0; have r1 := rg_le R 1; have r2 := rg_le R 2
  intro d
  induction d with
  | zero =>
    intro y k n m f hz hk hJ hv
    obtain ⟨k, rfl⟩ : ∃ k', k = k' + 1 := ⟨k - 1, by omega⟩
    obtain ⟨lo, hi, hR⟩ := hT.1 _ _ _ _ hJ
    have hr := sp_range (E := E) hR (i := 1) (by omega) n m
    rw [show ((1 : Nat) : Int) = 1 from rfl] at hr
    have hrz : zi (if rV R 1 then 10 else 1) = zi (rg R 1 : Nat) := by unfold rg; split <;> rfl
    rw [hrz] at hr
    obtain ⟨z', w, h1, h2⟩ := hv
    have w0 : w 0 = zi (x : Nat) := h2 0 (by omega)
    have w1 : w 1 = zi (y : Nat) := h2 1 (by omega)
    have w2 : w 2 = zi (z' : Nat) := h2 2 (by omega)
    refine ⟨n, m, zUp f v (.inl (0, 3, .inl (upd w 0 (zi (x + 1 : Nat))))), ?_, Nat.le_refl _, Nat.le_refl _, ?_, ?_⟩
    · rw [s_X10_take_23]
      simp (disch := omega) only [zi_lit, zi_neg, zi_add, zi_sub, zi_mul, zi_div, zi_char, zb_eq0, zb_eq1, zb_le0, zb_or, zb_and, zb_or1, zb_or0, zb_1or, zb_0or, zb_and1, zb_and0, zb_1and, zb_0and, zb_nar, zi_nar0, zi_nar1, zl_ite, zl_ret, zl_retb, zl_retb1, zl_retb0, zl_retc, zl_ki, zl_kr, zl_kr0, zl_krf, zl_kl, zl_kf, zl_kd, zl_kv, zl_rf, zl_rf0, zl_valI, zl_valP, zl_valL, zl_get, zl_getI, zl_getR, zl_get0, zl_getr, zl_fk, zl_set, zl_setk, zl_setNb, zl_setN1, zl_setN0, zl_up1, zl_up2, zl_new, zl_newA, zl_len, zl_lenk, zl_ga, zl_gaI, zl_gaL, zl_gaD, zl_gaR, zl_sa, zl_saI, zl_saL, zl_saD, zl_saR, zl_ck, zl_ok, zl_ok0, zl_csS, zl_csS0, zl_csk, zl_tk, zl_csA, zl_isS0, zl_c, zl_cv, zl_cx, zl_sp, zl_rv, zl_rvk, zl_rvk2, zl_div, zl_rem, zl_ath, zl_clnk, zl_clnk0, zl_cat, zl_catn, zl_l0, zl_ls, zl_s0, zl_ss, List.length_cons, List.length_nil, Nat.reduceLT, Nat.zero_add, Nat.lt_add_one, reduceCtorEq, zi_le, zi_lt, zi_eq, if_pos, if_neg, if_true, if_false, Bool.true_eq_false, Bool.false_eq_true, eq_self, Bool.not_true, Bool.not_false, Int.toNat_natCast, Nat.reduceAdd, Int.reduceAdd, Int.reduceSub, Int.reduceMul, Int.reduceNeg, Int.reduceToNat, zl_aa, h1, w0, w1, hR.ck, hr, zc_add]
    · have := J_skip hT.2.2 (100 - 10 * y) _ _ _ _ hJ fun t t1 t2 ht => by
        have h4 := ht.2.2.1
        omega
      rw [show 100 * x + 10 * y + (100 - 10 * y) = 100 * (x + 1) by omega] at this
      exact hT.2.1 _ _ _ _ _ this
    · refine ⟨y, z', _, zl_up1 rfl, fun i hi => ?_⟩
      rw [zl_updE]
      have : i = 0 ∨ i = 1 ∨ i = 2 := by omega
      rcases this with rfl | rfl | rfl
      · rfl
      · exact w1
      · exact w2
  | succ d ih =>
    intro y k n m f hz hk hJ hv
    obtain ⟨k, rfl⟩ : ∃ k', k = k' + 1 := ⟨k - 1, by omega⟩
    obtain ⟨lo, hi, hR⟩ := hT.1 _ _ _ _ hJ
    have hr := sp_range (E := E) hR (i := 1) (by omega) n m
    rw [show ((1 : Nat) : Int) = 1 from rfl] at hr
    have hrz : zi (if rV R 1 then 10 else 1) = zi (rg R 1 : Nat) := by unfold rg; split <;> rfl
    rw [hrz] at hr
    obtain ⟨z', w, h1, h2⟩ := hv
    have w0 : w 0 = zi (x : Nat) := h2 0 (by omega)
    have w1 : w 1 = zi (y : Nat) := h2 1 (by omega)
    have hw : rVals (zUp f v (.inl (0, 3, .inl (upd w 2 (zi 0))))) v (sg x y 0) := by
      refine ⟨_, zl_up1 rfl, fun i hi => ?_⟩
      rw [zl_updE]
      have : i = 0 ∨ i = 1 ∨ i = 2 := by omega
      rcases this with rfl | rfl | rfl
      · exact w0
      · exact w1
      · rfl
    obtain ⟨n2, m2, f2, g1, g2, g3, g4, g5⟩ := sp_take2 hE hT hS k8 (s_X10_take_23 E k8 k) hx (show y < rg R 1 by omega) (rg R 2) 0 zN n m _ (by omega) (by unfold zN; omega) (hT.2.1 _ _ _ _ (upd w 2 (zi 0)) hJ) hw
    obtain ⟨n', m', f', e1, e2, e3, e4, e5⟩ := ih (y + 1) k n2 m2 f2 (by omega) (by omega) g4 g5
    refine ⟨n', m', f', ?_, by omega, by omega, e4, e5⟩
    rw [s_X10_take_23]
    simp (disch := omega) only [zi_lit, zi_neg, zi_add, zi_sub, zi_mul, zi_div, zi_char, zb_eq0, zb_eq1, zb_le0, zb_or, zb_and, zb_or1, zb_or0, zb_1or, zb_0or, zb_and1, zb_and0, zb_1and, zb_0and, zb_nar, zi_nar0, zi_nar1, zl_ite, zl_ret, zl_retb, zl_retb1, zl_retb0, zl_retc, zl_ki, zl_kr, zl_kr0, zl_krf, zl_kl, zl_kf, zl_kd, zl_kv, zl_rf, zl_rf0, zl_valI, zl_valP, zl_valL, zl_get, zl_getI, zl_getR, zl_get0, zl_getr, zl_fk, zl_set, zl_setk, zl_setNb, zl_setN1, zl_setN0, zl_up1, zl_up2, zl_new, zl_newA, zl_len, zl_lenk, zl_ga, zl_gaI, zl_gaL, zl_gaD, zl_gaR, zl_sa, zl_saI, zl_saL, zl_saD, zl_saR, zl_ck, zl_ok, zl_ok0, zl_csS, zl_csS0, zl_csk, zl_tk, zl_csA, zl_isS0, zl_c, zl_cv, zl_cx, zl_sp, zl_rv, zl_rvk, zl_rvk2, zl_div, zl_rem, zl_ath, zl_clnk, zl_clnk0, zl_cat, zl_catn, zl_l0, zl_ls, zl_s0, zl_ss, List.length_cons, List.length_nil, Nat.reduceLT, Nat.zero_add, Nat.lt_add_one, reduceCtorEq, zi_le, zi_lt, zi_eq, if_pos, if_neg, if_true, if_false, Bool.true_eq_false, Bool.false_eq_true, eq_self, Bool.not_true, Bool.not_false, Int.toNat_natCast, Nat.reduceAdd, Int.reduceAdd, Int.reduceSub, Int.reduceMul, Int.reduceNeg, Int.reduceToNat, zl_aa, h1, w1, hR.ck, hr]
    rw [g1, e1]
theorem sp_take0 {E : zE} {a0 rb fb v : Nat} {R : zRule} {J : Nat → Nat → Nat → (Nat → Option zO) → Prop} (hE : E 0 ≤ v) (hT : takeOk E rb v R J) (hS : stepOk E a0 rb fb v R J) :
    ∀ (d x k n m : Nat) (f : Nat → Option zO), x + d = rg R 0 → d < k → J (100 * x) n m f → (∃ y' z', rVals f v (sg x y' z')) →
    ∃ (n' m' : Nat) (f' : Nat → Option zO), s_X10_take_8 E k (some a0) (some rb) (some fb) (some v) (n, m, f) = some (.inl none, (n', m', f')) ∧ n ≤ n' ∧ m ≤ m' ∧ J 1000 n' m' f' := by
  have r0 := rg_le R 0; have r1 := rg_le R 1; have r2 := rg_le R 2
  intro d
  induction d with
  | zero =>
    intro x k n m f hz hk hJ hv
    obtain ⟨k, rfl⟩ : ∃ k', k = k' + 1 := ⟨k - 1, by omega⟩
    obtain ⟨lo, hi, hR⟩ := hT.1 _ _ _ _ hJ
    have hr := sp_range (E := E) hR (i := 0) (by omega) n m
    rw [show ((0 : Nat) : Int) = 0 from rfl] at hr
    have hrz : zi (if rV R 0 then 10 else 1) = zi (rg R 0 : Nat) := by unfold rg; split <;> rfl
    rw [hrz] at hr
    obtain ⟨y', z', w, h1, h2⟩ := hv
    have w0 : w 0 = zi (x : Nat) := h2 0 (by omega)
    refine ⟨n, m, f, ?_, Nat.le_refl _, Nat.le_refl _, ?_⟩
    · rw [s_X10_take_8]
      simp (disch := omega) only [zi_lit, zi_neg, zi_add, zi_sub, zi_mul, zi_div, zi_char, zb_eq0, zb_eq1, zb_le0, zb_or, zb_and, zb_or1, zb_or0, zb_1or, zb_0or, zb_and1, zb_and0, zb_1and, zb_0and, zb_nar, zi_nar0, zi_nar1, zl_ite, zl_ret, zl_retb, zl_retb1, zl_retb0, zl_retc, zl_ki, zl_kr, zl_kr0, zl_krf, zl_kl, zl_kf, zl_kd, zl_kv, zl_rf, zl_rf0, zl_valI, zl_valP, zl_valL, zl_get, zl_getI, zl_getR, zl_get0, zl_getr, zl_fk, zl_set, zl_setk, zl_setNb, zl_setN1, zl_setN0, zl_up1, zl_up2, zl_new, zl_newA, zl_len, zl_lenk, zl_ga, zl_gaI, zl_gaL, zl_gaD, zl_gaR, zl_sa, zl_saI, zl_saL, zl_saD, zl_saR, zl_ck, zl_ok, zl_ok0, zl_csS, zl_csS0, zl_csk, zl_tk, zl_csA, zl_isS0, zl_c, zl_cv, zl_cx, zl_sp, zl_rv, zl_rvk, zl_rvk2, zl_div, zl_rem, zl_ath, zl_clnk, zl_clnk0, zl_cat, zl_catn, zl_l0, zl_ls, zl_s0, zl_ss, List.length_cons, List.length_nil, Nat.reduceLT, Nat.zero_add, Nat.lt_add_one, reduceCtorEq, zi_le, zi_lt, zi_eq, if_pos, if_neg, if_true, if_false, Bool.true_eq_false, Bool.false_eq_true, eq_self, Bool.not_true, Bool.not_false, Int.toNat_natCast, Nat.reduceAdd, Int.reduceAdd, Int.reduceSub, Int.reduceMul, Int.reduceNeg, Int.reduceToNat, zl_aa, h1, w0, hR.ck, hr]
    · have := J_skip hT.2.2 (1000 - 100 * x) _ _ _ _ hJ fun t t1 t2 ht => by
        have h4 := ht.2.1
        omega
      rw [show 100 * x + (1000 - 100 * x) = 1000 by omega] at this
      exact this
  | succ d ih =>
    intro x k n m f hz hk hJ hv
    obtain ⟨k, rfl⟩ : ∃ k', k = k' + 1 := ⟨k - 1, by omega⟩
    obtain ⟨lo, hi, hR⟩ := hT.1 _ _ _ _ hJ
    have hr := sp_range (E := E) hR (i := 0) (by omega) n m
    rw [show ((0 : Nat) : Int) = 0 from rfl] at hr
    have hrz : zi (if rV R 0 then 10 else 1) = zi (rg R 0 : Nat) := by unfold rg; split <;> rfl
    rw [hrz] at hr
    obtain ⟨y', z', w, h1, h2⟩ := hv
    have w0 : w 0 = zi (x : Nat) := h2 0 (by omega)
    have w2 : w 2 = zi (z' : Nat) := h2 2 (by omega)
    have hw : rVals (zUp f v (.inl (0, 3, .inl (upd w 1 (zi 0))))) v (sg x 0 z') := by
      refine ⟨_, zl_up1 rfl, fun i hi => ?_⟩
      rw [zl_updE]
      have : i = 0 ∨ i = 1 ∨ i = 2 := by omega
      rcases this with rfl | rfl | rfl
      · exact w0
      · rfl
      · exact w2
    obtain ⟨n2, m2, f2, g1, g2, g3, g4, g5⟩ := sp_take1 hE hT hS (s_X10_take_8 E k) (show x < rg R 0 by omega) (rg R 1) 0 zN n m _ (by omega) (by unfold zN; omega) (hT.2.1 _ _ _ _ (upd w 1 (zi 0)) hJ) ⟨z', hw⟩
    obtain ⟨n', m', f', e1, e2, e3, e4⟩ := ih (x + 1) k n2 m2 f2 (by omega) (by omega) g4 g5
    refine ⟨n', m', f', ?_, by omega, by omega, e4⟩
    rw [s_X10_take_8]
    simp (disch := omega) only [zi_lit, zi_neg, zi_add, zi_sub, zi_mul, zi_div, zi_char, zb_eq0, zb_eq1, zb_le0, zb_or, zb_and, zb_or1, zb_or0, zb_1or, zb_0or, zb_and1, zb_and0, zb_1and, zb_0and, zb_nar, zi_nar0, zi_nar1, zl_ite, zl_ret, zl_retb, zl_retb1, zl_retb0, zl_retc, zl_ki, zl_kr, zl_kr0, zl_krf, zl_kl, zl_kf, zl_kd, zl_kv, zl_rf, zl_rf0, zl_valI, zl_valP, zl_valL, zl_get, zl_getI, zl_getR, zl_get0, zl_getr, zl_fk, zl_set, zl_setk, zl_setNb, zl_setN1, zl_setN0, zl_up1, zl_up2, zl_new, zl_newA, zl_len, zl_lenk, zl_ga, zl_gaI, zl_gaL, zl_gaD, zl_gaR, zl_sa, zl_saI, zl_saL, zl_saD, zl_saR, zl_ck, zl_ok, zl_ok0, zl_csS, zl_csS0, zl_csk, zl_tk, zl_csA, zl_isS0, zl_c, zl_cv, zl_cx, zl_sp, zl_rv, zl_rvk, zl_rvk2, zl_div, zl_rem, zl_ath, zl_clnk, zl_clnk0, zl_cat, zl_catn, zl_l0, zl_ls, zl_s0, zl_ss, List.length_cons, List.length_nil, Nat.reduceLT, Nat.zero_add, Nat.lt_add_one, reduceCtorEq, zi_le, zi_lt, zi_eq, if_pos, if_neg, if_true, if_false, Bool.true_eq_false, Bool.false_eq_true, eq_self, Bool.not_true, Bool.not_false, Int.toNat_natCast, Nat.reduceAdd, Int.reduceAdd, Int.reduceSub, Int.reduceMul, Int.reduceNeg, Int.reduceToNat, zl_aa, h1, w0, hR.ck, hr]
    rw [g1, e1]
/-- all steps of a rule in the order of their constants; the values lie in the cell n -/
theorem sp_take {E : zE} {a0 rb fb n m : Nat} {f : Nat → Option zO} {R : zRule} {J : Nat → Nat → Nat → (Nat → Option zO) → Prop} (hE : E 0 ≤ n) (hT : takeOk E rb n R J) (hS : stepOk E a0 rb fb n R J) (hJ : ∀ w, J 0 (n + 1) (m + 3) (zUp f n (.inl (0, 3, .inl w)))) :
    ∃ (n' m' : Nat) (f' : Nat → Option zO), s_X10_take E (some a0) (some rb) (some fb) (n, m, f) = some (.inl none, (n', m', f')) ∧ n + 1 ≤ n' ∧ m + 3 ≤ m' ∧ J 1000 n' m' f' := by
  have r0 := rg_le R 0
  obtain ⟨n', m', f', e1, e2, e3, e4⟩ := sp_take0 hE hT hS (rg R 0) 0 zN (n + 1) (m + 3) (zUp f n (.inl (0, 3, .inl (upd (fun _ => 0) 0 (zi 0))))) (by omega) (by unfold zN; omega) (hJ _) ⟨0, 0, _, zl_up1 rfl, fun i hi => by
    rw [zl_updE]; unfold sg; split
    · rfl
    split <;> rfl⟩
  refine ⟨n', m', f', ?_, e2, e3, e4⟩
  unfold s_X10_take
  simp (disch := omega) only [zi_lit, zi_neg, zi_add, zi_sub, zi_mul, zi_div, zi_char, zb_eq0, zb_eq1, zb_le0, zb_or, zb_and, zb_or1, zb_or0, zb_1or, zb_0or, zb_and1, zb_and0, zb_1and, zb_0and, zb_nar, zi_nar0, zi_nar1, zl_ite, zl_ret, zl_retb, zl_retb1, zl_retb0, zl_retc, zl_ki, zl_kr, zl_kr0, zl_krf, zl_kl, zl_kf, zl_kd, zl_kv, zl_rf, zl_rf0, zl_valI, zl_valP, zl_valL, zl_get, zl_getI, zl_getR, zl_get0, zl_getr, zl_fk, zl_set, zl_setk, zl_setNb, zl_setN1, zl_setN0, zl_up1, zl_up2, zl_new, zl_newA, zl_len, zl_lenk, zl_ga, zl_gaI, zl_gaL, zl_gaD, zl_gaR, zl_sa, zl_saI, zl_saL, zl_saD, zl_saR, zl_ck, zl_ok, zl_ok0, zl_csS, zl_csS0, zl_csk, zl_tk, zl_csA, zl_isS0, zl_c, zl_cv, zl_cx, zl_sp, zl_rv, zl_rvk, zl_rvk2, zl_div, zl_rem, zl_ath, zl_clnk, zl_clnk0, zl_cat, zl_catn, zl_l0, zl_ls, zl_s0, zl_ss, List.length_cons, List.length_nil, Nat.reduceLT, Nat.zero_add, Nat.lt_add_one, reduceCtorEq, zi_le, zi_lt, zi_eq, if_pos, if_neg, if_true, if_false, Bool.true_eq_false, Bool.false_eq_true, eq_self, Bool.not_true, Bool.not_false, Int.toNat_natCast, Nat.reduceAdd, Int.reduceAdd, Int.reduceSub, Int.reduceMul, Int.reduceNeg, Int.reduceToNat, zl_aa, zl_upup]
  exact e1
