set_option maxRecDepth 20000
/-! ===== plain law: the bits of a word ===== -/
def bsum (g : Nat → Bool) : Nat → Nat
  | 0 => 0
  | k + 1 => bsum g k + (if g k then 2 ^ k else 0)
theorem bsum_lt (g : Nat → Bool) (k : Nat) : bsum g k < 2 ^ k := by
  induction k with
  | zero => simp [bsum]
  | succ k ih => rw [bsum, Nat.pow_succ]; split <;> omega
theorem bsum_bit (g : Nat → Bool) (k i : Nat) : (bsum g k).testBit i = (decide (i < k) && g i) := by
  induction k with
  | zero => simp [bsum]
  | succ k ih =>
    have hl := bsum_lt g k
    rw [bsum]
    by_cases hg : g k
    · rw [if_pos hg, Nat.add_comm]
      rcases Nat.lt_trichotomy i k with h | h | h
      · rw [Nat.testBit_two_pow_add_gt h, ih]; simp [h, Nat.lt_succ_of_lt h]
      · subst h
        rw [Nat.testBit_two_pow_add_eq, ih]; simp [hg]
      · have h1 : 2 ^ k + bsum g k < 2 ^ i := by
          have : 2 ^ (k + 1) ≤ 2 ^ i := Nat.pow_le_pow_right (by omega) h
          rw [Nat.pow_succ] at this; omega
        rw [Nat.testBit_lt_two_pow h1]; simp; intro h2; omega
    · rw [if_neg hg, Nat.add_zero, ih]
      by_cases h : i = k
      · subst h; simp [hg]
      · have : (i < k + 1) = (i < k) := propext (by omega)
        simp [this]
/-- a set of codes as words of 32 bits -/
def cw (S : Nat → Bool) (j : Nat) : Int32 := Int32.ofBitVec (BitVec.ofNat 32 (bsum (fun i => S (32 * j + i)) 32))
theorem cw_bit (S : Nat → Bool) (j i : Nat) (hi : i < 32) : (cw S j).toBitVec.getLsbD i = S (32 * j + i) := by
  show (BitVec.ofNat 32 _).getLsbD i = _
  rw [BitVec.getLsbD_ofNat, bsum_bit]; simp [hi]
theorem cw_ext {x y : Int32} (h : ∀ i, i < 32 → x.toBitVec.getLsbD i = y.toBitVec.getLsbD i) : x = y := by
  apply Int32.toBitVec_inj.mp
  exact BitVec.eq_of_getLsbD_eq fun i hi => h i hi
theorem cw_sh : ∀ r : Fin 32, ((zi (r.val : Int) &&& zi 31).toBitVec.smod 32).toNat = r.val := by decide +kernel
theorem cw_has (w : Int32) {r : Nat} (hr : r < 32) : (((w >>> (zi (r : Int) &&& zi 31)) &&& zi 1) = zi 1) = (w.toBitVec.getLsbD r = true) := by
  have h0 : (zi 1).toBitVec = 1#32 := rfl
  rw [← Int32.toBitVec_inj, Int32.toBitVec_and, Int32.toBitVec_shiftRight, h0]
  rw [BitVec.sshiftRight', cw_sh ⟨r, hr⟩, BitVec.and_one_eq_setWidth_ofBool_getLsbD, BitVec.getLsbD_sshiftRight]
  simp only [show ¬ (32 ≤ 0) by omega, decide_false, Bool.not_false, Bool.true_and, Nat.add_zero, hr, if_true]
  cases w.toBitVec.getLsbD r <;> simp <;> decide
theorem cw_1sh (r i : Nat) (hr : r < 32) (hi : i < 32) : ((zi 1) <<< (zi (r : Int) &&& zi 31)).toBitVec.getLsbD i = decide (i = r) := by
  have h0 : (zi 1).toBitVec = 1#32 := rfl
  rw [Int32.toBitVec_shiftLeft, h0, BitVec.shiftLeft_eq', cw_sh ⟨r, hr⟩, BitVec.getLsbD_shiftLeft, BitVec.getLsbD_one]
  simp only [hi, decide_true, Bool.true_and]
  by_cases h : i = r
  · subst h; simp
  · simp only [h, decide_false, Bool.and_eq_false_iff, Bool.not_eq_false', decide_eq_true_eq, decide_eq_false_iff_not]
    omega
def bset (S : Nat → Bool) (c : Nat) (v : Bool) : Nat → Bool := fun i => if i = c then v else S i
theorem cw_set (S : Nat → Bool) (c : Nat) : upd (cw S) (c / 32) (cw S (c / 32) ||| (zi 1 <<< (zi ((c % 32 : Nat) : Int) &&& zi 31))) = cw (bset S c true) := by
  funext j
  apply cw_ext
  intro i hi
  rw [cw_bit _ _ _ hi]
  unfold upd bset
  by_cases hj : j = c / 32
  · rw [if_pos hj, Int32.toBitVec_or, BitVec.getLsbD_or, cw_bit _ _ _ hi, cw_1sh _ _ (Nat.mod_lt _ (by omega)) hi, hj]
    by_cases h : i = c % 32
    · rw [if_pos (by omega)]; simp [h]
    · rw [if_neg (by omega)]; simp [h]
  · rw [if_neg hj, cw_bit _ _ _ hi, if_neg]
    intro h; omega
theorem cw_rem (S : Nat → Bool) (c : Nat) : upd (cw S) (c / 32) (cw S (c / 32) &&& ((zi 1 <<< (zi ((c % 32 : Nat) : Int) &&& zi 31)) ^^^ zi (-1))) = cw (bset S c false) := by
  funext j
  apply cw_ext
  intro i hi
  have h0 : (zi (-1)).toBitVec = BitVec.allOnes 32 := rfl
  rw [cw_bit _ _ _ hi]
  unfold upd bset
  by_cases hj : j = c / 32
  · rw [if_pos hj, Int32.toBitVec_and, BitVec.getLsbD_and, cw_bit _ _ _ hi, Int32.toBitVec_xor, BitVec.getLsbD_xor, h0, BitVec.getLsbD_allOnes, cw_1sh _ _ (Nat.mod_lt _ (by omega)) hi, hj]
    by_cases h : i = c % 32
    · rw [if_pos (by omega)]; simp [h, Nat.mod_lt]
    · rw [if_neg (by omega)]; simp [h, hi]
  · rw [if_neg hj, cw_bit _ _ _ hi, if_neg]
    intro h; omega
theorem cw_zero : cw (fun _ => false) = fun _ => 0 := by
  funext j
  apply cw_ext
  intro i hi
  rw [cw_bit _ _ _ hi]
  show false = (0#32).getLsbD i
  simp
