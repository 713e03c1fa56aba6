set_option maxRecDepth 20000
/-! ===== plain law: how many bits are set (Integer.bitCount) ===== -/
def bcnt (g : Nat → Bool) : Nat → Nat
  | 0 => 0
  | k + 1 => bcnt g k + (if g k then 1 else 0)
theorem bcnt_le (g : Nat → Bool) (k : Nat) : bcnt g k ≤ k := by
  induction k with
  | zero => exact Nat.le_refl _
  | succ k ih => rw [bcnt]; split <;> omega
theorem bcnt_congr {g g' : Nat → Bool} {k : Nat} (h : ∀ i, i < k → g i = g' i) : bcnt g k = bcnt g' k := by
  induction k with
  | zero => rfl
  | succ k ih => rw [bcnt, bcnt, ih fun i hi => h i (by omega), h k (by omega)]
theorem bcnt_add (g : Nat → Bool) (a b : Nat) : bcnt g (a + b) = bcnt g a + bcnt (fun i => g (a + i)) b := by
  induction b with
  | zero => rfl
  | succ b ih => rw [Nat.add_succ, bcnt, ih, bcnt]; omega
theorem pop_and {a b m M : Nat} (ha : a < 256) (hm : m < 256) : (a + 256 * b) &&& (m + 256 * M) = (a &&& m) + 256 * (b &&& M) := by
  have h2 : a &&& m < 256 := Nat.lt_of_le_of_lt Nat.and_le_left ha
  apply Nat.eq_of_testBit_eq
  intro i
  have e : ∀ x y : Nat, x < 256 → (x + 256 * y).testBit i = if i < 8 then x.testBit i else y.testBit (i - 8) := by
    intro x y hx
    rw [Nat.add_comm, show 256 = 2 ^ 8 by rfl, Nat.testBit_two_pow_mul_add _ hx]
  rw [Nat.testBit_and, e _ _ ha, e _ _ hm, e _ _ h2]
  split <;> rw [Nat.testBit_and]
def pb1 (a : Nat) : Nat := a - (a / 2 &&& 85)
def pb2 (a : Nat) : Nat := (pb1 a &&& 51) + (pb1 a / 4 &&& 51)
def pb3 (a : Nat) : Nat := (pb2 a + pb2 a / 16) &&& 15
theorem pb_1 : ∀ a : Fin 256, ∀ t : Fin 2, (a.val / 2 + 128 * t.val) &&& 85 = (a.val / 2 &&& 85) ∧ (a.val / 2 &&& 85) ≤ a.val := by decide +kernel
theorem pb_2 : ∀ a : Fin 256, ∀ t : Fin 4, (pb1 a.val / 4 + 64 * t.val) &&& 51 = (pb1 a.val / 4 &&& 51) ∧ pb1 a.val < 256 := by decide +kernel
theorem pb_3 : ∀ a : Fin 256, ∀ t : Fin 5, (pb2 a.val + pb2 a.val / 16 + 16 * t.val) &&& 15 = pb3 a.val ∧ pb2 a.val + pb2 a.val / 16 + 16 * t.val < 256 ∧ pb2 a.val % 16 ≤ 4 ∧ pb2 a.val < 256 := by decide +kernel
theorem pb_4 : ∀ a : Fin 256, pb3 a.val = bcnt a.val.testBit 8 := by decide +kernel
theorem pop_nat {a b c d x : Nat} (ha : a < 256) (hb : b < 256) (hc : c < 256) (hd : d < 256) (hx : x = a + 256 * (b + 256 * (c + 256 * d))) :
    let x1 := x - (x / 2 &&& 1431655765)
    let x2 := (x1 &&& 858993459) + (x1 / 4 &&& 858993459)
    let x3 := (x2 + x2 / 16) &&& 252645135
    (x / 2 &&& 1431655765) ≤ x ∧ x2 < 4294967296 ∧ x2 + x2 / 16 < 4294967296 ∧ x3 = pb3 a + 256 * (pb3 b + 256 * (pb3 c + 256 * pb3 d)) := by
  intro x1 x2 x3
  have a1 := fun t => pb_1 ⟨a, ha⟩ t; have b1 := fun t => pb_1 ⟨b, hb⟩ t; have c1 := fun t => pb_1 ⟨c, hc⟩ t; have d1 := fun t => pb_1 ⟨d, hd⟩ t
  have a2 := fun t => pb_2 ⟨a, ha⟩ t; have b2 := fun t => pb_2 ⟨b, hb⟩ t; have c2 := fun t => pb_2 ⟨c, hc⟩ t; have d2 := fun t => pb_2 ⟨d, hd⟩ t
  have a3 := fun t => pb_3 ⟨a, ha⟩ t; have b3 := fun t => pb_3 ⟨b, hb⟩ t; have c3 := fun t => pb_3 ⟨c, hc⟩ t; have d3 := fun t => pb_3 ⟨d, hd⟩ t
  dsimp only at a1 b1 c1 d1 a2 b2 c2 d2 a3 b3 c3 d3
  have e1 : x / 2 &&& 1431655765 = (a / 2 &&& 85) + 256 * ((b / 2 &&& 85) + 256 * ((c / 2 &&& 85) + 256 * (d / 2 &&& 85))) := by
    rw [show x / 2 = (a / 2 + 128 * (b % 2)) + 256 * ((b / 2 + 128 * (c % 2)) + 256 * ((c / 2 + 128 * (d % 2)) + 256 * (d / 2))) by omega, show 1431655765 = 85 + 256 * (85 + 256 * (85 + 256 * 85)) by rfl, pop_and (by omega) (by omega), pop_and (by omega) (by omega), pop_and (by omega) (by omega)]
    rw [(a1 ⟨b % 2, by omega⟩).1, (b1 ⟨c % 2, by omega⟩).1, (c1 ⟨d % 2, by omega⟩).1]
  have e1' : x1 = pb1 a + 256 * (pb1 b + 256 * (pb1 c + 256 * pb1 d)) := by
    show x - (x / 2 &&& 1431655765) = _
    rw [e1]
    have := (a1 0).2; have := (b1 0).2; have := (c1 0).2; have := (d1 0).2
    unfold pb1
    omega
  have ka := (a2 0).2; have kb := (b2 0).2; have kc := (c2 0).2; have kd := (d2 0).2
  have e2 : x2 = pb2 a + 256 * (pb2 b + 256 * (pb2 c + 256 * pb2 d)) := by
    show (x1 &&& 858993459) + (x1 / 4 &&& 858993459) = _
    rw [show x1 / 4 = (pb1 a / 4 + 64 * (pb1 b % 4)) + 256 * ((pb1 b / 4 + 64 * (pb1 c % 4)) + 256 * ((pb1 c / 4 + 64 * (pb1 d % 4)) + 256 * (pb1 d / 4))) by omega, e1', show 858993459 = 51 + 256 * (51 + 256 * (51 + 256 * 51)) by rfl]
    rw [pop_and (by omega) (by omega), pop_and (by omega) (by omega), pop_and (by omega) (by omega), pop_and (by omega) (by omega), pop_and (by omega) (by omega), pop_and (by omega) (by omega)]
    rw [(a2 ⟨pb1 b % 4, by omega⟩).1, (b2 ⟨pb1 c % 4, by omega⟩).1, (c2 ⟨pb1 d % 4, by omega⟩).1]
    unfold pb2
    omega
  have qa := (a3 0).2.2; have qb := (b3 0).2.2; have qc := (c3 0).2.2; have qd := (d3 0).2.2
  have e3 : x2 + x2 / 16 = (pb2 a + pb2 a / 16 + 16 * (pb2 b % 16)) + 256 * ((pb2 b + pb2 b / 16 + 16 * (pb2 c % 16)) + 256 * ((pb2 c + pb2 c / 16 + 16 * (pb2 d % 16)) + 256 * (pb2 d + pb2 d / 16 + 16 * 0))) := by omega
  have ra := (a3 ⟨pb2 b % 16, by omega⟩); have rb := (b3 ⟨pb2 c % 16, by omega⟩); have rc := (c3 ⟨pb2 d % 16, by omega⟩); have rd := d3 ⟨0, by omega⟩
  dsimp only at ra rb rc rd
  refine ⟨?_, by omega, by omega, ?_⟩
  · rw [e1]; have := (a1 0).2; have := (b1 0).2; have := (c1 0).2; have := (d1 0).2; omega
  · show (x2 + x2 / 16) &&& 252645135 = _
    rw [e3, show 252645135 = 15 + 256 * (15 + 256 * (15 + 256 * 15)) by rfl, pop_and (by omega) (by omega), pop_and (by omega) (by omega), pop_and (by omega) (by omega), ra.1, rb.1, rc.1, rd.1]
def ush (x : Int32) (k : Nat) : Int32 := Int32.ofBitVec (x.toBitVec >>> k)
theorem ush_nat (x : Int32) (k : Nat) : (ush x k).toBitVec.toNat = x.toBitVec.toNat / 2 ^ k := by
  show (x.toBitVec >>> k).toNat = _
  rw [BitVec.toNat_ushiftRight, Nat.shiftRight_eq_div_pow]
def pop1 (x : Int32) : Int32 := x - (ush x 1 &&& 1431655765)
def pop2 (x : Int32) : Int32 := (x &&& 858993459) + (ush x 2 &&& 858993459)
def pop3 (x : Int32) : Int32 := (x + ush x 4) &&& 252645135
def pop4 (x : Int32) : Int32 := x + ush x 8
def pop5 (x : Int32) : Int32 := (x + ush x 16) &&& 63
theorem pop_add {x y : Int32} (h : x.toBitVec.toNat + y.toBitVec.toNat < 4294967296) : (x + y).toBitVec.toNat = x.toBitVec.toNat + y.toBitVec.toNat := by
  rw [Int32.toBitVec_add, BitVec.toNat_add, Nat.mod_eq_of_lt h]
theorem pop_sub {x y : Int32} (h : y.toBitVec.toNat ≤ x.toBitVec.toNat) : (x - y).toBitVec.toNat = x.toBitVec.toNat - y.toBitVec.toNat := by
  rw [Int32.toBitVec_sub, BitVec.toNat_sub_of_le h]
theorem pop_and32 (x y : Int32) : (x &&& y).toBitVec.toNat = x.toBitVec.toNat &&& y.toBitVec.toNat := by
  rw [Int32.toBitVec_and, BitVec.toNat_and]
theorem pop_eq (w : Int32) : (pop5 (pop4 (pop3 (pop2 (pop1 w))))).toBitVec.toNat = bcnt w.toBitVec.getLsbD 32 := by
  have hw := w.toBitVec.isLt
  generalize hx : w.toBitVec.toNat = x at hw
  have k := pop_nat (a := x % 256) (b := x / 256 % 256) (c := x / 65536 % 256) (d := x / 16777216) (x := x) (by omega) (by omega) (by omega) (by omega) (by omega)
  obtain ⟨k1, k2, k3, k4⟩ := k
  have e1 : (pop1 w).toBitVec.toNat = x - (x / 2 &&& 1431655765) := by
    have e : (ush w 1 &&& 1431655765).toBitVec.toNat = (x / 2 &&& 1431655765) := by rw [pop_and32, ush_nat, hx]; rfl
    rw [pop1, pop_sub (by rw [e, hx]; exact k1), hx, e]
  generalize x - (x / 2 &&& 1431655765) = x1 at e1 k2 k3 k4
  have e2 : (pop2 (pop1 w)).toBitVec.toNat = (x1 &&& 858993459) + (x1 / 4 &&& 858993459) := by
    have e : (ush (pop1 w) 2 &&& 858993459).toBitVec.toNat = (x1 / 4 &&& 858993459) := by rw [pop_and32, ush_nat, e1]; rfl
    have e' : (pop1 w &&& 858993459).toBitVec.toNat = (x1 &&& 858993459) := by rw [pop_and32, e1]; rfl
    rw [pop2, pop_add (by rw [e, e']; exact k2), e, e']
  generalize (x1 &&& 858993459) + (x1 / 4 &&& 858993459) = x2 at e2 k3 k4
  have e3 : (pop3 (pop2 (pop1 w))).toBitVec.toNat = (x2 + x2 / 16) &&& 252645135 := by
    rw [pop3, pop_and32, pop_add (by rw [ush_nat, e2]; exact k3), ush_nat, e2]; rfl
  rw [k4] at e3
  have p : ∀ y, y < 256 → pb3 y = bcnt y.testBit 8 := fun y hy => pb_4 ⟨y, hy⟩
  have q : ∀ y : Nat, bcnt y.testBit 8 ≤ 8 := fun y => bcnt_le _ 8
  rw [p _ (by omega), p _ (by omega), p _ (by omega), p (x / 16777216) (by omega)] at e3
  have t : bcnt w.toBitVec.getLsbD 32 = bcnt (x % 256).testBit 8 + (bcnt (x / 256 % 256).testBit 8 + (bcnt (x / 65536 % 256).testBit 8 + bcnt (x / 16777216).testBit 8)) := by
    have g : w.toBitVec.getLsbD = x.testBit := by funext i; rw [← hx]; rfl
    rw [g, show (32 : Nat) = 8 + (8 + (8 + 8)) by rfl, bcnt_add, bcnt_add, bcnt_add]
    have s1 : bcnt x.testBit 8 = bcnt (x % 256).testBit 8 := bcnt_congr fun i hi => by rw [show 256 = 2 ^ 8 by rfl, Nat.testBit_mod_two_pow]; simp [hi]
    have s2 : bcnt (fun i => x.testBit (8 + i)) 8 = bcnt (x / 256 % 256).testBit 8 := bcnt_congr fun i hi => by rw [show 256 = 2 ^ 8 by rfl, Nat.testBit_mod_two_pow, Nat.testBit_div_two_pow]; simp [hi, Nat.add_comm]
    have s3 : bcnt (fun i => x.testBit (8 + (8 + i))) 8 = bcnt (x / 65536 % 256).testBit 8 := bcnt_congr fun i hi => by rw [show 256 = 2 ^ 8 by rfl, Nat.testBit_mod_two_pow, show 65536 = 2 ^ 16 by rfl, Nat.testBit_div_two_pow]; simp [hi]; congr 1; omega
    have s4 : bcnt (fun i => x.testBit (8 + (8 + (8 + i)))) 8 = bcnt (x / 16777216).testBit 8 := bcnt_congr fun i hi => by rw [show 16777216 = 2 ^ 24 by rfl, Nat.testBit_div_two_pow]; congr 1; omega
    rw [s1, s2, s3, s4]
  rw [t]
  have q1 := q (x % 256); have q2 := q (x / 256 % 256); have q3 := q (x / 65536 % 256); have q4 := q (x / 16777216)
  generalize bcnt (x % 256).testBit 8 = A at *
  generalize bcnt (x / 256 % 256).testBit 8 = B at *
  generalize bcnt (x / 65536 % 256).testBit 8 = C at *
  generalize bcnt (x / 16777216).testBit 8 = D at *
  generalize pop3 (pop2 (pop1 w)) = y at *
  have e4 : (pop4 y).toBitVec.toNat = (A + B) + 256 * ((B + C) + 256 * ((C + D) + 256 * D)) := by
    have : (ush y 8).toBitVec.toNat = B + 256 * (C + 256 * D) := by rw [ush_nat, e3]; omega
    rw [pop4, pop_add (by rw [e3, this]; omega), e3, this]; omega
  generalize pop4 y = z at *
  have e5 : (z + ush z 16).toBitVec.toNat = (A + B + (C + D)) + 256 * ((B + C + D) + 256 * ((C + D) + 256 * D)) := by
    have : (ush z 16).toBitVec.toNat = (C + D) + 256 * D := by rw [ush_nat, e4]; omega
    rw [pop_add (by rw [e4, this]; omega), e4, this]; omega
  rw [pop5, pop_and32, e5]
  show _ &&& 63 = _
  rw [show (63 : Nat) = 63 + 256 * 0 by rfl, pop_and (by omega) (by omega), Nat.and_zero, show (63 : Nat) = 2 ^ 6 - 1 by rfl, Nat.and_two_pow_sub_one_eq_mod, Nat.mod_eq_of_lt (by omega)]
  omega
theorem zi_pop (w : Int32) : pop5 (pop4 (pop3 (pop2 (pop1 w)))) = zi (bcnt w.toBitVec.getLsbD 32 : Nat) := by
  have h := pop_eq w
  have h1 := bcnt_le w.toBitVec.getLsbD 32
  apply Int32.toBitVec_inj.mp
  apply BitVec.eq_of_toNat_eq
  rw [h]
  show _ = (BitVec.ofInt 32 _).toNat
  rw [BitVec.toNat_ofInt]
  omega
theorem sp_bitCount (E : zE) (w : Int32) (h : zH) : s_J14_bitCount E w h = some (.inl (some (.int (zi (bcnt w.toBitVec.getLsbD 32 : Nat)))), h) := by
  rw [← zi_pop]; rfl
