/-! C13: numbers of bits: the least one, how many -/
theorem tn_bt (x : Int32) (j : Nat) : x.toBitVec.toNat.testBit j = bt x j := by
  unfold bt
  rfl
theorem low_v {p : Int32} {k : Nat} (hk : k < 32) (h1 : bt p k = true) (h0 : ∀ j, j < k → bt p j = false) : ((p ^^^ (-1 : Int32)) &&& (p - (1 : Int32))).toBitVec.toNat = 2 ^ k - 1 := by
  have hp : p.toBitVec.toNat < 2 ^ 32 := p.toBitVec.isLt
  have hq : ∃ q, p.toBitVec.toNat = 2 ^ (k + 1) * q + 2 ^ k := by
    refine ⟨p.toBitVec.toNat / 2 ^ (k + 1), ?_⟩
    have hm : p.toBitVec.toNat % 2 ^ (k + 1) = 2 ^ k := by
      apply Nat.eq_of_testBit_eq
      intro j
      rw [Nat.testBit_mod_two_pow, Nat.testBit_two_pow, tn_bt]
      by_cases e : j < k
      · rw [h0 j e]
        simp
        omega
      · by_cases e2 : j = k
        · subst e2
          simp [h1]
        · have : ¬ j < k + 1 := by omega
          simp [this]
          omega
    have := Nat.div_add_mod p.toBitVec.toNat (2 ^ (k + 1))
    omega
  obtain ⟨q, hq⟩ := hq
  have hpow : 0 < 2 ^ k := Nat.two_pow_pos k
  have hsub : (p - (1 : Int32)).toBitVec.toNat = 2 ^ (k + 1) * q + (2 ^ k - 1) := by
    rw [Int32.toBitVec_sub, BitVec.toNat_sub]
    have e1 : (1 : Int32).toBitVec.toNat = 1 := rfl
    rw [e1]
    have : 2 ^ 32 - 1 + p.toBitVec.toNat = (p.toBitVec.toNat - 1) + 2 ^ 32 := by omega
    rw [this, Nat.add_mod_right, Nat.mod_eq_of_lt (by omega), hq]
    omega
  apply Nat.eq_of_testBit_eq
  intro j
  rw [Int32.toBitVec_and, Int32.toBitVec_xor, BitVec.toNat_and, BitVec.toNat_xor, Nat.testBit_and, Nat.testBit_xor, hsub, hq]
  have hm1 : (-1 : Int32).toBitVec.toNat = 2 ^ 32 - 1 := rfl
  rw [hm1, Nat.testBit_two_pow_sub_one, Nat.testBit_two_pow_sub_one]
  have hlt : 2 ^ k < 2 ^ (k + 1) := by rw [Nat.pow_succ]; omega
  rw [Nat.testBit_two_pow_mul_add q hlt, Nat.testBit_two_pow_mul_add q (show 2 ^ k - 1 < 2 ^ (k + 1) by omega)]
  by_cases e : j < k + 1
  · rw [if_pos e, if_pos e, Nat.testBit_two_pow, Nat.testBit_two_pow_sub_one]
    have hj : j < 32 := by omega
    by_cases e2 : j = k
    · subst e2
      simp
    · have e3 : j < k := by omega
      have e4 : ¬ k = j := fun z => e2 z.symm
      simp [hj, e3, e4]
  · rw [if_neg e, if_neg e]
    have e3 : ¬ j < k := by omega
    have e3' : decide (j < k) = false := decide_eq_false e3
    rw [e3']
    by_cases e32 : j < 32
    · have : decide (j < 32) = true := decide_eq_true e32
      rw [this]
      cases q.testBit (j - (k + 1)) <;> rfl
    · have hlarge : q.testBit (j - (k + 1)) = false := by
        have h : (2 ^ (k + 1) * q + 2 ^ k).testBit j = false := by
          rw [← hq]
          apply Nat.testBit_lt_two_pow
          exact Nat.lt_of_lt_of_le hp (Nat.pow_le_pow_right (by omega) (by omega))
        rw [Nat.testBit_two_pow_mul_add q hlt, if_neg e] at h
        exact h
      rw [hlarge, Bool.and_false]
def low31 (k : Nat) : Int32 := Int32.ofBitVec (BitVec.ofNat 32 (2 ^ k - 1))
theorem low_e {p : Int32} {k : Nat} (hk : k < 32) (h1 : bt p k = true) (h0 : ∀ j, j < k → bt p j = false) : (p ^^^ (-1 : Int32)) &&& (p - (1 : Int32)) = low31 k := by
  apply Int32.toBitVec_inj.mp
  apply BitVec.eq_of_toNat_eq
  rw [low_v hk h1 h0]
  unfold low31
  rw [Int32.toBitVec_ofBitVec, BitVec.toNat_ofNat, Nat.mod_eq_of_lt]
  have : 2 ^ k < 2 ^ 32 := Nat.pow_lt_pow_right (by omega) hk
  omega
def ntzF (i : Int32) : Int32 :=
  if 0 < i then
    (let a : Int32 × Int32 := if i ≤ 65536 then (i, 1) else ((Int32.toUInt32 i >>> (Int32.toUInt32 (16 : Int32) &&& Int32.toUInt32 31)).toInt32, 1 + 16)
     let b : Int32 × Int32 := if a.1 ≤ 256 then a else ((Int32.toUInt32 a.1 >>> (Int32.toUInt32 (8 : Int32) &&& Int32.toUInt32 31)).toInt32, a.2 + 8)
     let c : Int32 × Int32 := if b.1 ≤ 16 then b else ((Int32.toUInt32 b.1 >>> (Int32.toUInt32 (4 : Int32) &&& Int32.toUInt32 31)).toInt32, b.2 + 4)
     let d : Int32 × Int32 := if c.1 ≤ 4 then c else ((Int32.toUInt32 c.1 >>> (Int32.toUInt32 (2 : Int32) &&& Int32.toUInt32 31)).toInt32, c.2 + 2)
     d.2 + (Int32.toUInt32 d.1 >>> (Int32.toUInt32 (1 : Int32) &&& Int32.toUInt32 31)).toInt32)
  else i &&& 32
theorem ntz_F (p : Int32) (A : AH) : fJ16_numberOfTrailingZeros p A = some (ntzF ((p ^^^ (-1 : Int32)) &&& (p - (1 : Int32)))) := by
  unfold fJ16_numberOfTrailingZeros
  generalize (p ^^^ (-1 : Int32)) &&& (p - (1 : Int32)) = i
  unfold ntzF
  by_cases c0 : 0 < i
  · rw [if_pos c0, if_pos c0]
    simp only [jn]
    by_cases c1 : i ≤ 65536
    · simp only [if_pos c1]
      by_cases c2 : i ≤ 256
      · simp only [if_pos c2]
        by_cases c3 : i ≤ 16
        · simp only [if_pos c3]
          by_cases c4 : i ≤ 4
          · simp only [if_pos c4]
          · simp only [if_neg c4]
        · simp only [if_neg c3]
          split <;> rfl
      · simp only [if_neg c2]
        split
        · split <;> rfl
        · split <;> rfl
    · simp only [if_neg c1]
      split
      · split
        · split <;> rfl
        · split <;> rfl
      · split
        · split <;> rfl
        · split <;> rfl
  · rw [if_neg c0, if_neg c0]
theorem ntz_low : ∀ k, k < 32 → ntzF (low31 k) = nI k := by decide
theorem e16_ntz {p : Int32} {k : Nat} (A : AH) (hk : k < 32) (h1 : bt p k = true) (h0 : ∀ j, j < k → bt p j = false) : fJ16_numberOfTrailingZeros p A = some (nI k) := by
  rw [ntz_F, low_e hk h1 h0, ntz_low k hk]
