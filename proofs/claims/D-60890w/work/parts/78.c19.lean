/-! C19: how many bits -/
theorem andJ (j : Nat) {Y m a c : Nat} (ha : a < 2 ^ j) (hc : c < 2 ^ j) : (2 ^ j * Y + a) &&& (2 ^ j * m + c) = 2 ^ j * (Y &&& m) + (a &&& c) := by
  have hac : a &&& c < 2 ^ j := Nat.lt_of_le_of_lt Nat.and_le_left ha
  apply Nat.eq_of_testBit_eq
  intro i
  rw [Nat.testBit_and, Nat.testBit_two_pow_mul_add _ ha, Nat.testBit_two_pow_mul_add _ hc, Nat.testBit_two_pow_mul_add _ hac]
  by_cases e : i < j
  · rw [if_pos e, if_pos e, if_pos e, Nat.testBit_and]
  · rw [if_neg e, if_neg e, if_neg e, Nat.testBit_and]
def mK5 : Nat → Nat
  | 0 => 0
  | n + 1 => 256 * mK5 n + 85
def mK3 : Nat → Nat
  | 0 => 0
  | n + 1 => 256 * mK3 n + 51
def mKf : Nat → Nat
  | 0 => 0
  | n + 1 => 256 * mKf n + 15
def pc1 (m X : Nat) : Nat := X - ((X / 2) &&& m)
def pc2 (m X : Nat) : Nat := (X &&& m) + ((X / 4) &&& m)
def pc3 (m X : Nat) : Nat := (X + X / 16) &&& m
def pc8 (a : Nat) : Nat := pc3 15 (pc2 51 (pc1 85 a))
def pcB : Nat → Nat → Nat
  | 0, _ => 0
  | n + 1, X => 256 * pcB n (X / 256) + pc8 (X % 256)
set_option maxRecDepth 100000 in
theorem by1 : ∀ a, a < 256 → ((a / 2) &&& 85) ≤ a ∧ pc1 85 a < 256 ∧ pc2 51 (pc1 85 a) < 256 ∧ pc2 51 (pc1 85 a) % 16 ≤ 4 ∧ pc2 51 (pc1 85 a) / 16 ≤ 4 ∧ pc8 a ≤ 8 := by decide
theorem sh1 {Y a m c : Nat} (ha : a < 256) (hc : c < 128) : ((256 * Y + a) / 2) &&& (256 * m + c) = 256 * ((Y / 2) &&& m) + ((a / 2) &&& c) := by
  have e : (256 * Y + a) / 2 = 2 ^ 8 * (Y / 2) + (2 ^ 7 * (Y % 2) + a / 2) := by omega
  rw [e, show 256 * m + c = 2 ^ 8 * m + c from rfl, andJ 8 (by omega) (by omega)]
  have := andJ 7 (Y := Y % 2) (m := 0) (a := a / 2) (c := c) (by omega) (by omega)
  rw [Nat.and_zero, Nat.mul_zero, Nat.zero_add, Nat.zero_add] at this
  rw [this]
theorem sh2 {Y a m c : Nat} (ha : a < 256) (hc : c < 64) : ((256 * Y + a) / 4) &&& (256 * m + c) = 256 * ((Y / 4) &&& m) + ((a / 4) &&& c) := by
  have e : (256 * Y + a) / 4 = 2 ^ 8 * (Y / 4) + (2 ^ 6 * (Y % 4) + a / 4) := by omega
  rw [e, show 256 * m + c = 2 ^ 8 * m + c from rfl, andJ 8 (by omega) (by omega)]
  have := andJ 6 (Y := Y % 4) (m := 0) (a := a / 4) (c := c) (by omega) (by omega)
  rw [Nat.and_zero, Nat.mul_zero, Nat.zero_add, Nat.zero_add] at this
  rw [this]
theorem sh0a {Y a m c : Nat} (ha : a < 256) (hc : c < 256) : (256 * Y + a) &&& (256 * m + c) = 256 * (Y &&& m) + (a &&& c) := andJ 8 (by omega) (by omega)
theorem le1 : ∀ n X, X < 256 ^ n → ((X / 2) &&& mK5 n) ≤ X
  | 0, X, h => by
    have : X = 0 := by simpa using h
    subst this
    decide
  | n + 1, X, h => by
    have hd : X / 256 < 256 ^ n := by rw [Nat.pow_succ] at h; omega
    have ih := le1 n (X / 256) hd
    have e : X = 256 * (X / 256) + X % 256 := by omega
    have b := by1 (X % 256) (by omega)
    have : (X / 2) &&& mK5 (n + 1) = 256 * (((X / 256) / 2) &&& mK5 n) + (((X % 256) / 2) &&& 85) := by
      conv => lhs; rw [e]
      exact sh1 (by omega) (by omega)
    rw [this]
    omega
theorem pcS : ∀ n X, X < 256 ^ n → pc3 (mKf n) (pc2 (mK3 n) (pc1 (mK5 n) X)) = pcB n X ∧ pc1 (mK5 n) X < 256 ^ n ∧ pc2 (mK3 n) (pc1 (mK5 n) X) < 256 ^ n ∧ (n ≠ 0 → pc2 (mK3 n) (pc1 (mK5 n) X) % 16 ≤ 4)
  | 0, X, h => by
    have : X = 0 := by simpa using h
    subst this
    decide
  | n + 1, X, h => by
    have hd : X / 256 < 256 ^ n := by rw [Nat.pow_succ] at h; omega
    obtain ⟨i1, i2, i3, i4⟩ := pcS n (X / 256) hd
    have hle := le1 n (X / 256) hd
    have e : X = 256 * (X / 256) + X % 256 := by omega
    obtain ⟨b1, b2, b3, b4, b5, b6⟩ := by1 (X % 256) (by omega)
    have e1 : pc1 (mK5 (n + 1)) X = 256 * pc1 (mK5 n) (X / 256) + pc1 85 (X % 256) := by
      have : (X / 2) &&& mK5 (n + 1) = 256 * (((X / 256) / 2) &&& mK5 n) + (((X % 256) / 2) &&& 85) := by
        conv => lhs; rw [e]
        exact sh1 (by omega) (by omega)
      unfold pc1
      rw [this]
      omega
    have e2 : pc2 (mK3 (n + 1)) (pc1 (mK5 (n + 1)) X) = 256 * pc2 (mK3 n) (pc1 (mK5 n) (X / 256)) + pc2 51 (pc1 85 (X % 256)) := by
      rw [e1]
      unfold pc2
      rw [show mK3 (n + 1) = 256 * mK3 n + 51 from rfl, sh0a b2 (by omega), sh2 b2 (by omega)]
      omega
    have e3 : pc3 (mKf (n + 1)) (pc2 (mK3 (n + 1)) (pc1 (mK5 (n + 1)) X)) = 256 * pc3 (mKf n) (pc2 (mK3 n) (pc1 (mK5 n) (X / 256))) + pc8 (X % 256) := by
      rw [e2]
      unfold pc3 pc8
      have hU : n ≠ 0 → pc2 (mK3 n) (pc1 (mK5 n) (X / 256)) % 16 ≤ 4 := i4
      have hU0 : pc2 (mK3 n) (pc1 (mK5 n) (X / 256)) % 16 ≤ 4 := by
        by_cases hn : n = 0
        · subst hn
          have : pc2 (mK3 0) (pc1 (mK5 0) (X / 256)) = 0 := by simpa using i3
          rw [this]
          omega
        · exact hU hn
      generalize pc2 (mK3 n) (pc1 (mK5 n) (X / 256)) = U at *
      generalize pc2 51 (pc1 85 (X % 256)) = u at *
      have e4 : 256 * U + u + (256 * U + u) / 16 = 2 ^ 8 * (U + U / 16) + (2 ^ 4 * (u / 16 + U % 16) + (u % 16 + u / 16)) := by omega
      rw [e4, show mKf (n + 1) = 2 ^ 8 * mKf n + 15 from rfl, andJ 8 (by omega) (by omega)]
      have a4 := andJ 4 (Y := u / 16 + U % 16) (m := 0) (a := u % 16 + u / 16) (c := 15) (by omega) (by omega)
      rw [Nat.and_zero, Nat.mul_zero, Nat.zero_add, Nat.zero_add] at a4
      rw [a4]
      have e5 : u + u / 16 = 2 ^ 4 * (u / 16) + (u % 16 + u / 16) := by omega
      have a5 := andJ 4 (Y := u / 16) (m := 0) (a := u % 16 + u / 16) (c := 15) (by omega) (by omega)
      rw [Nat.and_zero, Nat.mul_zero, Nat.zero_add, Nat.zero_add] at a5
      unfold pc3
      rw [e5, a5]
    refine ⟨?_, ?_, ?_, fun _ => ?_⟩
    · rw [e3, i1]
      rfl
    · rw [e1, Nat.pow_succ]
      omega
    · rw [e2, Nat.pow_succ]
      omega
    · rw [e2]
      omega
/-- how many of the first n -/
def cnB (f : Nat → Bool) : Nat → Nat
  | 0 => 0
  | n + 1 => cnB f n + (if f n then 1 else 0)
theorem cnB_le (f : Nat → Bool) : ∀ n, cnB f n ≤ n
  | 0 => Nat.le_refl _
  | n + 1 => by
    have := cnB_le f n
    show cnB f n + (if f n then 1 else 0) ≤ n + 1
    split <;> omega
theorem cnB_c {f g : Nat → Bool} : ∀ n, (∀ i, i < n → f i = g i) → cnB f n = cnB g n
  | 0, _ => rfl
  | n + 1, h => by
    show cnB f n + _ = cnB g n + _
    rw [cnB_c n (fun i hi => h i (by omega)), h n (by omega)]
theorem cnB_add (f : Nat → Bool) (a : Nat) : ∀ b, cnB f (a + b) = cnB f a + cnB (fun i => f (a + i)) b
  | 0 => rfl
  | b + 1 => by
    show cnB f (a + b) + (if f (a + b) then 1 else 0) = cnB f a + (cnB (fun i => f (a + i)) b + (if f (a + b) then 1 else 0))
    rw [cnB_add f a b]
    omega
set_option maxRecDepth 100000 in
theorem pc8_b : ∀ a, a < 256 → pc8 a = cnB (fun i => a.testBit i) 8 := by decide
theorem pcB_4 (X : Nat) : pcB 4 X = 16777216 * pc8 (X / 16777216 % 256) + 65536 * pc8 (X / 65536 % 256) + 256 * pc8 (X / 256 % 256) + pc8 (X % 256) := by
  show 256 * (256 * (256 * (256 * 0 + pc8 (X / 256 / 256 / 256 % 256)) + pc8 (X / 256 / 256 % 256)) + pc8 (X / 256 % 256)) + pc8 (X % 256) = _
  have e1 : X / 256 / 256 / 256 = X / 16777216 := by omega
  have e2 : X / 256 / 256 = X / 65536 := by omega
  rw [e1, e2]
  omega
theorem byt (X k : Nat) : pc8 (X / 2 ^ (8 * k) % 256) = cnB (fun i => X.testBit (8 * k + i)) 8 := by
  rw [pc8_b _ (by omega)]
  refine cnB_c 8 (fun i hi => ?_)
  rw [show (256 : Nat) = 2 ^ 8 from rfl, Nat.testBit_mod_two_pow, Nat.testBit_div_two_pow, decide_eq_true hi, Bool.true_and, Nat.add_comm]
theorem pc_sum (X : Nat) : cnB (fun i => X.testBit i) 32 = pc8 (X % 256) + pc8 (X / 256 % 256) + pc8 (X / 65536 % 256) + pc8 (X / 16777216 % 256) := by
  have h0 := byt X 0
  have h1 := byt X 1
  have h2 := byt X 2
  have h3 := byt X 3
  simp only [Nat.mul_zero, Nat.pow_zero, Nat.div_one, Nat.zero_add] at h0
  have h1 : pc8 (X / 256 % 256) = cnB (fun i => X.testBit (8 * 1 + i)) 8 := h1
  have h2 : pc8 (X / 65536 % 256) = cnB (fun i => X.testBit (8 * 2 + i)) 8 := h2
  have h3 : pc8 (X / 16777216 % 256) = cnB (fun i => X.testBit (8 * 3 + i)) 8 := h3
  rw [h0, h1, h2, h3]
  have a1 : cnB (fun i => X.testBit i) 32 = cnB (fun i => X.testBit i) 8 + cnB (fun i => X.testBit (8 + i)) 24 := cnB_add (fun i => X.testBit i) 8 24
  have a2 : cnB (fun i => X.testBit (8 + i)) 24 = cnB (fun i => X.testBit (8 + i)) 8 + cnB (fun i => X.testBit (8 + (8 + i))) 16 := cnB_add (fun i => X.testBit (8 + i)) 8 16
  have a3 : cnB (fun i => X.testBit (8 + (8 + i))) 16 = cnB (fun i => X.testBit (8 + (8 + i))) 8 + cnB (fun i => X.testBit (8 + (8 + (8 + i)))) 8 := cnB_add (fun i => X.testBit (8 + (8 + i))) 8 8
  have e2 : cnB (fun i => X.testBit (8 + (8 + i))) 8 = cnB (fun i => X.testBit (8 * 2 + i)) 8 := cnB_c 8 (fun i _ => by rw [show 8 + (8 + i) = 8 * 2 + i by omega])
  have e3 : cnB (fun i => X.testBit (8 + (8 + (8 + i)))) 8 = cnB (fun i => X.testBit (8 * 3 + i)) 8 := cnB_c 8 (fun i _ => by rw [show 8 + (8 + (8 + i)) = 8 * 3 + i by omega])
  have e1 : cnB (fun i => X.testBit (8 + i)) 8 = cnB (fun i => X.testBit (8 * 1 + i)) 8 := rfl
  omega

theorem lsr (p : Int32) (k : Nat) (c : Int32) (hc : (Int32.toUInt32 c &&& Int32.toUInt32 31).toBitVec.toNat % 32 = k) : ((Int32.toUInt32 p >>> (Int32.toUInt32 c &&& Int32.toUInt32 31)).toInt32).toBitVec.toNat = p.toBitVec.toNat / 2 ^ k := by
  show ((Int32.toUInt32 p >>> (Int32.toUInt32 c &&& Int32.toUInt32 31))).toBitVec.toNat = _
  rw [UInt32.toBitVec_shiftRight, BitVec.ushiftRight_eq', BitVec.toNat_ushiftRight, Nat.shiftRight_eq_div_pow, BitVec.toNat_umod]
  show _ / 2 ^ ((Int32.toUInt32 c &&& Int32.toUInt32 31).toBitVec.toNat % 32) = _
  rw [hc]
  rfl
theorem fin4 {a b c d i : Nat} (ha : a ≤ 8) (hb : b ≤ 8) (hc : c ≤ 8) (hd : d ≤ 8) (hi : i = 16777216 * d + 65536 * c + 256 * b + a) : (i + i / 256 + (i + i / 256) / 65536) % 4294967296 % 64 = a + b + c + d := by
  have e1 : i / 256 = 65536 * d + 256 * c + b := by omega
  have e2 : (i + i / 256) / 65536 = 256 * d + (c + d) := by rw [e1]; omega
  rw [e2, e1, hi]
  omega
theorem e16_bitCount (p : Int32) (A : AH) : fJ16_bitCount p A = some (nI (cnB (bt p) 32)) := by
  unfold fJ16_bitCount
  refine congrArg some ?_
  apply Int32.toBitVec_inj.mp
  apply BitVec.eq_of_toNat_eq
  have hX : p.toBitVec.toNat < 256 ^ 4 := p.toBitVec.isLt
  have hle := le1 4 _ hX
  obtain ⟨s1, s2, s3, _⟩ := pcS 4 _ hX
  have hbt : (fun i => p.toBitVec.toNat.testBit i) = bt p := by
    funext i
    exact tn_bt p i
  have hsum := pc_sum p.toBitVec.toNat
  rw [hbt] at hsum
  have hB := pcB_4 p.toBitVec.toNat
  have b1 := (by1 (p.toBitVec.toNat % 256) (by omega)).2.2.2.2.2
  have b2 := (by1 (p.toBitVec.toNat / 256 % 256) (by omega)).2.2.2.2.2
  have b3 := (by1 (p.toBitVec.toNat / 65536 % 256) (by omega)).2.2.2.2.2
  have b4 := (by1 (p.toBitVec.toNat / 16777216 % 256) (by omega)).2.2.2.2.2
  rw [show (256 : Nat) ^ 4 = 4294967296 from rfl] at s2 s3 hX
  have q1 : (p - (((Int32.toUInt32 p >>> (Int32.toUInt32 (1 : Int32) &&& Int32.toUInt32 31)).toInt32) &&& (1431655765 : Int32))).toBitVec.toNat = pc1 (mK5 4) p.toBitVec.toNat := by
    rw [Int32.toBitVec_sub, BitVec.toNat_sub, Int32.toBitVec_and, BitVec.toNat_and, lsr p 1 1 rfl]
    have e : (1431655765 : Int32).toBitVec.toNat = mK5 4 := rfl
    rw [e]
    unfold pc1
    have hle : ((p.toBitVec.toNat / 2 ^ 1) &&& mK5 4) ≤ p.toBitVec.toNat := hle
    show (4294967296 - ((p.toBitVec.toNat / 2 ^ 1) &&& mK5 4) + p.toBitVec.toNat) % 4294967296 = p.toBitVec.toNat - ((p.toBitVec.toNat / 2 ^ 1) &&& mK5 4)
    omega
  generalize (p - (((Int32.toUInt32 p >>> (Int32.toUInt32 (1 : Int32) &&& Int32.toUInt32 31)).toInt32) &&& (1431655765 : Int32))) = u at *
  have q2 : ((u &&& (858993459 : Int32)) + (((Int32.toUInt32 u >>> (Int32.toUInt32 (2 : Int32) &&& Int32.toUInt32 31)).toInt32) &&& (858993459 : Int32))).toBitVec.toNat = pc2 (mK3 4) (pc1 (mK5 4) p.toBitVec.toNat) := by
    rw [Int32.toBitVec_add, BitVec.toNat_add, Int32.toBitVec_and, BitVec.toNat_and, Int32.toBitVec_and, BitVec.toNat_and, lsr u 2 2 rfl, q1]
    have e : (858993459 : Int32).toBitVec.toNat = mK3 4 := rfl
    rw [e]
    exact Nat.mod_eq_of_lt s3
  generalize ((u &&& (858993459 : Int32)) + (((Int32.toUInt32 u >>> (Int32.toUInt32 (2 : Int32) &&& Int32.toUInt32 31)).toInt32) &&& (858993459 : Int32))) = v at *
  have hv16 : pc2 (mK3 4) (pc1 (mK5 4) p.toBitVec.toNat) + pc2 (mK3 4) (pc1 (mK5 4) p.toBitVec.toNat) / 16 < 4294967296 := by
    have e2 : pc2 (mK3 4) (pc1 (mK5 4) p.toBitVec.toNat) ≤ 2 * 858993459 := by
      unfold pc2
      have a1 : pc1 (mK5 4) p.toBitVec.toNat &&& mK3 4 ≤ 858993459 := Nat.and_le_right
      have a2 : (pc1 (mK5 4) p.toBitVec.toNat / 4) &&& mK3 4 ≤ 858993459 := Nat.and_le_right
      omega
    omega
  have q3 : ((v + ((Int32.toUInt32 v >>> (Int32.toUInt32 (4 : Int32) &&& Int32.toUInt32 31)).toInt32)) &&& (252645135 : Int32)).toBitVec.toNat = pcB 4 p.toBitVec.toNat := by
    rw [Int32.toBitVec_and, BitVec.toNat_and, Int32.toBitVec_add, BitVec.toNat_add, lsr v 4 4 rfl, q2]
    have e : (252645135 : Int32).toBitVec.toNat = mKf 4 := rfl
    rw [e, ← s1]
    unfold pc3
    rw [show (2 : Nat) ^ 32 = 4294967296 from rfl, Nat.mod_eq_of_lt hv16]
  generalize ((v + ((Int32.toUInt32 v >>> (Int32.toUInt32 (4 : Int32) &&& Int32.toUInt32 31)).toInt32)) &&& (252645135 : Int32)) = i3 at *
  have q4 : (i3 + ((Int32.toUInt32 i3 >>> (Int32.toUInt32 (8 : Int32) &&& Int32.toUInt32 31)).toInt32)).toBitVec.toNat = pcB 4 p.toBitVec.toNat + pcB 4 p.toBitVec.toNat / 256 := by
    rw [Int32.toBitVec_add, BitVec.toNat_add, lsr i3 8 8 rfl, q3]
    show (pcB 4 p.toBitVec.toNat + pcB 4 p.toBitVec.toNat / 256) % 4294967296 = _
    omega
  generalize (i3 + ((Int32.toUInt32 i3 >>> (Int32.toUInt32 (8 : Int32) &&& Int32.toUInt32 31)).toInt32)) = i4 at *
  rw [Int32.toBitVec_and, BitVec.toNat_and, Int32.toBitVec_add, BitVec.toNat_add, lsr i4 16 16 rfl, q4, show (63 : Int32).toBitVec.toNat = 2 ^ 6 - 1 from rfl, Nat.and_two_pow_sub_one_eq_mod]
  have hle32 := cnB_le (bt p) 32
  have hn : (nI (cnB (bt p) 32)).toBitVec.toNat = cnB (bt p) 32 := by
    show (BitVec.ofNat 32 (cnB (bt p) 32)).toNat = _
    rw [BitVec.toNat_ofNat]
    exact Nat.mod_eq_of_lt (by omega)
  rw [hn, hsum]
  exact fin4 b1 b2 b3 b4 hB
