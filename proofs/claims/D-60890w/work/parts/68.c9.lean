/-! C9: bits of ints -/
def bt (x : Int32) (k : Nat) : Bool := x.toBitVec.getLsbD k
theorem shr32 (x : Int32) (k : Nat) (s : Int32) (hs : (s.toBitVec.smod 32).toNat = k) : (x >>> s).toBitVec = x.toBitVec.sshiftRight k := by
  rw [Int32.toBitVec_shiftRight, BitVec.sshiftRight_eq', hs]
theorem shl32 (x : Int32) (k : Nat) (s : Int32) (hs : (s.toBitVec.smod 32).toNat = k) : (x <<< s).toBitVec = x.toBitVec <<< k := by
  rw [Int32.toBitVec_shiftLeft, BitVec.shiftLeft_eq', hs]
theorem s_l : ∀ n, n < 32 → ((nI n &&& 31).toBitVec.smod 32).toNat = n := by decide
theorem and1 (x : BitVec 32) : x &&& 1#32 = if x.getLsbD 0 then 1#32 else 0#32 := by
  apply BitVec.eq_of_getLsbD_eq
  intro i hi
  rw [BitVec.getLsbD_and]
  by_cases e : i = 0
  · subst e
    cases x.getLsbD 0 <;> rfl
  · have h1 : (1#32).getLsbD i = false := by
      rw [BitVec.getLsbD_one]
      simp [e]
    rw [h1, Bool.and_false]
    split
    · exact h1.symm
    · simp
theorem bit_v (x : Int32) {k : Nat} (hk : k < 32) : (x >>> (nI k &&& 31)) &&& 1 = if bt x k then 1 else 0 := by
  apply Int32.toBitVec_inj.mp
  rw [Int32.toBitVec_and, shr32 x k _ (s_l k hk), show (1 : Int32).toBitVec = 1#32 from rfl, and1]
  have e : (x.toBitVec.sshiftRight k).getLsbD 0 = x.toBitVec.getLsbD k := by
    rw [BitVec.getLsbD_sshiftRight]
    simp [hk]
  rw [e]
  unfold bt
  cases x.toBitVec.getLsbD k <;> rfl
theorem bitP_bt (x : Int32) {k : Nat} (hk : k < 32) : bitP x k ↔ bt x k = true := by
  show (x >>> (nI k &&& 31)) &&& 1 = 1 ↔ _
  rw [bit_v x hk]
  cases bt x k <;> simp
theorem bit0_bt (x : Int32) {k : Nat} (hk : k < 32) : (x >>> (nI k &&& 31)) &&& 1 = 0 ↔ bt x k = false := by
  rw [bit_v x hk]
  cases bt x k <;> simp
theorem bt_or (x y : Int32) (k : Nat) : bt (x ||| y) k = (bt x k || bt y k) := by
  unfold bt
  rw [Int32.toBitVec_or, BitVec.getLsbD_or]
theorem bt_0 (k : Nat) : bt 0 k = false := by
  unfold bt
  exact BitVec.getLsbD_zero
theorem bt_1 {j k : Nat} (hj : j < 32) (hk : k < 32) : bt ((1 : Int32) <<< (nI j &&& 31)) k = decide (k = j) := by
  unfold bt
  rw [shl32 1 j _ (s_l j hj), show (1 : Int32).toBitVec = 1#32 from rfl, BitVec.getLsbD_shiftLeft]
  by_cases e : k = j
  · subst e
    simp [hk]
  · rw [decide_eq_false e]
    by_cases h : k < j
    · simp [h]
    · have : (1#32).getLsbD (k - j) = false := by
        rw [BitVec.getLsbD_one]
        simp
        omega
      rw [this, Bool.and_false]
theorem bt_andn {x : Int32} {j k : Nat} (hj : j < 32) (hk : k < 32) : bt (x &&& (((1 : Int32) <<< (nI j &&& 31)) ^^^ (-1))) k = (bt x k && !decide (k = j)) := by
  have h1 := bt_1 hj hk
  unfold bt at h1 ⊢
  rw [Int32.toBitVec_and, Int32.toBitVec_xor, BitVec.getLsbD_and, BitVec.getLsbD_xor, h1]
  have h2 : (-1 : Int32).toBitVec.getLsbD k = true := by
    have : ∀ k, k < 32 → (-1 : Int32).toBitVec.getLsbD k = true := by decide
    exact this k hk
  rw [h2]
  cases decide (k = j) <;> rfl
theorem bt_ext {x y : Int32} (h : ∀ k, k < 32 → bt x k = bt y k) : x = y := by
  apply Int32.toBitVec_inj.mp
  apply BitVec.eq_of_getLsbD_eq
  intro i hi
  exact h i hi
