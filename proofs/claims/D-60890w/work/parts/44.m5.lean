/-! M5: more of the model: lane, shared; words -/
def shS (M : MS) (p : Int32) (i : Nat) (x : Int32) : Int32 := if x = 0 then (if p < 0 then 0 else if M.2.1 9 i = p then 1 else 0) else 1
def wop (w : Int64) : Nat := w.toBitVec.toNat % 256
def wdd (w : Int64) : Nat := w.toBitVec.toNat / 2 ^ 8 % 16
def waa (w : Int64) : Nat := w.toBitVec.toNat / 2 ^ 12 % 16
def wbb (w : Int64) : Nat := w.toBitVec.toNat / 2 ^ 16 % 16
def wgg (w : Int64) : Nat := w.toBitVec.toNat / 2 ^ 20 % 16
def wnn (w : Int64) : Int32 := Int64.toInt32 (w >>> (Int32.toInt64 (32 : Int32) &&& 63))
theorem wop_lt (w : Int64) : wop w < 256 := Nat.mod_lt _ (by decide)
theorem wdd_lt (w : Int64) : wdd w < 16 := Nat.mod_lt _ (by decide)
theorem waa_lt (w : Int64) : waa w < 16 := Nat.mod_lt _ (by decide)
theorem wbb_lt (w : Int64) : wbb w < 16 := Nat.mod_lt _ (by decide)
theorem wgg_lt (w : Int64) : wgg w < 16 := Nat.mod_lt _ (by decide)
def z_take (M : MS) (w : Int64) : MS := mI (mI (mI (mI (mI (mI M 52 (nI (wop w))) 53 (nI (wdd w))) 54 (nI (waa w))) 55 (nI (wbb w))) 56 (nI (wgg w))) 57 (wnn w)
theorem and_lo (x : Int64) {m : Int64} (k : Nat) (hk : k ≤ 31) (hm : m.toBitVec.toNat = 2 ^ k - 1) : Int64.toInt32 (x &&& m) = nI (x.toBitVec.toNat % 2 ^ k) := by
  apply Int32.toBitVec_inj.mp
  apply BitVec.eq_of_toNat_eq
  have h1 : (x &&& m).toBitVec.toNat = x.toBitVec.toNat % 2 ^ k := by
    rw [Int64.toBitVec_and, BitVec.toNat_and, hm, Nat.and_two_pow_sub_one_eq_mod]
  have h2 : x.toBitVec.toNat % 2 ^ k < 2 ^ 31 := Nat.lt_of_lt_of_le (Nat.mod_lt _ (Nat.two_pow_pos k)) (Nat.pow_le_pow_right (by decide) hk)
  rw [Int64.toBitVec_toInt32, pk_tn (by omega), BitVec.toNat_signExtend, BitVec.toNat_setWidth, h1]
  rw [show (2 : Nat) ^ 32 - 2 ^ 64 = 0 by decide, ite_self, Nat.add_zero]
  exact Nat.mod_eq_of_lt (by omega)
theorem shr_lo (x : BitVec 64) (k j : Nat) (h : k + j ≤ 64) : (x.sshiftRight k).toNat % 2 ^ j = x.toNat / 2 ^ k % 2 ^ j := by
  apply Nat.eq_of_testBit_eq
  intro i
  rw [Nat.testBit_mod_two_pow, Nat.testBit_mod_two_pow, Nat.testBit_div_two_pow]
  by_cases hi : i < j
  · simp only [hi, decide_true, Bool.true_and, BitVec.testBit_toNat, BitVec.getLsbD_sshiftRight]
    rw [if_pos (by omega)]
    simp only [show ¬ 64 ≤ i by omega, decide_false, Bool.not_false, Bool.true_and]
    rw [show k + i = i + k by omega]
  · simp only [hi, decide_false, Bool.false_and]
theorem shr64 (x : Int64) (k : Nat) (s : Int64) (hs : (s.toBitVec.smod 64).toNat = k) : (x >>> s).toBitVec = x.toBitVec.sshiftRight k := by
  rw [Int64.toBitVec_shiftRight, ← hs]
  rfl
theorem tk_and (w : Int64) (s : Int32) (k : Nat) (hk : k ≤ 24) (hs : ((Int32.toInt64 s &&& 63).toBitVec.smod 64).toNat = k) : Int64.toInt32 ((w >>> (Int32.toInt64 s &&& 63)) &&& (15 : Int64)) = nI (w.toBitVec.toNat / 2 ^ k % 16) := by
  rw [and_lo _ 4 (by decide) (by decide), shr64 w k _ hs, shr_lo _ k 4 (by omega)]
/-- the same, cast first -/
theorem tk_cast (w : Int64) (s : Int32) (k : Nat) (hk : k ≤ 24) (hs : ((Int32.toInt64 s &&& 63).toBitVec.smod 64).toNat = k) : (Int64.toInt32 (w >>> (Int32.toInt64 s &&& 63))) &&& (15 : Int32) = nI (w.toBitVec.toNat / 2 ^ k % 16) := by
  rw [pk_and _ 4 (by decide), Int64.toBitVec_toInt32, BitVec.toNat_signExtend, BitVec.toNat_setWidth, show (2 : Nat) ^ 32 - 2 ^ 64 = 0 by decide, ite_self, Nat.add_zero, shr64 w k _ hs, ← shr_lo _ k 4 (by omega)]
  congr 1
  omega
section M5
variable {B : AH} {ao : Nat} {M : MS} {n : Nat}
theorem e_take (w : Int64) : fX11_take ao w (mk B ao M) = some (mk B ao (z_take M w)) := by
  simp only [fX11_take, mp52, mp53, mp54, mp55, mp56, mp57, Option.bind_some, z_take, wnn]
  rw [and_lo w 8 (by decide) (by decide), tk_and w 8 8 (by decide) (by decide), tk_and w 12 12 (by decide) (by decide), tk_and w 16 16 (by decide) (by decide), tk_and w 20 20 (by decide) (by decide)]
  rfl
theorem e_laneA (p q r t : Int32) (h : ((p < 0 ∨ M.1 3 ≤ p) ∨ q < 0) ∨ M.1 2 ≤ q) : fX11_lane ao p q r t (mk B ao M) = some (0, mk B ao (mI M 0 1)) := by
  simp only [fX11_lane, mrcv, e_isSlot, Option.bind_some, b2i_0, h, not_true, not_false_eq_true, if_true, jn, mp0]
theorem e_laneB (u s : Nat) (r t : Int32) (hu : u < 8) (hs : s < 16) (h : ¬ (((nI u < 0 ∨ M.1 3 ≤ nI u) ∨ nI s < 0) ∨ M.1 2 ≤ nI s)) (hr : M.2.1 9 (16 * u + s) = -1 ∨ r < 0) : fX11_lane ao (nI u) (nI s) r t (mk B ao M) = some (0, mk B ao (mI M 0 1)) := by
  simp only [fX11_lane, mrcv, e_isSlot, Option.bind_some, b2i_0, h, not_false_eq_true, not_true, if_false, jn, mg31, l16, pk_mul, nI_add, ma9 (16 * u + s) (by omega), hr, if_true, mp0]
theorem e_laneC (u s i : Nat) (t : Int32) (hu : u < 8) (hs : s < 16) (h : ¬ (((nI u < 0 ∨ M.1 3 ≤ nI u) ∨ nI s < 0) ∨ M.1 2 ≤ nI s)) (hr : ¬ (M.2.1 9 (16 * u + s) = -1 ∨ nI i < 0)) (hc : ¬ lnI M (16 * u + s) i ∨ t < 0 ∨ 20 < t) : fX11_lane ao (nI u) (nI s) (nI i) t (mk B ao M) = some (0, mk B ao (mI M 0 1)) := by
  have hc2 : ((¬ lnI M (16 * u + s) i) ∨ t < 0) ∨ 20 < t := by grind
  simp only [fX11_lane, mrcv, e_isSlot, Option.bind_some, b2i_0, h, not_false_eq_true, not_true, if_false, jn, mg31, show (16 : Int32) * nI u + nI s = nI (16 * u + s) by rw [l16, pk_mul, nI_add], ma9 (16 * u + s) (by omega), hr, e_isLane (16 * u + s) i (by omega), hc2, if_true, mp0]
theorem e_laneY (u s i r : Nat) (hu : u < 8) (hs : s < 16) (hi : i < 32) (hr20 : r ≤ 20) (h : ¬ (((nI u < 0 ∨ M.1 3 ≤ nI u) ∨ nI s < 0) ∨ M.1 2 ≤ nI s)) (hr : ¬ (M.2.1 9 (16 * u + s) = -1 ∨ nI i < 0)) (hc : lnI M (16 * u + s) i) : fX11_lane ao (nI u) (nI s) (nI i) (nI r) (mk B ao M) = some (lnV M (32 * (16 * u + s) + i) r, mk B ao (mI M 0 0)) := by
  have h0 : ¬ nI r < 0 := nI_pos (by omega)
  have h20 : ¬ (20 : Int32) < nI r := nI_nlt (b := r) (a := 20) hr20 (by omega)
  have hx : (16 : Int32) * nI u + nI s = nI (16 * u + s) := by rw [l16, pk_mul, nI_add]
  simp only [fX11_lane, mrcv, e_isSlot, Option.bind_some, b2i_0, h, not_false_eq_true, not_true, if_false, jn, mg31, hx, ma9 (16 * u + s) (by omega), hr, e_isLane (16 * u + s) i (by omega), eq_true hc, h0, h20, or_self, mp0, show ¬ ((1 : Int32) = 0) by decide, e_thread]
  by_cases c16 : r ≤ 16
  · have c1 : nI r ≤ 16 := c_le (b := 16) c16 (by omega)
    simp only [c1, if_true, lnV, c16]
    by_cases c2 : r = 16
    · subst c2
      simp only [show nI 16 = (16 : Int32) from rfl, if_true, mg37, ma15 (32 * (16 * u + s) + i) (by omega), Option.bind_some, mI_a]
    · have c3 : ¬ nI r = 16 := fun z => c2 ((nI_eq (show r < 2 ^ 31 by omega) (show 16 < 2 ^ 31 by omega)).mp z)
      simp only [c3, if_false, c2, mrcv, Option.bind_some, e_reg (32 * (16 * u + s) + i) r (by omega), mI_a]
  · have c1 : ¬ nI r ≤ 16 := c_nle (b := 16) (by omega) (by omega)
    simp only [c1, if_false, lnV, c16, mrcv, Option.bind_some, show (17 : Int32) = nI 17 from rfl, pk_sub (show 17 ≤ r by omega), e_has (32 * (16 * u + s) + i) (nI (r - 17)) (by omega), b2i_0, hasP, lo2_nI (show r - 17 < 2 ^ 32 by omega), mI_a]
    repeat' split
    all_goals first | rfl | (exfalso; grind)
theorem e_shared (p q : Int32) (b k : Nat) (hn : 128 < n) (hb : ¬ (iter (shS M p) 0 128 0 = 0 ∨ q < 0 ∨ 64 ≤ q) → p = nI b ∧ b < 64 ∧ q = nI k ∧ k < 64) : fX11_shared n ao p q (mk B ao M) = some (if (iter (shS M p) 0 128 0 = 0 ∨ q < 0 ∨ 64 ≤ q) then (0, mk B ao (mI M 0 1)) else (M.2.1 18 (64 * b + k), mk B ao (mI M 0 0))) := by
  unfold fX11_shared
  refine jl_fix (fun d g => ∀ (i : Nat) (x : Int32), i + d = 128 → (¬ (iter (shS M p) i d x = 0 ∨ q < 0 ∨ 64 ≤ q) → p = nI b ∧ b < 64 ∧ q = nI k ∧ k < 64) → g x (nI i) = some (if (iter (shS M p) i d x = 0 ∨ q < 0 ∨ 64 ≤ q) then (0, mk B ao (mI M 0 1)) else (M.2.1 18 (64 * b + k), mk B ao (mI M 0 0)))) 128 hn ?_ ?_ ?_
  · intro g i x hi hh
    obtain rfl : i = 128 := by omega
    simp only [if_pos (show (128 : Int32) ≤ nI 128 from c_le (a := 128) (Nat.le_refl _) (by omega)), iter_0, jn, mp0, Option.bind_some, mg0, mI_g, if_true] at hh ⊢
    by_cases e : (x = 0 ∨ q < 0 ∨ 64 ≤ q)
    · have e2 : (x = 0 ∨ q < 0) ∨ 64 ≤ q := by grind
      simp only [e, e2, if_true, show ¬ ((1 : Int32) = 0) by decide, if_false]
    · obtain ⟨rfl, hb2, rfl, hk2⟩ := hh e
      have e2 : ¬ ((x = 0 ∨ nI k < 0) ∨ 64 ≤ nI k) := by grind
      simp only [e, e2, if_false, if_true, mg40, show (64 : Int32) * nI b + nI k = nI (64 * b + k) by rw [l64, pk_mul, nI_add], ma18 (64 * b + k) (by omega), Option.bind_some, mI_a]
  · intro d g hg i x hi hh
    simp only [if_neg (show ¬ (128 : Int32) ≤ nI i from c_nle (a := 128) (by omega) (by omega)), jn, mg31, ma9 i (by omega), Option.bind_some, nI_1]
    refine Eq.trans ?_ (hg (i + 1) (shS M p i x) (by omega) hh)
    simp only [shS]
    repeat' split
    all_goals first | rfl | (exfalso; grind)
  · intro g hg
    exact hg 0 0 rfl hb
end M5
