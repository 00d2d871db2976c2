/-! M1: the model's memory: fields, arrays by place (1 kernel 2 memory 3 cache 4 gateTick 5 divider 6 sharedTick 7 latest 8 unitWords 9 slotBlock 10 slotWarp 11 memoryTick 12 ticks 13 register 14 predicate 15 place 16 isEnded 17 waits 18 shared 19 when 20 who 21 what 22 where 23 with 24 old 25 doneAt 26 inGroup 27 does 28 had) -/
abbrev MS : Type := (Nat → Int32) × (Nat → Nat → Int32) × (Nat → Int64)
def ePos (k : Nat) : Nat := if k < 7 then 0 else if k < 11 then k - 6 else if k < 27 then 0 else if k < 41 then k - 22 else if k < 43 then 0 else if k < 52 then k - 24 else if k = 59 then 28 else 0
def lenM (j : Nat) : Nat := [0, 128, 4096, 32, 8, 8, 8, 8, 8, 128, 128, 128, 2560, 65536, 4096, 4096, 4096, 4096, 4096, 32768, 32768, 32768, 32768, 32768, 32768, 32, 32, 32, 32].getD j 0
def tyM (j : Nat) : Nat := if j = 1 then 2 else if j = 16 ∨ j = 17 ∨ j = 26 ∨ j = 27 then 1 else 0
def mfld (ao : Nat) (M : MS) (k : Nat) : Value := if ePos k = 0 then .int (M.1 k) else .ref (ao + ePos k)
def mfs (ao : Nat) (M : MS) : List Value := (List.range 60).map (mfld ao M)
def cellM (ao : Nat) (M : MS) (j : Nat) : va_E := if j = 0 then .inr (11, mfs ao M) else if j = 1 then .inl (2, 128, .inr (.inl M.2.2)) else .inl (tyM j, lenM j, .inl (M.2.1 j))
def mk (B : AH) (ao : Nat) (M : MS) : AH := (B.1, B.2.1, B.2.2.1, B.2.2.2.1, fun q => if ao ≤ q ∧ q ≤ ao + 28 then some (cellM ao M (q - ao)) else B.2.2.2.2 q)
def mI (M : MS) (k : Nat) (v : Int32) : MS := (fun j => if j = k then v else M.1 j, M.2)
def mA (M : MS) (a i : Nat) (v : Int32) : MS := (M.1, fun b => if b = a then upd (M.2.1 a) i v else M.2.1 b, M.2.2)
def mK (M : MS) (i : Nat) (v : Int64) : MS := (M.1, M.2.1, vp_updL M.2.2 i v)
theorem mk_at {B : AH} {ao : Nat} {M : MS} {j : Nat} (h : j ≤ 28) : hM (mk B ao M) (ao + j) = some (cellM ao M j) := by
  show (if ao ≤ ao + j ∧ ao + j ≤ ao + 28 then some (cellM ao M (ao + j - ao)) else _) = _
  rw [if_pos ⟨by omega, by omega⟩, Nat.add_sub_cancel_left]
theorem mk_0 {B : AH} {ao : Nat} {M : MS} : hM (mk B ao M) ao = some (.inr (11, mfs ao M)) := mk_at (j := 0) (by omega)
theorem mfs_get {ao : Nat} {M : MS} {k : Nat} (h : k < 60) : (mfs ao M)[k]? = some (mfld ao M k) := by
  simp [mfs, h]
theorem mobj {B : AH} {ao : Nat} {M : MS} : obj? (mk B ao M) (some ao) 11 = some (mfs ao M) := by
  simp only [obj?, mk_0, if_true]
theorem mgI {B : AH} {ao : Nat} {M : MS} {k : Nat} (h : k < 60) (h0 : ePos k = 0) : gI (mk B ao M) (some ao) 11 k = some (M.1 k) := by
  unfold gI
  rw [mobj]
  simp only [Option.bind_some, mfs_get h, mfld, h0, if_true, vI]
theorem mgR {B : AH} {ao : Nat} {M : MS} {k : Nat} (h : k < 60) (e : Nat) (h0 : ePos k = e) (h1 : e ≠ 0) : gR (mk B ao M) (some ao) 11 k = some (some (ao + e)) := by
  unfold gR
  rw [mobj]
  simp only [Option.bind_some, mfs_get h, mfld, h0, h1, if_false, vR]
theorem mfs_set {ao : Nat} {M : MS} {k : Nat} {v : Int32} (h : k < 60) (h0 : ePos k = 0) : (mfs ao M).set k (.int v) = mfs ao (mI M k v) := by
  apply List.ext_getElem?
  intro i
  by_cases hi : i < 60
  · rw [mfs_get hi, List.getElem?_set]
    by_cases e : k = i
    · subst e
      rw [if_pos rfl]
      simp [mfs, h, mfld, mI, h0]
    · rw [if_neg e, mfs_get hi]
      have e' : ¬ i = k := fun q => e q.symm
      simp [mfld, mI, e']
  · rw [List.getElem?_eq_none (by simp [mfs]; omega), List.getElem?_eq_none (by simp [mfs]; omega)]
theorem mk_setO {B : AH} {ao : Nat} {M M' : MS} (h : M.2 = M'.2) : hSet (mk B ao M) ao (.inr (11, mfs ao M')) = mk B ao M' := by
  unfold hSet mk
  simp only [Prod.mk.injEq, true_and]
  funext q
  by_cases hq : q = ao
  · subst hq
    rw [if_pos rfl, if_pos ⟨Nat.le_refl _, by omega⟩, Nat.sub_self]
    rfl
  · rw [if_neg hq]
    by_cases h2 : ao ≤ q ∧ q ≤ ao + 28
    · rw [if_pos h2, if_pos h2]
      have h3 : ¬ q - ao = 0 := by omega
      simp only [cellM, h3, if_false, h]
    · rw [if_neg h2, if_neg h2]
theorem mpI {B : AH} {ao : Nat} {M : MS} {k : Nat} {v : Int32} (h : k < 60) (h0 : ePos k = 0) : pI (mk B ao M) (some ao) 11 k v = some (mk B ao (mI M k v)) := by
  unfold pI pV
  rw [mobj]
  have h1 : k < (mfs ao M).length := by simp [mfs, h]
  simp only [Option.bind_some, h1, if_true, Option.getD_some]
  rw [mfs_set h h0, mk_setO (M := M) (M' := mI M k v) rfl]
theorem mrcv {B : AH} {ao : Nat} {M : MS} : rcv (mk B ao M) (some ao) 11 = some ao := by
  simp only [rcv, kd, mk_0, if_true]
theorem ix_nI {i n : Nat} (h : i < n) (hn : n < 2 ^ 31) : ixok (nI i) n = some () := by
  unfold ixok
  rw [if_neg (nI_in h hn)]
theorem marr {B : AH} {ao : Nat} {M : MS} {j : Nat} (h : j ≤ 28) (h1 : 1 < j) : arr? (mk B ao M) (some (ao + j)) = some (tyM j, lenM j, .inl (M.2.1 j)) := by
  simp only [arr?, mk_at h, cellM, show ¬ j = 0 by omega, show ¬ j = 1 by omega, if_false]
theorem lenM_lt : ∀ j, j ≤ 28 → lenM j < 2 ^ 31 := by decide
theorem mk_setA {B : AH} {ao : Nat} {M : MS} {j i : Nat} {v : Int32} (h : j ≤ 28) (h1 : 1 < j) : hSet (mk B ao M) (ao + j) (.inl (tyM j, lenM j, .inl (upd (M.2.1 j) i v))) = mk B ao (mA M j i v) := by
  unfold hSet mk
  simp only [Prod.mk.injEq, true_and]
  funext q
  by_cases hq : q = ao + j
  · subst hq
    rw [if_pos rfl, if_pos ⟨by omega, by omega⟩, Nat.add_sub_cancel_left]
    simp only [cellM, show ¬ j = 0 by omega, show ¬ j = 1 by omega, if_false, mA, if_true]
  · rw [if_neg hq]
    by_cases h2 : ao ≤ q ∧ q ≤ ao + 28
    · rw [if_pos h2, if_pos h2]
      have h3 : ¬ q - ao = j := by omega
      by_cases h4 : q - ao = 0
      · simp only [cellM, h4, if_true]
        rfl
      · by_cases h5 : q - ao = 1
        · simp [cellM, h5, mA]
        · simp only [cellM, h4, h5, if_false, mA, h3]
    · rw [if_neg h2, if_neg h2]
theorem maI {B : AH} {ao : Nat} {M : MS} {j i : Nat} (h : j ≤ 28) (h1 : 1 < j) (ht : tyM j = 0) (hi : i < lenM j) : aI (mk B ao M) (some (ao + j)) (nI i) = some (M.2.1 j i) := by
  unfold aI
  rw [marr h h1]
  simp only [Option.bind_some, ht, true_or, if_true, ix_nI hi (lenM_lt j h), nI_clamp (Nat.lt_trans hi (lenM_lt j h))]
theorem maZ {B : AH} {ao : Nat} {M : MS} {j i : Nat} (h : j ≤ 28) (h1 : 1 < j) (ht : tyM j = 1) (hi : i < lenM j) : aZ (mk B ao M) (some (ao + j)) (nI i) = some (M.2.1 j i) := by
  unfold aZ
  rw [marr h h1]
  simp only [Option.bind_some, ht, if_true, ix_nI hi (lenM_lt j h), nI_clamp (Nat.lt_trans hi (lenM_lt j h))]
theorem msI {B : AH} {ao : Nat} {M : MS} {j i : Nat} {v : Int32} (h : j ≤ 28) (h1 : 1 < j) (ht : tyM j = 0) (hi : i < lenM j) : sI (mk B ao M) (some (ao + j)) (nI i) v = some (mk B ao (mA M j i v)) := by
  unfold sI
  rw [marr h h1]
  simp only [Option.bind_some, ht, if_true, ix_nI hi (lenM_lt j h), nI_clamp (Nat.lt_trans hi (lenM_lt j h)), Option.getD_some]
  have h2 := mk_setA (B := B) (ao := ao) (M := M) (i := i) (v := v) h h1
  rw [ht] at h2
  rw [h2]
theorem msZ {B : AH} {ao : Nat} {M : MS} {j i : Nat} {v : Int32} (h : j ≤ 28) (h1 : 1 < j) (ht : tyM j = 1) (hi : i < lenM j) : sZ (mk B ao M) (some (ao + j)) (nI i) v = some (mk B ao (mA M j i (nb v))) := by
  unfold sZ
  rw [marr h h1]
  simp only [Option.bind_some, ht, if_true, ix_nI hi (lenM_lt j h), nI_clamp (Nat.lt_trans hi (lenM_lt j h)), Option.getD_some]
  have h2 := mk_setA (B := B) (ao := ao) (M := M) (i := i) (v := nb v) h h1
  rw [ht] at h2
  rw [h2]
theorem maL {B : AH} {ao : Nat} {M : MS} {i : Nat} (hi : i < 128) : aL (mk B ao M) (some (ao + 1)) (nI i) = some (M.2.2 i) := by
  unfold aL
  have h : arr? (mk B ao M) (some (ao + 1)) = some (2, 128, .inr (.inl M.2.2)) := by
    simp only [arr?, mk_at (show 1 ≤ 28 by omega), cellM, show ¬ 1 = 0 by omega, if_false, if_true]
  rw [h]
  simp only [Option.bind_some, if_true, ix_nI hi (by omega), nI_clamp (show i < 2 ^ 31 by omega)]
theorem msL {B : AH} {ao : Nat} {M : MS} {i : Nat} {v : Int64} (hi : i < 128) : sL (mk B ao M) (some (ao + 1)) (nI i) v = some (mk B ao (mK M i v)) := by
  unfold sL
  have h : arr? (mk B ao M) (some (ao + 1)) = some (2, 128, .inr (.inl M.2.2)) := by
    simp only [arr?, mk_at (show 1 ≤ 28 by omega), cellM, show ¬ 1 = 0 by omega, if_false, if_true]
  rw [h]
  simp only [Option.bind_some, if_true, ix_nI hi (by omega), nI_clamp (show i < 2 ^ 31 by omega), Option.getD_some]
  congr 1
  unfold hSet mk
  simp only [Prod.mk.injEq, true_and]
  funext q
  by_cases hq : q = ao + 1
  · subst hq
    rw [if_pos rfl, if_pos ⟨by omega, by omega⟩, Nat.add_sub_cancel_left]
    simp [cellM, mK]
  · rw [if_neg hq]
    by_cases h2 : ao ≤ q ∧ q ≤ ao + 28
    · rw [if_pos h2, if_pos h2]
      have h3 : ¬ q - ao = 1 := by omega
      by_cases h4 : q - ao = 0
      · simp only [cellM, h4, if_true]
        rfl
      · simp only [cellM, h4, h3, if_false, mK]
    · rw [if_neg h2, if_neg h2]
section MK
variable {B : AH} {ao : Nat} {M : MS} {v : Int32}
theorem mg0 : gI (mk B ao M) (some ao) 11 0 = some (M.1 0) := mgI (by decide) rfl
theorem mp0 : pI (mk B ao M) (some ao) 11 0 v = some (mk B ao (mI M 0 v)) := mpI (by decide) rfl
theorem mg1 : gI (mk B ao M) (some ao) 11 1 = some (M.1 1) := mgI (by decide) rfl
theorem mp1 : pI (mk B ao M) (some ao) 11 1 v = some (mk B ao (mI M 1 v)) := mpI (by decide) rfl
theorem mg2 : gI (mk B ao M) (some ao) 11 2 = some (M.1 2) := mgI (by decide) rfl
theorem mp2 : pI (mk B ao M) (some ao) 11 2 v = some (mk B ao (mI M 2 v)) := mpI (by decide) rfl
theorem mg3 : gI (mk B ao M) (some ao) 11 3 = some (M.1 3) := mgI (by decide) rfl
theorem mp3 : pI (mk B ao M) (some ao) 11 3 v = some (mk B ao (mI M 3 v)) := mpI (by decide) rfl
theorem mg4 : gI (mk B ao M) (some ao) 11 4 = some (M.1 4) := mgI (by decide) rfl
theorem mp4 : pI (mk B ao M) (some ao) 11 4 v = some (mk B ao (mI M 4 v)) := mpI (by decide) rfl
theorem mg5 : gI (mk B ao M) (some ao) 11 5 = some (M.1 5) := mgI (by decide) rfl
theorem mp5 : pI (mk B ao M) (some ao) 11 5 v = some (mk B ao (mI M 5 v)) := mpI (by decide) rfl
theorem mg6 : gI (mk B ao M) (some ao) 11 6 = some (M.1 6) := mgI (by decide) rfl
theorem mp6 : pI (mk B ao M) (some ao) 11 6 v = some (mk B ao (mI M 6 v)) := mpI (by decide) rfl
theorem mg7 : gR (mk B ao M) (some ao) 11 7 = some (some (ao + 1)) := mgR (by decide) 1 rfl (by decide)
theorem mg8 : gR (mk B ao M) (some ao) 11 8 = some (some (ao + 2)) := mgR (by decide) 2 rfl (by decide)
theorem mg9 : gR (mk B ao M) (some ao) 11 9 = some (some (ao + 3)) := mgR (by decide) 3 rfl (by decide)
theorem mg10 : gR (mk B ao M) (some ao) 11 10 = some (some (ao + 4)) := mgR (by decide) 4 rfl (by decide)
theorem mg11 : gI (mk B ao M) (some ao) 11 11 = some (M.1 11) := mgI (by decide) rfl
theorem mp11 : pI (mk B ao M) (some ao) 11 11 v = some (mk B ao (mI M 11 v)) := mpI (by decide) rfl
theorem mg12 : gI (mk B ao M) (some ao) 11 12 = some (M.1 12) := mgI (by decide) rfl
theorem mp12 : pI (mk B ao M) (some ao) 11 12 v = some (mk B ao (mI M 12 v)) := mpI (by decide) rfl
theorem mg13 : gI (mk B ao M) (some ao) 11 13 = some (M.1 13) := mgI (by decide) rfl
theorem mp13 : pI (mk B ao M) (some ao) 11 13 v = some (mk B ao (mI M 13 v)) := mpI (by decide) rfl
theorem mg14 : gI (mk B ao M) (some ao) 11 14 = some (M.1 14) := mgI (by decide) rfl
theorem mp14 : pI (mk B ao M) (some ao) 11 14 v = some (mk B ao (mI M 14 v)) := mpI (by decide) rfl
theorem mg15 : gI (mk B ao M) (some ao) 11 15 = some (M.1 15) := mgI (by decide) rfl
theorem mp15 : pI (mk B ao M) (some ao) 11 15 v = some (mk B ao (mI M 15 v)) := mpI (by decide) rfl
theorem mg16 : gI (mk B ao M) (some ao) 11 16 = some (M.1 16) := mgI (by decide) rfl
theorem mp16 : pI (mk B ao M) (some ao) 11 16 v = some (mk B ao (mI M 16 v)) := mpI (by decide) rfl
theorem mg17 : gI (mk B ao M) (some ao) 11 17 = some (M.1 17) := mgI (by decide) rfl
theorem mp17 : pI (mk B ao M) (some ao) 11 17 v = some (mk B ao (mI M 17 v)) := mpI (by decide) rfl
theorem mg18 : gI (mk B ao M) (some ao) 11 18 = some (M.1 18) := mgI (by decide) rfl
theorem mp18 : pI (mk B ao M) (some ao) 11 18 v = some (mk B ao (mI M 18 v)) := mpI (by decide) rfl
theorem mg19 : gI (mk B ao M) (some ao) 11 19 = some (M.1 19) := mgI (by decide) rfl
theorem mp19 : pI (mk B ao M) (some ao) 11 19 v = some (mk B ao (mI M 19 v)) := mpI (by decide) rfl
theorem mg20 : gI (mk B ao M) (some ao) 11 20 = some (M.1 20) := mgI (by decide) rfl
theorem mp20 : pI (mk B ao M) (some ao) 11 20 v = some (mk B ao (mI M 20 v)) := mpI (by decide) rfl
theorem mg21 : gI (mk B ao M) (some ao) 11 21 = some (M.1 21) := mgI (by decide) rfl
theorem mp21 : pI (mk B ao M) (some ao) 11 21 v = some (mk B ao (mI M 21 v)) := mpI (by decide) rfl
theorem mg22 : gI (mk B ao M) (some ao) 11 22 = some (M.1 22) := mgI (by decide) rfl
theorem mp22 : pI (mk B ao M) (some ao) 11 22 v = some (mk B ao (mI M 22 v)) := mpI (by decide) rfl
theorem mg23 : gI (mk B ao M) (some ao) 11 23 = some (M.1 23) := mgI (by decide) rfl
theorem mp23 : pI (mk B ao M) (some ao) 11 23 v = some (mk B ao (mI M 23 v)) := mpI (by decide) rfl
theorem mg24 : gI (mk B ao M) (some ao) 11 24 = some (M.1 24) := mgI (by decide) rfl
theorem mp24 : pI (mk B ao M) (some ao) 11 24 v = some (mk B ao (mI M 24 v)) := mpI (by decide) rfl
theorem mg25 : gI (mk B ao M) (some ao) 11 25 = some (M.1 25) := mgI (by decide) rfl
theorem mp25 : pI (mk B ao M) (some ao) 11 25 v = some (mk B ao (mI M 25 v)) := mpI (by decide) rfl
theorem mg26 : gI (mk B ao M) (some ao) 11 26 = some (M.1 26) := mgI (by decide) rfl
theorem mp26 : pI (mk B ao M) (some ao) 11 26 v = some (mk B ao (mI M 26 v)) := mpI (by decide) rfl
theorem mg27 : gR (mk B ao M) (some ao) 11 27 = some (some (ao + 5)) := mgR (by decide) 5 rfl (by decide)
theorem mg28 : gR (mk B ao M) (some ao) 11 28 = some (some (ao + 6)) := mgR (by decide) 6 rfl (by decide)
theorem mg29 : gR (mk B ao M) (some ao) 11 29 = some (some (ao + 7)) := mgR (by decide) 7 rfl (by decide)
theorem mg30 : gR (mk B ao M) (some ao) 11 30 = some (some (ao + 8)) := mgR (by decide) 8 rfl (by decide)
theorem mg31 : gR (mk B ao M) (some ao) 11 31 = some (some (ao + 9)) := mgR (by decide) 9 rfl (by decide)
theorem mg32 : gR (mk B ao M) (some ao) 11 32 = some (some (ao + 10)) := mgR (by decide) 10 rfl (by decide)
theorem mg33 : gR (mk B ao M) (some ao) 11 33 = some (some (ao + 11)) := mgR (by decide) 11 rfl (by decide)
theorem mg34 : gR (mk B ao M) (some ao) 11 34 = some (some (ao + 12)) := mgR (by decide) 12 rfl (by decide)
theorem mg35 : gR (mk B ao M) (some ao) 11 35 = some (some (ao + 13)) := mgR (by decide) 13 rfl (by decide)
theorem mg36 : gR (mk B ao M) (some ao) 11 36 = some (some (ao + 14)) := mgR (by decide) 14 rfl (by decide)
theorem mg37 : gR (mk B ao M) (some ao) 11 37 = some (some (ao + 15)) := mgR (by decide) 15 rfl (by decide)
theorem mg38 : gR (mk B ao M) (some ao) 11 38 = some (some (ao + 16)) := mgR (by decide) 16 rfl (by decide)
theorem mg39 : gR (mk B ao M) (some ao) 11 39 = some (some (ao + 17)) := mgR (by decide) 17 rfl (by decide)
theorem mg40 : gR (mk B ao M) (some ao) 11 40 = some (some (ao + 18)) := mgR (by decide) 18 rfl (by decide)
theorem mg41 : gI (mk B ao M) (some ao) 11 41 = some (M.1 41) := mgI (by decide) rfl
theorem mp41 : pI (mk B ao M) (some ao) 11 41 v = some (mk B ao (mI M 41 v)) := mpI (by decide) rfl
theorem mg42 : gI (mk B ao M) (some ao) 11 42 = some (M.1 42) := mgI (by decide) rfl
theorem mp42 : pI (mk B ao M) (some ao) 11 42 v = some (mk B ao (mI M 42 v)) := mpI (by decide) rfl
theorem mg43 : gR (mk B ao M) (some ao) 11 43 = some (some (ao + 19)) := mgR (by decide) 19 rfl (by decide)
theorem mg44 : gR (mk B ao M) (some ao) 11 44 = some (some (ao + 20)) := mgR (by decide) 20 rfl (by decide)
theorem mg45 : gR (mk B ao M) (some ao) 11 45 = some (some (ao + 21)) := mgR (by decide) 21 rfl (by decide)
theorem mg46 : gR (mk B ao M) (some ao) 11 46 = some (some (ao + 22)) := mgR (by decide) 22 rfl (by decide)
theorem mg47 : gR (mk B ao M) (some ao) 11 47 = some (some (ao + 23)) := mgR (by decide) 23 rfl (by decide)
theorem mg48 : gR (mk B ao M) (some ao) 11 48 = some (some (ao + 24)) := mgR (by decide) 24 rfl (by decide)
theorem mg49 : gR (mk B ao M) (some ao) 11 49 = some (some (ao + 25)) := mgR (by decide) 25 rfl (by decide)
theorem mg50 : gR (mk B ao M) (some ao) 11 50 = some (some (ao + 26)) := mgR (by decide) 26 rfl (by decide)
theorem mg51 : gR (mk B ao M) (some ao) 11 51 = some (some (ao + 27)) := mgR (by decide) 27 rfl (by decide)
theorem mg52 : gI (mk B ao M) (some ao) 11 52 = some (M.1 52) := mgI (by decide) rfl
theorem mp52 : pI (mk B ao M) (some ao) 11 52 v = some (mk B ao (mI M 52 v)) := mpI (by decide) rfl
theorem mg53 : gI (mk B ao M) (some ao) 11 53 = some (M.1 53) := mgI (by decide) rfl
theorem mp53 : pI (mk B ao M) (some ao) 11 53 v = some (mk B ao (mI M 53 v)) := mpI (by decide) rfl
theorem mg54 : gI (mk B ao M) (some ao) 11 54 = some (M.1 54) := mgI (by decide) rfl
theorem mp54 : pI (mk B ao M) (some ao) 11 54 v = some (mk B ao (mI M 54 v)) := mpI (by decide) rfl
theorem mg55 : gI (mk B ao M) (some ao) 11 55 = some (M.1 55) := mgI (by decide) rfl
theorem mp55 : pI (mk B ao M) (some ao) 11 55 v = some (mk B ao (mI M 55 v)) := mpI (by decide) rfl
theorem mg56 : gI (mk B ao M) (some ao) 11 56 = some (M.1 56) := mgI (by decide) rfl
theorem mp56 : pI (mk B ao M) (some ao) 11 56 v = some (mk B ao (mI M 56 v)) := mpI (by decide) rfl
theorem mg57 : gI (mk B ao M) (some ao) 11 57 = some (M.1 57) := mgI (by decide) rfl
theorem mp57 : pI (mk B ao M) (some ao) 11 57 v = some (mk B ao (mI M 57 v)) := mpI (by decide) rfl
theorem mg58 : gI (mk B ao M) (some ao) 11 58 = some (M.1 58) := mgI (by decide) rfl
theorem mp58 : pI (mk B ao M) (some ao) 11 58 v = some (mk B ao (mI M 58 v)) := mpI (by decide) rfl
theorem mg59 : gR (mk B ao M) (some ao) 11 59 = some (some (ao + 28)) := mgR (by decide) 28 rfl (by decide)
theorem ma2 (i : Nat) (h : i < 4096) : aI (mk B ao M) (some (ao + 2)) (nI i) = some (M.2.1 2 i) := maI (by decide) (by decide) rfl h
theorem ms2 (i : Nat) (h : i < 4096) : sI (mk B ao M) (some (ao + 2)) (nI i) v = some (mk B ao (mA M 2 i v)) := msI (by decide) (by decide) rfl h
theorem ma3 (i : Nat) (h : i < 32) : aI (mk B ao M) (some (ao + 3)) (nI i) = some (M.2.1 3 i) := maI (by decide) (by decide) rfl h
theorem ms3 (i : Nat) (h : i < 32) : sI (mk B ao M) (some (ao + 3)) (nI i) v = some (mk B ao (mA M 3 i v)) := msI (by decide) (by decide) rfl h
theorem ma4 (i : Nat) (h : i < 8) : aI (mk B ao M) (some (ao + 4)) (nI i) = some (M.2.1 4 i) := maI (by decide) (by decide) rfl h
theorem ms4 (i : Nat) (h : i < 8) : sI (mk B ao M) (some (ao + 4)) (nI i) v = some (mk B ao (mA M 4 i v)) := msI (by decide) (by decide) rfl h
theorem ma5 (i : Nat) (h : i < 8) : aI (mk B ao M) (some (ao + 5)) (nI i) = some (M.2.1 5 i) := maI (by decide) (by decide) rfl h
theorem ms5 (i : Nat) (h : i < 8) : sI (mk B ao M) (some (ao + 5)) (nI i) v = some (mk B ao (mA M 5 i v)) := msI (by decide) (by decide) rfl h
theorem ma6 (i : Nat) (h : i < 8) : aI (mk B ao M) (some (ao + 6)) (nI i) = some (M.2.1 6 i) := maI (by decide) (by decide) rfl h
theorem ms6 (i : Nat) (h : i < 8) : sI (mk B ao M) (some (ao + 6)) (nI i) v = some (mk B ao (mA M 6 i v)) := msI (by decide) (by decide) rfl h
theorem ma7 (i : Nat) (h : i < 8) : aI (mk B ao M) (some (ao + 7)) (nI i) = some (M.2.1 7 i) := maI (by decide) (by decide) rfl h
theorem ms7 (i : Nat) (h : i < 8) : sI (mk B ao M) (some (ao + 7)) (nI i) v = some (mk B ao (mA M 7 i v)) := msI (by decide) (by decide) rfl h
theorem ma8 (i : Nat) (h : i < 8) : aI (mk B ao M) (some (ao + 8)) (nI i) = some (M.2.1 8 i) := maI (by decide) (by decide) rfl h
theorem ms8 (i : Nat) (h : i < 8) : sI (mk B ao M) (some (ao + 8)) (nI i) v = some (mk B ao (mA M 8 i v)) := msI (by decide) (by decide) rfl h
theorem ma9 (i : Nat) (h : i < 128) : aI (mk B ao M) (some (ao + 9)) (nI i) = some (M.2.1 9 i) := maI (by decide) (by decide) rfl h
theorem ms9 (i : Nat) (h : i < 128) : sI (mk B ao M) (some (ao + 9)) (nI i) v = some (mk B ao (mA M 9 i v)) := msI (by decide) (by decide) rfl h
theorem ma10 (i : Nat) (h : i < 128) : aI (mk B ao M) (some (ao + 10)) (nI i) = some (M.2.1 10 i) := maI (by decide) (by decide) rfl h
theorem ms10 (i : Nat) (h : i < 128) : sI (mk B ao M) (some (ao + 10)) (nI i) v = some (mk B ao (mA M 10 i v)) := msI (by decide) (by decide) rfl h
theorem ma11 (i : Nat) (h : i < 128) : aI (mk B ao M) (some (ao + 11)) (nI i) = some (M.2.1 11 i) := maI (by decide) (by decide) rfl h
theorem ms11 (i : Nat) (h : i < 128) : sI (mk B ao M) (some (ao + 11)) (nI i) v = some (mk B ao (mA M 11 i v)) := msI (by decide) (by decide) rfl h
theorem ma12 (i : Nat) (h : i < 2560) : aI (mk B ao M) (some (ao + 12)) (nI i) = some (M.2.1 12 i) := maI (by decide) (by decide) rfl h
theorem ms12 (i : Nat) (h : i < 2560) : sI (mk B ao M) (some (ao + 12)) (nI i) v = some (mk B ao (mA M 12 i v)) := msI (by decide) (by decide) rfl h
theorem ma13 (i : Nat) (h : i < 65536) : aI (mk B ao M) (some (ao + 13)) (nI i) = some (M.2.1 13 i) := maI (by decide) (by decide) rfl h
theorem ms13 (i : Nat) (h : i < 65536) : sI (mk B ao M) (some (ao + 13)) (nI i) v = some (mk B ao (mA M 13 i v)) := msI (by decide) (by decide) rfl h
theorem ma14 (i : Nat) (h : i < 4096) : aI (mk B ao M) (some (ao + 14)) (nI i) = some (M.2.1 14 i) := maI (by decide) (by decide) rfl h
theorem ms14 (i : Nat) (h : i < 4096) : sI (mk B ao M) (some (ao + 14)) (nI i) v = some (mk B ao (mA M 14 i v)) := msI (by decide) (by decide) rfl h
theorem ma15 (i : Nat) (h : i < 4096) : aI (mk B ao M) (some (ao + 15)) (nI i) = some (M.2.1 15 i) := maI (by decide) (by decide) rfl h
theorem ms15 (i : Nat) (h : i < 4096) : sI (mk B ao M) (some (ao + 15)) (nI i) v = some (mk B ao (mA M 15 i v)) := msI (by decide) (by decide) rfl h
theorem ma16 (i : Nat) (h : i < 4096) : aZ (mk B ao M) (some (ao + 16)) (nI i) = some (M.2.1 16 i) := maZ (by decide) (by decide) rfl h
theorem ms16 (i : Nat) (h : i < 4096) : sZ (mk B ao M) (some (ao + 16)) (nI i) v = some (mk B ao (mA M 16 i (nb v))) := msZ (by decide) (by decide) rfl h
theorem ma17 (i : Nat) (h : i < 4096) : aZ (mk B ao M) (some (ao + 17)) (nI i) = some (M.2.1 17 i) := maZ (by decide) (by decide) rfl h
theorem ms17 (i : Nat) (h : i < 4096) : sZ (mk B ao M) (some (ao + 17)) (nI i) v = some (mk B ao (mA M 17 i (nb v))) := msZ (by decide) (by decide) rfl h
theorem ma18 (i : Nat) (h : i < 4096) : aI (mk B ao M) (some (ao + 18)) (nI i) = some (M.2.1 18 i) := maI (by decide) (by decide) rfl h
theorem ms18 (i : Nat) (h : i < 4096) : sI (mk B ao M) (some (ao + 18)) (nI i) v = some (mk B ao (mA M 18 i v)) := msI (by decide) (by decide) rfl h
theorem ma19 (i : Nat) (h : i < 32768) : aI (mk B ao M) (some (ao + 19)) (nI i) = some (M.2.1 19 i) := maI (by decide) (by decide) rfl h
theorem ms19 (i : Nat) (h : i < 32768) : sI (mk B ao M) (some (ao + 19)) (nI i) v = some (mk B ao (mA M 19 i v)) := msI (by decide) (by decide) rfl h
theorem ma20 (i : Nat) (h : i < 32768) : aI (mk B ao M) (some (ao + 20)) (nI i) = some (M.2.1 20 i) := maI (by decide) (by decide) rfl h
theorem ms20 (i : Nat) (h : i < 32768) : sI (mk B ao M) (some (ao + 20)) (nI i) v = some (mk B ao (mA M 20 i v)) := msI (by decide) (by decide) rfl h
theorem ma21 (i : Nat) (h : i < 32768) : aI (mk B ao M) (some (ao + 21)) (nI i) = some (M.2.1 21 i) := maI (by decide) (by decide) rfl h
theorem ms21 (i : Nat) (h : i < 32768) : sI (mk B ao M) (some (ao + 21)) (nI i) v = some (mk B ao (mA M 21 i v)) := msI (by decide) (by decide) rfl h
theorem ma22 (i : Nat) (h : i < 32768) : aI (mk B ao M) (some (ao + 22)) (nI i) = some (M.2.1 22 i) := maI (by decide) (by decide) rfl h
theorem ms22 (i : Nat) (h : i < 32768) : sI (mk B ao M) (some (ao + 22)) (nI i) v = some (mk B ao (mA M 22 i v)) := msI (by decide) (by decide) rfl h
theorem ma23 (i : Nat) (h : i < 32768) : aI (mk B ao M) (some (ao + 23)) (nI i) = some (M.2.1 23 i) := maI (by decide) (by decide) rfl h
theorem ms23 (i : Nat) (h : i < 32768) : sI (mk B ao M) (some (ao + 23)) (nI i) v = some (mk B ao (mA M 23 i v)) := msI (by decide) (by decide) rfl h
theorem ma24 (i : Nat) (h : i < 32768) : aI (mk B ao M) (some (ao + 24)) (nI i) = some (M.2.1 24 i) := maI (by decide) (by decide) rfl h
theorem ms24 (i : Nat) (h : i < 32768) : sI (mk B ao M) (some (ao + 24)) (nI i) v = some (mk B ao (mA M 24 i v)) := msI (by decide) (by decide) rfl h
theorem ma25 (i : Nat) (h : i < 32) : aI (mk B ao M) (some (ao + 25)) (nI i) = some (M.2.1 25 i) := maI (by decide) (by decide) rfl h
theorem ms25 (i : Nat) (h : i < 32) : sI (mk B ao M) (some (ao + 25)) (nI i) v = some (mk B ao (mA M 25 i v)) := msI (by decide) (by decide) rfl h
theorem ma26 (i : Nat) (h : i < 32) : aZ (mk B ao M) (some (ao + 26)) (nI i) = some (M.2.1 26 i) := maZ (by decide) (by decide) rfl h
theorem ms26 (i : Nat) (h : i < 32) : sZ (mk B ao M) (some (ao + 26)) (nI i) v = some (mk B ao (mA M 26 i (nb v))) := msZ (by decide) (by decide) rfl h
theorem ma27 (i : Nat) (h : i < 32) : aZ (mk B ao M) (some (ao + 27)) (nI i) = some (M.2.1 27 i) := maZ (by decide) (by decide) rfl h
theorem ms27 (i : Nat) (h : i < 32) : sZ (mk B ao M) (some (ao + 27)) (nI i) v = some (mk B ao (mA M 27 i (nb v))) := msZ (by decide) (by decide) rfl h
theorem ma28 (i : Nat) (h : i < 32) : aI (mk B ao M) (some (ao + 28)) (nI i) = some (M.2.1 28 i) := maI (by decide) (by decide) rfl h
theorem ms28 (i : Nat) (h : i < 32) : sI (mk B ao M) (some (ao + 28)) (nI i) v = some (mk B ao (mA M 28 i v)) := msI (by decide) (by decide) rfl h
end MK
