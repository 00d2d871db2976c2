/-! K11: fields of the model that count only in a launch -/
theorem mI_c (M : MS) {j k : Nat} (h : k ≠ j) (u v : Int32) : mI (mI M j u) k v = mI (mI M k v) j u := by
  refine Prod.ext ?_ rfl
  funext i
  rw [mI_g, mI_g, mI_g, mI_g]
  by_cases a : i = k
  · rw [if_pos a, if_neg (fun z => h (a.symm.trans z)), if_pos a]
  · rw [if_neg a]
    by_cases b : i = j
    · rw [if_pos b, if_pos b]
    · rw [if_neg b, if_neg b, if_neg a]
theorem iter_mI {f : Nat → MS → MS} {j : Nat} {u : Int32} (hf : ∀ i X, f i (mI X j u) = mI (f i X) j u) : ∀ (d a : Nat) (M : MS), iter f a d (mI M j u) = mI (iter f a d M) j u
  | 0, _, _ => rfl
  | d + 1, a, M => by rw [iter_s, iter_s, hf, iter_mI hf d]
theorem sizes_c (M : MS) (p1 p2 p3 p4 p5 : Int32) (k : Nat) {j : Nat} (hj : j = 12 ∨ j = 13 ∨ j = 14) (u : Int32) : z_sizes (mI M j u) p1 p2 p3 p4 p5 k = mI (z_sizes M p1 p2 p3 p4 p5 k) j u := by
  have c : ∀ (X : MS) (q : Nat) (v : Int32), q ≠ 12 → q ≠ 13 → q ≠ 14 → mI (mI X j u) q v = mI (mI X q v) j u := fun X q v h1 h2 h3 => mI_c X (by omega) u v
  have i2 := fun (a d : Nat) (X : MS) => iter_mI (f := fun i M => mA M 2 i 0) (j := j) (u := u) (fun _ _ => rfl) d a X
  have i3 := fun (a d : Nat) (X : MS) => iter_mI (f := fun i M => mA M 3 i (-1)) (j := j) (u := u) (fun _ _ => rfl) d a X
  have i9 := fun (a d : Nat) (X : MS) => iter_mI (f := fun i M => mA M 9 i (-1)) (j := j) (u := u) (fun _ _ => rfl) d a X
  have iu := fun (a d : Nat) (X : MS) => iter_mI (f := fun i M => mA (mA (mA (mA (mA M 5 i 0) 6 i 0) 7 i (M.1 2 - 1)) 8 i 0) 4 i 0) (j := j) (u := u) (fun i X => by
    have e : (mI X j u).1 2 = X.1 2 := by rw [mI_g, if_neg (by omega)]
    show mA (mA (mA (mA (mA (mI X j u) 5 i 0) 6 i 0) 7 i ((mI X j u).1 2 - 1)) 8 i 0) 4 i 0 = _
    rw [e]
    rfl) d a X
  unfold z_sizes z_clearHouse z_clearUnits z_freeAll z_clearCounts
  rw [c _ 0 _ (by decide) (by decide) (by decide), c _ 1 _ (by decide) (by decide) (by decide), c _ 2 _ (by decide) (by decide) (by decide), c _ 3 _ (by decide) (by decide) (by decide), c _ 4 _ (by decide) (by decide) (by decide), c _ 5 _ (by decide) (by decide) (by decide), i2, c _ 6 _ (by decide) (by decide) (by decide), c _ 11 _ (by decide) (by decide) (by decide)]
  rw [c _ 15 _ (by decide) (by decide) (by decide), c _ 16 _ (by decide) (by decide) (by decide), c _ 17 _ (by decide) (by decide) (by decide), c _ 18 _ (by decide) (by decide) (by decide), c _ 19 _ (by decide) (by decide) (by decide), c _ 20 _ (by decide) (by decide) (by decide), c _ 21 _ (by decide) (by decide) (by decide), c _ 23 _ (by decide) (by decide) (by decide), c _ 24 _ (by decide) (by decide) (by decide), c _ 25 _ (by decide) (by decide) (by decide), c _ 26 _ (by decide) (by decide) (by decide)]
  rw [iu, i9, c _ 41 _ (by decide) (by decide) (by decide), c _ 42 _ (by decide) (by decide) (by decide), i3]
def gst (M : MS) (a b c : Int32) : MS := mI (mI (mI M 12 a) 13 b) 14 c
theorem gst_own (M : MS) : gst M (M.1 12) (M.1 13) (M.1 14) = M := by
  refine Prod.ext ?_ rfl
  funext i
  unfold gst
  rw [mI_g, mI_g, mI_g]
  by_cases h14 : i = 14
  · rw [if_pos h14, h14]
  · rw [if_neg h14]
    by_cases h13 : i = 13
    · rw [if_pos h13, h13]
    · rw [if_neg h13]
      by_cases h12 : i = 12
      · rw [if_pos h12, h12]
      · rw [if_neg h12]
theorem mI_mI (M : MS) (j : Nat) (u v : Int32) : mI (mI M j u) j v = mI M j v := by
  refine Prod.ext ?_ rfl
  funext i
  rw [mI_g, mI_g, mI_g]
  by_cases h : i = j
  · rw [if_pos h, if_pos h]
  · rw [if_neg h, if_neg h, if_neg h]
theorem gst_gst (M : MS) (a b c a' b' c' : Int32) : gst (gst M a b c) a' b' c' = gst M a' b' c' := by
  unfold gst
  rw [mI_c (mI (mI M 12 a) 13 b) (j := 14) (k := 12) (by decide), mI_c (mI M 12 a) (j := 13) (k := 12) (by decide), mI_mI, mI_c (mI (mI M 12 a') 13 b) (j := 14) (k := 13) (by decide), mI_mI, mI_mI]
theorem gst_mI (M : MS) (a b c v : Int32) {k : Nat} (h1 : k ≠ 12) (h2 : k ≠ 13) (h3 : k ≠ 14) : mI (gst M a b c) k v = gst (mI M k v) a b c := by
  unfold gst
  rw [mI_c _ h3, mI_c _ h2, mI_c _ h1]
theorem szN_g (M : MS) (a b c : Int32) (L S U B G k : Nat) : szN (gst M a b c) L S U B G k = gst (z_sizes M (nI L) (nI S) (nI U) (nI B) (nI G) k) 0 0 0 := by
  unfold szN
  have e : z_sizes (gst M a b c) (nI L) (nI S) (nI U) (nI B) (nI G) k = gst (z_sizes M (nI L) (nI S) (nI U) (nI B) (nI G) k) a b c := by
    unfold gst
    rw [sizes_c _ _ _ _ _ _ _ (Or.inr (Or.inr rfl)), sizes_c _ _ _ _ _ _ _ (Or.inr (Or.inl rfl)), sizes_c _ _ _ _ _ _ _ (Or.inl rfl)]
  rw [e]
  exact gst_gst _ a b c 0 0 0
