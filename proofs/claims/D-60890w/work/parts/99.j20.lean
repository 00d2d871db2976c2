/-! J20: sizes: what the model does -/
theorem iter_off {σ : Type} : ∀ (d : Nat) (f : Nat → σ → σ) (a : Nat) (s : σ), iter f a d s = iter (fun i => f (a + i)) 0 d s
  | 0, _, _, _ => rfl
  | d + 1, f, a, s => by
    rw [iter_s, iter_s, iter_off d f (a + 1), iter_off d (fun i => f (a + i)) (0 + 1)]
    have : (fun i => f (a + 1 + i)) = fun i => f (a + (0 + 1 + i)) := by
      funext i
      rw [show a + 1 + i = a + (0 + 1 + i) by omega]
    rw [this]
    rfl
def szX (M : MS) (p1 p2 p3 p4 p5 : Int32) (k : Nat) : MS := z_clearCounts (mI (mI (iter (fun i M => mA M 2 i 0) k (4096 - k) (mI (mI (mI (mI (mI (mI M 0 0) 1 p1) 2 p2) 3 p3) 4 p4) 5 p5)) 6 (nI k)) 11 0)
section J20
variable {M : MS}
theorem szX_P (M : MS) (p1 p2 p3 p4 p5 : Int32) (k : Nat) (hk : k ≤ 4096) : frm [0, 1, 2, 3, 4, 5, 6, 11, 15, 16, 17, 18, 19, 20, 21, 23, 24, 25, 26] [2] M (szX M p1 p2 p3 p4 p5 k) ∧ ((szX M p1 p2 p3 p4 p5 k).1 1 = p1 ∧ (szX M p1 p2 p3 p4 p5 k).1 2 = p2 ∧ (szX M p1 p2 p3 p4 p5 k).1 3 = p3 ∧ (szX M p1 p2 p3 p4 p5 k).1 4 = p4 ∧ (szX M p1 p2 p3 p4 p5 k).1 5 = p5 ∧ (szX M p1 p2 p3 p4 p5 k).1 6 = nI k) ∧ (∀ f, f ∈ [0, 11, 15, 16, 17, 18, 19, 20, 21, 23, 24, 25, 26] → (szX M p1 p2 p3 p4 p5 k).1 f = 0) ∧ ∀ x, (szX M p1 p2 p3 p4 p5 k).2.1 2 x = if (k ≤ x ∧ x < 4096) then 0 else M.2.1 2 x := by
  obtain ⟨h1, h2⟩ := iter_mA (f := fun i M => mA M 2 (k + i) 0) (j := 2) (off := k) (v := 0) (fun i X => rfl) (mI (mI (mI (mI (mI (mI M 0 0) 1 p1) 2 p2) 3 p3) 4 p4) 5 p5) (4096 - k)
  unfold szX
  rw [iter_off]
  have f0 : frm [0, 1, 2, 3, 4, 5, 6, 11, 15, 16, 17, 18, 19, 20, 21, 23, 24, 25, 26] [2] M (mI (mI (mI (mI (mI (mI M 0 0) 1 p1) 2 p2) 3 p3) 4 p4) 5 p5) := (((((frm.rf.mI (by decide)).mI (by decide)).mI (by decide)).mI (by decide)).mI (by decide)).mI (by decide)
  have e1 := h1.1
  generalize iter (fun i M => mA M 2 (k + i) 0) 0 (4096 - k) (mI (mI (mI (mI (mI (mI M 0 0) 1 p1) 2 p2) 3 p3) 4 p4) 5 p5) = Z at *
  have eZ : ∀ f, Z.1 f = (mI (mI (mI (mI (mI (mI M 0 0) 1 p1) 2 p2) 3 p3) 4 p4) 5 p5).1 f := fun f => e1 f List.not_mem_nil
  refine ⟨?_, ⟨?_, ?_, ?_, ?_, ?_, ?_⟩, fun f hf => ?_, fun x => ?_⟩
  · have fz := f0.tr (h1.up (by decide) (by decide))
    unfold z_clearCounts
    exact ((((((((((((fz.mI (by decide)).mI (by decide)).mI (by decide)).mI (by decide)).mI (by decide)).mI (by decide)).mI (by decide)).mI (by decide)).mI (by decide)).mI (by decide)).mI (by decide)).mI (by decide)).mI (by decide)
  · simp [z_clearCounts, mI_g, eZ]
  · simp [z_clearCounts, mI_g, eZ]
  · simp [z_clearCounts, mI_g, eZ]
  · simp [z_clearCounts, mI_g, eZ]
  · simp [z_clearCounts, mI_g, eZ]
  · simp [z_clearCounts, mI_g, eZ]
  · simp only [List.mem_cons, List.not_mem_nil, or_false] at hf
    rcases hf with e | e | e | e | e | e | e | e | e | e | e | e | e <;> (subst e; simp [z_clearCounts, mI_g, eZ])
  · show Z.2.1 2 x = _
    rw [h2 x]
    by_cases c : k ≤ x ∧ x < 4096
    · rw [if_pos c, if_pos (by omega)]
    · rw [if_neg c, if_neg (by omega)]
      rfl
theorem sizes_P (M : MS) (p1 p2 p3 p4 p5 : Int32) (k : Nat) (hk : k ≤ 4096) : frm [0, 1, 2, 3, 4, 5, 6, 11, 15, 16, 17, 18, 19, 20, 21, 23, 24, 25, 26, 41, 42] [2, 3, 4, 5, 6, 7, 8, 9] M (z_sizes M p1 p2 p3 p4 p5 k) ∧ ((z_sizes M p1 p2 p3 p4 p5 k).1 1 = p1 ∧ (z_sizes M p1 p2 p3 p4 p5 k).1 2 = p2 ∧ (z_sizes M p1 p2 p3 p4 p5 k).1 3 = p3 ∧ (z_sizes M p1 p2 p3 p4 p5 k).1 4 = p4 ∧ (z_sizes M p1 p2 p3 p4 p5 k).1 5 = p5 ∧ (z_sizes M p1 p2 p3 p4 p5 k).1 6 = nI k) ∧ (∀ f, f ∈ [0, 11, 15, 16, 17, 18, 19, 20, 21, 23, 24, 25, 26, 41] → (z_sizes M p1 p2 p3 p4 p5 k).1 f = 0) ∧ (∀ x, (z_sizes M p1 p2 p3 p4 p5 k).2.1 2 x = if (k ≤ x ∧ x < 4096) then 0 else M.2.1 2 x) ∧ (∀ x, x < 32 → (z_sizes M p1 p2 p3 p4 p5 k).2.1 3 x = -1) ∧ (∀ x, x < 128 → (z_sizes M p1 p2 p3 p4 p5 k).2.1 9 x = -1) ∧ ∀ i, i < 8 → (z_sizes M p1 p2 p3 p4 p5 k).2.1 5 i = 0 ∧ (z_sizes M p1 p2 p3 p4 p5 k).2.1 6 i = 0 ∧ (z_sizes M p1 p2 p3 p4 p5 k).2.1 7 i = p2 - 1 ∧ (z_sizes M p1 p2 p3 p4 p5 k).2.1 8 i = 0 ∧ (z_sizes M p1 p2 p3 p4 p5 k).2.1 4 i = 0 := by
  obtain ⟨a1, a2, a3, a4⟩ := szX_P M p1 p2 p3 p4 p5 k hk
  have ez : z_sizes M p1 p2 p3 p4 p5 k = z_clearHouse (szX M p1 p2 p3 p4 p5 k) := rfl
  rw [ez]
  generalize szX M p1 p2 p3 p4 p5 k = X at *
  obtain ⟨c1, c2, c3, c4, c5⟩ := clearUnits_P X
  unfold z_clearHouse
  obtain ⟨h1, h2⟩ := iter_mA (f := fun i M => mA M 3 i (-1)) (j := 3) (off := 0) (v := -1) (fun i X => by rw [Nat.zero_add]) (z_clearUnits X) 32
  generalize z_clearUnits X = Y at *
  generalize iter (fun i M => mA M 3 i (-1)) 0 32 Y = Z at *
  have eZ : ∀ f, Z.1 f = Y.1 f := fun f => h1.1 f List.not_mem_nil
  have aZ : ∀ j, j ≠ 3 → Z.2.1 j = Y.2.1 j := fun j hj => h1.2.1 j (by simp only [List.mem_singleton]; exact hj)
  have eY : ∀ f, f ≠ 41 → f ≠ 42 → Y.1 f = X.1 f := fun f h h' => c1.1 f (by simp only [List.mem_cons, List.not_mem_nil, or_false]; omega)
  refine ⟨((a1.up (by decide) (by decide)).tr (c1.up (by decide) (by decide))).tr (h1.up (by decide) (by decide)), ⟨?_, ?_, ?_, ?_, ?_, ?_⟩, fun f hf => ?_, fun x => ?_, fun x hx => ?_, fun x hx => ?_, fun i hi => ?_⟩
  · rw [eZ, eY 1 (by decide) (by decide)]; exact a2.1
  · rw [eZ, eY 2 (by decide) (by decide)]; exact a2.2.1
  · rw [eZ, eY 3 (by decide) (by decide)]; exact a2.2.2.1
  · rw [eZ, eY 4 (by decide) (by decide)]; exact a2.2.2.2.1
  · rw [eZ, eY 5 (by decide) (by decide)]; exact a2.2.2.2.2.1
  · rw [eZ, eY 6 (by decide) (by decide)]; exact a2.2.2.2.2.2
  · rw [eZ]
    by_cases e : f = 41
    · subst e; exact c2
    · have h42 : f ≠ 42 := fun z => by subst z; revert hf; decide
      rw [eY f e h42]
      refine a3 f ?_
      simp only [List.mem_cons, List.not_mem_nil, or_false] at hf ⊢
      omega
  · rw [aZ 2 (by decide), c1.a 2]; exact a4 x
  · rw [h2 x, if_pos (by omega)]
  · rw [aZ 9 (by decide)]; exact c4 x hx
  · rw [aZ 5 (by decide), aZ 6 (by decide), aZ 7 (by decide), aZ 8 (by decide), aZ 4 (by decide)]
    obtain ⟨d1, d2, d3, d4, d5⟩ := c5 i hi
    exact ⟨d1, d2, by rw [d3, a2.2.1], d4, d5⟩
end J20
