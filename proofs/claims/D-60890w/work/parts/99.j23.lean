/-! J23: sizes -/
/-- the model's memory after sizes, but the three fields that count only in a launch -/
def szN (M : MS) (L S U B G k : Nat) : MS := mI (mI (mI (z_sizes M (nI L) (nI S) (nI U) (nI B) (nI G) k) 12 0) 13 0) 14 0
section J23
variable {nC nS n mC mS : Nat} {A A' : AH} {V V' V'' : CW} {E E' E'' : EL} {ad : AA} {M M' N : MS} {P : PP} {T Bk Bk' b1 b2 n0 n1 n2 w x c al hl sl m ul ca L S B I U G k Io mm : Nat} {p12 : Int32}
theorem GY.rows0 (g : GY nC nS A V E ad M P Bk b1 b2 n0 n1 n2) (h9 : ∀ s, s < 128 → M.2.1 9 s = -1) (hP10 : 1 ≤ P 10) : ad 12 = a00 12 ∧ ad 13 = a00 13 ∧ ad 14 = a00 14 := by
  have hs := g.2.1.1.2.2.2
  have n13 : ∀ s, ad 13 s = none := fun s => by
    cases e : ad 13 s with
    | none => rfl
    | some w =>
      obtain ⟨bk, b, c1, c2, _⟩ := hs.bl e
      rw [h9 s (hs.s128 e)] at c2
      have h2 := nI_pos' (n := bk) (by omega)
      rw [← c2] at h2
      exact absurd h2 (by decide)
  refine ⟨funext fun q => ?_, funext fun q => n13 q, funext fun q => ?_⟩
  · cases e : ad 12 q with
    | none => rfl
    | some b =>
      obtain ⟨_, y2, y3⟩ := hs.2.2.2.2.2.2.1 q b e
      obtain ⟨w, hw⟩ := lt_ge (l := lt V E 12 2 b) (i := 0) (by omega)
      obtain ⟨s, _, y4, _⟩ := y3 0 w hw
      rw [n13 s] at y4
      cases y4
  · cases e : ad 14 q with
    | none => rfl
    | some l =>
      obtain ⟨w, hw⟩ := hs.2.2.2.2.2.1.2 q l e
      rw [n13] at hw
      cases hw
theorem szN_P (hk : k ≤ 4096) (hz : ∀ j, I ≤ j → M.2.1 2 j = 0) (h22 : M.1 22 = nI al) (hS : 1 ≤ S) (hU : U ≤ 8) (hG : G ≤ 8) : MN (szN M L S U B G k) L S U B G k (nI al) ∧ (szN M L S U B G k).1 3 = nI U ∧ (szN M L S U B G k).1 5 = nI G ∧ (szN M L S U B G k).2.2 = M.2.2 ∧ (∀ x, (szN M L S U B G k).2.1 2 x = if (k ≤ x ∧ x < 4096) then 0 else M.2.1 2 x) ∧ (∀ j, 10 ≤ j → (szN M L S U B G k).2.1 j = M.2.1 j) ∧ (∀ g, g < 8 → (szN M L S U B G k).2.1 4 g = 0) ∧ ∀ u, u < 8 → (szN M L S U B G k).2.1 7 u = nI (S - 1) := by
  obtain ⟨f, ⟨p1, p2, p3, p4, p5, p6⟩, q, a2, a3, a9, a5⟩ := sizes_P M (nI L) (nI S) (nI U) (nI B) (nI G) k hk
  unfold szN
  generalize z_sizes M (nI L) (nI S) (nI U) (nI B) (nI G) k = Z at *
  have eS : nI S - 1 = nI (S - 1) := nI_sub' (a := S) (b := 1) hS
  have o : ∀ j, j ≠ 12 → j ≠ 13 → j ≠ 14 → (mI (mI (mI Z 12 0) 13 0) 14 0).1 j = Z.1 j := fun j h1 h2 h3 => by rw [mI_g, if_neg h3, mI_g, if_neg h2, mI_g, if_neg h1]
  refine ⟨⟨⟨?_, ?_, ?_, ?_, ?_⟩, fun j hj => ?_, fun u hu => ?_, fun g hg => ⟨fun i hi => ?_, ?_⟩, fun s hs => a9 s hs⟩, ?_, ?_, f.2.2, a2, fun j hj => f.2.1 j (by simp only [List.mem_cons, List.not_mem_nil, or_false]; omega), fun g hg => (a5 g hg).2.2.2.2, fun u hu => (a5 u hu).2.2.1.trans eS⟩
  · rw [o 1 (by decide) (by decide) (by decide)]; exact p1
  · rw [o 2 (by decide) (by decide) (by decide)]; exact p2
  · rw [o 4 (by decide) (by decide) (by decide)]; exact p4
  · rw [o 6 (by decide) (by decide) (by decide)]; exact p6
  · rw [o 22 (by decide) (by decide) (by decide), f.f 22]; exact h22
  · by_cases h12 : j = 12
    · subst h12; rfl
    · by_cases h13 : j = 13
      · subst h13; rfl
      · by_cases h14 : j = 14
        · subst h14; rfl
        · rw [o j h12 h13 h14]
          refine q j ?_
          simp only [List.mem_cons, List.not_mem_nil, or_false] at hj ⊢
          omega
  · obtain ⟨d1, d2, d3, d4, d5⟩ := a5 u (by omega)
    exact ⟨d3.trans eS, d1, d2, d4⟩
  · exact a3 (4 * g + i) (by omega)
  · exact (a5 g (by omega)).2.2.2.2
  · rw [o 3 (by decide) (by decide) (by decide)]; exact p3
  · rw [o 5 (by decide) (by decide) (by decide)]; exact p5
end J23
