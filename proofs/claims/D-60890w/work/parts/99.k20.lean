/-! K20: cached, global, run that throws on CG -/
section K20
variable {nC nS n : Nat} {A A' : AH} {V V' : CW} {E E' : EL} {ad ad' : AA} {M M' N : MS} {P : PP} {T Bk b1 b2 n0 n1 n2 u uu c al I x : Nat}
theorem G_cached (cg : CG nC nS A V M x) (p q : Int32) : ∃ v M', (∀ Bh ao, fX11_cached ao p q (mk Bh ao M) = some (v, mk Bh ao M')) ∧ fX1_cached x p q A = some v ∧ CG nC nS A V M' x := by
  have cg0 := cg.th 0
  rcases cg.own with cj | ⟨a, b, c', cj, hid⟩
  · obtain ⟨v, M', h1, h2, h3⟩ := J_cached cj p q
    exact ⟨v, M', h1, h2, h3.cg⟩
  obtain ⟨v, M', h1, h2, _⟩ := J_cached cj p q
  obtain ⟨E, ad, P, T, Bk, b1, b2, n0, n1, n2, c, al, I, cq, hx⟩ := cj
  obtain ⟨_, _, _, b9, _⟩ := cq.b
  have s5 : M.1 5 = nI (P 9) := cq.2.2.2.1.2.2.1
  by_cases h : ((p < 0 ∨ M.1 5 ≤ p) ∨ q < 0) ∨ ¬ q ≤ 4
  · have e := same_v (h1 A 0) (e_cachedN p q h)
    exact ⟨v, mI M 0 0, fun Bh ao => by rw [e_cachedN p q h, e], h2, cg0⟩
  · have hk : ∃ k, p = nI k ∧ k < 8 := by
      rcases pk_ix p (n := P 9) (by omega) with e | e | ⟨j, hj, e⟩
      · exact absurd (Or.inl (Or.inl (Or.inl e))) h
      · exact absurd (Or.inl (Or.inl (Or.inr (by rw [s5]; exact e)))) h
      · exact ⟨j, e, by omega⟩
    have hq : ∃ k, q = nI k ∧ k ≤ 4 := by
      rcases pk_ix q (n := 5) (by omega) with e | e | ⟨j, hj, e⟩
      · exact absurd (Or.inl (Or.inr e)) h
      · exact absurd (Or.inr (fun z => absurd (Int32.le_trans e z) (by decide))) h
      · exact ⟨j, e, by omega⟩
    obtain ⟨k, rfl, hk8⟩ := hk
    obtain ⟨r, rfl, hr⟩ := hq
    have e := same_v (h1 A 0) (e_cachedY k r hk8 hr h)
    exact ⟨v, mI M 0 0, fun Bh ao => by rw [e_cachedY k r hk8 hr h, e]; rfl, h2, cg0⟩
end K20
