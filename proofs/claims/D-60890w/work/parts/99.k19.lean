/-! K19: unit, cached, global on CG -/
section K19
variable {nC nS n : Nat} {A A' : AH} {V V' : CW} {E E' : EL} {ad ad' : AA} {M M' N : MS} {P : PP} {T Bk b1 b2 n0 n1 n2 u uu c al I x : Nat}
theorem G_unit (cg : CG nC nS A V M x) (p q : Int32) : ∃ v M', (∀ Bh ao, fX11_unit ao p q (mk Bh ao M) = some (v, mk Bh ao M')) ∧ fX1_unit x p q A = some v ∧ CG nC nS A V M' x := by
  have cg0 := cg.th 0
  rcases cg.own with cj | ⟨a, b, c', cj, hid⟩
  · obtain ⟨v, M', h1, h2, h3⟩ := J_unit cj p q
    exact ⟨v, M', h1, h2, h3.cg⟩
  obtain ⟨v, M', h1, h2, _⟩ := J_unit cj p q
  obtain ⟨E, ad, P, T, Bk, b1, b2, n0, n1, n2, c, al, I, cq, hx⟩ := cj
  obtain ⟨_, _, b8, _⟩ := cq.b
  have s3 : M.1 3 = nI (P 8) := cq.2.2.2.1.1
  by_cases h : p < 0 ∨ ¬ p < M.1 3
  · have e := same_v (h1 A 0) (e_unitN p q h)
    exact ⟨v, mI M 0 0, fun Bh ao => by rw [e_unitN p q h, e], h2, cg0⟩
  · have hk : ∃ k, p = nI k ∧ k < 8 := by
      rcases pk_ix p (n := P 8) (by omega) with e | e | ⟨j, hj, e⟩
      · exact absurd (Or.inl e) h
      · exact absurd (Or.inr (by rw [s3]; exact Int32.not_lt.mpr e)) h
      · exact ⟨j, e, by omega⟩
    obtain ⟨k, rfl, hk8⟩ := hk
    have e := same_v (h1 A 0) (e_unitY k q hk8 h)
    exact ⟨v, mI M 0 0, fun Bh ao => by rw [e_unitY k q hk8 h, e]; rfl, h2, cg0⟩
end K19
