/-! K21: slot on CG -/
section K21
variable {nC nS n : Nat} {A A' : AH} {V V' : CW} {E E' : EL} {ad ad' : AA} {M M' N : MS} {P : PP} {T Bk b1 b2 n0 n1 n2 u uu c al I x : Nat}
theorem G_slot (cg : CG nC nS A V M x) (hn : 33 < n) (p q r : Int32) : ∃ v M', (∀ Bh ao, fX11_slot n ao p q r (mk Bh ao M) = some (v, mk Bh ao M')) ∧ fX1_slot n x p q r A = some v ∧ CG nC nS A V M' x := by
  have cg0 := cg.th 0
  rcases cg.own with cj | ⟨a, b, c', cj, hid⟩
  · obtain ⟨v, M', h1, h2, h3⟩ := J_slot cj hn p q r
    exact ⟨v, M', h1, h2, h3.cg⟩
  obtain ⟨v, M', h1, h2, _⟩ := J_slot cj hn p q r
  obtain ⟨E, ad, P, T, Bk, b1, b2, n0, n1, n2, c, al, I, cq, hx⟩ := cj
  obtain ⟨b6, b7, b8, b9, _, e1, e2⟩ := cq.b
  have e1 : M.1 1 = nI (P 6) := e1
  have e2 : M.1 2 = nI (P 7) := e2
  have s3 : M.1 3 = nI (P 8) := cq.2.2.2.1.1
  by_cases h : (((p < 0 ∨ M.1 3 ≤ p) ∨ q < 0) ∨ M.1 2 ≤ q) ∨ r < 0 ∨ ¬ r ≤ 24
  · have e := same_v (h1 A 0) (e_slotN p q r h)
    exact ⟨v, mI M 0 0, fun Bh ao => by rw [e_slotN p q r h, e], h2, cg0⟩
  · have hk : ∃ k, p = nI k ∧ k < 8 := by
      rcases pk_ix p (n := P 8) (by omega) with e | e | ⟨j, hj, e⟩
      · exact absurd (Or.inl (Or.inl (Or.inl (Or.inl e)))) h
      · exact absurd (Or.inl (Or.inl (Or.inl (Or.inr (by rw [s3]; exact e))))) h
      · exact ⟨j, e, by omega⟩
    have hq : ∃ k, q = nI k ∧ k < 16 := by
      rcases pk_ix q (n := P 7) (by omega) with e | e | ⟨j, hj, e⟩
      · exact absurd (Or.inl (Or.inl (Or.inr e))) h
      · exact absurd (Or.inl (Or.inr (by rw [e2]; exact e))) h
      · exact ⟨j, e, by omega⟩
    have hr : ∃ k, r = nI k ∧ k ≤ 24 := by
      rcases pk_ix r (n := 25) (by omega) with e | e | ⟨j, hj, e⟩
      · exact absurd (Or.inr (Or.inl e)) h
      · exact absurd (Or.inr (Or.inr (fun z => absurd (Int32.le_trans e z) (by decide)))) h
      · exact ⟨j, e, by omega⟩
    obtain ⟨k, rfl, hk8⟩ := hk
    obtain ⟨s, rfl, hs⟩ := hq
    obtain ⟨w, rfl, hw⟩ := hr
    have h9 : M.2.1 9 (16 * k + s) = -1 := hid.2 _ (by omega)
    have hh : ¬ (((nI k < 0 ∨ M.1 3 ≤ nI k) ∨ nI s < 0) ∨ M.1 2 ≤ nI s) := fun z => h (Or.inl z)
    have e := same_v (h1 A 0) (e_slotY (M := gst M a b c') k s w (P 6) hk8 hs hw b6 e1 (by omega) hh)
    rw [if_pos (show (gst M a b c').2.1 9 (16 * k + s) = -1 from h9)] at e
    exact ⟨v, mI M 0 0, fun Bh ao => by rw [e_slotY k s w (P 6) hk8 hs hw b6 e1 (by omega) hh, e, if_pos h9], h2, cg0⟩
end K21
