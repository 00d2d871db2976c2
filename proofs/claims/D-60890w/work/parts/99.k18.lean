/-! K18: readers on CG -/
section K18
variable {nC nS n : Nat} {A A' : AH} {V V' : CW} {E E' : EL} {ad ad' : AA} {M M' N : MS} {P : PP} {T Bk b1 b2 n0 n1 n2 u uu c al I x : Nat}
theorem same_v {o : Option (Int32 × AH)} {v w : Int32} {X Y : AH} (h : o = some (v, X)) (h' : o = some (w, Y)) : v = w := congrArg Prod.fst (Option.some.inj (h.symm.trans h'))
theorem gst_f (M : MS) (a b c : Int32) {k : Nat} (h1 : k ≠ 12) (h2 : k ≠ 13) (h3 : k ≠ 14) : (gst M a b c).1 k = M.1 k := by
  unfold gst
  rw [mI_g, if_neg h3, mI_g, if_neg h2, mI_g, if_neg h1]
theorem G_state (cg : CG nC nS A V M x) (p : Int32) : ∃ v M', (∀ Bh ao, fX11_state ao p (mk Bh ao M) = some (v, mk Bh ao M')) ∧ fX1_state x p A = some v ∧ CG nC nS A V M' x := by
  have cg0 := cg.th 0
  rcases cg.own with cj | ⟨a, b, c', cj, hid⟩
  · obtain ⟨v, M', h1, h2, h3⟩ := J_state cj p
    exact ⟨v, M', h1, h2, h3.cg⟩
  obtain ⟨v, M', h1, h2, _⟩ := J_state cj p
  have e := same_v (h1 A 0) (e_state p)
  have ev : stV (gst M a b c') p = stV M p := by
    unfold stV
    simp only [gst_f M a b c' (k := 11) (by decide) (by decide) (by decide), gst_f M a b c' (k := 15) (by decide) (by decide) (by decide), gst_f M a b c' (k := 16) (by decide) (by decide) (by decide), gst_f M a b c' (k := 17) (by decide) (by decide) (by decide), gst_f M a b c' (k := 18) (by decide) (by decide) (by decide), gst_f M a b c' (k := 19) (by decide) (by decide) (by decide), gst_f M a b c' (k := 20) (by decide) (by decide) (by decide), gst_f M a b c' (k := 21) (by decide) (by decide) (by decide), gst_f M a b c' (k := 22) (by decide) (by decide) (by decide), gst_f M a b c' (k := 23) (by decide) (by decide) (by decide), gst_f M a b c' (k := 24) (by decide) (by decide) (by decide), gst_f M a b c' (k := 25) (by decide) (by decide) (by decide), gst_f M a b c' (k := 26) (by decide) (by decide) (by decide), gst_f M a b c' (k := 41) (by decide) (by decide) (by decide), gst_f M a b c' (k := 1) (by decide) (by decide) (by decide), gst_f M a b c' (k := 2) (by decide) (by decide) (by decide), gst_f M a b c' (k := 3) (by decide) (by decide) (by decide), gst_f M a b c' (k := 4) (by decide) (by decide) (by decide), gst_f M a b c' (k := 5) (by decide) (by decide) (by decide), gst_f M a b c' (k := 6) (by decide) (by decide) (by decide)]
  exact ⟨v, mI M 0 0, fun Bh ao => by rw [e_state, e, ev], h2, cg0⟩
end K18
