/-! K15: launch and run on CG -/
theorem launch_g (M : MS) (a b c p1 p2 : Int32) : z_launch (gst M a b c) p1 p2 = z_launch M p1 p2 := by
  have e : mI (mI (mI (mI (mI (gst M a b c) 0 0) 12 p1) 13 p2) 11 1) 14 0 = mI (mI (mI (mI (mI M 0 0) 12 p1) 13 p2) 11 1) 14 0 := by
    refine Prod.ext ?_ rfl
    funext i
    unfold gst
    simp only [mI_g]
    by_cases h14 : i = 14
    · simp [h14]
    · by_cases h13 : i = 13
      · simp [h13]
      · by_cases h12 : i = 12
        · simp [h12]
        · simp [h14, h13, h12]
  unfold z_launch
  rw [e]
section K15
variable {nC nS n : Nat} {A A' : AH} {V V' : CW} {E E' : EL} {ad ad' : AA} {M M' N : MS} {P : PP} {T Bk b1 b2 n0 n1 n2 u uu c al I x : Nat}
theorem G_launch (cg : CG nC nS A V M x) (hS : 20000 ≤ nS) (hC : 2 ≤ nC) (hn : 10100 < n) (p1 p2 : Int32) : ∃ v M', (∀ Bh ao, fX11_launch n ao p1 p2 (mk Bh ao M) = some (v, mk Bh ao M')) ∧ JG nC nS V x v M' (fX1_launch n x p1 p2 A) := by
  have cg0 := cg.th 0
  rcases cg.own with cj | ⟨a, b, c', cj, hid⟩
  · obtain ⟨v, M', h1, h2⟩ := J_launch cj hS hC hn p1 p2
    exact ⟨v, M', h1, h2.g⟩
  obtain ⟨E, ad, P, T, Bk, b1, b2, n0, n1, n2, c, al, I, cq, hx⟩ := cj
  obtain ⟨b6, b7, b8, b9, b10, e1, e2⟩ := cq.b
  have e1 : M.1 1 = nI (P 6) := e1
  have e2 : M.1 2 = nI (P 7) := e2
  have hu := hid.nu
  have hug : ¬ undP (gst M a b c') := fun z => hu ((und_g M a b c').mp z)
  subst hx
  obtain ⟨m1, m2⟩ := cq.1.m5
  have g0 : gI A (some (P 1)) 7 0 = some (M.1 1) := cq.1.getF 0 (by decide) rfl (by decide) rfl
  have g1 : gI A (some (P 1)) 7 1 = some (M.1 2) := cq.1.getF 1 (by decide) rfl (by decide) rfl
  have el : ∀ Bh ao, fX11_launch n ao p1 p2 (mk Bh ao M) = some (if (¬ undP M ∧ ¬ p1 < 1 ∧ ¬ 64 < p1 ∧ ¬ p2 < 1 ∧ p2 ≤ M.1 1 * M.1 2) then (1, mk Bh ao (z_launch M p1 p2)) else (0, mk Bh ao (mI M 0 0))) := fun Bh ao => e_launch p1 p2 (by omega)
  by_cases cc : ¬ undP M ∧ ¬ p1 < 1 ∧ ¬ 64 < p1 ∧ ¬ p2 < 1 ∧ p2 ≤ M.1 1 * M.1 2
  · refine ⟨1, z_launch M p1 p2, fun Bh ao => by rw [el, if_pos cc], ?_⟩
    obtain ⟨c1, c2, c3, c4, c5⟩ := cc
    obtain ⟨Bn, d1, d2, d3⟩ := rng1 (N := 64) (by omega) c2 c3
    rw [e1, e2, pk_mul] at c5
    have hb := Nat.mul_le_mul b6 b7
    obtain ⟨Th, t1, t2, t3⟩ := rng1 (N := P 6 * P 7) (by omega) c4 (Int32.not_lt.mpr c5)
    unfold JG fX1_launch
    refine Res.b m1 (Res.b m2 (Res.b (e7_isOn cq.1) ?_))
    rw [b2i_f hug, jn_eq, if_pos ⟨⟨⟨rfl, c2⟩, c3⟩, c4⟩]
    refine Res.b g0 (Res.b g1 ?_)
    rw [e1, e2, pk_mul, if_pos c5, d3, t3]
    refine Res.w (cq.launch hS hC d1 d2 t1 t2 hn) ?_
    rintro A' ⟨V', E', ad', W, cq', hf⟩
    rw [launch_g] at cq'
    exact Res.r ⟨rfl, V', CJ.cg ⟨E', ad', Pw P W, 0, Bk, b1, b2, n0, n1, n2, 0, al, I, cq', rfl⟩, hf⟩
  · refine ⟨0, mI M 0 0, fun Bh ao => by rw [el, if_neg cc], ?_⟩
    unfold JG fX1_launch
    refine Res.b m1 (Res.b m2 (Res.b (e7_isOn cq.1) ?_))
    rw [jn_eq, b2i_f hug]
    have out : Res (some ((nb (0 : Int32)), A)) (fun g => g.1 = 0 ∧ ∃ V', CG nC nS g.2 V' (mI M 0 0) (P 0) ∧ fr V' = fr V) := Res.r ⟨rfl, V, cg0, rfl⟩
    by_cases c1 : ((((0 : Int32) = 0) ∧ (¬ (p1 < (1 : Int32)))) ∧ (¬ ((64 : Int32) < p1))) ∧ (¬ (p2 < (1 : Int32)))
    · rw [if_pos c1]
      refine Res.b g0 (Res.b g1 ?_)
      rw [if_neg (fun z => cc ⟨hu, c1.1.1.2, c1.1.2, c1.2, z⟩)]
      exact out
    · rw [if_neg c1]
      exact out
end K15
