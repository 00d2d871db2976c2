/-! K16: run on CG -/
section K16
variable {nC nS n : Nat} {A A' : AH} {V V' : CW} {E E' : EL} {ad ad' : AA} {M M' N : MS} {P : PP} {T Bk b1 b2 n0 n1 n2 u uu c al I x : Nat}
theorem run_idle (hu : ¬ undP M) (q : Nat) : z_run M q = mI M 0 0 := by
  unfold z_run
  have h0 : ¬ (undP (iter runS 0 0 (mI M 0 0)) ∧ ¬ 20000 ≤ (iter runS 0 0 (mI M 0 0)).1 22) := fun z => hu (by
    have := z.1
    rw [iter_0] at this
    unfold undP at this ⊢
    rw [mI_g, if_neg (by decide)] at this
    exact this)
  have := run_id (k := 0) h0 q
  rw [Nat.zero_add] at this
  rw [this, iter_0]
theorem G_run (cg : CG nC nS A V M x) (hS : 20000 ≤ nS) (hC : 2 ≤ nC) (hn : 32768 ≤ n) {p : Int32} (hp : ¬ (p < 1 ∨ ¬ p ≤ 500)) (h22 : ¬ M.1 22 = 20000) : ∃ v M', (∀ Bh ao, fX11_run n ao p (mk Bh ao M) = some (v, mk Bh ao M')) ∧ M'.1 0 = 0 ∧ JG nC nS V x v M' (fX1_run n x p A) := by
  rcases cg.own with cj | ⟨a, b, c', cj, hid⟩
  · obtain ⟨v, M', h1, h2, h3⟩ := J_run cj hS hC hn hp h22
    exact ⟨v, M', h1, h2, h3.g⟩
  have hu := hid.nu
  have hug : ¬ undP (gst M a b c') := fun z => hu ((und_g M a b c').mp z)
  obtain ⟨E, ad, P, T, Bk, b1, b2, n0, n1, n2, c, al, I, cq, hx⟩ := cj
  subst hx
  obtain ⟨q, q1, q2, q3⟩ := rng1 (x := p) (N := 500) (by omega) (fun z => hp (Or.inl z)) (fun z => hp (Or.inr (fun y => absurd z (Int32.not_lt.mpr y))))
  subst q3
  have hal := cq.2.2.2.2.2.2.1
  have hal1 : M.1 22 = nI al := hal.1
  have hlt : M.1 22 < 20000 := by
    rw [hal1] at h22 ⊢
    have : al ≠ 20000 := fun z => h22 (by rw [z]; rfl)
    exact nI_lt (a := al) (b := 20000) (by omega) (by omega)
  have er := run_idle hu q
  have erg := run_idle hug q
  refine ⟨(z_run M q).1 11, z_run M q, fun Bh ao => e_run q q1 q2 hlt (by omega) (fun k hk hz => ?_), by rw [er, mI_g, if_pos rfl], ?_⟩
  · exfalso
    have := run_idle hu k
    unfold z_run at this
    rw [this] at hz
    refine hu ?_
    have hz := hz.1
    unfold undP at hz ⊢
    rw [mI_g, if_neg (by decide)] at hz
    exact hz
  · refine Res.m (e1_run cq hS hC q1 q2 h22 (by omega)) ?_
    rintro g ⟨e1, V', E', ad', T', m0, m1, m2, c'', al', cq', hf⟩
    rw [erg] at e1 cq'
    rw [gst_mI _ _ _ _ _ (by decide) (by decide) (by decide)] at cq'
    rw [er]
    refine ⟨e1, V', ⟨a, b, c', ⟨E', ad', P, T', Bk, b1, b2, m0, m1, m2, c'', al', I, cq', rfl⟩, Or.inl ⟨?_, hid.2⟩⟩, hf⟩
    rw [mI_g, if_neg (by decide)]
    exact hid.1
end K16
