/-! K17: set on CG -/
section K17
variable {nC nS n : Nat} {A A' : AH} {V V' : CW} {E E' : EL} {ad ad' : AA} {M M' N : MS} {P : PP} {T Bk b1 b2 n0 n1 n2 u uu c al I x : Nat}
theorem gst_mA (M : MS) (a b c : Int32) (j k : Nat) (v : Int32) : mA (gst M a b c) j k v = gst (mA M j k v) a b c := rfl
theorem G_set (cg : CG nC nS A V M x) (p1 p2 : Int32) : ∃ v M', (∀ Bh ao, fX11_set ao p1 p2 (mk Bh ao M) = some (v, mk Bh ao M')) ∧ JG nC nS V x v M' (fX1_set x p1 p2 A) := by
  have cg0 := cg.th 0
  rcases cg.own with cj | ⟨a, b, c', cj, hid⟩
  · obtain ⟨v, M', h1, h2⟩ := J_set cj p1 p2
    exact ⟨v, M', h1, h2.g⟩
  have hu := hid.nu
  have hug : ¬ undP (gst M a b c') := fun z => hu ((und_g M a b c').mp z)
  obtain ⟨E, ad, P, T, Bk, b1, b2, n0, n1, n2, c, al, I, cq, hx⟩ := cj
  subst hx
  obtain ⟨m1, m2⟩ := cq.1.m5
  obtain ⟨s3, s4, s5, s6, ⟨q6, q7, q8, q9⟩, ⟨qb1, qb2⟩, qi1, qi2⟩ := cq.2.2.2.1
  have g3 := cq.1.getF 3 (by decide) rfl (by decide) rfl
  have e03 : nmF (700 + 3) = 6 := rfl
  rw [e03, s6] at g3
  have s6 : M.1 6 = nI I := s6
  have hk : ∃ k, ¬ (p1 < 0 ∨ M.1 6 ≤ p1) → p1 = nI k ∧ k < I := by
    by_cases z : ¬ (p1 < 0 ∨ M.1 6 ≤ p1)
    · rw [s6] at z
      rcases pk_ix p1 (n := I) (by omega) with e | e | ⟨j, hj, e⟩
      · exact absurd (Or.inl e) z
      · exact absurd (Or.inr e) z
      · exact ⟨j, fun _ => ⟨e, hj⟩⟩
    · exact ⟨0, fun y => absurd y z⟩
  obtain ⟨k, hk⟩ := hk
  have em : ∀ Bh ao, fX11_set ao p1 p2 (mk Bh ao M) = some (if (¬ (p1 < 0 ∨ M.1 6 ≤ p1) ∧ ¬ undP M) then (1, mk Bh ao (mA (mI M 0 0) 2 k p2)) else (0, mk Bh ao (mI M 0 0))) := fun Bh ao => e_set p1 p2 k (fun z => ⟨(hk z).1, by have := (hk z).2; omega⟩)
  have out : Res (some ((nb (0 : Int32)), A)) (fun g => g.1 = 0 ∧ ∃ V', CG nC nS g.2 V' (mI M 0 0) (P 0) ∧ fr V' = fr V) := Res.r ⟨rfl, V, cg0, rfl⟩
  unfold JG fX1_set
  rw [jn_eq]
  by_cases cc : ¬ (p1 < 0 ∨ M.1 6 ≤ p1)
  · refine ⟨1, mA (mI M 0 0) 2 k p2, fun Bh ao => by rw [em, if_pos ⟨cc, hu⟩], ?_⟩
    obtain ⟨k1, k2⟩ := hk cc
    rw [if_neg (fun z => cc (Or.inl z))]
    refine Res.b m1 (Res.b g3 ?_)
    rw [if_neg (fun z => cc (Or.inr (by rw [s6]; exact z)))]
    refine Res.b m2 (Res.b (e7_isOn cq.1) ?_)
    rw [b2i_f hug, if_pos rfl]
    have g := cq.1
    have hs := g.2.1.1.2.2.2
    have hP0 := hs.kk hs.2.2.1.1.1
    obtain ⟨y, y1, y2, y3⟩ := g.2.1.1.2.2.1.1 (P 0) 1 1 hP0 (by decide)
    have y3 : xn V 101 (P 0) = 4096 := y3
    obtain ⟨A1, e1, s1⟩ := g.1.si k p2 (c := 1) (k := 1) hP0 rfl y1 y2 (by show k < xn V 101 (P 0); omega) (by omega)
    have s1 : St _ _ A1 (vI' V 151 (P 0) k p2) := s1
    refine Res.b ((g.1.gr 1 (c := 1) hP0 (by decide) rfl).trans (congrArg some y1)) ?_
    rw [k1]
    have cq0 := cq.th 0
    have hc1 : CX (vI' V 151 (P 0) k p2) ad (mA (mI (gst M a b c') 0 0) 2 k p2) := cq0.1.2.1.1.1.setA (d := 151) (k := 0) (i := k) hs.1 p2 (by decide) (by show k < 4096; omega) hs.2.2.1.1.1
    have f2 : frm [] [2] (mI (gst M a b c') 0 0) (mA (mI (gst M a b c') 0 0) 2 k p2) := frm.rf.mA (by decide)
    have g' := cq0.1.iv s1 (IV.vI (Or.inl (by decide))) hc1 (fmH.frm f2 (by decide) (by decide))
    obtain ⟨_, hm, hl, sm, zq, hla, h22, hT⟩ := cq0
    have cqn : CQ nC nS A1 (vI' V 151 (P 0) k p2) E ad (mA (mI (gst M a b c') 0 0) 2 k p2) P T Bk b1 b2 n0 n1 n2 c al I := by
      refine ⟨g', hm.fr f2 (by decide) (by decide), hl.fr f2 (by decide), sm.fr f2 (by decide), ⟨fun p k' hp hp2 hk' => zq.1 p k' hp hp2 hk', fun k' hk' => ?_⟩, fun hu' => absurd hu' ?_, h22, hT⟩
      · rw [mA_a, if_pos rfl, pk_un (by omega)]
        exact zq.2 k' hk'
      · exact hug
    rw [gst_mI _ _ _ _ _ (by decide) (by decide) (by decide), gst_mA] at cqn
    refine Res.b e1 (Res.r ⟨rfl, vI' V 151 (P 0) k p2, ⟨a, b, c', ⟨E, ad, P, T, Bk, b1, b2, n0, n1, n2, c, al, I, cqn, rfl⟩, Or.inl ⟨?_, fun s hs' => hid.2 s hs'⟩⟩, rfl⟩)
    exact hid.1
  · refine ⟨0, mI M 0 0, fun Bh ao => by rw [em, if_neg (fun z => cc z.1)], ?_⟩
    by_cases c1 : p1 < 0
    · rw [if_pos c1]
      exact out
    · rw [if_neg c1]
      refine Res.b m1 (Res.b g3 ?_)
      have c2 : nI I ≤ p1 := by
        rw [← s6]
        exact Classical.byContradiction (fun y => cc (fun z => z.elim c1 y))
      rw [if_pos c2]
      exact out
end K17
