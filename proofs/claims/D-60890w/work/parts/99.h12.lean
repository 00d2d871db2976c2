/-! H12: calls that read: state, unit, cached -/
section H12
variable {nC nS n : Nat} {A A' : AH} {V V' : CW} {E E' : EL} {ad ad' : AA} {M M' N : MS} {P : PP} {T Bk b1 b2 n0 n1 n2 u uu c al I x : Nat}
/-- lists of units and gates, at hand -/
theorem CQ.ul (cq : CQ nC nS A V E ad M P T Bk b1 b2 n0 n1 n2 c al I) : ∃ ul cap, gR A (some (P 1)) 7 8 = some (some ul) ∧ rcv A (some ul) 0 = some ul ∧ LI V ul 8 (lt V E 7 8 (P 1)) cap ∧ fJ2_size ul A = some (nI (P 8)) ∧ ∀ u, u < P 8 → ∃ uu, ad 8 u = some uu ∧ fJ2_get ul (nI u) A = some (some uu) ∧ cst A (some uu) 8 = some () ∧ kdV V uu = 9 := by
  have g := cq.1
  have cp := g.2.1.1
  have hs := cp.2.2.2
  obtain ⟨ul, hxu, liu, _⟩ := cp.2.2.1.li2 cp.2.1 (c := 7) (k := 8) (e := 8) hs.mm.2 rfl
  refine ⟨ul, _, (g.1.gr 8 (c := 7) hs.mm.2 (by decide) rfl).trans (congrArg some hxu), g.1.rc liu.1, liu, (L_size g.1 liu).trans (congrArg (fun z => some (nI z)) hs.2.2.2.1.1), fun u hu => ?_⟩
  obtain ⟨a, ha⟩ := lt_ge (l := lt V E 7 8 (P 1)) (i := u) (by rw [hs.2.2.2.1.1]; exact hu)
  have h8 : ad 8 u = some a := by rw [← hs.2.2.2.1.2.1 u]; exact ha
  exact ⟨a, h8, L_get g.1 liu ha, g.1.cs (hs.kk h8), hs.kk h8⟩
theorem CQ.gl (cq : CQ nC nS A V E ad M P T Bk b1 b2 n0 n1 n2 c al I) : gR A (some (P 1)) 7 9 = some (some (P 5)) ∧ ∃ gl cap, gR A (some (P 5)) 9 0 = some (some gl) ∧ rcv A (some gl) 0 = some gl ∧ LI V gl 10 (lt V E 9 0 (P 5)) cap ∧ fJ2_size gl A = some (nI (P 9)) ∧ ∀ u, u < P 9 → ∃ uu, ad 10 u = some uu ∧ fJ2_get gl (nI u) A = some (some uu) ∧ cst A (some uu) 10 = some () ∧ kdV V uu = 11 := by
  have g := cq.1
  have cp := g.2.1.1
  have hs := cp.2.2.2
  have k9 := hs.kk hs.2.2.1.1.2.2.2.2.2
  obtain ⟨gl, hx, li, _⟩ := cp.2.2.1.li2 cp.2.1 (c := 9) (k := 0) (e := 10) k9 rfl
  refine ⟨(g.1.gr 9 (c := 7) hs.mm.2 (by decide) rfl).trans (congrArg some hs.2.2.1.2.2.2.2.2.2.2.2.2.1), gl, _, (g.1.gr 0 (c := 9) k9 (by decide) rfl).trans (congrArg some hx), g.1.rc li.1, li, (L_size g.1 li).trans (congrArg (fun z => some (nI z)) hs.2.2.2.1.2.2.2.1), fun u hu => ?_⟩
  obtain ⟨a, ha⟩ := lt_ge (l := lt V E 9 0 (P 5)) (i := u) (by rw [hs.2.2.2.1.2.2.2.1]; exact hu)
  have h8 : ad 10 u = some a := by rw [← hs.2.2.2.1.2.2.2.2 u]; exact ha
  exact ⟨a, h8, L_get g.1 li ha, g.1.cs (hs.kk h8), hs.kk h8⟩
theorem CQ.hl (cq : CQ nC nS A V E ad M P T Bk b1 b2 n0 n1 n2 c al I) : gR A (some (P 1)) 7 7 = some (some (P 3)) ∧ ∃ hl, gR A (some (P 3)) 3 0 = some (some hl) ∧ rcv A (some hl) 0 = some hl ∧ fJ2_size hl A = some (M.1 41) := by
  have g := cq.1
  have cp := g.2.1.1
  have hs := cp.2.2.2
  have k3 := hs.kk hs.2.2.1.1.2.2.2.1
  obtain ⟨hl, hx, li, _⟩ := cp.2.2.1.li2 cp.2.1 (c := 3) (k := 0) (e := 15) k3 rfl
  obtain ⟨p, p1, p2, _⟩ := g.2.1.2.1.1
  exact ⟨(g.1.gr 7 (c := 7) hs.mm.2 (by decide) rfl).trans (congrArg some hs.2.2.1.2.2.2.2.2.2.2.2.1), hl, (g.1.gr 0 (c := 3) k3 (by decide) rfl).trans (congrArg some hx), g.1.rc li.1, (L_size g.1 li).trans (by rw [p2, p1])⟩
theorem e1_state (cq : CQ nC nS A V E ad M P T Bk b1 b2 n0 n1 n2 c al I) (p : Int32) : fX1_state (P 0) p A = some (stV M p) := by
  obtain ⟨m1, m2⟩ := cq.1.m5
  obtain ⟨s3, s4, s5, s6, _⟩ := cq.2.2.2.1
  obtain ⟨ul, cap, u1, u2, _, u4, _⟩ := cq.ul
  obtain ⟨c9, gl, cap', g1, g2, _, g4, _⟩ := cq.gl
  obtain ⟨h7, hl, h1, h2, h3⟩ := cq.hl
  have g := cq.1
  have cp := g.2.1.1
  have hs := cp.2.2.2
  have k9 := hs.2.2.1.1.2.2.2.2.2
  have ca : ∀ k, k = 1 ∨ k = 2 → gI A (some (P 5)) 9 k = some (M.1 (18 + k)) := fun k hk => by
    rcases hk with e | e <;> subst e
    · exact (g.1.gi 1 (c := 9) (hs.kk k9) (by decide) rfl).trans (congrArg some (cp.1 901 0 0 (P 5) (Or.inr (Or.inl (by decide))) (by decide) k9))
    · exact (g.1.gi 2 (c := 9) (hs.kk k9) (by decide) rfl).trans (congrArg some (cp.1 902 0 0 (P 5) (Or.inr (Or.inl (by decide))) (by decide) k9))
  unfold fX1_state stV
  by_cases h100 : p = 0
  · rw [if_pos h100, if_pos h100]
    exact ob m1 (ob (g.getF 12 (by decide) rfl (by decide) rfl) rfl)
  rw [if_neg h100, if_neg h100]
  by_cases h101 : p = 1
  · rw [if_pos h101, if_pos h101]
    exact ob m1 (ob (g.getF 17 (by decide) rfl (by decide) rfl) rfl)
  rw [if_neg h101, if_neg h101]
  by_cases h102 : p = 2
  · rw [if_pos h102, if_pos h102]
    exact ob m1 (ob (g.getF 18 (by decide) rfl (by decide) rfl) rfl)
  rw [if_neg h102, if_neg h102]
  by_cases h103 : p = 3
  · rw [if_pos h103, if_pos h103]
    exact ob m1 (ob (g.getF 19 (by decide) rfl (by decide) rfl) rfl)
  rw [if_neg h103, if_neg h103]
  by_cases h104 : p = 4
  · rw [if_pos h104, if_pos h104]
    exact ob m1 (ob c9 (ob (ca 1 (Or.inl rfl)) rfl))
  rw [if_neg h104, if_neg h104]
  by_cases h105 : p = 5
  · rw [if_pos h105, if_pos h105]
    exact ob m1 (ob c9 (ob (ca 2 (Or.inr rfl)) rfl))
  rw [if_neg h105, if_neg h105]
  by_cases h106 : p = 6
  · rw [if_pos h106, if_pos h106]
    exact ob m1 (ob (g.getF 16 (by decide) rfl (by decide) rfl) rfl)
  rw [if_neg h106, if_neg h106]
  by_cases h107 : p = 7
  · rw [if_pos h107, if_pos h107]
    exact ob m1 (ob (g.getF 21 (by decide) rfl (by decide) rfl) rfl)
  rw [if_neg h107, if_neg h107]
  by_cases h108 : p = 8
  · rw [if_pos h108, if_pos h108]
    exact ob m1 (ob (g.getF 22 (by decide) rfl (by decide) rfl) rfl)
  rw [if_neg h108, if_neg h108]
  by_cases h109 : p = 9
  · rw [if_pos h109, if_pos h109]
    exact ob m1 (ob (g.getF 23 (by decide) rfl (by decide) rfl) rfl)
  rw [if_neg h109, if_neg h109]
  by_cases h110 : p = 10
  · rw [if_pos h110, if_pos h110]
    exact ob m1 (ob (g.getF 24 (by decide) rfl (by decide) rfl) rfl)
  rw [if_neg h110, if_neg h110]
  by_cases h111 : p = 11
  · rw [if_pos h111, if_pos h111]
    exact ob m1 (ob (g.getF 25 (by decide) rfl (by decide) rfl) rfl)
  rw [if_neg h111, if_neg h111]
  by_cases h112 : p = 12
  · rw [if_pos h112, if_pos h112]
    exact ob m1 (ob (g.getF 20 (by decide) rfl (by decide) rfl) rfl)
  rw [if_neg h112, if_neg h112]
  by_cases h113 : p = 13
  · rw [if_pos h113, if_pos h113]
    exact ob m1 (ob (g.getF 0 (by decide) rfl (by decide) rfl) rfl)
  rw [if_neg h113, if_neg h113]
  by_cases h114 : p = 14
  · rw [if_pos h114, if_pos h114]
    exact ob m1 (ob (g.getF 1 (by decide) rfl (by decide) rfl) rfl)
  rw [if_neg h114, if_neg h114]
  by_cases h115 : p = 15
  · rw [if_pos h115, if_pos h115]
    exact ob m1 (ob u1 (ob u2 (ob u4 (by rw [s3]))))
  rw [if_neg h115, if_neg h115]
  by_cases h116 : p = 16
  · rw [if_pos h116, if_pos h116]
    exact ob m1 (ob (g.getF 2 (by decide) rfl (by decide) rfl) rfl)
  rw [if_neg h116, if_neg h116]
  by_cases h117 : p = 17
  · rw [if_pos h117, if_pos h117]
    exact ob m1 (ob c9 (ob g1 (ob g2 (ob g4 (by rw [s5])))))
  rw [if_neg h117, if_neg h117]
  by_cases h118 : p = 18
  · rw [if_pos h118, if_pos h118]
    exact ob m1 (ob (g.getF 3 (by decide) rfl (by decide) rfl) rfl)
  rw [if_neg h118, if_neg h118]
  by_cases h119 : p = 19
  · rw [if_pos h119, if_pos h119]
    exact ob m1 (ob h7 (ob h1 (ob h2 (ob h3 rfl))))
  rw [if_neg h119, if_neg h119]
theorem e1_isUnit (cq : CQ nC nS A V E ad M P T Bk b1 b2 n0 n1 n2 c al I) (p : Int32) : fX1_isUnit (P 0) p A = some (b2i (¬ (p < 0 ∨ nI (P 8) ≤ p))) := by
  obtain ⟨m1, m2⟩ := cq.1.m5
  obtain ⟨ul, cap, u1, u2, _, u4, _⟩ := cq.ul
  unfold fX1_isUnit
  rw [jn_eq, jn_eq]
  by_cases h0 : p < 0
  · rw [if_pos h0, b2i_f (fun z => z (Or.inl h0))]
    rfl
  · rw [if_neg h0]
    refine ob m1 (ob u1 (ob u2 (ob u4 ?_)))
    by_cases h1 : nI (P 8) ≤ p
    · rw [if_pos h1, b2i_f (fun z => z (Or.inr h1))]
      rfl
    · have hh : ¬ (p < 0 ∨ nI (P 8) ≤ p) := fun z => z.elim h0 h1
      rw [if_neg h1, b2i_t hh]
      rfl
theorem J_state (cj : CJ nC nS A V M x) (p : Int32) : ∃ v M', (∀ Bh ao, fX11_state ao p (mk Bh ao M) = some (v, mk Bh ao M')) ∧ fX1_state x p A = some v ∧ CJ nC nS A V M' x := by
  have cj0 := cj.th 0
  obtain ⟨E, ad, P, T, Bk, b1, b2, n0, n1, n2, c, al, I, cq, hx⟩ := cj
  subst hx
  exact ⟨stV M p, mI M 0 0, fun Bh ao => e_state p, e1_state cq p, cj0⟩
theorem J_unit (cj : CJ nC nS A V M x) (p q : Int32) : ∃ v M', (∀ Bh ao, fX11_unit ao p q (mk Bh ao M) = some (v, mk Bh ao M')) ∧ fX1_unit x p q A = some v ∧ CJ nC nS A V M' x := by
  have cj0 := cj.th 0
  obtain ⟨E, ad, P, T, Bk, b1, b2, n0, n1, n2, c, al, I, cq, hx⟩ := cj
  subst hx
  obtain ⟨m1, m2⟩ := cq.1.m5
  obtain ⟨b6, b7, b8, b9, b10, e1, e2⟩ := cq.b
  obtain ⟨s3, s4, s5, s6, _⟩ := cq.2.2.2.1
  obtain ⟨ul, cap, u1, u2, _, u4, u5⟩ := cq.ul
  have g := cq.1
  have cp := g.2.1.1
  have hs := cp.2.2.2
  have rc1 : rcv A (some (P 0)) 1 = some (P 0) := g.1.rc (hs.kk hs.2.2.1.1.1)
  unfold fX1_unit
  by_cases cc : p < 0 ∨ nI (P 8) ≤ p
  · refine ⟨-1, mI M 0 0, fun Bh ao => e_unitN p q (cc.imp_right (fun z => by rw [s3]; exact Int32.not_lt.mpr z)), ?_, cj0⟩
    refine ob rc1 (ob (e1_isUnit cq p) ?_)
    rw [b2i_f (fun z => z cc), if_pos rfl]
  · obtain ⟨u, hu, eu⟩ : ∃ u, u < P 8 ∧ p = nI u := by
      rcases pk_ix p (n := P 8) (by omega) with e | e | ⟨j, hj, e⟩
      · exact absurd (Or.inl e) cc
      · exact absurd (Or.inr e) cc
      · exact ⟨j, hj, e⟩
    subst eu
    obtain ⟨uu, hu8, ug, uc, uk⟩ := u5 u hu
    refine ⟨unV M u q, mI M 0 0, fun Bh ao => e_unitY u q (by omega) (fun z => cc (z.imp_right (fun y => by rw [s3] at y; exact Int32.not_lt.mp y))), ?_, cj0⟩
    refine ob rc1 (ob (e1_isUnit cq _) ?_)
    rw [b2i_t cc, if_neg (show ¬ ((1 : Int32) = 0) by decide)]
    refine ob m1 (ob u1 (ob u2 (ob ug (ob uc ?_))))
    have uo := hs.uo cp.1 hu8
    have fu : ∀ k, k = 1 ∨ k = 2 ∨ k = 3 ∨ k = 4 → gI A (some uu) 8 k = some (xi V (800 + k) uu 0) := fun k hk => by
      rcases hk with e | e | e | e <;> subst e
      · exact g.1.gi 1 (c := 8) uk (by decide) rfl
      · exact g.1.gi 2 (c := 8) uk (by decide) rfl
      · exact g.1.gi 3 (c := 8) uk (by decide) rfl
      · exact g.1.gi 4 (c := 8) uk (by decide) rfl
    unfold unV
    by_cases h0 : q = 0
    · rw [if_pos h0, if_pos h0]
      exact ob (fu 2 (by omega)) (congrArg some uo.2.2.2.1)
    · rw [if_neg h0, if_neg h0]
      by_cases h1 : q = 1
      · rw [if_pos h1, if_pos h1]
        exact ob (fu 3 (by omega)) (congrArg some uo.2.2.2.2.1)
      · rw [if_neg h1, if_neg h1]
        by_cases h2 : q = 2
        · rw [if_pos h2, if_pos h2]
          exact ob (fu 1 (by omega)) (congrArg some uo.2.2.1)
        · rw [if_neg h2, if_neg h2]
          by_cases h3 : q = 3
          · rw [if_pos h3, if_pos h3]
            exact ob (fu 4 (by omega)) (congrArg some uo.2.2.2.2.2)
          · rw [if_neg h3, if_neg h3]
theorem J_cached (cj : CJ nC nS A V M x) (p q : Int32) : ∃ v M', (∀ Bh ao, fX11_cached ao p q (mk Bh ao M) = some (v, mk Bh ao M')) ∧ fX1_cached x p q A = some v ∧ CJ nC nS A V M' x := by
  have cj0 := cj.th 0
  obtain ⟨E, ad, P, T, Bk, b1, b2, n0, n1, n2, c, al, I, cq, hx⟩ := cj
  subst hx
  obtain ⟨m1, m2⟩ := cq.1.m5
  obtain ⟨b6, b7, b8, b9, b10, e1, e2⟩ := cq.b
  obtain ⟨s3, s4, s5, s6, _⟩ := cq.2.2.2.1
  obtain ⟨c9, gl, cap, u1, u2, _, u4, u5⟩ := cq.gl
  have g := cq.1
  have cp := g.2.1.1
  have hs := cp.2.2.2
  unfold fX1_cached
  rw [jn_eq]
  by_cases cc : ((p < 0 ∨ nI (P 9) ≤ p) ∨ q < 0) ∨ ¬ q ≤ 4
  · refine ⟨-1, mI M 0 0, fun Bh ao => e_cachedN p q (by rw [s5]; exact cc), ?_, cj0⟩
    by_cases h0 : p < 0
    · rw [if_pos h0]
    · rw [if_neg h0]
      refine ob m1 (ob c9 (ob u1 (ob u2 (ob u4 ?_))))
      rw [if_pos]
      rcases cc with (((z | z) | z) | z)
      · exact absurd z h0
      · exact Or.inl (Or.inl z)
      · exact Or.inl (Or.inr z)
      · exact Or.inr z
  · have n1' : ¬ p < 0 := fun z => cc (Or.inl (Or.inl (Or.inl z)))
    have n2' : ¬ nI (P 9) ≤ p := fun z => cc (Or.inl (Or.inl (Or.inr z)))
    have n3' : ¬ q < 0 := fun z => cc (Or.inl (Or.inr z))
    have n4' : q ≤ 4 := Classical.byContradiction fun z => cc (Or.inr z)
    obtain ⟨u, hu, eu⟩ : ∃ u, u < P 9 ∧ p = nI u := by
      rcases pk_ix p (n := P 9) (by omega) with e | e | ⟨j, hj, e⟩
      · exact absurd e n1'
      · exact absurd e n2'
      · exact ⟨j, hj, e⟩
    obtain ⟨w, hw, ew⟩ : ∃ w, w ≤ 4 ∧ q = nI w := nI_of2 (M := 4) (n := 4) (by decide) n3' n4'
    subst eu ew
    obtain ⟨ga, hg10, gg, gc, gk⟩ := u5 u hu
    refine ⟨if w = 4 then M.2.1 4 u else M.2.1 3 (4 * u + w), mI M 0 0, fun Bh ao => e_cachedY u w (by omega) hw (by rw [s5]; exact cc), ?_, cj0⟩
    rw [if_neg n1']
    refine ob m1 (ob c9 (ob u1 (ob u2 (ob u4 ?_))))
    rw [if_neg (fun z => cc (z.elim (fun z => z.elim (fun z => Or.inl (Or.inl (Or.inr z))) (fun z => Or.inl (Or.inr z))) Or.inr))]
    refine ob gg (ob gc ?_)
    rw [jn_eq]
    by_cases h4 : w = 4
    · rw [if_pos h4, if_pos (by rw [h4]; rfl)]
      exact ob ((g.1.gi 1 (c := 10) gk (by decide) rfl).trans (congrArg some (cp.1 1001 u 0 ga (Or.inl (by decide)) (by decide) hg10))) rfl
    · have hq4 : ¬ nI w = 4 := fun z => h4 ((nI_eq (a := w) (b := 4) (by omega) (by omega)).mp z)
      rw [if_neg h4, if_neg hq4]
      obtain ⟨y, y1, y2, y3⟩ := cp.2.2.1.1 ga 10 0 gk (by decide)
      have y3 : xn V 1000 ga = 4 := y3
      refine ob ((g.1.gr 0 (c := 10) gk (by decide) rfl).trans (congrArg some y1)) (ob ((g.1.ai w (c := 10) (k := 0) gk rfl y1 y2 (by show w < xn V 1000 ga; omega) (by omega)).trans (congrArg some (cp.1 1050 u w ga (Or.inl (by decide)) (by show w < 4; omega) hg10))) rfl)
end H12
