/-! H11: calls that change: launch, stop, set, run -/
/-- the mill x and the model's memory M, between calls -/
def CJ (nC nS : Nat) (A : AH) (V : CW) (M : MS) (x : Nat) : Prop := ∃ E ad P T Bk b1 b2 n0 n1 n2 c al I, CQ nC nS A V E ad M P T Bk b1 b2 n0 n1 n2 c al I ∧ P 0 = x
/-- both answer v and go on alike -/
def JW (nC nS : Nat) (V : CW) (x : Nat) (v : Int32) (M' : MS) (o : Option (Int32 × AH)) : Prop := Res o (fun g => g.1 = v ∧ ∃ V', CJ nC nS g.2 V' M' x ∧ fr V' = fr V)
theorem rng1 {x : Int32} {N : Nat} (hN : N < 2 ^ 31) (h1 : ¬ x < 1) (h2 : ¬ nI N < x) : ∃ j, 1 ≤ j ∧ j ≤ N ∧ x = nI j := by
  have h0 : ¬ x < 0 := fun z => h1 (Int32.lt_trans z (by decide))
  obtain ⟨j, hj, e⟩ := nI_of h0
  subst e
  refine ⟨j, ?_, ?_, rfl⟩
  · by_cases z : 1 ≤ j
    · exact z
    · exact absurd (nI_lt (a := j) (b := 1) (by omega) (by omega)) h1
  · by_cases z : j ≤ N
    · exact z
    · exact absurd (nI_lt (a := N) (b := j) (by omega) hj) h2
section H11
variable {nC nS n : Nat} {A A' : AH} {V V' : CW} {E E' : EL} {ad ad' : AA} {M M' N : MS} {P : PP} {T Bk b1 b2 n0 n1 n2 u uu c al I x : Nat}
theorem CJ.th (cj : CJ nC nS A V M x) (v : Int32) : CJ nC nS A V (mI M 0 v) x := by
  obtain ⟨E, ad, P, T, Bk, b1, b2, n0, n1, n2, c, al, I, cq, hx⟩ := cj
  exact ⟨E, ad, P, T, Bk, b1, b2, n0, n1, n2, c, al, I, cq.th v, hx⟩
theorem J_launch (cj : CJ nC nS A V M x) (hS : 20000 ≤ nS) (hC : 2 ≤ nC) (hn : 10100 < n) (p1 p2 : Int32) : ∃ v M', (∀ Bh ao, fX11_launch n ao p1 p2 (mk Bh ao M) = some (v, mk Bh ao M')) ∧ JW nC nS V x v M' (fX1_launch n x p1 p2 A) := by
  have cj0 := cj.th 0
  obtain ⟨E, ad, P, T, Bk, b1, b2, n0, n1, n2, c, al, I, cq, hx⟩ := cj
  obtain ⟨b6, b7, b8, b9, b10, e1, e2⟩ := cq.b
  subst hx
  obtain ⟨m1, m2⟩ := cq.1.m5
  have e00 : nmF (700 + 0) = 1 := rfl
  have e01 : nmF (700 + 1) = 2 := rfl
  have g0 := cq.1.getF 0 (by decide) rfl (by decide) rfl
  have g1 := cq.1.getF 1 (by decide) rfl (by decide) rfl
  rw [e00] at g0
  rw [e01] at g1
  have el : ∀ Bh ao, fX11_launch n ao p1 p2 (mk Bh ao M) = some (if (¬ undP M ∧ ¬ p1 < 1 ∧ ¬ 64 < p1 ∧ ¬ p2 < 1 ∧ p2 ≤ M.1 1 * M.1 2) then (1, mk Bh ao (z_launch M p1 p2)) else (0, mk Bh ao (mI M 0 0))) := fun Bh ao => e_launch p1 p2 (by omega)
  by_cases cc : ¬ undP M ∧ ¬ p1 < 1 ∧ ¬ 64 < p1 ∧ ¬ p2 < 1 ∧ p2 ≤ M.1 1 * M.1 2
  · refine ⟨1, z_launch M p1 p2, fun Bh ao => by rw [el, if_pos cc], ?_⟩
    obtain ⟨c1, c2, c3, c4, c5⟩ := cc
    obtain ⟨Bn, d1, d2, d3⟩ := rng1 (N := 64) (by omega) c2 c3
    rw [e1, e2, pk_mul] at c5
    have hb := Nat.mul_le_mul b6 b7
    obtain ⟨Th, t1, t2, t3⟩ := rng1 (N := P 6 * P 7) (by omega) c4 (Int32.not_lt.mpr c5)
    unfold JW fX1_launch
    refine Res.b m1 (Res.b m2 (Res.b (e7_isOn cq.1) ?_))
    rw [b2i_f c1, jn_eq, if_pos ⟨⟨⟨rfl, c2⟩, c3⟩, c4⟩]
    refine Res.b g0 (Res.b g1 ?_)
    rw [e1, e2, pk_mul, if_pos c5, d3, t3]
    refine Res.w (cq.launch hS hC d1 d2 t1 t2 hn) ?_
    rintro A' ⟨V', E', ad', W, cq', hf⟩
    exact Res.r ⟨rfl, V', ⟨E', ad', Pw P W, 0, Bk, b1, b2, n0, n1, n2, 0, al, I, cq', rfl⟩, hf⟩
  · refine ⟨0, mI M 0 0, fun Bh ao => by rw [el, if_neg cc], ?_⟩
    unfold JW fX1_launch
    refine Res.b m1 (Res.b m2 (Res.b (e7_isOn cq.1) ?_))
    rw [jn_eq]
    have out : Res (some ((nb (0 : Int32)), A)) (fun g => g.1 = 0 ∧ ∃ V', CJ nC nS g.2 V' (mI M 0 0) (P 0) ∧ fr V' = fr V) := Res.r ⟨rfl, V, cj0, rfl⟩
    by_cases c1 : (((b2i (undP M) = 0) ∧ (¬ (p1 < (1 : Int32)))) ∧ (¬ ((64 : Int32) < p1))) ∧ (¬ (p2 < (1 : Int32)))
    · rw [if_pos c1]
      refine Res.b g0 (Res.b g1 ?_)
      rw [if_neg (fun z => cc ⟨by have := c1.1.1.1; rw [b2i_0] at this; exact this, c1.1.1.2, c1.1.2, c1.2, z⟩)]
      exact out
    · rw [if_neg c1]
      exact out
theorem CQ.stop (cq : CQ nC nS A V E ad M P T Bk b1 b2 n0 n1 n2 c al I) (hS : 20000 ≤ nS) (hC : 2 ≤ nC) (hn : 10100 < n) :
    Res (fX7_stop n (P 1) A) (fun A' => ∃ V' E' ad', CQ nC nS A' V' E' ad' (z_freeAll (mI (mI M 0 0) 11 0)) P 0 Bk b1 b2 n0 n1 n2 c al I ∧ fr V' = fr V) := by
  obtain ⟨b6, b7, b8, b9, b10, e1, e2⟩ := cq.b
  obtain ⟨g, hm, hl, sm, zq, hla, ⟨h22, hc, hal2⟩, hT, hP10⟩ := cq
  unfold fX7_stop
  obtain ⟨A1, V1, e1', g1, f1⟩ := g.pF 12 0 (by decide) rfl (by decide) rfl (by decide)
  have e12 : nmF (700 + 12) = 11 := rfl
  rw [e12] at g1
  refine Res.b e1' (Res.b (g1.1.rc g1.2.1.1.2.2.2.mm.2) (Res.w (e7_free (by omega) hC g1.gy (oneU.co hm.1.2.2.1 rfl) (by omega)) ?_))
  rintro A2 ⟨V2, E2, ad2, N2, g2, had2, hf2, f9, z9, _⟩
  have hs2 := g2.2.1.1.2.2.2
  refine Res.b ((g2.1.gr 7 (c := 7) hs2.mm.2 (by decide) rfl).trans (congrArg some hs2.2.2.1.2.2.2.2.2.2.2.2.1)) (Res.b (g2.1.rc (hs2.kk hs2.2.2.1.1.2.2.2.1)) (Res.w (g2.clr (by omega) (by omega) hn) ?_))
  rintro A3 ⟨V3, E3, g3, l3, x3, hf3⟩
  obtain ⟨c1, c2, c3, c4⟩ := freeAll_P (mI (mI M 0 0) 11 0)
  have fA : ∀ j, j ≠ 9 → (z_freeAll (mI (mI M 0 0) 11 0)).2.1 j = M.2.1 j := fun j hj => by
    rw [c1.2.1 j (by simp only [List.mem_cons, List.not_mem_nil, or_false]; exact hj)]
    rfl
  have fF : ∀ k, k ≠ 0 → k ≠ 11 → k ≠ 41 → k ≠ 42 → (z_freeAll (mI (mI M 0 0) 11 0)).1 k = M.1 k := fun k h0 h1 h2 h3 => by
    rw [c1.1 k (by simp only [List.mem_cons, List.not_mem_nil, or_false]; omega), mI_g, if_neg h1, mI_g, if_neg h0]
  have e11 : (z_freeAll (mI (mI M 0 0) 11 0)).1 11 = 0 := by rw [c1.f 11, mI_g, if_pos rfl]
  have g4 : GY nC nS A3 V3 E3 ad2 (z_freeAll (mI (mI M 0 0) 11 0)) P Bk b1 b2 n0 n1 n2 := by
    refine g3.m9 (fun k hk => ?_) (fun j hj => ?_) (fun s hs => ?_) ?_
    · rw [f9.1 k List.not_mem_nil, mI_g]
      by_cases e : k = 11
      · rw [if_pos e, e, e11]
      · rw [if_neg e]
        simp only [List.mem_cons, List.not_mem_nil, or_false] at hk
        exact fF k (by omega) e (by omega) (by omega)
    · rw [fA j (by omega), f9.2.1 j (by simp only [List.mem_singleton]; omega)]
      rfl
    · rw [c4 s, if_pos hs, z9 s hs]
    · rw [c1.2.2, f9.2.2]
      rfl
  have g5 := g4.gx l3 x3 (fun k => by rw [had2 15 (by decide) (by decide) (by decide)]; exact ad15_15 k) c2
  refine Res.r ⟨V3, E3, ad2, ⟨g5, ⟨⟨⟨?_, hm.1.1.2⟩, fun t => ?_, fun s s' hs hs' he hn' => ?_, fun s hs => Or.inl (by rw [c4 s, if_pos hs]), ?_⟩, 0, by omega, c2, fun k hk => absurd hk (Nat.not_lt_zero _), fun k k' hk => absurd hk (Nat.not_lt_zero _)⟩, fun u hu => ?_, ?_, ⟨fun p k hp hp2 hk => ?_, fun k hk => ?_⟩, fun hu => ?_, ⟨?_, hc, hal2⟩, by omega, hP10⟩, hf3.trans (hf2.1.trans f1)⟩
  · rw [fF 15 (by decide) (by decide) (by decide) (by decide)]; exact hm.1.1.1
  · rw [fA 16 (by decide), fA 17 (by decide)]; exact hm.1.2.1 t
  · rw [c4 s, if_pos hs] at hn'
    exact absurd rfl hn'
  · rw [fA 4 (by decide)]; exact hm.1.2.2.2.2
  · rw [fA 7 (by decide)]; exact hl u hu
  · unfold SM at sm ⊢
    rw [fF 3 (by decide) (by decide) (by decide) (by decide), fF 4 (by decide) (by decide) (by decide) (by decide), fF 5 (by decide) (by decide) (by decide) (by decide), fF 6 (by decide) (by decide) (by decide) (by decide)]
    exact sm
  · rw [c2] at hp
    have : p = 0 := (nI_eq (a := p) (b := 0) (by omega) (by omega)).mp hp.symm
    omega
  · rw [fA 2 (by decide)]; exact zq.2 k hk
  · exfalso
    unfold undP at hu
    rw [e11] at hu
    rcases hu with z | z <;> exact absurd z (by decide)
  · rw [fF 22 (by decide) (by decide) (by decide) (by decide)]; exact h22
theorem J_stop (cj : CJ nC nS A V M x) (hS : 20000 ≤ nS) (hC : 2 ≤ nC) (hn : 10100 < n) : ∃ v M', (∀ Bh ao, fX11_stop n ao (mk Bh ao M) = some (v, mk Bh ao M')) ∧ JW nC nS V x v M' (fX1_stop n x A) := by
  have cj0 := cj.th 0
  obtain ⟨E, ad, P, T, Bk, b1, b2, n0, n1, n2, c, al, I, cq, hx⟩ := cj
  subst hx
  obtain ⟨m1, m2⟩ := cq.1.m5
  unfold JW fX1_stop
  by_cases cc : undP M
  · refine ⟨1, z_freeAll (mI (mI M 0 0) 11 0), fun Bh ao => by rw [e_stop (by omega), if_pos cc], ?_⟩
    refine Res.b m1 (Res.b m2 (Res.b (e7_isOn cq.1) ?_))
    rw [b2i_t cc, if_neg (show ¬ ((1 : Int32) = 0) by decide)]
    refine Res.w (cq.stop hS hC hn) ?_
    rintro A' ⟨V', E', ad', cq', hf⟩
    exact Res.r ⟨rfl, V', ⟨E', ad', P, 0, Bk, b1, b2, n0, n1, n2, c, al, I, cq', rfl⟩, hf⟩
  · refine ⟨0, mI M 0 0, fun Bh ao => by rw [e_stop (by omega), if_neg cc], ?_⟩
    refine Res.b m1 (Res.b m2 (Res.b (e7_isOn cq.1) ?_))
    rw [b2i_f cc, if_pos rfl]
    exact Res.r ⟨rfl, V, cj0, rfl⟩
/-- run, when it does not throw -/
theorem J_run (cj : CJ nC nS A V M x) (hS : 20000 ≤ nS) (hC : 2 ≤ nC) (hn : 32768 ≤ n) {p : Int32} (hp : ¬ (p < 1 ∨ ¬ p ≤ 500)) (h22 : ¬ M.1 22 = 20000) : ∃ v M', (∀ Bh ao, fX11_run n ao p (mk Bh ao M) = some (v, mk Bh ao M')) ∧ M'.1 0 = 0 ∧ JW nC nS V x v M' (fX1_run n x p A) := by
  obtain ⟨E, ad, P, T, Bk, b1, b2, n0, n1, n2, c, al, I, cq, hx⟩ := cj
  subst hx
  obtain ⟨q, q1, q2, q3⟩ := rng1 (x := p) (N := 500) (by omega) (fun z => hp (Or.inl z)) (fun z => hp (Or.inr (fun y => absurd z (Int32.not_lt.mpr y))))
  subst q3
  refine ⟨(z_run M q).1 11, z_run M q, fun Bh ao => (cq.run hS hC q1 q2 h22 hn).1, (cq.run (Bh := A) (ao := 0) hS hC q1 q2 h22 hn).2, ?_⟩
  refine Res.m (e1_run cq hS hC q1 q2 h22 (by omega)) ?_
  rintro g ⟨e1, V', E', ad', T', m0, m1, m2, c', al', cq', hf⟩
  exact ⟨e1, V', ⟨E', ad', P, T', Bk, b1, b2, m0, m1, m2, c', al', I, cq', rfl⟩, hf⟩
/-- an int of the memory is set -/
theorem J_set (cj : CJ nC nS A V M x) (p1 p2 : Int32) : ∃ v M', (∀ Bh ao, fX11_set ao p1 p2 (mk Bh ao M) = some (v, mk Bh ao M')) ∧ JW nC nS V x v M' (fX1_set x p1 p2 A) := by
  have cj0 := cj.th 0
  obtain ⟨E, ad, P, T, Bk, b1, b2, n0, n1, n2, c, al, I, cq, hx⟩ := cj
  subst hx
  obtain ⟨m1, m2⟩ := cq.1.m5
  obtain ⟨s3, s4, s5, s6, ⟨q6, q7, q8, q9⟩, ⟨qb1, qb2⟩, qi1, qi2⟩ := cq.2.2.2.1
  have g3 := cq.1.getF 3 (by decide) rfl (by decide) rfl
  have e03 : nmF (700 + 3) = 6 := rfl
  rw [e03, s6] at g3
  have hk : ∃ k, ¬ (p1 < 0 ∨ M.1 6 ≤ p1) → p1 = nI k ∧ k < I := by
    by_cases z : ¬ (p1 < 0 ∨ M.1 6 ≤ p1)
    · rw [s6] at z
      rcases pk_ix p1 (n := I) (by omega) with e | e | ⟨j, hj, e⟩
      · exact absurd (Or.inl e) z
      · exact absurd (Or.inr e) z
      · exact ⟨j, fun _ => ⟨e, hj⟩⟩
    · exact ⟨0, fun y => absurd y z⟩
  obtain ⟨k, hk⟩ := hk
  have em : ∀ Bh ao, fX11_set ao p1 p2 (mk Bh ao M) = some (if (¬ (p1 < 0 ∨ M.1 6 ≤ p1) ∧ ¬ undP M) then (1, mk Bh ao (mA (mI M 0 0) 2 k p2)) else (0, mk Bh ao (mI M 0 0))) := fun Bh ao => e_set p1 p2 k (fun z => ⟨(hk z).1, by have := (hk z).2; omega⟩)
  have out : Res (some ((nb (0 : Int32)), A)) (fun g => g.1 = 0 ∧ ∃ V', CJ nC nS g.2 V' (mI M 0 0) (P 0) ∧ fr V' = fr V) := Res.r ⟨rfl, V, cj0, rfl⟩
  unfold JW fX1_set
  rw [jn_eq]
  by_cases cc : ¬ (p1 < 0 ∨ M.1 6 ≤ p1) ∧ ¬ undP M
  · refine ⟨1, mA (mI M 0 0) 2 k p2, fun Bh ao => by rw [em, if_pos cc], ?_⟩
    obtain ⟨k1, k2⟩ := hk cc.1
    rw [if_neg (fun z => cc.1 (Or.inl z))]
    refine Res.b m1 (Res.b g3 ?_)
    rw [if_neg (fun z => cc.1 (Or.inr (by rw [s6]; exact z)))]
    refine Res.b m2 (Res.b (e7_isOn cq.1) ?_)
    rw [b2i_f cc.2, if_pos rfl]
    have g := cq.1
    have hs := g.2.1.1.2.2.2
    have hP0 := hs.kk hs.2.2.1.1.1
    obtain ⟨y, y1, y2, y3⟩ := g.2.1.1.2.2.1.1 (P 0) 1 1 hP0 (by decide)
    have y3 : xn V 101 (P 0) = 4096 := y3
    obtain ⟨A1, e1, s1⟩ := g.1.si k p2 (c := 1) (k := 1) hP0 rfl y1 y2 (by show k < xn V 101 (P 0); omega) (by omega)
    have s1 : St _ _ A1 (vI' V 151 (P 0) k p2) := s1
    refine Res.b ((g.1.gr 1 (c := 1) hP0 (by decide) rfl).trans (congrArg some y1)) ?_
    rw [k1]
    refine Res.b e1 (Res.r ⟨rfl, vI' V 151 (P 0) k p2, ⟨E, ad, P, T, Bk, b1, b2, n0, n1, n2, c, al, I, ?_, rfl⟩, rfl⟩)
    have cq0 := cq.th 0
    have hc1 : CX (vI' V 151 (P 0) k p2) ad (mA (mI M 0 0) 2 k p2) := cq0.1.2.1.1.1.setA (d := 151) (k := 0) (i := k) hs.1 p2 (by decide) (by show k < 4096; omega) hs.2.2.1.1.1
    have f2 : frm [] [2] (mI M 0 0) (mA (mI M 0 0) 2 k p2) := frm.rf.mA (by decide)
    have g' := cq0.1.iv s1 (IV.vI (Or.inl (by decide))) hc1 (fmH.frm f2 (by decide) (by decide))
    obtain ⟨_, hm, hl, sm, zq, hla, h22, hT⟩ := cq0
    refine ⟨g', hm.fr f2 (by decide) (by decide), hl.fr f2 (by decide), sm.fr f2 (by decide), ⟨fun p k' hp hp2 hk' => zq.1 p k' hp hp2 hk', fun k' hk' => ?_⟩, fun hu => absurd hu ?_, h22, hT⟩
    · rw [mA_a, if_pos rfl, pk_un (by omega)]
      exact zq.2 k' hk'
    · exact cc.2
  · refine ⟨0, mI M 0 0, fun Bh ao => by rw [em, if_neg cc], ?_⟩
    by_cases c1 : p1 < 0
    · rw [if_pos c1]
      exact out
    · rw [if_neg c1]
      refine Res.b m1 (Res.b g3 ?_)
      by_cases c2 : nI I ≤ p1
      · rw [if_pos c2]
        exact out
      · rw [if_neg c2]
        refine Res.b m2 (Res.b (e7_isOn cq.1) ?_)
        have cu : undP M := Classical.byContradiction fun z => cc ⟨fun y => y.elim c1 (fun w => c2 (by rw [← s6]; exact w)), z⟩
        rw [b2i_t cu, if_neg (show ¬ ((1 : Int32) = 0) by decide)]
        exact out
end H11
