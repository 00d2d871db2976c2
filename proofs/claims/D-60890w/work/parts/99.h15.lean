/-! H15: shared memory is read -/
section H15
variable {nC nS n : Nat} {A A' : AH} {V V' : CW} {E E' : EL} {ad ad' : AA} {M M' N : MS} {P : PP} {T Bk b1 b2 n0 n1 n2 u uu c al I x s w : Nat}
theorem shS_P (M : MS) (p : Int32) : ∀ n, iter (shS M p) 0 n 0 = 0 ↔ ¬ ∃ s, s < n ∧ ¬ p < 0 ∧ M.2.1 9 s = p
  | 0 => ⟨fun _ ⟨s, hs, _⟩ => absurd hs (Nat.not_lt_zero _), fun _ => rfl⟩
  | n + 1 => by
    have ih := shS_P M p n
    rw [iter_last, Nat.zero_add]
    generalize iter (shS M p) 0 n 0 = e at *
    unfold shS
    by_cases c : e = 0
    · rw [if_pos c]
      have ih := ih.mp c
      by_cases c1 : p < 0
      · rw [if_pos c1]
        exact ⟨fun _ ⟨s, _, h, _⟩ => h c1, fun _ => rfl⟩
      · rw [if_neg c1]
        by_cases c2 : M.2.1 9 n = p
        · rw [if_pos c2]
          exact ⟨fun z => absurd z (by decide), fun z => absurd ⟨n, by omega, c1, c2⟩ z⟩
        · rw [if_neg c2]
          refine ⟨fun _ ⟨s, h1, h2, h3⟩ => ?_, fun _ => rfl⟩
          by_cases e1 : s = n
          · rw [e1] at h3
            exact c2 h3
          · exact ih ⟨s, by omega, h2, h3⟩
    · rw [if_neg c]
      refine ⟨fun z => absurd z (by decide), fun z => ?_⟩
      exact absurd (ih.mpr (fun ⟨s, h1, h2⟩ => z ⟨s, by omega, h2⟩)) c
set_option maxHeartbeats 1000000 in
theorem e7_block (cq : CQ nC nS A V E ad M P T Bk b1 b2 n0 n1 n2 c al I) (hn : 40 < n) (p : Int32) : Res (fX7_block n (P 1) p A) (fun r => (r = none ∧ ∀ s, s < 128 → ¬ (¬ p < 0 ∧ M.2.1 9 s = p)) ∨ ∃ bk b s, r = some b ∧ bk < 64 ∧ p = nI bk ∧ ad 12 bk = some b ∧ s < 128 ∧ M.2.1 9 s = p) := by
  obtain ⟨b6, b7, b8, b9, b10, e1, e2⟩ := cq.b
  obtain ⟨ul, cap, u1, u2, _, u4, u5⟩ := cq.ul
  have g := cq.1
  have cp := g.2.1.1
  have hs := cp.2.2.2
  have g1 := g.getF 1 (by decide) rfl (by decide) rfl
  have e01 : nmF (700 + 1) = 2 := rfl
  rw [e01, e2] at g1
  unfold fX7_block
  refine jl_R (fun dd (gg : Int32 → Option (Option Nat)) => ∀ v, v + dd = P 8 → (∀ s, s < 128 → s / 16 < v → ad 13 s ≠ none → ¬ M.2.1 9 s = p) → Res (gg (nI v)) (fun r => (r = none ∧ ∀ s, s < 128 → ¬ (¬ p < 0 ∧ M.2.1 9 s = p)) ∨ ∃ bk b s, r = some b ∧ bk < 64 ∧ p = nI bk ∧ ad 12 bk = some b ∧ s < 128 ∧ M.2.1 9 s = p)) (P 8) (show P 8 < n by omega) ?_ ?_ ?_
  · intro gg v hv hno
    refine Res.b u1 (Res.b u2 (Res.b u4 ?_))
    rw [if_pos (c_le (by omega) (by omega))]
    refine Res.r (Or.inl ⟨rfl, fun s hs' z => ?_⟩)
    cases ha : ad 13 s with
    | none =>
      rw [(cq.n9 hs').mp ha] at z
      rw [← z.2] at z
      exact z.1 (by decide)
    | some w =>
      obtain ⟨y1, y2, _⟩ := hs.2.2.2.2.1.1 s w ha
      exact hno s hs' (by omega) (by rw [ha]; exact fun z => by cases z) z.2
  · intro dd gg hgg v hv hno
    refine Res.b u1 (Res.b u2 (Res.b u4 ?_))
    rw [if_neg (c_nle (by omega) (by omega)), nI_1]
    obtain ⟨uu, hu8, ug, uc, uk⟩ := u5 v (by omega)
    obtain ⟨⟨y, y1, y2, y3⟩, hsl⟩ := hs.2.2.2.1.2.2.1 v uu hu8
    have y3 : xn V 800 uu = P 7 := y3
    refine jl_R (fun d' (gi : Int32 → Option (Option Nat)) => ∀ k, k + d' = P 7 → (∀ s, s < 128 → (s / 16 < v ∨ (s / 16 = v ∧ s % 16 < k)) → ad 13 s ≠ none → ¬ M.2.1 9 s = p) → Res (gi (nI k)) (fun r => (r = none ∧ ∀ s, s < 128 → ¬ (¬ p < 0 ∧ M.2.1 9 s = p)) ∨ ∃ bk b s, r = some b ∧ bk < 64 ∧ p = nI bk ∧ ad 12 bk = some b ∧ s < 128 ∧ M.2.1 9 s = p)) (P 7) (show P 7 < n by omega) ?_ ?_ ?_
    · intro gi k hk hno2
      refine Res.b g1 ?_
      rw [if_pos (c_le (by omega) (by omega))]
      refine hgg (v + 1) (by omega) (fun s hs' hsv hne => ?_)
      by_cases e : s / 16 < v
      · exact hno2 s hs' (Or.inl e) hne
      · cases ha : ad 13 s with
        | none => exact absurd ha hne
        | some w =>
          obtain ⟨z1, z2, _⟩ := hs.2.2.2.2.1.1 s w ha
          exact hno2 s hs' (Or.inr ⟨by omega, by omega⟩) hne
    · intro d' gi hgi k hk hno2
      refine Res.b g1 ?_
      rw [if_neg (c_nle (by omega) (by omega))]
      refine Res.b ug (Res.b uc (Res.b ((g.1.gr 0 (c := 8) uk (by decide) rfl).trans (congrArg some y1)) (Res.b ((g.1.ar k (c := 8) (k := 0) uk (Or.inr rfl) y1 y2 (by show k < xn V 800 uu; omega) (by omega)).trans (congrArg some (hsl k (by omega)))) ?_)))
      rw [jn_eq, nI_1]
      have next : (ad 13 (16 * v + k) ≠ none → ¬ M.2.1 9 (16 * v + k) = p) → Res (gi (nI (k + 1))) (fun r => (r = none ∧ ∀ s, s < 128 → ¬ (¬ p < 0 ∧ M.2.1 9 s = p)) ∨ ∃ bk b s, r = some b ∧ bk < 64 ∧ p = nI bk ∧ ad 12 bk = some b ∧ s < 128 ∧ M.2.1 9 s = p) := fun h0 => by
        refine hgi (k + 1) (by omega) (fun s hs' hsv hne => ?_)
        by_cases e : s = 16 * v + k
        · rw [e] at hne ⊢
          exact h0 hne
        · exact hno2 s hs' (by omega) hne
      cases ha : ad 13 (16 * v + k) with
      | none =>
        rw [if_pos rfl]
        exact next (fun z => absurd ha z)
      | some w =>
        rw [if_neg (fun z => by cases z)]
        obtain ⟨bk, bb, c1, c2, c3, c4⟩ := hs.bl ha
        have hnum : gI A (some bb) 12 0 = some (nI bk) := (g.1.gi 0 (c := 12) (hs.kk c3) (by decide) rfl).trans (congrArg some (cp.1 1200 bk 0 bb (Or.inr (Or.inr (Or.inr rfl))) (by decide) c3))
        refine Res.b ((g.1.gr 0 (c := 13) (hs.kk ha) (by decide) rfl).trans (congrArg some c4)) (Res.b hnum ?_)
        by_cases cp' : nI bk = p
        · rw [if_pos cp']
          exact Res.r (Or.inr ⟨bk, bb, 16 * v + k, rfl, c1, cp'.symm, c3, by omega, by rw [c2]; exact cp'⟩)
        · rw [if_neg cp']
          exact next (fun _ z => cp' (by rw [← c2]; exact z))
    · intro gi hgi
      exact hgi 0 (by omega) (fun s hs' hsv hne => hno s hs' (by omega) hne)
  · intro gg hgg
    exact hgg 0 (by omega) (fun s _ hsv => absurd hsv (Nat.not_lt_zero _))
theorem J_shared (cj : CJ nC nS A V M x) (hn : 128 < n) (p q : Int32) : ∃ v M', (∀ Bh ao, fX11_shared n ao p q (mk Bh ao M) = some (v, mk Bh ao M')) ∧ CJ nC nS A V M' x ∧ ((M'.1 0 = 0 ∧ fX1_shared n x p q A = some v) ∨ (M'.1 0 = 1 ∧ tX1_shared n x p q A = some ())) := by
  have cj0 := cj.th
  obtain ⟨E, ad, P, T, Bk, b1, b2, n0, n1, n2, c, al, I, cq, hx⟩ := cj
  subst hx
  obtain ⟨m1, m2⟩ := cq.1.m5
  have g := cq.1
  have cp := g.2.1.1
  have hs := cp.2.2.2
  obtain ⟨r, hr, hcase⟩ := e7_block cq (n := n) (by omega) p
  have hsp := shS_P M p 128
  by_cases cq' : q < 0 ∨ 64 ≤ q
  · refine ⟨0, mI M 0 1, fun Bh ao => ?_, cj0 1, Or.inr ⟨by rw [mI_g, if_pos rfl], ?_⟩⟩
    · rw [e_shared p q 0 0 hn (fun z => absurd (Or.inr cq') z), if_pos (Or.inr cq')]
    · unfold tX1_shared
      refine ob m1 (ob m2 (ob hr ?_))
      rw [if_pos]
      rcases cq' with z | z
      · exact Or.inl (Or.inr z)
      · exact Or.inr (Int32.not_lt.mpr z)
  · obtain ⟨k, hk, ek⟩ : ∃ k, k < 64 ∧ q = nI k := by
      rcases pk_ix q (n := 64) (by omega) with e | e | ⟨j, hj, e⟩
      · exact absurd (Or.inl e) cq'
      · exact absurd (Or.inr e) cq'
      · exact ⟨j, hj, e⟩
    rcases hcase with ⟨e0, hno⟩ | ⟨bk, b, s, e0, hbk, ep, hb, hs128, h9⟩
    · have hz : iter (shS M p) 0 128 0 = 0 := hsp.mpr (fun ⟨s, h1, h2, h3⟩ => hno s h1 ⟨h2, h3⟩)
      refine ⟨0, mI M 0 1, fun Bh ao => ?_, cj0 1, Or.inr ⟨by rw [mI_g, if_pos rfl], ?_⟩⟩
      · rw [e_shared p q 0 0 hn (fun z => absurd (Or.inl hz) z), if_pos (Or.inl hz)]
      · unfold tX1_shared
        refine ob m1 (ob m2 (ob hr ?_))
        rw [e0, if_pos (Or.inl (Or.inl rfl))]
    · subst ep ek
      have hz : ¬ (iter (shS M (nI bk)) 0 128 0 = 0 ∨ nI k < 0 ∨ 64 ≤ nI k) := fun z => z.elim (fun z => hsp.mp z ⟨s, hs128, nI_pos (by omega), h9⟩) cq'
      refine ⟨M.2.1 18 (64 * bk + k), mI M 0 0, fun Bh ao => ?_, cj0 0, Or.inl ⟨by rw [mI_g, if_pos rfl], ?_⟩⟩
      · rw [e_shared (nI bk) (nI k) bk k hn (fun _ => ⟨rfl, hbk, rfl, hk⟩), if_neg hz]
      · unfold fX1_shared
        refine ob m1 (ob m2 (ob hr ?_))
        rw [e0, if_neg]
        · obtain ⟨y, y1, y2, _⟩ := cp.sm g.1 hb
          exact ob y1 (ob (y2 k hk) rfl)
        · rintro ((z | z) | z)
          · cases z
          · exact cq' (Or.inl z)
          · exact cq' (Or.inr (Int32.not_lt.mp z))
end H15
