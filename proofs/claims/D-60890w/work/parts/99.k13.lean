/-! K13: sizes, both sides -/
section K13
variable {nC nS n : Nat} {A A' : AH} {V V' : CW} {E E' : EL} {ad ad' : AA} {M M' N : MS} {P : PP} {T Bk b1 b2 n0 n1 n2 u uu c al I x : Nat}
theorem und_g (M : MS) (a b c : Int32) : undP (gst M a b c) ↔ undP M := by
  have e : (gst M a b c).1 11 = M.1 11 := by
    unfold gst
    rw [mI_g, if_neg (by decide), mI_g, if_neg (by decide), mI_g, if_neg (by decide)]
  unfold undP
  rw [e]
set_option maxHeartbeats 1000000 in
theorem G_sizes (cg : CG (nC + 60) (nS + 600) A V M x) (hS : 20000 ≤ nS) (hC : 2 ≤ nC) (hn : 10100 < n) (p1 p2 p3 p4 p5 p6 : Int32) : ∃ v M', (∀ Bh ao, fX11_sizes n ao p1 p2 p3 p4 p5 p6 (mk Bh ao M) = some (v, mk Bh ao M')) ∧ JG nC nS V x v M' (fX1_sizes n x p1 p2 p3 p4 p5 p6 A) := by
  have cg0 := (cg.th 0).mono (mC := nC) (mS := nS) (by omega) (by omega)
  obtain ⟨a, b, c', cj, hid⟩ := cg
  obtain ⟨E, ad, P, T, Bk, b1, b2, n0, n1, n2, c, al, I, cq, hx⟩ := cj
  subst hx
  have ug := und_g M a b c'
  obtain ⟨m1, m2⟩ := cq.1.m5
  have hk : ∃ k, k ≤ 4096 ∧ (szP p1 p2 p3 p4 p5 p6 → p6 = nI k ∧ 1 ≤ k) := by
    by_cases z : szP p1 p2 p3 p4 p5 p6
    · obtain ⟨j, j1, j2, j3⟩ := pw2_n (N := 4096) (by omega) z.2.2.2.2.2.2.2.2
      exact ⟨j, j2, fun _ => ⟨j3, j1⟩⟩
    · exact ⟨0, by omega, fun y => absurd y z⟩
  obtain ⟨k, hk4, hk6⟩ := hk
  have em : ∀ Bh ao, fX11_sizes n ao p1 p2 p3 p4 p5 p6 (mk Bh ao M) = some (if (szP p1 p2 p3 p4 p5 p6 ∧ ¬ undP M) then (1, mk Bh ao (z_sizes M p1 p2 p3 p4 p5 k)) else (0, mk Bh ao (mI M 0 0))) := fun Bh ao => e_sizes p1 p2 p3 p4 p5 p6 k hk4 (fun z => (hk6 z).1) (by omega)
  have out : Res (some ((nb (0 : Int32)), A)) (fun g => g.1 = 0 ∧ ∃ V', CG nC nS g.2 V' (mI M 0 0) (P 0) ∧ fr V' = fr V) := Res.r ⟨rfl, V, cg0, rfl⟩
  unfold JG fX1_sizes
  by_cases cc : szP p1 p2 p3 p4 p5 p6 ∧ ¬ undP M
  · refine ⟨1, z_sizes M p1 p2 p3 p4 p5 k, fun Bh ao => by rw [em, if_pos cc], ?_⟩
    obtain ⟨⟨s1, s2, s3, s4, s5, s6, s7, s8, s9⟩, hu⟩ := cc
    obtain ⟨L, l1, l2, l3⟩ := pw2_n (N := 32) (by omega) s1
    obtain ⟨S, l4, l5, l6⟩ := rng1 (N := 16) (by omega) s2 s3
    obtain ⟨U, l7, l8, l9⟩ := rng1 (N := 8) (by omega) s4 s5
    obtain ⟨B, l10, l11, l12⟩ := pw2_n (N := 32) (by omega) s6
    obtain ⟨G, l13, l14, l15⟩ := pw2_n (N := 8) (by omega) s7
    obtain ⟨k1, k2⟩ := hk6 ⟨s1, s2, s3, s4, s5, s6, s7, s8, s9⟩
    refine Res.b m1 (Res.b m2 (Res.b (e7_isOn cq.1) ?_))
    rw [b2i_f (fun z => hu (ug.mp z)), jn_eq, if_pos rfl]
    refine Res.b (e1_isPower _ _) ?_
    rw [b2i_t s1, if_neg (fun z => by rcases z with (((z | z) | z) | z) | z; exact absurd z (by decide); exact s2 z; exact s3 z; exact s4 z; exact s5 z)]
    refine Res.b (e1_isPower _ _) ?_
    rw [b2i_t s6, if_neg (by decide)]
    refine Res.b (e1_isPower _ _) ?_
    rw [b2i_t s7, if_neg (by decide)]
    refine Res.b (e1_isPower _ _) ?_
    rw [b2i_t s9, if_neg (fun z => by rcases z with z | z; exact absurd z (by decide); exact z (Int32.not_lt.mp s8))]
    rw [l3, l6, l9, l12, l15, k1]
    refine Res.m (cq.sizes hS hC l1 l2 l4 l5 l7 l8 l10 l11 l13 l14 k2 hk4 hn) ?_
    rintro g ⟨e, V', E', ad', P', cq', hP', hf⟩
    rw [szN_g] at cq'
    obtain ⟨f, _, q, _, _, a9, _⟩ := sizes_P M (nI L) (nI S) (nI U) (nI B) (nI G) k hk4
    exact ⟨e, V', ⟨0, 0, 0, ⟨E', ad', P', 0, B, b1, b2, n0, n1, n2, 0, al, k, cq', hP'⟩, Or.inl ⟨q 11 (by decide), a9⟩⟩, hf⟩
  · refine ⟨0, mI M 0 0, fun Bh ao => by rw [em, if_neg cc], ?_⟩
    refine Res.b m1 (Res.b m2 (Res.b (e7_isOn cq.1) ?_))
    rw [jn_eq]
    by_cases hu : undP M
    · rw [b2i_t (ug.mpr hu), if_neg (by decide)]
      exact out
    · rw [b2i_f (fun z => hu (ug.mp z)), if_pos rfl]
      refine Res.b (e1_isPower _ _) ?_
      split
      · exact out
      · rename_i c1
        refine Res.b (e1_isPower _ _) ?_
        split
        · exact out
        · rename_i c2
          refine Res.b (e1_isPower _ _) ?_
          split
          · exact out
          · rename_i c3
            refine Res.b (e1_isPower _ _) ?_
            split
            · exact out
            · rename_i c4
              exfalso
              have w : ∀ {q : Prop} [Decidable q], ¬ b2i q = 0 → q := fun {q} _ h => Classical.byContradiction (fun z => h (b2i_f z))
              refine cc ⟨⟨w (fun z => c1 (Or.inl (Or.inl (Or.inl (Or.inl z))))), fun z => c1 (Or.inl (Or.inl (Or.inl (Or.inr z)))), fun z => c1 (Or.inl (Or.inl (Or.inr z))), fun z => c1 (Or.inl (Or.inr z)), fun z => c1 (Or.inr z), w c2, w c3, fun z => c4 (Or.inr (fun y => absurd z (Int32.not_lt.mpr y))), w (fun z => c4 (Or.inl z))⟩, hu⟩
end K13
