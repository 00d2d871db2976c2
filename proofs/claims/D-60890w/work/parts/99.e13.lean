/-! E13: a cycle -/
section E13
variable {nC nS n : Nat} {A A' : AH} {V V' : CW} {E E' : EL} {ad ad' : AA} {M M' N : MS} {P : PP} {T Bk b1 b2 n0 n1 n2 c B I nx Bn Th W p : Nat}
theorem pend_frm (M : MS) (p : Nat) : frm [41, 42] [2, 13, 19, 20, 21, 22, 23, 24] M (z_pend M p) := by
  unfold z_pend
  by_cases cc : M.1 42 ≤ M.1 15
  · rw [if_pos cc]
    exact (((pdI M p).2.1).up (by decide) (by decide)).mI (by decide)
  · rw [if_neg cc]
    exact frm.rf
theorem blL.fr {ks js : List Nat} (h : blL M nx) (hf : frm ks js M N) (hj : 9 ∉ js) : blL N nx := fun s bk hs hbk h9 => by
  rw [hf.2.1 9 hj] at h9
  exact h s bk hs hbk h9
/-- the dispatcher, in the model -/
theorem cycD_P {U S : Nat} (hU : U ≤ 8) (hS : S ≤ 16) (h : MI M c (c + 1) B) (hl : LT M) (la : LA M P nx Bn Th W) : MI (cycD U S W Bn nx M) c (c + 1) B ∧ LT (cycD U S W Bn nx M) ∧ (∃ nx', LA (cycD U S W Bn nx M) P nx' Bn Th W) ∧ (∀ k, k ≠ 14 → (cycD U S W Bn nx M).1 k = M.1 k) ∧ (cycD U S W Bn nx M).2.2 = M.2.2 := by
  obtain ⟨l1, l2, ⟨l3, l4⟩, l5, l6, l7, l8⟩ := la
  unfold cycD
  by_cases c1 : M.1 11 = 1
  · rw [if_pos c1]
    obtain ⟨r1, nx', r2, r3, r4, r5, r6, r7⟩ := MI.disp (c := c) (lo := c + 1) (B := B) (W := W) hU hS (Bn - nx) nx M (by omega) l5 h
    refine ⟨r1, ?_, ⟨nx', r5 l1, by rw [r6 12 (by decide)]; exact l2, ⟨l3, by omega⟩, r4, by rw [r6 13 (by decide)]; exact l6, l7, l8⟩, r6, r7⟩
    have key : ∀ (d nx : Nat) (M : MS), nx + d ≤ 64 → (z_disp U S W d nx M).2.1 7 = M.2.1 7 := by
      intro d
      induction d with
      | zero => intro nx M _; rfl
      | succ d ih =>
        intro nx M hd
        unfold z_disp
        cases e : fuF M W S 0 U with
        | none => rfl
        | some u =>
          have f0 := (begin_P M u nx W S (by omega)).1
          exact (ih (nx + 1) _ (by omega)).trans (f0.a 7)
    intro u hu
    rw [key (Bn - nx) nx M (by omega)]
    exact hl u hu
  · rw [if_neg c1]
    exact ⟨h, hl, ⟨nx, l1, l2, ⟨l3, l4⟩, l5, l6, l7, l8⟩, fun _ _ => rfl, rfl⟩
set_option maxHeartbeats 2000000 in
theorem e7_cycle (hS : 20000 ≤ nS) (hC : 2 ≤ nC) (g : GX nC nS A V E ad M P T Bk b1 b2 n0 n1 n2) (hm : MI M c c B) (hl : LT M) (sm : SM M P Bk I) (la : LA M P nx Bn Th W) (hB : B + 1280 ≤ 30000000) (hT : T + 512 < 2 ^ 30) (h41 : M.1 41 = nI p) (hp2 : p ≤ 4096) (hn : 10100 < n) :
    Res (fX7_cycle n (P 1) A) (fun A' => ∃ V' E' ad' T' m0 m1 m2, GX nC nS A' V' E' ad' (z_cyc (P 6) (P 7) (P 8) Bk (P 9) W Bn nx p M) P T' Bk b1 b2 m0 m1 m2 ∧ T' ≤ T + 256 ∧ (∀ c, c ≠ 12 → c ≠ 13 → c ≠ 14 → c ≠ 15 → ad' c = ad c) ∧ fr V' = fr V) := by
  have hs0 := g.2.1.1.2.2.2
  have hP8 := hs0.2.2.2.2.2.2.2.2.1.2.2.1
  have hP7 := hs0.2.2.2.2.2.2.2.2.1.2.1
  obtain ⟨p', z1, z2, hp⟩ := g.2.1.2.1.1
  have hlen : p' ≤ 4096 := by
    have := g.2.1.2.1.2.2.2.2.2.1
    omega
  have epp : p' = p := (nI_eq (by omega) (by omega)).mp (z1.symm.trans h41)
  subst epp
  obtain ⟨⟨⟨h15, hc, hcB, hB3⟩, _⟩, pm, pm1, pm2, pm3, _⟩ := id hm
  have epm : pm = p' := (nI_eq (by omega) (by omega)).mp (pm2.symm.trans h41)
  subst epm
  have pf := pend_frm M pm
  have hm1 := hm.pend h41 hp2
  have hl1 := hl.fr pf (by decide)
  have sm1 := sm.fr pf (by decide)
  have la1 := la.fr pf (by decide) (la.2.2.2.1.fr pf (by decide))
  unfold fX7_cycle
  refine due_loop (nC0 := nC + rqP V E P + ptC V E ad P n0 n1 n2) (nS0 := nS + 4 * rqP V E P + ptS V E ad P n0 n1 n2) (p := pm) (by omega) (by omega) (g.1.mono (by omega) (by omega)) g.2.1 hp hp2 (fun k hk => ?_) (by omega) _ _ ?_
  · obtain ⟨s, i, bk, tm, ms, _, _, ⟨c1, c2, c3, c4, c5⟩, _⟩ := pm3 k hk
    rw [h15, c1, nI_leI (by omega) (by omega)]
    exact c3
  · intro A1 V1 E1 ad1 s1 cp1 hq1 co1 kn1 ks1 an1 len1
    obtain ⟨ad2, gb2, had2⟩ := pend_GB cp1 hq1 co1 kn1 an1 len1 hp hp2 h41 (fun k hk => by
      obtain ⟨_, _, _, _, _, _, _, _, d⟩ := pm3 k hk
      exact d)
    have g2 : GX nC nS A1 V1 E1 ad2 (z_pend M pm) P T Bk b1 b2 n0 n1 n2 := g.ks (s1.mono (by omega) (by omega)) gb2 ks1 had2
    show Res ((gI A1 (some (P 1)) 7 12).bind _) _
    refine Res.b (g2.getF 12 (by decide) rfl (by decide) rfl) ?_
    rw [jn_eq]
    have e12 : nmF (700 + 12) = 11 := rfl
    rw [e12]
    unfold z_cyc
    generalize z_pend M pm = N at *
    obtain ⟨d1, d2, ⟨nx', d3⟩, d4, d5⟩ := cycD_P (U := P 8) (S := P 7) hP8 hP7 hm1 hl1 la1
    have sm2 : SM (cycD (P 8) (P 7) W Bn nx N) P Bk I := by
      unfold SM at sm1 ⊢
      rw [d4 3 (by decide), d4 4 (by decide), d4 5 (by decide), d4 6 (by decide)]
      exact sm1
    by_cases c1 : N.1 11 = 1
    · rw [if_pos c1]
      have ed : cycD (P 8) (P 7) W Bn nx N = z_disp (P 8) (P 7) W (Bn - nx) nx N := if_pos c1
      rw [ed] at d1 d2 sm2 ⊢
      obtain ⟨l1, l2, ⟨l3, l4⟩, l5, l6, l7, l8, l9, l10⟩ := la1
      refine Res.b (g2.1.rc g2.2.1.1.2.2.2.mm.2) (Res.w (e7_dispatch hS hC g2 l1 l2 l3 l4 l5 l6 l7.2 l8 l9 l10 sm1.2.2.2.2.1.1 hn) ?_)
      rintro A3 ⟨V3, E3, ad3, m0, m1, m2, g3, had3, hf3⟩
      refine Res.m (un_loop (by omega) hC g3 d1 d2 sm2 hB hT hn) ?_
      rintro A4 ⟨V4, E4, ad4, T4, g4, t4, had4, hf4⟩
      exact ⟨V4, E4, ad4, T4, m0, m1, m2, g4, t4, fun c a1 a2 a3 a4 => ((had4 c a1 a2 a3 a4).trans (had3 c a1 a2 a3)).trans (had2 c a4), (hf4.trans hf3).trans ks1.1.2⟩
    · rw [if_neg c1]
      have ed : cycD (P 8) (P 7) W Bn nx N = N := if_neg c1
      rw [ed]
      refine Res.m (un_loop (by omega) hC g2 hm1 hl1 sm1 hB hT hn) ?_
      rintro A4 ⟨V4, E4, ad4, T4, g4, t4, had4, hf4⟩
      exact ⟨V4, E4, ad4, T4, n0, n1, n2, g4, t4, fun c a1 a2 a3 a4 => (had4 c a1 a2 a3 a4).trans (had2 c a4), hf4.trans ks1.1.2⟩
end E13
