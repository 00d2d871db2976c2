/-! G14: launch and stop, all of them -/
section G14
variable {nC nS n : Nat} {A A' : AH} {V V' : CW} {E E' : EL} {ad ad' : AA} {M M' N : MS} {P : PP} {Lq : Nat → Nat → Prop} {T Bk b1 b2 n0 n1 n2 u uu c al I : Nat}
theorem e7_forget (g : GYq nC nS A V E ad N P Lq Bk b1 b2 n0 n1 n2) : Res (fX7_forget (P 1) A) (fun A' => ∃ V', GYq nC nS A' V' E ad (mI (mI (mI (mI N 23 0) 24 0) 25 0) 26 0) P Lq Bk b1 b2 n0 n1 n2 ∧ HFR V E V' E P) := by
  unfold fX7_forget
  obtain ⟨A1, V1, e1, g1, f1⟩ := g.pF 22 0 (by decide) rfl (by decide) rfl (by decide)
  obtain ⟨A2, V2, e2, g2, f2⟩ := g1.pF 23 0 (by decide) rfl (by decide) rfl (by decide)
  obtain ⟨A3, V3, e3, g3, f3⟩ := g2.pF 24 0 (by decide) rfl (by decide) rfl (by decide)
  obtain ⟨A4, V4, e4, g4, f4⟩ := g3.pF 25 0 (by decide) rfl (by decide) rfl (by decide)
  exact Res.b e1 (Res.b e2 (Res.b e3 (Res.b e4 (Res.r ⟨V4, g4, f4.trans (f3.trans (f2.trans f1))⟩))))
theorem oneU.co (h : oneU M) (e : N.2.1 9 = M.2.1 9) : oneU N := by
  unfold oneU at h ⊢
  rw [e]
  exact h
def lauX (M : MS) (p1 p2 : Int32) : MS := z_clearCounts (mI (mI (mI (mI (mI M 0 0) 12 p1) 13 p2) 11 1) 14 0)
def lauN (M : MS) (p1 p2 : Int32) : MS := mI (mI (mI (mI (mI (mI (mI (mI (mI (mI (mI M 11 1) 12 p1) 13 p2) 14 0) 21 0) 15 0) 16 0) 17 0) 18 0) 19 0) 20 0
set_option maxHeartbeats 2000000 in
theorem e7_begin (hS : 10000 ≤ nS) (hC : 2 ≤ nC) (g : GX nC nS A V E ad M P T Bk b1 b2 n0 n1 n2) (one : oneU M) (hP7 : 1 ≤ P 7) (hP10 : 1 ≤ P 10) (p1 p2 : Int32) {W : Nat} (hW : W ≤ 16) (hn : 10100 < n) :
    Res (fX7_begin n (P 1) p1 p2 A) (fun A' => ∃ V' E' ad', GX nC nS A' V' E' ad' (z_launch M p1 p2) (Pw P W) 0 Bk b1 b2 n0 n1 n2 ∧ fr V' = fr V) := by
  have hs0 := g.2.1.1.2.2.2
  have hP8 := hs0.2.2.2.2.2.2.2.2.1.2.2.1
  have hP9 := hs0.2.2.2.2.2.2.2.2.1.2.2.2.1
  have h2 : M.1 2 = nI (P 7) := hs0.2.2.2.2.2.2.2.2.2.1.2
  unfold fX7_begin
  obtain ⟨A1, V1, e1, g1, f1⟩ := g.gyq.pF 12 1 (by decide) rfl (by decide) rfl (by decide)
  obtain ⟨A2, V2, e2, g2, f2⟩ := g1.pF 13 p1 (by decide) rfl (by decide) rfl (by decide)
  obtain ⟨A3, V3, e3, g3, f3⟩ := g2.pF 14 p2 (by decide) rfl (by decide) rfl (by decide)
  obtain ⟨A4, V4, e4, g4, f4⟩ := g3.pF 15 0 (by decide) rfl (by decide) rfl (by decide)
  obtain ⟨A5, V5, e5, g5, f5⟩ := g4.pF 16 0 (by decide) rfl (by decide) rfl (by decide)
  obtain ⟨A6, V6, e6, g6, f6⟩ := g5.pF 17 0 (by decide) rfl (by decide) rfl (by decide)
  obtain ⟨A7, V7, e7, g7, f7⟩ := g6.pF 18 0 (by decide) rfl (by decide) rfl (by decide)
  obtain ⟨A8, V8, e8, g8, f8⟩ := g7.pF 19 0 (by decide) rfl (by decide) rfl (by decide)
  obtain ⟨A9, V9, e9, g9, f9⟩ := g8.pF 20 0 (by decide) rfl (by decide) rfl (by decide)
  refine Res.b e1 (Res.b e2 (Res.b e3 (Res.b e4 (Res.b e5 (Res.b e6 (Res.b e7 (Res.b e8 (Res.b e9 ?_))))))))
  have r9 : ∀ {A3 : AH} {V3 : CW} {N : MS}, GYq nC nS A3 V3 E (ad15 ad) N P (lnI M) Bk b1 b2 n0 n1 n2 → gR A3 (some (P 1)) 7 9 = some (some (P 5)) := fun g3 => (g3.1.gr 9 (c := 7) g3.2.1.1.2.2.2.mm.2 (by decide) rfl).trans (congrArg some g3.2.1.1.2.2.2.2.2.1.2.2.2.2.2.2.2.2.2.1)
  obtain ⟨A11, V11, e11, g11, f11⟩ := g9.pC 1 0 (by omega)
  obtain ⟨A13, V13, e13, g13, f13⟩ := g11.pC 2 0 (by omega)
  refine Res.b (r9 g9) (Res.b e11 (Res.b (r9 g11) (Res.b e13 ?_)))
  have g13 : GYq nC nS A13 V13 E (ad15 ad) (lauN M p1 p2) P (lnI M) Bk b1 b2 n0 n1 n2 := g13
  have f0 : HFR V E V13 E P := f13.trans (f11.trans (f9.trans (f8.trans (f7.trans (f6.trans (f5.trans (f4.trans (f3.trans (f2.trans f1)))))))))
  have hs13 := g13.2.1.1.2.2.2
  refine Res.b ((g13.1.gr 7 (c := 7) hs13.mm.2 (by decide) rfl).trans (congrArg some hs13.2.2.1.2.2.2.2.2.2.2.2.1)) (Res.b (g13.1.rc (hs13.kk hs13.2.2.1.1.2.2.2.1)) (Res.w (g13.clr hS (by omega) hn) ?_))
  rintro A14 ⟨V14, E14, g14, l14, x14, hf14⟩
  refine gat_loop g14 (by omega) _ _ ?_
  intro A15 V15 N15 g15 hf15 k4 z4
  show Res ((rcv A15 (some (P 1)) 7).bind _) _
  refine Res.b (g15.1.rc g15.2.1.1.2.2.2.mm.2) (Res.w (e7_forget g15) ?_)
  rintro A16 ⟨V16, g16, hf16⟩
  refine Res.m (uni_loop hS hC g16 (one.co (N := mI (mI (mI (mI N15 23 0) 24 0) 25 0) 26 0) (k4.a 9)) hP7 (by omega)) ?_
  rintro A17 ⟨V17, E17, ad17, N17, g17, had17, hf17, k17, z9, zu⟩
  have hfr := hf17.trans (hf16.trans hf15)
  have e15 : N15.1 = (lauN M p1 p2).1 := funext fun k => k4.1 k List.not_mem_nil
  have eN : N17.1 = (mI (mI (mI (mI (lauN M p1 p2) 23 0) 24 0) 25 0) 26 0).1 := by
    have : N17.1 = (mI (mI (mI (mI N15 23 0) 24 0) 25 0) 26 0).1 := funext fun k => k17.1 k List.not_mem_nil
    rw [this]
    show (fun j => if j = 26 then (0 : Int32) else (fun j => if j = 25 then (0 : Int32) else (fun j => if j = 24 then (0 : Int32) else (fun j => if j = 23 then (0 : Int32) else N15.1 j) j) j) j) = _
    rw [e15]
    rfl
  have eA : ∀ j, (j < 3 ∨ (9 < j ∧ j < 19) ∨ j = 3) → N17.2.1 j = M.2.1 j := fun j hj => by
    rw [k17.2.1 j (by simp only [List.mem_cons, List.not_mem_nil, or_false]; omega)]
    show N15.2.1 j = _
    rw [k4.2.1 j (by simp only [List.mem_cons, List.not_mem_nil, or_false]; omega)]
    rfl
  have e4N : ∀ g, g < P 9 → N17.2.1 4 g = 0 := fun g hg => by
    rw [k17.a 4]
    exact z4 g hg
  obtain ⟨c1, c2, c3, c4, c5⟩ := clearUnits_P (lauX M p1 p2)
  have eM' : z_launch M p1 p2 = z_clearUnits (lauX M p1 p2) := rfl
  rw [eM']
  have hcu : ∀ i, i < 8 → (z_clearUnits (lauX M p1 p2)).2.1 7 i = nI (P 7 - 1) := fun i hi => by
    rw [(c5 i hi).2.2.1]
    show M.1 2 - 1 = _
    rw [h2, nI_sub1 (by omega)]
  have q1 : ∀ f, f ∈ [1, 2, 4, 6, 11, 12, 13, 14, 21, 15, 16, 17, 18, 22, 23, 24, 25, 26, 19, 20] → (z_clearUnits (lauX M p1 p2)).1 f = N17.1 f := fun f hf => by
    rw [eN, c1.1 f (by
      simp only [List.mem_cons, List.not_mem_nil, or_false] at hf ⊢
      omega)]
    simp only [List.mem_cons, List.not_mem_nil, or_false] at hf
    rcases hf with e | e | e | e | e | e | e | e | e | e | e | e | e | e | e | e | e | e | e | e <;> (subst e; rfl)
  have q2 : ∀ j, (j < 3 ∨ (9 < j ∧ j < 19) ∨ j = 3) → (z_clearUnits (lauX M p1 p2)).2.1 j = N17.2.1 j := fun j hj => by
    rw [eA j hj, c1.2.1 j (by simp only [List.mem_cons, List.not_mem_nil, or_false]; omega)]
    rfl
  have q3 : ∀ u, u < P 8 → ∀ j, 5 ≤ j → j ≤ 8 → (z_clearUnits (lauX M p1 p2)).2.1 j u = N17.2.1 j u := fun u hu j j1 j2 => by
    obtain ⟨y5, y6, y7, y8, _⟩ := c5 u (by omega)
    obtain ⟨w5, w6, w7, w8⟩ := zu u hu
    have : j = 5 ∨ j = 6 ∨ j = 7 ∨ j = 8 := by omega
    rcases this with e | e | e | e <;> subst e
    · rw [y5, w5]
    · rw [y6, w6]
    · rw [hcu u (by omega), w7]
    · rw [y8, w8]
  have q4 : ∀ g, g < P 9 → (z_clearUnits (lauX M p1 p2)).2.1 4 g = N17.2.1 4 g := fun g hg => by
    rw [(c5 g (by omega)).2.2.2.2, e4N g hg]
  have q5 : (z_clearUnits (lauX M p1 p2)).2.2 = N17.2.2 := by
    rw [c1.2.2, k17.2.2]
    show M.2.2 = N15.2.2
    rw [k4.2.2]
    rfl
  obtain ⟨m0, m1, m2, _, gx, _⟩ := g17.emp (M' := z_clearUnits (lauX M p1 p2)) (W := W) z9 hP10 (hfr.2.1.trans l14) (hfr.2.2.trans x14) (fun k => by rw [had17 15 (by decide) (by decide) (by decide)]; exact ad15_15 k) hW c2 c4 q1 q2 q3 q4 q5
  exact ⟨V17, E17, ad17, ⟨g17.1, gx.2.1, g17.2.2⟩, hfr.1.trans (hf14.trans f0.1)⟩
theorem ceilW {L Th j : Nat} (hL : 1 ≤ L) : L * j < Th ↔ j < (Th + L - 1) / L := by
  rw [Nat.lt_iff_add_one_le (m := j), Nat.le_div_iff_mul_le (by omega), Nat.add_mul, Nat.one_mul, Nat.mul_comm j L]
  omega
theorem CQ.launch (cq : CQ nC nS A V E ad M P T Bk b1 b2 n0 n1 n2 c al I) (hS : 20000 ≤ nS) (hC : 2 ≤ nC) {Bn Th : Nat} (hB1 : 1 ≤ Bn) (hB6 : Bn ≤ 64) (hT1 : 1 ≤ Th) (hTL : Th ≤ P 6 * P 7) (hn : 10100 < n) :
    Res (fX7_begin n (P 1) (nI Bn) (nI Th) A) (fun A' => ∃ V' E' ad' W, CQ nC nS A' V' E' ad' (z_launch M (nI Bn) (nI Th)) (Pw P W) 0 Bk b1 b2 n0 n1 n2 0 al I ∧ fr V' = fr V) := by
  obtain ⟨b6, b7, b8, b9, b10, e1, e2⟩ := cq.b
  obtain ⟨g, hm, hl, sm, zq, hla, ⟨h22, hc, hal2⟩, hT, hP10⟩ := cq
  have sm' := sm
  obtain ⟨s3, s4, s5, s6, ⟨q6, q7, q8, q9⟩, ⟨qb1, qb2⟩, qi1, qi2⟩ := sm'
  obtain ⟨W, eW⟩ : ∃ W, W = (Th + P 6 - 1) / P 6 := ⟨_, rfl⟩
  have hWj : ∀ j, P 6 * j < Th ↔ j < W := fun j => by rw [eW]; exact ceilW q6
  have hW7 : W ≤ P 7 := by
    have := hWj (P 7)
    omega
  have hW1 : 1 ≤ W := by
    have := hWj 0
    rw [Nat.mul_zero] at this
    omega
  have hTh5 : Th ≤ 512 := by
    have := Nat.mul_le_mul b6 b7
    omega
  refine Res.m (e7_begin (by omega) hC g hm.1.2.2.1 q7 hP10 (nI Bn) (nI Th) (W := W) (by omega) hn) ?_
  rintro A' ⟨V', E', ad', g', hf⟩
  obtain ⟨c1, c2, c3, c4, c5⟩ := clearUnits_P (lauX M (nI Bn) (nI Th))
  have eM' : z_launch M (nI Bn) (nI Th) = z_clearUnits (lauX M (nI Bn) (nI Th)) := rfl
  rw [eM'] at g' ⊢
  generalize eZ : z_clearUnits (lauX M (nI Bn) (nI Th)) = Z at *
  have x2 : (lauX M (nI Bn) (nI Th)).1 2 = M.1 2 := rfl
  have fA : ∀ j, (j < 4 ∨ 9 < j) → Z.2.1 j = M.2.1 j := fun j hj => by
    rw [c1.2.1 j (by simp only [List.mem_cons, List.not_mem_nil, or_false]; omega)]
    rfl
  refine ⟨V', E', ad', W, ⟨g', ⟨⟨⟨?_, by omega, by omega, by omega⟩, fun t => ?_, fun s s' hs hs' he hn' => ?_, fun s hs => Or.inl (c4 s hs), fun g hg => ⟨0, by omega, (c5 g hg).2.2.2.2⟩⟩, 0, by omega, c2, fun k hk => absurd hk (Nat.not_lt_zero _), fun k k' hk => absurd hk (Nat.not_lt_zero _)⟩, fun u hu => ⟨P 7 - 1, by omega, ?_⟩, ?_, ⟨fun p k hp hp2 hk => ?_, fun k hk => ?_⟩, fun _ => ⟨0, Bn, Th, W, ?_⟩, ⟨?_, by omega, hal2⟩, by omega, hW1⟩, hf⟩
  · rw [c1.f 15]; rfl
  · rw [fA 16 (by omega), fA 17 (by omega)]; exact hm.1.2.1 t
  · rw [c4 s hs] at hn'
    exact absurd rfl hn'
  · rw [(c5 u hu).2.2.1, x2, e2, nI_sub1 (by omega)]
  · refine ⟨?_, ?_, ?_, ?_, ⟨q6, q7, q8, q9⟩, ⟨qb1, qb2⟩, qi1, qi2⟩
    · rw [c1.f 3]; exact s3
    · rw [c1.f 4]; exact s4
    · rw [c1.f 5]; exact s5
    · rw [c1.f 6]; exact s6
  · rw [c2] at hp
    have : p = 0 := (nI_eq (a := p) (b := 0) (by omega) (by omega)).mp hp.symm
    omega
  · rw [fA 2 (by omega)]; exact zq.2 k hk
  · refine ⟨by rw [c1.f 14]; rfl, by rw [c1.f 12]; rfl, ⟨hB6, by omega⟩, fun s bk hs hbk h9 => ?_, by rw [c1.f 13]; rfl, ⟨hT1, hTh5⟩, hWj, rfl, hW1⟩
    rw [c4 s hs] at h9
    have h2 := nI_pos' (n := bk) (by omega)
    rw [← h9] at h2
    exact absurd h2 (by decide)
  · rw [c1.f 22]; exact h22
end G14
