/-! J24: a machine is made and becomes the mill's -/
section J24
variable {nC nS n mC mS : Nat} {A A' : AH} {V V' V'' : CW} {E E' E'' : EL} {ad : AA} {M M' N : MS} {P : PP} {T Bk Bk' b1 b2 n0 n1 n2 w x c al hl sl m ul ca L S B I U G k Io mm : Nat} {p12 : Int32}
theorem mk_new (hS : 10000 ≤ nS) (hC : 1 ≤ nC) (g : GZ (nC + 60) (nS + 600) A V E M P Bk b1 b2 n0 n1 n2) (hL : L ≤ 32) (h1 : 1 ≤ S) (h16 : S ≤ 16) (hU : U ≤ 8) (hG : G ≤ 8) (mn : MN N L S U B G I p12) (hK : N.2.2 = M.2.2) (hm2 : ∀ i, i < 4096 → N.2.1 2 i = M.2.1 2 i) (hn : 10100 < n) : ∃ A1, nO A 7 dfX7 = some A1 ∧ (∃ mC mS, St mC mS A1 (vNew V (hN A) 7)) ∧ kdV V (hN A) = 0 ∧ Res (fX7_init n (hN A) (nI L) (nI S) (nI U) (nI B) (nI G) (nI I) (xr V 100 (P 0) 0) (xr V 101 (P 0) 0) (some (P 2)) (some (P 3)) (some (P 4)) p12 A1) (fun A2 => ∃ A', pR A2 (some (P 0)) 1 5 (some (hN A)) = some A' ∧ ∃ V' E' ad' ca, GX nC nS A' V' E' ad' N (Pm P (hN A) ca L S U G) 0 B b1 b2 n0 n1 n2 ∧ fr V' = fr V) := by
  obtain ⟨A1, e1, hst, h0, r⟩ := e7_init hS hC g hL h1 h16 hU hG B I (xr V 100 (P 0) 0) (xr V 101 (P 0) 0) p12 hn
  refine ⟨A1, e1, hst, h0, Res.m r ?_⟩
  rintro A2 ⟨V3, E3, ca, ul, g3, z3, l3, x3, ma, x9, o11, hu, hca, hg, h901, h902⟩
  generalize hN A = o at *
  obtain ⟨A4, e4, g4, ds⟩ := g3.m5 (some o)
  have k0 := g.2.2.1.1
  have k03 := g3.2.2.1.1
  have no : o ≠ P 0 := fun z => by rw [z, k0] at h0; cases h0
  have hlt : ∀ c k a, 100 * c + k ≠ 105 → lt (vR' V3 105 (P 0) 0 (some o)) E3 c k a = lt V3 E3 c k a := fun c k a h => by
    unfold lt
    rw [vRr, if_neg (fun z => h z.1)]
  have x00 : ∀ d, d ≠ 105 → xr (vR' V3 105 (P 0) 0 (some o)) d (P 0) 0 = xr V (d) (P 0) 0 := fun d hd => by
    rw [vRr, if_neg (fun z => hd z.1), ((z3.2.2.1 (P 0) 1 k0 (by decide)) d).1 hd]
  have ma4 : MA (vR' V3 105 (P 0) 0 (some o)) P (xr (vR' V3 105 (P 0) 0 (some o)) 100 (P 0) 0) (xr (vR' V3 105 (P 0) 0 (some o)) 101 (P 0) 0) o ul L S B I p12 := by
    rw [x00 100 (by decide), x00 101 (by decide)]
    exact ma.ds ds no
  have uk : ∀ a, a ∈ lt V3 E3 7 8 o → UN (vR' V3 105 (P 0) 0 (some o)) a S := fun a ha => (hu.2.1 a ha).ds ds (fun z => by have := (hu.2.1 a ha).1; rw [z, k03] at this; cases this)
  have gk : ∀ a, a ∈ lt V3 E3 9 0 ca → GN (vR' V3 105 (P 0) 0 (some o)) a := fun a ha => (hg.2.1 a ha).ds ds (fun z => by have := (hg.2.1 a ha).1; rw [z, k03] at this; cases this)
  refine ⟨A4, e4, _, E3, _, ca, g4.gx (us := lt V3 E3 7 8 o) (gs := lt V3 E3 9 0 ca) ((hlt 3 0 (P 3) (by decide)).trans l3) x3 (by rw [vRr, if_pos ⟨rfl, rfl, rfl⟩]) ma4 (by rw [vRr, if_neg (fun z => absurd z.1 (by decide))]; exact x9) (o11.ds' ds ma.1 no) (hlt 7 8 o (by decide)) (hlt 9 0 ca (by decide)) ⟨hu.1, uk, hu.2.2⟩ hca ⟨hg.1, gk, hg.2.2⟩ h901 h902 hL h16 hU hG mn hK hm2, ?_⟩
  exact z3.2.1.1
set_option maxHeartbeats 1000000 in
theorem CQ.sizes (cq : CQ (nC + 60) (nS + 600) A V E ad M P T Bk b1 b2 n0 n1 n2 c al I) (hS : 20000 ≤ nS) (hC : 2 ≤ nC) (hL1 : 1 ≤ L) (hL : L ≤ 32) (h1 : 1 ≤ S) (h16 : S ≤ 16) (hU1 : 1 ≤ U) (hU : U ≤ 8) (hB1 : 1 ≤ B) (hB : B ≤ 32) (hG1 : 1 ≤ G) (hG : G ≤ 8) (hk1 : 1 ≤ k) (hk : k ≤ 4096) (hn : 10100 < n) :
    Res ((fX7_free n (P 1) A).bind fun g12 =>
jl (fixG (fun _ _ => none) (fun (rc16 : (Int32) → (AH) → Option (Int32 × AH)) (x14 : Int32) (A15 : AH) =>
(gR A15 (some (P 0)) 1 5).bind fun v17 =>
(gI A15 v17 7 3).bind fun v18 =>
if v18 ≤ x14 then ((nO A15 7 dfX7).bind fun A20 =>
(gR A20 (some (P 0)) 1 0).bind fun v21 =>
(gR A20 (some (P 0)) 1 1).bind fun v22 =>
(gR A20 (some (P 0)) 1 2).bind fun v23 =>
(gR A20 (some (P 0)) 1 3).bind fun v24 =>
(gR A20 (some (P 0)) 1 4).bind fun v25 =>
(gR A20 (some (P 0)) 1 5).bind fun v26 =>
(gI A20 v26 7 21).bind fun v27 =>
(fX7_init n (hN A15) (nI L) (nI S) (nI U) (nI B) (nI G) (nI k) v21 v22 v23 v24 v25 v27 A20).bind fun g28 =>
(pR g28 (some (P 0)) 1 5 (some (hN A15))).bind fun A29 =>
some ((nb (1 : Int32)), A29)) else
(gR A15 (some (P 0)) 1 1).bind fun v30 =>
(sI A15 v30 x14 (0 : Int32)).bind fun A31 =>
rc16 (x14 + (1 : Int32)) A31) n) fun j13 =>
j13 (nI k) g12) (fun g => g.1 = 1 ∧ ∃ V' E' ad' P', CQ nC nS g.2 V' E' ad' (szN M L S U B G k) P' 0 B b1 b2 n0 n1 n2 0 al k ∧ P' 0 = P 0 ∧ fr V' = fr V) := by
  obtain ⟨b6, b7, b8, b9, b10, e1, e2⟩ := cq.b
  obtain ⟨g, hm, hl, sm, zq, hla, ⟨h22, hc, hal2⟩, hT, hP10⟩ := cq
  obtain ⟨s3, s4, s5, s6, _, _, qi1, qi2⟩ := sm
  refine Res.w (e7_free (by omega) (by omega) g.gy hm.1.2.2.1 (by omega)) ?_
  rintro A1 ⟨V1, E1, ad1, M1, g1, had1, hf1, f9, z9, _⟩
  obtain ⟨r12, r13, r14⟩ := g1.rows0 z9 hP10
  have hs1 := g1.2.1.1.2.2.2
  have cx1 := g1.2.1.1.1
  have x3 : xi V1 703 (P 1) 0 = nI I := by
    rw [cx1 703 0 0 (P 1) (Or.inr (Or.inl (by decide))) (by decide) hs1.2.2.1.1.2.1, Val_fd (by decide)]
    show M1.1 6 = _
    rw [f9.f 6]
    exact s6
  have x21 : xi V1 721 (P 1) 0 = nI al := by
    rw [cx1 721 0 0 (P 1) (Or.inr (Or.inl (by decide))) (by decide) hs1.2.2.1.1.2.1, Val_fd (by decide)]
    show M1.1 22 = _
    rw [f9.f 22]
    exact h22
  refine mem_loop (Io := I) qi2 hk (g1.gz r12 r13 r14) hs1.2.2.1.2.1 hs1.mm.2 x3 (by omega) _ _ ?_
  intro A2 V2 M2 g2 zf2 x5 km x21' hK2 hm2
  obtain ⟨mn, n3, n5, nK, n2, nj, n4, n7⟩ := szN_P (M := M) (L := L) (S := S) (U := U) (B := B) (G := G) (k := k) (I := I) (al := al) hk zq.2 h22 h1 hU hG
  have hmem : ∀ i, i < 4096 → (szN M L S U B G k).2.1 2 i = M2.2.1 2 i := fun i hi => by
    rw [n2 i, hm2 i, f9.a 2]
    by_cases c1 : k ≤ i
    · by_cases c2 : i < I
      · rw [if_pos ⟨c1, hi⟩, if_pos ⟨c1, c2⟩]
      · rw [if_pos ⟨c1, hi⟩, if_neg (fun z => c2 z.2), zq.2 i (by omega)]
    · rw [if_neg (fun z => c1 z.1), if_neg (fun z => c1 z.1)]
  obtain ⟨A3, e3, ⟨_, _, s3'⟩, h0, r3⟩ := mk_new (nC := nC) (nS := nS) (by omega) (by omega) g2 hL h1 h16 hU hG mn (nK.trans (by rw [hK2]; exact f9.2.2.symm)) hmem hn
  have k02 := g2.2.2.1.1
  obtain ⟨y2, y3, y4⟩ := g2.2.2.2.1
  generalize ho : hN A2 = o at *
  have np : P 0 ≠ o := fun z => by rw [← z, k02] at h0; cases h0
  have nm : P 1 ≠ o := fun z => by rw [← z, km] at h0; cases h0
  have kp : kdV (vNew V2 o 7) (P 0) = 1 + 1 := (if_neg np).trans k02
  have kq : kdV (vNew V2 o 7) (P 1) = 7 + 1 := (if_neg nm).trans km
  have rd : ∀ j, j < 6 → gR A3 (some (P 0)) 1 j = some (xr V2 (100 + j) (P 0) 0) := fun j hj => by
    rw [s3'.gr j kp (by show j < 6; exact hj) (by
      have : j = 0 ∨ j = 1 ∨ j = 2 ∨ j = 3 ∨ j = 4 ∨ j = 5 := by omega
      rcases this with e | e | e | e | e | e <;> (subst e; rfl))]
    exact congrArg some (if_neg np)
  refine Res.b e3 (Res.b (rd 0 (by omega)) (Res.b (rd 1 (by omega)) (Res.b ((rd 2 (by omega)).trans (congrArg some y2)) (Res.b ((rd 3 (by omega)).trans (congrArg some y3)) (Res.b ((rd 4 (by omega)).trans (congrArg some y4)) (Res.b ((rd 5 (by omega)).trans (congrArg some x5)) (Res.b (((s3'.gi 21 kq (by decide) rfl).trans (congrArg some (if_neg nm))).trans (congrArg some (x21'.trans x21))) (Res.w r3 ?_))))))))
  rintro A4 ⟨A5, e5, V5, E5, ad5, ca, g5, hf5⟩
  refine Res.b e5 (Res.r ⟨rfl, V5, E5, ad5, _, cq_new g5 mn n3 n5 hal2 hL1 h1 h16 hU1 hG1 hB1 hB hk1 hk (fun j hj => ?_) (fun t => ?_) n4 n7, rfl, hf5.trans (zf2.2.1.1.trans hf1.1)⟩)
  · rw [n2 j]
    by_cases c1 : j < 4096
    · rw [if_pos ⟨hj, c1⟩]
    · rw [if_neg (fun z => c1 z.2), zq.2 j (by omega)]
  · rw [nj 16 (by decide), nj 17 (by decide)]
    exact hm.1.2.1 t
end J24
