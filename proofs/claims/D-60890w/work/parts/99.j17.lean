/-! J17: a new machine -/
section J17
variable {nC nS n mC mS : Nat} {A A' : AH} {V V' V'' : CW} {E E' E'' : EL} {ad : AA} {M M' : MS} {P : PP} {T Bk Bk' b1 b2 n0 n1 n2 w x al hl sl m ul L S B I U G : Nat} {X : Nat → Prop} {k0 k1 : Option Nat} {p12 : Int32}
theorem ma_set (hk : kdV V m = 8) (h8 : xr V 708 m 0 = some ul) (h0 : ∀ d i, xi V d m i = 0) (V2 : CW) (hV : V2 = vI' (vR' (vR' (vR' (vR' (vR' (vI' (vI' (vI' (vI' V 700 m 0 (nI L)) 701 m 0 (nI S)) 702 m 0 (nI B)) 703 m 0 (nI I)) 704 m 0 k0) 705 m 0 k1) 706 m 0 (some (P 2))) 707 m 0 (some (P 3))) 710 m 0 (some (P 4))) 721 m 0 p12) : MA V2 P k0 k1 m ul L S B I p12 := by
  subst hV
  refine ⟨hk, ?_, ⟨?_, ?_, ?_, ?_, ?_, fun k a1 a2 a3 => ?_⟩, ?_, ?_, ?_, ?_, ?_⟩
  · simp [vI', vR', xr, up3]; exact h8
  · simp [vI', vR', xi, up3]
  · simp [vI', vR', xi, up3]
  · simp [vI', vR', xi, up3]
  · simp [vI', vR', xi, up3]
  · simp [vI', vR', xi, up3]
  · have q0 : ¬ k = 0 := by omega
    have q1 : ¬ k = 1 := by omega
    have q2 : ¬ k = 2 := by omega
    have q3 : ¬ k = 3 := by omega
    have h0' : ∀ d i, V.2.1 d m i = 0 := h0
    simp [vI', vR', xi, up3, h0', q0]
    rw [if_neg (by omega), if_neg (by omega), if_neg (by omega), if_neg (by omega)]
  · simp [vI', vR', xr, up3]
  · simp [vI', vR', xr, up3]
  · simp [vI', vR', xr, up3]
  · simp [vI', vR', xr, up3]
  · simp [vI', vR', xr, up3]
theorem mc7 : mcK 7 := Or.inl rfl
/-- the end of the making: cache and counts -/
theorem e7_initC (g : GZ (nC + 28) (nS + 210) A V E M P Bk b1 b2 n0 n1 n2) (hL : L ≤ 32) (hG : G ≤ 8) (hn : 10 < n) (ma : MA V P k0 k1 m ul L S B I p12) (hu : (lt V E 7 8 m).length = U ∧ (∀ a, a ∈ lt V E 7 8 m → UN V a S) ∧ inj (lt V E 7 8 m)) :
    Res ((nO A 9 dfX9).bind fun A22 => (fX9_init n (hN A) (nI G) A22).bind fun g23 => (pR g23 (some m) 7 9 (some (hN A))).bind fun A24 => (nAI A24 (nI L)).bind fun A25 => (pR A25 (some m) 7 11 (some (hN A24))).bind fun A26 => some A26) (fun A' => ∃ V' E' ca, GZ nC nS A' V' E' M P Bk b1 b2 n0 n1 n2 ∧ ZF V E V' E' ∧ DS (fun z => z = m) V E V' E' ∧ MA V' P k0 k1 m ul L S B I p12 ∧ xr V' 709 m 0 = some ca ∧ OW V' 7 11 m L ∧ ((lt V' E' 7 8 m).length = U ∧ (∀ a, a ∈ lt V' E' 7 8 m → UN V' a S) ∧ inj (lt V' E' 7 8 m)) ∧ kdV V' ca = 10 ∧ ((lt V' E' 9 0 ca).length = G ∧ (∀ a, a ∈ lt V' E' 9 0 ca → GN V' a) ∧ inj (lt V' E' 9 0 ca)) ∧ xi V' 901 ca 0 = 0 ∧ xi V' 902 ca 0 = 0) := by
  obtain ⟨A1, e1, r1⟩ := GZ.nc (nC := nC + 1) (nS := nS + 32) (g.mono (by omega) (by omega)) hG hn
  refine Res.b e1 (Res.w r1 ?_)
  rintro A2 ⟨V2, E2, g2, z2, d2, c1, c2, c3, c4, c5⟩
  generalize hN A = o at *
  have ma2 := ma.ds d2 (fun z => z)
  have km2 := ma2.1
  have hmo : m ≠ o := fun z => by rw [z, c2] at km2; cases km2
  obtain ⟨A3, e3, s3⟩ := (g2.1.mono (nC' := nC + rqC V2 E2 P + rqP V2 E2 P + ptC V2 E2 a00 P n0 n1 n2 + 1) (nS' := nS + rqS V2 E2 P + 4 * rqP V2 E2 P + ptS V2 E2 a00 P n0 n1 n2 + L) (by omega) (by omega)).pr 9 (some o) (c := 7) km2 (by decide) rfl rfl
  obtain ⟨A4, A5, V5, e4, e5, s5, k5, vf5, ow5, z5, x5, i5⟩ := newI L s3 (a := m) (c := 7) (k := 11) km2 (by decide) rfl (Or.inl rfl) (by omega)
  rw [if_pos (by decide)] at e4
  refine Res.b e3 (Res.b e4 (Res.b e5 (Res.r ?_)))
  have hr : ∀ d, d ≠ 709 → d ≠ 711 → xr V5 d m = xr V2 d m ∧ xn V5 d m = xn V2 d m := fun d h1 h2 => by
    obtain ⟨y1, y2⟩ := x5 d h2
    rw [y1, y2]
    refine ⟨?_, rfl⟩
    funext i
    rw [vRr, if_neg (fun z => h1 (by omega))]
  have hlo : ∀ k, (owl 7 k ≠ 0 ∨ lof 7 k ≠ 0) → k = 8 := fun k hk => by
    obtain ⟨_, _, _, _, _, l6, l7, _⟩ := lof_79 (c := 7) (k := 8) (e := 8) (Or.inl ⟨rfl, rfl, rfl⟩)
    rcases hk with h | h
    · exact absurd (l6 k) h
    · exact l7 k h
  obtain ⟨g5, zf5, d5⟩ := g2.one (mC := nC) (mS := nS) km2 mc7 ((VF.vR (S := fun z => z = m) (V := V2) 709 0 (some o) rfl).tr vf5) k5 (fun k hk => by
    have := hlo k hk
    subst this
    obtain ⟨y1, y2⟩ := hr 708 (by decide) (by decide)
    exact ⟨by rw [y1], y2⟩) s5
  have dd : DS (fun z => z = m) V E V5 E2 := (d2.up (X' := fun z => z = m) (fun _ _ z => z.elim)).tr d5 (fun _ _ z => z)
  have hwt := g.2.1.2.1
  have hwt2 := g2.2.1.2.1
  have lm : ∀ (ll : Nat) {a c k : Nat}, kdV V2 a = c + 1 → lof c k ≠ 0 → xr V2 (100 * c + k) a 0 = some ll → ll ≠ m := fun ll {a c k} ha hk hll z => by
    obtain ⟨l0, y1, y2, _⟩ := hwt2.2.1 a c k ha hk
    have : l0 = ll := Option.some.inj (y1.symm.trans hll)
    rw [this, z, km2] at y2
    cases y2
  have el : lt V5 E2 7 8 m = lt V E 7 8 m := by
    rw [(d5.ltc hwt2 (c := 7) (k := 8) km2 (by decide) (fun ll hll => lm ll km2 (by decide) hll)).1]
    exact (d2.ltc hwt (c := 7) (k := 8) ma.1 (by decide) (fun _ _ z => z)).1
  have ec : lt V5 E2 9 0 o = lt V2 E2 9 0 o := (d5.ltc hwt2 (c := 9) (k := 0) c2 (by decide) (fun ll hll => lm ll c2 (by decide) hll)).1
  refine ⟨V5, E2, o, g5, z2.tr zf5, dd, ?_, ?_, ow5, ?_, d5.kv (c := 9) c2, ?_, ?_, ?_⟩
  · refine ma2.mv (d5.kv (c := 7) km2) (fun d h1 h2 => ?_) (fun d h1 h2 h3 => (hr d h3 (by omega)).1)
    rw [i5 d (by omega)]
    rfl
  · rw [(x5 709 (by decide)).1, vRr, if_pos ⟨rfl, rfl, rfl⟩]
  · rw [el]
    exact ⟨hu.1, fun a ha => (hu.2.1 a ha).ds dd (fun z => by have h1 := (hu.2.1 a ha).1; have h2 := ma.1; rw [z] at h1; omega), hu.2.2⟩
  · rw [ec]
    exact ⟨c3.1, fun a ha => (c3.2.1 a ha).ds d5 (fun z => by have h1 := (c3.2.1 a ha).1; rw [z] at h1; omega), c3.2.2⟩
  · rw [d5.1.i (c := 9) c2 (fun z => hmo z.symm)]; exact c4
  · rw [d5.1.i (c := 9) c2 (fun z => hmo z.symm)]; exact c5
set_option maxHeartbeats 1000000 in
theorem e7_init (hS : 10000 ≤ nS) (hC : 1 ≤ nC) (g : GZ (nC + 60) (nS + 600) A V E M P Bk b1 b2 n0 n1 n2) (hL : L ≤ 32) (h1 : 1 ≤ S) (h16 : S ≤ 16) (hU : U ≤ 8) (hG : G ≤ 8) (B I : Nat) (k0 k1 : Option Nat) (p12 : Int32) (hn : 10100 < n) : ∃ A1, nO A 7 dfX7 = some A1 ∧ (∃ mC mS, St mC mS A1 (vNew V (hN A) 7)) ∧ kdV V (hN A) = 0 ∧ Res (fX7_init n (hN A) (nI L) (nI S) (nI U) (nI B) (nI G) (nI I) k0 k1 (some (P 2)) (some (P 3)) (some (P 4)) p12 A1) (fun A' => ∃ V' E' ca ul, GZ nC nS A' V' E' M P B b1 b2 n0 n1 n2 ∧ ZF V E V' E' ∧ lt V' E' 3 0 (P 3) = [] ∧ xi V' 302 (P 3) 0 = 0 ∧ MA V' P k0 k1 (hN A) ul L S B I p12 ∧ xr V' 709 (hN A) 0 = some ca ∧ OW V' 7 11 (hN A) L ∧ ((lt V' E' 7 8 (hN A)).length = U ∧ (∀ a, a ∈ lt V' E' 7 8 (hN A) → UN V' a S) ∧ inj (lt V' E' 7 8 (hN A))) ∧ kdV V' ca = 10 ∧ ((lt V' E' 9 0 ca).length = G ∧ (∀ a, a ∈ lt V' E' 9 0 ca → GN V' a) ∧ inj (lt V' E' 9 0 ca)) ∧ xi V' 901 ca 0 = 0 ∧ xi V' 902 ca 0 = 0) := by
  obtain ⟨A1, e1, hst, A2, e2, r2⟩ := GZ.ol (nC := nC + 57) (nS := nS + 560) (c := 7) (k := 8) (e := 8) (g.mono (by omega) (by show _ + 26 + 7 ≤ _; omega)) (Or.inl ⟨rfl, rfl, rfl⟩) dfX7 rfl
  refine ⟨A1, e1, hst, g.1.new0, ?_⟩
  unfold fX7_init
  refine Res.b e2 (Res.w r2 ?_)
  rintro A3 ⟨A4, V1, E1, e4, g1, z1, d1, ⟨c1, c2, c3, c4, c5⟩, ⟨c6, c7, c8⟩, c9⟩
  generalize hN A = m at *
  generalize hN A1 = ul at *
  have hml : m ≠ ul := fun z => by rw [z, c4] at c3; cases c3
  obtain ⟨A5, e5, g5, z5⟩ := g1.pi 0 (nI L) (m := m) (c := 7) c3 mc7 (by decide) rfl
  obtain ⟨A6, e6, g6, z6⟩ := g5.pi 1 (nI S) (m := m) (c := 7) c3 mc7 (by decide) rfl
  obtain ⟨A7, e7, g7, z7⟩ := g6.pi 2 (nI B) (m := m) (c := 7) c3 mc7 (by decide) rfl
  obtain ⟨A8, e8, g8, z8⟩ := g7.pi 3 (nI I) (m := m) (c := 7) c3 mc7 (by decide) rfl
  obtain ⟨A9, e9, g9, z9⟩ := g8.pr 4 k0 (m := m) (c := 7) c3 mc7 (by decide) rfl rfl (by decide) (by decide)
  obtain ⟨A10, e10, g10, z10⟩ := g9.pr 5 k1 (m := m) (c := 7) c3 mc7 (by decide) rfl rfl (by decide) (by decide)
  obtain ⟨A11, e11, g11, z11⟩ := g10.pr 6 (some (P 2)) (m := m) (c := 7) c3 mc7 (by decide) rfl rfl (by decide) (by decide)
  obtain ⟨A12, e12, g12, z12⟩ := g11.pr 7 (some (P 3)) (m := m) (c := 7) c3 mc7 (by decide) rfl rfl (by decide) (by decide)
  obtain ⟨A13, e13, g13, z13⟩ := g12.pr 10 (some (P 4)) (m := m) (c := 7) c3 mc7 (by decide) rfl rfl (by decide) (by decide)
  obtain ⟨A14, e14, g14, z14⟩ := g13.pi 21 p12 (m := m) (c := 7) c3 mc7 (by decide) rfl
  refine Res.b e4 (Res.b e5 (Res.b e6 (Res.b e7 (Res.b e8 (Res.b e9 (Res.b e10 (Res.b e11 (Res.b e12 (Res.b e13 (Res.b e14 ?_))))))))))
  have zA : ZF V E _ E1 := (((((((((z1.tr z5).tr z6).tr z7).tr z8).tr z9).tr z10).tr z11).tr z12).tr z13).tr z14
  have maA := ma_set (P := P) (L := L) (S := S) (B := B) (I := I) (k0 := k0) (k1 := k1) (p12 := p12) c3 c5 c9 _ rfl
  clear z5 z6 z7 z8 z9 z10 z11 z12 z13 z14 g5 g6 g7 g8 g9 g10 g11 g12 g13 e5 e6 e7 e8 e9 e10 e11 e12 e13 e14
  have klA : kdV (vI' (vR' (vR' (vR' (vR' (vR' (vI' (vI' (vI' (vI' V1 700 m 0 (nI L)) 701 m 0 (nI S)) 702 m 0 (nI B)) 703 m 0 (nI I)) 704 m 0 k0) 705 m 0 k1) 706 m 0 (some (P 2))) 707 m 0 (some (P 3))) 710 m 0 (some (P 4))) 721 m 0 p12) ul = 1 := c4
  generalize hVA : vI' (vR' (vR' (vR' (vR' (vR' (vI' (vI' (vI' (vI' V1 700 m 0 (nI L)) 701 m 0 (nI S)) 702 m 0 (nI B)) 703 m 0 (nI I)) 704 m 0 k0) 705 m 0 k1) 706 m 0 (some (P 2))) 707 m 0 (some (P 3))) 710 m 0 (some (P 4))) 721 m 0 p12 = VA at *
  have gA : GZ (nC + 57) (nS + 560) A14 VA E1 M P Bk b1 b2 n0 n1 n2 := g14
  have zA' : ZF V E VA E1 := zA
  have maA' : MA VA P k0 k1 m ul L S B I p12 := maA
  refine Res.b (gA.1.rc (c := 3) gA.2.2.1.2.2) (Res.w (gA.clr (by omega) (by omega) hn) ?_)
  rintro A15 ⟨VB, EB, hl, sl, gB, lB, xB, zB, vg, hLL, eB1, eBo⟩
  have rowB := (vg.o hLL.2.2 (c := 7) maA'.1 (by decide) (by decide))
  have maB : MA VB P k0 k1 m ul L S B I p12 := maA'.mv rowB.1 (fun d h1 h2 => (rowB.2 d).2.2.2 (by omega)) (fun d _ _ _ => (rowB.2 d).1)
  have nh : ul ≠ hl ∧ ul ≠ sl := by
    refine ⟨fun z => ?_, fun z => ?_⟩
    · have := (gA.2.1.2.1.2.2 m 7 8 (P 3) 3 0 ul maA'.1 gA.2.2.1.2.2 (by decide) (by decide) maA'.2.1 (by rw [z]; exact hLL.1)).2.1
      cases this
    · have := (gA.2.1.2.1.2.2 m 7 8 (P 3) 3 1 ul maA'.1 gA.2.2.1.2.2 (by decide) (by decide) maA'.2.1 (by rw [z]; exact hLL.2.1)).2.1
      cases this
  obtain ⟨q1, q2⟩ := eBo ul nh.1 nh.2
  rw [c7] at q1
  rw [c8] at q2
  obtain ⟨A16, e16, gC, zC⟩ := gB.p4 B
  refine Res.b e16 ?_
  have maC : MA (vI' VB 403 (P 4) 0 (nI B)) P k0 k1 m ul L S B I p12 := maB.mv maB.1 (fun d h1 h2 => by
    funext i
    rw [vIi, if_neg (fun z => by omega)]) (fun _ _ _ _ => rfl)
  have xC : xi (vI' VB 403 (P 4) 0 (nI B)) 302 (P 3) 0 = 0 := by
    rw [vIi, if_neg (fun z => absurd z.1 (by decide))]
    exact xB
  have lC : lt (vI' VB 403 (P 4) 0 (nI B)) EB 3 0 (P 3) = [] := lB
  generalize vI' VB 403 (P 4) 0 (nI B) = VC at *
  refine un_new (nC := nC + 28) (nS := nS + 210) h1 h16 hU (by omega) _ _ (gC.mono (by omega) (by omega)) maC.1 maC.2.1 q1 (by omega) ?_
  intro A17 VD ED gD zD dD lD uD jD
  have maD := maC.ds dD hml
  have elt : lt VD ED 7 8 m = ED.2.1 ul := by
    show ED.2.1 ((xr VD 708 m 0).getD 0) = _
    rw [maD.2.1]
    rfl
  rw [← elt] at lD uD jD
  refine Res.m (e7_initC gD hL hG (by omega) maD ⟨lD, uD, jD⟩) ?_
  rintro A18 ⟨VE, EE, ca, gE, zE, dE, maE, x9, o11, hu, hca, hg, h901, h902⟩
  have k3 := gC.2.2.1.2.2
  have k3D : kdV VD (P 3) = 4 := dD.kv (c := 3) k3
  refine ⟨VE, EE, ca, ul, gE, (((zA'.tr zB).tr zC).tr zD).tr zE, ?_, ?_, maE, x9, o11, hu, hca, hg, h901, h902⟩
  · rw [(dE.ltc gD.2.1.2.1 (c := 3) (k := 0) k3D (by decide) (fun ll hll z => ?_)).1, (dD.ltc gC.2.1.2.1 (c := 3) (k := 0) k3 (by decide) (fun ll hll z => ?_)).1]
    · exact lC
    · subst z
      have := (gC.2.1.2.1.2.2 m 7 8 (P 3) 3 0 ll maC.1 k3 (by decide) (by decide) maC.2.1 hll).2.1
      cases this
    · obtain ⟨l0, y1, y2, _⟩ := gD.2.1.2.1.2.1 (P 3) 3 0 k3D (by decide)
      have : l0 = ll := Option.some.inj (y1.symm.trans hll)
      rw [this, z, maD.1] at y2
      cases y2
  · rw [dE.1.i (c := 3) k3D (fun z => by have := maD.1; rw [← z, k3D] at this; cases this), dD.1.i (c := 3) k3 (fun z => by
      have h := gC.2.1.2.1.2.1 m 7 8 maC.1 (by decide)
      obtain ⟨l0, y1, y2, _⟩ := h
      have : l0 = ul := Option.some.inj (y1.symm.trans maC.2.1)
      rw [this, ← z, k3] at y2
      cases y2)]
    exact xC
end J17
