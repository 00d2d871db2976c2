/-! C73: a block begins: the shape -/
section C73
variable {nC nS n : Nat} {A A' : AH} {V V1 V2 : CW} {E E1 : EL} {ad r1 : AA} {M : MS} {P : PP} {u nx b Th W T Bk b1 b2 n0 n1 n2 m0 m1 m2 : Nat} {sl : Nat → Nat}
theorem ln_min {L Th i j : Nat} {X : MS} {q : Nat} (h1 : X.1 1 = nI L) (h13 : X.1 13 = nI Th) (h10 : X.2.1 10 q = nI i) (hL : L ≤ 32) (hi : i < 16) (hT : Th ≤ 512) (hj : j < 32) : lnI X q j ↔ j < min L (Th - L * i) := by
  have hb : L * i ≤ 32 * 16 := Nat.mul_le_mul hL (by omega)
  unfold lnI
  rw [h1, h13, h10, pk_mul, nI_add, nI_leI (by omega) (by omega), nI_leI (by omega) (by omega)]
  omega
theorem beg_SH (g : BgH V E ad M P V2 E1 r1 u nx b Th W sl) (hW16 : W ≤ 16) (rk : ∀ k q a, k < 3 → r1 (12 + k) q = some a → kdV V2 a = 12 + k + 1) (pn : PN V2 E1 r1 P m0 m1 m2) (h8 : ∀ u' a, ad 8 u' = some a → ∀ k, k < P 7 → xr V2 850 a k = r1 13 (16 * u' + k)) : SH V2 E1 r1 (z_begin M u nx W (P 7)) P := by
  have hbk := g.2.2.2.2.2.2.1
  obtain ⟨f0, _, _, f3⟩ := begin_P M u nx W (P 7) hbk
  have hs := g.1.2.2.2
  have hw := g.1.2.2.1
  obtain ⟨h1, h2, h3, h4, h5, h6, h7, h8', h9, h10, h11⟩ := hs
  obtain ⟨cp, g2, g3, g4, ⟨bi, q1, q2, q3, q4⟩, g1, _, hno, hu8, hTh, hTh5, hWj, hW10⟩ := id g
  obtain ⟨⟨rp0, _⟩, ⟨rp1, _⟩, ⟨rp2, _⟩, _⟩ := pn
  have kv : ∀ {a c : Nat}, kdV V a = c + 1 → kdV V2 a = c + 1 := fun {a c} ha => by rw [(g2.1 a (by omega)).1]; exact ha
  have ow : ∀ {a c k m : Nat}, kdV V a = c + 1 → (c ≠ 0 ∧ c ≠ 12 ∧ c ≠ 13 ∧ c ≠ 14) → 100 * c + k ≠ 850 → OW V c k a m → OW V2 c k a m := by
    intro a c k m ha hc hk ⟨y, y1, y2, y3⟩
    have := (g.ot ha hc).2 (100 * c + k)
    exact ⟨y, by rw [this.2.2.2 hk]; exact y1, by rw [g2.2.1]; exact y2, by rw [this.2.2.1]; exact y3⟩
  have lto : ∀ {a c k : Nat}, kdV V a = c + 1 → (c ≠ 0 ∧ c ≠ 2 ∧ c ≠ 12 ∧ c ≠ 13 ∧ c ≠ 14) → lof c k ≠ 0 → lt V2 E1 c k a = lt V E c k a := fun ha hc hk => (g3 _ _ _ ha hk hc.2.1 (g.ot ha ⟨hc.1, hc.2.2⟩).1).1
  have o12 : ∀ c, c ≠ 12 → c ≠ 13 → c ≠ 14 → r1 c = ad c := fun c a1 a2 a3 => q2 c a1 a2 a3
  have ltb : ∀ {bk b' : Nat}, ad 12 bk = some b' → lt V2 E1 12 2 b' = lt V E 12 2 b' := fun hb => (g3 _ 12 2 (h2 _ _ _ hb) (by decide) (by decide) (g4 12 _ _ (by omega) hb)).1
  have ltw : ∀ {s w : Nat}, ad 13 s = some w → lt V2 E1 13 2 w = lt V E 13 2 w := fun hb => (g3 _ 13 2 (h2 _ _ _ hb) (by decide) (by decide) (g4 13 _ _ (by omega) hb)).1
  have ekk : ∀ c k a, r1 c k = some a → kdV V2 a = c + 1 := by
    intro c k a ha
    by_cases e12 : c = 12
    · subst e12; exact rk 0 k a (by omega) ha
    · by_cases e13 : c = 13
      · subst e13; exact rk 1 k a (by omega) ha
      · by_cases e14 : c = 14
        · subst e14; exact rk 2 k a (by omega) ha
        · rw [o12 c e12 e13 e14] at ha
          exact kv (h2 c k a ha)
  have hln : ∀ s i, M.2.1 10 s = (z_begin M u nx W (P 7)).2.1 10 s → lnI (z_begin M u nx W (P 7)) s i = lnI M s i := fun s i e => by
    unfold lnI
    rw [← e, f0.f 1, f0.f 13]
  refine ⟨⟨fun c k k' a hc ha ha' => ?_, fun c k a hc ha => ?_⟩, ekk, ?_, ?_, ?_, ?_, ?_, ?_, h9, ?_, ?_⟩
  · by_cases e12 : c = 12
    · subst e12; exact rp0.2.2.1 k k' a ha ha'
    · by_cases e13 : c = 13
      · subst e13; exact rp1.2.2.1 k k' a ha ha'
      · by_cases e14 : c = 14
        · subst e14; exact rp2.2.2.1 k k' a ha ha'
        · rw [o12 c e12 e13 e14] at ha ha'
          exact h1.1 c k k' a hc ha ha'
  · rw [o12 c (by omega) (by omega) (by omega)] at ha
    exact h1.2 c k a hc ha
  · unfold SHp at h3 ⊢
    have k1' := h2 _ _ _ h3.1.1
    have k7' := h2 _ _ _ h3.1.2.1
    have y1 : ∀ d, d ≠ 850 → xr V2 d (P 0) = xr V d (P 0) := fun d hd => ((g.ot k1' (by decide)).2 d).2.2.2 hd
    have y7 : ∀ d, d ≠ 850 → xr V2 d (P 1) = xr V d (P 1) := fun d hd => ((g.ot k7' (by decide)).2 d).2.2.2 hd
    rw [o12 1 (by decide) (by decide) (by decide), o12 7 (by decide) (by decide) (by decide), o12 2 (by decide) (by decide) (by decide), o12 3 (by decide) (by decide) (by decide), o12 4 (by decide) (by decide) (by decide), o12 9 (by decide) (by decide) (by decide)]
    rw [y1 _ (by decide), y1 _ (by decide), y1 _ (by decide), y1 _ (by decide), y1 _ (by decide), y1 _ (by decide), y7 _ (by decide), y7 _ (by decide), y7 _ (by decide), y7 _ (by decide), y7 _ (by decide), y7 _ (by decide)]
    exact ⟨h3.1, h3.2.1, h3.2.2.1, h3.2.2.2.1, h3.2.2.2.2.1, h3.2.2.2.2.2.1, h3.2.2.2.2.2.2.1, h3.2.2.2.2.2.2.2.1, h3.2.2.2.2.2.2.2.2.1, h3.2.2.2.2.2.2.2.2.2.1, h3.2.2.2.2.2.2.2.2.2.2.1, ow k7' (by decide) (by decide) h3.2.2.2.2.2.2.2.2.2.2.2⟩
  · unfold SHu at h4 ⊢
    have k7' := h2 _ _ _ h3.1.2.1
    have k9' := h2 _ _ _ h3.1.2.2.2.2.2
    rw [o12 8 (by decide) (by decide) (by decide), o12 10 (by decide) (by decide) (by decide), lto k7' (by decide) (by decide), lto k9' (by decide) (by decide)]
    refine ⟨h4.1, h4.2.1, fun u' a ha => ⟨ow (h2 _ _ _ ha) (by decide) (by decide) (h4.2.2.1 u' a ha).1, fun k hk => h8 u' a ha k hk⟩, h4.2.2.2⟩
  · refine ⟨fun s w hw' => ?_, fun s hs' hn' => ?_⟩
    · rcases g.l13 hw' with ⟨i, hi, e⟩ | ⟨z1, z2, _, z4⟩
      · obtain ⟨c1, c2, c3, c4, _, _, w', c7, c8, c9⟩ := g.nw hi
        rw [← e] at c1 c2 c3 c4 c8
        have ew : w' = w := Option.some.inj (c8.symm.trans hw')
        subst ew
        refine ⟨by omega, c3, nx, b, hbk, c4.1, bi.2.1, c9.2.2.1, i, by omega, c4.2.1, c7⟩
      · obtain ⟨y1, y2, bk, b', y3, y4, y5, y6, j, y7, y8, y9⟩ := h5.1 s w z1
        have hne : bk ≠ nx := fun e => by rw [e, hno] at y5; cases y5
        refine ⟨y1, y2, bk, b', y3, by rw [z2.1]; exact y4, by rw [q1, ins_ne hne]; exact y5, by rw [(z4 1300).2.2.2 (by decide)]; exact y6, j, y7, by rw [z2.2.1]; exact y8, by rw [ltb y5]; exact y9⟩
    · have hns : ∀ i, i < W → s ≠ sl i := fun i hi e => by
        obtain ⟨_, _, _, _, _, _, w', _, c8, _⟩ := g.nw hi
        rw [← e, hn'] at c8
        cases c8
      rw [q3 s hns] at hn'
      rw [((begin_P M u nx W (P 7) hbk).2.2.1 s (fun z => by
        obtain ⟨i, hi, e⟩ := (g.tk s).mp z
        exact hns i hi e)).1]
      exact h5.2 s hs' hn'
  · refine ⟨fun s w hw' => ?_, fun t l hl => ?_⟩
    · rcases g.l13 hw' with ⟨i, hi, e⟩ | ⟨z1, z2, z3, z4⟩
      · obtain ⟨c1, c2, c3, c4, _, _, w', c7, c8, c9⟩ := g.nw hi
        rw [← e] at c1 c2 c3 c4 c8 c9
        have ew : w' = w := Option.some.inj (c8.symm.trans hw')
        subst ew
        have hlen := c9.2.2.2.2.2.1
        refine ⟨by omega, fun j hj => ?_, c9.2.2.2.2.2.2.1⟩
        rw [hlen]
        exact ln_min (by rw [f0.f 1]; exact h10.1) (by rw [f0.f 13]; exact hTh) c4.2.1 h9.1 (by omega) hTh5 hj
      · obtain ⟨y1, y2, y3⟩ := h6.1 s w z1
        rw [ltw z1]
        refine ⟨y1, fun j hj => by rw [hln s j z2.2.1.symm]; exact y2 j hj, fun j hj => ?_⟩
        rw [y3 j hj, q4 _ (fun i hi => by rw [show (32 * s + j) / 32 = s by omega]; exact z3 i hi)]
    · rcases g.l14 hl with ⟨i, hi, e⟩ | ⟨z1, z2, z3, z4⟩
      · obtain ⟨_, _, _, _, _, _, w', _, c8, _⟩ := g.nw hi
        exact ⟨w', by rw [e]; exact c8⟩
      · obtain ⟨w', hw'⟩ := h6.2 t l z1
        exact ⟨w', by rw [q3 _ z3]; exact hw'⟩
  · intro bk b' hb'
    rcases g.l12 hb' with ⟨z1, z2⟩ | ⟨z1, z2, z3⟩
    · subst z1 z2
      refine ⟨hbk, bi.2.2.2.2.1.trans hW10, fun j w hj => ?_⟩
      have hj' : j < W := by
        have := ge_lt hj
        rw [bi.2.2.2.2.1] at this
        exact this
      obtain ⟨c1, c2, c3, c4, _, _, w', c7, c8, c9⟩ := g.nw hj'
      have ew : w' = w := Option.some.inj (c7.symm.trans hj)
      subst ew
      exact ⟨sl j, c1, c8, c4.1, c4.2.1⟩
    · rw [ltb z2]
      obtain ⟨y1, y2, y3⟩ := h7 bk b' z2
      refine ⟨y1, y2, fun j w hj => ?_⟩
      obtain ⟨s, x1, x2, x3, x4⟩ := y3 j w hj
      have hns : ∀ i, i < W → s ≠ sl i := fun i hi e => by
        obtain ⟨_, _, _, _, c5, _⟩ := g.nw hi
        rw [← e, x2] at c5
        cases c5
      have hsl := (begin_P M u nx W (P 7) hbk).2.2.1 s (fun z => by
        obtain ⟨i, hi, e⟩ := (g.tk s).mp z
        exact hns i hi e)
      exact ⟨s, x1, by rw [q3 s hns]; exact x2, by rw [hsl.1]; exact x3, by rw [hsl.2.1]; exact x4⟩
  · intro k hk
    have : k = 0 ∨ k = 1 ∨ k = 2 := by omega
    rcases this with e | e | e <;> subst e
    · exact ⟨rp0.1, fun y hy q => rp0.2.1 y hy q⟩
    · exact ⟨rp1.1, fun y hy q => rp1.2.1 y hy q⟩
    · exact ⟨rp2.1, fun y hy q => rp2.2.1 y hy q⟩
  · rw [f0.f 1, f0.f 2]; exact h10
  · unfold SJ
    rw [g2.2.2]
    exact h11
theorem beg_HP (g : BgH V E ad M P V2 E1 r1 u nx b Th W sl) (hp : HP V E ad M P T) : HP V2 E1 r1 (z_begin M u nx W (P 7)) P T := by
  have hbk := g.2.2.2.2.2.2.1
  obtain ⟨f0, _, f2, f3⟩ := begin_P M u nx W (P 7) hbk
  have hs := g.1.2.2.2
  have r15 : r1 15 = ad 15 := g.ro (by decide) (by decide) (by decide)
  have hP3 : kdV V (P 3) = 4 := hs.kk hs.2.2.1.1.2.2.2.1
  have nP3 := g.ot (c := 3) hP3 (by decide)
  obtain ⟨la, lac⟩ := g.2.2.1 (P 3) 3 0 hP3 (by decide) (by decide) nP3.1
  obtain ⟨lb, lbc⟩ := g.2.2.1 (P 3) 3 1 hP3 (by decide) (by decide) nP3.1
  have askI : ∀ {k a : Nat}, ad 15 k = some a → ∀ d, xi V2 d a = xi V d a := fun ha d => ((g.ot (c := 15) (hs.kk ha) (by decide)).2 d).1
  have askR : ∀ {k a : Nat}, ad 15 k = some a → xr V2 1508 a = xr V 1508 a := fun ha => ((g.ot (c := 15) (hs.kk ha) (by decide)).2 1508).2.2.2 (by decide)
  obtain ⟨⟨p, p1, p2, p3⟩, h2, ⟨t1, t2, tn, t3, t4⟩, ⟨o1, o2, o3⟩, ⟨s1, s2⟩, c1, c2, c3⟩ := hp
  unfold HP
  rw [la, lb, lac, lbc, r15]
  refine ⟨⟨p, by rw [f0.f 41]; exact p1, p2, p3⟩, fun k a ha => ?_, ⟨by rw [(nP3.2 302).1]; exact t1, t2, tn, fun k a ha => ?_, t4⟩, ⟨o1, o2, ?_⟩, ⟨s1, s2⟩, c1, c2, c3⟩
  · obtain ⟨o, d, q, bk, s, i, y1, ⟨y2, y3, y4, y5⟩, ⟨y6, y7, y8, y9, y10, y11⟩, l, y12, y13⟩ := h2 k a ha
    have hns : ∀ i', i' < W → s ≠ sl i' := fun i' hi' e => by
      obtain ⟨_, _, _, _, _, c6, _⟩ := g.nw hi'
      rw [c6 (32 * s + i) (by omega)] at y12
      cases y12
    have hsl := f2 s (fun z => by
      obtain ⟨i', hi', e⟩ := (g.tk s).mp z
      exact hns i' hi' e)
    have hl14 : r1 14 (32 * s + i) = some l := by
      rw [g.2.2.2.2.1.2.2.2.2 _ (fun i' hi' => by rw [show (32 * s + i) / 32 = s by omega]; exact hns i' hi')]
      exact y12
    have hll : xi V2 1405 l = xi V 1405 l := ((g.2.1.1 l (by rw [hs.kk y12]; omega)).2 (g.2.2.2.1 14 _ l (by omega) y12) 1405).1
    refine ⟨o, d, q, bk, s, i, y1, ⟨by rw [f0.a 21]; exact y2, by rw [f0.a 20]; exact y3, by rw [f0.a 22]; exact y4, by rw [hsl.1]; exact y5⟩, ⟨?_, ?_, ?_, ?_, ?_, ?_⟩, l, hl14, ?_⟩
    · rw [askI ha, f0.a 19]; exact y6
    · rw [askI ha]; exact y7
    · rw [askI ha]; exact y8
    · rw [askI ha, f0.a 23]; exact y9
    · rw [askI ha, f0.a 24]; exact y10
    · rw [askI ha]; exact y11
    · rw [askR ha, askI ha, hll]
      exact y13
  · show xi V2 1501 a 0 = _ ∧ _
    rw [askI ha]
    exact t3 k a ha
  · refine o3.c (fun i x hi => ?_)
    obtain ⟨k, hk⟩ := (o2 x).mp ⟨i, hi⟩
    show xi V2 1500 x 0 = xi V 1500 x 0 ∧ xi V2 1501 x 0 = xi V 1501 x 0
    rw [askI hk, askI hk]
    exact ⟨rfl, rfl⟩
theorem beg_CO (g : BgH V E ad M P V2 E1 r1 u nx b Th W sl) {co : Nat} {S1 S2 : Nat → Bool} (hc : CO V co Bk b1 b2 S1 S2) : CO V2 co Bk b1 b2 S1 S2 := by
  have bs : ∀ {x m : Nat} {S : Nat → Bool}, BS V x m S → BS V2 x m S := by
    intro x m S ⟨a1, a2, ⟨y, y1, y2, y3⟩, ⟨v, v1, v2, v3⟩, a5⟩
    have ho := fun d => (g.ot (c := 6) a1 (by decide)).2 d
    have hw600 : xw V2 600 x = xw V 600 x := (ho 600).2.1
    refine ⟨by rw [(g.2.1.1 x (by omega)).1]; exact a1, a2, ⟨y, by rw [(ho _).2.2.2 (by decide)]; exact y1, by rw [g.2.1.2.1]; exact y2, by rw [(ho _).2.2.1]; exact y3⟩, ⟨v, v1, by rw [(ho 601).1]; exact v2, fun i h1 h2 => by rw [hw600]; exact v3 i h1 h2⟩, fun q hq => by rw [hw600]; exact a5 q hq⟩
  obtain ⟨a1, a2, a3, a4, a5, a6, a7⟩ := hc
  have ho := fun d => (g.ot (c := 4) a1 (by decide)).2 d
  exact ⟨by rw [(g.2.1.1 co (by omega)).1]; exact a1, by rw [(ho 403).1]; exact a2, by rw [(ho 400).2.2.2 (by decide)]; exact a3, by rw [(ho 401).2.2.2 (by decide)]; exact a4, a5, bs a6, bs a7⟩
theorem beg_KN (g : BgH V E ad M P V2 E1 r1 u nx b Th W sl) (hk : KN' V E M P) : KN' V2 E1 (z_begin M u nx W (P 7)) P := by
  have hbk := g.2.2.2.2.2.2.1
  obtain ⟨f0, _⟩ := begin_P M u nx W (P 7) hbk
  have hs := g.1.2.2.2
  have hP0 : kdV V (P 0) = 2 := hs.kk hs.2.2.1.1.1
  have e := (g.2.2.1 (P 0) 1 0 hP0 (by decide) (by decide) (g.ot (c := 1) hP0 (by decide)).1).1
  unfold KN' at hk ⊢
  rw [e]
  refine ⟨hk.1, fun k w hw => ?_⟩
  have h0 := hk.2 k w hw
  obtain ⟨a1, a2, a3, a4, a5, a6, a7, a8, a9⟩ := h0
  have ho := fun d => (g.ot (c := 5) a1 (by decide)).2 d
  have h1 : WM V2 w (z_take M (M.2.2 k)) := ⟨by rw [(g.2.1.1 w (by omega)).1]; exact a1, by unfold SJ; rw [g.2.1.2.2]; exact a2, by rw [(ho 500).1]; exact a3, by rw [(ho 501).1]; exact a4, by rw [(ho 502).1]; exact a5, by rw [(ho 503).1]; exact a6, by rw [(ho 504).1]; exact a7, by rw [(ho 505).1]; exact a8, by rw [(ho 506).2.2.2 (by decide), g.2.1.2.2]; exact a9⟩
  rw [f0.2.2]
  exact h1.fm (fun k' x1 x2 => z_take_k _ _ _ k' x1 x2)
end C73
