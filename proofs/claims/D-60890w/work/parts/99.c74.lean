/-! C74: a block begins, all of it; the dispatcher -/
section C74
variable {nC nS n : Nat} {A A1 A2 A' : AH} {V V1 V2 V' : CW} {E E1 E' : EL} {ad r1 ad' : AA} {M M' : MS} {P : PP} {u uu nx b Th W T Bk b1 b2 n0 n1 n2 m0 m1 m2 : Nat} {sl : Nat → Nat}
theorem GX.di (g : GX nC nS A V E ad M P T Bk b1 b2 n0 n1 n2) : DI (nC + rqC V E P) (nS + rqS V E P) V E P A V E ad n0 n1 n2 :=
  ⟨g.1, DS.rf, g.2.1.1.2.2.1, g.2.1.1.2.1, fun _ _ _ z => z, g.2.2, fun _ _ _ _ ha => g.2.1.1.2.2.2.kk ha, g.2.1.1.2.2.2.kk g.2.1.1.2.2.2.2.2.1.1.2.2.1⟩
/-- a unit's slots change -/
theorem DS.q8 (q : QF (fun _ => False) V V') (ho : ∀ a, a ≠ uu → xr V' 850 a = xr V 850 a) (hu : kdV V uu = 9) : DS (fun z => z = uu) V E V' E := by
  refine ⟨⟨fun a ha => ⟨by rw [kdV, q.1], fun hn d => ?_⟩, q.2.2.1.1, q.2.2.1.2⟩, fun a _ => ⟨rfl, fun _ => ⟨rfl, rfl⟩⟩, fun a c k ha hk => ?_⟩
  · obtain ⟨z1, z2, z3⟩ := q.2.2.2 a (fun z => z) d
    refine ⟨z1, ?_, by rw [q.2.1], z2⟩
    by_cases e : d = 850
    · rw [e]; exact ho a hn
    · exact z3 e
  · obtain ⟨z1, z2, z3⟩ := q.2.2.2 a (fun z => z) (100 * c + k)
    have hne : 100 * c + k ≠ 850 := by
      rcases hk with hk | hk
      · exact owl_850 hk
      · exact lof_850 hk
    exact ⟨by rw [z3 hne], z2⟩
set_option maxHeartbeats 1000000 in
theorem beg_GX (g : GX nC nS A V E ad M P T Bk b1 b2 n0 n1 n2) (d1 : DI (nC + rqC V E P) (nS + rqS V E P) V E P A1 V1 E1 r1 m0 m1 m2) (bi : BIx V1 E1 r1 sl nx b (P 6) Th W) (rw' : RWx ad r1 sl nx b W) (hu : ad 8 u = some uu)
    (s2 : St (nC + rqC V E P + rqP V1 E1 P + ptC V1 E1 r1 P m0 m1 m2) (nS + rqS V E P + 4 * rqP V1 E1 P + ptS V1 E1 r1 P m0 m1 m2) A2 V2) (q : QF (fun _ => False) V1 V2) (ho : ∀ a, a ≠ uu → xr V2 850 a = xr V1 850 a) (hr : ∀ k, k < P 7 → xr V2 850 uu k = if (frB M u k = true ∧ cnB (frB M u) k < W) then (lt V1 E1 12 2 b)[cnB (frB M u) k]? else xr V1 850 uu k)
    (hsl : ∀ i, i < W → ∃ k, k < P 7 ∧ sl i = 16 * u + k ∧ frB M u k = true ∧ cnB (frB M u) k = i) (hnx : nx < 64) (h12 : ad 12 nx = none) (hTh : M.1 13 = nI Th) (hTh5 : Th ≤ 512) (hWj : ∀ j, P 6 * j < Th ↔ j < W) (hW10 : W = P 10) : GX nC nS A2 V2 E1 r1 (z_begin M u nx W (P 7)) P T Bk b1 b2 m0 m1 m2 := by
  have d0 := g.di
  have cp := g.2.1.1
  have hs := cp.2.2.2
  have hw := cp.2.2.1
  have hg := cp.2.1
  have hP2 : kdV V (P 2) = 3 := d0.P2
  have huk := hs.kk hu
  have huk1 : kdV V1 uu = 9 := d1.2.1.kv (c := 8) huk
  have hW16 : W ≤ 16 := by rw [hW10]; exact hs.2.2.2.2.2.2.2.2.1.2.2.2.2
  have hu8 : u < P 8 := by
    have := hs.2.2.2.1.2.1 u
    rw [hu] at this
    have := ge_lt this
    rw [hs.2.2.2.1.1] at this
    exact this
  have lq : ∀ {c k a : Nat}, 100 * c + k ≠ 850 → lt V2 E1 c k a = lt V1 E1 c k a ∧ cpL V2 E1 c k a = cpL V1 E1 c k a := fun {c k a} hk => by
    unfold lt cpL
    rw [(q.2.2.2 a (fun z => z) (100 * c + k)).2.2 hk]
    exact ⟨rfl, rfl⟩
  have ds2 : DS (fun z => z = uu) V1 E1 V2 E1 := DS.q8 q ho huk1
  have bi2 : BIx V2 E1 r1 sl nx b (P 6) Th W := by
    obtain ⟨c1, c2, c3, c4, c5, c6⟩ := bi
    have el := (lq (c := 12) (k := 2) (a := b) (by decide)).1
    refine ⟨q.kv c1, c2, by rw [(q.2.2.2 b (fun z => z) 1200).1]; exact c3, fun i hi => by rw [(q.2.2.2 b (fun z => z) 1251).1]; exact c4 i hi, by rw [el]; exact c5, fun i w hi => ?_⟩
    rw [el] at hi
    have nw := c6 i w hi
    refine nw.ds ds2 d1.2.2.1 (fun z => ?_) (fun ll hll z => ?_) (fun l hl z => ?_) rfl (fun _ _ => rfl)
    · have := nw.1
      rw [z] at this
      omega
    · obtain ⟨l0, y1, y2, _⟩ := d1.2.2.1.2.1 w 13 2 nw.1 (by decide)
      have : l0 = ll := Option.some.inj (y1.symm.trans hll)
      subst this
      rw [z] at y2
      omega
    · have := (nw.2.2.2.2.2.2.2 l hl).2
      rw [z] at this
      omega
  have bg : BgH V E ad M P V2 E1 r1 u nx b Th W sl := by
    refine ⟨cp, ⟨fun a ha => ⟨?_, fun hn d => ?_⟩, ?_, ?_⟩, fun a c k ha hk hc hn => ?_, fun c q' o hc ho' => d0.nPM hc ho', ⟨bi2, rw'⟩, hsl, hnx, h12, hu8, hTh, hTh5, hWj, hW10⟩
    · rw [kdV, q.1]
      exact (d1.2.1.1.1 a ha).1
    · obtain ⟨z1, z2, z3, z4⟩ := (d1.2.1.1.1 a ha).2 hn d
      obtain ⟨y1, y2, y3⟩ := q.2.2.2 a (fun z => z) d
      exact ⟨y1.trans z1, by rw [q.2.1]; exact z3, y2.trans z4, fun hd => (y3 hd).trans z2⟩
    · rw [q.2.2.1.1]; exact d1.2.1.1.2.1
    · rw [q.2.2.1.2]; exact d1.2.1.1.2.2
    · obtain ⟨e1, e2⟩ := lq (c := c) (k := k) (a := a) (lof_850 hk)
      obtain ⟨f1, f2⟩ := d1.2.1.ltc hw ha hk (fun ll hll => nPM_l hw hg hP2 ha hk hc hll hn)
      exact ⟨e1.trans f1, e2.trans f2⟩
  have rk : ∀ k q' a, k < 3 → r1 (12 + k) q' = some a → kdV V2 a = 12 + k + 1 := fun k q' a hk ha => q.kv (d1.2.2.2.2.2.2.1 k q' a hk ha)
  have pn : PN V2 E1 r1 P m0 m1 m2 := by
    have pn1 := d1.2.2.2.2.2.1
    unfold PN at pn1 ⊢
    rw [(lq (c := 2) (k := 0) (a := P 2) (by decide)).1, (lq (c := 2) (k := 1) (a := P 2) (by decide)).1, (lq (c := 2) (k := 2) (a := P 2) (by decide)).1]
    exact ⟨pn1.1, pn1.2.1, pn1.2.2.1, fun j hj => by rw [(lq (c := 2) (k := j) (a := P 2) (by omega)).2]; exact pn1.2.2.2 j hj⟩
  have h8 : ∀ u' a, ad 8 u' = some a → ∀ k, k < P 7 → xr V2 850 a k = r1 13 (16 * u' + k) := by
    intro u' a ha k hk
    have hold : xr V1 850 a k = ad 13 (16 * u' + k) := by
      have nP := (bg.ot (c := 8) (hs.kk ha) (by decide)).1
      rw [((d1.2.1.1.1 a (by rw [hs.kk ha]; omega)).2 nP 850).2.1]
      exact (hs.2.2.2.1.2.2.1 u' a ha).2 k hk
    have hP7 := hs.2.2.2.2.2.2.2.2.1.2.1
    by_cases e : a = uu
    · subst e
      have eu : u' = u := hs.1.1 8 u' u a (by decide) ha hu
      subst eu
      rw [hr k hk]
      by_cases c : frB M u' k = true ∧ cnB (frB M u') k < W
      · rw [if_pos c]
        obtain ⟨_, _, _, _, _, _, w, c7, c8, _⟩ := bg.nw c.2
        obtain ⟨k', y1, y2, y3, y4⟩ := hsl _ c.2
        have ek := cnB_uq y3 c.1 y4
        subst ek
        rw [(lq (c := 12) (k := 2) (a := b) (by decide)).1] at c7
        rw [c7, ← y2, c8]
      · rw [if_neg c, hold, rw'.2.2.1 _ (fun i hi z => ?_)]
        obtain ⟨k', y1, y2, y3, y4⟩ := hsl i hi
        have ek : k' = k := by omega
        subst ek
        exact c ⟨y3, by omega⟩
    · rw [ho a e, hold, rw'.2.2.1 _ (fun i hi z => ?_)]
      obtain ⟨k', y1, y2, y3, y4⟩ := hsl i hi
      have eu : u' = u := by omega
      rw [eu, hu] at ha
      exact e (Option.some.inj ha).symm
  have wt : WT V2 E1 := d1.2.2.1.qf q (fun _ z => absurd z (fun z => z)) rfl
  have gl : GL V2 E1 := d1.2.2.2.1.qf q rfl (fun _ _ => ⟨rfl, rfl⟩) (fun _ z => absurd z (fun z => z))
  obtain ⟨S1, S2, hco⟩ := g.2.1.2.2.1
  refine ⟨?_, ⟨⟨beg_CX bg, gl, wt, beg_SH bg hW16 rk pn h8⟩, beg_HP bg g.2.1.2.1, ⟨S1, S2, beg_CO bg hco⟩, beg_KN bg g.2.1.2.2.2⟩, pn⟩
  have hP3 : kdV V (P 3) = 4 := hs.kk hs.2.2.1.1.2.2.2.1
  have nP3 := (bg.ot (c := 3) hP3 (by decide)).1
  obtain ⟨la, lac⟩ := bg.2.2.1 (P 3) 3 0 hP3 (by decide) (by decide) nP3
  obtain ⟨lb, lbc⟩ := bg.2.2.1 (P 3) 3 1 hP3 (by decide) (by decide) nP3
  have e1 : rqC V2 E1 P = rqC V E P := by unfold rqC rqH; rw [la, lb, lac, lbc]
  have e2 : rqS V2 E1 P = rqS V E P := by unfold rqS rqH; rw [la, lb, lac, lbc]
  have e3 : rqP V2 E1 P = rqP V1 E1 P := by unfold rqP; rw [(lq (c := 2) (k := 0) (a := P 2) (by decide)).2, (lq (c := 2) (k := 1) (a := P 2) (by decide)).2, (lq (c := 2) (k := 2) (a := P 2) (by decide)).2]
  have ew : fW V2 E1 = fW V1 E1 := by funext z; unfold fW; rw [(lq (c := 13) (k := 2) (a := z) (by decide)).2]
  have eb : fB V2 E1 = fB V1 E1 := by funext z; unfold fB; rw [(lq (c := 12) (k := 2) (a := z) (by decide)).2]
  have e4 : ptC V2 E1 r1 P m0 m1 m2 = ptC V1 E1 r1 P m0 m1 m2 := by unfold ptC; rw [ew, eb, (lq (c := 2) (k := 0) (a := P 2) (by decide)).1, (lq (c := 2) (k := 1) (a := P 2) (by decide)).1]
  have e5 : ptS V2 E1 r1 P m0 m1 m2 = ptS V1 E1 r1 P m0 m1 m2 := by unfold ptS; rw [ew, eb, (lq (c := 2) (k := 0) (a := P 2) (by decide)).1, (lq (c := 2) (k := 1) (a := P 2) (by decide)).1]
  rw [e1, e2, e3, e4, e5]
  exact s2
theorem frS_cn (M : MS) (u : Nat) : ∀ d, iter (frS M) (16 * u) d 0 = nI (cnB (frB M u) d)
  | 0 => rfl
  | d + 1 => by
    rw [iter_last, frS_cn M u d, cnB_s]
    unfold frS
    by_cases c : M.2.1 9 (16 * u + d) = -1
    · rw [if_pos c, if_pos (show frB M u d = true from decide_eq_true c), nI_1]
    · have hf : ¬ frB M u d = true := fun z => c (of_decide_eq_true z)
      rw [if_neg c, if_neg hf]
      exact Int32.add_zero _
theorem fuF_ok {M : MS} {W S u : Nat} : ∀ {d i : Nat}, fuF M W S i d = some u → nI W ≤ iter (frS M) (16 * u) S 0
  | 0, i, h => by cases h
  | d + 1, i, h => by
    unfold fuF at h
    by_cases c : nI W ≤ iter (frS M) (16 * i) S 0
    · rw [if_pos c] at h
      rw [← Option.some.inj h]
      exact c
    · rw [if_neg c] at h
      exact fuF_ok h
/-- the places of the free slots -/
theorem sl_ex {f : Nat → Bool} {W S : Nat} (u : Nat) (h : W ≤ cnB f S) : ∃ sl : Nat → Nat, ∀ i, i < W → ∃ k, k < S ∧ sl i = 16 * u + k ∧ f k = true ∧ cnB f k = i := by
  have h1 : ∀ i, ∃ q, i < W → ∃ k, k < S ∧ q = 16 * u + k ∧ f k = true ∧ cnB f k = i := by
    intro i
    by_cases c : i < W
    · obtain ⟨k, k1, k2, k3⟩ := cnB_ex (f := f) (t := i) S (by omega)
      exact ⟨16 * u + k, fun _ => ⟨k, k1, rfl, k2, k3⟩⟩
    · exact ⟨0, fun z => absurd z c⟩
  exact ⟨fun i => Classical.choose (h1 i), fun i hi => Classical.choose_spec (h1 i) hi⟩
/-- one block is drawn and taken -/
theorem disp_one (hS : 20000 ≤ nS) (hC : 2 ≤ nC) (g : GX nC nS A V E ad M P T Bk b1 b2 n0 n1 n2) (hu : ad 8 u = some uu) (hfu : W ≤ cnB (frB M u) (P 7)) (hnx : nx < 64) (hbl : ∀ s bk, s < 128 → bk < 64 → M.2.1 9 s = nI bk → bk < nx) (hTh : M.1 13 = nI Th) (hTh5 : Th ≤ 512) (hWj : ∀ j, P 6 * j < Th ↔ j < W) (hW10 : W = P 10) (hW1 : 1 ≤ W) (hP6 : 1 ≤ P 6) (hn : 10100 < n) :
    Res (fX2_block n (P 2) (nI nx) (nI Th) (nI (P 6)) A) (fun g26 => ∃ b, g26.1 = some b ∧ rcv g26.2 (some uu) 8 = some uu ∧ Res (fX8_take n uu (some b) g26.2) (fun A2 => ∃ V2 E2 r2 m0 m1 m2, GX nC nS A2 V2 E2 r2 (z_begin M u nx W (P 7)) P T Bk b1 b2 m0 m1 m2 ∧ (∀ c, c ≠ 12 → c ≠ 13 → c ≠ 14 → r2 c = ad c) ∧ fr V2 = fr V)) := by
  have d0 := g.di
  have cp := g.2.1.1
  have hs := cp.2.2.2
  have huk := hs.kk hu
  have hP7 := hs.2.2.2.2.2.2.2.2.1.2.1
  have hP6' := hs.2.2.2.2.2.2.2.2.1.1
  have hP8 := hs.2.2.2.2.2.2.2.2.1.2.2.1
  have hW16 : W ≤ 16 := by rw [hW10]; exact hs.2.2.2.2.2.2.2.2.1.2.2.2.2
  have hu8 : u < P 8 := by
    have := hs.2.2.2.1.2.1 u
    rw [hu] at this
    have := ge_lt this
    rw [hs.2.2.2.1.1] at this
    exact this
  have h12 : ad 12 nx = none := by
    cases e : ad 12 nx with
    | none => rfl
    | some b =>
      obtain ⟨_, z2, z3⟩ := hs.2.2.2.2.2.2.1 nx b e
      obtain ⟨w, hw⟩ := lt_ge (l := lt V E 12 2 b) (i := 0) (by omega)
      obtain ⟨s, y1, _, y3, _⟩ := z3 0 w hw
      exact absurd (hbl s nx y1 hnx y3) (Nat.lt_irrefl _)
  obtain ⟨sl, hsl⟩ := sl_ex u hfu
  have free : ∀ k, k < P 7 → (frB M u k = true ↔ ad 13 (16 * u + k) = none) := by
    intro k hk
    constructor
    · intro z
      have h9 : M.2.1 9 (16 * u + k) = -1 := of_decide_eq_true z
      cases e : ad 13 (16 * u + k) with
      | none => rfl
      | some w =>
        obtain ⟨bk, bb, c1, c2, _⟩ := hs.bl e
        rw [c2] at h9
        have := nI_pos' (n := bk) (by omega)
        rw [h9] at this
        exact absurd this (by decide)
    · intro z
      exact decide_eq_true (hs.2.2.2.2.1.2 _ (by omega) z)
  have hsl' : ∀ i, i < W → sl i < 128 ∧ ad 13 (sl i) = none ∧ ∀ t, t < 32 → ad 14 (32 * sl i + t) = none := by
    intro i hi
    obtain ⟨k, y1, y2, y3, _⟩ := hsl i hi
    have h13 : ad 13 (sl i) = none := by rw [y2]; exact (free k y1).mp y3
    refine ⟨by omega, h13, fun t ht => ?_⟩
    cases e : ad 14 (32 * sl i + t) with
    | none => rfl
    | some l =>
      obtain ⟨w', hw'⟩ := hs.2.2.2.2.2.1.2 _ l e
      rw [show (32 * sl i + t) / 32 = sl i by omega, h13] at hw'
      cases hw'
  have hinj : ∀ i i', i < W → i' < W → sl i = sl i' → i = i' := by
    intro i i' hi hi' e
    obtain ⟨k, y1, y2, y3, y4⟩ := hsl i hi
    obtain ⟨k', z1, z2, z3, z4⟩ := hsl i' hi'
    have ek : k = k' := by omega
    subst ek
    omega
  refine Res.m (e2_block d0 (by omega) (by omega) (bk := nx) (L := P 6) (Th := Th) (W := W) sl hnx h12 hsl' hinj hP6 hP6' hTh5 hWj hW16 hn) ?_
  rintro ⟨g1, A1⟩ ⟨V1, E1, b, r1, m0, m1, m2, e1, d1, bi, rwx⟩
  have huk1 : kdV V1 uu = 9 := d1.2.1.kv (c := 8) huk
  refine ⟨b, e1, d1.1.rc huk1, ?_⟩
  have nP : ¬ PM V E P uu := fun z => by
    have := PM_kd cp.2.2.1 cp.2.1 d0.P2 z
    omega
  have hv := fun d => (d1.2.1.1.1 uu (by omega)).2 nP d
  obtain ⟨⟨y, y1, y2, y3⟩, h850⟩ := hs.2.2.2.1.2.2.1 u uu hu
  have ou : OW V1 8 0 uu (P 7) := ⟨y, by rw [(hv _).2.1]; exact y1, by rw [d1.2.1.1.2.1]; exact y2, by rw [(hv _).2.2.2]; exact y3⟩
  obtain ⟨bl, xb, lib, _⟩ := d1.2.2.1.li2 d1.2.2.2.1 (c := 12) (k := 2) (e := 13) bi.1 rfl
  have hlen := bi.2.2.2.2.1
  refine Res.m (e8_take d1.1 huk1 ou hP7 bi.1 xb lib (by omega) (frB M u) (fun k hk => ?_) (by omega)) ?_
  · rw [(hv 850).2.1, h850 k hk]
    exact free k hk
  · rintro A2 ⟨V2, s2, q2, ho2, hr2⟩
    rw [hlen] at hr2
    exact ⟨V2, E1, r1, m0, m1, m2, beg_GX g d1 bi rwx hu s2 q2 ho2 hr2 hsl hnx h12 hTh hTh5 hWj hW10, rwx.2.1, q2.2.2.1.1.trans d1.2.1.1.2.1⟩
end C74
