/-! J11: all but a machine: mill, pool, heap, coalescer, kernel -/
def a00 : AA := fun _ _ => none
def GZ (nC nS : Nat) (A : AH) (V : CW) (E : EL) (M : MS) (P : PP) (Bk b1 b2 n0 n1 n2 : Nat) : Prop :=
  St (nC + rqC V E P + rqP V E P + ptC V E a00 P n0 n1 n2) (nS + rqS V E P + 4 * rqP V E P + ptS V E a00 P n0 n1 n2) A V ∧ (GL V E ∧ WT V E ∧ SJ V) ∧ (kdV V (P 0) = 2 ∧ kdV V (P 2) = 3 ∧ kdV V (P 3) = 4) ∧ (xr V 102 (P 0) 0 = some (P 2) ∧ xr V 103 (P 0) 0 = some (P 3) ∧ xr V 104 (P 0) 0 = some (P 4)) ∧ HL V E P ∧ (∃ S1 S2, CO V (P 4) Bk b1 b2 S1 S2) ∧ KN' V E M P ∧ PN V E a00 P n0 n1 n2 ∧ ∀ i, i < 4096 → xi V 151 (P 0) i = M.2.1 2 i
def ZF (V : CW) (E : EL) (V' : CW) (E' : EL) : Prop :=
  (∀ a, kdV V a ≠ 0 → kdV V' a = kdV V a) ∧ (fr V' = fr V ∧ sa V' = sa V) ∧ (∀ a c, kdV V a = c + 1 → (c = 1 ∨ c = 4 ∨ c = 5 ∨ c = 6) → ∀ d, (d ≠ 105 → xr V' d a = xr V d a) ∧ xw V' d a = xw V d a ∧ xn V' d a = xn V d a ∧ (d ≠ 403 → d ≠ 151 → d ≠ 302 → xi V' d a = xi V d a)) ∧ (∀ a c k, kdV V a = c + 1 → lof c k ≠ 0 → (c = 1 ∨ c = 2 ∨ c = 12 ∨ c = 13) → lt V' E' c k a = lt V E c k a ∧ cpL V' E' c k a = cpL V E c k a)
section J11
variable {nC nS n mC mS : Nat} {A A' : AH} {V V' V'' : CW} {E E' E'' : EL} {ad : AA} {M M' : MS} {P : PP} {T Bk Bk' b1 b2 n0 n1 n2 w x c al I hl sl : Nat} {X : Nat → Prop}
theorem ZF.tr (h : ZF V E V' E') (h2 : ZF V' E' V'' E'') : ZF V E V'' E'' := by
  obtain ⟨a1, a2, a3, a4⟩ := h
  obtain ⟨b1, b2, b3, b4⟩ := h2
  have kk : ∀ {a c : Nat}, kdV V a = c + 1 → kdV V' a = c + 1 := fun ha => by rw [a1 _ (by omega)]; exact ha
  refine ⟨fun a ha => (b1 a (by rw [a1 a ha]; exact ha)).trans (a1 a ha), ⟨b2.1.trans a2.1, b2.2.trans a2.2⟩, fun a c ha hc d => ?_, fun a c k ha hk hc => ?_⟩
  · obtain ⟨c1, c2, c3, c4⟩ := a3 a c ha hc d
    obtain ⟨d1, d2, d3, d4⟩ := b3 a c (kk ha) hc d
    exact ⟨fun z => (d1 z).trans (c1 z), d2.trans c2, d3.trans c3, fun z y t => (d4 z y t).trans (c4 z y t)⟩
  · obtain ⟨c1, c2⟩ := a4 a c k ha hk hc
    obtain ⟨d1, d2⟩ := b4 a c k (kk ha) hk hc
    exact ⟨d1.trans c1, d2.trans c2⟩
theorem ZF.ds (hd : DS X V E V' E') (hw : WT V E) (hO : ∀ a c, kdV V a = c + 1 → (c = 1 ∨ c = 4 ∨ c = 5 ∨ c = 6) → ¬ X a) (hL : ∀ a c k ll, kdV V a = c + 1 → lof c k ≠ 0 → (c = 1 ∨ c = 2 ∨ c = 12 ∨ c = 13) → xr V (100 * c + k) a 0 = some ll → ¬ X ll) : ZF V E V' E' := by
  refine ⟨fun a ha => (hd.1.1 a ha).1, hd.1.2, fun a c ha hc d => ?_, fun a c k ha hk hc => hd.ltc hw ha hk (fun ll hll => hL a c k ll ha hk hc hll)⟩
  have hx := hO a c ha hc
  exact ⟨fun _ => hd.1.r ha hx d, hd.1.w ha hx d, hd.1.n ha hx d, fun _ _ _ => hd.1.i ha hx d⟩
theorem ZF.ks (k : KS V E V' E') (v : VG hl sl V V') (hL : kdV V hl = 1 ∧ kdV V sl = 1) : ZF V E V' E' := by
  refine ⟨k.1.1, v.2.1, fun a c ha hc d => ?_, fun a c j ha hk hc => k.2 a c j ha hk (by omega)⟩
  obtain ⟨_, h2⟩ := v.1 a (by omega)
  obtain ⟨e1, e2, e3, e4⟩ := h2 (by omega) (fun z => by rw [z, hL.1] at ha; omega) (fun z => by rw [z, hL.2] at ha; omega) d
  exact ⟨fun _ => e1, e3, e2, fun _ _ z => e4 z⟩
theorem GZ.zf (g : GZ nC nS A V E M P Bk b1 b2 n0 n1 n2) (hf : ZF V E V' E') (hh : ∀ k, k < 2 → lt V' E' 3 k (P 3) = lt V E 3 k (P 3) ∧ cpL V' E' 3 k (P 3) = cpL V E 3 k (P 3)) (s' : St (mC + rqC V E P + rqP V E P + ptC V E a00 P n0 n1 n2) (mS + rqS V E P + 4 * rqP V E P + ptS V E a00 P n0 n1 n2) A' V') (gl : GL V' E') (wt : WT V' E') (mem : ∀ i, i < 4096 → xi V' 151 (P 0) i = M'.2.1 2 i) (h403 : xi V' 403 (P 4) 0 = nI Bk') (hK : M'.2.2 = M.2.2) : GZ mC mS A' V' E' M' P Bk' b1 b2 n0 n1 n2 := by
  obtain ⟨s, ⟨hg, hw, sj⟩, ⟨k0, k2, k3⟩, ⟨r2, r3, r4⟩, ⟨i0, i1, i2, i3, i4, i5⟩, ⟨S1, S2, co⟩, kn, pn, _⟩ := g
  obtain ⟨z1, z2, z3, z4⟩ := hf
  have kk : ∀ {a c : Nat}, kdV V a = c + 1 → kdV V' a = c + 1 := fun ha => by rw [z1 _ (by omega)]; exact ha
  have q0 := z4 (P 2) 2 0 k2 (by decide) (by decide)
  have q1 := z4 (P 2) 2 1 k2 (by decide) (by decide)
  have q2 := z4 (P 2) 2 2 k2 (by decide) (by decide)
  have r0 := hh 0 (by omega)
  have r1 := hh 1 (by omega)
  have kdl : ∀ k, k < 3 → ∀ y, y ∈ lt V E 2 k (P 2) → kdV V y = 12 + k + 1 := fun k hk y hy => pool_kd hw hg k2 hk hy
  have ew : ∀ w, kdV V w = 14 → fW V' E' w = fW V E w := fun w hk => by
    unfold fW
    rw [(z4 w 13 2 hk (by decide) (by decide)).2]
  have eb : ∀ b, kdV V b = 13 → fB V' E' b = fB V E b := fun b hk => by
    unfold fB
    rw [(z4 b 12 2 hk (by decide) (by decide)).2]
  have sW : sumA (fW V' E') (a00 13) 128 + sumL (fW V' E') (lt V' E' 2 1 (P 2)) = sumA (fW V E) (a00 13) 128 + sumL (fW V E) (lt V E 2 1 (P 2)) := by
    rw [q1.1, sumA_c (f := fW V E) (r := a00 13) 128 (fun q hq => ⟨rfl, fun a ha => by cases ha⟩), sumL_c _ (fun y hy => ew y (kdl 1 (by omega) y hy))]
  have sB : sumA (fB V' E') (a00 12) 64 + sumL (fB V' E') (lt V' E' 2 0 (P 2)) = sumA (fB V E) (a00 12) 64 + sumL (fB V E) (lt V E 2 0 (P 2)) := by
    rw [q0.1, sumA_c (f := fB V E) (r := a00 12) 64 (fun q hq => ⟨rfl, fun a ha => by cases ha⟩), sumL_c _ (fun y hy => eb y (kdl 0 (by omega) y hy))]
  have ePC : ptC V' E' a00 P n0 n1 n2 = ptC V E a00 P n0 n1 n2 := by unfold ptC; rw [sW, sB]
  have ePS : ptS V' E' a00 P n0 n1 n2 = ptS V E a00 P n0 n1 n2 := by unfold ptS; rw [sW, sB]
  have erP : rqP V' E' P = rqP V E P := by unfold rqP; rw [q0.2, q1.2, q2.2]
  have erC : rqC V' E' P = rqC V E P := by unfold rqC rqH; rw [r0.1, r1.1, r0.2, r1.2]
  have erS : rqS V' E' P = rqS V E P := by unfold rqS rqH; rw [r0.1, r1.1, r0.2, r1.2]
  have x0 := z3 (P 0) 1 k0 (by decide)
  refine ⟨by rw [erC, erS, erP, ePC, ePS]; exact s', ⟨gl, wt, by unfold SJ; rw [z2.2]; exact sj⟩, ⟨kk k0, kk k2, kk k3⟩, ⟨by rw [(x0 102).1 (by decide)]; exact r2, by rw [(x0 103).1 (by decide)]; exact r3, by rw [(x0 104).1 (by decide)]; exact r4⟩, ?_, ⟨S1, S2, ?_⟩, ?_, ?_, mem⟩
  · unfold HL
    rw [r0.1, r1.1, r0.2, r1.2]
    exact ⟨i0, i1, i2, i3, i4, i5⟩
  · have bs : ∀ {x m : Nat} {S : Nat → Bool}, BS V x m S → BS V' x m S := by
      intro x m S ⟨a1, a2, ⟨y, y1, y2, y3⟩, ⟨v, v1, v2, v3⟩, a5⟩
      have ho := z3 x 6 a1 (by decide)
      exact ⟨kk (c := 6) a1, a2, ⟨y, by rw [(ho _).1 (by decide)]; exact y1, by rw [z2.1]; exact y2, by rw [(ho _).2.2.1]; exact y3⟩, ⟨v, v1, by rw [(ho 601).2.2.2 (by decide) (by decide) (by decide)]; exact v2, fun i h1 h2 => by rw [(ho 600).2.1]; exact v3 i h1 h2⟩, fun q hq => by rw [(ho 600).2.1]; exact a5 q hq⟩
    obtain ⟨a1, a2, a3, a4, a5, a6, a7⟩ := co
    have ho := z3 (P 4) 4 a1 (by decide)
    exact ⟨kk (c := 4) a1, h403, by rw [(ho 400).1 (by decide)]; exact a3, by rw [(ho 401).1 (by decide)]; exact a4, a5, bs a6, bs a7⟩
  · have e := (z4 (P 0) 1 0 k0 (by decide) (by decide)).1
    unfold KN' at kn ⊢
    rw [e, hK]
    refine ⟨kn.1, fun k w hw' => ?_⟩
    obtain ⟨a1, a2, a3, a4, a5, a6, a7, a8, a9⟩ := kn.2 k w hw'
    have ho := z3 w 5 a1 (by decide)
    have hI : ∀ d, d ≠ 403 → d ≠ 151 → d ≠ 302 → xi V' d w = xi V d w := fun d => (ho d).2.2.2
    have h1 : WM V' w (z_take M (M.2.2 k)) := ⟨kk (c := 5) a1, by unfold SJ; rw [z2.2]; exact a2, by rw [hI 500 (by decide) (by decide) (by decide)]; exact a3, by rw [hI 501 (by decide) (by decide) (by decide)]; exact a4, by rw [hI 502 (by decide) (by decide) (by decide)]; exact a5, by rw [hI 503 (by decide) (by decide) (by decide)]; exact a6, by rw [hI 504 (by decide) (by decide) (by decide)]; exact a7, by rw [hI 505 (by decide) (by decide) (by decide)]; exact a8, by rw [(ho 506).1 (by decide), z2.2]; exact a9⟩
    exact h1.fm (fun k' x1 x2 => z_take_k _ _ _ k' x1 x2)
  · unfold PN at pn ⊢
    rw [q0.1, q1.1, q2.1]
    refine ⟨pn.1, pn.2.1, pn.2.2.1, fun j hj => ?_⟩
    rw [(z4 (P 2) 2 j k2 (lof2 hj) (by decide)).2]
    exact pn.2.2.2 j hj
theorem GY.gz (g : GY nC nS A V E ad M P Bk b1 b2 n0 n1 n2) (h12 : ad 12 = a00 12) (h13 : ad 13 = a00 13) (h14 : ad 14 = a00 14) : GZ nC nS A V E M P Bk b1 b2 n0 n1 n2 := by
  obtain ⟨s, ⟨⟨cx, hg, hw, hs⟩, hl, co, kn⟩, pn⟩ := g
  unfold ptC ptS at s
  unfold PN at pn
  rw [h12, h13] at s
  rw [h12, h13, h14] at pn
  refine ⟨s, ⟨hg, hw, hs.2.2.2.2.2.2.2.2.2.2⟩, ⟨hs.kk hs.2.2.1.1.1, hs.kk hs.2.2.1.1.2.2.1, hs.kk hs.2.2.1.1.2.2.2.1⟩, ⟨hs.2.2.1.2.2.1, hs.2.2.1.2.2.2.1, hs.2.2.1.2.2.2.2.1⟩, hl, co, kn, pn, fun i hi => ?_⟩
  exact cx 151 0 i (P 0) (Or.inl (by decide)) hi hs.2.2.1.1.1
/-- the heap of asks is cleared -/
theorem GZ.clr (hS : 10000 ≤ nS) (hC : 1 ≤ nC) (g : GZ nC nS A V E M P Bk b1 b2 n0 n1 n2) (hn : 10100 < n) :
    Res (fX3_clear n (P 3) A) (fun A' => ∃ V' E' hl sl, GZ nC nS A' V' E' M P Bk b1 b2 n0 n1 n2 ∧ lt V' E' 3 0 (P 3) = [] ∧ xi V' 302 (P 3) 0 = 0 ∧ ZF V E V' E' ∧ VG hl sl V V' ∧ LL V P hl sl ∧ E'.1 = E.1 ∧ ∀ a, a ≠ hl → a ≠ sl → E'.2.1 a = E.2.1 a ∧ E'.2.2 a = E.2.2 a) := by
  obtain ⟨s, ⟨hg, hw, sj⟩, ⟨k0', hP2, hP3⟩, ⟨r2, r3, r4⟩, ⟨i0, i1, i2, i3, i4, i5⟩, ⟨S1, S2, co⟩, kn, pn, mem⟩ := g
  obtain ⟨hl, x0, li0, k0, e0, c0⟩ := hw.li2 hg (c := 3) (k := 0) (e := 15) hP3 rfl
  obtain ⟨sl, x1, li1, k1, e1, c1⟩ := hw.li2 hg (c := 3) (k := 1) (e := 15) hP3 rfl
  have hne : hl ≠ sl := fun z => by
    rw [z] at x0
    exact absurd (hw.2.2 (P 3) 3 0 (P 3) 3 1 sl hP3 hP3 (by decide) (by decide) x0 x1).2.2 (by decide)
  have hLL : LL V P hl sl := ⟨x0, x1, li0.1, li1.1⟩
  refine Res.m (e3_clear (nC1 := nC + rqH V E P + (6200 - cpL V E 3 0 (P 3)) + rqP V E P + ptC V E a00 P n0 n1 n2) (nS1 := nS + 9 * rqH V E P + 4 * (6200 - cpL V E 3 0 (P 3)) + 4 * rqP V E P + ptS V E a00 P n0 n1 n2) (by omega) (by omega) (s.mono (by unfold rqC; omega) (by unfold rqS; omega)) hP3 x0 x1 hne li0 li1 i3 i5 hn) ?_
  rintro A' ⟨V', cap2', s', vg, lh, ls, hc2, h302⟩
  obtain ⟨E', eE⟩ : ∃ E' : EL, E' = setE (setE E hl [] (cpL V E 3 0 (P 3))) sl (lt V E 3 1 (P 3) ++ lt V E 3 0 (P 3)) cap2' := ⟨_, rfl⟩
  have eE1 : E'.1 = E.1 := by rw [eE]; rfl
  have eh : E'.2.1 hl = [] ∧ E'.2.2 hl = cpL V E 3 0 (P 3) := by
    rw [eE]
    exact ⟨(if_neg hne).trans (if_pos rfl), (if_neg hne).trans (if_pos rfl)⟩
  have es : E'.2.1 sl = lt V E 3 1 (P 3) ++ lt V E 3 0 (P 3) ∧ E'.2.2 sl = cap2' := by
    rw [eE]
    exact ⟨if_pos rfl, if_pos rfl⟩
  have eo : ∀ a, a ≠ hl → a ≠ sl → E'.2.1 a = E.2.1 a ∧ E'.2.2 a = E.2.2 a := fun a a1 a2 => by
    rw [eE]
    exact ⟨(if_neg a2).trans (if_neg a1), (if_neg a2).trans (if_neg a1)⟩
  have LL' := hLL.vg vg hP3
  have l0' : lt V' E' 3 0 (P 3) = [] ∧ cpL V' E' 3 0 (P 3) = cpL V E 3 0 (P 3) := by
    unfold lt cpL
    rw [show xr V' (100 * 3 + 0) (P 3) 0 = some hl from LL'.1]
    exact eh
  have l1' : lt V' E' 3 1 (P 3) = lt V E 3 1 (P 3) ++ lt V E 3 0 (P 3) ∧ cpL V' E' 3 1 (P 3) = cap2' := by
    have h : xr V' (100 * 3 + 1) (P 3) 0 = some sl := LL'.2.1
    constructor
    · show E'.2.1 ((xr V' (100 * 3 + 1) (P 3) 0).getD 0) = _
      rw [h]
      exact es.1
    · show E'.2.2 ((xr V' (100 * 3 + 1) (P 3) 0).getD 0) = _
      rw [h]
      exact es.2
  have ltO : ∀ a c k, kdV V a = c + 1 → lof c k ≠ 0 → c ≠ 3 → lt V' E' c k a = lt V E c k a ∧ cpL V' E' c k a = cpL V E c k a := by
    intro a c k ha hk hc
    refine ⟨lt_vg hw vg hLL hP3 eo ha hk hc, ?_⟩
    obtain ⟨ll, l1, l2, l3⟩ := hw.2.1 a c k ha hk
    have n1 : ll ≠ hl := fun z => by
      rw [z] at l1
      exact hc (hw.2.2 a c k (P 3) 3 0 hl ha hP3 hk (by decide) l1 x0).2.1
    have n2 : ll ≠ sl := fun z => by
      rw [z] at l1
      exact hc (hw.2.2 a c k (P 3) 3 1 sl ha hP3 hk (by decide) l1 x1).2.1
    unfold cpL
    rw [((vg.o hLL.2.2 ha (lof_c hk).1 (lof_c hk).2.1).2 (100 * c + k)).1, l1]
    exact (eo ll n1 n2).2
  have ks : KS V E V' E' := ⟨⟨fun a ha => (vg.1 a ha).1, vg.2.1.1⟩, fun a c k ha hk hc => ltO a c k ha hk hc⟩
  have zf := ZF.ks ks vg hLL.2.2
  have gl' := hg.vg vg eE1 eo (by rw [k0, eh.1, eh.2]; exact lh) (by rw [k1, es.1, es.2]; exact ls)
  have wt' : WT V' E' := hw.vg vg hLL.2.2 eE1
  have q0 := ltO (P 2) 2 0 hP2 (by decide) (by decide)
  have q1 := ltO (P 2) 2 1 hP2 (by decide) (by decide)
  have q2 := ltO (P 2) 2 2 hP2 (by decide) (by decide)
  have kdl : ∀ k, k < 3 → ∀ y, y ∈ lt V E 2 k (P 2) → kdV V y = 12 + k + 1 := fun k hk y hy => pool_kd hw hg hP2 hk hy
  have ew : ∀ w, kdV V w = 14 → fW V' E' w = fW V E w := fun w hk => by
    unfold fW
    rw [(ltO w 13 2 hk (by decide) (by decide)).2]
  have eb : ∀ b, kdV V b = 13 → fB V' E' b = fB V E b := fun b hk => by
    unfold fB
    rw [(ltO b 12 2 hk (by decide) (by decide)).2]
  have sW : sumA (fW V' E') (a00 13) 128 + sumL (fW V' E') (lt V' E' 2 1 (P 2)) = sumA (fW V E) (a00 13) 128 + sumL (fW V E) (lt V E 2 1 (P 2)) := by
    rw [q1.1, sumA_c (f := fW V E) (r := a00 13) 128 (fun q hq => ⟨rfl, fun a ha => by cases ha⟩), sumL_c _ (fun y hy => ew y (kdl 1 (by omega) y hy))]
  have sB : sumA (fB V' E') (a00 12) 64 + sumL (fB V' E') (lt V' E' 2 0 (P 2)) = sumA (fB V E) (a00 12) 64 + sumL (fB V E) (lt V E 2 0 (P 2)) := by
    rw [q0.1, sumA_c (f := fB V E) (r := a00 12) 64 (fun q hq => ⟨rfl, fun a ha => by cases ha⟩), sumL_c _ (fun y hy => eb y (kdl 0 (by omega) y hy))]
  have ePC : ptC V' E' a00 P n0 n1 n2 = ptC V E a00 P n0 n1 n2 := by unfold ptC; rw [sW, sB]
  have ePS : ptS V' E' a00 P n0 n1 n2 = ptS V E a00 P n0 n1 n2 := by unfold ptS; rw [sW, sB]
  have erP : rqP V' E' P = rqP V E P := by unfold rqP; rw [q0.2, q1.2, q2.2]
  have erH : rqH V' E' P = rqH V E P := by
    unfold rqH
    rw [l0'.1, l1'.1, List.length_append]
    show 4096 - (0 + _) = _
    omega
  have kk : ∀ {a c : Nat}, kdV V a = c + 1 → kdV V' a = c + 1 := fun ha => by rw [zf.1 _ (by omega)]; exact ha
  have x0' := zf.2.2.1 (P 0) 1 k0' (by decide)
  refine ⟨V', E', hl, sl, ⟨?_, ⟨gl', wt', by unfold SJ; rw [vg.2.1.2]; exact sj⟩, ⟨kk k0', kk hP2, kk hP3⟩, ⟨by rw [(x0' 102).1 (by decide)]; exact r2, by rw [(x0' 103).1 (by decide)]; exact r3, by rw [(x0' 104).1 (by decide)]; exact r4⟩, ⟨?_, ?_, ?_, ?_, ?_, ?_⟩, ⟨S1, S2, co.vg vg hLL.2.2⟩, ?_, ?_, fun i hi => ?_⟩, l0'.1, h302, zf, vg, hLL, eE1, eo⟩
  · unfold rqC rqS
    rw [erH, erP, ePC, ePS, l0'.2, l1'.2]
    exact s'.mono (by omega) (by omega)
  · rw [l0'.1]
    intro i j v hi
    cases hi
  · rw [l1'.1]
    exact inj_app i1 i0 (fun x hx => i2 x hx)
  · rw [l0'.1]
    intro x hx
    exact absurd hx List.not_mem_nil
  · rw [l0'.1, l1'.1, List.length_append]
    show 0 + _ ≤ _
    omega
  · rw [l0'.2]; exact i4
  · rw [l1'.2]; exact hc2
  · unfold KN' at kn ⊢
    rw [(ltO (P 0) 1 0 k0' (by decide) (by decide)).1]
    exact ⟨kn.1, fun k w hw => (kn.2 k w hw).vg vg hLL.2.2⟩
  · unfold PN at pn ⊢
    rw [q0.1, q1.1, q2.1]
    refine ⟨pn.1, pn.2.1, pn.2.2.1, fun j hj => ?_⟩
    rw [(ltO (P 2) 2 j hP2 (lof2 hj) (by decide)).2]
    exact pn.2.2.2 j hj
  · rw [((vg.o hLL.2.2 (c := 1) k0' (by decide) (by decide)).2 151).2.2.2 (by decide)]
    exact mem i hi
end J11
