/-! F13: the heap of asks is cleared; stop -/
theorem inj_app {l l' : List Nat} (h : inj l) (h' : inj l') (hd : ∀ x, x ∈ l' → x ∉ l) : inj (l ++ l') := by
  intro i j v hi hj
  have key : ∀ {i : Nat}, (l ++ l')[i]? = some v → (l[i]? = some v ∧ i < l.length) ∨ (l'[i - l.length]? = some v ∧ l.length ≤ i) := by
    intro i hi
    by_cases c : i < l.length
    · rw [List.getElem?_append_left c] at hi
      exact Or.inl ⟨hi, c⟩
    · rw [List.getElem?_append_right (by omega)] at hi
      exact Or.inr ⟨hi, by omega⟩
  rcases key hi with ⟨a1, a2⟩ | ⟨a1, a2⟩ <;> rcases key hj with ⟨b1, b2⟩ | ⟨b1, b2⟩
  · exact h i j v a1 b1
  · exact absurd (List.mem_of_getElem? a1) (hd v (List.mem_of_getElem? b1))
  · exact absurd (List.mem_of_getElem? b1) (hd v (List.mem_of_getElem? a1))
  · have := h' _ _ v a1 b1
    omega
section F13
variable {nC nS n : Nat} {A A' : AH} {V V' : CW} {E E' : EL} {ad ad' : AA} {M M' N : MS} {P : PP} {T Bk b1 b2 n0 n1 n2 u uu c al I : Nat}
theorem ncap_9 {cap : Nat} (h : cap ≤ 6200) : ncap cap ≤ 9300 ∧ (cap ≤ 4095 → cap < ncap cap ∧ ncap cap ≤ 6150 ∧ ncap cap ≤ 4 * (ncap cap - cap)) := by
  unfold ncap
  split
  · omega
  · split <;> omega
theorem e3_clear {nC1 nS1 ho hl sl cap cap2 : Nat} {l sp : List Nat} (hS : 10000 ≤ nS1) (hC : 1 ≤ nC1) (h : St (nC1 + (6200 - cap2)) (nS1 + 4 * (6200 - cap2)) A V) (hho : kdV V ho = 4) (hx : xr V 300 ho 0 = some hl) (hx2 : xr V 301 ho 0 = some sl) (hne : hl ≠ sl) (hli : LI V hl 15 l cap) (hli2 : LI V sl 15 sp cap2) (hlen : l.length + sp.length ≤ 4096) (hcap : cap2 ≤ 6200) (hn : 10100 < n) :
    Res (fX3_clear n ho A) (fun A' => ∃ V' cap2', St (nC1 + (6200 - cap2')) (nS1 + 4 * (6200 - cap2')) A' V' ∧ VG hl sl V V' ∧ LI V' hl 15 [] cap ∧ LI V' sl 15 (sp ++ l) cap2' ∧ cap2' ≤ 6200 ∧ xi V' 302 ho 0 = 0) := by
  have hhl : ho ≠ hl := fun z => by have := hli.1; rw [← z] at this; omega
  have hhs : ho ≠ sl := fun z => by have := hli2.1; rw [← z] at this; omega
  unfold fX3_clear
  refine jl_R (fun dd (gg : Int32 → AH → Option AH) => ∀ k A3 V3 cp3, k + dd = l.length → St (nC1 + (6200 - cp3)) (nS1 + 4 * (6200 - cp3)) A3 V3 → LF V V3 sl → LI V3 sl 15 (sp ++ l.take k) cp3 → cp3 ≤ 6200 → Res (gg (nI k) A3) (fun A' => ∃ V' cap2', St (nC1 + (6200 - cap2')) (nS1 + 4 * (6200 - cap2')) A' V' ∧ VG hl sl V V' ∧ LI V' hl 15 [] cap ∧ LI V' sl 15 (sp ++ l) cap2' ∧ cap2' ≤ 6200 ∧ xi V' 302 ho 0 = 0)) l.length (show l.length < n by omega) ?_ ?_ ?_
  · intro gg k A3 V3 cp3 hk s3 f3 li3 hc3
    have ek : k = l.length := by omega
    rw [ek, List.take_length] at li3
    have hh3 := f3.kv hho
    have x3 : xr V3 300 ho 0 = some hl := by rw [f3.xr' hhs]; exact hx
    have lih : LI V3 hl 15 l cap := hli.vf (S := fun z => z = sl) (f3.vf rfl) hne
    refine Res.b ((s3.gr 0 (c := 3) hh3 (by decide) rfl).trans (congrArg some x3)) (Res.b (s3.rc lih.1) (Res.b (L_size s3 lih) ?_))
    rw [if_pos (c_le (by omega) (by omega))]
    refine Res.w (L_clear s3 lih (by omega)) ?_
    rintro A4 ⟨V4, s4, f4, li4⟩
    have hh4 := f4.kv hh3
    obtain ⟨A5, e5, s5⟩ := s4.pi 2 0 (c := 3) hh4 (by decide) rfl
    refine Res.b e5 (Res.r ⟨vI' V4 302 ho 0 0, cp3, s5, ?_, li4.vIo (by decide), ?_, hc3, ?_⟩)
    · exact ((VG.lf2 f3).tr (VG.lf f4)).tr (VG.vI (Or.inr rfl))
    · exact (li3.vf (S := fun z => z = hl) (f4.vf rfl) (fun z => hne z.symm)).vIo (by decide)
    · rw [vIi, if_pos ⟨rfl, rfl, rfl⟩]
  · intro dd gg hgg k A3 V3 cp3 hk s3 f3 li3 hc3
    have hh3 := f3.kv hho
    have x3 : xr V3 300 ho 0 = some hl := by rw [f3.xr' hhs]; exact hx
    have x32 : xr V3 301 ho 0 = some sl := by rw [f3.xr' hhs]; exact hx2
    have lih : LI V3 hl 15 l cap := hli.vf (S := fun z => z = sl) (f3.vf rfl) hne
    refine Res.b ((s3.gr 0 (c := 3) hh3 (by decide) rfl).trans (congrArg some x3)) (Res.b (s3.rc lih.1) (Res.b (L_size s3 lih) ?_))
    rw [if_neg (c_nle (by omega) (by omega)), nI_1]
    obtain ⟨x, hxk⟩ := lt_ge (l := l) (i := k) (by omega)
    have kx : kdV V3 x = 16 := lih.kd hxk
    refine Res.b ((s3.gr 1 (c := 3) hh3 (by decide) rfl).trans (congrArg some x32)) (Res.b (L_get s3 lih hxk) (Res.b (s3.cs (c := 15) kx) (Res.b (s3.rc li3.1) ?_)))
    have hl3 : (sp ++ l.take k).length = sp.length + k := by rw [List.length_append, List.length_take]; omega
    obtain ⟨n9, n4⟩ := ncap_9 hc3
    obtain ⟨tC, eC⟩ : ∃ t, nC1 + (6200 - cp3) = t + 1 := ⟨nC1 + (6200 - cp3) - 1, by omega⟩
    obtain ⟨tS, eS⟩ : ∃ t, nS1 + 4 * (6200 - cp3) = t + ncap cp3 := ⟨nS1 + 4 * (6200 - cp3) - ncap cp3, by omega⟩
    rw [eC, eS] at s3
    have et : sp ++ l.take (k + 1) = (sp ++ l.take k) ++ [x] := by
      rw [List.append_assoc]
      congr 1
      have hkl : k < l.length := by omega
      have : l[k] = x := by
        rw [List.getElem?_eq_getElem hkl] at hxk
        exact Option.some.inj hxk
      rw [← this]
      exact List.take_succ_eq_append_getElem hkl
    refine Res.w (L_add tC tS s3 li3 (fun _ => by omega) kx) ?_
    rintro ⟨g1, A4⟩ ⟨_, V4, s4, f4, li4⟩
    rw [← et] at li4
    by_cases cf : (sp ++ l.take k).length = cp3
    · rw [if_pos cf] at s4 li4
      have n4 := n4 (by omega)
      exact hgg (k + 1) A4 V4 (ncap cp3) (by omega) (s4.mono (by omega) (by omega)) (f3.tr f4) li4 (by omega)
    · rw [if_neg cf] at s4 li4
      exact hgg (k + 1) A4 V4 cp3 (by omega) (s4.mono (by omega) (by omega)) (f3.tr f4) li4 hc3
  · intro gg hgg
    exact hgg 0 A V cap2 (by omega) h LF.rf (by rw [List.take_zero, List.append_nil]; exact hli2) hcap
/-- nothing is on its way any more -/
theorem GY.clr (hS : 10000 ≤ nS) (hC : 1 ≤ nC) (g : GY nC nS A V E ad M P Bk b1 b2 n0 n1 n2) (hn : 10100 < n) :
    Res (fX3_clear n (P 3) A) (fun A' => ∃ V' E', GY nC nS A' V' E' ad M P Bk b1 b2 n0 n1 n2 ∧ lt V' E' 3 0 (P 3) = [] ∧ xi V' 302 (P 3) 0 = 0 ∧ fr V' = fr V) := by
  obtain ⟨s, ⟨cp, ⟨i0, i1, i2, i3, i4, i5⟩, ⟨S1, S2, co⟩, kn⟩, pn⟩ := g
  have hs := cp.2.2.2
  have hP3 : kdV V (P 3) = 4 := hs.kk hs.2.2.1.1.2.2.2.1
  have hP2 : kdV V (P 2) = 3 := hs.kk hs.2.2.1.1.2.2.1
  obtain ⟨hl, x0, li0, k0, e0, c0⟩ := cp.2.2.1.li2 cp.2.1 (c := 3) (k := 0) (e := 15) hP3 rfl
  obtain ⟨sl, x1, li1, k1, e1, c1⟩ := cp.2.2.1.li2 cp.2.1 (c := 3) (k := 1) (e := 15) hP3 rfl
  have hne : hl ≠ sl := fun z => by
    rw [z] at x0
    exact absurd (cp.2.2.1.2.2 (P 3) 3 0 (P 3) 3 1 sl hP3 hP3 (by decide) (by decide) x0 x1).2.2 (by decide)
  have hLL : LL V P hl sl := ⟨x0, x1, li0.1, li1.1⟩
  refine Res.m (e3_clear (nC1 := nC + rqH V E P + (6200 - cpL V E 3 0 (P 3)) + rqP V E P + ptC V E ad P n0 n1 n2) (nS1 := nS + 9 * rqH V E P + 4 * (6200 - cpL V E 3 0 (P 3)) + 4 * rqP V E P + ptS V E ad P n0 n1 n2) (by omega) (by omega) (s.mono (by unfold rqC; omega) (by unfold rqS; omega)) hP3 x0 x1 hne li0 li1 (by omega) i5 hn) ?_
  rintro A' ⟨V', cap2', s', vg, lh, ls, hc2, h302⟩
  obtain ⟨E', eE⟩ : ∃ E' : EL, E' = setE (setE E hl [] (cpL V E 3 0 (P 3))) sl (lt V E 3 1 (P 3) ++ lt V E 3 0 (P 3)) cap2' := ⟨_, rfl⟩
  have eE1 : E'.1 = E.1 := by rw [eE]; rfl
  have eh : E'.2.1 hl = [] ∧ E'.2.2 hl = cpL V E 3 0 (P 3) := by
    rw [eE]
    exact ⟨(if_neg hne).trans (if_pos rfl), (if_neg hne).trans (if_pos rfl)⟩
  have es : E'.2.1 sl = lt V E 3 1 (P 3) ++ lt V E 3 0 (P 3) ∧ E'.2.2 sl = cap2' := by
    rw [eE]
    exact ⟨if_pos rfl, if_pos rfl⟩
  have eo : ∀ a, a ≠ hl → a ≠ sl → E'.2.1 a = E.2.1 a ∧ E'.2.2 a = E.2.2 a := fun a a1 a2 => by
    rw [eE]
    exact ⟨(if_neg a2).trans (if_neg a1), (if_neg a2).trans (if_neg a1)⟩
  have hh : HS V E V' E' P := ⟨hl, sl, hLL, vg, eE1, eo⟩
  have cp' : CP V' E' ad M P := cp.vg vg hLL eE1 eo (by rw [k0, eh.1, eh.2]; exact lh) (by rw [k1, es.1, es.2]; exact ls)
  have ks := KS.hs hh cp
  have LL' := hLL.vg vg hP3
  have l0' : lt V' E' 3 0 (P 3) = [] ∧ cpL V' E' 3 0 (P 3) = cpL V E 3 0 (P 3) := by
    unfold lt cpL
    rw [show xr V' (100 * 3 + 0) (P 3) 0 = some hl from LL'.1]
    exact eh
  have l1' : lt V' E' 3 1 (P 3) = lt V E 3 1 (P 3) ++ lt V E 3 0 (P 3) ∧ cpL V' E' 3 1 (P 3) = cap2' := by
    have h : xr V' (100 * 3 + 1) (P 3) 0 = some sl := LL'.2.1
    constructor
    · show E'.2.1 ((xr V' (100 * 3 + 1) (P 3) 0).getD 0) = _
      rw [h]
      exact es.1
    · show E'.2.2 ((xr V' (100 * 3 + 1) (P 3) 0).getD 0) = _
      rw [h]
      exact es.2
  have q0 := ks.2 (P 2) 2 0 hP2 (by decide) (by decide)
  have q1 := ks.2 (P 2) 2 1 hP2 (by decide) (by decide)
  have q2 := ks.2 (P 2) 2 2 hP2 (by decide) (by decide)
  have kdl : ∀ k, k < 3 → ∀ y, y ∈ lt V E 2 k (P 2) → kdV V y = 12 + k + 1 := fun k hk y hy => pool_kd cp.2.2.1 cp.2.1 hP2 hk hy
  have ew : ∀ w, kdV V w = 14 → fW V' E' w = fW V E w := fun w hk => by
    unfold fW
    rw [(ks.2 w 13 2 hk (by decide) (by decide)).2]
  have eb : ∀ b, kdV V b = 13 → fB V' E' b = fB V E b := fun b hk => by
    unfold fB
    rw [(ks.2 b 12 2 hk (by decide) (by decide)).2]
  have sW : sumA (fW V' E') (ad 13) 128 + sumL (fW V' E') (lt V' E' 2 1 (P 2)) = sumA (fW V E) (ad 13) 128 + sumL (fW V E) (lt V E 2 1 (P 2)) := by
    rw [q1.1, sumA_c (f := fW V E) (r := ad 13) 128 (fun q hq => ⟨rfl, fun a ha => ew a (hs.kk ha)⟩), sumL_c _ (fun y hy => ew y (kdl 1 (by omega) y hy))]
  have sB : sumA (fB V' E') (ad 12) 64 + sumL (fB V' E') (lt V' E' 2 0 (P 2)) = sumA (fB V E) (ad 12) 64 + sumL (fB V E) (lt V E 2 0 (P 2)) := by
    rw [q0.1, sumA_c (f := fB V E) (r := ad 12) 64 (fun q hq => ⟨rfl, fun a ha => eb a (hs.kk ha)⟩), sumL_c _ (fun y hy => eb y (kdl 0 (by omega) y hy))]
  have ePC : ptC V' E' ad P n0 n1 n2 = ptC V E ad P n0 n1 n2 := by unfold ptC; rw [sW, sB]
  have ePS : ptS V' E' ad P n0 n1 n2 = ptS V E ad P n0 n1 n2 := by unfold ptS; rw [sW, sB]
  have erP : rqP V' E' P = rqP V E P := by unfold rqP; rw [q0.2, q1.2, q2.2]
  have erH : rqH V' E' P = rqH V E P := by
    unfold rqH
    rw [l0'.1, l1'.1, List.length_append]
    show 4096 - (0 + _) = _
    omega
  refine ⟨V', E', ⟨?_, ⟨cp', ⟨?_, ?_, ?_, ?_, ?_, ?_⟩, ⟨S1, S2, co.vg vg hLL.2.2⟩, kn.hs cp hh rfl⟩, ?_⟩, l0'.1, h302, vg.2.1.1⟩
  · unfold rqC rqS
    rw [erH, erP, ePC, ePS, l0'.2, l1'.2]
    exact s'.mono (by omega) (by omega)
  · rw [l0'.1]
    intro i j v hi
    cases hi
  · rw [l1'.1]
    exact inj_app i1 i0 (fun x hx => i2 x hx)
  · rw [l0'.1]
    intro x hx
    exact absurd hx List.not_mem_nil
  · rw [l0'.1, l1'.1, List.length_append]
    show 0 + _ ≤ _
    omega
  · rw [l0'.2]; exact i4
  · rw [l1'.2]; exact hc2
  · unfold PN at pn ⊢
    rw [q0.1, q1.1, q2.1]
    refine ⟨pn.1, pn.2.1, pn.2.2.1, fun j hj => ?_⟩
    have := ks.2 (P 2) 2 j hP2 (lof2 hj) (by decide)
    rw [this.2]
    exact pn.2.2.2 j hj
theorem GY.gx (g : GY nC nS A V E ad M P Bk b1 b2 n0 n1 n2) (h0 : lt V E 3 0 (P 3) = []) (h302 : xi V 302 (P 3) 0 = 0) (h15 : ∀ k, ad 15 k = none) (h41 : M.1 41 = 0) : GX nC nS A V E ad M P 0 Bk b1 b2 n0 n1 n2 := by
  obtain ⟨s, ⟨cp, ⟨i0, i1, i2, i3, i4, i5⟩, co, kn⟩, pn⟩ := g
  refine ⟨s, ⟨cp, ?_, co, kn⟩, pn⟩
  unfold HP
  rw [h0] at i3 ⊢
  have no : ∀ {k a : Nat}, ad 15 k = some a → False := fun {k a} h => by
    rw [h15] at h
    cases h
  have nl : ∀ {i x : Nat}, ([] : List Nat)[i]? = some x → False := fun {i x} h => by
    cases h
  exact ⟨⟨0, h41, rfl, fun k => ⟨fun z => (no z.choose_spec).elim, fun z => absurd z (Nat.not_lt_zero _)⟩⟩, fun k a ha => (no ha).elim, ⟨h302, by decide, fun _ => 0, fun k a ha => (no ha).elim, fun k k' a _ ha => (no ha).elim⟩, ⟨fun i j v hi => (nl hi).elim, fun x => ⟨fun z => (nl z.choose_spec).elim, fun z => (no z.choose_spec).elim⟩, fun i x y _ hi => (nl hi).elim⟩, ⟨i1, fun i x _ k z => no z⟩, i3, i4, i5⟩
end F13
