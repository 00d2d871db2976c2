/-! C56: the next ask is taken -/
def HQ (V : CW) (E : EL) (ad : AA) (M : MS) (P : PP) (T : Nat) : Prop := (∀ k a, ad 15 k = some a → AK V ad M k a) ∧ (xi V 302 (P 3) 0 = nI T ∧ T < 2 ^ 30 ∧ ∃ tn : Nat → Nat, (∀ k a, ad 15 k = some a → gU V a = nI (tn k) ∧ tn k < T) ∧ ∀ k k' a, k < k' → ad 15 k' = some a → tn k < tn k') ∧ (inj (lt V E 3 0 (P 3)) ∧ (∀ x : Nat, (∃ i : Nat, (lt V E 3 0 (P 3))[i]? = some x) ↔ ∃ k, ad 15 k = some x) ∧ HO (fT V) (gU V) (lt V E 3 0 (P 3))) ∧ (inj (lt V E 3 1 (P 3)) ∧ (∀ i x : Nat, (lt V E 3 1 (P 3))[i]? = some x → ∀ k, ad 15 k ≠ some x)) ∧ ((lt V E 3 0 (P 3)).length + (lt V E 3 1 (P 3)).length ≤ 4096 ∧ cpL V E 3 0 (P 3) ≤ 6200 ∧ cpL V E 3 1 (P 3) ≤ 6200)
theorem HP_HQ {V : CW} {E : EL} {ad : AA} {M : MS} {P : PP} {T : Nat} : HP V E ad M P T ↔ (∃ p, M.1 41 = nI p ∧ (lt V E 3 0 (P 3)).length = p ∧ ∀ k, (∃ a, ad 15 k = some a) ↔ k < p) ∧ HQ V E ad M P T := Iff.rfl
def rm15 (ad : AA) (k : Nat) : AA := fun c q => if c = 15 then rm (ad 15) k q else ad c q
section C56
variable {nC nS n : Nat} {A A' : AH} {V V' V'' : CW} {E E' : EL} {ad ad' : AA} {M M' : MS} {P : PP} {T : Nat}
theorem rm15_o {k c : Nat} (hc : c ≠ 15) : rm15 ad k c = ad c := by
  funext q
  exact if_neg hc
theorem rm15_s {k q a : Nat} (h : rm15 ad k 15 q = some a) : ad 15 q = some a ∧ q ≠ k := by
  have h : (if q = k then none else ad 15 q) = some a := h
  by_cases e : q = k
  · rw [if_pos e] at h; cases h
  · rw [if_neg e] at h; exact ⟨h, e⟩
theorem rm15_k {k q a : Nat} (h : ad 15 q = some a) (hq : q ≠ k) : rm15 ad k 15 q = some a := by
  show (if q = k then none else ad 15 q) = some a
  rw [if_neg hq]
  exact h
theorem AK.c {k a : Nat} (h : AK V ad M k a) (h14 : ad' 14 = ad 14) (hx : ∀ d, xi V' d a = xi V d a) (hr : ∀ d, xr V' d a = xr V d a) (hl : ∀ t l, ad 14 t = some l → xi V' 1405 l = xi V 1405 l) (hm9 : M'.2.1 9 = M.2.1 9) (hm : ∀ j, 19 ≤ j → j ≤ 24 → M'.2.1 j k = M.2.1 j k) : AK V' ad' M' k a := by
  obtain ⟨o, d, q, bk, s, i, b1, ⟨b2, b3, b4, b5⟩, ⟨b6, b7, b8, b9, b10, b11⟩, l, b12, b13⟩ := h
  refine ⟨o, d, q, bk, s, i, b1, ⟨by rw [hm 21 (by omega) (by omega)]; exact b2, by rw [hm 20 (by omega) (by omega)]; exact b3, by rw [hm 22 (by omega) (by omega)]; exact b4, by rw [hm9]; exact b5⟩, ⟨by rw [hx, hm 19 (by omega) (by omega)]; exact b6, by rw [hx]; exact b7, by rw [hx]; exact b8, by rw [hx, hm 23 (by omega) (by omega)]; exact b9, by rw [hx, hm 24 (by omega) (by omega)]; exact b10, by rw [hx]; exact b11⟩, l, by rw [h14]; exact b12, ?_⟩
  rw [hr, hx, hl _ l b12]
  exact b13
set_option maxHeartbeats 2000000 in
theorem due_take {nC0 nS0 : Nat} (hS0 : 10000 ≤ nS0) (hC0 : 2 ≤ nC0) (h : St (nC0 + rqC V E P) (nS0 + rqS V E P) A V) (cp : CP V E ad M P) (hq : HQ V E ad M P T) {r k : Nat} (hr : (lt V E 3 0 (P 3))[0]? = some r) (hk : ad 15 k = some r) (hn : 10001 < n) :
    Res (fX3_take n (P 3) A) (fun res => res.1 = some r ∧ ∃ V' E', St (nC0 + rqC V' E' P) (nS0 + rqS V' E' P) res.2 V' ∧ CP V' E' (rm15 ad k) M P ∧ HQ V' E' (rm15 ad k) M P T ∧ AK V' (rm15 ad k) M k r ∧ kdV V' r = 16 ∧ HS V E V' E' P ∧ (lt V' E' 3 0 (P 3)).length + 1 = (lt V E 3 0 (P 3)).length) := by
  have hs := cp.2.2.2
  have hP3 : kdV V (P 3) = 4 := hs.kk hs.2.2.1.1.2.2.2.1
  obtain ⟨hl, hx0, li0, ek0, el0, ec0⟩ := cp.2.2.1.li2 cp.2.1 (c := 3) (k := 0) (e := 15) hP3 rfl
  obtain ⟨sl, hx1, li1, ek1, el1, ec1⟩ := cp.2.2.1.li2 cp.2.1 (c := 3) (k := 1) (e := 15) hP3 rfl
  have hLL : LL V P hl sl := ⟨hx0, hx1, li0.1, li1.1⟩
  have hL := hLL.2.2
  have hhs : hl ≠ sl := fun z => by
    have := (cp.2.2.1.2.2 (P 3) 3 0 (P 3) 3 1 hl hP3 hP3 (by decide) (by decide) hx0 (by rw [z]; exact hx1)).2.2
    omega
  obtain ⟨hAK, ⟨hT1, hT2, tn, htn1, htn2⟩, ⟨hinj, hmem, hord⟩, ⟨sinj, smem⟩, ⟨hsum, hc1, hc2⟩⟩ := hq
  generalize eHL : lt V E 3 0 (P 3) = HL at *
  generalize eSP : lt V E 3 1 (P 3) = SPL at *
  generalize eC : cpL V E 3 0 (P 3) = cap at *
  generalize eC2 : cpL V E 3 1 (P 3) = cap2 at *
  have eH : rqH V E P = 4096 - (HL.length + SPL.length) := by unfold rqH; rw [eHL, eSP]
  have eRC : rqC V E P = rqH V E P + (6200 - cap) + (6200 - cap2) := by unfold rqC; rw [eC, eC2]
  have eRS : rqS V E P = 9 * rqH V E P + 4 * (6200 - cap) + 4 * (6200 - cap2) := by unfold rqS; rw [eC, eC2]
  have hnc : ncap cap2 ≤ 9310 := by
    unfold ncap
    split
    · omega
    · split <;> omega
  have hHL := ge_lt hr
  obtain ⟨nC1, hC1⟩ : ∃ z, nC0 + rqC V E P = z + 1 := ⟨nC0 + rqC V E P - 1, by omega⟩
  obtain ⟨nS1, hS1⟩ : ∃ z, nS0 + rqS V E P = z + ncap cap2 := ⟨nS0 + rqS V E P - ncap cap2, by omega⟩
  rw [hC1, hS1] at h
  refine Res.m (e3_take nC1 nS1 h hP3 hx0 hx1 hhs li0 li1 hr (fun z => by have := (ncap_b (cap := cap2) (by omega)).2.1; omega) hord hn) ?_
  rintro ⟨r1, A'⟩ ⟨hr1, V1, V', l', s', f1, f2, li0', li1', les, hord'⟩
  refine ⟨hr1, ?_⟩
  obtain ⟨cap', ecap', nC4, nS4, s'', hb⟩ : ∃ cap', (if SPL.length = cap2 then ncap cap2 else cap2) = cap' ∧ ∃ nC4 nS4, St nC4 nS4 A' V' ∧ ((SPL.length = cap2 ∧ cap' = ncap cap2 ∧ nC4 = nC1 ∧ nS4 = nS1) ∨ (cap' = cap2 ∧ nC4 = nC1 + 1 ∧ nS4 = nS1 + ncap cap2)) := by
    by_cases c : SPL.length = cap2
    · rw [if_pos c] at s'
      exact ⟨ncap cap2, if_pos c, _, _, s', Or.inl ⟨c, rfl, rfl, rfl⟩⟩
    · rw [if_neg c] at s'
      exact ⟨cap2, if_neg c, _, _, s', Or.inr ⟨rfl, rfl, rfl⟩⟩
  rw [ecap'] at li1'
  have vg' : VG hl sl V V' := (VG.lf f1).tr (VG.lf2 f2)
  have hLL' := hLL.vg vg' hP3
  obtain ⟨E', eE'⟩ : ∃ E' : EL, E' = (E.1, fun z => if z = hl then l' else if z = sl then SPL ++ [r] else E.2.1 z, fun z => if z = sl then cap' else E.2.2 z) := ⟨_, rfl⟩
  have hE : ∀ z, z ≠ hl → z ≠ sl → E'.2.1 z = E.2.1 z ∧ E'.2.2 z = E.2.2 z := fun z h1 h2 => by
    rw [eE']
    exact ⟨by simp only [h1, h2, if_false], by simp only [h2, if_false]⟩
  have e1E : E'.1 = E.1 := by rw [eE']
  have ehl : E'.2.1 hl = l' ∧ E'.2.2 hl = cap := by
    rw [eE']
    refine ⟨if_pos rfl, ?_⟩
    show (if hl = sl then cap' else E.2.2 hl) = cap
    rw [if_neg hhs, ← ec0]
  have esl : E'.2.1 sl = SPL ++ [r] ∧ E'.2.2 sl = cap' := by
    rw [eE']
    refine ⟨?_, if_pos rfl⟩
    show (if sl = hl then l' else if sl = sl then SPL ++ [r] else _) = _
    rw [if_neg (fun z => hhs z.symm), if_pos rfl]
  clear eE'
  have cp' := cp.vg (E' := E') vg' hLL e1E hE (by rw [ehl.1, ehl.2, ek0]; exact li0') (by rw [esl.1, esl.2, ek1]; exact li1')
  have eL0 : lt V' E' 3 0 (P 3) = l' := by
    unfold lt
    rw [hLL'.1]
    exact ehl.1
  have eL1 : lt V' E' 3 1 (P 3) = SPL ++ [r] := by
    unfold lt
    rw [hLL'.2.1]
    exact esl.1
  have eK0 : cpL V' E' 3 0 (P 3) = cap := by
    unfold cpL
    rw [hLL'.1]
    exact ehl.2
  have eK1 : cpL V' E' 3 1 (P 3) = cap' := by
    unfold cpL
    rw [hLL'.2.1]
    exact esl.2
  have hcapc : cap' ≤ 6200 := by
    rcases hb with ⟨z1, z2, _⟩ | ⟨z1, _⟩
    · have := (ncap_b (cap := cap2) (by omega)).2.1
      omega
    · omega
  have rows : ∀ a, kdV V a = 16 → ∀ d, xi V' d a = xi V d a ∧ xr V' d a = xr V d a := fun a ha d => by
    have n1 : a ≠ hl := fun z => by rw [z, li0.1] at ha; cases ha
    have n2 : a ≠ sl := fun z => by rw [z, li1.1] at ha; cases ha
    exact ⟨(f2.2.1 a n2 d).1.trans (f1.2.1 a n1 d).1, (f2.2.1 a n2 d).2.1.trans (f1.2.1 a n1 d).2.1⟩
  have hlf : ∀ t l, ad 14 t = some l → xi V' 1405 l = xi V 1405 l := fun t l hl' => ((vg'.o hL (c := 14) (hs.kk hl') (by decide) (by decide)).2 1405).2.2.2 (by decide)
  have hP3n1 : P 3 ≠ hl := fun z => by rw [z, li0.1] at hP3; cases hP3
  have hP3n2 : P 3 ≠ sl := fun z => by rw [z, li1.1] at hP3; cases hP3
  have hT' : xi V' 302 (P 3) 0 = nI T := by
    rw [(f2.2.1 (P 3) hP3n2 302).1, (f1.2.1 (P 3) hP3n1 302).1]
    exact hT1
  have akc : ∀ k' a, ad 15 k' = some a → AK V' (rm15 ad k) M k' a := fun k' a ha => (hAK k' a ha).c (rm15_o (by decide)) (fun d => (rows a (hs.kk ha) d).1) (fun d => (rows a (hs.kk ha) d).2) hlf rfl (fun _ _ _ => rfl)
  have hll := les.1
  refine ⟨V', E', ?_, ⟨cp'.1.a15 (fun c hc => rm15_o hc), cp'.2.1, cp'.2.2.1, cp'.2.2.2.a15 (fun c hc => rm15_o hc) (fun q q' a h1 h2 => hs.1.1 15 q q' a (by decide) (rm15_s h1).1 (rm15_s h2).1) (fun q a h1 => cp'.2.2.2.kk (rm15_s h1).1)⟩, ⟨fun k' a ha => akc k' a (rm15_s ha).1, ⟨hT', hT2, tn, fun k' a ha => ?_, fun k1 k2 a h12 ha => htn2 k1 k2 a h12 (rm15_s ha).1⟩, ⟨?_, fun y => ?_, ?_⟩, ⟨?_, fun i y hi q hq' => ?_⟩, ?_, ?_, ?_⟩, akc k r hk, cp'.2.2.2.kk hk, ⟨hl, sl, hLL, vg', e1E, hE⟩, by rw [eL0]; exact hll⟩
  · have eH' : rqH V' E' P = 4096 - (l'.length + (SPL.length + 1)) := by unfold rqH; rw [eL0, eL1, List.length_append]; rfl
    have eRC' : rqC V' E' P = rqH V' E' P + (6200 - cap) + (6200 - cap') := by unfold rqC; rw [eK0, eK1]
    have eRS' : rqS V' E' P = 9 * rqH V' E' P + 4 * (6200 - cap) + 4 * (6200 - cap') := by unfold rqS; rw [eK0, eK1]
    rcases hb with ⟨z1, z2, z3, z4⟩ | ⟨z2, z3, z4⟩
    · obtain ⟨nb1, nb2, nb3⟩ := ncap_b (cap := cap2) (by omega)
      refine s''.mono ?_ ?_ <;> omega
    · refine s''.mono ?_ ?_ <;> omega
  · have ha' := (rm15_s ha).1
    have := htn1 k' a ha'
    show xi V' 1501 a 0 = _ ∧ _
    rw [(rows a (hs.kk ha') 1501).1]
    exact this
  · rw [eL0]; exact les.2.1 hinj
  · rw [eL0]
    refine (les.2.2 y).trans ⟨fun ⟨i, hi0, hi⟩ => ?_, fun ⟨q, hq'⟩ => ?_⟩
    · obtain ⟨q, hq'⟩ := (hmem y).mp ⟨i, hi⟩
      refine ⟨q, rm15_k hq' (fun z => ?_)⟩
      subst z
      have : y = r := Option.some.inj (hq'.symm.trans hk)
      subst this
      have := hinj i 0 y hi hr
      omega
    · obtain ⟨q1, q2⟩ := rm15_s hq'
      obtain ⟨i, hi⟩ := (hmem y).mpr ⟨q, q1⟩
      refine ⟨i, ?_, hi⟩
      apply Classical.byContradiction
      intro z
      have : i = 0 := by omega
      subst this
      have : y = r := Option.some.inj (hi.symm.trans hr)
      subst this
      exact q2 (hs.1.1 15 q k y (by decide) q1 hk)
  · rw [eL0]
    refine hord'.c (fun i y hi => ?_)
    have hyk : kdV V y = 16 := by
      obtain ⟨i', _, hi'⟩ := (les.2.2 y).mp ⟨i, hi⟩
      exact li0.kd hi'
    exact ⟨by show xi V' 1500 y 0 = _; rw [(rows y hyk 1500).1], by show xi V' 1501 y 0 = _; rw [(rows y hyk 1501).1]⟩
  · rw [eL1]
    have key : ∀ j v : Nat, (SPL ++ [r])[j]? = some v → (j < SPL.length ∧ SPL[j]? = some v) ∨ (j = SPL.length ∧ v = r) := by
      intro j v hj
      have := ge_lt hj
      rw [List.length_append] at this
      have : j < SPL.length + 1 := this
      by_cases e : j < SPL.length
      · rw [List.getElem?_append_left e] at hj
        exact Or.inl ⟨e, hj⟩
      · have e2 : j = SPL.length := by omega
        subst e2
        rw [List.getElem?_append_right (Nat.le_refl _), Nat.sub_self] at hj
        exact Or.inr ⟨rfl, (Option.some.inj hj).symm⟩
    intro i j v hi hj
    rcases key i v hi with ⟨_, a1⟩ | ⟨a1, a2⟩
    · rcases key j v hj with ⟨_, c1⟩ | ⟨c1, c2⟩
      · exact sinj i j v a1 c1
      · rw [c2] at a1; exact absurd hk (smem i r a1 k)
    · rcases key j v hj with ⟨_, c1⟩ | ⟨c1, c2⟩
      · rw [a2] at c1; exact absurd hk (smem j r c1 k)
      · omega
  · rw [eL1] at hi
    obtain ⟨q1, q2⟩ := rm15_s hq'
    by_cases e : i < SPL.length
    · rw [List.getElem?_append_left e] at hi
      exact smem i y hi q q1
    · have := ge_lt hi
      rw [List.length_append] at this
      have : i < SPL.length + 1 := this
      have e2 : i = SPL.length := by omega
      subst e2
      rw [List.getElem?_append_right (Nat.le_refl _), Nat.sub_self] at hi
      have : r = y := Option.some.inj hi
      subst this
      exact q2 (hs.1.1 15 q k r (by decide) q1 hk)
  · rw [eL0, eL1, List.length_append]
    show l'.length + (SPL.length + 1) ≤ 4096
    omega
  · rw [eK0]; exact hc1
  · rw [eK1]; exact hcapc
end C56
