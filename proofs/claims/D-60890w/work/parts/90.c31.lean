/-! C31: the heap of asks: add, take -/
abbrev fT (V : CW) (a : Nat) : Int32 := xi V 1500 a 0
abbrev gU (V : CW) (a : Nat) : Int32 := xi V 1501 a 0
theorem hLt_c {f g f' g' : Nat → Int32} {x y : Nat} (hx : f' x = f x ∧ g' x = g x) (hy : f' y = f y ∧ g' y = g y) : hLt f' g' x y = hLt f g x y := by
  unfold hLt
  rw [hx.1, hx.2, hy.1, hy.2]
theorem set_id {l : List Nat} {k a : Nat} (h : l[k]? = some a) : l.set k a = l := by
  apply List.ext_getElem?
  intro j
  rw [gs _ _ _ _ (ge_lt h)]
  by_cases e : j = k
  · rw [if_pos e, e, h]
  · rw [if_neg e]
section C31
variable {nC nS n : Nat} {A : AH} {V V' : CW}
theorem e15_isAhead (h : St nC nS A V) {a b : Nat} (ha : kdV V a = 16) (hb : kdV V b = 16) : ∃ r, fX15_isAhead a (some b) A = some r ∧ (r = 0 ↔ ¬ hLt (fT V) (gU V) a b) := by
  unfold fX15_isAhead hLt
  have g1 : gI A (some a) 15 0 = some (fT V a) := h.gi 0 (c := 15) ha (by decide) rfl
  have g2 : gI A (some b) 15 0 = some (fT V b) := h.gi 0 (c := 15) hb (by decide) rfl
  have g3 : gI A (some a) 15 1 = some (gU V a) := h.gi 1 (c := 15) ha (by decide) rfl
  have g4 : gI A (some b) 15 1 = some (gU V b) := h.gi 1 (c := 15) hb (by decide) rfl
  simp only [g1, g2, g3, g4, Option.bind_some, jn_eq]
  by_cases c : fT V a = fT V b
  · rw [if_pos c, if_pos c]
    by_cases c2 : gU V b ≤ gU V a
    · rw [if_pos c2]
      exact ⟨_, rfl, fun _ => Int32.not_lt.mpr c2, fun _ => rfl⟩
    · rw [if_neg c2]
      exact ⟨_, rfl, fun z => absurd z (by decide), fun z => absurd (Int32.not_le.mp c2) z⟩
  · rw [if_neg c, if_neg c]
    by_cases c2 : fT V b ≤ fT V a
    · rw [if_pos c2]
      exact ⟨_, rfl, fun _ => Int32.not_lt.mpr c2, fun _ => rfl⟩
    · rw [if_neg c2]
      exact ⟨_, rfl, fun z => absurd z (by decide), fun z => absurd (Int32.not_le.mp c2) z⟩
theorem LF.ask {hl a : Nat} (hf : LF V V' hl) (hne : a ≠ hl) : fT V' a = fT V a ∧ gU V' a = gU V a := by
  have h1 := (hf.2.1 a hne 1500).1
  have h2 := (hf.2.1 a hne 1501).1
  exact ⟨by show xi V' 1500 a 0 = _; rw [h1], by show xi V' 1501 a 0 = _; rw [h2]⟩
theorem LI.kd {a c cap i v : Nat} {l : List Nat} (h : LI V a c l cap) (hi : l[i]? = some v) : kdV V v = c + 1 := h.2.2.2.2.2.1 v (List.mem_of_getElem? hi)
/-- setting the list's elements, all asks -/
theorem HO.c {f g f' g' : Nat → Int32} {l : List Nat} (h : HO f g l) (hc : ∀ i x : Nat, l[i]? = some x → f' x = f x ∧ g' x = g x) : HO f' g' l := by
  intro i x y hi hx hy
  rw [hLt_c (hc i x hx) (hc _ y hy)]
  exact h i x y hi hx hy
/-- the loop that goes up -/
theorem add_up (nC nS : Nat) {A : AH} {V : CW} {ho hl a cap : Nat} {l : List Nat} (k0 : Nat) (h : St nC nS A V) (hho : kdV V ho = 4) (hx : xr V 300 ho 0 = some hl) (hli : LI V hl 15 l cap) (ha : kdV V a = 16) (hk0 : l[k0]? = some a) (hup : UpI (fT V) (gU V) l k0) (hn : 10000 < n) :
    Res (jl (fixG (fun _ _ => none) (fun (rc14 : (Int32) → (AH) → Option (AH)) (x12 : Int32) (A13 : AH) =>
      jn ((gR A13 (some ho) 3 0).bind fun v16 =>
      (rcv A13 v16 0).bind fun v17 =>
      (fJ2_set v17 x12 (some a) A13).bind fun g18 =>
      some g18.2) fun j15 =>
      if x12 ≤ 0 then (j15) else
      (gR A13 (some ho) 3 0).bind fun v20 =>
      (rcv A13 v20 0).bind fun v21 =>
      (fJ2_get v21 ((x12 - (1 : Int32)) / (2 : Int32)) A13).bind fun g22 =>
      (cst A13 g22 15).bind fun v23 =>
      (rcv A13 (some a) 15).bind fun v24 =>
      (fX15_isAhead v24 g22 A13).bind fun g25 =>
      if g25 = 0 then (j15) else
      (fJ2_set v21 x12 g22 A13).bind fun g27 =>
      rc14 ((x12 - (1 : Int32)) / (2 : Int32)) g27.2) n) fun j11 =>
      j11 (nI k0) A) (fun A' => ∃ V' l', St nC nS A' V' ∧ LF V V' hl ∧ LI V' hl 15 l' cap ∧ same l l' ∧ HO (fT V) (gU V) l') := by
  have hcap := hli.2.2.1
  have hlc := hli.2.2.2.2.1
  have hhl : ho ≠ hl := fun z => by rw [z, hli.1] at hho; cases hho
  have hal : a ≠ hl := fun z => by rw [z, hli.1] at ha; cases ha
  have fin : ∀ (k : Nat) (A13 : AH) (V13 : CW) (l13 lx : List Nat), St nC nS A13 V13 → LF V V13 hl → LI V13 hl 15 l13 cap → lx = l13.set k a → k < l13.length → same l lx → HO (fT V) (gU V) lx → Res ((gR A13 (some ho) 3 0).bind fun v16 => (rcv A13 v16 0).bind fun v17 => (fJ2_set v17 (nI k) (some a) A13).bind fun g18 => some g18.2) (fun A' => ∃ V' l', St nC nS A' V' ∧ LF V V' hl ∧ LI V' hl 15 l' cap ∧ same l l' ∧ HO (fT V) (gU V) l') := by
    intro k A13 V13 l13 lx s13 f13 li13 elx hk sm ho'
    have hho' : kdV V13 ho = 4 := by rw [kdV, f13.1]; exact hho
    have ha' : kdV V13 a = 16 := by rw [kdV, f13.1]; exact ha
    have hx' : xr V13 300 ho 0 = some hl := by rw [(f13.2.1 ho hhl 300).2.1]; exact hx
    obtain ⟨w, hw⟩ := lt_ge hk
    refine Res.b ((s13.gr 0 (c := 3) hho' (by decide) rfl).trans (congrArg some hx')) (Res.b (s13.rc li13.1) (Res.w (L_set s13 li13 hw ha') ?_))
    rintro ⟨r1, A18⟩ ⟨_, V18, s18, f18, li18⟩
    exact Res.r ⟨V18, lx, s18, f13.tr f18, by rw [elx]; exact li18, sm, ho'⟩
  refine jl_R (fun d (g : Int32 → AH → Option AH) => ∀ k A13 V13 l13 lx, k ≤ d → St nC nS A13 V13 → LF V V13 hl → LI V13 hl 15 l13 cap → lx = l13.set k a → k < l13.length → same l lx → UpI (fT V) (gU V) lx k → Res (g (nI k) A13) (fun A' => ∃ V' l', St nC nS A' V' ∧ LF V V' hl ∧ LI V' hl 15 l' cap ∧ same l l' ∧ HO (fT V) (gU V) l')) k0 (show k0 < n by have := ge_lt hk0; omega) ?_ ?_ ?_
  · intro g k A13 V13 l13 lx hk s13 f13 li13 elx hkl sm up
    have : k = 0 := by omega
    subst this
    rw [jn_eq, if_pos (show nI 0 ≤ 0 by decide)]
    exact fin 0 A13 V13 l13 lx s13 f13 li13 elx hkl sm (up.ok (a := a) (by rw [elx, gs _ _ _ _ hkl, if_pos rfl]) (Or.inl rfl))
  · intro d g hg k A13 V13 l13 lx hk s13 f13 li13 elx hkl sm up
    have hlc13 := li13.2.2.2.2.1
    have hka : lx[k]? = some a := by rw [elx, gs _ _ _ _ hkl, if_pos rfl]
    rw [jn_eq]
    by_cases c0 : k = 0
    · subst c0
      rw [if_pos (show nI 0 ≤ 0 by decide)]
      exact fin 0 A13 V13 l13 lx s13 f13 li13 elx hkl sm (up.ok hka (Or.inl rfl))
    · rw [if_neg (fun z => c0 ((nI_le0 (by omega)).mp z))]
      have hho' : kdV V13 ho = 4 := by rw [kdV, f13.1]; exact hho
      have ha' : kdV V13 a = 16 := by rw [kdV, f13.1]; exact ha
      have hx' : xr V13 300 ho 0 = some hl := by rw [(f13.2.1 ho hhl 300).2.1]; exact hx
      have epar : (nI k - 1) / 2 = nI ((k - 1) / 2) := by
        rw [nI_sub1 (by omega)]
        exact pk_div (d := 2) (by omega) (by omega) (by omega)
      rw [epar]
      obtain ⟨y, hy⟩ := lt_ge (l := l13) (i := (k - 1) / 2) (by omega)
      have hyx : lx[(k - 1) / 2]? = some y := by rw [elx, gs _ _ _ _ hkl, if_neg (by omega)]; exact hy
      have hyk := li13.kd hy
      have hyne : y ≠ hl := fun z => by rw [z, li13.1] at hyk; cases hyk
      obtain ⟨r, hr1, hr2⟩ := e15_isAhead s13 ha' hyk
      have hlt : hLt (fT V13) (gU V13) a y = hLt (fT V) (gU V) a y := hLt_c (f13.ask hal) (f13.ask hyne)
      rw [hlt] at hr2
      refine Res.b ((s13.gr 0 (c := 3) hho' (by decide) rfl).trans (congrArg some hx')) (Res.b (s13.rc li13.1) (Res.b (L_get s13 li13 hy) (Res.b (s13.cs hyk) (Res.b (s13.rc ha') (Res.b hr1 ?_)))))
      by_cases cr : r = 0
      · rw [if_pos cr]
        exact fin k A13 V13 l13 lx s13 f13 li13 elx hkl sm (up.ok hka (Or.inr ⟨y, hyx, hr2.mp cr⟩))
      · rw [if_neg cr]
        obtain ⟨w, hw⟩ := lt_ge hkl
        refine Res.w (L_set s13 li13 hw hyk) ?_
        rintro ⟨r1, A18⟩ ⟨_, V18, s18, f18, li18⟩
        have hlt2 : hLt (fT V) (gU V) a y := Classical.byContradiction fun z => cr (hr2.mpr z)
        have e2 : (l13.set k y).set ((k - 1) / 2) a = (lx.set k y).set ((k - 1) / 2) a := by
          rw [elx, List.set_set]
        refine hg ((k - 1) / 2) A18 V18 (l13.set k y) ((lx.set k y).set ((k - 1) / 2) a) (by omega) s18 (f13.tr f18) li18 e2.symm (by rw [List.length_set]; omega) (sm.tr (same_swap hka hyx)) (up.st (by omega) hka hyx hlt2)
  · intro g hg
    refine hg k0 A V l (l.set k0 a) (Nat.le_refl _) h LF.rf hli rfl (ge_lt hk0) ?_ ?_
    · rw [set_id hk0]
      exact same.rf l
    · rw [set_id hk0]
      exact hup
theorem LF.kv {hl a c : Nat} (hf : LF V V' hl) (ha : kdV V a = c) : kdV V' a = c := by rw [kdV, hf.1]; exact ha
theorem LF.xr' {hl a : Nat} (hf : LF V V' hl) (hne : a ≠ hl) (d : Nat) : xr V' d a = xr V d a := (hf.2.1 a hne d).2.1
theorem e3_add (nC nS : Nat) {A : AH} {V : CW} {ho hl a cap : Nat} {l : List Nat} (h : St (nC + 1) (nS + ncap cap) A V) (hho : kdV V ho = 4) (hx : xr V 300 ho 0 = some hl) (hli : LI V hl 15 l cap) (ha : kdV V a = 16) (hcap : l.length = cap → ncap cap ≤ 9000) (hord : HO (fT V) (gU V) l) (hna : ∀ i : Nat, l[i]? ≠ some a) (hn : 10000 < n) :
    Res (fX3_add n ho (some a) A) (fun A' => ∃ V' l', (if l.length = cap then St nC nS A' V' else St (nC + 1) (nS + ncap cap) A' V') ∧ LF (vI' (vI' V 1501 a 0 (xi V 302 ho 0)) 302 ho 0 (xi V 302 ho 0 + 1)) V' hl ∧ LI V' hl 15 l' (if l.length = cap then ncap cap else cap) ∧ same (l ++ [a]) l' ∧ HO (fT V') (gU V') l') := by
  have hhl : ho ≠ hl := fun z => by rw [z, hli.1] at hho; cases hho
  have hal : a ≠ hl := fun z => by rw [z, hli.1] at ha; cases ha
  have hao : a ≠ ho := fun z => by rw [z, hho] at ha; cases ha
  unfold fX3_add
  refine Res.b (h.gi 2 (c := 3) hho (by decide) rfl) ?_
  obtain ⟨A2, e2, s2⟩ := h.pi 1 (xi V 302 ho 0) (c := 15) ha (by decide) rfl
  refine Res.b e2 ?_
  have r302 : xi (vI' V 1501 a 0 (xi V 302 ho 0)) 302 ho 0 = xi V 302 ho 0 := by rw [vIi, if_neg (fun z => absurd z.1 (by decide))]
  refine Res.b ((s2.gi 2 (c := 3) hho (by decide) rfl).trans (congrArg some r302)) ?_
  obtain ⟨A4, e4, s4⟩ := s2.pi 2 (xi V 302 ho 0 + 1) (c := 3) hho (by decide) rfl
  refine Res.b e4 ?_
  have s4 : St (nC + 1) (nS + ncap cap) A4 (vI' (vI' V 1501 a 0 (xi V 302 ho 0)) 302 ho 0 (xi V 302 ho 0 + 1)) := s4
  have li4 : LI (vI' (vI' V 1501 a 0 (xi V 302 ho 0)) 302 ho 0 (xi V 302 ho 0 + 1)) hl 15 l cap := (hli.vIo (by decide)).vIo (by decide)
  have ord4 : HO (fT (vI' (vI' V 1501 a 0 (xi V 302 ho 0)) 302 ho 0 (xi V 302 ho 0 + 1))) (gU (vI' (vI' V 1501 a 0 (xi V 302 ho 0)) 302 ho 0 (xi V 302 ho 0 + 1))) l := hord.c (fun i x hix => by
    refine ⟨?_, ?_⟩
    · show xi (vI' (vI' V 1501 a 0 _) 302 ho 0 _) 1500 x 0 = _
      rw [vIi, if_neg (fun z => absurd z.1 (by decide)), vIi, if_neg (fun z => absurd z.1 (by decide))]
    · show xi (vI' (vI' V 1501 a 0 _) 302 ho 0 _) 1501 x 0 = _
      rw [vIi, if_neg (fun z => absurd z.1 (by decide)), vIi, if_neg (fun z => hna i (by rw [hix, z.2.1]))])
  generalize hV4 : vI' (vI' V 1501 a 0 (xi V 302 ho 0)) 302 ho 0 (xi V 302 ho 0 + 1) = V4 at *
  have hho4 : kdV V4 ho = 4 := by rw [← hV4]; exact hho
  have ha4 : kdV V4 a = 16 := by rw [← hV4]; exact ha
  have hx4 : xr V4 300 ho 0 = some hl := by rw [← hV4]; exact hx
  refine Res.b ((s4.gr 0 (c := 3) hho4 (by decide) rfl).trans (congrArg some hx4)) (Res.b (s4.rc li4.1) (Res.w (L_add nC nS s4 li4 (fun z => by have := hcap z; omega) ha4) ?_))
  rintro ⟨r1, A7⟩ ⟨_, V7, s7, f7, li7⟩
  have hho7 := f7.kv hho4
  have ha7 := f7.kv ha4
  have hx7 : xr V7 300 ho 0 = some hl := by rw [f7.xr' hhl]; exact hx4
  have key : ∀ (nC' nS' : Nat), St nC' nS' A7 V7 → Res ((gR A7 (some ho) 3 0).bind fun v8 => (rcv A7 v8 0).bind fun v9 => (fJ2_size v9 A7).bind fun g10 => jl (fixG (fun _ _ => none) (fun (rc14 : (Int32) → (AH) → Option (AH)) (x12 : Int32) (A13 : AH) =>
      jn ((gR A13 (some ho) 3 0).bind fun v16 =>
      (rcv A13 v16 0).bind fun v17 =>
      (fJ2_set v17 x12 (some a) A13).bind fun g18 =>
      some g18.2) fun j15 =>
      if x12 ≤ 0 then (j15) else
      (gR A13 (some ho) 3 0).bind fun v20 =>
      (rcv A13 v20 0).bind fun v21 =>
      (fJ2_get v21 ((x12 - (1 : Int32)) / (2 : Int32)) A13).bind fun g22 =>
      (cst A13 g22 15).bind fun v23 =>
      (rcv A13 (some a) 15).bind fun v24 =>
      (fX15_isAhead v24 g22 A13).bind fun g25 =>
      if g25 = 0 then (j15) else
      (fJ2_set v21 x12 g22 A13).bind fun g27 =>
      rc14 ((x12 - (1 : Int32)) / (2 : Int32)) g27.2) n) fun j11 =>
      j11 (g10 - (1 : Int32)) A7) (fun A' => ∃ V' l', St nC' nS' A' V' ∧ LF V4 V' hl ∧ LI V' hl 15 l' (if l.length = cap then ncap cap else cap) ∧ same (l ++ [a]) l' ∧ HO (fT V') (gU V') l') := by
    intro nC' nS' s7
    refine Res.b ((s7.gr 0 (c := 3) hho7 (by decide) rfl).trans (congrArg some hx7)) (Res.b (s7.rc li7.1) (Res.b (L_size s7 li7) ?_))
    rw [List.length_append, show l.length + [a].length = l.length + 1 from rfl, nI_sub1 (by omega)]
    have hka : (l ++ [a])[l.length + 1 - 1]? = some a := by
      rw [show l.length + 1 - 1 = l.length by omega, List.getElem?_append_right (Nat.le_refl _), Nat.sub_self]
      rfl
    have ordx : ∀ i x : Nat, l[i]? = some x → fT V7 x = fT V4 x ∧ gU V7 x = gU V4 x := fun i x hix => by
      have hk := li4.kd hix
      exact f7.ask (fun z => by rw [z, li4.1] at hk; cases hk)
    have hup : UpI (fT V7) (gU V7) (l ++ [a]) (l.length + 1 - 1) := by
      refine ⟨fun i x y hi hne hx hy => ?_, fun _ i x y hi hp hx hy => ?_⟩
      · have hil : i < l.length := by
          have := ge_lt hx
          rw [List.length_append] at this
          have : i < l.length + 1 := this
          omega
        rw [List.getElem?_append_left hil] at hx
        rw [List.getElem?_append_left (by omega)] at hy
        exact (ord4.c ordx) i x y hi hx hy
      · have := ge_lt hx
        rw [List.length_append] at this
        have : i < l.length + 1 := this
        omega
    refine Res.m (add_up nC' nS' (l.length + 1 - 1) s7 hho7 hx7 li7 ha7 hka hup hn) ?_
    rintro A' ⟨V', l', q1, q2, q3, q4, q5⟩
    refine ⟨V', l', q1, f7.tr q2, q3, q4, q5.c (fun i x hix => ?_)⟩
    have hk := q3.kd hix
    have hne : x ≠ hl := fun z => by rw [z, q3.1] at hk; cases hk
    obtain ⟨u1, u2⟩ := q2.ask hne
    exact ⟨u1, u2⟩
  by_cases hfull : l.length = cap
  · rw [if_pos hfull] at s7
    refine Res.m (key nC nS s7) ?_
    rintro A' ⟨V', l', q1, q2, q3, q4, q5⟩
    exact ⟨V', l', by rw [if_pos hfull]; exact q1, q2, q3, q4, q5⟩
  · rw [if_neg hfull] at s7
    refine Res.m (key (nC + 1) (nS + ncap cap) s7) ?_
    rintro A' ⟨V', l', q1, q2, q3, q4, q5⟩
    exact ⟨V', l', by rw [if_neg hfull]; exact q1, q2, q3, q4, q5⟩
end C31
