/-! C6: lists grow -/
def ncap (cap : Nat) : Nat := if cap = 0 then 10 else cap + (if 1 < cap / 2 then cap / 2 else 1)
theorem nI_lt' {a b : Nat} (hb : b < 2 ^ 31) (ha : a < 2 ^ 31) : (nI a < nI b) = (a < b) := by
  apply propext
  constructor
  · intro h
    exact Nat.lt_of_not_le (fun z => absurd (c_le z ha) (Int32.not_le.mpr h))
  · intro h
    exact nI_lt h hb
theorem nI_sub' {a b : Nat} (h : b ≤ a) : nI a - nI b = nI (a - b) := by
  have e : nI a = nI (a - b) + nI b := by rw [nI_add, Nat.sub_add_cancel h]
  rw [e, Int32.add_sub_cancel]
section C6
variable {nC nS : Nat} {A : AH} {V : CW}
theorem newLen {cap : Nat} (h0 : 0 < cap) (h : cap ≤ 10000) (A : AH) : fJ11_newLength (nI cap) (nI 1) (nI (cap / 2)) A = some (nI (ncap cap)) := by
  have e : nI cap + (if nI 1 < nI (cap / 2) then nI (cap / 2) else nI 1) = nI (ncap cap) := by
    unfold ncap
    rw [if_neg (show ¬ cap = 0 by omega)]
    by_cases c : 1 < cap / 2
    · rw [if_pos c, if_pos (by rw [nI_lt' (by omega) (by omega)]; exact c), nI_add]
    · rw [if_neg c, if_neg (by rw [nI_lt' (by omega) (by omega)]; exact c), nI_add]
  have hn : 0 < ncap cap ∧ ncap cap < 100000 := by
    unfold ncap
    rw [if_neg (by omega)]
    split <;> omega
  unfold fJ11_newLength
  rw [e, if_neg]
  rintro (z | z)
  · exact c_nle (a := ncap cap) (b := 0) hn.1 (by omega) z
  · have : nI 2147483639 < nI (ncap cap) := z
    rw [nI_lt' (by omega) (by omega)] at this
    omega
theorem St.fr' (h : St nC nS A V) {x : Nat} {e e' : va_E} (hx : fr V x = some e) : St nC nS (hSet A x e') (vF V x (some e')) := by
  obtain ⟨⟨b1, b2, b3⟩, h1, h2, h3, h4⟩ := h
  obtain ⟨x1, x2, x3⟩ := h4 x e hx
  have hcl : ∀ y, fr (vF V x (some e')) y = none → fr V y = none ∧ y ≠ x := by
    intro y hy
    have hy : (if y = x then some e' else fr V y) = none := hy
    by_cases ee : y = x
    · rw [if_pos ee] at hy; cases hy
    · rw [if_neg ee] at hy; exact ⟨hy, ee⟩
  refine ⟨⟨b1, b2, b3⟩, fun a' c' hk => ?_, fun a' c' k y hk ho hy hf => ?_, fun a1 c1 k1 a2 c2 k2 y q1 q2 o1 o2 y1 y2 hf => h3 a1 c1 k1 a2 c2 k2 y q1 q2 o1 o2 y1 y2 (hcl y hf).1, fun q e2 hq => ?_⟩
  · obtain ⟨g1, g2, g3, g4⟩ := h1 a' c' hk
    refine ⟨g1, g2, g3, ?_⟩
    rw [hSet_ne, g4]
    · rfl
    · intro z
      rw [z] at hk
      have hk : kdV V x = c' + 1 := hk
      omega
  · obtain ⟨g1, g2⟩ := h2 a' c' k y hk ho hy (hcl y hf).1
    exact ⟨g1, by rw [hSet_ne (hcl y hf).2, g2]; rfl⟩
  · have hq2 : (if q = x then some e' else fr V q) = some e2 := hq
    by_cases ee : q = x
    · rw [if_pos ee] at hq2
      rw [ee]
      exact ⟨x1, hSet_at.trans hq2, x3⟩
    · rw [if_neg ee] at hq2
      obtain ⟨g1, g2, g3⟩ := h4 q e2 hq2
      exact ⟨g1, by rw [hSet_ne ee, g2], g3⟩
theorem L_grow (nC nS : Nat) {A : AH} {V : CW} {a c cap : Nat} {l : List Nat} (h : St (nC + 1) (nS + ncap cap) A V) (hl : LI V a c l cap) (hfull : l.length = cap) (hcap : ncap cap ≤ 10000) : Res (fJ2_grow a A) (fun r => ∃ V' x', r.1 = some x' ∧ St nC nS r.2 V' ∧ LF V V' a ∧ LI V' a c l (ncap cap) ∧ xr V' 1 a 0 = some x') := by
  obtain ⟨q1, q2, q3, q4, q5, q6, q7, x, hx, q9⟩ := hl
  have hcn : cap < ncap cap := by unfold ncap; split; omega; split <;> omega
  have h0 := h.new0
  have hf0 : fr V (hN A) = none := by
    cases e : fr V (hN A) with
    | none => rfl
    | some w => exact absurd (h.2.2.2.2 _ _ e).1 (Nat.lt_irrefl _)
  have hlse := h.lse0
  have hfin : ∀ (V2 : CW) (f : Nat → Option Nat), V2.1 = V.1 → xi V2 = xi V → xr V2 = xr V → xw V2 = xw V → xn V2 = xn V → (∀ q, q ≠ hN A → fr V2 q = fr V q) → sa V2 = sa V → (∀ i v, l[i]? = some v → f i = some v) → LF V (vOR V2 1 a (hN A) (ncap cap) f) a ∧ LI (vOR V2 1 a (hN A) (ncap cap) f) a c l (ncap cap) := by
    intro V2 f z1 z2 z3 z4 z5 z6 z7 z8
    have hfr : fr (vOR V2 1 a (hN A) (ncap cap) f) = fr V := by
      funext q
      show (if q = hN A then none else fr V2 q) = fr V q
      by_cases e : q = hN A
      · rw [if_pos e, e, hf0]
      · rw [if_neg e, z6 q e]
    refine ⟨⟨z1, fun a' ha d => ⟨?_, ?_, ?_⟩, z4, hfr, z7⟩, by show V2.1 a = 1; rw [z1]; exact q1, q2, hcap, ?_, by omega, fun v hv => ?_, fun i v hi => ?_, hN A, ?_, Or.inl ⟨by omega, by rw [hfr]; exact hf0, if_pos ⟨rfl, rfl⟩⟩⟩
    · show xi V2 d a' = _
      rw [z2]
    · funext i
      show (if d = 1 + 50 ∧ a' = a then f i else up3 (xr V2) 1 a 0 (some (hN A)) d a' i) = _
      rw [if_neg (fun z => ha z.2), up3_row _ _ _ _ _ _ _ (fun z => ha z.2), z3]
    · show (if d = 1 ∧ a' = a then ncap cap else xn V2 d a') = _
      rw [if_neg (fun z => ha z.2), z5]
    · show xi V2 2 a 0 = _
      rw [z2]; exact q4
    · show V2.1 v = _
      rw [z1]; exact q6 v hv
    · show (if 51 = 1 + 50 ∧ a = a then f i else up3 (xr V2) 1 a 0 (some (hN A)) 51 a i) = _
      rw [if_pos ⟨rfl, rfl⟩]
      exact z8 i v hi
    · show (if 1 = 1 + 50 ∧ a = a then f 0 else up3 (xr V2) 1 a 0 (some (hN A)) 1 a 0) = _
      rw [if_neg (fun z => absurd z.1 (by decide))]
      exact if_pos ⟨rfl, rfl, rfl⟩
  unfold fJ2_grow
  refine Res.b ((h.gi 2 (c := 0) q1 (by decide) rfl).trans (congrArg some q4)) (Res.b (h.rc q1) ?_)
  refine Res.w (Q := fun r : Option Nat × AH => ∃ V' x', r.1 = some x' ∧ St nC nS r.2 V' ∧ LF V V' a ∧ LI V' a c l (ncap cap) ∧ xr V' 1 a 0 = some x') ?_ (fun r hr => Res.r hr)
  rw [hfull, nI_1]
  unfold fJ2_grow_2
  refine Res.b ((h.gr 1 (c := 0) q1 (by decide) rfl).trans (congrArg some hx)) ?_
  rcases q9 with ⟨c0, f1, n1⟩ | ⟨c0, e8, g, f1⟩
  · have hn1 : xn V (100 * 0 + 1) a = cap := n1
    refine Res.b ((h.ln (c := 0) (k := 1) q1 (by decide) hx f1).trans (by rw [hn1])) ?_
    rw [jn_eq, if_pos (show (0 : Int32) < nI cap from nI_lt (a := 0) c0 (by omega)), nI_sub' (by omega), show cap + 1 - cap = 1 by omega, pk_shrN (by omega) _ 1 (by decide)]
    refine Res.b (newLen c0 q3 A) ?_
    unfold fJ13_copyOf_2 fJ13_copyOf_3
    have harr : arr? A (some x) = some (3, cap, .inr (.inr (.inr (.inr (xr V 51 a))))) := by
      have := h.ar? (c := 0) (k := 1) q1 (by decide) hx f1 (o := (3, xn V 1 a, .inr (.inr (.inr (.inr (xr V 51 a)))))) rfl
      rw [n1] at this
      exact this
    obtain ⟨A1, e1, hN1, s1⟩ := h.nar 3 (ncap cap) (by omega) (n := nS) (by omega)
    have hp : fr (vF V (hN A) (some (.inl (3, ncap cap, .inr (.inr (.inr (.inr fun _ => none))))))) (hN A) = some (.inl (3, ncap cap, .inr (.inr (.inr (.inr fun _ => none))))) := if_pos rfl
    have hxne : x ≠ hN A := fun z => hlse a 0 1 q1 (by decide) (by rw [← z]; exact hx)
    have hf1' : fr (vF V (hN A) (some (.inl (3, ncap cap, .inr (.inr (.inr (.inr fun _ => none))))))) x = none := by
      show (if x = hN A then _ else fr V x) = none
      rw [if_neg hxne]; exact f1
    have harr1 : arr? A1 (some x) = some (3, cap, .inr (.inr (.inr (.inr (xr V 51 a))))) := by
      have := s1.ar? (c := 0) (k := 1) q1 (by decide) hx hf1' (o := (3, xn V 1 a, .inr (.inr (.inr (.inr (xr V 51 a)))))) rfl
      rw [n1] at this
      exact this
    have harr2 : arr? A1 (some (hN A)) = some (3, ncap cap, .inr (.inr (.inr (.inr fun _ => none)))) := by
      have := (s1.2.2.2.2 _ _ hp).2.1
      simp only [arr?, this]
    have hcp : cpA A1 (some x) 0 (some (hN A)) 0 (nI cap) = some (hSet A1 (hN A) (.inl (3, ncap cap, .inr (.inr (.inr (.inr (va_cpy (xr V 51 a) (fun _ => none) 0 0 cap))))))) := by
      unfold cpA
      rw [harr1, harr2]
      simp only [Option.bind_some]
      rw [show (0 : Int32).toNatClampNeg = 0 from rfl, nI_clamp (show cap < 2 ^ 31 by omega), if_pos]
      · rfl
      · refine ⟨Or.inl trivial, trivial, by decide, by decide, fun z => nI_pos (by omega) z, by omega, by omega, ?_⟩
        rw [List.all_eq_true]
        intro i hi
        have hi := List.mem_range.mp hi
        have hlt : i < l.length := by omega
        have hgi : l[i]? = some l[i] := List.getElem?_eq_getElem hlt
        rw [Nat.zero_add, q7 i _ hgi, s1.st3 (c := c) (q6 _ (List.getElem_mem hlt)) q2]
        rfl
    refine Res.w (Q := fun r : Option Nat × AH => r.1 = some (hN A) ∧ St nC nS r.2 (vF (vF V (hN A) (some (.inl (3, ncap cap, .inr (.inr (.inr (.inr fun _ => none))))))) (hN A) (some (.inl (3, ncap cap, .inr (.inr (.inr (.inr (va_cpy (xr V 51 a) (fun _ => none) 0 0 cap))))))))) ?_ ?_
    · refine Res.b (v := ()) (by unfold gC; rw [harr]; rfl) ?_
      refine Res.b (v := (some (hN A), hSet A1 (hN A) (.inl (3, ncap cap, .inr (.inr (.inr (.inr (va_cpy (xr V 51 a) (fun _ => none) 0 0 cap)))))))) ?_ (Res.r ⟨rfl, s1.fr' hp⟩)
      rw [jn_eq, if_pos rfl]
      refine ob e1 ?_
      refine ob (v := nI cap) (by unfold aLen; rw [harr1]; rfl) ?_
      rw [if_neg (show ¬ nI (ncap cap) < nI cap by rw [nI_lt' (by omega) (by omega)]; omega)]
      exact ob hcp rfl
    · rintro ⟨r1, A2⟩ ⟨e2, s2⟩
      have e2 : r1 = some (hN A) := e2
      subst e2
      obtain ⟨A3, e3, _, s3⟩ := s2.abR (c := 0) (k := 1) (x := hN A) (n := ncap cap) (f := va_cpy (xr V 51 a) (fun _ => none) 0 0 cap) q1 (by decide) rfl (Or.inl rfl) hlse (if_pos rfl)
      refine Res.b e3 (Res.r ⟨_, hN A, rfl, s3, ?_⟩)
      obtain ⟨y1, y2⟩ := hfin (vF (vF V (hN A) (some (.inl (3, ncap cap, .inr (.inr (.inr (.inr fun _ => none))))))) (hN A) (some (.inl (3, ncap cap, .inr (.inr (.inr (.inr (va_cpy (xr V 51 a) (fun _ => none) 0 0 cap)))))))) (va_cpy (xr V 51 a) (fun _ => none) 0 0 cap) rfl rfl rfl rfl rfl (fun q hq => by
        show (if q = hN A then _ else if q = hN A then _ else fr V q) = fr V q
        rw [if_neg hq, if_neg hq]) rfl (fun i v hi => by
          have hlt : i < l.length := (List.getElem?_eq_some_iff.mp hi).1
          rw [pk_cpy_in (by omega) (by omega), Nat.sub_zero, Nat.zero_add]
          exact q7 i v hi)
      exact ⟨y1, y2, if_pos ⟨rfl, rfl, rfl⟩⟩
  · subst c0
    have harr : arr? A (some x) = some (6, 0, .inr (.inr (.inr (.inr g)))) := by
      have := (h.2.2.2.2 _ _ f1).2.1
      simp only [arr?, this]
    refine Res.b (v := nI 0) (by unfold aLen; rw [harr]; rfl) ?_
    rw [jn_eq, if_neg (by decide), if_pos (show some x = some (hA A 8) by rw [e8, h.1.2.2])]
    rw [show (if (10 : Int32) < nI (0 + 1) then nI (0 + 1) else (10 : Int32)) = nI 10 from if_neg (by decide)]
    obtain ⟨A1, e1, hN1, s1⟩ := h.nar 3 10 (by omega) (n := nS) (Nat.le_refl _)
    refine Res.b e1 ?_
    obtain ⟨A3, e3, _, s3⟩ := s1.abR (c := 0) (k := 1) (x := hN A) (n := 10) (f := fun _ => none) q1 (by decide) rfl (Or.inl rfl) hlse (if_pos rfl)
    refine Res.b e3 (Res.r ⟨_, hN A, rfl, s3, ?_⟩)
    obtain ⟨y1, y2⟩ := hfin (vF V (hN A) (some (.inl (3, 10, .inr (.inr (.inr (.inr fun _ => none))))))) (fun _ => none) rfl rfl rfl rfl rfl (fun q hq => if_neg hq) rfl (fun i v hi => by
      have hlt : i < l.length := (List.getElem?_eq_some_iff.mp hi).1
      omega)
    exact ⟨y1, y2, if_pos ⟨rfl, rfl, rfl⟩⟩
theorem L_add (nC nS : Nat) {A : AH} {V : CW} {a c cap v : Nat} {l : List Nat} (h : St (nC + 1) (nS + ncap cap) A V) (hl : LI V a c l cap) (hcap : l.length = cap → ncap cap ≤ 10000) (hv : kdV V v = c + 1) : Res (fJ2_add a (some v) A) (fun r => r.1 = 1 ∧ ∃ V', (if l.length = cap then St nC nS r.2 V' else St (nC + 1) (nS + ncap cap) r.2 V') ∧ LF V V' a ∧ LI V' a c (l ++ [v]) (if l.length = cap then ncap cap else cap)) := by
  unfold fJ2_add
  refine Res.b (h.gi 0 (c := 0) hl.1 (by decide) rfl) ?_
  obtain ⟨A1, e1, s1⟩ := h.pi 0 (xi V (100 * 0 + 0) a 0 + 1) (c := 0) hl.1 (by decide) rfl
  refine Res.b e1 ?_
  have hl1 : LI (vI' V 0 a 0 (xi V 0 a 0 + 1)) a c l cap := by
    obtain ⟨q1, q2, q3, q4, q5, q6, q7, x, hx, q9⟩ := hl
    refine ⟨q1, q2, q3, ?_, q5, q6, q7, x, hx, q9⟩
    rw [vIi, if_neg (fun z => absurd z.1 (by decide))]
    exact q4
  have hf1 : LF V (vI' V 0 a 0 (xi V 0 a 0 + 1)) a := LF.vI _ _ _
  have hv1 : kdV (vI' V 0 a 0 (xi V 0 a 0 + 1)) v = c + 1 := hv
  have s1 : St (nC + 1) (nS + ncap cap) A1 (vI' V 0 a 0 (xi V 0 a 0 + 1)) := s1
  generalize vI' V 0 a 0 (xi V 0 a 0 + 1) = V1 at s1 hl1 hf1 hv1
  have h2 := hl1.2.2.1
  have h3 := hl1.2.2.2.2.1
  obtain ⟨x, hx, hx9⟩ := hl1.2.2.2.2.2.2.2
  refine Res.b ((s1.gr 1 (c := 0) hl1.1 (by decide) rfl).trans (congrArg some hx)) (Res.b ((s1.gi 2 (c := 0) hl1.1 (by decide) rfl).trans (congrArg some hl1.2.2.2.1)) (Res.b (s1.rc hl1.1) ?_))
  refine Res.w (Q := fun A' => ∃ V', (if l.length = cap then St nC nS A' V' else St (nC + 1) (nS + ncap cap) A' V') ∧ LF V V' a ∧ LI V' a c (l ++ [v]) (if l.length = cap then ncap cap else cap)) ?_ (fun A' hA' => Res.r ⟨rfl, hA'⟩)
  have hlen : aLen A1 (some x) = some (nI cap) := by
    rcases hx9 with ⟨c0, f1, n1⟩ | ⟨c0, e8, g, f1⟩
    · exact (s1.ln (c := 0) (k := 1) hl1.1 (by decide) hx f1).trans (congrArg (fun z => some (nI z)) n1)
    · have harr : arr? A1 (some x) = some (6, 0, .inr (.inr (.inr (.inr g)))) := by
        have := (s1.2.2.2.2 _ _ f1).2.1
        simp only [arr?, this]
      unfold aLen
      rw [harr, c0]
      rfl
  have hend : ∀ (nC' nS' cap' : Nat) (A2 : AH) (V2 : CW) (x' : Nat), St nC' nS' A2 V2 → LF V V2 a → LI V2 a c l cap' → kdV V2 v = c + 1 → xr V2 1 a 0 = some x' → l.length < cap' → Res ((sR A2 (some x') (nI l.length) (some v)).bind fun A5 => (pI A5 (some a) 0 2 (nI l.length + (1 : Int32))).bind fun A6 => some A6) (fun A' => ∃ V', St nC' nS' A' V' ∧ LF V V' a ∧ LI V' a c (l ++ [v]) cap') := by
    intro nC' nS' cap' A2 V2 x' s2 f2 l2 hv2 hx2 hlt
    obtain ⟨y, hy, hy1, hy2⟩ := l2.x (by omega)
    have : y = x' := Option.some.inj (hy.symm.trans hx2)
    subst this
    have hc2 := l2.2.2.1
    obtain ⟨A3, e3, s3⟩ := s2.sr (c := 0) (k := 1) l.length (some v) l2.1 (Or.inl rfl) hy hy1 (by show l.length < xn V2 1 a; omega) (by omega) (s2.st3 hv2 l2.2.1)
    refine Res.b e3 ?_
    rw [nI_1]
    obtain ⟨A4, e4, s4⟩ := s3.pi 2 (nI (l.length + 1)) (c := 0) l2.1 (by decide) rfl
    refine Res.b e4 (Res.r ⟨_, s4, f2.tr ((LF.vR _ _ _).tr (LF.vI _ _ _)), ?_⟩)
    obtain ⟨q1, q2, q3, q4, q5, q6, q7, x'', q8, q9⟩ := l2
    refine ⟨q1, q2, q3, ?_, by rw [List.length_append]; show l.length + 1 ≤ cap'; omega, fun u hu => ?_, fun j u hj => ?_, x'', ?_, q9⟩
    · rw [List.length_append]
      show xi (vI' (vR' V2 51 a l.length (some v)) 2 a 0 (nI (l.length + 1))) 2 a 0 = nI (l.length + 1)
      rw [vIi, if_pos ⟨rfl, rfl, rfl⟩]
    · rcases List.mem_append.mp hu with z | z
      · exact q6 u z
      · rw [List.mem_singleton.mp z]; exact hv2
    · show xr (vR' V2 51 a l.length (some v)) 51 a j = some u
      rw [vRr]
      by_cases e : j < l.length
      · rw [if_neg (fun z => by omega)]
        rw [List.getElem?_append_left e] at hj
        exact q7 j u hj
      · rw [List.getElem?_append_right (by omega)] at hj
        have hj0 : j - l.length = 0 := by
          have := (List.getElem?_eq_some_iff.mp hj).1
          simp at this
          omega
        rw [hj0] at hj
        rw [if_pos ⟨rfl, rfl, by omega⟩]
        exact hj
    · show xr (vR' V2 51 a l.length (some v)) 1 a 0 = some x''
      rw [vRr, if_neg (fun z => absurd z.1 (by decide))]
      exact q8
  unfold fJ2_add_2
  refine Res.b hlen ?_
  rw [jn_eq]
  by_cases hfull : l.length = cap
  · rw [if_pos (by rw [hfull])]
    simp only [if_pos hfull]
    refine Res.b (s1.rc hl1.1) (Res.w (L_grow nC nS s1 hl1 hfull (hcap hfull)) ?_)
    rintro ⟨r1, A2⟩ ⟨V2, x', e5, s2, f2, l2, hx2⟩
    have e5 : r1 = some x' := e5
    subst e5
    have hcn : cap < ncap cap := by unfold ncap; split; omega; split <;> omega
    exact hend nC nS (ncap cap) A2 V2 x' s2 (hf1.tr f2) l2 (by rw [kdV, f2.1]; exact hv1) hx2 (by omega)
  · rw [if_neg (fun z => hfull ((nI_eq (by omega) (by omega)).mp z))]
    simp only [if_neg hfull]
    exact hend (nC + 1) (nS + ncap cap) cap A1 V1 x s1 hf1 hl1 hv1 hx (by omega)
end C6
