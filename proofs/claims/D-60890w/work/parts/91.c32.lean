/-! C32: the heap: take, isDue -/
section C32
variable {nC nS n : Nat} {A : AH} {V V' : CW}
theorem e3_isDue (h : St nC nS A V) {ho hl cap : Nat} {l : List Nat} (hho : kdV V ho = 4) (hx : xr V 300 ho 0 = some hl) (hli : LI V hl 15 l cap) (cyc : Int32) : ∃ r, fX3_isDue ho cyc A = some r ∧ (r = 0 ↔ ¬ ∃ x, l[0]? = some x ∧ fT V x ≤ cyc) := by
  unfold fX3_isDue
  simp only [(h.gr 0 (c := 3) hho (by decide) rfl).trans (congrArg some hx), h.rc hli.1, L_isEmpty h hli, Option.bind_some, jn_eq]
  by_cases c : l.length = 0
  · rw [b2i_t c, if_neg (by decide)]
    refine ⟨_, rfl, fun _ => ?_, fun _ => rfl⟩
    rintro ⟨x, hx0, _⟩
    have := ge_lt hx0
    omega
  · rw [b2i_f c, if_pos rfl]
    obtain ⟨x, hx0⟩ := lt_ge (l := l) (i := 0) (by omega)
    have hk := hli.kd hx0
    have hget : fJ2_get hl 0 A = some (some x) := L_get h hli hx0
    rw [hget, Option.bind_some, h.cs hk, Option.bind_some, h.gi 0 (c := 15) hk (by decide) rfl, Option.bind_some]
    by_cases c2 : cyc < xi V (100 * 15 + 0) x 0
    · rw [if_pos c2]
      refine ⟨_, rfl, fun _ => ?_, fun _ => rfl⟩
      rintro ⟨y, hy, hy2⟩
      rw [Option.some.inj (hy.symm.trans hx0)] at hy2
      exact absurd hy2 (Int32.not_le.mpr c2)
    · rw [if_neg c2]
      exact ⟨_, rfl, fun z => absurd z (by decide), fun z => absurd ⟨x, hx0, Int32.not_lt.mp c2⟩ z⟩
/-- the heap but its first -/
def lessF (l l' : List Nat) (x0 : Nat) : Prop := l'.length + 1 = l.length ∧ (inj l → inj l') ∧ ∀ x : Nat, (∃ i : Nat, l'[i]? = some x) ↔ ((∃ i : Nat, 0 < i ∧ l[i]? = some x))
set_option maxHeartbeats 2000000 in
theorem e3_take (nC nS : Nat) {A : AH} {V : CW} {ho hl sl cap cap2 first : Nat} {l sp : List Nat} (h : St (nC + 1) (nS + ncap cap2) A V) (hho : kdV V ho = 4) (hx : xr V 300 ho 0 = some hl) (hx2 : xr V 301 ho 0 = some sl) (hne : hl ≠ sl) (hli : LI V hl 15 l cap) (hli2 : LI V sl 15 sp cap2) (h0 : l[0]? = some first) (hcap : sp.length = cap2 → ncap cap2 ≤ 9000) (hord : HO (fT V) (gU V) l) (hn : 10001 < n) :
    Res (fX3_take n ho A) (fun r => r.1 = some first ∧ ∃ V1 V' l', (if sp.length = cap2 then St nC nS r.2 V' else St (nC + 1) (nS + ncap cap2) r.2 V') ∧ LF V V1 hl ∧ LF V1 V' sl ∧ LI V' hl 15 l' cap ∧ LI V' sl 15 (sp ++ [first]) (if sp.length = cap2 then ncap cap2 else cap2) ∧ lessF l l' first ∧ HO (fT V) (gU V) l') := by
  have hcp := hli.2.2.1
  have hlc := hli.2.2.2.2.1
  have hl0 := ge_lt h0
  have hk0 := hli.kd h0
  have hhl : ho ≠ hl := fun z => by rw [z, hli.1] at hho; cases hho
  have hsl : ho ≠ sl := fun z => by rw [z, hli2.1] at hho; cases hho
  obtain ⟨l0, last, rfl⟩ : ∃ l0 last, l = l0 ++ [last] := ⟨l.dropLast, l.getLast (by intro z; rw [z] at hl0; simp at hl0), (List.dropLast_concat_getLast _).symm⟩
  have hlen : (l0 ++ [last]).length = l0.length + 1 := by rw [List.length_append]; rfl
  have hlastk : kdV V last = 16 := hli.kd (i := l0.length) (by rw [List.getElem?_append_right (Nat.le_refl _), Nat.sub_self]; rfl)
  unfold fX3_take
  have hget : fJ2_get hl 0 A = some (some first) := L_get h hli h0
  refine Res.b ((h.gr 0 (c := 3) hho (by decide) rfl).trans (congrArg some hx)) (Res.b (h.rc hli.1) (Res.b hget (Res.b (h.cs hk0) (Res.b (L_size h hli) ?_))))
  rw [hlen, nI_sub1 (by omega), show l0.length + 1 - 1 = l0.length by omega]
  refine Res.w (L_remove h hli) ?_
  rintro ⟨r6, A6⟩ ⟨e6, V6, s6, f6, li6⟩
  have e6 : r6 = some last := e6
  subst e6
  have hho6 := f6.kv hho
  have hx6 : xr V6 300 ho 0 = some hl := by rw [f6.xr' hhl]; exact hx
  have hx26 : xr V6 301 ho 0 = some sl := by rw [f6.xr' hhl]; exact hx2
  have hla6 := f6.kv hlastk
  have li26 : LI V6 sl 15 sp cap2 := hli2.vf (S := fun z => z = hl) (f6.vf rfl) (fun z => hne z.symm)
  refine Res.b (s6.cs hla6) (Res.b ((s6.gr 0 (c := 3) hho6 (by decide) rfl).trans (congrArg some hx6)) (Res.b (s6.rc li6.1) (Res.b (L_size s6 li6) ?_)))
  -- the end: the spare one is put away
  have spare : ∀ (A20 : AH) (V20 : CW) (l' : List Nat), St (nC + 1) (nS + ncap cap2) A20 V20 → LF V V20 hl → LI V20 hl 15 l' cap → lessF (l0 ++ [last]) l' first → HO (fT V) (gU V) l' → Res ((gR A20 (some ho) 3 1).bind fun v21 => (rcv A20 v21 0).bind fun v22 => (fJ2_add v22 (some first) A20).bind fun g23 => some ((some first : Option Nat), g23.2)) (fun r => r.1 = some first ∧ ∃ V1 V' l', (if sp.length = cap2 then St nC nS r.2 V' else St (nC + 1) (nS + ncap cap2) r.2 V') ∧ LF V V1 hl ∧ LF V1 V' sl ∧ LI V' hl 15 l' cap ∧ LI V' sl 15 (sp ++ [first]) (if sp.length = cap2 then ncap cap2 else cap2) ∧ lessF (l0 ++ [last]) l' first ∧ HO (fT V) (gU V) l') := by
    intro A20 V20 l' s20 f20 li20 lf ord
    have hho20 := f20.kv hho
    have hx220 : xr V20 301 ho 0 = some sl := by rw [f20.xr' hhl]; exact hx2
    have li220 : LI V20 sl 15 sp cap2 := hli2.vf (S := fun z => z = hl) (f20.vf rfl) (fun z => hne z.symm)
    refine Res.b ((s20.gr 1 (c := 3) hho20 (by decide) rfl).trans (congrArg some hx220)) (Res.b (s20.rc li220.1) (Res.w (L_add nC nS s20 li220 (fun z => by have := hcap z; omega) (f20.kv hk0)) ?_))
    rintro ⟨r, A23⟩ ⟨_, V23, s23, f23, li23⟩
    exact Res.r ⟨rfl, V20, V23, l', s23, f20, f23, li20.vf (S := fun z => z = sl) (f23.vf rfl) (fun z => hne z), li23, lf, ord⟩
  rw [jn_eq]
  by_cases cn : l0.length = 0
  · -- it was the only one
    have el : l0 = [] := List.length_eq_zero_iff.mp cn
    subst el
    have ef : first = last := by
      have : ([] ++ [last])[0]? = some last := rfl
      exact Option.some.inj (h0.symm.trans this)
    rw [if_pos (show nI ([] : List Nat).length ≤ 0 by decide)]
    refine jl_R (fun d (g : Int32 → Int32 → AH → Option (Option Nat × AH)) => Res (g 0 0 A6) (fun r => r.1 = some first ∧ ∃ V1 V' l', (if sp.length = cap2 then St nC nS r.2 V' else St (nC + 1) (nS + ncap cap2) r.2 V') ∧ LF V V1 hl ∧ LF V1 V' sl ∧ LI V' hl 15 l' cap ∧ LI V' sl 15 (sp ++ [first]) (if sp.length = cap2 then ncap cap2 else cap2) ∧ lessF ([] ++ [last]) l' first ∧ HO (fT V) (gU V) l')) 0 (show 0 < n by omega) ?_ ?_ ?_
    · intro g
      rw [if_pos rfl, jn_eq, if_pos (show nI ([] : List Nat).length ≤ 0 by decide)]
      refine spare A6 V6 [] s6 f6 li6 ⟨rfl, fun _ i j v hi => by simp at hi, fun x => ⟨fun ⟨i, hi⟩ => by simp at hi, fun ⟨i, hi, hi2⟩ => ?_⟩⟩ (fun i x y _ hx => by simp at hx)
      have := ge_lt hi2
      have : i < 1 := this
      omega
    · intro d g _
      rw [if_pos rfl, jn_eq, if_pos (show nI ([] : List Nat).length ≤ 0 by decide)]
      refine spare A6 V6 [] s6 f6 li6 ⟨rfl, fun _ i j v hi => by simp at hi, fun x => ⟨fun ⟨i, hi⟩ => by simp at hi, fun ⟨i, hi, hi2⟩ => ?_⟩⟩ (fun i x y _ hx => by simp at hx)
      have := ge_lt hi2
      have : i < 1 := this
      omega
    · intro g hg
      exact hg
  · have hnle : ¬ nI l0.length ≤ 0 := fun z => cn ((nI_le0 (by omega)).mp z)
    rw [if_neg hnle]
    have hb0 : l0[0]? = some first := by
      rw [List.getElem?_append_left (by omega)] at h0
      exact h0
    -- the base: the last one at the top
    have hbase : ∀ lx, same (l0.set 0 last) lx → lessF (l0 ++ [last]) lx first := by
      intro lx sm
      refine ⟨by rw [sm.1, List.length_set, hlen], fun hinj => sm.2.1 ?_, fun x => (sm.2.2 x).trans ⟨?_, ?_⟩⟩
      · intro i j v hi hj
        rw [gs _ _ _ _ (by omega)] at hi hj
        have key : ∀ q, (if q = 0 then some last else l0[q]?) = some v → (l0 ++ [last])[if q = 0 then l0.length else q]? = some v := by
          intro q hq
          by_cases e : q = 0
          · rw [if_pos e] at hq ⊢
            rw [List.getElem?_append_right (Nat.le_refl _), Nat.sub_self]
            exact hq
          · rw [if_neg e] at hq ⊢
            rw [List.getElem?_append_left (ge_lt hq)]
            exact hq
        have e := hinj _ _ v (key i hi) (key j hj)
        by_cases e1 : i = 0
        · by_cases e2 : j = 0
          · omega
          · rw [if_pos e1, if_neg e2] at e
            rw [if_neg e2] at hj
            have := ge_lt hj
            omega
        · by_cases e2 : j = 0
          · rw [if_neg e1, if_pos e2] at e
            rw [if_neg e1] at hi
            have := ge_lt hi
            omega
          · rw [if_neg e1, if_neg e2] at e
            exact e
      · rintro ⟨i, hi⟩
        rw [gs _ _ _ _ (by omega)] at hi
        by_cases e : i = 0
        · rw [if_pos e] at hi
          refine ⟨l0.length, by omega, ?_⟩
          rw [List.getElem?_append_right (Nat.le_refl _), Nat.sub_self]
          exact hi
        · rw [if_neg e] at hi
          exact ⟨i, by omega, by rw [List.getElem?_append_left (ge_lt hi)]; exact hi⟩
      · rintro ⟨i, hi0, hi⟩
        by_cases e : i = l0.length
        · subst e
          rw [List.getElem?_append_right (Nat.le_refl _), Nat.sub_self] at hi
          exact ⟨0, by rw [gs _ _ _ _ (by omega), if_pos rfl]; exact hi⟩
        · have hlt : i < l0.length := by have := ge_lt hi; omega
          rw [List.getElem?_append_left hlt] at hi
          exact ⟨i, by rw [gs _ _ _ _ (by omega), if_neg (by omega)]; exact hi⟩
    have ord0 : ∀ i x y : Nat, 0 < i → l0[i]? = some x → l0[(i - 1) / 2]? = some y → ¬ hLt (fT V) (gU V) x y := by
      intro i x y hi hx hy
      have hlt := ge_lt hx
      exact hord i x y hi (by rw [List.getElem?_append_left hlt]; exact hx) (by rw [List.getElem?_append_left (by omega)]; exact hy)
    have dn0 : DnI (fT V) (gU V) (l0.set 0 last) 0 := by
      refine ⟨fun i x y hi hne hx hy => ?_, fun z => absurd z (by omega)⟩
      rw [gs _ _ _ _ (by omega), if_neg (by omega)] at hx
      rw [gs _ _ _ _ (by omega), if_neg hne] at hy
      exact ord0 i x y hi hx hy
    have hlac : ∀ {Vq : CW} {x : Nat}, LF V Vq hl → kdV V x = 16 → fT Vq x = fT V x ∧ gU Vq x = gU V x := fun {Vq x} f hk => f.ask (fun z => by rw [z, hli.1] at hk; cases hk)
    refine jl_R (fun d (g : Int32 → Int32 → AH → Option (Option Nat × AH)) => ∀ k A16 V16 l13 lx, St (nC + 1) (nS + ncap cap2) A16 V16 → LF V V16 hl → LI V16 hl 15 l13 cap → l13.length = l0.length → k < l0.length → lx = l13.set k last → same (l0.set 0 last) lx → ((HO (fT V) (gU V) lx → Res (g (nI k) 0 A16) (fun r => r.1 = some first ∧ ∃ V1 V' l', (if sp.length = cap2 then St nC nS r.2 V' else St (nC + 1) (nS + ncap cap2) r.2 V') ∧ LF V V1 hl ∧ LF V1 V' sl ∧ LI V' hl 15 l' cap ∧ LI V' sl 15 (sp ++ [first]) (if sp.length = cap2 then ncap cap2 else cap2) ∧ lessF (l0 ++ [last]) l' first ∧ HO (fT V) (gU V) l')) ∧ (l0.length ≤ k + d → DnI (fT V) (gU V) lx k → Res (g (nI k) 1 A16) (fun r => r.1 = some first ∧ ∃ V1 V' l', (if sp.length = cap2 then St nC nS r.2 V' else St (nC + 1) (nS + ncap cap2) r.2 V') ∧ LF V V1 hl ∧ LF V1 V' sl ∧ LI V' hl 15 l' cap ∧ LI V' sl 15 (sp ++ [first]) (if sp.length = cap2 then ncap cap2 else cap2) ∧ lessF (l0 ++ [last]) l' first ∧ HO (fT V) (gU V) l')))) (l0.length + 1) (show l0.length + 1 < n by omega) ?_ ?_ ?_
    · intro g k A16 V16 l13 lx s16 f16 li16 hlen16 hk elx sm
      refine ⟨fun ord => ?_, fun hd => by omega⟩
      rw [if_pos rfl, jn_eq, if_neg hnle]
      obtain ⟨w, hw⟩ := lt_ge (l := l13) (i := k) (by omega)
      refine Res.b ((s16.gr 0 (c := 3) (f16.kv hho) (by decide) rfl).trans (congrArg some (show xr V16 300 ho 0 = some hl by rw [f16.xr' hhl]; exact hx))) (Res.b (s16.rc li16.1) (Res.w (L_set s16 li16 hw (f16.kv hlastk)) ?_))
      rintro ⟨r, A27⟩ ⟨_, V27, s27, f27, li27⟩
      exact spare A27 V27 lx s27 (f16.tr f27) (by rw [elx]; exact li27) (hbase lx sm) ord
    · intro d g hg k A16 V16 l13 lx s16 f16 li16 hlen16 hk elx sm
      refine ⟨fun ord => ?_, fun hd dn => ?_⟩
      · rw [if_pos rfl, jn_eq, if_neg hnle]
        obtain ⟨w, hw⟩ := lt_ge (l := l13) (i := k) (by omega)
        refine Res.b ((s16.gr 0 (c := 3) (f16.kv hho) (by decide) rfl).trans (congrArg some (show xr V16 300 ho 0 = some hl by rw [f16.xr' hhl]; exact hx))) (Res.b (s16.rc li16.1) (Res.w (L_set s16 li16 hw (f16.kv hlastk)) ?_))
        rintro ⟨r, A27⟩ ⟨_, V27, s27, f27, li27⟩
        exact spare A27 V27 lx s27 (f16.tr f27) (by rw [elx]; exact li27) (hbase lx sm) ord
      · rw [if_neg (show ¬ (1 : Int32) = 0 by decide)]
        have gr0 : gR A16 (some ho) 3 0 = some (some hl) := (s16.gr 0 (c := 3) (f16.kv hho) (by decide) rfl).trans (congrArg some (show xr V16 300 ho 0 = some hl by rw [f16.xr' hhl]; exact hx))
        have hka : lx[k]? = some last := by rw [elx, gs _ _ _ _ (by omega), if_pos rfl]
        have hlx : ∀ j : Nat, j ≠ k → lx[j]? = l13[j]? := fun j hj => by rw [elx, gs _ _ _ _ (by omega), if_neg hj]
        have hlxl : lx.length = l0.length := by rw [elx, List.length_set, hlen16]
        have e2k : (2 : Int32) * nI k + 1 = nI (2 * k + 1) := by
          rw [show (2 : Int32) = nI 2 from rfl, pk_mul, nI_1]
        have e2k2 : nI (2 * k + 1) + 1 = nI (2 * k + 2) := nI_1 _
        rw [e2k, e2k2]
        have kdx : ∀ j v : Nat, l13[j]? = some v → kdV V v = 16 := fun j v hj => by
          have := li16.kd hj
          rw [kdV, f16.1] at this
          exact this
        -- what happens once the child has been chosen
        have go : ∀ c : Nat, 0 < c → (c - 1) / 2 = k → (c < l0.length → ∀ y, l13[c]? = some y → ∀ i x : Nat, 0 < i → (i - 1) / 2 = k → lx[i]? = some x → ¬ hLt (fT V) (gU V) x y) → (l0.length ≤ c → l0.length ≤ 2 * k + 1) → Res (jn (fun (y31 : Int32) =>
            jn (fun (x33 : Int32) (A34 : AH) =>
            g x33 y31 A34) fun j32 =>
            if y31 = 0 then (j32 (nI k) A16) else
            (gR A16 (some ho) 3 0).bind fun v36 =>
            (rcv A16 v36 0).bind fun v37 =>
            (fJ2_get v37 (nI c) A16).bind fun g38 =>
            (cst A16 g38 15).bind fun v39 =>
            (fJ2_set v37 (nI k) g38 A16).bind fun g40 =>
            j32 (nI c) g40.2) fun j30 =>
            jn (j30 (0 : Int32)) fun j41 =>
            if nI l0.length ≤ nI c then (j41) else
            (gR A16 (some ho) 3 0).bind fun v43 =>
            (rcv A16 v43 0).bind fun v44 =>
            (fJ2_get v44 (nI c) A16).bind fun g45 =>
            (cst A16 g45 15).bind fun v46 =>
            (rcv A16 g45 15).bind fun v47 =>
            (fX15_isAhead v47 (some last) A16).bind fun g48 =>
            if g48 = 0 then (j41) else
            j30 (1 : Int32)) (fun r => r.1 = some first ∧ ∃ V1 V' l', (if sp.length = cap2 then St nC nS r.2 V' else St (nC + 1) (nS + ncap cap2) r.2 V') ∧ LF V V1 hl ∧ LF V1 V' sl ∧ LI V' hl 15 l' cap ∧ LI V' sl 15 (sp ++ [first]) (if sp.length = cap2 then ncap cap2 else cap2) ∧ lessF (l0 ++ [last]) l' first ∧ HO (fT V) (gU V) l') := by
          intro c hc0 hcp hmin hbig
          simp only [jn_eq, if_true]
          by_cases cc : l0.length ≤ c
          · rw [if_pos (c_le cc (by omega))]
            refine (hg k A16 V16 l13 lx s16 f16 li16 hlen16 hk elx sm).1 (dn.ok hka (fun i x hi hp hx' => ?_))
            have := ge_lt hx'
            have := hbig cc
            omega
          · rw [if_neg (c_nle (by omega) (by omega))]
            obtain ⟨y, hy⟩ := lt_ge (l := l13) (i := c) (by omega)
            have hyk := li16.kd hy
            have hykV := kdx c y hy
            obtain ⟨r, hr1, hr2⟩ := e15_isAhead s16 hyk (f16.kv hlastk)
            rw [hLt_c (hlac f16 hykV) (hlac f16 hlastk)] at hr2
            refine Res.b gr0 (Res.b (s16.rc li16.1) (Res.b (L_get s16 li16 hy) (Res.b (s16.cs hyk) (Res.b (s16.rc hyk) (Res.b hr1 ?_)))))
            by_cases cr : r = 0
            · rw [if_pos cr]
              refine (hg k A16 V16 l13 lx s16 f16 li16 hlen16 hk elx sm).1 (dn.ok hka (fun i x hi hp hx' => ?_))
              exact hLt_tr (hmin (by omega) y hy i x hi hp hx') (hr2.mp cr)
            · rw [if_neg cr, if_neg (show ¬ (1 : Int32) = 0 by decide)]
              have hlt : hLt (fT V) (gU V) y last := Classical.byContradiction fun z => cr (hr2.mpr z)
              have hyx : lx[c]? = some y := by rw [hlx c (by omega)]; exact hy
              obtain ⟨w, hw⟩ := lt_ge (l := l13) (i := k) (by omega)
              refine Res.b gr0 (Res.b (s16.rc li16.1) (Res.b (L_get s16 li16 hy) (Res.b (s16.cs hyk) (Res.w (L_set s16 li16 hw hyk) ?_))))
              rintro ⟨r', A40⟩ ⟨_, V40, s40, f40, li40⟩
              refine (hg c A40 V40 (l13.set k y) ((lx.set k y).set c last) s40 (f16.tr f40) li40 (by rw [List.length_set]; exact hlen16) (by omega) (by rw [elx, List.set_set]) (sm.tr (same_swap hka hyx))).2 (by omega) ?_
              exact dn.st hka hc0 hcp hyx hlt (fun i x hi hp hx' => hmin (by omega) y hy i x hi hp hx')
        have kids : ∀ i : Nat, 0 < i → (i - 1) / 2 = k → i = 2 * k + 1 ∨ i = 2 * k + 2 := fun i h1 h2 => by omega
        rw [jn_eq]
        by_cases c2 : l0.length ≤ 2 * k + 2
        · rw [if_pos (c_le c2 (by omega))]
          refine go (2 * k + 1) (by omega) (by omega) (fun hc y hy i x hi hp hx' => ?_) (fun z => z)
          rcases kids i hi hp with e | e
          · subst e
            rw [hlx _ (by omega), hy] at hx'
            rw [← Option.some.inj hx']
            exact hLt_ir y
          · have := ge_lt hx'
            omega
        · rw [if_neg (c_nle (by omega) (by omega))]
          obtain ⟨y1, hy1⟩ := lt_ge (l := l13) (i := 2 * k + 1) (by omega)
          obtain ⟨y2, hy2⟩ := lt_ge (l := l13) (i := 2 * k + 2) (by omega)
          have k1 := li16.kd hy1
          have k2 := li16.kd hy2
          obtain ⟨r, hr1, hr2⟩ := e15_isAhead s16 k2 k1
          rw [hLt_c (hlac f16 (kdx _ _ hy2)) (hlac f16 (kdx _ _ hy1))] at hr2
          refine Res.b gr0 (Res.b (s16.rc li16.1) (Res.b (L_get s16 li16 hy2) (Res.b (s16.cs k2) (Res.b (L_get s16 li16 hy1) (Res.b (s16.cs k1) (Res.b (s16.rc k2) (Res.b hr1 ?_)))))))
          by_cases cr : r = 0
          · rw [if_pos cr]
            refine go (2 * k + 1) (by omega) (by omega) (fun hc y hy i x hi hp hx' => ?_) (fun z => by omega)
            rw [Option.some.inj (hy.symm.trans hy1)]
            rcases kids i hi hp with e | e
            · subst e
              rw [hlx _ (by omega), hy1] at hx'
              rw [← Option.some.inj hx']
              exact hLt_ir y1
            · subst e
              rw [hlx _ (by omega), hy2] at hx'
              rw [← Option.some.inj hx']
              exact hr2.mp cr
          · rw [if_neg cr]
            have hlt : hLt (fT V) (gU V) y2 y1 := Classical.byContradiction fun z => cr (hr2.mpr z)
            refine go (2 * k + 2) (by omega) (by omega) (fun hc y hy i x hi hp hx' => ?_) (fun z => by omega)
            rw [Option.some.inj (hy.symm.trans hy2)]
            rcases kids i hi hp with e | e
            · subst e
              rw [hlx _ (by omega), hy1] at hx'
              rw [← Option.some.inj hx']
              exact hLt_as hlt
            · subst e
              rw [hlx _ (by omega), hy2] at hx'
              rw [← Option.some.inj hx']
              exact hLt_ir y2
    · intro g hg
      exact (hg 0 A6 V6 l0 (l0.set 0 last) s6 f6 li6 rfl (by omega) rfl (same.rf _)).2 (by omega) dn0
end C32
