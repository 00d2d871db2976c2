/-! C67: a lane is drawn -/
section C67
variable {nC nS n : Nat} {A A' : AH} {V V' V'' V0 : CW} {E E' E'' E0 : EL} {r r' : AA} {P : PP} {X X' : Nat → Prop} {n0 n1 n2 m0 m1 m2 : Nat}
theorem owl_m {c k : Nat} (h : owl c k ≠ 0) : (c = 14 → k = 0 ∨ k = 1) ∧ (c = 13 → k = 3 ∨ k = 4) ∧ (c = 12 → k = 1) := by
  unfold owl at h
  cases e : ([(14, 0, 16), (14, 1, 4), (13, 3, 16), (13, 4, 4), (12, 1, 64), (10, 0, 4), (1, 1, 4096), (4, 2, 32), (4, 4, 512)] : List (Nat × Nat × Nat)).find? (fun t => t.1 == c && t.2.1 == k) with
  | none => rw [e] at h; exact absurd rfl h
  | some t =>
    have h1 := List.mem_of_find?_eq_some e
    have h2 := List.find?_some e
    simp only [Bool.and_eq_true, beq_iff_eq] at h2
    simp only [List.mem_cons, List.not_mem_nil, or_false] at h1
    rcases h1 with h1 | h1 | h1 | h1 | h1 | h1 | h1 | h1 | h1 <;> (subst h1; simp only at h2; omega)
theorem lof_m {c k : Nat} (h : lof c k ≠ 0) : c ≠ 14 ∧ (c = 13 → k = 2) ∧ (c = 12 → k = 2) := by
  unfold lof at h
  cases e : ([(13, 2, 15), (12, 2, 14), (2, 0, 13), (2, 1, 14), (2, 2, 15), (3, 0, 16), (3, 1, 16), (7, 8, 9), (9, 0, 11), (1, 0, 6)] : List (Nat × Nat × Nat)).find? (fun t => t.1 == c && t.2.1 == k) with
  | none => rw [e] at h; exact absurd rfl h
  | some t =>
    have h1 := List.mem_of_find?_eq_some e
    have h2 := List.find?_some e
    simp only [Bool.and_eq_true, beq_iff_eq] at h2
    simp only [List.mem_cons, List.not_mem_nil, or_false] at h1
    rcases h1 with h1 | h1 | h1 | h1 | h1 | h1 | h1 | h1 | h1 | h1 <;> (subst h1; simp only at h2; omega)
theorem DS.xf {x : Nat} (h : XF x V V') : DS (fun z => z = x) V E V' E := by
  have e3 : xr V' = xr V := by show V'.2.2.1 = V.2.2.1; rw [h.2.1]
  have e4 : xn V' = xn V := by show V'.2.2.2.2.1 = V.2.2.2.2.1; rw [h.2.1]
  exact ⟨h.vf rfl, fun _ _ => ⟨rfl, fun _ => ⟨rfl, rfl⟩⟩, fun _ _ _ _ _ => ⟨by rw [e3], by rw [e4]⟩⟩
theorem DI.xf {x : Nat} (h : DI nC nS V0 E0 P A V E r n0 n1 n2) (s : St (nC + rqP V E P + ptC V E r P n0 n1 n2) (nS + 4 * rqP V E P + ptS V E r P n0 n1 n2) A' V') (xf : XF x V V') (hk : kdV V x ≠ 1) (hx : kdV V0 x ≠ 0 → PM V0 E0 P x) : DI nC nS V0 E0 P A' V' E r n0 n1 n2 := by
  have e3 : xr V' = xr V := by show V'.2.2.1 = V.2.2.1; rw [xf.2.1]
  have ek : ∀ a, kdV V' a = kdV V a := fun a => by rw [kdV, xf.1]
  have eL : ∀ c k a, lt V' E c k a = lt V E c k a := fun c k a => by unfold lt; rw [e3]
  have eC : ∀ c k a, cpL V' E c k a = cpL V E c k a := fun c k a => by unfold cpL; rw [e3]
  have ew : fW V' E = fW V E := by funext w; unfold fW; rw [eC]
  have eb : fB V' E = fB V E := by funext w; unfold fB; rw [eC]
  have e1 : rqP V' E P = rqP V E P := by unfold rqP; rw [eC, eC, eC]
  have e2 : ptC V' E r P n0 n1 n2 = ptC V E r P n0 n1 n2 := by unfold ptC; rw [ew, eb, eL, eL]
  have e3' : ptS V' E r P n0 n1 n2 = ptS V E r P n0 n1 n2 := by unfold ptS; rw [ew, eb, eL, eL]
  obtain ⟨hst, hds, hw, hg, hsub, hpn, hrk, hP0⟩ := h
  have ds : DS (fun z => z = x) V E V' E := DS.xf xf
  refine ⟨by rw [e1, e2, e3']; exact s, hds.tr ds (fun a ha z => by subst z; exact hx ha), hw.ds ds 0 (fun a c ha ha' => by rw [ek] at ha'; omega) (fun c k h0 hc _ => by rw [ek] at hc; omega) (fun c k h0 hc _ => by rw [ek] at hc; omega) (fun c k k' h0 hc _ _ => by rw [ek] at hc; omega), hg.ds ds (fun a ha z => ?_), fun k y hk' hy => hsub k y hk' (by rw [← eL]; exact hy), ?_, fun k q a hk' ha => by rw [ek]; exact hrk k q a hk' ha, hP0⟩
  · rw [ek] at ha
    rcases z with z | z
    · subst z
      exact absurd ha hk
    · omega
  · unfold PN
    rw [eL, eL, eL]
    exact ⟨hpn.1, hpn.2.1, hpn.2.2.1, fun j hj => by rw [eC]; exact hpn.2.2.2 j hj⟩
theorem e2_lane (h : DI nC nS V0 E0 P A V E r n0 n1 n2) {q : Nat} (hq : r 14 q = none) (hq2 : q < 4096) (hn : 17 < n) : Res (fX2_lane n (P 2) A) (fun g => ∃ V' E' x m2, g.1 = some x ∧ DI nC nS V0 E0 P g.2 V' E' (insA r 14 q x) n0 n1 m2 ∧ DS (fun z => z = x ∨ xr V 202 (P 2) 0 = some z) V E V' E' ∧ L0 V' x ∧ kdV V' x = 15 ∧ (∀ z, kdV V z = 0 → kdV V' z ≠ 0 → z = x) ∧ (kdV V x = 0 ∨ x ∈ lt V E 2 2 (P 2))) := by
  have hP := h.P2
  have h' := h
  obtain ⟨hst, hds, hw, hg, hsub, hpn, hrk, hP0⟩ := h'
  obtain ⟨pl, x1, li, ek, el, ec, hps⟩ := PLs hw hg hP (k := 2) (by omega)
  unfold fX2_lane
  refine Res.b ((hst.gr 2 (c := 2) hP (by decide) rfl).trans (congrArg some x1)) (Res.b (hst.rc li.1) (Res.b (L_isEmpty hst li) ?_))
  rw [jn_eq]
  have kk : ∀ x A6 V6 E6 m2, DI nC nS V0 E0 P A6 V6 E6 (insA r 14 q x) n0 n1 m2 → DS (fun z => xr V 202 (P 2) 0 = some z) V E V6 E6 → kdV V6 x = 15 → (∀ z, kdV V z = 0 → kdV V6 z ≠ 0 → z = x) → (kdV V x = 0 ∨ x ∈ lt V E 2 2 (P 2)) → Res ((rcv A6 (some x) 14).bind fun v7 => (fX14_begin n v7 A6).bind fun g8 => some (some x, g8)) (fun g => ∃ V' E' x m2, g.1 = some x ∧ DI nC nS V0 E0 P g.2 V' E' (insA r 14 q x) n0 n1 m2 ∧ DS (fun z => z = x ∨ xr V 202 (P 2) 0 = some z) V E V' E' ∧ L0 V' x ∧ kdV V' x = 15 ∧ (∀ z, kdV V z = 0 → kdV V' z ≠ 0 → z = x) ∧ (kdV V x = 0 ∨ x ∈ lt V E 2 2 (P 2))) := by
    intro x A6 V6 E6 m2 h6 d6 k6 nw hx
    refine Res.b (h6.1.rc k6) (Res.w (e14_begin h6.1 k6 (h6.2.2.1.1 x 14 0 k6 (by decide)) (h6.2.2.1.1 x 14 1 k6 (by decide)) hn) ?_)
    rintro A7 ⟨V7, s7, xf, l0⟩
    have ek7 : ∀ a, kdV V7 a = kdV V6 a := fun a => by rw [kdV, xf.1]
    have hpm : kdV V0 x ≠ 0 → PM V0 E0 P x := fun hz => by
      rcases hx with e | e
      · have := (hds.1.1 x hz).1
        omega
      · exact Or.inr (Or.inl ⟨2, by omega, hsub 2 x (by omega) e⟩)
    refine Res.r ⟨V7, E6, x, m2, rfl, h6.xf s7 xf (by omega) hpm, (d6.up (fun a _ z => Or.inr z)).tr (DS.xf xf) (fun a _ z => Or.inl z), l0, by rw [ek7]; exact k6, fun z hz hz' => nw z hz (by rw [← ek7]; exact hz'), hx⟩
  by_cases c0 : (lt V E 2 2 (P 2)).length = 0
  · have e0 : lt V E 2 2 (P 2) = [] := List.length_eq_zero_iff.mp c0
    rw [b2i_t c0, if_neg (by decide)]
    have hp0 := hst.new0
    obtain ⟨_, _, b2, b3, b4⟩ := h.room (k := 2) (q := q) (by omega) e0 hq (fun z => by omega) (fun z => by omega) (fun _ => hq2)
    rw [if_neg (by decide), if_neg (by decide)] at b3 b4
    obtain ⟨tC, eC⟩ : ∃ t, nC + rqP V E P + ptC V E r P n0 n1 n2 = t + 2 + 1 := ⟨nC + rqP V E P + ptC V E r P n0 n1 n2 - 3, by omega⟩
    obtain ⟨tS, eS⟩ : ∃ t, nS + 4 * rqP V E P + ptS V E r P n0 n1 n2 = t + 20 + 6 := ⟨nS + 4 * rqP V E P + ptS V E r P n0 n1 n2 - 26, by omega⟩
    have hst1 := hst
    rw [eC, eS] at hst1
    obtain ⟨A1, e1, _, s1⟩ := hst1.no 14 (n := tS + 20) dfX14 (by decide) (by decide) rfl (by show tS + 20 + 6 ≤ _; omega)
    refine Res.b e1 ?_
    have k1 : kdV (vNew V (hN A) 14) (hN A) = 15 := if_pos rfl
    refine Res.w (e14_init s1 k1) ?_
    rintro A2 ⟨V2, s2, v2, f2, o0, o1⟩
    have ek2 : ∀ a, kdV V2 a = if a = hN A then 15 else kdV V a := fun a => by rw [kdV, v2]; rfl
    have kx : kdV V2 (hN A) = 15 := by rw [ek2, if_pos rfl]
    have ds : DS (fun _ => False) V E V2 E := by
      have v1 := VF.new (S := fun _ => False) (c := 14) hp0
      refine ⟨⟨fun z hz => ?_, f2.2.1, f2.2.2⟩, fun _ _ => ⟨rfl, fun _ => ⟨rfl, rfl⟩⟩, fun a c k ha _ => ?_⟩
      · have hz1 : z ≠ hN A := fun e => hz (by rw [e]; exact hp0)
        refine ⟨by rw [ek2, if_neg hz1], fun _ d => ?_⟩
        obtain ⟨w1, w2⟩ := v1.1 z hz
        obtain ⟨w3, w4⟩ := f2.1 z (by rw [w1]; exact hz)
        obtain ⟨r1, r2, r3, r4⟩ := w2 (fun z => z) d
        obtain ⟨q1, q2, q3, q4⟩ := w4 hz1 d
        exact ⟨q1.trans r1, q2.trans r2, q3.trans r3, q4.trans r4⟩
      · have hz : kdV V a ≠ 0 := by omega
        have hz1 : a ≠ hN A := fun e => hz (by rw [e]; exact hp0)
        obtain ⟨w1, w2⟩ := v1.1 a hz
        obtain ⟨w3, w4⟩ := f2.1 a (by rw [w1]; exact hz)
        obtain ⟨r1, r2, r3, r4⟩ := w2 (fun z => z) (100 * c + k)
        obtain ⟨q1, q2, q3, q4⟩ := w4 hz1 (100 * c + k)
        exact ⟨by rw [q2, r2], q4.trans r4⟩
    have wt : WT V2 E := by
      refine hw.ds ds (hN A) (fun a c ha ha' => ?_) (fun c k h0 hc hk => ?_) (fun c k h0 hc hk => ?_) (fun c k k' h0 hc hk hk' => ?_)
      · by_cases e : a = hN A
        · exact Or.inl e
        · rw [ek2, if_neg e] at ha'; omega
      · have : c = 14 := by rw [kx] at hc; omega
        subst this
        have := (owl_m hk).1 rfl
        rcases this with e | e
        · subst e; exact o0
        · subst e; exact o1
      · have : c = 14 := by rw [kx] at hc; omega
        subst this
        exact absurd rfl (lof_m hk).1
      · have : c = 14 := by rw [kx] at hc; omega
        subst this
        exact absurd rfl (lof_m hk).1
    have gl : GL V2 E := by
      refine hg.ds ds (fun a ha z => ?_)
      rcases z with z | z
      · exact absurd z (fun z => z)
      · exfalso
        rw [ek2] at ha
        by_cases e : a = hN A
        · rw [if_pos e] at ha; omega
        · rw [if_neg e] at ha; omega
    refine kk (hN A) A2 V2 E (n2 + 1) ?_ (ds.up (fun _ _ z => absurd z (fun z => z))) kx (fun z hz hz' => ?_) (Or.inl hp0)
    · refine h.nw (k := 2) (q := q) (o := hN A) (by omega) e0 hq (fun z => by omega) (fun z => by omega) (fun _ => hq2) ds wt gl hp0 kx (fun z => by omega) (fun z => by omega) ?_
      rw [if_neg (by decide), if_neg (by decide), if_neg (by decide), if_neg (by decide), eC, eS]
      refine s2.mono ?_ ?_ <;> omega
    · by_cases e : z = hN A
      · exact e
      · rw [ek2, if_neg e] at hz'
        exact absurd hz hz'
  · rw [b2i_f c0, if_pos rfl]
    obtain ⟨l, x, hlx⟩ : ∃ l0 last, lt V E 2 2 (P 2) = l0 ++ [last] := ⟨(lt V E 2 2 (P 2)).dropLast, (lt V E 2 2 (P 2)).getLast (by intro z; rw [z] at c0; exact c0 rfl), (List.dropLast_concat_getLast _).symm⟩
    have hlen : (lt V E 2 2 (P 2)).length = l.length + 1 := by rw [hlx, List.length_append]; rfl
    refine Res.b (L_size hst li) ?_
    have hb := li.2.2.1
    have hb2 := li.2.2.2.2.1
    rw [hlen, nI_sub1 (by omega), show l.length + 1 - 1 = l.length by omega]
    obtain ⟨pl', y1, hr⟩ := h.pop (k := 2) (q := q) (x := x) (l := l) (by omega) hlx hq (fun z => by omega) (fun z => by omega) (fun _ => hq2)
    have : pl' = pl := Option.some.inj (y1.symm.trans x1)
    subst this
    refine Res.w hr ?_
    rintro ⟨g1, A1⟩ ⟨e1, V1, E1, d1, s1, k1⟩
    have e1 : g1 = some x := e1
    subst e1
    have hxm : x ∈ lt V E 2 2 (P 2) := by rw [hlx]; exact List.mem_append_right _ (List.mem_singleton.mpr rfl)
    have kx : kdV V1 x = 15 := s1.kv (c := 14) (pool_kd hw hg hP (k := 2) (by omega) hxm)
    refine Res.b (d1.1.cs kx) (kk x A1 V1 E1 n2 d1 s1 kx (fun z hz hz' => ?_) (Or.inr hxm))
    rw [kdV, k1] at hz'
    exact absurd hz hz'
end C67
