/-! J14: units, gates; their lists grow -/
section J14
variable {nC nS n mC mS : Nat} {A A' : AH} {V V' V'' : CW} {E E' E'' : EL} {ad : AA} {M M' : MS} {P : PP} {T Bk Bk' b1 b2 n0 n1 n2 w x m al I hl sl p : Nat} {X : Nat → Prop}
theorem lof_ne {c k : Nat} (h : lof c k ≠ 0) : c ≠ 8 ∧ c ≠ 10 := by
  unfold lof at h
  cases e : ([(13, 2, 15), (12, 2, 14), (2, 0, 13), (2, 1, 14), (2, 2, 15), (3, 0, 16), (3, 1, 16), (7, 8, 9), (9, 0, 11), (1, 0, 6)] : List (Nat × Nat × Nat)).find? (fun t => t.1 == c && t.2.1 == k) with
  | none => rw [e] at h; exact absurd rfl h
  | some t =>
    have h1 := List.mem_of_find?_eq_some e
    have h2 := List.find?_some e
    simp only [Bool.and_eq_true, beq_iff_eq] at h2
    simp only [List.mem_cons, List.not_mem_nil, or_false] at h1
    rcases h1 with h1 | h1 | h1 | h1 | h1 | h1 | h1 | h1 | h1 | h1 <;> (subst h1; simp only at h2; omega)
/-- a list of theirs grows -/
theorem GZ.la {c k e o ll v : Nat} (g : GZ (nC + 1) (nS + 15) A V E M P Bk b1 b2 n0 n1 n2) (ho : kdV V o = c + 1) (hc : mcK c) (hk : lof c k = e + 1) (hx : xr V (100 * c + k) o 0 = some ll) (hv : kdV V v = e + 1) (hlen : (E.2.1 ll).length ≤ 7) (hcap : E.2.2 ll ≤ 10) : Res (fJ2_add ll (some v) A) (fun r => ∃ V' E', GZ nC nS r.2 V' E' M P Bk b1 b2 n0 n1 n2 ∧ ZF V E V' E' ∧ DS (fun z => z = ll) V E V' E' ∧ V'.1 = V.1 ∧ E'.1 = E.1 ∧ E'.2.1 ll = E.2.1 ll ++ [v] ∧ E'.2.2 ll ≤ 10) := by
  have hw := g.2.1.2.1
  have hg := g.2.1.1
  have hk0 : lof c k ≠ 0 := by omega
  obtain ⟨l0, y1, y2, y3⟩ := hw.2.1 o c k ho hk0
  have : l0 = ll := Option.some.inj (y1.symm.trans hx)
  subst this
  have ee : E.1 l0 = e := by omega
  have li := hg l0 y2
  rw [ee] at li
  have nc : ncap (E.2.2 l0) ≤ 15 := by
    unfold ncap
    split
    · omega
    · split <;> omega
  refine Res.m (L_add (nC + rqC V E P + rqP V E P + ptC V E a00 P n0 n1 n2) (nS + rqS V E P + 4 * rqP V E P + ptS V E a00 P n0 n1 n2) (g.1.mono (by omega) (by omega)) li (fun _ => by omega) hv) ?_
  rintro r ⟨_, V', s', f, li'⟩
  have s' : St (nC + rqC V E P + rqP V E P + ptC V E a00 P n0 n1 n2) (nS + rqS V E P + 4 * rqP V E P + ptS V E a00 P n0 n1 n2) r.2 V' := by
    by_cases z : (E.2.1 l0).length = E.2.2 l0
    · rw [if_pos z] at s'; exact s'
    · rw [if_neg z] at s'; exact s'.mono (by omega) (by omega)
  generalize hcp : (if (E.2.1 l0).length = E.2.2 l0 then ncap (E.2.2 l0) else E.2.2 l0) = cp at li'
  have hcp10 : cp ≤ 10 := by
    rw [← hcp]
    by_cases z : (E.2.1 l0).length = E.2.2 l0
    · rw [if_pos z]
      unfold ncap
      split
      · omega
      · split <;> omega
    · rw [if_neg z]; exact hcap
  obtain ⟨E', eE⟩ : ∃ E' : EL, E' = setE E l0 (E.2.1 l0 ++ [v]) cp := ⟨_, rfl⟩
  have eE1 : E'.1 = E.1 := by rw [eE]; rfl
  have ek : E'.2.1 l0 = E.2.1 l0 ++ [v] ∧ E'.2.2 l0 = cp := by
    rw [eE]
    exact ⟨if_pos rfl, if_pos rfl⟩
  have eo : ∀ a, a ≠ l0 → E'.2.1 a = E.2.1 a ∧ E'.2.2 a = E.2.2 a := fun a a1 => by
    rw [eE]
    exact ⟨if_neg a1, if_neg a1⟩
  have vf : VF (fun z => z = l0) V V' := f.vf rfl
  have kd : ∀ a, kdV V' a = kdV V a := fun a => by rw [kdV, f.1]
  have ds : DS (fun z => z = l0) V E V' E' := by
    refine ⟨vf, fun a ha => ⟨by rw [eE1], fun hn => eo a hn⟩, fun a c k ha hk => ?_⟩
    have hc : c ≠ 0 := by
      rcases hk with hk | hk
      · exact (owl_c hk).1
      · exact (lof_c hk).1
    have hn : a ≠ l0 := fun z => by rw [z, y2] at ha; omega
    exact ⟨by rw [vf.r ha hn], by rw [vf.n ha hn]⟩
  have zx : ZX V (fun z => z = l0) := by
    refine ⟨fun a c' ha z => by rw [z, y2] at ha; exact Or.inl (by omega), fun a c' k' ll ha hk' hll z => ?_⟩
    subst z
    have := (hw.2.2 a c' k' o c k ll ha ho hk' hk0 hll hx).2.1
    subst this
    exact hc
  have gl : GL V' E' := hg.ds ds (fun a ha h => by
    rw [kd] at ha
    rcases h with h | h
    · subst h
      rw [eE1, ee, ek.1, ek.2]
      exact li'
    · omega)
  have wt : WT V' E' := hw.ds ds 0 (fun a c' h0 h2 => by rw [kd] at h2; omega) (fun c' k h0 h2 => by rw [kd] at h2; omega) (fun c' k h0 h2 => by rw [kd] at h2; omega) (fun c' k k' h0 h2 => by rw [kd] at h2; omega)
  obtain ⟨g', zf⟩ := g.ds ds zx s' gl wt
  exact ⟨V', E', g', zf, ds, f.1, eE1, ek.1, by rw [ek.2]; exact hcp10⟩
/-- a new one without lists -/
theorem GZ.nob {c : Nat} (g : GZ nC nS A V E M P Bk b1 b2 n0 n1 n2) (hc : c = 8 ∨ c = 10) (hp0 : kdV V p = 0) (hkd : ∀ z, kdV V' z = if z = p then c + 1 else kdV V z) (vf : VF (fun _ => False) V V') (ho : ∀ k, owl c k ≠ 0 → OW V' c k p (owl c k)) (s' : St (mC + rqC V E P + rqP V E P + ptC V E a00 P n0 n1 n2) (mS + rqS V E P + 4 * rqP V E P + ptS V E a00 P n0 n1 n2) A' V') : GZ mC mS A' V' E M P Bk b1 b2 n0 n1 n2 ∧ ZF V E V' E ∧ DS (fun _ => False) V E V' E := by
  have ds : DS (fun _ => False) V E V' E := ⟨vf, fun _ _ => ⟨rfl, fun _ => ⟨rfl, rfl⟩⟩, fun a c k ha _ => ⟨by rw [vf.r ha (fun z => z)], vf.n ha (fun z => z) _⟩⟩
  have gl : GL V' E := g.2.1.1.ds ds (fun a ha h => by
    rcases h with h | h
    · exact h.elim
    · rw [hkd] at ha
      by_cases z : a = p
      · rw [if_pos z] at ha
        omega
      · rw [if_neg z] at ha
        omega)
  have kp : kdV V' p = c + 1 := by rw [hkd, if_pos rfl]
  have wt : WT V' E := by
    refine g.2.1.2.1.ds ds p (fun a c' h0 h2 => ?_) (fun c' k h0 h2 hk => ?_) (fun c' k h0 h2 hk => ?_) (fun c' k k' h0 h2 hk => ?_)
    · rw [hkd] at h2
      by_cases z : a = p
      · exact Or.inl z
      · rw [if_neg z] at h2
        omega
    · have : c' = c := by omega
      subst this
      exact ho k hk
    · have := lof_ne hk
      omega
    · have := lof_ne hk
      omega
  obtain ⟨g', zf⟩ := g.ds ds ⟨fun _ _ _ z => z.elim, fun _ _ _ _ _ _ _ z => z.elim⟩ s' gl wt
  exact ⟨g', zf, ds⟩
/-- a new array of references -/
theorem newR {a c k : Nat} (m : Nat) (h : St (nC + 1) (nS + m) A V) (ha : kdV V a = c + 1) (hk : k < nfl c) (hr : isR c k = true) (ho : own c k = 5) (hm : m ≤ 4096) : ∃ A1 A2 V2, nAR A 4 (nI m) = some A1 ∧ pR A1 (some a) c k (some (hN A)) = some A2 ∧ St nC nS A2 V2 ∧ V2.1 = V.1 ∧ VF (fun z => z = a) V V2 ∧ (∃ y, xr V2 (100 * c + k) a 0 = some y ∧ fr V2 y = none ∧ xn V2 (100 * c + k) a = m) ∧ (∀ i, xr V2 (100 * c + k + 50) a i = none) ∧ ∀ d, xi V2 d a = xi V d a := by
  have hf0 : fr V (hN A) = none := by
    cases e : fr V (hN A) with
    | none => rfl
    | some w => exact absurd (h.2.2.2.2 _ _ e).1 (Nat.lt_irrefl _)
  obtain ⟨A1, e1, _, s1⟩ := h.nar 4 m (by omega) (n := nS) (Nat.le_refl _)
  obtain ⟨A2, e2, _, s2⟩ := s1.abR (a := a) (c := c) (k := k) (x := hN A) (n := m) (f := fun _ => none) ha hk hr (Or.inr ho) h.lse0 (by rw [ho]; exact if_pos rfl)
  refine ⟨A1, A2, _, e1, e2, s2, rfl, ⟨fun b hb => ⟨rfl, fun hne d => ⟨rfl, ?_, rfl, ?_⟩⟩, ?_, rfl⟩, ⟨hN A, ?_, ?_, ?_⟩, fun i => ?_, fun d' => rfl⟩
  · funext i
    show (if _ then _ else up3 _ _ _ _ _ _ _ _) = _
    rw [if_neg (fun z => hne z.2)]
    exact if_neg (fun z => hne z.2.1)
  · exact if_neg (fun z => hne z.2)
  · funext q
    show (if q = hN A then none else if q = hN A then _ else fr V q) = fr V q
    by_cases e : q = hN A
    · rw [if_pos e, e, hf0]
    · rw [if_neg e, if_neg e]
  · show (if _ then _ else up3 _ _ _ _ _ _ _ _) = _
    rw [if_neg (fun z => by omega)]
    exact if_pos ⟨rfl, rfl, rfl⟩
  · show (if hN A = hN A then none else _) = none
    rw [if_pos rfl]
  · exact if_pos ⟨rfl, rfl⟩
  · exact if_pos ⟨rfl, rfl⟩
/-- a new unit -/
theorem GZ.nu (g : GZ (nC + 2) (nS + 21) A V E M P Bk b1 b2 n0 n1 n2) {S : Nat} (h1 : 1 ≤ S) (h16 : S ≤ 16) : ∃ A1, nO A 8 dfX8 = some A1 ∧ Res (fX8_init (hN A) (nI S) A1) (fun A2 => ∃ V', GZ nC nS A2 V' E M P Bk b1 b2 n0 n1 n2 ∧ ZF V E V' E ∧ DS (fun _ => False) V E V' E ∧ kdV V (hN A) = 0 ∧ (∀ z, kdV V' z = if z = hN A then 9 else kdV V z) ∧ OW V' 8 0 (hN A) S ∧ (∀ i, xr V' 850 (hN A) i = none) ∧ xi V' 801 (hN A) 0 = nI (S - 1) ∧ ∀ d, d ≠ 801 → xi V' d (hN A) 0 = 0) := by
  have hp0 := g.1.new0
  obtain ⟨A1, e1, hN1, s1⟩ := (g.1.mono (nC' := nC + rqC V E P + rqP V E P + ptC V E a00 P n0 n1 n2 + 1 + 1) (by omega) (Nat.le_refl _)).no 8 (n := nS + rqS V E P + 4 * rqP V E P + ptS V E a00 P n0 n1 n2 + S) dfX8 (by decide) (by decide) rfl (by show _ + 5 ≤ _; omega)
  refine ⟨A1, e1, ?_⟩
  generalize hN A = p at *
  have kp1 : kdV (vNew V p 8) p = 8 + 1 := if_pos rfl
  obtain ⟨A2, A3, V3, e2, e3, s3, k3, vf3, ow3, r3, i3⟩ := newR S s1 kp1 (k := 0) (by decide) (by decide) (by decide) (by omega)
  have kp3 : kdV V3 p = 8 + 1 := by rw [kdV, k3]; exact kp1
  obtain ⟨A4, e4, s4⟩ := s3.pi 1 (nI S - 1) (c := 8) kp3 (by decide) rfl
  unfold fX8_init
  refine Res.b e2 (Res.b e3 (Res.b e4 (Res.r ?_)))
  have hz1 : ∀ {z : Nat}, kdV V z ≠ 0 → z ≠ p := fun {z} hz e => hz (by rw [e]; exact hp0)
  have vf : VF (fun _ => False) V (vI' V3 801 p 0 (nI S - 1)) := by
    have v1 : VF (fun z => z = p) V (vI' V3 801 p 0 (nI S - 1)) := ((VF.new hp0).tr vf3).tr (VF.vI _ _ _ rfl)
    exact v1.up (fun a ha z => hz1 ha z)
  have kd : ∀ z, kdV (vI' V3 801 p 0 (nI S - 1)) z = if z = p then 9 else kdV V z := fun z => by
    show V3.1 z = _
    rw [k3]
    rfl
  obtain ⟨y, y1, y2, y3⟩ := ow3
  obtain ⟨g', zf, ds⟩ := g.nob (c := 8) (Or.inl rfl) hp0 kd vf (fun k hk => absurd (by unfold owl; simp) hk) s4
  refine ⟨_, g', zf, ds, hp0, kd, ⟨y, y1, y2, y3⟩, r3, ?_, fun d hd => ?_⟩
  · show up3 _ _ _ _ _ _ _ _ = _
    unfold up3
    rw [if_pos ⟨rfl, rfl, rfl⟩]
    exact nI_sub' (a := S) (b := 1) h1
  · show up3 _ _ _ _ _ _ _ _ = _
    unfold up3
    rw [if_neg (fun z => hd z.1), i3]
    exact if_pos rfl
theorem fill_arr {a c k m : Nat} (v : Int32) (hk : kdV V a = c + 1) (ho : own c k = 1) (o : OW V c k a m) (hm : m ≤ 4096) (hn : m < n) (K : AH → Option AH) (Post : AH → Prop) (hr : isR c k = true) (hkn : k < nfl c) (h : St nC nS A V) (lim : Int32) (hlim : lim = nI m)
    (hK : ∀ A' V', St nC nS A' V' → XF a V V' → (∀ i, i < m → xi V' (100 * c + k + 50) a i = v) → (∀ d, d ≠ 100 * c + k + 50 → xi V' d = xi V d) → Res (K A') Post) :
    Res (jl (fixG (fun _ _ => none) (fun (rc5 : (Int32) → (AH) → Option (AH)) (x3 : Int32) (A4 : AH) =>
      if lim ≤ x3 then (K A4) else
      (gR A4 (some a) c k).bind fun v10 =>
      (sI A4 v10 x3 v).bind fun A11 =>
      rc5 (x3 + (1 : Int32)) A11) n) fun j2 => j2 (0 : Int32) A) Post := by
  obtain ⟨y, y1, y2, y3⟩ := o
  refine jl_R (fun d (g : Int32 → AH → Option AH) => ∀ i A5 V5, i + d = m → St nC nS A5 V5 → XF a V V5 → (∀ j, j < i → xi V5 (100 * c + k + 50) a j = v) → (∀ d', d' ≠ 100 * c + k + 50 → xi V5 d' = xi V d') → Res (g (nI i) A5) Post) m (show m < n by omega) ?_ ?_ ?_
  · intro g i A5 V5 hi s5 x5 h0 hoth
    have ei : i = m := by omega
    subst ei
    rw [hlim, if_pos (Int32.le_refl _)]
    exact hK A5 V5 s5 x5 h0 hoth
  · intro d g hg i A5 V5 hi s5 x5 h0 hoth
    have hk5 : kdV V5 a = c + 1 := by rw [kdV, x5.1]; exact hk
    have e22 := x5.2.1
    have a1 : xr V5 (100 * c + k) a 0 = some y := by show V5.2.2.1 (100 * c + k) a 0 = _; rw [e22]; exact y1
    have a2 : fr V5 y = none := by show V5.2.2.2.2.2.1 y = _; rw [e22]; exact y2
    have a3 : xn V5 (100 * c + k) a = m := by show V5.2.2.2.2.1 (100 * c + k) a = _; rw [e22]; exact y3
    rw [hlim, if_neg (c_nle (by omega) (by omega)), nI_1]
    obtain ⟨A11, e11, s11⟩ := s5.si i v hk5 ho a1 a2 (by rw [a3]; omega) (by omega)
    refine Res.b ((s5.gr k hk5 hkn hr).trans (congrArg some a1)) (Res.b e11 ?_)
    rw [← hlim] at *
    refine hg (i + 1) A11 _ (by omega) s11 (x5.tr XF.vI) (fun j hj => ?_) (fun d' hd' => ?_)
    · rw [vIi]
      by_cases e : j = i
      · rw [if_pos ⟨rfl, rfl, e⟩]
      · rw [if_neg (fun q => e q.2.2)]
        exact h0 j (by omega)
    · rw [← hoth d' hd']
      funext b j
      rw [vIi, if_neg (fun q => hd' q.1)]
  · intro g hg
    exact hg 0 A V (by omega) h XF.rf (fun j hj => absurd hj (Nat.not_lt_zero _)) (fun _ _ => rfl)
/-- a new gate -/
theorem GZ.ng (g : GZ (nC + 2) (nS + 6) A V E M P Bk b1 b2 n0 n1 n2) (hn : 10 < n) : ∃ A1, nO A 10 dfX10 = some A1 ∧ Res (fX10_init n (hN A) A1) (fun A2 => ∃ V', GZ nC nS A2 V' E M P Bk b1 b2 n0 n1 n2 ∧ ZF V E V' E ∧ DS (fun _ => False) V E V' E ∧ kdV V (hN A) = 0 ∧ (∀ z, kdV V' z = if z = hN A then 11 else kdV V z) ∧ (∀ i, i < 4 → xi V' 1050 (hN A) i = -1) ∧ xi V' 1001 (hN A) 0 = 0) := by
  have hp0 := g.1.new0
  obtain ⟨A1, e1, hN1, s1⟩ := (g.1.mono (nC' := nC + rqC V E P + rqP V E P + ptC V E a00 P n0 n1 n2 + 1 + 1) (by omega) (Nat.le_refl _)).no 10 (n := nS + rqS V E P + 4 * rqP V E P + ptS V E a00 P n0 n1 n2 + 4) dfX10 (by decide) (by decide) rfl (by show _ + 2 ≤ _; omega)
  refine ⟨A1, e1, ?_⟩
  generalize hN A = p at *
  have kp1 : kdV (vNew V p 10) p = 10 + 1 := if_pos rfl
  obtain ⟨A2, A3, V3, e2, e3, s3, an⟩ := newI 4 s1 kp1 (k := 0) (by decide) (by decide) (by decide) (by omega)
  rw [if_pos (by decide)] at e2
  obtain ⟨k3, vf3, ⟨y, y1, y2, y3⟩, z3, x3, i3⟩ := an
  have kp3 : kdV V3 p = 10 + 1 := by rw [kdV, k3]; exact kp1
  unfold fX10_init
  refine Res.b e2 (Res.b e3 ?_)
  refine fill_arr (V := V3) (c := 10) (k := 0) (m := 4) (-1) kp3 (by decide) ⟨y, y1, y2, y3⟩ (by omega) (by omega) (fun A => some A) _ (by decide) (by decide) s3 4 rfl ?_
  intro A' V' s' xf h50 hoth
  have k' : V'.1 = V3.1 := xf.1
  have hz1 : ∀ {z : Nat}, kdV V z ≠ 0 → z ≠ p := fun {z} hz e => hz (by rw [e]; exact hp0)
  have vf : VF (fun _ => False) V V' := by
    have v1 : VF (fun z => z = p) V V' := ((VF.new hp0).tr vf3).tr (DS.xf (E := (fun _ => 0, fun _ => [], fun _ => 0)) xf).1
    exact v1.up (fun a ha z => hz1 ha z)
  have kd : ∀ z, kdV V' z = if z = p then 11 else kdV V z := fun z => by
    show V'.1 z = _
    rw [k', k3]
    rfl
  have ow : OW V' 10 0 p 4 := by
    have e22 := xf.2.1
    exact ⟨y, by show V'.2.2.1 1000 p 0 = _; rw [e22]; exact y1, by show V'.2.2.2.2.2.1 y = _; rw [e22]; exact y2, by show V'.2.2.2.2.1 1000 p = _; rw [e22]; exact y3⟩
  obtain ⟨g', zf, ds⟩ := g.nob (c := 10) (Or.inr rfl) hp0 kd vf (fun k hk => by
    by_cases e : k = 0
    · subst e
      exact ow
    · exact absurd (by unfold owl; simp [List.find?]; split <;> simp_all) hk) s'
  refine Res.r ⟨V', g', zf, ds, hp0, kd, h50, ?_⟩
  rw [hoth 1001 (by decide), i3 1001 (by decide)]
  exact if_pos rfl
end J14
