/-! J13: a new one with its list -/
section J13
variable {nC nS n mC mS : Nat} {A A' : AH} {V V' V'' : CW} {E E' E'' : EL} {ad : AA} {M M' : MS} {P : PP} {T Bk Bk' b1 b2 n0 n1 n2 w x m al I hl sl : Nat} {X : Nat → Prop}
theorem newL4 {a c k : Nat} (h : St (nC + 2) (nS + 7) A V) (ha : kdV V a = c + 1) (hk : k < nfl c) (hr : isR c k = true) (ho : own c k = 0) : ∃ A1, nO A 0 dfJ2 = some A1 ∧ Res (fJ2_init (hN A) 4 A1) (fun A2 => ∃ A3 V', pR A2 (some a) c k (some (hN A)) = some A3 ∧ St nC nS A3 V' ∧ kdV V (hN A) = 0 ∧ (∀ z, kdV V' z = if z = hN A then 1 else kdV V z) ∧ VF (fun z => z = a) V V' ∧ xr V' (100 * c + k) a 0 = some (hN A) ∧ (∀ e, stc e → LI V' (hN A) e [] 4) ∧ (∀ d, xi V' d a = xi V d a ∧ xn V' d a = xn V d a ∧ (d ≠ 100 * c + k → xr V' d a = xr V d a))) := by
  have h0 := h.new0
  have hne : a ≠ hN A := fun z => by rw [z, h0] at ha; cases ha
  obtain ⟨A1, e1, _, s1⟩ := h.no 0 dfJ2 (n := nS + 4) (by decide) (by decide) rfl (by show nS + 4 + 3 ≤ nS + 7; omega)
  refine ⟨A1, e1, ?_⟩
  have k1 : kdV (vNew V (hN A) 0) (hN A) = 1 := if_pos rfl
  have x1 : xi (vNew V (hN A) 0) 2 (hN A) 0 = 0 := if_pos rfl
  refine Res.m (L_init nC nS s1 k1 x1 (m := 4) (by omega) (by omega)) ?_
  rintro A2 ⟨V2, s2, f2, l2⟩
  have ka1 : kdV (vNew V (hN A) 0) a = c + 1 := (if_neg hne).trans ha
  have ka : kdV V2 a = c + 1 := by rw [kdV, f2.1]; exact ka1
  obtain ⟨A3, e3, s3⟩ := s2.pr k (some (hN A)) (c := c) ka hk hr ho
  obtain ⟨b1, b2, b3⟩ : (∀ d, xi V2 d a = xi V d a) ∧ (∀ d, xr V2 d a = xr V d a) ∧ ∀ d, xn V2 d a = xn V d a := by
    refine ⟨fun d => ?_, fun d => ?_, fun d => ?_⟩
    · rw [(f2.2.1 a hne d).1]
      funext i
      exact if_neg hne
    · rw [(f2.2.1 a hne d).2.1]
      funext i
      exact if_neg hne
    · rw [(f2.2.1 a hne d).2.2]
      rfl
  refine ⟨A3, _, e3, s3, h0, fun z => ?_, ?_, ?_, fun e he => ?_, fun d => ⟨?_, ?_, fun hd => ?_⟩⟩
  · show V2.1 z = _
    rw [f2.1]
    rfl
  · refine VF.tr (V' := V2) ?_ (VF.vR _ _ _ rfl)
    have v1 := VF.new (S := fun z => z = a) (c := 0) h0
    refine ⟨fun z hz => ?_, f2.2.2.2.1, f2.2.2.2.2⟩
    have hz1 : z ≠ hN A := fun e => hz (by rw [e]; exact h0)
    obtain ⟨w1, w2⟩ := v1.1 z hz
    refine ⟨(by rw [kdV, f2.1]; exact w1), fun hs d => ?_⟩
    obtain ⟨q1, q2, q3⟩ := f2.2.1 z hz1 d
    obtain ⟨r1, r2, r3, r4⟩ := w2 hs d
    exact ⟨q1.trans r1, q2.trans r2, by rw [f2.2.2.1]; exact r3, q3.trans r4⟩
  · exact if_pos ⟨rfl, rfl, rfl⟩
  · refine (l2 e he).vf (S := fun z => z = a) (VF.vR _ _ _ rfl) (fun z => hne z.symm)
  · exact b1 d
  · exact b3 d
  · funext i
    rw [vRr, if_neg (fun z => hd z.1), b2]
theorem lof_79 {c k e : Nat} (hc : (c = 7 ∧ k = 8 ∧ e = 8) ∨ (c = 9 ∧ k = 0 ∧ e = 10)) : lof c k = e + 1 ∧ own c k = 0 ∧ isR c k = true ∧ k < nfl c ∧ stc e ∧ (∀ j, owl c j = 0) ∧ (∀ j, lof c j ≠ 0 → j = k) ∧ c < 16 ∧ c ≠ 11 ∧ c ≠ 0 ∧ mcK c := by
  rcases hc with ⟨rfl, rfl, rfl⟩ | ⟨rfl, rfl, rfl⟩
  · refine ⟨by decide, by decide, by decide, by decide, by unfold stc; omega, fun j => ?_, fun j hj => ?_, by decide, by decide, by decide, by unfold mcK; omega⟩
    · unfold owl; simp
    · revert hj; unfold lof; simp [List.find?]; intro h; split at h <;> simp_all
  · refine ⟨by decide, by decide, by decide, by decide, by unfold stc; omega, fun j => ?_, fun j hj => ?_, by decide, by decide, by decide, by unfold mcK; omega⟩
    · unfold owl; simp
    · revert hj; unfold lof; simp [List.find?]; intro h; split at h <;> simp_all
theorem GZ.ol {c k e : Nat} (g : GZ (nC + 3) (nS + nfl c + 7) A V E M P Bk b1 b2 n0 n1 n2) (hc : (c = 7 ∧ k = 8 ∧ e = 8) ∨ (c = 9 ∧ k = 0 ∧ e = 10)) (fs : List Value) (hfs : fs = dflt c) : ∃ A1, nO A c fs = some A1 ∧ (∃ mC mS, St mC mS A1 (vNew V (hN A) c)) ∧ ∃ A2, nO A1 0 dfJ2 = some A2 ∧ Res (fJ2_init (hN A1) 4 A2) (fun A3 => ∃ A4 V' E', pR A3 (some (hN A)) c k (some (hN A1)) = some A4 ∧ GZ nC nS A4 V' E' M P Bk b1 b2 n0 n1 n2 ∧ ZF V E V' E' ∧ DS (fun _ => False) V E V' E' ∧ (kdV V (hN A) = 0 ∧ kdV V (hN A1) = 0 ∧ kdV V' (hN A) = c + 1 ∧ kdV V' (hN A1) = 1 ∧ xr V' (100 * c + k) (hN A) 0 = some (hN A1)) ∧ (E'.1 (hN A1) = e ∧ E'.2.1 (hN A1) = [] ∧ E'.2.2 (hN A1) = 4) ∧ ∀ d i, xi V' d (hN A) i = 0) := by
  obtain ⟨l1, l2, l3, l4, l5, l6, l7, l8, l9, l10, l11⟩ := lof_79 hc
  obtain ⟨A1, e1, hN1, s1⟩ := (g.1.mono (nC' := nC + rqC V E P + rqP V E P + ptC V E a00 P n0 n1 n2 + 2 + 1) (by omega) (Nat.le_refl _)).no c (n := nS + rqS V E P + 4 * rqP V E P + ptS V E a00 P n0 n1 n2 + 7) fs l8 l9 hfs (by omega)
  refine ⟨A1, e1, ⟨_, _, s1⟩, ?_⟩
  have hp0 := g.1.new0
  generalize ho : hN A = p at *
  have kp1 : kdV (vNew V p c) p = c + 1 := if_pos rfl
  obtain ⟨A2, e2, r2⟩ := newL4 s1 kp1 l4 l3 l2
  refine ⟨A2, e2, Res.m r2 ?_⟩
  rintro A3 ⟨A4, V', e4, s4, hq0, hkd, vf, hx, li, hd⟩
  generalize hN A1 = ll at *
  have kn : ∀ z, kdV (vNew V p c) z = if z = p then c + 1 else kdV V z := fun _ => rfl
  have hne : ll ≠ p := fun z => by
    rw [kn, if_pos z] at hq0
    omega
  have hl0' : kdV V ll = 0 := by
    rw [kn, if_neg hne] at hq0
    exact hq0
  have ek2 : ∀ a, kdV V' a = if a = ll then 1 else if a = p then c + 1 else kdV V a := fun a => by rw [hkd, kn]
  have kp : kdV V' p = c + 1 := by rw [ek2, if_neg (fun z => hne z.symm), if_pos rfl]
  have kl : kdV V' ll = 1 := by rw [ek2, if_pos rfl]
  obtain ⟨E', eE⟩ : ∃ E' : EL, E' = (fun z => if z = ll then e else E.1 z, fun z => if z = ll then [] else E.2.1 z, fun z => if z = ll then 4 else E.2.2 z) := ⟨_, rfl⟩
  have eE1 : ∀ z, E'.1 z = if z = ll then e else E.1 z := fun z => by rw [eE]
  have eE2 : ∀ z, E'.2.1 z = if z = ll then [] else E.2.1 z := fun z => by rw [eE]
  have eE3 : ∀ z, E'.2.2 z = if z = ll then 4 else E.2.2 z := fun z => by rw [eE]
  have hz1 : ∀ {z : Nat}, kdV V z ≠ 0 → z ≠ p ∧ z ≠ ll := fun {z} hz => ⟨fun e => hz (by rw [e]; exact hp0), fun e => hz (by rw [e]; exact hl0')⟩
  have ds : DS (fun _ => False) V E V' E' := by
    have v1 := VF.new (S := fun _ => False) (c := c) hp0
    refine ⟨⟨fun z hz => ?_, vf.2.1, vf.2.2⟩, fun a ha => ?_, fun a c j ha _ => ?_⟩
    · obtain ⟨z1, z2⟩ := hz1 hz
      refine ⟨by rw [ek2, if_neg z2, if_neg z1], fun _ d => ?_⟩
      obtain ⟨w1, w2⟩ := v1.1 z hz
      obtain ⟨w3, w4⟩ := vf.1 z (by rw [w1]; exact hz)
      obtain ⟨r1, r2, r3, r4⟩ := w2 (fun z => z) d
      obtain ⟨q1, q2, q3, q4⟩ := w4 z1 d
      exact ⟨q1.trans r1, q2.trans r2, q3.trans r3, q4.trans r4⟩
    · obtain ⟨z1, z2⟩ := hz1 ha
      rw [eE1, eE2, eE3, if_neg z2, if_neg z2, if_neg z2]
      exact ⟨rfl, fun _ => ⟨rfl, rfl⟩⟩
    · have hz : kdV V a ≠ 0 := by omega
      obtain ⟨z1, z2⟩ := hz1 hz
      obtain ⟨w1, w2⟩ := v1.1 a hz
      obtain ⟨w3, w4⟩ := vf.1 a (by rw [w1]; exact hz)
      obtain ⟨r1, r2, r3, r4⟩ := w2 (fun z => z) (100 * c + j)
      obtain ⟨q1, q2, q3, q4⟩ := w4 z1 (100 * c + j)
      exact ⟨by rw [q2, r2], q4.trans r4⟩
  have wt : WT V' E' := by
    refine g.2.1.2.1.ds ds p (fun a c' ha ha' => ?_) (fun c' j h0 hc' hj => ?_) (fun c' j h0 hc' hj => ?_) (fun c' j j' h0 hc' hj hj' => ?_)
    · by_cases e : a = p
      · exact Or.inl e
      · rw [ek2, if_neg e] at ha'
        by_cases e' : a = ll
        · rw [if_pos e'] at ha'
          exact Or.inr (by omega)
        · rw [if_neg e'] at ha'
          omega
    · have : c' = c := by omega
      subst this
      exact absurd (l6 j) hj
    · have : c' = c := by omega
      subst this
      have := l7 j hj
      subst this
      exact ⟨ll, hx, hl0', kl, by rw [eE1, if_pos rfl, l1]⟩
    · have : c' = c := by omega
      subst this
      rw [l7 j hj, l7 j' hj']
  have gl : GL V' E' := by
    refine g.2.1.1.ds ds (fun a ha h => ?_)
    rcases h with h | h
    · exact h.elim
    · rw [ek2] at ha
      by_cases e' : a = ll
      · rw [eE1, eE2, eE3, if_pos e', if_pos e', if_pos e', e']
        exact li e l5
      · rw [if_neg e'] at ha
        by_cases e'' : a = p
        · rw [if_pos e''] at ha
          omega
        · rw [if_neg e''] at ha
          omega
  obtain ⟨g', zf⟩ := g.ds ds ⟨fun _ _ _ z => z.elim, fun _ _ _ _ _ _ _ z => z.elim⟩ s4 gl wt
  refine ⟨A4, V', E', e4, g', zf, ds, ⟨hp0, hl0', kp, kl, hx⟩, ⟨by rw [eE1, if_pos rfl], by rw [eE2, if_pos rfl], by rw [eE3, if_pos rfl]⟩, fun d i => ?_⟩
  rw [(hd d).1]
  exact if_pos rfl
end J13
