/-! J12: machines and what belongs to them come to be, beside all else -/
section J12
variable {nC nS n mC mS : Nat} {A A' : AH} {V V' V'' : CW} {E E' E'' : EL} {ad : AA} {M M' : MS} {P : PP} {T Bk Bk' b1 b2 n0 n1 n2 w x c k m al I hl sl : Nat} {X : Nat → Prop}
/-- one of a machine's -/
def mcK (c : Nat) : Prop := c = 7 ∨ c = 8 ∨ c = 9 ∨ c = 10
def ZX (V : CW) (X : Nat → Prop) : Prop := (∀ a c, kdV V a = c + 1 → X a → c = 0 ∨ mcK c) ∧ ∀ a c k ll, kdV V a = c + 1 → lof c k ≠ 0 → xr V (100 * c + k) a 0 = some ll → X ll → mcK c
theorem GZ.ds (g : GZ nC nS A V E M P Bk b1 b2 n0 n1 n2) (hd : DS X V E V' E') (hx : ZX V X) (s' : St (mC + rqC V E P + rqP V E P + ptC V E a00 P n0 n1 n2) (mS + rqS V E P + 4 * rqP V E P + ptS V E a00 P n0 n1 n2) A' V') (gl : GL V' E') (wt : WT V' E') : GZ mC mS A' V' E' M P Bk b1 b2 n0 n1 n2 ∧ ZF V E V' E' := by
  have hw := g.2.1.2.1
  obtain ⟨k0, k2, k3⟩ := g.2.2.1
  obtain ⟨S1, S2, co⟩ := g.2.2.2.2.2.1
  have zf : ZF V E V' E' := ZF.ds hd hw (fun a c ha hc z => by have := hx.1 a c ha z; unfold mcK at this; omega) (fun a c k ll ha hk hc hll z => by have := hx.2 a c k ll ha hk hll z; unfold mcK at this; omega)
  have l3 : ∀ k, k < 2 → lof 3 k ≠ 0 := fun k hk => by
    have : k = 0 ∨ k = 1 := by omega
    rcases this with e | e <;> (subst e; decide)
  refine ⟨g.zf zf (fun k hk => hd.ltc hw k3 (l3 k hk) (fun ll hll z => ?_)) s' gl wt (fun i hi => ?_) ?_ rfl, zf⟩
  · have := hx.2 (P 3) 3 k ll k3 (l3 k hk) hll z
    unfold mcK at this
    omega
  · rw [hd.1.i k0 (fun z => by have := hx.1 _ 1 k0 z; unfold mcK at this; omega)]
    exact g.2.2.2.2.2.2.2.2 i hi
  · rw [hd.1.i (c := 4) co.1 (fun z => by have := hx.1 _ 4 co.1 z; unfold mcK at this; omega)]
    exact co.2.1
theorem mcK_own (hc : mcK c) : c ≠ 0 ∧ c < 16 ∧ c ≠ 11 := by unfold mcK at hc; omega
/-- only what one of them has changes, but its lists and arrays -/
theorem GZ.one (g : GZ nC nS A V E M P Bk b1 b2 n0 n1 n2) (hm : kdV V m = c + 1) (hc : mcK c) (vf : VF (fun z => z = m) V V') (h1 : V'.1 = V.1) (hk : ∀ k, (owl c k ≠ 0 ∨ lof c k ≠ 0) → xr V' (100 * c + k) m 0 = xr V (100 * c + k) m 0 ∧ xn V' (100 * c + k) m = xn V (100 * c + k) m) (s' : St (mC + rqC V E P + rqP V E P + ptC V E a00 P n0 n1 n2) (mS + rqS V E P + 4 * rqP V E P + ptS V E a00 P n0 n1 n2) A' V') : GZ mC mS A' V' E M P Bk b1 b2 n0 n1 n2 ∧ ZF V E V' E ∧ DS (fun z => z = m) V E V' E := by
  have hc0 := (mcK_own hc).1
  have ds : DS (fun z => z = m) V E V' E := by
    refine ⟨vf, fun _ _ => ⟨rfl, fun _ => ⟨rfl, rfl⟩⟩, fun a c' k ha hk' => ?_⟩
    by_cases e : a = m
    · subst e
      have : c' = c := by omega
      subst this
      exact hk k hk'
    · exact ⟨by rw [vf.r ha e], vf.n ha e _⟩
  have kd : ∀ a, kdV V' a = kdV V a := fun a => by rw [kdV, h1]
  have zx : ZX V (fun z => z = m) := by
    refine ⟨fun a c' ha z => ?_, fun a c' k ll ha hk' hll z => ?_⟩
    · subst z
      have : c' = c := by omega
      subst this
      exact Or.inr hc
    · subst z
      obtain ⟨l0, y1, y2, _⟩ := g.2.1.2.1.2.1 a c' k ha hk'
      have : l0 = ll := Option.some.inj (y1.symm.trans hll)
      subst this
      omega
  have gl : GL V' E := g.2.1.1.ds ds (fun a ha h => by
    rw [kd] at ha
    rcases h with h | h
    · subst h; omega
    · omega)
  have wt : WT V' E := g.2.1.2.1.ds ds 0 (fun a c' h0 h2 => by rw [kd] at h2; omega) (fun c' k h0 h2 => by rw [kd] at h2; omega) (fun c' k h0 h2 => by rw [kd] at h2; omega) (fun c' k k' h0 h2 => by rw [kd] at h2; omega)
  obtain ⟨g', zf⟩ := g.ds ds zx s' gl wt
  exact ⟨g', zf, ds⟩
theorem GZ.pi (g : GZ nC nS A V E M P Bk b1 b2 n0 n1 n2) (k : Nat) (v : Int32) (hm : kdV V m = c + 1) (hc : mcK c) (hk : k < nfl c) (hr : isR c k = false) : ∃ A', pI A (some m) c k v = some A' ∧ GZ nC nS A' (vI' V (100 * c + k) m 0 v) E M P Bk b1 b2 n0 n1 n2 ∧ ZF V E (vI' V (100 * c + k) m 0 v) E := by
  obtain ⟨A', e, s⟩ := g.1.pi k v hm hk hr
  obtain ⟨g', zf, _⟩ := g.one hm hc (VF.vI _ _ _ rfl) rfl (fun k' _ => ⟨rfl, rfl⟩) s
  exact ⟨A', e, g', zf⟩
theorem GZ.pr (g : GZ nC nS A V E M P Bk b1 b2 n0 n1 n2) (k : Nat) (v : Option Nat) (hm : kdV V m = c + 1) (hc : mcK c) (hk : k < nfl c) (hr : isR c k = true) (ho : own c k = 0) (ho2 : owl c k = 0) (hl : lof c k = 0) : ∃ A', pR A (some m) c k v = some A' ∧ GZ nC nS A' (vR' V (100 * c + k) m 0 v) E M P Bk b1 b2 n0 n1 n2 ∧ ZF V E (vR' V (100 * c + k) m 0 v) E := by
  obtain ⟨A', e, s⟩ := g.1.pr k v hm hk hr ho
  have hne : ∀ k', (owl c k' ≠ 0 ∨ lof c k' ≠ 0) → xr (vR' V (100 * c + k) m 0 v) (100 * c + k') m 0 = xr V (100 * c + k') m 0 := fun k' hk' => by
    have : k' ≠ k := fun z => by
      rw [z] at hk'
      rcases hk' with h | h
      · exact h ho2
      · exact h hl
    rw [vRr, if_neg (fun z => this (by omega))]
  obtain ⟨g', zf, _⟩ := g.one hm hc (VF.vR _ _ _ rfl) rfl (fun k' hk' => ⟨hne k' hk', rfl⟩) s
  exact ⟨A', e, g', zf⟩
end J12
