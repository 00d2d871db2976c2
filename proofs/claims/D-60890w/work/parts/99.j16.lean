/-! J16: a new cache; a new machine up to its units -/
/-- what a machine has from its making -/
def MA (V : CW) (P : PP) (k0 k1 : Option Nat) (m ul L S B I : Nat) (p12 : Int32) : Prop := kdV V m = 8 ∧ xr V 708 m 0 = some ul ∧ (xi V 700 m 0 = nI L ∧ xi V 701 m 0 = nI S ∧ xi V 702 m 0 = nI B ∧ xi V 703 m 0 = nI I ∧ xi V 721 m 0 = p12 ∧ ∀ k, 12 ≤ k → k < 26 → k ≠ 21 → xi V (700 + k) m 0 = 0) ∧ xr V 704 m 0 = k0 ∧ xr V 705 m 0 = k1 ∧ xr V 706 m 0 = some (P 2) ∧ xr V 707 m 0 = some (P 3) ∧ xr V 710 m 0 = some (P 4)
section J16
variable {nC nS n mC mS : Nat} {A A' : AH} {V V' V'' : CW} {E E' E'' : EL} {ad : AA} {M M' : MS} {P : PP} {T Bk Bk' b1 b2 n0 n1 n2 w x al hl sl m ul L S B I U G : Nat} {X : Nat → Prop} {k0 k1 : Option Nat} {p12 : Int32}
theorem MA.mv (h : MA V P k0 k1 m ul L S B I p12) (hk : kdV V' m = 8) (hi : ∀ d, 700 ≤ d → d < 726 → xi V' d m = xi V d m) (hr : ∀ d, 700 ≤ d → d < 711 → d ≠ 709 → xr V' d m = xr V d m) : MA V' P k0 k1 m ul L S B I p12 := by
  obtain ⟨h1, h2, ⟨a1, a2, a3, a4, a5, a6⟩, b1, b2, b3, b4, b5⟩ := h
  refine ⟨hk, by rw [hr _ (by omega) (by omega) (by omega)]; exact h2, ⟨by rw [hi _ (by omega) (by omega)]; exact a1, by rw [hi _ (by omega) (by omega)]; exact a2, by rw [hi _ (by omega) (by omega)]; exact a3, by rw [hi _ (by omega) (by omega)]; exact a4, by rw [hi _ (by omega) (by omega)]; exact a5, fun k c1 c2 c3 => by rw [hi _ (by omega) (by omega)]; exact a6 k c1 c2 c3⟩, ?_, ?_, ?_, ?_, ?_⟩
  · rw [hr _ (by omega) (by omega) (by omega)]; exact b1
  · rw [hr _ (by omega) (by omega) (by omega)]; exact b2
  · rw [hr _ (by omega) (by omega) (by omega)]; exact b3
  · rw [hr _ (by omega) (by omega) (by omega)]; exact b4
  · rw [hr _ (by omega) (by omega) (by omega)]; exact b5
theorem MA.ds (h : MA V P k0 k1 m ul L S B I p12) (hd : DS X V E V' E') (hx : ¬ X m) : MA V' P k0 k1 m ul L S B I p12 := h.mv (hd.kv (c := 7) h.1) (fun d _ _ => hd.1.i (c := 7) h.1 hx d) (fun d _ _ _ => hd.1.r (c := 7) h.1 hx d)
theorem GZ.mono (g : GZ nC nS A V E M P Bk b1 b2 n0 n1 n2) (h1 : mC ≤ nC) (h2 : mS ≤ nS) : GZ mC mS A V E M P Bk b1 b2 n0 n1 n2 := ⟨g.1.mono (by omega) (by omega), g.2⟩
theorem GZ.nc (g : GZ (nC + 27) (nS + 178) A V E M P Bk b1 b2 n0 n1 n2) (hG : G ≤ 8) (hn : 10 < n) : ∃ A1, nO A 9 dfX9 = some A1 ∧ Res (fX9_init n (hN A) (nI G) A1) (fun A2 => ∃ V' E', GZ nC nS A2 V' E' M P Bk b1 b2 n0 n1 n2 ∧ ZF V E V' E' ∧ DS (fun _ => False) V E V' E' ∧ kdV V (hN A) = 0 ∧ kdV V' (hN A) = 10 ∧ ((lt V' E' 9 0 (hN A)).length = G ∧ (∀ a, a ∈ lt V' E' 9 0 (hN A) → GN V' a) ∧ inj (lt V' E' 9 0 (hN A))) ∧ xi V' 901 (hN A) 0 = 0 ∧ xi V' 902 (hN A) 0 = 0) := by
  obtain ⟨A1, e1, _, A2, e2, r2⟩ := GZ.ol (nC := nC + 3 * G) (nS := nS + 21 * G) (c := 9) (k := 0) (e := 10) (g.mono (by omega) (by show _ + 3 + 7 ≤ _; omega)) (Or.inr ⟨rfl, rfl, rfl⟩) dfX9 rfl
  refine ⟨A1, e1, ?_⟩
  unfold fX9_init
  refine Res.b e2 (Res.w r2 ?_)
  rintro A3 ⟨A4, V1, E1, e4, g1, z1, d1, ⟨c1, c2, c3, c4, c5⟩, ⟨c6, c7, c8⟩, c9⟩
  generalize hN A = o at *
  generalize hN A1 = ll at *
  refine Res.b e4 (ga_new hG hn (fun A => some A) _ g1 (m := o) c3 c5 c7 (by omega) ?_)
  intro A5 V5 E5 g5 z5 d5 l5 u5 j5
  have ho : o ≠ ll := fun z => by rw [z, c4] at c3; cases c3
  have elt : lt V5 E5 9 0 o = E5.2.1 ll := by
    show E5.2.1 ((xr V5 900 o 0).getD 0) = _
    rw [show xr V5 900 o = xr V1 900 o from d5.1.r (c := 9) c3 ho 900, show xr V1 900 o 0 = some ll from c5]
    rfl
  rw [← elt] at l5 u5 j5
  refine Res.r ⟨V5, E5, g5, z1.tr z5, d1.tr d5 (fun a ha z => ha (by rw [z]; exact c2)), c1, d5.kv (c := 9) c3, ⟨l5, u5, j5⟩, ?_, ?_⟩
  · rw [d5.1.i (c := 9) c3 ho]; exact c9 _ _
  · rw [d5.1.i (c := 9) c3 ho]; exact c9 _ _
/-- the banks of the coalescer -/
theorem GZ.p4 (g : GZ nC nS A V E M P Bk b1 b2 n0 n1 n2) (B : Nat) : ∃ A', pI A (some (P 4)) 4 3 (nI B) = some A' ∧ GZ nC nS A' (vI' V 403 (P 4) 0 (nI B)) E M P B b1 b2 n0 n1 n2 ∧ ZF V E (vI' V 403 (P 4) 0 (nI B)) E := by
  obtain ⟨S1, S2, co⟩ := g.2.2.2.2.2.1
  obtain ⟨A', e, s⟩ := g.1.pi 3 (nI B) (c := 4) co.1 (by decide) rfl
  have zf : ZF V E (vI' V 403 (P 4) 0 (nI B)) E := by
    refine ⟨fun _ _ => rfl, ⟨rfl, rfl⟩, fun a c ha hc d => ⟨fun _ => rfl, rfl, rfl, fun h _ _ => ?_⟩, fun _ _ _ _ _ _ => ⟨rfl, rfl⟩⟩
    funext i
    show up3 _ _ _ _ _ _ _ _ = _
    unfold up3
    rw [if_neg (fun z => h z.1)]
  have gl : GL (vI' V 403 (P 4) 0 (nI B)) E := fun a ha => (g.2.1.1 a ha).vf (S := fun z => z = P 4) (VF.vI _ _ _ rfl) (fun z => by have ha : kdV V a = 1 := ha; have hc := co.1; rw [z] at ha; omega)
  refine ⟨A', e, g.zf zf (fun _ _ => ⟨rfl, rfl⟩) s gl g.2.1.2.1 (fun i hi => ?_) ?_ rfl, zf⟩
  · rw [vIi, if_neg (fun z => absurd z.1 (by decide))]
    exact g.2.2.2.2.2.2.2.2 i hi
  · rw [vIi, if_pos ⟨rfl, rfl, rfl⟩]
end J16
