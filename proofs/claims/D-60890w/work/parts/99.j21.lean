/-! J21: all that holds between calls, with a new machine -/
section J21
variable {nC nS n mC mS : Nat} {A A' : AH} {V V' V'' : CW} {E E' E'' : EL} {ad : AA} {M M' N : MS} {P : PP} {T Bk Bk' b1 b2 n0 n1 n2 w x al hl sl m ul ca L S B I U G : Nat} {p12 : Int32}
theorem cq_new (g : GX nC nS A V E ad N (Pm P m ca L S U G) 0 B b1 b2 n0 n1 n2) (mn : MN N L S U B G I (nI al)) (h3 : N.1 3 = nI U) (h5 : N.1 5 = nI G) (hal : al ≤ 20000) (hL : 1 ≤ L) (hS : 1 ≤ S) (hS16 : S ≤ 16) (hU : 1 ≤ U) (hG : 1 ≤ G) (hB : 1 ≤ B) (hB32 : B ≤ 32) (hI : 1 ≤ I) (hI2 : I ≤ 4096) (hz : ∀ k, I ≤ k → N.2.1 2 k = 0) (h167 : ∀ t, N.2.1 16 t = 0 ∨ N.2.1 17 t = 0) (h4 : ∀ g, g < 8 → N.2.1 4 g = 0) (h7 : ∀ u, u < 8 → N.2.1 7 u = nI (S - 1)) : CQ nC nS A V E ad N (Pm P m ca L S U G) 0 B b1 b2 n0 n1 n2 0 al I := by
  obtain ⟨⟨f1, f2, f4, f6, f22⟩, f0, fu, fg, f9⟩ := mn
  have hu : ¬ undP N := fun z => by
    unfold undP at z
    rw [f0 11 (by decide)] at z
    rcases z with z | z <;> exact absurd z (by decide)
  refine ⟨g, ⟨⟨⟨f0 15 (by decide), by omega, by omega, by omega⟩, h167, fun s s' hs hs' he hn => absurd (f9 s hs) hn, fun s hs => Or.inl (f9 s hs), fun g hg => ⟨0, by omega, h4 g hg⟩⟩, 0, by omega, f0 41 (by decide), fun k hk => absurd hk (Nat.not_lt_zero _), fun k k' hk => absurd hk (Nat.not_lt_zero _)⟩, fun u hu => ⟨S - 1, by omega, h7 u hu⟩, ⟨h3, f4, h5, f6, ⟨hL, hS, hU, hG⟩, ⟨hB, hB32⟩, hI, hI2⟩, ⟨fun p k hp hp2 hk => ?_, hz⟩, fun z => absurd z hu, ⟨f22, by omega, hal⟩, by omega, (by decide : (1 : Nat) ≤ 1)⟩
  rw [f0 41 (by decide)] at hp
  have : p = 0 := (nI_eq (a := p) (b := 0) (by omega) (by omega)).mp hp.symm
  omega
end J21
