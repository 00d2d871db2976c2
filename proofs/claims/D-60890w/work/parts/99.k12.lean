/-! K12: between calls, with fields that count only in a launch left open; sizes -/
def idle (M : MS) : Prop := M.1 11 = 0 ∧ ∀ s, s < 128 → M.2.1 9 s = -1
def CG (nC nS : Nat) (A : AH) (V : CW) (M : MS) (x : Nat) : Prop := ∃ a b c, CJ nC nS A V (gst M a b c) x ∧ (idle M ∨ (a = M.1 12 ∧ b = M.1 13 ∧ c = M.1 14))
def JG (nC nS : Nat) (V : CW) (x : Nat) (v : Int32) (M' : MS) (o : Option (Int32 × AH)) : Prop := Res o (fun g => g.1 = v ∧ ∃ V', CG nC nS g.2 V' M' x ∧ fr V' = fr V)
section K12
variable {nC nS n : Nat} {A A' : AH} {V V' : CW} {E E' : EL} {ad ad' : AA} {M M' N : MS} {P : PP} {T Bk b1 b2 n0 n1 n2 u uu c al I x : Nat}
theorem CJ.cg (cj : CJ nC nS A V M x) : CG nC nS A V M x := ⟨M.1 12, M.1 13, M.1 14, by rw [gst_own]; exact cj, Or.inr ⟨rfl, rfl, rfl⟩⟩
theorem JW.g {v : Int32} {o : Option (Int32 × AH)} (h : JW nC nS V x v M' o) : JG nC nS V x v M' o := Res.m h (fun _ ⟨e, V', cj, hf⟩ => ⟨e, V', cj.cg, hf⟩)
theorem CG.mono (cg : CG nC nS A V M x) {mC mS : Nat} (h1 : mC ≤ nC) (h2 : mS ≤ nS) : CG mC mS A V M x := by
  obtain ⟨a, b, c, cj, h⟩ := cg
  exact ⟨a, b, c, cj.mono h1 h2, h⟩
theorem CG.th (cg : CG nC nS A V M x) (v : Int32) : CG nC nS A V (mI M 0 v) x := by
  obtain ⟨a, b, c, cj, h⟩ := cg
  refine ⟨a, b, c, ?_, ?_⟩
  · rw [← gst_mI _ _ _ _ _ (by decide) (by decide) (by decide)]
    exact cj.th v
  · rcases h with h | h
    · exact Or.inl ⟨by rw [mI_g, if_neg (by decide)]; exact h.1, h.2⟩
    · exact Or.inr ⟨by rw [mI_g, if_neg (by decide)]; exact h.1, by rw [mI_g, if_neg (by decide)]; exact h.2.1, by rw [mI_g, if_neg (by decide)]; exact h.2.2⟩
theorem e1_isPower (p q : Int32) : fX1_isPower p q A = some (b2i (pw2 p q)) := by
  unfold fX1_isPower
  rw [jn_eq]
  by_cases h : (p ≤ 0 ∨ q < p) ∨ ¬ (p &&& (p - 1)) = 0
  · rw [if_pos h, b2i_f (fun z => by unfold pw2 at z; grind)]
    rfl
  · rw [if_neg h, b2i_t (by unfold pw2; grind)]
    rfl
theorem pw2_n {p : Int32} {N : Nat} (hN : N < 2 ^ 31) (h : pw2 p (nI N)) : ∃ j, 1 ≤ j ∧ j ≤ N ∧ p = nI j := by
  refine rng1 hN (fun z => ?_) (fun z => ?_)
  · unfold pw2 at h
    grind
  · unfold pw2 at h
    grind
end K12
