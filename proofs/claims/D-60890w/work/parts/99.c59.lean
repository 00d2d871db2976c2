/-! C59: free slots; lanes begin -/
/-- ints of one owner change -/
def XF (a : Nat) (V V' : CW) : Prop := V'.1 = V.1 ∧ V'.2.2 = V.2.2 ∧ ∀ b, b ≠ a → ∀ d, xi V' d b = xi V d b
section C59
variable {nC nS n : Nat} {A A' : AH} {V V' V'' : CW} {E E' : EL} {ad ad' : AA} {M M' : MS} {P : PP}
theorem XF.rf {a : Nat} : XF a V V := ⟨rfl, rfl, fun _ _ _ => rfl⟩
theorem XF.tr {a : Nat} (h : XF a V V') (h2 : XF a V' V'') : XF a V V'' := ⟨h2.1.trans h.1, h2.2.1.trans h.2.1, fun b hb d => (h2.2.2 b hb d).trans (h.2.2 b hb d)⟩
theorem XF.vI {d a i : Nat} {v : Int32} : XF a V (vI' V d a i v) := ⟨rfl, rfl, fun b hb d' => by
  funext j
  rw [vIi, if_neg (fun z => hb z.2.1)]⟩
theorem e8_free (h : St nC nS A V) (cp : CP V E ad M P) {u uu : Nat} (hu : ad 8 u = some uu) (hn : 17 < n) : fX8_free n uu A = some (iter (frS M) (16 * u) (P 7) 0) := by
  have hs := cp.2.2.2
  have huk := hs.kk hu
  have hP7 := hs.2.2.2.2.2.2.2.2.1.2.1
  have hu8 : u < 8 := by
    have := hs.2.2.2.1.2.1 u
    rw [hu] at this
    have := ge_lt this
    have h1 := hs.2.2.2.1.1
    have h2 := hs.2.2.2.2.2.2.2.2.1.2.2.1
    omega
  obtain ⟨⟨y, y1, y2, y3⟩, hsl⟩ := hs.2.2.2.1.2.2.1 u uu hu
  have y3 : xn V 800 uu = P 7 := y3
  have hlen : aLen A (some y) = some (nI (P 7)) := (h.ln (c := 8) (k := 0) huk (by decide) y1 y2).trans (congrArg (fun z => some (nI z)) y3)
  unfold fX8_free
  refine jl_fix (fun d (g : Int32 → Int32 → Option Int32) => ∀ k c, k + d = P 7 → g c (nI k) = some (iter (frS M) (16 * u + k) d c)) (P 7) (show P 7 < n by omega) ?_ ?_ ?_
  · intro g k c hk
    refine ob ((h.gr 0 (c := 8) huk (by decide) rfl).trans (congrArg some y1)) (ob hlen ?_)
    rw [if_pos (c_le (by omega) (by omega))]
    rfl
  · intro d g hg k c hk
    refine ob ((h.gr 0 (c := 8) huk (by decide) rfl).trans (congrArg some y1)) (ob hlen ?_)
    rw [if_neg (c_nle (by omega) (by omega))]
    refine ob ((h.ar k (c := 8) (k := 0) huk (Or.inr rfl) y1 y2 (by show k < xn V 800 uu; omega) (by omega)).trans (congrArg some (hsl k (by omega)))) ?_
    rw [jn_eq, nI_1, iter_s]
    unfold frS
    cases hw : ad 13 (16 * u + k) with
    | none =>
      have h9 := hs.2.2.2.2.1.2 (16 * u + k) (by omega) hw
      rw [if_pos rfl, if_pos h9]
      exact hg (k + 1) _ (by omega)
    | some w =>
      obtain ⟨bk, b, hb1, hb2, _⟩ := hs.bl hw
      have h9 : ¬ M.2.1 9 (16 * u + k) = -1 := fun z => by
        rw [hb2] at z
        have h2 := nI_pos' (n := bk) (by omega)
        rw [z] at h2
        exact absurd h2 (by decide)
      rw [if_neg (fun z => by cases z), if_neg h9]
      exact hg (k + 1) _ (by omega)
  · intro g hg
    exact hg 0 0 (by omega)
/-- a lane with nothing in it -/
def L0 (V : CW) (l : Nat) : Prop := (∀ r, r < 16 → xi V 1450 l r = 0) ∧ (∀ p, p < 4 → xi V 1451 l p = 0) ∧ xi V 1402 l 0 = 0 ∧ xi V 1403 l 0 = 0 ∧ xi V 1404 l 0 = 0
theorem e14_begin (h : St nC nS A V) {l : Nat} (hl : kdV V l = 15) (o0 : OW V 14 0 l 16) (o1 : OW V 14 1 l 4) (hn : 17 < n) : Res (fX14_begin n l A) (fun A' => ∃ V', St nC nS A' V' ∧ XF l V V' ∧ L0 V' l) := by
  obtain ⟨y, y1, y2, y3⟩ := o0
  obtain ⟨z, z1, z2, z3⟩ := o1
  have y3 : xn V 1400 l = 16 := y3
  have z3 : xn V 1401 l = 4 := z3
  unfold fX14_begin
  refine Res.b (h.gi 5 (c := 14) hl (by decide) rfl) ?_
  obtain ⟨A2, e2, s2⟩ := h.pi 5 (xi V (100 * 14 + 5) l 0 + 1) (c := 14) hl (by decide) rfl
  refine Res.b e2 ?_
  refine jl_R (fun d (g : Int32 → AH → Option AH) => ∀ k A5 V5, k + d = 16 → St nC nS A5 V5 → XF l V V5 → (∀ r, r < k → xi V5 1450 l r = 0) → Res (g (nI k) A5) (fun A' => ∃ V', St nC nS A' V' ∧ XF l V V' ∧ L0 V' l)) 16 (show 16 < n by omega) ?_ ?_ ?_
  · intro g k A5 V5 hk s5 x5 hr
    have ek : k = 16 := by omega
    subst ek
    rw [if_pos (show (16 : Int32) ≤ nI 16 by decide)]
    refine jl_R (fun d (g : Int32 → AH → Option AH) => ∀ k A10 V10, k + d = 4 → St nC nS A10 V10 → XF l V V10 → (∀ r, r < 16 → xi V10 1450 l r = 0) → (∀ p, p < k → xi V10 1451 l p = 0) → Res (g (nI k) A10) (fun A' => ∃ V', St nC nS A' V' ∧ XF l V V' ∧ L0 V' l)) 4 (show 4 < n by omega) ?_ ?_ ?_
    · intro g k A10 V10 hk s10 x10 hr10 hp10
      have ek : k = 4 := by omega
      subst ek
      have hl10 : kdV V10 l = 15 := by rw [kdV, x10.1]; exact hl
      rw [if_pos (show (4 : Int32) ≤ nI 4 by decide)]
      obtain ⟨A13, e13, s13⟩ := s10.pi 2 0 (c := 14) hl10 (by decide) rfl
      obtain ⟨A14, e14, s14⟩ := s13.pi 3 0 (c := 14) hl10 (by decide) rfl
      obtain ⟨A15, e15, s15⟩ := s14.pi 4 0 (c := 14) hl10 (by decide) rfl
      refine Res.b e13 (Res.b e14 (Res.b e15 (Res.r ⟨_, s15, x10.tr ((XF.vI.tr XF.vI).tr XF.vI), fun r hr' => ?_, fun p hp' => ?_, ?_, ?_, ?_⟩)))
      · rw [vIi, if_neg (fun q => absurd q.1 (by decide)), vIi, if_neg (fun q => absurd q.1 (by decide)), vIi, if_neg (fun q => absurd q.1 (by decide))]
        exact hr10 r hr'
      · rw [vIi, if_neg (fun q => absurd q.1 (by decide)), vIi, if_neg (fun q => absurd q.1 (by decide)), vIi, if_neg (fun q => absurd q.1 (by decide))]
        exact hp10 p hp'
      · rw [vIi, if_neg (fun q => absurd q.1 (by decide)), vIi, if_neg (fun q => absurd q.1 (by decide)), vIi, if_pos ⟨rfl, rfl, rfl⟩]
      · rw [vIi, if_neg (fun q => absurd q.1 (by decide)), vIi, if_pos ⟨rfl, rfl, rfl⟩]
      · rw [vIi, if_pos ⟨rfl, rfl, rfl⟩]
    · intro d g hg k A10 V10 hk s10 x10 hr10 hp10
      have hl10 : kdV V10 l = 15 := by rw [kdV, x10.1]; exact hl
      have e22 := x10.2.1
      have a1 : xr V10 1401 l 0 = some z := by show V10.2.2.1 1401 l 0 = _; rw [e22]; exact z1
      have a2 : fr V10 z = none := by show V10.2.2.2.2.2.1 z = _; rw [e22]; exact z2
      have a3 : xn V10 1401 l = 4 := by show V10.2.2.2.2.1 1401 l = _; rw [e22]; exact z3
      rw [if_neg (show ¬ (4 : Int32) ≤ nI k from c_nle (a := 4) (by omega) (by omega)), nI_1]
      obtain ⟨A11, e11, s11⟩ := s10.sz k 0 (c := 14) (k := 1) hl10 rfl a1 a2 (by show k < xn V10 1401 l; omega) (by omega)
      refine Res.b ((s10.gr 1 (c := 14) hl10 (by decide) rfl).trans (congrArg some a1)) (Res.b e11 (hg (k + 1) A11 _ (by omega) s11 (x10.tr XF.vI) (fun r hr' => ?_) (fun p hp' => ?_)))
      · show xi (vI' V10 1451 l k (nb 0)) 1450 l r = 0
        rw [vIi, if_neg (fun q => absurd q.1 (by decide))]
        exact hr10 r hr'
      · show xi (vI' V10 1451 l k (nb 0)) 1451 l p = 0
        rw [vIi]
        by_cases e : p = k
        · rw [if_pos ⟨rfl, rfl, e⟩]; rfl
        · rw [if_neg (fun q => e q.2.2)]
          exact hp10 p (by omega)
    · intro g hg
      exact hg 0 A5 V5 (by omega) s5 x5 hr (fun p hp => absurd hp (Nat.not_lt_zero _))
  · intro d g hg k A5 V5 hk s5 x5 hr
    have hl5 : kdV V5 l = 15 := by rw [kdV, x5.1]; exact hl
    have e22 := x5.2.1
    have a1 : xr V5 1400 l 0 = some y := by show V5.2.2.1 1400 l 0 = _; rw [e22]; exact y1
    have a2 : fr V5 y = none := by show V5.2.2.2.2.2.1 y = _; rw [e22]; exact y2
    have a3 : xn V5 1400 l = 16 := by show V5.2.2.2.2.1 1400 l = _; rw [e22]; exact y3
    rw [if_neg (show ¬ (16 : Int32) ≤ nI k from c_nle (a := 16) (by omega) (by omega)), nI_1]
    obtain ⟨A11, e11, s11⟩ := s5.si k 0 (c := 14) (k := 0) hl5 rfl a1 a2 (by show k < xn V5 1400 l; omega) (by omega)
    refine Res.b ((s5.gr 0 (c := 14) hl5 (by decide) rfl).trans (congrArg some a1)) (Res.b e11 (hg (k + 1) A11 _ (by omega) s11 (x5.tr XF.vI) (fun r hr' => ?_)))
    show xi (vI' V5 1450 l k 0) 1450 l r = 0
    rw [vIi]
    by_cases e : r = k
    · rw [if_pos ⟨rfl, rfl, e⟩]
    · rw [if_neg (fun q => e q.2.2)]
      exact hr r (by omega)
  · intro g hg
    exact hg 0 A2 _ (by omega) s2 XF.vI (fun r hr => absurd hr (Nat.not_lt_zero _))
end C59
