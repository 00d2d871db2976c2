/-! C60: warps and blocks begin -/
section C60
variable {nC nS n : Nat} {A A' : AH} {V V' V'' : CW} {E E' : EL} {ad ad' : AA} {M M' : MS} {P : PP}
/-- an int array of an owner is set to nothing -/
theorem zero_arr {a c k m : Nat} (hk : kdV V a = c + 1) (ho : own c k = 1) (o : OW V c k a m) (hm : m ≤ 4096) (hn : 4097 < n) (K : AH → Option AH) (Post : AH → Prop) (hr : isR c k = true) (hkn : k < nfl c) (h : St nC nS A V) (lim : Int32) (hlim : lim = nI m)
    (hK : ∀ A' V', St nC nS A' V' → XF a V V' → (∀ i, i < m → xi V' (100 * c + k + 50) a i = 0) → (∀ d, d ≠ 100 * c + k + 50 → xi V' d = xi V d) → Res (K A') Post) :
    Res (jl (fixG (fun _ _ => none) (fun (rc5 : (Int32) → (AH) → Option (AH)) (x3 : Int32) (A4 : AH) =>
      if lim ≤ x3 then (K A4) else
      (gR A4 (some a) c k).bind fun v10 =>
      (sI A4 v10 x3 (0 : Int32)).bind fun A11 =>
      rc5 (x3 + (1 : Int32)) A11) n) fun j2 => j2 (0 : Int32) A) Post := by
  obtain ⟨y, y1, y2, y3⟩ := o
  refine jl_R (fun d (g : Int32 → AH → Option AH) => ∀ i A5 V5, i + d = m → St nC nS A5 V5 → XF a V V5 → (∀ j, j < i → xi V5 (100 * c + k + 50) a j = 0) → (∀ d', d' ≠ 100 * c + k + 50 → xi V5 d' = xi V d') → Res (g (nI i) A5) Post) m (show m < n by omega) ?_ ?_ ?_
  · intro g i A5 V5 hi s5 x5 h0 hoth
    have ei : i = m := by omega
    subst ei
    rw [hlim, if_pos (Int32.le_refl _)]
    exact hK A5 V5 s5 x5 h0 hoth
  · intro d g hg i A5 V5 hi s5 x5 h0 hoth
    have hk5 : kdV V5 a = c + 1 := by rw [kdV, x5.1]; exact hk
    have e22 := x5.2.1
    have a1 : xr V5 (100 * c + k) a 0 = some y := by show V5.2.2.1 (100 * c + k) a 0 = _; rw [e22]; exact y1
    have a2 : fr V5 y = none := by show V5.2.2.2.2.2.1 y = _; rw [e22]; exact y2
    have a3 : xn V5 (100 * c + k) a = m := by show V5.2.2.2.2.1 (100 * c + k) a = _; rw [e22]; exact y3
    rw [hlim, if_neg (c_nle (by omega) (by omega)), nI_1]
    obtain ⟨A11, e11, s11⟩ := s5.si i 0 hk5 ho a1 a2 (by rw [a3]; omega) (by omega)
    refine Res.b ((s5.gr k hk5 hkn hr).trans (congrArg some a1)) (Res.b e11 ?_)
    rw [← hlim] at *
    refine hg (i + 1) A11 _ (by omega) s11 (x5.tr XF.vI) (fun j hj => ?_) (fun d' hd' => ?_)
    · rw [vIi]
      by_cases e : j = i
      · rw [if_pos ⟨rfl, rfl, e⟩]
      · rw [if_neg (fun q => e q.2.2)]
        exact h0 j (by omega)
    · rw [← hoth d' hd']
      funext b j
      rw [vIi, if_neg (fun q => hd' q.1)]
  · intro g hg
    exact hg 0 A V (by omega) h XF.rf (fun j hj => absurd hj (Nat.not_lt_zero _)) (fun _ _ => rfl)
end C60
