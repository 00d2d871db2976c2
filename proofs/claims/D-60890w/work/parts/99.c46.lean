/-! C46: a block leaves its unit -/
section C46
variable {nC nS n : Nat} {A : AH} {V V' V'' : CW} {E E' : EL} {ad : AA} {M M' : MS} {P : PP}
theorem st_none (A : AH) (t : Nat) : stok A t none = some () := by
  unfold stok
  rfl
theorem CP.blk (cp : CP V E ad M P) {s w bk b : Nat} (hw : ad 13 s = some w) (hb : ad 12 bk = some b) (hbk : bk < 64) : (xr V 1300 w 0 = some b ↔ M.2.1 9 s = nI bk) ∧ ∃ b', xr V 1300 w 0 = some b' := by
  obtain ⟨bk', b', q1, q2, q3, q4⟩ := cp.2.2.2.bl hw
  refine ⟨⟨fun z => ?_, fun z => ?_⟩, b', q4⟩
  · have e : b' = b := Option.some.inj (q4.symm.trans z)
    subst e
    have e2 := cp.2.2.2.1.1 12 bk' bk b' (by decide) q3 hb
    rw [← e2]
    exact q2
  · have e : bk' = bk := (nI_eq (by omega) (by omega)).mp (q2.symm.trans z)
    subst e
    rw [q4]
    exact congrArg some (Option.some.inj (q3.symm.trans hb))
theorem e8_leave (h : St nC nS A V) (cp : CP V E ad M P) {u uu bk b : Nat} (hu : ad 8 u = some uu) (hb : ad 12 bk = some b) (hbk : bk < 64) (hn : 17 < n) : Res (fX8_leave n uu (some b) A) (fun A' => ∃ V', St nC nS A' V' ∧ QF (fun _ => False) V V' ∧ (∀ a, a ≠ uu → xr V' 850 a = xr V 850 a) ∧ ∀ j, j < P 7 → xr V' 850 uu j = if M.2.1 9 (16 * u + j) = nI bk then none else ad 13 (16 * u + j)) := by
  have hs := cp.2.2.2
  have huk := hs.kk hu
  have hP7 := hs.2.2.2.2.2.2.2.2.1.2.1
  obtain ⟨⟨y, y1, y2, y3⟩, hsl⟩ := hs.2.2.2.1.2.2.1 u uu hu
  have y3 : xn V 800 uu = P 7 := y3
  unfold fX8_leave
  refine jl_R (fun d (g : Int32 → AH → Option AH) => ∀ k A3 V3, k + d = P 7 → St nC nS A3 V3 → QF (fun _ => False) V V3 → (∀ a, a ≠ uu → xr V3 850 a = xr V 850 a) → (∀ j, j < P 7 → xr V3 850 uu j = if (j < k ∧ M.2.1 9 (16 * u + j) = nI bk) then none else ad 13 (16 * u + j)) → Res (g (nI k) A3) (fun A' => ∃ V', St nC nS A' V' ∧ QF (fun _ => False) V V' ∧ (∀ a, a ≠ uu → xr V' 850 a = xr V 850 a) ∧ ∀ j, j < P 7 → xr V' 850 uu j = if M.2.1 9 (16 * u + j) = nI bk then none else ad 13 (16 * u + j))) (P 7) (show P 7 < n by omega) ?_ ?_ ?_
  · intro g k A3 V3 hk s3 q3 ho hr
    have ek : k = P 7 := by omega
    have hk3 := q3.kv huk
    have x1 : xr V3 800 uu 0 = some y := by rw [(q3.2.2.2 uu (fun z => z) 800).2.2 (by decide)]; exact y1
    have x2 : fr V3 y = none := by rw [q3.2.2.1.1]; exact y2
    have x3 : xn V3 800 uu = P 7 := by rw [(q3.2.2.2 uu (fun z => z) 800).2.1]; exact y3
    refine Res.b ((s3.gr 0 (c := 8) hk3 (by decide) rfl).trans (congrArg some x1)) (Res.b ((s3.ln (c := 8) (k := 0) hk3 (by decide) x1 x2).trans (congrArg (fun z => some (nI z)) x3)) ?_)
    rw [if_pos (c_le (by omega) (by omega))]
    refine Res.r ⟨V3, s3, q3, ho, fun j hj => ?_⟩
    rw [hr j hj]
    by_cases c : M.2.1 9 (16 * u + j) = nI bk
    · rw [if_pos ⟨by omega, c⟩, if_pos c]
    · rw [if_neg (fun z => c z.2), if_neg c]
  · intro d g hg k A3 V3 hk s3 q3 ho hr
    have hk3 := q3.kv huk
    have x1 : xr V3 800 uu 0 = some y := by rw [(q3.2.2.2 uu (fun z => z) 800).2.2 (by decide)]; exact y1
    have x2 : fr V3 y = none := by rw [q3.2.2.1.1]; exact y2
    have x3 : xn V3 800 uu = P 7 := by rw [(q3.2.2.2 uu (fun z => z) 800).2.1]; exact y3
    refine Res.b ((s3.gr 0 (c := 8) hk3 (by decide) rfl).trans (congrArg some x1)) (Res.b ((s3.ln (c := 8) (k := 0) hk3 (by decide) x1 x2).trans (congrArg (fun z => some (nI z)) x3)) ?_)
    rw [if_neg (c_nle (by omega) (by omega))]
    have hval : xr V3 850 uu k = ad 13 (16 * u + k) := by rw [hr k (by omega), if_neg (fun z => absurd z.1 (by omega))]
    refine Res.b ((s3.ar k (c := 8) (k := 0) hk3 (Or.inr rfl) x1 x2 (by show k < xn V3 800 uu; omega) (by omega)).trans (congrArg some hval)) ?_
    rw [jn_eq, nI_1]
    have skip : ¬ M.2.1 9 (16 * u + k) = nI bk → ∀ j, j < P 7 → xr V3 850 uu j = if (j < k + 1 ∧ M.2.1 9 (16 * u + j) = nI bk) then none else ad 13 (16 * u + j) := by
      intro hno j hj
      rw [hr j hj]
      by_cases c : j < k ∧ M.2.1 9 (16 * u + j) = nI bk
      · rw [if_pos c, if_pos ⟨by omega, c.2⟩]
      · rw [if_neg c, if_neg]
        rintro ⟨z1, z2⟩
        by_cases e : j = k
        · subst e; exact hno z2
        · exact c ⟨by omega, z2⟩
    cases hw : ad 13 (16 * u + k) with
    | none =>
      rw [if_pos rfl]
      have h9 : ¬ M.2.1 9 (16 * u + k) = nI bk := by
        have hu8 : u < 8 := by
          have := hs.2.2.2.1.2.1 u
          rw [hu] at this
          have := ge_lt this
          have h1 := hs.2.2.2.1.1
          have h2 := hs.2.2.2.2.2.2.2.2.1.2.2.1
          omega
        have := hs.2.2.2.2.1.2 (16 * u + k) (by omega) hw
        intro z
        rw [z] at this
        have h2 := nI_pos' (n := bk) (by omega)
        rw [this] at h2
        exact absurd h2 (by decide)
      exact hg (k + 1) A3 V3 (by omega) s3 q3 ho (skip h9)
    | some w =>
      rw [if_neg (fun z => by cases z)]
      have hwk := hs.kk hw
      obtain ⟨hb1, b', hb2⟩ := cp.blk hw hb hbk
      have gb : gR A3 (some w) 13 0 = some (some b') := (s3.gr 0 (c := 13) (q3.kv hwk) (by decide) rfl).trans (congrArg some (show xr V3 1300 w 0 = some b' by rw [(q3.2.2.2 w (fun z => z) 1300).2.2 (by decide)]; exact hb2))
      refine Res.b gb ?_
      by_cases c : M.2.1 9 (16 * u + k) = nI bk
      · have e : b' = b := Option.some.inj (hb2.symm.trans (hb1.mpr c))
        rw [if_pos (by rw [e])]
        obtain ⟨A4, e4, s4⟩ := s3.sr k none (c := 8) (k := 0) hk3 (Or.inr rfl) x1 x2 (by show k < xn V3 800 uu; omega) (by omega) (st_none A3 _)
        refine Res.b e4 (hg (k + 1) A4 _ (by omega) s4 (q3.tr QF.v8) (fun a ha => ?_) (fun j hj => ?_))
        · rw [← ho a ha]
          funext i
          show xr (vR' V3 850 uu k none) 850 a i = _
          rw [vRr, if_neg (fun z => ha z.2.1)]
        · show xr (vR' V3 850 uu k none) 850 uu j = _
          rw [vRr]
          by_cases ej : j = k
          · rw [if_pos ⟨rfl, rfl, ej⟩, ej, if_pos ⟨by omega, c⟩]
          · rw [if_neg (fun z => ej z.2.2), hr j hj]
            by_cases c2 : j < k ∧ M.2.1 9 (16 * u + j) = nI bk
            · rw [if_pos c2, if_pos ⟨by omega, c2.2⟩]
            · rw [if_neg c2, if_neg (fun z => c2 ⟨by omega, z.2⟩)]
      · rw [if_neg (fun z => c (hb1.mp (by rw [hb2]; exact z)))]
        exact hg (k + 1) A3 V3 (by omega) s3 q3 ho (skip c)
  · intro g hg
    refine hg 0 A V (by omega) h QF.rf (fun _ _ => rfl) (fun j hj => ?_)
    rw [if_neg (fun z => absurd z.1 (Nat.not_lt_zero _))]
    exact hsl j hj
end C46
