/-! E11: the end of a cycle -/
section E11
variable {nC nS n : Nat} {A A' : AH} {V V' : CW} {E E' : EL} {ad ad' : AA} {M M' : MS} {P : PP} {T Bk b1 b2 n0 n1 n2 : Nat}
/-- a field of the machine is set -/
theorem GX.pF (g : GX nC nS A V E ad M P T Bk b1 b2 n0 n1 n2) (k : Nat) (v : Int32) (hk : k < 26) (hr : isR 7 k = false) (hd : 700 + k ∈ fdC) (hdd : (700 + k) / 100 = 7) (hf : nmF (700 + k) ≠ 1 ∧ nmF (700 + k) ≠ 13 ∧ nmF (700 + k) ≠ 2 ∧ nmF (700 + k) ≠ 41) : ∃ A' V', pI A (some (P 1)) 7 k v = some A' ∧ GX nC nS A' V' E ad (mI M (nmF (700 + k)) v) P T Bk b1 b2 n0 n1 n2 ∧ fr V' = fr V := by
  obtain ⟨A', e1, s1, c1, i1⟩ := g.1.pF g.2.1.1.2.2.2 g.2.1.1.1 k v hk hr hd hdd
  refine ⟨A', _, e1, g.iv s1 i1 c1 (fmH.frm (ks := [nmF (700 + k)]) (js := []) (frm.rf.mI (List.mem_singleton.mpr rfl)) ?_ (by decide)), i1.ff⟩
  simp only [List.mem_singleton]
  exact ⟨fun z => hf.1 z.symm, fun z => hf.2.1 z.symm, fun z => hf.2.2.1 z.symm, fun z => hf.2.2.2 z.symm⟩
theorem GX.getF (g : GX nC nS A V E ad M P T Bk b1 b2 n0 n1 n2) (k : Nat) (hk : k < 26) (hr : isR 7 k = false) (hd : 700 + k ∈ fdC) (hdd : (700 + k) / 100 = 7) : gI A (some (P 1)) 7 k = some (M.1 (nmF (700 + k))) := gF g.1 g.2.1.1.2.2.2 g.2.1.1.1 k hk hr hd hdd
/-- cycle and all go on -/
theorem cyc_cnt (g : GX nC nS A V E ad M P T Bk b1 b2 n0 n1 n2) : Res ((gI A (some (P 1)) 7 17).bind fun v28 =>
      (pI A (some (P 1)) 7 17 (v28 + (1 : Int32))).bind fun A29 =>
      (gI A29 (some (P 1)) 7 21).bind fun v30 =>
      (pI A29 (some (P 1)) 7 21 (v30 + (1 : Int32))).bind fun A31 =>
      some A31) (fun A' => ∃ V', GX nC nS A' V' E ad (mI (mI M 15 (M.1 15 + 1)) 22 (M.1 22 + 1)) P T Bk b1 b2 n0 n1 n2 ∧ fr V' = fr V) := by
  refine Res.b (g.getF 17 (by decide) rfl (by decide) rfl) ?_
  obtain ⟨A1, V1, e1, g1, f1⟩ := g.pF 17 (M.1 (nmF 717) + 1) (by decide) rfl (by decide) rfl (by decide)
  refine Res.b e1 (Res.b (g1.getF 21 (by decide) rfl (by decide) rfl) ?_)
  obtain ⟨A2, V2, e2, g2, f2⟩ := g1.pF 21 ((mI M (nmF 717) (M.1 (nmF 717) + 1)).1 (nmF 721) + 1) (by decide) rfl (by decide) rfl (by decide)
  exact Res.b e2 (Res.r ⟨V2, g2, f2.trans f1⟩)
theorem cyc_end (g : GX nC nS A V E ad M P T Bk b1 b2 n0 n1 n2) (v19 : Int32) (h19 : v19 = M.1 11) : Res ((gR A (some (P 1)) 7 7).bind fun v20 =>
      (gR A v20 3 0).bind fun v21 =>
      (rcv A v21 0).bind fun v22 =>
      (fJ2_isEmpty v22 A).bind fun g23 =>
      (gI A (some (P 1)) 7 16).bind fun v24 =>
      (gI A (some (P 1)) 7 13).bind fun v25 =>
      jn (fun (A27 : AH) =>
      (gI A27 (some (P 1)) 7 17).bind fun v28 =>
      (pI A27 (some (P 1)) 7 17 (v28 + (1 : Int32))).bind fun A29 =>
      (gI A29 (some (P 1)) 7 21).bind fun v30 =>
      (pI A29 (some (P 1)) 7 21 (v30 + (1 : Int32))).bind fun A31 =>
      some A31) fun j26 =>
      if ((g23 = 0) ∨ (¬ ((v19 = (4 : Int32)) ∨ (v24 = v25)))) then (j26 A) else
      jn (fun (y33 : Int32) =>
      (pI A (some (P 1)) 7 12 y33).bind fun A34 =>
      j26 A34) fun j32 =>
      if v19 = (4 : Int32) then (j32 (3 : Int32)) else
      j32 (2 : Int32)) (fun A' => ∃ V', GX nC nS A' V' E ad (cycE M) P T Bk b1 b2 n0 n1 n2 ∧ fr V' = fr V) := by
  subst h19
  have cp := g.2.1.1
  have hs := cp.2.2.2
  have hP3 : kdV V (P 3) = 4 := hs.kk hs.2.2.1.1.2.2.2.1
  obtain ⟨p, p1, p2, _⟩ := g.2.1.2.1.1
  have hlen : p ≤ 4096 := by
    have := g.2.1.2.1.2.2.2.2.2.1
    omega
  obtain ⟨hl, x1, li, _⟩ := cp.2.2.1.li2 cp.2.1 (c := 3) (k := 0) (e := 15) hP3 rfl
  refine Res.b ((g.1.gr 7 (c := 7) hs.mm.2 (by decide) rfl).trans (congrArg some hs.2.2.1.2.2.2.2.2.2.2.2.1)) (Res.b ((g.1.gr 0 (c := 3) hP3 (by decide) rfl).trans (congrArg some x1)) (Res.b (g.1.rc li.1) (Res.b (L_isEmpty g.1 li) (Res.b (g.getF 16 (by decide) rfl (by decide) rfl) (Res.b (g.getF 13 (by decide) rfl (by decide) rfl) ?_)))))
  rw [p2, jn_eq]
  have e16 : nmF (700 + 16) = 21 := rfl
  have e13 : nmF (700 + 13) = 12 := rfl
  rw [e16, e13]
  have same : cycE M = mI (mI M 15 (M.1 15 + 1)) 22 (M.1 22 + 1) → Res ((gI A (some (P 1)) 7 17).bind fun v28 =>
      (pI A (some (P 1)) 7 17 (v28 + (1 : Int32))).bind fun A29 =>
      (gI A29 (some (P 1)) 7 21).bind fun v30 =>
      (pI A29 (some (P 1)) 7 21 (v30 + (1 : Int32))).bind fun A31 =>
      some A31) (fun A' => ∃ V', GX nC nS A' V' E ad (cycE M) P T Bk b1 b2 n0 n1 n2 ∧ fr V' = fr V) := fun e => by
    rw [e]
    exact cyc_cnt g
  have othr : ∀ v, cycE M = mI (mI (mI M 15 (M.1 15 + 1)) 22 (M.1 22 + 1)) 11 v → Res ((pI A (some (P 1)) 7 12 v).bind fun A34 => (gI A34 (some (P 1)) 7 17).bind fun v28 =>
      (pI A34 (some (P 1)) 7 17 (v28 + (1 : Int32))).bind fun A29 =>
      (gI A29 (some (P 1)) 7 21).bind fun v30 =>
      (pI A29 (some (P 1)) 7 21 (v30 + (1 : Int32))).bind fun A31 =>
      some A31) (fun A' => ∃ V', GX nC nS A' V' E ad (cycE M) P T Bk b1 b2 n0 n1 n2 ∧ fr V' = fr V) := fun v e => by
    obtain ⟨A1, V1, e1, g1, f1⟩ := g.pF 12 v (by decide) rfl (by decide) rfl (by decide)
    refine Res.b e1 (Res.m (cyc_cnt g1) ?_)
    rintro A' ⟨V', g', f'⟩
    refine ⟨V', ?_, f'.trans f1⟩
    rw [e]
    have e12 : nmF (700 + 12) = 11 := rfl
    rw [e12, mI_g, mI_g, if_neg (by decide), if_neg (by decide)] at g'
    rw [mI_comm _ _ _ (show (22 : Nat) ≠ 11 by decide), mI_comm _ _ _ (show (15 : Nat) ≠ 11 by decide)]
    exact g'
  by_cases cp0 : p = 0
  · have h41 : M.1 41 ≤ 0 := by rw [p1, cp0]; exact Int32.le_refl _
    rw [b2i_t cp0]
    by_cases c4 : M.1 11 = 4
    · rw [if_neg (fun z => z.elim (fun z => absurd z (by decide)) (fun z => z (Or.inl c4))), jn_eq, if_pos c4]
      refine othr 3 ?_
      unfold cycE
      rw [if_pos h41, if_pos c4]
    · by_cases c21 : M.1 21 = M.1 12
      · rw [if_neg (fun z => z.elim (fun z => absurd z (by decide)) (fun z => z (Or.inr c21))), jn_eq, if_neg c4]
        refine othr 2 ?_
        unfold cycE
        rw [if_pos h41, if_neg c4, if_pos c21]
      · rw [if_pos (Or.inr (fun z => z.elim c4 c21))]
        refine same ?_
        unfold cycE
        rw [if_pos h41, if_neg c4, if_neg c21]
  · rw [b2i_f cp0, if_pos (Or.inl rfl)]
    refine same ?_
    unfold cycE
    rw [if_neg]
    rw [p1]
    exact nI_nle (by omega) (by omega)
end E11
