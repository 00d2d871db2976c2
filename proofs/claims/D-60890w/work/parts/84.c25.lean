/-! C25: the coalescer asks -/
def ShI (V : CW) (co Bk b1 b2 : Nat) (M : MS) (s a j : Nat) : Prop := CO V co Bk b1 b2 (usB M s a j) (fun _ => false) ∧ (∀ k, k < Bk → xi V 452 co k = nI (cnB (shF M s a Bk k) j)) ∧ xi V 405 co 0 = nI (mxF (fun k => cnB (shF M s a Bk k) j) Bk)
theorem us_s (M : MS) (s a j : Nat) : usB M s a (j + 1) = fun q => usB M s a j q || decide (¬ M.2.1 27 j = 0 ∧ askN M s a j = q) := by
  funext q
  unfold usB
  rw [anyF_last, Nat.zero_add]
theorem ln_s (M : MS) (s a j : Nat) : lnB M s a (j + 1) = fun q => lnB M s a j q || decide (¬ M.2.1 27 j = 0 ∧ askN M s a j / 8 = q) := by
  funext q
  unfold lnB
  rw [anyF_last, Nat.zero_add]
theorem us_k {M : MS} {s a j : Nat} (h : M.2.1 27 j = 0) : usB M s a (j + 1) = usB M s a j := by
  rw [us_s]
  funext q
  rw [decide_eq_false (fun z => z.1 h), Bool.or_false]
theorem ln_k {M : MS} {s a j : Nat} (h : M.2.1 27 j = 0) : lnB M s a (j + 1) = lnB M s a j := by
  rw [ln_s]
  funext q
  rw [decide_eq_false (fun z => z.1 h), Bool.or_false]
theorem cnB_s (f : Nat → Bool) (j : Nat) : cnB f (j + 1) = cnB f j + (if f j then 1 else 0) := rfl
theorem shF_k {M : MS} {s a Bk k j : Nat} (h : M.2.1 27 j = 0) : cnB (shF M s a Bk k) (j + 1) = cnB (shF M s a Bk k) j := by
  rw [cnB_s, if_neg]
  · rfl
  · unfold shF
    rw [decide_eq_false (fun z => z.1 h), Bool.false_and]
    decide
theorem ShI.sk {V : CW} {co Bk b1 b2 : Nat} {M : MS} {s a j : Nat} (h : ShI V co Bk b1 b2 M s a j) (h0 : M.2.1 27 j = 0) : ShI V co Bk b1 b2 M s a (j + 1) := by
  obtain ⟨h1, h2, h3⟩ := h
  refine ⟨by rw [us_k h0]; exact h1, fun k hk => by rw [shF_k h0]; exact h2 k hk, ?_⟩
  rw [mxF_c Bk (fun k _ => shF_k h0)]
  exact h3
section C25
variable {nC nS n : Nat} {A : AH} {V V' : CW} {E : EL} {ad : AA} {M N : MS} {P : PP} {co Bk b1 b2 : Nat}
theorem e4_askShared (h : St nC nS A V) (cp : CP V E ad N P) {s a j : Nat} (hi : ShI V co Bk b1 b2 M s a j) (hok : okQ M s a 64) (hj : j < 32) (h27 : ¬ M.2.1 27 j = 0) (hB : 1 ≤ Bk) (hB2 : Bk ≤ 32) : Res (fX4_askShared co (nI (askN M s a j)) (b2i (53 < M.1 52)) A) (fun A' => ∃ V', St nC nS A' V' ∧ IB V V' ∧ CX V' ad N ∧ ShI V' co Bk b1 b2 M s a (j + 1)) := by
  obtain ⟨hco, hbk, hmx⟩ := hi
  obtain ⟨q1, q2⟩ := hok j hj h27
  have hag := ag_us hok (by omega) hj h27
  generalize hq : askN M s a j = q at *
  have hmod : q % Bk < Bk := Nat.mod_lt _ (by omega)
  unfold fX4_askShared
  refine Res.b ((h.gr 0 (c := 4) hco.1 (by decide) rfl).trans (congrArg some hco.2.2.1)) (Res.b (h.rc hco.2.2.2.2.2.1.1) (Res.b (BS_get h hco.2.2.2.2.2.1 (by omega)) ?_))
  rw [← hag]
  have main : ∀ y5 : Int32, y5 = b2i (¬ agB M s a j = true) → Res ((fJ17_set b1 (nI q) A).bind fun g6 =>
      (gR g6 (some co) 4 2).bind fun v7 =>
      (gI g6 (some co) 4 3).bind fun v8 =>
      (dz v8).bind fun v9 =>
      (aI g6 v7 (nI q - nI q / v8 * v8)).bind fun v10 =>
      jn (fun (y12 : Int32) =>
      (sI g6 v7 (nI q - nI q / v8 * v8) (v10 + y12)).bind fun A13 =>
      (gI A13 (some co) 4 5).bind fun v14 =>
      (gR A13 (some co) 4 2).bind fun v15 =>
      (gI A13 (some co) 4 3).bind fun v16 =>
      (dz v16).bind fun v17 =>
      (aI A13 v15 (nI q - nI q / v16 * v16)).bind fun v18 =>
      (pI A13 (some co) 4 5 (if v14 < v18 then v18 else v14)).bind fun A19 =>
      some A19) fun j11 =>
      if ((y5 = 0) ∧ (b2i (53 < M.1 52) = 0)) then (j11 (0 : Int32)) else
      j11 (1 : Int32)) (fun A' => ∃ V', St nC nS A' V' ∧ IB V V' ∧ CX V' ad N ∧ ShI V' co Bk b1 b2 M s a (j + 1)) := by
    intro y5 hy5
    refine Res.w (BS_set h hco.2.2.2.2.2.1 (q := q) (by omega)) ?_
    rintro A6 ⟨V6, s6, f6, d6⟩
    have co6 := hco.b1' f6 d6
    have c6 := cp.1.bf f6
    obtain ⟨y, y1, y2, y3⟩ := ((cp.2.2.1.iob f6.1).cow co6.1).1
    have y3 : xn V6 402 co = 32 := y3
    have e452 : xi V6 452 = xi V 452 := f6.2.1 452 (by decide)
    have e405 : xi V6 405 = xi V 405 := f6.2.1 405 (by decide)
    have hdz : dz (nI Bk) = some () := by
      unfold dz
      rw [if_neg (nI_ne0 (by omega) (by omega))]
    refine Res.b ((s6.gr 2 (c := 4) co6.1 (by decide) rfl).trans (congrArg some y1)) (Res.b ((s6.gi 3 (c := 4) co6.1 (by decide) rfl).trans (congrArg some co6.2.1)) (Res.b hdz ?_))
    rw [pk_rem (by omega) (by omega) (by omega)]
    refine Res.b ((s6.ai (q % Bk) (c := 4) (k := 2) co6.1 rfl y1 y2 (by show q % Bk < xn V6 402 co; omega) (by omega)).trans (congrArg some (show xi V6 452 co (q % Bk) = nI (cnB (shF M s a Bk (q % Bk)) j) by rw [e452]; exact hbk _ hmod))) ?_
    have hval : ∀ y12 : Int32, y12 = nI (if shF M s a Bk (q % Bk) j then 1 else 0) → Res ((sI A6 (some y) (nI (q % Bk)) (nI (cnB (shF M s a Bk (q % Bk)) j) + y12)).bind fun A13 =>
        (gI A13 (some co) 4 5).bind fun v14 =>
        (gR A13 (some co) 4 2).bind fun v15 =>
        (gI A13 (some co) 4 3).bind fun v16 =>
        (dz v16).bind fun v17 =>
        (aI A13 v15 (nI q - nI q / v16 * v16)).bind fun v18 =>
        (pI A13 (some co) 4 5 (if v14 < v18 then v18 else v14)).bind fun A19 =>
        some A19) (fun A' => ∃ V', St nC nS A' V' ∧ IB V V' ∧ CX V' ad N ∧ ShI V' co Bk b1 b2 M s a (j + 1)) := by
      intro y12 hy12
      have hnew : nI (cnB (shF M s a Bk (q % Bk)) j) + y12 = nI (cnB (shF M s a Bk (q % Bk)) (j + 1)) := by
        rw [hy12, cnB_s, nI_add]
      rw [hnew]
      obtain ⟨A13, e13, s13⟩ := s6.si (q % Bk) (nI (cnB (shF M s a Bk (q % Bk)) (j + 1))) (c := 4) (k := 2) co6.1 rfl y1 y2 (by show q % Bk < xn V6 402 co; omega) (by omega)
      refine Res.b e13 ?_
      have co13 : CO (vI' V6 452 co (q % Bk) (nI (cnB (shF M s a Bk (q % Bk)) (j + 1)))) co Bk b1 b2 (fun j_1 => usB M s a j j_1 || decide (j_1 = q)) (fun _ => false) := co6.vI (by decide)
      refine Res.b ((s13.gi 5 (c := 4) co13.1 (by decide) rfl).trans (congrArg some (show xi (vI' V6 452 co (q % Bk) (nI (cnB (shF M s a Bk (q % Bk)) (j + 1)))) 405 co 0 = nI (mxF (fun k => cnB (shF M s a Bk k) j) Bk) by rw [vIi, if_neg (fun z => absurd z.1 (by decide)), e405]; exact hmx))) ?_
      refine Res.b ((s13.gr 2 (c := 4) co13.1 (by decide) rfl).trans (congrArg some y1)) (Res.b ((s13.gi 3 (c := 4) co13.1 (by decide) rfl).trans (congrArg some co13.2.1)) (Res.b hdz ?_))
      rw [pk_rem (by omega) (by omega) (by omega)]
      refine Res.b ((s13.ai (q % Bk) (c := 4) (k := 2) co13.1 rfl y1 y2 (by show q % Bk < xn V6 402 co; omega) (by omega)).trans (congrArg some (show xi (vI' V6 452 co (q % Bk) (nI (cnB (shF M s a Bk (q % Bk)) (j + 1)))) 452 co (q % Bk) = nI (cnB (shF M s a Bk (q % Bk)) (j + 1)) by rw [vIi, if_pos ⟨rfl, rfl, rfl⟩]))) ?_
      have b1' : mxF (fun k => cnB (shF M s a Bk k) j) Bk ≤ 32 := Nat.le_trans (mxF_le _ j (fun k => cnB_le _ j) Bk) (by omega)
      have b2' := cnB_le (shF M s a Bk (q % Bk)) (j + 1)
      have hmax : (if nI (mxF (fun k => cnB (shF M s a Bk k) j) Bk) < nI (cnB (shF M s a Bk (q % Bk)) (j + 1)) then nI (cnB (shF M s a Bk (q % Bk)) (j + 1)) else nI (mxF (fun k => cnB (shF M s a Bk k) j) Bk)) = nI (mxF (fun k => cnB (shF M s a Bk k) (j + 1)) Bk) := by
        have hup := mxF_up (f := fun k => cnB (shF M s a Bk k) j) (g := fun k => cnB (shF M s a Bk k) (j + 1)) (k := q % Bk) (fun k hk => by
          show cnB _ (j + 1) = cnB _ j
          rw [cnB_s, if_neg]
          · rfl
          · unfold shF
            rw [decide_eq_false (fun z => hk (by rw [← z.2, hq])), Bool.false_and]
            decide) (by show cnB _ j ≤ cnB _ (j + 1); rw [cnB_s]; omega) Bk hmod
        rw [hup]
        by_cases c : mxF (fun k => cnB (shF M s a Bk k) j) Bk < cnB (shF M s a Bk (q % Bk)) (j + 1)
        · rw [if_pos (nI_lt c (by omega))]
          exact congrArg nI (by omega)
        · rw [if_neg (Int32.not_lt.mpr (c_le (by omega) (by omega)))]
          exact congrArg nI (by omega)
      rw [hmax]
      obtain ⟨A19, e19, s19⟩ := s13.pi 5 (nI (mxF (fun k => cnB (shF M s a Bk k) (j + 1)) Bk)) (c := 4) co13.1 (by decide) rfl
      refine Res.b e19 (Res.r ⟨_, s19, f6.1.tr ((IV.vS (by unfold scr; omega)).tr (IV.vS (by unfold scr; omega))).b, (c6.vIo (cd_scr (by unfold scr; omega))).vIo (cd_scr (by unfold scr; omega)), ?_, fun k hk => ?_, ?_⟩)
      · have eS : usB M s a (j + 1) = fun j_1 => usB M s a j j_1 || decide (j_1 = q) := by
          rw [us_s]
          funext q'
          refine congrArg (fun z => usB M s a j q' || z) ?_
          by_cases e : q' = q
          · rw [decide_eq_true e, decide_eq_true ⟨h27, by rw [e]; exact hq⟩]
          · rw [decide_eq_false e, decide_eq_false (fun z => e (by rw [← z.2, hq]))]
        rw [eS]
        exact co13.vI (by decide)
      · show xi (vI' (vI' V6 452 co (q % Bk) _) 405 co 0 _) 452 co k = _
        rw [vIi, if_neg (fun z => absurd z.1 (by decide)), vIi]
        by_cases e : k = q % Bk
        · rw [if_pos ⟨rfl, rfl, e⟩, e]
        · rw [if_neg (fun z => e z.2.2), e452, hbk k hk]
          refine congrArg nI ?_
          rw [cnB_s, if_neg]
          · rfl
          · unfold shF
            rw [decide_eq_false (fun z => e (by rw [← z.2, hq])), Bool.false_and]
            decide
      · show xi (vI' (vI' V6 452 co (q % Bk) _) 405 co 0 _) 405 co 0 = _
        rw [vIi, if_pos ⟨rfl, rfl, rfl⟩]
    rw [jn_eq]
    have hsh : shF M s a Bk (q % Bk) j = (decide (53 < M.1 52) || !(agB M s a j)) := by
      unfold shF
      rw [decide_eq_true ⟨h27, by rw [hq]⟩, Bool.true_and]
    by_cases cc : y5 = 0 ∧ b2i (53 < M.1 52) = 0
    · rw [if_pos cc]
      refine hval 0 ?_
      rw [hsh]
      have c1 : agB M s a j = true := by
        have := cc.1
        rw [hy5, b2i_0] at this
        exact Classical.not_not.mp this
      have c2 : ¬ 53 < M.1 52 := by
        have := cc.2
        rw [b2i_0] at this
        exact this
      rw [c1, decide_eq_false c2]
      rfl
    · rw [if_neg cc]
      refine hval 1 ?_
      rw [hsh]
      have : (decide (53 < M.1 52) || !(agB M s a j)) = true := by
        rw [Bool.or_eq_true]
        by_cases c2 : 53 < M.1 52
        · exact Or.inl (decide_eq_true c2)
        · right
          cases hh : agB M s a j with
          | false => rfl
          | true =>
            exfalso
            apply cc
            refine ⟨?_, by rw [b2i_0]; exact c2⟩
            rw [hy5, b2i_0]
            exact not_not_intro hh
      rw [this]
      rfl
  rw [jn_eq]
  by_cases cg : agB M s a j = true
  · rw [if_neg (by rw [b2i_0]; exact not_not_intro cg)]
    exact main 0 (by rw [b2i_f (not_not_intro cg)])
  · rw [if_pos (by rw [b2i_0]; exact cg)]
    exact main 1 (by rw [b2i_t cg])
end C25
