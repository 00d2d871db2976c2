/-! C28: askGlobal, the step -/
section C28
variable {nC nS n : Nat} {A : AH} {V V' : CW} {E : EL} {ad : AA} {M N : MS} {P : PP} {co Bk b1 b2 u : Nat} {many all : Int32}
theorem cnt_1 (X : MS) (u : Nat) (many all : Int32) {k : Nat} (h6 : k ≠ 16) (h7 : k ≠ 17) (h8 : k ≠ 18) : (cntM u many all X).1 k = X.1 k := by
  show (if k = 18 then _ else if k = 17 then _ else if k = 16 then _ else X.1 k) = X.1 k
  rw [if_neg h8, if_neg h7, if_neg h6]
theorem cnt_2 (X : MS) (u : Nat) (many all : Int32) {j : Nat} (h : j ≠ 8) : (cntM u many all X).2.1 j = X.2.1 j := by
  show (if j = 8 then _ else X.2.1 j) = X.2.1 j
  rw [if_neg h]
theorem cnt_hit (X : MS) (gt at_ ln : Nat) : hit0 (cntM u many all X) gt at_ ln = cntM u many all (hit0 X gt at_ ln) := by
  have e3 := cnt_2 X u many all (j := 3) (by decide)
  have e4 := cnt_2 X u many all (j := 4) (by decide)
  have e15 := cnt_1 X u many all (k := 15) (by decide) (by decide) (by decide)
  have e19 := cnt_1 X u many all (k := 19) (by decide) (by decide) (by decide)
  have e20 := cnt_1 X u many all (k := 20) (by decide) (by decide) (by decide)
  unfold hit0 stV4
  rw [e3, e4, e15, e19, e20, cnt_mA _ (by decide), cnt_mA _ (by decide), cnt_mI _ (by decide) (by decide) (by decide), cnt_mI _ (by decide) (by decide) (by decide)]
theorem cnt_tm (X : MS) (gt at_ ln : Nat) : tmV (cntM u many all X) gt at_ ln = tmV X gt at_ ln := by
  have e3 := cnt_2 X u many all (j := 3) (by decide)
  have e4 := cnt_2 X u many all (j := 4) (by decide)
  have e15 := cnt_1 X u many all (k := 15) (by decide) (by decide) (by decide)
  unfold tmV stV4
  rw [e3, e4, e15]
theorem hit0_25 (X : MS) (gt at_ ln : Nat) : (hit0 X gt at_ ln).2.1 25 = X.2.1 25 := rfl
theorem CO.ca {S1 S2 : Nat → Bool} (h : CO V co Bk b1 b2 S1 S2) (hi : IV V V') (hf : ∀ d, ¬ caC d → xi V' d = xi V d) : CO V' co Bk b1 b2 S1 S2 := by
  obtain ⟨h1, h2, h3, h4, h5, h6, h7⟩ := h
  have ew : xw V' = xw V := by show V'.2.2.2.1 = V.2.2.2.1; rw [hi.2.1.2]
  have e601 : xi V' 601 = xi V 601 := hf 601 (by unfold caC; omega)
  have bs : ∀ {b m : Nat} {S : Nat → Bool}, BS V b m S → BS V' b m S := by
    intro b m S hb
    obtain ⟨q1, q2, ⟨x, x1, x2, x3⟩, ⟨u, u1, u2, u3⟩, q5⟩ := hb
    exact ⟨by rw [kdV, hi.1]; exact q1, q2, ⟨x, by rw [hi.2.1.1]; exact x1, by rw [hi.eq]; exact x2, by rw [hi.eq]; exact x3⟩, ⟨u, u1, by rw [e601]; exact u2, by rw [ew]; exact u3⟩, by rw [ew]; exact q5⟩
  exact ⟨by rw [kdV, hi.1]; exact h1, by rw [hf 403 (by unfold caC; omega)]; exact h2, by rw [hi.2.1.1]; exact h3, by rw [hi.2.1.1]; exact h4, h5, bs h6, bs h7⟩
set_option maxHeartbeats 1000000 in
theorem e4_askGlobal (h : St nC nS A V) {s a j : Nat} (cp : CP V E ad (cntM u many all (tgC M s a (P 9) j).2.2) P) (hi : GlI V ad co Bk b1 b2 u many all M s a (P 9) j) (hok : okQ M s a 4096) (hj : j < 32) (h27 : ¬ M.2.1 27 j = 0) (hG : 1 ≤ P 9) : Res (fX4_askGlobal co (nI (askN M s a j)) (some (P 5)) (M.1 15) A) (fun A' => ∃ V', St nC nS A' V' ∧ IB V V' ∧ GlI V' ad co Bk b1 b2 u many all M s a (P 9) (j + 1)) := by
  obtain ⟨hco, h406, h407, h454, hcx⟩ := hi
  obtain ⟨q1, q2⟩ := hok j hj h27
  have hag := ag_us hok (by omega) hj h27
  have hlg := lg_ln hok (by omega) hj h27
  have hf := tgC_frm M s a (P 9) j
  have e27 := hf.a 27
  have elg := lgB_fm (hf.a 13) (hf.f 57) e27 s a j
  have eaN := askN_fm (hf.a 13) (hf.f 57) s a j
  have eag := agB_fm (hf.a 13) (hf.f 57) e27 s a j
  have e15 : (tgC M s a (P 9) j).2.2.1 15 = M.1 15 := hf.f 15
  have hqv : ∀ i, i < 32 → ¬ M.2.1 27 i = 0 → askN M s a i < 4096 := fun i h1 h2 => (hok i h1 h2).2
  have eus : usB M s a (j + 1) = fun q' => usB M s a j q' || decide (q' = askN M s a j) := by
    rw [us_s]
    funext q'
    refine congrArg (fun z => usB M s a j q' || z) ?_
    by_cases e : q' = askN M s a j
    · rw [decide_eq_true e, decide_eq_true ⟨h27, e.symm⟩]
    · rw [decide_eq_false e, decide_eq_false (fun z => e z.2.symm)]
  have eln : lnB M s a (j + 1) = fun q' => lnB M s a j q' || decide (q' = askN M s a j / 8) := by
    rw [ln_s]
    funext q'
    refine congrArg (fun z => lnB M s a j q' || z) ?_
    by_cases e : q' = askN M s a j / 8
    · rw [decide_eq_true e, decide_eq_true ⟨h27, e.symm⟩]
    · rw [decide_eq_false e, decide_eq_false (fun z => e z.2.symm)]
  have ecn : nI (cnB (agF M s a) (j + 1)) = nI (cnB (agF M s a) j) + b2i (agB M s a j = true) := by
    rw [cnB_s]
    unfold agF
    rw [decide_eq_true h27, Bool.true_and]
    by_cases c : agB M s a j = true
    · rw [if_pos c, b2i_t c, nI_1]
    · rw [if_neg c, b2i_f c, Int32.add_zero]
      rfl
  have hd8 : nI (askN M s a j) / 8 = nI (askN M s a j / 8) := pk_div (d := 8) (by omega) (by omega) (by omega)
  unfold fX4_askGlobal
  refine Res.b ((h.gi 6 (c := 4) hco.1 (by decide) rfl).trans (congrArg some h406)) (Res.b ((h.gr 0 (c := 4) hco.1 (by decide) rfl).trans (congrArg some hco.2.2.1)) (Res.b (h.rc hco.2.2.2.2.2.1.1) (Res.b (BS_get h hco.2.2.2.2.2.1 (by omega)) ?_)))
  rw [← hag]
  have main : Res ((pI A (some co) 4 6 (nI (cnB (agF M s a) (j + 1)))).bind fun A7 =>
      (gR A7 (some co) 4 0).bind fun v8 =>
      (rcv A7 v8 6).bind fun v9 =>
      (fJ17_set v9 (nI (askN M s a j)) A7).bind fun g10 =>
      (gR g10 (some co) 4 1).bind fun v11 =>
      (rcv g10 v11 6).bind fun v12 =>
      (fJ17_get v12 (nI (askN M s a j) / (8 : Int32)) g10).bind fun g13 =>
      if g13 = 0 then ((fJ17_set v12 (nI (askN M s a j) / (8 : Int32)) g10).bind fun g15 =>
      (gR g15 (some co) 4 4).bind fun v16 =>
      (rcv g15 (some (P 5)) 9).bind fun v17 =>
      (fX9_ask v17 (nI (askN M s a j) / (8 : Int32)) (M.1 15) g15).bind fun g18 =>
      (sI g18.2 v16 (nI (askN M s a j) / (8 : Int32)) g18.1).bind fun A19 =>
      (gI A19 (some co) 4 7).bind fun v20 =>
      (gR A19 (some co) 4 4).bind fun v21 =>
      (aI A19 v21 (nI (askN M s a j) / (8 : Int32))).bind fun v22 =>
      (pI A19 (some co) 4 7 (if v20 < v22 then v22 else v20)).bind fun A23 =>
      some A23) else
      some g10) (fun A' => ∃ V', St nC nS A' V' ∧ IB V V' ∧ GlI V' ad co Bk b1 b2 u many all M s a (P 9) (j + 1)) := by
    rw [hd8]
    obtain ⟨A7, e7, s7⟩ := h.pi 6 (nI (cnB (agF M s a) (j + 1))) (c := 4) hco.1 (by decide) rfl
    have co7 : CO (vI' V 406 co 0 (nI (cnB (agF M s a) (j + 1)))) co Bk b1 b2 (usB M s a j) (lnB M s a j) := hco.vI (by decide)
    refine Res.b e7 (Res.b ((s7.gr 0 (c := 4) co7.1 (by decide) rfl).trans (congrArg some co7.2.2.1)) (Res.b (s7.rc co7.2.2.2.2.2.1.1) (Res.w (BS_set s7 co7.2.2.2.2.2.1 (q := askN M s a j) (by omega)) ?_)))
    rintro A10 ⟨V10, s10, f10, d10⟩
    have co10 := co7.b1' f10 d10
    rw [← eus] at co10
    have i10 : IB V V10 := (IV.vS (show scr 406 by unfold scr; omega)).b.tr f10.1
    have c10 : CX V10 ad (cntM u many all (tgC M s a (P 9) j).2.2) := (hcx.vIo (cd_scr (by unfold scr; omega))).bf f10
    have r10 : ∀ d, d ≠ 601 → d ≠ 406 → xi V10 d = xi V d := fun d h6 h4 => by
      rw [f10.2.1 d h6]
      funext a' i'
      rw [vIi, if_neg (fun z => h4 z.1)]
    have r406 : xi V10 406 co 0 = nI (cnB (agF M s a) (j + 1)) := by
      rw [f10.2.1 406 (by decide), vIi, if_pos ⟨rfl, rfl, rfl⟩]
    refine Res.b ((s10.gr 1 (c := 4) co10.1 (by decide) rfl).trans (congrArg some co10.2.2.2.1)) (Res.b (s10.rc co10.2.2.2.2.2.2.1) (Res.b (BS_get s10 co10.2.2.2.2.2.2 (q := askN M s a j / 8) (by omega)) ?_))
    rw [← hlg]
    by_cases cl : lgB M s a j = true
    · rw [if_neg (by rw [b2i_0]; exact not_not_intro cl)]
      have e : tgC M s a (P 9) (j + 1) = ((tgC M s a (P 9) j).1, (tgC M s a (P 9) j).2.1 + (if (53 < (tgC M s a (P 9) j).2.2.1 52 ∧ agB (tgC M s a (P 9) j).2.2 s a j = true) then 1 else 0), iter (cpyS s a j) 0 j (tgC M s a (P 9) j).2.2) := by
        rw [tgC_s]
        unfold tgS
        rw [e27, if_neg h27, elg, if_pos cl]
      have hline : ∀ k, k < 32 → ¬ M.2.1 27 k = 0 → (askV (tgC M s a (P 9) j).2.2 s a k / 8 = askV (tgC M s a (P 9) j).2.2 s a j / 8 ↔ askN M s a k / 8 = askN M s a j / 8) := by
        intro k hk hk2
        rw [ask_fm (hf.a 13) (hf.f 57), ask_fm (hf.a 13) (hf.f 57), q1, (hok k hk hk2).1, hd8, show nI (askN M s a k) / 8 = nI (askN M s a k / 8) from pk_div (d := 8) (by have := hqv k hk hk2; omega) (by omega) (by omega)]
        exact nI_eq (by have := hqv k hk hk2; omega) (by omega)
      obtain ⟨p1, p2, p3⟩ := cpy_25 (s := s) (a := a) (i := j) (T := xi V 454 co (askN M s a j / 8)) (tgC M s a (P 9) j).2.2 (fun k hk hk2 hk3 => by
        rw [e27] at hk2
        rw [← h454 k hk hk2, (hline k (by omega) hk2).mp hk3]) j (Nat.le_refl _)
      refine Res.r ⟨V10, s10, i10, ?_⟩
      have elnk : lnB M s a (j + 1) = lnB M s a j := by
        rw [eln]
        funext q'
        by_cases eq : q' = askN M s a j / 8
        · rw [eq, ← hlg, cl, Bool.true_or]
        · rw [decide_eq_false eq, Bool.or_false]
      refine ⟨by rw [elnk]; exact co10, r406, ?_, fun i hi hi2 => ?_, ?_⟩
      · rw [e, r10 407 (by decide) (by decide)]
        exact h407
      · rw [e, r10 454 (by decide) (by decide)]
        show _ = (iter (cpyS s a j) 0 j (tgC M s a (P 9) j).2.2).2.1 25 i
        by_cases ei : i = j
        · subst ei
          obtain ⟨k, hk, hk2⟩ := (anyF_ex i).mp cl
          have hk2 := of_decide_eq_true hk2
          rw [p3 ⟨k, hk, by rw [e27]; exact hk2.1, by rw [ask_fm (hf.a 13) (hf.f 57), ask_fm (hf.a 13) (hf.f 57)]; exact hk2.2⟩]
        · rw [p2 i ei]
          exact h454 i (by omega) hi2
      · rw [e]
        exact cnt_c c10 p1
    · rw [if_pos (by rw [b2i_0]; exact cl)]
      have hlnF : lnB M s a j (askN M s a j / 8) = false := by
        rw [← hlg]
        cases hh : lgB M s a j with
        | false => rfl
        | true => exact absurd hh cl
      have hne : ∀ i, i < j → ¬ M.2.1 27 i = 0 → askN M s a i / 8 ≠ askN M s a j / 8 := by
        intro i hi hi2 he
        have : lnB M s a j (askN M s a j / 8) = true := (anyF_ex j).mpr ⟨i, hi, decide_eq_true ⟨hi2, he⟩⟩
        rw [hlnF] at this
        cases this
      refine Res.w (BS_set s10 co10.2.2.2.2.2.2 (q := askN M s a j / 8) (by omega)) ?_
      rintro A15 ⟨V15, s15, f15, d15⟩
      have co15 := co10.b2' f15 d15
      rw [← eln] at co15
      have i15 := i10.tr f15.1
      have c15 := c10.bf f15
      have cp15 := cp.nxb i15 c15 ⟨rfl, rfl, rfl, rfl, rfl⟩
      obtain ⟨yt, yt1, yt2, yt3⟩ := ((cp.2.2.1.iob i15).cow co15.1).2
      have yt3 : xn V15 404 co = 512 := yt3
      have hca : kdV V15 (P 5) = 10 := cp15.2.2.2.kk cp15.2.2.2.2.2.1.1.2.2.2.2.2
      have ecy : (cntM u many all (tgC M s a (P 9) j).2.2).1 15 = M.1 15 := by rw [cnt_1 _ _ _ _ (by decide) (by decide) (by decide)]; exact e15
      have hask := e9_ask s15 cp15 (ln := askN M s a j / 8) (by omega) hG
      rw [ecy, cnt_tm, cnt_hit] at hask
      refine Res.b ((s15.gr 4 (c := 4) co15.1 (by decide) rfl).trans (congrArg some yt1)) (Res.b (s15.rc hca) (Res.w hask ?_))
      rintro ⟨r1, A18⟩ ⟨hr1, V18, s18, i18, c18, g18⟩
      have hr1 : r1 = _ := hr1
      generalize htm : tmV (tgC M s a (P 9) j).2.2 (askN M s a j / 8 % P 9) (4 * (askN M s a j / 8 % P 9) + askN M s a j / 8 / P 9 % 4) (askN M s a j / 8) = tm at *
      subst hr1
      have co18 := co15.ca i18 g18
      have yt1' : xr V18 404 co 0 = some yt := by rw [i18.2.1.1]; exact yt1
      have yt2' : fr V18 yt = none := by rw [i18.eq]; exact yt2
      have yt3' : xn V18 404 co = 512 := by rw [i18.eq]; exact yt3
      obtain ⟨A19, e19, s19⟩ := s18.si (askN M s a j / 8) r1 (c := 4) (k := 4) co18.1 rfl yt1' yt2' (by show _ < xn V18 404 co; omega) (by omega)
      have co19 : CO (vI' V18 454 co (askN M s a j / 8) r1) co Bk b1 b2 (usB M s a (j + 1)) (lnB M s a (j + 1)) := co18.vI (by decide)
      have r18 : ∀ d, d = 406 ∨ d = 407 ∨ d = 454 → xi V18 d = xi V10 d := fun d hd => by
        rw [g18 d (by unfold caC; omega), f15.2.1 d (by omega)]
      have r407 : xi (vI' V18 454 co (askN M s a j / 8) r1) 407 co 0 = (tgC M s a (P 9) j).1 := by
        rw [vIi, if_neg (fun z => absurd z.1 (by decide)), r18 407 (by omega), r10 407 (by decide) (by decide)]
        exact h407
      refine Res.b e19 (Res.b ((s19.gi 7 (c := 4) co19.1 (by decide) rfl).trans (congrArg some r407)) (Res.b ((s19.gr 4 (c := 4) co19.1 (by decide) rfl).trans (congrArg some yt1')) (Res.b ((s19.ai (askN M s a j / 8) (c := 4) (k := 4) co19.1 rfl yt1' yt2' (by show _ < xn V18 404 co; omega) (by omega)).trans (congrArg some (show xi (vI' V18 454 co (askN M s a j / 8) r1) 454 co (askN M s a j / 8) = r1 by rw [vIi, if_pos ⟨rfl, rfl, rfl⟩]))) ?_)))
      obtain ⟨A23, e23, s23⟩ := s19.pi 7 (if (tgC M s a (P 9) j).1 < r1 then r1 else (tgC M s a (P 9) j).1) (c := 4) co19.1 (by decide) rfl
      have e : tgC M s a (P 9) (j + 1) = ((if r1 ≤ (tgC M s a (P 9) j).1 then (tgC M s a (P 9) j).1 else r1), (tgC M s a (P 9) j).2.1 + (if (53 < (tgC M s a (P 9) j).2.2.1 52 ∧ agB (tgC M s a (P 9) j).2.2 s a j = true) then 1 else 0), mA (hit0 (tgC M s a (P 9) j).2.2 (askN M s a j / 8 % P 9) (4 * (askN M s a j / 8 % P 9) + askN M s a j / 8 / P 9 % 4) (askN M s a j / 8)) 25 j r1) := by
        rw [tgC_s]
        unfold tgS
        rw [e27, if_neg h27, elg, if_neg cl, eaN]
        simp only [hitM_0, htm]
        have e25 : (mA (hit0 (tgC M s a (P 9) j).2.2 (askN M s a j / 8 % P 9) (4 * (askN M s a j / 8 % P 9) + askN M s a j / 8 / P 9 % 4) (askN M s a j / 8)) 25 j r1).2.1 25 j = r1 := by
          rw [mA_a, if_pos rfl]
          exact if_pos rfl
        rw [e25]
      refine Res.b e23 (Res.r ⟨_, s23, (i15.tr i18.b).tr ((IV.vS (by unfold scr; omega)).tr (IV.vS (by unfold scr; omega))).b, co19.vI (by decide), ?_, ?_, fun i hi hi2 => ?_, ?_⟩)
      · show xi (vI' (vI' V18 454 co (askN M s a j / 8) r1) 407 co 0 _) 406 co 0 = _
        rw [vIi, if_neg (fun z => absurd z.1 (by decide)), vIi, if_neg (fun z => absurd z.1 (by decide)), r18 406 (by omega)]
        exact r406
      · show xi (vI' (vI' V18 454 co (askN M s a j / 8) r1) 407 co 0 _) 407 co 0 = _
        rw [vIi, if_pos ⟨rfl, rfl, rfl⟩, e]
        show _ = (if r1 ≤ (tgC M s a (P 9) j).1 then (tgC M s a (P 9) j).1 else r1)
        by_cases c : (tgC M s a (P 9) j).1 < r1
        · rw [if_pos c, if_neg (Int32.not_le.mpr c)]
        · rw [if_neg c, if_pos (Int32.not_lt.mp c)]
      · rw [e]
        show xi (vI' (vI' V18 454 co (askN M s a j / 8) r1) 407 co 0 _) 454 co _ = (mA _ 25 j r1).2.1 25 i
        rw [vIi, if_neg (fun z => absurd z.1 (by decide)), vIi, mA_a, if_pos rfl]
        by_cases ei : i = j
        · subst ei
          rw [if_pos ⟨rfl, rfl, rfl⟩]
          exact (if_pos rfl).symm
        · rw [if_neg (fun z => hne i (by omega) hi2 z.2.2), r18 454 (by omega), r10 454 (by decide) (by decide), h454 i (by omega) hi2]
          exact (if_neg ei).symm
      · rw [e]
        show CX _ ad (cntM u many all (mA (hit0 _ _ _ _) 25 j r1))
        refine cnt_c ((c18.w454).vIo (cd_scr (by unfold scr; omega))) (frm.rf.mA (by decide))
  rw [jn_eq]
  by_cases cg : agB M s a j = true
  · rw [if_neg (by rw [b2i_0]; exact not_not_intro cg)]
    rw [b2i_t cg] at ecn
    rw [ecn] at main
    exact main
  · rw [if_pos (by rw [b2i_0]; exact cg)]
    rw [b2i_f cg] at ecn
    rw [ecn] at main
    exact main
end C28
