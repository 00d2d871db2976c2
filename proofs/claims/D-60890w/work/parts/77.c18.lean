/-! C18: act, but for what is asked of the global memory and votes -/
section C18
variable {nC nS n : Nat} {A : AH} {V V' : CW} {E : EL} {ad : AA} {M : MS} {P : PP} {x : Nat}
theorem op_dec {o : Nat} (h : 30 ≤ o ∧ o ≤ 36) (ho : M.1 52 = nI o) : M.1 52 = 30 ∨ M.1 52 = 31 ∨ M.1 52 = 32 ∨ M.1 52 = 33 ∨ M.1 52 = 34 ∨ M.1 52 = 35 ∨ M.1 52 = 36 := by
  have : o = 30 ∨ o = 31 ∨ o = 32 ∨ o = 33 ∨ o = 34 ∨ o = 35 ∨ o = 36 := by omega
  rcases this with e | e | e | e | e | e | e <;> (subst e; rw [ho]; decide)
theorem op_rck {o : Nat} (h : 4 ≤ o ∧ o ≤ 17) (ho : M.1 52 = nI o) : M.1 52 = 4 ∨ M.1 52 = 5 ∨ M.1 52 = 6 ∨ M.1 52 = 7 ∨ M.1 52 = 8 ∨ M.1 52 = 9 ∨ M.1 52 = 10 ∨ M.1 52 = 11 ∨ M.1 52 = 12 ∨ M.1 52 = 13 ∨ M.1 52 = 14 ∨ M.1 52 = 15 ∨ M.1 52 = 16 ∨ M.1 52 = 17 := by
  have : o = 4 ∨ o = 5 ∨ o = 6 ∨ o = 7 ∨ o = 8 ∨ o = 9 ∨ o = 10 ∨ o = 11 ∨ o = 12 ∨ o = 13 ∨ o = 14 ∨ o = 15 ∨ o = 16 ∨ o = 17 := by omega
  rcases this with e | e | e | e | e | e | e | e | e | e | e | e | e | e <;> (subst e; rw [ho]; decide)
theorem z_rck {s i d a b p bk q o : Nat} {old : Int32} (e : M.1 52 = 4 ∨ M.1 52 = 5 ∨ M.1 52 = 6 ∨ M.1 52 = 7 ∨ M.1 52 = 8 ∨ M.1 52 = 9 ∨ M.1 52 = 10 ∨ M.1 52 = 11 ∨ M.1 52 = 12 ∨ M.1 52 = 13 ∨ M.1 52 = 14 ∨ M.1 52 = 15 ∨ M.1 52 = 16 ∨ M.1 52 = 17 ∨ M.1 52 = 18 ∨ M.1 52 = 19 ∨ M.1 52 = 20 ∨ M.1 52 = 21) : z_act M s i old d a b p bk q o = mA M 13 (16 * (32 * s + i) + d) (rckV M (rgV M (32 * s + i) a) (rgV M (32 * s + i) b) (32 * s + i)) := by
  unfold z_act
  rcases e with e | e | e | e | e | e | e | e | e | e | e | e | e | e | e | e | e | e <;> simp (decide := true) only [e, if_true, if_false]
/-- what a block's shared memory holds -/
theorem CP.sm (cp : CP V E ad M P) (h : St nC nS A V) {bk b : Nat} (hb : ad 12 bk = some b) : ∃ y, gR A (some b) 12 1 = some (some y) ∧ (∀ q, q < 64 → aI A (some y) (nI q) = some (M.2.1 18 (64 * bk + q))) ∧ ∀ q v, q < 64 → ∃ A', sI A (some y) (nI q) v = some A' ∧ Nx nC nS V ad (mA M 18 (64 * bk + q) v) A' := by
  have hk := cp.2.2.2.kk hb
  obtain ⟨y, y1, y2, y3⟩ := cp.2.2.1.1 b 12 1 hk (by decide)
  refine ⟨y, (h.gr 1 (c := 12) hk (by decide) rfl).trans (congrArg some y1), fun q hq => ?_, fun q v hq => ?_⟩
  · exact (h.ai q (c := 12) (k := 1) hk rfl y1 y2 (by rw [y3]; exact hq) (by omega)).trans (congrArg some (cp.1 1251 bk q b (Or.inl (by decide)) hq hb))
  · obtain ⟨A', e, s⟩ := h.si q v (c := 12) (k := 1) hk rfl y1 y2 (by rw [y3]; exact hq) (by omega)
    exact ⟨A', e, _, s, IV.vI (Or.inl (by decide)), cp.1.setA (d := 1251) (k := bk) (i := q) cp.2.2.2.1 v (by decide) hq hb⟩
set_option maxHeartbeats 4000000 in
theorem e7_actA (h : St nC nS A V) (cp : CP V E ad M P) (hx : WM V x M) {s w i l d a b p bk q o op : Nat} (old : Int32) (hw : ad 13 s = some w) (hl : ad 14 (32 * s + i) = some l) (hi : i < 32) (h53 : M.1 53 = nI d) (h54 : M.1 54 = nI a) (h55 : M.1 55 = nI b) (hd : d < 16) (ha : a < 16) (hb : b < 16) (hop : M.1 52 = nI op) (hop2 : op < 256)
    (hold : old + 1 = M.2.1 15 (32 * s + i)) (hdv : (M.1 52 = 7 ∨ M.1 52 = 8) → ¬ rgV M (32 * s + i) b = 0) (hbk : M.2.1 9 s = nI bk) (hbk2 : bk < 64) (hsh : shP M → askV M s a i = nI q ∧ q < 64) (hwd : wrdP M) (hnm : ¬ (memP M ∧ ¬ shP M)) (hnv : ¬ 69 < M.1 52) : Res (fX7_act n (P 1) (some w) (nI i) (some x) A) (Nx nC nS V ad (z_act M s i old d a b p bk q o)) := by
  obtain ⟨y, gy, ry, wy⟩ := cp.rg h hl
  obtain ⟨z, gz, rz, wz⟩ := cp.pd h hl
  obtain ⟨bk', bb, q1, q2, q3, q4⟩ := cp.2.2.2.bl hw
  have hbb : bk' = bk := (nI_eq (by omega) (by omega)).mp (q2.symm.trans hbk)
  subst hbb
  have hwk := cp.2.2.2.kk hw
  have hlk := cp.2.2.2.kk hl
  obtain ⟨ll, cap, hxl, hli⟩ := cp.2.2.1.wl cp.2.1 hwk
  have hlt : (lt V E 13 2 w)[i]? = some l := by rw [(cp.2.2.2.2.2.2.2.2.1.1 s w hw).2.2 i hi]; exact hl
  unfold fX7_act
  refine Res.b ((h.gr 2 (c := 13) hwk (by decide) rfl).trans (congrArg some hxl)) (Res.b (h.rc hli.1) (Res.b (L_get h hli hlt) (Res.b (h.cs hlk) (Res.b gy (Res.b (wg6 h hx) ?_)))))
  rw [jn_eq]
  simp only [sa_eq h hx.2.1 (srt_lt M) (show 5 < 8 by omega), sa_eq h hx.2.1 (srt_lt M) (show 6 < 8 by omega)]
  by_cases cs : shP M
  · have c5 : srt M = 5 := (srtS M).mpr cs
    obtain ⟨hq1, hq2⟩ := hsh cs
    rw [if_pos c5]
    obtain ⟨ys, gs, rs, ws⟩ := cp.sm h q3
    have had := e7_address h hx (cp.2.2.2.ln cp.1 cp.2.2.1 hl) h54 ha
    have e0 : rgV M (32 * s + i) a + M.1 57 = nI q := hq1
    rw [e0] at had
    refine Res.b had (Res.b ((h.gr 0 (c := 13) hwk (by decide) rfl).trans (congrArg some q4)) (Res.b gs (Res.b (rs q hq2) (Res.b (wg0 h hx) (Res.b ((wg3 h hx).trans (congrArg some h55)) (Res.b (ry b hb) (Res.b (e7_left _ _ _ _ _) ?_)))))))
    obtain ⟨A1, e1, V1, s1, i1, c1⟩ := ws q (lftV (M.1 52) (M.2.1 18 (64 * bk' + q)) (rgV M (32 * s + i) b) 0) hq2
    refine Res.b e1 ?_
    have cp1 := cp.nx i1 c1 (fm_m (by decide) (by decide))
    have hx1 : WM V1 x (mA M 18 (64 * bk' + q) (lftV (M.1 52) (M.2.1 18 (64 * bk' + q)) (rgV M (32 * s + i) b) 0)) := (hx.io i1).fm (fun _ _ _ => rfl)
    refine Res.b (s1.rc (c := 5) hx1.1) (Res.b (e5_writes s1 hx1) ?_)
    have hz : z_act M s i old d a b p bk' q o = z_touch M (16 * (32 * s + i) + d) (64 * bk' + q) (rgV M (32 * s + i) b) := by
      unfold z_act
      have hns : ¬ (memP M ∧ ¬ shP M) := hnm
      rw [if_neg hns]
      rcases cs with e | e | e | e <;> simp (decide := true) only [e, if_true, if_false]
    have hwr : wrD (mA M 18 (64 * bk' + q) (lftV (M.1 52) (M.2.1 18 (64 * bk' + q)) (rgV M (32 * s + i) b) 0)) ↔ ¬ M.1 52 = 53 := by
      show wrD M ↔ _
      rcases cs with e | e | e | e <;> (unfold wrD; rw [e]; decide)
    rw [jn_eq, hz]
    unfold z_touch
    by_cases c53 : M.1 52 = 53
    · rw [if_pos (by rw [b2i_0]; exact fun z => (hwr.mp z) c53), if_pos c53]
      exact Res.r ⟨V1, s1, i1, c1⟩
    · rw [if_neg (by rw [b2i_0]; exact not_not_intro (hwr.mpr c53)), if_neg c53]
      refine Res.b ((wg1 s1 hx1).trans (congrArg some h53)) ?_
      obtain ⟨y', gy', _, wy'⟩ := cp1.rg s1 hl
      have ey : y' = y := by
        have hg0 : gR A1 (some l) 14 0 = some (some y) := by
          rw [s1.gr 0 (c := 14) (cp1.2.2.2.kk hl) (by decide) rfl]
          rw [h.gr 0 (c := 14) hlk (by decide) rfl] at gy
          have : xr V1 = xr V := by rw [i1.eq]
          rw [this]
          exact gy
        exact Option.some.inj (Option.some.inj (gy'.symm.trans hg0))
      subst ey
      obtain ⟨A2, e2, V2, s2, i2, c2⟩ := wy' d (M.2.1 18 (64 * bk' + q)) hd
      refine Res.b e2 (Res.r ⟨V2, s2, i1.tr i2, ?_⟩)
      rw [mA_comm _ _ _ _ _ (show (18 : Nat) ≠ 13 by decide)] at c2
      exact c2
  · have c5 : ¬ srt M = 5 := fun z => cs ((srtS M).mp z)
    have hnmm : ¬ memP M := fun z => hnm ⟨z, cs⟩
    have c6 : ¬ srt M = 6 := fun z => hnmm ((srtM M).mp (Or.inr z))
    rw [if_neg c5, if_neg c6]
    refine Res.b (h.rc (c := 5) hx.1) (Res.b (e5_decides h hx) ?_)
    have hops := wrd_ops hwd hnmm hnv hop hop2
    by_cases cd : 30 ≤ op ∧ op ≤ 36
    · rw [if_neg (by rw [b2i_0]; exact not_not_intro ((wrP_n hop hop2).mpr (Or.inl cd)))]
      have hdec := op_dec cd hop
      refine Res.b gz (Res.b (wg1 h hx) (Res.b (e7_isSo h cp hx hl h54 h55 ha hb hdec) ?_))
      rw [and3]
      have hv01 : (if 33 < M.1 52 then prdI M (32 * s + i) else cmpI M (rgV M (32 * s + i) a) (rgV M (32 * s + i) b)) = 0 ∨ (if 33 < M.1 52 then prdI M (32 * s + i) else cmpI M (rgV M (32 * s + i) a) (rgV M (32 * s + i) b)) = 1 := by
        unfold prdI cmpI
        repeat' split
        all_goals first | exact Or.inl rfl | exact Or.inr rfl
      obtain ⟨A1, e1, n1⟩ := wz _ hv01
      refine Res.b e1 (Res.r ?_)
      have hz : z_act M s i old d a b p bk' q o = z_say M (32 * s + i) (if 33 < M.1 52 then prdI M (32 * s + i) else cmpI M (rgV M (32 * s + i) a) (rgV M (32 * s + i) b)) := by
        unfold z_act
        rcases hdec with e | e | e | e | e | e | e <;> simp (decide := true) only [e, if_true, if_false]
      rw [hz]
      exact n1
    · have hnd : ¬ wrP M := fun z => by
        rcases (wrP_n hop hop2).mp z with e | e | e <;> omega
      rw [if_pos (by rw [b2i_0]; exact hnd)]
      refine Res.b (wg0 h hx) ?_
      rw [jn_eq]
      have hcase : op = 0 ∨ op = 1 ∨ op = 2 ∨ op = 3 ∨ (4 ≤ op ∧ op ≤ 17) ∨ op = 18 ∨ op = 19 ∨ op = 20 ∨ op = 21 ∨ op = 40 ∨ op = 41 ∨ op = 42 := by omega
      rcases hcase with e | e | e | e | e | e | e | e | e | e | e | e
      · have e : M.1 52 = 0 := by rw [hop, e]; rfl
        simp (decide := true) only [e, if_true, if_false]
        obtain ⟨A1, e1, n1⟩ := (cp.lf h hl 3 (by omega)).2 1
        refine Res.b e1 (Res.r ?_)
        unfold z_act
        simp (decide := true) only [e, if_true, if_false]
        exact n1
      · have e : M.1 52 = 1 := by rw [hop, e]; rfl
        simp (decide := true) only [e, if_true, if_false]
        obtain ⟨A1, e1, n1⟩ := (cp.lf h hl 4 (by omega)).2 1
        refine Res.b e1 (Res.r ?_)
        unfold z_act
        simp (decide := true) only [e, if_true, if_false]
        exact n1
      · have e : M.1 52 = 2 := by rw [hop, e]; rfl
        simp (decide := true) only [e, if_true, if_false]
        obtain ⟨A1, e1, n1⟩ := wy d (M.1 57) hd
        refine Res.b ((wg1 h hx).trans (congrArg some h53)) (Res.b (wg5 h hx) (Res.b e1 (Res.r ?_)))
        unfold z_act
        simp (decide := true) only [e, if_true, if_false]
        exact n1
      · have e : M.1 52 = 3 := by rw [hop, e]; rfl
        simp (decide := true) only [e, if_true, if_false]
        obtain ⟨A1, e1, n1⟩ := wy d (toldV M s i) hd
        refine Res.b ((wg1 h hx).trans (congrArg some h53)) (Res.b (wg5 h hx) (Res.b (h.rc cp.2.2.2.mm.2) (Res.b (e7_special h cp hw) (Res.b e1 (Res.r ?_)))))
        unfold z_act
        simp (decide := true) only [e, if_true, if_false]
        exact n1
      · have er := op_rck e hop
        have hne : ∀ k : Nat, k < 256 → ¬ (4 ≤ k ∧ k ≤ 17) → ¬ M.1 52 = nI k := fun k hk hk2 z => by
          have := (nI_eq (by omega) (by omega)).mp (hop.symm.trans z)
          omega
        rw [if_neg (show ¬ M.1 52 = 0 from hne 0 (by omega) (by omega)), if_neg (show ¬ M.1 52 = 1 from hne 1 (by omega) (by omega)), if_neg (show ¬ M.1 52 = 2 from hne 2 (by omega) (by omega)), if_neg (show ¬ M.1 52 = 3 from hne 3 (by omega) (by omega)), if_neg (show ¬ M.1 52 = 18 from hne 18 (by omega) (by omega)), if_neg (show ¬ M.1 52 = 19 from hne 19 (by omega) (by omega)), if_neg (show ¬ M.1 52 = 20 from hne 20 (by omega) (by omega)), if_neg (show ¬ M.1 52 = 21 from hne 21 (by omega) (by omega)), if_neg (show ¬ M.1 52 = 40 from hne 40 (by omega) (by omega)), if_neg (show ¬ M.1 52 = 41 from hne 41 (by omega) (by omega)), if_neg (show ¬ M.1 52 = 42 from hne 42 (by omega) (by omega))]
        simp only [ite_self]
        obtain ⟨A1, e1, n1⟩ := wy d (rckV M (rgV M (32 * s + i) a) (rgV M (32 * s + i) b) (32 * s + i)) hd
        refine Res.b ((wg1 h hx).trans (congrArg some h53)) (Res.b ((wg2 h hx).trans (congrArg some h54)) (Res.b (ry a ha) (Res.b ((wg3 h hx).trans (congrArg some h55)) (Res.b (ry b hb) (Res.b (e7_reckoned _ _ (32 * s + i) _ er hdv) (Res.b e1 (Res.r ?_)))))))
        rw [z_rck (by rcases er with e | e | e | e | e | e | e | e | e | e | e | e | e | e <;> simp [e])]
        exact n1
      · have e : M.1 52 = 18 := by rw [hop, e]; rfl
        rw [z_rck (by simp [e])]
        unfold rckV
        simp (decide := true) only [e, if_true, if_false]
        obtain ⟨A1, e1, n1⟩ := wy d (rgV M (32 * s + i) a + M.1 57) hd
        exact Res.b ((wg1 h hx).trans (congrArg some h53)) (Res.b ((wg2 h hx).trans (congrArg some h54)) (Res.b (ry a ha) (Res.b (wg5 h hx) (Res.b e1 (Res.r n1)))))
      · have e : M.1 52 = 19 := by rw [hop, e]; rfl
        rw [z_rck (by simp [e])]
        unfold rckV
        simp (decide := true) only [e, if_true, if_false]
        obtain ⟨A1, e1, n1⟩ := wy d (rgV M (32 * s + i) a * M.1 57) hd
        exact Res.b ((wg1 h hx).trans (congrArg some h53)) (Res.b ((wg2 h hx).trans (congrArg some h54)) (Res.b (ry a ha) (Res.b (wg5 h hx) (Res.b e1 (Res.r n1)))))
      · have e : M.1 52 = 20 := by rw [hop, e]; rfl
        rw [z_rck (by simp [e])]
        unfold rckV
        simp (decide := true) only [e, if_true, if_false]
        obtain ⟨A1, e1, n1⟩ := wy d (rgV M (32 * s + i) a &&& M.1 57) hd
        exact Res.b ((wg1 h hx).trans (congrArg some h53)) (Res.b ((wg2 h hx).trans (congrArg some h54)) (Res.b (ry a ha) (Res.b (wg5 h hx) (Res.b e1 (Res.r n1)))))
      · have e : M.1 52 = 21 := by rw [hop, e]; rfl
        rw [z_rck (by simp [e])]
        unfold rckV
        simp (decide := true) only [e, if_true, if_false]
        refine Res.b ((wg1 h hx).trans (congrArg some h53)) (Res.b gz (Res.b (wg5 h hx) ?_))
        rw [and3]
        refine Res.b (rz _ (lo2_lt _)) ?_
        rw [jn_eq]
        by_cases cb : bitP (M.2.1 14 (32 * s + i)) (lo2 (M.1 57))
        · rw [if_neg (by rw [b2i_0]; exact not_not_intro cb), if_pos (show hasP M (32 * s + i) (M.1 57) from cb)]
          obtain ⟨A1, e1, n1⟩ := wy d (rgV M (32 * s + i) a) hd
          exact Res.b ((wg2 h hx).trans (congrArg some h54)) (Res.b (ry a ha) (Res.b e1 (Res.r n1)))
        · rw [if_pos (by rw [b2i_0]; exact cb), if_neg (show ¬ hasP M (32 * s + i) (M.1 57) from cb)]
          obtain ⟨A1, e1, n1⟩ := wy d (rgV M (32 * s + i) b) hd
          exact Res.b ((wg3 h hx).trans (congrArg some h55)) (Res.b (ry b hb) (Res.b e1 (Res.r n1)))
      · have e : M.1 52 = 40 := by rw [hop, e]; rfl
        simp (decide := true) only [e, if_true, if_false]
        obtain ⟨A1, e1, n1⟩ := (cp.lf h hl 2 (by omega)).2 (M.1 57)
        refine Res.b (wg5 h hx) (Res.b e1 (Res.r ?_))
        unfold z_act z_jump
        simp (decide := true) only [e, if_true, if_false]
        exact n1
      · have e : M.1 52 = 41 := by rw [hop, e]; rfl
        simp (decide := true) only [e, if_true, if_false]
        obtain ⟨A1, e1, V1, s1, i1, c1⟩ := wy d (M.2.1 15 (32 * s + i)) hd
        refine Res.b ((wg1 h hx).trans (congrArg some h53)) (Res.b (cp.lf h hl 2 (by omega)).1 (Res.b e1 ?_))
        have cp1 := cp.nx i1 c1 (fm_m (by decide) (by decide))
        have hx1 : WM V1 x (mA M 13 (16 * (32 * s + i) + d) (M.2.1 15 (32 * s + i))) := (hx.io i1).fm (fun _ _ _ => rfl)
        obtain ⟨A2, e2, V2, s2, i2, c2⟩ := (cp1.lf s1 hl 2 (by omega)).2 (M.1 57)
        refine Res.b (wg5 s1 hx1) (Res.b e2 (Res.r ⟨V2, s2, i1.tr i2, ?_⟩))
        unfold z_act z_jump
        simp (decide := true) only [e, if_true, if_false]
        rw [mA_comm _ _ _ _ _ (show (13 : Nat) ≠ 13 + 2 by decide)] at c2
        rw [hold]
        exact c2
      · have e : M.1 52 = 42 := by rw [hop, e]; rfl
        simp (decide := true) only [e, if_true, if_false]
        obtain ⟨A1, e1, n1⟩ := (cp.lf h hl 2 (by omega)).2 (rgV M (32 * s + i) a)
        refine Res.b ((wg2 h hx).trans (congrArg some h54)) (Res.b (ry a ha) (Res.b e1 (Res.r ?_)))
        unfold z_act z_jump
        simp (decide := true) only [e, if_true, if_false]
        exact n1
end C18
