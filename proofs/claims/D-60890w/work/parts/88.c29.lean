/-! C29: how long a word takes -/
theorem cnB_cut {f : Nat → Bool} {len : Nat} : ∀ k, (∀ i, len ≤ i → i < len + k → f i = false) → cnB f (len + k) = cnB f len
  | 0, _ => rfl
  | k + 1, h => by
    rw [← Nat.add_assoc, cnB_s, cnB_cut k (fun i h1 h2 => h i h1 (by omega)), h (len + k) (by omega) (by omega)]
    rfl
theorem tgC_cut {M : MS} {s a G len : Nat} : ∀ k, (∀ i, len ≤ i → i < len + k → M.2.1 27 i = 0) → tgC M s a G (len + k) = tgC M s a G len
  | 0, _ => rfl
  | k + 1, h => by
    rw [← Nat.add_assoc, tgC_s, tgC_cut k (fun i h1 h2 => h i h1 (by omega))]
    unfold tgS
    rw [(tgC_frm M s a G len).a 27, if_pos (h (len + k) (by omega) (by omega))]
theorem srt_tk {M : MS} {o : Nat} (ho : M.1 52 = nI o) (ho2 : o < 256) (h : wrdP M) (hm : ¬ memP M) : tk8 (srt M) = if M.1 52 < 70 then (if (M.1 52 = 7 ∨ M.1 52 = 8) then 8 else (if ((M.1 52 = 6 ∨ M.1 52 = 17) ∨ M.1 52 = 19) then 3 else 1)) else 2 := by
  have h57 : M.1 52 = 3 → ¬ (M.1 57 < 0 ∨ ¬ M.1 57 ≤ 6) := by
    intro e
    unfold wrdP at h
    rw [e] at h
    rcases h with ⟨_, h⟩ | h | h | h | h
    · rcases h with h | h
      · exact absurd rfl h
      · rintro (z | z)
        · exact absurd h.1 (Int32.not_le.mpr z)
        · exact z h.2
    · exact absurd h (by decide)
    · exact absurd h (by decide)
    · exact absurd h (by decide)
    · exact absurd h (by decide)
  have hops : o ≤ 21 ∨ (30 ≤ o ∧ o ≤ 36) ∨ (40 ≤ o ∧ o ≤ 42) ∨ (70 ≤ o ∧ o ≤ 73) := by
    by_cases hv : 69 < M.1 52
    · right; right; right
      rw [ho] at hv
      have hv : 69 < o := by
        apply Classical.byContradiction
        intro hn
        exact absurd hv (Int32.not_lt.mpr (c_le (a := o) (b := 69) (by omega) (by omega)))
      refine ⟨by omega, ?_⟩
      unfold wrdP at h
      rw [ho] at h
      have nle : ∀ k, k < 70 → ¬ nI o ≤ nI k := fun k hk => c_nle (by omega) (by omega)
      rcases h with h | h | h | h | h
      · exact absurd h.1 (nle 21 (by omega))
      · exact absurd h.2 (nle 36 (by omega))
      · exact absurd h.2 (nle 42 (by omega))
      · exact absurd h.2 (nle 59 (by omega))
      · apply Classical.byContradiction
        intro hn
        exact c_nle (a := o) (b := 73) (by omega) (by omega) h.2
    · rcases wrd_ops h hm hv ho ho2 with q | q | q
      · exact Or.inl q
      · exact Or.inr (Or.inl q)
      · exact Or.inr (Or.inr (Or.inl q))
  unfold srt tk8
  have : o = 0 ∨ o = 1 ∨ o = 2 ∨ o = 3 ∨ o = 4 ∨ o = 5 ∨ o = 6 ∨ o = 7 ∨ o = 8 ∨ o = 9 ∨ o = 10 ∨ o = 11 ∨ o = 12 ∨ o = 13 ∨ o = 14 ∨ o = 15 ∨ o = 16 ∨ o = 17 ∨ o = 18 ∨ o = 19 ∨ o = 20 ∨ o = 21 ∨ o = 30 ∨ o = 31 ∨ o = 32 ∨ o = 33 ∨ o = 34 ∨ o = 35 ∨ o = 36 ∨ o = 40 ∨ o = 41 ∨ o = 42 ∨ o = 70 ∨ o = 71 ∨ o = 72 ∨ o = 73 := by omega
  by_cases e3 : o = 3
  · have e : M.1 52 = 3 := by rw [ho, e3]; rfl
    have h5 := h57 e
    rw [e]
    rw [if_neg (show ¬ ((3 : Int32) = 3 ∧ (M.1 57 < 0 ∨ ¬ M.1 57 ≤ 6)) from fun z => h5 z.2)]
    decide
  · have hn3 : ¬ (M.1 52 = 3 ∧ (M.1 57 < 0 ∨ ¬ M.1 57 ≤ 6)) := fun z => e3 ((nI_eq (b := 3) (by omega) (by omega)).mp (ho.symm.trans z.1))
    rw [if_neg hn3, ho]
    rcases this with e | e | e | e | e | e | e | e | e | e | e | e | e | e | e | e | e | e | e | e | e | e | e | e | e | e | e | e | e | e | e | e | e | e | e | e <;> first | exact absurd e e3 | (subst e; decide)
section C29
variable {nC nS n : Nat} {A : AH} {V V' : CW} {E : EL} {ad : AA} {M N : MS} {P : PP} {Bk b1 b2 u x : Nat} {many all : Int32}
theorem ix8_k (h : St nC nS A V) (hj : SJ V) {k : Nat} (hk : k < 8) : ix8 A (some (sa V k)) = some k := by
  unfold ix8
  cases e : (List.range 8).find? (fun i => decide (some (sa V k) = some (hA A i))) with
  | none =>
    rw [List.find?_eq_none] at e
    have := e k (List.mem_range.mpr hk)
    rw [h.1.2.2] at this
    simp at this
  | some i =>
    have h1 := List.mem_of_find?_eq_some e
    have h2 := List.find?_some e
    have h1 := List.mem_range.mp h1
    have h2 := of_decide_eq_true h2
    rw [h.1.2.2] at h2
    rw [hj k i hk h1 (Option.some.inj h2)]
theorem gT_sa (h : St nC nS A V) (hj : SJ V) {k : Nat} (hk : k < 8) : gT A (some (sa V k)) = some (tk8 k) := by
  unfold gT
  rw [ix8_k h hj hk]
  rfl
theorem WM.cn (h : WM V x M) : WM V x (cntM u many all M) := h.fm (fun k h1 h2 => cnt_1 M u many all (by omega) (by omega) (by omega))
set_option maxHeartbeats 2000000 in
theorem e7_takes (h : St nC nS A V) (cp : CP V E ad (cntM u many all M) P) (hx : WM V x M) {S1 S2 : Nat → Bool} (hco : CO V (P 4) Bk b1 b2 S1 S2) {s w a uu op : Nat} {D : Int32} (hu : ad 8 u = some uu) (hw : ad 13 s = some w) (h54 : M.1 54 = nI a) (ha : a < 16) (hop : M.1 52 = nI op) (hop2 : op < 256) (hwd : wrdP M) (hn : 64 < n) (hG : 1 ≤ P 9) (hB : 1 ≤ Bk) (hB2 : Bk ≤ 32) (h4 : M.1 4 = nI Bk)
    (hD : ∀ j, j < 32 → (bt D j = true ↔ ¬ M.2.1 27 j = 0)) (hDl : ∀ j, j < 32 → ¬ M.2.1 27 j = 0 → j < (lt V E 13 2 w).length) (hs64 : shP M → okQ M s a 64) (hg4 : memP M ∧ ¬ shP M → okQ M s a 4096) :
    Res (fX7_takes n (P 1) (some uu) (some w) D (some x) A) (fun r => r.1 = (z_time M u s a (P 6) Bk (P 9)).1 ∧ ∃ V' S1' S2', St nC nS r.2 V' ∧ IB V V' ∧ CX V' ad (cntM u many all (z_time M u s a (P 6) Bk (P 9)).2) ∧ CO V' (P 4) Bk b1 b2 S1' S2' ∧ (memP M ∧ ¬ shP M → ∀ i, i < 32 → ¬ M.2.1 27 i = 0 → xi V' 454 (P 4) (askN M s a i / 8) = (z_time M u s a (P 6) Bk (P 9)).2.2.1 25 i)) := by
  obtain ⟨hwk, ⟨ll, cap, hxl, hli⟩, hlen, hln, hlane, hlenP⟩ := cp.wl hw
  have hs := cp.2.2.2
  have hP6 := hs.2.2.2.2.2.2.2.2.1.1
  generalize hls : lt V E 13 2 w = ls at *
  have huk := hs.kk hu
  have hck : kdV V (P 4) = 5 := hco.1
  have hxco : xr V 710 (P 1) 0 = some (P 4) := hs.2.2.1.2.2.2.2.2.2.2.2.2.2.1
  have hxca : xr V 709 (P 1) 0 = some (P 5) := hs.2.2.1.2.2.2.2.2.2.2.2.2.1
  have hcut27 : ∀ i, ls.length ≤ i → i < 32 → M.2.1 27 i = 0 := fun i h1 h2 => Classical.byContradiction fun z => absurd (hDl i h2 z) (by omega)
  have ecyc : (cntM u many all M).1 15 = M.1 15 := cnt_1 M u many all (by decide) (by decide) (by decide)
  have cyc : ∀ {A' : AH} {V1 : CW} {X : MS}, St nC nS A' V1 → SH V1 E ad X P → CX V1 ad X → X.1 15 = M.1 15 → gI A' (some (P 1)) 7 17 = some (M.1 15) := fun s1 h1 c1 e => (gF s1 h1 c1 17 (by decide) rfl (by decide) rfl).trans (congrArg some e)
  unfold fX7_takes
  refine Res.b (wg6 h hx) ?_
  rw [jn_eq]
  simp only [sa_eq h hx.2.1 (srt_lt M) (show 4 < 8 by omega)]
  -- words that ask for nothing
  by_cases cm : memP M
  · have n4 : ¬ srt M = 4 := fun z => by
      have := (srtM M).mpr cm
      omega
    rw [if_neg n4]
    refine Res.b (wg6 h hx) (Res.b (ix8_sa h hx.2.1 (srt_lt M)) (Res.b (e5_isMem h hx) ?_))
    rw [if_neg (by rw [b2i_0]; exact not_not_intro cm), jn_eq]
    simp only [sa_eq h hx.2.1 (srt_lt M) (show 5 < 8 by omega)]
    have pre : ∀ (k : Int32) (Q : Int32 × AH → Prop) (F : AH → Option (Int32 × AH)), (∀ A14 V14, St nC nS A14 V14 → IB V V14 → CX V14 ad (cntM u many all M) → CO V14 (P 4) Bk b1 b2 (fun _ => false) (fun _ => false) → (∀ k, k < 32 → xi V14 452 (P 4) k = 0) → xi V14 405 (P 4) 0 = 0 → xi V14 406 (P 4) 0 = 0 → xi V14 407 (P 4) 0 = M.1 15 + 1 → Res (F A14) Q) → Res ((gR A (some (P 1)) 7 10).bind fun v11 => (gI A (some (P 1)) 7 17).bind fun v12 => (rcv A v11 4).bind fun v13 => (fX4_begin n v13 v12 A).bind fun g14 => F g14) Q := by
      intro k Q F hF
      refine Res.b ((h.gr 10 (c := 7) hs.mm.2 (by decide) rfl).trans (congrArg some hxco)) (Res.b (cyc h hs cp.1 ecyc) (Res.b (h.rc hck) (Res.w (e4_begin h cp hco (M.1 15) hn) ?_)))
      rintro A14 ⟨V14, q1, q2, q3, q4, q5, q6, q7, q8⟩
      exact hF A14 V14 q1 q2 q3 q4 q5 q6 q7 q8
    by_cases csh : shP M
    · rw [if_pos ((srtS M).mpr csh)]
      have hok := hs64 csh
      refine pre 1 _ _ ?_
      intro A14 V14 s14 i14 c14 co14 z452 z405 _ _
      refine jl_R (fun d (g : Int32 → AH → Option (Int32 × AH)) => ∀ j A17 V17, j + d = ls.length → St nC nS A17 V17 → IB V V17 → CX V17 ad (cntM u many all M) → ShI V17 (P 4) Bk b1 b2 M s a j → Res (g (nI j) A17) (fun r => r.1 = (z_time M u s a (P 6) Bk (P 9)).1 ∧ ∃ V' S1' S2', St nC nS r.2 V' ∧ IB V V' ∧ CX V' ad (cntM u many all (z_time M u s a (P 6) Bk (P 9)).2) ∧ CO V' (P 4) Bk b1 b2 S1' S2' ∧ (memP M ∧ ¬ shP M → ∀ i, i < 32 → ¬ M.2.1 27 i = 0 → xi V' 454 (P 4) (askN M s a i / 8) = (z_time M u s a (P 6) Bk (P 9)).2.2.1 25 i))) ls.length (show ls.length < n by omega) ?_ ?_ ?_
      · intro g j A17 V17 hj s17 i17 c17 sh17
        obtain ⟨w1, w2, w3, w4⟩ := wlx s17 i17 hwk hxl hli
        have cp17 := cp.nxb i17 c17 ⟨rfl, rfl, rfl, rfl, rfl⟩
        refine Res.b w1 (Res.b w2 (Res.b w3 ?_))
        have ej : j = ls.length := by omega
        subst ej
        rw [if_pos (Int32.le_refl _), if_neg (show ¬ (1 : Int32) = 0 by decide)]
        obtain ⟨co17, _, hmx⟩ := sh17
        have emx : iter (shkS M s a (P 6)) 0 Bk 0 = nI (mxF (fun k => cnB (shF M s a Bk k) ls.length) Bk) := by
          rw [iter_shk hok (by omega) h4 hB hB2 hP6 Bk (Nat.le_refl _)]
          refine congrArg nI (mxF_c Bk (fun k _ => ?_))
          obtain ⟨e, he⟩ : ∃ e, P 6 = ls.length + e := ⟨P 6 - ls.length, by omega⟩
          rw [he]
          refine cnB_cut e (fun i h1 h2 => ?_)
          unfold shF
          rw [decide_eq_false (fun z => z.1 (hcut27 i h1 (by omega))), Bool.false_and]
        have bmx : mxF (fun k => cnB (shF M s a Bk k) ls.length) Bk ≤ 32 := Nat.le_trans (mxF_le _ ls.length (fun k => cnB_le _ _) Bk) (by omega)
        generalize mxF (fun k => cnB (shF M s a Bk k) ls.length) Bk = mx at *
        have g5 : gI A17 (some (P 4)) 4 5 = some (nI mx) := (s17.gi 5 (c := 4) co17.1 (by decide) rfl).trans (congrArg some hmx)
        have gco : gR A17 (some (P 1)) 7 10 = some (some (P 4)) := (s17.gr 10 (c := 7) cp17.2.2.2.mm.2 (by decide) rfl).trans (congrArg some (by
          show xr V17 710 (P 1) 0 = _
          rw [i17.2.1.1]
          exact hxco))
        refine Res.b (cyc s17 cp17.2.2.2 cp17.1 ecyc) (Res.b gco (Res.b g5 ?_))
        have emax : (if (1 : Int32) < nI mx then nI mx else (1 : Int32)) = if nI mx = 0 then 1 else nI mx := by
          by_cases c0 : mx = 0
          · subst c0; decide
          · by_cases c1 : mx = 1
            · subst c1; decide
            · rw [if_pos (show (1 : Int32) < nI mx from nI_lt (a := 1) (by omega) (by omega)), if_neg (nI_ne0 (by omega) (by omega))]
        rw [emax]
        obtain ⟨A36, e36, s36⟩ := s17.pi 3 (M.1 15 + (if nI mx = 0 then 1 else nI mx)) (c := 8) (cp17.2.2.2.kk hu) (by decide) rfl
        have c36 : CX (vI' V17 803 uu 0 (M.1 15 + (if nI mx = 0 then 1 else nI mx))) ad (mA (cntM u many all M) 6 u (M.1 15 + (if nI mx = 0 then 1 else nI mx))) := c17.setA (d := 803) (k := u) (i := 0) cp17.2.2.2.1 _ (by decide) (by decide) hu
        rw [cnt_mA _ (by decide)] at c36
        have i36 : IB V17 (vI' V17 803 uu 0 (M.1 15 + (if nI mx = 0 then 1 else nI mx))) := (IV.vI (Or.inl (by decide))).b
        have co36 : CO (vI' V17 803 uu 0 (M.1 15 + (if nI mx = 0 then 1 else nI mx))) (P 4) Bk b1 b2 (usB M s a ls.length) (fun _ => false) := co17.vI (by decide)
        have g5' : gI A36 (some (P 4)) 4 5 = some (nI mx) := (s36.gi 5 (c := 4) co17.1 (by decide) rfl).trans (congrArg some (by
          show xi (vI' V17 803 uu 0 _) 405 (P 4) 0 = _
          rw [vIi, if_neg (fun z => absurd z.1 (by decide))]
          exact hmx))
        have gco' : gR A36 (some (P 1)) 7 10 = some (some (P 4)) := (s36.gr 10 (c := 7) cp17.2.2.2.mm.2 (by decide) rfl).trans (congrArg some (by
          show xr V17 710 (P 1) 0 = _
          rw [i17.2.1.1]
          exact hxco))
        refine Res.b e36 (Res.b gco' (Res.b g5' (Res.r ⟨?_, _, _, _, s36, i17.tr i36, ?_, co36, fun z => absurd csh z.2⟩)))
        · unfold z_time
          rw [if_pos cm, if_pos csh, emx]
        · unfold z_time z_tsh
          rw [if_pos cm, if_pos csh, emx]
          exact c36
      · intro d g hg j A17 V17 hj s17 i17 c17 sh17
        obtain ⟨w1, w2, w3, w4⟩ := wlx s17 i17 hwk hxl hli
        have cp17 := cp.nxb i17 c17 ⟨rfl, rfl, rfl, rfl, rfl⟩
        have hx17 := hx.iob i17
        refine Res.b w1 (Res.b w2 (Res.b w3 ?_))
        rw [if_neg (c_nle (by omega) (by omega)), jn_eq, nI_1]
        by_cases cb : bt D j = true
        · rw [if_neg (fun z => by rw [(bit0_bt _ (by omega)).mp z] at cb; cases cb)]
          have h27 := (hD j (by omega)).mp cb
          obtain ⟨l, hl1, hl2, hl3⟩ := hlane j (by omega)
          have had := e7_address s17 hx17.cn (cp17.2.2.2.ln cp17.1 cp17.2.2.1 hl2) (a := a) ((cnt_1 M u many all (by decide) (by decide) (by decide)).trans h54) ha
          have e0 : rgV (cntM u many all M) (32 * s + j) a + (cntM u many all M).1 57 = nI (askN M s a j) := by
            rw [← (hok j (by omega) h27).1]
            rfl
          rw [e0] at had
          refine Res.b (w4 j l hl1) (Res.b (s17.cs (cp17.2.2.2.kk hl2)) (Res.b had ?_))
          rw [if_neg (show ¬ (1 : Int32) = 0 by decide)]
          have gco : gR A17 (some (P 1)) 7 10 = some (some (P 4)) := (s17.gr 10 (c := 7) cp17.2.2.2.mm.2 (by decide) rfl).trans (congrArg some (by
            show xr V17 710 (P 1) 0 = _
            rw [i17.2.1.1]
            exact hxco))
          have hat : b2i (¬ (M.1 52 < 54 ∨ 59 < M.1 52)) = b2i (53 < M.1 52) := by
            rcases csh with e | e | e | e <;> rw [e] <;> decide
          refine Res.b gco (Res.b (s17.rc (c := 5) hx17.1) (Res.b (e5_isAtomic s17 hx17) (Res.b (s17.rc sh17.1.1) ?_)))
          rw [hat]
          refine Res.w (e4_askShared s17 cp17 sh17 hok (by omega) h27 hB hB2) ?_
          rintro A18 ⟨V18, s18, i18, c18, sh18⟩
          exact hg (j + 1) A18 V18 (by omega) s18 (i17.tr i18) c18 sh18
        · have cbf : bt D j = false := by
            cases hh : bt D j with
            | false => rfl
            | true => exact absurd hh cb
          rw [if_pos ((bit0_bt _ (by omega)).mpr cbf)]
          exact hg (j + 1) A17 V17 (by omega) s17 i17 c17 (sh17.sk (Classical.byContradiction fun z => cb ((hD j (by omega)).mpr z)))
      · intro g hg
        have m0 : mxF (fun k => cnB (shF M s a Bk k) 0) Bk = 0 := Nat.le_zero.mp (mxF_le _ 0 (fun _ => Nat.le_refl _) Bk)
        refine hg 0 A14 V14 (by omega) s14 i14 c14 ⟨co14, fun k hk => z452 k (by omega), ?_⟩
        rw [z405, m0]
        rfl
    · rw [if_neg (fun z => csh ((srtS M).mp z))]
      have hok := hg4 ⟨cm, csh⟩
      refine pre 0 _ _ ?_
      intro A14 V14 s14 i14 c14 co14 _ _ z406 z407
      have etime : (z_time M u s a (P 6) Bk (P 9)) = ((tgC M s a (P 9) ls.length).1 - M.1 15 + (tgC M s a (P 9) ls.length).2.1, (tgC M s a (P 9) ls.length).2.2) := by
        unfold z_time
        rw [if_pos cm, if_neg csh]
        obtain ⟨e, he⟩ : ∃ e, P 6 = ls.length + e := ⟨P 6 - ls.length, by omega⟩
        have : iter (tgS s a (P 9)) 0 (P 6) (M.1 15 + 1, 0, M) = tgC M s a (P 9) ls.length := by
          show tgC M s a (P 9) (P 6) = _
          rw [he]
          exact tgC_cut e (fun i h1 h2 => hcut27 i h1 (by omega))
        rw [this]
      refine jl_R (fun d (g : Int32 → AH → Option (Int32 × AH)) => ∀ j A17 V17, j + d = ls.length → St nC nS A17 V17 → IB V V17 → GlI V17 ad (P 4) Bk b1 b2 u many all M s a (P 9) j → Res (g (nI j) A17) (fun r => r.1 = (z_time M u s a (P 6) Bk (P 9)).1 ∧ ∃ V' S1' S2', St nC nS r.2 V' ∧ IB V V' ∧ CX V' ad (cntM u many all (z_time M u s a (P 6) Bk (P 9)).2) ∧ CO V' (P 4) Bk b1 b2 S1' S2' ∧ (memP M ∧ ¬ shP M → ∀ i, i < 32 → ¬ M.2.1 27 i = 0 → xi V' 454 (P 4) (askN M s a i / 8) = (z_time M u s a (P 6) Bk (P 9)).2.2.1 25 i))) ls.length (show ls.length < n by omega) ?_ ?_ ?_
      · intro g j A17 V17 hj s17 i17 gl17
        obtain ⟨w1, w2, w3, w4⟩ := wlx s17 i17 hwk hxl hli
        have hf := tgC_frm M s a (P 9) j
        have cp17 := cp.nxb i17 gl17.2.2.2.2 ⟨by rw [cnt_2 _ _ _ _ (by decide), cnt_2 _ _ _ _ (by decide)]; exact hf.a 9, by rw [cnt_2 _ _ _ _ (by decide), cnt_2 _ _ _ _ (by decide)]; exact hf.a 10, by rw [cnt_1 _ _ _ _ (by decide) (by decide) (by decide), cnt_1 _ _ _ _ (by decide) (by decide) (by decide)]; exact hf.f 1, by rw [cnt_1 _ _ _ _ (by decide) (by decide) (by decide), cnt_1 _ _ _ _ (by decide) (by decide) (by decide)]; exact hf.f 13, by rw [cnt_1 _ _ _ _ (by decide) (by decide) (by decide), cnt_1 _ _ _ _ (by decide) (by decide) (by decide)]; exact hf.f 2⟩
        have hx17 := hx.iob i17
        refine Res.b w1 (Res.b w2 (Res.b w3 ?_))
        have ej : j = ls.length := by omega
        subst ej
        obtain ⟨co17, h406, h407, h454, hcx⟩ := gl17
        rw [if_pos (Int32.le_refl _), if_pos trivial]
        have gco : gR A17 (some (P 1)) 7 10 = some (some (P 4)) := (s17.gr 10 (c := 7) cp17.2.2.2.mm.2 (by decide) rfl).trans (congrArg some (by
          show xr V17 710 (P 1) 0 = _
          rw [i17.2.1.1]
          exact hxco))
        have ecy : (cntM u many all (tgC M s a (P 9) ls.length).2.2).1 15 = M.1 15 := by
          rw [cnt_1 _ _ _ _ (by decide) (by decide) (by decide)]
          exact hf.f 15
        refine Res.b gco (Res.b ((s17.gi 7 (c := 4) co17.1 (by decide) rfl).trans (congrArg some h407)) (Res.b (cyc s17 cp17.2.2.2 cp17.1 ecy) (Res.b (s17.rc (c := 5) hx17.1) (Res.b (e5_isAtomic s17 hx17) ?_))))
        have hat : b2i (¬ (M.1 52 < 54 ∨ 59 < M.1 52)) = b2i (53 < M.1 52) := by
          have h5 : ¬ 59 < M.1 52 := fun z => cm (Or.inr z)
          refine b2i_c ⟨fun z => ?_, fun z => ?_⟩
          · have z1 : ¬ M.1 52 < 54 := fun q => z (Or.inl q)
            exact Int32.lt_of_lt_of_le (show (53 : Int32) < 54 by decide) (Int32.not_lt.mp z1)
          · rintro (q | q)
            · rw [hop] at z q
              have z : 53 < op := Classical.byContradiction fun hn => absurd z (Int32.not_lt.mpr (c_le (a := op) (b := 53) (by omega) (by omega)))
              exact absurd q (Int32.not_lt.mpr (c_le (a := 54) (b := op) (by omega) (by omega)))
            · exact h5 q
        rw [hat, jn_eq]
        have hag := tgC_ag (M := M) (s := s) (a := a) (G := P 9) ls.length
        have fin : ∀ y : Int32, y = (tgC M s a (P 9) ls.length).2.1 → Res (some ((((tgC M s a (P 9) ls.length).1 - M.1 15) + y), A17)) (fun r : Int32 × AH => r.1 = (z_time M u s a (P 6) Bk (P 9)).1 ∧ ∃ V' S1' S2', St nC nS r.2 V' ∧ IB V V' ∧ CX V' ad (cntM u many all (z_time M u s a (P 6) Bk (P 9)).2) ∧ CO V' (P 4) Bk b1 b2 S1' S2' ∧ (memP M ∧ ¬ shP M → ∀ i, i < 32 → ¬ M.2.1 27 i = 0 → xi V' 454 (P 4) (askN M s a i / 8) = (z_time M u s a (P 6) Bk (P 9)).2.2.1 25 i)) := by
          intro y hy
          rw [etime]
          exact Res.r ⟨by rw [hy], V17, _, _, s17, i17, hcx, co17, fun _ i h1 h2 => h454 i (hDl i h1 h2) h2⟩
        by_cases c5 : 53 < M.1 52
        · rw [if_neg (by rw [b2i_0]; exact not_not_intro c5)]
          rw [if_pos c5] at hag
          exact Res.b ((s17.gi 6 (c := 4) co17.1 (by decide) rfl).trans (congrArg some h406)) (fin _ hag.symm)
        · rw [if_pos (by rw [b2i_0]; exact c5)]
          rw [if_neg c5] at hag
          exact fin _ hag.symm
      · intro d g hg j A17 V17 hj s17 i17 gl17
        obtain ⟨w1, w2, w3, w4⟩ := wlx s17 i17 hwk hxl hli
        have hf := tgC_frm M s a (P 9) j
        have cp17 := cp.nxb i17 gl17.2.2.2.2 ⟨by rw [cnt_2 _ _ _ _ (by decide), cnt_2 _ _ _ _ (by decide)]; exact hf.a 9, by rw [cnt_2 _ _ _ _ (by decide), cnt_2 _ _ _ _ (by decide)]; exact hf.a 10, by rw [cnt_1 _ _ _ _ (by decide) (by decide) (by decide), cnt_1 _ _ _ _ (by decide) (by decide) (by decide)]; exact hf.f 1, by rw [cnt_1 _ _ _ _ (by decide) (by decide) (by decide), cnt_1 _ _ _ _ (by decide) (by decide) (by decide)]; exact hf.f 13, by rw [cnt_1 _ _ _ _ (by decide) (by decide) (by decide), cnt_1 _ _ _ _ (by decide) (by decide) (by decide)]; exact hf.f 2⟩
        have hx17 := hx.iob i17
        refine Res.b w1 (Res.b w2 (Res.b w3 ?_))
        rw [if_neg (c_nle (by omega) (by omega)), jn_eq, nI_1]
        by_cases cb : bt D j = true
        · rw [if_neg (fun z => by rw [(bit0_bt _ (by omega)).mp z] at cb; cases cb)]
          have h27 := (hD j (by omega)).mp cb
          obtain ⟨l, hl1, hl2, hl3⟩ := hlane j (by omega)
          have hxX : WM V17 x (cntM u many all (tgC M s a (P 9) j).2.2) := hx17.fm (fun k k1 k2 => by
            rw [cnt_1 _ _ _ _ (by omega) (by omega) (by omega)]
            exact hf.1 k (by simp only [List.mem_cons, List.not_mem_nil, or_false]; omega))
          have had := e7_address s17 hxX (cp17.2.2.2.ln cp17.1 cp17.2.2.1 hl2) (a := a) (by rw [cnt_1 _ _ _ _ (by decide) (by decide) (by decide), hf.f 54]; exact h54) ha
          have e0 : rgV (cntM u many all (tgC M s a (P 9) j).2.2) (32 * s + j) a + (cntM u many all (tgC M s a (P 9) j).2.2).1 57 = nI (askN M s a j) := by
            rw [← (hok j (by omega) h27).1, cnt_1 _ _ _ _ (by decide) (by decide) (by decide), hf.f 57]
            unfold rgV askV
            rw [cnt_2 _ _ _ _ (by decide), hf.a 13]
          rw [e0] at had
          refine Res.b (w4 j l hl1) (Res.b (s17.cs (cp17.2.2.2.kk hl2)) (Res.b had ?_))
          rw [if_pos trivial]
          have gco : gR A17 (some (P 1)) 7 10 = some (some (P 4)) := (s17.gr 10 (c := 7) cp17.2.2.2.mm.2 (by decide) rfl).trans (congrArg some (by
            show xr V17 710 (P 1) 0 = _
            rw [i17.2.1.1]
            exact hxco))
          have gca : gR A17 (some (P 1)) 7 9 = some (some (P 5)) := (s17.gr 9 (c := 7) cp17.2.2.2.mm.2 (by decide) rfl).trans (congrArg some (by
            show xr V17 709 (P 1) 0 = _
            rw [i17.2.1.1]
            exact hxca))
          have ecy : (cntM u many all (tgC M s a (P 9) j).2.2).1 15 = M.1 15 := by
            rw [cnt_1 _ _ _ _ (by decide) (by decide) (by decide)]
            exact hf.f 15
          refine Res.b gco (Res.b gca (Res.b (cyc s17 cp17.2.2.2 cp17.1 ecy) (Res.b (s17.rc gl17.1.1) (Res.w (e4_askGlobal s17 cp17 gl17 hok (by omega) h27 hG) ?_))))
          rintro A18 ⟨V18, s18, i18, gl18⟩
          exact hg (j + 1) A18 V18 (by omega) s18 (i17.tr i18) gl18
        · have cbf : bt D j = false := by
            cases hh : bt D j with
            | false => rfl
            | true => exact absurd hh cb
          rw [if_pos ((bit0_bt _ (by omega)).mpr cbf)]
          exact hg (j + 1) A17 V17 (by omega) s17 i17 (gl17.sk (Classical.byContradiction fun z => cb ((hD j (by omega)).mpr z)))
      · intro g hg
        exact hg 0 A14 V14 (by omega) s14 i14 ⟨co14, by rw [z406]; rfl, z407, fun i hi => by omega, c14⟩
  · have body : ∀ (A3 : AH) (V3 : CW) (X : MS), St nC nS A3 V3 → IB V V3 → CX V3 ad (cntM u many all X) → (∃ S1' S2', CO V3 (P 4) Bk b1 b2 S1' S2') → (z_time M u s a (P 6) Bk (P 9)) = (tk8 (srt M), X) → Res ((gR A3 (some x) 5 6).bind fun v4 => (rcS A3 v4).bind fun v5 => (fX6_isMemory v5 A3).bind fun g6 => if g6 = 0 then ((gT A3 v4).bind fun v8 => some (v8, A3)) else none) (fun r => r.1 = (z_time M u s a (P 6) Bk (P 9)).1 ∧ ∃ V' S1' S2', St nC nS r.2 V' ∧ IB V V' ∧ CX V' ad (cntM u many all (z_time M u s a (P 6) Bk (P 9)).2) ∧ CO V' (P 4) Bk b1 b2 S1' S2' ∧ (memP M ∧ ¬ shP M → ∀ i, i < 32 → ¬ M.2.1 27 i = 0 → xi V' 454 (P 4) (askN M s a i / 8) = (z_time M u s a (P 6) Bk (P 9)).2.2.1 25 i)) := by
      intro A3 V3 X s3 i3 c3 ⟨S1', S2', co3⟩ ez
      have hx3 := hx.iob i3
      refine Res.b (wg6 s3 hx3) (Res.b (ix8_sa s3 hx3.2.1 (srt_lt M)) (Res.b (e5_isMem s3 hx3) ?_))
      rw [if_pos (by rw [b2i_0]; exact cm)]
      refine Res.b (gT_sa s3 hx3.2.1 (srt_lt M)) (Res.r ⟨by rw [ez], V3, S1', S2', s3, i3, by rw [ez]; exact c3, co3, fun z => absurd z.1 cm⟩)
    have etk := srt_tk hop hop2 hwd cm
    by_cases c4 : srt M = 4
    · have c78 := (srtD M).mp c4
      rw [if_pos c4]
      refine Res.b (cyc h hs cp.1 ecyc) (Res.b (gT_sa h hx.2.1 (srt_lt M)) ?_)
      have e8 : tk8 (srt M) = 8 := by rw [c4]; decide
      rw [e8]
      obtain ⟨A3, e3, s3⟩ := h.pi 2 (M.1 15 + 8) (c := 8) huk (by decide) rfl
      have c3 : CX (vI' V 802 uu 0 (M.1 15 + 8)) ad (mA (cntM u many all M) 5 u (M.1 15 + 8)) := cp.1.setA (d := 802) (k := u) (i := 0) hs.1 _ (by decide) (by decide) hu
      rw [cnt_mA _ (by decide)] at c3
      have ez : z_time M u s a (P 6) Bk (P 9) = (tk8 (srt M), mA M 5 u (M.1 15 + 8)) := by
        unfold z_time
        rw [if_neg cm, if_pos (by rcases c78 with e | e <;> rw [e] <;> decide), if_pos c78, e8]
      refine Res.b e3 ?_
      have hb := body A3 _ _ s3 (IV.vI (Or.inl (by decide))).b c3 ⟨S1, S2, hco.vI (by decide)⟩ ez
      obtain ⟨r, hr, hr2⟩ := hb
      refine ⟨r, ?_, hr2⟩
      have hx3 : WM (vI' V 802 uu 0 (M.1 15 + 8)) x M := hx.iob (IV.vI (Or.inl (by decide))).b
      rw [wg6 s3 hx3, Option.bind_some, ix8_sa s3 hx3.2.1 (srt_lt M), Option.bind_some, e5_isMem s3 hx3, Option.bind_some, if_pos (by rw [b2i_0]; exact cm)] at hr ⊢
      exact hr
    · rw [if_neg c4]
      have c78 : ¬ (M.1 52 = 7 ∨ M.1 52 = 8) := fun z => c4 ((srtD M).mpr z)
      have ez : z_time M u s a (P 6) Bk (P 9) = (tk8 (srt M), M) := by
        unfold z_time
        rw [if_neg cm, etk]
        by_cases c70 : M.1 52 < 70
        · rw [if_pos c70, if_pos c70, if_neg c78, if_neg c78]
        · rw [if_neg c70, if_neg c70]
      have hb := body A V M h IB.rf cp.1 ⟨S1, S2, hco⟩ ez
      obtain ⟨r, hr, hr2⟩ := hb
      refine ⟨r, ?_, hr2⟩
      rw [wg6 h hx, Option.bind_some, ix8_sa h hx.2.1 (srt_lt M), Option.bind_some, e5_isMem h hx, Option.bind_some, if_pos (by rw [b2i_0]; exact cm)] at hr ⊢
      exact hr
end C29
