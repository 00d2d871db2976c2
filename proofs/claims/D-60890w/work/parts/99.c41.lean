/-! C41: a warp goes, up to the barrier -/
def goT (n a0 : Nat) (p1 p2 p4 : Option Nat) (g36 : AH) : Option AH :=
  (gI g36 p4 5 0).bind fun v37 =>
  if v37 ≤ (1 : Int32) then ((gR g36 p2 13 0).bind fun v39 =>
  (rcv g36 v39 12).bind fun v40 =>
  (fX12_look n v40 g36).bind fun g41 =>
  (gR g41 p2 13 0).bind fun v42 =>
  (rcv g41 v42 12).bind fun v43 =>
  (fX12_isOver n v43 g41).bind fun g44 =>
  if g44 = 0 then (some g41) else
  (rcv g41 p1 8).bind fun v46 =>
  (fX8_leave n v46 v42 g41).bind fun g47 =>
  (gR g47 (some a0) 7 6).bind fun v48 =>
  (rcv g47 v48 2).bind fun v49 =>
  (fX2_free n v49 v42 g47).bind fun g50 =>
  (gI g50 (some a0) 7 16).bind fun v51 =>
  (pI g50 (some a0) 7 16 (v51 + (1 : Int32))).bind fun A52 =>
  some A52) else
  some g36
section C41
variable {nC nS n : Nat} {A : AH} {V V' : CW} {E E' : EL} {ad : AA} {M M' : MS} {P : PP} {x T Bk b1 b2 : Nat} {S1 S2 : Nat → Bool}
theorem CX.frm' (hc : CX V ad M) {ks js : List Nat} (h : frm ks js M M') (hk : ∀ k, k ∈ [1, 2, 4, 6, 11, 12, 13, 14, 21, 15, 16, 17, 18, 22, 23, 24, 25, 26, 19, 20] → k ∉ ks) (hj : ∀ j, (j < 9 ∨ (9 < j ∧ j < 19)) → j ∉ js) : CX V ad M' := hc.mm (fun d hd => h.1 _ (hk _ (fd_lst d hd))) (fun j hj' => h.2.1 j (hj j hj'))
theorem pl_1 {s i : Nat} (M : MS) : (plS s i M).1 = M.1 := by
  unfold plS
  split <;> rfl
theorem fmH_cnt {X X' : MS} {u : Nat} {many all : Int32} {ks js : List Nat} (h : frm ks js X X') (hk : 1 ∉ ks ∧ 13 ∉ ks ∧ 2 ∉ ks ∧ 41 ∉ ks) (hj : 9 ∉ js ∧ 10 ∉ js ∧ 19 ∉ js ∧ 20 ∉ js ∧ 21 ∉ js ∧ 22 ∉ js ∧ 23 ∉ js ∧ 24 ∉ js) : fmH (cntM u many all X) (cntM u many all X') := by
  have h0 := fmH.frm h hk hj
  have f1 := fun (Y : MS) (k : Nat) (h6 : k ≠ 16) (h7 : k ≠ 17) (h8 : k ≠ 18) => cnt_1 Y u many all (k := k) h6 h7 h8
  have f2 := fun (Y : MS) (j : Nat) (h8 : j ≠ 8) => cnt_2 Y u many all (j := j) h8
  refine ⟨⟨?_, ?_, ?_, ?_, ?_⟩, ?_, fun j h1 h2 => ?_, h0.2.2.2⟩
  · rw [f2 _ _ (by decide), f2 _ _ (by decide)]; exact h0.1.1
  · rw [f2 _ _ (by decide), f2 _ _ (by decide)]; exact h0.1.2.1
  · rw [f1 _ _ (by decide) (by decide) (by decide), f1 _ _ (by decide) (by decide) (by decide)]; exact h0.1.2.2.1
  · rw [f1 _ _ (by decide) (by decide) (by decide), f1 _ _ (by decide) (by decide) (by decide)]; exact h0.1.2.2.2.1
  · rw [f1 _ _ (by decide) (by decide) (by decide), f1 _ _ (by decide) (by decide) (by decide)]; exact h0.1.2.2.2.2
  · rw [f1 _ _ (by decide) (by decide) (by decide), f1 _ _ (by decide) (by decide) (by decide)]; exact h0.2.1
  · rw [f2 _ _ (by omega), f2 _ _ (by omega)]; exact h0.2.2.1 j h1 h2
set_option maxHeartbeats 8000000 in
theorem e7_goM {nC0 nS0 : Nat} (hS0 : 10000 ≤ nS0) (hC0 : 2 ≤ nC0) (h : St (nC0 + rqC V E P) (nS0 + rqS V E P) A V) (gb : GB V E ad M P T Bk b1 b2) (hT : T + 32 < 2 ^ 30) (hx : WM V x M) {s u w uu d a b bk p0 op g I : Nat} {G : Int32} (hw : ad 13 s = some w) (hu : ad 8 u = some uu) (hG : ∀ j, j < 32 → (bt G j = true ↔ ¬ M.2.1 26 j = 0)) (hG2 : ∀ j, j < 32 → ¬ M.2.1 26 j = 0 → j < (lt V E 13 2 w).length)
    (hop : M.1 52 = nI op) (hop2 : op < 256) (h53 : M.1 53 = nI d) (h54 : M.1 54 = nI a) (h55 : M.1 55 = nI b) (h56 : M.1 56 = nI g) (hd : d < 16) (ha : a < 16) (hb : b < 16) (hg : g < 16) (hwd : wrdP M) (h6 : M.1 6 = nI I) (hI1 : 1 ≤ I) (hI2 : I ≤ 4096) (h4 : M.1 4 = nI Bk) (hB1 : 1 ≤ Bk) (hB2 : Bk ≤ 32) (hG9 : 1 ≤ P 9) (hP6 : 1 ≤ P 6) (hbk : M.2.1 9 s = nI bk) (hbk2 : bk < 64) (h41 : M.1 41 = nI p0) (hp0 : memP M ∧ ¬ shP M → p0 + 32 ≤ 4096) (hn : 10001 < n)
    (M2 : MS) (many all : Int32) (hc : iter (doeS s) 0 32 (0, 0, M) = (many, all, M2)) (Post : AH → Prop)
    (hTrap : ∀ i A' V', trF M2 s a b 0 (P 6) = some i → St (nC0 + rqC V' E P) (nS0 + rqS V' E P) A' V' → GB V' E ad (z_trap M2 s i (whyV M2 (32 * s + i) a b)) P T Bk b1 b2 → KS V E V' E → Post A')
    (hTail : trF M2 s a b 0 (P 6) = none → ∀ A' V' E' ad' T' M', M' = wr3 s (z_time M2 u s a (P 6) Bk (P 9)).1 (wr2 s (z_time M2 u s a (P 6) Bk (P 9)).1 (wr1 s d (z_time M2 u s a (P 6) Bk (P 9)).1 (iter (goS s d a b bk) 0 (P 6) (z_tog (cntM u many all (z_time M2 u s a (P 6) Bk (P 9)).2) s a (P 6))))) → St (nC0 + rqC V' E' P) (nS0 + rqS V' E' P) A' V' → GB V' E' ad' M' P T' Bk b1 b2 → (T ≤ T' ∧ T' ≤ T + 32) → (∀ c, c ≠ 15 → ad' c = ad c) → WM V' x M' → KS V E V' E' → Res (goT n (P 1) (some uu) (some w) (some x) A') Post) :
    Res (fX7_go n (P 1) (some uu) (some w) G (some x) A) Post := by
  obtain ⟨d1, d2, d3, d4⟩ := doeI M s 32
  rw [hc] at d1 d2 d3 d4
  have d3 : frm [] [27] M M2 := d3
  have d4 : ∀ j, j < 32 → M2.2.1 27 j = doeV M s j := d4
  obtain ⟨hwk, ⟨ll, cap, hxl, hli⟩, hlen, hln, hlane, hlenP⟩ := gb.1.wl hw
  have hP6b := gb.1.2.2.2.2.2.2.2.2.2.2.2.1.1
  have hwl : WL V w (lt V E 13 2 w) := ⟨ll, cap, hxl, hli⟩
  have hlns := gb.1.2.2.2.lns gb.1.1 gb.1.2.2.1 hw
  have hmk := gb.1.2.2.2.mm.2
  generalize hls : lt V E 13 2 w = ls at *
  unfold fX7_go
  refine Res.b (h.rc hwk) (Res.w (e13_doing h (G := G) hwk hx hwl hlns h56 hg (by omega)) ?_)
  intro D hD0
  have hD : ∀ j, j < 32 → (bt D j = true ↔ ¬ M2.2.1 27 j = 0) := by
    intro j hj
    rw [hD0 j hj, d4 j hj, doe_P, hG j hj]
    exact ⟨fun z => z.2, fun z => ⟨hG2 j hj z.1, z⟩⟩
  have hDl : ∀ j, j < 32 → bt D j = true → j < ls.length := fun j hj z => ((hD0 j hj).mp z).1
  have hDG : ∀ j, j < 32 → bt D j = true → bt G j = true := fun j hj z => ((hD0 j hj).mp z).2.1
  have c2 : CX V ad M2 := gb.1.1.frm' d3 (fun k _ => List.not_mem_nil) (fun j hj => by simp only [List.mem_cons, List.not_mem_nil, or_false]; omega)
  have fh2 : fmH M M2 := fmH.frm d3 (by decide) (by decide)
  have gb2 : GB V E ad M2 P T Bk b1 b2 := gb.iv IV.rf c2 fh2
  have hx2 : WM V x M2 := hx.fm (fun k _ _ => d3.1 k List.not_mem_nil)
  have f2 : ∀ k, M2.1 k = M.1 k := fun k => d3.1 k List.not_mem_nil
  have hwd2 : wrdP M2 := by unfold wrdP; rw [f2, f2]; exact hwd
  have h6p : 0 < M2.1 6 := by rw [f2, h6]; exact nI_lt (a := 0) (by omega) (by omega)
  have why : ∀ k, k < ls.length → ¬ M2.2.1 27 k = 0 → ∃ l, ls[k]? = some l ∧ kdV V l = 15 ∧ ad 14 (32 * s + k) = some l ∧ fX7_trouble (P 1) (some l) (some x) A = some (whyV M2 (32 * s + k) a b) := by
    intro k hk h27
    obtain ⟨l, q1, q2, q3⟩ := hlane k hk
    refine ⟨l, q1, q3, q2, ?_⟩
    exact e7_trouble h hx2 (gb2.1.2.2.2.ln gb2.1.1 gb2.1.2.2.1 q2) hmk (gb2.1.1 703 0 0 (P 1) (Or.inr (Or.inl (by decide))) (by decide) gb2.1.2.2.2.mm.1) h6p ((f2 54).trans h54) ((f2 55).trans h55) ha hb
  refine jl_R (fun dd (gg : Int32 → Option AH) => ∀ k, k + dd = ls.length → (∀ j, j < k → ¬ (¬ M2.2.1 27 j = 0 ∧ ¬ whyV M2 (32 * s + j) a b = 0)) → Res (gg (nI k)) Post) ls.length (show ls.length < n by omega) ?_ ?_ ?_
  · intro gg k hk hno
    have ek : k = ls.length := by omega
    subst ek
    have hnone : trF M2 s a b 0 (P 6) = none := by
      rcases trF_P M2 s a b (P 6) 0 with ⟨z, _⟩ | ⟨k, z1, z2, z3, z4, z5⟩
      · exact z
      · exfalso
        have hk32 : k < 32 := by omega
        exact hno k (hDl k hk32 ((hD k hk32).mpr z4.1)) z4
    have hno2 : ∀ j, j < 32 → ¬ M2.2.1 27 j = 0 → whyV M2 (32 * s + j) a b = 0 := fun j hj h27 => Classical.byContradiction fun z => hno j (hDl j hj ((hD j hj).mpr h27)) ⟨h27, z⟩
    have hTail := hTail hnone
    clear hTrap hno
    refine Res.b ((h.gr 2 (c := 13) hwk (by decide) rfl).trans (congrArg some hxl)) (Res.b (h.rc hli.1) (Res.b (L_size h hli) ?_))
    rw [if_pos (Int32.le_refl _)]
    -- counters
    refine Res.b (gF h gb2.1.2.2.2 gb2.1.1 18 (by decide) rfl (by decide) rfl) ?_
    obtain ⟨A11, e11, s11, c11, i11⟩ := h.pF gb2.1.2.2.2 gb2.1.1 18 (M2.1 16 + 1) (by decide) rfl (by decide) rfl
    refine Res.b e11 ?_
    have gb11 := gb2.iv i11 c11 (fmH.frm (ks := [16]) (js := []) (frm.rf.mI (by decide)) (by decide) (by decide))
    have huk := gb11.1.2.2.2.kk hu
    refine Res.b ((s11.gi 4 (c := 8) huk (by decide) rfl).trans (congrArg some (gb11.1.1 804 u 0 uu (Or.inl (by decide)) (by decide) hu))) ?_
    obtain ⟨A13, e13, s13⟩ := s11.pi 4 (M2.2.1 8 u + 1) (c := 8) huk (by decide) rfl
    refine Res.b e13 ?_
    have i13 : IV (vI' V 718 (P 1) 0 (M2.1 16 + 1)) (vI' (vI' V 718 (P 1) 0 (M2.1 16 + 1)) 804 uu 0 (M2.2.1 8 u + 1)) := IV.vI (Or.inl (by decide))
    have c13 : CX (vI' (vI' V 718 (P 1) 0 (M2.1 16 + 1)) 804 uu 0 (M2.2.1 8 u + 1)) ad (mA (mI M2 16 (M2.1 16 + 1)) 8 u (M2.2.1 8 u + 1)) := CX.setA (d := 804) (k := u) (i := 0) gb11.1.1 gb11.1.2.2.2.1 _ (by decide) (by decide) hu
    have gb13 := gb11.iv i13 c13 (fmH.frm (ks := []) (js := [8]) (frm.rf.mA (by decide)) (by decide) (by decide))
    refine Res.b (gF s13 gb13.1.2.2.2 gb13.1.1 19 (by decide) rfl (by decide) rfl) (Res.b (e16_bitCount D A13) ?_)
    have emany : nI (cnB (bt D) 32) = many := by
      rw [show many = _ from d1]
      refine congrArg nI (cnB_c 32 (fun j hj => ?_))
      by_cases c : bt D j = true
      · rw [c, decide_eq_true (by rw [← d4 j hj]; exact (hD j hj).mp c)]
      · have c' : bt D j = false := by
          cases hh : bt D j with
          | false => rfl
          | true => exact absurd hh c
        rw [c', decide_eq_false (fun z => c ((hD j hj).mpr (by rw [d4 j hj]; exact z)))]
    have eall : nI (cnB (bt G) 32) = all := by
      rw [show all = _ from d2]
      refine congrArg nI (cnB_c 32 (fun j hj => ?_))
      by_cases c : bt G j = true
      · rw [c, decide_eq_true ((hG j hj).mp c)]
      · have c' : bt G j = false := by
          cases hh : bt G j with
          | false => rfl
          | true => exact absurd hh c
        rw [c', decide_eq_false (fun z => c ((hG j hj).mpr z))]
    rw [emany]
    obtain ⟨A16, e16, s16, c16, i16⟩ := s13.pF gb13.1.2.2.2 gb13.1.1 19 (M2.1 17 + many) (by decide) rfl (by decide) rfl
    refine Res.b e16 ?_
    have gb16 := gb13.iv i16 c16 (fmH.frm (ks := [17]) (js := []) (frm.rf.mI (by decide)) (by decide) (by decide))
    refine Res.b (gF s16 gb16.1.2.2.2 gb16.1.1 20 (by decide) rfl (by decide) rfl) ?_
    have epart : (if D = G then (0 : Int32) else 1) = if all ≤ many then 0 else 1 := by
      obtain ⟨p1, p2⟩ := cnB_sub (f := bt D) (g := bt G) 32 hDG
      have l1 := cnB_le (bt D) 32
      have l2 := cnB_le (bt G) 32
      by_cases c : D = G
      · rw [if_pos c, if_pos]
        rw [← emany, ← eall, c]
        exact Int32.le_refl _
      · rw [if_neg c, if_neg]
        intro z
        rw [← emany, ← eall] at z
        have hle : cnB (bt G) 32 ≤ cnB (bt D) 32 := Classical.byContradiction fun hn => c_nle (by omega) (by omega) z
        apply c
        apply bt_ext
        intro k hk
        cases hk1 : bt G k with
        | true => exact p2 hle k hk hk1
        | false =>
          cases hk2 : bt D k with
          | false => rfl
          | true => rw [hDG k hk hk2] at hk1; cases hk1
    have rest : ∀ y19 : Int32, y19 = (if all ≤ many then 0 else 1) → Res ((pI A16 (some (P 1)) 7 20 (M2.1 18 + y19)).bind fun A20 => (gI A20 (some (P 1)) 7 17).bind fun v21 => (rcv A20 (some (P 1)) 7).bind fun v22 => (fX7_takes n v22 (some uu) (some w) D (some x) A20).bind fun g23 =>
        jl (fixG (fun _ _ => none) (fun (rc27 : (Int32) → (AH) → Option (AH)) (x25 : Int32) (A26 : AH) =>
        (gR A26 (some w) 13 2).bind fun v28 =>
        (rcv A26 v28 0).bind fun v29 =>
        (fJ2_size v29 A26).bind fun g30 =>
        if g30 ≤ x25 then ((gR A26 (some x) 5 6).bind fun v32 =>
        jn (fun (A34 : AH) =>
        (rcv A34 (some w) 13).bind fun v35 =>
        (fX13_wrote v35 (some x) (v21 + g23.1) A34).bind fun g36 =>
        goT n (P 1) (some uu) (some w) (some x) g36) fun j33 =>
        if v32 = (some (hA A26 3)) then ((rcv A26 (some (P 1)) 7).bind fun v54 =>
        (fX7_vote n v54 (some w) D (some x) A26).bind fun g55 =>
        j33 g55) else
        jl (fixG (fun _ _ => none) (fun (rc59 : (Int32) → (AH) → Option (AH)) (x57 : Int32) (A58 : AH) =>
        (gR A58 (some w) 13 2).bind fun v60 =>
        (rcv A58 v60 0).bind fun v61 =>
        (fJ2_size v61 A58).bind fun g62 =>
        if g62 ≤ x57 then (j33 A58) else
        jn (fun (A65 : AH) =>
        rc59 (x57 + (1 : Int32)) A65) fun j64 =>
        if ((D >>> (x57 &&& 31)) &&& (1 : Int32)) = (1 : Int32) then ((rcv A58 (some (P 1)) 7).bind fun v67 =>
        (fX7_act n v67 (some w) x57 (some x) A58).bind fun g68 =>
        j64 g68) else
        j64 A58) n) fun j56 =>
        j56 (0 : Int32) A26) else
        (fJ2_get v29 x25 A26).bind fun g69 =>
        (cst A26 g69 14).bind fun v70 =>
        (gI A26 g69 14 2).bind fun v71 =>
        (pI A26 g69 14 2 (v71 + ((G >>> (x25 &&& 31)) &&& (1 : Int32)))).bind fun A72 =>
        rc27 (x25 + (1 : Int32)) A72) n) fun j24 =>
        j24 (0 : Int32) g23.2) Post := by
      intro y19 hy19
      rw [hy19]
      obtain ⟨A20, e20, s20, c20, i20⟩ := s16.pF gb16.1.2.2.2 gb16.1.1 20 (M2.1 18 + (if all ≤ many then 0 else 1)) (by decide) rfl (by decide) rfl
      refine Res.b e20 ?_
      have gb20 := gb16.iv i20 c20 (fmH.frm (ks := [18]) (js := []) (frm.rf.mI (by decide)) (by decide) (by decide))
      have i020 := ((i11.tr i13).tr i16).tr i20
      clear e20 c20 epart
      obtain ⟨V20, eV20⟩ : ∃ V20, V20 = vI' (vI' (vI' (vI' V 718 (P 1) 0 (M2.1 16 + 1)) 804 uu 0 (M2.2.1 8 u + 1)) 719 (P 1) 0 (M2.1 17 + many)) 720 (P 1) 0 (M2.1 18 + (if all ≤ many then 0 else 1)) := ⟨_, rfl⟩
      have s20 : St (nC0 + rqC V E P) (nS0 + rqS V E P) A20 V20 := by rw [eV20]; exact s20
      have i020 : IV V V20 := by rw [eV20]; exact i020
      have gb20 : GB V20 E ad (cntM u many all M2) P T Bk b1 b2 := by rw [eV20]; exact gb20
      clear eV20
      have ecyc : (cntM u many all M2).1 15 = M2.1 15 := cnt_1 M2 u many all (by decide) (by decide) (by decide)
      refine Res.b ((gF s20 gb20.1.2.2.2 gb20.1.1 17 (by decide) rfl (by decide) rfl).trans (congrArg some ecyc)) (Res.b (s20.rc gb20.1.2.2.2.mm.2) ?_)
      have hx20 := hx2.io i020
      have els20 : lt V20 E 13 2 w = ls := by rw [lt_io i020]; exact hls
      have okq : ∀ X, (memP M2 → X = if shP M2 then 64 else 4096) → memP M2 → okQ M2 s a X := by
        intro X hX hm i hi h27
        obtain ⟨q, e, hq⟩ := (why_ok ((f2 6).trans h6) hI2 (hno2 i hi h27)).2 hm
        have eN : askN M2 s a i = q := by
          have : askV M2 s a i = nI q := e
          unfold askN
          rw [this]
          exact nN_nI (by split at hq <;> omega)
        rw [hX hm, eN]
        exact ⟨e, hq⟩
      have hs64 : shP M2 → okQ M2 s a 64 := fun z => by
        have hm : memP M2 := (srtM M2).mp (Or.inl ((srtS M2).mpr z))
        exact okq 64 (fun _ => by rw [if_pos z]) hm
      have hg4 : memP M2 ∧ ¬ shP M2 → okQ M2 s a 4096 := fun z => okq 4096 (fun _ => by rw [if_neg z.2]) z.1
      obtain ⟨S1, S2, hco20⟩ := gb20.2.2.1
      refine Res.w (e7_takes s20 gb20.1 hx20 hco20 hu hw ((f2 54).trans h54) ha ((f2 52).trans hop) hop2 hwd2 (by omega) hG9 hB1 hB2 ((f2 4).trans h4) hD (fun j hj z => by rw [els20]; exact hDl j hj ((hD j hj).mpr z)) hs64 hg4) ?_
      rintro ⟨t, A23⟩ ⟨et, V23, S1', S2', s23, i23, c23, co23, h454⟩
      have et : t = (z_time M2 u s a (P 6) Bk (P 9)).1 := et
      have s23 : St (nC0 + rqC V E P) (nS0 + rqS V E P) A23 V23 := s23
      have htf := time_frm M2 u s a (P 6) Bk (P 9)
      have gb23 := gb20.ib i23 c23 (fmH_cnt htf (by decide) (by decide)) co23
      generalize hN : (z_time M2 u s a (P 6) Bk (P 9)).2 = N at *
      subst et
      generalize (z_time M2 u s a (P 6) Bk (P 9)).1 = t at *
      obtain ⟨tg0, tg70, tg71, tg72, tg28⟩ := togP (cntM u many all N) s a (P 6)
      have gb3 : GB V23 E ad (z_tog (cntM u many all N) s a (P 6)) P T Bk b1 b2 := gb23.iv IV.rf (gb23.1.1.frm' tg0 (fun k hk => by simp only [List.mem_cons, List.not_mem_nil, or_false] at hk ⊢; omega) (fun j hj => by simp only [List.mem_cons, List.not_mem_nil, or_false]; omega)) (fmH.frm tg0 (by decide) (by decide))
      have fN : ∀ k, k ≠ 16 → k ≠ 17 → k ≠ 18 → k ≠ 19 → k ≠ 20 → (cntM u many all N).1 k = M.1 k := fun k h6 h7 h8 h9 h10 => by
        rw [cnt_1 _ _ _ _ h6 h7 h8, htf.1 k (by simp only [List.mem_cons, List.not_mem_nil, or_false]; omega), f2]
      have aN : ∀ j, j ≠ 8 → j ≠ 3 → j ≠ 4 → j ≠ 5 → j ≠ 6 → j ≠ 25 → (cntM u many all N).2.1 j = M2.2.1 j := fun j h8 h3 h4 h5 h6 h25 => by
        rw [cnt_2 _ _ _ _ h8, htf.2.1 j (by simp only [List.mem_cons, List.not_mem_nil, or_false]; omega)]
      have a25 : (cntM u many all N).2.1 25 = N.2.1 25 := cnt_2 _ _ _ _ (by decide)
      generalize hM3 : z_tog (cntM u many all N) s a (P 6) = M3 at *
      have f3 : ∀ k, k ≠ 16 → k ≠ 17 → k ≠ 18 → k ≠ 19 → k ≠ 20 → k ≠ 58 → M3.1 k = M.1 k := fun k h6 h7 h8 h9 h10 h58 => by
        rw [tg0.1 k (by simp only [List.mem_cons, List.not_mem_nil, or_false]; omega)]
        exact fN k h6 h7 h8 h9 h10
      have a3 : ∀ j, j ≠ 8 → j ≠ 3 → j ≠ 4 → j ≠ 5 → j ≠ 6 → j ≠ 25 → j ≠ 28 → M3.2.1 j = M2.2.1 j := fun j h8 h3 h4 h5 h6 h25 h28 => by
        rw [tg0.2.1 j (by simp only [List.mem_cons, List.not_mem_nil, or_false]; omega)]
        exact aN j h8 h3 h4 h5 h6 h25
      have i023 : IB V V23 := i020.b.tr i23
      obtain ⟨rq1, rq2⟩ := rq_iob (E := E) (P := P) i023
      have els23 : lt V23 E 13 2 w = ls := by rw [← hls]; unfold lt; rw [i023.2.1.1]
      have hx3 : WM V23 x M3 := (hx.iob i023).fm (fun k k1 k2 => f3 k (by omega) (by omega) (by omega) (by omega) (by omega) (by omega))
      have e26 : M3.2.1 26 = M.2.1 26 := by rw [a3 26 (by decide) (by decide) (by decide) (by decide) (by decide) (by decide) (by decide)]; exact d3.a 26
      have e27 : M3.2.1 27 = M2.2.1 27 := a3 27 (by decide) (by decide) (by decide) (by decide) (by decide) (by decide) (by decide)
      have cut26 : ∀ i, ls.length ≤ i → i < 32 → M3.2.1 26 i = 0 := fun i h1 h2 => Classical.byContradiction fun z => by
        rw [e26] at z
        have := hG2 i h2 z
        omega
      have cut27 : ∀ i, ls.length ≤ i → i < 32 → M3.2.1 27 i = 0 := fun i h1 h2 => Classical.byContradiction fun z => by
        rw [e27] at z
        have := hDl i h2 ((hD i h2).mpr z)
        omega
      have eP6 : P 6 = ls.length + (P 6 - ls.length) := by omega
      -- what comes after the acts
      have cont : ∀ A34 V34 E34 ad34 T34, St (nC0 + rqC V34 E34 P) (nS0 + rqS V34 E34 P) A34 V34 → GB V34 E34 ad34 (iter (goS s d a b bk) 0 (P 6) M3) P T34 Bk b1 b2 → (T ≤ T34 ∧ T34 ≤ T + 32) → (∀ c, c ≠ 15 → ad34 c = ad c) → WM V34 x (iter (goS s d a b bk) 0 (P 6) M3) → KS V E V34 E34 → Res ((rcv A34 (some w) 13).bind fun v35 => (fX13_wrote v35 (some x) (M2.1 15 + t) A34).bind fun g36 => goT n (P 1) (some uu) (some w) (some x) g36) Post := by
        intro A34 V34 E34 ad34 T34 s34 gb34 hT34 had34 hx34 hks34
        have hw34 : ad34 13 s = some w := by rw [had34 13 (by decide)]; exact hw
        have hgf : iter (goS s d a b bk) 0 (P 6) M3 = iter (acS s d a b bk) 0 (P 6) (iter (plS s) 0 (P 6) M3) := go_I M3 (fun i hi z => by
          rw [e26, ← hG i hi]
          rw [e27] at z
          exact hDG i hi ((hD i hi).mpr z)) (P 6) hP6b
        have ff : ∀ k, k ≠ 41 → k ≠ 42 → (iter (goS s d a b bk) 0 (P 6) M3).1 k = M3.1 k := fun k h1 h2 => by
          rw [hgf, (acI_frm (s := s) (d := d) (a := a) (b := b) (bk := bk) _ 0 (P 6)).1 k (by simp only [List.mem_cons, List.not_mem_nil, or_false]; omega)]
          exact (plI_frm (s := s) M3 0 (P 6)).1 k List.not_mem_nil
        have e15 : (iter (goS s d a b bk) 0 (P 6) M3).1 15 = M2.1 15 := by rw [ff 15 (by decide) (by decide), f3 15 (by decide) (by decide) (by decide) (by decide) (by decide) (by decide), f2]
        have e53 : (iter (goS s d a b bk) 0 (P 6) M3).1 53 = nI d := by rw [ff 53 (by decide) (by decide), f3 53 (by decide) (by decide) (by decide) (by decide) (by decide) (by decide)]; exact h53
        refine Res.b (s34.rc (gb34.1.2.2.2.kk hw34)) ?_
        have hwr := e13_wrote s34 gb34.1 hx34 (s := s) (d := d) t hw34 e53 hd
        rw [e15] at hwr
        refine Res.w hwr ?_
        rintro A36 ⟨V36, s36, i36, c36⟩
        obtain ⟨rr1, rr2⟩ := rq_iob (E := E34) (P := P) i36.b
        have w1 := wr1_fm s d t (iter (goS s d a b bk) 0 (P 6) M3)
        have w2 := wr2_fm s t (wr1 s d t (iter (goS s d a b bk) 0 (P 6) M3))
        have w3 := wr3_fm s t (wr2 s t (wr1 s d t (iter (goS s d a b bk) 0 (P 6) M3)))
        have wf : frm [] [11, 12] (iter (goS s d a b bk) 0 (P 6) M3) (wr3 s t (wr2 s t (wr1 s d t (iter (goS s d a b bk) 0 (P 6) M3)))) := by
          have q1 : ∀ X : MS, frm [] [11, 12] X (wr1 s d t X) := fun X => by unfold wr1; split; exact frm.rf.mA (by decide); exact frm.rf
          have q2 : ∀ X : MS, frm [] [11, 12] X (wr2 s t X) := fun X => by unfold wr2; split; exact frm.rf.mA (by decide); exact frm.rf
          have q3 : ∀ X : MS, frm [] [11, 12] X (wr3 s t X) := fun X => by unfold wr3; split; exact frm.rf.mA (by decide); exact frm.rf
          exact ((q1 _).tr (q2 _)).tr (q3 _)
        exact hTail A36 V36 E34 ad34 T34 _ rfl (by rw [rr1, rr2]; exact s36) (gb34.iv i36 c36 (fmH.frm wf (by decide) (by decide))) hT34 had34 ((hx34.io i36).fm (fun k _ _ => wf.1 k List.not_mem_nil)) (hks34.tr (KS.ib i36.b))
      refine jl_R (fun dd (gg : Int32 → AH → Option AH) => ∀ k A26 V26, k + dd = ls.length → St (nC0 + rqC V E P) (nS0 + rqS V E P) A26 V26 → IV V23 V26 → (xi V26 454 = xi V23 454) → CX V26 ad (iter (plS s) 0 k M3) → Res (gg (nI k) A26) Post) ls.length (show ls.length < n by omega) ?_ ?_ ?_
      · intro gg k A26 V26 hk s26 i26 h4526 c26
        have ek : k = ls.length := by omega
        subst ek
        obtain ⟨w1, w2, w3, w4⟩ := wlx s26 (i023.tr i26.b) hwk hxl hli
        refine Res.b w1 (Res.b w2 (Res.b w3 ?_))
        rw [if_pos (Int32.le_refl _)]
        have hplf := plI_frm (s := s) M3 0 ls.length
        have gb4 : GB V26 E ad (iter (plS s) 0 ls.length M3) P T Bk b1 b2 := gb3.iv i26 c26 (fmH.frm hplf (by decide) (by decide))
        have hx4 : WM V26 x (iter (plS s) 0 ls.length M3) := (hx3.io i26).fm (fun k _ _ => hplf.1 k List.not_mem_nil)
        have epl : iter (plS s) 0 (P 6) M3 = iter (plS s) 0 ls.length M3 := by
          rw [eP6]
          exact pl_cut M3 cut26 (P 6 - ls.length) (by omega)
        have egs : iter (goS s d a b bk) 0 (P 6) M3 = iter (acS s d a b bk) 0 ls.length (iter (plS s) 0 ls.length M3) := by
          rw [go_I M3 (fun i hi z => by
            rw [e26, ← hG i hi]
            rw [e27] at z
            exact hDG i hi ((hD i hi).mpr z)) (P 6) hP6b, epl]
          have := ac_cut (s := s) (d := d) (a := a) (b := b) (bk := bk) (len := ls.length) (iter (plS s) 0 ls.length M3) (fun i h1 h2 => by rw [hplf.2.1 27 (by decide)]; exact cut27 i h1 h2) (P 6 - ls.length) (by omega)
          rw [← eP6] at this
          exact this
        have f4 : ∀ k, (iter (plS s) 0 ls.length M3).1 k = M3.1 k := fun k => hplf.1 k List.not_mem_nil
        have a4 : ∀ j, j ≠ 15 → (iter (plS s) 0 ls.length M3).2.1 j = M3.2.1 j := fun j hj => hplf.2.1 j (by simp only [List.mem_cons, List.not_mem_nil, or_false]; omega)
        have els26 : lt V26 E 13 2 w = ls := by rw [lt_io i26]; exact els23
        have fz : ∀ k, k ≠ 16 → k ≠ 17 → k ≠ 18 → k ≠ 19 → k ≠ 20 → k ≠ 58 → (iter (plS s) 0 ls.length M3).1 k = M.1 k := fun k h6 h7 h8 h9 h10 h58 => (f4 k).trans (f3 k h6 h7 h8 h9 h10 h58)
        have e52z := fz 52 (by decide) (by decide) (by decide) (by decide) (by decide) (by decide)
        have hDz : ∀ j, j < 32 → (bt D j = true ↔ ¬ (iter (plS s) 0 ls.length M3).2.1 27 j = 0) := fun j hj => by
          rw [a4 27 (by decide), e27]
          exact hD j hj
        have esrt : srt (iter (plS s) 0 ls.length M3) = srt M := srt_fm e52z (fz 57 (by decide) (by decide) (by decide) (by decide) (by decide) (by decide))
        refine Res.b (wg6 s26 hx4) ?_
        rw [jn_eq]
        simp only [sa_eq s26 hx4.2.1 (srt_lt _) (show 3 < 8 by omega)]
        obtain ⟨rr1, rr2⟩ := rq_iob (E := E) (P := P) (i023.tr i26.b)
        have s26' : St (nC0 + rqC V26 E P) (nS0 + rqS V26 E P) A26 V26 := by rw [rr1, rr2]; exact s26
        have hv3 : srt M = 3 ↔ 69 < M.1 52 := by
          have hle : ∀ k, k < 2 ^ 31 → (nI k < nI op ↔ k < op) := fun k hk => ⟨fun z => Classical.byContradiction fun hn => absurd z (Int32.not_lt.mpr (c_le (by omega) hk)), fun z => nI_lt z (by omega)⟩
          constructor
          · intro z
            apply Classical.byContradiction
            intro hn
            by_cases hm : memP M
            · have := (srtM M).mpr hm
              omega
            · have hops := wrd_ops hwd hm hn hop hop2
              have htk := srt_tk hop hop2 hwd hm
              rw [z] at htk
              have c70 : M.1 52 < 70 := by
                rw [hop]
                exact nI_lt (b := 70) (by omega) (by omega)
              rw [if_pos c70] at htk
              by_cases c78 : M.1 52 = 7 ∨ M.1 52 = 8
              · have := (srtD M).mpr c78
                omega
              · rw [if_neg c78] at htk
                by_cases c6 : (M.1 52 = 6 ∨ M.1 52 = 17) ∨ M.1 52 = 19
                · rw [if_pos c6] at htk
                  exact absurd htk (by decide)
                · rw [if_neg c6] at htk
                  exact absurd htk (by decide)
          · intro z
            have hm : ¬ memP M := fun hm => by
              rw [hop] at z
              have h1 := (hle 69 (by omega)).mp z
              unfold memP at hm
              rw [hop] at hm
              exact hm (Or.inr ((hle 59 (by omega)).mpr (by omega)))
            have htk := srt_tk hop hop2 hwd hm
            have c70 : ¬ M.1 52 < 70 := by
              rw [hop] at z ⊢
              have h1 := (hle 69 (by omega)).mp z
              exact Int32.not_lt.mpr (c_le (a := 70) (by omega) (by omega))
            rw [if_neg c70] at htk
            have hs8 := srt_lt M
            have : ∀ k, k < 8 → tk8 k = 2 → k = 3 := by decide
            exact this _ hs8 htk
        by_cases cv : srt (iter (plS s) 0 ls.length M3) = 3
        · rw [if_pos cv]
          rw [esrt] at cv
          have hgt := hv3.mp cv
          have hopv : M.1 52 = 70 ∨ M.1 52 = 71 ∨ M.1 52 = 72 ∨ M.1 52 = 73 := by
            have : 70 ≤ op ∧ op ≤ 73 := by
              rw [hop] at hgt
              have h1 : 69 < op := Classical.byContradiction fun hn => absurd hgt (Int32.not_lt.mpr (c_le (a := op) (b := 69) (by omega) (by omega)))
              refine ⟨by omega, ?_⟩
              have h := hwd
              unfold wrdP at h
              rw [hop] at h
              have nle : ∀ k, k < 70 → ¬ nI op ≤ nI k := fun k hk => c_nle (by omega) (by omega)
              rcases h with h | h | h | h | h
              · exact absurd h.1 (nle 21 (by omega))
              · exact absurd h.2 (nle 36 (by omega))
              · exact absurd h.2 (nle 42 (by omega))
              · exact absurd h.2 (nle 59 (by omega))
              · apply Classical.byContradiction
                intro hn
                exact c_nle (a := op) (b := 73) (by omega) (by omega) h.2
            have : op = 70 ∨ op = 71 ∨ op = 72 ∨ op = 73 := by omega
            rcases this with e | e | e | e <;> (subst e; rw [hop]; decide)
          have evo : ∀ j, j < 32 → voF (iter (plS s) 0 ls.length M3) s D j = voG (cntM u many all N) s j := by
            intro j hj
            unfold voF voG hasP
            rw [a4 14 (by decide), fz 54 (by decide) (by decide) (by decide) (by decide) (by decide) (by decide), fN 54 (by decide) (by decide) (by decide) (by decide) (by decide), aN 14 (by decide) (by decide) (by decide) (by decide) (by decide) (by decide), aN 27 (by decide) (by decide) (by decide) (by decide) (by decide) (by decide), a3 14 (by decide) (by decide) (by decide) (by decide) (by decide) (by decide) (by decide)]
            refine congrArg (fun z => z && _) ?_
            by_cases c : bt D j = true
            · rw [c, decide_eq_true ((hD j hj).mp c)]
            · have c' : bt D j = false := by
                cases hh : bt D j with
                | false => rfl
                | true => exact absurd hh c
              rw [c', decide_eq_false (fun z => c ((hD j hj).mpr z))]
          have ecut : cnB (voG (cntM u many all N) s) (P 6) = cnB (voF (iter (plS s) 0 ls.length M3) s D) ls.length := by
            rw [eP6, cnB_cut (P 6 - ls.length) (fun i h1 h2 => ?_)]
            · exact cnB_c _ (fun i hi => (evo i (by omega)).symm)
            · unfold voG
              rw [aN 27 (by decide) (by decide) (by decide) (by decide) (by decide) (by decide), ← e27, decide_eq_false (not_not_intro (cut27 i h1 (by omega))), Bool.false_and]
          have ecut2 : cnB (fun j => decide (¬ (cntM u many all N).2.1 27 j = 0)) (P 6) = cnB (bt D) 32 := by
            have e32 : (32 : Nat) = P 6 + (32 - P 6) := by omega
            rw [e32, cnB_cut (f := bt D) (len := P 6) (32 - P 6) (fun i h1 h2 => ?_)]
            · refine cnB_c _ (fun i hi => ?_)
              rw [aN 27 (by decide) (by decide) (by decide) (by decide) (by decide) (by decide)]
              by_cases c : bt D i = true
              · rw [c, decide_eq_true ((hD i (by omega)).mp c)]
              · have c' : bt D i = false := by
                  cases hh : bt D i with
                  | false => rfl
                  | true => exact absurd hh c
                rw [c', decide_eq_false (fun z => c ((hD i (by omega)).mpr z))]
            · cases hh : bt D i with
              | false => rfl
              | true =>
                have := hDl i (by omega) hh
                omega
          have f58 : (iter (plS s) 0 ls.length M3).1 58 = M3.1 58 := f4 58
          have eop52 : (cntM u many all N).1 52 = M.1 52 := fN 52 (by decide) (by decide) (by decide) (by decide) (by decide)
          refine Res.b (s26.rc gb4.1.2.2.2.mm.2) (Res.w (e7_vote s26 gb4.1 hx4 (b := b) (bk := bk) hw ((fz 53 (by decide) (by decide) (by decide) (by decide) (by decide) (by decide)).trans h53) ((fz 54 (by decide) (by decide) (by decide) (by decide) (by decide) (by decide)).trans h54) hd ha hP6 (by omega) hDz (fun j hj z => by rw [els26]; exact hDl j hj z) (by rw [e52z]; exact hopv) (fun z => ?_) (fun z => ?_) (fun z => ?_) (fun z j hj => ?_)) ?_)
          · rw [f58, els26, ← ecut]
            exact tg70 (by rw [eop52, ← e52z]; exact z)
          · rw [f58, els26, ← ecut, ← ecut2]
            exact tg71 (by rw [eop52, ← e52z]; exact z)
          · rw [f58, els26, ← ecut]
            exact tg72 (by rw [eop52, ← e52z]; exact z)
          · rw [els26] at hj
            rw [a4 28 (by decide), tg28 j (by omega)]
            have hlnj : lnI (cntM u many all N) s j := by
              rw [lnI_m (M := M) (by rw [aN 10 (by decide) (by decide) (by decide) (by decide) (by decide) (by decide)]; exact d3.a 10) (fN 1 (by decide) (by decide) (by decide) (by decide) (by decide)) (fN 13 (by decide) (by decide) (by decide) (by decide) (by decide))]
              exact (hln j (by omega)).mpr hj
            rw [if_pos hlnj]
            unfold rgV
            rw [a4 13 (by decide), aN 13 (by decide) (by decide) (by decide) (by decide) (by decide) (by decide), a3 13 (by decide) (by decide) (by decide) (by decide) (by decide) (by decide) (by decide)]
          · rintro A34 ⟨V34, s34, i34, c34⟩
            rw [els26, ← egs] at c34
            obtain ⟨qq1, qq2⟩ := rq_iob (E := E) (P := P) i34.b
            have hvf : ∀ k, frm [] [13, 14] (iter (plS s) 0 ls.length M3) (iter (acS s d a b bk) 0 k (iter (plS s) 0 ls.length M3)) := by
              intro k
              induction k with
              | zero => exact frm.rf
              | succ k ih =>
                rw [iter_last, Nat.zero_add]
                have e52k := ih.1 52 List.not_mem_nil
                generalize iter (acS s d a b bk) 0 k (iter (plS s) 0 ls.length M3) = Y at *
                refine ih.tr ?_
                unfold acS
                split
                · exact frm.rf
                · rw [z_vote (by rw [e52k, e52z]; exact hopv)]
                  split
                  · exact frm.rf.mA (by decide)
                  · unfold z_say
                    exact frm.rf.mA (by decide)
            have hvf' := hvf ls.length
            rw [← egs] at hvf'
            exact cont A34 V34 E ad T (by rw [qq1, qq2, rr1, rr2]; exact s34) (gb4.iv i34 c34 (fmH.frm hvf' (by decide) (by decide))) ⟨Nat.le_refl _, by omega⟩ (fun _ _ => rfl) ((hx4.io i34).fm (fun k _ _ => hvf'.1 k List.not_mem_nil)) (KS.ib ((i023.tr i26.b).tr i34.b))
        · rw [if_neg cv]
          rw [esrt] at cv
          have hnv : ¬ 69 < (iter (plS s) 0 ls.length M3).1 52 := by rw [e52z]; exact fun z => cv (hv3.mpr z)
          obtain ⟨em2, es2⟩ := mem_fm (M := M2) (M' := iter (plS s) 0 ls.length M3) (by rw [e52z, f2])
          have easkz : ∀ i, askV (iter (plS s) 0 ls.length M3) s a i = askV M2 s a i := fun i => ask_fm (by rw [a4 13 (by decide), a3 13 (by decide) (by decide) (by decide) (by decide) (by decide) (by decide) (by decide)]) (by rw [fz 57 (by decide) (by decide) (by decide) (by decide) (by decide) (by decide), f2]) s a i
          have easkNz : ∀ i, askN (iter (plS s) 0 ls.length M3) s a i = askN M2 s a i := fun i => by unfold askN; rw [easkz]
          have e27z : (iter (plS s) 0 ls.length M3).2.1 27 = M2.2.1 27 := by rw [a4 27 (by decide), e27]
          have okqz : ∀ X, okQ M2 s a X → okQ (iter (plS s) 0 ls.length M3) s a X := fun X hX i hi z => by
            rw [easkz, easkNz]
            exact hX i hi (by rw [← e27z]; exact z)
          have okw : okW (iter (plS s) 0 ls.length M3) s d a b bk p0 := by
            refine ⟨⟨⟨op, e52z.trans hop, hop2⟩, (fz 53 (by decide) (by decide) (by decide) (by decide) (by decide) (by decide)).trans h53, (fz 54 (by decide) (by decide) (by decide) (by decide) (by decide) (by decide)).trans h54, (fz 55 (by decide) (by decide) (by decide) (by decide) (by decide) (by decide)).trans h55, hd, ha, hb⟩, ⟨?_, hbk2⟩, ?_, fun k hk z zz => ?_, fun z => okqz 64 (hs64 (by rw [← es2]; exact z)), fun z => okqz 4096 (hg4 (by rw [← em2, ← es2]; exact z)), (fz 41 (by decide) (by decide) (by decide) (by decide) (by decide) (by decide)).trans h41, fun z => hp0 (by rw [← (mem_fm (M := M) (M' := iter (plS s) 0 ls.length M3) e52z).1, ← (mem_fm (M := M) (M' := iter (plS s) 0 ls.length M3) e52z).2]; exact z)⟩
            · rw [a4 9 (by decide), a3 9 (by decide) (by decide) (by decide) (by decide) (by decide) (by decide) (by decide), d3.a 9]
              exact hbk
            · unfold wrdP
              rw [e52z, fz 57 (by decide) (by decide) (by decide) (by decide) (by decide) (by decide)]
              exact hwd
            · have hy := (why_ok ((f2 6).trans h6) hI2 (hno2 k hk (by rw [← e27z]; exact z))).1 (by rw [f2, ← e52z]; exact zz)
              unfold rgV at hy ⊢
              rw [a4 13 (by decide), a3 13 (by decide) (by decide) (by decide) (by decide) (by decide) (by decide) (by decide)]
              exact hy
          refine e7_acts hS0 hC0 s26' gb4 hT hx4 hw okw hnv hDz (fun z i hi z2 => ?_) (by omega) _ _ ?_
          · rw [h4526, easkNz, h454 (by rw [← em2, ← es2]; exact z) i hi (by rw [← e27z]; exact z2), a4 25 (by decide), tg0.2.1 25 (by decide), a25]
          · intro A34 V34 E34 ad34 T34 s34 gb34 hT34 had34 hx34 hks34
            rw [els26, ← egs] at gb34 hx34
            exact cont A34 V34 E34 ad34 T34 s34 gb34 hT34 had34 hx34 ((KS.ib (i023.tr i26.b)).tr hks34)
      · intro dd gg hgg k A26 V26 hk s26 i26 h4526 c26
        obtain ⟨w1, w2, w3, w4⟩ := wlx s26 (i023.tr i26.b) hwk hxl hli
        refine Res.b w1 (Res.b w2 (Res.b w3 ?_))
        rw [if_neg (c_nle (by omega) (by omega)), nI_1]
        obtain ⟨l, hl1, hl2, hl3⟩ := hlane k (by omega)
        have hplf := plI_frm (s := s) M3 0 k
        have gb4 : GB V26 E ad (iter (plS s) 0 k M3) P T Bk b1 b2 := gb3.iv i26 c26 (fmH.frm hplf (by decide) (by decide))
        have hlk26 := gb4.1.2.2.2.kk hl2
        refine Res.b (w4 k l hl1) (Res.b (s26.cs hlk26) (Res.b (gb4.1.lf s26 hl2 2 (by omega)).1 ?_))
        obtain ⟨A72, e72, s72⟩ := s26.pi 2 ((iter (plS s) 0 k M3).2.1 (13 + 2) (32 * s + k) + ((G >>> (nI k &&& 31)) &&& (1 : Int32))) (c := 14) hlk26 (by decide) rfl
        refine Res.b e72 ?_
        have c72 : CX (vI' V26 1402 l 0 ((iter (plS s) 0 k M3).2.1 (13 + 2) (32 * s + k) + ((G >>> (nI k &&& 31)) &&& (1 : Int32)))) ad (mA (iter (plS s) 0 k M3) 15 (32 * s + k) ((iter (plS s) 0 k M3).2.1 (13 + 2) (32 * s + k) + ((G >>> (nI k &&& 31)) &&& (1 : Int32)))) := CX.setA (d := 1402) (k := 32 * s + k) (i := 0) gb4.1.1 gb4.1.2.2.2.1 _ (by decide) (by decide) hl2
        have epk : mA (iter (plS s) 0 k M3) 15 (32 * s + k) ((iter (plS s) 0 k M3).2.1 (13 + 2) (32 * s + k) + ((G >>> (nI k &&& 31)) &&& (1 : Int32))) = iter (plS s) 0 (k + 1) M3 := by
          rw [iter_last, Nat.zero_add]
          have e26k := hplf.2.1 26 (by decide)
          generalize iter (plS s) 0 k M3 = Y at *
          unfold plS
          rw [e26k, e26, bit_v G (by omega)]
          by_cases cb : bt G k = true
          · rw [if_pos cb, if_neg ((hG k (by omega)).mp cb)]
          · rw [if_neg cb, if_pos (Classical.byContradiction fun z => cb ((hG k (by omega)).mpr z)), Int32.add_zero]
            exact mA_id Y 15 (32 * s + k)
        rw [epk] at c72
        refine hgg (k + 1) A72 _ (by omega) s72 (i26.tr (IV.vI (Or.inl (by decide)))) ?_ c72
        rw [← h4526]
        funext a' i'
        rw [vIi, if_neg (fun z => absurd z.1 (by decide))]
      · intro gg hgg
        exact hgg 0 A23 V23 (by omega) s23 IV.rf rfl gb3.1.1
    rw [jn_eq]
    by_cases cDG : D = G
    · rw [if_pos cDG]
      rw [if_pos cDG] at epart
      exact rest 0 epart
    · rw [if_neg cDG]
      rw [if_neg cDG] at epart
      exact rest 1 epart
  · intro dd gg hgg k hk hno
    refine Res.b ((h.gr 2 (c := 13) hwk (by decide) rfl).trans (congrArg some hxl)) (Res.b (h.rc hli.1) (Res.b (L_size h hli) ?_))
    rw [if_neg (c_nle (by omega) (by omega)), jn_eq, nI_1]
    have hk32 : k < 32 := by omega
    by_cases cb : bt D k = true
    · rw [if_neg (fun z => by rw [(bit0_bt _ hk32).mp z] at cb; cases cb)]
      have h27 := (hD k hk32).mp cb
      obtain ⟨l, q1, q2, q3, q4⟩ := why k (by omega) h27
      refine Res.b (L_get h hli q1) (Res.b (h.cs q2) (Res.b (h.rc hmk) (Res.b q4 ?_)))
      show Res (if whyV M2 (32 * s + k) a b = 0 then gg (nI (k + 1)) else (rcv A (some (P 1)) 7).bind fun v77 => (fX7_trap v77 (some w) (nI k) (whyV M2 (32 * s + k) a b) A).bind fun g78 => some g78) Post
      by_cases cw : whyV M2 (32 * s + k) a b = 0
      · rw [if_pos cw]
        refine hgg (k + 1) (by omega) (fun j hj => ?_)
        by_cases e : j = k
        · rw [e]; exact fun z => z.2 cw
        · exact hno j (by omega)
      · rw [if_neg cw]
        refine Res.b (h.rc hmk) (Res.w (e7_trap h gb2.1.1 gb2.1.2.1 gb2.1.2.2.1 gb2.1.2.2.2 hw q3 hk32 (whyV M2 (32 * s + k) a b)) ?_)
        rintro A' ⟨V', s', i', c'⟩
        have htr : trF M2 s a b 0 (P 6) = some k := by
          rcases trF_P M2 s a b (P 6) 0 with ⟨z1, z2⟩ | ⟨k', z1, z2, z3, z4, z5⟩
          · exact absurd ⟨h27, cw⟩ (z2 k (by omega) (by omega))
          · have : k' = k := by
              apply Classical.byContradiction
              intro hne
              by_cases hlt : k' < k
              · exact hno k' hlt z4
              · exact z5 k (by omega) (by omega) ⟨h27, cw⟩
            rw [z1, this]
        obtain ⟨rq1, rq2⟩ := rq_iob (E := E) (P := P) i'.b
        refine Res.r (hTrap k A' V' htr (by rw [rq1, rq2]; exact s') (gb2.iv i' c' ?_) (KS.ib i'.b))
        refine fmH.frm (ks := [11, 23, 24, 25, 26]) (js := []) ?_ (by decide) (by decide)
        unfold z_trap
        exact ((((frm.rf.mI (by decide)).mI (by decide)).mI (by decide)).mI (by decide)).mI (by decide)
    · have cbf : bt D k = false := by
        cases hh : bt D k with
        | false => rfl
        | true => exact absurd hh cb
      rw [if_pos ((bit0_bt _ hk32).mpr cbf)]
      show Res (if (0 : Int32) = 0 then gg (nI (k + 1)) else _) Post
      rw [if_pos rfl]
      refine hgg (k + 1) (by omega) (fun j hj => ?_)
      by_cases e : j = k
      · rw [e]; exact fun z => cb ((hD k hk32).mpr z.1)
      · exact hno j (by omega)
  · intro gg hgg
    exact hgg 0 (by omega) (fun j hj => by omega)
end C41
