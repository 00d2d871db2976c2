/-! C54: a unit issues, the loop -/
section C54
variable {nC nS n : Nat} {A A' : AH} {V V' V'' : CW} {E E' : EL} {ad ad' : AA} {M M' : MS} {P : PP} {x T T' Bk b1 b2 n0 n1 n2 : Nat}
set_option maxHeartbeats 4000000 in
theorem e7_issue (hS : 10000 ≤ nS) (hC : 2 ≤ nC) (g : GX nC nS A V E ad M P T Bk b1 b2 n0 n1 n2) (hT : T + 32 < 2 ^ 30) {u uu l p0 I : Nat} (hu : ad 8 u = some uu) (h7 : M.2.1 7 u = nI l) (hl : l < 16) (hP7 : 1 ≤ P 7) (h6 : M.1 6 = nI I) (hI1 : 1 ≤ I) (hI2 : I ≤ 4096) (h4 : M.1 4 = nI Bk) (hB1 : 1 ≤ Bk) (hB2 : Bk ≤ 32) (hG9 : 1 ≤ P 9) (hP6 : 1 ≤ P 6) (h41 : M.1 41 = nI p0) (hp0 : ∀ s, s < 128 → s / 16 = u → ¬ M.2.1 9 s = -1 → M.2.1 11 s ≤ M.1 15 → p0 + 32 ≤ 4096) (hn : 10001 < n) (hGo : okGo M u (P 6) Bk (P 9)) :
    Res (fX7_issue n (P 1) (some uu) A) (fun A' => ∃ V' E' ad' T', GX nC nS A' V' E' ad' (z_uL u (P 6) (P 7) Bk (P 9) 1 (P 7) M) P T' Bk b1 b2 n0 n1 n2 ∧ (T ≤ T' ∧ T' ≤ T + 32) ∧ (∀ c, c ≠ 12 → c ≠ 13 → c ≠ 14 → c ≠ 15 → ad' c = ad c) ∧ fr V' = fr V) := by
  have h := g.1
  have hs := g.2.1.1.2.2.2
  have hmk := hs.mm.2
  have huk := hs.kk hu
  have hP7b := hs.2.2.2.2.2.2.2.2.1.2.1
  have hu8 : u < 8 := by
    have := hs.2.2.2.1.2.1 u
    rw [hu] at this
    have := ge_lt this
    have h1 := hs.2.2.2.1.1
    have h2 := hs.2.2.2.2.2.2.2.2.1.2.2.1
    omega
  obtain ⟨⟨y, y1, y2, y3⟩, hsl⟩ := hs.2.2.2.1.2.2.1 u uu hu
  have y3 : xn V 800 uu = P 7 := y3
  have hdz : dz (nI (P 7)) = some () := by
    unfold dz
    rw [if_neg (nI_ne0 (by omega) (by omega))]
  unfold fX7_issue
  refine jl_R (fun dd (gg : Int32 → Option AH) => ∀ k N, k + dd = P 7 + 1 → 1 ≤ k → frm [52, 53, 54, 55, 56, 57] [26] M N → Res (gg (nI k)) (fun A' => ∃ V' E' ad' T', GX nC nS A' V' E' ad' (z_uL u (P 6) (P 7) Bk (P 9) k dd N) P T' Bk b1 b2 n0 n1 n2 ∧ (T ≤ T' ∧ T' ≤ T + 32) ∧ (∀ c, c ≠ 12 → c ≠ 13 → c ≠ 14 → c ≠ 15 → ad' c = ad c) ∧ fr V' = fr V)) (P 7) (show P 7 < n by omega) ?_ ?_ ?_
  · intro gg k N hk hk1 hf
    have gN := g.mm hf (by decide) (by decide)
    have g1 : gI A (some (P 1)) 7 1 = some (nI (P 7)) := (gF h gN.2.1.1.2.2.2 gN.2.1.1.1 1 (by decide) rfl (by decide) rfl).trans (congrArg some gN.2.1.1.2.2.2.2.2.2.2.2.2.2.2.2.1.2)
    refine Res.b g1 ?_
    rw [if_pos (nI_lt (by omega) (by omega))]
    exact Res.r ⟨V, E, ad, T, gN, ⟨Nat.le_refl _, by omega⟩, fun _ _ _ _ _ => rfl, rfl⟩
  · intro dd gg hgg k N hk hk1 hf
    have gN := g.mm hf (by decide) (by decide)
    have cpN := gN.2.1.1
    have hsN := cpN.2.2.2
    have g1 : gI A (some (P 1)) 7 1 = some (nI (P 7)) := (gF h hsN cpN.1 1 (by decide) rfl (by decide) rfl).trans (congrArg some hsN.2.2.2.2.2.2.2.2.2.1.2)
    have n7 : N.2.1 7 u = nI l := by rw [hf.a 7]; exact h7
    have g8 : gI A (some uu) 8 1 = some (nI l) := (h.gi 1 (c := 8) huk (by decide) rfl).trans (congrArg some ((cpN.1 801 u 0 uu (Or.inl (by decide)) (by decide) hu).trans n7))
    refine Res.b g1 ?_
    rw [if_neg (Int32.not_lt.mpr (c_le (by omega) (by omega)))]
    have eslt : slt N u (P 7) k = (l + k) % P 7 := by
      unfold slt
      rw [n7, nN_nI (by omega)]
    have hix : (nI l + nI k) - (nI l + nI k) / nI (P 7) * nI (P 7) = nI (slt N u (P 7) k) := by
      rw [nI_add, pk_rem (by omega) (by omega) (by omega), eslt]
    have hltS : slt N u (P 7) k < P 7 := by rw [eslt]; exact Nat.mod_lt _ (by omega)
    refine Res.b g8 (Res.b hdz (Res.b ((h.gr 0 (c := 8) huk (by decide) rfl).trans (congrArg some y1)) ?_))
    rw [hix]
    rw [z_uL_s]
    generalize eq0 : slt N u (P 7) k = q at *
    refine Res.b ((h.ar q (c := 8) (k := 0) huk (Or.inr rfl) y1 y2 (by show q < xn V 800 uu; omega) (by omega)).trans (congrArg some (hsl q hltS))) ?_
    obtain ⟨s, es⟩ : ∃ s, s = 16 * u + q := ⟨_, rfl⟩
    rw [← es]
    have hs128 : s < 128 := by omega
    have hsu : s / 16 = u := by omega
    have hrf := rdy_frm N u s (P 6)
    have next : ∀ (N' : MS), (z_rdy N u s (P 6)) = (false, N') → Res (gg (nI (k + 1))) (fun A' => ∃ V' E' ad' T', GX nC nS A' V' E' ad' (if (z_rdy N u s (P 6)).1 = true then z_goX (mA (z_rdy N u s (P 6)).2 7 u (nI q)) u s (P 6) Bk (P 9) else z_uL u (P 6) (P 7) Bk (P 9) (k + 1) dd (z_rdy N u s (P 6)).2) P T' Bk b1 b2 n0 n1 n2 ∧ (T ≤ T' ∧ T' ≤ T + 32) ∧ (∀ c, c ≠ 12 → c ≠ 13 → c ≠ 14 → c ≠ 15 → ad' c = ad c) ∧ fr V' = fr V) := by
      intro N' hz
      rw [hz] at hrf ⊢
      rw [if_neg (show ¬ (false, N').1 = true from fun z => by cases z)]
      exact hgg (k + 1) N' (by omega) (by omega) (hf.tr hrf)
    rw [jn_eq]
    cases hw : ad 13 s with
    | none =>
      rw [if_pos rfl]
      have h9 : N.2.1 9 s = -1 := hsN.2.2.2.2.1.2 s hs128 hw
      have hz : z_rdy N u s (P 6) = (false, N) := by
        unfold z_rdy
        rw [if_pos h9]
      show Res (jn (gg (nI k + 1)) fun j12 => if (0 : Int32) = 0 then (j12) else _) _
      rw [jn_eq, if_pos rfl, nI_1]
      exact next N hz
    | some w =>
      rw [if_neg (fun z => by cases z)]
      have hwk := hsN.kk hw
      obtain ⟨bk, bb, hbk1, hbk2, hbk3, hbk4⟩ := hsN.bl hw
      have h9 : ¬ N.2.1 9 s = -1 := fun z => by
        rw [hbk2] at z
        have h2 := nI_pos' (n := bk) (by omega)
        rw [z] at h2
        exact absurd h2 (by decide)
      obtain ⟨G, hG, p1, p2, p3, p4⟩ := grp_all (n := n) h cpN hw (by omega)
      have hP6b := hsN.2.2.2.2.2.2.2.2.1.1
      refine Res.b (h.rc hwk) (Res.b hG ?_)
      show Res (jn (gg (nI k + 1)) fun j12 => if G = 0 then (j12) else _) _
      rw [jn_eq, nI_1]
      by_cases cG : G = 0
      · rw [if_pos cG]
        refine next (grM N s (P 6)) ?_
        unfold z_rdy
        rw [if_neg h9, if_pos (p2.mp cG)]
      · rw [if_neg cG]
        obtain ⟨f32, fntz, f26⟩ := p4 cG
        have hgf := (grp_26 N s (iter (grS N s) 0 (P 6) (0, 0))).1
        have hgf : frm [] [26] N (grM N s (P 6)) := hgf
        generalize eg : grM N s (P 6) = Ng at *
        have gNg := gN.mm hgf (by decide) (by decide)
        obtain ⟨_, ⟨ll, cap, hxl, hli⟩, hlen, hln, hlane, hlenP⟩ := gNg.2.1.1.wl hw
        obtain ⟨lf, hl1, hl2, hl3⟩ := hlane (fst1 Ng) ((p3 _ f32 f26).1)
        have gpl : gI A (some lf) 14 2 = some (plc Ng s) := (gNg.2.1.1.lf h hl2 2 (by omega)).1
        refine Res.b fntz (Res.b ((h.gr 2 (c := 13) hwk (by decide) rfl).trans (congrArg some hxl)) (Res.b (h.rc hli.1) (Res.b (L_get h hli hl1) (Res.b (h.cs hl3) (Res.b gpl ?_)))))
        have hng1 : ¬ (iter (grS N s) 0 (P 6) (0, 0)).1 = 0 := fun z => cG (p2.mpr z)
        rw [jn_eq]
        have hNg : frm [52, 53, 54, 55, 56, 57] [26] N Ng := hgf.up (by decide) (by decide)
        have hMNg : frm [52, 53, 54, 55, 56, 57] [7, 26] M Ng := (hf.tr hNg).up (by decide) (by decide)
        by_cases cP : plc Ng s < 0 ∨ 128 ≤ plc Ng s
        · rw [if_pos cP]
          show Res (jn ((pI A (some uu) 8 1 (nI q)).bind fun A23 => jn (fun (A25 : AH) => some A25) fun j24 => if (0 : Int32) = 0 then ((rcv A23 (some (P 1)) 7).bind fun v27 => (fX7_trap v27 (some w) (nI (fst1 Ng)) (1 : Int32) A23).bind fun g28 => j24 g28) else _) fun j22 => if (0 : Int32) = 0 then (j22) else _) _
          rw [jn_eq, if_pos rfl]
          have cP' : plc Ng s < 0 ∨ ¬ plc Ng s < 128 := cP.elim Or.inl (fun z => Or.inr (Int32.not_lt.mpr z))
          have hz : z_rdy N u s (P 6) = (true, Ng) := by
            unfold z_rdy
            rw [if_neg h9, if_neg hng1, eg, if_pos cP']
          have hgo : z_goX (mA Ng 7 u (nI q)) u s (P 6) Bk (P 9) = z_trap (mA Ng 7 u (nI q)) s (fst1 Ng) 1 := by
            have hpl : plc (mA Ng 7 u (nI q)) s = plc Ng s := by
              unfold plc
              rw [f1m, mA_a, if_neg (by decide)]
            unfold z_goX
            rw [hpl, if_pos cP', f1m]
          have ez : (if (z_rdy N u s (P 6)).1 = true then z_goX (mA (z_rdy N u s (P 6)).2 7 u (nI q)) u s (P 6) Bk (P 9) else z_uL u (P 6) (P 7) Bk (P 9) (k + 1) dd (z_rdy N u s (P 6)).2) = z_trap (mA Ng 7 u (nI q)) s (fst1 Ng) 1 := by
            rw [hz, ← hgo]
            exact if_pos rfl
          rw [ez]
          obtain ⟨A23, V23, e23, i23, g23⟩ := iss_note (q := q) gNg hu
          refine Res.b e23 ?_
          rw [jn_eq, if_pos rfl]
          exact Res.b (g23.1.rc g23.2.1.1.2.2.2.mm.2) (Res.w (iss_trap g23 hw hl2 f32 1) (fun A5 ⟨V5, E5, ad5, T5, x1, x2, x3, x4⟩ => Res.r ⟨V5, E5, ad5, T5, x1, x2, x3, x4.trans i23.ff⟩))
        · rw [if_neg cP]
          have cP' : ¬ (plc Ng s < 0 ∨ ¬ plc Ng s < 128) := fun z => cP (z.elim Or.inl (fun q' => Or.inr (Int32.not_lt.mp q')))
          obtain ⟨epl, hpl128⟩ := rngP cP'
          obtain ⟨pl, epl2⟩ : ∃ pl, pl = nN (plc Ng s) := ⟨_, rfl⟩
          rw [← epl2] at epl hpl128
          have kn := gNg.2.1.2.2.2
          obtain ⟨kl, hxk, lik, _⟩ := cpN.2.2.1.li2 cpN.2.1 (c := 1) (k := 0) (e := 5) (hsN.kk hsN.2.2.1.1.1) rfl
          obtain ⟨x, hxw⟩ := lt_ge (l := lt V E 1 0 (P 0)) (i := pl) (by rw [kn.1]; exact hpl128)
          have hx704 : xr V 704 (P 1) 0 = some kl := by rw [hsN.2.2.1.2.2.2.2.2.1]; exact hxk
          have ewd : wrd Ng s = Ng.2.2 pl := by
            unfold wrd
            rw [← epl2]
          have etk : takM Ng s = z_take Ng (Ng.2.2 pl) := by
            unfold takM
            rw [ewd]
          have htf := take_frm Ng (Ng.2.2 pl)
          have hxt := kn.2 pl x hxw
          obtain ⟨t52, t53, t54, t55, t56, b52, b53, b54, b55, b56⟩ := take_n Ng (Ng.2.2 pl)
          have hz0 : z_rdy N u s (P 6) = if ¬ wrdP (z_take Ng (Ng.2.2 pl)) then (true, z_take Ng (Ng.2.2 pl)) else (rdyB (z_take Ng (Ng.2.2 pl)) u s (wdd (Ng.2.2 pl)) (waa (Ng.2.2 pl)) (wbb (Ng.2.2 pl)), z_take Ng (Ng.2.2 pl)) := by
            unfold z_rdy
            rw [if_neg h9, if_neg hng1, eg, if_neg cP', etk, ewd]
          obtain ⟨Nt, eNt2⟩ : ∃ Nt, Nt = z_take Ng (Ng.2.2 pl) := ⟨_, rfl⟩
          rw [← eNt2] at htf hxt t52 t53 t54 t55 t56 hz0
          have gNt := gNg.mm htf (by decide) (by decide)
          have hwk5 : kdV V x = 6 := hxt.1
          have gcyc : gI A (some (P 1)) 7 17 = some (Nt.1 15) := gF h gNt.2.1.1.2.2.2 gNt.2.1.1.1 17 (by decide) rfl (by decide) rfl
          have hthere := e13_isThere h hxt (n := n) (gNt.2.1.1.2.2.2.wo gNt.2.1.1.1 gNt.2.1.1.2.2.1 hw) t53 t54 t55 b53 b54 b55 (by omega)
          have hfree := e8_isFree h hxt (gNt.2.1.1.2.2.2.uo gNt.2.1.1.1 hu)
          have hrq := rdy_eq (M := Nt) (u := u) (s := s) (d := wdd (Ng.2.2 pl)) (a := waa (Ng.2.2 pl)) (b := wbb (Ng.2.2 pl)) t52 b52
          have hs7 := srt7 (M := Nt)
          have p3' : ∀ j, j < 32 → ¬ Ng.2.1 26 j = 0 → j < (lt V E 13 2 w).length ∧ awk Ng s j := fun j hj z => by
            obtain ⟨z1, z2⟩ := p3 j hj z
            refine ⟨z1, ?_⟩
            unfold awk at z2 ⊢
            rw [hgf.a 16, hgf.a 17, lnI_m (M := N) (hgf.a 10) (hgf.f 1) (hgf.f 13)]
            exact z2
          have goes := iss_go (n := n) (bk := bk) (q := q) (G := G) (I := I) (p0 := p0) hS hC gNt hT eNt2 hw hu hs128 hsu p1 p3' f32 hl2 epl epl2 cP' hxw lik hx704 hxt
          show Res (jn ((pI A (some uu) 8 1 (nI q)).bind fun A23 => jn (fun (A25 : AH) => some A25) fun j24 => if (1 : Int32) = 0 then ((rcv A23 (some (P 1)) 7).bind fun v27 => (fX7_trap v27 (some w) (nI (fst1 Ng)) (1 : Int32) A23).bind fun g28 => j24 g28) else
              (gR A23 (some (P 1)) 7 4).bind fun v29 =>
              (rcv A23 v29 0).bind fun v30 =>
              (fJ2_get v30 (plc Ng s) A23).bind fun g31 =>
              (cst A23 g31 5).bind fun v32 =>
              (rcv A23 g31 5).bind fun v33 =>
              (fX5_isKnown v33 A23).bind fun g34 =>
              if g34 = 0 then ((rcv A23 (some (P 1)) 7).bind fun v36 =>
              (fX7_trap v36 (some w) (nI (fst1 Ng)) (2 : Int32) A23).bind fun g37 =>
              j24 g37) else
              (rcv A23 (some (P 1)) 7).bind fun v38 =>
              (fX7_go n v38 (some uu) (some w) G g31 A23).bind fun g39 =>
              j24 g39) fun j22 => if (1 : Int32) = 0 then (j22) else
              (gR A (some (P 1)) 7 4).bind fun v41 =>
              (rcv A v41 0).bind fun v42 =>
              (fJ2_get v42 (plc Ng s) A).bind fun g43 =>
              (cst A g43 5).bind fun v44 =>
              (gI A (some (P 1)) 7 17).bind fun v45 =>
              (rcv A (some w) 13).bind fun v46 =>
              (fX13_isThere n v46 g43 v45 A).bind fun g47 =>
              if g47 = 0 then (gg (nI (k + 1))) else
              (rcv A (some uu) 8).bind fun v49 =>
              (fX8_isFree v49 g43 v45 A).bind fun g50 =>
              if g50 = 0 then (gg (nI (k + 1))) else
              j22) _
          simp only [jn_eq, show ¬ ((1 : Int32) = 0) by decide, if_false]
          have hget : fJ2_get kl (plc Ng s) A = some (some x) := by rw [epl]; exact L_get h lik hxw
          refine Res.b ((h.gr 4 (c := 7) hmk (by decide) rfl).trans (congrArg some hx704)) (Res.b (h.rc lik.1) (Res.b hget (Res.b (h.cs (c := 5) hwk5) (Res.b gcyc (Res.b (h.rc hwk) (Res.b hthere ?_))))))
          by_cases cth : srt Nt = 7 ∨ th6 Nt (wdd (Ng.2.2 pl)) (waa (Ng.2.2 pl)) (wbb (Ng.2.2 pl)) s
          · rw [if_neg (by rw [b2i_0]; exact not_not_intro cth)]
            refine Res.b (h.rc huk) (Res.b hfree ?_)
            by_cases cfr : (¬ srt Nt = 4 ∨ Nt.2.1 5 u ≤ Nt.1 15) ∧ (¬ srt Nt = 5 ∨ Nt.2.1 6 u ≤ Nt.1 15)
            · rw [if_neg (by rw [b2i_0]; exact not_not_intro cfr)]
              have hyes : (z_rdy N u s (P 6)).1 = true := by
                rw [hz0]
                by_cases cw : wrdP Nt
                · rw [if_neg (not_not_intro cw)]
                  exact hrq.mpr ⟨cth.resolve_left (fun z => hs7.mp z cw), cfr⟩
                · rw [if_pos cw]
              have hz2 : (z_rdy N u s (P 6)).2 = Nt := by rw [hz0]; split <;> rfl
              have ez : (if (z_rdy N u s (P 6)).1 = true then z_goX (mA (z_rdy N u s (P 6)).2 7 u (nI q)) u s (P 6) Bk (P 9) else z_uL u (P 6) (P 7) Bk (P 9) (k + 1) dd (z_rdy N u s (P 6)).2) = z_goX (mA Nt 7 u (nI q)) u s (P 6) Bk (P 9) := by
                rw [if_pos hyes, hz2]
              rw [ez]
              refine goes (fun cw hop => ?_) ((hMNg.f 6).trans h6) hI1 hI2 ((hMNg.f 4).trans h4) hB1 hB2 hG9 hP6 (by rw [hgf.a 9]; exact hbk2) hbk1 ((hMNg.f 41).trans h41) (fun cw hm => hp0 s hs128 hsu (by rw [← hf.a 9]; exact h9) (by
                have hth := (cth.resolve_left (fun z => hs7.mp z cw)).2
                rw [← hMNg.a 11, ← hMNg.f 15, ← htf.a 11, ← htf.f 15]
                exact hth.resolve_left (fun z => z.1.1 hm.1))) hn (hGo.fm hMNg)
              have hth := (cth.resolve_left (fun z => hs7.mp z cw)).2
              rcases hth with z | z
              · exfalso
                rcases hop with e | e
                · exact z.1.2 e
                · exact z.2 e
              · exact z
            · rw [if_pos (by rw [b2i_0]; exact cfr)]
              refine next Nt ?_
              have cw : wrdP Nt := Classical.byContradiction fun z => cfr (by
                have := hs7.mpr z
                exact ⟨Or.inl (by omega), Or.inl (by omega)⟩)
              rw [hz0, if_neg (not_not_intro cw)]
              have : rdyB Nt u s (wdd (Ng.2.2 pl)) (waa (Ng.2.2 pl)) (wbb (Ng.2.2 pl)) = false := by
                cases hh : rdyB Nt u s (wdd (Ng.2.2 pl)) (waa (Ng.2.2 pl)) (wbb (Ng.2.2 pl)) with
                | false => rfl
                | true => exact absurd (hrq.mp hh).2 cfr
              rw [this]
          · rw [if_pos (by rw [b2i_0]; exact cth)]
            refine next Nt ?_
            have cw : wrdP Nt := Classical.byContradiction fun z => cth (Or.inl (hs7.mpr z))
            rw [hz0, if_neg (not_not_intro cw)]
            have : rdyB Nt u s (wdd (Ng.2.2 pl)) (waa (Ng.2.2 pl)) (wbb (Ng.2.2 pl)) = false := by
              cases hh : rdyB Nt u s (wdd (Ng.2.2 pl)) (waa (Ng.2.2 pl)) (wbb (Ng.2.2 pl)) with
              | false => rfl
              | true => exact absurd (Or.inr (hrq.mp hh).1) cth
            rw [this]
  · intro gg hgg
    exact hgg 1 M (by omega) (Nat.le_refl _) frm.rf
end C54
