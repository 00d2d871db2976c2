/-! C57: all that is due is done -/
theorem least {Q : Nat → Prop} (h : ∃ k, Q k) : ∃ k, Q k ∧ ∀ j, j < k → ¬ Q j := by
  obtain ⟨k, hk⟩ := h
  induction k using Nat.strongRecOn with
  | _ k ih =>
    by_cases c : ∃ j, j < k ∧ Q j
    · obtain ⟨j, hj, hq⟩ := c
      exact ih j hj hq
    · exact ⟨k, hk, fun j hj hq => c ⟨j, hj, hq⟩⟩
section C57
variable {nC nS n : Nat} {A A' : AH} {V V' V'' : CW} {E E' : EL} {ad ad' : AA} {M M' : MS} {P : PP} {T Bk b1 b2 : Nat}
theorem HQ.iob (h : HQ V E ad M P T) (hv : IB V V') (e9 : M'.2.1 9 = M.2.1 9) (eA : ∀ j, 19 ≤ j → j ≤ 24 → M'.2.1 j = M.2.1 j) : HQ V' E ad M' P T := by
  have r := fun d hd => hv.hp (d := d) hd
  have eL : ∀ k, lt V' E 3 k (P 3) = lt V E 3 k (P 3) := fun k => by unfold lt; rw [hv.2.1.1]
  have eC : ∀ k, cpL V' E 3 k (P 3) = cpL V E 3 k (P 3) := fun k => by unfold cpL; rw [hv.2.1.1]
  have ef : fT V' = fT V := by funext a; show xi V' 1500 a 0 = _; rw [r 1500 (by omega)]
  have eg : gU V' = gU V := by funext a; show xi V' 1501 a 0 = _; rw [r 1501 (by omega)]
  unfold HQ at h ⊢
  rw [eL, eL, eC, eC, ef, eg, r 302 (by omega)]
  obtain ⟨h2, h3⟩ := h
  refine ⟨fun k a ha => ?_, h3⟩
  obtain ⟨o, d, q, bk, s, i, b1, ⟨b2, b3, b4, b5⟩, ⟨b6, b7, b8, b9, b10, b11⟩, l, b12, b13⟩ := h2 k a ha
  refine ⟨o, d, q, bk, s, i, b1, ⟨by rw [eA 21 (by omega) (by omega)]; exact b2, by rw [eA 20 (by omega) (by omega)]; exact b3, by rw [eA 22 (by omega) (by omega)]; exact b4, by rw [e9]; exact b5⟩, ⟨by rw [r 1500 (by omega), eA 19 (by omega) (by omega)]; exact b6, by rw [r 1502 (by omega)]; exact b7, by rw [r 1503 (by omega)]; exact b8, by rw [r 1504 (by omega), eA 23 (by omega) (by omega)]; exact b9, by rw [r 1505 (by omega), eA 24 (by omega) (by omega)]; exact b10, by rw [r 1506 (by omega)]; exact b11⟩, l, b12, ?_⟩
  rw [hv.2.1.1, r 1507 (by omega), r 1405 (by omega)]
  exact b13
theorem dn_id (M : MS) {a : Nat} : ∀ d, (∀ k, a ≤ k → k < a + d → kpB M k = true) → iter dnS 0 (a + d) M = iter dnS 0 a M
  | 0, _ => rfl
  | d + 1, h => by
    rw [← Nat.add_assoc, iter_last, Nat.zero_add, dn_id M d (fun k h1 h2 => h k h1 (by omega))]
    have hf := dn_frm M a
    generalize iter dnS 0 a M = Y at *
    unfold dnS
    rw [hf.1 15 List.not_mem_nil, hf.a 19, if_pos (of_decide_eq_true (h (a + d) (by omega) (by omega)))]
/-- asks that are still there at a place in the round -/
def adN (ad adn : AA) (M : MS) (nn : Nat) : Prop := (∀ c, c ≠ 15 → adn c = ad c) ∧ (∀ q, q < nn → ¬ kpB M q = true → adn 15 q = none) ∧ ∀ q, (nn ≤ q ∨ kpB M q = true) → adn 15 q = ad 15 q
theorem adN.s {adn : AA} {nn q a : Nat} (h : adN ad adn M nn) (hq : adn 15 q = some a) : ad 15 q = some a ∧ (nn ≤ q ∨ kpB M q = true) := by
  by_cases c : nn ≤ q ∨ kpB M q = true
  · rw [h.2.2 q c] at hq
    exact ⟨hq, c⟩
  · rw [h.2.1 q (by omega) (fun z => c (Or.inr z))] at hq
    cases hq
set_option maxHeartbeats 2000000 in
theorem due_loop {nC0 nS0 p : Nat} (hS0 : 10000 ≤ nS0) (hC0 : 2 ≤ nC0) (h : St (nC0 + rqC V E P) (nS0 + rqS V E P) A V) (gb : GB V E ad M P T Bk b1 b2) (hp : ∀ k, (∃ a, ad 15 k = some a) ↔ k < p) (hp2 : p ≤ 4096) (hti : ∀ k, k < p → M.1 15 ≤ M.2.1 19 k) (hn : 10001 < n) (K : AH → Option AH) (Post : AH → Prop)
    (hK : ∀ A' V' E' ad', St (nC0 + rqC V' E' P) (nS0 + rqS V' E' P) A' V' → CP V' E' ad' (iter dnS 0 p M) P → HQ V' E' ad' (iter dnS 0 p M) P T → (∃ S1 S2, CO V' (P 4) Bk b1 b2 S1 S2) → KN' V' E' (iter dnS 0 p M) P → KS V E V' E' → adN ad ad' M p → (lt V' E' 3 0 (P 3)).length = cnB (fun q => oS (ad' 15 q)) p → Res (K A') Post) :
    Res (jl (fixG (fun _ => none) (fun (rc3 : (AH) → Option (AH)) (A2 : AH) =>
      (gR A2 (some (P 1)) 7 7).bind fun v4 =>
      (gI A2 (some (P 1)) 7 17).bind fun v5 =>
      (rcv A2 v4 3).bind fun v6 =>
      (fX3_isDue v6 v5 A2).bind fun g7 =>
      if g7 = 0 then (K A2) else
      (fX3_take n v6 A2).bind fun g48 =>
      (rcv g48.2 (some (P 1)) 7).bind fun v49 =>
      (fX7_finish v49 g48.1 g48.2).bind fun g50 =>
      rc3 g50) n) fun j1 => j1 A) Post := by
  have main : ∀ (g : AH → Option AH) (dd : Nat), (∀ nn A2 V2 E2 ad2, 0 < dd → nn + (dd - 1) ≥ p → nn ≤ p → St (nC0 + rqC V2 E2 P) (nS0 + rqS V2 E2 P) A2 V2 → CP V2 E2 ad2 (iter dnS 0 nn M) P → HQ V2 E2 ad2 (iter dnS 0 nn M) P T → (∃ S1 S2, CO V2 (P 4) Bk b1 b2 S1 S2) → KN' V2 E2 (iter dnS 0 nn M) P → KS V E V2 E2 → adN ad ad2 M nn → (lt V2 E2 3 0 (P 3)).length = cnB (fun q => oS (ad2 15 q)) p → Res (g A2) Post) → ∀ nn A2 V2 E2 ad2, nn + dd ≥ p → nn ≤ p → St (nC0 + rqC V2 E2 P) (nS0 + rqS V2 E2 P) A2 V2 → CP V2 E2 ad2 (iter dnS 0 nn M) P → HQ V2 E2 ad2 (iter dnS 0 nn M) P T → (∃ S1 S2, CO V2 (P 4) Bk b1 b2 S1 S2) → KN' V2 E2 (iter dnS 0 nn M) P → KS V E V2 E2 → adN ad ad2 M nn → (lt V2 E2 3 0 (P 3)).length = cnB (fun q => oS (ad2 15 q)) p → Res ((gR A2 (some (P 1)) 7 7).bind fun v4 =>
      (gI A2 (some (P 1)) 7 17).bind fun v5 =>
      (rcv A2 v4 3).bind fun v6 =>
      (fX3_isDue v6 v5 A2).bind fun g7 =>
      if g7 = 0 then (K A2) else
      (fX3_take n v6 A2).bind fun g48 =>
      (rcv g48.2 (some (P 1)) 7).bind fun v49 =>
      (fX7_finish v49 g48.1 g48.2).bind fun g50 =>
      g g50) Post := by
    intro g dd hg nn A2 V2 E2 ad2 hm hle s2 cp2 hq2 co2 kn2 ks2 an hlen2
    have hs2 := cp2.2.2.2
    have hP3 : kdV V2 (P 3) = 4 := hs2.kk hs2.2.2.1.1.2.2.2.1
    have hdf := dn_frm M nn
    have e15 : (iter dnS 0 nn M).1 15 = M.1 15 := hdf.1 15 List.not_mem_nil
    have e19 : (iter dnS 0 nn M).2.1 19 = M.2.1 19 := hdf.a 19
    obtain ⟨hl, hx0, li0, _⟩ := cp2.2.2.1.li2 cp2.2.1 (c := 3) (k := 0) (e := 15) hP3 rfl
    obtain ⟨r, hr1, hr2⟩ := e3_isDue s2 hP3 hx0 li0 (M.1 15)
    refine Res.b ((s2.gr 7 (c := 7) hs2.mm.2 (by decide) rfl).trans (congrArg some hs2.2.2.1.2.2.2.2.2.2.2.2.1)) (Res.b ((gF s2 hs2 cp2.1 17 (by decide) rfl (by decide) rfl).trans (congrArg some e15)) (Res.b (s2.rc hP3) (Res.b hr1 ?_)))
    have tim : ∀ k a, ad2 15 k = some a → fT V2 a = M.2.1 19 k ∧ k < p := fun k a ha => by
      obtain ⟨o, d, q, bk, s, i, _, _, ⟨b6, _⟩, _⟩ := hq2.1 k a ha
      rw [e19] at b6
      exact ⟨b6, (hp k).mp ⟨a, (an.s ha).1⟩⟩
    obtain ⟨q1, ⟨t1, t2, tn, t3, t4⟩, ⟨q2, q3, q4⟩, q5⟩ := hq2
    have hq2 : HQ V2 E2 ad2 (iter dnS 0 nn M) P T := ⟨q1, ⟨t1, t2, tn, t3, t4⟩, ⟨q2, q3, q4⟩, q5⟩
    by_cases hdue : ∃ k, (nn ≤ k ∧ k < p ∧ ¬ kpB M k = true)
    · obtain ⟨k, ⟨hk1, hk2, hk3⟩, hmin⟩ := least hdue
      obtain ⟨a, ha⟩ := (hp k).mpr hk2
      have ha2 : ad2 15 k = some a := by rw [an.2.2 k (Or.inl hk1)]; exact ha
      obtain ⟨ia, hia⟩ := (q3 a).mpr ⟨k, ha2⟩
      obtain ⟨r0, hr0⟩ := lt_ge (l := lt V2 E2 3 0 (P 3)) (i := 0) (by have := ge_lt hia; omega)
      obtain ⟨kr, hkr⟩ := (q3 r0).mp ⟨0, hr0⟩
      have hno := q4.min hr0 ia a hia
      have hck : M.2.1 19 k = M.1 15 := Int32.le_antisymm (Int32.not_lt.mp (fun z => hk3 (decide_eq_true z))) (hti k hk2)
      obtain ⟨tk1, _⟩ := tim k a ha2
      obtain ⟨tr1, tr2⟩ := tim kr r0 hkr
      have hfr : fT V2 r0 = M.1 15 := by
        unfold hLt at hno
        by_cases c : fT V2 a = fT V2 r0
        · rw [← c, tk1, hck]
        · rw [if_neg c, tk1, hck, tr1] at hno
          have h1 := hti kr tr2
          have h2 : M.2.1 19 kr ≤ M.1 15 := Int32.not_lt.mp hno
          rw [tr1]
          exact Int32.le_antisymm h2 h1
      have ekr : kr = k := by
        have hdr : ¬ kpB M kr = true := fun z => by
          have := of_decide_eq_true z
          rw [← tr1, hfr] at this
          exact absurd this (by exact fun z => Int32.lt_irrefl z)
        have hge : nn ≤ kr := ((an.s hkr).2).resolve_right hdr
        have h1 : k ≤ kr := by
          apply Classical.byContradiction
          intro hn'
          exact hmin kr (by omega) ⟨hge, tr2, hdr⟩
        unfold hLt at hno
        rw [if_pos (by rw [tk1, hck, hfr]), (t3 k a ha2).1, (t3 kr r0 hkr).1] at hno
        have b1' := (t3 k a ha2).2
        have b2' := (t3 kr r0 hkr).2
        have h2 : tn kr ≤ tn k := Classical.byContradiction fun z => hno (nI_lt (by omega) (by omega))
        apply Classical.byContradiction
        intro hne
        have := t4 k kr r0 (by omega) hkr
        omega
      subst ekr
      have hrn : ¬ r = 0 := fun z => (hr2.mp z) ⟨r0, hr0, by rw [hfr]; exact Int32.le_refl _⟩
      rw [if_neg hrn]
      refine Res.w (due_take hS0 hC0 s2 cp2 hq2 hr0 hkr hn) ?_
      rintro ⟨r1, A3⟩ ⟨er1, V3, E3, s3, cp3, hq3, ak3, kd3, hs3, hlen3⟩
      have er1 : r1 = some r0 := er1
      subst er1
      refine Res.b (s3.rc cp3.2.2.2.mm.2) (Res.w (e7_finish s3 cp3 kd3 ak3) ?_)
      rintro A4 ⟨V4, s4, i4, c4⟩
      have fo := onefrm (iter dnS 0 nn M) kr
      have hstep : iter dnS 0 (kr + 1) M = z_one (iter dnS 0 nn M) kr := by
        rw [iter_last, Nat.zero_add]
        have e : kr = nn + (kr - nn) := by omega
        have hid : iter dnS 0 kr M = iter dnS 0 nn M := by
          rw [e]
          exact dn_id M (kr - nn) (fun j h1 h2 => Classical.byContradiction fun z => hmin j (by omega) ⟨h1, by omega, z⟩)
        rw [hid]
        show (if (iter dnS 0 nn M).1 15 < (iter dnS 0 nn M).2.1 19 kr then iter dnS 0 nn M else z_one (iter dnS 0 nn M) kr) = _
        rw [e15, e19, if_neg (fun z => hk3 (decide_eq_true z))]
      obtain ⟨rq1, rq2⟩ := rq_iob (E := E3) (P := P) i4.b
      obtain ⟨hl', sl', hLL, vg, _, _⟩ := hs3
      obtain ⟨S1, S2, hco⟩ := co2
      have hs3 : HS V2 E2 V3 E3 P := ⟨hl', sl', hLL, vg, by assumption, by assumption⟩
      refine hg (kr + 1) A4 V4 E3 (rm15 ad2 kr) (by omega) (by omega) (by omega) (by rw [rq1, rq2]; exact s4) ?_ ?_ ⟨S1, S2, (hco.vg vg hLL.2.2).iv i4⟩ ?_ ((ks2.tr (KS.hs hs3 cp2)).tr (KS.ib i4.b)) ?_ ?_
      · rw [hstep]
        exact cp3.nx i4 c4 (fm_frm fo (by decide) (by decide) (by decide) (by decide) (by decide))
      · rw [hstep]
        exact hq3.iob i4.b (fo.a 9) (fun j h1 h2 => fo.2.1 j (by simp only [List.mem_cons, List.not_mem_nil, or_false]; omega))
      · rw [hstep]
        exact (kn2.hs cp2 hs3 rfl).iob i4.b fo.2.2
      · refine ⟨fun c hc => by rw [rm15_o hc]; exact an.1 c hc, fun q hq hkq => ?_, fun q hq => ?_⟩
        · show (if q = kr then none else ad2 15 q) = none
          by_cases e : q = kr
          · rw [if_pos e]
          · rw [if_neg e]
            by_cases e2 : q < nn
            · exact an.2.1 q e2 hkq
            · exact absurd ⟨by omega, by omega, hkq⟩ (hmin q (by omega))
        · show (if q = kr then none else ad2 15 q) = _
          have hne : q ≠ kr := fun z => by
            rcases hq with w | w
            · omega
            · rw [z] at w; exact hk3 w
          rw [if_neg hne]
          refine an.2.2 q ?_
          rcases hq with w | w
          · exact Or.inl (by omega)
          · exact Or.inr w
      · rw [lt_io i4]
        have := cnB_rm (r := ad2 15) hkr p hk2
        have e : (fun q => oS (rm15 ad2 kr 15 q)) = fun q => oS (rm (ad2 15) kr q) := rfl
        rw [e]
        omega
    · have hall : ∀ k, nn ≤ k → k < p → kpB M k = true := fun k h1 h2 => Classical.byContradiction fun z => hdue ⟨k, h1, h2, z⟩
      have hid : iter dnS 0 p M = iter dnS 0 nn M := by
        have e : p = nn + (p - nn) := by omega
        rw [e]
        exact dn_id M (p - nn) (fun k h1 h2 => hall k h1 (by omega))
      have hrz : r = 0 := by
        refine hr2.mpr ?_
        rintro ⟨y, hy, hy2⟩
        obtain ⟨k, hk⟩ := (q3 y).mp ⟨0, hy⟩
        obtain ⟨z1, z2⟩ := tim k y hk
        have hkk : kpB M k = true := by
          rcases (an.s hk).2 with w | w
          · exact hall k w z2
          · exact w
        have := of_decide_eq_true hkk
        rw [z1] at hy2
        exact absurd hy2 (Int32.not_le.mpr this)
      rw [if_pos hrz]
      rw [← hid] at cp2 hq2 kn2
      refine hK A2 V2 E2 ad2 s2 cp2 hq2 co2 kn2 ks2 ⟨an.1, fun q hq hkq => ?_, fun q hq => an.2.2 q ?_⟩ hlen2
      · by_cases e : q < nn
        · exact an.2.1 q e hkq
        · exact absurd (hall q (by omega) hq) hkq
      · rcases hq with w | w
        · exact Or.inl (by omega)
        · exact Or.inr w
  refine jl_R (fun dd (g : AH → Option AH) => ∀ nn A2 V2 E2 ad2, nn + dd ≥ p → nn ≤ p → St (nC0 + rqC V2 E2 P) (nS0 + rqS V2 E2 P) A2 V2 → CP V2 E2 ad2 (iter dnS 0 nn M) P → HQ V2 E2 ad2 (iter dnS 0 nn M) P T → (∃ S1 S2, CO V2 (P 4) Bk b1 b2 S1 S2) → KN' V2 E2 (iter dnS 0 nn M) P → KS V E V2 E2 → adN ad ad2 M nn → (lt V2 E2 3 0 (P 3)).length = cnB (fun q => oS (ad2 15 q)) p → Res (g A2) Post) p (show p < n by omega) ?_ ?_ ?_
  · intro g
    exact main g 0 (fun _ _ _ _ _ z => absurd z (Nat.lt_irrefl _))
  · intro dd g hg
    exact main g (dd + 1) (fun nn A2 V2 E2 ad2 _ hz => hg nn A2 V2 E2 ad2 (by omega))
  · intro g hg
    refine hg 0 A V E ad (by omega) (by omega) h gb.1 (HP_HQ.mp gb.2.1).2 gb.2.2.1 gb.2.2.2 KS.rf ⟨fun _ _ => rfl, fun q hq => absurd hq (Nat.not_lt_zero _), fun _ _ => rfl⟩ ?_
    obtain ⟨p', hp1', hp2', hp3'⟩ := gb.2.1.1
    have epp : p' = p := by
      apply Classical.byContradiction
      intro hne
      by_cases hlt : p' < p
      · have := (hp3' p').mp ((hp p').mpr hlt)
        omega
      · have := (hp p).mp ((hp3' p).mpr (by omega))
        omega
    have hle := cnB_le (fun q => oS (ad 15 q)) p
    have hge : p ≤ cnB (fun q => oS (ad 15 q)) p := cnB_all p |>.mpr (fun i hi => by
      obtain ⟨a, ha⟩ := (hp i).mpr hi
      show oS (ad 15 i) = true
      rw [ha]
      rfl)
    omega
end C57
