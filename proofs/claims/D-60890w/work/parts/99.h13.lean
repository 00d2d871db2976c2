/-! H13: slots, lanes -/
section H13
variable {nC nS n : Nat} {A A' : AH} {V V' : CW} {E E' : EL} {ad ad' : AA} {M M' N : MS} {P : PP} {T Bk b1 b2 n0 n1 n2 u uu c al I x s w : Nat}
theorem cnt_P (M : MS) (s : Nat) : ∀ n, iter (cntS M s) 0 n (0, 0) = (nI (cnB (fun j => decide (lnI M s j) && decide (¬ M.2.1 16 (32 * s + j) = 0)) n), nI (cnB (fun j => decide (lnI M s j) && decide (¬ M.2.1 17 (32 * s + j) = 0)) n))
  | 0 => rfl
  | n + 1 => by
    rw [iter_last, cnt_P M s n, Nat.zero_add, cnB_s, cnB_s]
    unfold cntS
    by_cases c : lnI M s n
    · rw [if_pos c, decide_eq_true c, Bool.true_and, Bool.true_and]
      by_cases c1 : M.2.1 16 (32 * s + n) = 0
      · rw [if_pos c1, decide_eq_false (not_not_intro c1)]
        by_cases c2 : M.2.1 17 (32 * s + n) = 0
        · rw [if_pos c2, decide_eq_false (not_not_intro c2)]
          exact Prod.ext (Int32.add_zero _) (Int32.add_zero _)
        · rw [if_neg c2, decide_eq_true c2]
          exact Prod.ext (Int32.add_zero _) (nI_1 _)
      · rw [if_neg c1, decide_eq_true c1]
        by_cases c2 : M.2.1 17 (32 * s + n) = 0
        · rw [if_pos c2, decide_eq_false (not_not_intro c2)]
          exact Prod.ext (nI_1 _) (Int32.add_zero _)
        · rw [if_neg c2, decide_eq_true c2]
          exact Prod.ext (nI_1 _) (nI_1 _)
    · rw [if_neg c, decide_eq_false c]
      rfl
theorem cnt_len {f : Nat → Bool} {len L : Nat} (hl : len ≤ L) (hL : L ≤ 32) (hln : ∀ j, j < 32 → (lnI M s j ↔ j < len)) : cnB (fun j => decide (lnI M s j) && f j) L = cnB f len := by
  have h1 := cnB_cut (f := fun j => decide (lnI M s j) && f j) (len := len) (L - len) (fun i a b => by
    show (decide (lnI M s i) && f i) = false
    rw [decide_eq_false (fun z => by have := (hln i (by omega)).mp z; omega), Bool.false_and])
  rw [show len + (L - len) = L by omega] at h1
  rw [h1]
  refine cnB_c len (fun i hi => ?_)
  show (decide (lnI M s i) && f i) = f i
  rw [decide_eq_true ((hln i (by omega)).mpr hi), Bool.true_and]
theorem e1_isSlot (cq : CQ nC nS A V E ad M P T Bk b1 b2 n0 n1 n2 c al I) (p q : Int32) : fX1_isSlot (P 0) p q A = some (b2i (¬ (((p < 0 ∨ nI (P 8) ≤ p) ∨ q < 0) ∨ nI (P 7) ≤ q))) := by
  obtain ⟨m1, m2⟩ := cq.1.m5
  obtain ⟨b6, b7, b8, b9, b10, e1, e2⟩ := cq.b
  have g := cq.1
  have hs := g.2.1.1.2.2.2
  have rc1 : rcv A (some (P 0)) 1 = some (P 0) := g.1.rc (hs.kk hs.2.2.1.1.1)
  have g1 := g.getF 1 (by decide) rfl (by decide) rfl
  have e01 : nmF (700 + 1) = 2 := rfl
  rw [e01, e2] at g1
  unfold fX1_isSlot
  refine ob rc1 (ob (e1_isUnit cq p) ?_)
  rw [jn_eq, jn_eq]
  by_cases cu : p < 0 ∨ nI (P 8) ≤ p
  · rw [b2i_f (fun z => z cu), if_pos (Or.inl rfl), b2i_f (fun z => z (Or.inl (Or.inl cu)))]
    rfl
  · have cu' : ¬ (p < 0 ∨ nI (P 8) ≤ p) := cu
    rw [b2i_t cu']
    by_cases cq' : q < 0
    · rw [if_pos (Or.inr cq'), b2i_f (fun z => z (Or.inl (Or.inr cq')))]
      rfl
    · rw [if_neg (fun z => z.elim (fun z => absurd z (by decide)) cq')]
      refine ob m1 (ob g1 ?_)
      by_cases c7 : nI (P 7) ≤ q
      · rw [if_pos c7, b2i_f (fun z => z (Or.inr c7))]
        rfl
      · have hh : ¬ (((p < 0 ∨ nI (P 8) ≤ p) ∨ q < 0) ∨ nI (P 7) ≤ q) := fun z => z.elim (fun z => z.elim cu cq') c7
        rw [if_neg c7, b2i_t hh]
        rfl
/-- a slot of a unit, at hand -/
theorem CQ.sl (cq : CQ nC nS A V E ad M P T Bk b1 b2 n0 n1 n2 c al I) {u k : Nat} (hu : u < P 8) (hk : k < P 7) : ∃ ul uu y, gR A (some (P 1)) 7 8 = some (some ul) ∧ rcv A (some ul) 0 = some ul ∧ fJ2_get ul (nI u) A = some (some uu) ∧ cst A (some uu) 8 = some () ∧ gR A (some uu) 8 0 = some (some y) ∧ aR A (some y) (nI k) = some (ad 13 (16 * u + k)) := by
  obtain ⟨b6, b7, b8, b9, b10, e1, e2⟩ := cq.b
  obtain ⟨ul, cap, u1, u2, _, u4, u5⟩ := cq.ul
  obtain ⟨uu, hu8, ug, uc, uk⟩ := u5 u hu
  have g := cq.1
  have hs := g.2.1.1.2.2.2
  obtain ⟨⟨y, y1, y2, y3⟩, hsl⟩ := hs.2.2.2.1.2.2.1 u uu hu8
  have y3 : xn V 800 uu = P 7 := y3
  exact ⟨ul, uu, y, u1, u2, ug, uc, (g.1.gr 0 (c := 8) uk (by decide) rfl).trans (congrArg some y1), (g.1.ar k (c := 8) (k := 0) uk (Or.inr rfl) y1 y2 (by show k < xn V 800 uu; omega) (by omega)).trans (congrArg some (hsl k hk))⟩
theorem CQ.n9 (cq : CQ nC nS A V E ad M P T Bk b1 b2 n0 n1 n2 c al I) {s : Nat} (hs : s < 128) : ad 13 s = none ↔ M.2.1 9 s = -1 := by
  have h := cq.1.2.1.1.2.2.2
  constructor
  · exact h.2.2.2.2.1.2 s hs
  · intro z
    cases e : ad 13 s with
    | none => rfl
    | some w =>
      obtain ⟨bk, b, c1, c2, _⟩ := h.bl e
      rw [z] at c2
      have h2 := nI_pos' (n := bk) (by omega)
      rw [← c2] at h2
      exact absurd h2 (by decide)
set_option maxHeartbeats 1000000 in
theorem J_slot (cj : CJ nC nS A V M x) (hn : 33 < n) (p q r : Int32) : ∃ v M', (∀ Bh ao, fX11_slot n ao p q r (mk Bh ao M) = some (v, mk Bh ao M')) ∧ fX1_slot n x p q r A = some v ∧ CJ nC nS A V M' x := by
  have cj0 := cj.th 0
  obtain ⟨E, ad, P, T, Bk, b1, b2, n0, n1, n2, c, al, I, cq, hx⟩ := cj
  subst hx
  obtain ⟨m1, m2⟩ := cq.1.m5
  obtain ⟨b6, b7, b8, b9, b10, e1, e2⟩ := cq.b
  obtain ⟨s3, s4, s5, s6, _⟩ := cq.2.2.2.1
  have g := cq.1
  have cp := g.2.1.1
  have hs := cp.2.2.2
  have rc1 : rcv A (some (P 0)) 1 = some (P 0) := g.1.rc (hs.kk hs.2.2.1.1.1)
  have isS := e1_isSlot cq p q
  by_cases cc : (((p < 0 ∨ nI (P 8) ≤ p) ∨ q < 0) ∨ nI (P 7) ≤ q) ∨ r < 0 ∨ ¬ r ≤ 24
  · refine ⟨-1, mI M 0 0, fun Bh ao => e_slotN p q r (by rw [s3, e2]; exact cc), ?_, cj0⟩
    unfold fX1_slot
    refine ob rc1 (ob isS ?_)
    rw [if_pos]
    rcases cc with z | z | z
    · exact Or.inl (Or.inl (b2i_f (fun y => y z)))
    · exact Or.inl (Or.inr z)
    · exact Or.inr z
  · have hno : ¬ (((p < 0 ∨ nI (P 8) ≤ p) ∨ q < 0) ∨ nI (P 7) ≤ q) := fun z => cc (Or.inl z)
    have hr0 : ¬ r < 0 := fun z => cc (Or.inr (Or.inl z))
    have hr24 : r ≤ 24 := Classical.byContradiction fun z => cc (Or.inr (Or.inr z))
    obtain ⟨u, hu, eu⟩ : ∃ u, u < P 8 ∧ p = nI u := by
      rcases pk_ix p (n := P 8) (by omega) with e | e | ⟨j, hj, e⟩
      · exact absurd (Or.inl (Or.inl (Or.inl e))) hno
      · exact absurd (Or.inl (Or.inl (Or.inr e))) hno
      · exact ⟨j, hj, e⟩
    obtain ⟨k, hk, ek⟩ : ∃ k, k < P 7 ∧ q = nI k := by
      rcases pk_ix q (n := P 7) (by omega) with e | e | ⟨j, hj, e⟩
      · exact absurd (Or.inl (Or.inr e)) hno
      · exact absurd (Or.inr e) hno
      · exact ⟨j, hj, e⟩
    obtain ⟨w, hw, ew⟩ : ∃ w, w ≤ 24 ∧ r = nI w := nI_of2 (M := 24) (n := 24) (by decide) hr0 hr24
    subst eu ek ew
    obtain ⟨ul, uu, y, t1, t2, t3, t4, t5, t6⟩ := cq.sl hu hk
    have hb2 : b2i (¬ (((nI u < 0 ∨ nI (P 8) ≤ nI u) ∨ nI k < 0) ∨ nI (P 7) ≤ nI k)) = 1 := b2i_t hno
    refine ⟨if M.2.1 9 (16 * u + k) = -1 then (if 2 ≤ w then 0 else -1) else slV M (16 * u + k) (P 6) w, mI M 0 0, fun Bh ao => e_slotY u k w (P 6) (by omega) (by omega) hw b6 e1 (by omega) (by rw [s3, e2]; exact hno), ?_, cj0⟩
    unfold fX1_slot
    refine ob rc1 (ob isS ?_)
    rw [hb2, if_neg (fun z => cc (z.elim (fun z => z.elim (fun z => absurd z (by decide)) (fun z => Or.inr (Or.inl z))) (fun z => Or.inr (Or.inr z))))]
    refine ob m1 (ob t1 (ob t2 (ob t3 (ob t4 (ob t5 (ob t6 ?_))))))
    obtain ⟨s, es⟩ : ∃ s, s = 16 * u + k := ⟨_, rfl⟩
    rw [← es]
    have hs128 : s < 128 := by omega
    have h9 := cq.n9 hs128
    cases ha : ad 13 s with
    | none =>
      rw [if_pos rfl, if_pos (h9.mp ha), jn_eq]
      by_cases c2 : 2 ≤ w
      · have q2 : (2 : Int32) ≤ nI w := c_le (a := 2) (b := w) c2 (by omega)
        rw [if_pos c2, if_pos q2]
      · have q2 : ¬ (2 : Int32) ≤ nI w := c_nle (a := 2) (b := w) (by omega) (by omega)
        rw [if_neg c2, if_neg q2]
    | some wa =>
      have hm9 : ¬ M.2.1 9 s = -1 := fun z => by rw [h9.mpr z] at ha; cases ha
      rw [if_neg (fun z => by cases z), if_neg hm9]
      obtain ⟨bk, bb, c1, c2, c3, c4⟩ := hs.bl ha
      have wk := hs.kk ha
      have wo := hs.wo cp.1 cp.2.2.1 ha
      obtain ⟨_, _, hlen, hln, _, hlenP⟩ := cp.wl ha
      have nw : ∀ m, m < 2 ^ 31 → (nI w = nI m) = (w = m) := fun m hm => propext (nI_eq (by omega) hm)
      have k0 : ((nI w : Int32) = 0) = (w = 0) := nw 0 (by omega)
      have k1 : ((nI w : Int32) = 1) = (w = 1) := nw 1 (by omega)
      have k2 : ((nI w : Int32) = 2) = (w = 2) := nw 2 (by omega)
      have k3 : ((nI w : Int32) = 3) = (w = 3) := nw 3 (by omega)
      have k4 : ((nI w : Int32) = 4) = (w = 4) := nw 4 (by omega)
      unfold slV
      by_cases h0 : w = 0
      · rw [if_pos (show (nI w : Int32) = 0 from k0 ▸ h0), if_pos h0]
        refine ob ((g.1.gr 0 (c := 13) wk (by decide) rfl).trans (congrArg some c4)) (ob (g.1.gi 0 (c := 12) (hs.kk c3) (by decide) rfl) ?_)
        rw [c2]
        exact congrArg some (cp.1 1200 bk 0 bb (Or.inr (Or.inr (Or.inr rfl))) (by decide) c3)
      · rw [if_neg (show ¬ (nI w : Int32) = 0 from k0 ▸ h0), if_neg h0]
        by_cases h1 : w = 1
        · rw [if_pos (show (nI w : Int32) = 1 from k1 ▸ h1), if_pos h1]
          exact ob (g.1.gi 1 (c := 13) wk (by decide) rfl) (congrArg some wo.2.2.2.1)
        · rw [if_neg (show ¬ (nI w : Int32) = 1 from k1 ▸ h1), if_neg h1]
          by_cases h2 : w = 2
          · rw [if_pos (show (nI w : Int32) = 2 from k2 ▸ h2), if_pos h2, cnt_P]
            refine ob (g.1.rc wk) (ob (e13_ended g.1 cp ha hn) ?_)
            rw [cnt_len hlenP b6 hln]
          · rw [if_neg (show ¬ (nI w : Int32) = 2 from k2 ▸ h2), if_neg h2]
            by_cases h3 : w = 3
            · rw [if_pos (show (nI w : Int32) = 3 from k3 ▸ h3), if_pos h3, cnt_P]
              refine ob (g.1.rc wk) (ob (e13_waiting g.1 cp ha hn) ?_)
              show _ = some (nI (cnB (fun j => decide (lnI M s j) && decide (¬ M.2.1 17 (32 * s + j) = 0)) (P 6)))
              rw [cnt_len hlenP b6 hln]
            · rw [if_neg (show ¬ (nI w : Int32) = 3 from k3 ▸ h3), if_neg h3]
              by_cases h4 : w = 4
              · rw [if_pos (show (nI w : Int32) = 4 from k4 ▸ h4), if_pos h4]
                exact ob (g.1.gi 5 (c := 13) wk (by decide) rfl) (congrArg some wo.2.2.2.2.2.2)
              · rw [if_neg (show ¬ (nI w : Int32) = 4 from k4 ▸ h4), if_neg h4, jn_eq]
                by_cases h21 : 21 ≤ w
                · have q2 : (21 : Int32) ≤ nI w := c_le (a := 21) (b := w) h21 (by omega)
                  rw [if_pos q2]
                  have ei : (nI w - (5 : Int32)) - (16 : Int32) = nI (w - 21) := by
                    rw [show (5 : Int32) = nI 5 from rfl, show (16 : Int32) = nI 16 from rfl, pk_sub (by omega), pk_sub (by omega), show w - 5 - 16 = w - 21 by omega]
                  rw [ei]
                  refine o_i g.1 (w - 21) (c := 13) (k := 4) wk rfl wo.2.2.1 rfl (by decide) (by omega) (by omega) ?_
                  show some (xi V 1354 wa (w - 21)) = _
                  rw [wo.2.2.2.2.2.1 (w - 21) (by omega), show 20 * s + (16 + (w - 21)) = 20 * s + w - 5 by omega]
                · have q2 : ¬ (21 : Int32) ≤ nI w := c_nle (a := 21) (b := w) (by omega) (by omega)
                  rw [if_neg q2]
                  have ei : nI w - (5 : Int32) = nI (w - 5) := by
                    rw [show (5 : Int32) = nI 5 from rfl, pk_sub (by omega)]
                  rw [ei]
                  refine o_i g.1 (w - 5) (c := 13) (k := 3) wk rfl wo.2.1 rfl (by decide) (by omega) (by omega) ?_
                  show some (xi V 1353 wa (w - 5)) = _
                  rw [wo.2.2.2.2.1 (w - 5) (by omega), show 20 * s + (w - 5) = 20 * s + w - 5 by omega]
end H13
