/-! H14: calls that may throw: global, lane, shared, run -/
def tX1_run (a0 : Nat) (p1 : Int32) (A : AH) : Option Nat :=
  if ((p1 < (1 : Int32)) ∨ (¬ (p1 ≤ (500 : Int32)))) then (some 1) else
  (gR A (some a0) 1 5).bind fun v1 =>
  (gI A v1 7 21).bind fun v2 =>
  if v2 = (20000 : Int32) then (some 2) else none
def tX1_global (a0 : Nat) (p1 : Int32) (A : AH) : Option Unit :=
  if p1 < 0 then (some ()) else
  (gR A (some a0) 1 5).bind fun v2 =>
  (gI A v2 7 3).bind fun v3 =>
  if p1 < v3 then none else some ()
def tX1_lane (a0 : Nat) (p1 : Int32) (p2 : Int32) (p3 : Int32) (p4 : Int32) (A : AH) : Option Unit :=
  (rcv A (some a0) 1).bind fun v1 =>
  (fX1_isSlot v1 p1 p2 A).bind fun g2 =>
  jn (fun (y4 : Option Nat) =>
  if ((y4 = none) ∨ (p3 < 0)) then (some ()) else
  (gR A y4 13 2).bind fun v5 =>
  (rcv A v5 0).bind fun v6 =>
  (fJ2_size v6 A).bind fun g7 =>
  if (((g7 ≤ p3) ∨ (p4 < 0)) ∨ (¬ (p4 ≤ (20 : Int32)))) then (some ()) else none) fun j3 =>
  if g2 = 0 then (j3 (none : Option Nat)) else
  (gR A (some a0) 1 5).bind fun v26 =>
  (gR A v26 7 8).bind fun v27 =>
  (rcv A v27 0).bind fun v28 =>
  (fJ2_get v28 p1 A).bind fun g29 =>
  (cst A g29 8).bind fun v30 =>
  (gR A g29 8 0).bind fun v31 =>
  (aR A v31 p2).bind fun v32 =>
  j3 v32
def tX1_shared (n : Nat) (a0 : Nat) (p1 : Int32) (p2 : Int32) (A : AH) : Option Unit :=
  (gR A (some a0) 1 5).bind fun v1 =>
  (rcv A v1 7).bind fun v2 =>
  (fX7_block n v2 p1 A).bind fun g3 =>
  if (((g3 = none) ∨ (p2 < 0)) ∨ (¬ (p2 < (64 : Int32)))) then (some ()) else none
section H14
variable {nC nS n : Nat} {A A' : AH} {V V' : CW} {E E' : EL} {ad ad' : AA} {M M' N : MS} {P : PP} {T Bk b1 b2 n0 n1 n2 u uu c al I x s w : Nat}
theorem J_global (cj : CJ nC nS A V M x) (p : Int32) : ∃ v M', (∀ Bh ao, fX11_global ao p (mk Bh ao M) = some (v, mk Bh ao M')) ∧ CJ nC nS A V M' x ∧ ((M'.1 0 = 0 ∧ fX1_global x p A = some v) ∨ (M'.1 0 = 1 ∧ tX1_global x p A = some ())) := by
  have cj0 := cj.th
  obtain ⟨E, ad, P, T, Bk, b1, b2, n0, n1, n2, c, al, I, cq, hx⟩ := cj
  subst hx
  obtain ⟨m1, m2⟩ := cq.1.m5
  obtain ⟨s3, s4, s5, s6, ⟨q6, q7, q8, q9⟩, ⟨qb1, qb2⟩, qi1, qi2⟩ := cq.2.2.2.1
  have g3 := cq.1.getF 3 (by decide) rfl (by decide) rfl
  have e03 : nmF (700 + 3) = 6 := rfl
  rw [e03, s6] at g3
  by_cases cc : p < 0 ∨ ¬ p < nI I
  · refine ⟨0, mI M 0 1, fun Bh ao => e_globalN p (by rw [s6]; exact cc), cj0 1, Or.inr ⟨by rw [mI_g, if_pos rfl], ?_⟩⟩
    unfold tX1_global
    by_cases c1 : p < 0
    · rw [if_pos c1]
    · rw [if_neg c1]
      refine ob m1 (ob g3 ?_)
      rw [if_neg (cc.resolve_left c1)]
  · have n1' : ¬ p < 0 := fun z => cc (Or.inl z)
    have n2' : p < nI I := Classical.byContradiction fun z => cc (Or.inr z)
    obtain ⟨k, hk, ek⟩ : ∃ k, k < I ∧ p = nI k := by
      rcases pk_ix p (n := I) (by omega) with e | e | ⟨j, hj, e⟩
      · exact absurd e n1'
      · exact absurd n2' (Int32.not_lt.mpr e)
      · exact ⟨j, hj, e⟩
    subst ek
    refine ⟨M.2.1 2 k, mI M 0 0, fun Bh ao => e_globalY k (by omega) (by rw [s6]; exact cc), cj0 0, Or.inl ⟨by rw [mI_g, if_pos rfl], ?_⟩⟩
    unfold fX1_global
    rw [if_neg n1']
    refine ob m1 (ob g3 ?_)
    rw [if_pos n2']
    have g := cq.1
    have cp := g.2.1.1
    have hs := cp.2.2.2
    have hP0 := hs.kk hs.2.2.1.1.1
    have ow := cp.2.2.1.1 (P 0) 1 1 hP0 (by decide)
    refine o_i g.1 k (c := 1) (k := 1) (n := 4096) hP0 rfl ow rfl (by decide) (by omega) (by omega) ?_
    exact congrArg some (cp.1 151 0 k (P 0) (Or.inl (by decide)) (by show k < 4096; omega) hs.2.2.1.1.1)
theorem J_runT (cj : CJ nC nS A V M x) (p : Int32) (h : (p < 1 ∨ ¬ p ≤ 500) ∨ M.1 22 = 20000) : ∃ k M', (∀ Bh ao, fX11_run n ao p (mk Bh ao M) = some (0, mk Bh ao M')) ∧ CJ nC nS A V M' x ∧ M'.1 0 = nI k ∧ (k = 1 ∨ k = 2) ∧ tX1_run x p A = some k := by
  have cj0 := cj.th
  obtain ⟨E, ad, P, T, Bk, b1, b2, n0, n1, n2, c, al, I, cq, hx⟩ := cj
  subst hx
  obtain ⟨m1, m2⟩ := cq.1.m5
  unfold tX1_run
  by_cases cc : p < 1 ∨ ¬ p ≤ 500
  · refine ⟨1, mI M 0 1, fun Bh ao => e_runA p cc, cj0 1, by rw [mI_g, if_pos rfl]; rfl, Or.inl rfl, ?_⟩
    rw [if_pos cc]
  · have h22 := h.resolve_left cc
    have e21 : nmF (700 + 21) = 22 := rfl
    refine ⟨2, mI M 0 2, fun Bh ao => e_runB p cc (by rw [h22]; decide), cj0 2, by rw [mI_g, if_pos rfl]; rfl, Or.inr rfl, ?_⟩
    rw [if_neg cc]
    refine ob m1 (ob (cq.1.getF 21 (by decide) rfl (by decide) rfl) ?_)
    rw [e21, if_pos h22]
set_option maxHeartbeats 1000000 in
theorem J_lane (cj : CJ nC nS A V M x) (p q r t : Int32) : ∃ v M', (∀ Bh ao, fX11_lane ao p q r t (mk Bh ao M) = some (v, mk Bh ao M')) ∧ CJ nC nS A V M' x ∧ ((M'.1 0 = 0 ∧ fX1_lane x p q r t A = some v) ∨ (M'.1 0 = 1 ∧ tX1_lane x p q r t A = some ())) := by
  have cj0 := cj.th
  obtain ⟨E, ad, P, T, Bk, b1, b2, n0, n1, n2, c, al, I, cq, hx⟩ := cj
  subst hx
  obtain ⟨m1, m2⟩ := cq.1.m5
  obtain ⟨b6, b7, b8, b9, b10, e1, e2⟩ := cq.b
  obtain ⟨s3, s4, s5, s6, _⟩ := cq.2.2.2.1
  have g := cq.1
  have cp := g.2.1.1
  have hs := cp.2.2.2
  have rc1 : rcv A (some (P 0)) 1 = some (P 0) := g.1.rc (hs.kk hs.2.2.1.1.1)
  have isS := e1_isSlot cq p q
  have th1 : (mI M 0 1).1 0 = 1 := by rw [mI_g, if_pos rfl]
  by_cases cc : ((p < 0 ∨ nI (P 8) ≤ p) ∨ q < 0) ∨ nI (P 7) ≤ q
  · refine ⟨0, mI M 0 1, fun Bh ao => e_laneA p q r t (by rw [s3, e2]; exact cc), cj0 1, Or.inr ⟨th1, ?_⟩⟩
    unfold tX1_lane
    refine ob rc1 (ob isS ?_)
    rw [b2i_f (fun z => z cc), jn_eq, if_pos rfl]
    exact if_pos (Or.inl rfl)
  · obtain ⟨u, hu, eu⟩ : ∃ u, u < P 8 ∧ p = nI u := by
      rcases pk_ix p (n := P 8) (by omega) with e | e | ⟨j, hj, e⟩
      · exact absurd (Or.inl (Or.inl (Or.inl e))) cc
      · exact absurd (Or.inl (Or.inl (Or.inr e))) cc
      · exact ⟨j, hj, e⟩
    obtain ⟨k, hk, ek⟩ : ∃ k, k < P 7 ∧ q = nI k := by
      rcases pk_ix q (n := P 7) (by omega) with e | e | ⟨j, hj, e⟩
      · exact absurd (Or.inl (Or.inr e)) cc
      · exact absurd (Or.inr e) cc
      · exact ⟨j, hj, e⟩
    subst eu ek
    obtain ⟨ul, uu, y, t1, t2, t3, t4, t5, t6⟩ := cq.sl hu hk
    have hb2 : b2i (¬ (((nI u < 0 ∨ nI (P 8) ≤ nI u) ∨ nI k < 0) ∨ nI (P 7) ≤ nI k)) = 1 := b2i_t cc
    have cm : ¬ (((nI u < 0 ∨ M.1 3 ≤ nI u) ∨ nI k < 0) ∨ M.1 2 ≤ nI k) := by rw [s3, e2]; exact cc
    have hs128 : 16 * u + k < 128 := by omega
    have h9 := cq.n9 hs128
    have toB : ∀ y4, ad 13 (16 * u + k) = y4 → ∀ o, (if ((y4 = none) ∨ (r < 0)) then (some ()) else (gR A y4 13 2).bind fun v5 => (rcv A v5 0).bind fun v6 => (fJ2_size v6 A).bind fun g7 => if (((g7 ≤ r) ∨ (t < 0)) ∨ (¬ (t ≤ (20 : Int32)))) then (some ()) else none) = o → tX1_lane (P 0) (nI u) (nI k) r t A = o := by
      intro y4 hy o ho
      unfold tX1_lane
      refine ob rc1 (ob isS ?_)
      rw [hb2, jn_eq, if_neg (show ¬ ((1 : Int32) = 0) by decide)]
      refine ob m1 (ob t1 (ob t2 (ob t3 (ob t4 (ob t5 (ob t6 ?_))))))
      rw [hy]
      exact ho
    by_cases c9 : M.2.1 9 (16 * u + k) = -1 ∨ r < 0
    · refine ⟨0, mI M 0 1, fun Bh ao => e_laneB u k r t (by omega) (by omega) cm c9, cj0 1, Or.inr ⟨th1, ?_⟩⟩
      refine toB _ rfl _ ?_
      rw [if_pos (c9.imp_left h9.mpr)]
    · have hr0 : ¬ r < 0 := fun z => c9 (Or.inr z)
      obtain ⟨i, hi31, ei⟩ := nI_of hr0
      subst ei
      cases ha : ad 13 (16 * u + k) with
      | none => exact absurd (Or.inl (h9.mp ha)) c9
      | some w =>
        have wk := hs.kk ha
        obtain ⟨_, ⟨ll, cap, hxl, hli⟩, hlen, hln, hlane, hlenP⟩ := cp.wl ha
        have q1 : gR A (some w) 13 2 = some (some ll) := (g.1.gr 2 (c := 13) wk (by decide) rfl).trans (congrArg some hxl)
        have q2 : rcv A (some ll) 0 = some ll := g.1.rc hli.1
        have q3 := L_size g.1 hli
        have hne : ¬ ((some w = none) ∨ (nI i < 0)) := fun z => z.elim (fun z => by cases z) hr0
        have lnl : lnI M (16 * u + k) i ↔ i < (lt V E 13 2 w).length := by
          by_cases z : i < 32
          · exact hln i z
          · constructor
            · intro y
              have := y.1
              rw [e1, nI_leI (by omega) hi31] at this
              omega
            · intro y
              omega
        by_cases c3 : ((nI (lt V E 13 2 w).length ≤ nI i) ∨ (t < 0)) ∨ (¬ (t ≤ (20 : Int32)))
        · have hc : ¬ lnI M (16 * u + k) i ∨ t < 0 ∨ 20 < t := by
            rcases c3 with (z | z) | z
            · refine Or.inl (fun y => ?_)
              rw [nI_leI (by omega) hi31] at z
              have := lnl.mp y
              omega
            · exact Or.inr (Or.inl z)
            · exact Or.inr (Or.inr (Int32.not_le.mp z))
          refine ⟨0, mI M 0 1, fun Bh ao => e_laneC u k i t (by omega) (by omega) cm c9 hc, cj0 1, Or.inr ⟨th1, ?_⟩⟩
          refine toB _ ha _ ?_
          rw [if_neg hne]
          refine ob q1 (ob q2 (ob q3 ?_))
          rw [if_pos c3]
        · have hil : i < (lt V E 13 2 w).length := by
            by_cases z : i < (lt V E 13 2 w).length
            · exact z
            · exact absurd (Or.inl (Or.inl (c_le (by omega) hi31))) c3
          have ht0 : ¬ t < 0 := fun z => c3 (Or.inl (Or.inr z))
          have ht20 : t ≤ 20 := Classical.byContradiction fun z => c3 (Or.inr z)
          obtain ⟨rr, hrr, er⟩ : ∃ rr, rr ≤ 20 ∧ t = nI rr := nI_of2 (M := 20) (n := 20) (by decide) ht0 ht20
          subst er
          refine ⟨lnV M (32 * (16 * u + k) + i) rr, mI M 0 0, fun Bh ao => e_laneY u k i rr (by omega) (by omega) (by omega) hrr cm c9 (lnl.mpr hil), cj0 0, Or.inl ⟨by rw [mI_g, if_pos rfl], ?_⟩⟩
          obtain ⟨l, l1, l2, l3⟩ := hlane i hil
          unfold fX1_lane
          refine ob rc1 (ob isS ?_)
          rw [hb2, jn_eq, if_neg (show ¬ ((1 : Int32) = 0) by decide)]
          refine ob m1 (ob t1 (ob t2 (ob t3 (ob t4 (ob t5 (ob t6 ?_))))))
          rw [ha]
          show (if ((some w = none) ∨ (nI i < 0)) then (none : Option Int32) else _) = _
          rw [if_neg hne]
          refine ob q1 (ob q2 (ob q3 ?_))
          rw [if_neg c3]
          refine ob (L_get g.1 hli l1) (ob (g.1.cs l3) ?_)
          rw [jn_eq]
          unfold lnV
          by_cases c16 : 16 ≤ rr
          · have q16 : (16 : Int32) ≤ nI rr := c_le (a := 16) (b := rr) c16 (by omega)
            rw [if_pos q16]
            by_cases e16 : rr = 16
            · rw [if_pos (show (nI rr : Int32) = 16 by rw [e16]; rfl), if_pos (by omega), if_pos e16]
              exact ob (cp.lf g.1 l2 2 (by omega)).1 rfl
            · have n16 : ¬ (nI rr : Int32) = 16 := fun z => e16 ((nI_eq (a := rr) (b := 16) (by omega) (by omega)).mp z)
              rw [if_neg n16, if_neg (by omega)]
              obtain ⟨yy, p1, p2, _⟩ := cp.pd g.1 l2
              have eix : (nI rr - (16 : Int32)) - (1 : Int32) = nI (rr - 17) := by
                rw [show (16 : Int32) = nI 16 from rfl, pk_sub (by omega), nI_sub1 (by omega), show rr - 16 - 1 = rr - 17 by omega]
              rw [eix]
              refine ob p1 (ob (p2 (rr - 17) (by omega)) ?_)
              rw [show (rr - 17) % 4 = rr - 17 by omega]
              by_cases cb : bitP (M.2.1 14 (32 * (16 * u + k) + i)) (rr - 17)
              · rw [b2i_t cb, if_pos cb, if_neg (show ¬ ((1 : Int32) = 0) by decide)]
              · rw [b2i_f cb, if_neg cb, if_pos rfl]
          · have q16 : ¬ (16 : Int32) ≤ nI rr := c_nle (a := 16) (b := rr) (by omega) (by omega)
            rw [if_neg q16, if_pos (by omega), if_neg (by omega)]
            obtain ⟨yy, p1, p2, _⟩ := cp.rg g.1 l2
            exact ob p1 (ob (p2 rr (by omega)) rfl)
end H14
