/-! E16: all that holds between calls; a run -/
def CQ (nC nS : Nat) (A : AH) (V : CW) (E : EL) (ad : AA) (M : MS) (P : PP) (T Bk b1 b2 n0 n1 n2 c al I : Nat) : Prop := GX nC nS A V E ad M P T Bk b1 b2 n0 n1 n2 ∧ MI M c c (1280 * c) ∧ LT M ∧ SM M P Bk I ∧ ZQ M I ∧ (undP M → ∃ nx Bn Th W, LA M P nx Bn Th W) ∧ (M.1 22 = nI al ∧ c ≤ al ∧ al ≤ 20000) ∧ T ≤ 256 * c ∧ 1 ≤ P 10
section E16
variable {nC nS n : Nat} {A A' : AH} {V V' : CW} {E E' : EL} {ad ad' : AA} {M M' N X Y : MS} {P : PP} {T Bk b1 b2 n0 n1 n2 c al I p nx Bn Th W : Nat}
theorem CQ.b (ci : CQ nC nS A V E ad M P T Bk b1 b2 n0 n1 n2 c al I) : P 6 ≤ 32 ∧ P 7 ≤ 16 ∧ P 8 ≤ 8 ∧ P 9 ≤ 8 ∧ P 10 ≤ 16 ∧ M.1 1 = nI (P 6) ∧ M.1 2 = nI (P 7) := by
  have hs := ci.1.2.1.1.2.2.2
  have h1 := hs.2.2.2.2.2.2.2.2.1
  have h2 := hs.2.2.2.2.2.2.2.2.2.1
  exact ⟨h1.1, h1.2.1, h1.2.2.1, h1.2.2.2.1, h1.2.2.2.2, h2.1, h2.2⟩
theorem cy_eq (h1 : M.1 1 = nI (P 6)) (h2 : M.1 2 = nI (P 7)) (hP6 : P 6 ≤ 32) (hP7 : P 7 ≤ 16) (hP8 : P 8 ≤ 8) (hP9 : P 9 ≤ 8) (hP10 : P 10 ≤ 16) (sm : SM M P Bk I) (la : LA M P nx Bn Th W) (h41 : M.1 41 = nI p) (hp : p ≤ 4096) : z_cy M = z_cyc (P 6) (P 7) (P 8) Bk (P 9) W Bn nx p M ∧ (M.1 13 + M.1 1 - 1) / M.1 1 = nI W := by
  obtain ⟨s3, s4, s5, s6, ⟨q6, q7, q8, q9⟩, ⟨qb1, qb2⟩, qi1, qi2⟩ := sm
  obtain ⟨l1, l2, ⟨l3, l4⟩, l5, l6, l7, l8, l9, l10⟩ := la
  have ew : (M.1 13 + M.1 1 - 1) / M.1 1 = nI W := by rw [l6, h1]; exact warps_n q6 hP6 l7.2 l8
  refine ⟨?_, ew⟩
  unfold z_cy
  rw [ew, h1, h2, s3, s4, s5, l2, l1, h41, nN_nI (by omega), nN_nI (by omega), nN_nI (by omega), nN_nI (by omega), nN_nI (by omega), nN_nI (by omega), nN_nI (by omega), nN_nI (by omega), nN_nI (by omega)]
theorem CQ.step (ci : CQ nC nS A V E ad M P T Bk b1 b2 n0 n1 n2 c al I) (hS : 20000 ≤ nS) (hC : 2 ≤ nC) (hu : undP M) (hal : ¬ 20000 ≤ M.1 22) (hn : 10100 < n) :
    Res (fX7_cycle n (P 1) A) (fun A' => ∃ V' E' ad' T' m0 m1 m2, CQ nC nS A' V' E' ad' (z_cy M) P T' Bk b1 b2 m0 m1 m2 (c + 1) (al + 1) I ∧ fr V' = fr V ∧ (z_cy M).1 0 = M.1 0) := by
  obtain ⟨b6, b7, b8, b9, b10, e1, e2⟩ := ci.b
  obtain ⟨g, hm, hl, sm, zq, hla, ⟨h22, hc, hal2⟩, hT, hP10⟩ := ci
  obtain ⟨nx, Bn, Th, W, la⟩ := hla hu
  obtain ⟨p, h41, hp⟩ := hm.p
  have hlt : al < 20000 := by
    rw [h22] at hal
    by_cases z : al < 20000
    · exact z
    · exact absurd (c_le (a := 20000) (b := al) (by omega) (by omega)) hal
  obtain ⟨ez, _⟩ := cy_eq e1 e2 b6 b7 b8 b9 b10 sm la h41 hp
  obtain ⟨r1, r2, r3, r4, ⟨nx', r5⟩, r6, r7, _⟩ := cyc_P b6 b7 b8 b9 e1 hm hl sm zq la (by omega) h41 hp
  rw [ez]
  refine Res.m (e7_cycle hS hC g hm hl sm la (by omega) (by omega) h41 hp hn) ?_
  rintro A' ⟨V', E', ad', T', m0, m1, m2, g', t', _, hf⟩
  exact ⟨V', E', ad', T', m0, m1, m2, ⟨g', r1, r2, r3, r4, fun _ => ⟨nx', Bn, Th, W, r5⟩, ⟨by rw [r6, h22, nI_1], by omega, by omega⟩, by omega, hP10⟩, hf, r7⟩
/-- the model's cycle -/
theorem CQ.one (ci : CQ nC nS A V E ad M P T Bk b1 b2 n0 n1 n2 c al I) (hu : undP M) (hal : ¬ 20000 ≤ M.1 22) {Bh : AH} {ao : Nat} (hn : 32768 ≤ n) : fX11_oneCycle n ao (mk Bh ao M) = some (mk Bh ao (z_cy M)) := by
  obtain ⟨b6, b7, b8, b9, b10, e1, e2⟩ := ci.b
  obtain ⟨g, hm, hl, sm, zq, hla, ⟨h22, hc, hal2⟩, hT, hP10⟩ := ci
  obtain ⟨nx, Bn, Th, W, la⟩ := hla hu
  obtain ⟨p, h41, hp⟩ := hm.p
  have hlt : al < 20000 := by
    rw [h22] at hal
    by_cases z : al < 20000
    · exact z
    · exact absurd (c_le (a := 20000) (b := al) (by omega) (by omega)) hal
  obtain ⟨ez, ew⟩ := cy_eq e1 e2 b6 b7 b8 b9 b10 sm la h41 hp
  obtain ⟨_, _, _, _, _, _, _, r8⟩ := cyc_P b6 b7 b8 b9 e1 hm hl sm zq la (by omega) h41 hp
  rw [ez]
  have sm' := sm
  obtain ⟨s3, s4, s5, s6, ⟨q6, q7, q8, q9⟩, ⟨qb1, qb2⟩, qi1, qi2⟩ := sm'
  have la' := la
  obtain ⟨l1, l2, ⟨l3, l4⟩, l5, l6, l7, l8, l9, l10⟩ := la'
  refine e_oneCycle (I := I) ⟨⟨q6, b6⟩, ⟨q7, b7⟩, ⟨q8, b8⟩, ⟨qb1, qb2⟩, ⟨q9, b9⟩, qi2⟩ W Bn nx p (by omega) l3 l4 (by omega) e1 e2 s3 l1 l2 ew h41 (fun k hk => ?_) hn (fun u hu' => ?_)
  · obtain ⟨⟨p', z1, z2, z3⟩, z4, _, _, _, z5, _⟩ := g.2.1.2.1
    have ep : p' = p := (nI_eq (by omega) (by omega)).mp (z1.symm.trans h41)
    subst ep
    obtain ⟨a, ha⟩ := (z3 k).mpr hk
    obtain ⟨o, d, q, bk, s, i, y1, ⟨y2, y3, y4, _⟩, _⟩ := z4 k a ha
    exact ⟨16 * o + d, 32 * (128 * bk + s) + i, q, y2, by omega, y3, by omega, y4, by omega⟩
  · obtain ⟨x1, x2, x3, x4, x5⟩ := r8 u hu'
    obtain ⟨y3, y4, y5, y6, _⟩ := x3
    obtain ⟨p', hp', hp2'⟩ := x2.p
    exact ⟨⟨x4.trans e1, x5.trans e2, y3, y4, y5, y6⟩, x1, x2.1.2.2.2.1, p', hp', by omega⟩
theorem CQ.th (ci : CQ nC nS A V E ad M P T Bk b1 b2 n0 n1 n2 c al I) (v : Int32) : CQ nC nS A V E ad (mI M 0 v) P T Bk b1 b2 n0 n1 n2 c al I := by
  have f0 : frm [0] [] M (mI M 0 v) := frm.rf.mI (by decide)
  obtain ⟨g, hm, hl, sm, zq, hla, h22, hT⟩ := ci
  refine ⟨g.mm f0 (by decide) (by decide), hm.fr f0 (by decide) (by decide), hl.fr f0 (by decide), sm.fr f0 (by decide), zq.fr f0 (by decide) (by decide), fun hu => ?_, by rw [f0.f 22]; exact h22, hT⟩
  have hu' : undP M := by
    unfold undP at hu ⊢
    rw [f0.f 11] at hu
    exact hu
  obtain ⟨nx, Bn, Th, W, la⟩ := hla hu'
  exact ⟨nx, Bn, Th, W, la.fr f0 (by decide) (la.2.2.2.1.fr f0 (by decide))⟩
theorem runI_s (M : MS) (k : Nat) : iter runS 0 (k + 1) M = runS k (iter runS 0 k M) := by rw [iter_last, Nat.zero_add]
theorem run_id {M : MS} {k : Nat} (h : ¬ (undP (iter runS 0 k M) ∧ ¬ 20000 ≤ (iter runS 0 k M).1 22)) : ∀ d, iter runS 0 (k + d) M = iter runS 0 k M
  | 0 => rfl
  | d + 1 => by
    rw [← Nat.add_assoc, runI_s, run_id h d]
    exact if_neg h
/-- states of a run -/
theorem CQ.its (ci : CQ nC nS A V E ad M P T Bk b1 b2 n0 n1 n2 c al I) (hS : 20000 ≤ nS) (hC : 2 ≤ nC) : ∀ k, ∃ A' V' E' ad' T' m0 m1 m2 c' al', CQ nC nS A' V' E' ad' (iter runS 0 k M) P T' Bk b1 b2 m0 m1 m2 c' al' I ∧ (iter runS 0 k M).1 0 = M.1 0 := by
  intro k
  induction k with
  | zero => exact ⟨A, V, E, ad, T, n0, n1, n2, c, al, ci, rfl⟩
  | succ k ih =>
    obtain ⟨A1, V1, E1, ad1, T1, k0, k1, k2, c1, al1, ci1, e0⟩ := ih
    rw [runI_s]
    generalize iter runS 0 k M = Y at *
    unfold runS
    by_cases cc : undP Y ∧ ¬ 20000 ≤ Y.1 22
    · rw [if_pos cc]
      obtain ⟨A2, _, V2, E2, ad2, T2, m0, m1, m2, ci2, _, e2⟩ := ci1.step (n := 10101) hS hC cc.1 cc.2 (by omega)
      exact ⟨A2, V2, E2, ad2, T2, m0, m1, m2, _, _, ci2, e2.trans e0⟩
    · rw [if_neg cc]
      exact ⟨A1, V1, E1, ad1, T1, k0, k1, k2, c1, al1, ci1, e0⟩
theorem e7_isOn (g : GX nC nS A V E ad M P T Bk b1 b2 n0 n1 n2) : fX7_isOn (P 1) A = some (b2i (undP M)) := by
  unfold fX7_isOn
  refine ob (g.getF 12 (by decide) rfl (by decide) rfl) ?_
  have e12 : nmF (700 + 12) = 11 := rfl
  rw [e12, jn_eq]
  by_cases c : M.1 11 = 1 ∨ M.1 11 = 4
  · rw [if_pos c, b2i_t c]
    rfl
  · rw [if_neg c, b2i_f c]
    rfl
/-- the machine of the mill -/
theorem GX.m5 (g : GX nC nS A V E ad M P T Bk b1 b2 n0 n1 n2) : gR A (some (P 0)) 1 5 = some (some (P 1)) ∧ rcv A (some (P 1)) 7 = some (P 1) := by
  have hs := g.2.1.1.2.2.2
  exact ⟨(g.1.gr 5 (c := 1) (hs.kk hs.2.2.1.1.1) (by decide) rfl).trans (congrArg some hs.2.2.1.2.1), g.1.rc hs.mm.2⟩
theorem e1_run (ci : CQ nC nS A V E ad M P T Bk b1 b2 n0 n1 n2 c al I) (hS : 20000 ≤ nS) (hC : 2 ≤ nC) {q : Nat} (hq1 : 1 ≤ q) (hq5 : q ≤ 500) (h22 : ¬ M.1 22 = 20000) (hn : 10100 < n) :
    Res (fX1_run n (P 0) (nI q) A) (fun g => g.1 = (z_run M q).1 11 ∧ ∃ V' E' ad' T' m0 m1 m2 c' al', CQ nC nS g.2 V' E' ad' (z_run M q) P T' Bk b1 b2 m0 m1 m2 c' al' I ∧ fr V' = fr V) := by
  have ci0 := ci.th 0
  have e22 : (mI M 0 0).1 22 = M.1 22 := by rw [mI_g, if_neg (by decide)]
  unfold z_run
  obtain ⟨m1', m2'⟩ := ci.1.m5
  unfold fX1_run
  rw [if_neg (fun z => z.elim (fun z => absurd z (nI_nlt (a := q) (b := 1) (by omega) (by omega))) (fun z => z (c_le (a := q) (b := 500) (by omega) (by omega))))]
  refine Res.b m1' (Res.b (ci.1.getF 21 (by decide) rfl (by decide) rfl) ?_)
  have e21 : nmF (700 + 21) = 22 := rfl
  rw [e21, if_neg h22]
  generalize mI M 0 0 = M0 at *
  refine jl_R (fun dd (gg : Int32 → AH → Option (Int32 × AH)) => ∀ k A5 V5 E5 ad5 T5 k0 k1 k2 c5 al5, k + dd = q → CQ nC nS A5 V5 E5 ad5 (iter runS 0 k M0) P T5 Bk b1 b2 k0 k1 k2 c5 al5 I → fr V5 = fr V → Res (gg (nI k) A5) (fun g => g.1 = (iter runS 0 q M0).1 11 ∧ ∃ V' E' ad' T' m0 m1 m2 c' al', CQ nC nS g.2 V' E' ad' (iter runS 0 q M0) P T' Bk b1 b2 m0 m1 m2 c' al' I ∧ fr V' = fr V)) q (show q < n by omega) ?_ ?_ ?_
  · intro gg k A5 V5 E5 ad5 T5 k0 k1 k2 c5 al5 hk ci5 hf5
    have ek : k = q := by omega
    subst ek
    obtain ⟨r1, r2⟩ := ci5.1.m5
    rw [jn_eq, if_pos (Int32.le_refl _)]
    refine Res.b r1 (Res.b (ci5.1.getF 12 (by decide) rfl (by decide) rfl) (Res.r ⟨rfl, V5, E5, ad5, T5, k0, k1, k2, c5, al5, ci5, hf5⟩))
  · intro dd gg hgg k A5 V5 E5 ad5 T5 k0 k1 k2 c5 al5 hk ci5 hf5
    obtain ⟨r1, r2⟩ := ci5.1.m5
    rw [jn_eq, if_neg (c_nle (by omega) (by omega))]
    refine Res.b r1 (Res.b r2 (Res.b (e7_isOn ci5.1) ?_))
    have ex : ¬ (undP (iter runS 0 k M0) ∧ ¬ 20000 ≤ (iter runS 0 k M0).1 22) → Res ((gR A5 (some (P 0)) 1 5).bind fun v9 => (gI A5 v9 7 12).bind fun v10 => some (v10, A5)) (fun g => g.1 = (iter runS 0 q M0).1 11 ∧ ∃ V' E' ad' T' m0 m1 m2 c' al', CQ nC nS g.2 V' E' ad' (iter runS 0 q M0) P T' Bk b1 b2 m0 m1 m2 c' al' I ∧ fr V' = fr V) := by
      intro hno
      have e := run_id hno (q - k)
      rw [show k + (q - k) = q by omega] at e
      rw [e]
      exact Res.b r1 (Res.b (ci5.1.getF 12 (by decide) rfl (by decide) rfl) (Res.r ⟨rfl, V5, E5, ad5, T5, k0, k1, k2, c5, al5, ci5, hf5⟩))
    by_cases cu : undP (iter runS 0 k M0)
    · rw [b2i_t cu, if_neg (show ¬ ((1 : Int32) = 0) by decide)]
      refine Res.b (ci5.1.getF 21 (by decide) rfl (by decide) rfl) ?_
      rw [e21]
      by_cases c2 : 20000 ≤ (iter runS 0 k M0).1 22
      · rw [if_pos c2]
        exact ex (fun z => z.2 c2)
      · rw [if_neg c2, nI_1]
        refine Res.w (ci5.step hS hC cu c2 hn) ?_
        rintro A6 ⟨V6, E6, ad6, T6, m0, m1, m2, ci6, hf6, _⟩
        refine hgg (k + 1) A6 V6 E6 ad6 T6 m0 m1 m2 (c5 + 1) (al5 + 1) (by omega) ?_ (hf6.trans hf5)
        have es : iter runS 0 (k + 1) M0 = z_cy (iter runS 0 k M0) := by
          rw [runI_s]
          exact if_pos ⟨cu, c2⟩
        rw [es]
        exact ci6
    · rw [b2i_f cu, if_pos rfl]
      exact ex (fun z => cu z.1)
  · intro gg hgg
    exact hgg 0 A V E ad T n0 n1 n2 c al (by omega) ci0 rfl
/-- the model's run -/
theorem CQ.run (ci : CQ nC nS A V E ad M P T Bk b1 b2 n0 n1 n2 c al I) (hS : 20000 ≤ nS) (hC : 2 ≤ nC) {q : Nat} (hq1 : 1 ≤ q) (hq5 : q ≤ 500) (h22 : ¬ M.1 22 = 20000) {Bh : AH} {ao : Nat} (hn : 32768 ≤ n) : fX11_run n ao (nI q) (mk Bh ao M) = some ((z_run M q).1 11, mk Bh ao (z_run M q)) ∧ (z_run M q).1 0 = 0 := by
  have ci0 := ci.th 0
  have hal := ci.2.2.2.2.2.2.1
  have hlt : M.1 22 < 20000 := by
    rw [hal.1] at h22 ⊢
    have : al ≠ 20000 := fun z => h22 (by rw [z]; rfl)
    exact nI_lt (a := al) (b := 20000) (by omega) (by omega)
  refine ⟨e_run q hq1 hq5 hlt (by omega) (fun k hk hu => ?_), ?_⟩
  · obtain ⟨A', V', E', ad', T', m0, m1, m2, c', al', ci', _⟩ := ci0.its hS hC k
    exact ci'.one hu.1 hu.2 hn
  · obtain ⟨_, _, _, _, _, _, _, _, _, _, _, e0⟩ := ci0.its hS hC q
    unfold z_run
    rw [e0, mI_g, if_pos rfl]
end E16
