/-! C51: a warp goes -/
section C51
variable {nC nS n : Nat} {A A' : AH} {V V' V'' : CW} {E E' : EL} {ad ad' : AA} {M M' : MS} {P : PP} {x T T' Bk b1 b2 n0 n1 n2 : Nat}
theorem GX.ks (g : GX nC nS A V E ad M P T Bk b1 b2 n0 n1 n2) (h : St (nC + rqP V E P + ptC V E ad P n0 n1 n2 + rqC V' E' P) (nS + 4 * rqP V E P + ptS V E ad P n0 n1 n2 + rqS V' E' P) A' V') (gb : GB V' E' ad' M' P T' Bk b1 b2) (ks : KS V E V' E') (had : ∀ c, c ≠ 15 → ad' c = ad c) : GX nC nS A' V' E' ad' M' P T' Bk b1 b2 n0 n1 n2 := by
  obtain ⟨_, g2, g3⟩ := g
  have hs := g2.1.2.2.2
  have hP2 : kdV V (P 2) = 3 := hs.kk hs.2.2.1.1.2.2.1
  have e0 := ks.2 (P 2) 2 0 hP2 (by decide) (by decide)
  have e1 := ks.2 (P 2) 2 1 hP2 (by decide) (by decide)
  have e2 := ks.2 (P 2) 2 2 hP2 (by decide) (by decide)
  have erP : rqP V' E' P = rqP V E P := by
    unfold rqP
    rw [e0.2, e1.2, e2.2]
  have kdl : ∀ k, k < 3 → ∀ y, y ∈ lt V E 2 k (P 2) → kdV V y = 12 + k + 1 := fun k hk y hy => by
    obtain ⟨pl, _, li, _⟩ := PLs g2.1.2.2.1 g2.1.2.1 hP2 hk
    exact li.2.2.2.2.2.1 y hy
  have ew : ∀ w, kdV V w = 14 → fW V' E' w = fW V E w := fun w hk => by
    unfold fW
    rw [(ks.2 w 13 2 hk (by decide) (by decide)).2]
  have eb : ∀ b, kdV V b = 13 → fB V' E' b = fB V E b := fun b hk => by
    unfold fB
    rw [(ks.2 b 12 2 hk (by decide) (by decide)).2]
  have sW : sumA (fW V' E') (ad' 13) 128 + sumL (fW V' E') (lt V' E' 2 1 (P 2)) = sumA (fW V E) (ad 13) 128 + sumL (fW V E) (lt V E 2 1 (P 2)) := by
    rw [e1.1, had 13 (by decide), sumA_c (f := fW V E) (r := ad 13) 128 (fun q hq => ⟨rfl, fun a ha => ew a (hs.kk ha)⟩), sumL_c _ (fun y hy => ew y (kdl 1 (by omega) y hy))]
  have sB : sumA (fB V' E') (ad' 12) 64 + sumL (fB V' E') (lt V' E' 2 0 (P 2)) = sumA (fB V E) (ad 12) 64 + sumL (fB V E) (lt V E 2 0 (P 2)) := by
    rw [e0.1, had 12 (by decide), sumA_c (f := fB V E) (r := ad 12) 64 (fun q hq => ⟨rfl, fun a ha => eb a (hs.kk ha)⟩), sumL_c _ (fun y hy => eb y (kdl 0 (by omega) y hy))]
  have ePC : ptC V' E' ad' P n0 n1 n2 = ptC V E ad P n0 n1 n2 := by
    unfold ptC
    rw [sW, sB]
  have ePS : ptS V' E' ad' P n0 n1 n2 = ptS V E ad P n0 n1 n2 := by
    unfold ptS
    rw [sW, sB]
  refine ⟨h.mono ?_ ?_, gb, ?_⟩
  · rw [erP, ePC]; omega
  · rw [erP, ePS]; omega
  · unfold PN
    rw [e0.1, e1.1, e2.1, had 12 (by decide), had 13 (by decide), had 14 (by decide)]
    refine ⟨g3.1, g3.2.1, g3.2.2.1, fun j hj => ?_⟩
    have : j = 0 ∨ j = 1 ∨ j = 2 := by omega
    rcases this with e | e | e <;> subst e
    · rw [e0.2]; exact g3.2.2.2 0 hj
    · rw [e1.2]; exact g3.2.2.2 1 hj
    · rw [e2.2]; exact g3.2.2.2 2 hj
/-- what the barrier wants to know of the model -/
def okE (M' : MS) (u bk : Nat) : Prop := (∀ t, ¬ (¬ M'.2.1 16 t = 0 ∧ ¬ M'.2.1 17 t = 0)) ∧ (∀ s', s' < 128 → M'.2.1 9 s' = nI bk → s' / 16 = u) ∧ ∀ p k s i bk', M'.1 41 = nI p → p ≤ 4096 → k < p → s < 128 → i < 32 → bk' < 64 → M'.2.1 20 k = nI (32 * (128 * bk' + s) + i) → M'.2.1 9 s = nI bk' → M'.2.1 16 (32 * s + i) = 0
/-- the state of the model when all lanes have done the word -/
def goMd (M : MS) (u s d a b bk L Bk G : Nat) : MS := wr3 s (z_time (iter (doeS s) 0 32 (0, 0, M)).2.2 u s a L Bk G).1 (wr2 s (z_time (iter (doeS s) 0 32 (0, 0, M)).2.2 u s a L Bk G).1 (wr1 s d (z_time (iter (doeS s) 0 32 (0, 0, M)).2.2 u s a L Bk G).1 (iter (goS s d a b bk) 0 L (z_tog (cntM u (iter (doeS s) 0 32 (0, 0, M)).1 (iter (doeS s) 0 32 (0, 0, M)).2.1 (z_time (iter (doeS s) 0 32 (0, 0, M)).2.2 u s a L Bk G).2) s a L))))
theorem goS_frm' (s d a b bk i : Nat) (M : MS) : frm [41, 42] [13, 14, 15, 16, 17, 18, 19, 20, 21, 22, 23, 24] M (goS s d a b bk i M) := by
  unfold goS
  split
  · exact frm.rf
  · split
    · exact frm.rf.mA (by decide)
    · exact (frm.rf.mA (by decide)).tr (act_frm _ _ _ _ _ _ _ _ _ _ _)
theorem wr_frm (s d : Nat) (t : Int32) (X : MS) : frm [] [11, 12] X (wr3 s t (wr2 s t (wr1 s d t X))) := by
  have q1 : ∀ X : MS, frm [] [11, 12] X (wr1 s d t X) := fun X => by unfold wr1; split; exact frm.rf.mA (by decide); exact frm.rf
  have q2 : ∀ X : MS, frm [] [11, 12] X (wr2 s t X) := fun X => by unfold wr2; split; exact frm.rf.mA (by decide); exact frm.rf
  have q3 : ∀ X : MS, frm [] [11, 12] X (wr3 s t X) := fun X => by unfold wr3; split; exact frm.rf.mA (by decide); exact frm.rf
  exact ((q1 _).tr (q2 _)).tr (q3 _)
theorem goMd_frm (M : MS) (u s d a b bk L Bk G : Nat) : frm [16, 17, 18, 19, 20, 41, 42, 58] [3, 4, 5, 6, 8, 11, 12, 13, 14, 15, 16, 17, 18, 19, 20, 21, 22, 23, 24, 25, 27, 28] M (goMd M u s d a b bk L Bk G) := by
  unfold goMd
  have d3 := (doeI M s 32).2.2.1
  generalize iter (doeS s) 0 32 (0, 0, M) = c at *
  have u1 : ∀ {ks js : List Nat} {X Y : MS}, frm ks js X Y → (∀ k, k ∈ ks → k ∈ [16, 17, 18, 19, 20, 41, 42, 58]) → (∀ k, k ∈ js → k ∈ [3, 4, 5, 6, 8, 11, 12, 13, 14, 15, 16, 17, 18, 19, 20, 21, 22, 23, 24, 25, 27, 28]) → frm [16, 17, 18, 19, 20, 41, 42, 58] [3, 4, 5, 6, 8, 11, 12, 13, 14, 15, 16, 17, 18, 19, 20, 21, 22, 23, 24, 25, 27, 28] X Y := fun h h1 h2 => h.up h1 h2
  refine (u1 d3 (by decide) (by decide)).tr ((u1 (time_frm c.2.2 u s a L Bk G) (by decide) (by decide)).tr ((u1 (cnt_frm u c.1 c.2.1 _) (by decide) (by decide)).tr ((u1 (tog_frm _ s a L) (by decide) (by decide)).tr ((u1 (frm.iter (fun i M => goS_frm' s d a b bk i M) L 0 _) (by decide) (by decide)).tr (u1 (wr_frm s d _ _) (by decide) (by decide))))))
theorem e7_go (hS : 10000 ≤ nS) (hC : 2 ≤ nC) (g : GX nC nS A V E ad M P T Bk b1 b2 n0 n1 n2) (hT : T + 32 < 2 ^ 30) (hx : WM V x M) {s u w uu d a b bk p0 op gg I : Nat} {G : Int32} (hw : ad 13 s = some w) (hu : ad 8 u = some uu) (hG : ∀ j, j < 32 → (bt G j = true ↔ ¬ M.2.1 26 j = 0)) (hG2 : ∀ j, j < 32 → ¬ M.2.1 26 j = 0 → j < (lt V E 13 2 w).length)
    (hop : M.1 52 = nI op) (hop2 : op < 256) (h53 : M.1 53 = nI d) (h54 : M.1 54 = nI a) (h55 : M.1 55 = nI b) (h56 : M.1 56 = nI gg) (hd : d < 16) (ha : a < 16) (hb : b < 16) (hg : gg < 16) (hwd : wrdP M) (h6 : M.1 6 = nI I) (hI1 : 1 ≤ I) (hI2 : I ≤ 4096) (h4 : M.1 4 = nI Bk) (hB1 : 1 ≤ Bk) (hB2 : Bk ≤ 32) (hG9 : 1 ≤ P 9) (hP6 : 1 ≤ P 6) (hbk : M.2.1 9 s = nI bk) (hbk2 : bk < 64) (h41 : M.1 41 = nI p0) (hp0 : memP M ∧ ¬ shP M → p0 + 32 ≤ 4096) (hn : 10001 < n)
    (hE : op < 2 → okE (goMd M u s d a b bk (P 6) Bk (P 9)) u bk) :
    Res (fX7_go n (P 1) (some uu) (some w) G (some x) A) (fun A' => ∃ V' E' ad' T', GX nC nS A' V' E' ad' (z_go M u s d a b bk (P 6) Bk (P 9)) P T' Bk b1 b2 n0 n1 n2 ∧ (T ≤ T' ∧ T' ≤ T + 32) ∧ (∀ c, c ≠ 12 → c ≠ 13 → c ≠ 14 → c ≠ 15 → ad' c = ad c) ∧ fr V' = fr V) := by
  have h := g.1
  have h0 : St (nC + rqP V E P + ptC V E ad P n0 n1 n2 + rqC V E P) (nS + 4 * rqP V E P + ptS V E ad P n0 n1 n2 + rqS V E P) A V := h.mono (by omega) (by omega)
  obtain ⟨c, ec⟩ : ∃ c, c = iter (doeS s) 0 32 (0, 0, M) := ⟨_, rfl⟩
  have ecc : iter (doeS s) 0 32 (0, 0, M) = (c.1, c.2.1, c.2.2) := ec.symm
  unfold z_go
  unfold goMd at hE
  rw [← ec] at hE ⊢
  refine e7_goM (by omega) (by omega) h0 g.2.1 hT hx hw hu hG hG2 hop hop2 h53 h54 h55 h56 hd ha hb hg hwd h6 hI1 hI2 h4 hB1 hB2 hG9 hP6 hbk hbk2 h41 hp0 hn c.2.2 c.1 c.2.1 ecc _ ?_ ?_
  · intro i A' V' htr s' gb' ks'
    rw [htr]
    exact ⟨V', E, ad, T, g.ks s' gb' ks' (fun _ _ => rfl), ⟨Nat.le_refl _, by omega⟩, fun _ _ _ _ _ => rfl, ks'.1.2⟩
  · intro htr A' V' E' ad1 T' M' eM' s' gb' hT' had' hx' ks'
    rw [htr]
    show Res _ (fun A' => ∃ V' E' ad' T', GX nC nS A' V' E' ad' (z_goR c.2.2 u s d a b bk (P 6) Bk (P 9) c.1 c.2.1) P T' Bk b1 b2 n0 n1 n2 ∧ _)
    unfold z_goR wrA
    rw [← eM'] at hE ⊢
    have g' := g.ks s' gb' ks' had'
    have hw' : ad1 13 s = some w := by rw [had' 13 (by decide)]; exact hw
    have hu' : ad1 8 u = some uu := by rw [had' 8 (by decide)]; exact hu
    have hgf := goMd_frm M u s d a b bk (P 6) Bk (P 9)
    unfold goMd at hgf
    rw [← ec, ← eM'] at hgf
    have hop' : M'.1 52 = nI op := (hgf.f 52).trans hop
    have hbk' : M'.2.1 9 s = nI bk := by rw [hgf.a 9]; exact hbk
    by_cases c2 : op < 2
    · obtain ⟨o1, o2, o3⟩ := hE c2
      refine Res.m (e7_goT hS hC g' hx' hop' hop2 hw' hu' hbk' hbk2 (fun t l _ => o1 t) o2 (fun k a s i bk' hk h1 h2 h3 h4 h5 => ?_) (by omega)) ?_
      · obtain ⟨p, hp1, hp2, hp3⟩ := gb'.2.1.1
        have hle := gb'.2.1.2.2.2.2.2.1
        exact o3 p k s i bk' hp1 (by omega) ((hp3 k).mp ⟨a, hk⟩) h1 h2 h3 h4 h5
      · rintro A'' ⟨V'', E'', ad'', q1, q2, q3⟩
        exact ⟨V'', E'', ad'', T', q1, hT', fun c h1 h2 h3 h4 => by rw [q2 c h1 h2 h3, had' c h4], q3.trans ks'.1.2⟩
    · have e1 : (2 : Int32) ≤ M'.1 52 := by rw [hop']; exact c_le (a := 2) (by omega) (by omega)
      have e2 : ¬ M'.1 52 ≤ 1 := by rw [hop']; exact c_nle (b := 1) (by omega) (by omega)
      unfold goT wr4
      refine Res.b (wg0 s' hx') ?_
      rw [if_neg e2, if_pos e1]
      exact Res.r ⟨V', E', ad1, T', g', hT', fun c h1 h2 h3 h4 => had' c h4, ks'.1.2⟩
end C51
