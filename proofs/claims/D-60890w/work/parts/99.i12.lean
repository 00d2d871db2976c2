/-! I12: all stays when the list of the kernel changes, beside what is new -/
section I12
variable {nC nS n : Nat} {A A' : AH} {V V' : CW} {E E' : EL} {ad : AA} {M M' : MS} {P : PP} {T Bk b1 b2 n0 n1 n2 w x : Nat} {X : Nat → Prop}
/-- only a list of the mill may change -/
def KX (V : CW) (X : Nat → Prop) : Prop := (∀ a c, kdV V a = c + 1 → c ≠ 0 → ¬ X a) ∧ ∀ a c k ll, kdV V a = c + 1 → lof c k ≠ 0 → c ≠ 1 → xr V (100 * c + k) a 0 = some ll → ¬ X ll
theorem WM.ds (hw : WM V w M) (hd : DS X V E V' E') (hx : ¬ X w) : WM V' w M := by
  obtain ⟨a1, a2, a3, a4, a5, a6, a7, a8, a9⟩ := hw
  have ei := fun d => hd.1.i (c := 5) a1 hx d
  have er := fun d => hd.1.r (c := 5) a1 hx d
  exact ⟨hd.kv (c := 5) a1, by unfold SJ; rw [hd.1.2.2]; exact a2, by rw [ei]; exact a3, by rw [ei]; exact a4, by rw [ei]; exact a5, by rw [ei]; exact a6, by rw [ei]; exact a7, by rw [ei]; exact a8, by rw [er, hd.1.2.2]; exact a9⟩
theorem BS.ds {b m : Nat} {S : Nat → Bool} (h : BS V b m S) (hd : DS X V E V' E') (hx : ¬ X b) : BS V' b m S := by
  obtain ⟨a1, a2, ⟨y, y1, y2, y3⟩, ⟨v, v1, v2, v3⟩, a5⟩ := h
  have ei := fun d => hd.1.i (c := 6) a1 hx d
  have er := fun d => hd.1.r (c := 6) a1 hx d
  have en := fun d => hd.1.n (c := 6) a1 hx d
  have ew := fun d => hd.1.w (c := 6) a1 hx d
  exact ⟨hd.kv (c := 6) a1, a2, ⟨y, by rw [er]; exact y1, by rw [hd.1.2.1]; exact y2, by rw [en]; exact y3⟩, ⟨v, v1, by rw [ei]; exact v2, fun i h1 h2 => by rw [ew]; exact v3 i h1 h2⟩, fun q hq => by rw [ew]; exact a5 q hq⟩
theorem CO.ds {co : Nat} {S1 S2 : Nat → Bool} (h : CO V co Bk b1 b2 S1 S2) (hd : DS X V E V' E') (hx : ∀ a c, kdV V a = c + 1 → (c = 4 ∨ c = 6) → ¬ X a) : CO V' co Bk b1 b2 S1 S2 := by
  obtain ⟨a1, a2, a3, a4, a5, a6, a7⟩ := h
  have ei := fun d => hd.1.i (c := 4) a1 (hx _ 4 a1 (Or.inl rfl)) d
  have er := fun d => hd.1.r (c := 4) a1 (hx _ 4 a1 (Or.inl rfl)) d
  exact ⟨hd.kv (c := 4) a1, by rw [ei]; exact a2, by rw [er]; exact a3, by rw [er]; exact a4, a5, a6.ds hd (hx _ 6 a6.1 (Or.inr rfl)), a7.ds hd (hx _ 6 a7.1 (Or.inr rfl))⟩
theorem OW.ds' {c k a m : Nat} (h : OW V c k a m) (hd : DS X V E V' E') (ha : kdV V a = c + 1) (hx : ¬ X a) : OW V' c k a m := by
  obtain ⟨y, y1, y2, y3⟩ := h
  exact ⟨y, by rw [hd.1.r ha hx]; exact y1, by rw [hd.1.2.1]; exact y2, by rw [hd.1.n ha hx]; exact y3⟩
theorem SH.kx (hs : SH V E ad M P) (hw : WT V E) (hd : DS X V E V' E') (hx : KX V X) : SH V' E' ad M P := by
  have ltk : ∀ {a c k : Nat}, kdV V a = c + 1 → lof c k ≠ 0 → c ≠ 1 → lt V' E' c k a = lt V E c k a := fun ha hk hc => (hd.ltc hw ha hk (fun ll hll => hx.2 _ _ _ _ ha hk hc hll)).1
  have xrk : ∀ {a c : Nat}, kdV V a = c + 1 → c ≠ 0 → ∀ d, xr V' d a = xr V d a := fun ha hc d => hd.1.r ha (hx.1 _ _ ha hc) d
  obtain ⟨h1, h2, h3, h4, h5, h6, h7, h8, h9, h10, h11⟩ := hs
  have k1' := h2 _ _ _ h3.1.1
  have k7' := h2 _ _ _ h3.1.2.1
  have k2' := h2 _ _ _ h3.1.2.2.1
  have k9' := h2 _ _ _ h3.1.2.2.2.2.2
  refine ⟨h1, fun c k a ha => hd.kv (h2 c k a ha), ?_, ?_, ?_, ?_, ?_, ?_, h9, h10, ?_⟩
  · unfold SHp at h3 ⊢
    have y1 := xrk k1' (by decide)
    have y7 := xrk k7' (by decide)
    rw [y1, y1, y1, y1, y1, y1, y7, y7, y7, y7, y7, y7]
    exact ⟨h3.1, h3.2.1, h3.2.2.1, h3.2.2.2.1, h3.2.2.2.2.1, h3.2.2.2.2.2.1, h3.2.2.2.2.2.2.1, h3.2.2.2.2.2.2.2.1, h3.2.2.2.2.2.2.2.2.1, h3.2.2.2.2.2.2.2.2.2.1, h3.2.2.2.2.2.2.2.2.2.2.1, h3.2.2.2.2.2.2.2.2.2.2.2.ds' hd k7' (hx.1 _ _ k7' (by decide))⟩
  · unfold SHu at h4 ⊢
    rw [ltk k7' (by decide) (by decide), ltk k9' (by decide) (by decide)]
    refine ⟨h4.1, h4.2.1, fun u a ha => ⟨(h4.2.2.1 u a ha).1.ds' hd (h2 _ _ _ ha) (hx.1 _ _ (h2 _ _ _ ha) (by decide)), fun k hk => ?_⟩, h4.2.2.2⟩
    rw [xrk (h2 _ _ _ ha) (by decide)]
    exact (h4.2.2.1 u a ha).2 k hk
  · refine ⟨fun s w' hw' => ?_, h5.2⟩
    obtain ⟨y1, y2, bk, b', y3, y4, y5, y6, j, y7, y8, y9⟩ := h5.1 s w' hw'
    exact ⟨y1, y2, bk, b', y3, y4, y5, by rw [xrk (h2 _ _ _ hw') (by decide)]; exact y6, j, y7, y8, by rw [ltk (h2 _ _ _ y5) (by decide) (by decide)]; exact y9⟩
  · refine ⟨fun s w' hw' => ?_, h6.2⟩
    rw [ltk (h2 _ _ _ hw') (by decide) (by decide)]
    exact h6.1 s w' hw'
  · intro bk b' hb
    rw [ltk (h2 _ _ _ hb) (by decide) (by decide)]
    exact h7 bk b' hb
  · intro k hk
    rw [ltk k2' (lof2 hk) (by decide)]
    exact h8 k hk
  · unfold SJ
    rw [hd.1.2.2]
    exact h11
theorem HP.kx (hp : HP V E ad M P T) (hs : SH V E ad M P) (hw : WT V E) (hd : DS X V E V' E') (hx : KX V X) : HP V' E' ad M P T := by
  have hP3 : kdV V (P 3) = 4 := hs.kk hs.2.2.1.1.2.2.2.1
  obtain ⟨la, lac⟩ := hd.ltc hw (k := 0) hP3 (by decide) (fun ll hll => hx.2 _ 3 0 _ hP3 (by decide) (by decide) hll)
  obtain ⟨lb, lbc⟩ := hd.ltc hw (k := 1) hP3 (by decide) (fun ll hll => hx.2 _ 3 1 _ hP3 (by decide) (by decide) hll)
  have askI : ∀ {k a : Nat}, ad 15 k = some a → ∀ d, xi V' d a = xi V d a := fun ha d => hd.1.i (hs.kk ha) (hx.1 _ _ (hs.kk ha) (by decide)) d
  have askR : ∀ {k a : Nat}, ad 15 k = some a → xr V' 1508 a = xr V 1508 a := fun ha => hd.1.r (hs.kk ha) (hx.1 _ _ (hs.kk ha) (by decide)) _
  obtain ⟨⟨p, p1, p2, p3⟩, h2, ⟨t1, t2, tn, t3, t4⟩, ⟨o1, o2, o3⟩, ⟨s1, s2⟩, c1, c2, c3⟩ := hp
  unfold HP
  rw [la, lb, lac, lbc]
  refine ⟨⟨p, p1, p2, p3⟩, fun k a ha => ?_, ⟨by rw [hd.1.i hP3 (hx.1 _ _ hP3 (by decide))]; exact t1, t2, tn, fun k a ha => ?_, t4⟩, ⟨o1, o2, ?_⟩, ⟨s1, s2⟩, c1, c2, c3⟩
  · obtain ⟨o, d, q, bk, s, i, y1, y2, ⟨y6, y7, y8, y9, y10, y11⟩, l, y12, y13⟩ := h2 k a ha
    refine ⟨o, d, q, bk, s, i, y1, y2, ⟨?_, ?_, ?_, ?_, ?_, ?_⟩, l, y12, ?_⟩
    · rw [askI ha]; exact y6
    · rw [askI ha]; exact y7
    · rw [askI ha]; exact y8
    · rw [askI ha]; exact y9
    · rw [askI ha]; exact y10
    · rw [askI ha]; exact y11
    · rw [askR ha, askI ha, hd.1.i (hs.kk y12) (hx.1 _ _ (hs.kk y12) (by decide))]
      exact y13
  · show xi V' 1501 a 0 = _ ∧ _
    rw [askI ha]
    exact t3 k a ha
  · refine o3.c (fun i x hi => ?_)
    obtain ⟨k, hk⟩ := (o2 x).mp ⟨i, hi⟩
    show xi V' 1500 x 0 = xi V 1500 x 0 ∧ xi V' 1501 x 0 = xi V 1501 x 0
    rw [askI hk, askI hk]
    exact ⟨rfl, rfl⟩
theorem GX.kx (g : GX nC nS A V E ad M P T Bk b1 b2 n0 n1 n2) (hd : DS X V E V' E') (hx : KX V X) {mC mS : Nat} (s' : St (mC + rqC V E P + rqP V E P + ptC V E ad P n0 n1 n2) (mS + rqS V E P + 4 * rqP V E P + ptS V E ad P n0 n1 n2) A' V') (gl : GL V' E') (wt : WT V' E') (h1 : M'.1 = M.1) (h2 : M'.2.1 = M.2.1) (kn : KN' V' E' M' P) : GX mC mS A' V' E' ad M' P T Bk b1 b2 n0 n1 n2 := by
  obtain ⟨f, a, K⟩ := M
  obtain ⟨f', a', K'⟩ := M'
  have h1 : f' = f := h1
  have h2 : a' = a := h2
  subst h1 h2
  obtain ⟨_, ⟨⟨cx, hg, hw, hs⟩, hp, ⟨S1, S2, co⟩, _⟩, pn⟩ := g
  have hs' := hs.kx hw hd hx
  have hp' := hp.kx hs hw hd hx
  have hP2 : kdV V (P 2) = 3 := hs.kk hs.2.2.1.1.2.2.1
  have hP3 : kdV V (P 3) = 4 := hs.kk hs.2.2.1.1.2.2.2.1
  have ltk : ∀ {a c k : Nat}, kdV V a = c + 1 → lof c k ≠ 0 → c ≠ 1 → lt V' E' c k a = lt V E c k a ∧ cpL V' E' c k a = cpL V E c k a := fun ha hk hc => hd.ltc hw ha hk (fun ll hll => hx.2 _ _ _ _ ha hk hc hll)
  have q0 := ltk (k := 0) hP2 (by decide) (by decide)
  have q1 := ltk (k := 1) hP2 (by decide) (by decide)
  have q2 := ltk (k := 2) hP2 (by decide) (by decide)
  have r0 := ltk (k := 0) hP3 (by decide) (by decide)
  have r1 := ltk (k := 1) hP3 (by decide) (by decide)
  have kdl : ∀ k, k < 3 → ∀ y, y ∈ lt V E 2 k (P 2) → kdV V y = 12 + k + 1 := fun k hk y hy => pool_kd hw hg hP2 hk hy
  have ew : ∀ w, kdV V w = 14 → fW V' E' w = fW V E w := fun w hk => by
    unfold fW
    rw [(ltk (k := 2) hk (by decide) (by decide)).2]
  have eb : ∀ b, kdV V b = 13 → fB V' E' b = fB V E b := fun b hk => by
    unfold fB
    rw [(ltk (k := 2) hk (by decide) (by decide)).2]
  have sW : sumA (fW V' E') (ad 13) 128 + sumL (fW V' E') (lt V' E' 2 1 (P 2)) = sumA (fW V E) (ad 13) 128 + sumL (fW V E) (lt V E 2 1 (P 2)) := by
    rw [q1.1, sumA_c (f := fW V E) (r := ad 13) 128 (fun q hq => ⟨rfl, fun a ha => ew a (hs.kk ha)⟩), sumL_c _ (fun y hy => ew y (kdl 1 (by omega) y hy))]
  have sB : sumA (fB V' E') (ad 12) 64 + sumL (fB V' E') (lt V' E' 2 0 (P 2)) = sumA (fB V E) (ad 12) 64 + sumL (fB V E) (lt V E 2 0 (P 2)) := by
    rw [q0.1, sumA_c (f := fB V E) (r := ad 12) 64 (fun q hq => ⟨rfl, fun a ha => eb a (hs.kk ha)⟩), sumL_c _ (fun y hy => eb y (kdl 0 (by omega) y hy))]
  have ePC : ptC V' E' ad P n0 n1 n2 = ptC V E ad P n0 n1 n2 := by unfold ptC; rw [sW, sB]
  have ePS : ptS V' E' ad P n0 n1 n2 = ptS V E ad P n0 n1 n2 := by unfold ptS; rw [sW, sB]
  have erP : rqP V' E' P = rqP V E P := by unfold rqP; rw [q0.2, q1.2, q2.2]
  have erC : rqC V' E' P = rqC V E P := by unfold rqC rqH; rw [r0.1, r1.1, r0.2, r1.2]
  have erS : rqS V' E' P = rqS V E P := by unfold rqS rqH; rw [r0.1, r1.1, r0.2, r1.2]
  refine ⟨by rw [erC, erS, erP, ePC, ePS]; exact s', ⟨⟨fun d k i a hd' hi ha => ?_, gl, wt, hs'⟩, hp', ⟨S1, S2, co.ds hd (fun a c ha hc => hx.1 a c ha (by omega))⟩, kn⟩, ?_⟩
  · have hc0 : d / 100 ≠ 0 := fun z => by
      rcases hd' with h | h | h | h
      · simp only [cdA, List.mem_cons, List.not_mem_nil, or_false] at h
        omega
      · simp only [fdC, List.mem_cons, List.not_mem_nil, or_false] at h
        omega
      · omega
      · omega
    rw [hd.1.i (hs.kk ha) (hx.1 _ _ (hs.kk ha) hc0)]
    exact cx d k i a hd' hi ha
  · unfold PN at pn ⊢
    rw [q0.1, q1.1, q2.1]
    refine ⟨pn.1, pn.2.1, pn.2.2.1, fun j hj => ?_⟩
    rw [(ltk (k := j) hP2 (lof2 hj) (by decide)).2]
    exact pn.2.2.2 j hj
end I12
