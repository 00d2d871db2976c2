/-! I13: a word of the kernel is put -/
section I13
variable {nC nS n : Nat} {A A' : AH} {V V' : CW} {E E' : EL} {ad : AA} {M M' : MS} {P : PP} {T Bk b1 b2 n0 n1 n2 w x c al I : Nat} {X : Nat → Prop}
theorem GX.mono (g : GX nC nS A V E ad M P T Bk b1 b2 n0 n1 n2) {mC mS : Nat} (h1 : mC ≤ nC) (h2 : mS ≤ nS) : GX mC mS A V E ad M P T Bk b1 b2 n0 n1 n2 := ⟨g.1.mono (by omega) (by omega), g.2⟩
theorem CQ.mono (g : CQ nC nS A V E ad M P T Bk b1 b2 n0 n1 n2 c al I) {mC mS : Nat} (h1 : mC ≤ nC) (h2 : mS ≤ nS) : CQ mC mS A V E ad M P T Bk b1 b2 n0 n1 n2 c al I := ⟨g.1.mono h1 h2, g.2⟩
theorem CJ.mono (cj : CJ nC nS A V M x) {mC mS : Nat} (h1 : mC ≤ nC) (h2 : mS ≤ nS) : CJ mC mS A V M x := by
  obtain ⟨E, ad, P, T, Bk, b1, b2, n0, n1, n2, c, al, I, cq, hx⟩ := cj
  exact ⟨E, ad, P, T, Bk, b1, b2, n0, n1, n2, c, al, I, cq.mono h1 h2, hx⟩
theorem WM.vf (hw : WM V w M) (hd : VF X V V') (hx : ¬ X w) : WM V' w M := by
  obtain ⟨a1, a2, a3, a4, a5, a6, a7, a8, a9⟩ := hw
  have ei := fun d => hd.i (c := 5) a1 hx d
  have er := fun d => hd.r (c := 5) a1 hx d
  exact ⟨hd.k (c := 5) a1, by unfold SJ; rw [hd.2.2]; exact a2, by rw [ei]; exact a3, by rw [ei]; exact a4, by rw [ei]; exact a5, by rw [ei]; exact a6, by rw [ei]; exact a7, by rw [ei]; exact a8, by rw [er, hd.2.2]; exact a9⟩
set_option maxHeartbeats 1000000 in
theorem CQ.word (cq : CQ (nC + 1) (nS + 7) A V E ad M P T Bk b1 b2 n0 n1 n2 c al I) (k : Nat) (hk : k < 128) (v : Int64) : ∃ kl, gR A (some (P 0)) 1 0 = some (some kl) ∧ ∃ A1, nO A 5 dfX5 = some A1 ∧ Res (fX5_init (hN A) v A1) (fun A2 => rcv A2 (some kl) 0 = some kl ∧ Res (fJ2_set kl (nI k) (some (hN A)) A2) (fun r => ∃ V' E', CQ nC nS r.2 V' E' ad (mK M k v) P T Bk b1 b2 n0 n1 n2 c al I ∧ fr V' = fr V)) := by
  have g := cq.1
  have hs := g.2.1.1.2.2.2
  have hw := g.2.1.1.2.2.1
  have hg := g.2.1.1.2.1
  have kn := g.2.1.2.2.2
  have hP0 : kdV V (P 0) = 2 := hs.kk hs.2.2.1.1.1
  obtain ⟨kl, x0, li0, k0, e0, c0⟩ := hw.li2 hg (c := 1) (k := 0) (e := 5) hP0 rfl
  refine ⟨kl, (g.1.gr 0 (c := 1) hP0 (by decide) rfl).trans (congrArg some x0), ?_⟩
  obtain ⟨A1, a1, hN1, s1⟩ := (g.1.mono (nC' := nC + rqC V E P + rqP V E P + ptC V E ad P n0 n1 n2 + 1) (by omega) (Nat.le_refl _)).no 5 (n := nS + rqS V E P + 4 * rqP V E P + ptS V E ad P n0 n1 n2) dfX5 (by decide) (by decide) rfl (by show _ + 7 ≤ _; omega)
  refine ⟨A1, a1, Res.m (e5_init s1 (if_pos rfl) hs.2.2.2.2.2.2.2.2.2.2 M v) ?_⟩
  rintro A2 ⟨V2, s2, f2, wm⟩
  have hp0 := g.1.new0
  generalize ho : hN A = o at *
  have ne : ∀ {b : Nat}, kdV V b ≠ 0 → b ≠ o := fun hb z => hb (by rw [z]; exact hp0)
  have vf2 : VF (fun z => z = o) V V2 := (VF.new hp0).tr (f2.vf rfl)
  have kl1 : kdV V kl = 1 := li0.1
  have li2 : LI V2 kl 5 (lt V E 1 0 (P 0)) (cpL V E 1 0 (P 0)) := li0.vf vf2 (ne (by omega))
  refine ⟨s2.rc (c := 0) li2.1, ?_⟩
  obtain ⟨w0, hw0⟩ := lt_ge (l := lt V E 1 0 (P 0)) (i := k) (by rw [kn.1]; exact hk)
  refine Res.m (L_set s2 li2 hw0 wm.1) ?_
  rintro ⟨_, A3⟩ ⟨_, V3, s3, f3, li3⟩
  obtain ⟨E', eE⟩ : ∃ E' : EL, E' = setE E kl ((lt V E 1 0 (P 0)).set k o) (cpL V E 1 0 (P 0)) := ⟨_, rfl⟩
  have eE1 : E'.1 = E.1 := by rw [eE]; rfl
  have ek : E'.2.1 kl = (lt V E 1 0 (P 0)).set k o ∧ E'.2.2 kl = cpL V E 1 0 (P 0) := by
    rw [eE]
    exact ⟨if_pos rfl, if_pos rfl⟩
  have eo : ∀ a, a ≠ kl → E'.2.1 a = E.2.1 a ∧ E'.2.2 a = E.2.2 a := fun a a1 => by
    rw [eE]
    exact ⟨if_neg a1, if_neg a1⟩
  have kd3 : ∀ a, kdV V3 a = if a = o then 6 else kdV V a := fun a => by
    rw [kdV, f3.1, f2.1]
    rfl
  have vf3 : VF (fun z => z = kl) V V3 := by
    have h1 : VF (fun z => z = kl ∨ z = o) V V3 := (vf2.up (fun _ _ z => Or.inr z)).tr (f3.vf (Or.inl rfl))
    exact h1.up (fun a ha z => z.elim (fun z => z) (fun z => absurd z (ne ha)))
  have ds : DS (fun z => z = kl) V E V3 E' := by
    refine ⟨vf3, fun a ha => ⟨by rw [eE1], fun hn => eo a hn⟩, fun a c k ha hk => ?_⟩
    have hc : c ≠ 0 := by
      rcases hk with hk | hk
      · exact (owl_c hk).1
      · exact (lof_c hk).1
    have hn : a ≠ kl := fun z => by rw [z, kl1] at ha; omega
    exact ⟨by rw [vf3.r ha hn], by rw [vf3.n ha hn]⟩
  have kx : KX V (fun z => z = kl) := by
    refine ⟨fun a c ha hc z => by rw [z, kl1] at ha; omega, fun a c k ll ha hk hc hll z => ?_⟩
    subst z
    exact hc (hw.2.2 a c k (P 0) 1 0 ll ha hP0 hk (by decide) hll x0).2.1
  have gl : GL V3 E' := by
    refine hg.ds ds (fun a ha h => ?_)
    rcases h with h | h
    · subst h
      rw [eE1, k0, ek.1, ek.2]
      exact li3
    · rw [kd3 a] at ha
      by_cases z : a = o
      · rw [if_pos z] at ha
        cases ha
      · rw [if_neg z] at ha
        omega
  have k3o : kdV V3 o = 6 := by rw [kd3, if_pos rfl]
  have wt : WT V3 E' := by
    refine hw.ds ds o (fun a c h0 h1 => ?_) (fun c k _ h1 hk => ?_) (fun c k _ h1 hk => ?_) (fun c k k' _ h1 hk hk' => ?_)
    · rw [kd3 a] at h1
      by_cases z : a = o
      · exact Or.inl z
      · rw [if_neg z] at h1
        omega
    · have : c = 5 := by omega
      subst this
      exact absurd (by revert hk; unfold owl; simp) (fun z : False => z)
    · have : c = 5 := by omega
      subst this
      exact absurd (by revert hk; unfold lof; simp) (fun z : False => z)
    · have : c = 5 := by omega
      subst this
      exact absurd (by revert hk; unfold lof; simp) (fun z : False => z)
  have lt3 : lt V3 E' 1 0 (P 0) = (lt V E 1 0 (P 0)).set k o := by
    show E'.2.1 ((xr V3 100 (P 0) 0).getD 0) = _
    rw [show xr V3 100 (P 0) = xr V 100 (P 0) from vf3.r (c := 1) hP0 (fun z => by rw [z, kl1] at hP0; cases hP0) 100, show xr V 100 (P 0) 0 = some kl from x0]
    exact ek.1
  have kn3 : KN' V3 E' (mK M k v) P := by
    refine ⟨by rw [lt3, List.length_set]; exact kn.1, fun k' w' hw' => ?_⟩
    rw [lt3, List.getElem?_set] at hw'
    have eM : (mK M k v).2.2 k' = if k' = k then v else M.2.2 k' := by
      first | rfl | (unfold mK vp_updL; rfl)
    rw [eM]
    by_cases z : k = k'
    · rw [if_pos z] at hw'
      by_cases z2 : k < (lt V E 1 0 (P 0)).length
      · rw [if_pos z2] at hw'
        have : o = w' := Option.some.inj hw'
        subst this
        rw [if_pos z.symm]
        exact (wm.vf (f3.vf (S := fun z => z = kl) rfl) (fun z => by have := li2.1; rw [← z, wm.1] at this; cases this)).fm (fun q h1 h2 => z_take_k _ _ _ q h1 h2)
      · rw [if_neg z2] at hw'
        cases hw'
    · rw [if_neg z] at hw'
      rw [if_neg (fun y => z y.symm)]
      have h0 := kn.2 k' w' hw'
      exact (h0.ds ds (fun y => by have := h0.1; rw [y, kl1] at this; cases this)).fm (fun q h1 h2 => z_take_k _ _ _ q h1 h2)
  have g3 : GX nC nS A3 V3 E' ad (mK M k v) P T Bk b1 b2 n0 n1 n2 := g.kx ds kx s3 gl wt rfl rfl kn3
  exact ⟨V3, E', ⟨g3, cq.2⟩, vf3.2.1⟩
theorem J_word (cj : CJ (nC + 1) (nS + 7) A V M x) (p1 : Int32) (p2 : Int64) : ∃ v M', (∀ Bh ao, fX11_word ao p1 p2 (mk Bh ao M) = some (v, mk Bh ao M')) ∧ JW nC nS V x v M' (fX1_word x p1 p2 A) := by
  have cj0 := (cj.th 0).mono (mC := nC) (mS := nS) (by omega) (by omega)
  obtain ⟨E, ad, P, T, Bk, b1, b2, n0, n1, n2, c, al, I, cq, hx⟩ := cj
  subst hx
  obtain ⟨m1, m2⟩ := cq.1.m5
  have hk : ∃ k, ¬ (p1 < 0 ∨ 128 ≤ p1) → p1 = nI k ∧ k < 128 := by
    by_cases z : ¬ (p1 < 0 ∨ 128 ≤ p1)
    · rcases pk_ix p1 (n := 128) (by omega) with e | e | ⟨j, hj, e⟩
      · exact absurd (Or.inl e) z
      · exact absurd (Or.inr e) z
      · exact ⟨j, fun _ => ⟨e, hj⟩⟩
    · exact ⟨0, fun y => absurd y z⟩
  obtain ⟨k, hk⟩ := hk
  have em : ∀ Bh ao, fX11_word ao p1 p2 (mk Bh ao M) = some (if (¬ (p1 < 0 ∨ 128 ≤ p1) ∧ ¬ undP M) then (1, mk Bh ao (mK (mI M 0 0) k p2)) else (0, mk Bh ao (mI M 0 0))) := fun Bh ao => e_word p1 p2 k hk
  have out : Res (some ((nb (0 : Int32)), A)) (fun g => g.1 = 0 ∧ ∃ V', CJ nC nS g.2 V' (mI M 0 0) (P 0) ∧ fr V' = fr V) := Res.r ⟨rfl, V, cj0, rfl⟩
  unfold JW fX1_word
  rw [jn_eq]
  by_cases cc : ¬ (p1 < 0 ∨ 128 ≤ p1) ∧ ¬ undP M
  · refine ⟨1, mK (mI M 0 0) k p2, fun Bh ao => by rw [em, if_pos cc], ?_⟩
    obtain ⟨k1, k2⟩ := hk cc.1
    subst k1
    obtain ⟨kl, w1, A1, w2, w3⟩ := (cq.th 0).word k k2 p2
    rw [if_neg cc.1]
    refine Res.b m1 (Res.b m2 (Res.b (e7_isOn cq.1) ?_))
    rw [b2i_f cc.2, if_pos rfl]
    refine Res.b w1 (Res.b w2 (Res.w w3 ?_))
    rintro A2 ⟨y1, y2⟩
    refine Res.b y1 (Res.w y2 ?_)
    rintro r ⟨V', E', cq', hf⟩
    exact Res.r ⟨rfl, V', ⟨E', ad, P, T, Bk, b1, b2, n0, n1, n2, c, al, I, cq', rfl⟩, hf⟩
  · refine ⟨0, mI M 0 0, fun Bh ao => by rw [em, if_neg cc], ?_⟩
    by_cases z : p1 < 0 ∨ 128 ≤ p1
    · rw [if_pos z]
      exact out
    · rw [if_neg z]
      refine Res.b m1 (Res.b m2 (Res.b (e7_isOn cq.1) ?_))
      have hu : undP M := Classical.byContradiction (fun y => cc ⟨z, y⟩)
      rw [b2i_t hu, if_neg (by decide)]
      exact out
end I13
