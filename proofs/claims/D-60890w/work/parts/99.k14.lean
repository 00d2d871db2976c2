/-! K14: stop and word on CG -/
section K14
variable {nC nS n : Nat} {A A' : AH} {V V' : CW} {E E' : EL} {ad ad' : AA} {M M' N : MS} {P : PP} {T Bk b1 b2 n0 n1 n2 u uu c al I x : Nat}
theorem CG.own (cg : CG nC nS A V M x) : CJ nC nS A V M x ∨ ∃ a b c, CJ nC nS A V (gst M a b c) x ∧ idle M := by
  obtain ⟨a, b, c, cj, h | ⟨rfl, rfl, rfl⟩⟩ := cg
  · exact Or.inr ⟨a, b, c, cj, h⟩
  · rw [gst_own] at cj
    exact Or.inl cj
theorem idle.nu (h : idle M) : ¬ undP M := fun z => by
  unfold undP at z
  rw [h.1] at z
  rcases z with z | z <;> exact absurd z (by decide)
theorem G_stop (cg : CG nC nS A V M x) (hS : 20000 ≤ nS) (hC : 2 ≤ nC) (hn : 10100 < n) : ∃ v M', (∀ Bh ao, fX11_stop n ao (mk Bh ao M) = some (v, mk Bh ao M')) ∧ JG nC nS V x v M' (fX1_stop n x A) := by
  have cg0 := cg.th 0
  rcases cg.own with cj | ⟨a, b, c', cj, hid⟩
  · obtain ⟨v, M', h1, h2⟩ := J_stop cj hS hC hn
    exact ⟨v, M', h1, h2.g⟩
  · have hu := hid.nu
    obtain ⟨E, ad, P, T, Bk, b1, b2, n0, n1, n2, c, al, I, cq, hx⟩ := cj
    subst hx
    obtain ⟨m1, m2⟩ := cq.1.m5
    refine ⟨0, mI M 0 0, fun Bh ao => by rw [e_stop (by omega), if_neg hu], ?_⟩
    unfold JG fX1_stop
    refine Res.b m1 (Res.b m2 (Res.b (e7_isOn cq.1) ?_))
    rw [b2i_f (fun z => hu ((und_g M a b c').mp z)), if_pos rfl]
    exact Res.r ⟨rfl, V, cg0, rfl⟩
theorem gst_mK (M : MS) (a b c : Int32) (k : Nat) (v : Int64) : mK (gst M a b c) k v = gst (mK M k v) a b c := rfl
theorem G_word (cg : CG (nC + 1) (nS + 7) A V M x) (p1 : Int32) (p2 : Int64) : ∃ v M', (∀ Bh ao, fX11_word ao p1 p2 (mk Bh ao M) = some (v, mk Bh ao M')) ∧ JG nC nS V x v M' (fX1_word x p1 p2 A) := by
  have cg0 := (cg.th 0).mono (mC := nC) (mS := nS) (by omega) (by omega)
  obtain ⟨a, b, c', cj, hid⟩ := cg.th 0
  obtain ⟨E, ad, P, T, Bk, b1, b2, n0, n1, n2, c, al, I, cq, hx⟩ := cj
  subst hx
  obtain ⟨m1, m2⟩ := cq.1.m5
  have ug : undP (gst (mI M 0 0) a b c') ↔ undP M := (und_g _ a b c').trans (by unfold undP; rw [mI_g, if_neg (by decide)])
  have hk : ∃ k, ¬ (p1 < 0 ∨ 128 ≤ p1) → p1 = nI k ∧ k < 128 := by
    by_cases z : ¬ (p1 < 0 ∨ 128 ≤ p1)
    · rcases pk_ix p1 (n := 128) (by omega) with e | e | ⟨j, hj, e⟩
      · exact absurd (Or.inl e) z
      · exact absurd (Or.inr e) z
      · exact ⟨j, fun _ => ⟨e, hj⟩⟩
    · exact ⟨0, fun y => absurd y z⟩
  obtain ⟨k, hk⟩ := hk
  have em : ∀ Bh ao, fX11_word ao p1 p2 (mk Bh ao M) = some (if (¬ (p1 < 0 ∨ 128 ≤ p1) ∧ ¬ undP M) then (1, mk Bh ao (mK (mI M 0 0) k p2)) else (0, mk Bh ao (mI M 0 0))) := fun Bh ao => e_word p1 p2 k hk
  have out : Res (some ((nb (0 : Int32)), A)) (fun g => g.1 = 0 ∧ ∃ V', CG nC nS g.2 V' (mI M 0 0) (P 0) ∧ fr V' = fr V) := Res.r ⟨rfl, V, cg0, rfl⟩
  unfold JG fX1_word
  rw [jn_eq]
  by_cases cc : ¬ (p1 < 0 ∨ 128 ≤ p1) ∧ ¬ undP M
  · refine ⟨1, mK (mI M 0 0) k p2, fun Bh ao => by rw [em, if_pos cc], ?_⟩
    obtain ⟨k1, k2⟩ := hk cc.1
    subst k1
    obtain ⟨kl, w1, A1, w2, w3⟩ := cq.word k k2 p2
    rw [if_neg cc.1]
    refine Res.b m1 (Res.b m2 (Res.b (e7_isOn cq.1) ?_))
    rw [b2i_f (fun z => cc.2 (ug.mp z)), if_pos rfl]
    refine Res.b w1 (Res.b w2 (Res.w w3 ?_))
    rintro A2 ⟨y1, y2⟩
    refine Res.b y1 (Res.w y2 ?_)
    rintro r ⟨V', E', cq', hf⟩
    exact Res.r ⟨rfl, V', ⟨a, b, c', ⟨E', ad, P, T, Bk, b1, b2, n0, n1, n2, c, al, I, cq', rfl⟩, hid⟩, hf⟩
  · refine ⟨0, mI M 0 0, fun Bh ao => by rw [em, if_neg cc], ?_⟩
    by_cases z : p1 < 0 ∨ 128 ≤ p1
    · rw [if_pos z]
      exact out
    · rw [if_neg z]
      refine Res.b m1 (Res.b m2 (Res.b (e7_isOn cq.1) ?_))
      have hu : undP M := Classical.byContradiction (fun y => cc ⟨z, y⟩)
      rw [b2i_t (ug.mpr hu), if_neg (by decide)]
      exact out
end K14
