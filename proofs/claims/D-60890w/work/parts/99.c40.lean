/-! C40: the model's preparations of a word -/
theorem cn_t {f : Nat → Bool} {n : Nat} (h : f n = true) : nI (cnB f n) + 1 = nI (cnB f (n + 1)) := by
  rw [cnB_s, h, nI_1]
  rfl
theorem cn_f {f : Nat → Bool} {n : Nat} (h : f n = false) : nI (cnB f n) = nI (cnB f (n + 1)) := by
  rw [cnB_s, h]
  rfl
section C40
variable {M N : MS} {s : Nat}
theorem doeV_fm {M M' : MS} (h : frm [] [27] M M') (s i : Nat) : doeV M' s i = doeV M s i := by
  unfold doeV hasP
  rw [h.a 26, h.f 56, h.a 14]
theorem doeI (M : MS) (s : Nat) : ∀ n, (iter (doeS s) 0 n (0, 0, M)).1 = nI (cnB (fun j => decide (¬ doeV M s j = 0)) n) ∧ (iter (doeS s) 0 n (0, 0, M)).2.1 = nI (cnB (fun j => decide (¬ M.2.1 26 j = 0)) n) ∧ frm [] [27] M (iter (doeS s) 0 n (0, 0, M)).2.2 ∧ ∀ j, j < n → (iter (doeS s) 0 n (0, 0, M)).2.2.2.1 27 j = doeV M s j
  | 0 => ⟨rfl, rfl, frm.rf, fun j hj => absurd hj (Nat.not_lt_zero _)⟩
  | n + 1 => by
    obtain ⟨h1, h2, h3, h4⟩ := doeI M s n
    rw [iter_last, Nat.zero_add]
    have hd := doeV_fm h3 s n
    generalize iter (doeS s) 0 n (0, 0, M) = c at *
    unfold doeS
    refine ⟨?_, ?_, h3.tr (frm.rf.mA (by decide)), fun j hj => ?_⟩
    · show c.1 + (if doeV c.2.2 s n = 0 then 0 else 1) = _
      rw [hd, h1]
      by_cases e : doeV M s n = 0
      · rw [if_pos e, Int32.add_zero]
        exact cn_f (decide_eq_false (not_not_intro e))
      · rw [if_neg e]
        exact cn_t (decide_eq_true e)
    · show c.2.1 + (if c.2.2.2.1 26 n = 0 then 0 else 1) = _
      rw [h3.a 26, h2]
      by_cases e : M.2.1 26 n = 0
      · rw [if_pos e, Int32.add_zero]
        exact cn_f (decide_eq_false (not_not_intro e))
      · rw [if_neg e]
        exact cn_t (decide_eq_true e)
    · show (mA c.2.2 27 n (doeV c.2.2 s n)).2.1 27 j = _
      rw [mA_a, if_pos rfl]
      by_cases e : j = n
      · subst e
        rw [hd]
        exact if_pos rfl
      · exact Eq.trans (if_neg e) (h4 j (by omega))
theorem doe_P (M : MS) (s i : Nat) : ¬ doeV M s i = 0 ↔ (¬ M.2.1 26 i = 0 ∧ doesP M (32 * s + i)) := by
  unfold doeV doesP
  by_cases c1 : M.2.1 26 i = 0
  · rw [if_pos c1]
    exact ⟨fun z => absurd rfl z, fun z => absurd c1 z.1⟩
  · rw [if_neg c1]
    by_cases c2 : M.1 56 < 8
    · rw [if_pos c2]
      exact ⟨fun _ => ⟨c1, Or.inl c2⟩, fun _ => by decide⟩
    · rw [if_neg c2]
      by_cases c3 : b2i (hasP M (32 * s + i) (M.1 56)) = if M.1 56 &&& 4 = 0 then (0 : Int32) else 1
      · rw [if_pos c3]
        exact ⟨fun z => absurd rfl z, fun z => z.2.elim (fun q => absurd q c2) (fun q => absurd c3 q)⟩
      · rw [if_neg c3]
        exact ⟨fun _ => ⟨c1, Or.inr c3⟩, fun _ => by decide⟩
theorem cnB_sub {f g : Nat → Bool} : ∀ n, (∀ i, i < n → f i = true → g i = true) → cnB f n ≤ cnB g n ∧ (cnB g n ≤ cnB f n → ∀ i, i < n → g i = true → f i = true)
  | 0, _ => ⟨Nat.le_refl _, fun _ i hi => absurd hi (Nat.not_lt_zero _)⟩
  | n + 1, h => by
    obtain ⟨h1, h2⟩ := cnB_sub n (fun i hi => h i (by omega))
    have hn := h n (by omega)
    rw [cnB_s, cnB_s]
    cases ef : f n with
    | true =>
      rw [hn ef]
      refine ⟨by simp only [if_true]; omega, fun hle i hi hg => ?_⟩
      by_cases e : i = n
      · rw [e]; exact ef
      · exact h2 (by simp only [if_true] at hle; omega) i (by omega) hg
    | false =>
      cases eg : g n with
      | true =>
        refine ⟨by simp only [if_true]; have : (if false = true then 1 else 0) = 0 := rfl; omega, fun hle => ?_⟩
        have : (if false = true then 1 else 0) = 0 := rfl
        simp only [if_true] at hle
        omega
      | false =>
        have : (if false = true then 1 else 0) = 0 := rfl
        refine ⟨by omega, fun hle i hi hg => ?_⟩
        by_cases e : i = n
        · rw [e, eg] at hg; cases hg
        · exact h2 (by omega) i (by omega) hg
/-- votes -/
def voG (N : MS) (s j : Nat) : Bool := decide (¬ N.2.1 27 j = 0) && decide (hasP N (32 * s + j) (N.1 54))
theorem hadI (N : MS) (s a : Nat) : ∀ n, (iter (hadS s a) 0 n (0, mI N 58 0)).1 = nI (cnB (fun j => decide (¬ N.2.1 27 j = 0)) n) ∧ (iter (hadS s a) 0 n (0, mI N 58 0)).2.1 58 = nI (cnB (voG N s) n) ∧ frm [58] [28] N (iter (hadS s a) 0 n (0, mI N 58 0)).2 ∧ ∀ j, j < n → (iter (hadS s a) 0 n (0, mI N 58 0)).2.2.1 28 j = if lnI N s j then rgV N (32 * s + j) a else 0
  | 0 => ⟨rfl, rfl, frm.rf.mI (by decide), fun j hj => absurd hj (Nat.not_lt_zero _)⟩
  | n + 1 => by
    obtain ⟨h1, h2, h3, h4⟩ := hadI N s a n
    rw [iter_last, Nat.zero_add]
    generalize iter (hadS s a) 0 n (0, mI N 58 0) = c at *
    have e27 := h3.a 27
    have e14 := h3.a 14
    have e13 := h3.a 13
    have e54 := h3.f 54
    have eln : lnI c.2 s n = lnI N s n := lnI_m (h3.a 10) (h3.f 1) (h3.f 13) s n
    have erg : rgV c.2 (32 * s + n) a = rgV N (32 * s + n) a := by unfold rgV; rw [e13]
    have e28 : ∀ X : MS, X.2.1 28 = (mA c.2 28 n (if lnI c.2 s n then rgV c.2 (32 * s + n) a else 0)).2.1 28 → ∀ j, j < n + 1 → X.2.1 28 j = if lnI N s j then rgV N (32 * s + j) a else 0 := by
      intro X hX j hj
      rw [hX, mA_a, if_pos rfl]
      by_cases e : j = n
      · subst e
        refine Eq.trans (if_pos rfl) ?_
        simp only [eln, erg]
      · exact Eq.trans (if_neg e) (h4 j (by omega))
    unfold hadS
    rw [e27]
    by_cases c0 : N.2.1 27 n = 0
    · rw [if_pos c0]
      refine ⟨?_, ?_, h3.tr (frm.rf.mA (by decide)), e28 _ rfl⟩
      · show c.1 = _
        rw [h1]
        exact cn_f (decide_eq_false (not_not_intro c0))
      · show c.2.1 58 = nI (cnB (voG N s) n + _)
        have : voG N s n = false := by unfold voG; rw [decide_eq_false (not_not_intro c0), Bool.false_and]
        rw [h2, this]
        rfl
    · rw [if_neg c0]
      refine ⟨?_, ?_, h3.tr ((frm.rf.mA (by decide)).mI (by decide)), e28 _ rfl⟩
      · show c.1 + 1 = _
        rw [h1]
        exact cn_t (decide_eq_true c0)
      · show c.2.1 58 + (if hasP c.2 (32 * s + n) (c.2.1 54) then 1 else 0) = nI (cnB (voG N s) n + (if voG N s n then 1 else 0))
        have eh : hasP c.2 (32 * s + n) (c.2.1 54) = hasP N (32 * s + n) (N.1 54) := by unfold hasP; rw [e14, e54]
        unfold voG
        simp only [eh]
        rw [h2, decide_eq_true c0, Bool.true_and]
        by_cases ch : hasP N (32 * s + n) (N.1 54)
        · rw [if_pos ch, if_pos (decide_eq_true ch), nI_1]
          rfl
        · rw [if_neg ch, if_neg (by simp only [decide_eq_true_eq]; exact ch), Int32.add_zero]
          rfl
theorem togP (N : MS) (s a L : Nat) : frm [58] [28] N (z_tog N s a L) ∧ (N.1 52 = 70 → (z_tog N s a L).1 58 = if nI (cnB (voG N s) L) ≤ 0 then 0 else 1) ∧ (N.1 52 = 71 → (z_tog N s a L).1 58 = if nI (cnB (voG N s) L) = nI (cnB (fun j => decide (¬ N.2.1 27 j = 0)) L) then 1 else 0) ∧ (N.1 52 = 72 → (z_tog N s a L).1 58 = nI (cnB (voG N s) L)) ∧ ∀ j, j < L → (z_tog N s a L).2.1 28 j = if lnI N s j then rgV N (32 * s + j) a else 0 := by
  obtain ⟨h1, h2, h3, h4⟩ := hadI N s a L
  refine ⟨tog_frm N s a L, fun e => ?_, fun e => ?_, fun e => ?_, fun j hj => ?_⟩
  · unfold z_tog tog2
    rw [h3.f 52, if_pos e, mI_g, if_pos rfl, h2]
  · unfold z_tog tog2
    rw [h3.f 52, if_neg (by rw [e]; decide), if_pos e, mI_g, if_pos rfl, h2, h1]
  · unfold z_tog tog2
    rw [h3.f 52, if_neg (by rw [e]; decide), if_neg (by rw [e]; decide), h2]
  · unfold z_tog tog2
    rw [h3.f 52]
    split
    · exact h4 j hj
    · split
      · exact h4 j hj
      · exact h4 j hj
/-- who is in trouble first -/
theorem trF_P (M : MS) (s a b : Nat) : ∀ d i, (trF M s a b i d = none ∧ ∀ j, i ≤ j → j < i + d → ¬ (¬ M.2.1 27 j = 0 ∧ ¬ whyV M (32 * s + j) a b = 0)) ∨ (∃ k, trF M s a b i d = some k ∧ i ≤ k ∧ k < i + d ∧ (¬ M.2.1 27 k = 0 ∧ ¬ whyV M (32 * s + k) a b = 0) ∧ ∀ j, i ≤ j → j < k → ¬ (¬ M.2.1 27 j = 0 ∧ ¬ whyV M (32 * s + j) a b = 0))
  | 0, i => Or.inl ⟨rfl, fun j h1 h2 => by omega⟩
  | d + 1, i => by
    unfold trF
    by_cases c : ¬ M.2.1 27 i = 0 ∧ ¬ whyV M (32 * s + i) a b = 0
    · rw [if_pos c]
      exact Or.inr ⟨i, rfl, Nat.le_refl _, by omega, c, fun j h1 h2 => by omega⟩
    · rw [if_neg c]
      rcases trF_P M s a b d (i + 1) with ⟨h1, h2⟩ | ⟨k, h1, h2, h3, h4, h5⟩
      · refine Or.inl ⟨h1, fun j j1 j2 => ?_⟩
        by_cases e : j = i
        · rw [e]; exact c
        · exact h2 j (by omega) (by omega)
      · refine Or.inr ⟨k, h1, by omega, by omega, h4, fun j j1 j2 => ?_⟩
        by_cases e : j = i
        · rw [e]; exact c
        · exact h5 j (by omega) j2
/-- no trouble: what is asked for is in bounds -/
theorem why_ok {a b X : Nat} {t : Nat} (hI : M.1 6 = nI X) (hX : X ≤ 4096) (h : whyV M t a b = 0) : ((M.1 52 = 7 ∨ M.1 52 = 8) → ¬ rgV M t b = 0) ∧ (memP M → ∃ q, rgV M t a + M.1 57 = nI q ∧ q < (if shP M then 64 else 4096)) := by
  unfold whyV at h
  refine ⟨fun c z => ?_, fun hm => ?_⟩
  · rw [if_pos ⟨c, z⟩] at h
    exact absurd h (by decide)
  · by_cases c : (M.1 52 = 7 ∨ M.1 52 = 8) ∧ rgV M t b = 0
    · rw [if_pos c] at h
      exact absurd h (by decide)
    · rw [if_neg c] at h
      by_cases c2 : memP M ∧ (rgV M t a + M.1 57 < 0 ∨ ¬ rgV M t a + M.1 57 < (if shP M then 64 else M.1 6))
      · rw [if_pos c2] at h
        exact absurd h (by decide)
      · have n1 : ¬ rgV M t a + M.1 57 < 0 := fun z => c2 ⟨hm, Or.inl z⟩
        have n2 : rgV M t a + M.1 57 < (if shP M then 64 else M.1 6) := Classical.byContradiction fun z => c2 ⟨hm, Or.inr z⟩
        by_cases cs : shP M
        · rw [if_pos cs] at n2 ⊢
          rcases pk_ix (rgV M t a + M.1 57) (n := 64) (by omega) with z | z | ⟨q, hq, e⟩
          · exact absurd z n1
          · exact absurd n2 (Int32.not_lt.mpr z)
          · exact ⟨q, e, hq⟩
        · rw [if_neg cs] at n2 ⊢
          rw [hI] at n2
          rcases pk_ix (rgV M t a + M.1 57) (n := X) (by omega) with z | z | ⟨q, hq, e⟩
          · exact absurd z n1
          · exact absurd n2 (Int32.not_lt.mpr z)
          · exact ⟨q, e, by omega⟩
end C40
