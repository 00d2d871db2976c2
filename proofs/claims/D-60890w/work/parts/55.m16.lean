/-! M16: a unit goes -/
theorem grS_P (M : MS) (s L : Nat) : ((iter (grS M s) 0 L (0, 0)).1 = 0 ∧ ∀ j, j < L → ¬ awk M s j) ∨ ((iter (grS M s) 0 L (0, 0)).1 = 1 ∧ (∃ j, j < L ∧ awk M s j ∧ M.2.1 15 (32 * s + j) = (iter (grS M s) 0 L (0, 0)).2) ∧ ∀ j, j < L → awk M s j → (iter (grS M s) 0 L (0, 0)).2 ≤ M.2.1 15 (32 * s + j)) := by
  have h := iter_ind (f := grS M s) (a := 0) (d := L) (s := ((0 : Int32), (0 : Int32))) (fun i c => (c.1 = 0 ∧ ∀ j, j < i → ¬ awk M s j) ∨ (c.1 = 1 ∧ (∃ j, j < i ∧ awk M s j ∧ M.2.1 15 (32 * s + j) = c.2) ∧ ∀ j, j < i → awk M s j → c.2 ≤ M.2.1 15 (32 * s + j))) (Or.inl ⟨rfl, fun j hj => absurd hj (by omega)⟩) ?_
  · rw [Nat.zero_add] at h
    exact h
  · intro i c _ _ hc
    unfold grS
    by_cases ha : awk M s i
    · rw [if_pos ha]
      right
      refine ⟨rfl, ?_⟩
      rcases hc with ⟨c0, cn⟩ | ⟨c1, ⟨j, j1, j2, j3⟩, cn⟩
      · rw [if_pos (Or.inl c0)]
        refine ⟨⟨i, by omega, ha, rfl⟩, fun j hj hj2 => ?_⟩
        by_cases e : j = i
        · rw [e]; exact Int32.le_refl _
        · exact absurd hj2 (cn j (by omega))
      · have c0 : ¬ c.1 = 0 := by rw [c1]; decide
        by_cases hl : M.2.1 15 (32 * s + i) < c.2
        · rw [if_pos (Or.inr hl)]
          refine ⟨⟨i, by omega, ha, rfl⟩, fun j hj hj2 => ?_⟩
          by_cases e : j = i
          · rw [e]; exact Int32.le_refl _
          · exact Int32.le_trans (Int32.le_of_lt hl) (cn j (by omega) hj2)
        · rw [if_neg (fun z => z.elim c0 hl)]
          refine ⟨⟨j, by omega, j2, j3⟩, fun j hj hj2 => ?_⟩
          by_cases e : j = i
          · rw [e]; exact Int32.not_lt.mp hl
          · exact cn j (by omega) hj2
    · rw [if_neg ha]
      rcases hc with ⟨c0, cn⟩ | ⟨c1, ⟨j, j1, j2, j3⟩, cn⟩
      · left
        refine ⟨c0, fun j hj hj2 => ?_⟩
        by_cases e : j = i
        · exact ha (e ▸ hj2)
        · exact cn j (by omega) hj2
      · right
        refine ⟨c1, ⟨j, by omega, j2, j3⟩, fun j hj hj2 => ?_⟩
        by_cases e : j = i
        · exact absurd (e ▸ hj2) ha
        · exact cn j (by omega) hj2
theorem grp_26 (M : MS) (s : Nat) (c : Int32 × Int32) : frm [] [26] M (z_grp M s c) ∧ ∀ j, j < 32 → (z_grp M s c).2.1 26 j = b2i (¬ c.1 = 0 ∧ awk M s j ∧ M.2.1 15 (32 * s + j) = c.2) := by
  have h := iter_ind (f := ingS s c) (a := 0) (d := 32) (s := M) (fun i M' => frm [] [26] M M' ∧ ∀ j, j < i → M'.2.1 26 j = b2i (¬ c.1 = 0 ∧ awk M s j ∧ M.2.1 15 (32 * s + j) = c.2)) ⟨frm.rf, fun j hj => absurd hj (by omega)⟩ ?_
  · exact h
  · intro i M' _ _ ⟨hf, hv⟩
    refine ⟨hf.mA (by decide), fun j hj => ?_⟩
    by_cases e : j = i
    · subst e
      refine Eq.trans (pk_us (f := M'.2.1 26)) ?_
      have e1 := hf.f 1
      have e2 := hf.f 13
      have e3 := hf.a 10
      have e4 := hf.a 16
      have e5 := hf.a 17
      have e6 := hf.a 15
      unfold awk lnI
      rw [e1, e2, e3, e4, e5, e6]
    · refine Eq.trans (pk_un (f := M'.2.1 26) e) ?_
      exact hv j (by omega)
def fstF (M : MS) : Nat → Nat → Nat
  | i, 0 => i
  | i, d + 1 => if M.2.1 26 i = 0 then fstF M (i + 1) d else i
theorem fstF_spec (M : MS) : ∀ (d i : Nat), (∃ j, i ≤ j ∧ j < i + d ∧ ¬ M.2.1 26 j = 0) → i ≤ fstF M i d ∧ fstF M i d < i + d ∧ ¬ M.2.1 26 (fstF M i d) = 0 ∧ ∀ j, i ≤ j → j < fstF M i d → M.2.1 26 j = 0
  | 0, i, ⟨j, h1, h2, _⟩ => by omega
  | d + 1, i, ⟨j, h1, h2, h3⟩ => by
    unfold fstF
    by_cases c : M.2.1 26 i = 0
    · rw [if_pos c]
      have hj : j ≠ i := fun e => h3 (e ▸ c)
      obtain ⟨a1, a2, a3, a4⟩ := fstF_spec M d (i + 1) ⟨j, by omega, by omega, h3⟩
      refine ⟨by omega, by omega, a3, fun k hk1 hk2 => ?_⟩
      by_cases e : k = i
      · exact e ▸ c
      · exact a4 k (by omega) hk2
    · rw [if_neg c]
      exact ⟨Nat.le_refl _, by omega, c, fun k hk1 hk2 => absurd hk2 (by omega)⟩
def grM (M : MS) (s L : Nat) : MS := z_grp M s (iter (grS M s) 0 L (0, 0))
def fst1 (M : MS) : Nat := fstF M 0 32
def plc (M : MS) (s : Nat) : Int32 := M.2.1 15 (32 * s + fst1 M)
def wrd (M : MS) (s : Nat) : Int64 := M.2.2 (nN (plc M s))
def takM (M : MS) (s : Nat) : MS := z_take M (wrd M s)
def z_rdy (M : MS) (u s L : Nat) : Bool × MS :=
  if M.2.1 9 s = -1 then (false, M) else
  if (iter (grS M s) 0 L (0, 0)).1 = 0 then (false, grM M s L) else
  if (plc (grM M s L) s < 0 ∨ ¬ plc (grM M s L) s < 128) then (true, grM M s L) else
  if ¬ wrdP (takM (grM M s L) s) then (true, takM (grM M s L) s) else
  (rdyB (takM (grM M s L) s) u s (wdd (wrd (grM M s L) s)) (waa (wrd (grM M s L) s)) (wbb (wrd (grM M s L) s)), takM (grM M s L) s)
def z_goX (M : MS) (u s L Bk G : Nat) : MS :=
  if (plc M s < 0 ∨ ¬ plc M s < 128) then z_trap M s (fst1 M) 1 else
  if ¬ wrdP (takM M s) then z_trap (takM M s) s (fst1 M) 2 else
  z_go (takM M s) u s (wdd (wrd M s)) (waa (wrd M s)) (wbb (wrd M s)) (nN (M.2.1 9 s)) L Bk G
def slt (M : MS) (u S k : Nat) : Nat := (nN (M.2.1 7 u) + k) % S
def z_uL (u L S Bk G : Nat) : Nat → Nat → MS → MS
  | _, 0, M => M
  | k, d + 1, M => if (z_rdy M u (16 * u + slt M u S k) L).1 = true then z_goX (mA (z_rdy M u (16 * u + slt M u S k) L).2 7 u (nI (slt M u S k))) u (16 * u + slt M u S k) L Bk G else z_uL u L S Bk G (k + 1) d (z_rdy M u (16 * u + slt M u S k) L).2
theorem rngP {p : Int32} (h : ¬ (p < 0 ∨ ¬ p < 128)) : p = nI (nN p) ∧ nN p < 128 := by
  obtain ⟨q, q1, q2⟩ := rngI (x := p) (N := 128) (fun z => h (Or.inl z)) (by rw [← l128]; exact Classical.byContradiction fun z => h (Or.inr z)) (by omega)
  rw [q2, nN_nI (by omega)]
  exact ⟨rfl, q1⟩
theorem take_frm (M : MS) (w : Int64) : frm [52, 53, 54, 55, 56, 57] [] M (z_take M w) := (((((frm.rf.mI (by decide)).mI (by decide)).mI (by decide)).mI (by decide)).mI (by decide)).mI (by decide)
theorem rdy_frm (M : MS) (u s L : Nat) : frm [52, 53, 54, 55, 56, 57] [26] M (z_rdy M u s L).2 := by
  have h1 : frm [52, 53, 54, 55, 56, 57] [26] M (grM M s L) := (grp_26 M s _).1.up (fun k h => absurd h (List.not_mem_nil)) (fun k h => h)
  have h2 : frm [52, 53, 54, 55, 56, 57] [26] M (takM (grM M s L) s) := h1.tr ((take_frm (grM M s L) (wrd (grM M s L) s)).up (fun k h => h) (fun k h => absurd h (List.not_mem_nil)))
  unfold z_rdy
  refine ite_P (fun c : Bool × MS => frm [52, 53, 54, 55, 56, 57] [26] M c.2) (fun _ => frm.rf) (fun _ => ite_P (fun c : Bool × MS => frm [52, 53, 54, 55, 56, 57] [26] M c.2) (fun _ => h1) (fun _ => ite_P (fun c : Bool × MS => frm [52, 53, 54, 55, 56, 57] [26] M c.2) (fun _ => h1) (fun _ => ite_P (fun c : Bool × MS => frm [52, 53, 54, 55, 56, 57] [26] M c.2) (fun _ => h2) (fun _ => h2))))
section M16
variable {B : AH} {ao : Nat} {M : MS} {n : Nat}
theorem gr_fst (s L : Nat) (hL : L ≤ 32) (hg : ¬ (iter (grS M s) 0 L (0, 0)).1 = 0) : fst1 (grM M s L) < 32 ∧ (∀ j, j < fst1 (grM M s L) → (grM M s L).2.1 26 j = 0) ∧ ¬ (grM M s L).2.1 26 (fst1 (grM M s L)) = 0 := by
  rcases grS_P M s L with ⟨h, _⟩ | ⟨h1, ⟨j, j1, j2, j3⟩, _⟩
  · exact absurd h hg
  · have h26 := (grp_26 M s (iter (grS M s) 0 L (0, 0))).2 j (by omega)
    rw [b2i_t ⟨hg, j2, j3⟩] at h26
    obtain ⟨a1, a2, a3, a4⟩ := fstF_spec (grM M s L) 32 0 ⟨j, by omega, by omega, by unfold grM; rw [h26]; decide⟩
    exact ⟨by unfold fst1; omega, fun k hk => a4 k (by omega) hk, a3⟩
theorem e_rdy (u s L : Nat) (hu : u < 8) (hs : s < 128) (hL : L ≤ 32) (h1 : M.1 1 = nI L) (hn : 32 < n) : fX11_isReady n ao (nI u) (nI s) (mk B ao M) = some (b2i ((z_rdy M u s L).1 = true), mk B ao (z_rdy M u s L).2) := by
  unfold z_rdy
  by_cases c1 : M.2.1 9 s = -1
  · rw [if_pos c1]
    exact e_readyA u s hs c1
  rw [if_neg c1]
  by_cases c2 : (iter (grS M s) 0 L (0, 0)).1 = 0
  · rw [if_pos c2]
    exact e_readyB u s L hs hL h1 hn c1 (by rw [c2]; rfl)
  rw [if_neg c2]
  have c2' : ¬ nb (iter (grS M s) 0 L (0, 0)).1 = 0 := by
    rcases grS_P M s L with ⟨h, _⟩ | ⟨h, _⟩
    · exact absurd h c2
    · rw [h]; decide
  obtain ⟨f1, f2, f3⟩ := gr_fst (M := M) s L hL c2
  by_cases c3 : plc (grM M s L) s < 0 ∨ ¬ plc (grM M s L) s < 128
  · rw [if_pos c3]
    exact e_readyC u s L (fst1 (grM M s L)) hs hL h1 hn c1 c2' (grM M s L) rfl f1 f2 f3 c3
  rw [if_neg c3]
  obtain ⟨p1, p2⟩ := rngP c3
  by_cases c4 : wrdP (takM (grM M s L) s)
  · rw [if_neg (not_not_intro c4)]
    exact e_readyE u s L (fst1 (grM M s L)) (nN (plc (grM M s L) s)) (wdd (wrd (grM M s L) s)) (waa (wrd (grM M s L) s)) (wbb (wrd (grM M s L) s)) hu hs hL h1 hn c1 c2' (grM M s L) (takM (grM M s L) s) rfl f1 f2 f3 p2 p1 rfl c4 rfl rfl rfl (wdd_lt _) (waa_lt _) (wbb_lt _)
  · rw [if_pos c4]
    exact e_readyD u s L (fst1 (grM M s L)) (nN (plc (grM M s L) s)) hs hL h1 hn c1 c2' (grM M s L) rfl f1 f2 f3 p2 p1 c4
theorem e_goX (u s L Bk G I p0 : Nat) (hu : u < 8) (hs : s < 128) (hf : fst1 M < 32) (hf0 : ∀ j, j < fst1 M → M.2.1 26 j = 0) (hf1 : ¬ M.2.1 26 (fst1 M) = 0) (hn : 128 < n) (hL1 : 1 ≤ L) (hL : L ≤ 32) (hB1 : 1 ≤ Bk) (hB : Bk ≤ 32) (hG1 : 1 ≤ G) (hG : G ≤ 8) (hI : I ≤ 4096) (hp0 : p0 + 32 ≤ 32767)
    (h1 : M.1 1 = nI L) (h4 : M.1 4 = nI Bk) (h5 : M.1 5 = nI G) (h6 : M.1 6 = nI I) (h9 : ∃ bk, bk < 64 ∧ M.2.1 9 s = nI bk) (h41 : M.1 41 = nI p0) :
    fX11_go n ao (nI u) (nI s) (mk B ao M) = some (mk B ao (z_goX M u s L Bk G)) := by
  unfold z_goX
  by_cases c3 : plc M s < 0 ∨ ¬ plc M s < 128
  · rw [if_pos c3]
    exact e_goA u s (fst1 M) hs hf hf0 hf1 (by omega) c3
  rw [if_neg c3]
  obtain ⟨p1, p2⟩ := rngP c3
  by_cases c4 : wrdP (takM M s)
  · rw [if_neg (not_not_intro c4)]
    obtain ⟨bk, hb1, hb2⟩ := h9
    have hnb : nN (M.2.1 9 s) = bk := by rw [hb2]; exact nN_nI (by omega)
    rw [hnb]
    exact e_goC u s (fst1 M) (nN (plc M s)) _ _ _ bk L Bk G I p0 hu hs hf hf0 hf1 hn p2 p1 (takM M s) rfl c4 hL1 hL hB1 hB hG1 hG hI (wdd_lt _) (waa_lt _) (wbb_lt _) hb1 hp0 h1 h4 h5 h6 rfl rfl rfl hb2 h41
  · rw [if_pos c4]
    exact e_goB u s (fst1 M) (nN (plc M s)) hs hf hf0 hf1 (by omega) p2 p1 c4
end M16
