/-! C55: what was asked for is done; the model's round over its list -/
section C55
variable {nC nS n : Nat} {A A' : AH} {V V' V'' : CW} {E E' : EL} {ad ad' : AA} {M M' : MS} {P : PP}
theorem onefrm (M : MS) (k : Nat) : frm [] [2, 13] M (z_one M k) := by
  unfold z_one oneA
  split
  · exact (frm.rf.mA (by decide)).mA (by decide)
  · exact frm.rf.mA (by decide)
theorem e7_finish (h : St nC nS A V) (cp : CP V E ad M P) {k a : Nat} (ha : kdV V a = 16) (hk : AK V ad M k a) : Res (fX7_finish (P 1) (some a) A) (Nx nC nS V ad (z_one M k)) := by
  obtain ⟨o, d, q, bk, s, i, ⟨b1, b2, b3, b4, b5, b6⟩, ⟨r21, r20, r22, r9⟩, ⟨x0, x2, x3, x4, x5, x6⟩, l, hl, hx⟩ := hk
  have hs := cp.2.2.2
  have hmk := hs.mm.2
  have hP0 : kdV V (P 0) = 2 := hs.kk hs.2.2.1.1.1
  obtain ⟨y, y1, y2, y3⟩ := cp.2.2.1.1 (P 0) 1 1 hP0 (by decide)
  have y3 : xn V 101 (P 0) = 4096 := y3
  have hlk := hs.kk hl
  have g705 : xr V 705 (P 1) 0 = some y := by rw [hs.2.2.1.2.2.2.2.2.2.1]; exact y1
  have rq : xi V 151 (P 0) q = M.2.1 2 q := cp.1 151 0 q (P 0) (Or.inl (by decide)) b3 hs.2.2.1.1.1
  have eone : z_one M k = oneA M q o bk s i d (M.2.1 23 k) (M.2.1 24 k) := by
    unfold z_one
    rw [r22, r21, r20, nN_nI (by omega), nN_nI (by omega), nN_nI (by omega)]
    have e1 : (16 * o + d) / 16 = o := by omega
    have e2 : (16 * o + d) % 16 = d := by omega
    have e3 : (32 * (128 * bk + s) + i) / 32 / 128 = bk := by omega
    have e4 : (32 * (128 * bk + s) + i) / 32 % 128 = s := by omega
    have e5 : (32 * (128 * bk + s) + i) % 32 = i := by omega
    rw [e1, e2, e3, e4, e5]
  rw [eone]
  unfold fX7_finish
  refine Res.b ((h.gr 5 (c := 7) hmk (by decide) rfl).trans (congrArg some g705)) (Res.b ((h.gi 3 (c := 15) ha (by decide) rfl).trans (congrArg some x3)) (Res.b ((h.ai q (c := 1) (k := 1) hP0 rfl y1 y2 (by show q < xn V 101 (P 0); omega) (by omega)).trans (congrArg some rq)) (Res.b ((h.gi 2 (c := 15) ha (by decide) rfl).trans (congrArg some x2)) (Res.b ((h.gi 4 (c := 15) ha (by decide) rfl).trans (congrArg some x4)) (Res.b ((h.gi 5 (c := 15) ha (by decide) rfl).trans (congrArg some x5)) (Res.b (e7_left _ _ _ _ _) ?_))))))
  obtain ⟨A8, e8, s8⟩ := h.si q (lftV (nI o) (M.2.1 2 q) (M.2.1 23 k) (M.2.1 24 k)) (c := 1) (k := 1) hP0 rfl y1 y2 (by show q < xn V 101 (P 0); omega) (by omega)
  refine Res.b e8 ?_
  have i8 : IV V (vI' V 151 (P 0) q (lftV (nI o) (M.2.1 2 q) (M.2.1 23 k) (M.2.1 24 k))) := IV.vI (Or.inl (by decide))
  have c8 : CX (vI' V 151 (P 0) q (lftV (nI o) (M.2.1 2 q) (M.2.1 23 k) (M.2.1 24 k))) ad (mA M 2 q (lftV (nI o) (M.2.1 2 q) (M.2.1 23 k) (M.2.1 24 k))) := cp.1.setA (d := 151) (k := 0) (i := q) hs.1 _ (by decide) b3 hs.2.2.1.1.1
  have cp8 := cp.nx i8 c8 (fm_m (by decide) (by decide))
  have s8 : St nC nS A8 (vI' V 151 (P 0) q (lftV (nI o) (M.2.1 2 q) (M.2.1 23 k) (M.2.1 24 k))) := s8
  unfold oneA
  by_cases c51 : o = 51
  · rw [if_pos c51] at hx
    refine Res.b ((s8.gr 8 (c := 15) ha (by decide) rfl).trans (congrArg some hx)) ?_
    rw [jn_eq, if_pos rfl, if_neg (fun z => z.1 (by rw [c51]; rfl))]
    exact Res.r ⟨_, s8, i8, c8⟩
  · rw [if_neg c51] at hx
    refine Res.b ((s8.gr 8 (c := 15) ha (by decide) rfl).trans (congrArg some hx.1)) ?_
    rw [jn_eq, if_neg (fun z => by cases z)]
    have hne : ¬ nI o = 51 := fun z => c51 ((nI_eq (b := 51) (by omega) (by omega)).mp z)
    rw [if_pos ⟨hne, r9⟩]
    have e1405 : xi (vI' V 151 (P 0) q (lftV (nI o) (M.2.1 2 q) (M.2.1 23 k) (M.2.1 24 k))) 1405 l 0 = xi V 1405 l 0 := by rw [vIi, if_neg (fun z => absurd z.1 (by decide))]
    have e1507 : xi (vI' V 151 (P 0) q (lftV (nI o) (M.2.1 2 q) (M.2.1 23 k) (M.2.1 24 k))) 1507 a 0 = xi V 1405 l 0 := by rw [vIi, if_neg (fun z => absurd z.1 (by decide))]; exact hx.2
    have e1506 : xi (vI' V 151 (P 0) q (lftV (nI o) (M.2.1 2 q) (M.2.1 23 k) (M.2.1 24 k))) 1506 a 0 = nI d := by rw [vIi, if_neg (fun z => absurd z.1 (by decide))]; exact x6
    refine Res.b ((s8.gi 5 (c := 14) hlk (by decide) rfl).trans (congrArg some e1405)) (Res.b ((s8.gi 7 (c := 15) ha (by decide) rfl).trans (congrArg some e1507)) ?_)
    rw [if_pos rfl]
    obtain ⟨yr, gyr, _, wyr⟩ := cp8.rg s8 hl
    obtain ⟨A9, e9, V9, s9, i9, c9⟩ := wyr d (M.2.1 2 q) b2
    exact Res.b gyr (Res.b ((s8.gi 6 (c := 15) ha (by decide) rfl).trans (congrArg some e1506)) (Res.b e9 (Res.r ⟨V9, s9, i8.tr i9, c9⟩)))
/-- the model's round: what is due is done, in its order -/
def dnS (k : Nat) (Y : MS) : MS := if Y.1 15 < Y.2.1 19 k then Y else z_one Y k
def kpB (M : MS) (k : Nat) : Bool := decide (M.1 15 < M.2.1 19 k)
theorem dn_frm (M : MS) (n : Nat) : frm [] [2, 13] M (iter dnS 0 n M) := by
  induction n with
  | zero => exact frm.rf
  | succ n ih =>
    rw [iter_last]
    refine ih.tr ?_
    unfold dnS
    split
    · exact frm.rf
    · exact onefrm _ _
theorem one_c {X Y : MS} {k : Nat} (h2 : X.2.1 2 = Y.2.1 2) (h13 : X.2.1 13 = Y.2.1 13) (h9 : X.2.1 9 = Y.2.1 9) (hr : ∀ j, 20 ≤ j → j ≤ 24 → X.2.1 j k = Y.2.1 j k) : (z_one X k).2.1 2 = (z_one Y k).2.1 2 ∧ (z_one X k).2.1 13 = (z_one Y k).2.1 13 := by
  unfold z_one oneA
  rw [hr 20 (by omega) (by omega), hr 21 (by omega) (by omega), hr 22 (by omega) (by omega), hr 23 (by omega) (by omega), hr 24 (by omega) (by omega), h9, h2]
  split
  · exact ⟨by simp [mA_a, h2], by simp [mA_a, h13]⟩
  · exact ⟨by simp [mA_a, h2], by simp [mA_a, h13]⟩
/-- the model's list is made anew -/
theorem pdI (M : MS) : ∀ n, (iter pdS 0 n (0, mI M 42 2147483647)).1 = cnB (kpB M) n ∧ frm [42] [2, 13, 19, 20, 21, 22, 23, 24] M (iter pdS 0 n (0, mI M 42 2147483647)).2 ∧ ((iter pdS 0 n (0, mI M 42 2147483647)).2.2.1 2 = (iter dnS 0 n M).2.1 2 ∧ (iter pdS 0 n (0, mI M 42 2147483647)).2.2.1 13 = (iter dnS 0 n M).2.1 13) ∧ (∀ j k, 19 ≤ j → j ≤ 24 → n ≤ k → (iter pdS 0 n (0, mI M 42 2147483647)).2.2.1 j k = M.2.1 j k) ∧ (∀ j k, 19 ≤ j → j ≤ 24 → k < n → kpB M k = true → (iter pdS 0 n (0, mI M 42 2147483647)).2.2.1 j (cnB (kpB M) k) = M.2.1 j k) ∧ (∀ k, k < n → kpB M k = true → (iter pdS 0 n (0, mI M 42 2147483647)).2.1 42 ≤ M.2.1 19 k)
  | 0 => ⟨rfl, frm.rf.mI (by decide), ⟨rfl, rfl⟩, fun _ _ _ _ _ => rfl, fun _ _ _ _ hk => absurd hk (Nat.not_lt_zero _), fun _ hk => absurd hk (Nat.not_lt_zero _)⟩
  | n + 1 => by
    obtain ⟨h1, h2, ⟨h3, h4⟩, h5, h6, h7⟩ := pdI M n
    rw [iter_last, iter_last, Nat.zero_add]
    have hdf := dn_frm M n
    generalize iter pdS 0 n (0, mI M 42 2147483647) = c at *
    generalize iter dnS 0 n M = Y at *
    have e15 : c.2.1 15 = M.1 15 := h2.f 15
    have e19 : c.2.2.1 19 n = M.2.1 19 n := h5 19 n (by omega) (by omega) (Nat.le_refl _)
    have ey15 : Y.1 15 = M.1 15 := hdf.1 15 List.not_mem_nil
    have ey19 : Y.2.1 19 n = M.2.1 19 n := by rw [hdf.a 19]
    have hcle : cnB (kpB M) n ≤ n := cnB_le _ n
    unfold pdS dnS
    rw [e15, e19, ey15, ey19, cnB_s]
    by_cases ck : M.1 15 < M.2.1 19 n
    · have hkb : kpB M n = true := decide_eq_true ck
      rw [if_pos ck, if_pos ck, hkb, if_pos rfl, h1]
      obtain ⟨Z, eZ⟩ : ∃ Z, Z = mI c.2 42 (if c.2.1 42 ≤ M.2.1 19 n then c.2.1 42 else M.2.1 19 n) := ⟨_, rfl⟩
      have fz : frm [42] [] c.2 Z := by rw [eZ]; exact frm.rf.mI (by decide)
      have z42 : Z.1 42 = if c.2.1 42 ≤ M.2.1 19 n then c.2.1 42 else M.2.1 19 n := by rw [eZ, mI_g, if_pos rfl]
      rw [← eZ]
      have row : ∀ j k, 19 ≤ j → j ≤ 24 → (cpK Z (cnB (kpB M) n) n).2.1 j k = if k = cnB (kpB M) n then Z.2.1 j n else Z.2.1 j k := by
        intro j k hj1 hj2
        unfold cpK
        have : j = 19 ∨ j = 20 ∨ j = 21 ∨ j = 22 ∨ j = 23 ∨ j = 24 := by omega
        rcases this with e | e | e | e | e | e <;> (subst e; simp [mA_a, upd])
      have fcp : frm [] [19, 20, 21, 22, 23, 24] Z (cpK Z (cnB (kpB M) n) n) := by
        unfold cpK
        exact (((((frm.rf.mA (by decide)).mA (by decide)).mA (by decide)).mA (by decide)).mA (by decide)).mA (by decide)
      have zr : ∀ j k, 19 ≤ j → j ≤ 24 → n ≤ k → Z.2.1 j k = M.2.1 j k := fun j k a b cc => by rw [fz.2.1 j List.not_mem_nil]; exact h5 j k a b cc
      refine ⟨rfl, h2.tr ((fz.up (by decide) (by decide)).tr (fcp.up (by decide) (by decide))), ⟨?_, ?_⟩, fun j k a b hk => ?_, fun j k a b hk hkk => ?_, fun k hk hkk => ?_⟩
      · show (cpK Z (cnB (kpB M) n) n).2.1 2 = Y.2.1 2
        rw [fcp.a 2, fz.a 2, h3]
      · show (cpK Z (cnB (kpB M) n) n).2.1 13 = Y.2.1 13
        rw [fcp.a 13, fz.a 13, h4]
      · show (cpK Z (cnB (kpB M) n) n).2.1 j k = _
        rw [row j k a b, if_neg (by omega)]
        exact zr j k a b (by omega)
      · show (cpK Z (cnB (kpB M) n) n).2.1 j (cnB (kpB M) k) = _
        rw [row j _ a b]
        by_cases e : k = n
        · subst e
          rw [if_pos rfl]
          exact zr j k a b (Nat.le_refl _)
        · have hlt : k < n := by omega
          have hmono : cnB (kpB M) k < cnB (kpB M) n := by
            have e2 : n = (k + 1) + (n - (k + 1)) := by omega
            rw [e2, cnB_add, cnB_s, hkk, if_pos rfl]
            omega
          rw [if_neg (by omega), fz.2.1 j List.not_mem_nil]
          exact h6 j k a b hlt hkk
      · show (cpK Z (cnB (kpB M) n) n).1 42 ≤ _
        rw [fcp.1 42 List.not_mem_nil, z42]
        by_cases e : k = n
        · subst e
          split
          · assumption
          · exact Int32.le_refl _
        · have := h7 k (by omega) hkk
          split
          · exact this
          · rename_i hc
            exact Int32.le_trans (Int32.le_of_lt (Int32.not_le.mp hc)) this
    · have hkb : ¬ kpB M n = true := fun z => ck (of_decide_eq_true z)
      rw [if_neg ck, if_neg ck, if_neg hkb]
      have fo := onefrm c.2 n
      obtain ⟨o1, o2⟩ := one_c (X := c.2) (Y := Y) (k := n) h3 h4 (by rw [h2.a 9, hdf.a 9]) (fun j a b => by
        rw [h5 j n (by omega) b (Nat.le_refl _), hdf.2.1 j (by simp only [List.mem_cons, List.not_mem_nil, or_false]; omega)])
      have fj : ∀ j, 19 ≤ j → j ≤ 24 → (z_one c.2 n).2.1 j = c.2.2.1 j := fun j a b => fo.2.1 j (by simp only [List.mem_cons, List.not_mem_nil, or_false]; omega)
      refine ⟨h1, h2.tr (fo.up (by decide) (by decide)), ⟨o1, o2⟩, fun j k a b hk => ?_, fun j k a b hk hkk => ?_, fun k hk hkk => ?_⟩
      · show (z_one c.2 n).2.1 j k = _
        rw [fj j a b]
        exact h5 j k a b (by omega)
      · show (z_one c.2 n).2.1 j (cnB (kpB M) k) = _
        rw [fj j a b]
        by_cases e : k = n
        · subst e; exact absurd hkk hkb
        · exact h6 j k a b (by omega) hkk
      · show (z_one c.2 n).1 42 ≤ _
        rw [fo.1 42 List.not_mem_nil]
        by_cases e : k = n
        · subst e; exact absurd hkk hkb
        · exact h7 k (by omega) hkk
end C55
