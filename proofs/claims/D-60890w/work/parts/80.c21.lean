/-! C21: a warp's scoreboard; votes -/
section C21
variable {nC nS n : Nat} {A : AH} {V V' : CW} {E : EL} {ad : AA} {M : MS} {P : PP} {x : Nat}
theorem fm_if {M : MS} {p : Prop} [Decidable p] {X : MS} (h : fmP M X) : fmP M (if p then X else M) := by
  split
  · exact h
  · exact ⟨rfl, rfl, rfl, rfl, rfl⟩
theorem wr1_fm (s d : Nat) (t : Int32) (M : MS) : fmP M (wr1 s d t M) := fm_if (fm_m (by decide) (by decide))
theorem wr2_fm (s : Nat) (t : Int32) (M : MS) : fmP M (wr2 s t M) := fm_if (fm_m (by decide) (by decide))
theorem wr3_fm (s : Nat) (t : Int32) (M : MS) : fmP M (wr3 s t M) := fm_if (fm_m (by decide) (by decide))
theorem wr1_1 (s d : Nat) (t : Int32) (M : MS) : (wr1 s d t M).1 = M.1 := by unfold wr1; split <;> rfl
theorem wr2_1 (s : Nat) (t : Int32) (M : MS) : (wr2 s t M).1 = M.1 := by unfold wr2; split <;> rfl
theorem wr3_1 (s : Nat) (t : Int32) (M : MS) : (wr3 s t M).1 = M.1 := by unfold wr3; split <;> rfl
theorem e13_wrote (h : St nC nS A V) (cp : CP V E ad M P) (hx : WM V x M) {s w d : Nat} (t : Int32) (hw : ad 13 s = some w) (h53 : M.1 53 = nI d) (hd : d < 16) : Res (fX13_wrote w (some x) (M.1 15 + t) A) (Nx nC nS V ad (wr3 s t (wr2 s t (wr1 s d t M)))) := by
  have hwk := cp.2.2.2.kk hw
  unfold fX13_wrote
  refine Res.b (h.rc (c := 5) hx.1) (Res.b (e5_writes h hx) ?_)
  have fin : ∀ (A8 : AH) (V8 : CW) (M8 : MS), St nC nS A8 V8 → IV V V8 → CX V8 ad M8 → CP V8 E ad M8 P → WM V8 x M8 → M8.1 = M.1 → Res ((gR A8 (some x) 5 6).bind fun v9 => (rcS A8 v9).bind fun v10 => (fX6_isMemory v10 A8).bind fun g11 => jn (fun (A13 : AH) => some A13) fun j12 => if g11 = 0 then (j12 A8) else (pI A8 (some w) 13 5 (M.1 15 + t)).bind fun A15 => j12 A15) (Nx nC nS V ad (wr3 s t M8)) := by
    intro A8 V8 M8 s8 i8 c8 cp8 x8 e8
    refine Res.b (wg6 s8 x8) (Res.b (ix8_sa s8 x8.2.1 (srt_lt _)) (Res.b (e5_isMem s8 x8) ?_))
    rw [jn_eq]
    unfold wr3
    by_cases c : memP M8
    · rw [if_neg (by rw [b2i_0]; exact not_not_intro c), if_pos c, e8]
      obtain ⟨A9, e9, s9⟩ := s8.pi 5 (M.1 15 + t) (c := 13) (cp8.2.2.2.kk hw) (by decide) rfl
      exact Res.b e9 (Res.r ⟨_, s9, i8.tr (IV.vI (Or.inl (by decide))), c8.setA (d := 1305) (k := s) (i := 0) cp8.2.2.2.1 _ (by decide) (by decide) hw⟩)
    · rw [if_pos (by rw [b2i_0]; exact c), if_neg c]
      exact Res.r ⟨V8, s8, i8, c8⟩
  have mid : ∀ (A4 : AH) (V4 : CW) (M4 : MS), St nC nS A4 V4 → IV V V4 → CX V4 ad M4 → CP V4 E ad M4 P → WM V4 x M4 → M4.1 = M.1 → Res ((rcv A4 (some x) 5).bind fun v5 => (fX5_decides v5 A4).bind fun g6 => jn (fun (A8 : AH) => (gR A8 (some x) 5 6).bind fun v9 => (rcS A8 v9).bind fun v10 => (fX6_isMemory v10 A8).bind fun g11 => jn (fun (A13 : AH) => some A13) fun j12 => if g11 = 0 then (j12 A8) else (pI A8 (some w) 13 5 (M.1 15 + t)).bind fun A15 => j12 A15) fun j7 => if g6 = 0 then (j7 A4) else (gR A4 (some w) 13 4).bind fun v17 => (gI A4 (some x) 5 1).bind fun v18 => (sI A4 v17 (v18 &&& (3 : Int32)) (M.1 15 + t)).bind fun A19 => j7 A19) (Nx nC nS V ad (wr3 s t (wr2 s t M4))) := by
    intro A4 V4 M4 s4 i4 c4 cp4 x4 e4
    refine Res.b (s4.rc (c := 5) x4.1) (Res.b (e5_decides s4 x4) ?_)
    rw [jn_eq]
    unfold wr2
    by_cases c : wrP M4
    · rw [if_neg (by rw [b2i_0]; exact not_not_intro c), if_pos c, e4]
      obtain ⟨y, y1, y2, y3⟩ := (cp4.2.2.2.wo cp4.1 cp4.2.2.1 hw).2.2.1
      have hk4 := cp4.2.2.2.kk hw
      have hlo := lo2_lt (M4.1 53)
      have e53 : M4.1 53 = M.1 53 := by rw [e4]
      refine Res.b ((s4.gr 4 (c := 13) hk4 (by decide) rfl).trans (congrArg some y1)) (Res.b (wg1 s4 x4) ?_)
      rw [and3]
      obtain ⟨A9, e9, s9⟩ := s4.si (lo2 (M4.1 53)) (M.1 15 + t) (c := 13) (k := 4) hk4 rfl y1 y2 (by rw [y3]; exact hlo) (by omega)
      have c9 := c4.setA (d := 1354) (k := s) (i := lo2 (M4.1 53)) cp4.2.2.2.1 (M.1 15 + t) (by decide) hlo hw
      have c9 : CX (vI' V4 1354 w (lo2 (M4.1 53)) (M.1 15 + t)) ad (mA M4 12 (20 * s + (16 + lo2 (M4.1 53))) (M.1 15 + t)) := c9
      rw [← Nat.add_assoc, e53] at c9
      have i9 : IV V (vI' V4 1354 w (lo2 (M.1 53)) (M.1 15 + t)) := i4.tr (IV.vI (Or.inl (by decide)))
      rw [e53] at s9
      refine Res.b e9 (fin _ _ _ s9 i9 c9 ?_ ?_ e4)
      · exact cp4.nx (IV.vI (Or.inl (by decide))) c9 (fm_m (by decide) (by decide))
      · exact (x4.io (IV.vI (Or.inl (by decide)))).fm (fun _ _ _ => rfl)
    · rw [if_pos (by rw [b2i_0]; exact c), if_neg c]
      exact fin A4 V4 M4 s4 i4 c4 cp4 x4 e4
  rw [jn_eq]
  unfold wr1
  by_cases c : wrD M
  · rw [if_neg (by rw [b2i_0]; exact not_not_intro c), if_pos c]
    obtain ⟨y, y1, y2, y3⟩ := (cp.2.2.2.wo cp.1 cp.2.2.1 hw).2.1
    refine Res.b ((h.gr 3 (c := 13) hwk (by decide) rfl).trans (congrArg some y1)) (Res.b ((wg1 h hx).trans (congrArg some h53)) ?_)
    obtain ⟨A9, e9, s9⟩ := h.si d (M.1 15 + t) (c := 13) (k := 3) hwk rfl y1 y2 (by rw [y3]; exact hd) (by omega)
    have c9 : CX (vI' V 1353 w d (M.1 15 + t)) ad (mA M 12 (20 * s + d) (M.1 15 + t)) := cp.1.setA (d := 1353) (k := s) (i := d) cp.2.2.2.1 (M.1 15 + t) (by decide) hd hw
    refine Res.b e9 (mid _ _ _ s9 (IV.vI (Or.inl (by decide))) c9 ?_ ?_ rfl)
    · exact cp.nx (IV.vI (Or.inl (by decide))) c9 (fm_m (by decide) (by decide))
    · exact (hx.io (IV.vI (Or.inl (by decide)))).fm (fun _ _ _ => rfl)
  · rw [if_pos (by rw [b2i_0]; exact c), if_neg c]
    exact mid A V M h IV.rf cp.1 cp hx rfl
/-- a warp's list of lanes, at hand -/
theorem CP.wl (cp : CP V E ad M P) {s w : Nat} (hw : ad 13 s = some w) : kdV V w = 14 ∧ (∃ ll cap, xr V 1302 w 0 = some ll ∧ LI V ll 14 (lt V E 13 2 w) cap) ∧ (lt V E 13 2 w).length ≤ 32 ∧ (∀ j, j < 32 → (lnI M s j ↔ j < (lt V E 13 2 w).length)) ∧ (∀ j, j < (lt V E 13 2 w).length → ∃ l, (lt V E 13 2 w)[j]? = some l ∧ ad 14 (32 * s + j) = some l ∧ kdV V l = 15) ∧ (lt V E 13 2 w).length ≤ P 6 := by
  have hk := cp.2.2.2.kk hw
  obtain ⟨a, b, c⟩ := cp.2.2.2.2.2.2.2.2.1.1 s w hw
  refine ⟨hk, cp.2.2.1.wl cp.2.1 hk, a, b, fun j hj => ?_, ?_⟩
  · obtain ⟨l, hl⟩ : ∃ l, (lt V E 13 2 w)[j]? = some l := ⟨_, List.getElem?_eq_getElem hj⟩
    have h2 := c j (by omega)
    rw [hl] at h2
    exact ⟨l, hl, h2.symm, cp.2.2.2.kk h2.symm⟩
  · by_cases h0 : (lt V E 13 2 w).length = 0
    · omega
    · have h1 := (b ((lt V E 13 2 w).length - 1) (by omega)).mpr (by omega)
      have h2 := h1.1
      rw [cp.2.2.2.2.2.2.2.2.2.2.2.2.1.1] at h2
      have hP := cp.2.2.2.2.2.2.2.2.2.2.2.1.1
      apply Classical.byContradiction
      intro hn
      exact h2 (c_le (by omega) (by omega))
theorem lt_io {w c k : Nat} (hi : IV V V') : lt V' E c k w = lt V E c k w := by
  unfold lt
  rw [hi.2.1.1]
theorem mA_id (M : MS) (a i : Nat) : mA M a i (M.2.1 a i) = M := by
  refine Prod.ext rfl (Prod.ext ?_ rfl)
  funext c
  show (if c = a then upd (M.2.1 a) i (M.2.1 a i) else M.2.1 c) = M.2.1 c
  by_cases e : c = a
  · rw [if_pos e, e]
    funext x
    show (if x = i then _ else _) = _
    by_cases e2 : x = i
    · rw [if_pos e2, e2]
    · rw [if_neg e2]
  · rw [if_neg e]
theorem pl_cut {s len : Nat} (M : MS) (h0 : ∀ i, len ≤ i → i < 32 → M.2.1 26 i = 0) : ∀ k, len + k ≤ 32 → iter (plS s) 0 (len + k) M = iter (plS s) 0 len M := by
  intro k
  induction k with
  | zero => intro _; rfl
  | succ k ih =>
    intro hk
    rw [← Nat.add_assoc, iter_last, ih (by omega)]
    unfold plS
    rw [if_pos]
    have := (plI_frm (s := s) M 0 len).2.1 26 (by decide)
    unfold plS at this
    rw [this]
    exact h0 _ (by omega) (by omega)
theorem ac_cut {s d a b bk len : Nat} (M : MS) (h0 : ∀ i, len ≤ i → i < 32 → M.2.1 27 i = 0) : ∀ k, len + k ≤ 32 → iter (acS s d a b bk) 0 (len + k) M = iter (acS s d a b bk) 0 len M := by
  intro k
  induction k with
  | zero => intro _; rfl
  | succ k ih =>
    intro hk
    rw [← Nat.add_assoc, iter_last, ih (by omega)]
    have := (acI_frm (s := s) (d := d) (a := a) (b := b) (bk := bk) M 0 len).2.1 27 (by decide)
    generalize iter (acS s d a b bk) 0 len M = N at *
    unfold acS
    rw [if_pos]
    rw [this]
    exact h0 _ (by omega) (by omega)
end C21
