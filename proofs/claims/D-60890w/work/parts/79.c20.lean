/-! C20: places first, then acts: the same as lane by lane -/
def plS (s i : Nat) (M : MS) : MS := if M.2.1 26 i = 0 then M else mA M 15 (32 * s + i) (M.2.1 15 (32 * s + i) + 1)
def acS (s d a b bk i : Nat) (M : MS) : MS := if M.2.1 27 i = 0 then M else z_act M s i (M.2.1 15 (32 * s + i) - 1) d a b (nN (M.1 41)) bk (nN (askV M s a i)) (nN (nI i ^^^ (M.1 57 &&& (M.1 1 - 1))))
section C20
variable {M : MS} {s d a b bk : Nat}
theorem act_pl {i t' p q o : Nat} (old v : Int32) (h : t' ≠ 32 * s + i) : z_act (mA M 15 t' v) s i old d a b p bk q o = mA (z_act M s i old d a b p bk q o) 15 t' v := by
  unfold z_act
  by_cases c0 : M.1 52 = 0
  · rw [if_pos (show (mA M 15 t' v).1 52 = 0 from c0), if_pos c0]
    exact mA_comm _ _ _ _ _ (by decide)
  rw [if_neg (show ¬ (mA M 15 t' v).1 52 = 0 from c0), if_neg c0]
  by_cases c1 : M.1 52 = 1
  · rw [if_pos (show (mA M 15 t' v).1 52 = 1 from c1), if_pos c1]
    exact mA_comm _ _ _ _ _ (by decide)
  rw [if_neg (show ¬ (mA M 15 t' v).1 52 = 1 from c1), if_neg c1]
  by_cases c2 : M.1 52 = 2
  · rw [if_pos (show (mA M 15 t' v).1 52 = 2 from c2), if_pos c2]
    exact mA_comm _ _ _ _ _ (by decide)
  rw [if_neg (show ¬ (mA M 15 t' v).1 52 = 2 from c2), if_neg c2]
  by_cases c3 : M.1 52 = 3
  · rw [if_pos (show (mA M 15 t' v).1 52 = 3 from c3), if_pos c3]
    exact mA_comm _ _ _ _ _ (by decide)
  rw [if_neg (show ¬ (mA M 15 t' v).1 52 = 3 from c3), if_neg c3]
  by_cases c21 : 21 < M.1 52
  · rw [if_pos (show 21 < (mA M 15 t' v).1 52 from c21), if_pos c21]
    by_cases c33 : 33 < M.1 52
    · rw [if_pos (show 33 < (mA M 15 t' v).1 52 from c33), if_pos c33]
      by_cases c36 : 36 < M.1 52
      · rw [if_pos (show 36 < (mA M 15 t' v).1 52 from c36), if_pos c36]
        by_cases c42 : 42 < M.1 52
        · rw [if_pos (show 42 < (mA M 15 t' v).1 52 from c42), if_pos c42]
          by_cases cm : memP M ∧ ¬ shP M
          · rw [if_pos (show memP (mA M 15 t' v) ∧ ¬ shP (mA M 15 t' v) from cm), if_pos cm]
            unfold z_ask
            rw [mA_comm (a := 15) (b := 19) _ _ _ _ _ (by decide)]
            show mI (mA (mA (mA (mA (mA (mI (mA (mA M 19 p _) 15 t' v) 42 _) 20 p _) 21 p _) 22 p _) 23 p _) 24 p _) 41 _ = _
            rw [show ∀ X : MS, ∀ z : Int32, mI (mA X 15 t' v) 42 z = mA (mI X 42 z) 15 t' v from fun _ _ => rfl]
            rw [mA_comm (a := 15) (b := 20) _ _ _ _ _ (by decide), mA_comm (a := 15) (b := 21) _ _ _ _ _ (by decide), mA_comm (a := 15) (b := 22) _ _ _ _ _ (by decide), mA_comm (a := 15) (b := 23) _ _ _ _ _ (by decide), mA_comm (a := 15) (b := 24) _ _ _ _ _ (by decide)]
            rfl
          rw [if_neg (show ¬ (memP (mA M 15 t' v) ∧ ¬ shP (mA M 15 t' v)) from cm), if_neg cm]
          by_cases c59 : 59 < M.1 52
          · rw [if_pos (show 59 < (mA M 15 t' v).1 52 from c59), if_pos c59]
            by_cases c71 : 71 < M.1 52
            · rw [if_pos (show 71 < (mA M 15 t' v).1 52 from c71), if_pos c71]
              exact mA_comm _ _ _ _ _ (by decide)
            · rw [if_neg (show ¬ 71 < (mA M 15 t' v).1 52 from c71), if_neg c71]
              exact mA_comm _ _ _ _ _ (by decide)
          · rw [if_neg (show ¬ 59 < (mA M 15 t' v).1 52 from c59), if_neg c59]
            unfold z_touch
            by_cases c53 : M.1 52 = 53
            · rw [if_pos (show (mA M 15 t' v).1 52 = 53 from c53), if_pos c53]
              exact mA_comm _ _ _ _ _ (by decide)
            · rw [if_neg (show ¬ (mA M 15 t' v).1 52 = 53 from c53), if_neg c53]
              rw [mA_comm (a := 15) (b := 13) _ _ _ _ _ (by decide), mA_comm (a := 15) (b := 18) _ _ _ _ _ (by decide)]
              rfl
        · rw [if_neg (show ¬ 42 < (mA M 15 t' v).1 52 from c42), if_neg c42]
          unfold z_jump
          by_cases c41 : M.1 52 = 41
          · rw [if_pos (show (mA M 15 t' v).1 52 = 41 from c41), if_pos c41]
            rw [mA_cm2 _ _ _ h, mA_comm (a := 15) (b := 13) _ _ _ _ _ (by decide)]
            rfl
          · rw [if_neg (show ¬ (mA M 15 t' v).1 52 = 41 from c41), if_neg c41]
            exact mA_cm2 _ _ _ h
      · rw [if_neg (show ¬ 36 < (mA M 15 t' v).1 52 from c36), if_neg c36]
        exact mA_comm _ _ _ _ _ (by decide)
    · rw [if_neg (show ¬ 33 < (mA M 15 t' v).1 52 from c33), if_neg c33]
      exact mA_comm _ _ _ _ _ (by decide)
  · rw [if_neg (show ¬ 21 < (mA M 15 t' v).1 52 from c21), if_neg c21]
    exact mA_comm _ _ _ _ _ (by decide)
theorem act_15 {i p q o t' : Nat} (old : Int32) (h : t' ≠ 32 * s + i) : (z_act M s i old d a b p bk q o).2.1 15 t' = M.2.1 15 t' := by
  have e := act_pl (M := M) (d := d) (a := a) (b := b) (bk := bk) (p := p) (q := q) (o := o) old (M.2.1 15 t') h
  have e0 : mA M 15 t' (M.2.1 15 t') = M := by
    refine Prod.ext rfl (Prod.ext ?_ rfl)
    funext c
    show (if c = 15 then upd (M.2.1 15) t' (M.2.1 15 t') else M.2.1 c) = M.2.1 c
    by_cases e : c = 15
    · rw [if_pos e, e]
      funext x
      show (if x = t' then _ else _) = _
      by_cases e2 : x = t'
      · rw [if_pos e2, e2]
      · rw [if_neg e2]
    · rw [if_neg e]
  rw [e0] at e
  rw [e, mA_a, if_pos rfl]
  exact if_pos rfl
theorem ac_frm (i : Nat) (M : MS) : frm [41, 42] [13, 14, 15, 16, 17, 18, 19, 20, 21, 22, 23, 24] M (acS s d a b bk i M) := by
  unfold acS
  split
  · exact frm.rf
  · exact act_frm _ _ _ _ _ _ _ _ _ _ _
theorem pl_frm (i : Nat) (M : MS) : frm [] [15] M (plS s i M) := by
  unfold plS
  split
  · exact frm.rf
  · exact frm.rf.mA (by decide)
theorem pl_ac {i j : Nat} (h : j ≠ i) : plS s j (acS s d a b bk i M) = acS s d a b bk i (plS s j M) := by
  have e26 : (acS s d a b bk i M).2.1 26 = M.2.1 26 := (ac_frm i M).2.1 26 (by decide)
  unfold plS
  rw [e26]
  by_cases c : M.2.1 26 j = 0
  · rw [if_pos c, if_pos c]
  · rw [if_neg c, if_neg c]
    unfold acS
    by_cases c7 : M.2.1 27 i = 0
    · rw [if_pos c7, if_pos (show (mA M 15 (32 * s + j) (M.2.1 15 (32 * s + j) + 1)).2.1 27 i = 0 from c7)]
    · rw [if_neg c7, if_neg (show ¬ (mA M 15 (32 * s + j) (M.2.1 15 (32 * s + j) + 1)).2.1 27 i = 0 from c7)]
      have e15 : (mA M 15 (32 * s + j) (M.2.1 15 (32 * s + j) + 1)).2.1 15 (32 * s + i) = M.2.1 15 (32 * s + i) := by
        rw [mA_a, if_pos rfl]
        exact if_neg (by omega)
      rw [e15, act_15 _ (by omega)]
      exact (act_pl _ _ (by omega)).symm
theorem go_pa {i : Nat} (h : ¬ M.2.1 27 i = 0 → ¬ M.2.1 26 i = 0) : goS s d a b bk i M = acS s d a b bk i (plS s i M) := by
  unfold goS plS
  by_cases c : M.2.1 26 i = 0
  · rw [if_pos c, if_pos c]
    unfold acS
    rw [if_pos (Classical.byContradiction fun z => h z c)]
  · rw [if_neg c, if_neg c]
    unfold acS
    by_cases c7 : M.2.1 27 i = 0
    · rw [if_pos c7, if_pos (show (mA M 15 (32 * s + i) (M.2.1 15 (32 * s + i) + 1)).2.1 27 i = 0 from c7)]
    · rw [if_neg c7, if_neg (show ¬ (mA M 15 (32 * s + i) (M.2.1 15 (32 * s + i) + 1)).2.1 27 i = 0 from c7)]
      have e15 : (mA M 15 (32 * s + i) (M.2.1 15 (32 * s + i) + 1)).2.1 15 (32 * s + i) = M.2.1 15 (32 * s + i) + 1 := by
        rw [mA_a, if_pos rfl]
        exact if_pos rfl
      rw [e15, Int32.add_sub_cancel]
      rfl
theorem acI_frm (M : MS) (a0 : Nat) : ∀ n, frm [41, 42] [13, 14, 15, 16, 17, 18, 19, 20, 21, 22, 23, 24] M (iter (acS s d a b bk) a0 n M) := by
  intro n
  induction n with
  | zero => exact frm.rf
  | succ n ih =>
    rw [iter_last]
    exact ih.tr (ac_frm _ _)
theorem plI_frm (M : MS) (a0 : Nat) : ∀ n, frm [] [15] M (iter (plS s) a0 n M) := by
  intro n
  induction n with
  | zero => exact frm.rf
  | succ n ih =>
    rw [iter_last]
    exact ih.tr (pl_frm _ _)
theorem pl_acI (M : MS) {j : Nat} : ∀ n, n ≤ j → plS s j (iter (acS s d a b bk) 0 n M) = iter (acS s d a b bk) 0 n (plS s j M) := by
  intro n
  induction n with
  | zero => intro _; rfl
  | succ n ih =>
    intro h
    rw [iter_last, iter_last, Nat.zero_add, pl_ac (by omega), ih (by omega)]
theorem go_I (M : MS) (h : ∀ i, i < 32 → ¬ M.2.1 27 i = 0 → ¬ M.2.1 26 i = 0) : ∀ n, n ≤ 32 → iter (goS s d a b bk) 0 n M = iter (acS s d a b bk) 0 n (iter (plS s) 0 n M) := by
  intro n
  induction n with
  | zero => intro _; rfl
  | succ n ih =>
    intro hn
    rw [iter_last, iter_last, iter_last, Nat.zero_add, ih (by omega), ← pl_acI _ n (Nat.le_refl _)]
    refine go_pa ?_
    have e1 := (acI_frm (s := s) (d := d) (a := a) (b := b) (bk := bk) (iter (plS s) 0 n M) 0 n).2.1
    have e2 := (plI_frm (s := s) M 0 n).2.1
    rw [e1 27 (by decide), e1 26 (by decide), e2 27 (by decide), e2 26 (by decide)]
    exact h n (by omega)
end C20
