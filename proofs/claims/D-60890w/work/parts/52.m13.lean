/-! M13: a word goes -/
def doeV (M : MS) (s i : Nat) : Int32 := if M.2.1 26 i = 0 then 0 else if M.1 56 < 8 then 1 else if (b2i (hasP M (32 * s + i) (M.1 56)) = (if M.1 56 &&& 4 = 0 then (0 : Int32) else 1)) then 0 else 1
theorem doeV_nb (M : MS) (s i : Nat) : nb (doeV M s i) = doeV M s i := by
  unfold doeV
  repeat' split
  all_goals rfl
def doeS (s : Nat) (i : Nat) (c : Int32 × Int32 × MS) : Int32 × Int32 × MS := (c.1 + (if doeV c.2.2 s i = 0 then 0 else 1), c.2.1 + (if c.2.2.2.1 26 i = 0 then 0 else 1), mA c.2.2 27 i (doeV c.2.2 s i))
def trF (M : MS) (s a b : Nat) : Nat → Nat → Option Nat
  | _, 0 => none
  | i, d + 1 => if (¬ M.2.1 27 i = 0 ∧ ¬ whyV M (32 * s + i) a b = 0) then some i else trF M s a b (i + 1) d
def goS (s d a b bk : Nat) (i : Nat) (M : MS) : MS := if M.2.1 26 i = 0 then M else if M.2.1 27 i = 0 then mA M 15 (32 * s + i) (M.2.1 15 (32 * s + i) + 1) else z_act (mA M 15 (32 * s + i) (M.2.1 15 (32 * s + i) + 1)) s i (M.2.1 15 (32 * s + i)) d a b (nN (M.1 41)) bk (nN (askV M s a i)) (nN (nI i ^^^ (M.1 57 &&& (M.1 1 - 1))))
def cntM (u : Nat) (many all : Int32) (M : MS) : MS := mI (mI (mA (mI M 16 (M.1 16 + 1)) 8 u (M.2.1 8 u + 1)) 17 (M.1 17 + many)) 18 (M.1 18 + (if all ≤ many then 0 else 1))
def wr1 (s d : Nat) (t : Int32) (M : MS) : MS := if wrD M then mA M 12 (20 * s + d) (M.1 15 + t) else M
def wr2 (s : Nat) (t : Int32) (M : MS) : MS := if wrP M then mA M 12 (20 * s + 16 + lo2 (M.1 53)) (M.1 15 + t) else M
def wr3 (s : Nat) (t : Int32) (M : MS) : MS := if memP M then mA M 11 s (M.1 15 + t) else M
def wr4 (s L : Nat) (M : MS) : MS := if 2 ≤ M.1 52 then M else z_settle M L (M.2.1 9 s)
def wrA (s d L : Nat) (t : Int32) (M : MS) : MS := wr4 s L (wr3 s t (wr2 s t (wr1 s d t M)))
def z_goR (M : MS) (u s d a b bk L Bk G : Nat) (many all : Int32) : MS := wrA s d L (z_time M u s a L Bk G).1 (iter (goS s d a b bk) 0 L (z_tog (cntM u many all (z_time M u s a L Bk G).2) s a L))
def z_goO (o : Option Nat) (u s d a b bk L Bk G : Nat) (c : Int32 × Int32 × MS) : MS := match o with
  | some i => z_trap c.2.2 s i (whyV c.2.2 (32 * s + i) a b)
  | none => z_goR c.2.2 u s d a b bk L Bk G c.1 c.2.1
def z_go (M : MS) (u s d a b bk L Bk G : Nat) : MS := z_goO (trF (iter (doeS s) 0 32 (0, 0, M)).2.2 s a b 0 L) u s d a b bk L Bk G (iter (doeS s) 0 32 (0, 0, M))
theorem time_frm (M : MS) (u s a L Bk G : Nat) : frm [19, 20] [3, 4, 5, 6, 25] M (z_time M u s a L Bk G).2 := by
  have hup : ∀ M', frm [19, 20] [3, 4, 25] M M' → frm [19, 20] [3, 4, 5, 6, 25] M M' := fun M' h => h.up (fun k h => h) (fun k h => by simp only [List.mem_cons, List.not_mem_nil, or_false] at h ⊢; omega)
  have hit : ∀ (d i : Nat) (c : Int32 × Int32 × MS), frm [19, 20] [3, 4, 25] M c.2.2 → frm [19, 20] [3, 4, 25] M (iter (tgS s a G) i d c).2.2 := by
    intro d
    induction d with
    | zero => exact fun i c h => h
    | succ d ih => exact fun i c h => ih (i + 1) _ (h.tr (tgS_frm s a G i c))
  unfold z_time
  split
  · split
    · exact frm.rf.mA (by decide)
    · exact hup _ (hit _ _ _ frm.rf)
  · split
    · split
      · exact frm.rf.mA (by decide)
      · exact frm.rf
    · exact frm.rf
theorem cnt_frm (u : Nat) (many all : Int32) (M : MS) : frm [16, 17, 18] [8] M (cntM u many all M) := (((frm.rf.mI (by decide)).mA (by decide)).mI (by decide)).mI (by decide)
theorem tog_frm (M : MS) (s a L : Nat) : frm [58] [28] M (z_tog M s a L) := by
  have hit : ∀ (d i : Nat) (c : Int32 × MS), frm [58] [28] M c.2 → frm [58] [28] M (iter (hadS s a) i d c).2 := by
    intro d
    induction d with
    | zero => exact fun i c h => h
    | succ d ih => exact fun i c h => ih (i + 1) _ (h.tr (hadS_frm s a i c))
  exact (hit L 0 (0, mI M 58 0) (frm.rf.mI (by decide))).tr (tog2_frm _)
theorem say_frm (M : MS) (t : Nat) (x : Int32) : frm [41, 42] [13, 14, 15, 16, 17, 18, 19, 20, 21, 22, 23, 24] M (z_say M t x) := frm.rf.mA (by decide)
theorem jump_frm (M : MS) (t to : Nat) (x old : Int32) : frm [41, 42] [13, 14, 15, 16, 17, 18, 19, 20, 21, 22, 23, 24] M (z_jump M t to x old) := by
  unfold z_jump
  split
  · exact (frm.rf.mA (by decide)).mA (by decide)
  · exact frm.rf.mA (by decide)
theorem ask_frm (M : MS) (s i p bk : Nat) (q y w : Int32) : frm [41, 42] [13, 14, 15, 16, 17, 18, 19, 20, 21, 22, 23, 24] M (z_ask M s i p bk q y w) :=
  (((((((frm.rf.mA (by decide)).mI (by decide)).mA (by decide)).mA (by decide)).mA (by decide)).mA (by decide)).mA (by decide)).mI (by decide)
theorem touch_frm (M : MS) (to k : Nat) (y : Int32) : frm [41, 42] [13, 14, 15, 16, 17, 18, 19, 20, 21, 22, 23, 24] M (z_touch M to k y) := by
  unfold z_touch
  split
  · exact frm.rf.mA (by decide)
  · exact (frm.rf.mA (by decide)).mA (by decide)
theorem ite_P {α : Type} {p : Prop} [Decidable p] (P : α → Prop) {x y : α} (hx : p → P x) (hy : ¬ p → P y) : P (if p then x else y) := by
  by_cases h : p
  · rw [if_pos h]; exact hx h
  · rw [if_neg h]; exact hy h
theorem act_ind (P : MS → Prop) (M : MS) (s i : Nat) (old : Int32) (d a b p bk q o : Nat) (h16 : P (mA M 16 (32 * s + i) 1)) (h17 : P (mA M 17 (32 * s + i) 1)) (h13 : ∀ v, P (mA M 13 (16 * (32 * s + i) + d) v)) (hask : (memP M ∧ ¬ shP M) → P (z_ask M s i p bk (askV M s a i) (rgV M (32 * s + i) b) (rgV M (32 * s + i) d))) (hsay : ∀ x, P (z_say M (32 * s + i) x)) (ht : P (z_touch M (16 * (32 * s + i) + d) (64 * bk + q) (rgV M (32 * s + i) b))) (hj : P (z_jump M (32 * s + i) (16 * (32 * s + i) + d) (rgV M (32 * s + i) a) old)) : P (z_act M s i old d a b p bk q o) := by
  unfold z_act
  refine ite_P P (fun _ => h16) (fun _ => ite_P P (fun _ => h17) (fun _ => ite_P P (fun _ => h13 _) (fun _ => ite_P P (fun _ => h13 _) (fun _ => ite_P P (fun _ => ?_) (fun _ => h13 _)))))
  refine ite_P P (fun _ => ite_P P (fun _ => ite_P P (fun _ => ?_) (fun _ => hj)) (fun _ => hsay _)) (fun _ => hsay _)
  exact ite_P P (fun h => hask h) (fun _ => ite_P P (fun _ => ite_P P (fun _ => h13 _) (fun _ => hsay _)) (fun _ => ht))
theorem act_frm (M : MS) (s i : Nat) (old : Int32) (d a b p bk q o : Nat) : frm [41, 42] [13, 14, 15, 16, 17, 18, 19, 20, 21, 22, 23, 24] M (z_act M s i old d a b p bk q o) :=
  act_ind _ M s i old d a b p bk q o (frm.rf.mA (by decide)) (frm.rf.mA (by decide)) (fun v => frm.rf.mA (by decide)) (fun _ => ask_frm _ _ _ _ _ _ _ _) (fun x => say_frm _ _ _) (touch_frm _ _ _ _) (jump_frm _ _ _ _ _)
/-- only one int of the registers may change -/
def loc13 (to : Nat) (M M' : MS) : Prop := ∀ x, x ≠ to → M'.2.1 13 x = M.2.1 13 x
theorem act_13 (M : MS) (s i : Nat) (old : Int32) (d a b p bk q o : Nat) : loc13 (16 * (32 * s + i) + d) M (z_act M s i old d a b p bk q o) := by
  refine act_ind _ M s i old d a b p bk q o (fun x hx => rfl) (fun x hx => rfl) (fun v x hx => pk_un hx) (fun _ x hx => rfl) (fun v x hx => rfl) ?_ ?_
  · intro x hx
    unfold z_touch
    by_cases h : M.1 52 = 53
    · rw [if_pos h]; rfl
    · rw [if_neg h]; exact pk_un hx
  · intro x hx
    unfold z_jump
    by_cases h : M.1 52 = 41
    · rw [if_pos h]; exact pk_un hx
    · rw [if_neg h]; rfl
theorem act_41 (M : MS) (s i : Nat) (old : Int32) (d a b p bk q o : Nat) : (z_act M s i old d a b p bk q o).1 41 = M.1 41 ∨ (z_act M s i old d a b p bk q o).1 41 = M.1 41 + 1 := by
  refine act_ind (fun M' => M'.1 41 = M.1 41 ∨ M'.1 41 = M.1 41 + 1) M s i old d a b p bk q o (Or.inl rfl) (Or.inl rfl) (fun v => Or.inl rfl) (fun _ => Or.inr rfl) (fun v => Or.inl rfl) ?_ ?_
  · left
    unfold z_touch
    by_cases h : M.1 52 = 53
    · rw [if_pos h]; rfl
    · rw [if_neg h]; rfl
  · left
    unfold z_jump
    by_cases h : M.1 52 = 41
    · rw [if_pos h]; rfl
    · rw [if_neg h]; rfl
theorem xor_lt (i : Nat) (hi : i < 32) (x : Int32) (L : Nat) (hL : L ≤ 32) (hL1 : 1 ≤ L) : ∃ o, o < 32 ∧ nI i ^^^ (x &&& (nI L - 1)) = nI o := by
  rw [nI_sub1 (by omega)]
  refine ⟨i ^^^ (x.toBitVec.toNat &&& (L - 1)), ?_, ?_⟩
  · refine Nat.xor_lt_two_pow (n := 5) hi ?_
    exact Nat.lt_of_le_of_lt Nat.and_le_right (by omega)
  · have hlt : i ^^^ (x.toBitVec.toNat &&& (L - 1)) < 2 ^ 5 := Nat.xor_lt_two_pow (n := 5) hi (Nat.lt_of_le_of_lt Nat.and_le_right (by omega))
    apply Int32.toBitVec_inj.mp
    apply BitVec.eq_of_toNat_eq
    rw [pk_tn (by omega), Int32.toBitVec_xor, Int32.toBitVec_and, BitVec.toNat_xor, BitVec.toNat_and, pk_tn (by omega), pk_tn (by omega)]
theorem wrd_mem {M : MS} (h : wrdP M) (h2 : 42 < M.1 52 ∧ ¬ 59 < M.1 52) : memP M := by
  obtain ⟨h3, h4⟩ := h2
  simp only [wrdP, memP, Int32.lt_iff_toInt_lt, Int32.le_iff_toInt_le] at *
  have e1 : (42 : Int32).toInt = 42 := by decide
  have e2 : (59 : Int32).toInt = 59 := by decide
  have e3 : (21 : Int32).toInt = 21 := by decide
  have e4 : (30 : Int32).toInt = 30 := by decide
  have e5 : (36 : Int32).toInt = 36 := by decide
  have e6 : (40 : Int32).toInt = 40 := by decide
  have e7 : (50 : Int32).toInt = 50 := by decide
  have e8 : (70 : Int32).toInt = 70 := by decide
  have e9 : (73 : Int32).toInt = 73 := by decide
  rw [e1] at h3
  rw [e2] at h4
  rw [e3, e4, e5, e6, e1, e7, e2, e8, e9] at h
  rw [e7, e2]
  omega
theorem rngI {x : Int32} {N : Nat} (h0 : ¬ x < 0) (h : x < nI N) (hN : N < 2 ^ 31) : ∃ q, q < N ∧ x = nI q := by
  obtain ⟨j, h1, h2, _⟩ := pk_mu (x := x) (L := N) h0 (Int32.not_le.mpr h) hN
  exact ⟨j, h1, h2⟩
theorem nN_nI {q : Nat} (h : q < 2 ^ 31) : nN (nI q) = q := nI_clamp h
theorem why0_div {M : MS} {t a b : Nat} (h : whyV M t a b = 0) (h2 : M.1 52 = 7 ∨ M.1 52 = 8) : ¬ rgV M t b = 0 := by
  intro h3
  rw [whyV, if_pos ⟨h2, h3⟩] at h
  exact absurd h (by decide)
theorem why0_mem {M : MS} {t a b : Nat} (h : whyV M t a b = 0) (h2 : memP M) : ¬ rgV M t a + M.1 57 < 0 ∧ rgV M t a + M.1 57 < (if shP M then 64 else M.1 6) := by
  unfold whyV at h
  by_cases h4 : (M.1 52 = 7 ∨ M.1 52 = 8) ∧ rgV M t b = 0
  · rw [if_pos h4] at h
    exact absurd h (by decide)
  · rw [if_neg h4] at h
    by_cases h3 : memP M ∧ (rgV M t a + M.1 57 < 0 ∨ ¬ rgV M t a + M.1 57 < (if shP M then 64 else M.1 6))
    · rw [if_pos h3] at h
      exact absurd h (by decide)
    · refine ⟨fun z => h3 ⟨h2, Or.inl z⟩, ?_⟩
      exact Classical.byContradiction fun z => h3 ⟨h2, Or.inr z⟩
section M13
variable {B : AH} {ao : Nat} {M : MS} {n : Nat}
theorem e_goA (u s f : Nat) (hs : s < 128) (hf : f < 32) (hf0 : ∀ j, j < f → M.2.1 26 j = 0) (hf1 : ¬ M.2.1 26 f = 0) (hn : 32 < n) (hp : M.2.1 15 (32 * s + f) < 0 ∨ ¬ M.2.1 15 (32 * s + f) < 128) : fX11_go n ao (nI u) (nI s) (mk B ao M) = some (mk B ao (z_trap M s f 1)) := by
  unfold fX11_go
  refine ob mrcv (ob (e_first f hf hf0 hf1 hn) (ob mg37 (ob (e_thread s f) (ob (ma15 (32 * s + f) (by omega)) ?_))))
  rw [if_pos hp]
  exact ob (e_trap s f 1 hs hf) rfl
theorem e_goB (u s f k : Nat) (hs : s < 128) (hf : f < 32) (hf0 : ∀ j, j < f → M.2.1 26 j = 0) (hf1 : ¬ M.2.1 26 f = 0) (hn : 32 < n) (hk : k < 128) (hp : M.2.1 15 (32 * s + f) = nI k) (hw : ¬ wrdP (z_take M (M.2.2 k))) : fX11_go n ao (nI u) (nI s) (mk B ao M) = some (mk B ao (z_trap (z_take M (M.2.2 k)) s f 2)) := by
  unfold fX11_go
  refine ob mrcv (ob (e_first f hf hf0 hf1 hn) (ob mg37 (ob (e_thread s f) (ob ((ma15 (32 * s + f) (by omega)).trans (by rw [hp])) ?_))))
  rw [if_neg (show ¬ (nI k < 0 ∨ ¬ nI k < 128) from fun z => z.elim (fun q => absurd (c_le (Nat.zero_le k) (by omega)) (Int32.not_le.mpr q)) (fun q => q (by rw [l128]; exact Int32.not_le.mp (c_nle hk (by omega)))))]
  refine ob mg7 (ob (maL hk) (ob (e_take _) (ob mrcv (ob e_isWord ?_))))
  rw [if_pos (by rw [b2i_0]; exact hw)]
  exact ob (e_trap s f 2 hs hf) rfl
end M13
