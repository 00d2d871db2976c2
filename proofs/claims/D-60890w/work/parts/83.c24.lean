/-! C24: the coalescer: shared memory -/
theorem anyF_last (p : Nat → Bool) : ∀ d a, anyF p a (d + 1) = (anyF p a d || p (a + d))
  | 0, a => by
    show (p a || false) = (false || p (a + 0))
    rw [Bool.or_false, Bool.false_or]
    rfl
  | d + 1, a => by
    have ih := anyF_last p d (a + 1)
    show (p a || anyF p (a + 1) (d + 1)) = ((p a || anyF p (a + 1) d) || p (a + (d + 1)))
    rw [ih, Bool.or_assoc, show a + 1 + d = a + (d + 1) by omega]
theorem anyF_c {p q : Nat → Bool} : ∀ d, (∀ i, i < d → p i = q i) → anyF p 0 d = anyF q 0 d
  | 0, _ => rfl
  | d + 1, h => by rw [anyF_last, anyF_last, anyF_c d (fun i hi => h i (by omega)), Nat.zero_add, h d (by omega)]
def usB (M : MS) (s a j q : Nat) : Bool := anyF (fun k => decide (¬ M.2.1 27 k = 0 ∧ askN M s a k = q)) 0 j
def lnB (M : MS) (s a j q : Nat) : Bool := anyF (fun k => decide (¬ M.2.1 27 k = 0 ∧ askN M s a k / 8 = q)) 0 j
/-- what lanes ask for is in bounds -/
def okQ (M : MS) (s a X : Nat) : Prop := ∀ i, i < 32 → ¬ M.2.1 27 i = 0 → askV M s a i = nI (askN M s a i) ∧ askN M s a i < X
theorem ag_us {M : MS} {s a X i : Nat} (h : okQ M s a X) (hX : X ≤ 4096) (hi : i < 32) (h27 : ¬ M.2.1 27 i = 0) : agB M s a i = usB M s a i (askN M s a i) := by
  unfold agB usB
  refine anyF_c i (fun k hk => ?_)
  obtain ⟨q1, q2⟩ := h i hi h27
  by_cases c : M.2.1 27 k = 0
  · rw [decide_eq_false (fun z => z.1 c), decide_eq_false (fun z => z.1 c)]
  · obtain ⟨r1, r2⟩ := h k (by omega) c
    by_cases e : askN M s a k = askN M s a i
    · rw [decide_eq_true ⟨c, by rw [q1, r1, e]⟩, decide_eq_true ⟨c, e⟩]
    · rw [decide_eq_false (fun z => e ((nI_eq (by omega) (by omega)).mp (by rw [← q1, ← r1]; exact z.2))), decide_eq_false (fun z => e z.2)]
theorem lg_ln {M : MS} {s a X i : Nat} (h : okQ M s a X) (hX : X ≤ 4096) (hi : i < 32) (h27 : ¬ M.2.1 27 i = 0) : lgB M s a i = lnB M s a i (askN M s a i / 8) := by
  unfold lgB lnB
  refine anyF_c i (fun k hk => ?_)
  obtain ⟨q1, q2⟩ := h i hi h27
  have d8 : ∀ x : Nat, x < 4096 → nI x / 8 = nI (x / 8) := fun x hx => pk_div (d := 8) (by omega) (by omega) (by omega)
  by_cases c : M.2.1 27 k = 0
  · rw [decide_eq_false (fun z => z.1 c), decide_eq_false (fun z => z.1 c)]
  · obtain ⟨r1, r2⟩ := h k (by omega) c
    by_cases e : askN M s a k / 8 = askN M s a i / 8
    · rw [decide_eq_true ⟨c, by rw [q1, r1, d8 _ (by omega), d8 _ (by omega), e]⟩, decide_eq_true ⟨c, e⟩]
    · rw [decide_eq_false (fun z => e ((nI_eq (by omega) (by omega)).mp (by rw [← d8 _ (by omega), ← d8 _ (by omega), ← q1, ← r1]; exact z.2))), decide_eq_false (fun z => e z.2)]
def shF (M : MS) (s a Bk k i : Nat) : Bool := decide (¬ M.2.1 27 i = 0 ∧ askN M s a i % Bk = k) && (decide (53 < M.1 52) || !(agB M s a i))
def mxF (f : Nat → Nat) : Nat → Nat
  | 0 => 0
  | n + 1 => max (mxF f n) (f n)
theorem mxF_le (f : Nat → Nat) (B : Nat) (h : ∀ k, f k ≤ B) : ∀ n, mxF f n ≤ B
  | 0 => Nat.zero_le _
  | n + 1 => by
    have := mxF_le f B h n
    have := h n
    show max (mxF f n) (f n) ≤ B
    omega
theorem mxF_c {f g : Nat → Nat} : ∀ n, (∀ k, k < n → f k = g k) → mxF f n = mxF g n
  | 0, _ => rfl
  | n + 1, h => by
    show max (mxF f n) (f n) = max (mxF g n) (g n)
    rw [mxF_c n (fun k hk => h k (by omega)), h n (by omega)]
theorem mxF_ge {f : Nat → Nat} {k : Nat} : ∀ n, k < n → f k ≤ mxF f n
  | 0, h => by omega
  | n + 1, h => by
    show f k ≤ max (mxF f n) (f n)
    by_cases e : k = n
    · subst e; omega
    · have := mxF_ge (f := f) n (show k < n by omega); omega
theorem mxF_up {f g : Nat → Nat} {k : Nat} (hne : ∀ j, j ≠ k → g j = f j) (hge : f k ≤ g k) : ∀ n, k < n → mxF g n = max (mxF f n) (g k)
  | 0, h => by omega
  | n + 1, h => by
    show max (mxF g n) (g n) = max (max (mxF f n) (f n)) (g k)
    by_cases e : k = n
    · subst e
      rw [mxF_c k (fun j hj => hne j (by omega))]
      omega
    · rw [mxF_up hne hge n (by omega), hne n (fun z => e z.symm)]
      omega
theorem iter_shm {M : MS} {s a Bk X : Nat} (h : okQ M s a X) (hX : X ≤ 4096) (h4 : M.1 4 = nI Bk) (hB : 1 ≤ Bk) (hB2 : Bk ≤ 32) {k : Nat} (hk : k < Bk) : ∀ n, n ≤ 32 → iter (shmS M s a k) 0 n 0 = nI (cnB (shF M s a Bk k) n) := by
  intro n
  induction n with
  | zero => intro _; rfl
  | succ n ih =>
    intro hn
    rw [iter_last, ih (by omega), Nat.zero_add]
    unfold shmS
    show _ = nI (cnB (shF M s a Bk k) n + (if shF M s a Bk k n then 1 else 0))
    by_cases c : M.2.1 27 n = 0
    · rw [if_neg (fun z => z.1 c)]
      have : ¬ shF M s a Bk k n = true := by
        unfold shF
        rw [decide_eq_false (fun z => z.1 c), Bool.false_and]
        decide
      rw [if_neg this]
      rfl
    · obtain ⟨q1, q2⟩ := h n (by omega) c
      have e : (askV M s a n - askV M s a n / M.1 4 * M.1 4 = nI k) ↔ askN M s a n % Bk = k := by
        rw [q1, h4, pk_rem (by omega) (by omega) (by omega)]
        have := Nat.mod_lt (askN M s a n) (show 0 < Bk by omega)
        exact nI_eq (by omega) (by omega)
      by_cases c2 : askN M s a n % Bk = k
      · rw [if_pos ⟨c, e.mpr c2⟩]
        by_cases c3 : 53 < M.1 52 ∨ ¬ agB M s a n = true
        · have : shF M s a Bk k n = true := by
            unfold shF
            rw [decide_eq_true ⟨c, c2⟩, Bool.true_and, Bool.or_eq_true]
            rcases c3 with z | z
            · exact Or.inl (decide_eq_true z)
            · right
              cases hh : agB M s a n with
              | false => rfl
              | true => exact absurd hh z
          rw [if_pos c3, if_pos this, nI_1]
        · have : ¬ shF M s a Bk k n = true := by
            unfold shF
            rw [decide_eq_true ⟨c, c2⟩, Bool.true_and, Bool.or_eq_true]
            rintro (z | z)
            · exact c3 (Or.inl (of_decide_eq_true z))
            · exact c3 (Or.inr (by intro hh; rw [hh] at z; cases z))
          rw [if_neg c3, if_neg this, Int32.add_zero]
          rfl
      · have : ¬ shF M s a Bk k n = true := by
          unfold shF
          rw [decide_eq_false (fun z => c2 z.2), Bool.false_and]
          decide
        rw [if_neg (fun z => c2 (e.mp z.2)), if_neg this]
        rfl
theorem iter_shk {M : MS} {s a Bk X L : Nat} (h : okQ M s a X) (hX : X ≤ 4096) (h4 : M.1 4 = nI Bk) (hB : 1 ≤ Bk) (hB2 : Bk ≤ 32) (hL : L ≤ 32) : ∀ n, n ≤ Bk → iter (shkS M s a L) 0 n 0 = nI (mxF (fun k => cnB (shF M s a Bk k) L) n) := by
  intro n
  induction n with
  | zero => intro _; rfl
  | succ n ih =>
    intro hn
    rw [iter_last, ih (by omega), Nat.zero_add]
    unfold shkS
    rw [iter_shm h hX h4 hB hB2 (by omega) L hL]
    have b1 : mxF (fun k => cnB (shF M s a Bk k) L) n ≤ L := mxF_le _ L (fun k => cnB_le _ L) n
    have b2 := cnB_le (shF M s a Bk n) L
    show _ = nI (max (mxF (fun k => cnB (shF M s a Bk k) L) n) (cnB (shF M s a Bk n) L))
    by_cases c : cnB (shF M s a Bk n) L ≤ mxF (fun k => cnB (shF M s a Bk k) L) n
    · rw [if_pos (c_le c (by omega)), Nat.max_eq_left c]
    · rw [if_neg (c_nle (by omega) (by omega)), Nat.max_eq_right (by omega)]
/-- the coalescer: its sets of bits -/
def CO (V : CW) (co Bk b1 b2 : Nat) (S1 S2 : Nat → Bool) : Prop := kdV V co = 5 ∧ xi V 403 co 0 = nI Bk ∧ xr V 400 co 0 = some b1 ∧ xr V 401 co 0 = some b2 ∧ b1 ≠ b2 ∧ BS V b1 64 S1 ∧ BS V b2 8 S2
section C24
variable {nC nS n : Nat} {A : AH} {V V' : CW} {E : EL} {ad : AA} {M : MS} {P : PP} {co Bk b1 b2 : Nat} {S1 S2 : Nat → Bool}
theorem BS.vI {b m d a i : Nat} {S : Nat → Bool} {v : Int32} (h : BS V b m S) (hd : d ≠ 601) : BS (vI' V d a i v) b m S := by
  obtain ⟨h1, h2, h3, ⟨u, u1, u2, u3⟩, h5⟩ := h
  exact ⟨h1, h2, h3, ⟨u, u1, by rw [vIi, if_neg (fun z => hd z.1.symm)]; exact u2, u3⟩, h5⟩
theorem CO.vI {d a i : Nat} {v : Int32} (h : CO V co Bk b1 b2 S1 S2) (hd : d ≠ 601 ∧ d ≠ 403) : CO (vI' V d a i v) co Bk b1 b2 S1 S2 := by
  obtain ⟨h1, h2, h3, h4, h5, h6, h7⟩ := h
  exact ⟨h1, by rw [vIi, if_neg (fun z => hd.2 z.1.symm)]; exact h2, h3, h4, h5, h6.vI hd.1, h7.vI hd.1⟩
theorem CO.b1' {S1' : Nat → Bool} (h : CO V co Bk b1 b2 S1 S2) (hf : BF V V' b1) (hb : BS V' b1 64 S1') : CO V' co Bk b1 b2 S1' S2 := by
  obtain ⟨h1, h2, h3, h4, h5, h6, h7⟩ := h
  exact ⟨by rw [kdV, hf.1.1]; exact h1, by rw [hf.2.1 403 (by decide)]; exact h2, by rw [hf.1.2.1.1]; exact h3, by rw [hf.1.2.1.1]; exact h4, h5, hb, h7.o hf (fun z => h5 z.symm)⟩
theorem CO.b2' {S2' : Nat → Bool} (h : CO V co Bk b1 b2 S1 S2) (hf : BF V V' b2) (hb : BS V' b2 8 S2') : CO V' co Bk b1 b2 S1 S2' := by
  obtain ⟨h1, h2, h3, h4, h5, h6, h7⟩ := h
  exact ⟨by rw [kdV, hf.1.1]; exact h1, by rw [hf.2.1 403 (by decide)]; exact h2, by rw [hf.1.2.1.1]; exact h3, by rw [hf.1.2.1.1]; exact h4, h5, h6.o hf h5, hb⟩
theorem CX.bf {b : Nat} (hc : CX V ad M) (hf : BF V V' b) : CX V' ad M := hc.vv (fun d hd => hf.2.1 d (fun z => by
  subst z
  unfold cdC at hd
  revert hd
  decide))
theorem cd_scr {d : Nat} (h : scr d) : ¬ cdC d := by
  unfold scr at h
  unfold cdC
  rcases h with e | e | e | e | e | e <;> (subst e; decide)
theorem WT.cow (hw : WT V E) (hk : kdV V co = 5) : OW V 4 2 co 32 ∧ OW V 4 4 co 512 := ⟨hw.1 co 4 2 hk (by decide), hw.1 co 4 4 hk (by decide)⟩
theorem e4_begin (h : St nC nS A V) (cp : CP V E ad M P) (hco : CO V co Bk b1 b2 S1 S2) (cyc : Int32) (hn : 64 < n) : Res (fX4_begin n co cyc A) (fun A' => ∃ V', St nC nS A' V' ∧ IB V V' ∧ CX V' ad M ∧ CO V' co Bk b1 b2 (fun _ => false) (fun _ => false) ∧ (∀ k, k < 32 → xi V' 452 co k = 0) ∧ xi V' 405 co 0 = 0 ∧ xi V' 406 co 0 = 0 ∧ xi V' 407 co 0 = cyc + 1) := by
  unfold fX4_begin
  refine Res.b ((h.gr 0 (c := 4) hco.1 (by decide) rfl).trans (congrArg some hco.2.2.1)) (Res.b (h.rc hco.2.2.2.2.2.1.1) (Res.w (BS_clear h hco.2.2.2.2.2.1 hn) ?_))
  rintro A3 ⟨V3, s3, f3, d3⟩
  have co3 := hco.b1' f3 d3
  refine Res.b ((s3.gr 1 (c := 4) co3.1 (by decide) rfl).trans (congrArg some co3.2.2.2.1)) (Res.b (s3.rc co3.2.2.2.2.2.2.1) (Res.w (BS_clear s3 co3.2.2.2.2.2.2 hn) ?_))
  rintro A6 ⟨V6, s6, f6, d6⟩
  have co6 := co3.b2' f6 d6
  have i6 : IB V V6 := f3.1.tr f6.1
  have c6 : CX V6 ad M := (cp.1.bf f3).bf f6
  obtain ⟨y, y1, y2, y3⟩ := ((cp.2.2.1.iob i6).cow co6.1).1
  have y3 : xn V6 402 co = 32 := y3
  refine jl_R (fun d (g : Int32 → AH → Option AH) => ∀ k A9 V9, k + d = 32 → St nC nS A9 V9 → IB V6 V9 → CX V9 ad M → CO V9 co Bk b1 b2 (fun _ => false) (fun _ => false) → (∀ j, j < k → xi V9 452 co j = 0) → Res (g (nI k) A9) (fun A' => ∃ V', St nC nS A' V' ∧ IB V V' ∧ CX V' ad M ∧ CO V' co Bk b1 b2 (fun _ => false) (fun _ => false) ∧ (∀ k, k < 32 → xi V' 452 co k = 0) ∧ xi V' 405 co 0 = 0 ∧ xi V' 406 co 0 = 0 ∧ xi V' 407 co 0 = cyc + 1)) 32 (show 32 < n by omega) ?_ ?_ ?_
  · intro g k A9 V9 hk s9 i9 c9 co9 z9
    have hl : aLen A9 (some y) = some (nI 32) := by
      have := s9.ln (c := 4) (k := 2) (x := y) co9.1 (by decide) (by rw [i9.2.1.1]; exact y1) (by rw [i9.eq]; exact y2)
      rw [this]
      rw [i9.eq]
      show some (nI (xn V6 402 co)) = _
      rw [y3]
    refine Res.b ((s9.gr 2 (c := 4) co9.1 (by decide) rfl).trans (congrArg some (show xr V9 402 co 0 = some y by rw [i9.2.1.1]; exact y1))) (Res.b hl ?_)
    have ek : k = 32 := by omega
    subst ek
    rw [if_pos (Int32.le_refl _)]
    obtain ⟨A10, e10, s10⟩ := s9.pi 5 0 (c := 4) co9.1 (by decide) rfl
    obtain ⟨A11, e11, s11⟩ := s10.pi 6 0 (c := 4) co9.1 (by decide) rfl
    obtain ⟨A12, e12, s12⟩ := s11.pi 7 (cyc + 1) (c := 4) co9.1 (by decide) rfl
    refine Res.b e10 (Res.b e11 (Res.b e12 (Res.r ⟨_, s12, ?_, ?_, ?_, fun j hj => ?_, ?_, ?_, ?_⟩)))
    · exact (i6.tr i9).tr (((IV.vS (by unfold scr; omega)).tr (IV.vS (by unfold scr; omega))).tr (IV.vS (by unfold scr; omega))).b
    · exact ((c9.vIo (cd_scr (by unfold scr; omega))).vIo (cd_scr (by unfold scr; omega))).vIo (cd_scr (by unfold scr; omega))
    · exact ((co9.vI (by decide)).vI (by decide)).vI (by decide)
    · rw [vIi, if_neg (fun z => absurd z.1 (by decide)), vIi, if_neg (fun z => absurd z.1 (by decide)), vIi, if_neg (fun z => absurd z.1 (by decide))]
      exact z9 j hj
    · rw [vIi, if_neg (fun z => absurd z.1 (by decide)), vIi, if_neg (fun z => absurd z.1 (by decide)), vIi, if_pos ⟨rfl, rfl, rfl⟩]
    · rw [vIi, if_neg (fun z => absurd z.1 (by decide)), vIi, if_pos ⟨rfl, rfl, rfl⟩]
    · rw [vIi, if_pos ⟨rfl, rfl, rfl⟩]
  · intro d g hg k A9 V9 hk s9 i9 c9 co9 z9
    have hl : aLen A9 (some y) = some (nI 32) := by
      have := s9.ln (c := 4) (k := 2) (x := y) co9.1 (by decide) (by rw [i9.2.1.1]; exact y1) (by rw [i9.eq]; exact y2)
      rw [this]
      rw [i9.eq]
      show some (nI (xn V6 402 co)) = _
      rw [y3]
    refine Res.b ((s9.gr 2 (c := 4) co9.1 (by decide) rfl).trans (congrArg some (show xr V9 402 co 0 = some y by rw [i9.2.1.1]; exact y1))) (Res.b hl ?_)
    rw [if_neg (c_nle (by omega) (by omega)), nI_1]
    obtain ⟨A10, e10, s10⟩ := s9.si k 0 (c := 4) (k := 2) co9.1 rfl (x := y) (by rw [i9.2.1.1]; exact y1) (by rw [i9.eq]; exact y2) (by
      rw [i9.eq]
      show k < xn V6 402 co
      omega) (by omega)
    refine Res.b e10 (hg (k + 1) A10 _ (by omega) s10 (i9.tr (IV.vS (by unfold scr; omega)).b) (c9.vIo (cd_scr (by unfold scr; omega))) (co9.vI (by decide)) (fun j hj => ?_))
    show xi (vI' V9 452 co k 0) 452 co j = 0
    rw [vIi]
    by_cases e : j = k
    · rw [if_pos ⟨rfl, rfl, e⟩]
    · rw [if_neg (fun z => e z.2.2)]
      exact z9 j (by omega)
  · intro g hg
    exact hg 0 A6 V6 (by omega) s6 IB.rf c6 co6 (fun j hj => by omega)
end C24
