/-! C23: sets of bits -/
def bw (w : Int64) (k : Nat) : Bool := w.toBitVec.getLsbD k
theorem sft {q : Nat} (hq : q < 2 ^ 31) : ((Int32.toInt64 (nI q) &&& 63).toBitVec.smod 64).toNat = q % 64 := by
  have e : (Int32.toInt64 (nI q) &&& 63) = Int64.ofNat (q % 64) := by
    rw [nI_l hq]
    apply Int64.toBitVec_inj.mp
    apply BitVec.eq_of_toNat_eq
    rw [Int64.toBitVec_and, BitVec.toNat_and]
    show (BitVec.ofNat 64 q).toNat &&& (2 ^ 6 - 1) = (BitVec.ofNat 64 (q % 64)).toNat
    rw [BitVec.toNat_ofNat, BitVec.toNat_ofNat, Nat.mod_eq_of_lt (show q < 2 ^ 64 by omega), Nat.and_two_pow_sub_one_eq_mod, Nat.mod_eq_of_lt (show q % 64 < 2 ^ 64 by omega)]
  rw [e]
  have : ∀ r, r < 64 → ((Int64.ofNat r).toBitVec.smod 64).toNat = r := by decide
  exact this _ (Nat.mod_lt _ (by decide))
theorem shl64 (x : Int64) (k : Nat) (s : Int64) (hs : (s.toBitVec.smod 64).toNat = k) : (x <<< s).toBitVec = x.toBitVec <<< k := by
  rw [Int64.toBitVec_shiftLeft, BitVec.shiftLeft_eq', hs]
theorem bw_1 {q k : Nat} (hq : q < 2 ^ 31) (hk : k < 64) : bw ((1 : Int64) <<< (Int32.toInt64 (nI q) &&& 63)) k = decide (k = q % 64) := by
  unfold bw
  rw [shl64 1 (q % 64) _ (sft hq), show (1 : Int64).toBitVec = 1#64 from rfl, BitVec.getLsbD_shiftLeft]
  have hr : q % 64 < 64 := Nat.mod_lt _ (by decide)
  generalize q % 64 = j at *
  by_cases e : k = j
  · subst e
    simp [hk]
  · rw [decide_eq_false e]
    by_cases h : k < j
    · simp [h]
    · have : (1#64).getLsbD (k - j) = false := by
        rw [BitVec.getLsbD_one]
        simp
        omega
      rw [this, Bool.and_false]
theorem bw_or (x y : Int64) (k : Nat) : bw (x ||| y) k = (bw x k || bw y k) := by
  unfold bw
  rw [Int64.toBitVec_or, BitVec.getLsbD_or]
theorem bw_and (x y : Int64) (k : Nat) : bw (x &&& y) k = (bw x k && bw y k) := by
  unfold bw
  rw [Int64.toBitVec_and, BitVec.getLsbD_and]
theorem bw_0 (k : Nat) : bw 0 k = false := BitVec.getLsbD_zero
theorem bw_ext {x y : Int64} (h : ∀ k, k < 64 → bw x k = bw y k) : x = y := by
  apply Int64.toBitVec_inj.mp
  apply BitVec.eq_of_getLsbD_eq
  intro i hi
  exact h i hi
theorem bw_t {w : Int64} {q : Nat} (hq : q < 2 ^ 31) : (lg_cmp (w &&& ((1 : Int64) <<< (Int32.toInt64 (nI q) &&& 63))) 0 = 0) ↔ bw w (q % 64) = false := by
  have hc : ∀ x : Int64, lg_cmp x 0 = 0 ↔ x = 0 := by
    intro x
    unfold lg_cmp
    by_cases e : x = 0
    · subst e
      decide
    · constructor
      · intro h
        by_cases g : x > 0
        · rw [if_pos g] at h
          exact absurd h (by decide)
        · rw [if_neg g, if_neg e] at h
          exact absurd h (by decide)
      · intro h
        exact absurd h e
  rw [hc]
  have hr : q % 64 < 64 := Nat.mod_lt _ (by decide)
  constructor
  · intro h
    have := congrArg (fun z => bw z (q % 64)) h
    simp only [bw_and, bw_1 hq hr, bw_0, decide_true, Bool.and_true] at this
    exact this
  · intro h
    apply bw_ext
    intro k hk
    rw [bw_and, bw_1 hq hk, bw_0]
    by_cases e : k = q % 64
    · rw [e, h]; rfl
    · rw [decide_eq_false e, Bool.and_false]
/-- a set of bits with n words -/
def BS (V : CW) (b n : Nat) (S : Nat → Bool) : Prop := kdV V b = 7 ∧ n ≤ 64 ∧ OW V 6 0 b n ∧ (∃ u, u ≤ n ∧ xi V 601 b 0 = nI u ∧ ∀ i, u ≤ i → i < n → xw V 600 b i = 0) ∧ ∀ q, q < 64 * n → bw (xw V 600 b (q / 64)) (q % 64) = S q
/-- one set of bits changes -/
def BF (V V' : CW) (b : Nat) : Prop := IB V V' ∧ (∀ d, d ≠ 601 → xi V' d = xi V d) ∧ ∀ a, a ≠ b → xi V' 601 a = xi V 601 a ∧ xw V' 600 a = xw V 600 a
section C23
variable {nC nS n : Nat} {A : AH} {V V' : CW} {b m : Nat} {S : Nat → Bool}
theorem BF.rf : BF V V b := ⟨IB.rf, fun _ _ => rfl, fun _ _ => ⟨rfl, rfl⟩⟩
theorem BF.tr {V'' : CW} (h : BF V V' b) (h2 : BF V' V'' b) : BF V V'' b := ⟨h.1.tr h2.1, fun d hd => (h2.2.1 d hd).trans (h.2.1 d hd), fun a ha => ⟨(h2.2.2 a ha).1.trans (h.2.2 a ha).1, (h2.2.2 a ha).2.trans (h.2.2 a ha).2⟩⟩
theorem BF.u {v : Int32} : BF V (vI' V 601 b 0 v) b := ⟨IB.vU, fun d hd => by
  funext a i
  rw [vIi, if_neg (fun z => hd z.1)], fun a ha => ⟨by
  funext i
  rw [vIi, if_neg (fun z => ha z.2.1)], rfl⟩⟩
theorem BF.w {i : Nat} {v : Int64} : BF V (vW' V 600 b i v) b := ⟨IB.vW, fun _ _ => rfl, fun a ha => ⟨rfl, by
  funext j
  rw [vWw, if_neg (fun z => ha z.2.1)]⟩⟩
theorem BS.o {b' m : Nat} (h : BS V b' m S) (hf : BF V V' b) (hne : b' ≠ b) : BS V' b' m S := by
  obtain ⟨h1, h2, ⟨x, x1, x2, x3⟩, ⟨u, u1, u2, u3⟩, h5⟩ := h
  obtain ⟨i1, i2, i3⟩ := hf
  have e := i3 b' hne
  refine ⟨by rw [kdV, i1.1]; exact h1, h2, ⟨x, by rw [i1.2.1.1]; exact x1, by rw [i1.eq]; exact x2, by rw [i1.eq]; exact x3⟩, ⟨u, u1, by rw [e.1]; exact u2, by rw [e.2]; exact u3⟩, by rw [e.2]; exact h5⟩
theorem nI_le0 {u : Nat} (hu : u < 2 ^ 31) : nI u ≤ 0 ↔ u = 0 := by
  constructor
  · intro h
    apply Classical.byContradiction
    intro hn
    exact c_nle (a := u) (b := 0) (by omega) hu h
  · intro h
    subst h
    decide
theorem BS_inv (h : St nC nS A V) (hb : BS V b m S) : fJ17_checkInvariants b A = some () := by
  unfold fJ17_checkInvariants
  refine ob (h.gi 1 (c := 6) hb.1 (by decide) rfl) ?_
  rw [jn_eq, jn_eq, jn_eq, if_neg (fun z => absurd z.1 (by decide)), if_neg (by decide), if_neg (by decide)]
theorem BS_wi {q : Nat} (hq : q < 2 ^ 31) (A : AH) : fJ17_wordIndex (nI q) A = some (nI (q / 64)) := by
  unfold fJ17_wordIndex
  rw [pk_shrN hq _ 6 (by decide)]
theorem BS_get (h : St nC nS A V) (hb : BS V b m S) {q : Nat} (hq : q < 64 * m) : fJ17_get b (nI q) A = some (b2i (S q = true)) := by
  obtain ⟨h1, h2, ⟨x, x1, x2, x3⟩, ⟨u, u1, u2, u3⟩, h5⟩ := hb
  have hb : BS V b m S := ⟨h1, h2, ⟨x, x1, x2, x3⟩, ⟨u, u1, u2, u3⟩, h5⟩
  unfold fJ17_get
  rw [if_pos (show 0 ≤ nI q from c_le (a := 0) (by omega) (by omega))]
  refine ob (h.rc h1) (ob (BS_inv h hb) (ob (BS_wi (by omega) A) (ob ((h.gi 1 (c := 6) h1 (by decide) rfl).trans (congrArg some u2)) ?_)))
  rw [jn_eq, jn_eq]
  by_cases c : u ≤ q / 64
  · rw [if_pos (c_le c (by omega))]
    have : S q = false := by
      rw [← h5 q hq, u3 _ c (by omega), bw_0]
    rw [this, b2i_f (by decide)]
    rfl
  · rw [if_neg (c_nle (by omega) (by omega))]
    refine ob ((h.gr 0 (c := 6) h1 (by decide) rfl).trans (congrArg some x1)) (ob (h.al (q / 64) (c := 6) (k := 0) h1 rfl x1 x2 (by rw [x3]; omega) (by omega)) ?_)
    by_cases cs : S q = true
    · rw [if_neg (fun z => by have := (bw_t (by omega)).mp z; rw [h5 q hq, cs] at this; cases this), b2i_t cs]
      rfl
    · rw [if_pos ((bw_t (by omega)).mpr (by
        rw [h5 q hq]
        cases hh : S q with
        | false => rfl
        | true => exact absurd hh cs)), b2i_f cs]
      rfl
theorem BS_set (h : St nC nS A V) (hb : BS V b m S) {q : Nat} (hq : q < 64 * m) : Res (fJ17_set b (nI q) A) (fun A' => ∃ V', St nC nS A' V' ∧ BF V V' b ∧ BS V' b m (fun j => S j || decide (j = q))) := by
  obtain ⟨h1, h2, ⟨x, x1, x2, x3⟩, ⟨u, u1, u2, u3⟩, h5⟩ := hb
  unfold fJ17_set
  rw [if_pos (show 0 ≤ nI q from c_le (a := 0) (by omega) (by omega))]
  refine Res.b (BS_wi (by omega) A) (Res.b (h.rc h1) ?_)
  have hq64 : q / 64 < m := by omega
  have hexp : Res (fJ17_expandTo b (nI (q / 64)) A) (fun A4 => ∃ V4 u', St nC nS A4 V4 ∧ BF V V4 b ∧ xi V4 601 b 0 = nI u' ∧ u ≤ u' ∧ u' ≤ m ∧ q / 64 < u' ∧ xw V4 = xw V) := by
    unfold fJ17_expandTo
    refine Res.b ((h.gi 1 (c := 6) h1 (by decide) rfl).trans (congrArg some u2)) ?_
    rw [jn_eq, nI_1]
    by_cases c : q / 64 + 1 ≤ u
    · rw [if_pos (c_le c (by omega))]
      exact Res.r ⟨V, u, h, BF.rf, u2, Nat.le_refl _, u1, by omega, rfl⟩
    · rw [if_neg (c_nle (by omega) (by omega))]
      have hcap : fJ17_ensureCapacity b (nI (q / 64 + 1)) A = some () := by
        unfold fJ17_ensureCapacity
        refine ob ((h.gr 0 (c := 6) h1 (by decide) rfl).trans (congrArg some x1)) (ob ((h.ln (c := 6) (k := 0) h1 (by decide) x1 x2).trans (congrArg (fun z => some (nI z)) x3)) ?_)
        rw [jn_eq, if_pos (c_le (by omega) (by omega))]
      refine Res.b (h.rc h1) (Res.b hcap ?_)
      obtain ⟨A7, e7, s7⟩ := h.pi 1 (nI (q / 64 + 1)) (c := 6) h1 (by decide) rfl
      refine Res.b e7 (Res.r ⟨_, q / 64 + 1, s7, BF.u, ?_, by omega, by omega, by omega, rfl⟩)
      rw [vIi, if_pos ⟨rfl, rfl, rfl⟩]
  refine Res.w hexp ?_
  rintro A4 ⟨V4, u', s4, f4, e4, g1, g2, g3, g4⟩
  have k4 : kdV V4 b = 7 := by rw [kdV, f4.1.1]; exact h1
  have x1' : xr V4 600 b 0 = some x := by rw [f4.1.2.1.1]; exact x1
  have x2' : fr V4 x = none := by rw [f4.1.eq]; exact x2
  have x3' : xn V4 600 b = m := by rw [f4.1.eq]; exact x3
  refine Res.b ((s4.gr 0 (c := 6) k4 (by decide) rfl).trans (congrArg some x1')) (Res.b (s4.al (q / 64) (c := 6) (k := 0) k4 rfl x1' x2' (by show q / 64 < xn V4 600 b; omega) (by omega)) ?_)
  obtain ⟨A7, e7, s7⟩ := s4.sl (q / 64) (xw V4 600 b (q / 64) ||| ((1 : Int64) <<< (Int32.toInt64 (nI q) &&& 63))) (c := 6) (k := 0) k4 rfl x1' x2' (by show q / 64 < xn V4 600 b; omega) (by omega)
  have hbs : BS (vW' V4 600 b (q / 64) (xw V4 600 b (q / 64) ||| ((1 : Int64) <<< (Int32.toInt64 (nI q) &&& 63)))) b m (fun j => S j || decide (j = q)) := by
    refine ⟨k4, h2, ⟨x, x1', x2', x3'⟩, ⟨u', g2, e4, fun i hi1 hi2 => ?_⟩, fun j hj => ?_⟩
    · rw [vWw, if_neg (fun z => by omega), g4]
      exact u3 i (by omega) hi2
    · rw [vWw]
      by_cases e : j / 64 = q / 64
      · rw [if_pos ⟨rfl, rfl, e⟩, bw_or, bw_1 (by omega) (Nat.mod_lt _ (by decide)), g4, ← e, h5 j hj]
        refine congrArg (fun z => S j || z) ?_
        by_cases ej : j = q
        · rw [decide_eq_true ej, ej, decide_eq_true rfl]
        · rw [decide_eq_false ej, decide_eq_false (fun z => ej (by omega))]
      · rw [if_neg (fun z => e z.2.2), g4, h5 j hj]
        show S j = (S j || decide (j = q))
        rw [decide_eq_false (show ¬ j = q from fun z => e (by rw [z])), Bool.or_false]
  refine Res.b e7 (Res.b (s7.rc hbs.1) (Res.b (BS_inv s7 hbs) (Res.r ⟨_, s7, f4.tr BF.w, hbs⟩)))
theorem BS_clear (h : St nC nS A V) (hb : BS V b m S) (hn : 64 < n) : Res (fJ17_clear n b A) (fun A' => ∃ V', St nC nS A' V' ∧ BF V V' b ∧ BS V' b m (fun _ => false)) := by
  obtain ⟨h1, h2, ⟨x, x1, x2, x3⟩, ⟨u, u1, u2, u3⟩, h5⟩ := hb
  unfold fJ17_clear
  refine jl_R (fun d (g : AH → Option AH) => ∀ A4 V4, St nC nS A4 V4 → BF V V4 b → xi V4 601 b 0 = nI d → (∀ i, d ≤ i → i < m → xw V4 600 b i = 0) → d ≤ m → Res (g A4) (fun A' => ∃ V', St nC nS A' V' ∧ BF V V' b ∧ BS V' b m (fun _ => false))) u (show u < n by omega) ?_ ?_ ?_
  · intro g A4 V4 s4 f4 e4 z4 _
    have k4 : kdV V4 b = 7 := by rw [kdV, f4.1.1]; exact h1
    refine Res.b ((s4.gi 1 (c := 6) k4 (by decide) rfl).trans (congrArg some e4)) ?_
    rw [if_pos (show nI 0 ≤ 0 by decide)]
    refine Res.r ⟨V4, s4, f4, k4, h2, ⟨x, by rw [f4.1.2.1.1]; exact x1, by rw [f4.1.eq]; exact x2, by rw [f4.1.eq]; exact x3⟩, ⟨0, by omega, e4, z4⟩, fun q hq => ?_⟩
    rw [z4 _ (by omega) (by omega), bw_0]
  · intro d g hg A4 V4 s4 f4 e4 z4 hd
    have k4 : kdV V4 b = 7 := by rw [kdV, f4.1.1]; exact h1
    refine Res.b ((s4.gi 1 (c := 6) k4 (by decide) rfl).trans (congrArg some e4)) ?_
    rw [if_neg (fun z => by have := (nI_le0 (by omega)).mp z; omega)]
    refine Res.b ((s4.gr 0 (c := 6) k4 (by decide) rfl).trans (congrArg some (show xr V4 600 b 0 = some x by rw [f4.1.2.1.1]; exact x1))) ?_
    rw [nI_sub1 (by omega)]
    obtain ⟨A5, e5, s5⟩ := s4.pi 1 (nI (d + 1 - 1)) (c := 6) k4 (by decide) rfl
    refine Res.b e5 ?_
    have f5 : BF V (vI' V4 601 b 0 (nI (d + 1 - 1))) b := f4.tr BF.u
    obtain ⟨A6, e6, s6⟩ := s5.sl d 0 (c := 6) (k := 0) (a := b) (x := x) k4 rfl (by rw [f5.1.2.1.1]; exact x1) (by rw [f5.1.eq]; exact x2) (by
      rw [f5.1.eq]
      show d < xn V 600 b
      have x3 : xn V 600 b = m := x3
      omega) (by omega)
    refine Res.b e6 (hg A6 _ s6 (f5.tr BF.w) ?_ (fun i hi1 hi2 => ?_) (by omega))
    · show xi (vI' V4 601 b 0 (nI (d + 1 - 1))) 601 b 0 = nI d
      rw [vIi, if_pos ⟨rfl, rfl, rfl⟩]
      rfl
    · rw [vWw]
      by_cases e : i = d
      · rw [if_pos ⟨rfl, rfl, e⟩]
      · rw [if_neg (fun z => e z.2.2)]
        exact z4 i (by omega) hi2
  · intro g hg
    exact hg A V h BF.rf u2 u3 u1
end C23
