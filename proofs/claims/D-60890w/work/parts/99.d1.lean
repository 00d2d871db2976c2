/-! D1: what holds in the model all the time -/
/-- an ask that is on its way -/
def PK (M : MS) (lo B k : Nat) : Prop := ∃ s i bk tm ms, (s < 128 ∧ i < 32 ∧ bk < 64) ∧ (M.2.1 20 k = nI (32 * (128 * bk + s) + i) ∧ M.2.1 9 s = nI bk ∧ lnI M s i ∧ M.2.1 16 (32 * s + i) = 0) ∧ (M.2.1 19 k = nI tm ∧ M.2.1 11 s = nI ms ∧ lo ≤ tm ∧ tm ≤ ms ∧ ms ≤ B + 300) ∧ M.1 42 ≤ M.2.1 19 k
def PD (M : MS) (lo B : Nat) : Prop := ∃ p, p ≤ 4096 ∧ M.1 41 = nI p ∧ (∀ k, k < p → PK M lo B k) ∧ ∀ k k', k < p → k' < p → M.2.1 20 k = M.2.1 20 k' → k = k'
def MI0 (M : MS) (c B : Nat) : Prop := (M.1 15 = nI c ∧ c ≤ 20000 ∧ c ≤ B ∧ B ≤ 30000000) ∧ (∀ t, M.2.1 16 t = 0 ∨ M.2.1 17 t = 0) ∧ (∀ s s', s < 128 → s' < 128 → M.2.1 9 s = M.2.1 9 s' → ¬ M.2.1 9 s = -1 → s / 16 = s' / 16) ∧ (∀ s, s < 128 → M.2.1 9 s = -1 ∨ ∃ bk, bk < 64 ∧ M.2.1 9 s = nI bk) ∧ (∀ g, g < 8 → ∃ t, t ≤ B ∧ M.2.1 4 g = nI t)
def MI (M : MS) (c lo B : Nat) : Prop := MI0 M c B ∧ PD M lo B
section D1
variable {M N N' : MS} {c lo B : Nat}
theorem PK.fr {k : Nat} (h : PK M lo B k) (e1 : N.1 1 = M.1 1) (e13 : N.1 13 = M.1 13) (e42 : N.1 42 ≤ N.2.1 19 k) (e20 : N.2.1 20 k = M.2.1 20 k) (e19 : N.2.1 19 k = M.2.1 19 k) (e : ∀ s i bk, s < 128 → i < 32 → bk < 64 → M.2.1 20 k = nI (32 * (128 * bk + s) + i) → M.2.1 9 s = nI bk → N.2.1 9 s = M.2.1 9 s ∧ N.2.1 10 s = M.2.1 10 s ∧ N.2.1 11 s = M.2.1 11 s ∧ N.2.1 16 (32 * s + i) = M.2.1 16 (32 * s + i)) : PK N lo B k := by
  obtain ⟨s, i, bk, tm, ms, ⟨a1, a2, a3⟩, ⟨b1, b2, b3, b4⟩, ⟨c1, c2, c3, c4, c5⟩, d⟩ := h
  obtain ⟨f1, f2, f3, f4⟩ := e s i bk a1 a2 a3 b1 b2
  refine ⟨s, i, bk, tm, ms, ⟨a1, a2, a3⟩, ⟨e20.trans b1, f1.trans b2, ?_, f4.trans b4⟩, ⟨e19.trans c1, f3.trans c2, c3, c4, c5⟩, e42⟩
  unfold lnI at b3 ⊢
  rw [e1, e13, f2]
  exact b3
theorem PK.up {k lo' B' : Nat} (h : PK M lo B k) (hb : B ≤ B') (hl : lo' ≤ lo) : PK M lo' B' k := by
  obtain ⟨s, i, bk, tm, ms, a, b, ⟨c1, c2, c3, c4, c5⟩, d⟩ := h
  exact ⟨s, i, bk, tm, ms, a, b, ⟨c1, c2, by omega, c4, by omega⟩, d⟩
theorem MI0.fr {ks js : List Nat} (h : MI0 M c B) (hf : frm ks js M N) (h15 : 15 ∉ ks) (hj : 4 ∉ js ∧ 9 ∉ js ∧ 16 ∉ js ∧ 17 ∉ js) : MI0 N c B := by
  unfold MI0 at h ⊢
  rw [hf.1 15 h15, hf.2.1 4 hj.1, hf.2.1 9 hj.2.1, hf.2.1 16 hj.2.2.1, hf.2.1 17 hj.2.2.2]
  exact h
theorem MI.fr {ks js : List Nat} (h : MI M c lo B) (hf : frm ks js M N) (hk : 1 ∉ ks ∧ 13 ∉ ks ∧ 15 ∉ ks ∧ 41 ∉ ks ∧ 42 ∉ ks) (hj : 4 ∉ js ∧ 9 ∉ js ∧ 10 ∉ js ∧ 11 ∉ js ∧ 16 ∉ js ∧ 17 ∉ js ∧ 19 ∉ js ∧ 20 ∉ js) : MI N c lo B := by
  obtain ⟨j4, j9, j10, j11, j16, j17, j19, j20⟩ := hj
  refine ⟨h.1.fr hf hk.2.2.1 ⟨j4, j9, j16, j17⟩, ?_⟩
  obtain ⟨p, p1, p2, p3, p4⟩ := h.2
  refine ⟨p, p1, by rw [hf.1 41 hk.2.2.2.1]; exact p2, fun k hk' => ?_, by rw [hf.2.1 20 j20]; exact p4⟩
  have hd : M.1 42 ≤ M.2.1 19 k := by
    obtain ⟨_, _, _, _, _, _, _, _, d⟩ := p3 k hk'
    exact d
  exact (p3 k hk').fr (hf.1 1 hk.1) (hf.1 13 hk.2.1) (by rw [hf.1 42 hk.2.2.2.2, hf.2.1 19 j19]; exact hd) (by rw [hf.2.1 20 j20]) (by rw [hf.2.1 19 j19]) (fun s i _ _ _ _ _ _ => ⟨by rw [hf.2.1 9 j9], by rw [hf.2.1 10 j10], by rw [hf.2.1 11 j11], by rw [hf.2.1 16 j16]⟩)
theorem MI.up {B' : Nat} (h : MI M c lo B) (hb : B ≤ B') (hB : B' ≤ 30000000) : MI M c lo B' := by
  obtain ⟨⟨⟨a1, a2, a3, a4⟩, b1, b2, b3, b4⟩, p, p1, p2, p3, p4⟩ := h
  exact ⟨⟨⟨a1, a2, by omega, hB⟩, b1, b2, b3, fun g hg => by
    obtain ⟨t, t1, t2⟩ := b4 g hg
    exact ⟨t, by omega, t2⟩⟩, p, p1, p2, fun k hk => (p3 k hk).up hb (Nat.le_refl _), p4⟩
/-- what is due is done: the rest is later -/
theorem MI.pend {p : Nat} (h : MI M c c B) (hp : M.1 41 = nI p) (hp2 : p ≤ 4096) : MI (z_pend M p) c (c + 1) B := by
  obtain ⟨h0, p', q1, q2, q3, q4⟩ := h
  have ep : p' = p := (nI_eq (by omega) (by omega)).mp (q2.symm.trans hp)
  subst ep
  have h15 := h0.1.1
  have hc := h0.1.2.1
  have hB := h0.1.2.2.2
  unfold z_pend
  by_cases cc : M.1 42 ≤ M.1 15
  · rw [if_pos cc]
    obtain ⟨i1, i2, i3, i4, i5, i6⟩ := pdI M p'
    generalize iter pdS 0 p' (0, mI M 42 2147483647) = Y at *
    have f0 : frm [41, 42] [2, 13, 19, 20, 21, 22, 23, 24] M (pdE Y) := (i2.up (by decide) (by decide)).mI (by decide)
    have e42 : (pdE Y).1 42 = Y.2.1 42 := by
      show (mI Y.2 41 (nI Y.1)).1 42 = _
      rw [mI_g, if_neg (by decide)]
    have ej : ∀ j, (pdE Y).2.1 j = Y.2.2.1 j := fun j => rfl
    refine ⟨h0.fr f0 (by decide) (by decide), cnB (kpB M) p', ?_, ?_, fun k hk => ?_, fun k k' hk hk' he => ?_⟩
    · have := cnB_le (kpB M) p'
      omega
    · show (mI Y.2 41 (nI Y.1)).1 41 = _
      rw [mI_g, if_pos rfl, i1]
    · obtain ⟨k0, z1, z2, z3⟩ := cnB_ex (f := kpB M) p' hk
      obtain ⟨s, i, bk, tm, ms, ⟨a1, a2, a3⟩, ⟨b1, b2, b3, b4⟩, ⟨c1, c2, c3, c4, c5⟩, d⟩ := q3 k0 z1
      have e20 : (pdE Y).2.1 20 k = M.2.1 20 k0 := by rw [ej, ← z3]; exact i5 20 k0 (by omega) (by omega) z1 z2
      have e19 : (pdE Y).2.1 19 k = M.2.1 19 k0 := by rw [ej, ← z3]; exact i5 19 k0 (by omega) (by omega) z1 z2
      have hlt : M.1 15 < M.2.1 19 k0 := of_decide_eq_true z2
      rw [h15, c1] at hlt
      have hct : c < tm := (nI_ltI (by omega) (by omega)).mp hlt
      refine ⟨s, i, bk, tm, ms, ⟨a1, a2, a3⟩, ⟨e20.trans b1, by rw [f0.a 9]; exact b2, ?_, by rw [f0.a 16]; exact b4⟩, ⟨e19.trans c1, by rw [f0.a 11]; exact c2, by omega, c4, c5⟩, ?_⟩
      · unfold lnI at b3 ⊢
        rw [f0.f 1, f0.f 13, f0.a 10]
        exact b3
      · rw [e42, e19]
        exact i6 k0 z1 z2
    · obtain ⟨k0, z1, z2, z3⟩ := cnB_ex (f := kpB M) p' hk
      obtain ⟨k1, y1, y2, y3⟩ := cnB_ex (f := kpB M) p' hk'
      have e20 : (pdE Y).2.1 20 k = M.2.1 20 k0 := by rw [ej, ← z3]; exact i5 20 k0 (by omega) (by omega) z1 z2
      have e20' : (pdE Y).2.1 20 k' = M.2.1 20 k1 := by rw [ej, ← y3]; exact i5 20 k1 (by omega) (by omega) y1 y2
      rw [e20, e20'] at he
      have := q4 k0 k1 z1 y1 he
      rw [← z3, ← y3, this]
  · rw [if_neg cc]
    refine ⟨h0, p', q1, q2, fun k hk => ?_, q4⟩
    obtain ⟨s, i, bk, tm, ms, a, b, ⟨c1, c2, c3, c4, c5⟩, d⟩ := q3 k hk
    refine ⟨s, i, bk, tm, ms, a, b, ⟨c1, c2, ?_, c4, c5⟩, d⟩
    have hlt : M.1 15 < M.2.1 19 k := Int32.lt_of_lt_of_le (Int32.not_le.mp cc) d
    rw [h15, c1] at hlt
    have hct : c < tm := (nI_ltI (by omega) (by omega)).mp hlt
    omega
/-- a block begins -/
theorem MI.beg {u nx W S : Nat} (h : MI M c lo B) (hnx : nx < 64) (hbl : blL M nx) (hu : u < 8) (hS : S ≤ 16) : MI (mI (z_begin M u nx W S) 14 (nI (nx + 1))) c lo B := by
  obtain ⟨f0, f1, f2, _⟩ := begin_P M u nx W S hnx
  have hb9 := blL_beg (u := u) (W := W) (S := S) hbl hnx
  have hf : frm [14] [] (z_begin M u nx W S) (mI (z_begin M u nx W S) 14 (nI (nx + 1))) := frm.rf.mI (by decide)
  refine MI.fr ?_ hf (by decide) (by decide)
  clear hf
  obtain ⟨⟨a, b1, b2, b3, b4⟩, p, p1, p2, p3, p4⟩ := h
  have hfree : ∀ q, tkn M u W S q → M.2.1 9 q = -1 := fun q ⟨k, e, _, z, _⟩ => by rw [e]; exact of_decide_eq_true z
  refine ⟨⟨by rw [f0.f 15]; exact a, fun t => ?_, fun s s' hs hs' he hn => ?_, fun s hs => ?_, by rw [f0.a 4]; exact b4⟩, p, p1, by rw [f0.f 41]; exact p2, fun k hk => ?_, by rw [f0.a 20]; exact p4⟩
  · have et : 32 * (t / 32) + t % 32 = t := by omega
    by_cases cc : tkn M u W S (t / 32)
    · obtain ⟨k, e, hk, z1, z2⟩ := cc
      have := ((f1 k hk z1 z2).2.2.2.2 (t % 32) (by omega)).1 16 (by omega) (by omega)
      rw [← e, et] at this
      exact Or.inl this
    · have := (f2 _ cc).2.2.2.2 (t % 32) (by omega)
      rw [et] at this
      rw [this.1 16 (by omega) (by omega), this.1 17 (by omega) (by omega)]
      exact b1 t
  · by_cases cc : tkn M u W S s
    · obtain ⟨k, e, hk, z1, z2⟩ := cc
      by_cases cc' : tkn M u W S s'
      · obtain ⟨k', e', hk', _⟩ := cc'
        omega
      · exfalso
        rw [(f2 s' cc').1, e, (f1 k hk z1 z2).1] at he
        exact absurd (hbl s' nx hs' hnx he.symm) (Nat.lt_irrefl _)
    · by_cases cc' : tkn M u W S s'
      · exfalso
        obtain ⟨k, e, hk, z1, z2⟩ := cc'
        rw [(f2 s cc).1, e, (f1 k hk z1 z2).1] at he
        exact absurd (hbl s nx hs hnx he) (Nat.lt_irrefl _)
      · rw [(f2 s cc).1, (f2 s' cc').1] at he
        rw [(f2 s cc).1] at hn
        exact b2 s s' hs hs' he hn
  · by_cases cc : tkn M u W S s
    · obtain ⟨k, e, hk, z1, z2⟩ := cc
      exact Or.inr ⟨nx, hnx, by rw [e]; exact (f1 k hk z1 z2).1⟩
    · rw [(f2 s cc).1]
      exact b3 s hs
  · have hd : M.1 42 ≤ M.2.1 19 k := by
      obtain ⟨_, _, _, _, _, _, _, _, d⟩ := p3 k hk
      exact d
    refine (p3 k hk).fr (f0.f 1) (f0.f 13) (by rw [f0.f 42, f0.a 19]; exact hd) (by rw [f0.a 20]) (by rw [f0.a 19]) (fun s i bk hs hi hbk _ h9 => ?_)
    have cc : ¬ tkn M u W S s := fun z => by
      have := hfree s z
      rw [h9] at this
      have h2 := nI_pos' (n := bk) (by omega)
      rw [this] at h2
      exact absurd h2 (by decide)
    have := f2 s cc
    exact ⟨this.1, this.2.1, this.2.2.1, (this.2.2.2.2 i hi).1 16 (by omega) (by omega)⟩
theorem MI.disp {U S W : Nat} (hU : U ≤ 8) (hS : S ≤ 16) : ∀ (d nx : Nat) (M : MS), nx + d ≤ 64 → blL M nx → MI M c lo B → MI (z_disp U S W d nx M) c lo B ∧ ∃ nx', nx ≤ nx' ∧ nx' ≤ nx + d ∧ blL (z_disp U S W d nx M) nx' ∧ (M.1 14 = nI nx → (z_disp U S W d nx M).1 14 = nI nx') ∧ (∀ k, k ≠ 14 → (z_disp U S W d nx M).1 k = M.1 k) ∧ (z_disp U S W d nx M).2.2 = M.2.2
  | 0, nx, M, _, hb, h => ⟨h, nx, Nat.le_refl _, Nat.le_refl _, hb, fun z => z, fun _ _ => rfl, rfl⟩
  | d + 1, nx, M, hd, hb, h => by
    unfold z_disp
    cases e : fuF M W S 0 U with
    | none => exact ⟨h, nx, Nat.le_refl _, by omega, hb, fun z => z, fun _ _ => rfl, rfl⟩
    | some u =>
      have hu := (fuF_lt e).2
      have f0 := (begin_P M u nx W S (by omega)).1
      have hb' : blL (mI (z_begin M u nx W S) 14 (nI (nx + 1))) (nx + 1) := blL_beg hb (by omega)
      obtain ⟨r1, nx', r2, r3, r4, r5, r6, r7⟩ := MI.disp hU hS d (nx + 1) _ (by omega) hb' (h.beg (by omega) hb (by omega) hS)
      refine ⟨r1, nx', by omega, by omega, r4, fun _ => r5 (by rw [mI_g, if_pos rfl]), fun k hk => ?_, r7.trans f0.2.2⟩
      rw [r6 k hk, mI_g, if_neg hk, f0.1 k List.not_mem_nil]
/-- so many at most -/
theorem pigeon {Q : Nat → Bool} : ∀ (N p : Nat) (f : Nat → Nat), (∀ k k', k < p → k' < p → f k = f k' → k = k') → (∀ k, k < p → f k < N ∧ Q (f k) = true) → p ≤ cnB Q N
  | 0, p, f, _, h => by
    by_cases e : p = 0
    · omega
    · have := (h 0 (by omega)).1
      omega
  | N + 1, p, f, hi, h => by
    rw [cnB_s]
    by_cases c : ∃ k, k < p ∧ f k = N
    · obtain ⟨k0, h1, h2⟩ := c
      have hq : Q N = true := by rw [← h2]; exact (h k0 h1).2
      rw [if_pos hq]
      have := pigeon N (p - 1) (fun k => if k < k0 then f k else f (k + 1)) (fun k k' hk hk' he => by
        by_cases a : k < k0 <;> by_cases b : k' < k0
        · simp only [a, b, if_true] at he
          exact hi k k' (by omega) (by omega) he
        · simp only [a, b, if_true, if_false] at he
          have := hi k (k' + 1) (by omega) (by omega) he
          omega
        · simp only [a, b, if_true, if_false] at he
          have := hi (k + 1) k' (by omega) (by omega) he
          omega
        · simp only [a, b, if_false] at he
          have := hi (k + 1) (k' + 1) (by omega) (by omega) he
          omega) (fun k hk => by
        by_cases a : k < k0
        · simp only [a, if_true]
          have := h k (by omega)
          refine ⟨?_, this.2⟩
          have h3 : f k ≠ N := fun z => by
            have := hi k k0 (by omega) h1 (z.trans h2.symm)
            omega
          omega
        · simp only [a, if_false]
          have := h (k + 1) (by omega)
          refine ⟨?_, this.2⟩
          have h3 : f (k + 1) ≠ N := fun z => by
            have := hi (k + 1) k0 (by omega) h1 (z.trans h2.symm)
            omega
          omega)
      omega
    · have := pigeon N p f hi (fun k hk => by
        have h3 := h k hk
        have : f k ≠ N := fun z => c ⟨k, hk, z⟩
        exact ⟨by omega, h3.2⟩)
      omega
/-- nothing of a slot whose memory tick is past is on its way -/
theorem MI.none {s p k : Nat} (h : MI M c (c + 1) B) (hp : M.1 41 = nI p) (hp2 : p ≤ 4096) (hk : k < p) (hs : s < 128) (hm : M.2.1 11 s ≤ M.1 15) : ∀ i bk, i < 32 → bk < 64 → M.2.1 20 k ≠ nI (32 * (128 * bk + s) + i) := by
  intro i bk hi hbk he
  obtain ⟨⟨⟨h15, hc, hcB, hB⟩, _⟩, p', q1, q2, q3, q4⟩ := h
  have ep : p' = p := (nI_eq (by omega) (by omega)).mp (q2.symm.trans hp)
  subst ep
  obtain ⟨s', i', bk', tm, ms, ⟨a1, a2, a3⟩, ⟨b1, b2, b3, b4⟩, ⟨c1, c2, c3, c4, c5⟩, d⟩ := q3 k hk
  rw [he] at b1
  have e := (nI_eq (by omega) (by omega)).mp b1
  have es : s' = s := by omega
  subst es
  rw [c2, h15, nI_leI (by omega) (by omega)] at hm
  omega
theorem cnB_4064 (s : Nat) (hs : s < 128) : cnB (fun t => decide (¬ t / 32 = s)) 4096 ≤ 4064 := by
  have h1 := cnB_add (fun t => decide (¬ t / 32 = s)) (32 * s) (4096 - 32 * s)
  have h2 := cnB_add (fun i => decide (¬ (32 * s + i) / 32 = s)) 32 (4096 - 32 * s - 32)
  have h3 : cnB (fun i => decide (¬ (32 * s + i) / 32 = s)) 32 = cnB (fun _ => false) 32 := cnB_c 32 (fun i hi => decide_eq_false (by omega))
  have h4 : cnB (fun _ => false) 32 = 0 := by decide
  have h5 := cnB_le (fun t => decide (¬ t / 32 = s)) (32 * s)
  have h6 := cnB_le (fun i => decide (¬ (32 * s + (32 + i)) / 32 = s)) (4096 - 32 * s - 32)
  rw [show 32 * s + (4096 - 32 * s) = 4096 by omega] at h1
  rw [show 32 + (4096 - 32 * s - 32) = 4096 - 32 * s by omega] at h2
  omega
theorem MI.room {s p : Nat} (h : MI M c (c + 1) B) (hp : M.1 41 = nI p) (hp2 : p ≤ 4096) (hs : s < 128) (hm : M.2.1 11 s ≤ M.1 15) : p + 32 ≤ 4096 := by
  have h' := h
  obtain ⟨_, p', q1, q2, q3, q4⟩ := h'
  have ep : p' = p := (nI_eq (by omega) (by omega)).mp (q2.symm.trans hp)
  subst ep
  have key : ∀ k, ∃ t, k < p' → ∃ bk, t < 4096 ∧ ¬ t / 32 = s ∧ bk < 64 ∧ M.2.1 20 k = nI (32 * (128 * bk + t / 32) + t % 32) ∧ M.2.1 9 (t / 32) = nI bk := by
    intro k
    by_cases cc : k < p'
    · obtain ⟨s', i', bk', tm, ms, ⟨a1, a2, a3⟩, ⟨b1, b2, b3, b4⟩, _⟩ := q3 k cc
      refine ⟨32 * s' + i', fun _ => ⟨bk', by omega, fun z => ?_, a3, ?_, ?_⟩⟩
      · have es : s' = s := by omega
        subst es
        exact h.none hp hp2 cc hs hm i' bk' a2 a3 b1
      · rw [show (32 * s' + i') / 32 = s' by omega, show (32 * s' + i') % 32 = i' by omega]; exact b1
      · rw [show (32 * s' + i') / 32 = s' by omega]; exact b2
    · exact ⟨0, fun z => absurd z cc⟩
  have hsp := fun k => Classical.choose_spec (key k)
  have := pigeon (Q := fun t => decide (¬ t / 32 = s)) 4096 p' (fun k => Classical.choose (key k)) (fun k k' hk hk' he => by
    obtain ⟨bk, y1, y2, y3, y4, y5⟩ := hsp k hk
    obtain ⟨bk', z1, z2, z3, z4, z5⟩ := hsp k' hk'
    have he : Classical.choose (key k) = Classical.choose (key k') := he
    rw [he] at y4 y5
    have eb : bk = bk' := (nI_eq (by omega) (by omega)).mp (y5.symm.trans z5)
    rw [eb, ← z4] at y4
    exact q4 k k' hk hk' y4) (fun k hk => by
    obtain ⟨bk, y1, y2, _⟩ := hsp k hk
    exact ⟨y1, decide_eq_true y2⟩)
  have h4 := cnB_4064 s hs
  omega
end D1
