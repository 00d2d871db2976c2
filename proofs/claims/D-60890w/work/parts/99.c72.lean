/-! C72: a block begins: what is tied to the model, the ints -/
/-- all that is known when a block has been drawn and a unit has taken it -/
def BgH (V : CW) (E : EL) (ad : AA) (M : MS) (P : PP) (V2 : CW) (E1 : EL) (r1 : AA) (u nx b Th W : Nat) (sl : Nat → Nat) : Prop :=
  CP V E ad M P ∧
  ((∀ a, kdV V a ≠ 0 → kdV V2 a = kdV V a ∧ (¬ PM V E P a → ∀ d, xi V2 d a = xi V d a ∧ xw V2 d a = xw V d a ∧ xn V2 d a = xn V d a ∧ (d ≠ 850 → xr V2 d a = xr V d a))) ∧ fr V2 = fr V ∧ sa V2 = sa V) ∧
  (∀ a c k, kdV V a = c + 1 → lof c k ≠ 0 → c ≠ 2 → ¬ PM V E P a → lt V2 E1 c k a = lt V E c k a ∧ cpL V2 E1 c k a = cpL V E c k a) ∧
  (∀ c q o, (c = 12 ∨ c = 13 ∨ c = 14) → ad c q = some o → ¬ PM V E P o) ∧
  (BIx V2 E1 r1 sl nx b (P 6) Th W ∧ RWx ad r1 sl nx b W) ∧
  ((∀ i, i < W → ∃ k, k < P 7 ∧ sl i = 16 * u + k ∧ frB M u k = true ∧ cnB (frB M u) k = i) ∧ nx < 64 ∧ ad 12 nx = none ∧ u < P 8 ∧ M.1 13 = nI Th ∧ Th ≤ 512 ∧ (∀ j, P 6 * j < Th ↔ j < W) ∧ W = P 10)
theorem PM_kd {V : CW} {E : EL} {P : PP} (hw : WT V E) (hg : GL V E) (hP : kdV V (P 2) = 3) {a : Nat} (h : PM V E P a) : kdV V a = 1 ∨ kdV V a = 13 ∨ kdV V a = 14 ∨ kdV V a = 15 := by
  rcases h with ⟨z, _⟩ | ⟨k, hk, z⟩ | ⟨k, x, hk, z1, z2⟩
  · exact Or.inl z
  · have := pool_kd hw hg hP hk z
    omega
  · have hx := pool_kd hw hg hP (k := k) (by omega) z1
    rw [show 1202 + 100 * k = 100 * (12 + k) + 2 by omega] at z2
    obtain ⟨l0, y1, y2, _⟩ := hw.2.1 x (12 + k) 2 hx (lof_cc (by omega)).1
    have : l0 = a := Option.some.inj (y1.symm.trans z2)
    subst this
    exact Or.inl y2
/-- lists of those that are not in the pool -/
theorem nPM_l {V : CW} {E : EL} {P : PP} (hw : WT V E) (hg : GL V E) (hP : kdV V (P 2) = 3) {a c k ll : Nat} (ha : kdV V a = c + 1) (hk : lof c k ≠ 0) (hc : c ≠ 2) (hll : xr V (100 * c + k) a 0 = some ll) (hna : ¬ PM V E P a) : ¬ PM V E P ll := by
  obtain ⟨l0, y1, y2, _⟩ := hw.2.1 a c k ha hk
  have : l0 = ll := Option.some.inj (y1.symm.trans hll)
  subst this
  rintro (⟨_, j, hj, z2⟩ | ⟨j, hj, z⟩ | ⟨j, x, hj, z1, z2⟩)
  · exact hc (hw.2.2 a c k (P 2) 2 j l0 ha hP hk (lof2 hj) hll z2).2.1
  · have := pool_kd hw hg hP hj z
    omega
  · have hx := pool_kd hw hg hP (k := j) (by omega) z1
    rw [show 1202 + 100 * j = 100 * (12 + j) + 2 by omega] at z2
    have := (hw.2.2 x (12 + j) 2 a c k l0 hx ha (lof_cc (by omega)).1 hk z2 hll).1
    rw [this] at z1
    exact hna (Or.inr (Or.inl ⟨j, by omega, z1⟩))
section C72
variable {nC nS n : Nat} {A A' : AH} {V V1 V2 : CW} {E E1 : EL} {ad r1 : AA} {M : MS} {P : PP} {u nx b Th W : Nat} {sl : Nat → Nat}
theorem BgH.P2 (g : BgH V E ad M P V2 E1 r1 u nx b Th W sl) : kdV V (P 2) = 3 := g.1.2.2.2.kk g.1.2.2.2.2.2.1.1.2.2.1
/-- taken slots are the new ones -/
theorem BgH.tk (g : BgH V E ad M P V2 E1 r1 u nx b Th W sl) (q : Nat) : tkn M u W (P 7) q ↔ ∃ i, i < W ∧ q = sl i := by
  obtain ⟨_, _, _, _, _, g1, _⟩ := g
  constructor
  · rintro ⟨k, a1, a2, a3, a4⟩
    obtain ⟨k', b1, b2, b3, b4⟩ := g1 _ a4
    have := cnB_uq b3 a3 b4
    subst this
    exact ⟨_, a4, a1.trans b2.symm⟩
  · rintro ⟨i, hi, e⟩
    obtain ⟨k', b1, b2, b3, b4⟩ := g1 i hi
    exact ⟨k', e.trans b2, b1, b3, by omega⟩
/-- the model's side of a new slot -/
theorem BgH.nw (g : BgH V E ad M P V2 E1 r1 u nx b Th W sl) {i : Nat} (hi : i < W) : sl i < 128 ∧ sl i / 16 = u ∧ sl i % 16 < P 7 ∧ slN (z_begin M u nx W (P 7)) (sl i) nx i ∧ ad 13 (sl i) = none ∧ (∀ t, t / 32 = sl i → ad 14 t = none) ∧ ∃ w, (lt V2 E1 12 2 b)[i]? = some w ∧ r1 13 (sl i) = some w ∧ NWx V2 E1 r1 (sl i) w b (nI i) (min (P 6) (Th - P 6 * i)) := by
  obtain ⟨cp, _, _, _, ⟨bi, _⟩, g1, h2, _, h4, _⟩ := g
  have hs := cp.2.2.2
  have hP7 := hs.2.2.2.2.2.2.2.2.1.2.1
  have hP8 := hs.2.2.2.2.2.2.2.2.1.2.2.1
  obtain ⟨k, b1, b2, b3, b4⟩ := g1 i hi
  have hm := (begin_P M u nx W (P 7) h2).2.1 k b1 b3 (by omega)
  rw [b4, ← b2] at hm
  have h13 : ad 13 (sl i) = none := by
    cases e : ad 13 (sl i) with
    | none => rfl
    | some w =>
      obtain ⟨bk, bb, c1, c2, _⟩ := hs.bl e
      have h9 : M.2.1 9 (16 * u + k) = -1 := of_decide_eq_true b3
      rw [← b2, c2] at h9
      have := nI_pos' (n := bk) (by omega)
      rw [h9] at this
      exact absurd this (by decide)
  obtain ⟨w, hw⟩ := lt_ge (l := lt V2 E1 12 2 b) (i := i) (by rw [bi.2.2.2.2.1]; exact hi)
  have nw := bi.2.2.2.2.2 i w hw
  refine ⟨by omega, by omega, by omega, hm, h13, fun t ht => ?_, w, hw, nw.2.1, nw⟩
  cases e : ad 14 t with
  | none => rfl
  | some l =>
    obtain ⟨w', hw'⟩ := hs.2.2.2.2.2.1.2 t l e
    rw [ht, h13] at hw'
    cases hw'
theorem BgH.l13 (g : BgH V E ad M P V2 E1 r1 u nx b Th W sl) {s w : Nat} (h : r1 13 s = some w) : (∃ i, i < W ∧ s = sl i) ∨ (ad 13 s = some w ∧ slE M (z_begin M u nx W (P 7)) s ∧ (∀ i, i < W → s ≠ sl i) ∧ ∀ d, xi V2 d w = xi V d w ∧ xw V2 d w = xw V d w ∧ xn V2 d w = xn V d w ∧ (d ≠ 850 → xr V2 d w = xr V d w)) := by
  by_cases c : ∃ i, i < W ∧ s = sl i
  · exact Or.inl c
  · have hn : ∀ i, i < W → s ≠ sl i := fun i hi z => c ⟨i, hi, z⟩
    have ht : ¬ tkn M u W (P 7) s := fun z => c ((g.tk s).mp z)
    obtain ⟨cp, g2, _, g4, ⟨_, _, _, q3, _⟩, g1, h2, _⟩ := g
    rw [q3 s hn] at h
    exact Or.inr ⟨h, (begin_P M u nx W (P 7) h2).2.2.1 s ht, hn, fun d => (g2.1 w (by rw [cp.2.2.2.kk h]; omega)).2 (g4 13 s w (by omega) h) d⟩
theorem BgH.l14 (g : BgH V E ad M P V2 E1 r1 u nx b Th W sl) {t l : Nat} (h : r1 14 t = some l) : (∃ i, i < W ∧ t / 32 = sl i) ∨ (ad 14 t = some l ∧ slE M (z_begin M u nx W (P 7)) (t / 32) ∧ (∀ i, i < W → t / 32 ≠ sl i) ∧ ∀ d, xi V2 d l = xi V d l ∧ xw V2 d l = xw V d l ∧ xn V2 d l = xn V d l ∧ (d ≠ 850 → xr V2 d l = xr V d l)) := by
  by_cases c : ∃ i, i < W ∧ t / 32 = sl i
  · exact Or.inl c
  · have hn : ∀ i, i < W → t / 32 ≠ sl i := fun i hi z => c ⟨i, hi, z⟩
    have ht : ¬ tkn M u W (P 7) (t / 32) := fun z => c ((g.tk _).mp z)
    obtain ⟨cp, g2, _, g4, ⟨_, _, _, _, q4⟩, g1, h2, _⟩ := g
    rw [q4 t hn] at h
    exact Or.inr ⟨h, (begin_P M u nx W (P 7) h2).2.2.1 _ ht, hn, fun d => (g2.1 l (by rw [cp.2.2.2.kk h]; omega)).2 (g4 14 t l (by omega) h) d⟩
theorem BgH.l12 (g : BgH V E ad M P V2 E1 r1 u nx b Th W sl) {bk b' : Nat} (h : r1 12 bk = some b') : (bk = nx ∧ b' = b) ∨ (bk ≠ nx ∧ ad 12 bk = some b' ∧ ∀ d, xi V2 d b' = xi V d b' ∧ xw V2 d b' = xw V d b' ∧ xn V2 d b' = xn V d b' ∧ (d ≠ 850 → xr V2 d b' = xr V d b')) := by
  obtain ⟨cp, g2, _, g4, ⟨_, q1, _⟩, _, _, h3, _⟩ := g
  rw [q1] at h
  by_cases e : bk = nx
  · rw [e, ins_at] at h
    exact Or.inl ⟨e, (Option.some.inj h).symm⟩
  · rw [ins_ne e] at h
    exact Or.inr ⟨e, h, fun d => (g2.1 b' (by rw [cp.2.2.2.kk h]; omega)).2 (g4 12 bk b' (by omega) h) d⟩
/-- all that is not drawn from the pool -/
theorem BgH.ot (g : BgH V E ad M P V2 E1 r1 u nx b Th W sl) {a c : Nat} (ha : kdV V a = c + 1) (hc : c ≠ 0 ∧ c ≠ 12 ∧ c ≠ 13 ∧ c ≠ 14) : ¬ PM V E P a ∧ ∀ d, xi V2 d a = xi V d a ∧ xw V2 d a = xw V d a ∧ xn V2 d a = xn V d a ∧ (d ≠ 850 → xr V2 d a = xr V d a) := by
  have hn : ¬ PM V E P a := fun z => by
    have := PM_kd g.1.2.2.1 g.1.2.1 g.P2 z
    omega
  exact ⟨hn, fun d => (g.2.1.1 a (by omega)).2 hn d⟩
theorem BgH.ro (g : BgH V E ad M P V2 E1 r1 u nx b Th W sl) {c : Nat} (h1 : c ≠ 12) (h2 : c ≠ 13) (h3 : c ≠ 14) : r1 c = ad c := g.2.2.2.2.1.2.2.1 c h1 h2 h3
set_option maxHeartbeats 1000000 in
theorem beg_CX (g : BgH V E ad M P V2 E1 r1 u nx b Th W sl) : CX V2 r1 (z_begin M u nx W (P 7)) := by
  have hbk := g.2.2.2.2.2.2.1
  obtain ⟨f0, _, _, f3⟩ := begin_P M u nx W (P 7) hbk
  have cx := g.1.1
  have hs := g.1.2.2.2
  have bi := g.2.2.2.2.1.1
  have l14 : ∀ {t l : Nat}, r1 14 t = some l → (L0 V2 l ∧ (∀ j, 14 ≤ j → j ≤ 17 → (z_begin M u nx W (P 7)).2.1 j t = 0) ∧ ∀ x, x < 16 → (z_begin M u nx W (P 7)).2.1 13 (16 * t + x) = 0) ∨ (ad 14 t = some l ∧ (∀ d, xi V2 d l = xi V d l) ∧ (∀ j, 14 ≤ j → j ≤ 17 → (z_begin M u nx W (P 7)).2.1 j t = M.2.1 j t) ∧ ∀ x, x < 16 → (z_begin M u nx W (P 7)).2.1 13 (16 * t + x) = M.2.1 13 (16 * t + x)) := by
    intro t l hl
    have et : 32 * (t / 32) + t % 32 = t := by omega
    rcases g.l14 hl with ⟨i, hi, e⟩ | ⟨a1, a2, _, a4⟩
    · obtain ⟨_, _, _, b4, _, _, w, b7, b8, b9⟩ := g.nw hi
      have h1 := b9.2.2.2.2.2.2.1 (t % 32) (by omega)
      rw [← e, et, hl] at h1
      have h2 := b9.2.2.2.2.2.2.2 l (List.mem_of_getElem? h1)
      have h3 := b4.2.2.2.2 (t % 32) (by omega)
      rw [← e, et] at h3
      exact Or.inl ⟨h2.1, h3.1, h3.2⟩
    · have h3 := a2.2.2.2.2 (t % 32) (by omega)
      rw [et] at h3
      exact Or.inr ⟨a1, fun d => (a4 d).1, h3.1, h3.2⟩
  have vv : ∀ {d k i a : Nat}, cdC d → i < wdA d → ad (d / 100) k = some a → xi V d a i = Val M d k i := fun h1 h2 h3 => cx _ _ _ _ h1 h2 h3
  have oth : ∀ {d k i a : Nat}, cdC d → i < wdA d → (d / 100 ≠ 0 ∧ d / 100 ≠ 12 ∧ d / 100 ≠ 13 ∧ d / 100 ≠ 14) → Val (z_begin M u nx W (P 7)) d k i = Val M d k i → r1 (d / 100) k = some a → xi V2 d a i = Val (z_begin M u nx W (P 7)) d k i := by
    intro d k i a hd hi hc he ha
    rw [g.ro hc.2.1 hc.2.2.1 hc.2.2.2] at ha
    rw [he, ← vv hd hi ha, ((g.ot (hs.kk ha) hc).2 d).1]
  intro d k i a hd hi ha
  have hd0 := hd
  rcases hd with hd | hd | hd | hd
  · have hva : ∀ X : MS, Val X d k i = X.2.1 (nmA d) (ixA d k i) := fun X => Val_ar hd
    simp only [cdA, List.mem_cons, List.not_mem_nil, or_false] at hd
    rcases hd with e | e | e | e | e | e | e | e | e | e | e | e | e | e | e | e <;> subst e
    · have hi : i < 16 := hi
      rw [hva]
      show xi V2 1450 a i = (z_begin M u nx W (P 7)).2.1 13 (16 * k + i)
      rcases l14 (t := k) ha with ⟨z1, _, z3⟩ | ⟨z1, z2, _, z4⟩
      · rw [z1.1 i hi, z3 i hi]
      · rw [z2, z4 i hi, vv (d := 1450) hd0 hi z1]
        rfl
    · have hi : i < 1 := hi
      have ei : i = 0 := by omega
      subst ei
      rw [hva]
      show xi V2 1402 a 0 = (z_begin M u nx W (P 7)).2.1 15 k
      rcases l14 (t := k) ha with ⟨z1, z2, _⟩ | ⟨z1, z2, z3, _⟩
      · rw [z1.2.2.1, z2 15 (by omega) (by omega)]
      · rw [z2, z3 15 (by omega) (by omega), vv (d := 1402) (i := 0) hd0 (by decide) z1]
        rfl
    · have hi : i < 1 := hi
      have ei : i = 0 := by omega
      subst ei
      rw [hva]
      show xi V2 1403 a 0 = (z_begin M u nx W (P 7)).2.1 16 k
      rcases l14 (t := k) ha with ⟨z1, z2, _⟩ | ⟨z1, z2, z3, _⟩
      · rw [z1.2.2.2.1, z2 16 (by omega) (by omega)]
      · rw [z2, z3 16 (by omega) (by omega), vv (d := 1403) (i := 0) hd0 (by decide) z1]
        rfl
    · have hi : i < 1 := hi
      have ei : i = 0 := by omega
      subst ei
      rw [hva]
      show xi V2 1404 a 0 = (z_begin M u nx W (P 7)).2.1 17 k
      rcases l14 (t := k) ha with ⟨z1, z2, _⟩ | ⟨z1, z2, z3, _⟩
      · rw [z1.2.2.2.2, z2 17 (by omega) (by omega)]
      · rw [z2, z3 17 (by omega) (by omega), vv (d := 1404) (i := 0) hd0 (by decide) z1]
        rfl
    · have hi : i < 1 := hi
      have ei : i = 0 := by omega
      subst ei
      rw [hva]
      show xi V2 1301 a 0 = (z_begin M u nx W (P 7)).2.1 10 k
      rcases g.l13 (s := k) ha with ⟨j, hj, e⟩ | ⟨z1, z2, _, z4⟩
      · obtain ⟨_, _, _, b4, _, _, w, _, b8, b9⟩ := g.nw hj
        rw [← e, show r1 13 k = some a from ha] at b8
        have ew := Option.some.inj b8
        subst ew
        rw [b9.2.2.2.1, e, b4.2.1]
      · rw [(z4 1301).1, z2.2.1, vv (d := 1301) (i := 0) hd0 (by decide) z1]
        rfl
    · have hi : i < 1 := hi
      have ei : i = 0 := by omega
      subst ei
      rw [hva]
      show xi V2 1305 a 0 = (z_begin M u nx W (P 7)).2.1 11 k
      rcases g.l13 (s := k) ha with ⟨j, hj, e⟩ | ⟨z1, z2, _, z4⟩
      · obtain ⟨_, _, _, b4, _, _, w, _, b8, b9⟩ := g.nw hj
        rw [← e, show r1 13 k = some a from ha] at b8
        have ew := Option.some.inj b8
        subst ew
        rw [b9.2.2.2.2.1.2.2, e, b4.2.2.1]
      · rw [(z4 1305).1, z2.2.2.1, vv (d := 1305) (i := 0) hd0 (by decide) z1]
        rfl
    · have hi : i < 16 := hi
      rw [hva]
      show xi V2 1353 a i = (z_begin M u nx W (P 7)).2.1 12 (20 * k + i)
      rcases g.l13 (s := k) ha with ⟨j, hj, e⟩ | ⟨z1, z2, _, z4⟩
      · obtain ⟨_, _, _, b4, _, _, w, _, b8, b9⟩ := g.nw hj
        rw [← e, show r1 13 k = some a from ha] at b8
        have ew := Option.some.inj b8
        subst ew
        rw [b9.2.2.2.2.1.1 i hi, e, b4.2.2.2.1 i (by omega)]
      · rw [(z4 1353).1, z2.2.2.2.1 i (by omega), vv (d := 1353) hd0 hi z1]
        rfl
    · have hi : i < 4 := hi
      rw [hva]
      show xi V2 1354 a i = (z_begin M u nx W (P 7)).2.1 12 (20 * k + (16 + i))
      rcases g.l13 (s := k) ha with ⟨j, hj, e⟩ | ⟨z1, z2, _, z4⟩
      · obtain ⟨_, _, _, b4, _, _, w, _, b8, b9⟩ := g.nw hj
        rw [← e, show r1 13 k = some a from ha] at b8
        have ew := Option.some.inj b8
        subst ew
        rw [b9.2.2.2.2.1.2.1 i hi, e, b4.2.2.2.1 (16 + i) (by omega)]
      · rw [(z4 1354).1, z2.2.2.2.1 (16 + i) (by omega), vv (d := 1354) hd0 hi z1]
        rfl
    · exact oth hd0 hi (by decide) (by rw [hva, hva, show nmA 801 = 7 from rfl, f0.a 7]) ha
    · exact oth hd0 hi (by decide) (by rw [hva, hva, show nmA 802 = 5 from rfl, f0.a 5]) ha
    · exact oth hd0 hi (by decide) (by rw [hva, hva, show nmA 803 = 6 from rfl, f0.a 6]) ha
    · exact oth hd0 hi (by decide) (by rw [hva, hva, show nmA 804 = 8 from rfl, f0.a 8]) ha
    · have hi : i < 64 := hi
      rw [hva]
      show xi V2 1251 a i = (z_begin M u nx W (P 7)).2.1 18 (64 * k + i)
      rcases g.l12 (bk := k) ha with ⟨z1, z2⟩ | ⟨z1, z2, z3⟩
      · rw [z1, z2, bi.2.2.2.1 i hi, f3, if_pos (by omega)]
      · rw [(z3 1251).1, f3, if_neg (by omega), vv (d := 1251) hd0 hi z2]
        rfl
    · exact oth hd0 hi (by decide) (by rw [hva, hva, show nmA 1050 = 3 from rfl, f0.a 3]) ha
    · exact oth hd0 hi (by decide) (by rw [hva, hva, show nmA 1001 = 4 from rfl, f0.a 4]) ha
    · exact oth hd0 hi (by decide) (by rw [hva, hva, show nmA 151 = 2 from rfl, f0.a 2]) ha
  · have := fd_ar d hd
    exact oth hd0 hi (by omega) (by rw [Val_fd hd, Val_fd hd, f0.1 _ List.not_mem_nil]) ha
  · subst hd
    have hi : i < 4 := hi
    rw [Val_p]
    rcases l14 (t := k) ha with ⟨z1, z2, _⟩ | ⟨z1, z2, z3, _⟩
    · rw [z1.2.1 i hi, z2 14 (by omega) (by omega)]
      have : ¬ bitP 0 i := fun z => by
        rw [bitP_bt _ (by omega), bt_0] at z
        cases z
      rw [b2i_f this]
    · rw [z2, z3 14 (by omega) (by omega), vv (d := 1451) hd0 hi z1, Val_p]
  · subst hd
    have hi : i < 1 := hi
    have ei : i = 0 := by omega
    subst ei
    rw [Val_n]
    rcases g.l12 (bk := k) ha with ⟨z1, z2⟩ | ⟨z1, z2, z3⟩
    · rw [z1, z2, bi.2.2.1]
    · rw [(z3 1200).1, vv (d := 1200) (i := 0) hd0 (by decide) z2, Val_n]
end C72
