/-! D2: a word goes in the model: what holds behind it -/
section D2
variable {M N X Y : MS} {s d a b bk : Nat}
theorem touch_frmC (M : MS) (to k : Nat) (y : Int32) : frm [] [13, 14, 15, 18] M (z_touch M to k y) := by
  unfold z_touch
  by_cases h : M.1 52 = 53
  · rw [if_pos h]; exact frm.rf.mA (by decide)
  · rw [if_neg h]; exact (frm.rf.mA (by decide)).mA (by decide)
theorem jump_frmC (M : MS) (t to : Nat) (x old : Int32) : frm [] [13, 14, 15, 18] M (z_jump M t to x old) := by
  unfold z_jump
  by_cases h : M.1 52 = 41
  · rw [if_pos h]; exact (frm.rf.mA (by decide)).mA (by decide)
  · rw [if_neg h]; exact frm.rf.mA (by decide)
theorem say_frmC (M : MS) (t : Nat) (x : Int32) : frm [] [13, 14, 15, 18] M (z_say M t x) := by
  unfold z_say
  exact frm.rf.mA (by decide)
theorem act_frmC {i p q o : Nat} {old : Int32} (hnm : ¬ (memP M ∧ ¬ shP M)) (h0 : ¬ M.1 52 = 0) (h1 : ¬ M.1 52 = 1) : frm [] [13, 14, 15, 18] M (z_act M s i old d a b p bk q o) := by
  have h13 : ∀ v, frm [] [13, 14, 15, 18] M (mA M 13 (16 * (32 * s + i) + d) v) := fun v => frm.rf.mA (by decide)
  unfold z_act
  rw [if_neg h0, if_neg h1]
  refine ite_P (frm [] [13, 14, 15, 18] M) (fun _ => h13 _) (fun _ => ite_P (frm [] [13, 14, 15, 18] M) (fun _ => h13 _) (fun _ => ite_P (frm [] [13, 14, 15, 18] M) (fun _ => ?_) (fun _ => h13 _)))
  refine ite_P (frm [] [13, 14, 15, 18] M) (fun _ => ite_P (frm [] [13, 14, 15, 18] M) (fun _ => ite_P (frm [] [13, 14, 15, 18] M) (fun _ => ?_) (fun _ => jump_frmC _ _ _ _ _)) (fun _ => say_frmC _ _ _)) (fun _ => say_frmC _ _ _)
  exact ite_P (frm [] [13, 14, 15, 18] M) (fun h => absurd h hnm) (fun _ => ite_P (frm [] [13, 14, 15, 18] M) (fun _ => ite_P (frm [] [13, 14, 15, 18] M) (fun _ => h13 _) (fun _ => say_frmC _ _ _)) (fun _ => touch_frmC _ _ _ _))
theorem goC_frm (hnm : ¬ (memP X ∧ ¬ shP X)) (h0 : ¬ X.1 52 = 0) (h1 : ¬ X.1 52 = 1) : ∀ n, frm [] [13, 14, 15, 18] X (iter (goS s d a b bk) 0 n X)
  | 0 => frm.rf
  | n + 1 => by
    have ih := goC_frm hnm h0 h1 n
    rw [iter_last, Nat.zero_add]
    generalize iter (goS s d a b bk) 0 n X = Z at *
    have e52 : Z.1 52 = X.1 52 := ih.f 52
    unfold goS
    by_cases c : Z.2.1 26 n = 0
    · rw [if_pos c]; exact ih
    · rw [if_neg c]
      by_cases c2 : Z.2.1 27 n = 0
      · rw [if_pos c2]; exact ih.mA (by decide)
      · rw [if_neg c2]
        have e15 : frm [] [13, 14, 15, 18] X (mA Z 15 (32 * s + n) (Z.2.1 15 (32 * s + n) + 1)) := ih.mA (by decide)
        refine e15.tr (act_frmC ?_ ?_ ?_)
        · obtain ⟨em, es⟩ := mem_fm (M := X) (M' := mA Z 15 (32 * s + n) (Z.2.1 15 (32 * s + n) + 1)) e52
          rw [em, es]; exact hnm
        · show ¬ Z.1 52 = 0
          rw [e52]; exact h0
        · show ¬ Z.1 52 = 1
          rw [e52]; exact h1
/-- words 0 and 1 -/
theorem goE_P {j : Nat} (hj : (X.1 52 = 0 ∧ j = 16) ∨ (X.1 52 = 1 ∧ j = 17)) : ∀ n, n ≤ 32 → frm [] [15, j] X (iter (goS s d a b bk) 0 n X) ∧ ∀ t, (iter (goS s d a b bk) 0 n X).2.1 j t = X.2.1 j t ∨ (t / 32 = s ∧ t % 32 < n ∧ ¬ X.2.1 26 (t % 32) = 0)
  | 0, _ => ⟨frm.rf, fun t => Or.inl rfl⟩
  | n + 1, hn => by
    obtain ⟨ih, i2⟩ := goE_P hj n (by omega)
    rw [iter_last, Nat.zero_add]
    generalize iter (goS s d a b bk) 0 n X = Z at *
    have e52 : Z.1 52 = X.1 52 := ih.1 52 List.not_mem_nil
    have e26 : Z.2.1 26 = X.2.1 26 := ih.2.1 26 (by simp only [List.mem_cons, List.not_mem_nil, or_false]; omega)
    have h15 : (15 : Nat) ∈ [15, j] := List.mem_cons_self
    have hjm : j ∈ [15, j] := List.mem_cons_of_mem _ (List.mem_singleton.mpr rfl)
    have hj15 : j ≠ 15 := by omega
    have up : ∀ t, Z.2.1 j t = X.2.1 j t ∨ (t / 32 = s ∧ t % 32 < n + 1 ∧ ¬ X.2.1 26 (t % 32) = 0) := fun t => (i2 t).imp_right (fun z => ⟨z.1, by omega, z.2.2⟩)
    unfold goS
    by_cases c : Z.2.1 26 n = 0
    · rw [if_pos c]; exact ⟨ih, up⟩
    · rw [if_neg c]
      have e15 : frm [] [15, j] X (mA Z 15 (32 * s + n) (Z.2.1 15 (32 * s + n) + 1)) := ih.mA h15
      have ej : (mA Z 15 (32 * s + n) (Z.2.1 15 (32 * s + n) + 1)).2.1 j = Z.2.1 j := by rw [mA_a, if_neg hj15]
      have e52' : (mA Z 15 (32 * s + n) (Z.2.1 15 (32 * s + n) + 1)).1 52 = X.1 52 := e52
      by_cases c2 : Z.2.1 27 n = 0
      · rw [if_pos c2]
        exact ⟨e15, fun t => by rw [ej]; exact up t⟩
      · rw [if_neg c2]
        generalize mA Z 15 (32 * s + n) (Z.2.1 15 (32 * s + n) + 1) = Q at *
        have ez : ∀ old p q o, z_act Q s n old d a b p bk q o = mA Q j (32 * s + n) 1 := by
          intro old p q o
          unfold z_act
          rcases hj with ⟨h1, h2⟩ | ⟨h1, h2⟩
          · rw [if_pos (e52'.trans h1), h2]
          · rw [if_neg (by rw [e52', h1]; decide), if_pos (e52'.trans h1), h2]
        rw [ez]
        refine ⟨e15.mA hjm, fun t => ?_⟩
        rw [mA_a, if_pos rfl]
        by_cases et : t = 32 * s + n
        · right
          rw [et, show (32 * s + n) / 32 = s by omega, show (32 * s + n) % 32 = n by omega, ← e26]
          exact ⟨rfl, by omega, c⟩
        · rw [pk_un et, ej]
          exact up t
/-- copies of a line's time -/
theorem cpy_in {i : Nat} (X : MS) : ∀ e, e ≤ i → frm [] [25] X (iter (cpyS s a i) 0 e X) ∧ (∀ k, k ≠ i → (iter (cpyS s a i) 0 e X).2.1 25 k = X.2.1 25 k) ∧ ((∃ k, k < e ∧ ¬ X.2.1 27 k = 0 ∧ askV X s a k / 8 = askV X s a i / 8) → ∃ k, k < e ∧ ¬ X.2.1 27 k = 0 ∧ (iter (cpyS s a i) 0 e X).2.1 25 i = X.2.1 25 k)
  | 0, _ => ⟨frm.rf, fun _ _ => rfl, fun ⟨k, hk, _⟩ => absurd hk (Nat.not_lt_zero _)⟩
  | e + 1, he => by
    obtain ⟨h1, h2, h3⟩ := cpy_in (i := i) X e (by omega)
    rw [iter_last, Nat.zero_add]
    generalize iter (cpyS s a i) 0 e X = Z at *
    have e27 : Z.2.1 27 = X.2.1 27 := h1.a 27
    have eask : ∀ k, askV Z s a k = askV X s a k := fun k => ask_fm (h1.a 13) (h1.f 57) s a k
    unfold cpyS
    refine ⟨h1.mA (by decide), fun k hk => ?_, fun hex => ?_⟩
    · rw [mA_a, if_pos rfl, pk_un hk]
      exact h2 k hk
    · rw [mA_a, if_pos rfl, pk_us, e27, eask, eask]
      by_cases c : ¬ X.2.1 27 e = 0 ∧ askV X s a e / 8 = askV X s a i / 8
      · rw [if_pos c, h2 e (by omega)]
        exact ⟨e, by omega, c.1, rfl⟩
      · rw [if_neg c]
        obtain ⟨k, k1, k2, k3⟩ := hex
        have hke : k ≠ e := fun z => c (by rw [← z]; exact ⟨k2, k3⟩)
        obtain ⟨k', y1, y2, y3⟩ := h3 ⟨k, by omega, k2, k3⟩
        exact ⟨k', by omega, y2, y3⟩
/-- times of lines, and gates' ticks -/
theorem tg_P {c B G : Nat} (h15 : M.1 15 = nI c) (hcB : c ≤ B) (hB : B ≤ 30000000) (hG1 : 1 ≤ G) (hG8 : G ≤ 8) (hg : ∀ g, g < 8 → ∃ t, t ≤ B ∧ M.2.1 4 g = nI t) : ∀ j, j ≤ 32 → (∃ l, (tgC M s a G j).1 = nI l ∧ c + 1 ≤ l ∧ l ≤ B + 5 * j + 12 ∧ ∀ i, i < j → ¬ M.2.1 27 i = 0 → ∃ t, (tgC M s a G j).2.2.2.1 25 i = nI t ∧ c + 1 ≤ t ∧ t ≤ l) ∧ ∀ g, g < 8 → ∃ t, t ≤ B + 5 * j ∧ (tgC M s a G j).2.2.2.1 4 g = nI t
  | 0, _ => ⟨⟨c + 1, by
      show M.1 15 + 1 = _
      rw [h15, nI_1], Nat.le_refl _, by omega, fun i hi => absurd hi (Nat.not_lt_zero _)⟩, fun g hgg => by
      obtain ⟨t, t1, t2⟩ := hg g hgg
      exact ⟨t, by omega, t2⟩⟩
  | j + 1, hj => by
    obtain ⟨⟨l, l1, l2, l3, l4⟩, g4⟩ := tg_P h15 hcB hB hG1 hG8 hg j (by omega)
    have hf := tgC_frm M s a G j
    rw [tgC_s]
    generalize tgC M s a G j = C at *
    have e27 : C.2.2.2.1 27 = M.2.1 27 := hf.a 27
    have e15 : C.2.2.1 15 = nI c := by rw [hf.f 15]; exact h15
    have keep : ∀ g, g < 8 → ∃ t, t ≤ B + 5 * (j + 1) ∧ C.2.2.2.1 4 g = nI t := fun g hgg => by
      obtain ⟨t, t1, t2⟩ := g4 g hgg
      exact ⟨t, by omega, t2⟩
    by_cases c27 : C.2.2.2.1 27 j = 0
    · have e : tgS s a G j C = C := if_pos c27
      rw [e]
      refine ⟨⟨l, l1, l2, by omega, fun i hi z => ?_⟩, keep⟩
      by_cases ei : i = j
      · rw [ei, ← e27] at z
        exact absurd c27 z
      · exact l4 i (by omega) z
    · by_cases cl : lgB C.2.2 s a j = true
      · obtain ⟨q1, q2, q3⟩ := cpy_in (s := s) (a := a) (i := j) C.2.2 j (Nat.le_refl _)
        have e : (tgS s a G j C).1 = C.1 ∧ (tgS s a G j C).2.2 = iter (cpyS s a j) 0 j C.2.2 := by
          have : tgS s a G j C = (C.1, C.2.1 + (if (53 < C.2.2.1 52 ∧ agB C.2.2 s a j = true) then 1 else 0), iter (cpyS s a j) 0 j C.2.2) := (if_neg c27).trans (if_pos cl)
          rw [this]
          exact ⟨rfl, rfl⟩
        rw [e.1, e.2]
        have hex := (anyF_ex j).mp cl
        obtain ⟨k0, k1, k2⟩ := hex
        have k2 := of_decide_eq_true k2
        obtain ⟨k, y1, y2, y3⟩ := q3 ⟨k0, k1, k2.1, k2.2⟩
        refine ⟨⟨l, l1, l2, by omega, fun i hi z => ?_⟩, fun g hgg => by rw [q1.a 4]; exact keep g hgg⟩
        by_cases ei : i = j
        · rw [ei, y3]
          exact l4 k y1 (by rw [← e27]; exact y2)
        · rw [q2 i ei]
          exact l4 i (by omega) z
      · obtain ⟨gt, egt⟩ : ∃ gt, gt = askN C.2.2 s a j / 8 % G := ⟨_, rfl⟩
        have hgt : gt < 8 := by
          have := Nat.mod_lt (askN C.2.2 s a j / 8) (show G > 0 by omega)
          omega
        obtain ⟨t0, t1, t2⟩ := g4 gt hgt
        have e : tgS s a G j C = (if (hitM C.2.2 gt (4 * gt + askN C.2.2 s a j / 8 / G % 4) (askN C.2.2 s a j / 8) j).2.1 25 j ≤ C.1 then C.1 else (hitM C.2.2 gt (4 * gt + askN C.2.2 s a j / 8 / G % 4) (askN C.2.2 s a j / 8) j).2.1 25 j, C.2.1 + (if (53 < C.2.2.1 52 ∧ agB C.2.2 s a j = true) then 1 else 0), hitM C.2.2 gt (4 * gt + askN C.2.2 s a j / 8 / G % 4) (askN C.2.2 s a j / 8) j) := by
          rw [egt]
          exact (if_neg c27).trans (if_neg cl)
        rw [e]
        generalize 4 * gt + askN C.2.2 s a j / 8 / G % 4 = at_ at *
        generalize askN C.2.2 s a j / 8 = ln at *
        rw [hitM_0]
        have est : stV4 C.2.2 gt = nI (max c t0) := by
          unfold stV4
          rw [e15, t2]
          by_cases cm : t0 ≤ c
          · rw [if_pos (c_le cm (by omega)), Nat.max_eq_left cm]
          · rw [if_neg (c_nle (by omega) (by omega)), Nat.max_eq_right (by omega)]
        obtain ⟨tt, ett, htt1, htt2⟩ : ∃ tt, tmV C.2.2 gt at_ ln = nI tt ∧ c + 1 ≤ tt ∧ tt ≤ max c t0 + 12 := by
          unfold tmV
          rw [est]
          by_cases ch : C.2.2.2.1 3 at_ = nI ln
          · rw [if_pos ch, show (4 : Int32) = nI 4 from rfl, nI_add]
            exact ⟨_, rfl, by omega, by omega⟩
          · rw [if_neg ch, show (12 : Int32) = nI 12 from rfl, nI_add]
            exact ⟨_, rfl, by omega, by omega⟩
        have e25 : ∀ x, (mA (hit0 C.2.2 gt at_ ln) 25 j (tmV C.2.2 gt at_ ln)).2.1 25 x = if x = j then nI tt else C.2.2.2.1 25 x := by
          intro x
          rw [mA_a, if_pos rfl, hit0_25, ett]
          by_cases ex : x = j
          · rw [ex, pk_us, if_pos rfl]
          · rw [pk_un ex, if_neg ex]
        have e4 : ∀ g, g < 8 → ∃ t, t ≤ B + 5 * (j + 1) ∧ (mA (hit0 C.2.2 gt at_ ln) 25 j (tmV C.2.2 gt at_ ln)).2.1 4 g = nI t := by
          intro g hgg
          have e4' : (mA (hit0 C.2.2 gt at_ ln) 25 j (tmV C.2.2 gt at_ ln)).2.1 4 = upd (C.2.2.2.1 4) gt (stV4 C.2.2 gt + (if C.2.2.2.1 3 at_ = nI ln then 1 else 5)) := by
            rw [mA_a, if_neg (by decide)]
            unfold hit0
            rw [mI_a, mI_a, mA_a, if_pos rfl, mA_a, if_neg (by decide)]
          rw [e4']
          by_cases eg : g = gt
          · rw [eg, pk_us, est]
            by_cases ch : C.2.2.2.1 3 at_ = nI ln
            · rw [if_pos ch, nI_1]
              exact ⟨_, by omega, rfl⟩
            · rw [if_neg ch, show (5 : Int32) = nI 5 from rfl, nI_add]
              exact ⟨_, by omega, rfl⟩
          · rw [pk_un eg]
            exact keep g hgg
        generalize mA (hit0 C.2.2 gt at_ ln) 25 j (tmV C.2.2 gt at_ ln) = Z at *
        refine ⟨⟨max l tt, ?_, by omega, by omega, fun i hi z => ?_⟩, e4⟩
        · show (if Z.2.1 25 j ≤ C.1 then C.1 else Z.2.1 25 j) = _
          rw [e25 j, if_pos rfl, l1]
          by_cases cm : tt ≤ l
          · rw [if_pos (c_le cm (by omega)), Nat.max_eq_left cm]
          · rw [if_neg (c_nle (by omega) (by omega)), Nat.max_eq_right (by omega)]
        · show ∃ t, Z.2.1 25 i = nI t ∧ _
          rw [e25 i]
          by_cases ei : i = j
          · rw [if_pos ei]
            exact ⟨tt, rfl, htt1, by omega⟩
          · rw [if_neg ei]
            obtain ⟨t, y1, y2, y3⟩ := l4 i (by omega) z
            exact ⟨t, y1, y2, by omega⟩
/-- lanes ask -/
def asF (X : MS) (j : Nat) : Bool := decide (¬ X.2.1 27 j = 0)
theorem goG_P {p0 : Nat} (hm : memP X ∧ ¬ shP X) (h41 : X.1 41 = nI p0) (hp0 : p0 + 32 ≤ 4096) (h26 : ∀ j, j < 32 → ¬ X.2.1 27 j = 0 → ¬ X.2.1 26 j = 0) : ∀ n, n ≤ 32 → frm [41, 42] [15, 19, 20, 21, 22, 23, 24] X (iter (goS s d a b bk) 0 n X) ∧ (iter (goS s d a b bk) 0 n X).1 41 = nI (p0 + cnB (asF X) n) ∧ (∀ k, k < p0 → (iter (goS s d a b bk) 0 n X).2.1 19 k = X.2.1 19 k ∧ (iter (goS s d a b bk) 0 n X).2.1 20 k = X.2.1 20 k) ∧ (∀ j, j < n → asF X j = true → (iter (goS s d a b bk) 0 n X).2.1 19 (p0 + cnB (asF X) j) = X.2.1 25 j ∧ (iter (goS s d a b bk) 0 n X).2.1 20 (p0 + cnB (asF X) j) = nI (32 * (128 * bk + s) + j) ∧ (iter (goS s d a b bk) 0 n X).1 42 ≤ X.2.1 25 j) ∧ (iter (goS s d a b bk) 0 n X).1 42 ≤ X.1 42
  | 0, _ => ⟨frm.rf, h41, fun _ _ => ⟨rfl, rfl⟩, fun j hj => absurd hj (Nat.not_lt_zero _), Int32.le_refl _⟩
  | n + 1, hn => by
    obtain ⟨i1, i2, i3, i4, i5⟩ := goG_P hm h41 hp0 h26 n (by omega)
    rw [iter_last, Nat.zero_add]
    generalize iter (goS s d a b bk) 0 n X = Z at *
    have e26 : Z.2.1 26 = X.2.1 26 := i1.a 26
    have e27 : Z.2.1 27 = X.2.1 27 := i1.a 27
    have hcn := cnB_le (asF X) n
    unfold goS
    have skip : asF X n = false → ∀ Q : MS, frm [] [15] Z Q → frm [41, 42] [15, 19, 20, 21, 22, 23, 24] X Q ∧ Q.1 41 = nI (p0 + cnB (asF X) (n + 1)) ∧ (∀ k, k < p0 → Q.2.1 19 k = X.2.1 19 k ∧ Q.2.1 20 k = X.2.1 20 k) ∧ (∀ j, j < n + 1 → asF X j = true → Q.2.1 19 (p0 + cnB (asF X) j) = X.2.1 25 j ∧ Q.2.1 20 (p0 + cnB (asF X) j) = nI (32 * (128 * bk + s) + j) ∧ Q.1 42 ≤ X.2.1 25 j) ∧ Q.1 42 ≤ X.1 42 := by
      intro hf Q hq
      refine ⟨i1.tr (hq.up (by decide) (by decide)), ?_, fun k hk => ?_, fun j hj hjf => ?_, ?_⟩
      · rw [hq.f 41, i2, cnB_s, hf]
        rfl
      · rw [hq.a 19, hq.a 20]; exact i3 k hk
      · have : j ≠ n := fun z => by rw [z, hf] at hjf; cases hjf
        rw [hq.a 19, hq.a 20, hq.f 42]; exact i4 j (by omega) hjf
      · rw [hq.f 42]; exact i5
    by_cases c : Z.2.1 26 n = 0
    · rw [if_pos c]
      refine skip ?_ Z frm.rf
      refine decide_eq_false (fun z => h26 n (by omega) z ?_)
      rw [← e26]; exact c
    · rw [if_neg c]
      have hq15 : frm [] [15] Z (mA Z 15 (32 * s + n) (Z.2.1 15 (32 * s + n) + 1)) := frm.rf.mA (by decide)
      by_cases c2 : Z.2.1 27 n = 0
      · rw [if_pos c2]
        exact skip (decide_eq_false (fun z => z (by rw [← e27]; exact c2))) _ hq15
      · rw [if_neg c2]
        have hf : asF X n = true := decide_eq_true (by rw [← e27]; exact c2)
        have ep : nN (Z.1 41) = p0 + cnB (asF X) n := by rw [i2]; exact nN_nI (by omega)
        rw [ep]
        have f0 := i1.tr (hq15.up (by decide) (by decide))
        generalize mA Z 15 (32 * s + n) (Z.2.1 15 (32 * s + n) + 1) = Q at *
        have e52 : Q.1 52 = X.1 52 := f0.f 52
        obtain ⟨em, es⟩ := mem_fm (M := X) (M' := Q) e52
        rw [z_glob (by rw [em, es]; exact hm)]
        have e25 : Q.2.1 25 = X.2.1 25 := f0.a 25
        generalize askV Q s a n = av at *
        generalize rgV Q (32 * s + n) b = bv at *
        generalize rgV Q (32 * s + n) d = dv at *
        have fz : frm [41, 42] [15, 19, 20, 21, 22, 23, 24] Q (z_ask Q s n (p0 + cnB (asF X) n) bk av bv dv) := (askfrm Q s n _ bk av bv dv).up (by decide) (by decide)
        have z19 : (z_ask Q s n (p0 + cnB (asF X) n) bk av bv dv).2.1 19 = upd (Q.2.1 19) (p0 + cnB (asF X) n) (Q.2.1 25 n) := rfl
        have z20 : (z_ask Q s n (p0 + cnB (asF X) n) bk av bv dv).2.1 20 = upd (Q.2.1 20) (p0 + cnB (asF X) n) (nI (32 * (128 * bk + s) + n)) := rfl
        have z42 : (z_ask Q s n (p0 + cnB (asF X) n) bk av bv dv).1 42 = if Q.1 42 ≤ Q.2.1 25 n then Q.1 42 else Q.2.1 25 n := rfl
        have z41 : (z_ask Q s n (p0 + cnB (asF X) n) bk av bv dv).1 41 = Q.1 41 + 1 := rfl
        have l42 : (z_ask Q s n (p0 + cnB (asF X) n) bk av bv dv).1 42 ≤ Q.1 42 ∧ (z_ask Q s n (p0 + cnB (asF X) n) bk av bv dv).1 42 ≤ X.2.1 25 n := by
          rw [z42, e25]
          by_cases cm : Q.1 42 ≤ X.2.1 25 n
          · rw [if_pos cm]; exact ⟨Int32.le_refl _, cm⟩
          · rw [if_neg cm]; exact ⟨Int32.le_of_lt (Int32.not_le.mp cm), Int32.le_refl _⟩
        generalize z_ask Q s n (p0 + cnB (asF X) n) bk av bv dv = R at *
        refine ⟨f0.tr fz, ?_, fun k hk => ?_, fun j hj hjf => ?_, ?_⟩
        · rw [z41, hq15.f 41, i2, nI_1, cnB_s, if_pos hf]
          rfl
        · rw [z19, z20, pk_un (by omega), pk_un (by omega), hq15.a 19, hq15.a 20]
          exact i3 k hk
        · by_cases ej : j = n
          · rw [ej, z19, z20, pk_us, pk_us, e25]
            exact ⟨rfl, rfl, l42.2⟩
          · have hlt := cnB_mo (f := asF X) (k := j) (k' := n) (by omega) hjf
            rw [z19, z20, pk_un (by omega), pk_un (by omega), hq15.a 19, hq15.a 20]
            obtain ⟨y1, y2, y3⟩ := i4 j (by omega) hjf
            exact ⟨y1, y2, Int32.le_trans l42.1 (by rw [hq15.f 42]; exact y3)⟩
        · exact Int32.le_trans l42.1 (by rw [hq15.f 42]; exact i5)
end D2
