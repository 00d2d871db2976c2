/-! C42: the barrier, in the model -/
section C42
variable {M : MS} {L : Nat} {p : Int32}
/-- a lane that goes on, awake -/
def bd1 (M : MS) (s i : Nat) : Prop := M.2.1 16 (32 * s + i) = 0 ∧ M.2.1 17 (32 * s + i) = 0 ∧ lnI M s i
def bd2 (M : MS) (s i : Nat) : Prop := M.2.1 16 (32 * s + i) = 0 ∧ lnI M s i
theorem stI_P (M : MS) (s : Nat) (c : Int32 × Int32) : ∀ n, ((iter (stI M s) 0 n c).1 = 0 ↔ (c.1 = 0 ∨ ∃ i, i < n ∧ bd1 M s i)) ∧ ((iter (stI M s) 0 n c).2 = 0 ↔ (c.2 = 0 ∨ ∃ i, i < n ∧ bd2 M s i))
  | 0 => ⟨⟨Or.inl, fun h => h.elim id (fun ⟨i, hi, _⟩ => absurd hi (Nat.not_lt_zero _))⟩, ⟨Or.inl, fun h => h.elim id (fun ⟨i, hi, _⟩ => absurd hi (Nat.not_lt_zero _))⟩⟩
  | n + 1 => by
    obtain ⟨h1, h2⟩ := stI_P M s c n
    rw [iter_last, Nat.zero_add]
    generalize iter (stI M s) 0 n c = e at *
    unfold stI
    constructor
    · show (if e.1 = 0 then (0 : Int32) else if (M.2.1 16 (32 * s + n) = 0 ∧ M.2.1 17 (32 * s + n) = 0 ∧ lnI M s n) then 0 else 1) = 0 ↔ _
      by_cases c1 : e.1 = 0
      · rw [if_pos c1]
        refine ⟨fun _ => ?_, fun _ => rfl⟩
        rcases h1.mp c1 with z | ⟨i, hi, hz⟩
        · exact Or.inl z
        · exact Or.inr ⟨i, by omega, hz⟩
      · rw [if_neg c1]
        by_cases c2 : M.2.1 16 (32 * s + n) = 0 ∧ M.2.1 17 (32 * s + n) = 0 ∧ lnI M s n
        · rw [if_pos c2]
          exact ⟨fun _ => Or.inr ⟨n, by omega, c2⟩, fun _ => rfl⟩
        · rw [if_neg c2]
          refine ⟨fun z => absurd z (by decide), fun z => ?_⟩
          rcases z with z | ⟨i, hi, hz⟩
          · exact absurd (h1.mpr (Or.inl z)) c1
          · by_cases e2 : i = n
            · subst e2; exact absurd hz c2
            · exact absurd (h1.mpr (Or.inr ⟨i, by omega, hz⟩)) c1
    · show (if e.2 = 0 then (0 : Int32) else if (M.2.1 16 (32 * s + n) = 0 ∧ lnI M s n) then 0 else 1) = 0 ↔ _
      by_cases c1 : e.2 = 0
      · rw [if_pos c1]
        refine ⟨fun _ => ?_, fun _ => rfl⟩
        rcases h2.mp c1 with z | ⟨i, hi, hz⟩
        · exact Or.inl z
        · exact Or.inr ⟨i, by omega, hz⟩
      · rw [if_neg c1]
        by_cases c2 : M.2.1 16 (32 * s + n) = 0 ∧ lnI M s n
        · rw [if_pos c2]
          exact ⟨fun _ => Or.inr ⟨n, by omega, c2⟩, fun _ => rfl⟩
        · rw [if_neg c2]
          refine ⟨fun z => absurd z (by decide), fun z => ?_⟩
          rcases z with z | ⟨i, hi, hz⟩
          · exact absurd (h2.mpr (Or.inl z)) c1
          · by_cases e2 : i = n
            · subst e2; exact absurd hz c2
            · exact absurd (h2.mpr (Or.inr ⟨i, by omega, hz⟩)) c1
theorem stO_P (M : MS) (L : Nat) (p : Int32) : ∀ n, ((iter (stO M L p) 0 n (1, 1)).1 = 0 ↔ ∃ s, s < n ∧ M.2.1 9 s = p ∧ ∃ i, i < L ∧ bd1 M s i) ∧ ((iter (stO M L p) 0 n (1, 1)).2 = 0 ↔ ∃ s, s < n ∧ M.2.1 9 s = p ∧ ∃ i, i < L ∧ bd2 M s i)
  | 0 => ⟨⟨fun h => absurd h (show ¬ (1 : Int32) = 0 by decide), fun ⟨s, hs, _⟩ => absurd hs (Nat.not_lt_zero _)⟩, ⟨fun h => absurd h (show ¬ (1 : Int32) = 0 by decide), fun ⟨s, hs, _⟩ => absurd hs (Nat.not_lt_zero _)⟩⟩
  | n + 1 => by
    obtain ⟨h1, h2⟩ := stO_P M L p n
    rw [iter_last, Nat.zero_add]
    generalize iter (stO M L p) 0 n (1, 1) = e at *
    unfold stO
    by_cases c : M.2.1 9 n = p
    · rw [if_pos c]
      obtain ⟨g1, g2⟩ := stI_P M n e L
      constructor
      · rw [g1, h1]
        constructor
        · rintro (⟨s, hs, z⟩ | z)
          · exact ⟨s, by omega, z⟩
          · exact ⟨n, by omega, c, z⟩
        · rintro ⟨s, hs, z1, z2⟩
          by_cases e2 : s = n
          · subst e2; exact Or.inr z2
          · exact Or.inl ⟨s, by omega, z1, z2⟩
      · rw [g2, h2]
        constructor
        · rintro (⟨s, hs, z⟩ | z)
          · exact ⟨s, by omega, z⟩
          · exact ⟨n, by omega, c, z⟩
        · rintro ⟨s, hs, z1, z2⟩
          by_cases e2 : s = n
          · subst e2; exact Or.inr z2
          · exact Or.inl ⟨s, by omega, z1, z2⟩
    · rw [if_neg c, h1, h2]
      constructor
      · constructor
        · rintro ⟨s, hs, z⟩; exact ⟨s, by omega, z⟩
        · rintro ⟨s, hs, z1, z2⟩
          by_cases e2 : s = n
          · subst e2; exact absurd z1 c
          · exact ⟨s, by omega, z1, z2⟩
      · constructor
        · rintro ⟨s, hs, z⟩; exact ⟨s, by omega, z⟩
        · rintro ⟨s, hs, z1, z2⟩
          by_cases e2 : s = n
          · subst e2; exact absurd z1 c
          · exact ⟨s, by omega, z1, z2⟩
theorem relI (M : MS) (s : Nat) : ∀ n, frm [] [17] M (iter (relS s) 0 n M) ∧ ∀ t, (iter (relS s) 0 n M).2.1 17 t = if (32 * s ≤ t ∧ t < 32 * s + n) then 0 else M.2.1 17 t
  | 0 => ⟨frm.rf, fun t => by rw [if_neg (by omega)]; rfl⟩
  | n + 1 => by
    obtain ⟨h1, h2⟩ := relI M s n
    rw [iter_last, Nat.zero_add]
    generalize iter (relS s) 0 n M = N at *
    unfold relS
    refine ⟨h1.tr (frm.rf.mA (by decide)), fun t => ?_⟩
    rw [mA_a, if_pos rfl]
    show (if t = 32 * s + n then 0 else N.2.1 17 t) = _
    by_cases e : t = 32 * s + n
    · rw [if_pos e, if_pos (by omega)]
    · rw [if_neg e, h2 t]
      by_cases e2 : 32 * s ≤ t ∧ t < 32 * s + n
      · rw [if_pos e2, if_pos (by omega)]
      · rw [if_neg e2, if_neg (by omega)]
/-- after the first n slots -/
theorem stW_P (M : MS) (L : Nat) (hL : L ≤ 32) (p : Int32) (hp : p ≠ -1) (c : Int32 × Int32) : ∀ n, frm [] [9, 17] M (iter (stW L p c) 0 n M) ∧ (∀ s, (iter (stW L p c) 0 n M).2.1 9 s = if (s < n ∧ ¬ c.2 = 0 ∧ M.2.1 9 s = p) then -1 else M.2.1 9 s) ∧ ∀ t, (iter (stW L p c) 0 n M).2.1 17 t = if (t / 32 < n ∧ t % 32 < L ∧ ¬ c.1 = 0 ∧ M.2.1 9 (t / 32) = p) then 0 else M.2.1 17 t
  | 0 => ⟨frm.rf, fun s => by rw [if_neg (by omega)]; rfl, fun t => by rw [if_neg (by omega)]; rfl⟩
  | n + 1 => by
    obtain ⟨h1, h2, h3⟩ := stW_P M L hL p hp c n
    rw [iter_last, Nat.zero_add]
    generalize iter (stW L p c) 0 n M = N at *
    have e9 : N.2.1 9 n = M.2.1 9 n := by rw [h2 n, if_neg (by omega)]
    have r1 : frm [] [9, 17] N (stR L p c n N) ∧ (stR L p c n N).2.1 9 = N.2.1 9 ∧ ∀ t, (stR L p c n N).2.1 17 t = if (t / 32 = n ∧ t % 32 < L ∧ ¬ c.1 = 0 ∧ M.2.1 9 n = p) then 0 else N.2.1 17 t := by
      unfold stR
      rw [e9]
      by_cases z : ¬ c.1 = 0 ∧ M.2.1 9 n = p
      · rw [if_pos z]
        obtain ⟨q1, q2⟩ := relI N n L
        refine ⟨q1.up (fun k hk => hk) (fun k hk => by simp only [List.mem_cons, List.not_mem_nil, or_false] at hk ⊢; omega), q1.a 9, fun t => ?_⟩
        rw [q2 t]
        by_cases z2 : 32 * n ≤ t ∧ t < 32 * n + L
        · rw [if_pos z2, if_pos ⟨by omega, by omega, z⟩]
        · rw [if_neg z2, if_neg (fun q => z2 (by omega))]
      · rw [if_neg z]
        exact ⟨frm.rf, rfl, fun t => by rw [if_neg (fun q => z q.2.2)]⟩
    obtain ⟨q1, q2, q3⟩ := r1
    show frm [] [9, 17] M (stF p c n (stR L p c n N)) ∧ (∀ s, (stF p c n (stR L p c n N)).2.1 9 s = _) ∧ ∀ t, (stF p c n (stR L p c n N)).2.1 17 t = _
    generalize stR L p c n N = X at *
    have ex9 : X.2.1 9 n = M.2.1 9 n := by rw [q2]; exact e9
    unfold stF
    rw [ex9]
    have k17 : ∀ t, X.2.1 17 t = if (t / 32 < n + 1 ∧ t % 32 < L ∧ ¬ c.1 = 0 ∧ M.2.1 9 (t / 32) = p) then 0 else M.2.1 17 t := by
      intro t
      rw [q3 t, h3 t]
      by_cases z : t / 32 = n
      · by_cases z2 : t % 32 < L ∧ ¬ c.1 = 0 ∧ M.2.1 9 n = p
        · rw [if_pos ⟨z, z2⟩, if_pos ⟨by omega, z2.1, z2.2.1, by rw [z]; exact z2.2.2⟩]
        · rw [if_neg (fun q => z2 q.2), if_neg (fun q => by omega), if_neg (fun q => z2 ⟨q.2.1, q.2.2.1, by rw [← z]; exact q.2.2.2⟩)]
      · rw [if_neg (fun q => z q.1)]
        by_cases z2 : t / 32 < n ∧ t % 32 < L ∧ ¬ c.1 = 0 ∧ M.2.1 9 (t / 32) = p
        · rw [if_pos z2, if_pos ⟨by omega, z2.2⟩]
        · rw [if_neg z2, if_neg (fun q => z2 ⟨by omega, q.2⟩)]
    by_cases z : ¬ c.2 = 0 ∧ M.2.1 9 n = p
    · rw [if_pos z]
      refine ⟨(h1.tr q1).tr (frm.rf.mA (by decide)), fun s => ?_, fun t => by rw [mA_a, if_neg (by decide)]; exact k17 t⟩
      rw [mA_a, if_pos rfl]
      show (if s = n then -1 else X.2.1 9 s) = _
      by_cases e : s = n
      · rw [if_pos e, e, if_pos ⟨by omega, z⟩]
      · rw [if_neg e, q2, h2 s]
        by_cases z2 : s < n ∧ ¬ c.2 = 0 ∧ M.2.1 9 s = p
        · rw [if_pos z2, if_pos ⟨by omega, z2.2⟩]
        · rw [if_neg z2, if_neg (fun q => z2 ⟨by omega, q.2⟩)]
    · rw [if_neg z]
      refine ⟨h1.tr q1, fun s => ?_, k17⟩
      rw [q2, h2 s]
      by_cases z2 : s < n ∧ ¬ c.2 = 0 ∧ M.2.1 9 s = p
      · rw [if_pos z2, if_pos ⟨by omega, z2.2⟩]
      · rw [if_neg z2, if_neg]
        rintro ⟨w1, w2⟩
        by_cases e : s = n
        · subst e; exact z w2
        · exact z2 ⟨by omega, w2⟩
def stC (M : MS) (L : Nat) (p : Int32) : Int32 × Int32 := iter (stO M L p) 0 128 (1, 1)
/-- what the barrier comes to -/
theorem settleP (M : MS) (L : Nat) (hL : L ≤ 32) (p : Int32) (hp : p ≠ -1) : frm [21] [9, 17] M (z_settle M L p) ∧ (z_settle M L p).1 21 = M.1 21 + (if (stC M L p).2 = 0 then 0 else 1) ∧ (∀ s, (z_settle M L p).2.1 9 s = if (s < 128 ∧ ¬ (stC M L p).2 = 0 ∧ M.2.1 9 s = p) then -1 else M.2.1 9 s) ∧ ∀ t, (z_settle M L p).2.1 17 t = if (t / 32 < 128 ∧ t % 32 < L ∧ ¬ (stC M L p).1 = 0 ∧ M.2.1 9 (t / 32) = p) then 0 else M.2.1 17 t := by
  unfold z_settle endS
  obtain ⟨h1, h2, h3⟩ := stW_P M L hL p hp (stC M L p) 128
  unfold stC at *
  refine ⟨(h1.up (fun k hk => absurd hk List.not_mem_nil) (fun k hk => hk)).mI (by decide), ?_, h2, h3⟩
  rw [mI_g, if_pos rfl, h1.1 21 List.not_mem_nil]
end C42
