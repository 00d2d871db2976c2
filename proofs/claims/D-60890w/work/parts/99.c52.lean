/-! C52: who may go: the two ways to say it -/
section C52
variable {M : MS} {s u d a b op : Nat}
theorem srt7 : srt M = 7 ↔ ¬ wrdP M := by
  unfold srt wrdP
  repeat' split
  all_goals (constructor <;> intro h <;> first | omega | grind)
/-- predicates that a word asks for are there -/
theorem pOk_all (hop : M.1 52 = nI op) (hop2 : op < 256) : (∀ p, p < 4 → pOk M s p) ↔ (rg1 M s ∧ rg3 M s ∧ (¬ (((M.1 52 = 36 ∨ M.1 52 = 70) ∨ M.1 52 = 71) ∨ M.1 52 = 72) ∨ pTh M s (M.1 54))) := by
  have l1 := lo2_lt (M.1 56)
  have l2 := lo2_lt (M.1 57)
  have l3 := lo2_lt (M.1 55)
  have l4 := lo2_lt (M.1 54)
  have hle : ∀ a b, a < 2 ^ 31 → b < 2 ^ 31 → (nI a ≤ nI b ↔ a ≤ b) := fun a b h1 h2 => ⟨fun z => Classical.byContradiction fun hn => c_nle (by omega) h1 z, fun z => c_le z h2⟩
  have hlt : ∀ a b, a < 2 ^ 31 → b < 2 ^ 31 → (nI a < nI b ↔ a < b) := fun a b h1 h2 => ⟨fun z => Classical.byContradiction fun hn => absurd z (Int32.not_lt.mpr (c_le (by omega) h1)), fun z => nI_lt z h2⟩
  have q1 : M.1 52 < 34 ↔ op < 34 := by rw [hop]; exact hlt op 34 (by omega) (by omega)
  have q2 : M.1 52 ≤ 36 ↔ op ≤ 36 := by rw [hop]; exact hle op 36 (by omega) (by omega)
  have q3 : M.1 52 < 70 ↔ op < 70 := by rw [hop]; exact hlt op 70 (by omega) (by omega)
  have q4 : 72 < M.1 52 ↔ 72 < op := by rw [hop]; exact hlt 72 op (by omega) (by omega)
  have heq : ∀ k, k < 256 → (M.1 52 = nI k ↔ op = k) := fun k hk => by rw [hop]; exact nI_eq (by omega) (by omega)
  have e34 : M.1 52 = 34 ↔ op = 34 := heq 34 (by omega)
  have e35 : M.1 52 = 35 ↔ op = 35 := heq 35 (by omega)
  have e36 : M.1 52 = 36 ↔ op = 36 := heq 36 (by omega)
  have e70 : M.1 52 = 70 ↔ op = 70 := heq 70 (by omega)
  have e71 : M.1 52 = 71 ↔ op = 71 := heq 71 (by omega)
  have e72 : M.1 52 = 72 ↔ op = 72 := heq 72 (by omega)
  have hak := fun {p : Nat} (hp : p < 32) => bt_ak M hp
  constructor
  · intro h
    have use : ∀ p, p < 4 → bt (askB M) p = true → M.2.1 12 (20 * s + (16 + p)) ≤ M.1 15 := fun p hp hb => (h p hp).resolve_left (fun z => by rw [hb] at z; cases z)
    refine ⟨?_, ⟨?_, ?_⟩, ?_⟩
    · by_cases c : M.1 56 < 8
      · exact Or.inl c
      · exact Or.inr (use _ l1 ((hak (by omega)).mpr (Or.inl ⟨c, rfl⟩)))
    · by_cases c : M.1 52 = 21
      · exact Or.inr (use _ l2 ((hak (by omega)).mpr (Or.inr (Or.inl ⟨c, rfl⟩))))
      · exact Or.inl c
    · by_cases c : M.1 52 = 34 ∨ M.1 52 = 35
      · refine Or.inr ⟨use _ l4 ((hak (by omega)).mpr (Or.inr (Or.inr (Or.inr ⟨?_, rfl⟩)))), use _ l3 ((hak (by omega)).mpr (Or.inr (Or.inr (Or.inl ⟨c, rfl⟩))))⟩
        rw [q1, q2, q3, q4]
        rw [e34, e35] at c
        omega
      · exact Or.inl c
    · by_cases c : ((M.1 52 = 36 ∨ M.1 52 = 70) ∨ M.1 52 = 71) ∨ M.1 52 = 72
      · refine Or.inr (use _ l4 ((hak (by omega)).mpr (Or.inr (Or.inr (Or.inr ⟨?_, rfl⟩)))))
        rw [q1, q2, q3, q4]
        rw [e36, e70, e71, e72] at c
        omega
      · exact Or.inl c
  · rintro ⟨h1, ⟨h2, h3⟩, h4⟩ p hp
    cases hb : bt (askB M) p with
    | false => exact Or.inl hb
    | true =>
      right
      rcases (hak (by omega)).mp hb with ⟨z1, z2⟩ | ⟨z1, z2⟩ | ⟨z1, z2⟩ | ⟨z1, z2⟩
      · rw [z2]; exact h1.resolve_left z1
      · rw [z2]; exact h2.resolve_left (not_not_intro z1)
      · rw [z2]; exact (h3.resolve_left (not_not_intro z1)).2
      · rw [z2]
        by_cases c : M.1 52 = 34 ∨ M.1 52 = 35
        · exact (h3.resolve_left (not_not_intro c)).1
        · refine h4.resolve_left (not_not_intro ?_)
          rw [q1, q2, q3, q4] at z1
          rw [e34, e35] at c
          rw [e36, e70, e71, e72]
          omega
theorem rdy_eq (hop : M.1 52 = nI op) (hop2 : op < 256) : rdyB M u s d a b = true ↔ (th6 M d a b s ∧ ((¬ srt M = 4 ∨ M.2.1 5 u ≤ M.1 15) ∧ (¬ srt M = 5 ∨ M.2.1 6 u ≤ M.1 15))) := by
  unfold rdyB rdB5 rdB4 rdB3 rdB2
  simp only [Bool.and_eq_true, decide_eq_true_eq]
  have hp := pOk_all (M := M) (s := s) hop hop2
  have h4 := srtD M
  have h5 := srtS M
  constructor
  · rintro ⟨⟨⟨⟨⟨r1, r2⟩, r3⟩, r4⟩, r5⟩, r6⟩
    have hall := hp.mpr ⟨r1, r3, r4.1⟩
    refine ⟨⟨⟨⟨⟨⟨⟨⟨⟨r2.1, r2.2.1⟩, r2.2.2⟩, r4.2⟩, hall 0 (by omega)⟩, hall 1 (by omega)⟩, hall 2 (by omega)⟩, hall 3 (by omega)⟩, r5.2⟩, ?_, ?_⟩
    · rcases r5.1 with z | z
      · exact Or.inl (fun q => z (h4.mp q))
      · exact Or.inr z
    · rcases r6 with z | z
      · exact Or.inl (fun q => z (h5.mp q))
      · exact Or.inr z
  · rintro ⟨⟨⟨⟨⟨⟨⟨⟨⟨t1, t2⟩, t3⟩, t4⟩, p0⟩, p1⟩, p2⟩, p3⟩, t6⟩, f1, f2⟩
    have hall : ∀ p, p < 4 → pOk M s p := by
      intro p hp'
      have : p = 0 ∨ p = 1 ∨ p = 2 ∨ p = 3 := by omega
      rcases this with e | e | e | e <;> subst e
      · exact p0
      · exact p1
      · exact p2
      · exact p3
    obtain ⟨g1, g2, g3⟩ := hp.mp hall
    refine ⟨⟨⟨⟨⟨g1, t1, t2, t3⟩, g2⟩, g3, t4⟩, ?_, t6⟩, ?_⟩
    · rcases f1 with z | z
      · exact Or.inl (fun q => z (h4.mpr q))
      · exact Or.inr z
    · rcases f2 with z | z
      · exact Or.inl (fun q => z (h5.mpr q))
      · exact Or.inr z
end C52
