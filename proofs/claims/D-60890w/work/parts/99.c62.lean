/-! C62: new arrays of an owner; new lanes, warps, blocks -/
section C62
variable {nC nS n : Nat} {A A' : AH} {V V' V'' : CW} {E E' : EL} {ad ad' : AA} {M M' : MS} {P : PP}
/-- one owner's rows: a new array of nothing -/
def AN (V V' : CW) (a d m : Nat) : Prop := V'.1 = V.1 ∧ VF (fun z => z = a) V V' ∧ (∃ y, xr V' d a 0 = some y ∧ fr V' y = none ∧ xn V' d a = m) ∧ (∀ i, xi V' (d + 50) a i = 0) ∧ (∀ d', d' ≠ d → xr V' d' a = xr V d' a ∧ xn V' d' a = xn V d' a) ∧ ∀ d', d' ≠ d + 50 → xi V' d' a = xi V d' a
theorem newI {a c k : Nat} (m : Nat) (h : St (nC + 1) (nS + m) A V) (ha : kdV V a = c + 1) (hk : k < nfl c) (hr : isR c k = true) (ho : own c k = 1 ∨ own c k = 2) (hm : m ≤ 4096) : ∃ A1 A2 V2, (if own c k = 1 then nAI A (nI m) else nAZ A (nI m)) = some A1 ∧ pR A1 (some a) c k (some (hN A)) = some A2 ∧ St nC nS A2 V2 ∧ AN V V2 a (100 * c + k) m := by
  have hf0 : fr V (hN A) = none := by
    cases e : fr V (hN A) with
    | none => rfl
    | some w => exact absurd (h.2.2.2.2 _ _ e).1 (Nat.lt_irrefl _)
  have hk50 : k < 50 := by have := nfl_lt c; omega
  have fin : ∀ (t : Nat) (A1 : AH), own c k - 1 = t → St nC nS A1 (vF V (hN A) (some (.inl (t, m, .inl fun _ => 0)))) → ∃ A2 V2, pR A1 (some a) c k (some (hN A)) = some A2 ∧ St nC nS A2 V2 ∧ AN V V2 a (100 * c + k) m := by
    intro t A1 ht s1
    obtain ⟨A2, e2, _, s2⟩ := s1.abI (a := a) (c := c) (k := k) (x := hN A) (n := m) (f := fun _ => 0) ha hk hr ho h.lse0 (by rw [ht]; exact if_pos rfl)
    refine ⟨A2, _, e2, s2, rfl, ⟨fun b hb => ⟨rfl, fun hne d => ⟨?_, ?_, rfl, ?_⟩⟩, ?_, rfl⟩, ⟨hN A, ?_, ?_, ?_⟩, fun i => ?_, fun d' hd' => ⟨?_, ?_⟩, fun d' hd' => ?_⟩
    · funext i
      exact if_neg (fun z => hne z.2)
    · funext i
      exact if_neg (fun z => hne z.2.1)
    · exact if_neg (fun z => hne z.2)
    · funext q
      show (if q = hN A then none else if q = hN A then _ else fr V q) = fr V q
      by_cases e : q = hN A
      · rw [if_pos e, e, hf0]
      · rw [if_neg e, if_neg e]
    · exact if_pos ⟨rfl, rfl, rfl⟩
    · show (if hN A = hN A then none else _) = none
      rw [if_pos rfl]
    · exact if_pos ⟨rfl, rfl⟩
    · exact if_pos ⟨rfl, rfl⟩
    · funext i
      exact if_neg (fun z => hd' z.1)
    · exact if_neg (fun z => hd' z.1)
    · funext i
      exact if_neg (fun z => hd' z.1)
  rcases ho with o1 | o2
  · obtain ⟨A1, e1, _, s1⟩ := h.nai m (by omega) (n := nS) (Nat.le_refl _)
    obtain ⟨A2, V2, q1, q2, q3⟩ := fin 0 A1 (by rw [o1]) s1
    exact ⟨A1, A2, V2, by rw [if_pos o1]; exact e1, q1, q2, q3⟩
  · obtain ⟨A1, e1, _, s1⟩ := h.naz m (by omega) (n := nS) (Nat.le_refl _)
    obtain ⟨A2, V2, q1, q2, q3⟩ := fin 1 A1 (by rw [o2]) s1
    exact ⟨A1, A2, V2, by rw [if_neg (by rw [o2]; decide)]; exact e1, q1, q2, q3⟩
theorem e14_init {l : Nat} (h : St (nC + 2) (nS + 20) A V) (hl : kdV V l = 15) : Res (fX14_init l A) (fun A' => ∃ V', St nC nS A' V' ∧ V'.1 = V.1 ∧ VF (fun z => z = l) V V' ∧ OW V' 14 0 l 16 ∧ OW V' 14 1 l 4) := by
  unfold fX14_init
  obtain ⟨A1, A2, V2, e1, e2, s2, n2⟩ := newI (nC := nC + 1) (nS := nS + 4) (a := l) (c := 14) (k := 0) 16 h hl (by decide) rfl (Or.inl rfl) (by omega)
  have e1 : nAI A (nI 16) = some A1 := e1
  refine Res.b e1 (Res.b e2 ?_)
  have hl2 : kdV V2 l = 15 := by rw [kdV, n2.1]; exact hl
  obtain ⟨A3, A4, V4, e3, e4, s4, n4⟩ := newI (nC := nC) (nS := nS) (a := l) (c := 14) (k := 1) 4 s2 hl2 (by decide) rfl (Or.inr rfl) (by omega)
  have e3 : nAZ A2 (nI 4) = some A3 := e3
  refine Res.b e3 (Res.b e4 (Res.r ⟨V4, s4, n4.1.trans n2.1, n2.2.1.tr n4.2.1, ?_, n4.2.2.1⟩))
  obtain ⟨y, y1, y2, y3⟩ := n2.2.2.1
  obtain ⟨q1, q2⟩ := n4.2.2.2.2.1 1400 (by decide)
  refine ⟨y, by rw [q1]; exact y1, by rw [n4.2.1.2.1]; exact y2, by rw [q2]; exact y3⟩
end C62
