/-! C11: lanes and warps, read: who goes, who does -/
def UO (V : CW) (u : Nat) (M : MS) (k S : Nat) : Prop := kdV V u = 9 ∧ OW V 8 0 u S ∧ xi V 801 u 0 = M.2.1 7 k ∧ xi V 802 u 0 = M.2.1 5 k ∧ xi V 803 u 0 = M.2.1 6 k ∧ xi V 804 u 0 = M.2.1 8 k
abbrev doesP (M : MS) (t : Nat) : Prop := M.1 56 < 8 ∨ ¬ (b2i (hasP M t (M.1 56)) = if M.1 56 &&& 4 = 0 then (0 : Int32) else 1)
theorem and4 : ∀ g, g < 16 → ((nI g &&& 4 = 4) ↔ ¬ (nI g &&& 4 = 0)) := by decide
/-- lanes of a warp, as threads of slot s -/
def LNs (V : CW) (ls : List Nat) (M : MS) (s : Nat) : Prop := ls.length ≤ 32 ∧ (∀ j, j < 32 → (lnI M s j ↔ j < ls.length)) ∧ ∀ k l, ls[k]? = some l → LN V l M (32 * s + k) (M.2.1 15 (32 * s + k))
section C11
variable {nC nS : Nat} {A : AH} {V : CW} {w x : Nat} {M : MS}
theorem e8_isFree (h : St nC nS A V) (hx : WM V x M) {u k S : Nat} (hu : UO V u M k S) : fX8_isFree u (some x) (M.1 15) A = some (b2i ((¬ srt M = 4 ∨ M.2.1 5 k ≤ M.1 15) ∧ (¬ srt M = 5 ∨ M.2.1 6 k ≤ M.1 15))) := by
  unfold fX8_isFree
  refine ob (wg6 h hx) (ob ((h.gi 2 (c := 8) hu.1 (by decide) rfl).trans (congrArg some hu.2.2.2.1)) ?_)
  have g3 : gI A (some u) 8 3 = some (M.2.1 6 k) := (h.gi 3 (c := 8) hu.1 (by decide) rfl).trans (congrArg some hu.2.2.2.2.1)
  simp only [jn, sa_eq h hx.2.1 (srt_lt M) (show 4 < 8 by omega), sa_eq h hx.2.1 (srt_lt M) (show 5 < 8 by omega), g3, Option.bind_some]
  by_cases c4 : srt M = 4 ∧ M.1 15 < M.2.1 5 k
  · rw [if_pos c4, b2i_f (fun z => z.1.elim (fun q => q c4.1) (fun q => absurd c4.2 (Int32.not_lt.mpr q)))]
    rfl
  · rw [if_neg c4]
    have d4 : ¬ srt M = 4 ∨ M.2.1 5 k ≤ M.1 15 := by
      by_cases e : srt M = 4
      · exact Or.inr (Int32.not_lt.mp (fun z => c4 ⟨e, z⟩))
      · exact Or.inl e
    by_cases c5 : srt M = 5 ∧ M.1 15 < M.2.1 6 k
    · rw [if_pos c5, b2i_f (fun z => z.2.elim (fun q => q c5.1) (fun q => absurd c5.2 (Int32.not_lt.mpr q)))]
      rfl
    · rw [if_neg c5]
      have d5 : ¬ srt M = 5 ∨ M.2.1 6 k ≤ M.1 15 := by
        by_cases e : srt M = 5
        · exact Or.inr (Int32.not_lt.mp (fun z => c5 ⟨e, z⟩))
        · exact Or.inl e
      rw [b2i_t ⟨d4, d5⟩]
      rfl
theorem e14_does (h : St nC nS A V) (hx : WM V x M) {l t g : Nat} {pl : Int32} (hl : LN V l M t pl) (h56 : M.1 56 = nI g) (hg : g < 16) : fX14_does l (some x) A = some (b2i (doesP M t)) := by
  obtain ⟨l1, l2, l3, l4, l5, l6, l7, l8⟩ := hl
  obtain ⟨y, y1, y2, y3⟩ := l3
  have hlo := lo2_lt (M.1 56)
  unfold fX14_does
  refine ob (h.rc (c := 5) hx.1) (ob (e5_isGuarded h hx) ?_)
  rw [jn_eq, jn_eq]
  by_cases c8 : M.1 56 < 8
  · rw [if_pos (by rw [b2i_0]; exact not_not_intro c8), b2i_t (Or.inl c8)]
    rfl
  · rw [if_neg (by rw [b2i_0]; exact not_not_intro c8)]
    refine ob ((h.gr 1 (c := 14) l1 (by decide) rfl).trans (congrArg some y1)) (ob (wg4 h hx) ?_)
    rw [and3]
    refine ob ((h.az (lo2 (M.1 56)) (c := 14) (k := 1) l1 rfl y1 y2 (by omega) (by omega)).trans (congrArg some (l5 _ hlo))) ?_
    refine jn_v (if M.1 56 &&& 4 = 0 then (0 : Int32) else 1) (fun j => ?_) ?_
    · by_cases c4 : M.1 56 &&& 4 = 0
      · rw [if_pos c4, if_neg (fun z => by rw [h56] at z c4; exact ((and4 g hg).mp z) c4)]
      · rw [if_neg c4, if_pos (by rw [h56] at c4 ⊢; exact (and4 g hg).mpr c4)]
    · by_cases ce : b2i (hasP M t (M.1 56)) = (if M.1 56 &&& 4 = 0 then (0 : Int32) else 1)
      · rw [if_pos ce, b2i_f (fun z => z.elim c8 (fun q => q ce))]
        rfl
      · rw [if_neg ce, b2i_t (Or.inr ce)]
        rfl
theorem e7_address (h : St nC nS A V) (hx : WM V x M) {l t a : Nat} {pl : Int32} (hl : LN V l M t pl) (h54 : M.1 54 = nI a) (ha : a < 16) : fX7_address (some l) (some x) A = some (rgV M t a + M.1 57) := by
  obtain ⟨l1, ⟨y, y1, y2, y3⟩, l3, l4, l5, l6, l7, l8⟩ := hl
  unfold fX7_address
  refine ob ((h.gr 0 (c := 14) l1 (by decide) rfl).trans (congrArg some y1)) (ob ((wg2 h hx).trans (congrArg some h54)) (ob ((h.ai a (c := 14) (k := 0) l1 rfl y1 y2 (by omega) (by omega)).trans (congrArg some (l4 a ha))) (ob (wg5 h hx) rfl)))
theorem e7_trouble (h : St nC nS A V) (hx : WM V x M) {m l t a b : Nat} {pl : Int32} (hl : LN V l M t pl) (hm : kdV V m = 8) (h6 : xi V 703 m 0 = M.1 6) (h6p : 0 < M.1 6) (h54 : M.1 54 = nI a) (h55 : M.1 55 = nI b) (ha : a < 16) (hb : b < 16) : fX7_trouble m (some l) (some x) A = some (whyV M t a b) := by
  have had := e7_address h hx hl h54 ha
  obtain ⟨l1, ⟨y, y1, y2, y3⟩, l3, l4, l5, l6, l7, l8⟩ := hl
  have hrb : gR A (some l) 14 0 = some (some y) := (h.gr 0 (c := 14) l1 (by decide) rfl).trans (congrArg some y1)
  have hrv : aI A (some y) (nI b) = some (rgV M t b) := (h.ai b (c := 14) (k := 0) l1 rfl y1 y2 (by omega) (by omega)).trans (congrArg some (l4 b hb))
  have g3 : gI A (some m) 7 3 = some (M.1 6) := (h.gi 3 (c := 7) hm (by decide) rfl).trans (congrArg some h6)
  unfold fX7_trouble
  refine ob (wg6 h hx) ?_
  simp only [jn, sa_eq h hx.2.1 (srt_lt M) (show 4 < 8 by omega), sa_eq h hx.2.1 (srt_lt M) (show 5 < 8 by omega), ix8_sa h hx.2.1 (srt_lt M), e5_isMem h hx, Option.bind_some, hrb, wg3 h hx, h55, hrv, g3, had, b2i_0]
  unfold whyV
  have s4 := srtD M
  have s5 := srtS M
  by_cases c4 : srt M = 4
  · have c78 := s4.mp c4
    rw [if_pos c4]
    have hnm : ¬ memP M := by
      rcases c78 with e | e <;> rw [memP, e] <;> decide
    by_cases c0 : rgV M t b = 0
    · rw [if_pos c0, if_pos ⟨c78, c0⟩]
    · rw [if_neg c0, if_neg (fun z => c0 z.2), if_neg (fun z => hnm z.1)]
  · have c78 : ¬ (M.1 52 = 7 ∨ M.1 52 = 8) := fun z => c4 (s4.mpr z)
    rw [if_neg c4, if_neg (show ¬ ((M.1 52 = 7 ∨ M.1 52 = 8) ∧ rgV M t b = 0) from fun z => c78 z.1)]
    by_cases cm : memP M
    · rw [if_neg (not_not_intro cm)]
      by_cases c0 : rgV M t a + M.1 57 < 0
      · rw [if_pos c0, if_pos ⟨cm, Or.inl c0⟩]
      · rw [if_neg c0]
        by_cases cs : shP M
        · rw [if_pos (s5.mpr cs)]
          by_cases cl : rgV M t a + M.1 57 < 64
          · rw [if_pos cl, if_neg (fun z => z.2.elim c0 (fun q => q (by rw [if_pos cs]; exact cl)))]
          · rw [if_neg cl, if_pos ⟨cm, Or.inr (by rw [if_pos cs]; exact cl)⟩]
        · rw [if_neg (fun z => cs (s5.mp z))]
          by_cases cl : rgV M t a + M.1 57 < M.1 6
          · rw [if_pos cl, if_neg (fun z => z.2.elim c0 (fun q => q (by rw [if_neg cs]; exact cl)))]
          · rw [if_neg cl, if_pos ⟨cm, Or.inr (by rw [if_neg cs]; exact cl)⟩]
    · have cs : ¬ shP M := fun cs => by rcases cs with e | e | e | e <;> exact cm (by rw [memP, e]; decide)
      rw [if_pos cm, if_neg (show ¬ (0 : Int32) < 0 by decide), if_neg (show ¬ srt M = 5 from fun z => cs (s5.mp z)), if_pos h6p, if_neg (show ¬ (memP M ∧ _) from fun z => cm z.1)]
end C11
