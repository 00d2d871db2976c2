/-! C8: words -/
def srt (M : MS) : Nat := if ((M.1 52 < 2 ∨ M.1 52 = 40) ∨ M.1 52 = 42) then 0 else if (M.1 52 = 3 ∧ (M.1 57 < 0 ∨ ¬ M.1 57 ≤ 6)) then 7 else if ((M.1 52 = 6 ∨ M.1 52 = 17) ∨ M.1 52 = 19) then 2 else if (M.1 52 = 7 ∨ M.1 52 = 8) then 4 else if (M.1 52 ≤ 21 ∨ ¬ ((M.1 52 < 30 ∨ ¬ M.1 52 ≤ 36) ∧ ¬ M.1 52 = 41)) then 1 else if (((M.1 52 = 52 ∨ M.1 52 = 53) ∨ M.1 52 = 58) ∨ M.1 52 = 59) then 5 else if (M.1 52 < 50 ∨ 57 < M.1 52) then (if (M.1 52 < 70 ∨ 73 < M.1 52) then 7 else 3) else 6
def SJ (V : CW) : Prop := ∀ i j, i < 8 → j < 8 → sa V i = sa V j → i = j
def WM (V : CW) (w : Nat) (M : MS) : Prop := kdV V w = 6 ∧ SJ V ∧ xi V 500 w 0 = M.1 52 ∧ xi V 501 w 0 = M.1 53 ∧ xi V 502 w 0 = M.1 54 ∧ xi V 503 w 0 = M.1 55 ∧ xi V 504 w 0 = M.1 56 ∧ xi V 505 w 0 = M.1 57 ∧ xr V 506 w 0 = some (sa V (srt M))
theorem srt_lt (M : MS) : srt M < 8 := by
  unfold srt
  refine ite_P (fun k : Nat => k < 8) (fun _ => by omega) (fun _ => ite_P (fun k : Nat => k < 8) (fun _ => by omega) (fun _ => ite_P (fun k : Nat => k < 8) (fun _ => by omega) (fun _ => ite_P (fun k : Nat => k < 8) (fun _ => by omega) (fun _ => ite_P (fun k : Nat => k < 8) (fun _ => by omega) (fun _ => ite_P (fun k : Nat => k < 8) (fun _ => by omega) (fun _ => ite_P (fun k : Nat => k < 8) (fun _ => ?_) (fun _ => by omega)))))))
  exact ite_P (fun k : Nat => k < 8) (fun _ => by omega) (fun _ => by omega)
theorem srtD (M : MS) : srt M = 4 ↔ (M.1 52 = 7 ∨ M.1 52 = 8) := by
  unfold srt
  repeat' split
  all_goals first | (constructor <;> intro h <;> first | omega | grind)
theorem srtS (M : MS) : srt M = 5 ↔ shP M := by
  unfold srt
  repeat' split
  all_goals first | (constructor <;> intro h <;> first | omega | grind)
theorem srtM (M : MS) : (srt M = 5 ∨ srt M = 6) ↔ memP M := by
  unfold srt
  repeat' split
  all_goals first | (constructor <;> intro h <;> first | omega | grind)
section C8
variable {nC nS : Nat} {A : AH} {V : CW} {w : Nat} {M : MS}
theorem ix8_sa (h : St nC nS A V) (hj : SJ V) {k : Nat} (hk : k < 8) : rcS A (some (sa V k)) = some (sa V k) := by
  unfold rcS ix8
  cases e : (List.range 8).find? (fun i => decide (some (sa V k) = some (hA A i))) with
  | none =>
    rw [List.find?_eq_none] at e
    have := e k (List.mem_range.mpr hk)
    rw [h.1.2.2] at this
    simp at this
  | some i => rfl
theorem sa_eq (h : St nC nS A V) (hj : SJ V) {k j : Nat} (hk : k < 8) (hj8 : j < 8) : ((some (sa V k) : Option Nat) = some (hA A j)) = (k = j) := by
  rw [h.1.2.2]
  apply propext
  exact ⟨fun e => hj k j hk hj8 (Option.some.inj e), fun e => by rw [e]⟩
theorem e6_isMemory (h : St nC nS A V) (hj : SJ V) {k : Nat} (hk : k < 8) : fX6_isMemory (sa V k) A = some (b2i (k = 5 ∨ k = 6)) := by
  unfold fX6_isMemory
  simp only [jn, sa_eq h hj hk (show 5 < 8 by omega), sa_eq h hj hk (show 6 < 8 by omega)]
  unfold b2i
  repeat' split
  all_goals first | rfl | (exfalso; omega)
theorem wg0 (h : St nC nS A V) (hw : WM V w M) : gI A (some w) 5 0 = some (M.1 52) := (h.gi 0 (c := 5) hw.1 (by decide) rfl).trans (congrArg some hw.2.2.1)
theorem wg1 (h : St nC nS A V) (hw : WM V w M) : gI A (some w) 5 1 = some (M.1 53) := (h.gi 1 (c := 5) hw.1 (by decide) rfl).trans (congrArg some hw.2.2.2.1)
theorem wg2 (h : St nC nS A V) (hw : WM V w M) : gI A (some w) 5 2 = some (M.1 54) := (h.gi 2 (c := 5) hw.1 (by decide) rfl).trans (congrArg some hw.2.2.2.2.1)
theorem wg3 (h : St nC nS A V) (hw : WM V w M) : gI A (some w) 5 3 = some (M.1 55) := (h.gi 3 (c := 5) hw.1 (by decide) rfl).trans (congrArg some hw.2.2.2.2.2.1)
theorem wg4 (h : St nC nS A V) (hw : WM V w M) : gI A (some w) 5 4 = some (M.1 56) := (h.gi 4 (c := 5) hw.1 (by decide) rfl).trans (congrArg some hw.2.2.2.2.2.2.1)
theorem wg5 (h : St nC nS A V) (hw : WM V w M) : gI A (some w) 5 5 = some (M.1 57) := (h.gi 5 (c := 5) hw.1 (by decide) rfl).trans (congrArg some hw.2.2.2.2.2.2.2.1)
theorem wg6 (h : St nC nS A V) (hw : WM V w M) : gR A (some w) 5 6 = some (some (sa V (srt M))) := (h.gr 6 (c := 5) hw.1 (by decide) rfl).trans (congrArg some hw.2.2.2.2.2.2.2.2)
theorem e5_isMem (h : St nC nS A V) (hw : WM V w M) : fX6_isMemory (sa V (srt M)) A = some (b2i (memP M)) := by
  rw [e6_isMemory h hw.2.1 (srt_lt M)]
  refine congrArg some ?_
  unfold b2i
  by_cases c : memP M
  · rw [if_pos ((srtM M).mpr c), if_pos c]
  · rw [if_neg (fun z => c ((srtM M).mp z)), if_neg c]
theorem e5_isKnown (h : St nC nS A V) (hw : WM V w M) : fX5_isKnown w A = some (b2i (¬ srt M = 7)) := by
  unfold fX5_isKnown
  refine ob (wg6 h hw) ?_
  simp only [jn, sa_eq h hw.2.1 (srt_lt M) (show 7 < 8 by omega)]
  unfold b2i
  by_cases c : srt M = 7
  · rw [if_pos c, if_neg (not_not_intro c)]; rfl
  · rw [if_neg c, if_pos c]; rfl
theorem e5_readsFirst (h : St nC nS A V) (hw : WM V w M) : fX5_readsFirst w A = some (b2i (rdA M)) := by
  unfold fX5_readsFirst
  refine ob (wg0 h hw) ?_
  simp only [jn, wg6 h hw, ix8_sa h hw.2.1 (srt_lt M), e5_isMem h hw, Option.bind_some, b2i_0]
  unfold b2i
  repeat' split
  all_goals first | rfl | (exfalso; grind)
theorem e5_readsSecond (h : St nC nS A V) (hw : WM V w M) : fX5_readsSecond w A = some (b2i (rdB M)) := by
  unfold fX5_readsSecond
  refine ob (wg0 h hw) ?_
  simp only [jn]
  unfold b2i
  repeat' split
  all_goals first | rfl | (exfalso; grind)
theorem e5_writes (h : St nC nS A V) (hw : WM V w M) : fX5_writes w A = some (b2i (wrD M)) := by
  unfold fX5_writes
  refine ob (wg0 h hw) ?_
  simp only [jn]
  unfold b2i
  repeat' split
  all_goals first | rfl | (exfalso; grind)
theorem e5_readsOwn (h : St nC nS A V) (hw : WM V w M) : fX5_readsOwn w A = some (b2i (M.1 52 = 57)) := by
  unfold fX5_readsOwn
  refine ob (wg0 h hw) ?_
  simp only [jn]
  unfold b2i
  repeat' split
  all_goals first | rfl | (exfalso; grind)
theorem e5_decides (h : St nC nS A V) (hw : WM V w M) : fX5_decides w A = some (b2i (wrP M)) := by
  unfold fX5_decides
  refine ob (wg0 h hw) ?_
  simp only [jn]
  unfold b2i
  repeat' split
  all_goals first | rfl | (exfalso; grind)
theorem e5_isGuarded (h : St nC nS A V) (hw : WM V w M) : fX5_isGuarded w A = some (b2i (¬ M.1 56 < 8)) := by
  unfold fX5_isGuarded
  refine ob (wg4 h hw) ?_
  simp only [jn]
  unfold b2i
  repeat' split
  all_goals first | rfl | (exfalso; grind)
theorem e5_isAtomic (h : St nC nS A V) (hw : WM V w M) : fX5_isAtomic w A = some (b2i (¬ (M.1 52 < 54 ∨ 59 < M.1 52))) := by
  unfold fX5_isAtomic
  refine ob (wg0 h hw) ?_
  simp only [jn]
  unfold b2i
  repeat' split
  all_goals first | rfl | (exfalso; grind)
end C8
