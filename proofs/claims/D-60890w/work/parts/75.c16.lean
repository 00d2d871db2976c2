/-! C16: what a lane does, by itself -/
def CP (V : CW) (E : EL) (ad : AA) (M : MS) (P : PP) : Prop := CX V ad M ∧ GL V E ∧ WT V E ∧ SH V E ad M P
def fmP (M M' : MS) : Prop := M'.2.1 9 = M.2.1 9 ∧ M'.2.1 10 = M.2.1 10 ∧ M'.1 1 = M.1 1 ∧ M'.1 13 = M.1 13 ∧ M'.1 2 = M.1 2
/-- the next heap: ints alone have changed -/
def Nx (nC nS : Nat) (V : CW) (ad : AA) (M' : MS) (A' : AH) : Prop := ∃ V', St nC nS A' V' ∧ IV V V' ∧ CX V' ad M'
theorem mA_comm (M : MS) {a b : Nat} (i j : Nat) (v w : Int32) (h : a ≠ b) : mA (mA M a i v) b j w = mA (mA M b j w) a i v := by
  refine Prod.ext rfl (Prod.ext ?_ rfl)
  funext c
  show (mA (mA M a i v) b j w).2.1 c = (mA (mA M b j w) a i v).2.1 c
  rw [mA_a, mA_a, mA_a, mA_a, mA_a, mA_a]
  by_cases c1 : c = b
  · subst c1
    rw [if_pos rfl, if_neg (fun z => h z.symm), if_neg (fun z => h z.symm), if_pos rfl]
  · rw [if_neg c1, if_neg c1]
    by_cases c2 : c = a
    · subst c2
      rw [if_pos rfl, if_pos rfl, if_neg h]
    · rw [if_neg c2, if_neg c2]
theorem mA_cm2 (M : MS) {a : Nat} {i j : Nat} (v w : Int32) (h : i ≠ j) : mA (mA M a i v) a j w = mA (mA M a j w) a i v := by
  refine Prod.ext rfl (Prod.ext ?_ rfl)
  funext c
  show (mA (mA M a i v) a j w).2.1 c = (mA (mA M a j w) a i v).2.1 c
  rw [mA_a, mA_a, mA_a, mA_a, mA_a, mA_a]
  by_cases c1 : c = a
  · subst c1
    simp only [if_true]
    funext q
    show (if q = j then w else if q = i then v else _) = (if q = i then v else if q = j then w else _)
    by_cases q1 : q = j
    · rw [if_pos q1, if_neg (fun z => h (z.symm.trans q1)), if_pos q1]
    · rw [if_neg q1, if_neg q1]
  · simp only [if_neg c1]
section C16
variable {nC nS n : Nat} {A : AH} {V V' : CW} {E : EL} {ad : AA} {M : MS} {P : PP}
theorem CP.nxb (h : CP V E ad M P) {M' : MS} (hi : IB V V') (hc : CX V' ad M') (hf : fmP M M') : CP V' E ad M' P := ⟨hc, h.2.1.iob hi, h.2.2.1.iob hi, (h.2.2.2.iob hi).fm hf.1 hf.2.1 hf.2.2.1 hf.2.2.2.1 hf.2.2.2.2⟩
theorem CP.nx (h : CP V E ad M P) {M' : MS} (hi : IV V V') (hc : CX V' ad M') (hf : fmP M M') : CP V' E ad M' P := ⟨hc, h.2.1.io hi, h.2.2.1.io hi, (h.2.2.2.io hi).fm hf.1 hf.2.1 hf.2.2.1 hf.2.2.2.1 hf.2.2.2.2⟩
theorem WM.iob {x : Nat} (h : WM V x M) (hi : IB V V') : WM V' x M := by
  obtain ⟨h1, h2, h3, h4, h5, h6, h7, h8, h9⟩ := h
  have e : ∀ d, 500 ≤ d → d < 506 → xi V' d = xi V d := fun d a b => hi.2.2 d (by
    unfold cdC cdA fdC
    simp only [List.mem_cons, List.not_mem_nil, or_false]
    omega) (by unfold scr; omega) (by omega)
  have e1 := hi.1
  refine ⟨by rw [kdV, e1]; exact h1, by rw [hi.eq]; exact h2, by rw [e 500 (by omega) (by omega)]; exact h3, by rw [e 501 (by omega) (by omega)]; exact h4, by rw [e 502 (by omega) (by omega)]; exact h5, by rw [e 503 (by omega) (by omega)]; exact h6, by rw [e 504 (by omega) (by omega)]; exact h7, by rw [e 505 (by omega) (by omega)]; exact h8, by rw [hi.eq]; exact h9⟩
theorem WM.io {x : Nat} (h : WM V x M) (hi : IV V V') : WM V' x M := h.iob hi.b
theorem srt_fm {M M' : MS} (h2 : M'.1 52 = M.1 52) (h7 : M'.1 57 = M.1 57) : srt M' = srt M := by
  unfold srt
  rw [h2, h7]
theorem WM.fm {x : Nat} {M' : MS} (h : WM V x M) (e : ∀ k, 52 ≤ k → k < 58 → M'.1 k = M.1 k) : WM V x M' := by
  obtain ⟨h1, h2, h3, h4, h5, h6, h7, h8, h9⟩ := h
  refine ⟨h1, h2, by rw [e 52 (by omega) (by omega)]; exact h3, by rw [e 53 (by omega) (by omega)]; exact h4, by rw [e 54 (by omega) (by omega)]; exact h5, by rw [e 55 (by omega) (by omega)]; exact h6, by rw [e 56 (by omega) (by omega)]; exact h7, by rw [e 57 (by omega) (by omega)]; exact h8, by rw [srt_fm (e 52 (by omega) (by omega)) (e 57 (by omega) (by omega))]; exact h9⟩
/-- a lane's registers -/
theorem CP.rg (cp : CP V E ad M P) (h : St nC nS A V) {t l : Nat} (hl : ad 14 t = some l) : ∃ y, gR A (some l) 14 0 = some (some y) ∧ (∀ r, r < 16 → aI A (some y) (nI r) = some (rgV M t r)) ∧ ∀ r v, r < 16 → ∃ A', sI A (some y) (nI r) v = some A' ∧ Nx nC nS V ad (mA M 13 (16 * t + r) v) A' := by
  have hk := cp.2.2.2.kk hl
  obtain ⟨l1, ⟨y, y1, y2, y3⟩, l3, l4, _⟩ := cp.2.2.2.ln cp.1 cp.2.2.1 hl
  refine ⟨y, (h.gr 0 (c := 14) hk (by decide) rfl).trans (congrArg some y1), fun r hr => ?_, fun r v hr => ?_⟩
  · exact (h.ai r (c := 14) (k := 0) hk rfl y1 y2 (by rw [y3]; exact hr) (by omega)).trans (congrArg some (l4 r hr))
  · obtain ⟨A', e, s⟩ := h.si r v (c := 14) (k := 0) hk rfl y1 y2 (by rw [y3]; exact hr) (by omega)
    exact ⟨A', e, _, s, IV.vI (Or.inl (by decide)), cp.1.setA (d := 1450) (k := t) (i := r) cp.2.2.2.1 v (by decide) hr hl⟩
/-- a lane's predicates -/
theorem bitP_say (b : Int32) {p q : Nat} (hp : p < 4) (hq : q < 4) (x : Int32) : bitP (if x = 0 then b &&& (((1 : Int32) <<< (nI p &&& 31)) ^^^ (-1)) else b ||| ((1 : Int32) <<< (nI p &&& 31))) q ↔ if q = p then ¬ x = 0 else bitP b q := by
  rw [bitP_bt _ (by omega), bitP_bt _ (by omega)]
  by_cases c : x = 0
  · rw [if_pos c, bt_andn (by omega) (by omega)]
    by_cases e : q = p
    · rw [if_pos e, decide_eq_true e]
      simp [c]
    · rw [if_neg e, decide_eq_false e]
      simp
  · rw [if_neg c, bt_or, bt_1 (by omega) (by omega)]
    by_cases e : q = p
    · rw [if_pos e, decide_eq_true e]
      simp [c]
    · rw [if_neg e, decide_eq_false e]
      simp
theorem CP.pd (cp : CP V E ad M P) (h : St nC nS A V) {t l : Nat} (hl : ad 14 t = some l) : ∃ y, gR A (some l) 14 1 = some (some y) ∧ (∀ p, p < 4 → aZ A (some y) (nI p) = some (b2i (bitP (M.2.1 14 t) p))) ∧ ∀ x, (x = 0 ∨ x = 1) → ∃ A', sZ A (some y) (nI (lo2 (M.1 53))) x = some A' ∧ Nx nC nS V ad (z_say M t x) A' := by
  have hk := cp.2.2.2.kk hl
  obtain ⟨l1, l2, ⟨y, y1, y2, y3⟩, l4, l5, _⟩ := cp.2.2.2.ln cp.1 cp.2.2.1 hl
  have hlo := lo2_lt (M.1 53)
  refine ⟨y, (h.gr 1 (c := 14) hk (by decide) rfl).trans (congrArg some y1), fun p hp => ?_, fun x hx => ?_⟩
  · exact (h.az p (c := 14) (k := 1) hk rfl y1 y2 (by rw [y3]; exact hp) (by omega)).trans (congrArg some (l5 p hp))
  · obtain ⟨A', e, s⟩ := h.sz (lo2 (M.1 53)) x (c := 14) (k := 1) hk rfl y1 y2 (by rw [y3]; exact hlo) (by omega)
    have hnb : nb x = x := by rcases hx with e | e <;> rw [e] <;> rfl
    rw [hnb] at s
    exact ⟨A', e, _, s, IV.vI (Or.inr (Or.inr (Or.inl rfl))), cp.1.setP cp.2.2.2.1 x _ hlo hl (fun q hq => bitP_say _ hlo hq x) hx⟩
/-- a lane's place, whether it has ended, whether it waits -/
theorem CP.lf (cp : CP V E ad M P) (h : St nC nS A V) {t l : Nat} (hl : ad 14 t = some l) (k : Nat) (hk2 : k = 2 ∨ k = 3 ∨ k = 4) : gI A (some l) 14 k = some (M.2.1 (13 + k) t) ∧ ∀ v, ∃ A', pI A (some l) 14 k v = some A' ∧ Nx nC nS V ad (mA M (13 + k) t v) A' := by
  have hk := cp.2.2.2.kk hl
  rcases hk2 with e | e | e <;> subst e
  · refine ⟨(h.gi 2 (c := 14) hk (by decide) rfl).trans (congrArg some (cp.1 1402 t 0 l (Or.inl (by decide)) (by decide) hl)), fun v => ?_⟩
    obtain ⟨A', e, s⟩ := h.pi 2 v (c := 14) hk (by decide) rfl
    exact ⟨A', e, _, s, IV.vI (Or.inl (by decide)), cp.1.setA (d := 1402) (k := t) (i := 0) cp.2.2.2.1 v (by decide) (by decide) hl⟩
  · refine ⟨(h.gi 3 (c := 14) hk (by decide) rfl).trans (congrArg some (cp.1 1403 t 0 l (Or.inl (by decide)) (by decide) hl)), fun v => ?_⟩
    obtain ⟨A', e, s⟩ := h.pi 3 v (c := 14) hk (by decide) rfl
    exact ⟨A', e, _, s, IV.vI (Or.inl (by decide)), cp.1.setA (d := 1403) (k := t) (i := 0) cp.2.2.2.1 v (by decide) (by decide) hl⟩
  · refine ⟨(h.gi 4 (c := 14) hk (by decide) rfl).trans (congrArg some (cp.1 1404 t 0 l (Or.inl (by decide)) (by decide) hl)), fun v => ?_⟩
    obtain ⟨A', e, s⟩ := h.pi 4 v (c := 14) hk (by decide) rfl
    exact ⟨A', e, _, s, IV.vI (Or.inl (by decide)), cp.1.setA (d := 1404) (k := t) (i := 0) cp.2.2.2.1 v (by decide) (by decide) hl⟩
theorem e7_left (op v y was : Int32) (A : AH) : fX7_left op v y was A = some (lftV op v y was) := by
  unfold fX7_left lftV
  simp only [jn]
  by_cases c1 : op = 51
  · simp [c1]
  by_cases c2 : op = 52
  · simp [c2]
  by_cases c3 : op = 53
  · simp [c3]
  by_cases c4 : op = 54
  · simp [c4]
  by_cases c5 : op = 55
  · simp (decide := true) only [c5, if_true, if_false, or_self]
    by_cases e : v < y
    · rw [if_pos e, if_pos (Int32.le_of_lt e)]
    · rw [if_neg e]
      by_cases e2 : v ≤ y
      · rw [if_pos e2, Int32.le_antisymm e2 (Int32.not_lt.mp e)]
      · rw [if_neg e2]
  by_cases c6 : op = 56
  · simp [c6]
  by_cases c7 : op = 57
  · simp (decide := true) only [c7, if_true, if_false, or_self]
    by_cases e : v = was
    · rw [if_pos e, if_pos e]
    · rw [if_neg e, if_neg e]
  by_cases c8 : op = 58
  · simp [c8]
  by_cases c9 : op = 59
  · simp [c9]
  simp [c1, c2, c3, c4, c5, c6, c7, c8, c9]
theorem e7_reckoned (x y : Int32) (t : Nat) (A : AH) (hop : M.1 52 = 4 ∨ M.1 52 = 5 ∨ M.1 52 = 6 ∨ M.1 52 = 7 ∨ M.1 52 = 8 ∨ M.1 52 = 9 ∨ M.1 52 = 10 ∨ M.1 52 = 11 ∨ M.1 52 = 12 ∨ M.1 52 = 13 ∨ M.1 52 = 14 ∨ M.1 52 = 15 ∨ M.1 52 = 16 ∨ M.1 52 = 17) (hy : (M.1 52 = 7 ∨ M.1 52 = 8) → ¬ y = 0) : fX7_reckoned (M.1 52) x y A = some (rckV M x y t) := by
  have h31 : (y &&& 31) &&& 31 = y &&& 31 := by rw [Int32.and_assoc]; rfl
  have h31u : Int32.toUInt32 (y &&& 31) &&& Int32.toUInt32 31 = Int32.toUInt32 y &&& Int32.toUInt32 31 := by
    rw [Int32.toUInt32_and, UInt32.and_assoc, UInt32.and_self]
  unfold fX7_reckoned rckV
  rcases hop with e | e | e | e | e | e | e | e | e | e | e | e | e | e
  · simp [e]
  · simp [e]
  · simp [e]
  · have hy0 : ¬ y = 0 := hy (Or.inl e)
    simp (decide := true) only [e, if_true, if_false, jn, dz, hy0, Option.bind_some]
    split <;> rfl
  · have hy0 : ¬ y = 0 := hy (Or.inr e)
    simp (decide := true) only [e, if_true, if_false, jn, dz, hy0, Option.bind_some]
    split <;> rfl
  · simp [e]
  · simp [e]
  · simp [e]
  · simp (decide := true) only [e, if_true, if_false, h31]
  · simp (decide := true) only [e, if_true, if_false, h31u]
  · simp (decide := true) only [e, if_true, if_false, h31]
  · simp (decide := true) only [e, if_true, if_false]
    refine congrArg some ?_
    by_cases c : y < x
    · rw [if_pos c, if_pos (Int32.le_of_lt c)]
    · rw [if_neg c]
      by_cases c2 : y ≤ x
      · rw [if_pos c2, Int32.le_antisymm c2 (Int32.not_lt.mp c)]
      · rw [if_neg c2]
  · simp (decide := true) only [e, if_true, if_false]
    refine congrArg some ?_
    by_cases c : x < y
    · rw [if_pos c, if_pos (Int32.le_of_lt c)]
    · rw [if_neg c]
      by_cases c2 : x ≤ y
      · rw [if_pos c2, Int32.le_antisymm c2 (Int32.not_lt.mp c)]
      · rw [if_neg c2]
  · simp (decide := true) only [e, if_true, if_false]
end C16
