/-! C10: lanes and warps, read -/
def OW (V : CW) (c k a n : Nat) : Prop := ∃ x, xr V (100 * c + k) a 0 = some x ∧ fr V x = none ∧ xn V (100 * c + k) a = n
/-- a lane, as thread t, with its place given -/
def LN (V : CW) (l : Nat) (M : MS) (t : Nat) (pl : Int32) : Prop := kdV V l = 15 ∧ OW V 14 0 l 16 ∧ OW V 14 1 l 4 ∧ (∀ r, r < 16 → xi V 1450 l r = M.2.1 13 (16 * t + r)) ∧ (∀ p, p < 4 → xi V 1451 l p = b2i (bitP (M.2.1 14 t) p)) ∧ xi V 1402 l 0 = pl ∧ xi V 1403 l 0 = M.2.1 16 t ∧ xi V 1404 l 0 = M.2.1 17 t
/-- a warp's own rows, as slot s -/
def WO (V : CW) (w : Nat) (M : MS) (s : Nat) : Prop := kdV V w = 14 ∧ OW V 13 3 w 16 ∧ OW V 13 4 w 4 ∧ xi V 1301 w 0 = M.2.1 10 s ∧ (∀ r, r < 16 → xi V 1353 w r = M.2.1 12 (20 * s + r)) ∧ (∀ p, p < 4 → xi V 1354 w p = M.2.1 12 (20 * s + (16 + p))) ∧ xi V 1305 w 0 = M.2.1 11 s
/-- a warp's lanes -/
def WL (V : CW) (w : Nat) (ls : List Nat) : Prop := ∃ ll cap, xr V 1302 w 0 = some ll ∧ LI V ll 14 ls cap
def ak1 (M : MS) : Int32 := if M.1 56 < 8 then 0 else (1 : Int32) <<< (nI (lo2 (M.1 56)) &&& 31)
def ak2 (M : MS) : Int32 := if M.1 52 = 21 then ak1 M ||| ((1 : Int32) <<< (nI (lo2 (M.1 57)) &&& 31)) else ak1 M
def ak3 (M : MS) : Int32 := if (M.1 52 = 34 ∨ M.1 52 = 35) then ak2 M ||| ((1 : Int32) <<< (nI (lo2 (M.1 55)) &&& 31)) else ak2 M
def askB (M : MS) : Int32 := if ((M.1 52 < 34 ∨ ¬ M.1 52 ≤ 36) ∧ (M.1 52 < 70 ∨ 72 < M.1 52)) then ak3 M else ak3 M ||| ((1 : Int32) <<< (nI (lo2 (M.1 54)) &&& 31))
abbrev pOk (M : MS) (s p : Nat) : Prop := bt (askB M) p = false ∨ M.2.1 12 (20 * s + (16 + p)) ≤ M.1 15
abbrev th1 (M : MS) (a s : Nat) : Prop := ¬ rdA M ∨ tTh M s a
abbrev th2 (M : MS) (a b s : Nat) : Prop := th1 M a s ∧ (¬ rdB M ∨ tTh M s b)
abbrev th3 (M : MS) (d a b s : Nat) : Prop := th2 M a b s ∧ ((¬ wrD M ∧ ¬ M.1 52 = 57) ∨ tTh M s d)
abbrev th4 (M : MS) (d a b s : Nat) : Prop := th3 M d a b s ∧ (¬ wrP M ∨ pTh M s (M.1 53))
abbrev th5 (M : MS) (d a b s : Nat) : Prop := (((th4 M d a b s ∧ pOk M s 0) ∧ pOk M s 1) ∧ pOk M s 2) ∧ pOk M s 3
abbrev th6 (M : MS) (d a b s : Nat) : Prop := th5 M d a b s ∧ (((¬ memP M ∧ ¬ M.1 52 = 0) ∧ ¬ M.1 52 = 1) ∨ M.2.1 11 s ≤ M.1 15)
def aftB (M : MS) (s : Nat) : Nat → Bool → Bool
  | 0, B => B && decide (((¬ memP M ∧ ¬ M.1 52 = 0) ∧ ¬ M.1 52 = 1) ∨ M.2.1 11 s ≤ M.1 15)
  | d + 1, B => aftB M s d (B && decide (pOk M s (3 - d)))
theorem b2i_c {p q : Prop} [Decidable p] [Decidable q] (h : p ↔ q) : b2i p = b2i q := by
  by_cases c : p
  · rw [b2i_t c, b2i_t (h.mp c)]
  · rw [b2i_f c, b2i_f (fun z => c (h.mpr z))]
section C10
variable {nC nS : Nat} {A : AH} {V : CW} {w x : Nat} {M : MS}
theorem e5_asked (h : St nC nS A V) (hw : WM V x M) : fX5_asked x A = some (askB M) := by
  unfold fX5_asked
  refine ob (h.rc (c := 5) hw.1) (ob (e5_isGuarded h hw) ?_)
  refine jn_v (ak1 M) (fun j => ?_) (ob (wg0 h hw) ?_)
  · unfold ak1
    by_cases c : M.1 56 < 8
    · rw [if_pos c, if_pos (by rw [b2i_0]; exact not_not_intro c)]
    · rw [if_neg c, if_neg (by rw [b2i_0]; exact not_not_intro c)]
      refine ob (wg4 h hw) ?_
      rw [and3]
  refine jn_v (ak2 M) (fun j => ?_) ?_
  · unfold ak2
    by_cases c : M.1 52 = 21
    · rw [if_pos c, if_pos c]
      refine ob (wg5 h hw) ?_
      rw [and3]
    · rw [if_neg c, if_neg c]
  refine jn_v (ak3 M) (fun j => ?_) ?_
  · unfold ak3
    by_cases c : M.1 52 = 34 ∨ M.1 52 = 35
    · rw [if_pos c, if_pos c]
      refine ob (wg3 h hw) ?_
      rw [and3]
    · rw [if_neg c, if_neg c]
  refine jn_v (askB M) (fun j => ?_) rfl
  unfold askB
  by_cases c : (M.1 52 < 34 ∨ ¬ M.1 52 ≤ 36) ∧ (M.1 52 < 70 ∨ 72 < M.1 52)
  · rw [if_pos c, if_pos c]
  · rw [if_neg c, if_neg c]
    refine ob (wg2 h hw) ?_
    rw [and3]
theorem bt_ak (M : MS) {p : Nat} (hp : p < 32) : bt (askB M) p = true ↔ ((¬ M.1 56 < 8 ∧ p = lo2 (M.1 56)) ∨ (M.1 52 = 21 ∧ p = lo2 (M.1 57)) ∨ ((M.1 52 = 34 ∨ M.1 52 = 35) ∧ p = lo2 (M.1 55)) ∨ (¬ ((M.1 52 < 34 ∨ ¬ M.1 52 ≤ 36) ∧ (M.1 52 < 70 ∨ 72 < M.1 52)) ∧ p = lo2 (M.1 54))) := by
  have l1 := lo2_lt (M.1 56)
  have l2 := lo2_lt (M.1 57)
  have l3 := lo2_lt (M.1 55)
  have l4 := lo2_lt (M.1 54)
  have b1 : bt (ak1 M) p = true ↔ (¬ M.1 56 < 8 ∧ p = lo2 (M.1 56)) := by
    unfold ak1
    by_cases c : M.1 56 < 8
    · rw [if_pos c, bt_0]
      simp [c]
    · rw [if_neg c, bt_1 (by omega) hp]
      simp [c]
  have b2 : bt (ak2 M) p = true ↔ (¬ M.1 56 < 8 ∧ p = lo2 (M.1 56)) ∨ (M.1 52 = 21 ∧ p = lo2 (M.1 57)) := by
    unfold ak2
    by_cases c : M.1 52 = 21
    · rw [if_pos c, bt_or, bt_1 (by omega) hp, Bool.or_eq_true, b1]
      simp [c]
    · rw [if_neg c, b1]
      simp [c]
  have b3 : bt (ak3 M) p = true ↔ ((¬ M.1 56 < 8 ∧ p = lo2 (M.1 56)) ∨ (M.1 52 = 21 ∧ p = lo2 (M.1 57))) ∨ ((M.1 52 = 34 ∨ M.1 52 = 35) ∧ p = lo2 (M.1 55)) := by
    unfold ak3
    by_cases c : M.1 52 = 34 ∨ M.1 52 = 35
    · rw [if_pos c, bt_or, bt_1 (by omega) hp, Bool.or_eq_true, b2]
      simp [c]
    · rw [if_neg c, b2]
      simp [c]
  unfold askB
  by_cases c : (M.1 52 < 34 ∨ ¬ M.1 52 ≤ 36) ∧ (M.1 52 < 70 ∨ 72 < M.1 52)
  · rw [if_pos c, b3]
    constructor
    · rintro ((h | h) | h)
      · exact Or.inl h
      · exact Or.inr (Or.inl h)
      · exact Or.inr (Or.inr (Or.inl h))
    · rintro (h | h | h | h)
      · exact Or.inl (Or.inl h)
      · exact Or.inl (Or.inr h)
      · exact Or.inr h
      · exact absurd c h.1
  · rw [if_neg c, bt_or, bt_1 (by omega) hp, Bool.or_eq_true, b3, decide_eq_true_eq]
    constructor
    · rintro (((h | h) | h) | h)
      · exact Or.inl h
      · exact Or.inr (Or.inl h)
      · exact Or.inr (Or.inr (Or.inl h))
      · exact Or.inr (Or.inr (Or.inr ⟨c, h⟩))
    · rintro (h | h | h | h)
      · exact Or.inl (Or.inl (Or.inl h))
      · exact Or.inl (Or.inl (Or.inr h))
      · exact Or.inl (Or.inr h)
      · exact Or.inr h.2
theorem o_i (h : St nC nS A V) {a c k n : Nat} (i : Nat) (ha : kdV V a = c + 1) (ho : own c k = 1) (hw : OW V c k a n) (hr : isR c k = true) (hk : k < nfl c) (hi : i < n) (hb : i < 2 ^ 31) {β : Type} {f : Int32 → Option β} {r : Option β} (hf : f (xi V (100 * c + k + 50) a i) = r) : ((gR A (some a) c k).bind fun y => (aI A y (nI i)).bind f) = r := by
  obtain ⟨y, h1, h2, h3⟩ := hw
  exact ob ((h.gr k ha hk hr).trans (congrArg some h1)) (ob (h.ai i ha ho h1 h2 (by omega) hb) hf)
theorem o_z (h : St nC nS A V) {a c k n : Nat} (i : Nat) (ha : kdV V a = c + 1) (ho : own c k = 2) (hw : OW V c k a n) (hr : isR c k = true) (hk : k < nfl c) (hi : i < n) (hb : i < 2 ^ 31) {β : Type} {f : Int32 → Option β} {r : Option β} (hf : f (xi V (100 * c + k + 50) a i) = r) : ((gR A (some a) c k).bind fun y => (aZ A y (nI i)).bind f) = r := by
  obtain ⟨y, h1, h2, h3⟩ := hw
  exact ob ((h.gr k ha hk hr).trans (congrArg some h1)) (ob (h.az i ha ho h1 h2 (by omega) hb) hf)
set_option maxHeartbeats 4000000 in
theorem e13_isThere (h : St nC nS A V) (hx : WM V x M) {s d a b n : Nat} (hw : WO V w M s) (h53 : M.1 53 = nI d) (h54 : M.1 54 = nI a) (h55 : M.1 55 = nI b) (hd : d < 16) (ha : a < 16) (hb : b < 16) (hn : 4 < n) : fX13_isThere n w (some x) (M.1 15) A = some (b2i (srt M = 7 ∨ th6 M d a b s)) := by
  obtain ⟨w1, w2, w3, w4, w5, w6, w7⟩ := hw
  have gtk : ∀ r, r < 16 → ∀ {β : Type} {f : Int32 → Option β} {z : Option β}, f (M.2.1 12 (20 * s + r)) = z → ((gR A (some w) 13 3).bind fun y => (aI A y (nI r)).bind f) = z := fun r hr {β} {f} {z} hf => o_i h r (c := 13) (k := 3) w1 rfl w2 rfl (by decide) hr (by omega) (by rw [← w5 r hr] at hf; exact hf)
  have gpt : ∀ p, p < 4 → ∀ {β : Type} {f : Int32 → Option β} {z : Option β}, f (M.2.1 12 (20 * s + (16 + p))) = z → ((gR A (some w) 13 4).bind fun y => (aI A y (nI p)).bind f) = z := fun p hp {β} {f} {z} hf => o_i h p (c := 13) (k := 4) w1 rfl w3 rfl (by decide) hp (by omega) (by rw [← w6 p hp] at hf; exact hf)
  unfold fX13_isThere
  refine ob (h.rc (c := 5) hx.1) (ob (e5_isKnown h hx) ?_)
  by_cases c7 : srt M = 7
  · rw [if_pos (by rw [b2i_0]; exact not_not_intro c7), b2i_t (Or.inl c7)]
    rfl
  rw [if_neg (by rw [b2i_0]; exact not_not_intro c7)]
  refine ob (e5_readsFirst h hx) ?_
  refine jn_v (b2i (th1 M a s)) (fun j => ?_) ?_
  · rw [jn_eq]
    by_cases c : rdA M
    · rw [if_neg (by rw [b2i_0]; exact not_not_intro c)]
      obtain ⟨y, y1, y2, y3⟩ := w2
      refine ob ((h.gr 3 (c := 13) w1 (by decide) rfl).trans (congrArg some y1)) (ob ((wg2 h hx).trans (congrArg some h54)) (ob ((h.ai a (c := 13) (k := 3) w1 rfl y1 y2 (by omega) (by omega)).trans (congrArg some (w5 a ha))) ?_))
      by_cases t : M.2.1 12 (20 * s + a) ≤ M.1 15
      · rw [if_neg (Int32.not_lt.mpr t), b2i_t (Or.inr t)]
      · rw [if_pos (Int32.not_le.mp t), b2i_f (fun z => z.elim (fun q => q c) t)]
    · rw [if_pos (by rw [b2i_0]; exact c), b2i_t (Or.inl c)]
  refine jn_v (b2i (th2 M a b s)) (fun j => ?_) ?_
  · rw [jn_eq]
    by_cases c0 : th1 M a s
    · rw [if_neg (by rw [b2i_0]; exact not_not_intro c0)]
      refine ob (e5_readsSecond h hx) ?_
      rw [jn_eq]
      by_cases c : rdB M
      · rw [if_neg (by rw [b2i_0]; exact not_not_intro c)]
        obtain ⟨y, y1, y2, y3⟩ := w2
        refine ob ((h.gr 3 (c := 13) w1 (by decide) rfl).trans (congrArg some y1)) (ob ((wg3 h hx).trans (congrArg some h55)) (ob ((h.ai b (c := 13) (k := 3) w1 rfl y1 y2 (by omega) (by omega)).trans (congrArg some (w5 b hb))) ?_))
        by_cases t : M.2.1 12 (20 * s + b) ≤ M.1 15
        · rw [if_neg (Int32.not_lt.mpr t), b2i_t ⟨c0, Or.inr t⟩]
        · rw [if_pos (Int32.not_le.mp t), b2i_f (fun z => z.2.elim (fun q => q c) t)]
      · rw [if_pos (by rw [b2i_0]; exact c), b2i_t ⟨c0, Or.inl c⟩]
    · rw [if_pos (by rw [b2i_0]; exact c0), b2i_f (fun z => c0 z.1)]
  refine jn_v (b2i (th3 M d a b s)) (fun j => ?_) ?_
  · rw [jn_eq]
    by_cases c0 : th2 M a b s
    · rw [if_neg (by rw [b2i_0]; exact not_not_intro c0)]
      refine ob (e5_writes h hx) ?_
      rw [jn_eq, jn_eq]
      have hj : ((gR A (some w) 13 3).bind fun v57 => (gI A (some x) 5 1).bind fun v58 => (aI A v57 v58).bind fun v59 => if M.1 15 < v59 then (j (0 : Int32)) else j (1 : Int32)) = j (if tTh M s d then 1 else 0) := by
        obtain ⟨y, y1, y2, y3⟩ := w2
        refine ob ((h.gr 3 (c := 13) w1 (by decide) rfl).trans (congrArg some y1)) (ob ((wg1 h hx).trans (congrArg some h53)) (ob ((h.ai d (c := 13) (k := 3) w1 rfl y1 y2 (by omega) (by omega)).trans (congrArg some (w5 d hd))) ?_))
        by_cases t : M.2.1 12 (20 * s + d) ≤ M.1 15
        · rw [if_neg (Int32.not_lt.mpr t), if_pos (show tTh M s d from t)]
        · rw [if_pos (Int32.not_le.mp t), if_neg (show ¬ tTh M s d from t)]
      rw [hj]
      by_cases c : wrD M
      · rw [if_neg (by rw [b2i_0]; exact not_not_intro c)]
        refine congrArg j ?_
        by_cases t : tTh M s d
        · rw [if_pos t, b2i_t ⟨c0, Or.inr t⟩]
        · rw [if_neg t, b2i_f (fun z => z.2.elim (fun q => q.1 c) t)]
      · rw [if_pos (by rw [b2i_0]; exact c)]
        refine ob (e5_readsOwn h hx) ?_
        by_cases c57 : M.1 52 = 57
        · rw [if_neg (by rw [b2i_0]; exact not_not_intro c57)]
          refine congrArg j ?_
          by_cases t : tTh M s d
          · rw [if_pos t, b2i_t ⟨c0, Or.inr t⟩]
          · rw [if_neg t, b2i_f (fun z => z.2.elim (fun q => q.2 c57) t)]
        · rw [if_pos (by rw [b2i_0]; exact c57), b2i_t ⟨c0, Or.inl ⟨c, c57⟩⟩]
    · rw [if_pos (by rw [b2i_0]; exact c0), b2i_f (fun z => c0 z.1)]
  refine jn_v (b2i (th4 M d a b s)) (fun j => ?_) ?_
  · rw [jn_eq]
    by_cases c0 : th3 M d a b s
    · rw [if_neg (by rw [b2i_0]; exact not_not_intro c0)]
      refine ob (e5_decides h hx) ?_
      rw [jn_eq]
      by_cases c : wrP M
      · rw [if_neg (by rw [b2i_0]; exact not_not_intro c)]
        obtain ⟨y, y1, y2, y3⟩ := w3
        have hlo := lo2_lt (M.1 53)
        refine ob ((h.gr 4 (c := 13) w1 (by decide) rfl).trans (congrArg some y1)) (ob (wg1 h hx) ?_)
        rw [and3]
        refine ob ((h.ai (lo2 (M.1 53)) (c := 13) (k := 4) w1 rfl y1 y2 (by omega) (by omega)).trans (congrArg some (w6 _ hlo))) ?_
        by_cases t : M.2.1 12 (20 * s + (16 + lo2 (M.1 53))) ≤ M.1 15
        · rw [if_neg (Int32.not_lt.mpr t), b2i_t ⟨c0, Or.inr t⟩]
        · rw [if_pos (Int32.not_le.mp t), b2i_f (fun z => z.2.elim (fun q => q c) t)]
      · rw [if_pos (by rw [b2i_0]; exact c), b2i_t ⟨c0, Or.inl c⟩]
    · rw [if_pos (by rw [b2i_0]; exact c0), b2i_f (fun z => c0 z.1)]
  refine ob (e5_asked h hx) ?_
  have hstep : ∀ (g : Int32 → Int32 → Option Int32) (P : Prop) [Decidable P] (p : Nat), p < 4 → (jn (fun (y35 : Int32) => g y35 (nI p + (1 : Int32))) fun j34 => jn (j34 (0 : Int32)) fun j36 => if b2i P = 0 then (j36) else jn (j34 (1 : Int32)) fun j38 => if ((askB M >>> (nI p &&& 31)) &&& (1 : Int32)) = 0 then (j38) else (gR A (some w) 13 4).bind fun v40 => (aI A v40 (nI p)).bind fun v41 => if M.1 15 < v41 then (j36) else j38) = g (b2i (P ∧ pOk M s p)) (nI (p + 1)) := by
    intro g P _ p hp
    rw [jn_eq, jn_eq, nI_1]
    by_cases c0 : P
    · rw [if_neg (by rw [b2i_0]; exact not_not_intro c0), jn_eq]
      by_cases cb : bt (askB M) p = false
      · rw [if_pos ((bit0_bt _ (by omega)).mpr cb), b2i_t ⟨c0, Or.inl cb⟩]
      · rw [if_neg (fun z => cb ((bit0_bt _ (by omega)).mp z))]
        refine gpt p hp ?_
        by_cases t : M.2.1 12 (20 * s + (16 + p)) ≤ M.1 15
        · rw [if_neg (Int32.not_lt.mpr t), b2i_t ⟨c0, Or.inr t⟩]
        · rw [if_pos (Int32.not_le.mp t), b2i_f (fun z => z.2.elim cb t)]
    · rw [if_pos (by rw [b2i_0]; exact c0), b2i_f (fun z => c0 z.1)]
  have hfin : b2i (aftB M s 4 (decide (th4 M d a b s)) = true) = b2i (srt M = 7 ∨ th6 M d a b s) := by
    refine b2i_c ?_
    simp only [aftB, Bool.and_eq_true, decide_eq_true_eq]
    exact ⟨fun z => Or.inr z, fun z => z.resolve_left c7⟩
  rw [← hfin]
  refine jl_fix (fun d' g => ∀ B : Bool, d' ≤ 4 → g (b2i (B = true)) (nI (4 - d')) = some (b2i (aftB M s d' B = true))) 4 hn ?_ ?_ ?_
  · intro g B _
    rw [if_pos (show (4 : Int32) ≤ nI (4 - 0) by decide)]
    rw [jn_eq, jn_eq]
    unfold aftB
    by_cases c0 : B = true
    · rw [if_neg (by rw [b2i_0]; exact not_not_intro c0)]
      refine ob (wg6 h hx) (ob (ix8_sa h hx.2.1 (srt_lt M)) (ob (e5_isMem h hx) ?_))
      rw [jn_eq, jn_eq]
      have hj : ((gI A (some w) 13 5).bind fun v28 => if M.1 15 < v28 then some (nb 0) else some (nb 1)) = some (if M.2.1 11 s ≤ M.1 15 then 1 else 0) := by
        refine ob ((h.gi 5 (c := 13) w1 (by decide) rfl).trans (congrArg some w7)) ?_
        by_cases t : M.2.1 11 s ≤ M.1 15
        · rw [if_neg (Int32.not_lt.mpr t), if_pos t]; rfl
        · rw [if_pos (Int32.not_le.mp t), if_neg t]; rfl
      refine Eq.trans ?_ (show some (if (((¬ memP M ∧ ¬ M.1 52 = 0) ∧ ¬ M.1 52 = 1) ∨ M.2.1 11 s ≤ M.1 15) then (1 : Int32) else 0) = _ from ?_)
      · by_cases cm : memP M
        · rw [if_neg (by rw [b2i_0]; exact not_not_intro cm)]
          refine Eq.trans hj (congrArg some ?_)
          by_cases t : M.2.1 11 s ≤ M.1 15
          · rw [if_pos t, if_pos (Or.inr t)]
          · rw [if_neg t, if_neg (fun z => z.elim (fun q => q.1.1 cm) t)]
        · rw [if_pos (by rw [b2i_0]; exact cm)]
          refine ob (wg0 h hx) ?_
          by_cases o0 : M.1 52 = 0
          · rw [if_pos o0]
            refine Eq.trans hj (congrArg some ?_)
            by_cases t : M.2.1 11 s ≤ M.1 15
            · rw [if_pos t, if_pos (Or.inr t)]
            · rw [if_neg t, if_neg (fun z => z.elim (fun q => q.1.2 o0) t)]
          · rw [if_neg o0]
            by_cases o1 : M.1 52 = 1
            · rw [if_pos o1]
              refine Eq.trans hj (congrArg some ?_)
              by_cases t : M.2.1 11 s ≤ M.1 15
              · rw [if_pos t, if_pos (Or.inr t)]
              · rw [if_neg t, if_neg (fun z => z.elim (fun q => q.2 o1) t)]
            · rw [if_neg o1, if_pos (Or.inl ⟨⟨cm, o0⟩, o1⟩)]
              rfl
      · refine congrArg some ?_
        refine b2i_c ?_
        rw [c0, Bool.true_and, decide_eq_true_eq]
    · rw [if_pos (by rw [b2i_0]; exact c0), b2i_f (fun z => by rw [Bool.and_eq_true] at z; exact c0 z.1)]
      rfl
  · intro d' g hg B hd'
    rw [if_neg (show ¬ (4 : Int32) ≤ nI (4 - (d' + 1)) from c_nle (a := 4) (by omega) (by omega))]
    refine Eq.trans (hstep g (B = true) (4 - (d' + 1)) (by omega)) ?_
    have e1 : 4 - (d' + 1) + 1 = 4 - d' := by omega
    have e2 : 4 - (d' + 1) = 3 - d' := by omega
    have e3 : b2i (B = true ∧ pOk M s (4 - (d' + 1))) = b2i ((B && decide (pOk M s (3 - d'))) = true) := by
      refine b2i_c ?_
      rw [Bool.and_eq_true, decide_eq_true_eq, e2]
    rw [e1, e3]
    exact hg _ (by omega)
  · intro g hg
    refine Eq.trans ?_ (hg (decide (th4 M d a b s)) (Nat.le_refl _))
    have e : b2i (th4 M d a b s) = b2i (decide (th4 M d a b s) = true) := b2i_c (by rw [decide_eq_true_eq])
    rw [e]
    rfl
end C10
