/-! M7: the model's words, done lane by lane -/
def lftV (op v y was : Int32) : Int32 := if op = 51 ∨ op = 53 ∨ op = 56 ∨ op = 59 then y else if op = 54 ∨ op = 58 then v + y else if op = 55 then (if v ≤ y then y else v) else if op = 57 then (if v = was then y else v) else v
theorem e_left (op v y was : Int32) (A : AH) : fX11_left op v y was A = some (lftV op v y was) := by
  simp only [fX11_left, jn, lftV]
  repeat' split
  all_goals first | rfl | (exfalso; grind) | grind
def z_trap (M : MS) (s i : Nat) (k : Int32) : MS := mI (mI (mI (mI (mI M 11 4) 23 k) 24 (M.2.1 9 s)) 25 (M.1 1 * M.2.1 10 s + nI i)) 26 (M.2.1 15 (32 * s + i))
def rgV (M : MS) (t r : Nat) : Int32 := M.2.1 13 (16 * t + r)
def askV (M : MS) (s a i : Nat) : Int32 := M.2.1 13 (16 * (32 * s + i) + a) + M.1 57
def whyV (M : MS) (t a b : Nat) : Int32 := if ((M.1 52 = 7 ∨ M.1 52 = 8) ∧ rgV M t b = 0) then 3 else if (memP M ∧ (rgV M t a + M.1 57 < 0 ∨ ¬ rgV M t a + M.1 57 < (if shP M then 64 else M.1 6))) then 4 else 0
def anyF (p : Nat → Bool) : Nat → Nat → Bool
  | _, 0 => false
  | a, d + 1 => p a || anyF p (a + 1) d
def agB (M : MS) (s a i : Nat) : Bool := anyF (fun k => decide (¬ M.2.1 27 k = 0 ∧ askV M s a k = askV M s a i)) 0 i
def lgB (M : MS) (s a i : Nat) : Bool := anyF (fun k => decide (¬ M.2.1 27 k = 0 ∧ askV M s a k / 8 = askV M s a i / 8)) 0 i
def toldV (M : MS) (s i : Nat) : Int32 := if M.1 57 = 0 then M.1 1 * M.2.1 10 s + nI i else if M.1 57 = 1 then M.2.1 9 s else if M.1 57 = 2 then M.1 13 else if M.1 57 = 3 then M.1 12 else if M.1 57 = 4 then nI i else if M.1 57 = 5 then M.2.1 10 s else M.1 1
def rckV (M : MS) (x y : Int32) (t : Nat) : Int32 := if M.1 52 = 4 then x + y else if M.1 52 = 5 then x - y else if M.1 52 = 6 then x * y else if M.1 52 = 7 then (if y = -1 then -x else x / y) else if M.1 52 = 8 then (if y = -1 then 0 else x - x / y * y) else if M.1 52 = 9 then x &&& y else if M.1 52 = 10 then x ||| y else if M.1 52 = 11 then x ^^^ y else if M.1 52 = 12 then x <<< ((y &&& 31) &&& 31) else if M.1 52 = 13 then (Int32.toUInt32 x >>> (Int32.toUInt32 (y &&& 31) &&& Int32.toUInt32 31)).toInt32 else if M.1 52 = 14 then x >>> ((y &&& 31) &&& 31) else if M.1 52 = 15 then (if y ≤ x then y else x) else if M.1 52 = 16 then (if x ≤ y then y else x) else if M.1 52 = 17 then Int64.toInt32 ((Int32.toInt64 x * Int32.toInt64 y) >>> (Int32.toInt64 32 &&& 63)) else if M.1 52 = 18 then x + M.1 57 else if M.1 52 = 19 then x * M.1 57 else if M.1 52 = 20 then x &&& M.1 57 else (if hasP M t (M.1 57) then x else y)
def z_say (M : MS) (t : Nat) (x : Int32) : MS := mA M 14 t (if x = 0 then M.2.1 14 t &&& (((1 : Int32) <<< (nI (lo2 (M.1 53)) &&& 31)) ^^^ (-1)) else M.2.1 14 t ||| ((1 : Int32) <<< (nI (lo2 (M.1 53)) &&& 31)))
def z_jump (M : MS) (t to : Nat) (x old : Int32) : MS := if M.1 52 = 41 then mA (mA M 15 t (if M.1 52 = 42 then x else M.1 57)) 13 to (old + 1) else mA M 15 t (if M.1 52 = 42 then x else M.1 57)
def z_ask (M : MS) (s i p bk : Nat) (at_ y was : Int32) : MS := mI (mA (mA (mA (mA (mA (mI (mA M 19 p (M.2.1 25 i)) 42 (if M.1 42 ≤ M.2.1 25 i then M.1 42 else M.2.1 25 i)) 20 p (nI (32 * (128 * bk + s) + i))) 21 p ((16 : Int32) * M.1 52 + M.1 53)) 22 p at_) 23 p y) 24 p was) 41 (M.1 41 + 1)
def z_touch (M : MS) (to k : Nat) (y : Int32) : MS := mA (if M.1 52 = 53 then M else mA M 13 to (M.2.1 18 k)) 18 k (lftV (M.1 52) (M.2.1 18 k) y 0)
section M7
variable {B : AH} {ao : Nat} {M : MS} {n : Nat}
theorem e_trap (s i : Nat) (k : Int32) (hs : s < 128) (hi : i < 32) : fX11_trap ao (nI s) (nI i) k (mk B ao M) = some (mk B ao (z_trap M s i k)) := by
  simp only [fX11_trap, mp11, mp23, mg31, ma9 s hs, mp24, mg1, mg32, ma10 s hs, mp25, mg37, e_thread, ma15 (32 * s + i) (by omega), mp26, Option.bind_some, mI_a, mI_g, z_trap]
  rfl
theorem e_whyNot (t a b : Nat) (ht : t < 4096) (ha : a < 16) (hb : b < 16) (h54 : M.1 54 = nI a) (h55 : M.1 55 = nI b) : fX11_whyNot ao (nI t) (mk B ao M) = some (whyV M t a b) := by
  simp only [fX11_whyNot, mg52, mg54, mg55, mg57, mg6, mrcv, h54, h55, e_reg t a (show 16 * t + a < 65536 by omega), e_reg t b (show 16 * t + b < 65536 by omega), e_isMemory, e_isShared, Option.bind_some, b2i_0, jn, whyV, rgV]
  repeat' split
  all_goals first | rfl | (exfalso; grind) | grind
theorem e_isAgain (s a i : Nat) (hs : s < 128) (ha : a < 16) (hi : i ≤ 32) (hi2 : i < 32) (h54 : M.1 54 = nI a) (hn : 32 < n) : fX11_isAgain n ao (nI s) (nI i) (mk B ao M) = some (b2i (agB M s a i = true)) := by
  unfold fX11_isAgain agB
  refine jl_fix (fun d g => ∀ (k : Nat), k + d = i → g (nI k) = some (b2i (anyF (fun k => decide (¬ M.2.1 27 k = 0 ∧ askV M s a k = askV M s a i)) k d = true))) i (by omega) ?_ ?_ ?_
  · intro g k hk
    obtain rfl : k = i := by omega
    rw [if_pos (show nI k ≤ nI k from c_le (Nat.le_refl _) (by omega))]
    rfl
  · intro d g hg k hk
    have h1 := hg (k + 1) (by omega)
    rw [if_neg (show ¬ nI i ≤ nI k from c_nle (by omega) (by omega))]
    refine ob mg51 (ob (ma27 k (by omega)) ?_)
    simp only [jn_eq, mrcv, Option.bind_some, e_asked s k a hs (by omega) ha h54, e_asked s i a hs hi2 ha h54, nI_1, h1, anyF, Bool.or_eq_true, decide_eq_true_eq, askV, nb_1]
    simp only [b2i]
    repeat' split
    all_goals first | rfl | (exfalso; grind) | grind
  · intro g hg
    exact hg 0 (by omega)
theorem e_isLineAgain (s a i : Nat) (hs : s < 128) (ha : a < 16) (hi2 : i < 32) (h54 : M.1 54 = nI a) (hn : 32 < n) : fX11_isLineAgain n ao (nI s) (nI i) (mk B ao M) = some (b2i (lgB M s a i = true)) := by
  unfold fX11_isLineAgain lgB
  refine jl_fix (fun d g => ∀ (k : Nat), k + d = i → g (nI k) = some (b2i (anyF (fun k => decide (¬ M.2.1 27 k = 0 ∧ askV M s a k / 8 = askV M s a i / 8)) k d = true))) i (by omega) ?_ ?_ ?_
  · intro g k hk
    obtain rfl : k = i := by omega
    rw [if_pos (show nI k ≤ nI k from c_le (Nat.le_refl _) (by omega))]
    rfl
  · intro d g hg k hk
    have h1 := hg (k + 1) (by omega)
    rw [if_neg (show ¬ nI i ≤ nI k from c_nle (by omega) (by omega))]
    refine ob mg51 (ob (ma27 k (by omega)) ?_)
    simp only [jn_eq, mrcv, Option.bind_some, e_asked s k a hs (by omega) ha h54, e_asked s i a hs hi2 ha h54, nI_1, h1, anyF, Bool.or_eq_true, decide_eq_true_eq, askV, nb_1]
    simp only [b2i]
    repeat' split
    all_goals first | rfl | (exfalso; grind) | grind
  · intro g hg
    exact hg 0 (by omega)
theorem e_told (s i : Nat) (hs : s < 128) : fX11_told ao (nI s) (nI i) (mk B ao M) = some (toldV M s i) := by
  simp only [fX11_told, mg57, mg1, mg32, mg31, mg13, mg12, ma10 s hs, ma9 s hs, Option.bind_some, toldV]
  repeat' split
  all_goals first | rfl | (exfalso; grind) | grind
theorem e_reckon (x y : Int32) (t : Nat) (ht : t < 4096) (hy : (M.1 52 = 7 ∨ M.1 52 = 8) → ¬ y = 0) : fX11_reckon ao x y (nI t) (mk B ao M) = some (rckV M x y t) := by
  have hap : ∀ (c : Prop) [Decidable c] (a b : Int32), some (if c then a else b) = if c then some a else some b := by
    intro c _ a b
    split <;> rfl
  by_cases hy0 : y = 0
  · have h7 : ¬ M.1 52 = 7 := fun z => hy (Or.inl z) hy0
    have h8 : ¬ M.1 52 = 8 := fun z => hy (Or.inr z) hy0
    simp only [fX11_reckon, mg52, mg57, mrcv, e_has t _ ht, Option.bind_some, jn, rckV, b2i_0, h7, h8, if_false, hap, ite_not]
  · simp only [fX11_reckon, mg52, mg57, mrcv, e_has t _ ht, jn, rckV, dz, hy0, if_false, Option.bind_some, b2i_0, hap, ite_not]
theorem e_say (t : Nat) (x : Int32) (ht : t < 4096) : fX11_say ao (nI t) x (mk B ao M) = some (mk B ao (z_say M t x)) := by
  simp only [fX11_say, mg53, mg36, ma14 t ht, ms14 t ht, Option.bind_some, jn, z_say, and3]
  repeat' split
  all_goals first | rfl | (exfalso; grind) | grind
theorem e_jump (t to : Nat) (x old : Int32) (ht : t < 4096) (hto : to < 65536) : fX11_jump ao (nI t) (nI to) x old (mk B ao M) = some (mk B ao (z_jump M t to x old)) := by
  simp only [fX11_jump, mg37, mg52, mg57, ms15 t ht, Option.bind_some, jn, mg35, ms13 to hto, mA_g, z_jump]
  repeat' split
  all_goals first | rfl | (exfalso; grind) | grind
theorem e_from (i o : Nat) (hi : i < 32) (ho : o < 32) (h : nI i ^^^ (M.1 57 &&& (M.1 1 - 1)) = nI o) : fX11_from ao (nI i) (mk B ao M) = some (if M.2.1 27 o = 0 then M.2.1 28 i else M.2.1 28 o) := by
  simp only [fX11_from, mg57, mg1, mg51, h, ma27 o ho, Option.bind_some, jn, mg59, ma28 i hi, ma28 o ho]
  repeat' split
  all_goals first | rfl | (exfalso; grind) | grind
theorem e_touch (s to bk q : Nat) (y : Int32) (hs : s < 128) (hto : to < 65536) (hbk : M.2.1 9 s = nI bk) (hb : bk < 64) (hq : q < 64) : fX11_touch ao (nI s) (nI to) (nI q) y (mk B ao M) = some (mk B ao (z_touch M to (64 * bk + q) y)) := by
  have hx : (64 : Int32) * nI bk + nI q = nI (64 * bk + q) := by rw [l64, pk_mul, nI_add]
  simp only [fX11_touch, mg31, ma9 s hs, hbk, mg40, hx, ma18 (64 * bk + q) (show 64 * bk + q < 4096 by omega), mg52, Option.bind_some, jn, e_left, ms18 (64 * bk + q) (show 64 * bk + q < 4096 by omega), mg35, ms13 to hto, mA_g, z_touch]
  repeat' split
  all_goals first | rfl | (exfalso; grind) | grind
theorem e_ask (s i p bk : Nat) (q y w : Int32) (hs : s < 128) (hi : i < 32) (hp : M.1 41 = nI p) (hp2 : p < 32768) (hbk : M.2.1 9 s = nI bk) (hb : bk < 64) : fX11_ask ao (nI s) (nI i) q y w (mk B ao M) = some (mk B ao (z_ask M s i p bk q y w)) := by
  have hx : (32 : Int32) * ((128 : Int32) * nI bk + nI s) + nI i = nI (32 * (128 * bk + s) + i) := by rw [l32, l128, pk_mul, nI_add, pk_mul, nI_add]
  have a1 : ∀ (M' : MS), M'.1 41 = nI p → M'.1 41 = nI p := fun _ h => h
  simp only [fX11_ask, mg43, mg41, hp, mg49, ma25 i hi, ms19 p hp2, Option.bind_some, mg42, mA_g, mA_a, show ¬ (25 = 19) by decide, if_false]
  refine jn_v (if M.1 42 ≤ M.2.1 25 i then M.1 42 else M.2.1 25 i) (fun j => ?_) ?_
  · split <;> rfl
  · simp only [mp42, mg44, mg41, mg31, mg45, mg46, mg47, mg48, mg52, mg53, Option.bind_some, mI_g, mI_a, mA_g, mA_a, show ¬ (41 = 42) by decide, show ¬ (52 = 42) by decide, show ¬ (53 = 42) by decide, show ¬ (9 = 19) by decide, show ¬ (9 = 20) by decide, if_false, hp, ma9 s hs, hbk, hx, ms20 p hp2, ms21 p hp2, ms22 p hp2, ms23 p hp2, ms24 p hp2, mp41, z_ask]
end M7
