/-! M4: the model's observers -/
def stV (M : MS) (p : Int32) : Int32 := if p = 0 then M.1 11 else if p = 1 then M.1 15 else if p = 2 then M.1 16 else if p = 3 then M.1 17 else if p = 4 then M.1 19 else if p = 5 then M.1 20 else if p = 6 then M.1 21 else if p = 7 then M.1 22 else if p = 8 then M.1 23 else if p = 9 then M.1 24 else if p = 10 then M.1 25 else if p = 11 then M.1 26 else if p = 12 then M.1 18 else if p = 13 then M.1 1 else if p = 14 then M.1 2 else if p = 15 then M.1 3 else if p = 16 then M.1 4 else if p = 17 then M.1 5 else if p = 18 then M.1 6 else if p = 19 then M.1 41 else -1
def unV (M : MS) (u : Nat) (p : Int32) : Int32 := if p = 0 then M.2.1 5 u else if p = 1 then M.2.1 6 u else if p = 2 then M.2.1 7 u else if p = 3 then M.2.1 8 u else -1
/-- how many lanes of a slot have ended, how many wait -/
def cntS (M : MS) (s : Nat) (i : Nat) (c : Int32 × Int32) : Int32 × Int32 := if lnI M s i then (c.1 + (if M.2.1 16 (32 * s + i) = 0 then 0 else 1), c.2 + (if M.2.1 17 (32 * s + i) = 0 then 0 else 1)) else c
def slV (M : MS) (s L : Nat) (w : Nat) : Int32 := if w = 0 then M.2.1 9 s else if w = 1 then M.2.1 10 s else if w = 2 then (iter (cntS M s) 0 L (0, 0)).1 else if w = 3 then (iter (cntS M s) 0 L (0, 0)).2 else if w = 4 then M.2.1 11 s else M.2.1 12 (20 * s + w - 5)
def lnV (M : MS) (t r : Nat) : Int32 := if r ≤ 16 then (if r = 16 then M.2.1 15 t else M.2.1 13 (16 * t + r)) else (if bitP (M.2.1 14 t) ((r - 17) % 4) then 1 else 0)
section M4
variable {B : AH} {ao : Nat} {M : MS} {n : Nat}
theorem e_state (p : Int32) : fX11_state ao p (mk B ao M) = some (stV M p, mk B ao (mI M 0 0)) := by
  have h : ∀ k, ¬ k = 0 → (mI M 0 0).1 k = M.1 k := fun k hk => by rw [mI_g, if_neg hk]
  simp only [fX11_state, mp0, mg11, mg15, mg16, mg17, mg19, mg20, mg21, mg22, mg23, mg24, mg25, mg26, mg18, mg1, mg2, mg3, mg4, mg5, mg6, mg41, Option.bind_some, stV, h 11 (by decide), h 15 (by decide), h 16 (by decide), h 17 (by decide), h 19 (by decide), h 20 (by decide), h 21 (by decide), h 22 (by decide), h 23 (by decide), h 24 (by decide), h 25 (by decide), h 26 (by decide), h 18 (by decide), h 1 (by decide), h 2 (by decide), h 3 (by decide), h 4 (by decide), h 5 (by decide), h 6 (by decide), h 41 (by decide)]
  have hap : ∀ (c : Prop) [Decidable c] (a b : Int32), some ((if c then a else b), mk B ao (mI M 0 0)) = if c then some (a, mk B ao (mI M 0 0)) else some (b, mk B ao (mI M 0 0)) := by
    intro c _ a b
    split <;> rfl
  simp only [hap]
theorem e_globalN (p : Int32) (h : p < 0 ∨ ¬ p < M.1 6) : fX11_global ao p (mk B ao M) = some (0, mk B ao (mI M 0 1)) := by
  simp only [fX11_global, mg6, Option.bind_some, jn, h, if_true, mp0, mg0, mI_g, show ¬ ((1 : Int32) = 0) by decide, if_false]
theorem e_globalY (k : Nat) (hk : k < 4096) (h : ¬ (nI k < 0 ∨ ¬ nI k < M.1 6)) : fX11_global ao (nI k) (mk B ao M) = some (M.2.1 2 k, mk B ao (mI M 0 0)) := by
  simp only [fX11_global, mg6, Option.bind_some, jn, h, if_false, mp0, mg0, mI_g, if_true, mg8, ma2 k hk, mI_a]
theorem e_unitN (p q : Int32) (h : p < 0 ∨ ¬ p < M.1 3) : fX11_unit ao p q (mk B ao M) = some (-1, mk B ao (mI M 0 0)) := by
  have h3 : (mI M 0 0).1 3 = M.1 3 := rfl
  simp only [fX11_unit, mp0, mg3, Option.bind_some, h3, h, if_true]
theorem e_unitY (k : Nat) (q : Int32) (hk : k < 8) (h : ¬ (nI k < 0 ∨ ¬ nI k < M.1 3)) : fX11_unit ao (nI k) q (mk B ao M) = some (unV M k q, mk B ao (mI M 0 0)) := by
  have h3 : (mI M 0 0).1 3 = M.1 3 := rfl
  simp only [fX11_unit, mp0, mg3, Option.bind_some, h3, h, if_false, mg27, mg28, mg29, mg30, ma5 k hk, ma6 k hk, ma7 k hk, ma8 k hk, mI_a, unV]
  repeat' split
  all_goals rfl
theorem e_cachedN (p q : Int32) (h : ((p < 0 ∨ M.1 5 ≤ p) ∨ q < 0) ∨ ¬ q ≤ 4) : fX11_cached ao p q (mk B ao M) = some (-1, mk B ao (mI M 0 0)) := by
  have h5 : (mI M 0 0).1 5 = M.1 5 := rfl
  simp only [fX11_cached, mp0, mg5, Option.bind_some, h5, h, if_true]
theorem e_cachedY (g q : Nat) (hg : g < 8) (hq : q ≤ 4) (h : ¬ (((nI g < 0 ∨ M.1 5 ≤ nI g) ∨ nI q < 0) ∨ ¬ nI q ≤ 4)) : fX11_cached ao (nI g) (nI q) (mk B ao M) = some (if q = 4 then M.2.1 4 g else M.2.1 3 (4 * g + q), mk B ao (mI M 0 0)) := by
  have h5 : (mI M 0 0).1 5 = M.1 5 := rfl
  simp only [fX11_cached, mp0, mg5, Option.bind_some, h5, h, if_false, jn, mg10, mg9, ma4 g hg, mI_a]
  by_cases e : q = 4
  · subst e
    simp only [show nI 4 = (4 : Int32) from rfl, if_true]
  · have e2 : ¬ nI q = nI 4 := fun z => e ((nI_eq (show q < 2 ^ 31 by omega) (show 4 < 2 ^ 31 by omega)).mp z)
    simp only [e, e2, if_false, l4, pk_mul, nI_add, ma3 (4 * g + q) (by omega), Option.bind_some, mI_a]
theorem e_isSlot (p q : Int32) : fX11_isSlot ao p q (mk B ao M) = some (b2i (¬ (((p < 0 ∨ M.1 3 ≤ p) ∨ q < 0) ∨ M.1 2 ≤ q))) := by
  simp only [fX11_isSlot, mg3, mg2, Option.bind_some, jn, b2i]
  repeat' split
  all_goals first | rfl | (exfalso; grind)
theorem e_slotN (p q r : Int32) (h : (((p < 0 ∨ M.1 3 ≤ p) ∨ q < 0) ∨ M.1 2 ≤ q) ∨ r < 0 ∨ ¬ r ≤ 24) : fX11_slot n ao p q r (mk B ao M) = some (-1, mk B ao (mI M 0 0)) := by
  have h3 : (mI M 0 0).1 3 = M.1 3 := rfl
  have h2 : (mI M 0 0).1 2 = M.1 2 := rfl
  simp only [fX11_slot, mp0, mrcv, e_isSlot, Option.bind_some, b2i_0, h3, h2]
  rw [if_pos]
  grind
theorem e_slotY (u s w L : Nat) (hu : u < 8) (hs : s < 16) (hw : w ≤ 24) (hL : L ≤ 32) (h1 : M.1 1 = nI L) (hn : 32 < n) (h : ¬ (((nI u < 0 ∨ M.1 3 ≤ nI u) ∨ nI s < 0) ∨ M.1 2 ≤ nI s)) : fX11_slot n ao (nI u) (nI s) (nI w) (mk B ao M) = some (if M.2.1 9 (16 * u + s) = -1 then (if 2 ≤ w then 0 else -1) else slV M (16 * u + s) L w, mk B ao (mI M 0 0)) := by
  have h3 : (mI M 0 0).1 3 = M.1 3 := rfl
  have h2 : (mI M 0 0).1 2 = M.1 2 := rfl
  have hw0 : ¬ nI w < 0 := nI_pos (by omega)
  have hw24 : nI w ≤ 24 := c_le (b := 24) hw (by omega)
  have h11 : (mI M 0 0).1 1 = nI L := h1
  simp only [fX11_slot, mp0, mrcv, e_isSlot, Option.bind_some, b2i_0, h3, h2, h, not_true, not_false_eq_true, hw0, hw24, or_self, if_false, mg31, l16, pk_mul, nI_add, ma9 (16 * u + s) (by omega), mI_a]
  by_cases e : M.2.1 9 (16 * u + s) = -1
  · simp only [e, if_true, jn]
    by_cases e2 : 2 ≤ w
    · simp only [e2, if_true, show (2 : Int32) ≤ nI w from c_le (a := 2) e2 (by omega)]
    · simp only [e2, if_false, show ¬ (2 : Int32) ≤ nI w from c_nle (a := 2) (by omega) (by omega)]
  · simp only [e, if_false]
    have hc : ∀ k, k < 5 → (nI w = nI k) = (w = k) := fun k hk => propext (nI_eq (by omega) (by omega))
    have hc0 : (nI w = 0) = (w = 0) := hc 0 (by omega)
    have hc1 : (nI w = 1) = (w = 1) := hc 1 (by omega)
    have hc2 : (nI w = 2) = (w = 2) := hc 2 (by omega)
    have hc3 : (nI w = 3) = (w = 3) := hc 3 (by omega)
    have hc4 : (nI w = 4) = (w = 4) := hc 4 (by omega)
    refine jl_fix (fun d g => ∀ (i : Nat) (c : Int32 × Int32), i + d = L → g c.1 c.2 (nI i) = some (if w = 0 then M.2.1 9 (16 * u + s) else if w = 1 then M.2.1 10 (16 * u + s) else if w = 2 then (iter (cntS M (16 * u + s)) i d c).1 else if w = 3 then (iter (cntS M (16 * u + s)) i d c).2 else if w = 4 then M.2.1 11 (16 * u + s) else M.2.1 12 (20 * (16 * u + s) + w - 5), mk B ao (mI M 0 0))) L (by omega) ?_ ?_ ?_
    · intro g i c hi
      obtain rfl : i = L := by omega
      simp only [mg1, h11, Option.bind_some, if_pos (show nI i ≤ nI i from c_le (Nat.le_refl _) (by omega)), iter_0, hc0, hc1, hc2, hc3, hc4, mg32, mg33, mg34, ma10 (16 * u + s) (by omega), ma11 (16 * u + s) (by omega), mI_a]
      by_cases w0 : w = 0
      · simp only [w0, if_true]
      · by_cases w1 : w = 1
        · simp only [w1, if_true, show ¬ (1 = 0) by decide, if_false]
        · by_cases w2 : w = 2
          · simp only [w2, if_true, show ¬ (2 = 0) by decide, show ¬ (2 = 1) by decide, if_false]
          · by_cases w3 : w = 3
            · simp only [w3, if_true, show ¬ (3 = 0) by decide, show ¬ (3 = 1) by decide, show ¬ (3 = 2) by decide, if_false]
            · by_cases w4 : w = 4
              · simp only [w4, if_true, show ¬ (4 = 0) by decide, show ¬ (4 = 1) by decide, show ¬ (4 = 2) by decide, show ¬ (4 = 3) by decide, if_false]
              · simp only [w0, w1, w2, w3, w4, if_false, l20, pk_mul, nI_add, show (5 : Int32) = nI 5 from rfl, pk_sub (show 5 ≤ 20 * (16 * u + s) + w by omega), ma12 (20 * (16 * u + s) + w - 5) (by omega), Option.bind_some, mI_a]
    · intro d g hg i c hi
      have hln : lnI (mI M 0 0) (16 * u + s) i = lnI M (16 * u + s) i := rfl
      simp only [mg1, h11, Option.bind_some, if_neg (show ¬ nI L ≤ nI i from c_nle (by omega) (by omega)), mrcv, e_isLane (16 * u + s) i (by omega), hln, b2i_0, jn, mg38, mg39, e_thread, ma16 (32 * (16 * u + s) + i) (by omega), ma17 (32 * (16 * u + s) + i) (by omega), mI_a, nI_1, iter_s]
      by_cases e1 : lnI M (16 * u + s) i
      · simp only [eq_true e1, not_true, if_false]
        have hg2 := hg (i + 1) (cntS M (16 * u + s) i c) (by omega)
        simp only [cntS, eq_true e1, if_true] at hg2 ⊢
        rw [← hg2]
        repeat' split
        all_goals rfl
      · simp only [eq_false e1, not_false_eq_true, if_true]
        have hg2 := hg (i + 1) (cntS M (16 * u + s) i c) (by omega)
        simp only [cntS, eq_false e1, if_false] at hg2 ⊢
        exact hg2
    · intro g hg
      exact hg 0 (0, 0) (by omega)
end M4
