/-! M3: the model's clearings and faces -/
def lo2 (x : Int32) : Nat := x.toBitVec.toNat % 4
theorem lo2_lt (x : Int32) : lo2 x < 4 := Nat.mod_lt _ (by decide)
theorem and3 (x : Int32) : x &&& 3 = nI (lo2 x) := pk_and x 2 (by decide)
theorem lo2_nI {g : Nat} (h : g < 2 ^ 32) : lo2 (nI g) = g % 4 := by
  unfold lo2
  rw [pk_tn h]
abbrev bitP (v : Int32) (k : Nat) : Prop := (v >>> (nI k &&& 31)) &&& 1 = 1
abbrev hasP (M : MS) (t : Nat) (x : Int32) : Prop := bitP (M.2.1 14 t) (lo2 x)
def NEVER : Int32 := 2147483647
def z_freeAll (M : MS) : MS := mI (mI (iter (fun i M => mA M 9 i (-1)) 0 128 M) 41 0) 42 2147483647
def z_clearUnits (M : MS) : MS := z_freeAll (iter (fun i M => mA (mA (mA (mA (mA M 5 i 0) 6 i 0) 7 i (M.1 2 - 1)) 8 i 0) 4 i 0) 0 8 M)
def z_clearHouse (M : MS) : MS := iter (fun i M => mA M 3 i (-1)) 0 32 (z_clearUnits M)
def z_clearCounts (M : MS) : MS := mI (mI (mI (mI (mI (mI (mI (mI (mI (mI (mI M 15 0) 16 0) 17 0) 18 0) 19 0) 20 0) 21 0) 23 0) 24 0) 25 0) 26 0
def z_sizes (M : MS) (p1 p2 p3 p4 p5 : Int32) (k : Nat) : MS := z_clearHouse (z_clearCounts (mI (mI (iter (fun i M => mA M 2 i 0) k (4096 - k) (mI (mI (mI (mI (mI (mI M 0 0) 1 p1) 2 p2) 3 p3) 4 p4) 5 p5)) 6 (nI k)) 11 0))
def z_launch (M : MS) (p1 p2 : Int32) : MS := z_clearUnits (z_clearCounts (mI (mI (mI (mI (mI M 0 0) 12 p1) 13 p2) 11 1) 14 0))
section M3
variable {B : AH} {ao : Nat} {M : MS} {n : Nat}
theorem e_isPredicateThere (s : Nat) (x : Int32) (h : s < 128) : fX11_isPredicateThere ao (nI s) x (mk B ao M) = some (b2i (M.2.1 12 (20 * s + (16 + lo2 x)) ≤ M.1 15)) := by
  have h2 := lo2_lt x
  simp only [fX11_isPredicateThere, mrcv, Option.bind_some, and3, l16, nI_add, e_isThere s (16 + lo2 x) (by omega), nb_b]
theorem e_has (t : Nat) (x : Int32) (h : t < 4096) : fX11_has ao (nI t) x (mk B ao M) = some (b2i (hasP M t x)) := by
  simp only [fX11_has, mg36, Option.bind_some, and3, ma14 t h, jn, b2i, hasP, bitP]
  repeat' split
  all_goals first | rfl | (exfalso; grind)
theorem e_asked (s i a : Nat) (hs : s < 128) (hi : i < 32) (ha : a < 16) (h54 : M.1 54 = nI a) : fX11_asked ao (nI s) (nI i) (mk B ao M) = some (M.2.1 13 (16 * (32 * s + i) + a) + M.1 57) := by
  simp only [fX11_asked, e_thread, mg54, mrcv, h54, mg57, Option.bind_some, e_reg (32 * s + i) a (by omega)]
theorem e_warps (h : ¬ M.1 1 = 0) : fX11_warps ao (mk B ao M) = some ((M.1 13 + M.1 1 - 1) / M.1 1) := by
  simp only [fX11_warps, mg13, mg1, Option.bind_some, dz, h, if_false]
theorem e_freeAll (hn : 128 < n) : fX11_freeAll n ao (mk B ao M) = some (mk B ao (z_freeAll M)) := by
  unfold fX11_freeAll z_freeAll
  refine jl_fix (fun d g => ∀ i M, i + d = 128 → g (nI i) (mk B ao M) = some (mk B ao (mI (mI (iter (fun i M => mA M 9 i (-1)) i d M) 41 0) 42 2147483647))) 128 hn ?_ ?_ ?_
  · intro g i M h
    obtain rfl : i = 128 := by omega
    simp only [if_pos (show (128 : Int32) ≤ nI 128 from c_le (a := 128) (Nat.le_refl _) (by omega)), mp41, mp42, Option.bind_some, iter_0]
  · intro d g hg i M h
    simp only [if_neg (show ¬ (128 : Int32) ≤ nI i from c_nle (a := 128) (by omega) (by omega)), mg31, ms9 i (by omega), Option.bind_some, nI_1, iter_s]
    exact hg (i + 1) _ (by omega)
  · intro g hg
    exact hg 0 M rfl
theorem e_clearUnits (hn : 128 < n) : fX11_clearUnits n ao (mk B ao M) = some (mk B ao (z_clearUnits M)) := by
  unfold fX11_clearUnits z_clearUnits
  refine jl_fix (fun d g => ∀ i M, i + d = 8 → g (nI i) (mk B ao M) = some (mk B ao (z_freeAll (iter (fun i M => mA (mA (mA (mA (mA M 5 i 0) 6 i 0) 7 i (M.1 2 - 1)) 8 i 0) 4 i 0) i d M)))) 8 (by omega) ?_ ?_ ?_
  · intro g i M h
    obtain rfl : i = 8 := by omega
    simp only [if_pos (show (8 : Int32) ≤ nI 8 from c_le (a := 8) (Nat.le_refl _) (by omega)), mrcv, e_freeAll hn, Option.bind_some, iter_0]
  · intro d g hg i M h
    simp only [if_neg (show ¬ (8 : Int32) ≤ nI i from c_nle (a := 8) (by omega) (by omega)), mg27, mg28, mg29, mg30, mg10, mg2, ms5 i (show i < 8 by omega), ms6 i (show i < 8 by omega), ms7 i (show i < 8 by omega), ms8 i (show i < 8 by omega), ms4 i (show i < 8 by omega), Option.bind_some, nI_1, iter_s]
    exact hg (i + 1) _ (by omega)
  · intro g hg
    exact hg 0 M rfl
theorem e_clearHouse (hn : 128 < n) : fX11_clearHouse n ao (mk B ao M) = some (mk B ao (z_clearHouse M)) := by
  unfold fX11_clearHouse z_clearHouse
  simp only [mrcv, e_clearUnits hn, Option.bind_some]
  refine jl_fix (fun d g => ∀ i M, i + d = 32 → g (nI i) (mk B ao M) = some (mk B ao (iter (fun i M => mA M 3 i (-1)) i d M))) 32 (by omega) ?_ ?_ ?_
  · intro g i M h
    obtain rfl : i = 32 := by omega
    simp only [if_pos (show (32 : Int32) ≤ nI 32 from c_le (a := 32) (Nat.le_refl _) (by omega)), iter_0]
  · intro d g hg i M h
    simp only [if_neg (show ¬ (32 : Int32) ≤ nI i from c_nle (a := 32) (by omega) (by omega)), mg9, ms3 i (show i < 32 by omega), Option.bind_some, nI_1, iter_s]
    exact hg (i + 1) _ (by omega)
  · intro g hg
    exact hg 0 _ rfl
theorem e_clearCounts : fX11_clearCounts ao (mk B ao M) = some (mk B ao (z_clearCounts M)) := by
  simp only [fX11_clearCounts, z_clearCounts, mp15, mp16, mp17, mp18, mp19, mp20, mp21, mp23, mp24, mp25, mp26, Option.bind_some]
theorem e_launch (p1 p2 : Int32) (hn : 128 < n) : fX11_launch n ao p1 p2 (mk B ao M) = some (if (¬ undP M ∧ ¬ p1 < 1 ∧ ¬ 64 < p1 ∧ ¬ p2 < 1 ∧ p2 ≤ M.1 1 * M.1 2) then (1, mk B ao (z_launch M p1 p2)) else (0, mk B ao (mI M 0 0))) := by
  have hu : undP (mI M 0 0) = undP M := rfl
  have h1 : (mI M 0 0).1 1 = M.1 1 := rfl
  have h2 : (mI M 0 0).1 2 = M.1 2 := rfl
  simp only [fX11_launch, mp0, mrcv, e_isUnder, mg1, mg2, mp12, mp13, mp11, mp14, e_clearCounts, e_clearUnits hn, Option.bind_some, b2i_0, hu, h1, h2, z_launch, nb_0, nb_1]
  repeat' split
  all_goals first | rfl | (exfalso; grind)
abbrev szP (p1 p2 p3 p4 p5 p6 : Int32) : Prop := pw2 p1 32 ∧ ¬ p2 < 1 ∧ ¬ 16 < p2 ∧ ¬ p3 < 1 ∧ ¬ 8 < p3 ∧ pw2 p4 32 ∧ pw2 p5 8 ∧ ¬ p6 < 512 ∧ pw2 p6 4096
theorem e_sizes (p1 p2 p3 p4 p5 p6 : Int32) (k : Nat) (hk : k ≤ 4096) (h6 : szP p1 p2 p3 p4 p5 p6 → p6 = nI k) (hn : 4096 < n) : fX11_sizes n ao p1 p2 p3 p4 p5 p6 (mk B ao M) = some (if (szP p1 p2 p3 p4 p5 p6 ∧ ¬ undP M) then (1, mk B ao (z_sizes M p1 p2 p3 p4 p5 k)) else (0, mk B ao (mI M 0 0))) := by
  have hu : undP (mI M 0 0) = undP M := rfl
  by_cases hc : szP p1 p2 p3 p4 p5 p6 ∧ ¬ undP M
  · rw [if_pos hc]
    have hk6 := h6 hc.1
    obtain ⟨⟨c1, c2, c3, c4, c5, c6, c7, c8, c9⟩, c10⟩ := hc
    simp only [fX11_sizes, mp0, e_isPower, Option.bind_some, b2i_0, jn, eq_true c1, c2, c3, c4, c5, eq_true c6, eq_true c7, c8, eq_true c9, mrcv, e_isUnder, hu, eq_false c10, not_true, not_false_eq_true, false_or, or_self, if_false, if_true, show ¬ ((1 : Int32) = 0) by decide, mp1, mp2, mp3, mp4, mp5]
    rw [hk6]
    refine jl_fix (fun d g => ∀ i M, i + d = 4096 → g (nI i) (mk B ao M) = some (1, mk B ao (z_clearHouse (z_clearCounts (mI (mI (iter (fun i M => mA M 2 i 0) i d M) 6 (nI k)) 11 0))))) (4096 - k) (by omega) ?_ ?_ ?_
    · intro g i M h
      obtain rfl : i = 4096 := by omega
      simp only [if_pos (show (4096 : Int32) ≤ nI 4096 from c_le (a := 4096) (Nat.le_refl _) (by omega)), mp6, mp11, mrcv, e_clearCounts, e_clearHouse (show 128 < n by omega), Option.bind_some, iter_0, nb_1]
    · intro d g hg i M h
      simp only [if_neg (show ¬ (4096 : Int32) ≤ nI i from c_nle (a := 4096) (by omega) (by omega)), mg8, ms2 i (show i < 4096 by omega), Option.bind_some, nI_1, iter_s]
      exact hg (i + 1) _ (by omega)
    · intro g hg
      exact hg k _ (by omega)
  · rw [if_neg hc]
    simp only [fX11_sizes, mp0, e_isPower, Option.bind_some, b2i_0, jn, mrcv, e_isUnder, hu, nb_0]
    repeat' split
    all_goals first | rfl | (exfalso; grind)
theorem e_word (p1 : Int32) (p2 : Int64) (k : Nat) (hk : ¬ (p1 < 0 ∨ 128 ≤ p1) → p1 = nI k ∧ k < 128) : fX11_word ao p1 p2 (mk B ao M) = some (if (¬ (p1 < 0 ∨ 128 ≤ p1) ∧ ¬ undP M) then (1, mk B ao (mK (mI M 0 0) k p2)) else (0, mk B ao (mI M 0 0))) := by
  have hu : undP (mI M 0 0) = undP M := rfl
  by_cases h1 : (p1 < 0 ∨ 128 ≤ p1)
  · simp only [fX11_word, mp0, Option.bind_some, jn, h1, if_true, not_true, false_and, if_false, nb_0]
  · obtain ⟨rfl, hk2⟩ := hk h1
    simp only [fX11_word, mp0, Option.bind_some, jn, h1, if_false, not_false_eq_true, true_and, nb_0, nb_1, mrcv, e_isUnder, hu, b2i_0, mg7, msL hk2]
    repeat' split
    all_goals first | rfl | (exfalso; grind)
theorem e_set (p1 p2 : Int32) (k : Nat) (hk : ¬ (p1 < 0 ∨ M.1 6 ≤ p1) → p1 = nI k ∧ k < 4096) : fX11_set ao p1 p2 (mk B ao M) = some (if (¬ (p1 < 0 ∨ M.1 6 ≤ p1) ∧ ¬ undP M) then (1, mk B ao (mA (mI M 0 0) 2 k p2)) else (0, mk B ao (mI M 0 0))) := by
  have hu : undP (mI M 0 0) = undP M := rfl
  have h6 : (mI M 0 0).1 6 = M.1 6 := rfl
  by_cases h1 : (p1 < 0 ∨ M.1 6 ≤ p1)
  · simp only [fX11_set, mp0, mg6, Option.bind_some, jn, h6, h1, if_true, not_true, false_and, if_false, nb_0]
  · obtain ⟨rfl, hk2⟩ := hk h1
    simp only [fX11_set, mp0, mg6, Option.bind_some, jn, h6, h1, if_false, not_false_eq_true, true_and, nb_0, nb_1, mrcv, e_isUnder, hu, b2i_0, mg8, ms2 k hk2]
    repeat' split
    all_goals first | rfl | (exfalso; grind)
theorem e_stop (hn : 128 < n) : fX11_stop n ao (mk B ao M) = some (if undP M then (1, mk B ao (z_freeAll (mI (mI M 0 0) 11 0))) else (0, mk B ao (mI M 0 0))) := by
  have hu : undP (mI M 0 0) = undP M := rfl
  simp only [fX11_stop, mp0, mrcv, e_isUnder, Option.bind_some, b2i_0, hu, mp11, e_freeAll hn, nb_0, nb_1, jn]
  repeat' split
  all_goals first | rfl | (exfalso; grind)
end M3
