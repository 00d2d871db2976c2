/-! M6: the model's group and whether a warp can go -/
theorem jn_v {β γ : Type} {r : β → γ} {f : (β → γ) → γ} (v : β) {x : γ} (h : ∀ j : β → γ, f j = j v) (k : r v = x) : jn r f = x := (h r).trans k
def grS (M : MS) (s : Nat) (i : Nat) (c : Int32 × Int32) : Int32 × Int32 := if awk M s i then (1, if (c.1 = 0 ∨ M.2.1 15 (32 * s + i) < c.2) then M.2.1 15 (32 * s + i) else c.2) else c
def ingS (s : Nat) (c : Int32 × Int32) (i : Nat) (M : MS) : MS := mA M 26 i (b2i (¬ c.1 = 0 ∧ awk M s i ∧ M.2.1 15 (32 * s + i) = c.2))
def z_grp (M : MS) (s : Nat) (c : Int32 × Int32) : MS := iter (ingS s c) 0 32 M
abbrev tTh (M : MS) (s r : Nat) : Prop := M.2.1 12 (20 * s + r) ≤ M.1 15
abbrev pTh (M : MS) (s : Nat) (x : Int32) : Prop := M.2.1 12 (20 * s + (16 + lo2 x)) ≤ M.1 15
/-- may the word at hand go? -/
abbrev rg1 (M : MS) (s : Nat) : Prop := M.1 56 < 8 ∨ pTh M s (M.1 56)
abbrev rg2 (M : MS) (s d a b : Nat) : Prop := (¬ rdA M ∨ tTh M s a) ∧ (¬ rdB M ∨ tTh M s b) ∧ ((¬ wrD M ∧ ¬ M.1 52 = 57) ∨ tTh M s d)
abbrev rg3 (M : MS) (s : Nat) : Prop := (¬ M.1 52 = 21 ∨ pTh M s (M.1 57)) ∧ (¬ (M.1 52 = 34 ∨ M.1 52 = 35) ∨ (pTh M s (M.1 54) ∧ pTh M s (M.1 55)))
abbrev rg4 (M : MS) (s : Nat) : Prop := (¬ (((M.1 52 = 36 ∨ M.1 52 = 70) ∨ M.1 52 = 71) ∨ M.1 52 = 72) ∨ pTh M s (M.1 54)) ∧ (¬ wrP M ∨ pTh M s (M.1 53))
abbrev rg5 (M : MS) (u s : Nat) : Prop := (¬ (M.1 52 = 7 ∨ M.1 52 = 8) ∨ M.2.1 5 u ≤ M.1 15) ∧ (((¬ memP M ∧ ¬ M.1 52 = 0) ∧ ¬ M.1 52 = 1) ∨ M.2.1 11 s ≤ M.1 15)
abbrev rg6 (M : MS) (u : Nat) : Prop := ¬ shP M ∨ M.2.1 6 u ≤ M.1 15
def rdB2 (M : MS) (s d a b : Nat) : Bool := decide (rg1 M s) && decide (rg2 M s d a b)
def rdB3 (M : MS) (s d a b : Nat) : Bool := rdB2 M s d a b && decide (rg3 M s)
def rdB4 (M : MS) (s d a b : Nat) : Bool := rdB3 M s d a b && decide (rg4 M s)
def rdB5 (M : MS) (u s d a b : Nat) : Bool := rdB4 M s d a b && decide (rg5 M u s)
def rdyB (M : MS) (u s d a b : Nat) : Bool := rdB5 M u s d a b && decide (rg6 M u)
theorem ob {α β : Type} {o : Option α} {v : α} {f : α → Option β} {r : Option β} (h : o = some v) (k : f v = r) : o.bind f = r := by
  rw [h]
  exact k
theorem jn_eq {α β : Type} (x : α) (f : α → β) : jn x f = f x := rfl
section M6
variable {B : AH} {ao : Nat} {M : MS} {n : Nat}
theorem e_group (s L : Nat) (hs : s < 128) (hL : L ≤ 32) (h1 : M.1 1 = nI L) (hn : 32 < n) : fX11_group n ao (nI s) (mk B ao M) = some (nb (iter (grS M s) 0 L (0, 0)).1, mk B ao (z_grp M s (iter (grS M s) 0 L (0, 0)))) := by
  unfold fX11_group
  refine jl_fix (fun d g => ∀ (i : Nat) (c : Int32 × Int32), i + d = L → g c.1 c.2 (nI i) = some (nb (iter (grS M s) i d c).1, mk B ao (z_grp M s (iter (grS M s) i d c)))) L (by omega) ?_ ?_ ?_
  · intro g i c hi
    obtain rfl : i = L := by omega
    simp only [mg1, h1, Option.bind_some, if_pos (show nI i ≤ nI i from c_le (Nat.le_refl _) (by omega)), iter_0]
    unfold z_grp
    refine jl_fix (fun d g => ∀ (i : Nat) (M : MS), i + d = 32 → g (nI i) (mk B ao M) = some (nb c.1, mk B ao (iter (ingS s c) i d M))) 32 hn ?_ ?_ ?_
    · intro g i M hi
      obtain rfl : i = 32 := by omega
      simp only [if_pos (show (32 : Int32) ≤ nI 32 from c_le (a := 32) (Nat.le_refl _) (by omega)), iter_0]
    · intro d g hg i M hi
      refine Eq.trans ?_ (hg (i + 1) (ingS s c i M) (by omega))
      simp only [if_neg (show ¬ (32 : Int32) ≤ nI i from c_nle (a := 32) (by omega) (by omega)), mg50, Option.bind_some, mrcv, e_isAwake s i hs (by omega), b2i_0, mg37, e_thread, ma15 (32 * s + i) (by omega), nI_1, ingS]
      refine jn_v (b2i (¬ c.1 = 0 ∧ awk M s i ∧ M.2.1 15 (32 * s + i) = c.2)) (fun j => ?_) ?_
      · simp only [jn, b2i]
        repeat' split
        all_goals first | rfl | (exfalso; grind)
      · simp only [ms26 i (show i < 32 by omega), Option.bind_some, nb_b]
    · intro g hg
      exact hg 0 M rfl
  · intro d g hg i c hi
    refine Eq.trans ?_ (hg (i + 1) (grS M s i c) (by omega))
    simp only [mg1, h1, Option.bind_some, if_neg (show ¬ nI L ≤ nI i from c_nle (by omega) (by omega)), mrcv, e_isAwake s i hs (by omega), b2i_0, mg37, e_thread, ma15 (32 * s + i) (by omega), nI_1, jn, grS]
    repeat' split
    all_goals first | rfl | (exfalso; grind)
  · intro g hg
    exact hg 0 (0, 0) (by omega)
theorem e_first (f : Nat) (hf : f < 32) (h0 : ∀ j, j < f → M.2.1 26 j = 0) (h1 : ¬ M.2.1 26 f = 0) (hn : 32 < n) : fX11_firstOfGroup n ao (mk B ao M) = some (nI f) := by
  unfold fX11_firstOfGroup
  refine jl_fix (fun d g => ∀ (i : Nat), i + d = f → g (nI i) = some (nI f)) f (by omega) ?_ ?_ ?_
  · intro g i hi
    obtain rfl : i = f := by omega
    simp only [mg50, Option.bind_some, ma26 i hf, h1, if_false]
  · intro d g hg i hi
    simp only [mg50, Option.bind_some, ma26 i (show i < 32 by omega), h0 i (by omega), if_true, nI_1]
    exact hg (i + 1) (by omega)
  · intro g hg
    exact hg 0 (by omega)
theorem e_readyA (u s : Nat) (hs : s < 128) (h : M.2.1 9 s = -1) : fX11_isReady n ao (nI u) (nI s) (mk B ao M) = some (0, mk B ao M) := by
  unfold fX11_isReady
  refine ob mg31 (ob (ma9 s hs) ?_)
  rw [jn_eq, if_pos h, nb_0]
theorem e_readyB (u s L : Nat) (hs : s < 128) (hL : L ≤ 32) (h1 : M.1 1 = nI L) (hn : 32 < n) (h : ¬ M.2.1 9 s = -1) (hg : nb (iter (grS M s) 0 L (0, 0)).1 = 0) : fX11_isReady n ao (nI u) (nI s) (mk B ao M) = some (0, mk B ao (z_grp M s (iter (grS M s) 0 L (0, 0)))) := by
  unfold fX11_isReady
  refine ob mg31 (ob (ma9 s hs) ?_)
  rw [jn_eq, if_neg h]
  refine ob mrcv (ob (e_group s L hs hL h1 hn) ?_)
  rw [if_pos hg, nb_0]
theorem e_readyC (u s L f : Nat) (hs : s < 128) (hL : L ≤ 32) (h1 : M.1 1 = nI L) (hn : 32 < n) (h : ¬ M.2.1 9 s = -1) (hg : ¬ nb (iter (grS M s) 0 L (0, 0)).1 = 0) (M1 : MS) (hM1 : z_grp M s (iter (grS M s) 0 L (0, 0)) = M1) (hf : f < 32) (hf0 : ∀ j, j < f → M1.2.1 26 j = 0) (hf1 : ¬ M1.2.1 26 f = 0) (hp : M1.2.1 15 (32 * s + f) < 0 ∨ ¬ M1.2.1 15 (32 * s + f) < 128) : fX11_isReady n ao (nI u) (nI s) (mk B ao M) = some (1, mk B ao M1) := by
  unfold fX11_isReady
  refine ob mg31 (ob (ma9 s hs) ?_)
  rw [jn_eq, if_neg h]
  refine ob mrcv (ob (e_group s L hs hL h1 hn) ?_)
  rw [if_neg hg, hM1]
  refine ob mg37 (ob mrcv (ob (e_first f hf hf0 hf1 hn) (ob (e_thread s f) (ob (ma15 (32 * s + f) (by omega)) ?_))))
  rw [if_pos hp, nb_1]
theorem e_readyD (u s L f k : Nat) (hs : s < 128) (hL : L ≤ 32) (h1 : M.1 1 = nI L) (hn : 32 < n) (h : ¬ M.2.1 9 s = -1) (hg : ¬ nb (iter (grS M s) 0 L (0, 0)).1 = 0) (M1 : MS) (hM1 : z_grp M s (iter (grS M s) 0 L (0, 0)) = M1) (hf : f < 32) (hf0 : ∀ j, j < f → M1.2.1 26 j = 0) (hf1 : ¬ M1.2.1 26 f = 0) (hk : k < 128) (hp : M1.2.1 15 (32 * s + f) = nI k) (hw : ¬ wrdP (z_take M1 (M1.2.2 k))) : fX11_isReady n ao (nI u) (nI s) (mk B ao M) = some (1, mk B ao (z_take M1 (M1.2.2 k))) := by
  have hp2 : ¬ (nI k < 0 ∨ ¬ nI k < 128) := by
    rintro (z | z)
    · exact nI_pos (by omega) z
    · exact z (nI_lt (b := 128) hk (by omega))
  unfold fX11_isReady
  refine ob mg31 (ob (ma9 s hs) ?_)
  rw [jn_eq, if_neg h]
  refine ob mrcv (ob (e_group s L hs hL h1 hn) ?_)
  rw [if_neg hg, hM1]
  refine ob mg37 (ob mrcv (ob (e_first f hf hf0 hf1 hn) (ob (e_thread s f) (ob ((ma15 (32 * s + f) (by omega)).trans (by rw [hp])) ?_))))
  rw [if_neg hp2]
  refine ob mg7 (ob (maL hk) (ob (e_take _) (ob mrcv (ob e_isWord ?_))))
  rw [if_pos (by rw [b2i_0]; exact hw), nb_1]
set_option maxRecDepth 100000 in
set_option maxHeartbeats 4000000 in
theorem e_readyE (u s L f k d a b : Nat) (hu : u < 8) (hs : s < 128) (hL : L ≤ 32) (h1 : M.1 1 = nI L) (hn : 32 < n) (h : ¬ M.2.1 9 s = -1) (hg : ¬ nb (iter (grS M s) 0 L (0, 0)).1 = 0) (M1 M2 : MS) (hM1 : z_grp M s (iter (grS M s) 0 L (0, 0)) = M1) (hf : f < 32) (hf0 : ∀ j, j < f → M1.2.1 26 j = 0) (hf1 : ¬ M1.2.1 26 f = 0) (hk : k < 128) (hp : M1.2.1 15 (32 * s + f) = nI k) (hM2 : z_take M1 (M1.2.2 k) = M2) (hw : wrdP M2) (h53 : M2.1 53 = nI d) (h54 : M2.1 54 = nI a) (h55 : M2.1 55 = nI b) (hd : d < 16) (ha : a < 16) (hb : b < 16) : fX11_isReady n ao (nI u) (nI s) (mk B ao M) = some (b2i (rdyB M2 u s d a b = true), mk B ao M2) := by
  have hp2 : ¬ (nI k < 0 ∨ ¬ nI k < 128) := by
    rintro (z | z)
    · exact nI_pos (by omega) z
    · exact z (nI_lt (b := 128) hk (by omega))
  unfold fX11_isReady
  refine ob mg31 (ob (ma9 s hs) ?_)
  rw [jn_eq, if_neg h]
  refine ob mrcv (ob (e_group s L hs hL h1 hn) ?_)
  rw [if_neg hg, hM1]
  refine ob mg37 (ob mrcv (ob (e_first f hf hf0 hf1 hn) (ob (e_thread s f) (ob ((ma15 (32 * s + f) (by omega)).trans (by rw [hp])) ?_))))
  rw [if_neg hp2]
  refine ob mg7 (ob (maL hk) (ob (e_take _) ?_))
  rw [hM2]
  refine ob mrcv (ob e_isWord ?_)
  rw [if_neg (by rw [b2i_0]; exact not_not_intro hw)]
  refine ob mg56 ?_
  have g1 := e_isPredicateThere (B := B) (ao := ao) (M := M2) s
  have g2 := e_isThere (B := B) (ao := ao) (M := M2) s d (by omega)
  have g3 := e_isThere (B := B) (ao := ao) (M := M2) s a (by omega)
  have g4 := e_isThere (B := B) (ao := ao) (M := M2) s b (by omega)
  have g5 := ma5 (B := B) (ao := ao) (M := M2) u hu
  have g6 := ma6 (B := B) (ao := ao) (M := M2) u hu
  have g7 := ma11 (B := B) (ao := ao) (M := M2) s hs
  rw [← h53] at g2
  rw [← h54] at g3
  rw [← h55] at g4
  refine jn_v (b2i (rg1 M2 s)) (fun j => ?_) ?_
  · simp only [jn, g1 _ hs, Option.bind_some, b2i_0]
    simp only [b2i]
    repeat' split
    all_goals first | rfl | (exfalso; grind)
  refine jn_v (b2i (rdB2 M2 s d a b = true)) (fun j => ?_) ?_
  · simp only [jn, g1 _ hs, g2, g3, g4, e_readsA, e_readsB, e_writesD, mg52, mg53, mg54, mg55, Option.bind_some, b2i_0]
    simp only [b2i, rdB2, Bool.and_eq_true, decide_eq_true_eq]
    repeat' split
    all_goals first | rfl | (exfalso; grind)
  refine jn_v (b2i (rdB3 M2 s d a b = true)) (fun j => ?_) ?_
  · simp only [jn, g1 _ hs, mg52, mg54, mg55, mg57, Option.bind_some, b2i_0]
    simp only [b2i, rdB3, Bool.and_eq_true, decide_eq_true_eq]
    repeat' split
    all_goals first | rfl | (exfalso; grind)
  refine jn_v (b2i (rdB4 M2 s d a b = true)) (fun j => ?_) ?_
  · simp only [jn, g1 _ hs, e_writesPredicate, mg52, mg53, mg54, Option.bind_some, b2i_0]
    simp only [b2i, rdB4, Bool.and_eq_true, decide_eq_true_eq]
    repeat' split
    all_goals first | rfl | (exfalso; grind)
  refine jn_v (b2i (rdB5 M2 u s d a b = true)) (fun j => ?_) ?_
  · simp only [jn, e_isMemory, mg52, mg27, mg33, mg15, g5, g7, Option.bind_some, b2i_0]
    simp only [b2i, rdB5, Bool.and_eq_true, decide_eq_true_eq]
    repeat' split
    all_goals first | rfl | (exfalso; grind)
  refine jn_v (b2i (rdyB M2 u s d a b = true)) (fun j => ?_) ?_
  · simp only [jn, e_isShared, mg28, mg15, g6, Option.bind_some, b2i_0]
    simp only [b2i, rdyB, Bool.and_eq_true, decide_eq_true_eq]
    repeat' split
    all_goals first | rfl | (exfalso; grind)
  rw [nb_b]

end M6
