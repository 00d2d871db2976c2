/-! M10: how long a word takes; what is done together -/
def z_time (M : MS) (u s a L Bk G : Nat) : Int32 × MS :=
  if memP M then (if shP M then (2 + iter (shkS M s a L) 0 Bk 0, z_tsh M u (iter (shkS M s a L) 0 Bk 0)) else ((iter (tgS s a G) 0 L (M.1 15 + 1, 0, M)).1 - M.1 15 + (iter (tgS s a G) 0 L (M.1 15 + 1, 0, M)).2.1, (iter (tgS s a G) 0 L (M.1 15 + 1, 0, M)).2.2))
  else if M.1 52 < 70 then (if (M.1 52 = 7 ∨ M.1 52 = 8) then (8, mA M 5 u (M.1 15 + 8)) else (if ((M.1 52 = 6 ∨ M.1 52 = 17) ∨ M.1 52 = 19) then 3 else 1, M)) else (2, M)
def hadS (s a : Nat) (i : Nat) (c : Int32 × MS) : Int32 × MS :=
  if c.2.2.1 27 i = 0 then (c.1, mA c.2 28 i (if lnI c.2 s i then rgV c.2 (32 * s + i) a else 0)) else
  (c.1 + 1, mI (mA c.2 28 i (if lnI c.2 s i then rgV c.2 (32 * s + i) a else 0)) 58 (c.2.1 58 + (if hasP c.2 (32 * s + i) (c.2.1 54) then 1 else 0)))
def tog2 (c : Int32 × MS) : MS := if c.2.1 52 = 70 then mI c.2 58 (if c.2.1 58 ≤ 0 then 0 else 1) else if c.2.1 52 = 71 then mI c.2 58 (if c.2.1 58 = c.1 then 1 else 0) else c.2
def z_tog (M : MS) (s a L : Nat) : MS := tog2 (iter (hadS s a) 0 L (0, mI M 58 0))
theorem hadS_frm (s a i : Nat) (c : Int32 × MS) : frm [58] [28] c.2 (hadS s a i c).2 := by
  unfold hadS
  split
  · exact frm.rf.mA (by decide)
  · exact (frm.rf.mA (by decide)).mI (by decide)
theorem tog2_frm (c : Int32 × MS) : frm [58] [28] c.2 (tog2 c) := by
  unfold tog2
  split
  · exact frm.rf.mI (by decide)
  · split
    · exact frm.rf.mI (by decide)
    · exact frm.rf
theorem ap_ite {α β : Type} (p : Prop) [Decidable p] (j : α → β) (x y : α) : (if p then j x else j y) = j (if p then x else y) := by
  split <;> rfl
section M10
variable {B : AH} {ao : Nat} {M : MS} {n : Nat}
theorem e_time (u s a L Bk G : Nat) (hu : u < 8) (hs : s < 128) (ha : a < 16) (hL : L ≤ 32) (hB : 1 ≤ Bk) (hB2 : Bk ≤ 32) (hG : 1 ≤ G) (hG2 : G ≤ 8) (h1 : M.1 1 = nI L) (h4 : M.1 4 = nI Bk) (h5 : M.1 5 = nI G) (h54 : M.1 54 = nI a) (hn : 32 < n) (hq : memP M → ∀ i, i < L → ¬ M.2.1 27 i = 0 → ∃ q, q < 4096 ∧ askV M s a i = nI q) : fX11_time n ao (nI u) (nI s) (mk B ao M) = some ((z_time M u s a L Bk G).1, mk B ao (z_time M u s a L Bk G).2) := by
  unfold fX11_time
  refine ob mrcv (ob e_isMemory ?_)
  unfold z_time
  by_cases c1 : memP M
  · rw [if_neg (by rw [b2i_0]; exact not_not_intro c1), if_pos c1]
    refine ob e_isShared ?_
    by_cases c2 : shP M
    · rw [if_pos c2, jn_eq, if_neg (by rw [b2i_0]; exact not_not_intro c2)]
      exact ob (e_timeOfShared u s a L Bk hu hs ha hL hB hB2 h1 h4 h54 hn) rfl
    · rw [if_neg c2, jn_eq, if_pos (by rw [b2i_0]; exact c2)]
      exact ob (e_timeOfGlobal s a L G hs ha hL hG hG2 h1 h5 h54 hn (hq c1)) rfl
  · rw [if_pos (by rw [b2i_0]; exact c1), if_neg c1]
    refine ob mg52 ?_
    by_cases c3 : M.1 52 < 70
    · rw [if_pos c3, if_pos c3]
      by_cases c4 : M.1 52 = 7 ∨ M.1 52 = 8
      · rw [if_pos c4, if_pos c4]
        exact ob mg27 (ob mg15 (ob (ms5 u hu) rfl))
      · rw [if_neg c4, if_neg c4]
        exact jn_v _ (fun j => ap_ite _ _ _ _) rfl
    · rw [if_neg c3, if_neg c3]
theorem e_together (s a L : Nat) (hs : s < 128) (ha : a < 16) (hL : L ≤ 32) (h1 : M.1 1 = nI L) (h54 : M.1 54 = nI a) (hn : 32 < n) : fX11_together n ao (nI s) (mk B ao M) = some (mk B ao (z_tog M s a L)) := by
  unfold fX11_together z_tog
  refine ob mp58 ?_
  refine jl_fix (fun d g => ∀ (i : Nat) (c : Int32 × MS), i + d = L → frm [58] [28] M c.2 → g c.1 (nI i) (mk B ao c.2) = some (mk B ao (tog2 (iter (hadS s a) i d c)))) L (by omega) ?_ ?_ ?_
  · intro g i c hi hf
    obtain rfl : i = L := by omega
    refine ob mg1 ?_
    rw [hf.f 1, h1, if_pos (c_le (Nat.le_refl _) (by omega))]
    refine ob mg52 ?_
    rw [iter_0]
    unfold tog2
    by_cases c70 : c.2.1 52 = 70
    · rw [jn_eq, if_pos c70, if_pos c70]
      refine ob mg58 (jn_v _ (fun j => ap_ite _ _ _ _) (ob mp58 (ob mg52 ?_)))
      rw [jn_eq, if_neg (show ¬ (mI c.2 58 _).1 52 = 71 by rw [mI_g, if_neg (by decide), c70]; decide)]
    · rw [jn_eq, if_neg c70, if_neg c70]
      refine ob mg52 ?_
      by_cases c71 : c.2.1 52 = 71
      · rw [jn_eq, if_pos c71, if_pos c71]
        exact ob mg58 (jn_v _ (fun j => ap_ite _ _ _ _) (ob mp58 rfl))
      · rw [jn_eq, if_neg c71, if_neg c71]
  · intro d g hg i c hi hf
    refine Eq.trans ?_ (hg (i + 1) (hadS s a i c) (by omega) (hf.tr (hadS_frm s a i c)))
    refine ob mg1 ?_
    rw [hf.f 1, h1, if_neg (c_nle (by omega) (by omega))]
    refine ob mg59 (ob mrcv (ob (e_isLane s i hs) ?_))
    refine jn_v (if lnI c.2 s i then rgV c.2 (32 * s + i) a else 0) (fun j => ?_) (ob (ms28 i (by omega)) (ob mg51 (ob (ma27 i (by omega)) ?_)))
    · by_cases hl : lnI c.2 s i
      · rw [if_neg (by rw [b2i_0]; exact not_not_intro hl), if_pos hl]
        exact ob (e_thread s i) (ob (mg54.trans (by rw [hf.f 54, h54])) (ob (e_reg (32 * s + i) a (by omega)) rfl))
      · rw [if_pos (by rw [b2i_0]; exact hl), if_neg hl]
    · unfold hadS
      rw [jn_eq]
      by_cases d0 : c.2.2.1 27 i = 0
      · rw [if_pos (show (mA c.2 28 i _).2.1 27 i = 0 from d0), if_pos d0, nI_1]
      · rw [if_neg (show ¬ (mA c.2 28 i _).2.1 27 i = 0 from d0), if_neg d0]
        refine ob mg58 (ob (e_thread s i) (ob mg54 (ob mrcv (ob (e_has (32 * s + i) _ (by omega)) ?_))))
        refine jn_v (if hasP c.2 (32 * s + i) (c.2.1 54) then 1 else 0) (fun j => ?_) (ob mp58 ?_)
        · by_cases hp : hasP c.2 (32 * s + i) (c.2.1 54)
          · rw [if_pos hp, if_neg (by rw [b2i_0]; exact not_not_intro hp)]
          · rw [if_neg hp, if_pos (by rw [b2i_0]; exact hp)]
        · rw [nI_1]
          rfl
  · intro g hg
    exact hg 0 (0, mI M 58 0) (by omega) (frm.rf.mI (by decide))
end M10
