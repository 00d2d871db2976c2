/-! M15: a word goes, the whole of it -/
section M15
variable {B : AH} {ao : Nat} {M : MS} {n : Nat}
theorem doe_frm (s : Nat) (M : MS) : ∀ (d i : Nat) (c : Int32 × Int32 × MS), frm [] [27] M c.2.2 → frm [] [27] M (iter (doeS s) i d c).2.2
  | 0, _, _, h => h
  | d + 1, i, c, h => doe_frm s M d (i + 1) (doeS s i c) (h.tr (doeS_frm s i c))
set_option maxHeartbeats 4000000 in
theorem e_goC (u s f k d a b bk L Bk G I p0 : Nat) (hu : u < 8) (hs : s < 128) (hf : f < 32) (hf0 : ∀ j, j < f → M.2.1 26 j = 0) (hf1 : ¬ M.2.1 26 f = 0) (hn : 128 < n) (hk : k < 128) (hp : M.2.1 15 (32 * s + f) = nI k)
    (M2 : MS) (hM2 : z_take M (M.2.2 k) = M2) (hw : wrdP M2) (hL1 : 1 ≤ L) (hL : L ≤ 32) (hB1 : 1 ≤ Bk) (hB : Bk ≤ 32) (hG1 : 1 ≤ G) (hG : G ≤ 8) (hI : I ≤ 4096) (hd : d < 16) (ha : a < 16) (hb : b < 16) (hbk : bk < 64) (hp0 : p0 + 32 ≤ 32767)
    (h1 : M2.1 1 = nI L) (h4 : M2.1 4 = nI Bk) (h5 : M2.1 5 = nI G) (h6 : M2.1 6 = nI I) (h53 : M2.1 53 = nI d) (h54 : M2.1 54 = nI a) (h55 : M2.1 55 = nI b) (h9 : M2.2.1 9 s = nI bk) (h41 : M2.1 41 = nI p0) :
    fX11_go n ao (nI u) (nI s) (mk B ao M) = some (mk B ao (z_go M2 u s d a b bk L Bk G)) := by
  unfold fX11_go z_go
  refine ob mrcv (ob (e_first f hf hf0 hf1 (by omega)) (ob mg37 (ob (e_thread s f) (ob ((ma15 (32 * s + f) (by omega)).trans (by rw [hp])) ?_))))
  rw [if_neg (show ¬ (nI k < 0 ∨ ¬ nI k < 128) from fun z => z.elim (fun q => absurd (c_le (Nat.zero_le k) (by omega)) (Int32.not_le.mpr q)) (fun q => q (by rw [l128]; exact Int32.not_le.mp (c_nle hk (by omega)))))]
  refine ob mg7 (ob (maL hk) (ob ((e_take _).trans (by rw [hM2])) (ob mrcv (ob e_isWord ?_))))
  rw [if_neg (by rw [b2i_0]; exact not_not_intro hw)]
  refine jl_fix (fun d' g => ∀ (i : Nat) (c : Int32 × Int32 × MS), i + d' = 32 → frm [] [27] M2 c.2.2 → g c.1 c.2.1 (nI i) (mk B ao c.2.2) = some (mk B ao (z_goO (trF (iter (doeS s) i d' c).2.2 s a b 0 L) u s d a b bk L Bk G (iter (doeS s) i d' c)))) 32 (by omega) ?_ ?_ ?_
  · intro g i c hi hfr
    obtain rfl : i = 32 := by omega
    rw [l32, if_pos (c_le (Nat.le_refl _) (by omega)), iter_0]
    obtain ⟨many, all, M3⟩ := c
    have hfr : frm [] [27] M2 M3 := hfr
    show _ = some (mk B ao (z_goO (trF M3 s a b 0 L) u s d a b bk L Bk G (many, all, M3)))
    have g1 : M3.1 1 = nI L := (hfr.f 1).trans h1
    have g54 : M3.1 54 = nI a := (hfr.f 54).trans h54
    have g55 : M3.1 55 = nI b := (hfr.f 55).trans h55
    refine jl_fix (fun d' g' => ∀ (i : Nat), i + d' = L → (∀ j, j < i → ¬ M3.2.1 27 j = 0 → whyV M3 (32 * s + j) a b = 0) → g' (nI i) = some (mk B ao (z_goO (trF M3 s a b i d') u s d a b bk L Bk G (many, all, M3)))) L (by omega) ?_ ?_ ?_
    · intro g' i hi hwhy
      obtain rfl : i = L := by omega
      refine ob mg1 ?_
      rw [g1, if_pos (c_le (Nat.le_refl _) (by omega))]
      show _ = some (mk B ao (z_goR M3 u s d a b bk i Bk G many all))
      unfold z_goR
      have htq : memP M3 → ∀ j, j < i → ¬ M3.2.1 27 j = 0 → ∃ q, q < 4096 ∧ askV M3 s a j = nI q := by
        intro hm j hj hj2
        obtain ⟨q0, q1⟩ := why0_mem (hwhy j hj hj2) hm
        have hav : askV M3 s a j = rgV M3 (32 * s + j) a + M3.1 57 := rfl
        rw [hav]
        by_cases hsh : shP M3
        · rw [if_pos hsh] at q1
          obtain ⟨q, r1, r2⟩ := rngI (N := 64) q0 (by rw [← l64]; exact q1) (by omega)
          exact ⟨q, by omega, r2⟩
        · rw [if_neg hsh, hfr.f 6, h6] at q1
          obtain ⟨q, r1, r2⟩ := rngI (N := I) q0 q1 (by omega)
          exact ⟨q, by omega, r2⟩
      refine ob mrcv (ob (e_time u s a i Bk G hu hs ha hL hB1 hB hG1 hG g1 ((hfr.f 4).trans h4) ((hfr.f 5).trans h5) g54 (by omega) htq) ?_)
      have ft := time_frm M3 u s a i Bk G
      generalize z_time M3 u s a i Bk G = TM at ft ⊢
      obtain ⟨tt, M4⟩ := TM
      have ft : frm [19, 20] [3, 4, 5, 6, 25] M3 M4 := ft
      refine ob mg16 (ob mp16 (ob mg30 (ob (ma8 u hu) (ob (ms8 u hu) (ob mg17 (ob mp17 (ob mg18 ?_)))))))
      refine jn_v (if all ≤ many then 0 else 1) (fun j => ap_ite _ _ _ _) (ob (show _ = some (mk B ao (cntM u many all M4)) from mp18) ?_)
      show _ = some (mk B ao (wrA s d i tt (iter (goS s d a b bk) 0 i (z_tog (cntM u many all M4) s a i))))
      have fc := cnt_frm u many all M4
      generalize cntM u many all M4 = M5 at fc ⊢
      have f5 : M5.1 1 = nI i := by rw [fc.f 1, ft.f 1]; exact g1
      have f554 : M5.1 54 = nI a := by rw [fc.f 54, ft.f 54]; exact g54
      refine ob mrcv (ob (e_together s a i hs ha hL f5 f554 (by omega)) ?_)
      have fg := tog_frm M5 s a i
      generalize z_tog M5 s a i = M6 at fg ⊢
      have k1 : M6.1 1 = nI i := (fg.f 1).trans f5
      have k54 : M6.1 54 = nI a := (fg.f 54).trans f554
      have kf : ∀ x, x ∉ [16, 17, 18, 19, 20, 58] → M6.1 x = M3.1 x := by
        intro x hx
        simp only [List.mem_cons, List.not_mem_nil, or_false, not_or] at hx
        rw [fg.f x (by simp only [List.mem_cons, List.not_mem_nil, or_false]; omega), fc.f x (by simp only [List.mem_cons, List.not_mem_nil, or_false]; omega), ft.f x (by simp only [List.mem_cons, List.not_mem_nil, or_false]; omega)]
      have ka : ∀ x, x ∉ [3, 4, 5, 6, 8, 25, 28] → M6.2.1 x = M3.2.1 x := by
        intro x hx
        simp only [List.mem_cons, List.not_mem_nil, or_false, not_or] at hx
        rw [fg.a x (by simp only [List.mem_cons, List.not_mem_nil, or_false]; omega), fc.a x (by simp only [List.mem_cons, List.not_mem_nil, or_false]; omega), ft.a x (by simp only [List.mem_cons, List.not_mem_nil, or_false]; omega)]
      have k53 : M6.1 53 = nI d := by rw [kf 53 (by decide), hfr.f 53]; exact h53
      have k55 : M6.1 55 = nI b := by rw [kf 55 (by decide)]; exact g55
      have k52 : M6.1 52 = M3.1 52 := kf 52 (by decide)
      have k57 : M6.1 57 = M3.1 57 := kf 57 (by decide)
      have kw : wrdP M6 := by rw [wrdP, k52, k57, hfr.f 52, hfr.f 57]; exact hw
      have k9 : M6.2.1 9 s = nI bk := by rw [ka 9 (by decide), hfr.a 9]; exact h9
      have k41 : M6.1 41 = nI p0 := by rw [kf 41 (by decide), hfr.f 41]; exact h41
      have k13 : M6.2.1 13 = M3.2.1 13 := ka 13 (by decide)
      have kwhy : ∀ j, j < i → ¬ M6.2.1 27 j = 0 → whyV M6 (32 * s + j) a b = 0 := by
        intro j hj hj2
        have hz := hwhy j hj (by rw [← ka 27 (by decide)]; exact hj2)
        unfold whyV rgV memP shP at hz ⊢
        rw [k52, k57, k13, kf 6 (by decide)]
        exact hz
      refine jl_fix (fun d' g'' => ∀ (j : Nat) (M' : MS), j + d' = i → goI s p0 j M6 M' → g'' (nI j) (mk B ao M') = some (mk B ao (wrA s d i tt (iter (goS s d a b bk) j d' M')))) i (by omega) ?_ ?_ ?_
      · intro g'' j M' hj hI2
        obtain rfl : j = i := by omega
        have hf' := hI2.1
        refine ob mg1 ?_
        rw [hf'.f 1, k1, if_pos (c_le (Nat.le_refl _) (by omega)), iter_0]
        exact e_wrA s d j tt hs hd hL ((hf'.f 1).trans k1) ((hf'.f 53).trans k53) hn
      · intro d' g'' hg'' j M' hj hI2
        have hf' := hI2.1
        refine Eq.trans ?_ (hg'' (j + 1) (goS s d a b bk j M') (by omega) (goI_s hd hI2))
        refine ob mg1 ?_
        rw [hf'.f 1, k1, if_neg (c_nle (by omega) (by omega))]
        refine ob mg50 (ob (ma26 j (by omega)) ?_)
        rw [jn_eq, nI_1]
        by_cases c26 : M'.2.1 26 j = 0
        · rw [if_pos c26]
          have : goS s d a b bk j M' = M' := if_pos c26
          rw [this]
        · rw [if_neg c26]
          refine ob (e_thread s j) (ob mg37 (ob (ma15 (32 * s + j) (by omega)) (ob (ms15 (32 * s + j) (by omega)) (ob mg51 (ob (ma27 j (by omega)) ?_)))))
          by_cases c27 : M'.2.1 27 j = 0
          · rw [if_pos (show (mA M' 15 _ _).2.1 27 j = 0 from c27)]
            have : goS s d a b bk j M' = mA M' 15 (32 * s + j) (M'.2.1 15 (32 * s + j) + 1) := by
              unfold goS
              rw [if_neg c26, if_pos c27]
            rw [this]
          · rw [if_neg (show ¬ (mA M' 15 _ _).2.1 27 j = 0 from c27)]
            exact ob mrcv (ob (e_goL s d a b bk i p0 hs hL1 hL hd ha hb hbk hp0 k1 k53 k54 k55 k9 k41 kw kwhy (by omega) hI2 c26 c27) rfl)
      · intro g'' hg''
        exact hg'' 0 M6 (by omega) ⟨frm.rf, fun _ _ _ _ => rfl, p0, k41, by omega⟩
    · intro d' g' hg' i hi hwhy
      refine ob mg1 ?_
      rw [g1, if_neg (c_nle (by omega) (by omega))]
      refine ob mg51 (ob (ma27 i (by omega)) ?_)
      show _ = some (mk B ao (z_goO (if (¬ M3.2.1 27 i = 0 ∧ ¬ whyV M3 (32 * s + i) a b = 0) then some i else trF M3 s a b (i + 1) d') u s d a b bk L Bk G (many, all, M3)))
      rw [jn_eq]
      by_cases c27 : M3.2.1 27 i = 0
      · rw [if_pos c27, if_neg (fun z => z.1 c27)]
        refine Eq.trans (if_pos rfl) ?_
        rw [nI_1]
        exact hg' (i + 1) (by omega) (fun j hj hj2 => by
          by_cases e : j = i
          · exact absurd (e ▸ c27) hj2
          · exact hwhy j (by omega) hj2)
      · rw [if_neg c27]
        refine ob (e_thread s i) (ob mrcv (ob (e_whyNot (32 * s + i) a b (by omega) ha hb g54 g55) ?_))
        by_cases cw : whyV M3 (32 * s + i) a b = 0
        · rw [if_neg (fun z => z.2 cw)]
          refine Eq.trans (if_pos cw) ?_
          rw [nI_1]
          exact hg' (i + 1) (by omega) (fun j hj hj2 => by
            by_cases e : j = i
            · exact e ▸ cw
            · exact hwhy j (by omega) hj2)
        · rw [if_pos ⟨c27, cw⟩]
          refine Eq.trans (if_neg cw) ?_
          exact ob mrcv (ob (e_trap s i _ hs (by omega)) rfl)
    · intro g' hg'
      exact hg' 0 (by omega) (fun j hj => absurd hj (by omega))
  · intro d' g hg i c hi hfr
    refine Eq.trans ?_ (hg (i + 1) (doeS s i c) (by omega) (hfr.tr (doeS_frm s i c)))
    rw [l32, if_neg (c_nle (by omega) (by omega))]
    refine ob mg51 (ob mg50 (ob (ma26 i (by omega)) ?_))
    refine jn_v (doeV c.2.2 s i) (fun j => ?_) (ob (ms27 i (by omega)) (ob mg51 (ob (ma27 i (by omega)) ?_)))
    · simp only [jn, doeV, mg56, mrcv, e_thread, e_has (32 * s + i) _ (show 32 * s + i < 4096 by omega), Option.bind_some]
      by_cases q1 : c.2.2.2.1 26 i = 0
      · rw [if_pos q1, if_pos q1]
      · rw [if_neg q1, if_neg q1]
        by_cases q2 : c.2.2.1 56 < 8
        · rw [if_pos q2, if_pos q2]
        · rw [if_neg q2, if_neg q2]
          by_cases q3 : c.2.2.1 56 &&& 4 = 0
          · rw [if_pos q3, if_pos q3]
            exact ap_ite _ _ _ _
          · rw [if_neg q3, if_neg q3]
            exact ap_ite _ _ _ _
    · rw [doeV_nb]
      refine jn_v (if doeV c.2.2 s i = 0 then 0 else 1) (fun j => ?_) (ob mg50 (ob (ma26 i (by omega)) ?_))
      · have e : (mA c.2.2 27 i (doeV c.2.2 s i)).2.1 27 i = doeV c.2.2 s i := pk_us
        rw [e]
        exact ap_ite _ _ _ _
      · refine jn_v (if c.2.2.2.1 26 i = 0 then 0 else 1) (fun j => ap_ite _ _ _ _) ?_
        rw [nI_1]
        rfl
  · intro g hg
    exact hg 0 (0, 0, M2) (by omega) frm.rf
end M15
