/-! M11: blocks begin, wait, leave; what is on its way -/
def stI (M : MS) (s : Nat) (i : Nat) (c : Int32 × Int32) : Int32 × Int32 := (if c.1 = 0 then 0 else if (M.2.1 16 (32 * s + i) = 0 ∧ M.2.1 17 (32 * s + i) = 0 ∧ lnI M s i) then 0 else 1, if c.2 = 0 then 0 else if (M.2.1 16 (32 * s + i) = 0 ∧ lnI M s i) then 0 else 1)
def stO (M : MS) (L : Nat) (p : Int32) (s : Nat) (c : Int32 × Int32) : Int32 × Int32 := if M.2.1 9 s = p then iter (stI M s) 0 L c else c
def relS (s : Nat) (i : Nat) (M : MS) : MS := mA M 17 (32 * s + i) 0
def stR (L : Nat) (p : Int32) (c : Int32 × Int32) (s : Nat) (M : MS) : MS := if (¬ c.1 = 0 ∧ M.2.1 9 s = p) then iter (relS s) 0 L M else M
def stF (p : Int32) (c : Int32 × Int32) (s : Nat) (M : MS) : MS := if (¬ c.2 = 0 ∧ M.2.1 9 s = p) then mA M 9 s (-1) else M
def stW (L : Nat) (p : Int32) (c : Int32 × Int32) (s : Nat) (M : MS) : MS := stF p c s (stR L p c s M)
def endS (c : Int32 × Int32) (M : MS) : MS := mI M 21 (M.1 21 + (if c.2 = 0 then 0 else 1))
def z_settle (M : MS) (L : Nat) (p : Int32) : MS := endS (iter (stO M L p) 0 128 (1, 1)) (iter (stW L p (iter (stO M L p) 0 128 (1, 1))) 0 128 M)
theorem stW_frm (L : Nat) (p : Int32) (c : Int32 × Int32) (s : Nat) (M : MS) : frm [] [9, 17] M (stW L p c s M) := by
  have h1 : frm [] [9, 17] M (stR L p c s M) := by
    unfold stR
    split
    · exact frm.iter (fun i M => frm.rf.mA (by decide)) _ _ _
    · exact frm.rf
  refine h1.tr ?_
  unfold stW stF
  split
  · exact frm.rf.mA (by decide)
  · exact frm.rf
def frS (M : MS) (k : Nat) (c : Int32) : Int32 := c + (if M.2.1 9 k = -1 then 1 else 0)
def bwR (t r : Nat) (M : MS) : MS := mA M 13 (16 * t + r) 0
def bwS (t : Nat) (M : MS) : MS := iter (bwR t) 0 16 (mA (mA (mA (mA M 15 t 0) 14 t 0) 16 t 0) 17 t 0)
def z_bw (M : MS) (s : Nat) : MS := iter bwS (32 * s) 32 M
def tk0 (k r : Nat) (M : MS) : MS := mA M 12 (20 * k + r) 0
def bgS (bk W : Nat) (k : Nat) (c : Nat × MS) : Nat × MS := if W ≤ c.1 then c else if c.2.2.1 9 k = -1 then (c.1 + 1, z_bw (iter (tk0 k) 0 20 (mA (mA (mA c.2 9 k (nI bk)) 10 k (nI c.1)) 11 k 0)) k) else c
def sh0 (bk i : Nat) (M : MS) : MS := mA M 18 (64 * bk + i) 0
def z_begin (M : MS) (u bk W S : Nat) : MS := iter (sh0 bk) 0 64 (iter (bgS bk W) (16 * u) S (0, M)).2
theorem bw_frm (M : MS) (s : Nat) : frm [] [13, 14, 15, 16, 17] M (z_bw M s) := frm.iter (fun t M => ((((frm.rf.mA (by decide)).mA (by decide)).mA (by decide)).mA (by decide)).tr (frm.iter (fun r M => frm.rf.mA (by decide)) _ _ _)) _ _ _
theorem bgS_frm (bk W k : Nat) (c : Nat × MS) : frm [] [9, 10, 11, 12, 13, 14, 15, 16, 17] c.2 (bgS bk W k c).2 := by
  unfold bgS
  split
  · exact frm.rf
  · split
    · show frm _ _ c.2 (z_bw (iter (tk0 k) 0 20 (mA (mA (mA c.2 9 k (nI bk)) 10 k (nI c.1)) 11 k 0)) k)
      refine frm.tr (M' := iter (tk0 k) 0 20 (mA (mA (mA c.2 9 k (nI bk)) 10 k (nI c.1)) 11 k 0)) (frm.tr (M' := mA (mA (mA c.2 9 k (nI bk)) 10 k (nI c.1)) 11 k 0) (((frm.rf.mA (by decide)).mA (by decide)).mA (by decide)) (frm.iter (fun r M => frm.rf.mA (by decide)) _ _ _)) ?_
      have h := bw_frm (iter (tk0 k) 0 20 (mA (mA (mA c.2 9 k (nI bk)) 10 k (nI c.1)) 11 k 0)) k
      exact h.up (fun k h => h) (fun k h => by simp only [List.mem_cons, List.not_mem_nil, or_false] at h ⊢; omega)
    · exact frm.rf
theorem bgS_id (bk W : Nat) : ∀ (d k : Nat) (c : Nat × MS), W ≤ c.1 → iter (bgS bk W) k d c = c
  | 0, _, _, _ => rfl
  | d + 1, k, c, h => by
    have e : bgS bk W k c = c := if_pos h
    rw [iter_s, e]
    exact bgS_id bk W d (k + 1) c h
def nN (x : Int32) : Nat := x.toNatClampNeg
def okA (M : MS) (k : Nat) : Prop := ∃ n21 n20 q, M.2.1 21 k = nI n21 ∧ n21 < 2 ^ 31 ∧ M.2.1 20 k = nI n20 ∧ n20 < 2 ^ 31 ∧ M.2.1 22 k = nI q ∧ q < 4096
def oneA (M : MS) (q o bk s i d : Nat) (y was : Int32) : MS := if (¬ nI o = 51 ∧ M.2.1 9 s = nI bk) then mA (mA M 2 q (lftV (nI o) (M.2.1 2 q) y was)) 13 (16 * (32 * s + i) + d) (M.2.1 2 q) else mA M 2 q (lftV (nI o) (M.2.1 2 q) y was)
def z_one (M : MS) (k : Nat) : MS := oneA M (nN (M.2.1 22 k)) (nN (M.2.1 21 k) / 16) (nN (M.2.1 20 k) / 32 / 128) (nN (M.2.1 20 k) / 32 % 128) (nN (M.2.1 20 k) % 32) (nN (M.2.1 21 k) % 16) (M.2.1 23 k) (M.2.1 24 k)
def cpK (M : MS) (t k : Nat) : MS := mA (mA (mA (mA (mA (mA M 19 t (M.2.1 19 k)) 20 t (M.2.1 20 k)) 21 t (M.2.1 21 k)) 22 t (M.2.1 22 k)) 23 t (M.2.1 23 k)) 24 t (M.2.1 24 k)
def pdS (k : Nat) (c : Nat × MS) : Nat × MS := if c.2.1 15 < c.2.2.1 19 k then (c.1 + 1, cpK (mI c.2 42 (if c.2.1 42 ≤ c.2.2.1 19 k then c.2.1 42 else c.2.2.1 19 k)) c.1 k) else (c.1, z_one c.2 k)
def pdE (c : Nat × MS) : MS := mI c.2 41 (nI c.1)
def z_pend (M : MS) (P : Nat) : MS := if M.1 42 ≤ M.1 15 then pdE (iter pdS 0 P (0, mI M 42 2147483647)) else M
section M11
variable {B : AH} {ao : Nat} {M : MS} {n : Nat}
set_option maxHeartbeats 4000000 in
theorem e_settle (L : Nat) (p : Int32) (hL : L ≤ 32) (h1 : M.1 1 = nI L) (hn : 128 < n) : fX11_settle n ao p (mk B ao M) = some (mk B ao (z_settle M L p)) := by
  unfold fX11_settle z_settle
  refine jl_fix (fun d g => ∀ (s : Nat) (c : Int32 × Int32), s + d = 128 → g c.1 c.2 (nI s) = some (mk B ao (endS (iter (stO M L p) s d c) (iter (stW L p (iter (stO M L p) s d c)) 0 128 M)))) 128 (by omega) ?_ ?_ ?_
  · intro g s c hs
    obtain rfl : s = 128 := by omega
    rw [l128, if_pos (c_le (Nat.le_refl _) (by omega)), iter_0]
    refine jl_fix (fun d g => ∀ (s : Nat) (M1 : MS), s + d = 128 → frm [] [9, 17] M M1 → g (nI s) (mk B ao M1) = some (mk B ao (endS c (iter (stW L p c) s d M1)))) 128 (by omega) ?_ ?_ ?_
    · intro g s M1 hs hf
      obtain rfl : s = 128 := by omega
      rw [if_pos (c_le (Nat.le_refl _) (by omega)), iter_0]
      exact ob mg21 (jn_v _ (fun j => ap_ite _ _ _ _) (ob mp21 rfl))
    · intro d g hg s M1 hs hf
      refine Eq.trans ?_ (hg (s + 1) (stW L p c s M1) (by omega) (hf.tr (stW_frm _ _ _ _ _)))
      rw [if_neg (c_nle (by omega) (by omega))]
      have hend : ∀ M2 : MS, (jn (fun (A23 : AH) => g (nI s + 1) A23) fun j22 => if c.2 = 0 then (j22 (mk B ao M2)) else (gR (mk B ao M2) (some ao) 11 31).bind fun v25 => (aI (mk B ao M2) v25 (nI s)).bind fun v26 => if v26 = p then ((sI (mk B ao M2) v25 (nI s) (-1 : Int32)).bind fun A28 => j22 A28) else j22 (mk B ao M2)) = g (nI (s + 1)) (mk B ao (stF p c s M2)) := by
        intro M2
        rw [jn_eq, nI_1]
        unfold stF
        by_cases c0 : c.2 = 0
        · rw [if_pos c0, if_neg (fun z => z.1 c0)]
        · rw [if_neg c0]
          refine ob mg31 (ob (ma9 s (by omega)) ?_)
          by_cases c9 : M2.2.1 9 s = p
          · rw [if_pos c9, if_pos ⟨c0, c9⟩]
            exact ob (ms9 s (by omega)) rfl
          · rw [if_neg c9, if_neg (fun z => c9 z.2)]
      have hL1 : ∀ M2 : MS, frm [] [9, 17] M M2 → M2.1 1 = nI L := fun M2 h2 => (h2.f 1).trans h1
      by_cases ca : ¬ c.1 = 0 ∧ M1.2.1 9 s = p
      · refine jl_fix (fun d' g' => ∀ (i : Nat) (M2 : MS), i + d' = L → frm [] [17] M1 M2 → g' (nI i) (mk B ao M2) = g (nI (s + 1)) (mk B ao (stF p c s (iter (relS s) i d' M2)))) L (by omega) ?_ ?_ ?_
        · intro g' i M2 hi hf2
          obtain rfl : i = L := by omega
          rw [jn_eq, if_neg ca.1]
          refine ob mg31 (ob (ma9 s (by omega)) (ob mg1 ?_))
          rw [hf2.f 1, hf.f 1, h1, if_neg (fun z => z.2 (c_le (Nat.le_refl _) (by omega)))]
          exact hend M2
        · intro d' g' hg' i M2 hi hf2
          refine Eq.trans ?_ (hg' (i + 1) (relS s i M2) (by omega) (hf2.mA (by decide)))
          rw [jn_eq, if_neg ca.1]
          refine ob mg31 (ob (ma9 s (by omega)) (ob mg1 ?_))
          rw [hf2.f 1, hf.f 1, h1, hf2.a 9, if_pos ⟨ca.2, c_nle (by omega) (by omega)⟩, nI_1]
          exact ob mg39 (ob (e_thread s i) (ob (ms17 _ (by omega)) rfl))
        · intro g' hg'
          refine (hg' 0 M1 (by omega) frm.rf).trans ?_
          unfold stW stR
          rw [if_pos ca]
      · refine jl_fix (fun d' g' => g' (nI 0) (mk B ao M1) = g (nI (s + 1)) (mk B ao (stF p c s M1))) 0 (by omega) ?_ ?_ ?_
        · intro g'
          rw [jn_eq]
          by_cases c0 : c.1 = 0
          · rw [if_pos c0]
            exact hend M1
          · rw [if_neg c0]
            refine ob mg31 (ob (ma9 s (by omega)) (ob mg1 ?_))
            rw [if_neg (fun z => ca ⟨c0, z.1⟩)]
            exact hend M1
        · intro d' g' _
          rw [jn_eq]
          by_cases c0 : c.1 = 0
          · rw [if_pos c0]
            exact hend M1
          · rw [if_neg c0]
            refine ob mg31 (ob (ma9 s (by omega)) (ob mg1 ?_))
            rw [if_neg (fun z => ca ⟨c0, z.1⟩)]
            exact hend M1
        · intro g' hg'
          refine Eq.trans hg' ?_
          unfold stW stR
          rw [if_neg ca]
    · intro g hg
      exact hg 0 M (by omega) frm.rf
  · intro d g hg s c hs
    refine Eq.trans ?_ (hg (s + 1) (stO M L p s c) (by omega))
    rw [l128, if_neg (c_nle (by omega) (by omega))]
    by_cases c9 : M.2.1 9 s = p
    · refine jl_fix (fun d' g' => ∀ (i : Nat) (e : Int32 × Int32), i + d' = L → g' e.1 e.2 (nI i) = g (iter (stI M s) i d' e).1 (iter (stI M s) i d' e).2 (nI (s + 1))) L (by omega) ?_ ?_ ?_
      · intro g' i e hi
        obtain rfl : i = L := by omega
        refine ob mg31 (ob (ma9 s (by omega)) (ob mg1 ?_))
        rw [h1, if_neg (fun z => z.2 (c_le (Nat.le_refl _) (by omega))), nI_1]
        rfl
      · intro d' g' hg' i e hi
        refine Eq.trans ?_ (hg' (i + 1) (stI M s i e) (by omega))
        refine ob mg31 (ob (ma9 s (by omega)) (ob mg1 ?_))
        rw [h1, if_pos ⟨c9, c_nle (by omega) (by omega)⟩, nI_1]
        refine ob (e_thread s i) ?_
        refine jn_v (stI M s i e).1 (fun j => ?_) (jn_v (stI M s i e).2 (fun j => ?_) rfl)
        · simp only [jn, stI, mg38, mg39, ma16 (32 * s + i) (show 32 * s + i < 4096 by omega), ma17 (32 * s + i) (show 32 * s + i < 4096 by omega), mrcv, e_isLane s i (show s < 128 by omega), Option.bind_some, b2i_0]
          repeat' split
          all_goals first | rfl | (exfalso; grind)
        · simp only [jn, stI, mg38, ma16 (32 * s + i) (show 32 * s + i < 4096 by omega), mrcv, e_isLane s i (show s < 128 by omega), Option.bind_some, b2i_0]
          repeat' split
          all_goals first | rfl | (exfalso; grind)
      · intro g' hg'
        refine (hg' 0 c (by omega)).trans ?_
        unfold stO
        rw [if_pos c9]
    · have hx : ∀ X : Option AH, stO M L p s c = c := fun _ => if_neg c9
      rw [hx none]
      refine jl_fix (fun d' g' => g' c.1 c.2 (nI 0) = g c.1 c.2 (nI (s + 1))) 0 (by omega) ?_ ?_ ?_
      · intro g'
        refine ob mg31 (ob (ma9 s (by omega)) (ob mg1 ?_))
        rw [if_neg (fun z => c9 z.1), nI_1]
      · intro d' g' _
        refine ob mg31 (ob (ma9 s (by omega)) (ob mg1 ?_))
        rw [if_neg (fun z => c9 z.1), nI_1]
      · intro g' hg'
        exact hg'
  · intro g hg
    exact hg 0 (1, 1) (by omega)
theorem e_freeSlots (u S : Nat) (hu : u < 8) (hS : S ≤ 16) (h2 : M.1 2 = nI S) (hn : 16 < n) : fX11_freeSlots n ao (nI u) (mk B ao M) = some (iter (frS M) (16 * u) S 0) := by
  unfold fX11_freeSlots
  have e : (16 : Int32) * nI u = nI (16 * u) := by rw [l16, pk_mul]
  refine jl_fix (fun d g => ∀ (k : Nat) (c : Int32), k + d = 16 * u + S → g c (nI k) = some (iter (frS M) k d c)) S (by omega) ?_ ?_ ?_
  · intro g k c hk
    obtain rfl : k = 16 * u + S := by omega
    refine ob mg2 ?_
    rw [h2, e, nI_add, if_pos (c_le (Nat.le_refl _) (by omega))]
    rfl
  · intro d g hg k c hk
    refine Eq.trans ?_ (hg (k + 1) (frS M k c) (by omega))
    refine ob mg2 ?_
    rw [h2, e, nI_add, if_neg (c_nle (by omega) (by omega)), nI_1]
    exact ob mg31 (ob (ma9 k (by omega)) (jn_v _ (fun j => ap_ite _ _ _ _) rfl))
  · intro g hg
    rw [e]
    exact hg (16 * u) 0 (by omega)
theorem e_beginWarp (s : Nat) (hs : s < 128) (hn : 32 < n) : fX11_beginWarp n ao (nI s) (mk B ao M) = some (mk B ao (z_bw M s)) := by
  unfold fX11_beginWarp z_bw
  have e : (32 : Int32) * nI s = nI (32 * s) := by rw [l32, pk_mul]
  refine jl_fix (fun d g => ∀ (t : Nat) (M : MS), t + d = 32 * s + 32 → g (nI t) (mk B ao M) = some (mk B ao (iter bwS t d M))) 32 (by omega) ?_ ?_ ?_
  · intro g t M ht
    obtain rfl : t = 32 * s + 32 := by omega
    rw [e, l32, nI_add, if_pos (c_le (Nat.le_refl _) (by omega))]
    rfl
  · intro d g hg t M ht
    refine Eq.trans ?_ (hg (t + 1) (bwS t M) (by omega))
    rw [e, l32, nI_add, if_neg (c_nle (by omega) (by omega)), nI_1]
    refine ob mg37 (ob (ms15 t (by omega)) (ob mg36 (ob (ms14 t (by omega)) (ob mg38 (ob (ms16 t (by omega)) (ob mg39 (ob (ms17 t (by omega)) ?_)))))))
    refine jl_fix (fun d' g' => ∀ (r : Nat) (M : MS), r + d' = 16 → g' (nI r) (mk B ao M) = g (nI (t + 1)) (mk B ao (iter (bwR t) r d' M))) 16 (by omega) ?_ ?_ ?_
    · intro g' r M hr
      obtain rfl : r = 16 := by omega
      rw [l16, if_pos (c_le (Nat.le_refl _) (by omega))]
      rfl
    · intro d' g' hg' r M hr
      refine Eq.trans ?_ (hg' (r + 1) (bwR t r M) (by omega))
      have e2 : (16 : Int32) * nI t + nI r = nI (16 * t + r) := by rw [l16, pk_mul, nI_add]
      rw [e2, l16, if_neg (c_nle (by omega) (by omega)), nI_1]
      exact ob mg35 (ob (ms13 _ (by omega)) rfl)
    · intro g' hg'
      exact hg' 0 _ (by omega)
  · intro g hg
    rw [e]
    exact hg (32 * s) M (by omega)
theorem e_begin (u bk W S : Nat) (hu : u < 8) (hS : S ≤ 16) (hbk : bk < 64) (hW : W ≤ 16) (h2 : M.1 2 = nI S) (h1 : ¬ M.1 1 = 0) (hw : (M.1 13 + M.1 1 - 1) / M.1 1 = nI W) (hn : 64 < n) : fX11_begin n ao (nI u) (nI bk) (mk B ao M) = some (mk B ao (z_begin M u bk W S)) := by
  unfold fX11_begin z_begin
  have e : (16 : Int32) * nI u = nI (16 * u) := by rw [l16, pk_mul]
  have hend : ∀ M2 : MS, (jl (fixG (fun _ _ => none) (fun (rc11 : (Int32) → (AH) → Option (AH)) (x9 : Int32) (A10 : AH) => if (64 : Int32) ≤ x9 then (some A10) else (gR A10 (some ao) 11 40).bind fun v13 => (sI A10 v13 (((64 : Int32) * nI bk) + x9) (0 : Int32)).bind fun A14 => rc11 (x9 + (1 : Int32)) A14) n) fun j8 => j8 (0 : Int32) (mk B ao M2)) = some (mk B ao (iter (sh0 bk) 0 64 M2)) := by
    intro M2
    refine jl_fix (fun d g => ∀ (i : Nat) (M : MS), i + d = 64 → g (nI i) (mk B ao M) = some (mk B ao (iter (sh0 bk) i d M))) 64 (by omega) ?_ ?_ ?_
    · intro g i M hi
      obtain rfl : i = 64 := by omega
      rw [l64, if_pos (c_le (Nat.le_refl _) (by omega))]
      rfl
    · intro d g hg i M hi
      refine Eq.trans ?_ (hg (i + 1) (sh0 bk i M) (by omega))
      have e2 : (64 : Int32) * nI bk + nI i = nI (64 * bk + i) := by rw [l64, pk_mul, nI_add]
      rw [e2, l64, if_neg (c_nle (by omega) (by omega)), nI_1]
      exact ob mg40 (ob (ms18 _ (by omega)) rfl)
    · intro g hg
      exact hg 0 M2 (by omega)
  refine jl_fix (fun d g => ∀ (k : Nat) (c : Nat × MS), k + d = 16 * u + S → c.1 ≤ 16 → frm [] [9, 10, 11, 12, 13, 14, 15, 16, 17] M c.2 → g (nI c.1) (nI k) (mk B ao c.2) = some (mk B ao (iter (sh0 bk) 0 64 (iter (bgS bk W) k d c).2))) S (by omega) ?_ ?_ ?_
  · intro g k c hk hc hf
    obtain rfl : k = 16 * u + S := by omega
    refine ob mg2 ?_
    rw [hf.f 2, h2, e, nI_add, jn_eq, if_pos (c_le (Nat.le_refl _) (by omega))]
    exact hend c.2
  · intro d g hg k c hk hc hf
    refine ob mg2 ?_
    rw [hf.f 2, h2, e, nI_add, jn_eq, if_neg (c_nle (by omega) (by omega))]
    refine ob mrcv (ob ((e_warps (by rw [hf.f 1]; exact h1)).trans (by rw [hf.f 1, hf.f 13, hw])) ?_)
    by_cases cw : W ≤ c.1
    · rw [if_pos (c_le cw (by omega)), bgS_id bk W _ _ _ cw]
      exact hend c.2
    · have hc2 : (bgS bk W k c).1 ≤ 16 := by
        unfold bgS
        rw [if_neg cw]
        split
        · show c.1 + 1 ≤ 16
          omega
        · exact hc
      refine Eq.trans ?_ (hg (k + 1) (bgS bk W k c) (by omega) hc2 (hf.tr (bgS_frm bk W k c)))
      rw [if_neg (c_nle (by omega) (by omega)), nI_1]
      refine ob mg31 (ob (ma9 k (by omega)) ?_)
      unfold bgS
      rw [jn_eq, if_neg cw]
      by_cases c9 : c.2.2.1 9 k = -1
      · rw [if_pos c9, if_pos c9]
        refine ob (ms9 k (by omega)) (ob mg32 (ob (ms10 k (by omega)) (ob mg33 (ob (ms11 k (by omega)) ?_))))
        refine jl_fix (fun d' g' => ∀ (r : Nat) (M : MS), r + d' = 20 → g' (nI r) (mk B ao M) = g (nI (c.1 + 1)) (nI (k + 1)) (mk B ao (z_bw (iter (tk0 k) r d' M) k))) 20 (by omega) ?_ ?_ ?_
        · intro g' r M hr
          obtain rfl : r = 20 := by omega
          rw [l20, if_pos (c_le (Nat.le_refl _) (by omega)), nI_1]
          exact ob mrcv (ob (e_beginWarp k (by omega) (by omega)) rfl)
        · intro d' g' hg' r M hr
          refine Eq.trans ?_ (hg' (r + 1) (tk0 k r M) (by omega))
          have e2 : (20 : Int32) * nI k + nI r = nI (20 * k + r) := by rw [l20, pk_mul, nI_add]
          rw [e2, l20, if_neg (c_nle (by omega) (by omega)), nI_1]
          exact ob mg34 (ob (ms12 _ (by omega)) rfl)
        · intro g' hg'
          exact hg' 0 _ (by omega)
      · rw [if_neg c9, if_neg c9]
  · intro g hg
    rw [e]
    exact hg (16 * u) (0, M) (by omega) (by omega) frm.rf
end M11
