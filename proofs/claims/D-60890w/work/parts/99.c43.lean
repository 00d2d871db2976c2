/-! C43: the barrier -/
section C43
variable {nC nS n : Nat} {A : AH} {V V' : CW} {E E' : EL} {ad : AA} {M M' : MS} {P : PP}
theorem CX.val (hc : CX V ad M) (h : ∀ d k i a, cdC d → i < wdA d → ad (d / 100) k = some a → Val M' d k i = Val M d k i) : CX V ad M' := fun d k i a hd hi ha => (hc d k i a hd hi ha).trans (h d k i a hd hi ha).symm
/-- only who waits has changed, and there alike -/
theorem CX.w17 (hc : CX V ad M) (hf : frm [] [17] M M') (h : ∀ t l, ad 14 t = some l → M'.2.1 17 t = M.2.1 17 t) : CX V ad M' := by
  refine hc.val (fun d k i a hd hi ha => ?_)
  rcases hd with hd | hd | hd | hd
  · rw [Val_ar hd, Val_ar hd]
    by_cases e : nmA d = 17
    · have : d = 1404 := by
        simp only [cdA, List.mem_cons, List.not_mem_nil, or_false] at hd
        rcases hd with q | q | q | q | q | q | q | q | q | q | q | q | q | q | q | q <;> (subst q; first | rfl | (exfalso; revert e; decide))
      subst this
      exact h k a ha
    · rw [hf.2.1 _ (by simp only [List.mem_cons, List.not_mem_nil, or_false]; exact e)]
  · rw [Val_fd hd, Val_fd hd, hf.1 _ List.not_mem_nil]
  · subst hd
    rw [Val_p, Val_p, hf.a 14]
  · subst hd
    rw [Val_n, Val_n]
theorem e13_ended (h : St nC nS A V) (cp : CP V E ad M P) {s w : Nat} (hw : ad 13 s = some w) (hn : 33 < n) : fX13_ended n w A = some (nI (cnB (fun j => decide (¬ M.2.1 16 (32 * s + j) = 0)) (lt V E 13 2 w).length)) := by
  obtain ⟨hwk, ⟨ll, cap, hxl, hli⟩, hlen, hln, hlane, hlenP⟩ := cp.wl hw
  generalize hls : lt V E 13 2 w = ls at *
  unfold fX13_ended
  refine jl_fix (fun d (g : Int32 → Int32 → Option Int32) => ∀ k, k + d = ls.length → g (nI (cnB (fun j => decide (¬ M.2.1 16 (32 * s + j) = 0)) k)) (nI k) = some (nI (cnB (fun j => decide (¬ M.2.1 16 (32 * s + j) = 0)) ls.length))) ls.length (show ls.length < n by omega) ?_ ?_ ?_
  · intro g k hk
    have ek : k = ls.length := by omega
    subst ek
    refine ob ((h.gr 2 (c := 13) hwk (by decide) rfl).trans (congrArg some hxl)) (ob (h.rc hli.1) (ob (L_size h hli) ?_))
    rw [if_pos (Int32.le_refl _)]
  · intro d g hg k hk
    refine ob ((h.gr 2 (c := 13) hwk (by decide) rfl).trans (congrArg some hxl)) (ob (h.rc hli.1) (ob (L_size h hli) ?_))
    rw [if_neg (c_nle (by omega) (by omega))]
    obtain ⟨l, hl1, hl2, hl3⟩ := hlane k (by omega)
    refine ob (L_get h hli hl1) (ob (h.cs hl3) (ob (cp.lf h hl2 3 (by omega)).1 ?_))
    rw [jn_eq, nI_1]
    by_cases c : M.2.1 (13 + 3) (32 * s + k) = 0
    · rw [if_pos c]
      show g (nI (cnB _ k) + 0) (nI (k + 1)) = _
      rw [Int32.add_zero, cn_f (f := fun j => decide (¬ M.2.1 16 (32 * s + j) = 0)) (decide_eq_false (not_not_intro c))]
      exact hg (k + 1) (by omega)
    · rw [if_neg c]
      show g (nI (cnB _ k) + 1) (nI (k + 1)) = _
      rw [cn_t (f := fun j => decide (¬ M.2.1 16 (32 * s + j) = 0)) (decide_eq_true c)]
      exact hg (k + 1) (by omega)
  · intro g hg
    exact hg 0 (by omega)
theorem e13_waiting (h : St nC nS A V) (cp : CP V E ad M P) {s w : Nat} (hw : ad 13 s = some w) (hn : 33 < n) : fX13_waiting n w A = some (nI (cnB (fun j => decide (¬ M.2.1 17 (32 * s + j) = 0)) (lt V E 13 2 w).length)) := by
  obtain ⟨hwk, ⟨ll, cap, hxl, hli⟩, hlen, hln, hlane, hlenP⟩ := cp.wl hw
  generalize hls : lt V E 13 2 w = ls at *
  unfold fX13_waiting
  refine jl_fix (fun d (g : Int32 → Int32 → Option Int32) => ∀ k, k + d = ls.length → g (nI (cnB (fun j => decide (¬ M.2.1 17 (32 * s + j) = 0)) k)) (nI k) = some (nI (cnB (fun j => decide (¬ M.2.1 17 (32 * s + j) = 0)) ls.length))) ls.length (show ls.length < n by omega) ?_ ?_ ?_
  · intro g k hk
    have ek : k = ls.length := by omega
    subst ek
    refine ob ((h.gr 2 (c := 13) hwk (by decide) rfl).trans (congrArg some hxl)) (ob (h.rc hli.1) (ob (L_size h hli) ?_))
    rw [if_pos (Int32.le_refl _)]
  · intro d g hg k hk
    refine ob ((h.gr 2 (c := 13) hwk (by decide) rfl).trans (congrArg some hxl)) (ob (h.rc hli.1) (ob (L_size h hli) ?_))
    rw [if_neg (c_nle (by omega) (by omega))]
    obtain ⟨l, hl1, hl2, hl3⟩ := hlane k (by omega)
    refine ob (L_get h hli hl1) (ob (h.cs hl3) (ob (cp.lf h hl2 4 (by omega)).1 ?_))
    rw [jn_eq, nI_1]
    by_cases c : M.2.1 (13 + 4) (32 * s + k) = 0
    · rw [if_pos c]
      show g (nI (cnB _ k) + 0) (nI (k + 1)) = _
      rw [Int32.add_zero, cn_f (f := fun j => decide (¬ M.2.1 17 (32 * s + j) = 0)) (decide_eq_false (not_not_intro c))]
      exact hg (k + 1) (by omega)
    · rw [if_neg c]
      show g (nI (cnB _ k) + 1) (nI (k + 1)) = _
      rw [cn_t (f := fun j => decide (¬ M.2.1 17 (32 * s + j) = 0)) (decide_eq_true c)]
      exact hg (k + 1) (by omega)
  · intro g hg
    exact hg 0 (by omega)
theorem e13_release (h : St nC nS A V) (cp : CP V E ad M P) {s w : Nat} (hw : ad 13 s = some w) (hn : 33 < n) : Res (fX13_release n w A) (Nx nC nS V ad (iter (relS s) 0 (lt V E 13 2 w).length M)) := by
  obtain ⟨hwk, ⟨ll, cap, hxl, hli⟩, hlen, hln, hlane, hlenP⟩ := cp.wl hw
  generalize hls : lt V E 13 2 w = ls at *
  unfold fX13_release
  refine jl_R (fun d (g : Int32 → AH → Option AH) => ∀ k A3 V3, k + d = ls.length → St nC nS A3 V3 → IV V V3 → CX V3 ad (iter (relS s) 0 k M) → Res (g (nI k) A3) (Nx nC nS V ad (iter (relS s) 0 ls.length M))) ls.length (show ls.length < n by omega) ?_ ?_ ?_
  · intro g k A3 V3 hk s3 i3 c3
    have ek : k = ls.length := by omega
    subst ek
    obtain ⟨w1, w2, w3, w4⟩ := wlx s3 i3.b hwk hxl hli
    refine Res.b w1 (Res.b w2 (Res.b w3 ?_))
    rw [if_pos (Int32.le_refl _)]
    exact Res.r ⟨V3, s3, i3, c3⟩
  · intro d g hg k A3 V3 hk s3 i3 c3
    obtain ⟨w1, w2, w3, w4⟩ := wlx s3 i3.b hwk hxl hli
    refine Res.b w1 (Res.b w2 (Res.b w3 ?_))
    rw [if_neg (c_nle (by omega) (by omega)), nI_1]
    obtain ⟨l, hl1, hl2, hl3⟩ := hlane k (by omega)
    have cp3 := cp.nx i3 c3 (fm_frm (relI M s k).1 (by decide) (by decide) (by decide) (by decide) (by decide))
    obtain ⟨A4, e4, V4, s4, i4, c4⟩ := (cp3.lf s3 hl2 4 (by omega)).2 0
    refine Res.b (w4 k l hl1) (Res.b (s3.cs (cp3.2.2.2.kk hl2)) (Res.b e4 (hg (k + 1) A4 V4 (by omega) s4 (i3.tr i4) ?_)))
    rw [iter_last, Nat.zero_add]
    exact c4
  · intro g hg
    exact hg 0 A V (by omega) h IV.rf cp.1
theorem cnB_or {f g : Nat → Bool} : ∀ n, (∀ i, i < n → ¬ (f i = true ∧ g i = true)) → cnB f n + cnB g n = cnB (fun i => f i || g i) n
  | 0, _ => rfl
  | n + 1, h => by
    have ih := cnB_or n (fun i hi => h i (by omega))
    have hn := h n (by omega)
    rw [cnB_s, cnB_s, cnB_s, ← ih]
    cases hf : f n with
    | true =>
      cases hg : g n with
      | true => exact absurd ⟨hf, hg⟩ hn
      | false => simp only [Bool.or_false, if_true, Bool.false_eq_true, if_false]; omega
    | false => simp only [Bool.false_or, Bool.false_eq_true, if_false]; omega
theorem cnB_all {f : Nat → Bool} : ∀ n, n ≤ cnB f n ↔ ∀ i, i < n → f i = true
  | 0 => ⟨fun _ i hi => absurd hi (Nat.not_lt_zero _), fun _ => Nat.zero_le _⟩
  | n + 1 => by
    have ih := cnB_all (f := f) n
    have hle := cnB_le f n
    rw [cnB_s]
    constructor
    · intro h i hi
      cases hf : f n with
      | true =>
        by_cases e : i = n
        · rw [e]; exact hf
        · rw [hf, if_pos rfl] at h
          exact ih.mp (by omega) i (by omega)
      | false =>
        rw [hf, if_neg (by decide)] at h
        omega
    · intro h
      have h1 := ih.mpr (fun i hi => h i (by omega))
      rw [h n (by omega), if_pos rfl]
      omega
/-- the warps of a block, and their slots -/
theorem CP.bw (cp : CP V E ad M P) {bk b : Nat} (hb : ad 12 bk = some b) : kdV V b = 13 ∧ bk < 64 ∧ (∃ bl cap, xr V 1202 b 0 = some bl ∧ LI V bl 13 (lt V E 12 2 b) cap) ∧ (lt V E 12 2 b).length = P 10 ∧ ∀ j w : Nat, (lt V E 12 2 b)[j]? = some w → ∃ s, s < 128 ∧ ad 13 s = some w ∧ M.2.1 9 s = nI bk ∧ M.2.1 10 s = nI j := by
  have hk := cp.2.2.2.kk hb
  obtain ⟨q1, q2, q3⟩ := cp.2.2.2.2.2.2.2.2.2.1 bk b hb
  exact ⟨hk, q1, cp.2.2.1.li cp.2.1 (c := 12) (k := 2) (e := 13) hk rfl, q2, q3⟩
/-- slots of a block are its warps' -/
theorem CP.sb (cp : CP V E ad M P) {bk b s : Nat} (hb : ad 12 bk = some b) (hbk : bk < 64) (hs : s < 128) (h9 : M.2.1 9 s = nI bk) : ∃ w j, ad 13 s = some w ∧ j < P 10 ∧ M.2.1 10 s = nI j ∧ (lt V E 12 2 b)[j]? = some w := by
  cases hw : ad 13 s with
  | none =>
    have := cp.2.2.2.2.2.2.2.1.2 s hs hw
    rw [h9] at this
    have h2 := nI_pos' (n := bk) (by omega)
    rw [this] at h2
    exact absurd h2 (by decide)
  | some w =>
    obtain ⟨_, _, bk', b', q1, q2, q3, q4, j, q5, q6, q7⟩ := cp.2.2.2.2.2.2.2.1.1 s w hw
    have e : bk' = bk := (nI_eq (by omega) (by omega)).mp (q2.symm.trans h9)
    subst e
    have e2 : b' = b := Option.some.inj (q3.symm.trans hb)
    subst e2
    exact ⟨w, j, rfl, q5, q6, q7⟩
end C43
