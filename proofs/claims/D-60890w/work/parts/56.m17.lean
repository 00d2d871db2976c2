/-! M17: units, the dispatcher, a cycle, a run -/
def SZ (L S U Bk G I : Nat) : Prop := (1 ≤ L ∧ L ≤ 32) ∧ (1 ≤ S ∧ S ≤ 16) ∧ (1 ≤ U ∧ U ≤ 8) ∧ (1 ≤ Bk ∧ Bk ≤ 32) ∧ (1 ≤ G ∧ G ≤ 8) ∧ I ≤ 4096
def MB (L S U Bk G I : Nat) (M : MS) : Prop := (M.1 1 = nI L ∧ M.1 2 = nI S ∧ M.1 3 = nI U ∧ M.1 4 = nI Bk ∧ M.1 5 = nI G ∧ M.1 6 = nI I) ∧ (∀ u, u < 8 → ∃ l, l < 16 ∧ M.2.1 7 u = nI l) ∧ (∀ s, s < 128 → M.2.1 9 s = -1 ∨ ∃ bk, bk < 64 ∧ M.2.1 9 s = nI bk) ∧ (∃ p, M.1 41 = nI p ∧ p + 32 ≤ 32767)
theorem MB.fr {L S U Bk G I : Nat} {M M' : MS} (h : MB L S U Bk G I M) {ks js : List Nat} (hf : frm ks js M M') (k1 : 1 ∉ ks := by decide) (k2 : 2 ∉ ks := by decide) (k3 : 3 ∉ ks := by decide) (k4 : 4 ∉ ks := by decide) (k5 : 5 ∉ ks := by decide) (k6 : 6 ∉ ks := by decide) (k41 : 41 ∉ ks := by decide) (j7 : 7 ∉ js := by decide) (j9 : 9 ∉ js := by decide) : MB L S U Bk G I M' := by
  obtain ⟨⟨a1, a2, a3, a4, a5, a6⟩, b, c, p, q1, q2⟩ := h
  refine ⟨⟨(hf.f 1 k1).trans a1, (hf.f 2 k2).trans a2, (hf.f 3 k3).trans a3, (hf.f 4 k4).trans a4, (hf.f 5 k5).trans a5, (hf.f 6 k6).trans a6⟩, fun u hu => ?_, fun s hs => ?_, p, (hf.f 41 k41).trans q1, q2⟩
  · rw [hf.a 7 j7]; exact b u hu
  · rw [hf.a 9 j9]; exact c s hs
theorem rdy_yes (M : MS) (u s L : Nat) (hL : L ≤ 32) (h : (z_rdy M u s L).1 = true) : ¬ M.2.1 9 s = -1 ∧ fst1 (z_rdy M u s L).2 < 32 ∧ (∀ j, j < fst1 (z_rdy M u s L).2 → (z_rdy M u s L).2.2.1 26 j = 0) ∧ ¬ (z_rdy M u s L).2.2.1 26 (fst1 (z_rdy M u s L).2) = 0 := by
  unfold z_rdy at h ⊢
  by_cases c1 : M.2.1 9 s = -1
  · rw [if_pos c1] at h
    exact absurd h Bool.false_ne_true
  refine ⟨c1, ?_⟩
  rw [if_neg c1] at h ⊢
  by_cases c2 : (iter (grS M s) 0 L (0, 0)).1 = 0
  · rw [if_pos c2] at h
    exact absurd h Bool.false_ne_true
  rw [if_neg c2]
  have hfst := gr_fst (M := M) s L hL c2
  by_cases c3 : plc (grM M s L) s < 0 ∨ ¬ plc (grM M s L) s < 128
  · rw [if_pos c3]
    exact hfst
  rw [if_neg c3]
  have hv : ∀ M' : MS, M'.2.1 26 = (grM M s L).2.1 26 → fst1 M' < 32 ∧ (∀ j, j < fst1 M' → M'.2.1 26 j = 0) ∧ ¬ M'.2.1 26 (fst1 M') = 0 := by
    intro M' e
    have e2 : ∀ d i, fstF M' i d = fstF (grM M s L) i d := by
      intro d
      induction d with
      | zero => exact fun i => rfl
      | succ d ih =>
        intro i
        unfold fstF
        rw [e, ih]
    unfold fst1
    rw [e2, e]
    exact hfst
  by_cases c4 : wrdP (takM (grM M s L) s)
  · rw [if_neg (not_not_intro c4)]
    exact hv _ rfl
  · rw [if_pos c4]
    exact hv _ rfl
theorem fst1_eq {M M' : MS} (e : M'.2.1 26 = M.2.1 26) : fst1 M' = fst1 M := by
  have e2 : ∀ d i, fstF M' i d = fstF M i d := by
    intro d
    induction d with
    | zero => exact fun i => rfl
    | succ d ih =>
      intro i
      unfold fstF
      rw [e, ih]
  exact e2 32 0
def fuF (M : MS) (W S : Nat) : Nat → Nat → Option Nat
  | _, 0 => none
  | i, d + 1 => if nI W ≤ iter (frS M) (16 * i) S 0 then some i else fuF M W S (i + 1) d
theorem fuF_lt {M : MS} {W S u : Nat} : ∀ {d i : Nat}, fuF M W S i d = some u → i ≤ u ∧ u < i + d
  | 0, _, h => by cases h
  | d + 1, i, h => by
    unfold fuF at h
    by_cases c : nI W ≤ iter (frS M) (16 * i) S 0
    · rw [if_pos c] at h
      cases h
      omega
    · rw [if_neg c] at h
      have := fuF_lt h
      omega
def z_disp (U S W : Nat) : Nat → Nat → MS → MS
  | 0, _, M => M
  | d + 1, nx, M => match fuF M W S 0 U with
    | none => M
    | some u => z_disp U S W d (nx + 1) (mI (z_begin M u nx W S) 14 (nI (nx + 1)))
theorem begin_frm (M : MS) (u bk W S : Nat) : frm [] [9, 10, 11, 12, 13, 14, 15, 16, 17, 18] M (z_begin M u bk W S) := by
  have hit : ∀ (d i : Nat) (c : Nat × MS), frm [] [9, 10, 11, 12, 13, 14, 15, 16, 17] M c.2 → frm [] [9, 10, 11, 12, 13, 14, 15, 16, 17] M (iter (bgS bk W) i d c).2 := by
    intro d
    induction d with
    | zero => exact fun i c h => h
    | succ d ih => exact fun i c h => ih (i + 1) _ (h.tr (bgS_frm bk W i c))
  exact ((hit S (16 * u) (0, M) frm.rf).up (fun k h => h) (fun k h => by simp only [List.mem_cons, List.not_mem_nil, or_false] at h ⊢; omega)).tr (frm.iter (fun i M => frm.rf.mA (by decide)) _ _ _)
def unS (L S Bk G : Nat) (u : Nat) (M : MS) : MS := if M.1 11 = 1 then z_uL u L S Bk G 1 S M else M
def cycE (M : MS) : MS := if M.1 41 ≤ 0 then (if M.1 11 = 4 then mI (mI (mI M 15 (M.1 15 + 1)) 22 (M.1 22 + 1)) 11 3 else if M.1 21 = M.1 12 then mI (mI (mI M 15 (M.1 15 + 1)) 22 (M.1 22 + 1)) 11 2 else mI (mI M 15 (M.1 15 + 1)) 22 (M.1 22 + 1)) else mI (mI M 15 (M.1 15 + 1)) 22 (M.1 22 + 1)
def cycD (U S W Bn nx : Nat) (M : MS) : MS := if M.1 11 = 1 then z_disp U S W (Bn - nx) nx M else M
def z_cyc (L S U Bk G W Bn nx P : Nat) (M : MS) : MS := cycE (iter (unS L S Bk G) 0 U (cycD U S W Bn nx (z_pend M P)))
def z_cy (M : MS) : MS := z_cyc (nN (M.1 1)) (nN (M.1 2)) (nN (M.1 3)) (nN (M.1 4)) (nN (M.1 5)) (nN ((M.1 13 + M.1 1 - 1) / M.1 1)) (nN (M.1 12)) (nN (M.1 14)) (nN (M.1 41)) M
def runS (_ : Nat) (M : MS) : MS := if (undP M ∧ ¬ 20000 ≤ M.1 22) then z_cy M else M
def z_run (M : MS) (p : Nat) : MS := iter runS 0 p (mI M 0 0)
section M17
variable {B : AH} {ao : Nat} {M : MS} {n : Nat} {L S U Bk G I : Nat}
theorem e_unitGoes (hz : SZ L S U Bk G I) (hm : MB L S U Bk G I M) (u : Nat) (hu : u < 8) (hn : 128 < n) : fX11_unitGoes n ao (nI u) (mk B ao M) = some (mk B ao (z_uL u L S Bk G 1 S M)) := by
  obtain ⟨⟨hL1, hL⟩, ⟨hS1, hS⟩, ⟨hU1, hU⟩, ⟨hB1, hB⟩, ⟨hG1, hG⟩, hI⟩ := hz
  unfold fX11_unitGoes
  have hS0 : ¬ nI S = 0 := nI_ne0 (by omega) (by omega)
  have e16 : (16 : Int32) * nI u = nI (16 * u) := by rw [l16, pk_mul]
  refine jl_fix (fun d g => ∀ (k : Nat) (M : MS), k + d = S + 1 → 1 ≤ k → MB L S U Bk G I M → g (nI k) (mk B ao M) = some (mk B ao (z_uL u L S Bk G k d M))) S (by omega) ?_ ?_ ?_
  · intro g k M hk _ hm
    obtain rfl : k = S + 1 := by omega
    refine ob (mg2.trans (by rw [hm.1.2.1])) ?_
    rw [if_pos (nI_lt (by omega) (by omega))]
    rfl
  · intro d g hg k M hk hk1 hm
    have hr := rdy_frm M u (16 * u + slt M u S k) L
    have hm2 := hm.fr hr
    obtain ⟨l, hl1, hl2⟩ := hm.2.1 u hu
    have hsl : slt M u S k = (l + k) % S := by unfold slt; rw [hl2, nN_nI (by omega)]
    have hlt : (l + k) % S < S := Nat.mod_lt _ (by omega)
    refine ob (mg2.trans (by rw [hm.1.2.1])) ?_
    rw [if_neg (show ¬ nI S < nI k from fun z => absurd (c_le (show k ≤ S by omega) (by omega)) (Int32.not_le.mpr z))]
    refine ob mg29 (ob ((ma7 u hu).trans (by rw [hl2])) (ob (v := ()) (by simp only [dz, hS0, if_false]) (ob mrcv ?_)))
    have e1 : (nI l + nI k) - (nI l + nI k) / nI S * nI S = nI ((l + k) % S) := by rw [nI_add]; exact pk_rem (by omega) (by omega) (by omega)
    rw [e1, e16, nI_add]
    refine ob (e_rdy u (16 * u + (l + k) % S) L hu (by omega) hL hm.1.1 (by omega)) ?_
    unfold z_uL
    rw [hsl] at hr hm2 ⊢
    by_cases cy : (z_rdy M u (16 * u + (l + k) % S) L).1 = true
    · rw [if_pos cy]
      refine Eq.trans (if_neg (by rw [b2i_0]; exact not_not_intro cy)) ?_
      obtain ⟨n9, y1, y2, y3⟩ := rdy_yes M u (16 * u + (l + k) % S) L hL cy
      refine ob mg29 (ob (ms7 u hu) (ob mrcv (ob ?_ rfl)))
      obtain ⟨p, hp1, hp2⟩ := hm2.2.2.2
      have hfe : fst1 (mA (z_rdy M u (16 * u + (l + k) % S) L).2 7 u (nI ((l + k) % S))) = fst1 (z_rdy M u (16 * u + (l + k) % S) L).2 := fst1_eq rfl
      refine e_goX u (16 * u + (l + k) % S) L Bk G I p hu (by omega) (by rw [hfe]; exact y1) (by rw [hfe]; exact y2) (by rw [hfe]; exact y3) hn hL1 hL hB1 hB hG1 hG hI hp2 hm2.1.1 hm2.1.2.2.2.1 hm2.1.2.2.2.2.1 hm2.1.2.2.2.2.2 ?_ hp1
      rcases hm2.2.2.1 (16 * u + (l + k) % S) (by omega) with e | e
      · exact absurd (by rw [← hr.a 9]; exact e) n9
      · exact e
    · rw [if_neg cy]
      refine Eq.trans (if_pos (by rw [b2i_0]; exact cy)) ?_
      rw [nI_1]
      exact hg (k + 1) _ (by omega) (by omega) hm2
  · intro g hg
    exact hg 1 M (by omega) (by omega) hm
theorem e_dispatch (hz : SZ L S U Bk G I) (W Bn nx : Nat) (hW : W ≤ 16) (hBn : Bn ≤ 64) (hnx : nx ≤ Bn) (h1 : M.1 1 = nI L) (h2 : M.1 2 = nI S) (h3 : M.1 3 = nI U) (h14 : M.1 14 = nI nx) (h12 : M.1 12 = nI Bn) (hw : (M.1 13 + M.1 1 - 1) / M.1 1 = nI W) (hn : 128 < n) : fX11_dispatch n ao (mk B ao M) = some (mk B ao (z_disp U S W (Bn - nx) nx M)) := by
  obtain ⟨⟨hL1, hL⟩, ⟨hS1, hS⟩, ⟨hU1, hU⟩, _⟩ := hz
  have hL0 : ¬ nI L = 0 := nI_ne0 (by omega) (by omega)
  unfold fX11_dispatch
  refine ob (mg14.trans (by rw [h14])) (ob (mg12.trans (by rw [h12])) ?_)
  refine jn_v (if nI Bn ≤ nI nx then 0 else 1) (fun j => ap_ite _ _ _ _) ?_
  refine jl_fix (fun d g => (∀ M' : MS, g 0 (mk B ao M') = some (mk B ao M')) ∧ ∀ (nx : Nat) (M' : MS), nx + d = Bn → frm [14] [9, 10, 11, 12, 13, 14, 15, 16, 17, 18] M M' → M'.1 14 = nI nx → g (if nI Bn ≤ nI nx then 0 else 1) (mk B ao M') = some (mk B ao (z_disp U S W d nx M'))) (Bn - nx) (by omega) ?_ ?_ ?_
  · intro g
    refine ⟨fun M' => if_pos rfl, ?_⟩
    intro nx M' hnx hf h14
    obtain rfl : nx = Bn := by omega
    rw [if_pos (c_le (Nat.le_refl _) (by omega))]
    exact if_pos rfl
  · intro d g hg
    refine ⟨fun M' => if_pos rfl, ?_⟩
    intro nx M' hnx hf h14
    rw [if_neg (c_nle (show nx < Bn by omega) (by omega))]
    refine Eq.trans (if_neg (by decide)) ?_
    unfold z_disp
    have k2 : M'.1 2 = nI S := (hf.f 2).trans h2
    have k1 : M'.1 1 = nI L := (hf.f 1).trans h1
    have k1' : ¬ M'.1 1 = 0 := by rw [k1]; exact hL0
    have kw : (M'.1 13 + M'.1 1 - 1) / M'.1 1 = nI W := by rw [hf.f 13, hf.f 1]; exact hw
    refine jl_fix (fun d' g' => ∀ (i : Nat), i + d' = U → g' (nI i) = some (mk B ao (match fuF M' W S i d' with | none => M' | some u => z_disp U S W d (nx + 1) (mI (z_begin M' u nx W S) 14 (nI (nx + 1)))))) U (by omega) ?_ ?_ ?_
    · intro g' i hi
      obtain rfl : i = U := by omega
      refine ob (mg3.trans (by rw [hf.f 3, h3])) ?_
      rw [jn_eq, if_pos (c_le (Nat.le_refl _) (by omega)), jn_eq, if_pos (c_le (Nat.le_refl _) (by omega))]
      refine Eq.trans (if_pos rfl) ?_
      exact hg.1 M'
    · intro d' g' hg' i hi
      refine ob (mg3.trans (by rw [hf.f 3, h3])) ?_
      rw [jn_eq, if_neg (c_nle (by omega) (by omega))]
      refine ob mrcv (ob (e_freeSlots i S (by omega) hS k2 (by omega)) (ob ((e_warps k1').trans (by rw [kw])) ?_))
      unfold fuF
      by_cases cw : nI W ≤ iter (frS M') (16 * i) S 0
      · rw [if_pos cw, if_pos cw, jn_eq, if_neg (c_nle (by omega) (by omega))]
        refine Eq.trans (if_neg (by decide)) ?_
        refine ob (mg14.trans (by rw [h14])) (ob mrcv (ob (e_begin i nx W S (by omega) hS (by omega) hW k2 k1' kw (by omega)) ?_))
        have hbf := begin_frm M' i nx W S
        refine ob (mg14.trans (by rw [hbf.f 14, h14])) (ob mp14 ?_)
        rw [nI_1]
        refine ob (mg14.trans (show _ = some (nI (nx + 1)) from rfl)) (ob (mg12.trans (show _ = some (nI Bn) from congrArg some (show (z_begin M' i nx W S).1 12 = nI Bn by rw [hbf.f 12, hf.f 12]; exact h12))) ?_)
        refine jn_v (if nI Bn ≤ nI (nx + 1) then 0 else 1) (fun j => ap_ite _ _ _ _) ?_
        exact hg.2 (nx + 1) _ (by omega) ((hf.tr (hbf.up (fun k h => absurd h (List.not_mem_nil)) (fun k h => h))).mI (by decide)) rfl
      · rw [if_neg cw, if_neg cw, nI_1]
        exact hg' (i + 1) (by omega)
    · intro g' hg'
      exact hg' 0 (by omega)
  · intro g hg
    exact hg.2 nx M (by omega) frm.rf h14
theorem e_oneCycle (hz : SZ L S U Bk G I) (W Bn nx P : Nat) (hW : W ≤ 16) (hBn : Bn ≤ 64) (hnx : nx ≤ Bn) (hP : P ≤ 32767) (h1 : M.1 1 = nI L) (h2 : M.1 2 = nI S) (h3 : M.1 3 = nI U) (h14 : M.1 14 = nI nx) (h12 : M.1 12 = nI Bn) (hw : (M.1 13 + M.1 1 - 1) / M.1 1 = nI W) (h41 : M.1 41 = nI P) (ho : ∀ k, k < P → okA M k) (hn : 32768 ≤ n)
    (hst : ∀ u, u ≤ U → MB L S U Bk G I (iter (unS L S Bk G) 0 u (cycD U S W Bn nx (z_pend M P)))) : fX11_oneCycle n ao (mk B ao M) = some (mk B ao (z_cyc L S U Bk G W Bn nx P M)) := by
  have hz' := hz
  obtain ⟨⟨hL1, hL⟩, ⟨hS1, hS⟩, ⟨hU1, hU⟩, _⟩ := hz'
  unfold fX11_oneCycle z_cyc
  have hpf : frm [41, 42] [2, 13, 19, 20, 21, 22, 23, 24] M (z_pend M P) := by
    have hit : ∀ (d i : Nat) (c : Nat × MS), frm [42] [2, 13, 19, 20, 21, 22, 23, 24] M c.2 → frm [42] [2, 13, 19, 20, 21, 22, 23, 24] M (iter pdS i d c).2 := by
      intro d
      induction d with
      | zero => exact fun i c h => h
      | succ d ih => exact fun i c h => ih (i + 1) _ (h.tr (pdS_frm i c))
    unfold z_pend
    refine ite_P (fun M' : MS => frm [41, 42] [2, 13, 19, 20, 21, 22, 23, 24] M M') (fun _ => ?_) (fun _ => frm.rf)
    exact ((hit P 0 (0, mI M 42 2147483647) (frm.rf.mI (by decide))).up (fun k h => by simp only [List.mem_cons, List.not_mem_nil, or_false] at h ⊢; omega) (fun k h => h)).mI (by decide)
  refine ob mrcv (ob (e_doPending P hP h41 ho (by omega)) ?_)
  generalize z_pend M P = M1 at hst hpf ⊢
  refine ob mg11 ?_
  refine jn_v (mk B ao (cycD U S W Bn nx M1)) (fun j => ?_) ?_
  · unfold cycD
    by_cases c : M1.1 11 = 1
    · rw [if_pos c, if_pos c]
      exact ob mrcv (ob (e_dispatch hz W Bn nx hW hBn hnx ((hpf.f 1).trans h1) ((hpf.f 2).trans h2) ((hpf.f 3).trans h3) ((hpf.f 14).trans h14) ((hpf.f 12).trans h12) (by rw [hpf.f 13, hpf.f 1]; exact hw) (by omega)) rfl)
    · rw [if_neg c, if_neg c]
  generalize cycD U S W Bn nx M1 = M2 at hst ⊢
  have hend : ∀ M3 : MS, ((gI (mk B ao M3) (some ao) 11 15).bind fun v12 => (pI (mk B ao M3) (some ao) 11 15 (v12 + (1 : Int32))).bind fun A13 => (gI A13 (some ao) 11 22).bind fun v14 => (pI A13 (some ao) 11 22 (v14 + (1 : Int32))).bind fun A15 => (gI A15 (some ao) 11 41).bind fun v16 => if v16 ≤ 0 then ((gI A15 (some ao) 11 11).bind fun v18 => jn (fun (A20 : AH) => some A20) fun j19 => if v18 = (4 : Int32) then ((pI A15 (some ao) 11 11 (3 : Int32)).bind fun A22 => j19 A22) else (gI A15 (some ao) 11 21).bind fun v23 => (gI A15 (some ao) 11 12).bind fun v24 => if v23 = v24 then ((pI A15 (some ao) 11 11 (2 : Int32)).bind fun A26 => j19 A26) else j19 A15) else some A15) = some (mk B ao (cycE M3)) := by
    intro M3
    refine ob mg15 (ob mp15 (ob mg22 (ob mp22 (ob mg41 ?_))))
    unfold cycE
    by_cases c41 : M3.1 41 ≤ 0
    · rw [if_pos c41]
      refine Eq.trans (if_pos c41) ?_
      refine ob mg11 ?_
      rw [jn_eq]
      by_cases c4 : M3.1 11 = 4
      · rw [if_pos c4]
        refine Eq.trans (if_pos c4) ?_
        exact ob mp11 rfl
      · rw [if_neg c4]
        refine Eq.trans (if_neg c4) ?_
        refine ob mg21 (ob mg12 ?_)
        by_cases ce : M3.1 21 = M3.1 12
        · rw [if_pos ce]
          refine Eq.trans (if_pos ce) ?_
          exact ob mp11 rfl
        · rw [if_neg ce]
          exact if_neg ce
    · rw [if_neg c41]
      exact if_neg c41
  have hfin : ∀ (d i : Nat) (M3 : MS), ¬ M3.1 11 = 1 → iter (unS L S Bk G) i d M3 = M3 := by
    intro d
    induction d with
    | zero => exact fun i M3 h => rfl
    | succ d ih =>
      intro i M3 h
      have e : unS L S Bk G i M3 = M3 := if_neg h
      rw [iter_s, e]
      exact ih (i + 1) M3 h
  refine jl_fix (fun d g => ∀ (u : Nat) (M3 : MS), u + d = U → M3 = iter (unS L S Bk G) 0 u M2 → M3.1 3 = nI U → g (nI u) (mk B ao M3) = some (mk B ao (cycE (iter (unS L S Bk G) u d M3)))) U (by omega) ?_ ?_ ?_
  · intro g u M3 hu hM3 h3'
    obtain rfl : u = U := by omega
    refine ob (mg3.trans (by rw [h3'])) (ob mg11 ?_)
    rw [if_pos (Or.inl (c_le (Nat.le_refl _) (by omega)))]
    exact hend M3
  · intro d g hg u M3 hu hM3 h3'
    refine ob (mg3.trans (by rw [h3'])) (ob mg11 ?_)
    by_cases c1 : M3.1 11 = 1
    · rw [if_neg (fun z => z.elim (c_nle (by omega) (by omega)) (fun q => q c1)), nI_1]
      refine ob mrcv (ob (e_unitGoes hz (by rw [hM3]; exact hst u (by omega)) u (by omega) (by omega)) ?_)
      have e : unS L S Bk G u M3 = z_uL u L S Bk G 1 S M3 := if_pos c1
      have e2 : z_uL u L S Bk G 1 S M3 = iter (unS L S Bk G) 0 (u + 1) M2 := by rw [← e, hM3, iter_last, Nat.zero_add]
      refine Eq.trans (hg (u + 1) _ (by omega) e2 ?_) ?_
      · rw [e2]
        exact (hst (u + 1) (by omega)).1.2.2.1
      · rw [iter_s, e]
    · rw [if_pos (Or.inr c1), hfin _ _ _ c1]
      exact hend M3
  · intro g hg
    exact hg 0 M2 (by omega) rfl (hst 0 (by omega)).1.2.2.1
theorem e_run (p : Nat) (h1 : 1 ≤ p) (h5 : p ≤ 500) (h22 : M.1 22 < 20000) (hn : 500 < n) (hc : ∀ k, k < p → (undP (iter runS 0 k (mI M 0 0)) ∧ ¬ 20000 ≤ (iter runS 0 k (mI M 0 0)).1 22) → fX11_oneCycle n ao (mk B ao (iter runS 0 k (mI M 0 0))) = some (mk B ao (z_cy (iter runS 0 k (mI M 0 0))))) : fX11_run n ao (nI p) (mk B ao M) = some ((z_run M p).1 11, mk B ao (z_run M p)) := by
  unfold fX11_run z_run
  rw [if_neg (show ¬ (nI p < 1 ∨ ¬ nI p ≤ 500) from fun z => z.elim (fun q => absurd (c_le (show 1 ≤ p by omega) (by omega)) (Int32.not_le.mpr q)) (fun q => q (c_le (b := 500) h5 (by omega))))]
  refine ob mg22 ?_
  rw [if_pos h22]
  refine ob mp0 ?_
  have hfin : ∀ (d i : Nat) (M3 : MS), ¬ (undP M3 ∧ ¬ 20000 ≤ M3.1 22) → iter runS i d M3 = M3 := by
    intro d
    induction d with
    | zero => exact fun i M3 h => rfl
    | succ d ih =>
      intro i M3 h
      have e : runS i M3 = M3 := if_neg h
      rw [iter_s, e]
      exact ih (i + 1) M3 h
  refine jl_fix (fun d g => ∀ (k : Nat) (M3 : MS), k + d = p → M3 = iter runS 0 k (mI M 0 0) → g (nI k) (mk B ao M3) = some ((iter runS k d M3).1 11, mk B ao (iter runS k d M3))) p (by omega) ?_ ?_ ?_
  · intro g k M3 hk hM3
    obtain rfl : k = p := by omega
    rw [jn_eq, if_pos (c_le (Nat.le_refl _) (by omega))]
    exact ob mg11 rfl
  · intro d g hg k M3 hk hM3
    rw [jn_eq, if_neg (c_nle (by omega) (by omega))]
    refine ob mrcv (ob e_isUnder (ob mg22 ?_))
    by_cases cu : undP M3 ∧ ¬ 20000 ≤ M3.1 22
    · rw [if_neg (show ¬ (b2i (undP M3) = 0 ∨ 20000 ≤ M3.1 22) from fun z => z.elim (fun q => by rw [b2i_0] at q; exact q cu.1) (fun q => cu.2 q)), nI_1]
      have hcy := hc k (by omega) (by rw [← hM3]; exact cu)
      rw [← hM3] at hcy
      refine ob hcy ?_
      have e : runS k M3 = z_cy M3 := if_pos cu
      refine Eq.trans (hg (k + 1) (z_cy M3) (by omega) (by rw [← e, hM3, iter_last, Nat.zero_add])) ?_
      rw [iter_s, e]
    · rw [if_pos (show (b2i (undP M3) = 0 ∨ 20000 ≤ M3.1 22) from by
        by_cases hu : undP M3
        · exact Or.inr (Classical.byContradiction fun z => cu ⟨hu, z⟩)
        · left; rw [b2i_0]; exact hu), hfin _ _ _ cu]
      exact ob mg11 rfl
  · intro g hg
    exact hg 0 _ (by omega) rfl
theorem e_runA (p : Int32) (h : p < 1 ∨ ¬ p ≤ 500) : fX11_run n ao p (mk B ao M) = some (0, mk B ao (mI M 0 1)) := by
  unfold fX11_run
  rw [if_pos h]
  exact ob mrcv (ob (e_raise 1) rfl)
theorem e_runB (p : Int32) (h : ¬ (p < 1 ∨ ¬ p ≤ 500)) (h22 : ¬ M.1 22 < 20000) : fX11_run n ao p (mk B ao M) = some (0, mk B ao (mI M 0 2)) := by
  unfold fX11_run
  rw [if_neg h]
  refine ob mg22 ?_
  rw [if_neg h22]
  exact ob mrcv (ob (e_raise 2) rfl)
end M17
