/-! C75: the dispatcher -/
section C75
variable {nC nS n : Nat} {A A1 A2 A' : AH} {V V1 V2 V' : CW} {E E1 E' : EL} {ad r1 ad' : AA} {M M' : MS} {P : PP} {u uu nx b Th W T Bk b1 b2 n0 n1 n2 m0 m1 m2 Bn : Nat} {sl : Nat → Nat}
/-- blocks in slots have been dispatched -/
def blL (M : MS) (nx : Nat) : Prop := ∀ s bk, s < 128 → bk < 64 → M.2.1 9 s = nI bk → bk < nx
theorem blL_beg (h : blL M nx) (hnx : nx < 64) {S : Nat} : blL (z_begin M u nx W S) (nx + 1) := by
  intro s bk hs hbk h9
  by_cases c : tkn M u W S s
  · obtain ⟨k, e, hk, hf, hw⟩ := c
    have := (begin_P M u nx W S hnx).2.1 k hk hf hw
    rw [e, this.1] at h9
    have := (nI_eq (by omega) (by omega)).mp h9
    omega
  · rw [((begin_P M u nx W S hnx).2.2.1 s c).1] at h9
    have := h s bk hs hbk h9
    omega
theorem warps_n {L Th W : Nat} (hL : 1 ≤ L) (hL2 : L ≤ 32) (hT : Th ≤ 512) (hWj : ∀ j, L * j < Th ↔ j < W) : ((nI Th + nI L) - (1 : Int32)) / nI L = nI W := by
  rw [nI_add, nI_sub1 (by omega), pk_div (by omega) (by omega) (by omega)]
  congr 1
  have h1 : Th ≤ L * W := by
    have := hWj W
    omega
  have hW : W = 0 ∨ L * (W - 1) < Th := by
    by_cases c : W = 0
    · exact Or.inl c
    · exact Or.inr ((hWj (W - 1)).mpr (by omega))
  rcases hW with e | e
  · subst e
    rw [Nat.mul_zero] at h1
    exact Nat.div_eq_of_lt (by omega)
  · have hm : L * (W - 1) + L = L * W := by
      have hw0 : W ≠ 0 := fun z => by
        rw [z] at e h1
        rw [Nat.mul_zero] at h1
        omega
      obtain ⟨w, rfl⟩ : ∃ w, W = w + 1 := ⟨W - 1, by omega⟩
      rw [Nat.add_sub_cancel, Nat.mul_succ]
    refine Nat.div_eq_of_lt_le ?_ ?_
    · rw [Nat.mul_comm]; omega
    · rw [Nat.succ_mul, Nat.mul_comm]; omega
set_option maxHeartbeats 2000000 in
theorem e7_dispatch (hS : 20000 ≤ nS) (hC : 2 ≤ nC) (g : GX nC nS A V E ad M P T Bk b1 b2 n0 n1 n2) (hnx : M.1 14 = nI nx) (hBn : M.1 12 = nI Bn) (hBn6 : Bn ≤ 64) (hnb : nx ≤ Bn) (hbl : blL M nx) (hTh : M.1 13 = nI Th) (hTh5 : Th ≤ 512) (hWj : ∀ j, P 6 * j < Th ↔ j < W) (hW10 : W = P 10) (hW1 : 1 ≤ W) (hP6 : 1 ≤ P 6) (hn : 10100 < n) :
    Res (fX7_dispatch n (P 1) A) (fun A' => ∃ V' E' ad' m0 m1 m2, GX nC nS A' V' E' ad' (z_disp (P 8) (P 7) W (Bn - nx) nx M) P T Bk b1 b2 m0 m1 m2 ∧ (∀ c, c ≠ 12 → c ≠ 13 → c ≠ 14 → ad' c = ad c) ∧ fr V' = fr V) := by
  have cp := g.2.1.1
  have hs := cp.2.2.2
  have hP6' := hs.2.2.2.2.2.2.2.2.1.1
  have g14 : gI A (some (P 1)) 7 14 = some (nI Th) := (gF g.1 hs cp.1 14 (by decide) rfl (by decide) rfl).trans (congrArg some hTh)
  have g0 : gI A (some (P 1)) 7 0 = some (nI (P 6)) := (gF g.1 hs cp.1 0 (by decide) rfl (by decide) rfl).trans (congrArg some hs.2.2.2.2.2.2.2.2.2.1.1)
  have hdz : dz (nI (P 6)) = some () := by
    unfold dz
    rw [if_neg (nI_ne0 (by omega) (by omega))]
  unfold fX7_dispatch
  refine Res.b g14 (Res.b g0 (Res.b hdz ?_))
  rw [warps_n hP6 hP6' hTh5 hWj]
  have base := hs
  clear g14 g0
  have main : ∀ A6 V6 E6 ad6 N nx6 k0 k1 k2, GX nC nS A6 V6 E6 ad6 N P T Bk b1 b2 k0 k1 k2 → N.1 14 = nI nx6 → N.1 12 = nI Bn → gI A6 (some (P 1)) 7 15 = some (nI nx6) ∧ gI A6 (some (P 1)) 7 13 = some (nI Bn) := by
    intro A6 V6 E6 ad6 N nx6 k0 k1 k2 g6 e14 e12
    exact ⟨(gF g6.1 g6.2.1.1.2.2.2 g6.2.1.1.1 15 (by decide) rfl (by decide) rfl).trans (congrArg some e14), (gF g6.1 g6.2.1.1.2.2.2 g6.2.1.1.1 13 (by decide) rfl (by decide) rfl).trans (congrArg some e12)⟩
  refine jl_R (fun dd (gg : Int32 → AH → Option AH) => (∀ A6 V6 E6 ad6 N nx6 k0 k1 k2, GX nC nS A6 V6 E6 ad6 N P T Bk b1 b2 k0 k1 k2 → N.1 14 = nI nx6 → N.1 12 = nI Bn → gg 0 A6 = some A6) ∧ (∀ A6 V6 E6 ad6 N nx6 k0 k1 k2, nx6 + dd = Bn → GX nC nS A6 V6 E6 ad6 N P T Bk b1 b2 k0 k1 k2 → N.1 14 = nI nx6 → N.1 12 = nI Bn → N.1 13 = nI Th → blL N nx6 → ((∀ c, c ≠ 12 → c ≠ 13 → c ≠ 14 → ad6 c = ad c) ∧ fr V6 = fr V) → Res (gg 1 A6) (fun A' => ∃ V' E' ad' m0 m1 m2, GX nC nS A' V' E' ad' (z_disp (P 8) (P 7) W dd nx6 N) P T Bk b1 b2 m0 m1 m2 ∧ (∀ c, c ≠ 12 → c ≠ 13 → c ≠ 14 → ad' c = ad c) ∧ fr V' = fr V))) (Bn - nx) (show Bn - nx < n by omega) ?_ ?_ ?_
  · intro gg
    refine ⟨fun A6 V6 E6 ad6 N nx6 k0 k1 k2 g6 e14 e12 => ?_, fun A6 V6 E6 ad6 N nx6 k0 k1 k2 hd g6 e14 e12 _ _ had => ?_⟩
    · obtain ⟨y1, y2⟩ := main A6 V6 E6 ad6 N nx6 k0 k1 k2 g6 e14 e12
      refine ob y1 (ob y2 ?_)
      rw [if_pos (Or.inl rfl)]
    · obtain ⟨y1, y2⟩ := main A6 V6 E6 ad6 N nx6 k0 k1 k2 g6 e14 e12
      refine Res.b y1 (Res.b y2 ?_)
      rw [if_pos (Or.inr (c_le (by omega) (by omega)))]
      exact Res.r ⟨V6, E6, ad6, k0, k1, k2, g6, had.1, had.2⟩
  · intro dd gg hgg
    refine ⟨fun A6 V6 E6 ad6 N nx6 k0 k1 k2 g6 e14 e12 => ?_, fun A6 V6 E6 ad6 N nx6 k0 k1 k2 hd g6 e14 e12 e13 hbl6 had => ?_⟩
    · obtain ⟨y1, y2⟩ := main A6 V6 E6 ad6 N nx6 k0 k1 k2 g6 e14 e12
      refine ob y1 (ob y2 ?_)
      rw [if_pos (Or.inl rfl)]
    · obtain ⟨y1, y2⟩ := main A6 V6 E6 ad6 N nx6 k0 k1 k2 g6 e14 e12
      refine Res.b y1 (Res.b y2 ?_)
      rw [if_neg (fun z => z.elim (fun z => absurd z (by decide)) (fun z => c_nle (by omega) (by omega) z))]
      have cp6 := g6.2.1.1
      have hs6 := cp6.2.2.2
      have hmk := hs6.mm.2
      have hP8 := hs6.2.2.2.2.2.2.2.2.1.2.2.1
      have hP7 := hs6.2.2.2.2.2.2.2.2.1.2.1
      obtain ⟨ul, hxu, liu, _⟩ := cp6.2.2.1.li2 cp6.2.1 (c := 7) (k := 8) (e := 8) hmk rfl
      have hul := hs6.2.2.2.1.1
      have gul : gR A6 (some (P 1)) 7 8 = some (some ul) := (g6.1.gr 8 (c := 7) hmk (by decide) rfl).trans (congrArg some hxu)
      have gsz : fJ2_size ul A6 = some (nI (P 8)) := (L_size g6.1 liu).trans (congrArg (fun z => some (nI z)) hul)
      have gun : ∀ i, i < P 8 → ∃ a, ad6 8 i = some a ∧ fJ2_get ul (nI i) A6 = some (some a) ∧ kdV V6 a = 9 := by
        intro i hi
        obtain ⟨a, ha⟩ := lt_ge (l := lt V6 E6 7 8 (P 1)) (i := i) (by rw [hul]; exact hi)
        have h8 : ad6 8 i = some a := by rw [← hs6.2.2.2.1.2.1 i]; exact ha
        exact ⟨a, h8, L_get g6.1 liu ha, hs6.kk h8⟩
      have ez : z_disp (P 8) (P 7) W (dd + 1) nx6 N = (match fuF N W (P 7) 0 (P 8) with
        | none => N
        | some u => z_disp (P 8) (P 7) W dd (nx6 + 1) (mI (z_begin N u nx6 W (P 7)) 14 (nI (nx6 + 1)))) := rfl
      rw [ez]
      refine jl_R (fun d' (gi : Int32 → Option AH) => ∀ i, i + d' = P 8 → fuF N W (P 7) 0 (P 8) = fuF N W (P 7) i d' → Res (gi (nI i)) (fun A' => ∃ V' E' ad' m0 m1 m2, GX nC nS A' V' E' ad' (match fuF N W (P 7) 0 (P 8) with
        | none => N
        | some u => z_disp (P 8) (P 7) W dd (nx6 + 1) (mI (z_begin N u nx6 W (P 7)) 14 (nI (nx6 + 1)))) P T Bk b1 b2 m0 m1 m2 ∧ (∀ c, c ≠ 12 → c ≠ 13 → c ≠ 14 → ad' c = ad c) ∧ fr V' = fr V)) (P 8) (show P 8 < n by omega) ?_ ?_ ?_
      · intro gi i hi hfu
        have ei : i = P 8 := by omega
        have hfu : fuF N W (P 7) 0 (P 8) = none := hfu
        refine Res.b gul (Res.b (g6.1.rc liu.1) (Res.b gsz ?_))
        rw [jn_eq, jn_eq, if_pos (c_le (by omega) (by omega)), if_pos (c_le (by omega) (by omega))]
        show Res (if (0 : Int32) = 0 then (gg 0 A6) else _) _
        rw [if_pos rfl, hfu]
        exact ⟨A6, hgg.1 A6 V6 E6 ad6 N nx6 k0 k1 k2 g6 e14 e12, V6, E6, ad6, k0, k1, k2, g6, had.1, had.2⟩
      · intro d' gi hgi i hi hfu
        refine Res.b gul (Res.b (g6.1.rc liu.1) (Res.b gsz ?_))
        rw [jn_eq, jn_eq, if_neg (c_nle (by omega) (by omega))]
        obtain ⟨uu, hu, gget, huk⟩ := gun i (by omega)
        refine Res.b gget (Res.b (g6.1.cs huk) (Res.b (g6.1.rc huk) (Res.b (e8_free g6.1 cp6 hu (by omega)) ?_)))
        by_cases c : nI W ≤ iter (frS N) (16 * i) (P 7) 0
        · rw [if_pos c, if_neg (c_nle (by omega) (by omega))]
          show Res (if (1 : Int32) = 0 then (gg 1 A6) else _) _
          rw [if_neg (show ¬ ((1 : Int32) = 0) by decide)]
          have hfu : fuF N W (P 7) 0 (P 8) = some i := by rw [hfu]; exact if_pos c
          rw [hfu]
          show Res _ (fun A' => ∃ V' E' ad' m0 m1 m2, GX nC nS A' V' E' ad' (z_disp (P 8) (P 7) W dd (nx6 + 1) (mI (z_begin N i nx6 W (P 7)) 14 (nI (nx6 + 1)))) P T Bk b1 b2 m0 m1 m2 ∧ (∀ c, c ≠ 12 → c ≠ 13 → c ≠ 14 → ad' c = ad c) ∧ fr V' = fr V)
          have hcn := cnB_le (frB N i) (P 7)
          have hW16 : W ≤ 16 := by rw [hW10]; exact hs6.2.2.2.2.2.2.2.2.1.2.2.2.2
          rw [frS_cn] at c
          have hfw : W ≤ cnB (frB N i) (P 7) := (nI_leI (by omega) (by omega)).mp c
          have gpool : gR A6 (some (P 1)) 7 6 = some (some (P 2)) := (g6.1.gr 6 (c := 7) hmk (by decide) rfl).trans (congrArg some hs6.2.2.1.2.2.2.2.2.2.2.1)
          have g14 : gI A6 (some (P 1)) 7 14 = some (nI Th) := (gF g6.1 hs6 cp6.1 14 (by decide) rfl (by decide) rfl).trans (congrArg some e13)
          have g0 : gI A6 (some (P 1)) 7 0 = some (nI (P 6)) := (gF g6.1 hs6 cp6.1 0 (by decide) rfl (by decide) rfl).trans (congrArg some hs6.2.2.2.2.2.2.2.2.2.1.1)
          have hP2 : kdV V6 (P 2) = 3 := hs6.kk hs6.2.2.1.1.2.2.1
          refine Res.b gget (Res.b (g6.1.cs huk) (Res.b gpool (Res.b g14 (Res.b g0 (Res.b (g6.1.rc hP2) ?_)))))
          refine Res.w (disp_one (n := n) (nx := nx6) (Th := Th) hS hC g6 hu hfw (by omega) hbl6 e13 hTh5 hWj hW10 hW1 hP6 hn) ?_
          rintro ⟨g26, A7⟩ ⟨b, eb, rc7, r7⟩
          have eb : g26 = some b := eb
          subst eb
          refine Res.b rc7 (Res.w r7 ?_)
          rintro A8 ⟨V8, E8, r8, k0', k1', k2', g8, had8, hfr8⟩
          have f8 := (begin_P N i nx6 W (P 7) (by omega)).1
          have e148 : (z_begin N i nx6 W (P 7)).1 14 = nI nx6 := by rw [f8.f 14]; exact e14
          have hbl8 := blL_beg (u := i) (W := W) (S := P 7) hbl6 (show nx6 < 64 by omega)
          have e128 : (z_begin N i nx6 W (P 7)).1 12 = nI Bn := by rw [f8.f 12]; exact e12
          have e138 : (z_begin N i nx6 W (P 7)).1 13 = nI Th := by rw [f8.f 13]; exact e13
          generalize z_begin N i nx6 W (P 7) = N8 at *
          have g15 : gI A8 (some (P 1)) 7 15 = some (nI nx6) := (gF g8.1 g8.2.1.1.2.2.2 g8.2.1.1.1 15 (by decide) rfl (by decide) rfl).trans (congrArg some e148)
          obtain ⟨A9, e9, s9, c9, i9⟩ := g8.1.pF g8.2.1.1.2.2.2 g8.2.1.1.1 15 (nI (nx6 + 1)) (by decide) rfl (by decide) rfl
          refine Res.b g15 ?_
          rw [nI_1]
          refine Res.b e9 ?_
          have fm9 : fmH N8 (mI N8 14 (nI (nx6 + 1))) := fmH.frm (ks := [14]) (js := []) (frm.rf.mI (by decide)) (by decide) (by decide)
          have g9 := g8.iv s9 i9 c9 fm9
          exact hgg.2 A9 _ E8 r8 (mI N8 14 (nI (nx6 + 1))) (nx6 + 1) k0' k1' k2' (by omega) g9 (by rw [mI_g, if_pos rfl]) (by rw [mI_g, if_neg (by decide)]; exact e128) (by rw [mI_g, if_neg (by decide)]; exact e138) hbl8 ⟨fun c h1 h2 h3 => (had8 c h1 h2 h3).trans (had.1 c h1 h2 h3), hfr8.trans had.2⟩
        · rw [if_neg c, nI_1]
          exact hgi (i + 1) (by omega) (by rw [hfu]; exact if_neg c)
      · intro gi hgi
        exact hgi 0 (by omega) rfl
  · intro gg hgg
    exact hgg.2 A V E ad M nx n0 n1 n2 (by omega) g hnx hBn hTh hbl ⟨fun _ _ _ _ => rfl, rfl⟩
end C75
