/-! G12: a launch: fields, gates, units -/
section G12
variable {nC nS n : Nat} {A A' : AH} {V V' : CW} {E E' : EL} {ad ad' : AA} {M M' N : MS} {P : PP} {Lq : Nat → Nat → Prop} {T Bk b1 b2 n0 n1 n2 u uu : Nat}
theorem HFR.vI {d a i : Nat} {v : Int32} (hd : d ≠ 302) : HFR V E (vI' V d a i v) E P := ⟨rfl, rfl, by rw [vIi, if_neg (fun z => hd z.1.symm)]⟩
theorem GYq.wr (g : GYq nC nS A V E ad M P Lq Bk b1 b2 n0 n1 n2) {a c k : Nat} (v : Int32) (ha : kdV V a = c + 1) (hk : k < nfl c) (hr : isR c k = false) (hd : cdC (100 * c + k)) (hne : 100 * c + k ≠ 302) (hc : CX (vI' V (100 * c + k) a 0 v) ad M') (e1 : M'.1 1 = M.1 1) (e2 : M'.1 2 = M.1 2) (e9 : M'.2.1 9 = M.2.1 9) (e10 : M'.2.1 10 = M.2.1 10) (eK : M'.2.2 = M.2.2) : ∃ A' V', pI A (some a) c k v = some A' ∧ GYq nC nS A' V' E ad M' P Lq Bk b1 b2 n0 n1 n2 ∧ HFR V E V' E P := by
  obtain ⟨A', e, s⟩ := g.1.pi k v ha hk hr
  exact ⟨A', _, e, g.iv s (IV.vI hd) hc e1 e2 e9 e10 eK, HFR.vI hne⟩
theorem GYq.pF (g : GYq nC nS A V E ad M P Lq Bk b1 b2 n0 n1 n2) (k : Nat) (v : Int32) (hk : k < 26) (hr : isR 7 k = false) (hd : 700 + k ∈ fdC) (hdd : (700 + k) / 100 = 7) (hf : nmF (700 + k) ≠ 1 ∧ nmF (700 + k) ≠ 2) : ∃ A' V', pI A (some (P 1)) 7 k v = some A' ∧ GYq nC nS A' V' E ad (mI M (nmF (700 + k)) v) P Lq Bk b1 b2 n0 n1 n2 ∧ HFR V E V' E P := by
  have hs := g.2.1.1.2.2.2
  exact g.wr (c := 7) v hs.mm.2 hk hr (Or.inr (Or.inl hd)) (by omega) (g.2.1.1.1.setF hs.1 v hd (by rw [hdd]; exact hs.mm.1)) (by rw [mI_g, if_neg (fun z => hf.1 z.symm)]) (by rw [mI_g, if_neg (fun z => hf.2 z.symm)]) rfl rfl rfl
theorem GYq.pC (g : GYq nC nS A V E ad M P Lq Bk b1 b2 n0 n1 n2) (k : Nat) (v : Int32) (hk : k = 1 ∨ k = 2) : ∃ A' V', pI A (some (P 5)) 9 k v = some A' ∧ GYq nC nS A' V' E ad (mI M (18 + k) v) P Lq Bk b1 b2 n0 n1 n2 ∧ HFR V E V' E P := by
  have hs := g.2.1.1.2.2.2
  have h9 := hs.2.2.1.1.2.2.2.2.2
  rcases hk with e | e <;> subst e
  · exact g.wr (c := 9) (k := 1) v (hs.kk h9) (by decide) rfl (Or.inr (Or.inl (by decide))) (by decide) (g.2.1.1.1.setF (d := 901) hs.1 v (by decide) h9) rfl rfl rfl rfl rfl
  · exact g.wr (c := 9) (k := 2) v (hs.kk h9) (by decide) rfl (Or.inr (Or.inl (by decide))) (by decide) (g.2.1.1.1.setF (d := 902) hs.1 v (by decide) h9) rfl rfl rfl rfl rfl
theorem GYq.pG (g : GYq nC nS A V E ad M P Lq Bk b1 b2 n0 n1 n2) {gi ga : Nat} (v : Int32) (hg : ad 10 gi = some ga) : ∃ A' V', pI A (some ga) 10 1 v = some A' ∧ GYq nC nS A' V' E ad (mA M 4 gi v) P Lq Bk b1 b2 n0 n1 n2 ∧ HFR V E V' E P := by
  have hs := g.2.1.1.2.2.2
  exact g.wr (c := 10) (k := 1) v (hs.kk hg) (by decide) rfl (Or.inl (by decide)) (by decide) (g.2.1.1.1.setA (d := 1001) (k := gi) (i := 0) hs.1 v (by decide) (by decide) hg) rfl rfl rfl rfl rfl
theorem GYq.pU (g : GYq nC nS A V E ad M P Lq Bk b1 b2 n0 n1 n2) (k : Nat) (v : Int32) (hk : k = 1 ∨ k = 2 ∨ k = 3 ∨ k = 4) (hu : ad 8 u = some uu) : ∃ A' V', pI A (some uu) 8 k v = some A' ∧ GYq nC nS A' V' E ad (mA M (nmA (800 + k)) u v) P Lq Bk b1 b2 n0 n1 n2 ∧ HFR V E V' E P := by
  have hs := g.2.1.1.2.2.2
  rcases hk with e | e | e | e <;> subst e
  · exact g.wr (c := 8) (k := 1) v (hs.kk hu) (by decide) rfl (Or.inl (by decide)) (by decide) (g.2.1.1.1.setA (d := 801) (k := u) (i := 0) hs.1 v (by decide) (by decide) hu) rfl rfl rfl rfl rfl
  · exact g.wr (c := 8) (k := 2) v (hs.kk hu) (by decide) rfl (Or.inl (by decide)) (by decide) (g.2.1.1.1.setA (d := 802) (k := u) (i := 0) hs.1 v (by decide) (by decide) hu) rfl rfl rfl rfl rfl
  · exact g.wr (c := 8) (k := 3) v (hs.kk hu) (by decide) rfl (Or.inl (by decide)) (by decide) (g.2.1.1.1.setA (d := 803) (k := u) (i := 0) hs.1 v (by decide) (by decide) hu) rfl rfl rfl rfl rfl
  · exact g.wr (c := 8) (k := 4) v (hs.kk hu) (by decide) rfl (Or.inl (by decide)) (by decide) (g.2.1.1.1.setA (d := 804) (k := u) (i := 0) hs.1 v (by decide) (by decide) hu) rfl rfl rfl rfl rfl
/-- gates are free -/
theorem gat_loop (g : GYq nC nS A V E ad M P Lq Bk b1 b2 n0 n1 n2) (hn : 40 < n) (K : AH → Option AH) (Post : AH → Prop) (hK : ∀ A' V' N', GYq nC nS A' V' E ad N' P Lq Bk b1 b2 n0 n1 n2 → HFR V E V' E P → frm [] [4] M N' → (∀ g, g < P 9 → N'.2.1 4 g = 0) → Res (K A') Post) :
    Res (jl (fixG (fun _ _ => none) (fun (rc20 : (Int32) → (AH) → Option (AH)) (x18 : Int32) (A19 : AH) =>
      (gR A19 (some (P 1)) 7 9).bind fun v21 =>
      (gR A19 v21 9 0).bind fun v22 =>
      (rcv A19 v22 0).bind fun v23 =>
      (fJ2_size v23 A19).bind fun g24 =>
      if g24 ≤ x18 then (K A19) else
      (fJ2_get v23 x18 A19).bind fun g41 =>
      (cst A19 g41 10).bind fun v42 =>
      (pI A19 g41 10 1 (0 : Int32)).bind fun A43 =>
      rc20 (x18 + (1 : Int32)) A43) n) fun j17 =>
      j17 (0 : Int32) A) Post := by
  have hs := g.2.1.1.2.2.2
  have hP9 := hs.2.2.2.2.2.2.2.2.1.2.2.2.1
  have rd : ∀ A3 V3 N, GYq nC nS A3 V3 E ad N P Lq Bk b1 b2 n0 n1 n2 → ∃ gl cap, gR A3 (some (P 1)) 7 9 = some (some (P 5)) ∧ gR A3 (some (P 5)) 9 0 = some (some gl) ∧ LI V3 gl 10 (lt V3 E 9 0 (P 5)) cap ∧ fJ2_size gl A3 = some (nI (P 9)) := by
    intro A3 V3 N g3
    have cp3 := g3.2.1.1
    have hs3 := cp3.2.2.2
    have k9 := hs3.kk hs3.2.2.1.1.2.2.2.2.2
    obtain ⟨gl, hx, li, _⟩ := cp3.2.2.1.li2 cp3.2.1 (c := 9) (k := 0) (e := 10) k9 rfl
    exact ⟨gl, _, (g3.1.gr 9 (c := 7) hs3.mm.2 (by decide) rfl).trans (congrArg some hs3.2.2.1.2.2.2.2.2.2.2.2.2.1), (g3.1.gr 0 (c := 9) k9 (by decide) rfl).trans (congrArg some hx), li, (L_size g3.1 li).trans (congrArg (fun z => some (nI z)) hs3.2.2.2.1.2.2.2.1)⟩
  refine jl_R (fun dd (gg : Int32 → AH → Option AH) => ∀ k A3 V3 N, k + dd = P 9 → GYq nC nS A3 V3 E ad N P Lq Bk b1 b2 n0 n1 n2 → HFR V E V3 E P → frm [] [4] M N → (∀ g, g < k → N.2.1 4 g = 0) → Res (gg (nI k) A3) Post) (P 9) (show P 9 < n by omega) ?_ ?_ ?_
  · intro gg k A3 V3 N hk g3 hf f4 h0
    obtain ⟨gl, cap, r1, r2, r3, r4⟩ := rd A3 V3 N g3
    refine Res.b r1 (Res.b r2 (Res.b (g3.1.rc r3.1) (Res.b r4 ?_)))
    rw [if_pos (c_le (by omega) (by omega))]
    exact hK A3 V3 N g3 hf f4 (fun g hg => h0 g (by omega))
  · intro dd gg hgg k A3 V3 N hk g3 hf f4 h0
    obtain ⟨gl, cap, r1, r2, r3, r4⟩ := rd A3 V3 N g3
    refine Res.b r1 (Res.b r2 (Res.b (g3.1.rc r3.1) (Res.b r4 ?_)))
    rw [if_neg (c_nle (by omega) (by omega)), nI_1]
    have hs3 := g3.2.1.1.2.2.2
    obtain ⟨ga, hga⟩ := lt_ge (l := lt V3 E 9 0 (P 5)) (i := k) (by rw [hs3.2.2.2.1.2.2.2.1]; omega)
    have h10 : ad 10 k = some ga := by rw [← hs3.2.2.2.1.2.2.2.2 k]; exact hga
    obtain ⟨A4, V4, e4, g4, hf4⟩ := g3.pG 0 h10
    refine Res.b (L_get g3.1 r3 hga) (Res.b (g3.1.cs (hs3.kk h10)) (Res.b e4 ?_))
    refine hgg (k + 1) A4 V4 (mA N 4 k 0) (by omega) g4 (hf4.trans hf) (f4.mA (by decide)) (fun g hg => ?_)
    rw [mA_a, if_pos rfl]
    by_cases e : g = k
    · rw [e, pk_us]
    · rw [pk_un e]; exact h0 g (by omega)
  · intro gg hgg
    exact hgg 0 A V M (by omega) g HFR.rf frm.rf (fun g hg => absurd hg (Nat.not_lt_zero _))
/-- a unit begins -/
theorem e8_begin (hS : 10000 ≤ nS) (hC : 2 ≤ nC) (g : GYq nC nS A V E ad M P Lq Bk b1 b2 n0 n1 n2) (one : oneU M) (hu : ad 8 u = some uu) (hP7 : 1 ≤ P 7) (hn : 40 < n) :
    Res (fX8_begin n uu (some (P 2)) A) (fun A' => ∃ V' E' ad' M', GYq nC nS A' V' E' ad' M' P Lq Bk b1 b2 n0 n1 n2 ∧ (∀ c, c ≠ 12 → c ≠ 13 → c ≠ 14 → ad' c = ad c) ∧ HFR V E V' E' P ∧ frm [] [5, 6, 7, 8, 9] M M' ∧ le9 M M' ∧ (∀ k, k < P 7 → M'.2.1 9 (16 * u + k) = -1) ∧ (M'.2.1 5 u = 0 ∧ M'.2.1 6 u = 0 ∧ M'.2.1 7 u = nI (P 7 - 1) ∧ M'.2.1 8 u = 0) ∧ ∀ u', u' ≠ u → ∀ j, 5 ≤ j → j ≤ 8 → M'.2.1 j u' = M.2.1 j u') := by
  have hs := g.2.1.1.2.2.2
  unfold fX8_begin
  refine Res.b (g.1.rc (hs.kk hu)) (Res.w (e8_clearq hS hC g one hu hn) ?_)
  rintro A2 ⟨V2, E2, ad2, M2, g2, had2, hf2, f2, l2, c2⟩
  have hs2 := g2.2.1.1.2.2.2
  have hu2 : ad2 8 u = some uu := by rw [had2 8 (by decide) (by decide) (by decide)]; exact hu
  obtain ⟨⟨y, y1, y2, y3⟩, hsl⟩ := hs2.2.2.2.1.2.2.1 u uu hu2
  have y3 : xn V2 800 uu = P 7 := y3
  refine Res.b ((g2.1.gr 0 (c := 8) (hs2.kk hu2) (by decide) rfl).trans (congrArg some y1)) (Res.b ((g2.1.ln (c := 8) (k := 0) (hs2.kk hu2) (by decide) y1 y2).trans (congrArg (fun z => some (nI z)) y3)) ?_)
  rw [nI_sub1 (by omega)]
  obtain ⟨A3, V3, e3, g3, hf3⟩ := g2.pU 1 (nI (P 7 - 1)) (by omega) hu2
  obtain ⟨A4, V4, e4, g4, hf4⟩ := g3.pU 2 0 (by omega) hu2
  obtain ⟨A5, V5, e5, g5, hf5⟩ := g4.pU 3 0 (by omega) hu2
  obtain ⟨A6, V6, e6, g6, hf6⟩ := g5.pU 4 0 (by omega) hu2
  refine Res.b e3 (Res.b e4 (Res.b e5 (Res.b e6 (Res.r ⟨V6, E2, ad2, _, g6, had2, hf6.trans (hf5.trans (hf4.trans (hf3.trans hf2))), ?_, ?_, ?_, ?_, ?_⟩))))
  · have h := f2.up (ks' := []) (js' := [5, 6, 7, 8, 9]) (by decide) (by decide)
    exact (((h.mA (k := nmA 801) (by decide)).mA (k := nmA 802) (by decide)).mA (k := nmA 803) (by decide)).mA (k := nmA 804) (by decide)
  · exact l2
  · exact c2
  · refine ⟨?_, ?_, ?_, ?_⟩
    · show upd (M2.2.1 5) u 0 u = 0
      rw [pk_us]
    · show upd (M2.2.1 6) u 0 u = 0
      rw [pk_us]
    · show upd (M2.2.1 7) u (nI (P 7 - 1)) u = _
      rw [pk_us]
    · show upd (M2.2.1 8) u 0 u = 0
      rw [pk_us]
  · intro u' hne j j1 j2
    have : j = 5 ∨ j = 6 ∨ j = 7 ∨ j = 8 := by omega
    rcases this with e | e | e | e <;> subst e
    · show upd (M2.2.1 5) u 0 u' = _
      rw [pk_un hne, f2.a 5]
    · show upd (M2.2.1 6) u 0 u' = _
      rw [pk_un hne, f2.a 6]
    · show upd (M2.2.1 7) u (nI (P 7 - 1)) u' = _
      rw [pk_un hne, f2.a 7]
    · show upd (M2.2.1 8) u 0 u' = _
      rw [pk_un hne, f2.a 8]
/-- all units begin -/
theorem uni_loop (hS : 10000 ≤ nS) (hC : 2 ≤ nC) (g : GYq nC nS A V E ad M P Lq Bk b1 b2 n0 n1 n2) (one : oneU M) (hP7 : 1 ≤ P 7) (hn : 40 < n) :
    Res (jl (fixG (fun _ _ => none) (fun (rc31 : (Int32) → (AH) → Option (AH)) (x29 : Int32) (A30 : AH) =>
      (gR A30 (some (P 1)) 7 8).bind fun v32 =>
      (rcv A30 v32 0).bind fun v33 =>
      (fJ2_size v33 A30).bind fun g34 =>
      if g34 ≤ x29 then (some A30) else
      (fJ2_get v33 x29 A30).bind fun g36 =>
      (cst A30 g36 8).bind fun v37 =>
      (gR A30 (some (P 1)) 7 6).bind fun v38 =>
      (rcv A30 g36 8).bind fun v39 =>
      (fX8_begin n v39 v38 A30).bind fun g40 =>
      rc31 (x29 + (1 : Int32)) g40) n) fun j28 =>
      j28 (0 : Int32) A) (fun A' => ∃ V' E' ad' M', GYq nC nS A' V' E' ad' M' P Lq Bk b1 b2 n0 n1 n2 ∧ (∀ c, c ≠ 12 → c ≠ 13 → c ≠ 14 → ad' c = ad c) ∧ HFR V E V' E' P ∧ frm [] [5, 6, 7, 8, 9] M M' ∧ (∀ s, s < 128 → M'.2.1 9 s = -1) ∧ ∀ u, u < P 8 → M'.2.1 5 u = 0 ∧ M'.2.1 6 u = 0 ∧ M'.2.1 7 u = nI (P 7 - 1) ∧ M'.2.1 8 u = 0) := by
  have hs := g.2.1.1.2.2.2
  have hP8 := hs.2.2.2.2.2.2.2.2.1.2.2.1
  refine jl_R (fun dd (gg : Int32 → AH → Option AH) => ∀ v A3 V3 E3 ad3 N, v + dd = P 8 → GYq nC nS A3 V3 E3 ad3 N P Lq Bk b1 b2 n0 n1 n2 → (∀ c, c ≠ 12 → c ≠ 13 → c ≠ 14 → ad3 c = ad c) → HFR V E V3 E3 P → frm [] [5, 6, 7, 8, 9] M N → le9 M N → (∀ v' k, v' < v → k < P 7 → N.2.1 9 (16 * v' + k) = -1) → (∀ u, u < v → N.2.1 5 u = 0 ∧ N.2.1 6 u = 0 ∧ N.2.1 7 u = nI (P 7 - 1) ∧ N.2.1 8 u = 0) → Res (gg (nI v) A3) (fun A' => ∃ V' E' ad' M', GYq nC nS A' V' E' ad' M' P Lq Bk b1 b2 n0 n1 n2 ∧ (∀ c, c ≠ 12 → c ≠ 13 → c ≠ 14 → ad' c = ad c) ∧ HFR V E V' E' P ∧ frm [] [5, 6, 7, 8, 9] M M' ∧ (∀ s, s < 128 → M'.2.1 9 s = -1) ∧ ∀ u, u < P 8 → M'.2.1 5 u = 0 ∧ M'.2.1 6 u = 0 ∧ M'.2.1 7 u = nI (P 7 - 1) ∧ M'.2.1 8 u = 0)) (P 8) (show P 8 < n by omega) ?_ ?_ ?_
  · intro gg v A3 V3 E3 ad3 N hv g3 had hf fr9 l9 hfree hun
    have cp3 := g3.2.1.1
    have hs3 := cp3.2.2.2
    obtain ⟨ul, hxu, liu, _⟩ := cp3.2.2.1.li2 cp3.2.1 (c := 7) (k := 8) (e := 8) hs3.mm.2 rfl
    refine Res.b ((g3.1.gr 8 (c := 7) hs3.mm.2 (by decide) rfl).trans (congrArg some hxu)) (Res.b (g3.1.rc liu.1) (Res.b ((L_size g3.1 liu).trans (congrArg (fun z => some (nI z)) hs3.2.2.2.1.1)) ?_))
    rw [if_pos (c_le (by omega) (by omega))]
    refine Res.r ⟨V3, E3, ad3, N, g3, had, hf, fr9, fun s hs' => ?_, fun u hu => hun u (by omega)⟩
    cases hw : ad3 13 s with
    | none => exact hs3.2.2.2.2.1.2 s hs' hw
    | some w =>
      obtain ⟨z1, z2, _⟩ := hs3.2.2.2.2.1.1 s w hw
      have := hfree (s / 16) (s % 16) (by omega) z2
      rw [show 16 * (s / 16) + s % 16 = s by omega] at this
      exact this
  · intro dd gg hgg v A3 V3 E3 ad3 N hv g3 had hf fr9 l9 hfree hun
    have cp3 := g3.2.1.1
    have hs3 := cp3.2.2.2
    obtain ⟨ul, hxu, liu, _⟩ := cp3.2.2.1.li2 cp3.2.1 (c := 7) (k := 8) (e := 8) hs3.mm.2 rfl
    refine Res.b ((g3.1.gr 8 (c := 7) hs3.mm.2 (by decide) rfl).trans (congrArg some hxu)) (Res.b (g3.1.rc liu.1) (Res.b ((L_size g3.1 liu).trans (congrArg (fun z => some (nI z)) hs3.2.2.2.1.1)) ?_))
    rw [if_neg (c_nle (by omega) (by omega)), nI_1]
    obtain ⟨uu, huu⟩ := lt_ge (l := lt V3 E3 7 8 (P 1)) (i := v) (by rw [hs3.2.2.2.1.1]; omega)
    have hu3 : ad3 8 v = some uu := by rw [← hs3.2.2.2.1.2.1 v]; exact huu
    refine Res.b (L_get g3.1 liu huu) (Res.b (g3.1.cs (hs3.kk hu3)) (Res.b ((g3.1.gr 6 (c := 7) hs3.mm.2 (by decide) rfl).trans (congrArg some hs3.2.2.1.2.2.2.2.2.2.2.1)) (Res.b (g3.1.rc (hs3.kk hu3)) ?_)))
    refine Res.w (e8_begin hS hC g3 (one.le l9) hu3 hP7 hn) ?_
    rintro A4 ⟨V4, E4, ad4, N4, g4, had4, hf4, f4, l4, c4, u4, o4⟩
    refine hgg (v + 1) A4 V4 E4 ad4 N4 (by omega) g4 (fun c a1 a2 a3 => (had4 c a1 a2 a3).trans (had c a1 a2 a3)) (hf4.trans hf) (fr9.tr f4) (l9.tr l4) (fun v' k hv' hk => ?_) (fun u' hu' => ?_)
    · by_cases e : v' = v
      · rw [e]; exact c4 k hk
      · rcases l4 (16 * v' + k) with z | z
        · rw [z]; exact hfree v' k (by omega) hk
        · exact z
    · by_cases e : u' = v
      · rw [e]; exact u4
      · rw [o4 u' e 5 (by omega) (by omega), o4 u' e 6 (by omega) (by omega), o4 u' e 7 (by omega) (by omega), o4 u' e 8 (by omega) (by omega)]
        exact hun u' (by omega)
  · intro gg hgg
    exact hgg 0 A V E ad M (by omega) g (fun _ _ _ _ => rfl) HFR.rf frm.rf (fun s => Or.inl rfl) (fun v' k hv' => absurd hv' (Nat.not_lt_zero _)) (fun u' hu' => absurd hu' (Nat.not_lt_zero _))
end G12
