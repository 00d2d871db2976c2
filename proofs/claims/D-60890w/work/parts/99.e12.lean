/-! E12: the units of a cycle -/
/-- sizes of the machine, as the model has them -/
def SM (M : MS) (P : PP) (Bk I : Nat) : Prop := M.1 3 = nI (P 8) ∧ M.1 4 = nI Bk ∧ M.1 5 = nI (P 9) ∧ M.1 6 = nI I ∧ (1 ≤ P 6 ∧ 1 ≤ P 7 ∧ 1 ≤ P 8 ∧ 1 ≤ P 9) ∧ (1 ≤ Bk ∧ Bk ≤ 32) ∧ 1 ≤ I ∧ I ≤ 4096
/-- the launch, as the model has it -/
def LA (M : MS) (P : PP) (nx Bn Th W : Nat) : Prop := M.1 14 = nI nx ∧ M.1 12 = nI Bn ∧ (Bn ≤ 64 ∧ nx ≤ Bn) ∧ blL M nx ∧ M.1 13 = nI Th ∧ (1 ≤ Th ∧ Th ≤ 512) ∧ (∀ j, P 6 * j < Th ↔ j < W) ∧ W = P 10 ∧ 1 ≤ W
section E12
variable {nC nS n : Nat} {A A' : AH} {V V' : CW} {E E' : EL} {ad ad' : AA} {M M' N : MS} {P : PP} {T Bk b1 b2 n0 n1 n2 c B I nx Bn Th W : Nat}
theorem SM.fr {ks js : List Nat} (h : SM M P Bk I) (hf : frm ks js M N) (hk : 3 ∉ ks ∧ 4 ∉ ks ∧ 5 ∉ ks ∧ 6 ∉ ks) : SM N P Bk I := by
  unfold SM at h ⊢
  rw [hf.1 3 hk.1, hf.1 4 hk.2.1, hf.1 5 hk.2.2.1, hf.1 6 hk.2.2.2]
  exact h
theorem LA.fr {ks js : List Nat} (h : LA M P nx Bn Th W) (hf : frm ks js M N) (hk : 14 ∉ ks ∧ 12 ∉ ks ∧ 13 ∉ ks) (hb : blL N nx) : LA N P nx Bn Th W := by
  unfold LA at h ⊢
  rw [hf.1 14 hk.1, hf.1 12 hk.2.1, hf.1 13 hk.2.2]
  exact ⟨h.1, h.2.1, h.2.2.1, hb, h.2.2.2.2⟩
theorem LT.fr {ks js : List Nat} (h : LT M) (hf : frm ks js M N) (hj : 7 ∉ js) : LT N := fun u hu => by rw [hf.2.1 7 hj]; exact h u hu
theorem un_id {L S G u : Nat} (h : ¬ (iter (unS L S Bk G) 0 u N).1 11 = 1) : ∀ d, iter (unS L S Bk G) 0 (u + d) N = iter (unS L S Bk G) 0 u N
  | 0 => rfl
  | d + 1 => by
    rw [← Nat.add_assoc, iter_last, un_id h d]
    generalize iter (unS L S Bk G) 0 u N = Y at *
    exact if_neg h
set_option maxHeartbeats 2000000 in
theorem un_loop (hS : 10000 ≤ nS) (hC : 2 ≤ nC) (g : GX nC nS A V E ad N P T Bk b1 b2 n0 n1 n2) (hm : MI N c (c + 1) B) (hl : LT N) (sm : SM N P Bk I) (hB : B + 1280 ≤ 30000000) (hT : T + 512 < 2 ^ 30) (hn : 10100 < n) :
    Res (jl (fixG (fun _ _ => none) (fun (rc15 : (Int32) → (AH) → Option (AH)) (x13 : Int32) (A14 : AH) =>
      (gR A14 (some (P 1)) 7 8).bind fun v16 =>
      (rcv A14 v16 0).bind fun v17 =>
      (fJ2_size v17 A14).bind fun g18 =>
      (gI A14 (some (P 1)) 7 12).bind fun v19 =>
      if ((g18 ≤ x13) ∨ (¬ (v19 = (1 : Int32)))) then ((gR A14 (some (P 1)) 7 7).bind fun v20 =>
      (gR A14 v20 3 0).bind fun v21 =>
      (rcv A14 v21 0).bind fun v22 =>
      (fJ2_isEmpty v22 A14).bind fun g23 =>
      (gI A14 (some (P 1)) 7 16).bind fun v24 =>
      (gI A14 (some (P 1)) 7 13).bind fun v25 =>
      jn (fun (A27 : AH) =>
      (gI A27 (some (P 1)) 7 17).bind fun v28 =>
      (pI A27 (some (P 1)) 7 17 (v28 + (1 : Int32))).bind fun A29 =>
      (gI A29 (some (P 1)) 7 21).bind fun v30 =>
      (pI A29 (some (P 1)) 7 21 (v30 + (1 : Int32))).bind fun A31 =>
      some A31) fun j26 =>
      if ((g23 = 0) ∨ (¬ ((v19 = (4 : Int32)) ∨ (v24 = v25)))) then (j26 A14) else
      jn (fun (y33 : Int32) =>
      (pI A14 (some (P 1)) 7 12 y33).bind fun A34 =>
      j26 A34) fun j32 =>
      if v19 = (4 : Int32) then (j32 (3 : Int32)) else
      j32 (2 : Int32)) else
      (fJ2_get v17 x13 A14).bind fun g39 =>
      (cst A14 g39 8).bind fun v40 =>
      (rcv A14 (some (P 1)) 7).bind fun v41 =>
      (fX7_issue n v41 g39 A14).bind fun g42 =>
      rc15 (x13 + (1 : Int32)) g42) n) fun j12 =>
      j12 (0 : Int32) A) (fun A' => ∃ V' E' ad' T', GX nC nS A' V' E' ad' (cycE (iter (unS (P 6) (P 7) Bk (P 9)) 0 (P 8) N)) P T' Bk b1 b2 n0 n1 n2 ∧ T' ≤ T + 256 ∧ (∀ c, c ≠ 12 → c ≠ 13 → c ≠ 14 → c ≠ 15 → ad' c = ad c) ∧ fr V' = fr V) := by
  have hs0 := g.2.1.1.2.2.2
  have hP8 := hs0.2.2.2.2.2.2.2.2.1.2.2.1
  have hP7 := hs0.2.2.2.2.2.2.2.2.1.2.1
  have hP6 := hs0.2.2.2.2.2.2.2.2.1.1
  have hP9 := hs0.2.2.2.2.2.2.2.2.1.2.2.2.1
  obtain ⟨s3, s4, s5, s6, ⟨q6, q7, q8, q9⟩, ⟨qb1, qb2⟩, qi1, qi2⟩ := sm
  have un := MI.unI (S := P 7) (L := P 6) (Bk := Bk) (G := P 9) (U := P 8) (B := B) (by omega) q7 hP7 hP6 q9 hP9 hP8 hm hl hs0.2.2.2.2.2.2.2.2.2.1.1
  have rd : ∀ A5 V5 E5 ad5 T5 Y, GX nC nS A5 V5 E5 ad5 Y P T5 Bk b1 b2 n0 n1 n2 → ∃ ul cap, gR A5 (some (P 1)) 7 8 = some (some ul) ∧ LI V5 ul 8 (lt V5 E5 7 8 (P 1)) cap ∧ fJ2_size ul A5 = some (nI (P 8)) ∧ gI A5 (some (P 1)) 7 12 = some (Y.1 11) := by
    intro A5 V5 E5 ad5 T5 Y g5
    have cp5 := g5.2.1.1
    have hs5 := cp5.2.2.2
    obtain ⟨ul, hxu, liu, _⟩ := cp5.2.2.1.li2 cp5.2.1 (c := 7) (k := 8) (e := 8) hs5.mm.2 rfl
    exact ⟨ul, _, (g5.1.gr 8 (c := 7) hs5.mm.2 (by decide) rfl).trans (congrArg some hxu), liu, (L_size g5.1 liu).trans (congrArg (fun z => some (nI z)) hs5.2.2.2.1.1), g5.getF 12 (by decide) rfl (by decide) rfl⟩
  refine jl_R (fun dd (gg : Int32 → AH → Option AH) => ∀ u A5 V5 E5 ad5 T5, u + dd = P 8 → GX nC nS A5 V5 E5 ad5 (iter (unS (P 6) (P 7) Bk (P 9)) 0 u N) P T5 Bk b1 b2 n0 n1 n2 → T5 ≤ T + 32 * u → ((∀ c, c ≠ 12 → c ≠ 13 → c ≠ 14 → c ≠ 15 → ad5 c = ad c) ∧ fr V5 = fr V) → Res (gg (nI u) A5) (fun A' => ∃ V' E' ad' T', GX nC nS A' V' E' ad' (cycE (iter (unS (P 6) (P 7) Bk (P 9)) 0 (P 8) N)) P T' Bk b1 b2 n0 n1 n2 ∧ T' ≤ T + 256 ∧ (∀ c, c ≠ 12 → c ≠ 13 → c ≠ 14 → c ≠ 15 → ad' c = ad c) ∧ fr V' = fr V)) (P 8) (show P 8 < n by omega) ?_ ?_ ?_
  · intro gg u A5 V5 E5 ad5 T5 hu g5 hT5 had
    have eu : u = P 8 := by omega
    subst eu
    obtain ⟨ul, cap, r1, r2, r3, r4⟩ := rd A5 V5 E5 ad5 T5 _ g5
    refine Res.b r1 (Res.b (g5.1.rc r2.1) (Res.b r3 (Res.b r4 ?_)))
    rw [if_pos (Or.inl (Int32.le_refl _))]
    refine Res.m (cyc_end g5 _ rfl) ?_
    rintro A' ⟨V', g', f'⟩
    exact ⟨V', E5, ad5, T5, g', by omega, had.1, f'.trans had.2⟩
  · intro dd gg hgg u A5 V5 E5 ad5 T5 hu g5 hT5 had
    obtain ⟨ul, cap, r1, r2, r3, r4⟩ := rd A5 V5 E5 ad5 T5 _ g5
    refine Res.b r1 (Res.b (g5.1.rc r2.1) (Res.b r3 (Res.b r4 ?_)))
    obtain ⟨i1, i2, i3⟩ := un u (by omega)
    by_cases c1 : (iter (unS (P 6) (P 7) Bk (P 9)) 0 u N).1 11 = 1
    · have es : iter (unS (P 6) (P 7) Bk (P 9)) 0 (u + 1) N = z_uL u (P 6) (P 7) Bk (P 9) 1 (P 7) (iter (unS (P 6) (P 7) Bk (P 9)) 0 u N) := by
        rw [iter_last, Nat.zero_add]
        exact if_pos c1
      rw [if_neg (fun z => z.elim (fun z => c_nle (by omega) (by omega) z) (fun z => z c1))]
      have hs5 := g5.2.1.1.2.2.2
      obtain ⟨uu, huu⟩ := lt_ge (l := lt V5 E5 7 8 (P 1)) (i := u) (by rw [hs5.2.2.2.1.1]; omega)
      have hu8 : ad5 8 u = some uu := by rw [← hs5.2.2.2.1.2.1 u]; exact huu
      have huk := hs5.kk hu8
      refine Res.b (L_get g5.1 r2 huu) (Res.b (g5.1.cs huk) (Res.b (g5.1.rc hs5.mm.2) ?_))
      generalize iter (unS (P 6) (P 7) Bk (P 9)) 0 u N = Y at *
      obtain ⟨l, hl1, hl2⟩ := i3 u (by omega)
      obtain ⟨p, hp, hp2⟩ := i1.p
      refine Res.w (e7_issue (n := n) (I := I) (p0 := p) hS hC g5 (by omega) hu8 hl2 hl1 q7 (by rw [i2.f 6]; exact s6) qi1 qi2 (by rw [i2.f 4]; exact s4) qb1 qb2 q9 q6 hp (fun s x1 _ _ x4 => i1.room hp hp2 x1 x4) (by omega) (okGo_of i1 (by omega) hP6 q9 hP9 hp hp2)) ?_
      rintro A6 ⟨V6, E6, ad6, T6, g6, ⟨t1, t2⟩, had6, hfr6⟩
      rw [nI_1]
      refine hgg (u + 1) A6 V6 E6 ad6 T6 (by omega) (by rw [es]; exact g6) (by omega) ⟨fun c a1 a2 a3 a4 => (had6 c a1 a2 a3 a4).trans (had.1 c a1 a2 a3 a4), hfr6.trans had.2⟩
    · rw [if_pos (Or.inr c1)]
      have e8 : iter (unS (P 6) (P 7) Bk (P 9)) 0 (P 8) N = iter (unS (P 6) (P 7) Bk (P 9)) 0 u N := by
        rw [← un_id c1 (P 8 - u), show u + (P 8 - u) = P 8 by omega]
      rw [e8]
      refine Res.m (cyc_end g5 _ rfl) ?_
      rintro A' ⟨V', g', f'⟩
      exact ⟨V', E5, ad5, T5, g', by omega, had.1, f'.trans had.2⟩
  · intro gg hgg
    exact hgg 0 A V E ad T (by omega) g (by omega) ⟨fun _ _ _ _ _ => rfl, rfl⟩
end E12
