/-! C53: a unit issues -/
/-- what the barrier will want, for any word that may go -/
def okGo (M : MS) (u L Bk G : Nat) : Prop := ∀ N s, s < 128 → s / 16 = u → frm [52, 53, 54, 55, 56, 57] [7, 26] M N → wrdP N → (N.1 52 = 0 ∨ N.1 52 = 1) → N.2.1 11 s ≤ N.1 15 → (∀ j, j < 32 → ¬ N.2.1 26 j = 0 → awk N s j) → ∀ d a b bk, N.2.1 9 s = nI bk → bk < 64 → okE (goMd N u s d a b bk L Bk G) u bk
section C53
variable {nC nS n : Nat} {A A' : AH} {V V' V'' : CW} {E E' : EL} {ad ad' : AA} {M M' : MS} {P : PP} {x T T' Bk b1 b2 n0 n1 n2 : Nat}
theorem take_n (M : MS) (w : Int64) : (z_take M w).1 52 = nI (wop w) ∧ (z_take M w).1 53 = nI (wdd w) ∧ (z_take M w).1 54 = nI (waa w) ∧ (z_take M w).1 55 = nI (wbb w) ∧ (z_take M w).1 56 = nI (wgg w) ∧ wop w < 256 ∧ wdd w < 16 ∧ waa w < 16 ∧ wbb w < 16 ∧ wgg w < 16 := ⟨rfl, rfl, rfl, rfl, rfl, Nat.mod_lt _ (by decide), Nat.mod_lt _ (by decide), Nat.mod_lt _ (by decide), Nat.mod_lt _ (by decide), Nat.mod_lt _ (by decide)⟩
theorem GX.mm (g : GX nC nS A V E ad M P T Bk b1 b2 n0 n1 n2) {ks js : List Nat} (h : frm ks js M M') (hk : ∀ k, k ∈ [1, 2, 4, 6, 11, 12, 13, 14, 21, 15, 16, 17, 18, 22, 23, 24, 25, 26, 19, 20, 41] → k ∉ ks) (hj : ∀ j, j < 25 → j ∉ js) : GX nC nS A V E ad M' P T Bk b1 b2 n0 n1 n2 := by
  refine g.iv g.1 IV.rf (g.2.1.1.1.frm' h (fun k hk' => hk k (by simp only [List.mem_cons, List.not_mem_nil, or_false] at hk' ⊢; omega)) (fun j hj' => hj j (by omega))) (fmH.frm h ⟨hk 1 (by decide), hk 13 (by decide), hk 2 (by decide), hk 41 (by decide)⟩ ⟨hj 9 (by omega), hj 10 (by omega), hj 19 (by omega), hj 20 (by omega), hj 21 (by omega), hj 22 (by omega), hj 23 (by omega), hj 24 (by omega)⟩)
theorem gr1_01 (M : MS) (s L : Nat) : nb (iter (grS M s) 0 L (0, 0)).1 = 0 ↔ (iter (grS M s) 0 L (0, 0)).1 = 0 := by
  rcases grS_P M s L with ⟨e, _⟩ | ⟨e, _⟩
  · rw [e]; exact ⟨fun _ => rfl, fun _ => rfl⟩
  · rw [e]; exact ⟨fun z => absurd z (by decide), fun z => absurd z (by decide)⟩
/-- the group's bits and the first of them -/
theorem grp_all (h : St nC nS A V) (cp : CP V E ad M P) {s w : Nat} (hw : ad 13 s = some w) (hn : 33 < n) : ∃ G, fX13_group n w A = some G ∧ (∀ j, j < 32 → (bt G j = true ↔ ¬ (grM M s (P 6)).2.1 26 j = 0)) ∧ (G = 0 ↔ (iter (grS M s) 0 (P 6) (0, 0)).1 = 0) ∧ (∀ j, j < 32 → ¬ (grM M s (P 6)).2.1 26 j = 0 → j < (lt V E 13 2 w).length ∧ awk M s j) ∧ (¬ G = 0 → fst1 (grM M s (P 6)) < 32 ∧ fJ16_numberOfTrailingZeros G A = some (nI (fst1 (grM M s (P 6)))) ∧ ¬ (grM M s (P 6)).2.1 26 (fst1 (grM M s (P 6))) = 0) := by
  have hs := cp.2.2.2
  have hwk := hs.kk hw
  have hlns := hs.lns cp.1 cp.2.2.1 hw
  have hP6 := hs.2.2.2.2.2.2.2.2.1.1
  obtain ⟨G, hG, y, hi⟩ := e13_group h hwk (cp.2.2.1.wl cp.2.1 hwk) hlns hn
  obtain ⟨p1, p2⟩ := gpI_grp hlns (fun j hj hl => ln_P6 cp hj hl) hP6 hi
  refine ⟨G, hG, p1, p2.trans (gr1_01 M s (P 6)), fun j hj h26 => ?_, fun hG0 => ?_⟩
  · have := (hi.1 j hj).mp ((p1 j hj).mpr h26)
    exact ⟨this.1, this.2.1⟩
  · obtain ⟨j, hj, hbj⟩ := bt_ne0 hG0
    obtain ⟨a1, a2, a3, a4⟩ := fstF_spec (grM M s (P 6)) 32 0 ⟨j, by omega, by omega, (p1 j hj).mp hbj⟩
    have a2 : fst1 (grM M s (P 6)) < 32 := by show fstF (grM M s (P 6)) 0 32 < 32; omega
    refine ⟨a2, e16_ntz A a2 ((p1 _ a2).mpr a3) (fun j' hj' => ?_), a3⟩
    cases hh : bt G j' with
    | false => rfl
    | true => exact absurd (a4 j' (by omega) hj') ((p1 j' (by omega)).mp hh)
theorem z_uL_s (u L S Bk G k d : Nat) (M : MS) : z_uL u L S Bk G k (d + 1) M = if (z_rdy M u (16 * u + slt M u S k) L).1 = true then z_goX (mA (z_rdy M u (16 * u + slt M u S k) L).2 7 u (nI (slt M u S k))) u (16 * u + slt M u S k) L Bk G else z_uL u L S Bk G (k + 1) d (z_rdy M u (16 * u + slt M u S k) L).2 := by
  rw [z_uL]
theorem okGo.fm {u L G : Nat} (h : okGo M u L Bk G) (hf : frm [52, 53, 54, 55, 56, 57] [7, 26] M M') : okGo M' u L Bk G := fun N s h1 h2 h3 => h N s h1 h2 (hf.tr h3)
/-- the unit takes note of the slot -/
theorem iss_note (g : GX nC nS A V E ad M P T Bk b1 b2 n0 n1 n2) {u uu q : Nat} (hu : ad 8 u = some uu) : ∃ A23 V23, pI A (some uu) 8 1 (nI q) = some A23 ∧ IV V V23 ∧ GX nC nS A23 V23 E ad (mA M 7 u (nI q)) P T Bk b1 b2 n0 n1 n2 := by
  have huk := g.2.1.1.2.2.2.kk hu
  obtain ⟨A23, e23, s23⟩ := g.1.pi 1 (nI q) (c := 8) huk (by decide) rfl
  have i23 : IV V (vI' V 801 uu 0 (nI q)) := IV.vI (Or.inl (by decide))
  have c23 : CX (vI' V 801 uu 0 (nI q)) ad (mA M 7 u (nI q)) := g.2.1.1.1.setA (d := 801) (k := u) (i := 0) g.2.1.1.2.2.2.1 _ (by decide) (by decide) hu
  exact ⟨A23, _, e23, i23, g.iv s23 i23 c23 (fmH.frm (ks := []) (js := [7]) (frm.rf.mA (by decide)) (by decide) (by decide))⟩
theorem f1m (N' : MS) (u q : Nat) : fst1 (mA N' 7 u (nI q)) = fst1 N' := fst1_eq (by rw [mA_a, if_neg (by decide)])
theorem trap_frm (M : MS) (s i : Nat) (k : Int32) : frm [11, 23, 24, 25, 26] [] M (z_trap M s i k) := by
  unfold z_trap
  exact ((((frm.rf.mI (by decide)).mI (by decide)).mI (by decide)).mI (by decide)).mI (by decide)
theorem iss_trap (g : GX nC nS A V E ad M P T Bk b1 b2 n0 n1 n2) {s w i lf : Nat} (hw : ad 13 s = some w) (hl2 : ad 14 (32 * s + i) = some lf) (hi : i < 32) (kind : Int32) : Res (fX7_trap (P 1) (some w) (nI i) kind A) (fun A' => ∃ V' E' ad' T', GX nC nS A' V' E' ad' (z_trap M s i kind) P T' Bk b1 b2 n0 n1 n2 ∧ (T ≤ T' ∧ T' ≤ T + 32) ∧ (∀ c, c ≠ 12 → c ≠ 13 → c ≠ 14 → c ≠ 15 → ad' c = ad c) ∧ fr V' = fr V) := by
  have cp := g.2.1.1
  refine Res.m (e7_trap g.1 cp.1 cp.2.1 cp.2.2.1 cp.2.2.2 hw hl2 hi kind) ?_
  rintro A4 ⟨V4, s4, i4, c4⟩
  exact ⟨V4, E, ad, T, g.iv s4 i4 c4 (fmH.frm (trap_frm M s i kind) (by decide) (by decide)), ⟨Nat.le_refl _, by omega⟩, fun _ _ _ _ _ => rfl, i4.ff⟩
theorem goX_eq {Ng Nt : MS} {s u q pl L G : Nat} (eNt2 : Nt = z_take Ng (Ng.2.2 pl)) (epl2 : pl = nN (plc Ng s)) (cP' : ¬ (plc Ng s < 0 ∨ ¬ plc Ng s < 128)) : z_goX (mA Nt 7 u (nI q)) u s L Bk G = if ¬ wrdP (z_take (mA Nt 7 u (nI q)) (Ng.2.2 pl)) then z_trap (z_take (mA Nt 7 u (nI q)) (Ng.2.2 pl)) s (fst1 Ng) 2 else z_go (z_take (mA Nt 7 u (nI q)) (Ng.2.2 pl)) u s (wdd (Ng.2.2 pl)) (waa (Ng.2.2 pl)) (wbb (Ng.2.2 pl)) (nN (Ng.2.1 9 s)) L Bk G := by
  have htf := take_frm Ng (Ng.2.2 pl)
  rw [← eNt2] at htf
  have fMm : frm [] [7] Nt (mA Nt 7 u (nI q)) := frm.rf.mA (by decide)
  have e9 : (mA Nt 7 u (nI q)).2.1 9 = Ng.2.1 9 := by rw [fMm.a 9, htf.a 9]
  have ef1 : fst1 (mA Nt 7 u (nI q)) = fst1 Ng := by rw [f1m]; exact fst1_eq (htf.a 26)
  generalize mA Nt 7 u (nI q) = Mm at *
  have epl3 : plc Mm s = plc Ng s := by
    unfold plc
    rw [ef1, fMm.a 15, htf.a 15]
  have ewd3 : wrd Mm s = Ng.2.2 pl := by
    unfold wrd
    rw [epl3, ← epl2, fMm.2.2, htf.2.2]
  unfold z_goX takM
  rw [epl3, if_neg cP', ewd3, ef1, e9]
set_option maxHeartbeats 4000000 in
theorem iss_go (hS : 10000 ≤ nS) (hC : 2 ≤ nC) {Ng Nt : MS} {s u w uu q pl x bk p0 I lf kl cap : Nat} {G : Int32} (gt : GX nC nS A V E ad Nt P T Bk b1 b2 n0 n1 n2) (hT : T + 32 < 2 ^ 30) (eNt2 : Nt = z_take Ng (Ng.2.2 pl)) (hw : ad 13 s = some w) (hu : ad 8 u = some uu) (hs128 : s < 128) (hsu : s / 16 = u) (p1 : ∀ j, j < 32 → (bt G j = true ↔ ¬ Ng.2.1 26 j = 0)) (p3 : ∀ j, j < 32 → ¬ Ng.2.1 26 j = 0 → j < (lt V E 13 2 w).length ∧ awk Ng s j) (f32 : fst1 Ng < 32) (hl2 : ad 14 (32 * s + fst1 Ng) = some lf) (epl : plc Ng s = nI pl) (epl2 : pl = nN (plc Ng s)) (cP' : ¬ (plc Ng s < 0 ∨ ¬ plc Ng s < 128)) (hxw : (lt V E 1 0 (P 0))[pl]? = some x) (lik : LI V kl 5 (lt V E 1 0 (P 0)) cap) (hx704 : xr V 704 (P 1) 0 = some kl) (hxt : WM V x Nt) (hrd : wrdP Nt → (Nt.1 52 = 0 ∨ Nt.1 52 = 1) → Nt.2.1 11 s ≤ Nt.1 15)
    (h6 : Ng.1 6 = nI I) (hI1 : 1 ≤ I) (hI2 : I ≤ 4096) (h4 : Ng.1 4 = nI Bk) (hB1 : 1 ≤ Bk) (hB2 : Bk ≤ 32) (hG9 : 1 ≤ P 9) (hP6 : 1 ≤ P 6) (hbk : Ng.2.1 9 s = nI bk) (hbk1 : bk < 64) (h41 : Ng.1 41 = nI p0) (hp0 : wrdP Nt → memP Nt ∧ ¬ shP Nt → p0 + 32 ≤ 4096) (hn : 10001 < n) (hGo : okGo Ng u (P 6) Bk (P 9)) :
    Res ((pI A (some uu) 8 1 (nI q)).bind fun A23 =>
      (gR A23 (some (P 1)) 7 4).bind fun v29 =>
      (rcv A23 v29 0).bind fun v30 =>
      (fJ2_get v30 (plc Ng s) A23).bind fun g31 =>
      (cst A23 g31 5).bind fun v32 =>
      (rcv A23 g31 5).bind fun v33 =>
      (fX5_isKnown v33 A23).bind fun g34 =>
      if g34 = 0 then ((rcv A23 (some (P 1)) 7).bind fun v36 =>
      (fX7_trap v36 (some w) (nI (fst1 Ng)) (2 : Int32) A23).bind fun g37 =>
      some g37) else
      (rcv A23 (some (P 1)) 7).bind fun v38 =>
      (fX7_go n v38 (some uu) (some w) G g31 A23).bind fun g39 =>
      some g39) (fun A' => ∃ V' E' ad' T', GX nC nS A' V' E' ad' (z_goX (mA Nt 7 u (nI q)) u s (P 6) Bk (P 9)) P T' Bk b1 b2 n0 n1 n2 ∧ (T ≤ T' ∧ T' ≤ T + 32) ∧ (∀ c, c ≠ 12 → c ≠ 13 → c ≠ 14 → c ≠ 15 → ad' c = ad c) ∧ fr V' = fr V) := by
  obtain ⟨A23, V23, e23, i23, g23⟩ := iss_note (q := q) gt hu
  refine Res.b e23 ?_
  rw [goX_eq eNt2 epl2 cP']
  have htf := take_frm Ng (Ng.2.2 pl)
  obtain ⟨t52, _, _, _, _, b52, b53, b54, b55, b56⟩ := take_n Ng (Ng.2.2 pl)
  have hxt' : WM V x (z_take Ng (Ng.2.2 pl)) := by rw [← eNt2]; exact hxt
  rw [← eNt2] at htf t52
  have fMm : frm [] [7] Nt (mA Nt 7 u (nI q)) := frm.rf.mA (by decide)
  generalize mA Nt 7 u (nI q) = Mm at *
  have f4m := take_frm Mm (Ng.2.2 pl)
  obtain ⟨u52, u53, u54, u55, u56, _⟩ := take_n Mm (Ng.2.2 pl)
  have hx4 : WM V23 x (z_take Mm (Ng.2.2 pl)) := (hxt'.io i23).fm (fun k h1 h2 => z_take_k _ _ _ k h1 h2)
  have e57 : (z_take Mm (Ng.2.2 pl)).1 57 = Nt.1 57 := by
    rw [eNt2]
    exact z_take_k Ng Mm _ 57 (by decide) (by decide)
  generalize z_take Mm (Ng.2.2 pl) = M4 at *
  have g4 := g23.mm f4m (by decide) (by decide)
  have hs23 := g23.2.1.1.2.2.2
  have lik23 := lik.iob i23.b
  have hx70423 : xr V23 704 (P 1) 0 = some kl := by rw [i23.2.1.1]; exact hx704
  have hmk := hs23.mm.2
  rw [epl]
  refine Res.b ((g23.1.gr 4 (c := 7) hmk (by decide) rfl).trans (congrArg some hx70423)) (Res.b (g23.1.rc lik23.1) (Res.b (L_get g23.1 lik23 hxw) (Res.b (g23.1.cs (c := 5) hx4.1) (Res.b (g23.1.rc (c := 5) hx4.1) (Res.b (e5_isKnown g4.1 hx4) ?_)))))
  have hs74 := srt7 (M := M4)
  by_cases cw : wrdP M4
  · rw [if_neg (by rw [b2i_0]; exact not_not_intro (fun z => hs74.mp z cw)), if_neg (not_not_intro cw)]
    have e9 : nN (Ng.2.1 9 s) = bk := by rw [hbk]; exact nN_nI (by omega)
    rw [e9]
    have fNM : frm [52, 53, 54, 55, 56, 57] [7, 26] Ng M4 := ((htf.up (by decide) (by decide)).tr (fMm.up (by decide) (by decide))).tr (f4m.up (by decide) (by decide))
    have e26 : M4.2.1 26 = Ng.2.1 26 := by rw [f4m.a 26, fMm.a 26, htf.a 26]
    have e94 : M4.2.1 9 s = nI bk := by rw [fNM.a 9]; exact hbk
    have e52 : M4.1 52 = Nt.1 52 := by rw [u52, t52]
    have cwt : wrdP Nt := by
      unfold wrdP at cw ⊢
      rw [← e52, ← e57]
      exact cw
    refine Res.b (g4.1.rc hmk) (Res.w (e7_go (I := I) (p0 := p0) hS hC g4 hT hx4 hw hu (fun j hj => by rw [e26]; exact p1 j hj) (fun j hj z => by
      rw [e26] at z
      rw [lt_io i23]
      exact (p3 j hj z).1) u52 b52 u53 u54 u55 u56 b53 b54 b55 b56 cw ((fNM.f 6).trans h6) hI1 hI2 ((fNM.f 4).trans h4) hB1 hB2 hG9 hP6 e94 hbk1 ((fNM.f 41).trans h41) (fun z => hp0 cwt (by rw [← (mem_fm (M := Nt) (M' := M4) e52).1, ← (mem_fm (M := Nt) (M' := M4) e52).2]; exact z)) hn (fun hop => ?_)) (fun A5 ⟨V5, E5, ad5, T5, x1, x2, x3, x4⟩ => Res.r ⟨V5, E5, ad5, T5, x1, x2, x3, x4.trans i23.ff⟩))
    have hop01 : M4.1 52 = 0 ∨ M4.1 52 = 1 := by
      have : wop (Ng.2.2 pl) = 0 ∨ wop (Ng.2.2 pl) = 1 := by omega
      rw [u52]
      rcases this with e | e <;> rw [e]
      · exact Or.inl rfl
      · exact Or.inr rfl
    refine hGo M4 s hs128 hsu fNM cw hop01 ?_ (fun j hj z => ?_) _ _ _ bk e94 hbk1
    · rw [f4m.a 11, fMm.a 11, f4m.f 15, fMm.1 15 List.not_mem_nil]
      exact hrd cwt (by rw [← e52]; exact hop01)
    · rw [e26] at z
      have hak := (p3 j hj z).2
      unfold awk at hak ⊢
      rw [fNM.a 16, fNM.a 17, lnI_m (M := Ng) (fNM.a 10) (fNM.f 1) (fNM.f 13)]
      exact hak
  · rw [if_pos (by rw [b2i_0]; exact fun z => z (hs74.mpr cw)), if_pos cw]
    exact Res.b (g4.1.rc hmk) (Res.w (iss_trap g4 hw hl2 f32 2) (fun A5 ⟨V5, E5, ad5, T5, x1, x2, x3, x4⟩ => Res.r ⟨V5, E5, ad5, T5, x1, x2, x3, x4.trans i23.ff⟩))
end C53
