/-! C36: a lane asks: the heap takes it -/
section C36
variable {nC nS n : Nat} {A : AH} {V V' : CW} {E : EL} {ad : AA} {M : MS} {P : PP} {x : Nat}
theorem WT.li2 (h : WT V E) (hg : GL V E) {a c k e : Nat} (ha : kdV V a = c + 1) (hl : lof c k = e + 1) : ∃ ll, xr V (100 * c + k) a 0 = some ll ∧ LI V ll e (lt V E c k a) (cpL V E c k a) ∧ E.1 ll = e ∧ lt V E c k a = E.2.1 ll ∧ cpL V E c k a = E.2.2 ll := by
  obtain ⟨ll, h1, h2, h3⟩ := h.2.1 a c k ha (by omega)
  have := hg ll h2
  have e1 : E.1 ll = e := by omega
  have el : lt V E c k a = E.2.1 ll := by unfold lt; rw [h1]; rfl
  have ec : cpL V E c k a = E.2.2 ll := by unfold cpL; rw [h1]; rfl
  refine ⟨ll, h1, ?_, e1, el, ec⟩
  rw [el, ec]
  rw [e1] at this
  exact this
theorem glob_op {o : Nat} (ho : M.1 52 = nI o) (ho2 : o < 256) (hm : memP M ∧ ¬ shP M) : o < 64 ∧ (wrD M ↔ ¬ o = 51) := by
  have hle : ∀ a b, a < 2 ^ 31 → b < 2 ^ 31 → (nI a ≤ nI b ↔ a ≤ b) := fun a b h1 h2 => ⟨fun z => Classical.byContradiction fun hn => c_nle (by omega) h1 z, fun z => c_le z h2⟩
  have hlt : ∀ a b, a < 2 ^ 31 → b < 2 ^ 31 → (nI a < nI b ↔ a < b) := fun a b h1 h2 => ⟨fun z => Classical.byContradiction fun hn => absurd z (Int32.not_lt.mpr (c_le (by omega) h1)), fun z => nI_lt z h2⟩
  have h50 : M.1 52 < 50 ↔ o < 50 := by rw [ho]; exact hlt o 50 (by omega) (by omega)
  have h59 : 59 < M.1 52 ↔ 59 < o := by rw [ho]; exact hlt 59 o (by omega) (by omega)
  have heq : ∀ k, k < 256 → (M.1 52 = nI k ↔ o = k) := fun k hk => by rw [ho]; exact nI_eq (by omega) (by omega)
  have e52 : M.1 52 = 52 ↔ o = 52 := heq 52 (by omega)
  have e53 : M.1 52 = 53 ↔ o = 53 := heq 53 (by omega)
  have e58 : M.1 52 = 58 ↔ o = 58 := heq 58 (by omega)
  have e59 : M.1 52 = 59 ↔ o = 59 := heq 59 (by omega)
  obtain ⟨m1, m2⟩ := hm
  unfold memP at m1
  unfold shP at m2
  rw [h50, h59] at m1
  rw [e52, e53, e58, e59] at m2
  have : o = 50 ∨ o = 51 ∨ o = 54 ∨ o = 55 ∨ o = 56 ∨ o = 57 := by omega
  refine ⟨by omega, ?_⟩
  rcases this with e | e | e | e | e | e <;> (subst e; unfold wrD; rw [ho]; decide)
set_option maxHeartbeats 4000000 in
theorem e7_ask {nC0 nS0 T : Nat} (hS0 : 10000 ≤ nS0) (hC0 : 2 ≤ nC0) (h : St (nC0 + rqC V E P) (nS0 + rqS V E P) A V) (cp : CP V E ad M P) (hp : HP V E ad M P T) (hT : T + 1 < 2 ^ 30) (hx : WM V x M) {s w i l d a b p bk q op : Nat} (hw : ad 13 s = some w) (hl' : ad 14 (32 * s + i) = some l) (hi : i < 32) (h53 : M.1 53 = nI d) (h54 : M.1 54 = nI a) (h55 : M.1 55 = nI b) (hd : d < 16) (ha : a < 16) (hb : b < 16) (hop : M.1 52 = nI op) (hop2 : op < 256) (hm : memP M ∧ ¬ shP M) (hbk : M.2.1 9 s = nI bk) (hbk2 : bk < 64) (hq : askV M s a i = nI q) (hq2 : q < 4096) (h41 : M.1 41 = nI p) (hp2 : p < 4096) (h454 : xi V 454 (P 4) (q / 8) = M.2.1 25 i) (hn : 10000 < n) :
    Res (fX7_ask n (P 1) (some l) (some x) A) (fun A' => ∃ V' E' ad', St (nC0 + rqC V' E' P) (nS0 + rqS V' E' P) A' V' ∧ CP V' E' ad' (z_ask M s i p bk (askV M s a i) (rgV M (32 * s + i) b) (rgV M (32 * s + i) d)) P ∧ HP V' E' ad' (z_ask M s i p bk (askV M s a i) (rgV M (32 * s + i) b) (rgV M (32 * s + i) d)) P (T + 1) ∧ (∀ c, c ≠ 15 → ad' c = ad c) ∧ HS V E V' E' P) := by
  obtain ⟨ho64, hwr⟩ := glob_op hop hop2 hm
  have hs := cp.2.2.2
  have hP3 : kdV V (P 3) = 4 := hs.kk hs.2.2.1.1.2.2.2.1
  have hP4 : kdV V (P 4) = 5 := hs.kk hs.2.2.1.1.2.2.2.2.1
  have hmk := hs.mm.2
  have hlk := hs.kk hl'
  have hs128 := hs.s128 hw
  obtain ⟨hl, hx0, li0, ek0, el0, ec0⟩ := cp.2.2.1.li2 cp.2.1 (c := 3) (k := 0) (e := 15) hP3 rfl
  obtain ⟨sl, hx1, li1, ek1, el1, ec1⟩ := cp.2.2.1.li2 cp.2.1 (c := 3) (k := 1) (e := 15) hP3 rfl
  have hLL : LL V P hl sl := ⟨hx0, hx1, li0.1, li1.1⟩
  have hL := hLL.2.2
  have hhs : hl ≠ sl := fun z => by
    have := (cp.2.2.1.2.2 (P 3) 3 0 (P 3) 3 1 hl hP3 hP3 (by decide) (by decide) hx0 (by rw [z]; exact hx1)).2.2
    omega
  obtain ⟨⟨p', hp1, hp2', hp3⟩, hAK, ⟨hT1, hT2, tn, htn1, htn2⟩, ⟨hinj, hmem, hord⟩, ⟨sinj, smem⟩, ⟨hsum, hc1, hc2⟩⟩ := hp
  generalize eHL : lt V E 3 0 (P 3) = HL at *
  generalize eSP : lt V E 3 1 (P 3) = SPL at *
  generalize eC : cpL V E 3 0 (P 3) = cap at *
  generalize eC2 : cpL V E 3 1 (P 3) = cap2 at *
  have hpp : p' = p := (nI_eq (by omega) (by omega)).mp (hp1.symm.trans h41)
  subst hpp
  have eH : rqH V E P = 4096 - (HL.length + SPL.length) := by unfold rqH; rw [eHL, eSP]
  have eRC : rqC V E P = rqH V E P + (6200 - cap) + (6200 - cap2) := by unfold rqC; rw [eC, eC2]
  have eRS : rqS V E P = 9 * rqH V E P + 4 * (6200 - cap) + 4 * (6200 - cap2) := by unfold rqS; rw [eC, eC2]
  obtain ⟨nC1, hC1⟩ : ∃ k, nC0 + rqC V E P = k + 1 := ⟨nC0 + rqC V E P - 1, by omega⟩
  obtain ⟨nS1, hS1⟩ : ∃ k, nS0 + rqS V E P = k + 9 := ⟨nS0 + rqS V E P - 9, by omega⟩
  rw [hC1, hS1] at h
  obtain ⟨yr, yr1, yr2, yr3⟩ := cp.2.2.1.1 l 14 0 hlk (by decide)
  obtain ⟨yt, yt1, yt2, yt3⟩ := cp.2.2.1.1 (P 4) 4 4 hP4 (by decide)
  have lns := hs.ln cp.1 cp.2.2.1 hl'
  unfold fX7_ask
  refine Res.b ((h.gr 7 (c := 7) hmk (by decide) rfl).trans (congrArg some hs.2.2.1.2.2.2.2.2.2.2.2.1)) (Res.b (h.rc hP3) (Res.w (e3_fresh nC1 nS1 h hP3 hx1 hhs li0 li1 sinj) ?_))
  rintro ⟨r3, A3⟩ ⟨ak, V3, sp1, er3, s3, vg3, hak, li03, li13, hsl, hsp, hakO, hrow, h302⟩
  have er3 : r3 = some ak := er3
  subst er3
  obtain ⟨nC2, nS2, s3, hb2⟩ : ∃ nC2 nS2, St nC2 nS2 A3 V3 ∧ ((SPL.length = 0 ∧ nC2 = nC1 ∧ nS2 = nS1) ∨ (SPL.length ≠ 0 ∧ nC2 = nC1 + 1 ∧ nS2 = nS1 + 9)) := by
    by_cases c : SPL.length = 0
    · rw [if_pos c] at s3
      exact ⟨_, _, s3, Or.inl ⟨c, rfl, rfl⟩⟩
    · rw [if_neg c] at s3
      exact ⟨_, _, s3, Or.inr ⟨c, rfl, rfl⟩⟩
  have hx3 : WM V3 x M := hx.vg vg3 hL
  -- the address
  have had : fX7_address (some l) (some x) A3 = some (nI q) := by
    unfold fX7_address
    refine ob ((vg3.gr hL s3 0 (c := 14) hlk (by decide) (by decide) (by decide) rfl).trans (congrArg some yr1)) (ob ((wg2 s3 hx3).trans (congrArg some h54)) (ob (vg3.ai hL s3 a (c := 14) (k := 0) hlk (by decide) (by decide) rfl yr1 yr2 yr3 ha (by omega) (by decide)) (ob (wg5 s3 hx3) ?_)))
    rw [show xi V (100 * 14 + 0 + 50) l a = rgV M (32 * s + i) a from lns.2.2.2.1 a ha]
    exact congrArg some hq
  refine Res.b had ?_
  obtain ⟨A5, e5, s5⟩ := s3.pi 3 (nI q) (c := 15) hak (by decide) rfl
  refine Res.b e5 ?_
  have vg5 : VG hl sl V (vI' V3 1503 ak 0 (nI q)) := vg3.tr (VG.vI (Or.inl hak))
  have s5 : St nC2 nS2 A5 (vI' V3 1503 ak 0 (nI q)) := s5
  refine Res.b ((vg5.gr hL s5 10 (c := 7) hmk (by decide) (by decide) (by decide) rfl).trans (congrArg some hs.2.2.1.2.2.2.2.2.2.2.2.2.2.1)) (Res.b ((vg5.gr hL s5 4 (c := 4) hP4 (by decide) (by decide) (by decide) rfl).trans (congrArg some yt1)) ?_)
  have r1503 : xi (vI' V3 1503 ak 0 (nI q)) 1503 ak 0 = nI q := by rw [vIi, if_pos ⟨rfl, rfl, rfl⟩]
  refine Res.b ((s5.gi 3 (c := 15) hak (by decide) rfl).trans (congrArg some r1503)) ?_
  rw [show nI q / 8 = nI (q / 8) from pk_div (d := 8) (by omega) (by omega) (by omega)]
  refine Res.b ((vg5.ai hL s5 (q / 8) (c := 4) (k := 4) hP4 (by decide) (by decide) rfl yt1 yt2 yt3 (by show q / 8 < 512; omega) (by omega) (by decide)).trans (congrArg some h454)) ?_
  obtain ⟨A10, e10, s10⟩ := s5.pi 0 (M.2.1 25 i) (c := 15) hak (by decide) rfl
  refine Res.b e10 ?_
  have vg10 : VG hl sl V (vI' (vI' V3 1503 ak 0 (nI q)) 1500 ak 0 (M.2.1 25 i)) := vg5.tr (VG.vI (Or.inl hak))
  have s10 : St nC2 nS2 A10 (vI' (vI' V3 1503 ak 0 (nI q)) 1500 ak 0 (M.2.1 25 i)) := s10
  refine Res.b (wg0 s10 (hx.vg vg10 hL)) ?_
  obtain ⟨A12, e12, s12⟩ := s10.pi 2 (M.1 52) (c := 15) hak (by decide) rfl
  refine Res.b e12 ?_
  have vg12 := vg10.tr (VG.vI (d := 1502) (i := 0) (v := M.1 52) (a := ak) (Or.inl hak))
  refine Res.b ((vg12.gr hL s12 0 (c := 14) hlk (by decide) (by decide) (by decide) rfl).trans (congrArg some yr1)) (Res.b ((wg3 s12 (hx.vg vg12 hL)).trans (congrArg some h55)) (Res.b ((vg12.ai hL s12 b (c := 14) (k := 0) hlk (by decide) (by decide) rfl yr1 yr2 yr3 hb (by omega) (by decide)).trans (congrArg some (show xi V (100 * 14 + 0 + 50) l b = rgV M (32 * s + i) b from lns.2.2.2.1 b hb))) ?_))
  obtain ⟨A16, e16, s16⟩ := s12.pi 4 (rgV M (32 * s + i) b) (c := 15) hak (by decide) rfl
  refine Res.b e16 ?_
  have vg16 := vg12.tr (VG.vI (d := 1504) (i := 0) (v := rgV M (32 * s + i) b) (a := ak) (Or.inl hak))
  refine Res.b ((vg16.gr hL s16 0 (c := 14) hlk (by decide) (by decide) (by decide) rfl).trans (congrArg some yr1)) (Res.b ((wg1 s16 (hx.vg vg16 hL)).trans (congrArg some h53)) (Res.b ((vg16.ai hL s16 d (c := 14) (k := 0) hlk (by decide) (by decide) rfl yr1 yr2 yr3 hd (by omega) (by decide)).trans (congrArg some (show xi V (100 * 14 + 0 + 50) l d = rgV M (32 * s + i) d from lns.2.2.2.1 d hd))) ?_))
  obtain ⟨A20, e20, s20⟩ := s16.pi 5 (rgV M (32 * s + i) d) (c := 15) hak (by decide) rfl
  refine Res.b e20 ?_
  have vg20 := vg16.tr (VG.vI (d := 1505) (i := 0) (v := rgV M (32 * s + i) d) (a := ak) (Or.inl hak))
  refine Res.b ((wg1 s20 (hx.vg vg20 hL)).trans (congrArg some h53)) ?_
  obtain ⟨A22, e22, s22⟩ := s20.pi 6 (nI d) (c := 15) hak (by decide) rfl
  refine Res.b e22 ?_
  have vg22 := vg20.tr (VG.vI (d := 1506) (i := 0) (v := nI d) (a := ak) (Or.inl hak))
  have hx22 := hx.vg vg22 hL
  refine Res.b (s22.rc (c := 5) hx22.1) (Res.b (e5_writes s22 hx22) ?_)
  -- the rows of the ask, by now
  obtain ⟨V22, eV22⟩ : ∃ V22, V22 = vI' (vI' (vI' (vI' (vI' (vI' V3 1503 ak 0 (nI q)) 1500 ak 0 (M.2.1 25 i)) 1502 ak 0 (M.1 52)) 1504 ak 0 (rgV M (32 * s + i) b)) 1505 ak 0 (rgV M (32 * s + i) d)) 1506 ak 0 (nI d) := ⟨_, rfl⟩
  have s22 : St nC2 nS2 A22 V22 := by rw [eV22]; exact s22
  have vg22 : VG hl sl V V22 := by rw [eV22]; exact vg22
  have hk22 : kdV V22 ak = 16 := by rw [eV22]; exact hak
  have rows22 : xi V22 1500 ak 0 = M.2.1 25 i ∧ xi V22 1502 ak 0 = M.1 52 ∧ xi V22 1503 ak 0 = nI q ∧ xi V22 1504 ak 0 = rgV M (32 * s + i) b ∧ xi V22 1505 ak 0 = rgV M (32 * s + i) d ∧ xi V22 1506 ak 0 = nI d := by
    rw [eV22]
    simp only [vIi]
    refine ⟨?_, ?_, ?_, ?_, ?_, ?_⟩ <;> simp
  have oth22 : ∀ bq, bq ≠ ak → ∀ dd, xi V22 dd bq = xi V3 dd bq ∧ xr V22 dd bq = xr V3 dd bq := by
    intro bq hbq dd
    rw [eV22]
    refine ⟨?_, rfl⟩
    funext j
    simp only [vIi, hbq, false_and, and_false, if_false]
  have li022 : LI V22 hl 15 HL cap := by
    rw [eV22]
    exact (((((li03.vIo (by decide)).vIo (by decide)).vIo (by decide)).vIo (by decide)).vIo (by decide)).vIo (by decide)
  have li122 : LI V22 sl 15 sp1 cap2 := by
    rw [eV22]
    exact (((((li13.vIo (by decide)).vIo (by decide)).vIo (by decide)).vIo (by decide)).vIo (by decide)).vIo (by decide)
  clear eV22
  have hakHL : ∀ j : Nat, HL[j]? ≠ some ak := by
    intro j hj
    rcases hakO with ⟨j', hj'⟩ | hz
    · obtain ⟨k, hk⟩ := (hmem ak).mp ⟨j, hj⟩
      exact smem j' ak hj' k hk
    · have := li0.kd hj
      rw [hz] at this
      cases this
  have hakad : ∀ k, ad 15 k ≠ some ak := by
    intro k hk
    obtain ⟨j, hj⟩ := (hmem ak).mpr ⟨k, hk⟩
    exact hakHL j hj
  rw [jn_eq]
  have fin : ∀ yl : Option Nat, (if op = 51 then yl = none else yl = some l) → Res ((pR A22 (some ak) 15 8 yl).bind fun A27 => (gI A27 (some l) 14 5).bind fun v28 => (pI A27 (some ak) 15 7 v28).bind fun A29 => (gR A29 (some (P 1)) 7 7).bind fun v30 => (rcv A29 v30 3).bind fun v31 => (fX3_add n v31 (some ak) A29).bind fun g32 => some g32) (fun A' => ∃ V' E' ad', St (nC0 + rqC V' E' P) (nS0 + rqS V' E' P) A' V' ∧ CP V' E' ad' (z_ask M s i p' bk (askV M s a i) (rgV M (32 * s + i) b) (rgV M (32 * s + i) d)) P ∧ HP V' E' ad' (z_ask M s i p' bk (askV M s a i) (rgV M (32 * s + i) b) (rgV M (32 * s + i) d)) P (T + 1) ∧ (∀ c, c ≠ 15 → ad' c = ad c) ∧ HS V E V' E' P) := by
    intro yl hyl
    obtain ⟨A27, e27, s27⟩ := s22.pr 8 yl (c := 15) hk22 (by decide) rfl rfl
    have vg27 : VG hl sl V (vR' V22 1508 ak 0 yl) := vg22.tr (VG.vR hk22)
    have s27 : St nC2 nS2 A27 (vR' V22 1508 ak 0 yl) := s27
    refine Res.b e27 (Res.b (vg27.gi hL s27 5 (c := 14) hlk (by decide) (by decide) (by decide) rfl (by decide)) ?_)
    obtain ⟨A29, e29, s29⟩ := s27.pi 7 (xi V 1405 l 0) (c := 15) hk22 (by decide) rfl
    have vg29 : VG hl sl V (vI' (vR' V22 1508 ak 0 yl) 1507 ak 0 (xi V 1405 l 0)) := vg27.tr (VG.vI (Or.inl hk22))
    have s29 : St nC2 nS2 A29 (vI' (vR' V22 1508 ak 0 yl) 1507 ak 0 (xi V 1405 l 0)) := s29
    have li029 : LI (vI' (vR' V22 1508 ak 0 yl) 1507 ak 0 (xi V 1405 l 0)) hl 15 HL cap := (li022.vRo (by decide)).vIo (by decide)
    have li129 : LI (vI' (vR' V22 1508 ak 0 yl) 1507 ak 0 (xi V 1405 l 0)) sl 15 sp1 cap2 := (li122.vRo (by decide)).vIo (by decide)
    have rows29 : ∀ dd, dd ≠ 1507 → xi (vI' (vR' V22 1508 ak 0 yl) 1507 ak 0 (xi V 1405 l 0)) dd = xi V22 dd := fun dd hdd => by
      funext bq j
      rw [vIi, if_neg (fun z => hdd z.1)]
      rfl
    have r1507 : xi (vI' (vR' V22 1508 ak 0 yl) 1507 ak 0 (xi V 1405 l 0)) 1507 ak 0 = xi V 1405 l 0 := by rw [vIi, if_pos ⟨rfl, rfl, rfl⟩]
    have r1508 : xr (vI' (vR' V22 1508 ak 0 yl) 1507 ak 0 (xi V 1405 l 0)) 1508 ak 0 = yl := by
      show xr (vR' V22 1508 ak 0 yl) 1508 ak 0 = yl
      rw [vRr, if_pos ⟨rfl, rfl, rfl⟩]
    have oth29 : ∀ bq, bq ≠ ak → ∀ dd, xi (vI' (vR' V22 1508 ak 0 yl) 1507 ak 0 (xi V 1405 l 0)) dd bq = xi V3 dd bq ∧ xr (vI' (vR' V22 1508 ak 0 yl) 1507 ak 0 (xi V 1405 l 0)) dd bq = xr V3 dd bq := by
      intro bq hbq dd
      obtain ⟨o1, o2⟩ := oth22 bq hbq dd
      refine ⟨?_, ?_⟩
      · rw [← o1]
        funext j
        rw [vIi, if_neg (fun z => hbq z.2.1)]
        rfl
      · rw [← o2]
        funext j
        show xr (vR' V22 1508 ak 0 yl) dd bq j = _
        rw [vRr, if_neg (fun z => hbq z.2.1)]
    obtain ⟨V29, eV29⟩ : ∃ V29, V29 = vI' (vR' V22 1508 ak 0 yl) 1507 ak 0 (xi V 1405 l 0) := ⟨_, rfl⟩
    have hk29 : kdV V29 ak = 16 := by rw [eV29]; exact hk22
    rw [← eV29] at s29 vg29 li029 li129 rows29 r1507 r1508 oth29
    clear eV29
    refine Res.b e29 (Res.b ((vg29.gr hL s29 7 (c := 7) hmk (by decide) (by decide) (by decide) rfl).trans (congrArg some hs.2.2.1.2.2.2.2.2.2.2.2.1)) ?_)
    have hP329 : kdV V29 (P 3) = 4 := (vg29.o hL (c := 3) hP3 (by decide) (by decide)).1
    refine Res.b (s29.rc hP329) ?_
    have hakP : ak ≠ P 3 := fun z => by rw [z, hP329] at hk29; cases hk29
    have hx029 : xr V29 300 (P 3) 0 = some hl := (hLL.vg vg29 hP3).1
    have h302' : xi V29 302 (P 3) 0 = nI T := by
      rw [(oth29 (P 3) hakP.symm 302).1, h302]
      exact hT1
    have hnc : ncap cap ≤ 9310 := by
      unfold ncap
      split
      · omega
      · split <;> omega
    have hnfull : HL.length = cap → ncap cap ≤ 9000 := fun z => by
      have := (ncap_b (cap := cap) (by omega)).2.1
      omega
    have hold : ∀ bq, kdV V bq = 16 → bq ≠ ak → (∀ dd, xi V29 dd bq = xi V dd bq) ∧ ∀ dd, xr V29 dd bq = xr V dd bq := fun bq hbq hne => ⟨fun dd => by rw [(oth29 bq hne dd).1, (hrow bq hbq).2.2.1 dd], fun dd => by rw [(oth29 bq hne dd).2, (hrow bq hbq).2.2.2 dd]⟩
    have hord29 : HO (fT V29) (gU V29) HL := hord.c (fun j y hj => by
      have hyk := li0.kd hj
      have hyn : y ≠ ak := fun z => hakHL j (by rw [hj, z])
      obtain ⟨o1, _⟩ := hold y hyk hyn
      exact ⟨by show xi V29 1500 y 0 = _; rw [o1], by show xi V29 1501 y 0 = _; rw [o1]⟩)
    obtain ⟨nC3, hC3⟩ : ∃ k, nC2 = k + 1 := ⟨nC2 - 1, by omega⟩
    obtain ⟨nS3, hS3⟩ : ∃ k, nS2 = k + ncap cap := ⟨nS2 - ncap cap, by omega⟩
    rw [hC3, hS3] at s29
    refine Res.w (e3_add nC3 nS3 s29 hP329 hx029 li029 hk29 hnfull hord29 hakHL hn) ?_
    rintro A' ⟨V', l', s', f', li', sm', ho'⟩
    rw [h302'] at f'
    -- budgets
    obtain ⟨cap', ecap', s'', hb3⟩ : ∃ cap', (if HL.length = cap then ncap cap else cap) = cap' ∧ (∃ nC4 nS4, St nC4 nS4 A' V' ∧ ((HL.length = cap ∧ cap' = ncap cap ∧ nC4 = nC3 ∧ nS4 = nS3) ∨ (cap' = cap ∧ nC4 = nC3 + 1 ∧ nS4 = nS3 + ncap cap))) ∧ True := by
      by_cases c : HL.length = cap
      · rw [if_pos c] at s'
        exact ⟨ncap cap, if_pos c, ⟨_, _, s', Or.inl ⟨c, rfl, rfl, rfl⟩⟩, trivial⟩
      · rw [if_neg c] at s'
        exact ⟨cap, if_neg c, ⟨_, _, s', Or.inr ⟨rfl, rfl, rfl⟩⟩, trivial⟩
    obtain ⟨nC4, nS4, s'', hb3⟩ := s''
    rw [ecap'] at li'
    have vg' : VG hl sl V V' := ((vg29.tr (VG.vI (Or.inl hk29))).tr (VG.vI (Or.inr rfl))).tr (VG.lf f')
    have lis : LI V' sl 15 sp1 cap2 := ((li129.vIo (by decide)).vIo (by decide)).vf (S := fun z => z = hl) (f'.vf rfl) (fun z => hhs z.symm)
    have hLL' := hLL.vg vg' hP3
    have hE : ∀ z, z ≠ hl → z ≠ sl → (fun z => if z = hl then l' else if z = sl then sp1 else E.2.1 z) z = E.2.1 z ∧ (fun z => if z = hl then cap' else E.2.2 z) z = E.2.2 z := fun z h1 h2 => ⟨by simp only [h1, h2, if_false], by simp only [h1, if_false]⟩
    have cp' := cp.vg (E' := (E.1, fun z => if z = hl then l' else if z = sl then sp1 else E.2.1 z, fun z => if z = hl then cap' else E.2.2 z)) vg' hLL rfl hE (by
      show LI V' hl (E.1 hl) (if hl = hl then l' else _) (if hl = hl then cap' else _)
      rw [if_pos rfl, if_pos rfl, ek0]
      exact li') (by
      show LI V' sl (E.1 sl) (if sl = hl then l' else if sl = sl then sp1 else _) (if sl = hl then cap' else E.2.2 sl)
      rw [if_neg (fun z => hhs z.symm), if_pos rfl, if_neg (fun z => hhs z.symm), ek1, ← ec1]
      exact lis)
    obtain ⟨E', eE'⟩ : ∃ E' : EL, E' = (E.1, fun z => if z = hl then l' else if z = sl then sp1 else E.2.1 z, fun z => if z = hl then cap' else E.2.2 z) := ⟨_, rfl⟩
    rw [← eE'] at cp'
    have eL0 : lt V' E' 3 0 (P 3) = l' := by
      unfold lt
      rw [hLL'.1, eE']
      exact if_pos rfl
    have eL1 : lt V' E' 3 1 (P 3) = sp1 := by
      unfold lt
      rw [hLL'.2.1, eE']
      show (if sl = hl then l' else if sl = sl then sp1 else _) = _
      rw [if_neg (fun z => hhs z.symm), if_pos rfl]
    have eK0 : cpL V' E' 3 0 (P 3) = cap' := by
      unfold cpL
      rw [hLL'.1, eE']
      exact if_pos rfl
    have eK1 : cpL V' E' 3 1 (P 3) = cap2 := by
      unfold cpL
      rw [hLL'.2.1, eE']
      show (if sl = hl then cap' else E.2.2 sl) = _
      rw [if_neg (fun z => hhs z.symm), ← ec1]
    have hll' : l'.length = p' + 1 := by
      rw [sm'.1, List.length_append, hp2']
      rfl
    have hcapc : cap' ≤ 6200 := by
      rcases hb3 with ⟨z1, z2, _⟩ | ⟨z1, _⟩
      · have := (ncap_b (cap := cap) (by omega)).2.1
        omega
      · omega
    -- rows after
    have row' : ∀ bq, kdV V29 bq ≠ 0 → bq ≠ hl → bq ≠ P 3 → (∀ dd, dd ≠ 1501 → xi V' dd bq = xi V29 dd bq) ∧ (∀ dd, xr V' dd bq = xr V29 dd bq) := by
      intro bq _ h1 h2
      refine ⟨fun dd hdd => ?_, fun dd => ?_⟩
      · rw [(f'.2.1 bq h1 dd).1]
        funext j
        rw [vIi, if_neg (fun z => h2 z.2.1), vIi, if_neg (fun z => hdd z.1)]
      · rw [(f'.2.1 bq h1 dd).2.1]
        rfl
    have hakhl : ak ≠ hl := fun z => by rw [z, li029.1] at hk29; cases hk29
    have u' : ∀ bq, bq ≠ hl → bq ≠ P 3 → xi V' 1501 bq 0 = if bq = ak then nI T else xi V29 1501 bq 0 := by
      intro bq h1 h2
      rw [(f'.2.1 bq h1 1501).1, vIi, if_neg (fun z => absurd z.1 (by decide)), vIi]
      by_cases e : bq = ak
      · rw [if_pos ⟨rfl, e, rfl⟩, if_pos e]
      · rw [if_neg (fun z => e z.2.1), if_neg e]
    have hT' : xi V' 302 (P 3) 0 = nI (T + 1) := by
      have hn' : P 3 ≠ hl := fun z => by rw [z, li0.1] at hP3; cases hP3
      rw [(f'.2.1 (P 3) hn' 302).1, vIi, if_pos ⟨rfl, rfl, rfl⟩, nI_1]
    have hfr := askfrm M s i p' bk (askV M s a i) (rgV M (32 * s + i) b) (rgV M (32 * s + i) d)
    have zr : ∀ k, k ≠ p' → (z_ask M s i p' bk (askV M s a i) (rgV M (32 * s + i) b) (rgV M (32 * s + i) d)).2.1 19 k = M.2.1 19 k ∧ (z_ask M s i p' bk (askV M s a i) (rgV M (32 * s + i) b) (rgV M (32 * s + i) d)).2.1 20 k = M.2.1 20 k ∧ (z_ask M s i p' bk (askV M s a i) (rgV M (32 * s + i) b) (rgV M (32 * s + i) d)).2.1 21 k = M.2.1 21 k ∧ (z_ask M s i p' bk (askV M s a i) (rgV M (32 * s + i) b) (rgV M (32 * s + i) d)).2.1 22 k = M.2.1 22 k ∧ (z_ask M s i p' bk (askV M s a i) (rgV M (32 * s + i) b) (rgV M (32 * s + i) d)).2.1 23 k = M.2.1 23 k ∧ (z_ask M s i p' bk (askV M s a i) (rgV M (32 * s + i) b) (rgV M (32 * s + i) d)).2.1 24 k = M.2.1 24 k := fun k hk => ⟨if_neg hk, if_neg hk, if_neg hk, if_neg hk, if_neg hk, if_neg hk⟩
    have za : (z_ask M s i p' bk (askV M s a i) (rgV M (32 * s + i) b) (rgV M (32 * s + i) d)).2.1 19 p' = M.2.1 25 i ∧ (z_ask M s i p' bk (askV M s a i) (rgV M (32 * s + i) b) (rgV M (32 * s + i) d)).2.1 20 p' = nI (32 * (128 * bk + s) + i) ∧ (z_ask M s i p' bk (askV M s a i) (rgV M (32 * s + i) b) (rgV M (32 * s + i) d)).2.1 21 p' = (16 : Int32) * M.1 52 + M.1 53 ∧ (z_ask M s i p' bk (askV M s a i) (rgV M (32 * s + i) b) (rgV M (32 * s + i) d)).2.1 22 p' = askV M s a i ∧ (z_ask M s i p' bk (askV M s a i) (rgV M (32 * s + i) b) (rgV M (32 * s + i) d)).2.1 23 p' = rgV M (32 * s + i) b ∧ (z_ask M s i p' bk (askV M s a i) (rgV M (32 * s + i) b) (rgV M (32 * s + i) d)).2.1 24 p' = rgV M (32 * s + i) d := ⟨if_pos rfl, if_pos rfl, if_pos rfl, if_pos rfl, if_pos rfl, if_pos rfl⟩
    have z41 : (z_ask M s i p' bk (askV M s a i) (rgV M (32 * s + i) b) (rgV M (32 * s + i) d)).1 41 = M.1 41 + 1 := rfl
    have z9 := hfr.2.1 9 (by decide)
    have fmz := fm_ask M s i p' bk (askV M s a i) (rgV M (32 * s + i) b) (rgV M (32 * s + i) d)
    have cxz := (cp'.1).ask (s := s) (i := i) (p := p') (bk := bk) (q := askV M s a i) (y := rgV M (32 * s + i) b) (w := rgV M (32 * s + i) d)
    generalize z_ask M s i p' bk (askV M s a i) (rgV M (32 * s + i) b) (rgV M (32 * s + i) d) = M' at *
    have had15 : ∀ c, c ≠ 15 → (fun c k => if c = 15 then (if k = p' then some ak else ad 15 k) else ad c k) c = ad c := fun c hc => by
      funext k
      exact if_neg hc
    have a15 : ∀ k y, (fun c k => if c = 15 then (if k = p' then some ak else ad 15 k) else ad c k : AA) 15 k = some y → (k = p' ∧ y = ak) ∨ (k ≠ p' ∧ ad 15 k = some y) := by
      intro k y hy
      have hy : (if k = p' then some ak else ad 15 k) = some y := hy
      by_cases e : k = p'
      · rw [if_pos e] at hy
        exact Or.inl ⟨e, (Option.some.inj hy).symm⟩
      · rw [if_neg e] at hy
        exact Or.inr ⟨e, hy⟩
    have a15p : (fun c k => if c = 15 then (if k = p' then some ak else ad 15 k) else ad c k : AA) 15 p' = some ak := by
      show (if p' = p' then some ak else _) = _
      rw [if_pos rfl]
    have a15o : ∀ k y, ad 15 k = some y → (fun c k => if c = 15 then (if k = p' then some ak else ad 15 k) else ad c k : AA) 15 k = some y := by
      intro k y hy
      have hk : k ≠ p' := fun z => by
        have := (hp3 k).mp ⟨y, hy⟩
        omega
      show (if k = p' then some ak else ad 15 k) = _
      rw [if_neg hk]
      exact hy
    have ad14 : (fun c k => if c = 15 then (if k = p' then some ak else ad 15 k) else ad c k : AA) 14 = ad 14 := had15 14 (by decide)
    generalize eAD : (fun c k => if c = 15 then (if k = p' then some ak else ad 15 k) else ad c k : AA) = ad' at *
    have kd' : ∀ k y, ad' 15 k = some y → kdV V' y = 16 := by
      intro k y hy
      rcases a15 k y hy with ⟨_, e⟩ | ⟨_, e⟩
      · rw [e, kdV, f'.1]
        exact hk29
      · have := hs.kk e
        rw [(vg'.1 y (by rw [this]; decide)).1]
        exact this
    have inj' : ∀ k k' y, ad' 15 k = some y → ad' 15 k' = some y → k = k' := by
      intro k k' y hy hy'
      rcases a15 k y hy with ⟨e1, e2⟩ | ⟨e1, e2⟩
      · rcases a15 k' y hy' with ⟨g1, g2⟩ | ⟨g1, g2⟩
        · omega
        · rw [e2] at g2; exact absurd g2 (hakad k')
      · rcases a15 k' y hy' with ⟨g1, g2⟩ | ⟨g1, g2⟩
        · rw [g2] at e2; exact absurd e2 (hakad k)
        · exact hs.1.1 15 k k' y (by decide) e2 g2
    refine Res.r ⟨V', E', ad', ?_, ⟨cxz.a15 had15, cp'.2.1, cp'.2.2.1, (cp'.2.2.2.fm fmz.1 fmz.2.1 fmz.2.2.1 fmz.2.2.2.1 fmz.2.2.2.2).a15 had15 inj' kd'⟩, ?_, had15, ⟨hl, sl, hLL, vg', by rw [eE'], by rw [eE']; exact hE⟩⟩
    · -- budget
      have eH' : rqH V' E' P = 4096 - (l'.length + sp1.length) := by unfold rqH; rw [eL0, eL1]
      have eRC' : rqC V' E' P = rqH V' E' P + (6200 - cap') + (6200 - cap2) := by unfold rqC; rw [eK0, eK1]
      have eRS' : rqS V' E' P = 9 * rqH V' E' P + 4 * (6200 - cap') + 4 * (6200 - cap2) := by unfold rqS; rw [eK0, eK1]
      rcases hb3 with ⟨z1, z2, z3, z4⟩ | ⟨z2, z3, z4⟩
      · obtain ⟨nb1, nb2, nb3⟩ := ncap_b (cap := cap) (by omega)
        refine s''.mono ?_ ?_ <;> omega
      · refine s''.mono ?_ ?_ <;> omega
    · refine ⟨⟨p' + 1, ?_, ?_, fun k => ⟨fun ⟨y, hy⟩ => ?_, fun hk => ?_⟩⟩, fun k y hy => ?_, ⟨hT', hT, fun k => if k = p' then T else tn k, fun k y hy => ?_, fun k k' y hkk hy => ?_⟩, ⟨?_, fun y => ?_, ?_⟩, ⟨?_, fun j y hj k hk => ?_⟩, ?_, ?_, ?_⟩
      · rw [z41, h41, nI_1]
      · rw [eL0]; exact hll'
      · rcases a15 k y hy with ⟨e, _⟩ | ⟨_, e⟩
        · omega
        · have := (hp3 k).mp ⟨y, e⟩
          omega
      · by_cases e : k = p'
        · rw [e]; exact ⟨ak, a15p⟩
        · obtain ⟨y, hy⟩ := (hp3 k).mpr (by omega)
          exact ⟨y, a15o k y hy⟩
      · rcases a15 k y hy with ⟨e1, e2⟩ | ⟨e1, e2⟩
        · subst e1 e2
          obtain ⟨w1, w2⟩ := row' y (by rw [hk29]; decide) hakhl hakP
          obtain ⟨q1, q2, q3, q4, q5, q6⟩ := rows22
          refine ⟨op, d, q, bk, s, i, ⟨ho64, hd, hq2, hbk2, hs128, hi⟩, ⟨?_, za.2.1, ?_, ?_⟩, ⟨?_, ?_, ?_, ?_, ?_, ?_⟩, l, ?_, ?_⟩
          · rw [za.2.2.1, hop, h53, l16, pk_mul, nI_add]
          · rw [za.2.2.2.1, hq]
          · rw [z9]; exact hbk
          · rw [w1 _ (by decide), rows29 _ (by decide), q1, za.1]
          · rw [w1 _ (by decide), rows29 _ (by decide), q2, hop]
          · rw [w1 _ (by decide), rows29 _ (by decide), q3]
          · rw [w1 _ (by decide), rows29 _ (by decide), q4, za.2.2.2.2.1]
          · rw [w1 _ (by decide), rows29 _ (by decide), q5, za.2.2.2.2.2]
          · rw [w1 _ (by decide), rows29 _ (by decide), q6]
          · rw [ad14]; exact hl'
          · rw [w2, r1508]
            by_cases c51 : op = 51
            · rw [if_pos c51] at hyl ⊢
              exact hyl
            · rw [if_neg c51] at hyl ⊢
              refine ⟨hyl, ?_⟩
              rw [w1 _ (by decide), r1507, ((vg'.o hL (c := 14) hlk (by decide) (by decide)).2 1405).2.2.2 (by decide)]
        · have hyk := hs.kk e2
          have hyn : y ≠ ak := fun z => by rw [z] at e2; exact hakad k e2
          obtain ⟨o1, o2⟩ := hold y hyk hyn
          have hyhl : y ≠ hl := fun z => by rw [z, li0.1] at hyk; cases hyk
          have hyP : y ≠ P 3 := fun z => by rw [z, hP3] at hyk; cases hyk
          have hk0 : kdV V29 y ≠ 0 := by rw [(vg29.1 y (by rw [hyk]; decide)).1, hyk]; decide
          obtain ⟨w1, w2⟩ := row' y hk0 hyhl hyP
          obtain ⟨o, d', q', bk', s', i', b1, ⟨b2, b3, b4, b5⟩, ⟨b6, b7, b8, b9, b10, b11⟩, ll, b12, b13⟩ := hAK k y e2
          obtain ⟨y19, y20, y21, y22, y23, y24⟩ := zr k e1
          have hllk := hs.kk b12
          refine ⟨o, d', q', bk', s', i', b1, ⟨by rw [y21]; exact b2, by rw [y20]; exact b3, by rw [y22]; exact b4, by rw [z9]; exact b5⟩, ⟨?_, ?_, ?_, ?_, ?_, ?_⟩, ll, by rw [ad14]; exact b12, ?_⟩
          · rw [w1 _ (by decide), o1, y19]; exact b6
          · rw [w1 _ (by decide), o1]; exact b7
          · rw [w1 _ (by decide), o1]; exact b8
          · rw [w1 _ (by decide), o1, y23]; exact b9
          · rw [w1 _ (by decide), o1, y24]; exact b10
          · rw [w1 _ (by decide), o1]; exact b11
          · rw [w2, o2, w1 1507 (by decide), o1, ((vg'.o hL (c := 14) hllk (by decide) (by decide)).2 1405).2.2.2 (by decide)]
            exact b13
      · rcases a15 k y hy with ⟨e1, e2⟩ | ⟨e1, e2⟩
        · subst e1 e2
          refine ⟨?_, ?_⟩
          · show xi V' 1501 y 0 = nI (if k = k then T else tn k)
            rw [u' y hakhl hakP, if_pos rfl, if_pos rfl]
          · show (if k = k then T else tn k) < T + 1
            rw [if_pos rfl]
            omega
        · have hyk := hs.kk e2
          have hyn : y ≠ ak := fun z => by rw [z] at e2; exact hakad k e2
          have hyhl : y ≠ hl := fun z => by rw [z, li0.1] at hyk; cases hyk
          have hyP : y ≠ P 3 := fun z => by rw [z, hP3] at hyk; cases hyk
          obtain ⟨o1, _⟩ := hold y hyk hyn
          obtain ⟨t1, t2⟩ := htn1 k y e2
          refine ⟨?_, ?_⟩
          · show xi V' 1501 y 0 = nI (if k = p' then T else tn k)
            rw [u' y hyhl hyP, if_neg hyn, if_neg e1, o1]
            exact t1
          · show (if k = p' then T else tn k) < T + 1
            rw [if_neg e1]
            omega
      · show (if k = p' then T else tn k) < (if k' = p' then T else tn k')
        rcases a15 k' y hy with ⟨e1, e2⟩ | ⟨e1, e2⟩
        · rw [if_pos e1, if_neg (by omega)]
          obtain ⟨z, hz⟩ := (hp3 k).mpr (by omega)
          exact (htn1 k z hz).2
        · have := (hp3 k').mp ⟨y, e2⟩
          rw [if_neg e1, if_neg (by omega)]
          exact htn2 k k' y hkk e2
      · rw [eL0]
        refine sm'.2.1 ?_
        intro j1 j2 v hj1 hj2
        have key : ∀ j : Nat, (HL ++ [ak])[j]? = some v → (j < HL.length ∧ HL[j]? = some v) ∨ (j = HL.length ∧ v = ak) := by
          intro j hj
          have := ge_lt hj
          rw [List.length_append] at this
          have : j < HL.length + 1 := this
          by_cases e : j < HL.length
          · rw [List.getElem?_append_left e] at hj
            exact Or.inl ⟨e, hj⟩
          · have e2 : j = HL.length := by omega
            subst e2
            rw [List.getElem?_append_right (Nat.le_refl _), Nat.sub_self] at hj
            exact Or.inr ⟨rfl, (Option.some.inj hj).symm⟩
        rcases key j1 hj1 with ⟨_, g1⟩ | ⟨g1, g2⟩
        · rcases key j2 hj2 with ⟨_, g3⟩ | ⟨g3, g4⟩
          · exact hinj j1 j2 v g1 g3
          · rw [g4] at g1; exact absurd g1 (hakHL j1)
        · rcases key j2 hj2 with ⟨_, g3⟩ | ⟨g3, g4⟩
          · rw [g2] at g3; exact absurd g3 (hakHL j2)
          · omega
      · rw [eL0]
        refine (sm'.2.2 y).trans ⟨fun ⟨j, hj⟩ => ?_, fun ⟨k, hk⟩ => ?_⟩
        · by_cases e : j < HL.length
          · rw [List.getElem?_append_left e] at hj
            obtain ⟨k, hk⟩ := (hmem y).mp ⟨j, hj⟩
            exact ⟨k, a15o k y hk⟩
          · have := ge_lt hj
            rw [List.length_append] at this
            have : j < HL.length + 1 := this
            have e2 : j = HL.length := by omega
            subst e2
            rw [List.getElem?_append_right (Nat.le_refl _), Nat.sub_self] at hj
            rw [← Option.some.inj hj]
            exact ⟨p', a15p⟩
        · rcases a15 k y hk with ⟨_, e2⟩ | ⟨_, e2⟩
          · refine ⟨HL.length, ?_⟩
            rw [List.getElem?_append_right (Nat.le_refl _), Nat.sub_self, e2]
            rfl
          · obtain ⟨j, hj⟩ := (hmem y).mpr ⟨k, e2⟩
            exact ⟨j, by rw [List.getElem?_append_left (ge_lt hj)]; exact hj⟩
      · rw [eL0]; exact ho'
      · rw [eL1]
        intro j1 j2 v hj1 hj2
        exact sinj j1 j2 v (hsp j1 v hj1).1 (hsp j2 v hj2).1
      · rw [eL1] at hj
        rcases a15 k y hk with ⟨_, e2⟩ | ⟨_, e2⟩
        · exact (hsp j y hj).2 e2
        · exact smem j y (hsp j y hj).1 k e2
      · rw [eL0, eL1, hll', hsl]
        omega
      · rw [eK0]; exact hcapc
      · rw [eK1]; exact hc2
  by_cases cw : wrD M
  · rw [if_neg (by rw [b2i_0]; exact not_not_intro cw)]
    exact fin (some l) (by rw [if_neg (hwr.mp cw)])
  · rw [if_pos (by rw [b2i_0]; exact cw)]
    exact fin none (by rw [if_pos (Classical.byContradiction fun z => cw (hwr.mpr z))])
end C36
