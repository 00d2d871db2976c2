/-! D3: words, units and cycles of the model: what holds behind them -/
section D3
variable {M N X Y : MS} {s d a b bk c lo B : Nat}
theorem MI.m11 {v : Int32} (h : MI M c (c + 1) B) (hs : s < 128) (hm : M.2.1 11 s ≤ M.1 15) : MI (mA M 11 s v) c (c + 1) B := by
  have h' := h
  obtain ⟨h0, p, p1, p2, p3, p4⟩ := h'
  have f0 : frm [] [11] M (mA M 11 s v) := frm.rf.mA (by decide)
  refine ⟨h0.fr f0 (by decide) (by decide), p, p1, p2, fun k hk => ?_, p4⟩
  have hd : M.1 42 ≤ M.2.1 19 k := by
    obtain ⟨_, _, _, _, _, _, _, _, z⟩ := p3 k hk
    exact z
  refine (p3 k hk).fr rfl rfl hd rfl rfl (fun s' i bk' hs' hi hbk h20 _ => ⟨rfl, rfl, ?_, rfl⟩)
  have hne : s' ≠ s := fun z => by
    rw [z] at h20
    exact h.none p2 p1 hk hs hm i bk' hi hbk h20
  rw [mA_a, if_pos rfl, pk_un hne]
theorem MI.settle {L : Nat} (h : MI M c lo B) (hL : L ≤ 32) (h1 : M.1 1 = nI L) (hbk : bk < 64) : MI (z_settle M L (nI bk)) c lo B := by
  have hp1 : (nI bk : Int32) ≠ -1 := fun z => by
    have h2 := nI_pos' (n := bk) (by omega)
    rw [z] at h2
    exact absurd h2 (by decide)
  obtain ⟨f0, _, s9, s17⟩ := settleP M L hL (nI bk) hp1
  obtain ⟨⟨a0, b1, b2, b3, b4⟩, p, p1, p2, p3, p4⟩ := h
  refine ⟨⟨by rw [f0.f 15]; exact a0, fun t => ?_, fun s s' hs hs' he hn => ?_, fun s hs => ?_, by rw [f0.a 4]; exact b4⟩, p, p1, by rw [f0.f 41]; exact p2, fun k hk => ?_, by rw [f0.a 20]; exact p4⟩
  · rw [f0.a 16, s17 t]
    rcases b1 t with e | e
    · exact Or.inl e
    · right
      split
      · rfl
      · exact e
  · rw [s9 s] at he hn
    rw [s9 s'] at he
    by_cases cc : s < 128 ∧ ¬ (stC M L (nI bk)).2 = 0 ∧ M.2.1 9 s = nI bk
    · rw [if_pos cc] at hn
      exact absurd rfl hn
    · rw [if_neg cc] at he hn
      by_cases cc' : s' < 128 ∧ ¬ (stC M L (nI bk)).2 = 0 ∧ M.2.1 9 s' = nI bk
      · rw [if_pos cc'] at he
        exact absurd he hn
      · rw [if_neg cc'] at he
        exact b2 s s' hs hs' he hn
  · rw [s9 s]
    split
    · exact Or.inl rfl
    · exact b3 s hs
  · have hd : M.1 42 ≤ M.2.1 19 k := by
      obtain ⟨_, _, _, _, _, _, _, _, z⟩ := p3 k hk
      exact z
    obtain ⟨s0, i0, bk0, tm, ms, ⟨a1, a2, a3⟩, ⟨c1, c2, c3, c4⟩, _⟩ := id (p3 k hk)
    refine (p3 k hk).fr (f0.f 1) (f0.f 13) (by rw [f0.f 42, f0.a 19]; exact hd) (by rw [f0.a 20]) (by rw [f0.a 19]) (fun s' i' bk' hs' hi' hbk' h20 h9 => ⟨?_, by rw [f0.a 10], by rw [f0.a 11], by rw [f0.a 16]⟩)
    rw [s9 s', if_neg]
    rintro ⟨_, z2, z3⟩
    rw [c1] at h20
    have e := (nI_eq (by omega) (by omega)).mp h20
    have es : s0 = s' := by omega
    have ei : i0 = i' := by omega
    subst es ei
    refine z2 (((stO_P M L (nI bk) 128).2).mpr ⟨s0, hs', z3, i0, ?_, c4, c3⟩)
    have := c3.1
    rw [h1, nI_leI (by omega) (by omega)] at this
    omega
theorem wr12_frm (s d : Nat) (t : Int32) (X : MS) : frm [] [12] X (wr2 s t (wr1 s d t X)) := by
  have h1 : frm [] [12] X (wr1 s d t X) := by
    unfold wr1
    split
    · exact frm.rf.mA (by decide)
    · exact frm.rf
  refine h1.tr ?_
  unfold wr2
  split
  · exact frm.rf.mA (by decide)
  · exact frm.rf
theorem time_frmC {u L Bk G : Nat} (hnm : ¬ (memP M ∧ ¬ shP M)) : frm [] [5, 6] M (z_time M u s a L Bk G).2 := by
  unfold z_time
  by_cases c1 : memP M
  · rw [if_pos c1, if_pos (Classical.byContradiction fun z => hnm ⟨c1, z⟩)]
    show frm [] [5, 6] M (z_tsh M u _)
    unfold z_tsh
    exact frm.rf.mA (by decide)
  · rw [if_neg c1]
    by_cases c2 : M.1 52 < 70
    · rw [if_pos c2]
      by_cases c3 : M.1 52 = 7 ∨ M.1 52 = 8
      · rw [if_pos c3]
        exact frm.rf.mA (by decide)
      · rw [if_neg c3]
        exact frm.rf
    · rw [if_neg c2]
      exact frm.rf
set_option maxHeartbeats 1000000 in
theorem MI.gMd {u L Bk G p0 : Nat} (h : MI N c (c + 1) B) (hB : B + 160 ≤ 30000000) (hs : s < 128) (h9 : N.2.1 9 s = nI bk) (hbk : bk < 64) (hL : L ≤ 32) (hG1 : 1 ≤ G) (hG8 : G ≤ 8) (hgr : ∀ j, j < 32 → ¬ N.2.1 26 j = 0 → awk N s j) (hm : (memP N ∨ N.1 52 = 0 ∨ N.1 52 = 1) → N.2.1 11 s ≤ N.1 15) (h41 : N.1 41 = nI p0) (hp0 : p0 ≤ 4096) : MI (goMd N u s d a b bk L Bk G) c (c + 1) (B + 160) := by
  unfold goMd
  obtain ⟨_, _, q3, q4⟩ := doeI N s 32
  generalize iter (doeS s) 0 32 (0, 0, N) = cc at *
  have h2 : MI cc.2.2 c (c + 1) B := h.fr q3 (by decide) (by decide)
  have h27 : ∀ j, j < 32 → ¬ cc.2.2.2.1 27 j = 0 → ¬ N.2.1 26 j = 0 := fun j hj z => by
    rw [q4 j hj] at z
    exact ((doe_P N s j).mp z).1
  have e52 : cc.2.2.1 52 = N.1 52 := q3.f 52
  obtain ⟨em, es⟩ := mem_fm (M := N) (M' := cc.2.2) e52
  generalize cc.2.2 = M2 at *
  generalize cc.1 = many at *
  generalize cc.2.1 = all at *
  clear cc
  by_cases cg : memP N ∧ ¬ shP N
  · have hr := h.room h41 hp0 hs (hm (Or.inl cg.1))
    have hn0 : ∀ k, k < p0 → ∀ i bk', i < 32 → bk' < 64 → N.2.1 20 k ≠ nI (32 * (128 * bk' + s) + i) := fun k hk => h.none h41 hp0 hk hs (hm (Or.inl cg.1))
    have et : z_time M2 u s a L Bk G = ((tgC M2 s a G L).1 - M2.1 15 + (tgC M2 s a G L).2.1, (tgC M2 s a G L).2.2) := by
      unfold z_time
      rw [if_pos (by rw [em]; exact cg.1), if_neg (by rw [es]; exact cg.2)]
      rfl
    obtain ⟨⟨⟨h15, hc, hcB, hB3⟩, n1, n2, n3, n4⟩, p, r1, r2, r3, r4⟩ := h2
    obtain ⟨⟨l, l1, l2, l3, l4⟩, g4⟩ := tg_P (s := s) (a := a) (G := G) h15 hcB hB3 hG1 hG8 n4 L hL
    have hag := tgC_ag (M := M2) (s := s) (a := a) (G := G) L
    have hcnt := cnB_le (agF M2 s a) L
    obtain ⟨ag, eag, hag2⟩ : ∃ ag, (tgC M2 s a G L).2.1 = nI ag ∧ ag ≤ 32 := by
      rw [hag]
      by_cases c5 : 53 < M2.1 52
      · rw [if_pos c5]; exact ⟨_, rfl, by omega⟩
      · rw [if_neg c5]; exact ⟨0, rfl, by omega⟩
    have ft := tgC_frm M2 s a G L
    rw [et]
    generalize tgC M2 s a G L = C at *
    show MI (wr3 s (C.1 - M2.1 15 + C.2.1) (wr2 s (C.1 - M2.1 15 + C.2.1) (wr1 s d (C.1 - M2.1 15 + C.2.1) (iter (goS s d a b bk) 0 L (z_tog (cntM u many all C.2.2) s a L))))) c (c + 1) (B + 160)
    rw [l1, eag, h15, pk_sub (by omega), nI_add]
    have fx : frm [16, 17, 18, 19, 20, 58] [3, 4, 8, 25, 28] M2 (z_tog (cntM u many all C.2.2) s a L) := ((ft.up (by decide) (by decide)).tr ((cnt_frm u many all C.2.2).up (by decide) (by decide))).tr ((tog_frm (cntM u many all C.2.2) s a L).up (by decide) (by decide))
    have fc : frm [16, 17, 18, 58] [8, 28] C.2.2 (z_tog (cntM u many all C.2.2) s a L) := ((cnt_frm u many all C.2.2).up (by decide) (by decide)).tr ((tog_frm (cntM u many all C.2.2) s a L).up (by decide) (by decide))
    have x25 := fc.a 25
    have x4 := fc.a 4
    generalize z_tog (cntM u many all C.2.2) s a L = X at *
    have fNX : frm [16, 17, 18, 19, 20, 58] [3, 4, 8, 25, 27, 28] N X := (q3.up (by decide) (by decide)).tr (fx.up (by decide) (by decide))
    have x52 : X.1 52 = N.1 52 := fNX.f 52
    obtain ⟨xm, xs⟩ := mem_fm (M := N) (M' := X) x52
    have x27 : X.2.1 27 = M2.2.1 27 := fx.a 27
    have x26 : X.2.1 26 = N.2.1 26 := fNX.a 26
    obtain ⟨y1, y2, y3, y4, y5⟩ := goG_P (s := s) (d := d) (a := a) (b := b) (bk := bk) (X := X) (p0 := p0) (by rw [xm, xs]; exact cg) (by rw [fNX.f 41]; exact h41) hr (fun j hj z => by rw [x26]; rw [x27] at z; exact h27 j hj z) L hL
    generalize iter (goS s d a b bk) 0 L X = Y at *
    have f12 := wr12_frm s d (nI (l - c + ag)) Y
    generalize wr2 s (nI (l - c + ag)) (wr1 s d (nI (l - c + ag)) Y) = Z at *
    have fNZ : frm [16, 17, 18, 19, 20, 41, 42, 58] [3, 4, 8, 12, 15, 19, 20, 21, 22, 23, 24, 25, 27, 28] N Z := ((fNX.up (by decide) (by decide)).tr (y1.up (by decide) (by decide))).tr (f12.up (by decide) (by decide))
    have zm : memP Z := by
      rw [(mem_fm (M := N) (M' := Z) (fNZ.f 52)).1]
      exact cg.1
    have e15 : Z.1 15 = nI c := by rw [fNZ.f 15, ← q3.f 15]; exact h15
    have ew : wr3 s (nI (l - c + ag)) Z = mA Z 11 s (nI (l + ag)) := by
      unfold wr3
      rw [if_pos zm, e15, nI_add]
      congr 2
      omega
    rw [ew]
    have fZ : frm [] [11] Z (mA Z 11 s (nI (l + ag))) := frm.rf.mA (by decide)
    have w11 : ∀ q, (mA Z 11 s (nI (l + ag))).2.1 11 q = if q = s then nI (l + ag) else N.2.1 11 q := by
      intro q
      rw [mA_a, if_pos rfl]
      by_cases e : q = s
      · rw [e, pk_us, if_pos rfl]
      · rw [pk_un e, if_neg e, fNZ.a 11]
    have fNW : frm [16, 17, 18, 19, 20, 41, 42, 58] [3, 4, 8, 11, 12, 15, 19, 20, 21, 22, 23, 24, 25, 27, 28] N (mA Z 11 s (nI (l + ag))) := (fNZ.up (by decide) (by decide)).tr (fZ.up (by decide) (by decide))
    have w4 : (mA Z 11 s (nI (l + ag))).2.1 4 = C.2.2.2.1 4 := by rw [fZ.a 4, f12.a 4, y1.a 4, x4]
    have w19 : (mA Z 11 s (nI (l + ag))).2.1 19 = Y.2.1 19 := by rw [fZ.a 19, f12.a 19]
    have w20 : (mA Z 11 s (nI (l + ag))).2.1 20 = Y.2.1 20 := by rw [fZ.a 20, f12.a 20]
    have w41 : (mA Z 11 s (nI (l + ag))).1 41 = Y.1 41 := by rw [fZ.f 41, f12.f 41]
    have w42 : (mA Z 11 s (nI (l + ag))).1 42 = Y.1 42 := by rw [fZ.f 42, f12.f 42]
    generalize mA Z 11 s (nI (l + ag)) = R at *
    obtain ⟨hN0, pN, t1, t2, t3, t4⟩ := h
    have epN : pN = p0 := (nI_eq (by omega) (by omega)).mp (t2.symm.trans h41)
    subst epN
    have hcn := cnB_le (asF X) L
    have old20 : ∀ k, k < pN → R.2.1 20 k = N.2.1 20 k := fun k hk => by rw [w20, (y3 k hk).2, fNX.a 20]
    have new20 : ∀ j, j < L → asF X j = true → R.2.1 20 (pN + cnB (asF X) j) = nI (32 * (128 * bk + s) + j) := fun j hj hf => by rw [w20]; exact (y4 j hj hf).2.1
    have spl : ∀ k, k < pN + cnB (asF X) L → k < pN ∨ ∃ j, j < L ∧ asF X j = true ∧ k = pN + cnB (asF X) j := by
      intro k hk
      by_cases e : k < pN
      · exact Or.inl e
      · obtain ⟨j, z1, z2, z3⟩ := cnB_ex (f := asF X) (t := k - pN) L (by omega)
        exact Or.inr ⟨j, z1, z2, by omega⟩
    refine ⟨⟨⟨by rw [fNW.f 15]; exact hN0.1.1, hc, by omega, hB⟩, by rw [fNW.a 16, fNW.a 17]; exact hN0.2.1, by rw [fNW.a 9]; exact hN0.2.2.1, by rw [fNW.a 9]; exact hN0.2.2.2.1, fun g hg => ?_⟩, pN + cnB (asF X) L, by omega, by rw [w41]; exact y2, fun k hk => ?_, fun k k' hk hk' he => ?_⟩
    · rw [w4]
      obtain ⟨t, u1, u2⟩ := g4 g hg
      exact ⟨t, by omega, u2⟩
    · rcases spl k hk with hk0 | ⟨j, hj, hf, ek⟩
      · have hd : N.1 42 ≤ N.2.1 19 k := by
          obtain ⟨_, _, _, _, _, _, _, _, z⟩ := t3 k hk0
          exact z
        refine ((t3 k hk0).up (show B ≤ B + 160 by omega) (Nat.le_refl _)).fr (fNW.f 1) (fNW.f 13) ?_ (old20 k hk0) (by rw [w19, (y3 k hk0).1, fNX.a 19]) (fun s' i' bk' hs' hi' hbk' h20 _ => ⟨by rw [fNW.a 9], by rw [fNW.a 10], ?_, by rw [fNW.a 16]⟩)
        · rw [w42, w19, (y3 k hk0).1, fNX.a 19]
          exact Int32.le_trans y5 (by rw [fNX.f 42]; exact hd)
        · rw [w11, if_neg]
          intro z
          rw [z] at h20
          exact hn0 k hk0 i' bk' hi' hbk' h20
      · have hX27 : ¬ M2.2.1 27 j = 0 := by rw [← x27]; exact of_decide_eq_true hf
        have hak := hgr j (by omega) (h27 j (by omega) hX27)
        obtain ⟨t, u1, u2, u3⟩ := l4 j hj hX27
        obtain ⟨v1, v2, v3⟩ := y4 j hj hf
        refine ⟨s, j, bk, t, l + ag, ⟨hs, by omega, hbk⟩, ⟨by rw [ek]; exact new20 j hj hf, by rw [fNW.a 9]; exact h9, ?_, by rw [fNW.a 16]; exact hak.2.1⟩, ⟨?_, by rw [w11, if_pos rfl], by omega, by omega, by omega⟩, ?_⟩
        · have := hak.1
          unfold lnI at this ⊢
          rw [fNW.f 1, fNW.f 13, fNW.a 10]
          exact this
        · rw [ek, w19, v1, x25]; exact u1
        · rw [ek, w42, w19, v1]; exact v3
    · rcases spl k hk with hk0 | ⟨j, hj, hf, ek⟩ <;> rcases spl k' hk' with hk0' | ⟨j', hj', hf', ek'⟩
      · rw [old20 k hk0, old20 k' hk0'] at he
        exact t4 k k' hk0 hk0' he
      · rw [old20 k hk0, ek', new20 j' hj' hf'] at he
        exact absurd he (hn0 k hk0 j' bk (by omega) hbk)
      · rw [old20 k' hk0', ek, new20 j hj hf] at he
        exact absurd he.symm (hn0 k' hk0' j bk (by omega) hbk)
      · rw [ek, ek', new20 j hj hf, new20 j' hj' hf'] at he
        have := (nI_eq (by omega) (by omega)).mp he
        have : j = j' := by omega
        rw [ek, ek', this]
  · have ft := time_frmC (M := M2) (s := s) (a := a) (u := u) (L := L) (Bk := Bk) (G := G) (by rw [em, es]; exact cg)
    generalize (z_time M2 u s a L Bk G).1 = t at *
    generalize (z_time M2 u s a L Bk G).2 = T2 at *
    have fx : frm [16, 17, 18, 58] [5, 6, 8, 28] M2 (z_tog (cntM u many all T2) s a L) := ((ft.up (by decide) (by decide)).tr ((cnt_frm u many all T2).up (by decide) (by decide))).tr ((tog_frm (cntM u many all T2) s a L).up (by decide) (by decide))
    generalize z_tog (cntM u many all T2) s a L = X at *
    have hX : MI X c (c + 1) B := h2.fr fx (by decide) (by decide)
    have fNX : frm [16, 17, 18, 58] [5, 6, 8, 27, 28] N X := (q3.up (by decide) (by decide)).tr (fx.up (by decide) (by decide))
    have x52 : X.1 52 = N.1 52 := fNX.f 52
    obtain ⟨xm, xs⟩ := mem_fm (M := N) (M' := X) x52
    have x26 : X.2.1 26 = N.2.1 26 := fNX.a 26
    have hY : MI (iter (goS s d a b bk) 0 L X) c (c + 1) B ∧ frm [] [13, 14, 15, 16, 17, 18] X (iter (goS s d a b bk) 0 L X) := by
      by_cases c01 : X.1 52 = 0 ∨ X.1 52 = 1
      · have hm' : X.2.1 11 s ≤ X.1 15 := by
          rw [fNX.a 11, fNX.f 15]
          exact hm (Or.inr (by rw [← x52]; exact c01))
        have h41X : X.1 41 = nI p0 := by rw [fNX.f 41]; exact h41
        have hawk : ∀ t, t / 32 = s → ¬ X.2.1 26 (t % 32) = 0 → X.2.1 16 t = 0 ∧ X.2.1 17 t = 0 := by
          intro t e1 e2
          rw [x26] at e2
          have := hgr (t % 32) (by omega) e2
          have et : 32 * s + t % 32 = t := by omega
          rw [fNX.a 16, fNX.a 17]
          unfold awk at this
          rw [et] at this
          exact this.2
        obtain ⟨⟨a0, b1, b2, b3, b4⟩, p, p1, p2, p3, p4⟩ := id hX
        rcases c01 with e | e
        · obtain ⟨z1, z2⟩ := goE_P (s := s) (d := d) (a := a) (b := b) (bk := bk) (X := X) (j := 16) (Or.inl ⟨e, rfl⟩) L hL
          generalize iter (goS s d a b bk) 0 L X = Y at *
          refine ⟨⟨⟨by rw [z1.f 15]; exact a0, fun t => ?_, by rw [z1.a 9]; exact b2, by rw [z1.a 9]; exact b3, by rw [z1.a 4]; exact b4⟩, p, p1, by rw [z1.f 41]; exact p2, fun k hk => ?_, by rw [z1.a 20]; exact p4⟩, z1.up (by decide) (by decide)⟩
          · rcases z2 t with e2 | ⟨e1, _, e3⟩
            · rw [e2, z1.a 17]; exact b1 t
            · right
              rw [z1.a 17]
              exact (hawk t e1 e3).2
          · have hd : X.1 42 ≤ X.2.1 19 k := by
              obtain ⟨_, _, _, _, _, _, _, _, z⟩ := p3 k hk
              exact z
            refine (p3 k hk).fr (z1.f 1) (z1.f 13) (by rw [z1.f 42, z1.a 19]; exact hd) (by rw [z1.a 20]) (by rw [z1.a 19]) (fun s' i' bk' hs' hi' hbk' h20 _ => ⟨by rw [z1.a 9], by rw [z1.a 10], by rw [z1.a 11], ?_⟩)
            rcases z2 (32 * s' + i') with e2 | ⟨e1, _, _⟩
            · exact e2
            · exfalso
              have ess : s' = s := by omega
              rw [ess] at h20
              exact hX.none p2 p1 hk hs hm' i' bk' hi' hbk' h20
        · obtain ⟨z1, z2⟩ := goE_P (s := s) (d := d) (a := a) (b := b) (bk := bk) (X := X) (j := 17) (Or.inr ⟨e, rfl⟩) L hL
          generalize iter (goS s d a b bk) 0 L X = Y at *
          refine ⟨⟨⟨by rw [z1.f 15]; exact a0, fun t => ?_, by rw [z1.a 9]; exact b2, by rw [z1.a 9]; exact b3, by rw [z1.a 4]; exact b4⟩, p, p1, by rw [z1.f 41]; exact p2, fun k hk => ?_, by rw [z1.a 20]; exact p4⟩, z1.up (by decide) (by decide)⟩
          · rcases z2 t with e2 | ⟨e1, _, e3⟩
            · rw [e2, z1.a 16]; exact b1 t
            · left
              rw [z1.a 16]
              exact (hawk t e1 e3).1
          · have hd : X.1 42 ≤ X.2.1 19 k := by
              obtain ⟨_, _, _, _, _, _, _, _, z⟩ := p3 k hk
              exact z
            exact (p3 k hk).fr (z1.f 1) (z1.f 13) (by rw [z1.f 42, z1.a 19]; exact hd) (by rw [z1.a 20]) (by rw [z1.a 19]) (fun s' i' bk' hs' hi' hbk' h20 _ => ⟨by rw [z1.a 9], by rw [z1.a 10], by rw [z1.a 11], by rw [z1.a 16]⟩)
      · have z1 := goC_frm (s := s) (d := d) (a := a) (b := b) (bk := bk) (X := X) (by rw [xm, xs]; exact cg) (fun z => c01 (Or.inl z)) (fun z => c01 (Or.inr z)) L
        exact ⟨hX.fr z1 (by decide) (by decide), z1.up (by decide) (by decide)⟩
    obtain ⟨hY, fY⟩ := hY
    generalize iter (goS s d a b bk) 0 L X = Y at *
    have f12 := wr12_frm s d t Y
    have hZ := hY.fr f12 (by decide) (by decide)
    generalize wr2 s t (wr1 s d t Y) = Z at *
    refine MI.up ?_ (show B ≤ B + 160 by omega) hB
    unfold wr3
    by_cases cm : memP Z
    · rw [if_pos cm]
      have fNZ : frm [16, 17, 18, 58] [5, 6, 8, 12, 13, 14, 15, 16, 17, 18, 27, 28] N Z := ((fNX.up (by decide) (by decide)).tr (fY.up (by decide) (by decide))).tr (f12.up (by decide) (by decide))
      refine hZ.m11 hs ?_
      rw [fNZ.a 11, fNZ.f 15]
      refine hm (Or.inl ?_)
      rw [← (mem_fm (M := N) (M' := Z) (fNZ.f 52)).1]
      exact cm
    · rw [if_neg cm]
      exact hZ
end D3
