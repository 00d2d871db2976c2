/-! D4: units and cycles of the model -/
/-- the unit's latest slot -/
def LT (M : MS) : Prop := ∀ u, u < 8 → ∃ l, l < 16 ∧ M.2.1 7 u = nI l
/-- fields that a unit may change -/
def uFk : List Nat := [11, 16, 17, 18, 19, 20, 21, 23, 24, 25, 26, 41, 42, 52, 53, 54, 55, 56, 57, 58]
def uFj : List Nat := [3, 4, 5, 6, 7, 8, 9, 11, 12, 13, 14, 15, 16, 17, 18, 19, 20, 21, 22, 23, 24, 25, 26, 27, 28]
section D4
variable {M N X Y : MS} {s d a b bk c lo B u L S Bk G p0 : Nat}
theorem okE_of (h : MI M c lo B) (h9 : M.2.1 9 s = nI bk) (hs : s < 128) (hbk : bk < 64) (hu : s / 16 = u) : okE M u bk := by
  obtain ⟨⟨_, b1, b2, _, _⟩, p, p1, p2, p3, p4⟩ := h
  have hb : ¬ M.2.1 9 s = -1 := fun z => by
    rw [h9] at z
    have h2 := nI_pos' (n := bk) (by omega)
    rw [z] at h2
    exact absurd h2 (by decide)
  refine ⟨fun t z => (b1 t).elim z.1 z.2, fun s' hs' h9' => ?_, fun p' k s' i' bk' hp' hp2' hk hs' hi' hbk' h20 h9' => ?_⟩
  · rw [← hu]
    exact (b2 s s' hs hs' (h9.trans h9'.symm) hb).symm
  · have ep : p = p' := (nI_eq (by omega) (by omega)).mp (p2.symm.trans hp')
    subst ep
    obtain ⟨s0, i0, bk0, tm, ms, ⟨a1, a2, a3⟩, ⟨c1, c2, c3, c4⟩, _⟩ := p3 k hk
    rw [c1] at h20
    have e := (nI_eq (by omega) (by omega)).mp h20
    have es : s0 = s' := by omega
    have ei : i0 = i' := by omega
    subst es ei
    exact c4
theorem okGo_of (h : MI M c (c + 1) B) (hB : B + 160 ≤ 30000000) (hL : L ≤ 32) (hG1 : 1 ≤ G) (hG8 : G ≤ 8) (h41 : M.1 41 = nI p0) (hp0 : p0 ≤ 4096) : okGo M u L Bk G := by
  intro N s hs hsu hf hw hop hm hgr d a b bk h9 hbk
  have hN : MI N c (c + 1) B := h.fr hf (by decide) (by decide)
  have h2 := hN.gMd (u := u) (d := d) (a := a) (b := b) (Bk := Bk) hB hs h9 hbk hL hG1 hG8 hgr (fun _ => hm) (by rw [hf.f 41]; exact h41) hp0
  refine okE_of h2 (s := s) ?_ hs hbk hsu
  rw [(goMd_frm N u s d a b bk L Bk G).a 9]
  exact h9
theorem MI.go (h : MI N c (c + 1) B) (hB : B + 160 ≤ 30000000) (hs : s < 128) (h9 : N.2.1 9 s = nI bk) (hbk : bk < 64) (h1 : N.1 1 = nI L) (hL : L ≤ 32) (hG1 : 1 ≤ G) (hG8 : G ≤ 8) (hgr : ∀ j, j < 32 → ¬ N.2.1 26 j = 0 → awk N s j) (hm : (memP N ∨ N.1 52 = 0 ∨ N.1 52 = 1) → N.2.1 11 s ≤ N.1 15) (h41 : N.1 41 = nI p0) (hp0 : p0 ≤ 4096) : MI (z_go N u s d a b bk L Bk G) c (c + 1) (B + 160) ∧ frm uFk uFj N (z_go N u s d a b bk L Bk G) ∧ (z_go N u s d a b bk L Bk G).2.1 7 = N.2.1 7 := by
  have h2 := h.gMd (u := u) (d := d) (a := a) (b := b) (Bk := Bk) hB hs h9 hbk hL hG1 hG8 hgr hm h41 hp0
  have f2 := goMd_frm N u s d a b bk L Bk G
  have ecg : z_go N u s d a b bk L Bk G = z_goO (trF (iter (doeS s) 0 32 (0, 0, N)).2.2 s a b 0 L) u s d a b bk L Bk G (iter (doeS s) 0 32 (0, 0, N)) := rfl
  rw [ecg]
  cases e : trF (iter (doeS s) 0 32 (0, 0, N)).2.2 s a b 0 L with
  | some i =>
    obtain ⟨_, _, q3, _⟩ := doeI N s 32
    show MI (z_trap (iter (doeS s) 0 32 (0, 0, N)).2.2 s i _) c (c + 1) (B + 160) ∧ frm uFk uFj N (z_trap (iter (doeS s) 0 32 (0, 0, N)).2.2 s i _) ∧ (z_trap (iter (doeS s) 0 32 (0, 0, N)).2.2 s i _).2.1 7 = N.2.1 7
    generalize (iter (doeS s) 0 32 (0, 0, N)).2.2 = Z at *
    have ft := trap_frm Z s i (whyV Z (32 * s + i) a b)
    exact ⟨((h.fr q3 (by decide) (by decide)).fr ft (by decide) (by decide)).up (by omega) hB, (q3.up (by decide) (by decide)).tr (ft.up (by decide) (by decide)), by rw [ft.a 7, q3.a 7]⟩
  | none =>
    show MI (wr4 s L (goMd N u s d a b bk L Bk G)) c (c + 1) (B + 160) ∧ frm uFk uFj N (wr4 s L (goMd N u s d a b bk L Bk G)) ∧ (wr4 s L (goMd N u s d a b bk L Bk G)).2.1 7 = N.2.1 7
    have e9 : (goMd N u s d a b bk L Bk G).2.1 9 s = nI bk := by rw [f2.a 9]; exact h9
    have e1 : (goMd N u s d a b bk L Bk G).1 1 = nI L := by rw [f2.f 1]; exact h1
    have e7 : (goMd N u s d a b bk L Bk G).2.1 7 = N.2.1 7 := f2.a 7
    have f3 : frm uFk uFj N (goMd N u s d a b bk L Bk G) := f2.up (by decide) (by decide)
    generalize goMd N u s d a b bk L Bk G = Z at *
    unfold wr4
    by_cases c2 : 2 ≤ Z.1 52
    · rw [if_pos c2]
      exact ⟨h2, f3, e7⟩
    · rw [if_neg c2, e9]
      have hp1 : (nI bk : Int32) ≠ -1 := fun z => by
        have h2 := nI_pos' (n := bk) (by omega)
        rw [z] at h2
        exact absurd h2 (by decide)
      have fs := (settleP Z L hL (nI bk) hp1).1
      exact ⟨h2.settle hL e1 hbk, f3.tr (fs.up (by decide) (by decide)), by rw [fs.a 7, e7]⟩
/-- who may go: awake, and its memory is there -/
theorem rdy_ok (h : (z_rdy M u s L).1 = true) : (∀ j, j < 32 → ¬ (z_rdy M u s L).2.2.1 26 j = 0 → awk (z_rdy M u s L).2 s j) ∧ (¬ (plc (z_rdy M u s L).2 s < 0 ∨ ¬ plc (z_rdy M u s L).2 s < 128) → wrdP (takM (z_rdy M u s L).2 s) → (memP (takM (z_rdy M u s L).2 s) ∨ (takM (z_rdy M u s L).2 s).1 52 = 0 ∨ (takM (z_rdy M u s L).2 s).1 52 = 1) → M.2.1 11 s ≤ M.1 15) := by
  have gA : ∀ X : MS, frm [52, 53, 54, 55, 56, 57] [] (grM M s L) X → ∀ j, j < 32 → ¬ X.2.1 26 j = 0 → awk X s j := by
    intro X hf j hj z
    obtain ⟨g1, g2⟩ := grp_26 M s (iter (grS M s) 0 L (0, 0))
    have g1 : frm [] [26] M (grM M s L) := g1
    have e : X.2.1 26 j = b2i (¬ (iter (grS M s) 0 L (0, 0)).1 = 0 ∧ awk M s j ∧ M.2.1 15 (32 * s + j) = (iter (grS M s) 0 L (0, 0)).2) := by
      rw [hf.a 26]
      exact g2 j hj
    rw [e, b2i_0] at z
    have z := (Classical.not_not.mp z).2.1
    unfold awk at z ⊢
    rw [hf.a 16, hf.a 17, g1.a 16, g1.a 17, lnI_m (M := M) (by rw [hf.a 10, g1.a 10]) (by rw [hf.f 1, g1.f 1]) (by rw [hf.f 13, g1.f 13])]
    exact z
  unfold z_rdy at h ⊢
  by_cases c1 : M.2.1 9 s = -1
  · rw [if_pos c1] at h
    cases h
  · rw [if_neg c1] at h ⊢
    by_cases c2 : (iter (grS M s) 0 L (0, 0)).1 = 0
    · rw [if_pos c2] at h
      cases h
    · rw [if_neg c2] at h ⊢
      by_cases c3 : plc (grM M s L) s < 0 ∨ ¬ plc (grM M s L) s < 128
      · rw [if_pos c3] at h ⊢
        exact ⟨gA _ frm.rf, fun z => absurd c3 z⟩
      · rw [if_neg c3] at h ⊢
        have ft : frm [52, 53, 54, 55, 56, 57] [] (grM M s L) (takM (grM M s L) s) := take_frm _ _
        have g1 : frm [] [26] M (grM M s L) := (grp_26 M s (iter (grS M s) 0 L (0, 0))).1
        have epl : plc (takM (grM M s L) s) s = plc (grM M s L) s := by
          unfold plc
          rw [fst1_eq (ft.a 26), ft.a 15]
        have ewd : wrd (takM (grM M s L) s) s = wrd (grM M s L) s := by
          unfold wrd
          rw [epl, ft.2.2]
        have etk : ∀ k, 52 ≤ k → k < 58 → (takM (takM (grM M s L) s) s).1 k = (takM (grM M s L) s).1 k := fun k x1 x2 => by
          show (z_take (takM (grM M s L) s) (wrd (takM (grM M s L) s) s)).1 k = (z_take (grM M s L) (wrd (grM M s L) s)).1 k
          rw [ewd]
          exact z_take_k _ _ _ k x1 x2
        by_cases c4 : ¬ wrdP (takM (grM M s L) s)
        · rw [if_pos c4]
          refine ⟨gA _ ft, fun _ z => absurd ?_ c4⟩
          show wrdP (takM (grM M s L) s)
          have z : wrdP (takM (takM (grM M s L) s) s) := z
          unfold wrdP at z ⊢
          rw [etk 52 (by decide) (by decide), etk 57 (by decide) (by decide)] at z
          exact z
        · rw [if_neg c4] at h ⊢
          refine ⟨gA _ ft, fun _ _ z => ?_⟩
          have z : memP (takM (takM (grM M s L) s) s) ∨ (takM (takM (grM M s L) s) s).1 52 = 0 ∨ (takM (takM (grM M s L) s) s).1 52 = 1 := z
          have h : rdyB (takM (grM M s L) s) u s (wdd (wrd (grM M s L) s)) (waa (wrd (grM M s L) s)) (wbb (wrd (grM M s L) s)) = true := h
          have em := (mem_fm (M := takM (grM M s L) s) (M' := takM (takM (grM M s L) s) s) (etk 52 (by decide) (by decide))).1
          rw [em, etk 52 (by decide) (by decide)] at z
          have h5 : rg5 (takM (grM M s L) s) u s := by
            unfold rdyB rdB5 at h
            rw [Bool.and_eq_true, Bool.and_eq_true] at h
            exact of_decide_eq_true h.1.2
          have h5 := h5.2
          rw [ft.a 11, ft.f 15, g1.a 11, g1.f 15] at h5
          rcases h5 with ⟨⟨y1, y2⟩, y3⟩ | y
          · exfalso
            rcases z with z | z | z
            · exact y1 z
            · exact y2 z
            · exact y3 z
          · exact y
theorem MI.goX (h : MI N c (c + 1) B) (hB : B + 160 ≤ 30000000) (hs : s < 128) (hn9 : ¬ N.2.1 9 s = -1) (h1 : N.1 1 = nI L) (hL : L ≤ 32) (hG1 : 1 ≤ G) (hG8 : G ≤ 8) (hgr : ∀ j, j < 32 → ¬ N.2.1 26 j = 0 → awk N s j) (hm : ¬ (plc N s < 0 ∨ ¬ plc N s < 128) → wrdP (takM N s) → (memP (takM N s) ∨ (takM N s).1 52 = 0 ∨ (takM N s).1 52 = 1) → N.2.1 11 s ≤ N.1 15) (h41 : N.1 41 = nI p0) (hp0 : p0 ≤ 4096) : MI (z_goX N u s L Bk G) c (c + 1) (B + 160) ∧ frm uFk uFj N (z_goX N u s L Bk G) ∧ (z_goX N u s L Bk G).2.1 7 = N.2.1 7 := by
  unfold z_goX
  have tr : ∀ (X : MS) (i : Nat) (k : Int32), frm [52, 53, 54, 55, 56, 57] [] N X → MI (z_trap X s i k) c (c + 1) (B + 160) ∧ frm uFk uFj N (z_trap X s i k) ∧ (z_trap X s i k).2.1 7 = N.2.1 7 := fun X i k hf => by
    have ft := trap_frm X s i k
    exact ⟨((h.fr hf (by decide) (by decide)).fr ft (by decide) (by decide)).up (by omega) hB, (hf.up (by decide) (by decide)).tr (ft.up (by decide) (by decide)), by rw [ft.a 7, hf.a 7]⟩
  by_cases c1 : plc N s < 0 ∨ ¬ plc N s < 128
  · rw [if_pos c1]
    exact tr N _ _ frm.rf
  · rw [if_neg c1]
    have ft : frm [52, 53, 54, 55, 56, 57] [] N (takM N s) := take_frm _ _
    by_cases c2 : ¬ wrdP (takM N s)
    · rw [if_pos c2]
      exact tr _ _ _ ft
    · rw [if_neg c2]
      obtain ⟨bk, hbk, e9⟩ := (h.1.2.2.2.1 s hs).resolve_left hn9
      have e9' : nN (N.2.1 9 s) = bk := by rw [e9]; exact nN_nI (by omega)
      rw [e9']
      have hm' := hm c1 (Classical.not_not.mp c2)
      have hT := h.fr ft (by decide) (by decide)
      obtain ⟨r1, r2, r3⟩ := hT.go (u := u) (d := wdd (wrd N s)) (a := waa (wrd N s)) (b := wbb (wrd N s)) (bk := bk) (Bk := Bk) hB hs (by rw [ft.a 9]; exact e9) hbk (by rw [ft.f 1]; exact h1) hL hG1 hG8 (fun j hj z => by
        rw [ft.a 26] at z
        have := hgr j hj z
        unfold awk at this ⊢
        rw [ft.a 16, ft.a 17, lnI_m (M := N) (ft.a 10) (ft.f 1) (ft.f 13)]
        exact this) (fun z => by rw [ft.a 11, ft.f 15]; exact hm' z) (by rw [ft.f 41]; exact h41) hp0
      exact ⟨r1, (ft.up (by decide) (by decide)).tr r2, r3.trans (ft.a 7)⟩
theorem MI.uL (hB : B + 160 ≤ 30000000) (hu : u < 8) (hS1 : 1 ≤ S) (hS : S ≤ 16) (hL : L ≤ 32) (hG1 : 1 ≤ G) (hG8 : G ≤ 8) (hp0 : p0 ≤ 4096) : ∀ (e k : Nat) (M : MS), MI M c (c + 1) B → LT M → M.1 1 = nI L → M.1 41 = nI p0 → MI (z_uL u L S Bk G k e M) c (c + 1) (B + 160) ∧ frm uFk uFj M (z_uL u L S Bk G k e M) ∧ LT (z_uL u L S Bk G k e M)
  | 0, k, M, h, hl, _, _ => ⟨h.up (by omega) hB, frm.rf, hl⟩
  | e + 1, k, M, h, hl, h1, h41 => by
    rw [z_uL_s]
    have hq : slt M u S k < 16 := by
      have := Nat.mod_lt (nN (M.2.1 7 u) + k) (show S > 0 by omega)
      unfold slt
      omega
    have rf := rdy_frm M u (16 * u + slt M u S k) L
    have hR := h.fr rf (by decide) (by decide)
    have lR : LT (z_rdy M u (16 * u + slt M u S k) L).2 := fun u' hu' => by rw [rf.a 7]; exact hl u' hu'
    by_cases cr : (z_rdy M u (16 * u + slt M u S k) L).1 = true
    · rw [if_pos cr]
      obtain ⟨k1, k2⟩ := rdy_ok cr
      have k3 := rdy_yes M u (16 * u + slt M u S k) L hL cr
      have f7 : frm [] [7] (z_rdy M u (16 * u + slt M u S k) L).2 (mA (z_rdy M u (16 * u + slt M u S k) L).2 7 u (nI (slt M u S k))) := frm.rf.mA (by decide)
      have e7 : ∀ x, (mA (z_rdy M u (16 * u + slt M u S k) L).2 7 u (nI (slt M u S k))).2.1 7 x = if x = u then nI (slt M u S k) else (z_rdy M u (16 * u + slt M u S k) L).2.2.1 7 x := fun x => by
        rw [mA_a, if_pos rfl]
        by_cases ex : x = u
        · rw [ex, pk_us, if_pos rfl]
        · rw [pk_un ex, if_neg ex]
      generalize slt M u S k = q at *
      generalize (z_rdy M u (16 * u + q) L).2 = R at *
      generalize mA R 7 u (nI q) = Q at *
      have hQ := hR.fr f7 (by decide) (by decide)
      have epl : plc Q (16 * u + q) = plc R (16 * u + q) := by
        unfold plc
        rw [fst1_eq (f7.a 26), f7.a 15]
      have ewd : wrd Q (16 * u + q) = wrd R (16 * u + q) := by
        unfold wrd
        rw [epl, f7.2.2]
      have etk : ∀ k', 52 ≤ k' → k' < 58 → (takM Q (16 * u + q)).1 k' = (takM R (16 * u + q)).1 k' := fun k' x1 x2 => by
        show (z_take Q (wrd Q (16 * u + q))).1 k' = (z_take R (wrd R (16 * u + q))).1 k'
        rw [ewd]
        exact z_take_k _ _ _ k' x1 x2
      obtain ⟨r1, r2, r3⟩ := hQ.goX (u := u) (s := 16 * u + q) (L := L) (Bk := Bk) (G := G) (p0 := p0) hB (by omega) (by rw [f7.a 9, rf.a 9]; exact k3.1) (by rw [f7.f 1, rf.f 1]; exact h1) hL hG1 hG8 (fun j hj z => by
        rw [f7.a 26] at z
        have := k1 j hj z
        unfold awk at this ⊢
        rw [f7.a 16, f7.a 17, lnI_m (M := R) (f7.a 10) (f7.f 1) (f7.f 13)]
        exact this) (fun z1 z2 z3 => by
        rw [f7.a 11, f7.f 15, rf.a 11, rf.f 15]
        refine k2 (by rw [← epl]; exact z1) ?_ ?_
        · unfold wrdP at z2 ⊢
          rw [etk 52 (by decide) (by decide), etk 57 (by decide) (by decide)] at z2
          exact z2
        · rw [(mem_fm (M := takM R (16 * u + q)) (M' := takM Q (16 * u + q)) (etk 52 (by decide) (by decide))).1, etk 52 (by decide) (by decide)] at z3
          exact z3) (by rw [f7.f 41, rf.f 41]; exact h41) hp0
      refine ⟨r1, ((rf.up (by decide) (by decide)).tr (f7.up (by decide) (by decide))).tr r2, fun u' hu' => ?_⟩
      rw [r3, e7]
      by_cases eu : u' = u
      · rw [if_pos eu]; exact ⟨q, hq, rfl⟩
      · rw [if_neg eu]; exact lR u' hu'
    · rw [if_neg cr]
      obtain ⟨r1, r2, r3⟩ := MI.uL hB hu hS1 hS hL hG1 hG8 hp0 e (k + 1) _ hR lR (by rw [rf.f 1]; exact h1) (by rw [rf.f 41]; exact h41)
      exact ⟨r1, (rf.up (by decide) (by decide)).tr r2, r3⟩
theorem MI.p (h : MI M c lo B) : ∃ p, M.1 41 = nI p ∧ p ≤ 4096 := by
  obtain ⟨_, p, p1, p2, _⟩ := h
  exact ⟨p, p2, p1⟩
theorem MI.unI {U : Nat} (hB : B + 160 * U ≤ 30000000) (hS1 : 1 ≤ S) (hS : S ≤ 16) (hL : L ≤ 32) (hG1 : 1 ≤ G) (hG8 : G ≤ 8) (hU : U ≤ 8) (h : MI M c (c + 1) B) (hl : LT M) (h1 : M.1 1 = nI L) : ∀ n, n ≤ U → MI (iter (unS L S Bk G) 0 n M) c (c + 1) (B + 160 * n) ∧ frm uFk uFj M (iter (unS L S Bk G) 0 n M) ∧ LT (iter (unS L S Bk G) 0 n M)
  | 0, _ => ⟨h, frm.rf, hl⟩
  | n + 1, hn => by
    obtain ⟨i1, i2, i3⟩ := MI.unI hB hS1 hS hL hG1 hG8 hU h hl h1 n (by omega)
    rw [iter_last, Nat.zero_add]
    generalize iter (unS L S Bk G) 0 n M = Y at *
    unfold unS
    by_cases c1 : Y.1 11 = 1
    · rw [if_pos c1]
      obtain ⟨p, hp, hp2⟩ := i1.p
      obtain ⟨r1, r2, r3⟩ := MI.uL (u := n) (S := S) (L := L) (Bk := Bk) (G := G) (p0 := p) (B := B + 160 * n) (by omega) (by omega) hS1 hS hL hG1 hG8 hp2 S 1 Y i1 i3 (by rw [i2.f 1]; exact h1) hp
      exact ⟨by rw [show B + 160 * (n + 1) = B + 160 * n + 160 by omega]; exact r1, i2.tr r2, r3⟩
    · rw [if_neg c1]
      exact ⟨i1.up (by omega) (by omega), i2, i3⟩
theorem cycE_f (M : MS) : (cycE M).1 15 = M.1 15 + 1 ∧ (cycE M).1 22 = M.1 22 + 1 ∧ frm [11, 15, 22] [] M (cycE M) := by
  have h1 : frm [11, 15, 22] [] M (mI (mI M 15 (M.1 15 + 1)) 22 (M.1 22 + 1)) := (frm.rf.mI (by decide)).mI (by decide)
  have e15 : (mI (mI M 15 (M.1 15 + 1)) 22 (M.1 22 + 1)).1 15 = M.1 15 + 1 := by rw [mI_g, if_neg (by decide), mI_g, if_pos rfl]
  have e22 : (mI (mI M 15 (M.1 15 + 1)) 22 (M.1 22 + 1)).1 22 = M.1 22 + 1 := by rw [mI_g, if_pos rfl]
  unfold cycE
  generalize mI (mI M 15 (M.1 15 + 1)) 22 (M.1 22 + 1) = Z at *
  by_cases c1 : M.1 41 ≤ 0
  · rw [if_pos c1]
    by_cases c2 : M.1 11 = 4
    · rw [if_pos c2, mI_g, mI_g, if_neg (by decide), if_neg (by decide)]
      exact ⟨e15, e22, h1.mI (by decide)⟩
    · rw [if_neg c2]
      by_cases c3 : M.1 21 = M.1 12
      · rw [if_pos c3, mI_g, mI_g, if_neg (by decide), if_neg (by decide)]
        exact ⟨e15, e22, h1.mI (by decide)⟩
      · rw [if_neg c3]
        exact ⟨e15, e22, h1⟩
  · rw [if_neg c1]
    exact ⟨e15, e22, h1⟩
/-- the end of a cycle -/
theorem MI.cyE (h : MI M c (c + 1) B) (hc : c + 1 ≤ 20000) (hB : c + 1 ≤ B) : MI (cycE M) (c + 1) (c + 1) B := by
  obtain ⟨e15, _, f0⟩ := cycE_f M
  obtain ⟨⟨⟨a1, a2, a3, a4⟩, b1, b2, b3, b4⟩, p, p1, p2, p3, p4⟩ := h
  refine ⟨⟨⟨by rw [e15, a1, nI_1], hc, hB, a4⟩, by rw [f0.a 16, f0.a 17]; exact b1, by rw [f0.a 9]; exact b2, by rw [f0.a 9]; exact b3, by rw [f0.a 4]; exact b4⟩, p, p1, by rw [f0.f 41]; exact p2, fun k hk => ?_, by rw [f0.a 20]; exact p4⟩
  have hd : M.1 42 ≤ M.2.1 19 k := by
    obtain ⟨_, _, _, _, _, _, _, _, z⟩ := p3 k hk
    exact z
  exact (p3 k hk).fr (f0.f 1) (f0.f 13) (by rw [f0.f 42, f0.a 19]; exact hd) (by rw [f0.a 20]) (by rw [f0.a 19]) (fun s' i' bk' _ _ _ _ _ => ⟨by rw [f0.a 9], by rw [f0.a 10], by rw [f0.a 11], by rw [f0.a 16]⟩)
end D4
