/-! E15: what holds from cycle to cycle -/
section E15
variable {nC nS n : Nat} {A A' : AH} {V V' : CW} {E E' : EL} {ad ad' : AA} {M M' N X Y : MS} {P : PP} {T Bk b1 b2 n0 n1 n2 s d a b bk c lo B u L S G p0 I p nx Bn Th W : Nat}
/-- slots are left, not taken -/
def le9 (M N : MS) : Prop := ∀ s, N.2.1 9 s = M.2.1 9 s ∨ N.2.1 9 s = -1
theorem le9.tr (h : le9 M N) (h2 : le9 N X) : le9 M X := fun s => by
  rcases h2 s with e | e
  · rw [e]; exact h s
  · exact Or.inr e
theorem le9.fr {ks js : List Nat} (hf : frm ks js M N) (hj : 9 ∉ js) : le9 M N := fun s => Or.inl (by rw [hf.2.1 9 hj])
theorem le9_uL (hL : L ≤ 32) (hS1 : 1 ≤ S) (hS : S ≤ 16) (hu : u < 8) : ∀ (e k : Nat) (M : MS), (∀ s, s < 128 → M.2.1 9 s = -1 ∨ ∃ bk, bk < 64 ∧ M.2.1 9 s = nI bk) → le9 M (z_uL u L S Bk G k e M)
  | 0, k, M, _ => fun s => Or.inl rfl
  | e + 1, k, M, h9 => by
    rw [z_uL_s]
    have hq : slt M u S k < 16 := by
      have := Nat.mod_lt (nN (M.2.1 7 u) + k) (show S > 0 by omega)
      unfold slt
      omega
    have rf := rdy_frm M u (16 * u + slt M u S k) L
    have k3 := rdy_yes M u (16 * u + slt M u S k) L hL
    generalize slt M u S k = q at *
    by_cases cr : (z_rdy M u (16 * u + q) L).1 = true
    · rw [if_pos cr]
      have k3 := k3 cr
      have f7 : frm [] [7] (z_rdy M u (16 * u + q) L).2 (mA (z_rdy M u (16 * u + q) L).2 7 u (nI q)) := frm.rf.mA (by decide)
      generalize (z_rdy M u (16 * u + q) L).2 = R at *
      generalize mA R 7 u (nI q) = Q at *
      have g0 : le9 M Q := (le9.fr rf (by decide)).tr (le9.fr f7 (by decide))
      have e9Q : Q.2.1 9 = M.2.1 9 := by rw [f7.a 9, rf.a 9]
      refine g0.tr ?_
      unfold z_goX
      have ft : frm [52, 53, 54, 55, 56, 57] [] Q (takM Q (16 * u + q)) := take_frm _ _
      by_cases c1 : plc Q (16 * u + q) < 0 ∨ ¬ plc Q (16 * u + q) < 128
      · rw [if_pos c1]
        exact le9.fr (trap_frm Q _ _ _) (by decide)
      · rw [if_neg c1]
        by_cases c2 : ¬ wrdP (takM Q (16 * u + q))
        · rw [if_pos c2]
          exact (le9.fr ft (by decide)).tr (le9.fr (trap_frm _ _ _ _) (by decide))
        · rw [if_neg c2]
          have hn9 : ¬ Q.2.1 9 (16 * u + q) = -1 := by rw [e9Q]; exact k3.1
          obtain ⟨bk, hbk, e9⟩ := (h9 (16 * u + q) (by omega)).resolve_left k3.1
          rw [← e9Q] at e9
          have e9' : nN (Q.2.1 9 (16 * u + q)) = bk := by rw [e9]; exact nN_nI (by omega)
          rw [e9']
          refine (le9.fr ft (by decide)).tr ?_
          have e9t : (takM Q (16 * u + q)).2.1 9 (16 * u + q) = nI bk := by rw [ft.a 9]; exact e9
          generalize takM Q (16 * u + q) = N at *
          generalize wdd (wrd Q (16 * u + q)) = d at *
          generalize waa (wrd Q (16 * u + q)) = a at *
          generalize wbb (wrd Q (16 * u + q)) = b at *
          have ecg : z_go N u (16 * u + q) d a b bk L Bk G = z_goO (trF (iter (doeS (16 * u + q)) 0 32 (0, 0, N)).2.2 (16 * u + q) a b 0 L) u (16 * u + q) d a b bk L Bk G (iter (doeS (16 * u + q)) 0 32 (0, 0, N)) := rfl
          have f2 := goMd_frm N u (16 * u + q) d a b bk L Bk G
          rw [ecg]
          cases e : trF (iter (doeS (16 * u + q)) 0 32 (0, 0, N)).2.2 (16 * u + q) a b 0 L with
          | some i =>
            obtain ⟨_, _, q3, _⟩ := doeI N (16 * u + q) 32
            show le9 N (z_trap (iter (doeS (16 * u + q)) 0 32 (0, 0, N)).2.2 (16 * u + q) i _)
            exact (le9.fr q3 (by decide)).tr (le9.fr (trap_frm _ _ _ _) (by decide))
          | none =>
            show le9 N (wr4 (16 * u + q) L (goMd N u (16 * u + q) d a b bk L Bk G))
            refine (le9.fr f2 (by decide)).tr ?_
            have e9z : (goMd N u (16 * u + q) d a b bk L Bk G).2.1 9 (16 * u + q) = nI bk := by rw [f2.a 9]; exact e9t
            generalize goMd N u (16 * u + q) d a b bk L Bk G = Z at *
            unfold wr4
            by_cases c3 : 2 ≤ Z.1 52
            · rw [if_pos c3]; exact fun s => Or.inl rfl
            · rw [if_neg c3, e9z]
              have hp1 : (nI bk : Int32) ≠ -1 := fun z => by
                have h2 := nI_pos' (n := bk) (by omega)
                rw [z] at h2
                exact absurd h2 (by decide)
              intro s
              rw [(settleP Z L hL (nI bk) hp1).2.2.1 s]
              split
              · exact Or.inr rfl
              · exact Or.inl rfl
    · rw [if_neg cr]
      exact (le9.fr rf (by decide)).tr (le9_uL hL hS1 hS hu e (k + 1) _ (by rw [rf.a 9]; exact h9))
theorem blL.le (h : blL M nx) (h9 : le9 M N) : blL N nx := fun s bk hs hbk e => by
  rcases h9 s with z | z
  · rw [z] at e
    exact h s bk hs hbk e
  · rw [z] at e
    have h2 := nI_pos' (n := bk) (by omega)
    rw [← e] at h2
    exact absurd h2 (by decide)
/-- the units, in the model -/
theorem unI_P (hS1 : 1 ≤ S) (hS : S ≤ 16) (hL : L ≤ 32) (hG1 : 1 ≤ G) (hG8 : G ≤ 8) (hU : u ≤ 8) (hI : I ≤ 4096) (hB : B + 1280 ≤ 30000000) (h : MI M c (c + 1) B) (hl : LT M) (h1 : M.1 1 = nI L) (h6 : M.1 6 = nI I) (zq : ZQ M I) : ∀ n, n ≤ u → ZQ (iter (unS L S Bk G) 0 n M) I ∧ le9 M (iter (unS L S Bk G) 0 n M)
  | 0, _ => ⟨zq, fun s => Or.inl rfl⟩
  | n + 1, hn => by
    obtain ⟨i1, i2⟩ := unI_P hS1 hS hL hG1 hG8 hU hI hB h hl h1 h6 zq n (by omega)
    obtain ⟨j1, j2, j3⟩ := MI.unI (S := S) (L := L) (Bk := Bk) (G := G) (U := u) (B := B) (by omega) hS1 hS hL hG1 hG8 hU h hl h1 n (by omega)
    rw [iter_last, Nat.zero_add]
    generalize iter (unS L S Bk G) 0 n M = Y at *
    unfold unS
    by_cases c1 : Y.1 11 = 1
    · rw [if_pos c1]
      obtain ⟨p, hp, hp2⟩ := j1.p
      exact ⟨ZQ.uL (B := B + 160 * n) (by omega) (by omega) hS1 hS hL hI hp2 S 1 Y i1 j1 (by rw [j2.f 6]; exact h6) hp, i2.tr (le9_uL hL hS1 hS (by omega) S 1 Y j1.1.2.2.2.1)⟩
    · rw [if_neg c1]
      exact ⟨i1, i2⟩
/-- a cycle of the model -/
theorem cyc_P (hP6 : P 6 ≤ 32) (hP7 : P 7 ≤ 16) (hP8 : P 8 ≤ 8) (hP9 : P 9 ≤ 8) (h1 : M.1 1 = nI (P 6)) (hm : MI M c c (1280 * c)) (hl : LT M) (sm : SM M P Bk I) (zq : ZQ M I) (la : LA M P nx Bn Th W) (hc : c + 1 ≤ 20000) (h41 : M.1 41 = nI p) (hp : p ≤ 4096) :
    MI (z_cyc (P 6) (P 7) (P 8) Bk (P 9) W Bn nx p M) (c + 1) (c + 1) (1280 * (c + 1)) ∧ LT (z_cyc (P 6) (P 7) (P 8) Bk (P 9) W Bn nx p M) ∧ SM (z_cyc (P 6) (P 7) (P 8) Bk (P 9) W Bn nx p M) P Bk I ∧ ZQ (z_cyc (P 6) (P 7) (P 8) Bk (P 9) W Bn nx p M) I ∧ (∃ nx', LA (z_cyc (P 6) (P 7) (P 8) Bk (P 9) W Bn nx p M) P nx' Bn Th W) ∧ (z_cyc (P 6) (P 7) (P 8) Bk (P 9) W Bn nx p M).1 22 = M.1 22 + 1 ∧ (z_cyc (P 6) (P 7) (P 8) Bk (P 9) W Bn nx p M).1 0 = M.1 0 ∧ ∀ u, u ≤ P 8 → LT (iter (unS (P 6) (P 7) Bk (P 9)) 0 u (cycD (P 8) (P 7) W Bn nx (z_pend M p))) ∧ MI (iter (unS (P 6) (P 7) Bk (P 9)) 0 u (cycD (P 8) (P 7) W Bn nx (z_pend M p))) c (c + 1) (1280 * c + 160 * u) ∧ SM (iter (unS (P 6) (P 7) Bk (P 9)) 0 u (cycD (P 8) (P 7) W Bn nx (z_pend M p))) P Bk I ∧ (iter (unS (P 6) (P 7) Bk (P 9)) 0 u (cycD (P 8) (P 7) W Bn nx (z_pend M p))).1 1 = M.1 1 ∧ (iter (unS (P 6) (P 7) Bk (P 9)) 0 u (cycD (P 8) (P 7) W Bn nx (z_pend M p))).1 2 = M.1 2 := by
  have sm' := sm
  obtain ⟨s3, s4, s5, s6, ⟨q6, q7, q8, q9⟩, ⟨qb1, qb2⟩, qi1, qi2⟩ := sm'
  have pf := pend_frm M p
  have hm1 := hm.pend h41 hp
  have hl1 := hl.fr pf (by decide)
  have la1 := la.fr pf (by decide) (la.2.2.2.1.fr pf (by decide))
  have zq1 := zq.pend qi2 h41 hp
  unfold z_cyc
  generalize z_pend M p = N at *
  have hdf : frm [14] [9, 10, 11, 12, 13, 14, 15, 16, 17, 18] N (cycD (P 8) (P 7) W Bn nx N) := by
    unfold cycD
    by_cases c1 : N.1 11 = 1
    · rw [if_pos c1]
      exact disp_frm _ _ _ (by have := la1.2.2.1; omega)
    · rw [if_neg c1]
      exact frm.rf
  obtain ⟨d1, d2, ⟨nx', d3⟩, _, _⟩ := cycD_P (U := P 8) (S := P 7) hP8 hP7 hm1 hl1 la1
  have zq2 := zq1.fr hdf (by decide) (by decide)
  generalize cycD (P 8) (P 7) W Bn nx N = D at *
  have fMD : frm [14, 41, 42] [2, 9, 10, 11, 12, 13, 14, 15, 16, 17, 18, 19, 20, 21, 22, 23, 24] M D := (pf.up (by decide) (by decide)).tr (hdf.up (by decide) (by decide))
  have un := MI.unI (S := P 7) (L := P 6) (Bk := Bk) (G := P 9) (U := P 8) (B := 1280 * c) (by omega) q7 hP7 hP6 q9 hP9 hP8 d1 d2 (by rw [fMD.f 1]; exact h1)
  have un2 := unI_P (S := P 7) (L := P 6) (Bk := Bk) (G := P 9) (u := P 8) (B := 1280 * c) q7 hP7 hP6 q9 hP9 hP8 qi2 (by omega) d1 d2 (by rw [fMD.f 1]; exact h1) (by rw [fMD.f 6]; exact s6) zq2
  have each : ∀ u, u ≤ P 8 → LT (iter (unS (P 6) (P 7) Bk (P 9)) 0 u D) ∧ MI (iter (unS (P 6) (P 7) Bk (P 9)) 0 u D) c (c + 1) (1280 * c + 160 * u) ∧ SM (iter (unS (P 6) (P 7) Bk (P 9)) 0 u D) P Bk I ∧ (iter (unS (P 6) (P 7) Bk (P 9)) 0 u D).1 1 = M.1 1 ∧ (iter (unS (P 6) (P 7) Bk (P 9)) 0 u D).1 2 = M.1 2 := fun u hu => by
    obtain ⟨i1, i2, i3⟩ := un u hu
    exact ⟨i3, i1, (sm.fr fMD (by decide)).fr i2 (by decide), by rw [i2.f 1, fMD.f 1], by rw [i2.f 2, fMD.f 2]⟩
  obtain ⟨i1, i2, i3⟩ := un (P 8) (Nat.le_refl _)
  obtain ⟨k1, k2⟩ := un2 (P 8) (Nat.le_refl _)
  have hb := d3.2.2.2.1.le k2
  have la2 := d3.fr i2 (by decide) hb
  have sm2 := (sm.fr fMD (by decide)).fr i2 (by decide)
  have e22 : (iter (unS (P 6) (P 7) Bk (P 9)) 0 (P 8) D).1 22 = M.1 22 := by rw [i2.f 22, fMD.f 22]
  have e0 : (iter (unS (P 6) (P 7) Bk (P 9)) 0 (P 8) D).1 0 = M.1 0 := by rw [i2.f 0, fMD.f 0]
  generalize iter (unS (P 6) (P 7) Bk (P 9)) 0 (P 8) D = Y at *
  obtain ⟨e15, e22', f0⟩ := cycE_f Y
  have hmY := (i1.up (B' := 1280 * (c + 1)) (by omega) (by omega)).cyE hc (by omega)
  exact ⟨hmY, i3.fr f0 (by decide), sm2.fr f0 (by decide), k1.fr f0 (by decide) (by decide), ⟨nx', la2.fr f0 (by decide) (hb.fr f0 (by decide))⟩, by rw [e22', e22], by rw [f0.f 0, e0], each⟩
end E15
