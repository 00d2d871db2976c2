/-! E14: the model's memory beyond its ints is nothing; what is asked for lies in it -/
def ZQ (M : MS) (I : Nat) : Prop := (∀ p k, M.1 41 = nI p → p ≤ 4096 → k < p → ∃ q, q < I ∧ M.2.1 22 k = nI q) ∧ ∀ k, I ≤ k → M.2.1 2 k = 0
section E14
variable {M N X Y : MS} {s d a b bk c lo B u L S Bk G p0 I p : Nat}
theorem ZQ.fr {ks js : List Nat} (h : ZQ M I) (hf : frm ks js M N) (hk : 41 ∉ ks) (hj : 2 ∉ js ∧ 22 ∉ js) : ZQ N I := by
  unfold ZQ at h ⊢
  rw [hf.1 41 hk, hf.2.1 2 hj.1, hf.2.1 22 hj.2]
  exact h
theorem one_2 (M : MS) (k x : Nat) (hx : x ≠ nN (M.2.1 22 k)) : (z_one M k).2.1 2 x = M.2.1 2 x := by
  unfold z_one oneA
  by_cases c : (¬ nI (nN (M.2.1 21 k) / 16) = 51 ∧ M.2.1 9 (nN (M.2.1 20 k) / 32 % 128) = nI (nN (M.2.1 20 k) / 32 / 128))
  · rw [if_pos c, mA_a, if_neg (by decide), mA_a, if_pos rfl, pk_un hx]
  · rw [if_neg c, mA_a, if_pos rfl, pk_un hx]
theorem dn_2 (hq : ∀ k, k < p → ∃ q, q < I ∧ M.2.1 22 k = nI q) (hI : I ≤ 4096) : ∀ n, n ≤ p → ∀ x, I ≤ x → (iter dnS 0 n M).2.1 2 x = M.2.1 2 x
  | 0, _, _, _ => rfl
  | n + 1, hn, x, hx => by
    have ih := dn_2 hq hI n (by omega) x hx
    have hf := dn_frm M n
    rw [iter_last, Nat.zero_add]
    generalize iter dnS 0 n M = Z at *
    unfold dnS
    by_cases c : Z.1 15 < Z.2.1 19 n
    · rw [if_pos c]; exact ih
    · rw [if_neg c, one_2, ih]
      obtain ⟨q, q1, q2⟩ := hq n (by omega)
      rw [hf.a 22, q2, nN_nI (by omega)]
      omega
theorem ZQ.pend (h : ZQ M I) (hI : I ≤ 4096) (hp : M.1 41 = nI p) (hp2 : p ≤ 4096) : ZQ (z_pend M p) I := by
  have hq : ∀ k, k < p → ∃ q, q < I ∧ M.2.1 22 k = nI q := fun k hk => h.1 p k hp hp2 hk
  unfold z_pend
  by_cases cc : M.1 42 ≤ M.1 15
  · rw [if_pos cc]
    obtain ⟨i1, i2, i3, i4, i5, i6⟩ := pdI M p
    generalize iter pdS 0 p (0, mI M 42 2147483647) = Z at *
    refine ⟨fun p' k hp' hp2' hk => ?_, fun k hk => ?_⟩
    · have e41 : (pdE Z).1 41 = nI (cnB (kpB M) p) := by
        show (mI Z.2 41 (nI Z.1)).1 41 = _
        rw [mI_g, if_pos rfl, i1]
      have := cnB_le (kpB M) p
      have ep : p' = cnB (kpB M) p := (nI_eq (by omega) (by omega)).mp (hp'.symm.trans e41)
      obtain ⟨k0, z1, z2, z3⟩ := cnB_ex (f := kpB M) p (t := k) (by omega)
      have e22 : (pdE Z).2.1 22 k = M.2.1 22 k0 := by rw [← z3]; exact i5 22 k0 (by omega) (by omega) z1 z2
      rw [e22]
      exact hq k0 z1
    · show Z.2.2.1 2 k = 0
      rw [i3.1, dn_2 hq hI p (Nat.le_refl _) k hk]
      exact h.2 k hk
  · rw [if_neg cc]
    exact h
theorem disp_frm {U S W : Nat} : ∀ (d nx : Nat) (M : MS), nx + d ≤ 64 → frm [14] [9, 10, 11, 12, 13, 14, 15, 16, 17, 18] M (z_disp U S W d nx M)
  | 0, nx, M, _ => frm.rf
  | d + 1, nx, M, hd => by
    unfold z_disp
    cases e : fuF M W S 0 U with
    | none => exact frm.rf
    | some u =>
      have f0 := (begin_P M u nx W S (by omega)).1
      have f1 : frm [14] [9, 10, 11, 12, 13, 14, 15, 16, 17, 18] M (mI (z_begin M u nx W S) 14 (nI (nx + 1))) := (f0.up (by decide) (by decide)).mI (by decide)
      exact f1.tr (disp_frm d (nx + 1) _ (by omega))
theorem goA_frm (hnm : ¬ (memP X ∧ ¬ shP X)) : ∀ n, frm [] [13, 14, 15, 16, 17, 18] X (iter (goS s d a b bk) 0 n X)
  | 0 => frm.rf
  | n + 1 => by
    have ih := goA_frm hnm n
    rw [iter_last, Nat.zero_add]
    generalize iter (goS s d a b bk) 0 n X = Z at *
    have e52 : Z.1 52 = X.1 52 := ih.f 52
    unfold goS
    by_cases c : Z.2.1 26 n = 0
    · rw [if_pos c]; exact ih
    · rw [if_neg c]
      by_cases c2 : Z.2.1 27 n = 0
      · rw [if_pos c2]; exact ih.mA (by decide)
      · rw [if_neg c2]
        have e15 : frm [] [13, 14, 15, 16, 17, 18] X (mA Z 15 (32 * s + n) (Z.2.1 15 (32 * s + n) + 1)) := ih.mA (by decide)
        refine e15.tr (act_frmA ?_)
        obtain ⟨em, es⟩ := mem_fm (M := X) (M' := mA Z 15 (32 * s + n) (Z.2.1 15 (32 * s + n) + 1)) e52
        rw [em, es]; exact hnm
/-- places that lanes ask for -/
theorem goG_22 (hm : memP X ∧ ¬ shP X) (h41 : X.1 41 = nI p0) (hp0 : p0 + 32 ≤ 4096) (h26 : ∀ j, j < 32 → ¬ X.2.1 27 j = 0 → ¬ X.2.1 26 j = 0) : ∀ n, n ≤ 32 → (∀ k, k < p0 → (iter (goS s d a b bk) 0 n X).2.1 22 k = X.2.1 22 k) ∧ ∀ j, j < n → asF X j = true → (iter (goS s d a b bk) 0 n X).2.1 22 (p0 + cnB (asF X) j) = askV X s a j
  | 0, _ => ⟨fun _ _ => rfl, fun j hj => absurd hj (Nat.not_lt_zero _)⟩
  | n + 1, hn => by
    obtain ⟨j3, j4⟩ := goG_22 hm h41 hp0 h26 n (by omega)
    obtain ⟨i1, i2, _⟩ := goG_P (s := s) (d := d) (a := a) (b := b) (bk := bk) hm h41 hp0 h26 n (by omega)
    rw [iter_last, Nat.zero_add]
    generalize iter (goS s d a b bk) 0 n X = Z at *
    have e26 : Z.2.1 26 = X.2.1 26 := i1.a 26
    have e27 : Z.2.1 27 = X.2.1 27 := i1.a 27
    have hcn := cnB_le (asF X) n
    unfold goS
    have skip : asF X n = false → ∀ Q : MS, frm [] [15] Z Q → (∀ k, k < p0 → Q.2.1 22 k = X.2.1 22 k) ∧ ∀ j, j < n + 1 → asF X j = true → Q.2.1 22 (p0 + cnB (asF X) j) = askV X s a j := by
      intro hf Q hq
      refine ⟨fun k hk => by rw [hq.a 22]; exact j3 k hk, fun j hj hjf => ?_⟩
      have : j ≠ n := fun z => by rw [z, hf] at hjf; cases hjf
      rw [hq.a 22]; exact j4 j (by omega) hjf
    by_cases c : Z.2.1 26 n = 0
    · rw [if_pos c]
      refine skip ?_ Z frm.rf
      refine decide_eq_false (fun z => h26 n (by omega) z ?_)
      rw [← e26]; exact c
    · rw [if_neg c]
      have hq15 : frm [] [15] Z (mA Z 15 (32 * s + n) (Z.2.1 15 (32 * s + n) + 1)) := frm.rf.mA (by decide)
      by_cases c2 : Z.2.1 27 n = 0
      · rw [if_pos c2]
        exact skip (decide_eq_false (fun z => z (by rw [← e27]; exact c2))) _ hq15
      · rw [if_neg c2]
        have ep : nN (Z.1 41) = p0 + cnB (asF X) n := by rw [i2]; exact nN_nI (by omega)
        rw [ep]
        have f0 := i1.tr (hq15.up (by decide) (by decide))
        generalize mA Z 15 (32 * s + n) (Z.2.1 15 (32 * s + n) + 1) = Q at *
        have e52 : Q.1 52 = X.1 52 := f0.f 52
        obtain ⟨em, es⟩ := mem_fm (M := X) (M' := Q) e52
        rw [z_glob (by rw [em, es]; exact hm)]
        have eask : askV Q s a n = askV X s a n := ask_fm (f0.a 13) (f0.f 57) s a n
        rw [eask]
        have z22 : ∀ av bv dv, (z_ask Q s n (p0 + cnB (asF X) n) bk av bv dv).2.1 22 = upd (Q.2.1 22) (p0 + cnB (asF X) n) av := fun _ _ _ => rfl
        refine ⟨fun k hk => ?_, fun j hj hjf => ?_⟩
        · rw [z22, pk_un (by omega), hq15.a 22]
          exact j3 k hk
        · by_cases ej : j = n
          · rw [ej, z22, pk_us]
          · have hlt := cnB_mo (f := asF X) (k := j) (k' := n) (by omega) hjf
            rw [z22, pk_un (by omega), hq15.a 22]
            exact j4 j (by omega) hjf
theorem wr123_frm (s d : Nat) (t : Int32) (X : MS) : frm [] [11, 12] X (wr3 s t (wr2 s t (wr1 s d t X))) := wr_frm s d t X
theorem ZQ.go (zq : ZQ N I) (h : MI N c (c + 1) B) (hs : s < 128) (h9 : N.2.1 9 s = nI bk) (hbk : bk < 64) (h6 : N.1 6 = nI I) (hI : I ≤ 4096) (hL : L ≤ 32) (hm : (memP N ∨ N.1 52 = 0 ∨ N.1 52 = 1) → N.2.1 11 s ≤ N.1 15) (h41 : N.1 41 = nI p0) (hp0 : p0 ≤ 4096) : ZQ (z_go N u s d a b bk L Bk G) I := by
  obtain ⟨_, _, q3, q4⟩ := doeI N s 32
  have ecg : z_go N u s d a b bk L Bk G = z_goO (trF (iter (doeS s) 0 32 (0, 0, N)).2.2 s a b 0 L) u s d a b bk L Bk G (iter (doeS s) 0 32 (0, 0, N)) := rfl
  rw [ecg]
  have h27 : ∀ j, j < 32 → ¬ (iter (doeS s) 0 32 (0, 0, N)).2.2.2.1 27 j = 0 → ¬ N.2.1 26 j = 0 := fun j hj z => by
    rw [q4 j hj] at z
    exact ((doe_P N s j).mp z).1
  generalize iter (doeS s) 0 32 (0, 0, N) = cc at *
  have z2 : ZQ cc.2.2 I := zq.fr q3 (by decide) (by decide)
  rcases trF_P cc.2.2 s a b L 0 with ⟨e, hno⟩ | ⟨i, e, _⟩
  · rw [e]
    show ZQ (wr4 s L (wr3 s (z_time cc.2.2 u s a L Bk G).1 (wr2 s (z_time cc.2.2 u s a L Bk G).1 (wr1 s d (z_time cc.2.2 u s a L Bk G).1 (iter (goS s d a b bk) 0 L (z_tog (cntM u cc.1 cc.2.1 (z_time cc.2.2 u s a L Bk G).2) s a L)))))) I
    have tf := time_frm cc.2.2 u s a L Bk G
    generalize (z_time cc.2.2 u s a L Bk G).1 = t at *
    generalize (z_time cc.2.2 u s a L Bk G).2 = T2 at *
    have fx : frm [16, 17, 18, 19, 20, 58] [3, 4, 5, 6, 8, 25, 28] cc.2.2 (z_tog (cntM u cc.1 cc.2.1 T2) s a L) := ((tf.up (by decide) (by decide)).tr ((cnt_frm u cc.1 cc.2.1 T2).up (by decide) (by decide))).tr ((tog_frm (cntM u cc.1 cc.2.1 T2) s a L).up (by decide) (by decide))
    generalize z_tog (cntM u cc.1 cc.2.1 T2) s a L = X at *
    have zX : ZQ X I := z2.fr fx (by decide) (by decide)
    have fNX : frm [16, 17, 18, 19, 20, 58] [3, 4, 5, 6, 8, 25, 27, 28] N X := (q3.up (by decide) (by decide)).tr (fx.up (by decide) (by decide))
    obtain ⟨xm, xs⟩ := mem_fm (M := N) (M' := X) (fNX.f 52)
    have zY : ZQ (iter (goS s d a b bk) 0 L X) I ∧ (iter (goS s d a b bk) 0 L X).2.1 9 s = nI bk := by
      have f9 : (iter (goS s d a b bk) 0 L X).2.1 9 = X.2.1 9 := (frm.iter (f := goS s d a b bk) (fun i M => goS_frm' s d a b bk i M) L 0 X).a 9
      refine ⟨?_, by rw [f9, fNX.a 9]; exact h9⟩
      by_cases cg : memP X ∧ ¬ shP X
      · have hr := h.room h41 hp0 hs (hm (Or.inl (by rw [← xm]; exact cg.1)))
        have h41X : X.1 41 = nI p0 := by rw [fNX.f 41]; exact h41
        have h26X : ∀ j, j < 32 → ¬ X.2.1 27 j = 0 → ¬ X.2.1 26 j = 0 := fun j hj z => by
          rw [fx.a 27] at z
          rw [fNX.a 26]
          exact h27 j hj z
        obtain ⟨y1, y2, _⟩ := goG_P (s := s) (d := d) (a := a) (b := b) (bk := bk) cg h41X hr h26X L hL
        obtain ⟨w1, w2⟩ := goG_22 (s := s) (d := d) (a := a) (b := b) (bk := bk) cg h41X hr h26X L hL
        generalize iter (goS s d a b bk) 0 L X = Y at *
        have hcn := cnB_le (asF X) L
        refine ⟨fun p' k hp' hp2' hk => ?_, fun k hk => by rw [y1.a 2]; exact zX.2 k hk⟩
        have ep : p' = p0 + cnB (asF X) L := (nI_eq (by omega) (by omega)).mp (hp'.symm.trans y2)
        by_cases ck : k < p0
        · rw [w1 k ck]
          exact zX.1 p0 k h41X (by omega) ck
        · obtain ⟨j, v1, v2, v3⟩ := cnB_ex (f := asF X) (t := k - p0) L (by omega)
          rw [show k = p0 + cnB (asF X) j by omega, w2 j v1 v2]
          have hX27 : ¬ cc.2.2.2.1 27 j = 0 := by rw [← fx.a 27]; exact of_decide_eq_true v2
          have hwhy : whyV cc.2.2 (32 * s + j) a b = 0 := Classical.byContradiction fun z => hno j (by omega) (by omega) ⟨hX27, z⟩
          obtain ⟨cm, cs⟩ := mem_fm (M := X) (M' := cc.2.2) (fx.f 52).symm
          obtain ⟨g1, g2⟩ := why0_mem hwhy (by rw [cm]; exact cg.1)
          rw [if_neg (by rw [cs]; exact cg.2), q3.f 6, h6] at g2
          obtain ⟨q, q1, q2⟩ := rngI g1 g2 (by omega)
          refine ⟨q, q1, ?_⟩
          have eask : askV X s a j = askV cc.2.2 s a j := ask_fm (fx.a 13) (fx.f 57) s a j
          rw [eask]
          exact q2
      · exact zX.fr (goA_frm (s := s) (d := d) (a := a) (b := b) (bk := bk) cg L) (by decide) (by decide)
    obtain ⟨zY, e9⟩ := zY
    generalize iter (goS s d a b bk) 0 L X = Y at *
    have fw := wr_frm s d t Y
    have zZ := zY.fr fw (by decide) (by decide)
    have e9' : (wr3 s t (wr2 s t (wr1 s d t Y))).2.1 9 s = nI bk := by rw [fw.a 9]; exact e9
    generalize wr3 s t (wr2 s t (wr1 s d t Y)) = Z at *
    unfold wr4
    by_cases c2 : 2 ≤ Z.1 52
    · rw [if_pos c2]; exact zZ
    · rw [if_neg c2, e9']
      have hp1 : (nI bk : Int32) ≠ -1 := fun z => by
        have h2 := nI_pos' (n := bk) (by omega)
        rw [z] at h2
        exact absurd h2 (by decide)
      exact zZ.fr (settleP Z L hL (nI bk) hp1).1 (by decide) (by decide)
  · rw [e]
    show ZQ (z_trap cc.2.2 s i (whyV cc.2.2 (32 * s + i) a b)) I
    exact z2.fr (trap_frm cc.2.2 s i _) (by decide) (by decide)
theorem ZQ.uL (hB : B + 160 ≤ 30000000) (hu : u < 8) (hS1 : 1 ≤ S) (hS : S ≤ 16) (hL : L ≤ 32) (hI : I ≤ 4096) (hp0 : p0 ≤ 4096) : ∀ (e k : Nat) (M : MS), ZQ M I → MI M c (c + 1) B → M.1 6 = nI I → M.1 41 = nI p0 → ZQ (z_uL u L S Bk G k e M) I
  | 0, k, M, zq, h, _, _ => zq
  | e + 1, k, M, zq, h, h6, h41 => by
    rw [z_uL_s]
    have hq : slt M u S k < 16 := by
      have := Nat.mod_lt (nN (M.2.1 7 u) + k) (show S > 0 by omega)
      unfold slt
      omega
    have rf := rdy_frm M u (16 * u + slt M u S k) L
    have hR := h.fr rf (by decide) (by decide)
    have zR := zq.fr rf (by decide) (by decide)
    by_cases cr : (z_rdy M u (16 * u + slt M u S k) L).1 = true
    · rw [if_pos cr]
      obtain ⟨k1, k2⟩ := rdy_ok cr
      have k3 := rdy_yes M u (16 * u + slt M u S k) L hL cr
      have f7 : frm [] [7] (z_rdy M u (16 * u + slt M u S k) L).2 (mA (z_rdy M u (16 * u + slt M u S k) L).2 7 u (nI (slt M u S k))) := frm.rf.mA (by decide)
      generalize slt M u S k = q at *
      generalize (z_rdy M u (16 * u + q) L).2 = R at *
      generalize mA R 7 u (nI q) = Q at *
      have hQ := hR.fr f7 (by decide) (by decide)
      have zQ := zR.fr f7 (by decide) (by decide)
      have epl : plc Q (16 * u + q) = plc R (16 * u + q) := by
        unfold plc
        rw [fst1_eq (f7.a 26), f7.a 15]
      have ewd : wrd Q (16 * u + q) = wrd R (16 * u + q) := by
        unfold wrd
        rw [epl, f7.2.2]
      have etk : ∀ k', 52 ≤ k' → k' < 58 → (takM Q (16 * u + q)).1 k' = (takM R (16 * u + q)).1 k' := fun k' x1 x2 => by
        show (z_take Q (wrd Q (16 * u + q))).1 k' = (z_take R (wrd R (16 * u + q))).1 k'
        rw [ewd]
        exact z_take_k _ _ _ k' x1 x2
      unfold z_goX
      have ft : frm [52, 53, 54, 55, 56, 57] [] Q (takM Q (16 * u + q)) := take_frm _ _
      by_cases c1 : plc Q (16 * u + q) < 0 ∨ ¬ plc Q (16 * u + q) < 128
      · rw [if_pos c1]
        exact zQ.fr (trap_frm Q _ _ _) (by decide) (by decide)
      · rw [if_neg c1]
        by_cases c2 : ¬ wrdP (takM Q (16 * u + q))
        · rw [if_pos c2]
          exact (zQ.fr ft (by decide) (by decide)).fr (trap_frm _ _ _ _) (by decide) (by decide)
        · rw [if_neg c2]
          have hn9 : ¬ Q.2.1 9 (16 * u + q) = -1 := by rw [f7.a 9, rf.a 9]; exact k3.1
          obtain ⟨bk, hbk, e9⟩ := (hQ.1.2.2.2.1 (16 * u + q) (by omega)).resolve_left hn9
          have e9' : nN (Q.2.1 9 (16 * u + q)) = bk := by rw [e9]; exact nN_nI (by omega)
          rw [e9']
          refine (zQ.fr ft (by decide) (by decide)).go (hQ.fr ft (by decide) (by decide)) (p0 := p0) (by omega) (by rw [ft.a 9]; exact e9) hbk (by rw [ft.f 6, f7.f 6, rf.f 6]; exact h6) hI hL (fun z3 => ?_) (by rw [ft.f 41, f7.f 41, rf.f 41]; exact h41) hp0
          rw [ft.a 11, ft.f 15, f7.a 11, f7.f 15, rf.a 11, rf.f 15]
          have z2 := Classical.not_not.mp c2
          refine k2 (by rw [← epl]; exact c1) ?_ ?_
          · unfold wrdP at z2 ⊢
            rw [etk 52 (by decide) (by decide), etk 57 (by decide) (by decide)] at z2
            exact z2
          · rw [(mem_fm (M := takM R (16 * u + q)) (M' := takM Q (16 * u + q)) (etk 52 (by decide) (by decide))).1, etk 52 (by decide) (by decide)] at z3
            exact z3
    · rw [if_neg cr]
      exact ZQ.uL hB hu hS1 hS hL hI hp0 e (k + 1) _ zR hR (by rw [rf.f 6]; exact h6) (by rw [rf.f 41]; exact h41)
end E14
