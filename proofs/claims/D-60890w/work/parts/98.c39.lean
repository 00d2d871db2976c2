/-! C39: lanes act in a row -/
section C39
variable {nC nS n : Nat} {A : AH} {V V' : CW} {E E' : EL} {ad : AA} {M M' : MS} {P : PP} {x T Bk b1 b2 : Nat} {S1 S2 : Nat → Bool}
theorem act_frmA {s i d a b p bk q o : Nat} {old : Int32} (hnm : ¬ (memP M ∧ ¬ shP M)) : frm [] [13, 14, 15, 16, 17, 18] M (z_act M s i old d a b p bk q o) := by
  refine act_ind (fun X => frm [] [13, 14, 15, 16, 17, 18] M X) M s i old d a b p bk q o (frm.rf.mA (by decide)) (frm.rf.mA (by decide)) (fun v => frm.rf.mA (by decide)) (fun z => absurd z hnm) (fun y => ?_) ?_ ?_
  · unfold z_say
    exact frm.rf.mA (by decide)
  · unfold z_touch
    split
    · exact frm.rf.mA (by decide)
    · exact (frm.rf.mA (by decide)).mA (by decide)
  · unfold z_jump
    split
    · exact (frm.rf.mA (by decide)).mA (by decide)
    · exact frm.rf.mA (by decide)
/-- what a word's lanes have to meet -/
def okW (M : MS) (s d a b bk p0 : Nat) : Prop := ((∃ op, M.1 52 = nI op ∧ op < 256) ∧ M.1 53 = nI d ∧ M.1 54 = nI a ∧ M.1 55 = nI b ∧ d < 16 ∧ a < 16 ∧ b < 16) ∧ (M.2.1 9 s = nI bk ∧ bk < 64) ∧ wrdP M ∧ (∀ k, k < 32 → ¬ M.2.1 27 k = 0 → (M.1 52 = 7 ∨ M.1 52 = 8) → ¬ rgV M (32 * s + k) b = 0) ∧ (shP M → okQ M s a 64) ∧ (memP M ∧ ¬ shP M → okQ M s a 4096) ∧ (M.1 41 = nI p0 ∧ (memP M ∧ ¬ shP M → p0 + 32 ≤ 4096))
theorem mem_fm (e : M'.1 52 = M.1 52) : memP M' = memP M ∧ shP M' = shP M := by
  unfold memP shP
  rw [e]
  exact ⟨rfl, rfl⟩
theorem p_ag {s d a b bk p0 : Nat} (hm : memP M ∧ ¬ shP M) (h : M.1 41 = nI p0) : ∀ k, ∃ p, (iter (acS s d a b bk) 0 k M).1 41 = nI p ∧ p ≤ p0 + k := by
  intro k
  induction k with
  | zero => exact ⟨p0, h, Nat.le_refl _⟩
  | succ k ih =>
    obtain ⟨p, hp, hle⟩ := ih
    rw [iter_last, Nat.zero_add]
    have e52 := (ag_frm (s := s) (d := d) (a := a) (b := b) (bk := bk) hm k).f 52
    generalize iter (acS s d a b bk) 0 k M = N at *
    unfold acS
    split
    · exact ⟨p, hp, by omega⟩
    · rcases act_41 N s k (N.2.1 15 (32 * s + k) - 1) d a b (nN (N.1 41)) bk (nN (askV N s a k)) (nN (nI k ^^^ (N.1 57 &&& (N.1 1 - 1)))) with e | e
      · exact ⟨p, e.trans hp, by omega⟩
      · exact ⟨p + 1, by rw [e, hp, nI_1], by omega⟩
set_option maxHeartbeats 2000000 in
theorem e7_acts {nC0 nS0 : Nat} (hS0 : 10000 ≤ nS0) (hC0 : 2 ≤ nC0) (h : St (nC0 + rqC V E P) (nS0 + rqS V E P) A V) (gb : GB V E ad M P T Bk b1 b2) (hT : T + 32 < 2 ^ 30) (hx : WM V x M) {s w d a b bk p0 : Nat} {D : Int32} (hw : ad 13 s = some w) (ok : okW M s d a b bk p0) (hnv : ¬ 69 < M.1 52) (hD : ∀ j, j < 32 → (bt D j = true ↔ ¬ M.2.1 27 j = 0)) (h454 : memP M ∧ ¬ shP M → ∀ i, i < 32 → ¬ M.2.1 27 i = 0 → xi V 454 (P 4) (askN M s a i / 8) = M.2.1 25 i) (hn : 10000 < n)
    (K : AH → Option AH) (Post : AH → Prop) (hK : ∀ A' V' E' ad' T', St (nC0 + rqC V' E' P) (nS0 + rqS V' E' P) A' V' → GB V' E' ad' (iter (acS s d a b bk) 0 (lt V E 13 2 w).length M) P T' Bk b1 b2 → (T ≤ T' ∧ T' ≤ T + 32) → (∀ c, c ≠ 15 → ad' c = ad c) → WM V' x (iter (acS s d a b bk) 0 (lt V E 13 2 w).length M) → KS V E V' E' → Res (K A') Post) :
    Res (jl (fixG (fun _ _ => none) (fun (rc59 : (Int32) → (AH) → Option (AH)) (x57 : Int32) (A58 : AH) =>
      (gR A58 (some w) 13 2).bind fun v60 =>
      (rcv A58 v60 0).bind fun v61 =>
      (fJ2_size v61 A58).bind fun g62 =>
      if g62 ≤ x57 then (K A58) else
      jn (fun (A65 : AH) =>
      rc59 (x57 + (1 : Int32)) A65) fun j64 =>
      if ((D >>> (x57 &&& 31)) &&& (1 : Int32)) = (1 : Int32) then ((rcv A58 (some (P 1)) 7).bind fun v67 =>
      (fX7_act n v67 (some w) x57 (some x) A58).bind fun g68 =>
      j64 g68) else
      j64 A58) n) fun j56 =>
      j56 (0 : Int32) A) Post := by
  obtain ⟨⟨⟨op, hop, hop2⟩, h53, h54, h55, hd, ha, hb⟩, ⟨hbk, hbk2⟩, hwd, hdv, hs64, hg4, hp0, hp0b⟩ := ok
  have cp := gb.1
  obtain ⟨_, _, hlen, _, _, _⟩ := cp.wl hw
  generalize hls : lt V E 13 2 w = ls at *
  refine jl_R (fun dd (g : Int32 → AH → Option AH) => ∀ k A5 V5 E5 ad5 T5, k + dd = ls.length → St (nC0 + rqC V5 E5 P) (nS0 + rqS V5 E5 P) A5 V5 → GB V5 E5 ad5 (iter (acS s d a b bk) 0 k M) P T5 Bk b1 b2 → (T ≤ T5 ∧ T5 ≤ T + k) → (∀ c, c ≠ 15 → ad5 c = ad c) → (memP M ∧ ¬ shP M → xi V5 454 (P 4) = xi V 454 (P 4)) → lt V5 E5 13 2 w = ls → WM V5 x (iter (acS s d a b bk) 0 k M) → KS V E V5 E5 → Res (g (nI k) A5) Post) ls.length (show ls.length < n by omega) ?_ ?_ ?_
  · intro g k A5 V5 E5 ad5 T5 hk s5 gb5 hT5 had5 _ hls5 hx5 hks5
    have hw5 : ad5 13 s = some w := by rw [had5 13 (by decide)]; exact hw
    obtain ⟨hwk, ⟨ll, cap, hxl, hli⟩, _⟩ := gb5.1.wl hw5
    rw [hls5] at hli
    have ek : k = ls.length := by omega
    subst ek
    refine Res.b ((s5.gr 2 (c := 13) hwk (by decide) rfl).trans (congrArg some hxl)) (Res.b (s5.rc hli.1) (Res.b (L_size s5 hli) ?_))
    rw [if_pos (Int32.le_refl _)]
    exact hK A5 V5 E5 ad5 T5 s5 gb5 ⟨hT5.1, by omega⟩ had5 hx5 hks5
  · intro dd g hg k A5 V5 E5 ad5 T5 hk s5 gb5 hT5 had5 h4 hls5 hx5 hks5
    have hw5 : ad5 13 s = some w := by rw [had5 13 (by decide)]; exact hw
    obtain ⟨hwk, ⟨ll, cap, hxl, hli⟩, _, _, hlane, _⟩ := gb5.1.wl hw5
    rw [hls5] at hli hlane
    refine Res.b ((s5.gr 2 (c := 13) hwk (by decide) rfl).trans (congrArg some hxl)) (Res.b (s5.rc hli.1) (Res.b (L_size s5 hli) ?_))
    rw [if_neg (c_nle (by omega) (by omega)), jn_eq, nI_1]
    have hfr := acI_frm (s := s) (d := d) (a := a) (b := b) (bk := bk) M 0 k
    have e27 := hfr.2.1 27 (by decide)
    have es : iter (acS s d a b bk) 0 (k + 1) M = acS s d a b bk k (iter (acS s d a b bk) 0 k M) := by rw [iter_last, Nat.zero_add]
    by_cases cb : bt D k = true
    · rw [if_pos ((bitP_bt _ (by omega)).mpr cb)]
      have h27 := (hD k (by omega)).mp cb
      obtain ⟨l, hl1, hl2, hl3⟩ := hlane k (by omega)
      have e52 := hfr.1 52 (by decide)
      have e53 := hfr.1 53 (by decide)
      have e54 := hfr.1 54 (by decide)
      have e55 := hfr.1 55 (by decide)
      have e57 := hfr.1 57 (by decide)
      have e9 := hfr.2.1 9 (by decide)
      have e25 := hfr.2.1 25 (by decide)
      obtain ⟨em, esh⟩ := mem_fm (M := M) (M' := iter (acS s d a b bk) 0 k M) e52
      have e13 := fun r hr => ac_13 (M := M) (s := s) (d := d) (a := a) (b := b) (bk := bk) hd k k r (Nat.le_refl _) hr
      have eask : askV (iter (acS s d a b bk) 0 k M) s a k = askV M s a k := by
        unfold askV
        rw [e13 a ha, e57]
      have hwd' : wrdP (iter (acS s d a b bk) 0 k M) := by
        unfold wrdP
        rw [e52, e57]
        exact hwd
      have hac : acS s d a b bk k (iter (acS s d a b bk) 0 k M) = z_act (iter (acS s d a b bk) 0 k M) s k ((iter (acS s d a b bk) 0 k M).2.1 15 (32 * s + k) - 1) d a b (nN ((iter (acS s d a b bk) 0 k M).1 41)) bk (nN (askV (iter (acS s d a b bk) 0 k M) s a k)) (nN (nI k ^^^ ((iter (acS s d a b bk) 0 k M).1 57 &&& ((iter (acS s d a b bk) 0 k M).1 1 - 1)))) := by
        generalize iter (acS s d a b bk) 0 k M = N at *
        unfold acS
        rw [e27, if_neg h27]
      refine Res.b (s5.rc gb5.1.2.2.2.mm.2) ?_
      by_cases cg : memP M ∧ ¬ shP M
      · have hp0b := hp0b cg
        obtain ⟨pk, hpk, hpk2⟩ := p_ag (s := s) (d := d) (a := a) (b := b) (bk := bk) cg hp0 k
        obtain ⟨q1, q2⟩ := hg4 cg k (by omega) h27
        refine Res.w (e7_actG (p := pk) (q := nN (askV (iter (acS s d a b bk) 0 k M) s a k)) (o := nN (nI k ^^^ ((iter (acS s d a b bk) 0 k M).1 57 &&& ((iter (acS s d a b bk) 0 k M).1 1 - 1)))) hS0 hC0 s5 gb5.1 gb5.2.1 (by omega) hx5 ((iter (acS s d a b bk) 0 k M).2.1 15 (32 * s + k) - 1) hw5 hl2 (by omega) (e53.trans h53) (e54.trans h54) (e55.trans h55) hd ha hb (e52.trans hop) hop2 (by rw [em, esh]; exact cg) (by rw [e9]; exact hbk) hbk2 (q' := askN M s a k) (by rw [eask]; exact q1) q2 hpk (by omega) (by rw [h4 cg, e25]; exact h454 cg k (by omega) h27) hn) ?_
        rintro A6 ⟨V6, E6, ad6, s6, cp6, hp6, had6, hs6⟩
        have epk : nN ((iter (acS s d a b bk) 0 k M).1 41) = pk := by rw [hpk]; exact nN_nI (by omega)
        rw [epk] at hac
        rw [← hac, ← es] at cp6 hp6
        obtain ⟨S1', S2', hco⟩ := gb5.2.2.1
        have hs6' := hs6
        obtain ⟨hl, sl, hLL, vg, eE1, hE⟩ := hs6
        have hsh5 := gb5.1.2.2.2
        have hP3 : kdV V5 (P 3) = 4 := hsh5.kk hsh5.2.2.1.1.2.2.2.1
        have ek2 : (iter (acS s d a b bk) 0 (k + 1) M).2.2 = (iter (acS s d a b bk) 0 k M).2.2 := by
          rw [es]
          exact (ac_frm k _).2.2
        refine hg (k + 1) A6 V6 E6 ad6 (T5 + 1) (by omega) s6 ⟨cp6, hp6, ⟨S1', S2', hco.vg vg hLL.2.2⟩, gb5.2.2.2.hs gb5.1 hs6' ek2⟩ (by omega) (fun c hc => (had6 c hc).trans (had5 c hc)) (fun z => ?_) ?_ ?_ (hks5.tr (KS.hs hs6' gb5.1))
        · rw [((vg.o hLL.2.2 (c := 4) hco.1 (by decide) (by decide)).2 454).2.2.2 (by decide)]
          exact h4 z
        · rw [lt_vg gb5.1.2.2.1 vg hLL hP3 hE (c := 13) hwk (by decide) (by decide)]
          exact hls5
        · refine (hx5.vg vg hLL.2.2).fm (fun q h1 h2 => ?_)
          rw [es]
          exact (ac_frm k _).1 q (by simp only [List.mem_cons, List.not_mem_nil, or_false]; omega)
      · have hnm' : ¬ (memP (iter (acS s d a b bk) 0 k M) ∧ ¬ shP (iter (acS s d a b bk) 0 k M)) := by rw [em, esh]; exact cg
        have hfa := act_frmA (s := s) (i := k) (d := d) (a := a) (b := b) (p := nN ((iter (acS s d a b bk) 0 k M).1 41)) (bk := bk) (q := nN (askV (iter (acS s d a b bk) 0 k M) s a k)) (o := nN (nI k ^^^ ((iter (acS s d a b bk) 0 k M).1 57 &&& ((iter (acS s d a b bk) 0 k M).1 1 - 1)))) (old := (iter (acS s d a b bk) 0 k M).2.1 15 (32 * s + k) - 1) hnm'
        refine Res.w (e7_actA (p := nN ((iter (acS s d a b bk) 0 k M).1 41)) (q := nN (askV (iter (acS s d a b bk) 0 k M) s a k)) (o := nN (nI k ^^^ ((iter (acS s d a b bk) 0 k M).1 57 &&& ((iter (acS s d a b bk) 0 k M).1 1 - 1)))) s5 gb5.1 hx5 ((iter (acS s d a b bk) 0 k M).2.1 15 (32 * s + k) - 1) hw5 hl2 (by omega) (e53.trans h53) (e54.trans h54) (e55.trans h55) hd ha hb (e52.trans hop) hop2 (Int32.sub_add_cancel _ _) (fun z => ?_) (by rw [e9]; exact hbk) hbk2 (fun z => ?_) hwd' hnm' (by rw [e52]; exact hnv)) ?_
        · have := hdv k (by omega) h27 (by rw [← e52]; exact z)
          unfold rgV at this ⊢
          rw [e13 b hb]
          exact this
        · obtain ⟨q1, q2⟩ := hs64 (by rw [← esh]; exact z) k (by omega) h27
          rw [eask]
          exact ⟨q1, q2⟩
        · rintro A6 ⟨V6, s6, i6, c6⟩
          rw [← hac, ← es] at c6 hfa
          obtain ⟨rq1, rq2⟩ := rq_iob (E := E5) (P := P) i6.b
          refine hg (k + 1) A6 V6 E5 ad5 T5 (by omega) (by rw [rq1, rq2]; exact s6) (gb5.iv i6 c6 (fmH.frm hfa (by decide) (by decide))) (by omega) had5 (fun z => absurd z cg) (by rw [lt_io i6]; exact hls5) ((hx5.io i6).fm (fun q h1 h2 => hfa.1 q (List.not_mem_nil))) (hks5.tr (KS.ib i6.b))
    · rw [if_neg (fun z => cb ((bitP_bt _ (by omega)).mp z))]
      have c0 : M.2.1 27 k = 0 := Classical.byContradiction fun z => cb ((hD k (by omega)).mpr z)
      have e : iter (acS s d a b bk) 0 (k + 1) M = iter (acS s d a b bk) 0 k M := by
        rw [es]
        generalize iter (acS s d a b bk) 0 k M = N at *
        unfold acS
        rw [e27, if_pos c0]
      rw [← e] at gb5 hx5
      exact hg (k + 1) A5 V5 E5 ad5 T5 (by omega) s5 gb5 (by omega) had5 h4 hls5 hx5 hks5
  · intro g hg
    exact hg 0 A V E ad T (by omega) h gb ⟨Nat.le_refl _, Nat.le_refl _⟩ (fun _ _ => rfl) (fun _ => rfl) hls hx KS.rf
end C39
