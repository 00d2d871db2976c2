/-! C37: all lanes act -/
section C37
variable {nC nS n : Nat} {A : AH} {V V' : CW} {E E' : EL} {ad : AA} {M M' : MS} {P : PP} {x T : Nat}
theorem IB.hp (hv : IB V V') {d : Nat} (hd : (1500 ≤ d ∧ d < 1508) ∨ d = 302 ∨ d = 1405) : xi V' d = xi V d := by
  refine hv.2.2 d ?_ ?_ (by omega)
  · unfold cdC cdA fdC
    simp only [List.mem_cons, List.not_mem_nil, or_false]
    omega
  · unfold scr
    omega
theorem HP.iob (h : HP V E ad M P T) (hv : IB V V') (e41 : M'.1 41 = M.1 41) (e9 : M'.2.1 9 = M.2.1 9) (eA : ∀ j, 19 ≤ j → j ≤ 24 → M'.2.1 j = M.2.1 j) : HP V' E ad M' P T := by
  have r := fun d hd => hv.hp (d := d) hd
  have eL : ∀ k, lt V' E 3 k (P 3) = lt V E 3 k (P 3) := fun k => by unfold lt; rw [hv.2.1.1]
  have eC : ∀ k, cpL V' E 3 k (P 3) = cpL V E 3 k (P 3) := fun k => by unfold cpL; rw [hv.2.1.1]
  have ef : fT V' = fT V := by funext a; show xi V' 1500 a 0 = _; rw [r 1500 (by omega)]
  have eg : gU V' = gU V := by funext a; show xi V' 1501 a 0 = _; rw [r 1501 (by omega)]
  unfold HP at h ⊢
  rw [eL, eL, eC, eC, ef, eg, e41, r 302 (by omega)]
  obtain ⟨h1, h2, h3⟩ := h
  refine ⟨h1, fun k a ha => ?_, h3⟩
  obtain ⟨o, d, q, bk, s, i, b1, ⟨b2, b3, b4, b5⟩, ⟨b6, b7, b8, b9, b10, b11⟩, l, b12, b13⟩ := h2 k a ha
  refine ⟨o, d, q, bk, s, i, b1, ⟨by rw [eA 21 (by omega) (by omega)]; exact b2, by rw [eA 20 (by omega) (by omega)]; exact b3, by rw [eA 22 (by omega) (by omega)]; exact b4, by rw [e9]; exact b5⟩, ⟨by rw [r 1500 (by omega), eA 19 (by omega) (by omega)]; exact b6, by rw [r 1502 (by omega)]; exact b7, by rw [r 1503 (by omega)]; exact b8, by rw [r 1504 (by omega), eA 23 (by omega) (by omega)]; exact b9, by rw [r 1505 (by omega), eA 24 (by omega) (by omega)]; exact b10, by rw [r 1506 (by omega)]; exact b11⟩, l, b12, ?_⟩
  rw [hv.2.1.1, r 1507 (by omega), r 1405 (by omega)]
  exact b13
theorem rq_iob (hv : IB V V') : rqC V' E P = rqC V E P ∧ rqS V' E P = rqS V E P := by
  have eL : ∀ k, lt V' E 3 k (P 3) = lt V E 3 k (P 3) := fun k => by unfold lt; rw [hv.2.1.1]
  have eC : ∀ k, cpL V' E 3 k (P 3) = cpL V E 3 k (P 3) := fun k => by unfold cpL; rw [hv.2.1.1]
  unfold rqC rqS rqH
  rw [eL, eL, eC, eC]
  exact ⟨rfl, rfl⟩
theorem HS.of (hv : IB V V') (hLL : ∃ hl sl, LL V P hl sl) : True := trivial
theorem CP.LLe (cp : CP V E ad M P) : ∃ hl sl, LL V P hl sl ∧ hl ≠ sl := by
  have hs := cp.2.2.2
  have hP3 : kdV V (P 3) = 4 := hs.kk hs.2.2.1.1.2.2.2.1
  obtain ⟨hl, hx0, li0, ek0, el0, ec0⟩ := cp.2.2.1.li2 cp.2.1 (c := 3) (k := 0) (e := 15) hP3 rfl
  obtain ⟨sl, hx1, li1, ek1, el1, ec1⟩ := cp.2.2.1.li2 cp.2.1 (c := 3) (k := 1) (e := 15) hP3 rfl
  refine ⟨hl, sl, ⟨hx0, hx1, li0.1, li1.1⟩, fun z => ?_⟩
  have := (cp.2.2.1.2.2 (P 3) 3 0 (P 3) 3 1 hl hP3 hP3 (by decide) (by decide) hx0 (by rw [z]; exact hx1)).2.2
  omega
theorem CP.HSr (cp : CP V E ad M P) : HS V E V E P := by
  obtain ⟨hl, sl, h1, _⟩ := cp.LLe
  exact ⟨hl, sl, h1, VG.rf, rfl, fun _ _ _ => ⟨rfl, rfl⟩⟩
theorem ag_frm {s d a b bk : Nat} (hm : memP M ∧ ¬ shP M) : ∀ k, frm [41, 42] [19, 20, 21, 22, 23, 24] M (iter (acS s d a b bk) 0 k M) := by
  intro k
  induction k with
  | zero => exact frm.rf
  | succ k ih =>
    rw [iter_last, Nat.zero_add]
    have e52 := ih.f 52
    generalize iter (acS s d a b bk) 0 k M = N at *
    have hm' : memP N ∧ ¬ shP N := by
      unfold memP shP at *
      rw [e52]
      exact hm
    refine ih.tr ?_
    unfold acS
    split
    · exact frm.rf
    · have : ∀ (i p q o : Nat) (old : Int32), z_act N s i old d a b p bk q o = z_ask N s i p bk (askV N s a i) (rgV N (32 * s + i) b) (rgV N (32 * s + i) d) := by
        intro i p q o old
        have hm'' := hm'
        unfold memP at hm''
        have lt : ∀ k : Int32, k < 50 → ¬ N.1 52 ≤ k := fun k hk z => hm''.1 (Or.inl (Int32.lt_of_le_of_lt z hk))
        have nle : ∀ k : Int32, k < 50 → k < N.1 52 := fun k hk => Int32.not_le.mp (lt k hk)
        have ne : ∀ k : Int32, k < 50 → ¬ N.1 52 = k := fun k hk z => lt k hk (by rw [z]; exact Int32.le_refl _)
        unfold z_act
        rw [if_neg (ne 0 (by decide)), if_neg (ne 1 (by decide)), if_neg (ne 2 (by decide)), if_neg (ne 3 (by decide)), if_pos (nle 21 (by decide)), if_pos (nle 33 (by decide)), if_pos (nle 36 (by decide)), if_pos (nle 42 (by decide)), if_pos hm']
      rw [this]
      exact askfrm _ _ _ _ _ _ _ _
theorem z_glob {s i d a b p bk q o : Nat} {old : Int32} (hm : memP M ∧ ¬ shP M) : z_act M s i old d a b p bk q o = z_ask M s i p bk (askV M s a i) (rgV M (32 * s + i) b) (rgV M (32 * s + i) d) := by
  have hm'' := hm
  unfold memP at hm''
  have lt : ∀ k : Int32, k < 50 → ¬ M.1 52 ≤ k := fun k hk z => hm''.1 (Or.inl (Int32.lt_of_le_of_lt z hk))
  have nle : ∀ k : Int32, k < 50 → k < M.1 52 := fun k hk => Int32.not_le.mp (lt k hk)
  have ne : ∀ k : Int32, k < 50 → ¬ M.1 52 = k := fun k hk z => lt k hk (by rw [z]; exact Int32.le_refl _)
  unfold z_act
  rw [if_neg (ne 0 (by decide)), if_neg (ne 1 (by decide)), if_neg (ne 2 (by decide)), if_neg (ne 3 (by decide)), if_pos (nle 21 (by decide)), if_pos (nle 33 (by decide)), if_pos (nle 36 (by decide)), if_pos (nle 42 (by decide)), if_pos hm]
/-- the heap of asks may have changed, and ints -/
def GoR (nC0 nS0 : Nat) (V : CW) (E : EL) (ad : AA) (P : PP) (T0 T1 : Nat) (M' : MS) (A' : AH) : Prop := ∃ V' E' ad' T', St (nC0 + rqC V' E' P) (nS0 + rqS V' E' P) A' V' ∧ CP V' E' ad' M' P ∧ HP V' E' ad' M' P T' ∧ (T0 ≤ T' ∧ T' ≤ T1) ∧ (∀ c, c ≠ 15 → ad' c = ad c)
theorem e7_actG {nC0 nS0 : Nat} (hS0 : 10000 ≤ nS0) (hC0 : 2 ≤ nC0) (h : St (nC0 + rqC V E P) (nS0 + rqS V E P) A V) (cp : CP V E ad M P) (hp : HP V E ad M P T) (hT : T + 1 < 2 ^ 30) (hx : WM V x M) {s w i l d a b p bk q o op : Nat} (old : Int32) (hw : ad 13 s = some w) (hl' : ad 14 (32 * s + i) = some l) (hi : i < 32) (h53 : M.1 53 = nI d) (h54 : M.1 54 = nI a) (h55 : M.1 55 = nI b) (hd : d < 16) (ha : a < 16) (hb : b < 16) (hop : M.1 52 = nI op) (hop2 : op < 256) (hm : memP M ∧ ¬ shP M) (hbk : M.2.1 9 s = nI bk) (hbk2 : bk < 64) {q' : Nat} (hq : askV M s a i = nI q') (hq2 : q' < 4096) (h41 : M.1 41 = nI p) (hp2 : p < 4096) (h454 : xi V 454 (P 4) (q' / 8) = M.2.1 25 i) (hn : 10000 < n) :
    Res (fX7_act n (P 1) (some w) (nI i) (some x) A) (fun A' => ∃ V' E' ad', St (nC0 + rqC V' E' P) (nS0 + rqS V' E' P) A' V' ∧ CP V' E' ad' (z_act M s i old d a b p bk q o) P ∧ HP V' E' ad' (z_act M s i old d a b p bk q o) P (T + 1) ∧ (∀ c, c ≠ 15 → ad' c = ad c) ∧ HS V E V' E' P) := by
  obtain ⟨hwk, ⟨ll, cap, hxl, hli⟩, hlen, hln, hlane, hlenP⟩ := cp.wl hw
  have hlk := cp.2.2.2.kk hl'
  obtain ⟨y, gy, ry, wy⟩ := cp.rg h hl'
  have hlt : (lt V E 13 2 w)[i]? = some l := by rw [(cp.2.2.2.2.2.2.2.2.1.1 s w hw).2.2 i hi]; exact hl'
  rw [z_glob hm]
  unfold fX7_act
  refine Res.b ((h.gr 2 (c := 13) hwk (by decide) rfl).trans (congrArg some hxl)) (Res.b (h.rc hli.1) (Res.b (L_get h hli hlt) (Res.b (h.cs hlk) (Res.b gy (Res.b (wg6 h hx) ?_)))))
  rw [jn_eq]
  have c5 : ¬ srt M = 5 := fun z => hm.2 ((srtS M).mp z)
  have c6 : srt M = 6 := ((srtM M).mpr hm.1).resolve_left c5
  simp only [sa_eq h hx.2.1 (srt_lt M) (show 5 < 8 by omega), sa_eq h hx.2.1 (srt_lt M) (show 6 < 8 by omega)]
  rw [if_neg c5, if_pos c6]
  refine Res.b (h.rc cp.2.2.2.mm.2) (Res.w (e7_ask hS0 hC0 h cp hp hT hx hw hl' hi h53 h54 h55 hd ha hb hop hop2 hm hbk hbk2 hq hq2 h41 hp2 h454 hn) ?_)
  intro A' hA'
  exact Res.r hA'
end C37
