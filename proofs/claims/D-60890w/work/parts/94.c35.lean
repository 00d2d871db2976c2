/-! C35: a lane asks -/
section C35
variable {nC nS n : Nat} {A : AH} {V V' V'' : CW} {E E' E'' : EL} {ad : AA} {M : MS} {P : PP} {hl sl x : Nat}
theorem VG.gi (vg : VG hl sl V V') (hL : kdV V hl = 1 ∧ kdV V sl = 1) (h : St nC nS A V') {b c : Nat} (k : Nat) (hb : kdV V b = c + 1) (h0 : c ≠ 0) (h15 : c ≠ 15) (hk : k < nfl c) (hr : isR c k = false) (h302 : 100 * c + k ≠ 302) : gI A (some b) c k = some (xi V (100 * c + k) b 0) := by
  obtain ⟨e, f⟩ := vg.o hL hb h0 h15
  rw [h.gi k e hk hr, (f _).2.2.2 h302]
theorem VG.gr (vg : VG hl sl V V') (hL : kdV V hl = 1 ∧ kdV V sl = 1) (h : St nC nS A V') {b c : Nat} (k : Nat) (hb : kdV V b = c + 1) (h0 : c ≠ 0) (h15 : c ≠ 15) (hk : k < nfl c) (hr : isR c k = true) : gR A (some b) c k = some (xr V (100 * c + k) b 0) := by
  obtain ⟨e, f⟩ := vg.o hL hb h0 h15
  rw [h.gr k e hk hr, (f _).1]
theorem VG.ai (vg : VG hl sl V V') (hL : kdV V hl = 1 ∧ kdV V sl = 1) (h : St nC nS A V') {b c k y m : Nat} (i : Nat) (hb : kdV V b = c + 1) (h0 : c ≠ 0) (h15 : c ≠ 15) (ho : own c k = 1) (hy : xr V (100 * c + k) b 0 = some y) (hf : fr V y = none) (hn : xn V (100 * c + k) b = m) (hi : i < m) (hb31 : i < 2 ^ 31) (h302 : 100 * c + k + 50 ≠ 302) : aI A (some y) (nI i) = some (xi V (100 * c + k + 50) b i) := by
  obtain ⟨e, f⟩ := vg.o hL hb h0 h15
  rw [h.ai i e ho (by rw [(f _).1]; exact hy) (by rw [vg.2.1.1]; exact hf) (by rw [(f _).2.1, hn]; exact hi) hb31, (f _).2.2.2 h302]
theorem WM.vg (hw : WM V x M) (vg : VG hl sl V V') (hL : kdV V hl = 1 ∧ kdV V sl = 1) : WM V' x M := by
  obtain ⟨h1, h2, h3, h4, h5, h6, h7, h8, h9⟩ := hw
  obtain ⟨e, f⟩ := vg.o hL (c := 5) h1 (by decide) (by decide)
  refine ⟨e, by unfold SJ; rw [vg.2.1.2]; exact h2, by rw [(f _).2.2.2 (by decide)]; exact h3, by rw [(f _).2.2.2 (by decide)]; exact h4, by rw [(f _).2.2.2 (by decide)]; exact h5, by rw [(f _).2.2.2 (by decide)]; exact h6, by rw [(f _).2.2.2 (by decide)]; exact h7, by rw [(f _).2.2.2 (by decide)]; exact h8, by rw [(f _).1, vg.2.1.2]; exact h9⟩
/-- the heap has changed: where -/
def HS (V : CW) (E : EL) (V' : CW) (E' : EL) (P : PP) : Prop := ∃ hl sl, LL V P hl sl ∧ VG hl sl V V' ∧ E'.1 = E.1 ∧ ∀ a, a ≠ hl → a ≠ sl → E'.2.1 a = E.2.1 a ∧ E'.2.2 a = E.2.2 a
theorem LL.vg (hLL : LL V P hl sl) (vg : VG hl sl V V') (hP : kdV V (P 3) = 4) : LL V' P hl sl := by
  obtain ⟨e, f⟩ := vg.o hLL.2.2 (c := 3) hP (by decide) (by decide)
  exact ⟨by rw [(f _).1]; exact hLL.1, by rw [(f _).1]; exact hLL.2.1, by rw [(vg.1 hl (by rw [hLL.2.2.1]; decide)).1]; exact hLL.2.2.1, by rw [(vg.1 sl (by rw [hLL.2.2.2]; decide)).1]; exact hLL.2.2.2⟩
theorem HS.tr (h : HS V E V' E' P) (h2 : HS V' E' V'' E'' P) (hP : kdV V (P 3) = 4) : HS V E V'' E'' P := by
  obtain ⟨hl, sl, l1, v1, e1, f1⟩ := h
  obtain ⟨hl', sl', l2, v2, e2, f2⟩ := h2
  have l1' := l1.vg v1 hP
  have eh : hl' = hl := Option.some.inj (l2.1.symm.trans l1'.1)
  have es : sl' = sl := Option.some.inj (l2.2.1.symm.trans l1'.2.1)
  subst eh es
  exact ⟨hl', sl', l1, v1.tr v2, e2.trans e1, fun a h1 h2 => ⟨(f2 a h1 h2).1.trans (f1 a h1 h2).1, (f2 a h1 h2).2.trans (f1 a h1 h2).2⟩⟩
theorem CX.a15 (hc : CX V ad M) {ad' : AA} (h : ∀ c, c ≠ 15 → ad' c = ad c) : CX V ad' M := by
  intro d k i a hd hi ha
  rw [h _ (cd_c d hd).2.1] at ha
  exact hc d k i a hd hi ha
theorem SH.a15 (hs : SH V E ad M P) {ad' : AA} (h : ∀ c, c ≠ 15 → ad' c = ad c) (hinj : ∀ k k' a, ad' 15 k = some a → ad' 15 k' = some a → k = k') (hk : ∀ k a, ad' 15 k = some a → kdV V a = 16) : SH V E ad' M P := by
  obtain ⟨h1, h2, h3, h4, h5, h6, h7, h8, h9, h10, h11⟩ := hs
  refine ⟨⟨fun c k k' a hc ha ha' => ?_, fun c k a hc ha => ?_⟩, fun c k a ha => ?_, ?_, ?_, ?_, ?_, ?_, ?_, h9, h10, h11⟩
  · by_cases e : c = 15
    · subst e; exact hinj k k' a ha ha'
    · rw [h c e] at ha ha'
      exact h1.1 c k k' a hc ha ha'
  · rw [h c (by omega)] at ha
    exact h1.2 c k a hc ha
  · by_cases e : c = 15
    · subst e; exact hk k a ha
    · rw [h c e] at ha
      exact h2 c k a ha
  · unfold SHp
    rw [h 1 (by decide), h 7 (by decide), h 2 (by decide), h 3 (by decide), h 4 (by decide), h 9 (by decide)]
    exact h3
  · unfold SHu
    rw [h 8 (by decide), h 13 (by decide), h 10 (by decide)]
    exact h4
  · unfold SHw
    rw [h 13 (by decide), h 12 (by decide)]
    exact h5
  · unfold SHl
    rw [h 13 (by decide), h 14 (by decide)]
    exact h6
  · unfold SHb
    rw [h 12 (by decide), h 13 (by decide)]
    exact h7
  · intro k hk'
    obtain ⟨q1, q2⟩ := h8 k hk'
    refine ⟨q1, fun x hx q => ?_⟩
    rw [h (12 + k) (by omega)]
    exact q2 x hx q
theorem askfrm (M : MS) (s i p bk : Nat) (q y w : Int32) : frm [41, 42] [19, 20, 21, 22, 23, 24] M (z_ask M s i p bk q y w) := by
  unfold z_ask
  exact (((((((frm.rf.mA (by decide)).mI (by decide)).mA (by decide)).mA (by decide)).mA (by decide)).mA (by decide)).mA (by decide)).mI (by decide)
theorem CX.ask (hc : CX V ad M) {s i p bk : Nat} {q y w : Int32} : CX V ad (z_ask M s i p bk q y w) := by
  have hf := askfrm M s i p bk q y w
  refine hc.mm (fun d hd => hf.1 _ ?_) (fun j hj => hf.2.1 j ?_)
  · have := fd_lst d hd
    simp only [List.mem_cons, List.not_mem_nil, or_false] at this ⊢
    omega
  · simp only [List.mem_cons, List.not_mem_nil, or_false]
    omega
theorem fm_ask (M : MS) (s i p bk : Nat) (q y w : Int32) : fmP M (z_ask M s i p bk q y w) := fm_frm (askfrm M s i p bk q y w) (by decide) (by decide) (by decide) (by decide) (by decide)
end C35
