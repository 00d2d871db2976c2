/-! C63: new warps and blocks -/
section C63
variable {nC nS n : Nat} {A A' : AH} {V V' V'' : CW} {E E' : EL} {ad ad' : AA} {M M' : MS} {P : PP}
/-- a new list with places, then put into a field -/
theorem newL {a c k : Nat} (h : St (nC + 2) (nS + 11) A V) (ha : kdV V a = c + 1) (hk : k < nfl c) (hr : isR c k = true) (ho : own c k = 0) : ∃ A1, nO A 0 dfJ2 = some A1 ∧ Res (fJ2_init (hN A) 8 A1) (fun A2 => ∃ A3 V', pR A2 (some a) c k (some (hN A)) = some A3 ∧ St nC nS A3 V' ∧ kdV V (hN A) = 0 ∧ (∀ z, kdV V' z = if z = hN A then 1 else kdV V z) ∧ VF (fun z => z = a) V V' ∧ xr V' (100 * c + k) a 0 = some (hN A) ∧ (∀ e, stc e → LI V' (hN A) e [] 8) ∧ (∀ d, xi V' d a = xi V d a ∧ xn V' d a = xn V d a ∧ (d ≠ 100 * c + k → xr V' d a = xr V d a))) := by
  have h0 := h.new0
  have hne : a ≠ hN A := fun z => by rw [z, h0] at ha; cases ha
  obtain ⟨A1, e1, _, s1⟩ := h.no 0 dfJ2 (n := nS + 8) (by decide) (by decide) rfl (by show nS + 8 + 3 ≤ nS + 11; omega)
  refine ⟨A1, e1, ?_⟩
  have k1 : kdV (vNew V (hN A) 0) (hN A) = 1 := if_pos rfl
  have x1 : xi (vNew V (hN A) 0) 2 (hN A) 0 = 0 := if_pos rfl
  refine Res.m (L_init nC nS s1 k1 x1 (m := 8) (by omega) (by omega)) ?_
  rintro A2 ⟨V2, s2, f2, l2⟩
  have ka1 : kdV (vNew V (hN A) 0) a = c + 1 := (if_neg hne).trans ha
  have ka : kdV V2 a = c + 1 := by rw [kdV, f2.1]; exact ka1
  obtain ⟨A3, e3, s3⟩ := s2.pr k (some (hN A)) (c := c) ka hk hr ho
  obtain ⟨b1, b2, b3⟩ : (∀ d, xi V2 d a = xi V d a) ∧ (∀ d, xr V2 d a = xr V d a) ∧ ∀ d, xn V2 d a = xn V d a := by
    refine ⟨fun d => ?_, fun d => ?_, fun d => ?_⟩
    · rw [(f2.2.1 a hne d).1]
      funext i
      exact if_neg hne
    · rw [(f2.2.1 a hne d).2.1]
      funext i
      exact if_neg hne
    · rw [(f2.2.1 a hne d).2.2]
      rfl
  refine ⟨A3, _, e3, s3, h0, fun z => ?_, ?_, ?_, fun e he => ?_, fun d => ⟨?_, ?_, fun hd => ?_⟩⟩
  · show V2.1 z = _
    rw [f2.1]
    rfl
  · refine VF.tr (V' := V2) ?_ (VF.vR _ _ _ rfl)
    have v1 := VF.new (S := fun z => z = a) (c := 0) h0
    refine ⟨fun z hz => ?_, f2.2.2.2.1, f2.2.2.2.2⟩
    have hz1 : z ≠ hN A := fun e => hz (by rw [e]; exact h0)
    obtain ⟨w1, w2⟩ := v1.1 z hz
    refine ⟨(by rw [kdV, f2.1]; exact w1), fun hs d => ?_⟩
    obtain ⟨q1, q2, q3⟩ := f2.2.1 z hz1 d
    obtain ⟨r1, r2, r3, r4⟩ := w2 hs d
    exact ⟨q1.trans r1, q2.trans r2, by rw [f2.2.2.1]; exact r3, q3.trans r4⟩
  · exact if_pos ⟨rfl, rfl, rfl⟩
  · refine (l2 e he).vf (S := fun z => z = a) (VF.vR _ _ _ rfl) (fun z => hne z.symm)
  · exact b1 d
  · exact b3 d
  · funext i
    rw [vRr, if_neg (fun z => hd z.1), b2]
/-- a new one has these -/
theorem OW.an {d a m c k m' : Nat} (h : OW V c k a m) (hn : AN V V' a d m') (hd : 100 * c + k ≠ d) : OW V' c k a m := by
  obtain ⟨y, y1, y2, y3⟩ := h
  obtain ⟨q1, q2⟩ := hn.2.2.2.2.1 (100 * c + k) hd
  exact ⟨y, by rw [q1]; exact y1, by rw [hn.2.1.2.1]; exact y2, by rw [q2]; exact y3⟩
theorem e13_init {w : Nat} (h : St (nC + 4) (nS + 31) A V) (hw : kdV V w = 14) : Res (fX13_init w A) (fun A' => ∃ V' ll, St nC nS A' V' ∧ kdV V ll = 0 ∧ (∀ z, kdV V' z = if z = ll then 1 else kdV V z) ∧ VF (fun z => z = w) V V' ∧ xr V' 1302 w 0 = some ll ∧ LI V' ll 14 [] 8 ∧ OW V' 13 3 w 16 ∧ OW V' 13 4 w 4) := by
  unfold fX13_init
  obtain ⟨A1, e1, r1⟩ := newL (nC := nC + 2) (nS := nS + 20) (a := w) (c := 13) (k := 2) h hw (by decide) rfl rfl
  refine Res.b e1 (Res.w r1 ?_)
  rintro A2 ⟨A3, V3, e3, s3, q1, q2, q3, q4, q5, q6⟩
  have hne : w ≠ hN A := fun z => by rw [z, q1] at hw; cases hw
  refine Res.b e3 ?_
  have w3 : kdV V3 w = 14 := by rw [q2, if_neg hne]; exact hw
  obtain ⟨A4, A5, V5, e4, e5, s5, n5⟩ := newI (nC := nC + 1) (nS := nS + 4) (a := w) (c := 13) (k := 3) 16 s3 w3 (by decide) rfl (Or.inl rfl) (by omega)
  have e4 : nAI A3 (nI 16) = some A4 := e4
  refine Res.b e4 (Res.b e5 ?_)
  have w5 : kdV V5 w = 14 := by rw [kdV, n5.1]; exact w3
  obtain ⟨A6, A7, V7, e6, e7, s7, n7⟩ := newI (nC := nC) (nS := nS) (a := w) (c := 13) (k := 4) 4 s5 w5 (by decide) rfl (Or.inl rfl) (by omega)
  have e6 : nAI A5 (nI 4) = some A6 := e6
  refine Res.b e6 (Res.b e7 (Res.r ⟨V7, hN A, s7, q1, fun z => ?_, q3.tr (n5.2.1.tr n7.2.1), ?_, ?_, ?_, n7.2.2.1⟩))
  · rw [kdV, n7.1, n5.1]; exact q2 z
  · rw [(n7.2.2.2.2.1 1302 (by decide)).1, (n5.2.2.2.2.1 1302 (by decide)).1]
    exact q4
  · exact ((q5 14 (by unfold stc; decide)).vf n5.2.1 (fun z => hne z.symm)).vf n7.2.1 (fun z => hne z.symm)
  · exact OW.an n5.2.2.1 n7 (by decide)
theorem e12_init {b : Nat} (h : St (nC + 3) (nS + 75) A V) (hb : kdV V b = 13) : Res (fX12_init b A) (fun A' => ∃ V' ll, St nC nS A' V' ∧ kdV V ll = 0 ∧ (∀ z, kdV V' z = if z = ll then 1 else kdV V z) ∧ VF (fun z => z = b) V V' ∧ xr V' 1202 b 0 = some ll ∧ LI V' ll 13 [] 8 ∧ OW V' 12 1 b 64) := by
  unfold fX12_init
  obtain ⟨A4, A5, V5, e4, e5, s5, n5⟩ := newI (nC := nC + 2) (nS := nS + 11) (a := b) (c := 12) (k := 1) 64 h hb (by decide) rfl (Or.inl rfl) (by omega)
  have e4 : nAI A (nI 64) = some A4 := e4
  refine Res.b e4 (Res.b e5 ?_)
  have b5 : kdV V5 b = 13 := by rw [kdV, n5.1]; exact hb
  obtain ⟨A1, e1, r1⟩ := newL (nC := nC) (nS := nS) (a := b) (c := 12) (k := 2) s5 b5 (by decide) rfl rfl
  refine Res.b e1 (Res.w r1 ?_)
  rintro A2 ⟨A3, V3, e3, s3, q1, q2, q3, q4, q5, q6⟩
  refine Res.b e3 (Res.r ⟨V3, hN A5, s3, ?_, fun z => ?_, n5.2.1.tr q3, q4, q5 13 (by unfold stc; decide), ?_⟩)
  · rw [kdV, ← n5.1]; exact q1
  · rw [q2 z, kdV, kdV, n5.1]
  · obtain ⟨y, y1, y2, y3⟩ := n5.2.2.1
    exact ⟨y, by rw [(q6 1201).2.2 (by decide)]; exact y1, by rw [q3.2.1]; exact y2, by rw [(q6 1201).2.1]; exact y3⟩
end C63
