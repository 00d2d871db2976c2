/-! C61: warps and blocks begin -/
section C61
variable {nC nS n : Nat} {A A' : AH} {V V' V'' : CW} {E E' : EL} {ad ad' : AA} {M M' : MS} {P : PP}
theorem XF.vf {a : Nat} {S : Nat → Prop} (h : XF a V V') (hs : S a) : VF S V V' := by
  obtain ⟨h1, h2, h3⟩ := h
  refine ⟨fun b _ => ⟨by rw [kdV, h1], fun hb d => ⟨h3 b (fun z => hb (by rw [z]; exact hs)) d, ?_, ?_, ?_⟩⟩, ?_, ?_⟩
  · show V'.2.2.1 d b = _; rw [h2]
  · show V'.2.2.2.1 d b = _; rw [h2]
  · show V'.2.2.2.2.1 d b = _; rw [h2]
  · show V'.2.2.2.2.2.1 = _; rw [h2]
  · show V'.2.2.2.2.2.2 = _; rw [h2]
theorem LI.xf {a x c cap : Nat} {l : List Nat} (hl : LI V a c l cap) (h : XF x V V') (hne : a ≠ x) : LI V' a c l cap := hl.vf (S := fun z => z = x) (h.vf rfl) hne
theorem e12_begin (h : St nC nS A V) {b bl cap : Nat} {l : List Nat} (num : Int32) (hb : kdV V b = 13) (o1 : OW V 12 1 b 64) (hx : xr V 1202 b 0 = some bl) (hli : LI V bl 13 l cap) (hn : 10100 < n) : Res (fX12_begin n b num A) (fun A' => ∃ V', St nC nS A' V' ∧ V'.1 = V.1 ∧ VF (fun z => z = b ∨ z = bl) V V' ∧ (∀ d, xr V' d b = xr V d b ∧ xn V' d b = xn V d b) ∧ LI V' bl 13 [] cap ∧ xi V' 1200 b 0 = num ∧ ∀ i, i < 64 → xi V' 1251 b i = 0) := by
  have hlen := Nat.le_trans hli.2.2.2.2.1 hli.2.2.1
  have hne : b ≠ bl := fun z => by rw [z, hli.1] at hb; cases hb
  unfold fX12_begin
  obtain ⟨A1, e1, s1⟩ := h.pi 0 num (c := 12) hb (by decide) rfl
  refine Res.b e1 ?_
  have x1 : XF b V (vI' V 1200 b 0 num) := XF.vI
  have s1 : St nC nS A1 (vI' V 1200 b 0 num) := s1
  refine zero_arr (V := vI' V 1200 b 0 num) (a := b) (c := 12) (k := 1) (m := 64) hb rfl o1 (by omega) (by omega) _ _ rfl (by decide) s1 64 rfl ?_
  intro A4 V4 s4 x4 z4 ho4
  have x04 := x1.tr x4
  have hb4 : kdV V4 b = 13 := by rw [kdV, x04.1]; exact hb
  have hli4 := hli.xf x04 (fun z => hne z.symm)
  have hx4 : xr V4 1202 b 0 = some bl := by show V4.2.2.1 1202 b 0 = _; rw [x04.2.1]; exact hx
  refine Res.b ((s4.gr 2 (c := 12) hb4 (by decide) rfl).trans (congrArg some hx4)) (Res.b (s4.rc hli4.1) (Res.w (L_clear s4 hli4 (by omega)) ?_))
  rintro A9 ⟨V9, s9, f9, li9⟩
  refine Res.r ⟨V9, s9, f9.1.trans x04.1, (x04.vf (Or.inl rfl)).tr (f9.vf (Or.inr rfl)), fun d => ⟨?_, ?_⟩, li9, ?_, fun i hi => ?_⟩
  · rw [(f9.2.1 b hne d).2.1]
    show V4.2.2.1 d b = _
    rw [x04.2.1]
  · rw [(f9.2.1 b hne d).2.2]
    show V4.2.2.2.2.1 d b = _
    rw [x04.2.1]
  · rw [(f9.2.1 b hne 1200).1, ho4 1200 (by decide), vIi, if_pos ⟨rfl, rfl, rfl⟩]
  · rw [(f9.2.1 b hne 1251).1]
    exact z4 i hi
theorem e13_begin (h : St nC nS A V) {w ll cap b : Nat} {l : List Nat} (num : Int32) (hw : kdV V w = 14) (o3 : OW V 13 3 w 16) (o4 : OW V 13 4 w 4) (hx : xr V 1302 w 0 = some ll) (hli : LI V ll 14 l cap) (hn : 10100 < n) : Res (fX13_begin n w (some b) num A) (fun A' => ∃ V', St nC nS A' V' ∧ V'.1 = V.1 ∧ VF (fun z => z = w ∨ z = ll) V V' ∧ (∀ d, (d ≠ 1300 → xr V' d w = xr V d w) ∧ xn V' d w = xn V d w) ∧ LI V' ll 14 [] cap ∧ xr V' 1300 w 0 = some b ∧ xi V' 1301 w 0 = num ∧ (∀ r, r < 16 → xi V' 1353 w r = 0) ∧ (∀ p, p < 4 → xi V' 1354 w p = 0) ∧ xi V' 1305 w 0 = 0) := by
  have hlen := Nat.le_trans hli.2.2.2.2.1 hli.2.2.1
  have hne : w ≠ ll := fun z => by rw [z, hli.1] at hw; cases hw
  unfold fX13_begin
  obtain ⟨A1, e1, s1⟩ := h.pr 0 (some b) (c := 13) hw (by decide) rfl rfl
  obtain ⟨A2, e2, s2⟩ := s1.pi 1 num (c := 13) hw (by decide) rfl
  have s2 : St nC nS A2 (vI' (vR' V 1300 w 0 (some b)) 1301 w 0 num) := s2
  have hli2 : LI (vI' (vR' V 1300 w 0 (some b)) 1301 w 0 num) ll 14 l cap := (hli.vRo (by decide)).vIo (by decide)
  have vf2 : VF (fun z => z = w ∨ z = ll) V (vI' (vR' V 1300 w 0 (some b)) 1301 w 0 num) := (VF.vR _ _ _ (Or.inl rfl)).tr (VF.vI _ _ _ (Or.inl rfl))
  have xr2 : ∀ d, d ≠ 1300 → xr (vI' (vR' V 1300 w 0 (some b)) 1301 w 0 num) d w = xr V d w := fun d hd => by
    funext j
    show xr (vR' V 1300 w 0 (some b)) d w j = _
    rw [vRr, if_neg (fun z => hd z.1)]
  have xb2 : xr (vI' (vR' V 1300 w 0 (some b)) 1301 w 0 num) 1300 w 0 = some b := by
    show xr (vR' V 1300 w 0 (some b)) 1300 w 0 = _
    rw [vRr, if_pos ⟨rfl, rfl, rfl⟩]
  have xi2 : xi (vI' (vR' V 1300 w 0 (some b)) 1301 w 0 num) 1301 w 0 = num := by rw [vIi, if_pos ⟨rfl, rfl, rfl⟩]
  have xn2 : ∀ d, xn (vI' (vR' V 1300 w 0 (some b)) 1301 w 0 num) d w = xn V d w := fun _ => rfl
  have hw2 : kdV (vI' (vR' V 1300 w 0 (some b)) 1301 w 0 num) w = 14 := hw
  have v12 : (vI' (vR' V 1300 w 0 (some b)) 1301 w 0 num).1 = V.1 := rfl
  have fr2 : fr (vI' (vR' V 1300 w 0 (some b)) 1301 w 0 num) = fr V := rfl
  refine Res.b e1 (Res.b e2 ?_)
  generalize vI' (vR' V 1300 w 0 (some b)) 1301 w 0 num = V2 at *
  refine Res.b ((s2.gr 2 (c := 13) hw2 (by decide) rfl).trans (congrArg some (show xr V2 1302 w 0 = some ll by rw [xr2 1302 (by decide)]; exact hx))) (Res.b (s2.rc hli2.1) (Res.w (L_clear s2 hli2 (by omega)) ?_))
  rintro A5 ⟨V5, s5, f5, li5⟩
  have hw5 := f5.kv hw2
  have xr5 : ∀ d, xr V5 d w = xr V2 d w := fun d => (f5.2.1 w hne d).2.1
  have xn5 : ∀ d, xn V5 d w = xn V2 d w := fun d => (f5.2.1 w hne d).2.2
  have fr5 : fr V5 = fr V := f5.2.2.2.1.trans fr2
  have o35 : OW V5 13 3 w 16 := by
    obtain ⟨y, y1, y2, y3⟩ := o3
    exact ⟨y, by rw [xr5, xr2 _ (by decide)]; exact y1, by rw [fr5]; exact y2, by rw [xn5, xn2]; exact y3⟩
  refine zero_arr (V := V5) (a := w) (c := 13) (k := 3) (m := 16) hw5 rfl o35 (by omega) (by omega) _ _ rfl (by decide) s5 16 rfl ?_
  intro A8 V8 s8 x8 z8 ho8
  have hw8 : kdV V8 w = 14 := by rw [kdV, x8.1]; exact hw5
  have xr8 : ∀ d, xr V8 d w = xr V5 d w := fun d => by show V8.2.2.1 d w = _; rw [x8.2.1]
  have xn8 : ∀ d, xn V8 d w = xn V5 d w := fun d => by show V8.2.2.2.2.1 d w = _; rw [x8.2.1]
  have fr8 : fr V8 = fr V5 := by show V8.2.2.2.2.2.1 = _; rw [x8.2.1]
  have o48 : OW V8 13 4 w 4 := by
    obtain ⟨y, y1, y2, y3⟩ := o4
    exact ⟨y, by rw [xr8, xr5, xr2 _ (by decide)]; exact y1, by rw [fr8, fr5]; exact y2, by rw [xn8, xn5, xn2]; exact y3⟩
  refine zero_arr (V := V8) (a := w) (c := 13) (k := 4) (m := 4) hw8 rfl o48 (by omega) (by omega) _ _ rfl (by decide) s8 4 rfl ?_
  intro A13 V13 s13 x13 z13 ho13
  have hw13 : kdV V13 w = 14 := by rw [kdV, x13.1]; exact hw8
  obtain ⟨A16, e16, s16⟩ := s13.pi 5 0 (c := 13) hw13 (by decide) rfl
  have x16 : XF w V8 (vI' V13 1305 w 0 0) := x13.tr XF.vI
  refine Res.b e16 (Res.r ⟨_, s16, x16.1.trans (x8.1.trans (f5.1.trans v12)), ((vf2.tr (f5.vf (Or.inr rfl))).tr (x8.vf (Or.inl rfl))).tr (x16.vf (Or.inl rfl)), fun d => ⟨fun hd => ?_, ?_⟩, ?_, ?_, ?_, fun r hr => ?_, fun p hp => ?_, ?_⟩)
  · show V13.2.2.1 d w = _
    rw [x13.2.1]
    show xr V8 d w = _
    rw [xr8, xr5, xr2 d hd]
  · show V13.2.2.2.2.1 d w = _
    rw [x13.2.1]
    show xn V8 d w = _
    rw [xn8, xn5, xn2]
  · exact (li5.xf x8 (fun z => hne z.symm)).xf x16 (fun z => hne z.symm)
  · show V13.2.2.1 1300 w 0 = _
    rw [x13.2.1]
    show xr V8 1300 w 0 = _
    rw [xr8, xr5, xb2]
  · show xi (vI' V13 1305 w 0 0) 1301 w 0 = _
    rw [vIi, if_neg (fun q => absurd q.1 (by decide)), ho13 1301 (by decide), ho8 1301 (by decide), (f5.2.1 w hne 1301).1]
    exact xi2
  · show xi (vI' V13 1305 w 0 0) 1353 w r = _
    rw [vIi, if_neg (fun q => absurd q.1 (by decide)), ho13 1353 (by decide)]
    exact z8 r hr
  · show xi (vI' V13 1305 w 0 0) 1354 w p = _
    rw [vIi, if_neg (fun q => absurd q.1 (by decide))]
    exact z13 p hp
  · show xi (vI' V13 1305 w 0 0) 1305 w 0 = _
    rw [vIi, if_pos ⟨rfl, rfl, rfl⟩]
end C61
