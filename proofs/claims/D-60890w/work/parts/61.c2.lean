/-! C2: arrays that objects own; what lies apart; what is new -/
theorem vWw (V : CW) (c a i c' a' i' : Nat) (v : Int64) : xw (vW' V c a i v) c' a' i' = if c' = c ∧ a' = a ∧ i' = i then v else xw V c' a' i' := rfl
theorem arE_ne_obj (V : CW) (t code a c : Nat) (fs : List Value) : some (arE V t code a) ≠ some (.inr (c, fs)) := by
  unfold arE
  intro h
  split at h
  · cases h
  · split at h
    · cases h
    · split at h <;> cases h
theorem arE1 (V : CW) (code a : Nat) : arE V 1 code a = .inl (0, xn V code a, .inl (xi V (code + 50) a)) := rfl
theorem arE2 (V : CW) (code a : Nat) : arE V 2 code a = .inl (1, xn V code a, .inl (xi V (code + 50) a)) := rfl
theorem arE3 (V : CW) (code a : Nat) : arE V 3 code a = .inl (2, xn V code a, .inr (.inl (xw V code a))) := rfl
theorem arE4 (V : CW) (code a : Nat) : arE V 4 code a = .inl (3, xn V code a, .inr (.inr (.inr (.inr (xr V (code + 50) a))))) := rfl
theorem arE5 (V : CW) (code a : Nat) : arE V 5 code a = .inl (4, xn V code a, .inr (.inr (.inr (.inr (xr V (code + 50) a))))) := rfl
theorem ixok_ok {i n : Nat} (h : i < n) (hb : i < 2 ^ 31) : ixok (nI i) n = some () := by
  unfold ixok
  rw [nI_clamp hb, if_neg]
  rintro (z | z)
  · exact nI_pos hb z
  · omega
section C2
variable {nC nS : Nat} {A : AH} {V : CW}
theorem St.ar? (h : St nC nS A V) {a c k x : Nat} (ha : kdV V a = c + 1) (ho : own c k ≠ 0) (hx : xr V (100 * c + k) a 0 = some x) (hf : fr V x = none) {o : Nat × vp_A} (e : arE V (own c k) (100 * c + k) a = .inl o) : arr? A (some x) = some o := by
  have := (h.2.2.1 a c k x ha ho hx hf).2
  rw [e] at this
  simp only [arr?, this]
theorem St.ai (h : St nC nS A V) {a c k x : Nat} (i : Nat) (ha : kdV V a = c + 1) (ho : own c k = 1) (hx : xr V (100 * c + k) a 0 = some x) (hf : fr V x = none) (hi : i < xn V (100 * c + k) a) (hb : i < 2 ^ 31) : aI A (some x) (nI i) = some (xi V (100 * c + k + 50) a i) := by
  unfold aI
  rw [h.ar? ha (by rw [ho]; decide) hx hf (by rw [ho, arE1])]
  simp only [Option.bind_some, true_or, if_true, ixok_ok hi hb, nI_clamp hb]
theorem St.az (h : St nC nS A V) {a c k x : Nat} (i : Nat) (ha : kdV V a = c + 1) (ho : own c k = 2) (hx : xr V (100 * c + k) a 0 = some x) (hf : fr V x = none) (hi : i < xn V (100 * c + k) a) (hb : i < 2 ^ 31) : aZ A (some x) (nI i) = some (xi V (100 * c + k + 50) a i) := by
  unfold aZ
  rw [h.ar? ha (by rw [ho]; decide) hx hf (by rw [ho, arE2])]
  simp only [Option.bind_some, if_true, ixok_ok hi hb, nI_clamp hb]
theorem St.al (h : St nC nS A V) {a c k x : Nat} (i : Nat) (ha : kdV V a = c + 1) (ho : own c k = 3) (hx : xr V (100 * c + k) a 0 = some x) (hf : fr V x = none) (hi : i < xn V (100 * c + k) a) (hb : i < 2 ^ 31) : aL A (some x) (nI i) = some (xw V (100 * c + k) a i) := by
  unfold aL
  rw [h.ar? ha (by rw [ho]; decide) hx hf (by rw [ho, arE3])]
  simp only [Option.bind_some, if_true, ixok_ok hi hb, nI_clamp hb]
theorem St.ar (h : St nC nS A V) {a c k x : Nat} (i : Nat) (ha : kdV V a = c + 1) (ho : own c k = 4 ∨ own c k = 5) (hx : xr V (100 * c + k) a 0 = some x) (hf : fr V x = none) (hi : i < xn V (100 * c + k) a) (hb : i < 2 ^ 31) : aR A (some x) (nI i) = some (xr V (100 * c + k + 50) a i) := by
  unfold aR
  rcases ho with ho | ho
  · rw [h.ar? ha (by rw [ho]; decide) hx hf (by rw [ho, arE4])]
    simp only [Option.bind_some, true_or, if_true, ixok_ok hi hb, nI_clamp hb]
  · rw [h.ar? ha (by rw [ho]; decide) hx hf (by rw [ho, arE5])]
    simp only [Option.bind_some, true_or, or_true, if_true, ixok_ok hi hb, nI_clamp hb]
theorem St.ln (h : St nC nS A V) {a c k x : Nat} (ha : kdV V a = c + 1) (ho : own c k ≠ 0) (hx : xr V (100 * c + k) a 0 = some x) (hf : fr V x = none) : aLen A (some x) = some (nI (xn V (100 * c + k) a)) := by
  unfold aLen
  rcases own_t ho with e | e | e | e | e
  · rw [h.ar? ha ho hx hf (by rw [e, arE1])]; rfl
  · rw [h.ar? ha ho hx hf (by rw [e, arE2])]; rfl
  · rw [h.ar? ha ho hx hf (by rw [e, arE3])]; rfl
  · rw [h.ar? ha ho hx hf (by rw [e, arE4])]; rfl
  · rw [h.ar? ha ho hx hf (by rw [e, arE5])]; rfl
/-- an owned array's cell is replaced, in heap and rows -/
theorem St.arr' (h : St nC nS A V) {V' : CW} {a c k x : Nat} (ha : kdV V a = c + 1) (ho : own c k ≠ 0) (hx : xr V (100 * c + k) a 0 = some x) (hf : fr V x = none) (e1 : V'.1 = V.1) (hfr : fr V' = fr V) (hs : sa V' = sa V) (hfl : ∀ a' c' k', k' < 50 → fldV V' c' a' k' = fldV V c' a' k')
    (hxr : ∀ a' c' k', own c' k' ≠ 0 → xr V' (100 * c' + k') a' 0 = xr V (100 * c' + k') a' 0) (har : ∀ a' c' k', own c' k' ≠ 0 → ¬ (a' = a ∧ c' = c ∧ k' = k) → arE V' (own c' k') (100 * c' + k') a' = arE V (own c' k') (100 * c' + k') a') : St nC nS (hSet A x (arE V' (own c k) (100 * c + k) a)) V' := by
  have hax := (h.2.2.1 a c k x ha ho hx hf).2
  obtain ⟨⟨b1, b2, b3⟩, h1, h2, h3, h4⟩ := h
  have hfs : ∀ a' c', flds V' c' a' = flds V c' a' := by
    intro a' c'
    unfold flds
    refine List.map_congr_left (fun k' hk' => hfl a' c' k' ?_)
    have := nfl_lt c'
    have := List.mem_range.mp hk'
    omega
  refine ⟨⟨b1, b2, b3.trans hs.symm⟩, fun a' c' hk => ?_, fun a' c' k' x' hk ho' hxr' hfr' => ?_, fun a1 c1 k1 a2 c2 k2 x' hk1 hk2 ho1 ho2 hx1 hx2 hfr' => ?_, fun q e hq => ?_⟩
  · rw [kdV, e1] at hk
    obtain ⟨g1, g2, g3, g4⟩ := h1 a' c' hk
    refine ⟨g1, g2, g3, ?_⟩
    rw [hSet_ne, g4, hfs]
    intro e
    rw [e, hax] at g4
    exact arE_ne_obj _ _ _ _ _ _ g4
  · rw [kdV, e1] at hk
    rw [hfr] at hfr'
    rw [hxr a' c' k' ho'] at hxr'
    obtain ⟨g1, g2⟩ := h2 a' c' k' x' hk ho' hxr' hfr'
    refine ⟨g1, ?_⟩
    by_cases e : a' = a ∧ c' = c ∧ k' = k
    · obtain ⟨rfl, rfl, rfl⟩ := e
      have : x' = x := Option.some.inj (hxr'.symm.trans hx)
      subst this
      exact hSet_at
    · rw [har a' c' k' ho' e, hSet_ne, g2]
      intro ex
      subst ex
      obtain ⟨q1, q2⟩ := h3 a' c' k' a c k x' hk ha ho' ho hxr' hx hf
      subst q1
      exact e ⟨rfl, by have := hk.symm.trans ha; omega, q2⟩
  · rw [kdV, e1] at hk1 hk2
    rw [hfr] at hfr'
    rw [hxr _ _ _ ho1] at hx1
    rw [hxr _ _ _ ho2] at hx2
    exact h3 a1 c1 k1 a2 c2 k2 x' hk1 hk2 ho1 ho2 hx1 hx2 hfr'
  · rw [hfr] at hq
    obtain ⟨g1, g2, g3⟩ := h4 q e hq
    refine ⟨g1, ?_, by rw [kdV, e1]; exact g3⟩
    rw [hSet_ne, g2]
    intro e'
    rw [e', hf] at hq
    cases hq
theorem up3_row {α : Type} (f : Nat → Nat → Nat → α) (c a i c' a' : Nat) (v : α) (h : ¬ (c' = c ∧ a' = a)) : up3 f c a i v c' a' = f c' a' := by
  funext j
  exact if_neg (fun z => h ⟨z.1, z.2.1⟩)
theorem St.si (h : St nC nS A V) {a c k x : Nat} (i : Nat) (v : Int32) (ha : kdV V a = c + 1) (ho : own c k = 1) (hx : xr V (100 * c + k) a 0 = some x) (hf : fr V x = none) (hi : i < xn V (100 * c + k) a) (hb : i < 2 ^ 31) : ∃ A', sI A (some x) (nI i) v = some A' ∧ St nC nS A' (vI' V (100 * c + k + 50) a i v) := by
  have ho' : own c k ≠ 0 := by rw [ho]; decide
  have hk := own_k ho'
  refine ⟨_, ?_, h.arr' (V' := vI' V (100 * c + k + 50) a i v) ha ho' hx hf rfl rfl rfl (fun a' c' k' hk' => ?_) (fun _ _ _ _ => rfl) (fun a' c' k' hk' hne => ?_)⟩
  · unfold sI
    rw [h.ar? ha ho' hx hf (by rw [ho, arE1])]
    simp only [Option.bind_some, if_true, ixok_ok hi hb, nI_clamp hb, Option.getD_some]
    rw [ho, arE1]
    refine congrArg some (congrArg (hSet A x) (congrArg (fun f => Sum.inl (0, xn V (100 * c + k) a, Sum.inl f)) ?_))
    funext j
    show upd _ i v j = if 100 * c + k + 50 = 100 * c + k + 50 ∧ a = a ∧ j = i then v else _
    by_cases e : j = i
    · rw [e, pk_us, if_pos ⟨rfl, rfl, rfl⟩]
    · rw [pk_un e, if_neg (fun z => e z.2.2)]
  · unfold fldV
    rw [vIi, if_neg (show ¬ (100 * c' + k' = 100 * c + k + 50 ∧ a' = a ∧ 0 = i) from fun z => by omega), vIr]
  · have h50 := own_k hk'
    have e : xi (vI' V (100 * c + k + 50) a i v) (100 * c' + k' + 50) a' = xi V (100 * c' + k' + 50) a' := up3_row _ _ _ _ _ _ _ (fun z => hne ⟨z.2, by omega, by omega⟩)
    unfold arE
    rw [e]
    rfl
theorem St.sz (h : St nC nS A V) {a c k x : Nat} (i : Nat) (v : Int32) (ha : kdV V a = c + 1) (ho : own c k = 2) (hx : xr V (100 * c + k) a 0 = some x) (hf : fr V x = none) (hi : i < xn V (100 * c + k) a) (hb : i < 2 ^ 31) : ∃ A', sZ A (some x) (nI i) v = some A' ∧ St nC nS A' (vI' V (100 * c + k + 50) a i (nb v)) := by
  have ho' : own c k ≠ 0 := by rw [ho]; decide
  have hk := own_k ho'
  refine ⟨_, ?_, h.arr' (V' := vI' V (100 * c + k + 50) a i (nb v)) ha ho' hx hf rfl rfl rfl (fun a' c' k' hk' => ?_) (fun _ _ _ _ => rfl) (fun a' c' k' hk' hne => ?_)⟩
  · unfold sZ
    rw [h.ar? ha ho' hx hf (by rw [ho, arE2])]
    simp only [Option.bind_some, if_true, ixok_ok hi hb, nI_clamp hb, Option.getD_some]
    rw [ho, arE2]
    refine congrArg some (congrArg (hSet A x) (congrArg (fun f => Sum.inl (1, xn V (100 * c + k) a, Sum.inl f)) ?_))
    funext j
    show upd _ i (nb v) j = if 100 * c + k + 50 = 100 * c + k + 50 ∧ a = a ∧ j = i then nb v else _
    by_cases e : j = i
    · rw [e, pk_us, if_pos ⟨rfl, rfl, rfl⟩]
    · rw [pk_un e, if_neg (fun z => e z.2.2)]
  · unfold fldV
    rw [vIi, if_neg (show ¬ (100 * c' + k' = 100 * c + k + 50 ∧ a' = a ∧ 0 = i) from fun z => by omega), vIr]
  · have h50 := own_k hk'
    have e : xi (vI' V (100 * c + k + 50) a i (nb v)) (100 * c' + k' + 50) a' = xi V (100 * c' + k' + 50) a' := up3_row _ _ _ _ _ _ _ (fun z => hne ⟨z.2, by omega, by omega⟩)
    unfold arE
    rw [e]
    rfl
theorem St.sl (h : St nC nS A V) {a c k x : Nat} (i : Nat) (v : Int64) (ha : kdV V a = c + 1) (ho : own c k = 3) (hx : xr V (100 * c + k) a 0 = some x) (hf : fr V x = none) (hi : i < xn V (100 * c + k) a) (hb : i < 2 ^ 31) : ∃ A', sL A (some x) (nI i) v = some A' ∧ St nC nS A' (vW' V (100 * c + k) a i v) := by
  have ho' : own c k ≠ 0 := by rw [ho]; decide
  have hk := own_k ho'
  refine ⟨_, ?_, h.arr' (V' := vW' V (100 * c + k) a i v) ha ho' hx hf rfl rfl rfl (fun a' c' k' hk' => rfl) (fun _ _ _ _ => rfl) (fun a' c' k' hk' hne => ?_)⟩
  · unfold sL
    rw [h.ar? ha ho' hx hf (by rw [ho, arE3])]
    simp only [Option.bind_some, if_true, ixok_ok hi hb, nI_clamp hb, Option.getD_some]
    rw [ho, arE3]
    refine congrArg some (congrArg (hSet A x) (congrArg (fun f => Sum.inl (2, xn V (100 * c + k) a, Sum.inr (Sum.inl f))) ?_))
    funext j
    show vp_updL _ i v j = if 100 * c + k = 100 * c + k ∧ a = a ∧ j = i then v else _
    by_cases e : j = i
    · rw [e, pk_uLs, if_pos ⟨rfl, rfl, rfl⟩]
    · rw [pk_uLn e, if_neg (fun z => e z.2.2)]
  · have h50 := own_k hk'
    have e : xw (vW' V (100 * c + k) a i v) (100 * c' + k') a' = xw V (100 * c' + k') a' := up3_row _ _ _ _ _ _ _ (fun z => hne ⟨z.2, by omega, by omega⟩)
    unfold arE
    rw [e]
    rfl
theorem St.sr (h : St nC nS A V) {a c k x : Nat} (i : Nat) (v : Option Nat) (ha : kdV V a = c + 1) (ho : own c k = 4 ∨ own c k = 5) (hx : xr V (100 * c + k) a 0 = some x) (hf : fr V x = none) (hi : i < xn V (100 * c + k) a) (hb : i < 2 ^ 31) (hst : stok A (own c k - 1) v = some ()) : ∃ A', sR A (some x) (nI i) v = some A' ∧ St nC nS A' (vR' V (100 * c + k + 50) a i v) := by
  have ho' : own c k ≠ 0 := by rcases ho with e | e <;> rw [e] <;> decide
  have hk := own_k ho'
  refine ⟨_, ?_, h.arr' (V' := vR' V (100 * c + k + 50) a i v) ha ho' hx hf rfl rfl rfl (fun a' c' k' hk' => ?_) (fun a' c' k' hk' => ?_) (fun a' c' k' hk' hne => ?_)⟩
  · have hj : ∀ (t : Nat), (Sum.inl (t, xn V (100 * c + k) a, Sum.inr (Sum.inr (Sum.inr (Sum.inr (va_up (xr V (100 * c + k + 50) a) i v))))) : va_E) = Sum.inl (t, xn V (100 * c + k) a, Sum.inr (Sum.inr (Sum.inr (Sum.inr (xr (vR' V (100 * c + k + 50) a i v) (100 * c + k + 50) a))))) := by
      intro t
      refine congrArg (fun f => Sum.inl (t, xn V (100 * c + k) a, Sum.inr (Sum.inr (Sum.inr (Sum.inr f))))) ?_
      funext j
      show va_up _ i v j = if 100 * c + k + 50 = 100 * c + k + 50 ∧ a = a ∧ j = i then v else _
      unfold va_up
      by_cases e : j = i
      · rw [if_pos e, if_pos ⟨rfl, rfl, e⟩]
      · rw [if_neg e, if_neg (fun z => e z.2.2)]
    unfold sR
    rcases ho with ho | ho
    · rw [h.ar? ha ho' hx hf (by rw [ho, arE4])]
      rw [ho] at hst
      simp only [Option.bind_some, true_or, if_true, ixok_ok hi hb, nI_clamp hb, Option.getD_some]
      rw [show stok A 3 v = some () from hst, Option.bind_some, ho, arE4]
      exact congrArg some (congrArg (hSet A x) (hj 3))
    · rw [h.ar? ha ho' hx hf (by rw [ho, arE5])]
      rw [ho] at hst
      simp only [Option.bind_some, or_true, if_true, ixok_ok hi hb, nI_clamp hb, Option.getD_some]
      rw [show stok A 4 v = some () from hst, Option.bind_some, ho, arE5]
      exact congrArg some (congrArg (hSet A x) (hj 4))
  · unfold fldV
    rw [vRr, if_neg (show ¬ (100 * c' + k' = 100 * c + k + 50 ∧ a' = a ∧ 0 = i) from fun z => by omega), vRi]
  · have h50 := own_k hk'
    rw [vRr, if_neg (fun z => by omega)]
  · have h50 := own_k hk'
    have e : xr (vR' V (100 * c + k + 50) a i v) (100 * c' + k' + 50) a' = xr V (100 * c' + k' + 50) a' := up3_row _ _ _ _ _ _ _ (fun z => hne ⟨z.2, by omega, by omega⟩)
    unfold arE
    rw [e]
    rfl
end C2
