/-! C34: asks: what they are; a fresh one -/
theorem ncap_b {cap : Nat} (h : cap ≤ 4096) : cap < ncap cap ∧ ncap cap ≤ 6150 ∧ ncap cap ≤ 4 * (ncap cap - cap) := by
  unfold ncap
  split
  · omega
  · split <;> omega
/-- the k-th ask of the model is the ask a -/
def AK (V : CW) (ad : AA) (M : MS) (k a : Nat) : Prop := ∃ o d q bk s i, (o < 64 ∧ d < 16 ∧ q < 4096 ∧ bk < 64 ∧ s < 128 ∧ i < 32) ∧ (M.2.1 21 k = nI (16 * o + d) ∧ M.2.1 20 k = nI (32 * (128 * bk + s) + i) ∧ M.2.1 22 k = nI q ∧ M.2.1 9 s = nI bk) ∧ (xi V 1500 a 0 = M.2.1 19 k ∧ xi V 1502 a 0 = nI o ∧ xi V 1503 a 0 = nI q ∧ xi V 1504 a 0 = M.2.1 23 k ∧ xi V 1505 a 0 = M.2.1 24 k ∧ xi V 1506 a 0 = nI d) ∧ ∃ l, ad 14 (32 * s + i) = some l ∧ (if o = 51 then xr V 1508 a 0 = none else (xr V 1508 a 0 = some l ∧ xi V 1507 a 0 = xi V 1405 l 0))
def cpL (V : CW) (E : EL) (c k a : Nat) : Nat := E.2.2 ((xr V (100 * c + k) a 0).getD 0)
/-- the heap: asks in their order, turns, lists -/
def HP (V : CW) (E : EL) (ad : AA) (M : MS) (P : PP) (T : Nat) : Prop := (∃ p, M.1 41 = nI p ∧ (lt V E 3 0 (P 3)).length = p ∧ ∀ k, (∃ a, ad 15 k = some a) ↔ k < p) ∧ (∀ k a, ad 15 k = some a → AK V ad M k a) ∧ (xi V 302 (P 3) 0 = nI T ∧ T < 2 ^ 30 ∧ ∃ tn : Nat → Nat, (∀ k a, ad 15 k = some a → gU V a = nI (tn k) ∧ tn k < T) ∧ ∀ k k' a, k < k' → ad 15 k' = some a → tn k < tn k') ∧ (inj (lt V E 3 0 (P 3)) ∧ (∀ x : Nat, (∃ i : Nat, (lt V E 3 0 (P 3))[i]? = some x) ↔ ∃ k, ad 15 k = some x) ∧ HO (fT V) (gU V) (lt V E 3 0 (P 3))) ∧ (inj (lt V E 3 1 (P 3)) ∧ (∀ i x : Nat, (lt V E 3 1 (P 3))[i]? = some x → ∀ k, ad 15 k ≠ some x)) ∧ ((lt V E 3 0 (P 3)).length + (lt V E 3 1 (P 3)).length ≤ 4096 ∧ cpL V E 3 0 (P 3) ≤ 6200 ∧ cpL V E 3 1 (P 3) ≤ 6200)
/-- cells and slots that the heap may want yet -/
def rqH (V : CW) (E : EL) (P : PP) : Nat := 4096 - ((lt V E 3 0 (P 3)).length + (lt V E 3 1 (P 3)).length)
def rqC (V : CW) (E : EL) (P : PP) : Nat := rqH V E P + (6200 - cpL V E 3 0 (P 3)) + (6200 - cpL V E 3 1 (P 3))
def rqS (V : CW) (E : EL) (P : PP) : Nat := 9 * rqH V E P + 4 * (6200 - cpL V E 3 0 (P 3)) + 4 * (6200 - cpL V E 3 1 (P 3))
section C34
variable {nC nS n : Nat} {A : AH} {V V' : CW} {E E' : EL} {ad : AA} {M : MS} {P : PP} {hl sl : Nat}
theorem e3_fresh (nC nS : Nat) {A : AH} {V : CW} {ho hl sl cap cap2 : Nat} {l sp : List Nat} (h : St (nC + 1) (nS + 9) A V) (hho : kdV V ho = 4) (hx2 : xr V 301 ho 0 = some sl) (hne : hl ≠ sl) (hli : LI V hl 15 l cap) (hli2 : LI V sl 15 sp cap2) (hinj : inj sp) :
    Res (fX3_fresh ho A) (fun r => ∃ a V1 sp1, r.1 = some a ∧ (if sp.length = 0 then St nC nS r.2 V1 else St (nC + 1) (nS + 9) r.2 V1) ∧ VG hl sl V V1 ∧ kdV V1 a = 16 ∧ LI V1 hl 15 l cap ∧ LI V1 sl 15 sp1 cap2 ∧ (sp1.length = sp.length - 1) ∧ (∀ i x : Nat, sp1[i]? = some x → sp[i]? = some x ∧ x ≠ a) ∧ ((∃ i : Nat, sp[i]? = some a) ∨ kdV V a = 0) ∧ (∀ b, kdV V b = 16 → xi V1 1500 b = xi V 1500 b ∧ xi V1 1501 b = xi V 1501 b ∧ (∀ d, xi V1 d b = xi V d b) ∧ ∀ d, xr V1 d b = xr V d b) ∧ xi V1 302 ho = xi V 302 ho) := by
  unfold fX3_fresh
  refine Res.b ((h.gr 1 (c := 3) hho (by decide) rfl).trans (congrArg some hx2)) (Res.b (h.rc hli2.1) (Res.b (L_isEmpty h hli2) ?_))
  rw [jn_eq]
  by_cases c0 : sp.length = 0
  · have e0 : sp = [] := List.length_eq_zero_iff.mp c0
    subst e0
    rw [b2i_t c0, if_neg (by decide)]
    obtain ⟨A1, e1, hN1, s1⟩ := h.no 15 (n := nS) dfX15 (by decide) (by decide) rfl (Nat.le_refl _)
    refine Res.b e1 ?_
    have hp0 := h.new0
    refine Res.b (v := ()) (by first | rfl | (unfold fX15_init; rfl)) ?_
    have vg : VG hl sl V (vNew V (hN A) 15) := VG.new hp0
    have ne : ∀ b, kdV V b ≠ 0 → b ≠ hN A := fun b hb z => hb (by rw [z]; exact hp0)
    have vf : VF (fun _ => False) V (vNew V (hN A) 15) := VF.new hp0
    refine Res.r ⟨hN A, _, [], rfl, by rw [if_pos c0]; exact s1, vg, if_pos rfl, hli.vf vf (fun z => z), hli2.vf vf (fun z => z), rfl, fun i x hi => by simp at hi, Or.inr hp0, fun b hb => ?_, ?_⟩
    · have hb' := ne b (by rw [hb]; decide)
      have xx : ∀ d, xi (vNew V (hN A) 15) d b = xi V d b := fun d => by funext i; exact if_neg hb'
      exact ⟨xx _, xx _, xx, fun d => by funext i; exact if_neg hb'⟩
    · have hb' := ne ho (by rw [hho]; decide)
      funext i
      exact if_neg hb'
  · rw [b2i_f c0, if_pos rfl]
    obtain ⟨sp1, a, rfl⟩ : ∃ l0 last, sp = l0 ++ [last] := ⟨sp.dropLast, sp.getLast (by intro z; rw [z] at c0; exact c0 rfl), (List.dropLast_concat_getLast _).symm⟩
    have hlen : (sp1 ++ [a]).length = sp1.length + 1 := by rw [List.length_append]; rfl
    have hla : (sp1 ++ [a])[sp1.length]? = some a := by
      rw [List.getElem?_append_right (Nat.le_refl _), Nat.sub_self]
      rfl
    have hak := hli2.kd hla
    refine Res.b (L_size h hli2) ?_
    rw [hlen, nI_sub1 (by omega), show sp1.length + 1 - 1 = sp1.length by omega]
    refine Res.w (L_remove h hli2) ?_
    rintro ⟨r1, A1⟩ ⟨e1, V1, s1, f1, li1⟩
    have e1 : r1 = some a := e1
    subst e1
    refine Res.b (s1.cs (f1.kv hak)) (Res.r ⟨a, V1, sp1, rfl, ?_, VG.lf2 f1, f1.kv hak, hli.vf (S := fun z => z = sl) (f1.vf rfl) hne, li1, ?_, fun i x hi => ?_, Or.inl ⟨_, hla⟩, fun b hb => ?_, ?_⟩)
    · rw [if_neg (by omega)]; exact s1
    · omega
    · have hlt := ge_lt hi
      refine ⟨by rw [List.getElem?_append_left hlt]; exact hi, fun z => ?_⟩
      subst z
      have := hinj i sp1.length x (by rw [List.getElem?_append_left hlt]; exact hi) hla
      omega
    · have hb' : b ≠ sl := fun z => by rw [z, hli2.1] at hb; cases hb
      exact ⟨(f1.2.1 b hb' _).1, (f1.2.1 b hb' _).1, fun d => (f1.2.1 b hb' d).1, fun d => (f1.2.1 b hb' d).2.1⟩
    · have hb' : ho ≠ sl := fun z => by rw [z, hli2.1] at hho; cases hho
      exact (f1.2.1 ho hb' 302).1
end C34
