/-! C5: lists change -/
theorem jl_P {τ β : Type} {bot : τ} {F : τ → τ} {n : Nat} {f : τ → β} {P : β → Prop} (Q : Nat → τ → Prop) (d : Nat) (hd : d < n) (h0 : ∀ g, Q 0 (F g)) (hs : ∀ d g, Q d g → Q (d + 1) (F g)) (k : ∀ g, Q d g → P (f g)) : P (jl (fixG bot F n) f) := k _ (fix_cnt Q h0 hs d n hd)
/-- an option that has a value of which something holds -/
def Res {α : Type} (o : Option α) (P : α → Prop) : Prop := ∃ x, o = some x ∧ P x
theorem Res.b {α β : Type} {o : Option α} {v : α} {f : α → Option β} {P : β → Prop} (h : o = some v) (k : Res (f v) P) : Res (o.bind f) P := by
  rw [h]
  exact k
theorem Res.w {α β : Type} {o : Option α} {f : α → Option β} {Q : α → Prop} {P : β → Prop} (h : Res o Q) (k : ∀ x, Q x → Res (f x) P) : Res (o.bind f) P := by
  obtain ⟨x, e, q⟩ := h
  rw [e]
  exact k x q
theorem Res.r {α : Type} {x : α} {P : α → Prop} (h : P x) : Res (some x) P := ⟨x, rfl, h⟩
theorem Res.m {α : Type} {o : Option α} {P Q : α → Prop} (h : Res o P) (k : ∀ x, P x → Q x) : Res o Q := by
  obtain ⟨x, e, q⟩ := h
  exact ⟨x, e, k x q⟩
section C5
variable {nC nS : Nat} {A : AH} {V : CW}
theorem L_set (h : St nC nS A V) {a c cap i v w : Nat} {l : List Nat} (hl : LI V a c l cap) (hi : l[i]? = some w) (hv : kdV V v = c + 1) : Res (fJ2_set a (nI i) (some v) A) (fun r => r.1 = some w ∧ ∃ V', St nC nS r.2 V' ∧ LF V V' a ∧ LI V' a c (l.set i v) cap) := by
  have hlt : i < l.length := (List.getElem?_eq_some_iff.mp hi).1
  have h1 := hl.2.2.1
  have h2 := hl.2.2.2.2.1
  obtain ⟨x, hx, hf, hn⟩ := hl.x (by omega)
  unfold fJ2_set fJ2_elementData
  refine Res.b ((h.gi 2 (c := 0) hl.1 (by decide) rfl).trans (congrArg some hl.2.2.2.1)) (Res.b (chk hlt (by omega) A) (Res.b (h.rc hl.1) (Res.b (v := some w) ?_ ?_)))
  · refine ob ((h.gr 1 (c := 0) hl.1 (by decide) rfl).trans (congrArg some hx)) (ob ((h.ar (c := 0) (k := 1) i hl.1 (Or.inl rfl) hx hf (by show i < xn V 1 a; omega) (by omega)).trans ?_) rfl)
    exact congrArg some (hl.2.2.2.2.2.2.1 i w hi)
  · refine Res.b ((h.gr 1 (c := 0) hl.1 (by decide) rfl).trans (congrArg some hx)) ?_
    obtain ⟨A', e, hs⟩ := h.sr (c := 0) (k := 1) i (some v) hl.1 (Or.inl rfl) hx hf (by show i < xn V 1 a; omega) (by omega) (h.st3 hv hl.2.1)
    refine Res.b e (Res.r ⟨rfl, _, hs, LF.vR _ _ _, ?_⟩)
    obtain ⟨q1, q2, q3, q4, q5, q6, q7, x', q8, q9⟩ := hl
    refine ⟨q1, q2, q3, by rw [List.length_set]; exact q4, by rw [List.length_set]; exact q5, fun u hu => ?_, fun j u hj => ?_, x', ?_, q9⟩
    · rcases List.mem_or_eq_of_mem_set hu with z | z
      · exact q6 u z
      · rw [z]; exact hv
    · show xr (vR' V 51 a i (some v)) 51 a j = some u
      rw [vRr]
      rw [List.getElem?_set] at hj
      by_cases e : i = j
      · subst e
        rw [if_pos rfl, if_pos hlt] at hj
        rw [if_pos ⟨rfl, rfl, rfl⟩]
        exact hj
      · rw [if_neg e] at hj
        rw [if_neg (fun z => e z.2.2.symm)]
        exact q7 j u hj
    · show xr (vR' V 51 a i (some v)) 1 a 0 = some x'
      rw [vRr, if_neg (fun z => absurd z.1 (by decide))]
      exact q8
theorem L_remove (h : St nC nS A V) {a c cap v : Nat} {l : List Nat} (hl : LI V a c (l ++ [v]) cap) : Res (fJ2_remove a (nI l.length) A) (fun r => r.1 = some v ∧ ∃ V', St nC nS r.2 V' ∧ LF V V' a ∧ LI V' a c l cap) := by
  have h1 := hl.2.2.1
  have h2 := hl.2.2.2.2.1
  have hlen : (l ++ [v]).length = l.length + 1 := by simp
  rw [hlen] at h2
  have h4 := hl.2.2.2.1
  rw [hlen] at h4
  obtain ⟨x, hx, hf, hn⟩ := hl.x (by omega)
  have hget : (l ++ [v])[l.length]? = some v := by simp
  have hsub : nI (l.length + 1) - 1 = nI l.length := nI_sub1 (by omega)
  unfold fJ2_remove
  refine Res.b ((h.gi 2 (c := 0) hl.1 (by decide) rfl).trans (congrArg some h4)) (Res.b (chk (by omega) (by omega) A) (Res.b ((h.gr 1 (c := 0) hl.1 (by decide) rfl).trans (congrArg some hx)) (Res.b (v := some v) ?_ (Res.b (h.rc hl.1) ?_))))
  · exact (h.ar (c := 0) (k := 1) l.length hl.1 (Or.inl rfl) hx hf (by show l.length < xn V 1 a; omega) (by omega)).trans (congrArg some (hl.2.2.2.2.2.2.1 _ v hget))
  · refine Res.w (Q := fun A' => ∃ V', St nC nS A' V' ∧ LF V V' a ∧ LI V' a c l cap) ?_ (fun A' ⟨V', s1, s2, s3⟩ => Res.r ⟨rfl, V', s1, s2, s3⟩)
    unfold fJ2_fastRemove
    refine Res.b (h.gi 0 (c := 0) hl.1 (by decide) rfl) ?_
    obtain ⟨A1, e1, s1⟩ := h.pi 0 (xi V (100 * 0 + 0) a 0 + 1) (c := 0) hl.1 (by decide) rfl
    refine Res.b e1 ?_
    refine Res.b ((s1.gi 2 (c := 0) hl.1 (by decide) rfl).trans (congrArg some (show xi (vI' V 0 a 0 _) 2 a 0 = nI (l.length + 1) by rw [vIi, if_neg (fun z => absurd z.1 (by decide))]; exact h4))) ?_
    rw [hsub, jn_eq, if_pos (c_le (Nat.le_refl _) (by omega))]
    obtain ⟨A2, e2, s2⟩ := s1.pi 2 (nI l.length) (c := 0) hl.1 (by decide) rfl
    refine Res.b e2 ?_
    obtain ⟨A3, e3, s3⟩ := s2.sr (c := 0) (k := 1) l.length none hl.1 (Or.inl rfl) hx hf (by show l.length < xn V 1 a; omega) (by omega) rfl
    refine Res.b e3 (Res.r ⟨_, s3, (LF.vI _ _ _).tr ((LF.vI _ _ _).tr (LF.vR _ _ _)), ?_⟩)
    obtain ⟨q1, q2, q3, q4, q5, q6, q7, x', q8, q9⟩ := hl
    refine ⟨q1, q2, q3, ?_, by omega, fun u hu => q6 u (List.mem_append_left _ hu), fun j u hj => ?_, x', ?_, q9⟩
    · show xi (vI' (vI' V 0 a 0 _) 2 a 0 (nI l.length)) 2 a 0 = _
      rw [vIi, if_pos ⟨rfl, rfl, rfl⟩]
    · have hj2 : j < l.length := (List.getElem?_eq_some_iff.mp hj).1
      show xr (vR' V 51 a l.length none) 51 a j = some u
      rw [vRr, if_neg (fun z => by omega)]
      exact q7 j u (by rw [List.getElem?_append_left hj2]; exact hj)
    · show xr (vR' V 51 a l.length none) 1 a 0 = some x'
      rw [vRr, if_neg (fun z => absurd z.1 (by decide))]
      exact q8
theorem L_clear (h : St nC nS A V) {n a c cap : Nat} {l : List Nat} (hl : LI V a c l cap) (hn : l.length < n) : Res (fJ2_clear n a A) (fun A' => ∃ V', St nC nS A' V' ∧ LF V V' a ∧ LI V' a c [] cap) := by
  have h1 := hl.2.2.1
  have h2 := hl.2.2.2.2.1
  have h4 := hl.2.2.2.1
  obtain ⟨q1, q2, q3, q4, q5, q6, q7, x, hx, q9⟩ := hl
  unfold fJ2_clear
  refine Res.b (h.gi 0 (c := 0) q1 (by decide) rfl) ?_
  obtain ⟨A1, e1, s1⟩ := h.pi 0 (xi V (100 * 0 + 0) a 0 + 1) (c := 0) q1 (by decide) rfl
  refine Res.b e1 (Res.b ((s1.gr 1 (c := 0) q1 (by decide) rfl).trans (congrArg some hx)) ?_)
  refine Res.b ((s1.gi 2 (c := 0) q1 (by decide) rfl).trans (congrArg some (show xi (vI' V 0 a 0 _) 2 a 0 = nI l.length by rw [vIi, if_neg (fun z => absurd z.1 (by decide))]; exact h4))) ?_
  obtain ⟨A2, e2, s2⟩ := s1.pi 2 0 (c := 0) q1 (by decide) rfl
  refine Res.b e2 ?_
  refine jl_P (P := fun o => Res o (fun A' => ∃ V', St nC nS A' V' ∧ LF V V' a ∧ LI V' a c [] cap)) (fun d g => ∀ (i : Nat) (A : AH) (V' : CW), i + d = l.length → St nC nS A V' → LF V V' a → xi V' 2 a 0 = 0 → xr V' 1 a 0 = some x → xn V' 1 a = xn V 1 a → Res (g (nI i) A) (fun A' => ∃ V', St nC nS A' V' ∧ LF V V' a ∧ LI V' a c [] cap)) l.length hn ?_ ?_ ?_
  · intro g i A V' hi hs hf e3 e4 e5
    obtain rfl : i = l.length := by omega
    rw [if_pos (c_le (Nat.le_refl _) (by omega))]
    refine Res.r ⟨V', hs, hf, by rw [kdV, hf.1]; exact q1, q2, q3, e3, Nat.zero_le _, fun v hv => absurd hv (List.not_mem_nil), fun i v hv => by simp at hv, x, e4, ?_⟩
    rw [hf.2.2.2.1, hf.2.2.2.2, e5]
    exact q9
  · intro d g hg i A V' hi hs hf e3 e4 e5
    rw [if_neg (c_nle (by omega) (by omega)), nI_1]
    have q9' : fr V x = none ∧ xn V 1 a = cap := (q9.resolve_right (fun z => by omega)).2
    have q1' : kdV V' a = 0 + 1 := by rw [kdV, hf.1]; exact q1
    obtain ⟨A3, e6, s3⟩ := hs.sr (c := 0) (k := 1) i none q1' (Or.inl rfl) e4 (by rw [hf.2.2.2.1]; exact q9'.1) (by show i < xn V' 1 a; omega) (by omega) rfl
    refine Res.b e6 (hg (i + 1) A3 _ (by omega) s3 (hf.tr (LF.vR _ _ _)) e3 ?_ e5)
    show xr (vR' V' 51 a i none) 1 a 0 = some x
    rw [vRr, if_neg (fun z => absurd z.1 (by decide))]
    exact e4
  · intro g hg
    refine hg 0 A2 _ (by omega) s2 ((LF.vI _ _ _).tr (LF.vI _ _ _)) ?_ hx rfl
    show xi (vI' (vI' V 0 a 0 _) 2 a 0 0) 2 a 0 = 0
    rw [vIi, if_pos ⟨rfl, rfl, rfl⟩]
end C5
