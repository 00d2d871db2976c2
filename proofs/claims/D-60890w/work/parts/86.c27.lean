/-! C27: askGlobal -/
def agF (M : MS) (s a i : Nat) : Bool := decide (¬ M.2.1 27 i = 0) && agB M s a i
def tgC (M : MS) (s a G j : Nat) : Int32 × Int32 × MS := iter (tgS s a G) 0 j (M.1 15 + 1, 0, M)
theorem tgC_s (M : MS) (s a G j : Nat) : tgC M s a G (j + 1) = tgS s a G j (tgC M s a G j) := by
  unfold tgC
  rw [iter_last, Nat.zero_add]
theorem tgC_frm (M : MS) (s a G : Nat) : ∀ j, frm [19, 20] [3, 4, 25] M (tgC M s a G j).2.2
  | 0 => frm.rf
  | j + 1 => by
    rw [tgC_s]
    exact (tgC_frm M s a G j).tr (tgS_frm s a G j _)
theorem ask_fm {M M' : MS} (h : M'.2.1 13 = M.2.1 13) (h7 : M'.1 57 = M.1 57) (s a i : Nat) : askV M' s a i = askV M s a i := by
  unfold askV
  rw [h, h7]
theorem askN_fm {M M' : MS} (h : M'.2.1 13 = M.2.1 13) (h7 : M'.1 57 = M.1 57) (s a i : Nat) : askN M' s a i = askN M s a i := by
  unfold askN
  rw [ask_fm h h7]
theorem agB_fm {M M' : MS} (h : M'.2.1 13 = M.2.1 13) (h7 : M'.1 57 = M.1 57) (h27 : M'.2.1 27 = M.2.1 27) (s a i : Nat) : agB M' s a i = agB M s a i := by
  unfold agB
  refine anyF_c i (fun k _ => ?_)
  rw [h27, ask_fm h h7, ask_fm h h7]
theorem lgB_fm {M M' : MS} (h : M'.2.1 13 = M.2.1 13) (h7 : M'.1 57 = M.1 57) (h27 : M'.2.1 27 = M.2.1 27) (s a i : Nat) : lgB M' s a i = lgB M s a i := by
  unfold lgB
  refine anyF_c i (fun k _ => ?_)
  rw [h27, ask_fm h h7, ask_fm h h7]
/-- again: how often -/
theorem tgC_ag {M : MS} {s a G : Nat} : ∀ j, (tgC M s a G j).2.1 = if 53 < M.1 52 then nI (cnB (agF M s a) j) else 0
  | 0 => by
    show (0 : Int32) = _
    split <;> rfl
  | j + 1 => by
    have ih := tgC_ag (M := M) (s := s) (a := a) (G := G) j
    have hf := tgC_frm M s a G j
    have e27 := hf.a 27
    have eag := agB_fm (hf.a 13) (hf.f 57) e27 s a j
    have e52 := hf.f 52
    rw [tgC_s, cnB_s]
    unfold tgS agF
    generalize tgC M s a G j = c at *
    rw [e27]
    by_cases c0 : M.2.1 27 j = 0
    · rw [if_pos c0, ih, decide_eq_false (not_not_intro c0), Bool.false_and]
      rfl
    · rw [if_neg c0, decide_eq_true c0, Bool.true_and]
      have key : c.2.1 + (if (53 < c.2.2.1 52 ∧ agB c.2.2 s a j = true) then 1 else 0) = if 53 < M.1 52 then nI (cnB (agF M s a) j + (if agB M s a j = true then 1 else 0)) else 0 := by
        rw [e52, eag, ih]
        by_cases c5 : 53 < M.1 52
        · rw [if_pos c5, if_pos c5]
          by_cases ca : agB M s a j = true
          · rw [if_pos ⟨c5, ca⟩, if_pos ca, nI_1]
          · rw [if_neg (fun z => ca z.2), if_neg ca, Int32.add_zero]
            rfl
        · rw [if_neg c5, if_neg c5, if_neg (fun z => c5 z.1)]
          rfl
      split
      · exact key
      · exact key
/-- what is copied -/
theorem cpy_25 {s a i : Nat} {T : Int32} (X : MS) (hX : ∀ k, k < i → ¬ X.2.1 27 k = 0 → askV X s a k / 8 = askV X s a i / 8 → X.2.1 25 k = T) : ∀ d, d ≤ i → frm [] [25] X (iter (cpyS s a i) 0 d X) ∧ (∀ k, k ≠ i → (iter (cpyS s a i) 0 d X).2.1 25 k = X.2.1 25 k) ∧ ((∃ k, k < d ∧ ¬ X.2.1 27 k = 0 ∧ askV X s a k / 8 = askV X s a i / 8) → (iter (cpyS s a i) 0 d X).2.1 25 i = T)
  | 0, _ => ⟨frm.rf, fun _ _ => rfl, fun ⟨k, hk, _⟩ => absurd hk (Nat.not_lt_zero _)⟩
  | d + 1, hd => by
    obtain ⟨h1, h2, h3⟩ := cpy_25 X hX d (by omega)
    rw [iter_last, Nat.zero_add]
    generalize iter (cpyS s a i) 0 d X = Y at *
    have e27 := h1.a 27
    have eask := fun k => ask_fm (h1.a 13) (h1.f 57) s a k
    unfold cpyS
    refine ⟨h1.mA (by decide), fun k hk => ?_, fun ⟨k, hk, hk2, hk3⟩ => ?_⟩
    · rw [mA_a, if_pos rfl]
      refine Eq.trans (if_neg hk) (h2 k hk)
    · rw [mA_a, if_pos rfl]
      refine Eq.trans (if_pos rfl) ?_
      rw [e27, eask, eask]
      by_cases c : ¬ X.2.1 27 d = 0 ∧ askV X s a d / 8 = askV X s a i / 8
      · rw [if_pos c, h2 d (by omega)]
        exact hX d (by omega) c.1 c.2
      · rw [if_neg c]
        refine h3 ⟨k, ?_, hk2, hk3⟩
        by_cases e : k = d
        · subst e; exact absurd ⟨hk2, hk3⟩ c
        · omega
theorem anyF_ex {p : Nat → Bool} : ∀ d, anyF p 0 d = true ↔ ∃ k, k < d ∧ p k = true
  | 0 => ⟨fun h => (by cases h), fun ⟨k, hk, _⟩ => absurd hk (Nat.not_lt_zero _)⟩
  | d + 1 => by
    rw [anyF_last, Bool.or_eq_true, anyF_ex d, Nat.zero_add]
    constructor
    · rintro (⟨k, hk, hp⟩ | h)
      · exact ⟨k, by omega, hp⟩
      · exact ⟨d, by omega, h⟩
    · rintro ⟨k, hk, hp⟩
      by_cases e : k = d
      · subst e; exact Or.inr hp
      · exact Or.inl ⟨k, by omega, hp⟩
section C27
variable {nC nS n : Nat} {A : AH} {V V' : CW} {E : EL} {ad : AA} {M N : MS} {P : PP} {co Bk b1 b2 u : Nat} {many all : Int32}
theorem cnt_c {X X' : MS} (hc : CX V ad (cntM u many all X)) (h : frm [] [25] X X') : CX V ad (cntM u many all X') := by
  have e1 : X'.1 = X.1 := by
    funext k
    exact h.1 k (List.not_mem_nil)
  refine hc.mm (fun d _ => ?_) (fun j hj => ?_)
  · have : (cntM u many all X').1 = (cntM u many all X).1 := by
      show (fun k => if k = 18 then _ else if k = 17 then _ else if k = 16 then _ else X'.1 k) = (fun k => if k = 18 then _ else if k = 17 then _ else if k = 16 then _ else X.1 k)
      rw [e1]
    rw [this]
  · have : ∀ Y : MS, (cntM u many all Y).2.1 j = if j = 8 then upd (Y.2.1 8) u (Y.2.1 8 u + 1) else Y.2.1 j := fun Y => rfl
    rw [this, this, h.a 8, h.2.1 j (by simp only [List.mem_cons, List.not_mem_nil, or_false]; omega)]
def GlI (V : CW) (ad : AA) (co Bk b1 b2 u : Nat) (many all : Int32) (M : MS) (s a G j : Nat) : Prop := CO V co Bk b1 b2 (usB M s a j) (lnB M s a j) ∧ xi V 406 co 0 = nI (cnB (agF M s a) j) ∧ xi V 407 co 0 = (tgC M s a G j).1 ∧ (∀ i, i < j → ¬ M.2.1 27 i = 0 → xi V 454 co (askN M s a i / 8) = (tgC M s a G j).2.2.2.1 25 i) ∧ CX V ad (cntM u many all (tgC M s a G j).2.2)
theorem GlI.sk {s a G j : Nat} (h : GlI V ad co Bk b1 b2 u many all M s a G j) (h0 : M.2.1 27 j = 0) : GlI V ad co Bk b1 b2 u many all M s a G (j + 1) := by
  obtain ⟨h1, h2, h3, h4, h5⟩ := h
  have hf := (tgC_frm M s a G j).a 27
  have e : tgC M s a G (j + 1) = tgC M s a G j := by
    rw [tgC_s]
    unfold tgS
    rw [hf, if_pos h0]
  refine ⟨by rw [us_k h0, ln_k h0]; exact h1, ?_, by rw [e]; exact h3, fun i hi hi2 => ?_, by rw [e]; exact h5⟩
  · rw [cnB_s, h2, if_neg]
    · rfl
    · unfold agF
      rw [decide_eq_false (not_not_intro h0), Bool.false_and]
      decide
  · rw [e]
    refine h4 i ?_ hi2
    by_cases ei : i = j
    · subst ei; exact absurd h0 hi2
    · omega
theorem CX.w454 {co i : Nat} {v : Int32} (hc : CX V ad N) : CX (vI' V 454 co i v) ad N := hc.vIo (cd_scr (by unfold scr; omega))
end C27
