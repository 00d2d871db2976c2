/-! C49: the barrier and the end of a block -/
def fW (V : CW) (E : EL) (w : Nat) : Nat := 50 - cpL V E 13 2 w
def fB (V : CW) (E : EL) (b : Nat) : Nat := 30 - cpL V E 12 2 b
/-- cells and slots that pools and their lists may want yet -/
def ptC (V : CW) (E : EL) (ad : AA) (P : PP) (n0 n1 n2 : Nat) : Nat := 3 * (4096 - n2) + 47 * (128 - n1) + 26 * (64 - n0) + (sumA (fW V E) (ad 13) 128 + sumL (fW V E) (lt V E 2 1 (P 2))) + (sumA (fB V E) (ad 12) 64 + sumL (fB V E) (lt V E 2 0 (P 2)))
def ptS (V : CW) (E : EL) (ad : AA) (P : PP) (n0 n1 n2 : Nat) : Nat := 26 * (4096 - n2) + 205 * (128 - n1) + 166 * (64 - n0) + 4 * (sumA (fW V E) (ad 13) 128 + sumL (fW V E) (lt V E 2 1 (P 2))) + 4 * (sumA (fB V E) (ad 12) 64 + sumL (fB V E) (lt V E 2 0 (P 2)))
def PN (V : CW) (E : EL) (ad : AA) (P : PP) (n0 n1 n2 : Nat) : Prop := (RP (ad 12) (lt V E 2 0 (P 2)) 64 n0 ∧ n0 ≤ 64) ∧ (RP (ad 13) (lt V E 2 1 (P 2)) 128 n1 ∧ n1 ≤ 128) ∧ (RP (ad 14) (lt V E 2 2 (P 2)) 4096 n2 ∧ n2 ≤ 4096) ∧ ∀ j, j < 3 → cpL V E 2 j (P 2) ≤ 6200
/-- all, with what is left -/
def GX (nC nS : Nat) (A : AH) (V : CW) (E : EL) (ad : AA) (M : MS) (P : PP) (T Bk b1 b2 n0 n1 n2 : Nat) : Prop := St (nC + rqC V E P + rqP V E P + ptC V E ad P n0 n1 n2) (nS + rqS V E P + 4 * rqP V E P + ptS V E ad P n0 n1 n2) A V ∧ GB V E ad M P T Bk b1 b2 ∧ PN V E ad P n0 n1 n2
section C49
variable {nC nS n : Nat} {A : AH} {V V' V'' : CW} {E E' : EL} {ad : AA} {M M' : MS} {P : PP} {x T Bk b1 b2 n0 n1 n2 : Nat}
theorem settle0 {L bk : Nat} (hL : L ≤ 32) (hbk : bk < 64) (h : (stC M L (nI bk)).2 = 0) : z_settle M L (nI bk) = if (stC M L (nI bk)).1 = 0 then M else relM M (nI bk) L := by
  have hp : nI bk ≠ -1 := fun z => by
    have h2 := nI_pos' (n := bk) (by omega)
    rw [z] at h2
    exact absurd h2 (by decide)
  obtain ⟨f, h21, h9, h17⟩ := settleP M L hL (nI bk) hp
  have e1 : (z_settle M L (nI bk)).1 = M.1 := by
    funext k
    by_cases e : k = 21
    · rw [e, h21, if_pos h, Int32.add_zero]
    · exact f.1 k (by simp only [List.mem_cons, List.not_mem_nil, or_false]; exact e)
  have e9 : (z_settle M L (nI bk)).2.1 9 = M.2.1 9 := by
    funext s
    rw [h9 s, if_neg (fun z => z.2.1 h)]
  by_cases c : (stC M L (nI bk)).1 = 0
  · rw [if_pos c]
    refine Prod.ext e1 (Prod.ext ?_ f.2.2)
    funext j
    by_cases e : j = 9
    · rw [e]; exact e9
    · by_cases e' : j = 17
      · rw [e']
        funext t
        rw [h17 t, if_neg (fun z => z.2.2.1 c)]
      · exact f.2.1 j (by simp only [List.mem_cons, List.not_mem_nil, or_false]; omega)
  · rw [if_neg c]
    refine Prod.ext e1 (Prod.ext ?_ f.2.2)
    funext j
    by_cases e : j = 9
    · rw [e]; exact e9
    · by_cases e' : j = 17
      · rw [e']
        funext t
        rw [h17 t]
        show _ = (if (t / 32 < 128 ∧ t % 32 < L ∧ M.2.1 9 (t / 32) = nI bk) then 0 else M.2.1 17 t)
        by_cases z : t / 32 < 128 ∧ t % 32 < L ∧ M.2.1 9 (t / 32) = nI bk
        · rw [if_pos z, if_pos ⟨z.1, z.2.1, c, z.2.2⟩]
        · rw [if_neg z, if_neg (fun q => z ⟨q.1, q.2.1, q.2.2.2⟩)]
      · rw [f.2.1 j (by simp only [List.mem_cons, List.not_mem_nil, or_false]; omega)]
        show _ = (if j = 17 then _ else M.2.1 j)
        rw [if_neg e']
theorem st2_rel {L bk : Nat} {M1 : MS} (hf : frm [] [17] M M1) : (stC M1 L (nI bk)).2 = 0 ↔ (stC M L (nI bk)).2 = 0 := by
  have h1 := (stO_P M1 L (nI bk) 128).2
  have h2 := (stO_P M L (nI bk) 128).2
  have hb : ∀ s i, bd2 M1 s i = bd2 M s i := fun s i => by
    unfold bd2
    rw [hf.a 16, lnI_m (hf.a 10) (hf.f 1) (hf.f 13)]
  unfold stC
  rw [h1, h2, hf.a 9]
  constructor
  · rintro ⟨s, a, b, i, c, d⟩
    exact ⟨s, a, b, i, c, by rw [← hb]; exact d⟩
  · rintro ⟨s, a, b, i, c, d⟩
    exact ⟨s, a, b, i, c, by rw [hb]; exact d⟩
theorem GX.iv (g : GX nC nS A V E ad M P T Bk b1 b2 n0 n1 n2) {A' : AH} (h : St (nC + rqC V E P + rqP V E P + ptC V E ad P n0 n1 n2) (nS + rqS V E P + 4 * rqP V E P + ptS V E ad P n0 n1 n2) A' V') (hi : IV V V') (hc : CX V' ad M') (hf : fmH M M') : GX nC nS A' V' E ad M' P T Bk b1 b2 n0 n1 n2 := by
  obtain ⟨_, g2, g3⟩ := g
  have eL : ∀ c k a, lt V' E c k a = lt V E c k a := fun c k a => by unfold lt; rw [hi.2.1.1]
  have eC : ∀ c k a, cpL V' E c k a = cpL V E c k a := fun c k a => by unfold cpL; rw [hi.2.1.1]
  obtain ⟨r1, r2⟩ := rq_iob (E := E) (P := P) hi.b
  have e1 : rqP V' E P = rqP V E P := by unfold rqP; rw [eC, eC, eC]
  have ew : fW V' E = fW V E := by funext w; unfold fW; rw [eC]
  have eb : fB V' E = fB V E := by funext w; unfold fB; rw [eC]
  have e2 : ptC V' E ad P n0 n1 n2 = ptC V E ad P n0 n1 n2 := by unfold ptC; rw [ew, eb, eL, eL]
  have e3 : ptS V' E ad P n0 n1 n2 = ptS V E ad P n0 n1 n2 := by unfold ptS; rw [ew, eb, eL, eL]
  refine ⟨by rw [r1, r2, e1, e2, e3]; exact h, g2.iv hi hc hf, ?_⟩
  unfold PN
  rw [eL, eL, eL]
  refine ⟨g3.1, g3.2.1, g3.2.2.1, fun j hj => by rw [eC]; exact g3.2.2.2 j hj⟩
end C49
