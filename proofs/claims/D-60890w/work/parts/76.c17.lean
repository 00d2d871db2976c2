/-! C17: act -/
section C17
variable {nC nS n : Nat} {A : AH} {V V' : CW} {E : EL} {ad : AA} {M : MS} {P : PP} {x : Nat}
theorem Nx.of {A' : AH} {V1 : CW} {M1 M2 : MS} (hi : IV V V1) (h : Nx nC nS V1 ad M2 A') : Nx nC nS V ad M2 A' := by
  obtain ⟨V', a, b, c⟩ := h
  exact ⟨V', a, hi.tr b, c⟩
theorem e7_isSo (h : St nC nS A V) (cp : CP V E ad M P) (hx : WM V x M) {t l a b : Nat} (hl : ad 14 t = some l) (h54 : M.1 54 = nI a) (h55 : M.1 55 = nI b) (ha : a < 16) (hb : b < 16) (hop : M.1 52 = 30 ∨ M.1 52 = 31 ∨ M.1 52 = 32 ∨ M.1 52 = 33 ∨ M.1 52 = 34 ∨ M.1 52 = 35 ∨ M.1 52 = 36) : fX7_isSo (some l) (some x) A = some (if 33 < M.1 52 then prdI M t else cmpI M (rgV M t a) (rgV M t b)) := by
  obtain ⟨y, gy, ry, _⟩ := cp.rg h hl
  obtain ⟨z, gz, rz, _⟩ := cp.pd h hl
  have hloa := lo2_lt (M.1 54)
  have hlob := lo2_lt (M.1 55)
  unfold fX7_isSo
  refine ob gz (ob (wg2 h hx) ?_)
  rw [and3]
  refine ob (rz _ hloa) (ob gy (ob (by rw [h54]; exact ry a ha) (ob (wg0 h hx) ?_)))
  have hb0 : ∀ (p : Prop) [Decidable p] (u v : Option Int32), (if b2i p = 0 then u else v) = if p then v else u := by
    intro p _ u v
    by_cases c : p
    · rw [if_pos c, if_neg (by rw [b2i_t c]; decide)]
    · rw [if_neg c, if_pos (by rw [b2i_f c])]
  rcases hop with e | e | e | e | e | e | e
  · simp (decide := true) only [e, if_true, if_false, jn, wg3 h hx, h55, Option.bind_some, ry b hb, cmpI]
    split <;> rfl
  · simp (decide := true) only [e, if_true, if_false, jn, wg3 h hx, h55, Option.bind_some, ry b hb, cmpI]
    split <;> rfl
  · simp (decide := true) only [e, if_true, if_false, jn, wg5 h hx, Option.bind_some, cmpI]
    split <;> rfl
  · simp (decide := true) only [e, if_true, if_false, jn, wg5 h hx, Option.bind_some, cmpI]
    split <;> rfl
  · simp (decide := true) only [e, if_true, if_false, jn, wg3 h hx, and3, Option.bind_some, rz _ hlob, prdI, hb0]
    by_cases c1 : bitP (M.2.1 14 t) (lo2 (M.1 54))
    · rw [if_pos c1]
      by_cases c2 : bitP (M.2.1 14 t) (lo2 (M.1 55))
      · rw [if_pos c2, if_pos ⟨c1, c2⟩]; rfl
      · rw [if_neg c2, if_neg (fun z => c2 z.2)]; rfl
    · rw [if_neg c1, if_neg (fun z => c1 z.1)]; rfl
  · simp (decide := true) only [e, if_true, if_false, jn, wg3 h hx, and3, Option.bind_some, rz _ hlob, prdI, hb0]
    by_cases c1 : bitP (M.2.1 14 t) (lo2 (M.1 54))
    · rw [if_pos c1, if_pos (Or.inl c1)]; rfl
    · rw [if_neg c1]
      by_cases c2 : bitP (M.2.1 14 t) (lo2 (M.1 55))
      · rw [if_pos c2, if_pos (Or.inr c2)]; rfl
      · rw [if_neg c2, if_neg (fun z => z.elim c1 c2)]; rfl
  · simp (decide := true) only [e, if_true, if_false, jn, prdI, hb0]
    by_cases c1 : bitP (M.2.1 14 t) (lo2 (M.1 54))
    · rw [if_pos c1, if_pos c1]; rfl
    · rw [if_neg c1, if_neg c1]; rfl
theorem e7_special (h : St nC nS A V) (cp : CP V E ad M P) {s w i : Nat} (ha : ad 13 s = some w) : fX7_special (P 1) (some w) (nI i) (M.1 57) A = some (toldV M s i) := by
  obtain ⟨bk, b, hb1, hb2, hb3, hb4⟩ := cp.2.2.2.bl ha
  have hwk := cp.2.2.2.kk ha
  have g0 : gI A (some (P 1)) 7 0 = some (M.1 1) := gF h cp.2.2.2 cp.1 0 (by decide) rfl (by decide) rfl
  have g13 : gI A (some (P 1)) 7 13 = some (M.1 12) := gF h cp.2.2.2 cp.1 13 (by decide) rfl (by decide) rfl
  have g14 : gI A (some (P 1)) 7 14 = some (M.1 13) := gF h cp.2.2.2 cp.1 14 (by decide) rfl (by decide) rfl
  have gw : gI A (some w) 13 1 = some (M.2.1 10 s) := (h.gi 1 (c := 13) hwk (by decide) rfl).trans (congrArg some (cp.1 1301 s 0 w (Or.inl (by decide)) (by decide) ha))
  have gb : gR A (some w) 13 0 = some (some b) := (h.gr 0 (c := 13) hwk (by decide) rfl).trans (congrArg some hb4)
  have gbn : gI A (some b) 12 0 = some (nI bk) := (h.gi 0 (c := 12) (cp.2.2.2.kk hb3) (by decide) rfl).trans (congrArg some (cp.1 1200 bk 0 b (Or.inr (Or.inr (Or.inr rfl))) (by decide) hb3))
  unfold fX7_special toldV
  simp only [g0, g13, g14, gw, gb, gbn, Option.bind_some, hb2]
  repeat' split
  all_goals rfl
theorem fm_m {M : MS} {a i : Nat} {v : Int32} (h9 : a ≠ 9) (h10 : a ≠ 10) : fmP M (mA M a i v) := ⟨by rw [mA_a, if_neg (fun z => h9 z.symm)], by rw [mA_a, if_neg (fun z => h10 z.symm)], rfl, rfl, rfl⟩
theorem fmP.tr {M M' M'' : MS} (h : fmP M M') (h2 : fmP M' M'') : fmP M M'' := ⟨h2.1.trans h.1, h2.2.1.trans h.2.1, h2.2.2.1.trans h.2.2.1, h2.2.2.2.1.trans h.2.2.2.1, h2.2.2.2.2.trans h.2.2.2.2⟩
theorem wrd_ops (h : wrdP M) (hm : ¬ memP M) (hv : ¬ 69 < M.1 52) {o : Nat} (ho : M.1 52 = nI o) (ho2 : o < 256) : o ≤ 21 ∨ (30 ≤ o ∧ o ≤ 36) ∨ (40 ≤ o ∧ o ≤ 42) := by
  have hle : ∀ a b, a < 2 ^ 31 → b < 2 ^ 31 → (nI a ≤ nI b ↔ a ≤ b) := fun a b h1 h2 => ⟨fun z => Classical.byContradiction fun hn => c_nle (by omega) h1 z, fun z => c_le z h2⟩
  have hlt : ∀ a b, a < 2 ^ 31 → b < 2 ^ 31 → (nI a < nI b ↔ a < b) := fun a b h1 h2 => ⟨fun z => Classical.byContradiction fun hn => absurd z (Int32.not_lt.mpr (c_le (by omega) h1)), fun z => nI_lt z h2⟩
  have h1 : M.1 52 ≤ 21 ↔ o ≤ 21 := by rw [ho]; exact hle o 21 (by omega) (by omega)
  have h2 : 30 ≤ M.1 52 ↔ 30 ≤ o := by rw [ho]; exact hle 30 o (by omega) (by omega)
  have h3 : M.1 52 ≤ 36 ↔ o ≤ 36 := by rw [ho]; exact hle o 36 (by omega) (by omega)
  have h4 : 40 ≤ M.1 52 ↔ 40 ≤ o := by rw [ho]; exact hle 40 o (by omega) (by omega)
  have h5 : M.1 52 ≤ 42 ↔ o ≤ 42 := by rw [ho]; exact hle o 42 (by omega) (by omega)
  have h6 : 70 ≤ M.1 52 ↔ 70 ≤ o := by rw [ho]; exact hle 70 o (by omega) (by omega)
  have h7 : 69 < M.1 52 ↔ 69 < o := by rw [ho]; exact hlt 69 o (by omega) (by omega)
  have h8 : 50 ≤ M.1 52 ↔ 50 ≤ o := by rw [ho]; exact hle 50 o (by omega) (by omega)
  have h9 : M.1 52 ≤ 59 ↔ o ≤ 59 := by rw [ho]; exact hle o 59 (by omega) (by omega)
  have h10 : M.1 52 < 50 ↔ o < 50 := by rw [ho]; exact hlt o 50 (by omega) (by omega)
  have h11 : 59 < M.1 52 ↔ 59 < o := by rw [ho]; exact hlt 59 o (by omega) (by omega)
  unfold wrdP at h
  unfold memP at hm
  rw [h10, h11] at hm
  rw [h7] at hv
  rw [h1, h2, h3, h4, h5, h6, h8, h9] at h
  omega
theorem wrP_n {o : Nat} (ho : M.1 52 = nI o) (ho2 : o < 256) : wrP M ↔ (30 ≤ o ∧ o ≤ 36) ∨ o = 70 ∨ o = 71 := by
  have hle : ∀ a b, a < 2 ^ 31 → b < 2 ^ 31 → (nI a ≤ nI b ↔ a ≤ b) := fun a b h1 h2 => ⟨fun z => Classical.byContradiction fun hn => c_nle (by omega) h1 z, fun z => c_le z h2⟩
  have h2 : 30 ≤ M.1 52 ↔ 30 ≤ o := by rw [ho]; exact hle 30 o (by omega) (by omega)
  have h3 : M.1 52 ≤ 36 ↔ o ≤ 36 := by rw [ho]; exact hle o 36 (by omega) (by omega)
  have h4 : M.1 52 = 70 ↔ o = 70 := by rw [ho]; exact nI_eq (b := 70) (by omega) (by omega)
  have h5 : M.1 52 = 71 ↔ o = 71 := by rw [ho]; exact nI_eq (b := 71) (by omega) (by omega)
  unfold wrP
  rw [h2, h3, h4, h5]
end C17
