/-! C14: component's ints, as the model's -/
def cdA : List Nat := [1450, 1402, 1403, 1404, 1301, 1305, 1353, 1354, 801, 802, 803, 804, 1251, 1050, 1001, 151]
def fdC : List Nat := [700, 701, 702, 703, 712, 713, 714, 715, 716, 717, 718, 719, 720, 721, 722, 723, 724, 725, 901, 902]
def nmA (d : Nat) : Nat := if d = 1450 then 13 else if d = 1402 then 15 else if d = 1403 then 16 else if d = 1404 then 17 else if d = 1301 then 10 else if d = 1305 then 11 else if d = 1353 then 12 else if d = 1354 then 12 else if d = 801 then 7 else if d = 802 then 5 else if d = 803 then 6 else if d = 804 then 8 else if d = 1251 then 18 else if d = 1050 then 3 else if d = 1001 then 4 else 2
def ixA (d k i : Nat) : Nat := if d = 1450 then 16 * k + i else if d = 1353 then 20 * k + i else if d = 1354 then 20 * k + (16 + i) else if d = 1251 then 64 * k + i else if d = 1050 then 4 * k + i else if d = 151 then i else k
def wdA (d : Nat) : Nat := if d = 1450 then 16 else if d = 1353 then 16 else if d = 1354 then 4 else if d = 1451 then 4 else if d = 1251 then 64 else if d = 1050 then 4 else if d = 151 then 4096 else 1
def nmF (d : Nat) : Nat := if d = 901 then 19 else if d = 902 then 20 else [1, 2, 4, 6, 0, 0, 0, 0, 0, 0, 0, 0, 11, 12, 13, 14, 21, 15, 16, 17, 18, 22, 23, 24, 25, 26].getD (d - 700) 0
def Val (M : MS) (d k i : Nat) : Int32 := if d = 1451 then b2i (bitP (M.2.1 14 k) i) else if d = 1200 then nI k else if fdC.contains d = true then M.1 (nmF d) else M.2.1 (nmA d) (ixA d k i)
def cdC (d : Nat) : Prop := d ∈ cdA ∨ d ∈ fdC ∨ d = 1451 ∨ d = 1200
def AD (ad : Nat → Nat → Option Nat) : Prop := (∀ c k k' a, c ≠ 5 → ad c k = some a → ad c k' = some a → k = k') ∧ (∀ c k a, (c = 1 ∨ c = 7 ∨ c = 9) → ad c k = some a → k = 0)
def CX (V : CW) (ad : Nat → Nat → Option Nat) (M : MS) : Prop := ∀ d k i a, cdC d → i < wdA d → ad (d / 100) k = some a → xi V d a i = Val M d k i
theorem ar_fd : ∀ d ∈ cdA, fdC.contains d = false ∧ d ≠ 1451 ∧ d ≠ 1200 ∧ nmA d ≠ 14 ∧ d / 100 ≠ 5 ∧ nmA d < 19 ∧ nmA d ≠ 9 := by decide
theorem fd_ar : ∀ d ∈ fdC, fdC.contains d = true ∧ d ≠ 1451 ∧ d ≠ 1200 ∧ wdA d = 1 ∧ (d / 100 = 7 ∨ d / 100 = 9) ∧ nmF d < 27 := by decide
theorem fd_inj : ∀ d ∈ fdC, ∀ d' ∈ fdC, nmF d = nmF d' → d = d' := by decide
theorem nm_inj : ∀ d ∈ cdA, ∀ d' ∈ cdA, nmA d = nmA d' → d = d' ∨ (d = 1353 ∧ d' = 1354) ∨ (d = 1354 ∧ d' = 1353) := by decide
theorem ix_inj {d : Nat} (hd : d ∈ cdA) {k i k' i' : Nat} (hi : i < wdA d) (hi' : i' < wdA d) (h : ixA d k i = ixA d k' i') : i = i' ∧ (d ≠ 151 → k = k') := by
  simp only [cdA, List.mem_cons, List.not_mem_nil, or_false] at hd
  rcases hd with e | e | e | e | e | e | e | e | e | e | e | e | e | e | e | e <;> (subst e; simp [ixA, wdA] at h hi hi' ⊢; omega)
theorem Val_ar {M : MS} {d k i : Nat} (hd : d ∈ cdA) : Val M d k i = M.2.1 (nmA d) (ixA d k i) := by
  obtain ⟨h1, h2, h3, _⟩ := ar_fd d hd
  unfold Val
  rw [if_neg h2, if_neg h3, if_neg (by rw [h1]; decide)]
theorem Val_fd {M : MS} {d k i : Nat} (hd : d ∈ fdC) : Val M d k i = M.1 (nmF d) := by
  obtain ⟨h1, h2, h3, _⟩ := fd_ar d hd
  unfold Val
  rw [if_neg h2, if_neg h3, if_pos h1]
theorem Val_p {M : MS} {k i : Nat} : Val M 1451 k i = b2i (bitP (M.2.1 14 k) i) := rfl
theorem Val_n {M : MS} {k i : Nat} : Val M 1200 k i = nI k := rfl
section C14
variable {V : CW} {ad : Nat → Nat → Option Nat} {M : MS}
theorem CX.setA (hc : CX V ad M) (hA : AD ad) {d k i a : Nat} (v : Int32) (hd : d ∈ cdA) (hi : i < wdA d) (ha : ad (d / 100) k = some a) : CX (vI' V d a i v) ad (mA M (nmA d) (ixA d k i) v) := by
  obtain ⟨_, f2, f3, f4, f5, _⟩ := ar_fd d hd
  intro d' k' i' a' hd' hi' ha'
  rw [vIi]
  by_cases e : d' = d ∧ a' = a ∧ i' = i
  · rw [if_pos e]
    obtain ⟨rfl, rfl, rfl⟩ := e
    have := hA.1 _ _ _ _ f5 ha ha'
    subst this
    rw [Val_ar hd, mA_a, if_pos rfl]
    exact (if_pos rfl).symm
  · rw [if_neg e, hc d' k' i' a' hd' hi' ha']
    rcases hd' with hd' | hd' | hd' | hd'
    · rw [Val_ar hd', Val_ar hd', mA_a]
      by_cases en : nmA d' = nmA d
      · rw [if_pos en, en]
        refine (if_neg (fun ex => e ?_)).symm
        rcases nm_inj d' hd' d hd en with z | ⟨z1, z2⟩ | ⟨z1, z2⟩
        · subst z
          obtain ⟨q1, q2⟩ := ix_inj hd' hi' hi ex
          refine ⟨rfl, ?_, q1⟩
          by_cases c151 : d' = 151
          · subst c151
            have k0 := hA.2 1 k a (Or.inl rfl) ha
            have k1 := hA.2 1 k' a' (Or.inl rfl) ha'
            rw [k0] at ha
            rw [k1] at ha'
            exact Option.some.inj (ha'.symm.trans ha)
          · rw [q2 c151] at ha'
            exact Option.some.inj (ha'.symm.trans ha)
        · subst z1 z2
          simp [ixA, wdA] at ex hi hi'
          omega
        · subst z1 z2
          simp [ixA, wdA] at ex hi hi'
          omega
      · rw [if_neg en]
    · rw [Val_fd hd', Val_fd hd']
      rfl
    · subst hd'
      rw [Val_p, Val_p, mA_a, if_neg (fun z => f4 z.symm)]
    · subst hd'
      rw [Val_n, Val_n]
theorem CX.setF (hc : CX V ad M) (hA : AD ad) {d a : Nat} (v : Int32) (hd : d ∈ fdC) (ha : ad (d / 100) 0 = some a) : CX (vI' V d a 0 v) ad (mI M (nmF d) v) := by
  obtain ⟨f1, f2, f3, f4, f5, _⟩ := fd_ar d hd
  intro d' k' i' a' hd' hi' ha'
  rw [vIi]
  by_cases e : d' = d ∧ a' = a ∧ i' = 0
  · rw [if_pos e]
    obtain ⟨rfl, rfl, rfl⟩ := e
    rw [Val_fd hd, mI_g, if_pos rfl]
  · rw [if_neg e, hc d' k' i' a' hd' hi' ha']
    rcases hd' with hd' | hd' | hd' | hd'
    · rw [Val_ar hd', Val_ar hd']
      rfl
    · rw [Val_fd hd', Val_fd hd', mI_g]
      refine (if_neg (fun z => e ?_)).symm
      have := fd_inj d' hd' d hd z
      subst this
      rw [f4] at hi'
      have k1 := hA.2 _ k' a' (by rcases f5 with q | q <;> rw [q] <;> omega) ha'
      rw [k1] at ha'
      exact ⟨rfl, Option.some.inj (ha'.symm.trans ha), by omega⟩
    · subst hd'
      rw [Val_p, Val_p]
      rfl
    · subst hd'
      rw [Val_n, Val_n]
theorem CX.setP (hc : CX V ad M) (hA : AD ad) {t p l : Nat} (x b : Int32) (hp : p < 4) (ha : ad 14 t = some l) (hx : ∀ q, q < 4 → (bitP b q ↔ if q = p then ¬ x = 0 else bitP (M.2.1 14 t) q)) (hx1 : x = 0 ∨ x = 1) : CX (vI' V 1451 l p x) ad (mA M 14 t b) := by
  intro d' k' i' a' hd' hi' ha'
  rw [vIi]
  rcases hd' with hd' | hd' | hd' | hd'
  · have f := ar_fd d' hd'
    rw [if_neg (fun z => f.2.1 z.1), hc d' k' i' a' (Or.inl hd') hi' ha', Val_ar hd', Val_ar hd', mA_a, if_neg f.2.2.2.1]
  · have f := fd_ar d' hd'
    rw [if_neg (fun z => f.2.1 z.1), hc d' k' i' a' (Or.inr (Or.inl hd')) hi' ha', Val_fd hd', Val_fd hd']
    rfl
  · subst hd'
    have ha' : ad 14 k' = some a' := ha'
    have hi' : i' < 4 := hi'
    rw [Val_p, mA_a, if_pos rfl]
    by_cases ek : k' = t
    · subst ek
      have : a' = l := Option.some.inj (ha'.symm.trans ha)
      subst this
      have e1 : upd (M.2.1 14) k' b k' = b := if_pos rfl
      rw [e1]
      by_cases ei : i' = p
      · subst ei
        rw [if_pos ⟨rfl, rfl, rfl⟩]
        have := hx i' hi'
        rw [if_pos rfl] at this
        rcases hx1 with h0 | h1
        · rw [h0, b2i_f (fun z => (this.mp z) h0)]
        · rw [h1, b2i_t (this.mpr (by rw [h1]; decide))]
      · rw [if_neg (fun z => ei z.2.2), hc 1451 k' i' a' (Or.inr (Or.inr (Or.inl rfl))) hi' ha', Val_p]
        have := hx i' hi'
        rw [if_neg ei] at this
        exact b2i_c this.symm
    · have hne : ¬ a' = l := fun z => by
        subst z
        exact ek (hA.1 14 k' t a' (by decide) ha' ha)
      rw [if_neg (fun z => hne z.2.1), hc 1451 k' i' a' (Or.inr (Or.inr (Or.inl rfl))) hi' ha', Val_p]
      have e1 : upd (M.2.1 14) t b k' = M.2.1 14 k' := if_neg ek
      rw [e1]
  · subst hd'
    rw [if_neg (fun z => absurd z.1 (by decide)), hc 1200 k' i' a' (Or.inr (Or.inr (Or.inr rfl))) hi' ha', Val_n, Val_n]
/-- the model's other rows change -/
theorem CX.mm (hc : CX V ad M) {M' : MS} (h1 : ∀ d ∈ fdC, M'.1 (nmF d) = M.1 (nmF d)) (h2 : ∀ j, (j < 9 ∨ (9 < j ∧ j < 19)) → M'.2.1 j = M.2.1 j) : CX V ad M' := by
  intro d k i a hd hi ha
  rw [hc d k i a hd hi ha]
  rcases hd with hd | hd | hd | hd
  · have f := ar_fd d hd
    rw [Val_ar hd, Val_ar hd, h2 _ (by omega)]
  · rw [Val_fd hd, Val_fd hd, h1 d hd]
  · subst hd
    rw [Val_p, Val_p, h2 14 (by omega)]
  · subst hd
    rw [Val_n, Val_n]
theorem CX.mA9 (hc : CX V ad M) {j i : Nat} {v : Int32} (hj : j = 9 ∨ 19 ≤ j) : CX V ad (mA M j i v) := hc.mm (fun _ _ => rfl) (fun j' hj' => by rw [mA_a, if_neg (by omega)])
theorem fd_lst : ∀ d ∈ fdC, nmF d ∈ [1, 2, 4, 6, 11, 12, 13, 14, 21, 15, 16, 17, 18, 22, 23, 24, 25, 26, 19, 20] := by decide
theorem CX.mI9 (hc : CX V ad M) {k : Nat} {v : Int32} (hk : k ∉ [1, 2, 4, 6, 11, 12, 13, 14, 21, 15, 16, 17, 18, 22, 23, 24, 25, 26, 19, 20]) : CX V ad (mI M k v) := hc.mm (fun d hd => by rw [mI_g, if_neg (fun z => hk (by rw [← z]; exact fd_lst d hd))]) (fun _ _ => rfl)
/-- rows of codes that are not among these change -/
theorem CX.vv (hc : CX V ad M) {V' : CW} (h : ∀ d, cdC d → xi V' d = xi V d) : CX V' ad M := by
  intro d k i a hd hi ha
  rw [h d hd]
  exact hc d k i a hd hi ha
theorem CX.vIo (hc : CX V ad M) {d a i : Nat} {v : Int32} (hd : ¬ cdC d) : CX (vI' V d a i v) ad M := by
  intro d' k' i' a' hd' hi' ha'
  rw [vIi, if_neg (fun z => hd (by rw [← z.1]; exact hd'))]
  exact hc d' k' i' a' hd' hi' ha'
end C14
/-- what the lists hold: kind of elements, elements, how many places -/
abbrev EL : Type := (Nat → Nat) × (Nat → List Nat) × (Nat → Nat)
def GL (V : CW) (E : EL) : Prop := ∀ a, kdV V a = 1 → LI V a (E.1 a) (E.2.1 a) (E.2.2 a)
def lof (c k : Nat) : Nat := ([(13, 2, 15), (12, 2, 14), (2, 0, 13), (2, 1, 14), (2, 2, 15), (3, 0, 16), (3, 1, 16), (7, 8, 9), (9, 0, 11), (1, 0, 6)].find? fun t => t.1 == c && t.2.1 == k).elim 0 (fun t => t.2.2)
def owl (c k : Nat) : Nat := ([(14, 0, 16), (14, 1, 4), (13, 3, 16), (13, 4, 4), (12, 1, 64), (10, 0, 4), (1, 1, 4096), (4, 2, 32), (4, 4, 512)].find? fun t => t.1 == c && t.2.1 == k).elim 0 (fun t => t.2.2)
def WT (V : CW) (E : EL) : Prop := (∀ a c k, kdV V a = c + 1 → owl c k ≠ 0 → OW V c k a (owl c k)) ∧ (∀ a c k, kdV V a = c + 1 → lof c k ≠ 0 → ∃ ll, xr V (100 * c + k) a 0 = some ll ∧ kdV V ll = 1 ∧ E.1 ll + 1 = lof c k) ∧ (∀ a c k a' c' k' x, kdV V a = c + 1 → kdV V a' = c' + 1 → lof c k ≠ 0 → lof c' k' ≠ 0 → xr V (100 * c + k) a 0 = some x → xr V (100 * c' + k') a' 0 = some x → a = a' ∧ c = c' ∧ k = k')
theorem LI.vIo {V : CW} {a c cap d x i : Nat} {l : List Nat} {v : Int32} (h : LI V a c l cap) (hd : d ≠ 2) : LI (vI' V d x i v) a c l cap := by
  obtain ⟨q1, q2, q3, q4, q5⟩ := h
  exact ⟨q1, q2, q3, by rw [vIi, if_neg (fun z => hd z.1.symm)]; exact q4, q5⟩
theorem GL.vIo {V : CW} {E : EL} {d x i : Nat} {v : Int32} (h : GL V E) (hd : d ≠ 2) : GL (vI' V d x i v) E := fun a ha => (h a ha).vIo hd
theorem LI.vRo {V : CW} {a c cap d x i : Nat} {l : List Nat} {v : Option Nat} (h : LI V a c l cap) (hd : d ≠ 1 ∧ d ≠ 51) : LI (vR' V d x i v) a c l cap := by
  obtain ⟨q1, q2, q3, q4, q5, q6, q7, y, q8, q9⟩ := h
  exact ⟨q1, q2, q3, q4, q5, q6, fun j u hj => by rw [vRr, if_neg (fun z => hd.2 z.1.symm)]; exact q7 j u hj, y, by rw [vRr, if_neg (fun z => hd.1 z.1.symm)]; exact q8, q9⟩
theorem GL.vRo {V : CW} {E : EL} {d x i : Nat} {v : Option Nat} (h : GL V E) (hd : d ≠ 1 ∧ d ≠ 51) : GL (vR' V d x i v) E := fun a ha => (h a ha).vRo hd
theorem GL.vWo {V : CW} {E : EL} {d x i : Nat} {v : Int64} (h : GL V E) : GL (vW' V d x i v) E := h
