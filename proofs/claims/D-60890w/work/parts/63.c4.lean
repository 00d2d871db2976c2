/-! C4: loose arrays become owned, by kinds; lists -/
section C4
variable {nC nS : Nat} {A : AH} {V : CW}
theorem St.abR (h : St nC nS A V) {a c k x n : Nat} {f : Nat → Option Nat} (ha : kdV V a = c + 1) (hk : k < nfl c) (hr : isR c k = true) (ho : own c k = 4 ∨ own c k = 5) (hl : lse V x) (hx : fr V x = some (.inl (own c k - 1, n, .inr (.inr (.inr (.inr f)))))) : ∃ A', pR A (some a) c k (some x) = some A' ∧ hN A' = hN A ∧ St nC nS A' (vOR V (100 * c + k) a x n f) := by
  have ho' : own c k ≠ 0 := by rcases ho with e | e <;> rw [e] <;> decide
  have hk50 := own_k ho'
  refine h.ab' ha hk hr ho' hl rfl rfl rfl ?_ (fun a' c' k' hk' => ?_) (fun a' c' k' hk' => ?_) (fun a' c' k' hk' hne => ?_)
  · rw [hx]
    have e1 : xr (vOR V (100 * c + k) a x n f) (100 * c + k + 50) a = f := by
      funext i
      exact if_pos ⟨rfl, rfl⟩
    have e2 : xn (vOR V (100 * c + k) a x n f) (100 * c + k) a = n := if_pos ⟨rfl, rfl⟩
    rcases ho with e | e <;> rw [e]
    · rw [arE4, e1, e2]
    · rw [arE5, e1, e2]
  · unfold fldV
    have e1 : xr (vOR V (100 * c + k) a x n f) (100 * c' + k') a' 0 = if 100 * c' + k' = 100 * c + k ∧ a' = a ∧ (0 : Nat) = 0 then some x else xr V (100 * c' + k') a' 0 := if_neg (show ¬ (100 * c' + k' = 100 * c + k + 50 ∧ a' = a) from fun z => by omega)
    have e2 : xi (vOR V (100 * c + k) a x n f) = xi V := rfl
    rw [e1, e2]
    by_cases e : a' = a ∧ c' = c ∧ k' = k
    · obtain ⟨rfl, rfl, rfl⟩ := e
      rw [if_pos hr, if_pos (show 100 * c' + k' = 100 * c' + k' ∧ a' = a' ∧ (0 : Nat) = 0 from ⟨rfl, rfl, rfl⟩), if_pos (show a' = a' ∧ c' = c' ∧ k' = k' from ⟨rfl, rfl, rfl⟩)]
    · rw [if_neg e, if_neg (show ¬ (100 * c' + k' = 100 * c + k ∧ a' = a ∧ (0 : Nat) = 0) from fun z => e ⟨z.2.1, by omega, by omega⟩)]
  · have h50 := own_k hk'
    have e1 : xr (vOR V (100 * c + k) a x n f) (100 * c' + k') a' 0 = if 100 * c' + k' = 100 * c + k ∧ a' = a ∧ (0 : Nat) = 0 then some x else xr V (100 * c' + k') a' 0 := if_neg (show ¬ (100 * c' + k' = 100 * c + k + 50 ∧ a' = a) from fun z => by omega)
    rw [e1]
    by_cases e : a' = a ∧ c' = c ∧ k' = k
    · obtain ⟨rfl, rfl, rfl⟩ := e
      rw [if_pos ⟨rfl, rfl, rfl⟩, if_pos ⟨rfl, rfl, rfl⟩]
    · rw [if_neg e, if_neg (show ¬ (100 * c' + k' = 100 * c + k ∧ a' = a ∧ (0 : Nat) = 0) from fun z => e ⟨z.2.1, by omega, by omega⟩)]
  · have h50 := own_k hk'
    have e1 : xr (vOR V (100 * c + k) a x n f) (100 * c' + k' + 50) a' = xr V (100 * c' + k' + 50) a' := by
      funext i
      refine Eq.trans (if_neg (show ¬ (100 * c' + k' + 50 = 100 * c + k + 50 ∧ a' = a) from fun z => hne ⟨z.2, by omega, by omega⟩)) ?_
      exact if_neg (fun z => by omega)
    have e2 : xn (vOR V (100 * c + k) a x n f) (100 * c' + k') a' = xn V (100 * c' + k') a' := if_neg (fun z => hne ⟨z.2, by omega, by omega⟩)
    unfold arE
    rw [e1, e2]
    rfl
theorem St.abI (h : St nC nS A V) {a c k x n : Nat} {f : Nat → Int32} (ha : kdV V a = c + 1) (hk : k < nfl c) (hr : isR c k = true) (ho : own c k = 1 ∨ own c k = 2) (hl : lse V x) (hx : fr V x = some (.inl (own c k - 1, n, .inl f))) : ∃ A', pR A (some a) c k (some x) = some A' ∧ hN A' = hN A ∧ St nC nS A' (vOI V (100 * c + k) a x n f) := by
  have ho' : own c k ≠ 0 := by rcases ho with e | e <;> rw [e] <;> decide
  have hk50 := own_k ho'
  refine h.ab' ha hk hr ho' hl rfl rfl rfl ?_ (fun a' c' k' hk' => ?_) (fun a' c' k' hk' => ?_) (fun a' c' k' hk' hne => ?_)
  · rw [hx]
    have e1 : xi (vOI V (100 * c + k) a x n f) (100 * c + k + 50) a = f := by
      funext i
      exact if_pos ⟨rfl, rfl⟩
    have e2 : xn (vOI V (100 * c + k) a x n f) (100 * c + k) a = n := if_pos ⟨rfl, rfl⟩
    rcases ho with e | e <;> rw [e]
    · rw [arE1, e1, e2]
    · rw [arE2, e1, e2]
  · unfold fldV
    have e1 : xr (vOI V (100 * c + k) a x n f) (100 * c' + k') a' 0 = if 100 * c' + k' = 100 * c + k ∧ a' = a ∧ (0 : Nat) = 0 then some x else xr V (100 * c' + k') a' 0 := rfl
    have e2 : xi (vOI V (100 * c + k) a x n f) (100 * c' + k') a' 0 = xi V (100 * c' + k') a' 0 := if_neg (show ¬ (100 * c' + k' = 100 * c + k + 50 ∧ a' = a) from fun z => by omega)
    rw [e1, e2]
    by_cases e : a' = a ∧ c' = c ∧ k' = k
    · obtain ⟨rfl, rfl, rfl⟩ := e
      rw [if_pos hr, if_pos (show 100 * c' + k' = 100 * c' + k' ∧ a' = a' ∧ (0 : Nat) = 0 from ⟨rfl, rfl, rfl⟩), if_pos (show a' = a' ∧ c' = c' ∧ k' = k' from ⟨rfl, rfl, rfl⟩)]
    · rw [if_neg e, if_neg (show ¬ (100 * c' + k' = 100 * c + k ∧ a' = a ∧ (0 : Nat) = 0) from fun z => e ⟨z.2.1, by omega, by omega⟩)]
  · have h50 := own_k hk'
    have e1 : xr (vOI V (100 * c + k) a x n f) (100 * c' + k') a' 0 = if 100 * c' + k' = 100 * c + k ∧ a' = a ∧ (0 : Nat) = 0 then some x else xr V (100 * c' + k') a' 0 := rfl
    rw [e1]
    by_cases e : a' = a ∧ c' = c ∧ k' = k
    · obtain ⟨rfl, rfl, rfl⟩ := e
      rw [if_pos ⟨rfl, rfl, rfl⟩, if_pos ⟨rfl, rfl, rfl⟩]
    · rw [if_neg e, if_neg (show ¬ (100 * c' + k' = 100 * c + k ∧ a' = a ∧ (0 : Nat) = 0) from fun z => e ⟨z.2.1, by omega, by omega⟩)]
  · have h50 := own_k hk'
    have e1 : xi (vOI V (100 * c + k) a x n f) (100 * c' + k' + 50) a' = xi V (100 * c' + k' + 50) a' := by
      funext i
      exact if_neg (show ¬ (100 * c' + k' + 50 = 100 * c + k + 50 ∧ a' = a) from fun z => hne ⟨z.2, by omega, by omega⟩)
    have e2 : xn (vOI V (100 * c + k) a x n f) (100 * c' + k') a' = xn V (100 * c' + k') a' := if_neg (fun z => hne ⟨z.2, by omega, by omega⟩)
    have e3 : xr (vOI V (100 * c + k) a x n f) (100 * c' + k' + 50) a' = xr V (100 * c' + k' + 50) a' := up3_row _ _ _ _ _ _ _ (fun z => by omega)
    unfold arE
    rw [e1, e2, e3]
    rfl
theorem St.abL (h : St nC nS A V) {a c k x n : Nat} {f : Nat → Int64} (ha : kdV V a = c + 1) (hk : k < nfl c) (hr : isR c k = true) (ho : own c k = 3) (hl : lse V x) (hx : fr V x = some (.inl (2, n, .inr (.inl f)))) : ∃ A', pR A (some a) c k (some x) = some A' ∧ hN A' = hN A ∧ St nC nS A' (vOL V (100 * c + k) a x n f) := by
  have ho' : own c k ≠ 0 := by rw [ho]; decide
  have hk50 := own_k ho'
  have e1 : ∀ c' k' a', xr (vOL V (100 * c + k) a x n f) (100 * c' + k') a' 0 = if 100 * c' + k' = 100 * c + k ∧ a' = a ∧ (0 : Nat) = 0 then some x else xr V (100 * c' + k') a' 0 := fun _ _ _ => rfl
  refine h.ab' ha hk hr ho' hl rfl rfl rfl ?_ (fun a' c' k' hk' => ?_) (fun a' c' k' hk' => ?_) (fun a' c' k' hk' hne => ?_)
  · rw [hx, ho, arE3]
    have e1 : xw (vOL V (100 * c + k) a x n f) (100 * c + k) a = f := by
      funext i
      exact if_pos ⟨rfl, rfl⟩
    have e2 : xn (vOL V (100 * c + k) a x n f) (100 * c + k) a = n := if_pos ⟨rfl, rfl⟩
    rw [e1, e2]
  · unfold fldV
    have e2 : xi (vOL V (100 * c + k) a x n f) = xi V := rfl
    rw [e1, e2]
    by_cases e : a' = a ∧ c' = c ∧ k' = k
    · obtain ⟨rfl, rfl, rfl⟩ := e
      rw [if_pos hr, if_pos (show 100 * c' + k' = 100 * c' + k' ∧ a' = a' ∧ (0 : Nat) = 0 from ⟨rfl, rfl, rfl⟩), if_pos (show a' = a' ∧ c' = c' ∧ k' = k' from ⟨rfl, rfl, rfl⟩)]
    · rw [if_neg e, if_neg (show ¬ (100 * c' + k' = 100 * c + k ∧ a' = a ∧ (0 : Nat) = 0) from fun z => e ⟨z.2.1, by omega, by omega⟩)]
  · have h50 := own_k hk'
    rw [e1]
    by_cases e : a' = a ∧ c' = c ∧ k' = k
    · obtain ⟨rfl, rfl, rfl⟩ := e
      rw [if_pos ⟨rfl, rfl, rfl⟩, if_pos ⟨rfl, rfl, rfl⟩]
    · rw [if_neg e, if_neg (show ¬ (100 * c' + k' = 100 * c + k ∧ a' = a ∧ (0 : Nat) = 0) from fun z => e ⟨z.2.1, by omega, by omega⟩)]
  · have h50 := own_k hk'
    have e4 : xw (vOL V (100 * c + k) a x n f) (100 * c' + k') a' = xw V (100 * c' + k') a' := by
      funext i
      exact if_neg (show ¬ (100 * c' + k' = 100 * c + k ∧ a' = a) from fun z => hne ⟨z.2, by omega, by omega⟩)
    have e2 : xn (vOL V (100 * c + k) a x n f) (100 * c' + k') a' = xn V (100 * c' + k') a' := if_neg (fun z => hne ⟨z.2, by omega, by omega⟩)
    have e3 : xr (vOL V (100 * c + k) a x n f) (100 * c' + k' + 50) a' = xr V (100 * c' + k' + 50) a' := up3_row _ _ _ _ _ _ _ (fun z => by omega)
    unfold arE
    rw [e4, e2, e3]
    rfl
/-- may be put into a list -/
def stc (c : Nat) : Prop := c = 5 ∨ c = 8 ∨ c = 10 ∨ c = 12 ∨ c = 13 ∨ c = 14 ∨ c = 15
theorem St.st3 (h : St nC nS A V) {v c : Nat} (hv : kdV V v = c + 1) (hc : stc c) : stok A 3 (some v) = some () := by
  simp only [stok, h.kk hv]
  rw [if_neg (by decide)]
  exact if_pos hc
theorem St.st4 (h : St nC nS A V) {v : Nat} (hv : kdV V v = 14) : stok A 4 (some v) = some () := by
  simp only [stok, h.kk (c := 13) hv, if_true]
/-- only what one owner has changes -/
def LF (V V' : CW) (a : Nat) : Prop := V'.1 = V.1 ∧ (∀ a', a' ≠ a → ∀ d, xi V' d a' = xi V d a' ∧ xr V' d a' = xr V d a' ∧ xn V' d a' = xn V d a') ∧ xw V' = xw V ∧ fr V' = fr V ∧ sa V' = sa V
theorem LF.rf {a : Nat} : LF V V a := ⟨rfl, fun _ _ _ => ⟨rfl, rfl, rfl⟩, rfl, rfl, rfl⟩
theorem LF.tr {V' V'' : CW} {a : Nat} (h : LF V V' a) (h2 : LF V' V'' a) : LF V V'' a := ⟨h2.1.trans h.1, fun a' ha d => ⟨(h2.2.1 a' ha d).1.trans (h.2.1 a' ha d).1, (h2.2.1 a' ha d).2.1.trans (h.2.1 a' ha d).2.1, (h2.2.1 a' ha d).2.2.trans (h.2.1 a' ha d).2.2⟩, h2.2.2.1.trans h.2.2.1, h2.2.2.2.1.trans h.2.2.2.1, h2.2.2.2.2.trans h.2.2.2.2⟩
theorem LF.vI {a : Nat} (d i : Nat) (v : Int32) : LF V (vI' V d a i v) a := ⟨rfl, fun a' ha d' => ⟨up3_row _ _ _ _ _ _ _ (fun z => ha z.2), rfl, rfl⟩, rfl, rfl, rfl⟩
theorem LF.vR {a : Nat} (d i : Nat) (v : Option Nat) : LF V (vR' V d a i v) a := ⟨rfl, fun a' ha d' => ⟨rfl, up3_row _ _ _ _ _ _ _ (fun z => ha z.2), rfl⟩, rfl, rfl, rfl⟩
/-- a list: its elements (of one kind), how many places it has -/
def LI (V : CW) (a c : Nat) (l : List Nat) (cap : Nat) : Prop := kdV V a = 1 ∧ stc c ∧ cap ≤ 10000 ∧ xi V 2 a 0 = nI l.length ∧ l.length ≤ cap ∧ (∀ v ∈ l, kdV V v = c + 1) ∧ (∀ i v, l[i]? = some v → xr V 51 a i = some v) ∧ ∃ x, xr V 1 a 0 = some x ∧ ((0 < cap ∧ fr V x = none ∧ xn V 1 a = cap) ∨ (cap = 0 ∧ x = sa V 8 ∧ ∃ g, fr V x = some (.inl (6, 0, .inr (.inr (.inr (.inr g)))))))
theorem LI.x {a c cap : Nat} {l : List Nat} (h : LI V a c l cap) (h0 : 0 < cap) : ∃ x, xr V 1 a 0 = some x ∧ fr V x = none ∧ xn V 1 a = cap := by
  obtain ⟨_, _, _, _, _, _, _, x, hx, h | h⟩ := h
  · exact ⟨x, hx, h.2.1, h.2.2⟩
  · omega
theorem L_size (h : St nC nS A V) {a c cap : Nat} {l : List Nat} (hl : LI V a c l cap) : fJ2_size a A = some (nI l.length) := by
  unfold fJ2_size
  refine ob ((h.gi 2 (c := 0) hl.1 (by decide) rfl).trans ?_) rfl
  exact congrArg some hl.2.2.2.1
theorem L_isEmpty (h : St nC nS A V) {a c cap : Nat} {l : List Nat} (hl : LI V a c l cap) : fJ2_isEmpty a A = some (b2i (l.length = 0)) := by
  have hcap : l.length < 2 ^ 31 := by have h1 := hl.2.2.1; have h2 := hl.2.2.2.2.1; omega
  unfold fJ2_isEmpty
  refine ob ((h.gi 2 (c := 0) hl.1 (by decide) rfl).trans (congrArg some hl.2.2.2.1)) ?_
  rw [jn_eq]
  by_cases e : l.length = 0
  · rw [if_pos (by rw [e]; rfl), b2i_t e]
    rfl
  · rw [if_neg (nI_ne0 (by omega) hcap), b2i_f e]
    rfl
theorem chk {i m : Nat} (h : i < m) (hm : m < 2 ^ 31) (A : AH) : fJ18_checkIndex (nI i) (nI m) A = some (nI i) := by
  unfold fJ18_checkIndex fJ14_checkIndex
  rw [if_neg (fun z => z.elim (fun q => nI_pos (by omega) q) (fun q => q (nI_lt h hm)))]
  rfl
theorem L_get (h : St nC nS A V) {a c cap i v : Nat} {l : List Nat} (hl : LI V a c l cap) (hi : l[i]? = some v) : fJ2_get a (nI i) A = some (some v) := by
  have hlt : i < l.length := (List.getElem?_eq_some_iff.mp hi).1
  have h1 := hl.2.2.1
  have h2 := hl.2.2.2.2.1
  obtain ⟨x, hx, hf, hn⟩ := hl.x (by omega)
  unfold fJ2_get fJ2_elementData
  refine ob ((h.gi 2 (c := 0) hl.1 (by decide) rfl).trans (congrArg some hl.2.2.2.1)) (ob (chk hlt (by omega) A) (ob (h.rc hl.1) (ob (v := some v) ?_ rfl)))
  refine ob ((h.gr 1 (c := 0) hl.1 (by decide) rfl).trans (congrArg some hx)) (ob ((h.ar (c := 0) (k := 1) i hl.1 (Or.inl rfl) hx hf (by show i < xn V 1 a; omega) (by omega)).trans ?_) rfl)
  exact congrArg some (hl.2.2.2.2.2.2.1 i v hi)
end C4
