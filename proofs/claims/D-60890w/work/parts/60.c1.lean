/-! C1: the component's objects, as rows of ints, references and longs by (code, owner, index); code = 100 * (class number) + (field), + 50 for what lies in an array that the field owns -/
abbrev CW : Type := (Nat → Nat) × (Nat → Nat → Nat → Int32) × (Nat → Nat → Nat → Option Nat) × (Nat → Nat → Nat → Int64) × (Nat → Nat → Nat) × (Nat → Option va_E) × (Nat → Nat)
abbrev kdV (V : CW) : Nat → Nat := V.1
abbrev xi (V : CW) : Nat → Nat → Nat → Int32 := V.2.1
abbrev xr (V : CW) : Nat → Nat → Nat → Option Nat := V.2.2.1
abbrev xw (V : CW) : Nat → Nat → Nat → Int64 := V.2.2.2.1
abbrev xn (V : CW) : Nat → Nat → Nat := V.2.2.2.2.1
abbrev fr (V : CW) : Nat → Option va_E := V.2.2.2.2.2.1
abbrev sa (V : CW) : Nat → Nat := V.2.2.2.2.2.2
def refsC (c : Nat) : List Nat := [[1], [0, 1, 2, 3, 4, 5], [0, 1, 2], [0, 1], [0, 1, 2, 4], [6], [0], [4, 5, 6, 7, 8, 9, 10, 11], [0], [0], [0], [], [1, 2], [0, 2, 3, 4], [0, 1], [8]].getD c []
def isR (c k : Nat) : Bool := (refsC c).contains k
def nfl (c : Nat) : Nat := [3, 6, 3, 3, 8, 7, 3, 26, 5, 3, 2, 0, 3, 6, 6, 9].getD c 0
/-- 0: owns nothing; else 1 + the kind of the array that it owns -/
def own (c k : Nat) : Nat := ([(0, 1, 4), (1, 1, 1), (4, 2, 1), (4, 4, 1), (6, 0, 3), (7, 11, 1), (8, 0, 5), (10, 0, 1), (12, 1, 1), (13, 3, 1), (13, 4, 1), (14, 0, 1), (14, 1, 2)].find? fun t => t.1 == c && t.2.1 == k).elim 0 (fun t => t.2.2)
def fldV (V : CW) (c a k : Nat) : Value := if isR c k then va_rf (xr V (100 * c + k) a 0) else .int (xi V (100 * c + k) a 0)
def flds (V : CW) (c a : Nat) : List Value := (List.range (nfl c)).map (fldV V c a)
def arE (V : CW) (t code a : Nat) : va_E := if t = 1 then .inl (0, xn V code a, .inl (xi V (code + 50) a)) else if t = 2 then .inl (1, xn V code a, .inl (xi V (code + 50) a)) else if t = 3 then .inl (2, xn V code a, .inr (.inl (xw V code a))) else .inl (t - 1, xn V code a, .inr (.inr (.inr (.inr (xr V (code + 50) a)))))
def up3 {α : Type} (f : Nat → Nat → Nat → α) (c a i : Nat) (v : α) : Nat → Nat → Nat → α := fun c' a' i' => if c' = c ∧ a' = a ∧ i' = i then v else f c' a' i'
def vI' (V : CW) (c a i : Nat) (v : Int32) : CW := (V.1, up3 (xi V) c a i v, V.2.2)
def vR' (V : CW) (c a i : Nat) (v : Option Nat) : CW := (V.1, V.2.1, up3 (xr V) c a i v, V.2.2.2)
def vW' (V : CW) (c a i : Nat) (v : Int64) : CW := (V.1, V.2.1, V.2.2.1, up3 (xw V) c a i v, V.2.2.2.2)
theorem vIi (V : CW) (c a i c' a' i' : Nat) (v : Int32) : xi (vI' V c a i v) c' a' i' = if c' = c ∧ a' = a ∧ i' = i then v else xi V c' a' i' := rfl
theorem vIr (V : CW) (c a i : Nat) (v : Int32) : xr (vI' V c a i v) = xr V := rfl
theorem vRr (V : CW) (c a i c' a' i' : Nat) (v : Option Nat) : xr (vR' V c a i v) c' a' i' = if c' = c ∧ a' = a ∧ i' = i then v else xr V c' a' i' := rfl
theorem vRi (V : CW) (c a i : Nat) (v : Option Nat) : xi (vR' V c a i v) = xi V := rfl
def St (nC nS : Nat) (A : AH) (V : CW) : Prop :=
  (nC ≤ hC A ∧ nS ≤ hS A ∧ hA A = sa V) ∧
  (∀ a c, kdV V a = c + 1 → c < 16 ∧ c ≠ 11 ∧ a < hN A ∧ hM A a = some (.inr (c, flds V c a))) ∧
  (∀ a c k x, kdV V a = c + 1 → own c k ≠ 0 → xr V (100 * c + k) a 0 = some x → fr V x = none → x < hN A ∧ hM A x = some (arE V (own c k) (100 * c + k) a)) ∧
  (∀ a c k a' c' k' x, kdV V a = c + 1 → kdV V a' = c' + 1 → own c k ≠ 0 → own c' k' ≠ 0 → xr V (100 * c + k) a 0 = some x → xr V (100 * c' + k') a' 0 = some x → fr V x = none → a = a' ∧ k = k') ∧
  (∀ q e, fr V q = some e → q < hN A ∧ hM A q = some e ∧ kdV V q = 0)
theorem own_k {c k : Nat} (h : own c k ≠ 0) : k < 50 := by
  unfold own at h
  cases e : ([(0, 1, 4), (1, 1, 1), (4, 2, 1), (4, 4, 1), (6, 0, 3), (7, 11, 1), (8, 0, 5), (10, 0, 1), (12, 1, 1), (13, 3, 1), (13, 4, 1), (14, 0, 1), (14, 1, 2)] : List (Nat × Nat × Nat)).find? (fun t => t.1 == c && t.2.1 == k) with
  | none => rw [e] at h; exact absurd rfl h
  | some t =>
    have h1 := List.mem_of_find?_eq_some e
    have h2 := List.find?_some e
    simp only [Bool.and_eq_true, beq_iff_eq] at h2
    simp only [List.mem_cons, List.not_mem_nil, or_false] at h1
    rcases h1 with h1 | h1 | h1 | h1 | h1 | h1 | h1 | h1 | h1 | h1 | h1 | h1 | h1 <;> (subst h1; simp only at h2; omega)
theorem own_t {c k : Nat} (h : own c k ≠ 0) : own c k = 1 ∨ own c k = 2 ∨ own c k = 3 ∨ own c k = 4 ∨ own c k = 5 := by
  unfold own at h ⊢
  cases e : ([(0, 1, 4), (1, 1, 1), (4, 2, 1), (4, 4, 1), (6, 0, 3), (7, 11, 1), (8, 0, 5), (10, 0, 1), (12, 1, 1), (13, 3, 1), (13, 4, 1), (14, 0, 1), (14, 1, 2)] : List (Nat × Nat × Nat)).find? (fun t => t.1 == c && t.2.1 == k) with
  | none => rw [e] at h; exact absurd rfl h
  | some t =>
    have h1 := List.mem_of_find?_eq_some e
    simp only [List.mem_cons, List.not_mem_nil, or_false] at h1
    rcases h1 with h1 | h1 | h1 | h1 | h1 | h1 | h1 | h1 | h1 | h1 | h1 | h1 | h1 <;> (subst h1; simp)
theorem flds_get {V : CW} {c a k : Nat} (h : k < nfl c) : (flds V c a)[k]? = some (fldV V c a k) := by
  simp [flds, h]
theorem flds_len {V : CW} {c a : Nat} : (flds V c a).length = nfl c := by simp [flds]
section C1
variable {nC nS : Nat} {A : AH} {V : CW}
theorem St.ob (h : St nC nS A V) {a c : Nat} (ha : kdV V a = c + 1) : obj? A (some a) c = some (flds V c a) := by
  have := (h.2.1 a c ha).2.2.2
  simp only [obj?, this, if_true]
theorem St.gi (h : St nC nS A V) {a c : Nat} (k : Nat) (ha : kdV V a = c + 1) (hk : k < nfl c) (hr : isR c k = false) : gI A (some a) c k = some (xi V (100 * c + k) a 0) := by
  unfold gI
  rw [h.ob ha]
  simp only [Option.bind_some, flds_get hk, fldV, hr, Bool.false_eq_true, if_false, vI]
theorem va_rf_vR (x : Option Nat) : vR (some (va_rf x)) = some x := by
  cases x <;> rfl
theorem St.gr (h : St nC nS A V) {a c : Nat} (k : Nat) (ha : kdV V a = c + 1) (hk : k < nfl c) (hr : isR c k = true) : gR A (some a) c k = some (xr V (100 * c + k) a 0) := by
  unfold gR
  rw [h.ob ha]
  simp only [Option.bind_some, flds_get hk, fldV, hr, if_true, va_rf_vR]
theorem St.kk (h : St nC nS A V) {a c : Nat} (ha : kdV V a = c + 1) : kd A (some a) = some c := by
  have := (h.2.1 a c ha).2.2.2
  simp only [kd, this]
theorem St.rc (h : St nC nS A V) {a c : Nat} (ha : kdV V a = c + 1) : rcv A (some a) c = some a := by
  simp only [rcv, h.kk ha, if_true]
theorem St.cs (h : St nC nS A V) {a c : Nat} (ha : kdV V a = c + 1) : cst A (some a) c = some () := by
  simp only [cst, h.kk ha, if_true]
theorem hSet_at {A : AH} {a : Nat} {e : va_E} : hM (hSet A a e) a = some e := if_pos rfl
theorem hSet_ne {A : AH} {a q : Nat} {e : va_E} (h : q ≠ a) : hM (hSet A a e) q = hM A q := if_neg h
/-- an object's cell is replaced, in heap and rows -/
theorem St.obj' (h : St nC nS A V) {V' : CW} {a c : Nat} (ha : kdV V a = c + 1) (e1 : V'.1 = V.1) (hf : fr V' = fr V) (hs : sa V' = sa V) (ho : ∀ a' c', kdV V a' = c' + 1 → a' ≠ a → flds V' c' a' = flds V c' a')
    (hx : ∀ a' c' k, kdV V a' = c' + 1 → own c' k ≠ 0 → xr V' (100 * c' + k) a' 0 = xr V (100 * c' + k) a' 0 ∧ arE V' (own c' k) (100 * c' + k) a' = arE V (own c' k) (100 * c' + k) a') : St nC nS (hSet A a (.inr (c, flds V' c a))) V' := by
  obtain ⟨⟨b1, b2, b3⟩, h1, h2, h3, h4⟩ := h
  have hax := (h1 a c ha).2.2.2
  refine ⟨⟨b1, b2, b3.trans hs.symm⟩, fun a' c' hk => ?_, fun a' c' k x hk ho' hxr hfr => ?_, fun a1 c1 k1 a2 c2 k2 x hk1 hk2 ho1 ho2 hx1 hx2 hfr => ?_, fun q e hq => ?_⟩
  · rw [kdV, e1] at hk
    obtain ⟨g1, g2, g3, g4⟩ := h1 a' c' hk
    refine ⟨g1, g2, g3, ?_⟩
    by_cases e : a' = a
    · subst e
      have : c' = c := by have := hk.symm.trans ha; omega
      subst this
      exact hSet_at
    · rw [hSet_ne e, g4, ho a' c' hk e]
  · rw [kdV, e1] at hk
    rw [hf] at hfr
    rw [(hx a' c' k hk ho').1] at hxr
    obtain ⟨g1, g2⟩ := h2 a' c' k x hk ho' hxr hfr
    refine ⟨g1, ?_⟩
    rw [(hx a' c' k hk ho').2, hSet_ne, g2]
    intro e
    rw [e, hax] at g2
    unfold arE at g2
    split at g2
    · cases g2
    · split at g2
      · cases g2
      · split at g2 <;> cases g2
  · rw [kdV, e1] at hk1 hk2
    rw [hf] at hfr
    rw [(hx _ _ _ hk1 ho1).1] at hx1
    rw [(hx _ _ _ hk2 ho2).1] at hx2
    exact h3 a1 c1 k1 a2 c2 k2 x hk1 hk2 ho1 ho2 hx1 hx2 hfr
  · rw [hf] at hq
    obtain ⟨g1, g2, g3⟩ := h4 q e hq
    refine ⟨g1, ?_, by rw [kdV, e1]; exact g3⟩
    rw [hSet_ne, g2]
    intro e
    have g3' : kdV V q = 0 := g3
    rw [e, ha] at g3'
    omega
theorem fldV_vI (V : CW) (c a k c' a' k' : Nat) (v : Int32) (hk : k < 50) (hk' : k' < 50) (hr : isR c k = false) : fldV (vI' V (100 * c + k) a 0 v) c' a' k' = if a' = a ∧ c' = c ∧ k' = k then .int v else fldV V c' a' k' := by
  unfold fldV
  by_cases e : a' = a ∧ c' = c ∧ k' = k
  · obtain ⟨rfl, rfl, rfl⟩ := e
    rw [if_pos (show a' = a' ∧ c' = c' ∧ k' = k' from ⟨rfl, rfl, rfl⟩), if_neg (by rw [hr]; decide), vIi, if_pos (show 100 * c' + k' = 100 * c' + k' ∧ a' = a' ∧ (0 : Nat) = 0 from ⟨rfl, rfl, rfl⟩)]
  · rw [if_neg e]
    have : ¬ (100 * c' + k' = 100 * c + k ∧ a' = a ∧ (0 : Nat) = 0) := fun z => e ⟨z.2.1, by omega, by omega⟩
    rw [vIi, if_neg this, vIr]
theorem fldV_vR (V : CW) (c a k c' a' k' : Nat) (v : Option Nat) (hk : k < 50) (hk' : k' < 50) (hr : isR c k = true) : fldV (vR' V (100 * c + k) a 0 v) c' a' k' = if a' = a ∧ c' = c ∧ k' = k then va_rf v else fldV V c' a' k' := by
  unfold fldV
  by_cases e : a' = a ∧ c' = c ∧ k' = k
  · obtain ⟨rfl, rfl, rfl⟩ := e
    rw [if_pos (show a' = a' ∧ c' = c' ∧ k' = k' from ⟨rfl, rfl, rfl⟩), if_pos hr, vRr, if_pos (show 100 * c' + k' = 100 * c' + k' ∧ a' = a' ∧ (0 : Nat) = 0 from ⟨rfl, rfl, rfl⟩)]
  · rw [if_neg e]
    have : ¬ (100 * c' + k' = 100 * c + k ∧ a' = a ∧ (0 : Nat) = 0) := fun z => e ⟨z.2.1, by omega, by omega⟩
    rw [vRr, if_neg this, vRi]
theorem nfl_lt (c : Nat) : nfl c ≤ 26 := by
  unfold nfl
  by_cases h : c < 16
  · have : ∀ c, c < 16 → [3, 6, 3, 3, 8, 7, 3, 26, 5, 3, 2, 0, 3, 6, 6, 9].getD c 0 ≤ 26 := by decide
    exact this c h
  · rw [List.getD_eq_getElem?_getD, List.getElem?_eq_none (by simp; omega)]
    exact Nat.zero_le _
theorem flds_set {V V' : CW} {c a k : Nat} {v : Value} (h : k < nfl c) (hs : ∀ k', k' < nfl c → fldV V' c a k' = if k' = k then v else fldV V c a k') : (flds V c a).set k v = flds V' c a := by
  apply List.ext_getElem?
  intro i
  by_cases hi : i < nfl c
  · rw [flds_get hi, List.getElem?_set, hs i hi]
    by_cases e : k = i
    · subst e
      rw [if_pos rfl, if_pos rfl, if_pos (by rw [flds_len]; exact h)]
    · rw [if_neg e, if_neg (fun z => e z.symm), flds_get hi]
  · rw [List.getElem?_eq_none (by simp [flds]; omega), List.getElem?_eq_none (by simp [flds]; omega)]
theorem St.pi (h : St nC nS A V) {a c : Nat} (k : Nat) (v : Int32) (ha : kdV V a = c + 1) (hk : k < nfl c) (hr : isR c k = false) : ∃ A', pI A (some a) c k v = some A' ∧ St nC nS A' (vI' V (100 * c + k) a 0 v) := by
  have hk50 : k < 50 := by have := nfl_lt c; omega
  have hset : (flds V c a).set k (.int v) = flds (vI' V (100 * c + k) a 0 v) c a := by
    refine flds_set hk (fun k' hk' => ?_)
    rw [fldV_vI V c a k c a k' v hk50 (by have := nfl_lt c; omega) hr]
    by_cases e : k' = k
    · rw [if_pos ⟨rfl, rfl, e⟩, if_pos e]
    · rw [if_neg (fun z => e z.2.2), if_neg e]
  refine ⟨_, ?_, h.obj' ha rfl rfl rfl (fun a' c' hk' hne => ?_) (fun a' c' k' hk' ho => ⟨rfl, ?_⟩)⟩
  · unfold pI pV
    rw [h.ob ha]
    simp only [Option.bind_some, flds_len, hk, if_true, Option.getD_some, hset]
  · unfold flds
    refine List.map_congr_left (fun k' hk' => ?_)
    rw [fldV_vI V c a k c' a' k' v hk50 (by have := nfl_lt c'; have := List.mem_range.mp hk'; omega) hr, if_neg (fun z => hne z.1)]
  · have h50 := own_k ho
    have e : xi (vI' V (100 * c + k) a 0 v) (100 * c' + k' + 50) a' = xi V (100 * c' + k' + 50) a' := by
      funext i
      have : ¬ (100 * c' + k' + 50 = 100 * c + k ∧ a' = a ∧ i = 0) := fun z => by omega
      rw [vIi, if_neg this]
    unfold arE
    rw [e]
    rfl
theorem St.pr (h : St nC nS A V) {a c : Nat} (k : Nat) (v : Option Nat) (ha : kdV V a = c + 1) (hk : k < nfl c) (hr : isR c k = true) (hno : own c k = 0) : ∃ A', pR A (some a) c k v = some A' ∧ St nC nS A' (vR' V (100 * c + k) a 0 v) := by
  have hk50 : k < 50 := by have := nfl_lt c; omega
  have hset : (flds V c a).set k (va_rf v) = flds (vR' V (100 * c + k) a 0 v) c a := by
    refine flds_set hk (fun k' hk' => ?_)
    rw [fldV_vR V c a k c a k' v hk50 (by have := nfl_lt c; omega) hr]
    by_cases e : k' = k
    · rw [if_pos ⟨rfl, rfl, e⟩, if_pos e]
    · rw [if_neg (fun z => e z.2.2), if_neg e]
  refine ⟨_, ?_, h.obj' ha rfl rfl rfl (fun a' c' hk' hne => ?_) (fun a' c' k' hk' ho => ⟨?_, ?_⟩)⟩
  · unfold pR pV
    rw [h.ob ha]
    simp only [Option.bind_some, flds_len, hk, if_true, Option.getD_some, hset]
  · unfold flds
    refine List.map_congr_left (fun k' hk' => ?_)
    rw [fldV_vR V c a k c' a' k' v hk50 (by have := nfl_lt c'; have := List.mem_range.mp hk'; omega) hr, if_neg (fun z => hne z.1)]
  · have h50 := own_k ho
    have : ¬ (100 * c' + k' = 100 * c + k ∧ a' = a ∧ (0 : Nat) = 0) := fun z => by
      have e1 : c' = c := by omega
      have e2 : k' = k := by omega
      subst e1 e2
      exact ho hno
    rw [vRr, if_neg this]
  · have h50 := own_k ho
    have e : xr (vR' V (100 * c + k) a 0 v) (100 * c' + k' + 50) a' = xr V (100 * c' + k' + 50) a' := by
      funext i
      have : ¬ (100 * c' + k' + 50 = 100 * c + k ∧ a' = a ∧ i = 0) := fun z => by omega
      rw [vRr, if_neg this]
    unfold arE
    rw [e]
    rfl
end C1
