/-! BASE 1: typed values, locals, heap sizes -/
abbrev TV : Type := Int32 ⊕ (Int64 ⊕ Option Nat)
abbrev tI (x : Int32) : TV := Sum.inl x
abbrev tL (x : Int64) : TV := Sum.inr (Sum.inl x)
abbrev tR (x : Option Nat) : TV := Sum.inr (Sum.inr x)
def tv : TV → Value
  | .inl x => .int x
  | .inr (.inl x) => .long x
  | .inr (.inr x) => va_rf x
def tcat : TV → Nat
  | .inr (.inl _) => 2
  | _ => 1
theorem va_rf_cat (x : Option Nat) : (va_rf x).category = 1 := by cases x <;> rfl
theorem tv_cat (x : TV) : (tv x).category = tcat x := by
  rcases x with x | x | x
  · rfl
  · rfl
  · exact va_rf_cat x
theorem tv_sum (st : List TV) : ((st.map tv).map fun v => v.category).sum = (st.map tcat).sum := by
  rw [List.map_map]
  congr 1
  exact List.map_congr_left (fun x _ => tv_cat x)
def ents : Nat → List (Option TV) → List (Nat × Value)
  | _, [] => []
  | i, none :: r => ents (i + 1) r
  | i, some x :: r => (i, tv x) :: ents (i + 1) r
theorem mem_ents {q : Nat × Value} : ∀ {ls : List (Option TV)} {i : Nat}, q ∈ ents i ls ↔ ∃ k x, ls[k]? = some (some x) ∧ q = (i + k, tv x)
  | [], i => by simp [ents]
  | none :: r, i => by
    simp only [ents]
    rw [mem_ents (ls := r)]
    constructor
    · rintro ⟨k, x, h, e⟩
      exact ⟨k + 1, x, by simpa using h, by rw [e, show i + 1 + k = i + (k + 1) by omega]⟩
    · rintro ⟨k, x, h, e⟩
      cases k with
      | zero => simp at h
      | succ k => exact ⟨k, x, by simpa using h, by rw [e, show i + 1 + k = i + (k + 1) by omega]⟩
  | some y :: r, i => by
    simp only [ents, List.mem_cons]
    rw [mem_ents (ls := r)]
    constructor
    · rintro (e | ⟨k, x, h, e⟩)
      · exact ⟨0, y, by simp, by rw [e]; rfl⟩
      · exact ⟨k + 1, x, by simpa using h, by rw [e, show i + 1 + k = i + (k + 1) by omega]⟩
    · rintro ⟨k, x, h, e⟩
      cases k with
      | zero =>
        left
        simp at h
        rw [e, h]
        rfl
      | succ k => exact Or.inr ⟨k, x, by simpa using h, by rw [e, show i + 1 + k = i + (k + 1) by omega]⟩
def lvs (la : Array Slot) (nL : Nat) (ls : List (Option TV)) : Prop := lv_has la nL (ents 0 ls)
theorem lvs_get {la : Array Slot} {nL : Nat} {ls : List (Option TV)} {i : Nat} {x : TV} (h : lvs la nL ls) (hi : ls[i]? = some (some x)) : la[i]? = some (.val (tv x)) :=
  h.2.2 (i, tv x) (mem_ents.mpr ⟨i, x, hi, by simp⟩)
def lclr : Option TV → Option TV
  | some (.inr (.inl _)) => none
  | a => a
def lnxt : TV → List (Option TV) → List (Option TV)
  | .inr (.inl _), _ :: r => none :: r
  | _, r => r
def lset : List (Option TV) → Nat → TV → List (Option TV)
  | [], _, _ => []
  | _ :: r, 0, x => some x :: lnxt x r
  | a :: r, 1, x => lclr a :: lset r 0 x
  | a :: r, i + 2, x => a :: lset r (i + 1) x
theorem lnxt_spec {x : TV} {r : List (Option TV)} {k : Nat} {y : TV} (h : (lnxt x r)[k]? = some (some y)) : r[k]? = some (some y) ∧ (tcat x = 2 → k ≠ 0) := by
  rcases x with x | x | x
  · exact ⟨h, fun e => by cases e⟩
  · cases r with
    | nil => simp [lnxt] at h
    | cons b r =>
      cases k with
      | zero => simp [lnxt] at h
      | succ k => exact ⟨by simpa [lnxt] using h, fun _ => by omega⟩
  · exact ⟨h, fun e => by cases e⟩
theorem lclr_spec {a : Option TV} {y : TV} (h : lclr a = some y) : a = some y ∧ tcat y = 1 := by
  rcases a with _ | x | x | x
  · cases h
  · cases h; exact ⟨rfl, rfl⟩
  · cases h
  · cases h; exact ⟨rfl, rfl⟩
theorem lset_spec {x y : TV} : ∀ {ls : List (Option TV)} {i k : Nat}, (lset ls i x)[k]? = some (some y) → (k = i ∧ y = x) ∨ (ls[k]? = some (some y) ∧ k ≠ i ∧ (k + 1 = i → tcat y = 1) ∧ (tcat x = 2 → k ≠ i + 1))
  | [], i, k, h => by simp [lset] at h
  | a :: r, 0, k, h => by
    cases k with
    | zero =>
      simp [lset] at h
      exact Or.inl ⟨rfl, h.symm⟩
    | succ k =>
      have h1 : (lnxt x r)[k]? = some (some y) := by simpa [lset] using h
      obtain ⟨h2, h3⟩ := lnxt_spec h1
      exact Or.inr ⟨by simpa using h2, by omega, by omega, fun e => by have := h3 e; omega⟩
  | a :: r, 1, k, h => by
    cases k with
    | zero =>
      have h1 : lclr a = some y := by simpa [lset] using h
      obtain ⟨h2, h3⟩ := lclr_spec h1
      exact Or.inr ⟨by simp [h2], by omega, fun _ => h3, fun _ => by omega⟩
    | succ k =>
      have h1 : (lset r 0 x)[k]? = some (some y) := by simpa [lset] using h
      rcases lset_spec h1 with ⟨h2, h3⟩ | ⟨h2, h3, h4, h5⟩
      · exact Or.inl ⟨by omega, h3⟩
      · exact Or.inr ⟨by simpa using h2, by omega, fun e => h4 (by omega), fun e => by have := h5 e; omega⟩
  | a :: r, i + 2, k, h => by
    cases k with
    | zero =>
      have h1 : a = some y := by simpa [lset] using h
      exact Or.inr ⟨by simp [h1], by omega, fun e => by omega, fun _ => by omega⟩
    | succ k =>
      have h1 : (lset r (i + 1) x)[k]? = some (some y) := by simpa [lset] using h
      rcases lset_spec h1 with ⟨h2, h3⟩ | ⟨h2, h3, h4, h5⟩
      · exact Or.inl ⟨by omega, h3⟩
      · exact Or.inr ⟨by simpa using h2, by omega, fun e => h4 (by omega), fun e => by have := h5 e; omega⟩
theorem lvs_set1 {la : Array Slot} {nL i : Nat} {ls ls' : List (Option TV)} {x : TV} (he : lset ls i x = ls')
    (h : lv_has la nL ((i, tv x) :: (ents 0 ls).filter (fun q => !(q.1 == i) && !(q.1 + 1 == i && q.2.category == 2)))) : lvs la nL ls' := by
  subst he
  refine ⟨h.1, h.2.1, fun q hq => h.2.2 q ?_⟩
  obtain ⟨k, y, hk, rfl⟩ := mem_ents.mp hq
  rw [Nat.zero_add]
  rcases lset_spec hk with ⟨rfl, rfl⟩ | ⟨h2, h3, h4, -⟩
  · exact List.mem_cons_self
  · refine List.mem_cons_of_mem _ (List.mem_filter.mpr ⟨mem_ents.mpr ⟨k, y, h2, by simp⟩, ?_⟩)
    have h1 : (k == i) = false := by simpa using h3
    simp only [h1, Bool.not_false, Bool.true_and, Bool.not_eq_true', Bool.and_eq_false_iff]
    by_cases e : k + 1 = i
    · right
      rw [tv_cat, h4 e]
      rfl
    · left
      simpa using e
theorem lvs_set2 {la : Array Slot} {nL i : Nat} {ls ls' : List (Option TV)} {x : TV} (he : lset ls i x = ls') (hx : tcat x = 2)
    (h : lv_has la nL ((i, tv x) :: (ents 0 ls).filter (fun q => !(q.1 == i) && (!(q.1 == i + 1) && !(q.1 + 1 == i && q.2.category == 2))))) : lvs la nL ls' := by
  subst he
  refine ⟨h.1, h.2.1, fun q hq => h.2.2 q ?_⟩
  obtain ⟨k, y, hk, rfl⟩ := mem_ents.mp hq
  rw [Nat.zero_add]
  rcases lset_spec hk with ⟨rfl, rfl⟩ | ⟨h2, h3, h4, h5⟩
  · exact List.mem_cons_self
  · refine List.mem_cons_of_mem _ (List.mem_filter.mpr ⟨mem_ents.mpr ⟨k, y, h2, by simp⟩, ?_⟩)
    have h1 : (k == i) = false := by simpa using h3
    have h6 : (k == i + 1) = false := by simpa using h5 hx
    simp only [h1, h6, Bool.not_false, Bool.true_and, Bool.not_eq_true', Bool.and_eq_false_iff]
    by_cases e : k + 1 = i
    · right
      rw [tv_cat, h4 e]
      rfl
    · left
      simpa using e
/-- forget locals -/
def lsubB : List (Option TV) → List (Option TV) → Prop
  | _, [] => True
  | [], _ :: _ => False
  | _ :: r, none :: r' => lsubB r r'
  | a :: r, some y :: r' => a = some y ∧ lsubB r r'
theorem lsubB_get {y : TV} : ∀ {l l' : List (Option TV)} {k : Nat}, lsubB l l' → l'[k]? = some (some y) → l[k]? = some (some y)
  | _, [], k, _, h => by simp at h
  | [], _ :: _, _, h, _ => h.elim
  | a :: r, none :: r', k, h, hk => by
    cases k with
    | zero => simp at hk
    | succ k => simpa using lsubB_get (l := r) (l' := r') h (by simpa using hk)
  | a :: r, some z :: r', k, h, hk => by
    cases k with
    | zero =>
      simp at hk
      simp [h.1, hk]
    | succ k => simpa using lsubB_get (l := r) (l' := r') h.2 (by simpa using hk)
theorem lvs_sub {la : Array Slot} {nL : Nat} {l l' : List (Option TV)} (h : lvs la nL l) (hs : lsubB l l') : lvs la nL l' := by
  refine ⟨h.1, h.2.1, fun q hq => h.2.2 q ?_⟩
  obtain ⟨k, y, hk, rfl⟩ := mem_ents.mp hq
  exact mem_ents.mpr ⟨k, y, lsubB_get hs hk, rfl⟩
def hU (H : Heap) : Nat := (H.toList.map (fun c => c.slots.size)).sum
theorem hU_congr {H H' : Heap} (h : ∀ q : Nat, (H'[q]?).map (fun c => c.slots.size) = (H[q]?).map (fun c => c.slots.size)) : hU H' = hU H := by
  unfold hU
  congr 1
  apply List.ext_getElem?
  intro i
  simp only [List.getElem?_map, Array.getElem?_toList]
  exact h i
theorem heap_push {H H' : Heap} {X : Cell} (hs : H'.size = H.size + 1) (hX : H'[H.size]? = some X) (h : ∀ q : Nat, q < H.size → H'[q]? = H[q]?) : H' = H.push X := by
  apply Array.ext_getElem?
  intro i
  rw [Array.getElem?_push]
  by_cases e : i = H.size
  · rw [if_pos e, e, hX]
  · rw [if_neg e]
    by_cases e2 : i < H.size
    · exact h i e2
    · rw [Array.getElem?_eq_none (by omega), Array.getElem?_eq_none (by omega)]
theorem hU_push {H H' : Heap} {X : Cell} (hs : H'.size = H.size + 1) (hX : H'[H.size]? = some X) (h : ∀ q : Nat, q < H.size → H'[q]? = H[q]?) : hU H' = hU H + X.slots.size := by
  rw [heap_push hs hX h]
  simp [hU]
section TIGHT
variable {p : Program} {l : Launch} {e : Env} {R : Room} {s : State} {m : MethodId} {args : Array Value} {below : List Frame} {meth : Method} {c : Code} {H : Heap} {locs : List Loc} {cells slots : Nat} {Q : State → Prop}
theorem w_tight {k n : Nat} {g : JFrame} (h1 : H.size ≤ s.heap.size + k) (h2 : hU H ≤ hU s.heap + n) (kk : W p l e R s m args below meth c H locs k n Q g) : W p l e R s m args below meth c H locs cells slots Q g := by
  intro T hT X
  refine kk T hT { X with same := ?_ }
  obtain ⟨e1, e2, e3, e4, e5, e6⟩ := X.same
  have hsum : hU T.heap = hU s.heap + ((T.heap.toList.drop s.heap.size).map (·.slots.size)).sum := by
    have a1 : T.heap.toList = T.heap.toList.take s.heap.size ++ T.heap.toList.drop s.heap.size := (List.take_append_drop _ _).symm
    have a2 : (T.heap.toList.take s.heap.size).map (fun c => c.slots.size) = s.heap.toList.map (fun c => c.slots.size) := by
      apply List.ext_getElem?
      intro i
      simp only [List.getElem?_map]
      by_cases hi : i < s.heap.size
      · rw [List.getElem?_take_of_lt hi, Array.getElem?_toList, Array.getElem?_toList]
        obtain ⟨c', q1, q2, q3, -⟩ := e6 i s.heap[i] (Array.getElem?_eq_getElem hi)
        have q1' : T.heap[i]? = some c' := q1
        rw [q1', Array.getElem?_eq_getElem hi]
        simp [q3]
      · rw [List.getElem?_eq_none (by simp; omega), List.getElem?_eq_none (by simp; omega)]
    unfold hU
    conv => lhs; rw [a1]
    rw [List.map_append, List.sum_append, a2]
  refine ⟨e1, e2, ?_, e4, ?_, e6⟩
  · show T.heap.size ≤ _
    rw [hT]
    exact h1
  · show ((T.heap.toList.drop s.heap.size).map (·.slots.size)).sum ≤ n
    rw [hT] at hsum ⊢
    omega
end TIGHT
