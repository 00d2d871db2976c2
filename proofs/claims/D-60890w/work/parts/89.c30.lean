/-! C30: heaps as lists -/
/-- a strict order on what has distinct keys -/
def hLt (f g : Nat → Int32) (x y : Nat) : Prop := if f x = f y then g x < g y else f x < f y
theorem hLt_tr {f g : Nat → Int32} {x y z : Nat} (h1 : ¬ hLt f g x y) (h2 : ¬ hLt f g y z) : ¬ hLt f g x z := by
  unfold hLt at *
  by_cases a : f x = f y
  · rw [if_pos a] at h1
    rw [a]
    by_cases b : f y = f z
    · rw [if_pos b] at h2 ⊢
      exact Int32.not_lt.mpr (Int32.le_trans (Int32.not_lt.mp h2) (Int32.not_lt.mp h1))
    · rw [if_neg b] at h2 ⊢
      exact h2
  · rw [if_neg a] at h1
    by_cases b : f y = f z
    · rw [← b, if_neg a]
      exact h1
    · rw [if_neg b] at h2
      have e : ¬ f x = f z := fun e => by
        rw [e] at h1 a
        exact a (Int32.le_antisymm (Int32.not_lt.mp h2) (Int32.not_lt.mp h1))
      rw [if_neg e]
      exact Int32.not_lt.mpr (Int32.le_trans (Int32.not_lt.mp h2) (Int32.not_lt.mp h1))
theorem hLt_ir {f g : Nat → Int32} (x : Nat) : ¬ hLt f g x x := by
  unfold hLt
  rw [if_pos rfl]
  exact fun z => Int32.lt_irrefl z
theorem hLt_as {f g : Nat → Int32} {x y : Nat} (h : hLt f g x y) : ¬ hLt f g y x := by
  unfold hLt at *
  by_cases a : f x = f y
  · rw [if_pos a] at h
    rw [if_pos a.symm]
    exact Int32.not_lt.mpr (Int32.le_of_lt h)
  · rw [if_neg a] at h
    rw [if_neg (fun e => a e.symm)]
    exact Int32.not_lt.mpr (Int32.le_of_lt h)
/-- each one but the first is not ahead of the one above it; k's are left out when `ex` says so -/
def HO (f g : Nat → Int32) (l : List Nat) : Prop := ∀ i x y : Nat, 0 < i → l[i]? = some x → l[(i - 1) / 2]? = some y → ¬ hLt f g x y
def inj (l : List Nat) : Prop := ∀ i j v : Nat, l[i]? = some v → l[j]? = some v → i = j
theorem gs (l : List Nat) (i j v : Nat) (hi : i < l.length) : (l.set i v)[j]? = if j = i then some v else l[j]? := by
  rw [List.getElem?_set]
  by_cases e : i = j
  · subst e
    rw [if_pos rfl, if_pos hi, if_pos rfl]
  · rw [if_neg e, if_neg (fun z => e z.symm)]
theorem ge_lt {l : List Nat} {i v : Nat} (h : l[i]? = some v) : i < l.length := (List.getElem?_eq_some_iff.mp h).1
theorem lt_ge {l : List Nat} {i : Nat} (h : i < l.length) : ∃ v, l[i]? = some v := ⟨_, List.getElem?_eq_getElem h⟩
/-- same elements, at other places -/
def same (l l' : List Nat) : Prop := l'.length = l.length ∧ (inj l → inj l') ∧ ∀ x : Nat, (∃ i : Nat, l'[i]? = some x) ↔ (∃ i : Nat, l[i]? = some x)
theorem same.rf (l : List Nat) : same l l := ⟨rfl, id, fun _ => Iff.rfl⟩
theorem same.tr {l l' l'' : List Nat} (h : same l l') (h2 : same l' l'') : same l l'' := ⟨h2.1.trans h.1, fun z => h2.2.1 (h.2.1 z), fun x => (h2.2.2 x).trans (h.2.2 x)⟩
theorem same_swap {l : List Nat} {i j x y : Nat} (hx : l[i]? = some x) (hy : l[j]? = some y) : same l ((l.set i y).set j x) := by
  have hi := ge_lt hx
  have hj := ge_lt hy
  have hg : ∀ k, ((l.set i y).set j x)[k]? = if k = j then some x else if k = i then some y else l[k]? := by
    intro k
    rw [gs _ _ _ _ (by rw [List.length_set]; exact hj), gs _ _ _ _ hi]
  refine ⟨by rw [List.length_set, List.length_set], fun hinj a b v ha hb => ?_, fun v => ⟨fun ⟨k, hk⟩ => ?_, fun ⟨k, hk⟩ => ?_⟩⟩
  · rw [hg] at ha hb
    have key : ∀ k, (if k = j then some x else if k = i then some y else l[k]?) = some v → l[if k = j then i else if k = i then j else k]? = some v := by
      intro k hk
      by_cases c1 : k = j
      · rw [if_pos c1] at hk ⊢
        rw [hx]; exact hk
      · rw [if_neg c1] at hk ⊢
        by_cases c2 : k = i
        · rw [if_pos c2] at hk ⊢
          rw [hy]; exact hk
        · rw [if_neg c2] at hk ⊢
          exact hk
    have e := hinj _ _ v (key a ha) (key b hb)
    by_cases a1 : a = j
    · by_cases b1 : b = j
      · omega
      · rw [if_pos a1, if_neg b1] at e
        by_cases b2 : b = i
        · rw [if_pos b2] at e; omega
        · rw [if_neg b2] at e; omega
    · rw [if_neg a1] at e
      by_cases a2 : a = i
      · rw [if_pos a2] at e
        by_cases b1 : b = j
        · rw [if_pos b1] at e; omega
        · rw [if_neg b1] at e
          by_cases b2 : b = i
          · omega
          · rw [if_neg b2] at e; omega
      · rw [if_neg a2] at e
        by_cases b1 : b = j
        · rw [if_pos b1] at e; omega
        · rw [if_neg b1] at e
          by_cases b2 : b = i
          · rw [if_pos b2] at e; omega
          · rw [if_neg b2] at e; omega
  · rw [hg] at hk
    by_cases c1 : k = j
    · rw [if_pos c1] at hk; exact ⟨i, by rw [hx]; exact hk⟩
    · rw [if_neg c1] at hk
      by_cases c2 : k = i
      · rw [if_pos c2] at hk; exact ⟨j, by rw [hy]; exact hk⟩
      · rw [if_neg c2] at hk; exact ⟨k, hk⟩
  · by_cases c1 : k = i
    · subst c1
      refine ⟨j, ?_⟩
      rw [hg, if_pos rfl, ← hx, hk]
    · by_cases c2 : k = j
      · subst c2
        refine ⟨i, ?_⟩
        rw [hg, if_neg (fun z => c1 z.symm), if_pos rfl, ← hy, hk]
      · refine ⟨k, ?_⟩
        rw [hg, if_neg c2, if_neg c1]
        exact hk
/-- the first is ahead of all or the same -/
theorem HO.min {f g : Nat → Int32} {l : List Nat} (h : HO f g l) {r : Nat} (hr : l[0]? = some r) : ∀ i x : Nat, l[i]? = some x → ¬ hLt f g x r := by
  intro i
  induction i using Nat.strongRecOn with
  | _ i ih =>
    intro x hx
    by_cases e : i = 0
    · subst e
      have : x = r := Option.some.inj (hx.symm.trans hr)
      rw [this]
      exact hLt_ir r
    · have hl := ge_lt hx
      obtain ⟨y, hy⟩ := lt_ge (l := l) (i := (i - 1) / 2) (by omega)
      exact hLt_tr (h i x y (by omega) hx hy) (ih ((i - 1) / 2) (by omega) y hy)
/-- going up: all is in order but k against the one above it; what is below k goes below what is above it -/
def UpI (f g : Nat → Int32) (l : List Nat) (k : Nat) : Prop := (∀ i x y : Nat, 0 < i → i ≠ k → l[i]? = some x → l[(i - 1) / 2]? = some y → ¬ hLt f g x y) ∧ (0 < k → ∀ i x y : Nat, 0 < i → (i - 1) / 2 = k → l[i]? = some x → l[(k - 1) / 2]? = some y → ¬ hLt f g x y)
theorem UpI.ok {f g : Nat → Int32} {l : List Nat} {k a : Nat} (h : UpI f g l k) (ha : l[k]? = some a) (hs : k = 0 ∨ ∃ y, l[(k - 1) / 2]? = some y ∧ ¬ hLt f g a y) : HO f g l := by
  intro i x y hi hx hy
  by_cases e : i = k
  · subst e
    rcases hs with z | ⟨y', z1, z2⟩
    · omega
    · rw [Option.some.inj (hx.symm.trans ha), Option.some.inj (hy.symm.trans z1)]
      exact z2
  · exact h.1 i x y hi e hx hy
theorem UpI.st {f g : Nat → Int32} {l : List Nat} {k a y : Nat} (h : UpI f g l k) (hk : 0 < k) (ha : l[k]? = some a) (hy : l[(k - 1) / 2]? = some y) (hlt : hLt f g a y) : UpI f g ((l.set k y).set ((k - 1) / 2) a) ((k - 1) / 2) := by
  have hkl := ge_lt ha
  have hpl := ge_lt hy
  have hg : ∀ j, ((l.set k y).set ((k - 1) / 2) a)[j]? = if j = (k - 1) / 2 then some a else if j = k then some y else l[j]? := by
    intro j
    rw [gs _ _ _ _ (by rw [List.length_set]; exact hpl), gs _ _ _ _ hkl]
  refine ⟨fun i x z hi hne hx hz => ?_, fun hp i x z hi hpar hx hz => ?_⟩
  · rw [hg] at hx hz
    rw [if_neg hne] at hx
    by_cases e : i = k
    · subst e
      rw [if_pos rfl] at hx hz
      rw [← Option.some.inj hx, ← Option.some.inj hz]
      exact hLt_as hlt
    · rw [if_neg e] at hx
      by_cases e2 : (i - 1) / 2 = (k - 1) / 2
      · rw [if_pos e2] at hz
        rw [← Option.some.inj hz]
        intro hc
        have h1 := h.1 i x y hi e hx (by rw [e2]; exact hy)
        exact hLt_tr h1 (hLt_as hlt) hc
      · rw [if_neg e2] at hz
        by_cases e3 : (i - 1) / 2 = k
        · rw [if_pos e3] at hz
          rw [← Option.some.inj hz]
          exact h.2 hk i x y hi e3 hx hy
        · rw [if_neg e3] at hz
          exact h.1 i x z hi e hx hz
  · rw [hg] at hx hz
    have e0 : ¬ ((k - 1) / 2 - 1) / 2 = (k - 1) / 2 := by omega
    have e1 : ¬ ((k - 1) / 2 - 1) / 2 = k := by omega
    rw [if_neg e0, if_neg e1] at hz
    have hyz := h.1 ((k - 1) / 2) y z hp (by omega) hy hz
    rw [if_neg (show ¬ i = (k - 1) / 2 by omega)] at hx
    by_cases e : i = k
    · rw [if_pos e] at hx
      rw [← Option.some.inj hx]
      exact hyz
    · rw [if_neg e] at hx
      exact hLt_tr (h.1 i x y hi e hx (by rw [hpar]; exact hy)) hyz
/-- going down: all is in order but what is below k; that goes below what is above k -/
def DnI (f g : Nat → Int32) (l : List Nat) (k : Nat) : Prop := (∀ i x y : Nat, 0 < i → (i - 1) / 2 ≠ k → l[i]? = some x → l[(i - 1) / 2]? = some y → ¬ hLt f g x y) ∧ (0 < k → ∀ i x y : Nat, 0 < i → (i - 1) / 2 = k → l[i]? = some x → l[(k - 1) / 2]? = some y → ¬ hLt f g x y)
theorem DnI.ok {f g : Nat → Int32} {l : List Nat} {k a : Nat} (h : DnI f g l k) (ha : l[k]? = some a) (hs : ∀ i x : Nat, 0 < i → (i - 1) / 2 = k → l[i]? = some x → ¬ hLt f g x a) : HO f g l := by
  intro i x y hi hx hy
  by_cases e : (i - 1) / 2 = k
  · rw [e, ha] at hy
    rw [← Option.some.inj hy]
    exact hs i x hi e hx
  · exact h.1 i x y hi e hx hy
theorem DnI.st {f g : Nat → Int32} {l : List Nat} {k a c y : Nat} (h : DnI f g l k) (ha : l[k]? = some a) (hc0 : 0 < c) (hc : (c - 1) / 2 = k) (hy : l[c]? = some y) (hlt : hLt f g y a) (hmin : ∀ i x : Nat, 0 < i → (i - 1) / 2 = k → l[i]? = some x → ¬ hLt f g x y) : DnI f g ((l.set k y).set c a) c := by
  have hkl := ge_lt ha
  have hcl := ge_lt hy
  have hck : c ≠ k := by omega
  have hg : ∀ j, ((l.set k y).set c a)[j]? = if j = c then some a else if j = k then some y else l[j]? := by
    intro j
    rw [gs _ _ _ _ (by rw [List.length_set]; exact hcl), gs _ _ _ _ hkl]
  refine ⟨fun i x z hi hne hx hz => ?_, fun hp i x z hi hpar hx hz => ?_⟩
  · rw [hg] at hx hz
    rw [if_neg hne] at hz
    by_cases e : (i - 1) / 2 = k
    · rw [if_pos e] at hz
      rw [← Option.some.inj hz]
      by_cases ei : i = c
      · rw [if_pos ei] at hx
        rw [← Option.some.inj hx]
        exact hLt_as hlt
      · rw [if_neg ei, if_neg (show ¬ i = k by omega)] at hx
        exact hmin i x hi e hx
    · rw [if_neg e] at hz
      by_cases ei : i = c
      · omega
      · rw [if_neg ei] at hx
        by_cases ek : i = k
        · rw [if_pos ek] at hx
          rw [← Option.some.inj hx]
          rw [ek] at hz hi
          exact h.2 hi c y z hc0 hc hy hz
        · rw [if_neg ek] at hx
          exact h.1 i x z hi e hx hz
  · rw [hg] at hx hz
    rw [hc, if_neg (fun z => hck z.symm), if_pos rfl] at hz
    rw [← Option.some.inj hz]
    rw [if_neg (show ¬ i = c by omega), if_neg (show ¬ i = k by omega)] at hx
    exact h.1 i x y hi (by omega) hx (by rw [hpar]; exact hy)
