/-! C64: rows grow; what a draw from the pool leaves alone -/
def ins (r : Nat → Option Nat) (q x : Nat) : Nat → Option Nat := fun z => if z = q then some x else r z
def insA (r : AA) (c q x : Nat) : AA := fun c' => if c' = c then ins (r c) q x else r c'
theorem rm_ins {r : Nat → Option Nat} {q x : Nat} (h : r q = none) : rm (ins r q x) q = r := by
  funext z
  unfold rm ins
  by_cases e : z = q
  · rw [if_pos e, e, h]
  · rw [if_neg e, if_neg e]
theorem ins_at {r : Nat → Option Nat} {q x : Nat} : ins r q x q = some x := if_pos rfl
theorem ins_ne {r : Nat → Option Nat} {q x z : Nat} (h : z ≠ q) : ins r q x z = r z := if_neg h
theorem insA_at {r : AA} {c q x : Nat} : insA r c q x c = ins (r c) q x := if_pos rfl
theorem insA_ne {r : AA} {c c' q x : Nat} (h : c' ≠ c) : insA r c q x c' = r c' := if_neg h
theorem sumA_ins {f : Nat → Nat} {r : Nat → Option Nat} {q x n : Nat} (h : r q = none) (hq : q < n) : sumA f (ins r q x) n = sumA f r n + f x := by
  have := sumA_rm (f := f) (r := ins r q x) (t := q) (x := x) ins_at n hq
  rw [rm_ins h] at this
  exact this.symm
theorem cnB_ins {r : Nat → Option Nat} {q x n : Nat} (h : r q = none) (hq : q < n) : cnB (fun z => oS (ins r q x z)) n = cnB (fun z => oS (r z)) n + 1 := by
  have := cnB_rm (r := ins r q x) (t := q) (x := x) ins_at n hq
  rw [rm_ins h] at this
  exact this.symm
theorem ins_or {r : Nat → Option Nat} {q x z y : Nat} (h : ins r q x z = some y) : (z = q ∧ y = x) ∨ r z = some y := by
  by_cases e : z = q
  · rw [e, ins_at] at h
    exact Or.inl ⟨e, (Option.some.inj h).symm⟩
  · rw [ins_ne e] at h
    exact Or.inr h
theorem RP.nw {r : Nat → Option Nat} {l : List Nat} {n tot q x : Nat} (h : RP r l n tot) (hq : r q = none) (hn : q < n) (hx : x ∉ l) (hr : ∀ z, r z ≠ some x) : RP (ins r q x) l n (tot + 1) := by
  obtain ⟨h1, h2, h3, h4⟩ := h
  refine ⟨h1, fun y hy z hz => ?_, fun z z' y hz hz' => ?_, ?_⟩
  · rcases ins_or hz with ⟨_, e⟩ | e
    · exact hx (by rw [← e]; exact hy)
    · exact h2 y hy z e
  · rcases ins_or hz with ⟨a1, a2⟩ | a <;> rcases ins_or hz' with ⟨b1, b2⟩ | b
    · omega
    · exact absurd (by rw [← a2]; exact b) (hr z')
    · exact absurd (by rw [← b2]; exact a) (hr z)
    · exact h3 z z' y a b
  · rw [cnB_ins hq hn]
    omega
theorem RP.pop {r : Nat → Option Nat} {l : List Nat} {n tot q x : Nat} (h : RP r (l ++ [x]) n tot) (hq : r q = none) (hn : q < n) : RP (ins r q x) l n tot := by
  obtain ⟨h1, h2, h3, h4⟩ := h
  rw [List.nodup_append] at h1
  have hx : x ∉ l := fun z => h1.2.2 x z x (List.mem_singleton.mpr rfl) rfl
  rw [List.length_append] at h4
  have h4 : cnB (fun q => oS (r q)) n + (l.length + 1) = tot := h4
  obtain ⟨t, ht⟩ : ∃ t, tot = t + 1 := ⟨tot - 1, by omega⟩
  rw [ht]
  refine RP.nw ⟨h1.1, fun y hy => h2 y (List.mem_append_left _ hy), h3, by omega⟩ hq hn hx (h2 x (List.mem_append_right _ (List.mem_singleton.mpr rfl)))
/-- rows of owners and what lists hold stay outside X -/
def DS (X : Nat → Prop) (V : CW) (E : EL) (V' : CW) (E' : EL) : Prop := VF X V V' ∧ (∀ a, kdV V a ≠ 0 → E'.1 a = E.1 a ∧ (¬ X a → E'.2.1 a = E.2.1 a ∧ E'.2.2 a = E.2.2 a)) ∧ ∀ a c k, kdV V a = c + 1 → (owl c k ≠ 0 ∨ lof c k ≠ 0) → xr V' (100 * c + k) a 0 = xr V (100 * c + k) a 0 ∧ xn V' (100 * c + k) a = xn V (100 * c + k) a
section C64
variable {nC nS n : Nat} {A A' : AH} {V V' V'' : CW} {E E' E'' : EL} {ad ad' : AA} {M M' : MS} {P : PP} {X X' : Nat → Prop}
theorem DS.tr (h : DS X V E V' E') (h2 : DS X' V' E' V'' E'') (hx : ∀ a, kdV V a ≠ 0 → X' a → X a) : DS X V E V'' E'' := by
  obtain ⟨a1, a2, a3⟩ := h
  obtain ⟨b1, b2, b3⟩ := h2
  have kk : ∀ {a : Nat}, kdV V a ≠ 0 → kdV V' a = kdV V a := fun ha => (a1.1 _ ha).1
  refine ⟨⟨fun a ha => ?_, b1.2.1.trans a1.2.1, b1.2.2.trans a1.2.2⟩, fun a ha => ?_, fun a c k ha hk => ?_⟩
  · have ha' : kdV V' a ≠ 0 := by rw [kk ha]; exact ha
    obtain ⟨c1, c2⟩ := a1.1 a ha
    obtain ⟨d1, d2⟩ := b1.1 a ha'
    refine ⟨d1.trans c1, fun hn d => ?_⟩
    obtain ⟨e1, e2, e3, e4⟩ := c2 hn d
    obtain ⟨f1, f2, f3, f4⟩ := d2 (fun z => hn (hx a ha z)) d
    exact ⟨f1.trans e1, f2.trans e2, f3.trans e3, f4.trans e4⟩
  · have ha' : kdV V' a ≠ 0 := by rw [kk ha]; exact ha
    obtain ⟨c1, c2⟩ := a2 a ha
    obtain ⟨d1, d2⟩ := b2 a ha'
    refine ⟨d1.trans c1, fun hn => ?_⟩
    obtain ⟨e1, e2⟩ := c2 hn
    obtain ⟨f1, f2⟩ := d2 (fun z => hn (hx a ha z))
    exact ⟨f1.trans e1, f2.trans e2⟩
  · obtain ⟨c1, c2⟩ := a3 a c k ha hk
    obtain ⟨d1, d2⟩ := b3 a c k (by rw [kk (by omega)]; exact ha) hk
    exact ⟨d1.trans c1, d2.trans c2⟩
theorem DS.rf : DS X V E V E := ⟨VF.rf, fun _ _ => ⟨rfl, fun _ => ⟨rfl, rfl⟩⟩, fun _ _ _ _ _ => ⟨rfl, rfl⟩⟩
theorem DS.up (h : DS X V E V' E') (hx : ∀ a, kdV V a ≠ 0 → X a → X' a) : DS X' V E V' E' := ⟨h.1.up hx, fun a ha => ⟨(h.2.1 a ha).1, fun hn => (h.2.1 a ha).2 (fun z => hn (hx a ha z))⟩, h.2.2⟩
theorem DS.kv (h : DS X V E V' E') {a c : Nat} (ha : kdV V a = c + 1) : kdV V' a = c + 1 := h.1.k ha
/-- a list that is not among these -/
theorem DS.ltc (h : DS X V E V' E') (hw : WT V E) {a c k : Nat} (ha : kdV V a = c + 1) (hk : lof c k ≠ 0) (hx : ∀ ll, xr V (100 * c + k) a 0 = some ll → ¬ X ll) : lt V' E' c k a = lt V E c k a ∧ cpL V' E' c k a = cpL V E c k a := by
  obtain ⟨ll, l1, l2, l3⟩ := hw.2.1 a c k ha hk
  have e := (h.2.2 a c k ha (Or.inr hk)).1
  unfold lt cpL
  rw [e, l1]
  exact (h.2.1 ll (by omega)).2 (hx ll l1)
theorem GL.ds (hg : GL V E) (hd : DS X V E V' E') (hN : ∀ a, kdV V' a = 1 → (X a ∨ kdV V a = 0) → LI V' a (E'.1 a) (E'.2.1 a) (E'.2.2 a)) : GL V' E' := by
  intro a ha
  by_cases c : X a ∨ kdV V a = 0
  · exact hN a ha c
  · have c1 : ¬ X a := fun z => c (Or.inl z)
    have c2 : kdV V a ≠ 0 := fun z => c (Or.inr z)
    have k1 : kdV V a = 1 := by rw [← (hd.1.1 a c2).1]; exact ha
    obtain ⟨e1, e2⟩ := hd.2.1 a c2
    rw [e1, (e2 c1).1, (e2 c1).2]
    exact (hg a k1).vf hd.1 c1
/-- types, when one new comes, maybe with its list -/
theorem WT.ds (hw : WT V E) (hd : DS X V E V' E') (o : Nat) (hnew : ∀ a c, kdV V a = 0 → kdV V' a = c + 1 → a = o ∨ c = 0) (ho1 : ∀ c k, kdV V o = 0 → kdV V' o = c + 1 → owl c k ≠ 0 → OW V' c k o (owl c k)) (ho2 : ∀ c k, kdV V o = 0 → kdV V' o = c + 1 → lof c k ≠ 0 → ∃ ll, xr V' (100 * c + k) o 0 = some ll ∧ kdV V ll = 0 ∧ kdV V' ll = 1 ∧ E'.1 ll + 1 = lof c k) (ho3 : ∀ c k k', kdV V o = 0 → kdV V' o = c + 1 → lof c k ≠ 0 → lof c k' ≠ 0 → k = k') : WT V' E' := by
  obtain ⟨w1, w2, w3⟩ := hw
  have hold : ∀ {a c : Nat}, kdV V' a = c + 1 → c ≠ 0 → kdV V a = c + 1 ∨ (a = o ∧ kdV V a = 0) := by
    intro a c ha hc
    by_cases e : kdV V a = 0
    · rcases hnew a c e ha with z | z
      · exact Or.inr ⟨z, e⟩
      · exact absurd z hc
    · exact Or.inl (by rw [← (hd.1.1 a e).1]; exact ha)
  have hlst : ∀ {a c k : Nat} {x : Nat}, kdV V a = c + 1 → lof c k ≠ 0 → xr V' (100 * c + k) a 0 = some x → kdV V x = 1 := by
    intro a c k x ha hk hx
    obtain ⟨ll, l1, l2, _⟩ := w2 a c k ha hk
    rw [(hd.2.2 a c k ha (Or.inr hk)).1, l1] at hx
    rw [← Option.some.inj hx]
    exact l2
  have hnl : ∀ {c k x : Nat}, kdV V o = 0 → kdV V' o = c + 1 → lof c k ≠ 0 → xr V' (100 * c + k) o 0 = some x → kdV V x = 0 := by
    intro c k x h0 ha hk hx
    obtain ⟨ll, l1, l2, _⟩ := ho2 c k h0 ha hk
    rw [l1] at hx
    rw [← Option.some.inj hx]
    exact l2
  refine ⟨fun a c k ha hk => ?_, fun a c k ha hk => ?_, fun a c k a' c' k' y ha ha' hk hk' hy hy' => ?_⟩
  · rcases hold ha (owl_c hk).1 with z | ⟨z1, z2⟩
    · obtain ⟨y, y1, y2, y3⟩ := w1 a c k z hk
      obtain ⟨e1, e2⟩ := hd.2.2 a c k z (Or.inl hk)
      exact ⟨y, by rw [e1]; exact y1, by rw [hd.1.2.1]; exact y2, by rw [e2]; exact y3⟩
    · subst z1
      exact ho1 c k z2 ha hk
  · rcases hold ha (lof_c hk).1 with z | ⟨z1, z2⟩
    · obtain ⟨ll, l1, l2, l3⟩ := w2 a c k z hk
      exact ⟨ll, by rw [(hd.2.2 a c k z (Or.inr hk)).1]; exact l1, hd.kv (c := 0) l2, by rw [(hd.2.1 ll (by omega)).1]; exact l3⟩
    · subst z1
      obtain ⟨ll, l1, l2, l3, l4⟩ := ho2 c k z2 ha hk
      exact ⟨ll, l1, l3, l4⟩
  · rcases hold ha (lof_c hk).1 with z | ⟨z1, z2⟩ <;> rcases hold ha' (lof_c hk').1 with z' | ⟨z1', z2'⟩
    · rw [(hd.2.2 a c k z (Or.inr hk)).1] at hy
      rw [(hd.2.2 a' c' k' z' (Or.inr hk')).1] at hy'
      exact w3 a c k a' c' k' y z z' hk hk' hy hy'
    · subst z1'
      have q1 := hlst z hk hy
      have q2 := hnl z2' ha' hk' hy'
      omega
    · subst z1
      have q1 := hlst z' hk' hy'
      have q2 := hnl z2 ha hk hy
      omega
    · subst z1 z1'
      have : c = c' := by omega
      subst this
      exact ⟨rfl, rfl, ho3 c k k' z2 ha hk hk'⟩
end C64
