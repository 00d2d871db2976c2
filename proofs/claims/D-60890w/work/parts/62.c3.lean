/-! C3: what is new; loose arrays come to be owned -/
def vNew (V : CW) (p c : Nat) : CW := (fun q => if q = p then c + 1 else V.1 q, fun d a i => if a = p then 0 else xi V d a i, fun d a i => if a = p then none else xr V d a i, V.2.2.2)
def vF (V : CW) (p : Nat) (e : Option va_E) : CW := (V.1, V.2.1, V.2.2.1, V.2.2.2.1, V.2.2.2.2.1, fun q => if q = p then e else fr V q, V.2.2.2.2.2.2)
def lse (V : CW) (x : Nat) : Prop := ∀ a c k, kdV V a = c + 1 → own c k ≠ 0 → xr V (100 * c + k) a 0 ≠ some x
def dflt (c : Nat) : List Value := (List.range (nfl c)).map fun k => if isR c k then .null else .int 0
def vOI (V : CW) (d a x n : Nat) (f : Nat → Int32) : CW := (V.1, fun d' a' i => if d' = d + 50 ∧ a' = a then f i else xi V d' a' i, up3 (xr V) d a 0 (some x), xw V, fun d' a' => if d' = d ∧ a' = a then n else xn V d' a', fun q => if q = x then none else fr V q, sa V)
def vOR (V : CW) (d a x n : Nat) (f : Nat → Option Nat) : CW := (V.1, xi V, fun d' a' i => if d' = d + 50 ∧ a' = a then f i else up3 (xr V) d a 0 (some x) d' a' i, xw V, fun d' a' => if d' = d ∧ a' = a then n else xn V d' a', fun q => if q = x then none else fr V q, sa V)
def vOL (V : CW) (d a x n : Nat) (f : Nat → Int64) : CW := (V.1, xi V, up3 (xr V) d a 0 (some x), fun d' a' i => if d' = d ∧ a' = a then f i else xw V d' a' i, fun d' a' => if d' = d ∧ a' = a then n else xn V d' a', fun q => if q = x then none else fr V q, sa V)
section C3
variable {nC nS : Nat} {A : AH} {V : CW}
theorem St.mono (h : St nC nS A V) {nC' nS' : Nat} (h1 : nC' ≤ nC) (h2 : nS' ≤ nS) : St nC' nS' A V := ⟨⟨Nat.le_trans h1 h.1.1, Nat.le_trans h2 h.1.2.1, h.1.2.2⟩, h.2⟩
theorem St.plt (h : St nC nS A V) {a c k x : Nat} (ha : kdV V a = c + 1) (ho : own c k ≠ 0) (hx : xr V (100 * c + k) a 0 = some x) : x < hN A := by
  cases e : fr V x with
  | none => exact (h.2.2.1 a c k x ha ho hx e).1
  | some w => exact (h.2.2.2.2 x w e).1
theorem St.new0 (h : St nC nS A V) : kdV V (hN A) = 0 := by
  cases e : kdV V (hN A) with
  | zero => rfl
  | succ c => exact absurd (h.2.1 (hN A) c e).2.2.1 (Nat.lt_irrefl _)
theorem St.lse0 (h : St nC nS A V) : lse V (hN A) := fun _ _ _ ha ho hx => absurd (h.plt ha ho hx) (Nat.lt_irrefl _)
theorem hNew_at {A : AH} {n : Nat} {e : va_E} : hM (hNew A n e) (hN A) = some e := if_pos rfl
theorem hNew_ne {A : AH} {n q : Nat} {e : va_E} (h : q < hN A) : hM (hNew A n e) q = hM A q := if_neg (Nat.ne_of_lt h)
theorem St.no (h : St (nC + 1) nS A V) (c : Nat) {n : Nat} (fs : List Value) (hc : c < 16) (hc2 : c ≠ 11) (hfs : fs = dflt c) (hn : n + nfl c ≤ nS) : ∃ A', nO A c fs = some A' ∧ hN A' = hN A + 1 ∧ St nC n A' (vNew V (hN A) c) := by
  have h0 := h.new0
  obtain ⟨⟨b1, b2, b3⟩, h1, h2, h3, h4⟩ := h
  have hl : fs.length = nfl c := by rw [hfs]; simp [dflt]
  have hold : ∀ a' c', kdV V a' = c' + 1 → a' < hN A ∧ kdV (vNew V (hN A) c) a' = c' + 1 := fun a' c' hk => ⟨(h1 a' c' hk).2.2.1, by
    show (if a' = hN A then c + 1 else V.1 a') = c' + 1
    rw [if_neg (Nat.ne_of_lt (h1 a' c' hk).2.2.1)]
    exact hk⟩
  have hk2 : ∀ a' c', kdV (vNew V (hN A) c) a' = c' + 1 → (a' = hN A ∧ c' = c) ∨ (a' < hN A ∧ kdV V a' = c' + 1) := by
    intro a' c' hk
    have hk : (if a' = hN A then c + 1 else V.1 a') = c' + 1 := hk
    by_cases e : a' = hN A
    · rw [if_pos e] at hk
      exact Or.inl ⟨e, by omega⟩
    · rw [if_neg e] at hk
      exact Or.inr ⟨(h1 a' c' hk).2.2.1, hk⟩
  have hxr : ∀ d a', a' < hN A → xr (vNew V (hN A) c) d a' = xr V d a' := fun d a' ha => by
    funext i
    exact if_neg (Nat.ne_of_lt ha)
  have hxi : ∀ d a', a' < hN A → xi (vNew V (hN A) c) d a' = xi V d a' := fun d a' ha => by
    funext i
    exact if_neg (Nat.ne_of_lt ha)
  refine ⟨hNew A fs.length (.inr (c, fs)), ?_, rfl, ⟨⟨by show nC ≤ hC A - 1; omega, by show n ≤ hS A - fs.length; omega, b3⟩, fun a' c' hk => ?_, fun a' c' k x hk ho hx hf => ?_, fun a1 c1 k1 a2 c2 k2 x q1 q2 o1 o2 x1 x2 hf => ?_, fun q e hq => ?_⟩⟩
  · unfold nO
    rw [if_pos ⟨by omega, by omega⟩]
  · rcases hk2 a' c' hk with ⟨e1, e2⟩ | ⟨e1, e2⟩
    · subst e1 e2
      refine ⟨hc, hc2, Nat.lt_succ_self _, ?_⟩
      rw [hNew_at, hfs]
      refine congrArg some (congrArg (fun l => Sum.inr (c', l)) ?_)
      unfold dflt flds
      refine List.map_congr_left (fun k _ => ?_)
      unfold fldV
      show _ = (if isR c' k = true then va_rf (if hN A = hN A then none else _) else Value.int (if hN A = hN A then 0 else _))
      rw [if_pos rfl, if_pos rfl]
      rfl
    · obtain ⟨g1, g2, g3, g4⟩ := h1 a' c' e2
      refine ⟨g1, g2, Nat.lt_succ_of_lt g3, ?_⟩
      rw [hNew_ne e1, g4]
      refine congrArg some (congrArg (fun l => Sum.inr (c', l)) ?_)
      unfold flds
      refine List.map_congr_left (fun k _ => ?_)
      unfold fldV
      rw [hxr _ _ e1, hxi _ _ e1]
  · rcases hk2 a' c' hk with ⟨e1, e2⟩ | ⟨e1, e2⟩
    · subst e1
      have hx : (if hN A = hN A then none else xr V (100 * c' + k) (hN A) 0) = some x := hx
      rw [if_pos rfl] at hx
      cases hx
    · rw [hxr _ _ e1] at hx
      obtain ⟨g1, g2⟩ := h2 a' c' k x e2 ho hx hf
      refine ⟨Nat.lt_succ_of_lt g1, ?_⟩
      rw [hNew_ne g1, g2]
      unfold arE
      rw [hxi _ _ e1, hxr _ _ e1]
      rfl
  · rcases hk2 a1 c1 q1 with ⟨e1, e2⟩ | ⟨e1, e2⟩
    · subst e1
      have x1 : (if hN A = hN A then none else xr V (100 * c1 + k1) (hN A) 0) = some x := x1
      rw [if_pos rfl] at x1
      cases x1
    · rcases hk2 a2 c2 q2 with ⟨e3, e4⟩ | ⟨e3, e4⟩
      · subst e3
        have x2 : (if hN A = hN A then none else xr V (100 * c2 + k2) (hN A) 0) = some x := x2
        rw [if_pos rfl] at x2
        cases x2
      · rw [hxr _ _ e1] at x1
        rw [hxr _ _ e3] at x2
        exact h3 a1 c1 k1 a2 c2 k2 x e2 e4 o1 o2 x1 x2 hf
  · obtain ⟨g1, g2, g3⟩ := h4 q e hq
    refine ⟨Nat.lt_succ_of_lt g1, ?_, ?_⟩
    · rw [hNew_ne g1, g2]
    · show (if q = hN A then c + 1 else V.1 q) = 0
      rw [if_neg (Nat.ne_of_lt g1)]
      exact g3
/-- a cell of an array is put apart, as the next one -/
theorem St.na' (h : St (nC + 1) nS A V) {n m : Nat} (e : va_E) (hn : n + m ≤ nS) : St nC n (hNew A m e) (vF V (hN A) (some e)) := by
  have h0 := h.new0
  obtain ⟨⟨b1, b2, b3⟩, h1, h2, h3, h4⟩ := h
  have hfr : ∀ q, q < hN A → fr (vF V (hN A) (some e)) q = fr V q := fun q hq => if_neg (Nat.ne_of_lt hq)
  have hcl : ∀ x, fr (vF V (hN A) (some e)) x = none → fr V x = none := by
    intro x hx
    have hx : (if x = hN A then some e else fr V x) = none := hx
    by_cases ee : x = hN A
    · rw [if_pos ee] at hx; cases hx
    · rw [if_neg ee] at hx; exact hx
  refine ⟨⟨by show nC ≤ hC A - 1; omega, by show n ≤ hS A - m; omega, b3⟩, fun a' c' hk => ?_, fun a' c' k x hk ho hx hf => ?_, fun a1 c1 k1 a2 c2 k2 x q1 q2 o1 o2 x1 x2 hf => h3 a1 c1 k1 a2 c2 k2 x q1 q2 o1 o2 x1 x2 (hcl x hf), fun q e' hq => ?_⟩
  · obtain ⟨g1, g2, g3, g4⟩ := h1 a' c' hk
    exact ⟨g1, g2, Nat.lt_succ_of_lt g3, by rw [hNew_ne g3, g4]; rfl⟩
  · obtain ⟨g1, g2⟩ := h2 a' c' k x hk ho hx (hcl x hf)
    exact ⟨Nat.lt_succ_of_lt g1, by rw [hNew_ne g1, g2]; rfl⟩
  · have hq : (if q = hN A then some e else fr V q) = some e' := hq
    by_cases ee : q = hN A
    · rw [if_pos ee] at hq
      refine ⟨by rw [ee]; exact Nat.lt_succ_self _, ?_, by rw [ee]; exact h0⟩
      rw [ee, hNew_at, hq]
    · rw [if_neg ee] at hq
      obtain ⟨g1, g2, g3⟩ := h4 q e' hq
      exact ⟨Nat.lt_succ_of_lt g1, by rw [hNew_ne g1, g2], g3⟩
theorem nA_ok {A : AH} {t w m : Nat} {f : (Nat → Int32) ⊕ (Nat → Int64) ⊕ (Nat → UInt32) ⊕ (Nat → UInt64) ⊕ (Nat → Option Nat)} (h1 : m * w ≤ 536870912) (hb : m < 2 ^ 31) (hC1 : 1 ≤ hC A) (hS1 : m ≤ hS A) : nA A t w (nI m) f = some (hNew A m (.inl (t, m, f))) := by
  unfold nA
  rw [nI_clamp hb, if_pos ⟨fun z => nI_pos hb z, h1, hC1, hS1⟩]
theorem St.nai (h : St (nC + 1) nS A V) {n : Nat} (m : Nat) (hm : m ≤ 100000) (hn : n + m ≤ nS) : ∃ A', nAI A (nI m) = some A' ∧ hN A' = hN A + 1 ∧ St nC n A' (vF V (hN A) (some (.inl (0, m, .inl fun _ => 0)))) :=
  ⟨_, nA_ok (by omega) (by omega) (by have := h.1.1; omega) (by have := h.1.2.1; omega), rfl, h.na' _ hn⟩
theorem St.naz (h : St (nC + 1) nS A V) {n : Nat} (m : Nat) (hm : m ≤ 100000) (hn : n + m ≤ nS) : ∃ A', nAZ A (nI m) = some A' ∧ hN A' = hN A + 1 ∧ St nC n A' (vF V (hN A) (some (.inl (1, m, .inl fun _ => 0)))) :=
  ⟨_, nA_ok (by omega) (by omega) (by have := h.1.1; omega) (by have := h.1.2.1; omega), rfl, h.na' _ hn⟩
theorem St.nal (h : St (nC + 1) nS A V) {n : Nat} (m : Nat) (hm : m ≤ 100000) (hn : n + m ≤ nS) : ∃ A', nAL A (nI m) = some A' ∧ hN A' = hN A + 1 ∧ St nC n A' (vF V (hN A) (some (.inl (2, m, .inr (.inl fun _ => 0))))) :=
  ⟨_, nA_ok (by omega) (by omega) (by have := h.1.1; omega) (by have := h.1.2.1; omega), rfl, h.na' _ hn⟩
theorem St.nar (h : St (nC + 1) nS A V) {n : Nat} (t m : Nat) (hm : m ≤ 100000) (hn : n + m ≤ nS) : ∃ A', nAR A t (nI m) = some A' ∧ hN A' = hN A + 1 ∧ St nC n A' (vF V (hN A) (some (.inl (t, m, .inr (.inr (.inr (.inr fun _ => none))))))) :=
  ⟨_, nA_ok (by omega) (by omega) (by have := h.1.1; omega) (by have := h.1.2.1; omega), rfl, h.na' _ hn⟩
/-- a loose array comes to be owned -/
theorem St.ab' (h : St nC nS A V) {V' : CW} {a c k x : Nat} (ha : kdV V a = c + 1) (hk : k < nfl c) (hr : isR c k = true) (ho : own c k ≠ 0) (hl : lse V x) (e1 : V'.1 = V.1) (hf : fr V' = fun q => if q = x then none else fr V q) (hs : sa V' = sa V) (hx : fr V x = some (arE V' (own c k) (100 * c + k) a))
    (hfl : ∀ a' c' k', k' < 50 → fldV V' c' a' k' = if a' = a ∧ c' = c ∧ k' = k then va_rf (some x) else fldV V c' a' k')
    (hxr : ∀ a' c' k', own c' k' ≠ 0 → xr V' (100 * c' + k') a' 0 = if a' = a ∧ c' = c ∧ k' = k then some x else xr V (100 * c' + k') a' 0)
    (har : ∀ a' c' k', own c' k' ≠ 0 → ¬ (a' = a ∧ c' = c ∧ k' = k) → arE V' (own c' k') (100 * c' + k') a' = arE V (own c' k') (100 * c' + k') a') : ∃ A', pR A (some a) c k (some x) = some A' ∧ hN A' = hN A ∧ St nC nS A' V' := by
  have hset : (flds V c a).set k (va_rf (some x)) = flds V' c a := by
    refine flds_set hk (fun k' hk' => ?_)
    rw [hfl a c k' (by have := nfl_lt c; omega)]
    by_cases e : k' = k
    · rw [if_pos ⟨rfl, rfl, e⟩, if_pos e]
    · rw [if_neg (fun z => e z.2.2), if_neg e]
  have hob := h.ob ha
  obtain ⟨⟨b1, b2, b3⟩, h1, h2, h3, h4⟩ := h
  have hax := (h1 a c ha).2.2.2
  obtain ⟨x1, x2, x3⟩ := h4 x _ hx
  have hxa : x ≠ a := fun e => by rw [e, ha] at x3; omega
  have hnew : ∀ a' c' k', kdV V a' = c' + 1 → own c' k' ≠ 0 → ∀ y, xr V' (100 * c' + k') a' 0 = some y → (a' = a ∧ c' = c ∧ k' = k ∧ y = x) ∨ (¬ (a' = a ∧ c' = c ∧ k' = k) ∧ xr V (100 * c' + k') a' 0 = some y ∧ y ≠ x) := by
    intro a' c' k' hk' ho' y hy
    rw [hxr a' c' k' ho'] at hy
    by_cases e : a' = a ∧ c' = c ∧ k' = k
    · rw [if_pos e] at hy
      exact Or.inl ⟨e.1, e.2.1, e.2.2, (Option.some.inj hy).symm⟩
    · rw [if_neg e] at hy
      exact Or.inr ⟨e, hy, fun z => hl a' c' k' hk' ho' (by rw [hy, z])⟩
  have hfrn : ∀ y, y ≠ x → fr V' y = fr V y := fun y hy => by rw [hf]; exact if_neg hy
  refine ⟨hSet A a (.inr (c, flds V' c a)), ?_, rfl, ⟨⟨b1, b2, b3.trans hs.symm⟩, fun a' c' hk' => ?_, fun a' c' k' y hk' ho' hy hfy => ?_, fun a1 c1 k1 a2 c2 k2 y q1 q2 o1 o2 y1 y2 hfy => ?_, fun q e hq => ?_⟩⟩
  · unfold pR pV
    rw [hob]
    simp only [Option.bind_some, flds_len, hk, if_true, Option.getD_some, hset]
  · rw [kdV, e1] at hk'
    obtain ⟨g1, g2, g3, g4⟩ := h1 a' c' hk'
    refine ⟨g1, g2, g3, ?_⟩
    by_cases e : a' = a
    · subst e
      have : c' = c := by have := hk'.symm.trans ha; omega
      subst this
      exact hSet_at
    · rw [hSet_ne e, g4]
      refine congrArg some (congrArg (fun l => Sum.inr (c', l)) ?_)
      unfold flds
      refine List.map_congr_left (fun k' hk' => ?_)
      rw [hfl a' c' k' (by have := nfl_lt c'; have := List.mem_range.mp hk'; omega), if_neg (fun z => e z.1)]
  · rw [kdV, e1] at hk'
    rcases hnew a' c' k' hk' ho' y hy with ⟨rfl, rfl, rfl, rfl⟩ | ⟨hne, hy2, hyx⟩
    · exact ⟨x1, by rw [hSet_ne hxa, x2]⟩
    · rw [hfrn y hyx] at hfy
      obtain ⟨g1, g2⟩ := h2 a' c' k' y hk' ho' hy2 hfy
      refine ⟨g1, ?_⟩
      rw [har a' c' k' ho' hne, hSet_ne, g2]
      intro e
      rw [e, hax] at g2
      exact arE_ne_obj _ _ _ _ _ _ g2.symm
  · rw [kdV, e1] at q1 q2
    rcases hnew a1 c1 k1 q1 o1 y y1 with ⟨r1, r2, r3, r4⟩ | ⟨r1, r2, r3⟩
    · rcases hnew a2 c2 k2 q2 o2 y y2 with ⟨s1, s2, s3, s4⟩ | ⟨s1, s2, s3⟩
      · exact ⟨r1.trans s1.symm, r3.trans s3.symm⟩
      · exact absurd r4 s3
    · rcases hnew a2 c2 k2 q2 o2 y y2 with ⟨s1, s2, s3, s4⟩ | ⟨s1, s2, s3⟩
      · exact absurd s4 r3
      · rw [hfrn y r3] at hfy
        exact h3 a1 c1 k1 a2 c2 k2 y q1 q2 o1 o2 r2 s2 hfy
  · rw [hf] at hq
    have hq : (if q = x then none else fr V q) = some e := hq
    by_cases ee : q = x
    · rw [if_pos ee] at hq; cases hq
    · rw [if_neg ee] at hq
      obtain ⟨g1, g2, g3⟩ := h4 q e hq
      refine ⟨g1, ?_, by rw [kdV, e1]; exact g3⟩
      rw [hSet_ne, g2]
      intro z
      rw [z] at g3
      have g3 : kdV V a = 0 := g3
      omega
end C3
