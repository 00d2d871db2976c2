/-! C47: rows of who is where, and pools -/
def rm (r : Nat → Option Nat) (t : Nat) : Nat → Option Nat := fun q => if q = t then none else r q
def oS (o : Option Nat) : Bool := o.isSome
def sumA (f : Nat → Nat) (r : Nat → Option Nat) : Nat → Nat
  | 0 => 0
  | n + 1 => sumA f r n + (match r n with | some a => f a | none => 0)
def sumL (f : Nat → Nat) : List Nat → Nat
  | [] => 0
  | a :: l => f a + sumL f l
theorem sumL_app (f : Nat → Nat) : ∀ l l', sumL f (l ++ l') = sumL f l + sumL f l'
  | [], l' => by show sumL f l' = 0 + sumL f l'; omega
  | a :: l, l' => by
    show f a + sumL f (l ++ l') = f a + sumL f l + sumL f l'
    rw [sumL_app f l l']
    omega
theorem sumL_c {f g : Nat → Nat} : ∀ l, (∀ x, x ∈ l → f x = g x) → sumL f l = sumL g l
  | [], _ => rfl
  | a :: l, h => by
    show f a + sumL f l = g a + sumL g l
    rw [h a (List.mem_cons_self), sumL_c l (fun x hx => h x (List.mem_cons_of_mem _ hx))]
theorem sumA_c {f g : Nat → Nat} {r r' : Nat → Option Nat} : ∀ n, (∀ q, q < n → r' q = r q ∧ ∀ a, r q = some a → g a = f a) → sumA g r' n = sumA f r n
  | 0, _ => rfl
  | n + 1, h => by
    show sumA g r' n + _ = sumA f r n + _
    rw [sumA_c n (fun q hq => h q (by omega))]
    obtain ⟨h1, h2⟩ := h n (by omega)
    rw [h1]
    cases e : r n with
    | none => rfl
    | some a => show _ + g a = _ + f a; rw [h2 a e]
theorem sumA_rm {f : Nat → Nat} {r : Nat → Option Nat} {t x : Nat} (hx : r t = some x) : ∀ n, t < n → sumA f (rm r t) n + f x = sumA f r n
  | 0, h => by omega
  | n + 1, h => by
    by_cases e : t = n
    · subst e
      have e1 : sumA f (rm r t) t = sumA f r t := sumA_c t (fun q hq => ⟨if_neg (by omega), fun _ _ => rfl⟩)
      show sumA f (rm r t) t + (match rm r t t with | some a => f a | none => 0) + f x = sumA f r t + (match r t with | some a => f a | none => 0)
      rw [e1, show rm r t t = none from if_pos rfl, hx]
      simp only
      omega
    · have ih := sumA_rm (f := f) hx n (by omega)
      show sumA f (rm r t) n + (match rm r t n with | some a => f a | none => 0) + f x = sumA f r n + (match r n with | some a => f a | none => 0)
      rw [show rm r t n = r n from if_neg (fun z => e z.symm)]
      omega
theorem cnB_rm {r : Nat → Option Nat} {t x : Nat} (hx : r t = some x) : ∀ n, t < n → cnB (fun q => oS (rm r t q)) n + 1 = cnB (fun q => oS (r q)) n
  | 0, h => by omega
  | n + 1, h => by
    rw [cnB_s, cnB_s]
    by_cases e : t = n
    · subst e
      have e1 : cnB (fun q => oS (rm r t q)) t = cnB (fun q => oS (r q)) t := cnB_c t (fun q hq => by rw [show rm r t q = r q from if_neg (by omega)])
      rw [e1, show rm r t t = none from if_pos rfl, hx]
      rfl
    · have ih := cnB_rm hx n (by omega)
      rw [show rm r t n = r n from if_neg (fun z => e z.symm)]
      omega
/-- a row and its pool: no one twice -/
def RP (r : Nat → Option Nat) (l : List Nat) (n tot : Nat) : Prop := l.Nodup ∧ (∀ x, x ∈ l → ∀ q, r q ≠ some x) ∧ (∀ q q' x, r q = some x → r q' = some x → q = q') ∧ cnB (fun q => oS (r q)) n + l.length = tot
theorem RP.mv {r : Nat → Option Nat} {l : List Nat} {n tot t x : Nat} (h : RP r l n tot) (hx : r t = some x) (ht : t < n) : RP (rm r t) (l ++ [x]) n tot := by
  obtain ⟨h1, h2, h3, h4⟩ := h
  have hno : x ∉ l := fun z => h2 x z t hx
  refine ⟨?_, fun y hy q hq => ?_, fun q q' y hq hq' => ?_, ?_⟩
  · rw [List.nodup_append]
    refine ⟨h1, by simp, fun a ha b hb z => ?_⟩
    rw [List.mem_singleton] at hb
    subst hb z
    exact hno ha
  · have hq : (if q = t then none else r q) = some y := hq
    by_cases e : q = t
    · rw [if_pos e] at hq; cases hq
    · rw [if_neg e] at hq
      rcases List.mem_append.mp hy with z | z
      · exact h2 y z q hq
      · rw [List.mem_singleton] at z
        subst z
        exact e (h3 q t y hq hx)
  · have hq : (if q = t then none else r q) = some y := hq
    have hq' : (if q' = t then none else r q') = some y := hq'
    by_cases e : q = t
    · rw [if_pos e] at hq; cases hq
    · by_cases e' : q' = t
      · rw [if_pos e'] at hq'; cases hq'
      · rw [if_neg e] at hq
        rw [if_neg e'] at hq'
        exact h3 q q' y hq hq'
  · have := cnB_rm hx n ht
    rw [List.length_append]
    show _ + (l.length + 1) = tot
    omega
/-- what the pool's three lists may want yet -/
def rqP (V : CW) (E : EL) (P : PP) : Nat := (6200 - cpL V E 2 0 (P 2)) + (6200 - cpL V E 2 1 (P 2)) + (6200 - cpL V E 2 2 (P 2))
def setE (E : EL) (a : Nat) (l : List Nat) (cap : Nat) : EL := (E.1, fun z => if z = a then l else E.2.1 z, fun z => if z = a then cap else E.2.2 z)
section C47
variable {nC nS n : Nat} {A : AH} {V V' V'' : CW} {E E' : EL} {ad : AA} {M M' : MS} {P : PP}
/-- the pool's list of a kind -/
theorem PLs (hw : WT V E) (hg : GL V E) (hP : kdV V (P 2) = 3) {k : Nat} (hk : k < 3) : ∃ pl, xr V (200 + k) (P 2) 0 = some pl ∧ LI V pl (12 + k) (lt V E 2 k (P 2)) (cpL V E 2 k (P 2)) ∧ E.1 pl = 12 + k ∧ lt V E 2 k (P 2) = E.2.1 pl ∧ cpL V E 2 k (P 2) = E.2.2 pl ∧ PS V P pl := by
  have : k = 0 ∨ k = 1 ∨ k = 2 := by omega
  rcases this with e | e | e <;> subst e
  · obtain ⟨pl, h1, h2, h3, h4, h5⟩ := hw.li2 hg (c := 2) (k := 0) (e := 12) hP rfl
    exact ⟨pl, h1, h2, h3, h4, h5, h2.1, 0, by omega, h1⟩
  · obtain ⟨pl, h1, h2, h3, h4, h5⟩ := hw.li2 hg (c := 2) (k := 1) (e := 13) hP rfl
    exact ⟨pl, h1, h2, h3, h4, h5, h2.1, 1, by omega, h1⟩
  · obtain ⟨pl, h1, h2, h3, h4, h5⟩ := hw.li2 hg (c := 2) (k := 2) (e := 14) hP rfl
    exact ⟨pl, h1, h2, h3, h4, h5, h2.1, 2, by omega, h1⟩
/-- one is put into the pool -/
theorem pool_add {nC1 nS1 : Nat} (hS : 10000 ≤ nS1) (hC : 1 ≤ nC1) (h : St (nC1 + rqP V E P) (nS1 + 4 * rqP V E P) A V) (hw : WT V E) (hg : GL V E) (hP : kdV V (P 2) = 3) {k v : Nat} (hk : k < 3) (hv : kdV V v = 12 + k + 1) (hlen : (lt V E 2 k (P 2)).length ≤ 4095) (hcap : ∀ j, j < 3 → cpL V E 2 j (P 2) ≤ 6200) :
    ∃ pl, xr V (200 + k) (P 2) 0 = some pl ∧ Res (fJ2_add pl (some v) A) (fun r => ∃ V' E', St (nC1 + rqP V' E' P) (nS1 + 4 * rqP V' E' P) r.2 V' ∧ QF (PS V P) V V' ∧ WT V' E' ∧ GL V' E' ∧ E'.1 = E.1 ∧ (∀ a, ¬ PS V P a → E'.2.1 a = E.2.1 a ∧ E'.2.2 a = E.2.2 a) ∧ (∀ j, j < 3 → xr V' (200 + j) (P 2) 0 = xr V (200 + j) (P 2) 0) ∧ (∀ j, j < 3 → lt V' E' 2 j (P 2) = if j = k then lt V E 2 j (P 2) ++ [v] else lt V E 2 j (P 2)) ∧ (∀ j, j < 3 → cpL V' E' 2 j (P 2) ≤ 6200) ∧ ∀ a, ¬ PS V P a → xr V' 850 a = xr V 850 a) := by
  obtain ⟨pl, x1, li, ek, el, ec, hps⟩ := PLs hw hg hP hk
  refine ⟨pl, x1, ?_⟩
  have hcp := hcap k hk
  have hrq : 6200 - cpL V E 2 k (P 2) ≤ rqP V E P := by
    unfold rqP
    have : k = 0 ∨ k = 1 ∨ k = 2 := by omega
    rcases this with e | e | e <;> subst e <;> omega
  have hnc : ncap (cpL V E 2 k (P 2)) ≤ 9310 := by
    unfold ncap
    split
    · omega
    · split <;> omega
  obtain ⟨nC2, hC2⟩ : ∃ q, nC1 + rqP V E P = q + 1 := ⟨nC1 + rqP V E P - 1, by omega⟩
  obtain ⟨nS2, hS2⟩ : ∃ q, nS1 + 4 * rqP V E P = q + ncap (cpL V E 2 k (P 2)) := ⟨nS1 + 4 * rqP V E P - ncap (cpL V E 2 k (P 2)), by omega⟩
  rw [hC2, hS2] at h
  refine Res.m (L_add nC2 nS2 h li (fun z => by have := (ncap_b (cap := cpL V E 2 k (P 2)) (by omega)).2.1; omega) hv) ?_
  rintro ⟨r1, A'⟩ ⟨_, V', s', f', li'⟩
  generalize ecap' : (if (lt V E 2 k (P 2)).length = cpL V E 2 k (P 2) then ncap (cpL V E 2 k (P 2)) else cpL V E 2 k (P 2)) = cap' at *
  have qf : QF (PS V P) V V' := QF.lf f' hps
  have hne : P 2 ≠ pl := fun z => by rw [z, li.1] at hP; cases hP
  have xs : ∀ j, xr V' (200 + j) (P 2) 0 = xr V (200 + j) (P 2) 0 := fun j => by rw [f'.xr' hne]
  have hoth : ∀ j, j < 3 → j ≠ k → ∀ pl', xr V (200 + j) (P 2) 0 = some pl' → pl' ≠ pl := by
    intro j hj hjk pl' hpl' z
    subst z
    have lj : lof 2 j ≠ 0 := by
      have : j = 0 ∨ j = 1 ∨ j = 2 := by omega
      rcases this with e | e | e <;> subst e <;> decide
    have lk : lof 2 k ≠ 0 := by
      have : k = 0 ∨ k = 1 ∨ k = 2 := by omega
      rcases this with e | e | e <;> subst e <;> decide
    exact hjk (hw.2.2 (P 2) 2 j (P 2) 2 k pl' hP hP lj lk hpl' x1).2.2
  have hlt : ∀ j, j < 3 → lt V' (setE E pl (lt V E 2 k (P 2) ++ [v]) cap') 2 j (P 2) = (if j = k then lt V E 2 j (P 2) ++ [v] else lt V E 2 j (P 2)) ∧ cpL V' (setE E pl (lt V E 2 k (P 2) ++ [v]) cap') 2 j (P 2) = if j = k then cap' else cpL V E 2 j (P 2) := by
    intro j hj
    obtain ⟨pl', y1, _, _, y4, y5, _⟩ := PLs hw hg hP hj
    have e : xr V' (100 * 2 + j) (P 2) 0 = some pl' := (xs j).trans y1
    unfold lt cpL setE
    rw [e]
    by_cases c : j = k
    · subst c
      have : pl' = pl := Option.some.inj (y1.symm.trans x1)
      subst this
      rw [if_pos rfl, if_pos rfl]
      refine ⟨?_, if_pos rfl⟩
      refine Eq.trans (if_pos rfl) ?_
      rfl
    · have hn := hoth j hj c pl' y1
      rw [if_neg c, if_neg c]
      refine ⟨Eq.trans (if_neg hn) ?_, Eq.trans (if_neg hn) ?_⟩
      · have : xr V (100 * 2 + j) (P 2) 0 = some pl' := y1
        rw [this]
      · have : xr V (100 * 2 + j) (P 2) 0 = some pl' := y1
        rw [this]
  have hcap' : cap' ≤ 6200 := by
    rw [← ecap']
    split
    · have := (ncap_b (cap := cpL V E 2 k (P 2)) (by omega)).2.1
      omega
    · exact hcp
  refine ⟨V', setE E pl (lt V E 2 k (P 2) ++ [v]) cap', ?_, qf, hw.qf qf (fun _ z => z.1) rfl, ?_, rfl, fun a ha => ?_, fun j _ => xs j, fun j hj => (hlt j hj).1, fun j hj => ?_, fun a ha => f'.xr' (fun z => ha (by rw [z]; exact hps)) 850⟩
  · -- budget
    have hc0 := (hlt 0 (by omega)).2
    have hc1 := (hlt 1 (by omega)).2
    have hc2 := (hlt 2 (by omega)).2
    have e1 : rqP V' (setE E pl (lt V E 2 k (P 2) ++ [v]) cap') P + (6200 - cpL V E 2 k (P 2)) = rqP V E P + (6200 - cap') := by
      unfold rqP
      rw [hc0, hc1, hc2]
      have : k = 0 ∨ k = 1 ∨ k = 2 := by omega
      rcases this with e | e | e <;> subst e <;> simp <;> omega
    by_cases c : (lt V E 2 k (P 2)).length = cpL V E 2 k (P 2)
    · rw [if_pos c] at ecap' s'
      obtain ⟨n1, n2, n3⟩ := ncap_b (cap := cpL V E 2 k (P 2)) (by omega)
      refine s'.mono ?_ ?_ <;> omega
    · rw [if_neg c] at ecap' s'
      refine s'.mono ?_ ?_ <;> omega
  · intro a ha
    have ha0 : kdV V a = 1 := by rw [kdV, ← f'.1]; exact ha
    by_cases c : a = pl
    · subst c
      show LI V' a (E.1 a) (if a = a then _ else _) (if a = a then _ else _)
      rw [if_pos rfl, if_pos rfl, ek]
      exact li'
    · show LI V' a (E.1 a) (if a = pl then _ else _) (if a = pl then _ else _)
      rw [if_neg c, if_neg c]
      exact (hg a ha0).vf (S := fun z => z = pl) (f'.vf rfl) c
  · have hn : a ≠ pl := fun z => ha (by rw [z]; exact hps)
    exact ⟨if_neg hn, if_neg hn⟩
  · rw [(hlt j hj).2]
    split
    · exact hcap'
    · exact hcap j hj
end C47
