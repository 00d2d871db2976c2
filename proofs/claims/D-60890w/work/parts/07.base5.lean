/-! BASE 5: rows of the heap -/
theorem obj?_spec {A : AH} {x : Option Nat} {ci : Nat} {fs : List Value} (h : obj? A x ci = some fs) : ∃ a, x = some a ∧ hM A a = some (.inr (ci, fs)) := by
  cases x with
  | none => cases h
  | some a =>
    refine ⟨a, rfl, ?_⟩
    simp only [obj?] at h
    split at h
    · rename_i o ho
      split at h
      · rename_i hc
        obtain ⟨o1, o2⟩ := o
        cases h
        cases hc
        exact ho
      · cases h
    · cases h
theorem gI_spec {A : AH} {x : Option Nat} {ci k : Nat} {v : Int32} (h : gI A x ci k = some v) : ∃ a fs, x = some a ∧ hM A a = some (.inr (ci, fs)) ∧ fs[k]? = some (.int v) := by
  unfold gI at h
  cases ho : obj? A x ci with
  | none => rw [ho] at h; cases h
  | some fs =>
    rw [ho] at h
    obtain ⟨a, e1, e2⟩ := obj?_spec ho
    refine ⟨a, fs, e1, e2, ?_⟩
    have h' : vI fs[k]? = some v := h
    unfold vI at h'
    split at h'
    · rename_i w hw; cases h'; exact hw
    · cases h'
theorem gR_spec {A : AH} {x : Option Nat} {ci k : Nat} {v : Option Nat} (h : gR A x ci k = some v) : ∃ a fs, x = some a ∧ hM A a = some (.inr (ci, fs)) ∧ fs[k]? = some (va_rf v) := by
  unfold gR at h
  cases ho : obj? A x ci with
  | none => rw [ho] at h; cases h
  | some fs =>
    rw [ho] at h
    obtain ⟨a, e1, e2⟩ := obj?_spec ho
    refine ⟨a, fs, e1, e2, ?_⟩
    have h' : vR fs[k]? = some v := h
    unfold vR at h'
    split at h'
    · rename_i hw; cases h'; exact hw
    · rename_i w hw; cases h'; exact hw
    · cases h'
theorem pV_spec {A A1 : AH} {x : Option Nat} {ci k : Nat} {v : Value} (h : pV A x ci k v = some A1) : ∃ a fs, x = some a ∧ hM A a = some (.inr (ci, fs)) ∧ k < fs.length ∧ A1 = hSet A a (.inr (ci, fs.set k v)) := by
  unfold pV at h
  cases ho : obj? A x ci with
  | none => rw [ho] at h; cases h
  | some fs =>
    rw [ho] at h
    obtain ⟨a, e1, e2⟩ := obj?_spec ho
    have h' : (if k < fs.length then some (hSet A (x.getD 0) (.inr (ci, fs.set k v))) else none) = some A1 := h
    split at h'
    · rename_i hk
      cases h'
      subst e1
      exact ⟨a, fs, rfl, e2, hk, rfl⟩
    · cases h'
/-- at a pool entry of the text 'own' stands the field number k of the objects ci: its type, is it final -/
def FL (own : String) (idx ci k : Nat) (ty : FieldType) (fin : Bool) : Prop := ∃ (C : String) (T : u_T) (N : Nat) (ty0 : Nat → FieldType) (ref host : String), wcl[ci]? = some (C, T, N) ∧ k < N ∧ (∀ w ∈ u_ws C T N, w ∈ lw_all) ∧ (∀ j, j < N → parseFieldDescriptor (T j).2.2.1 = some (ty0 j)) ∧ (∀ a, a < N → ∀ b, b < N → a ≠ b → (T a).2.1 ≠ (T b).2.1) ∧
  (Cond.fieldLink own idx ref (T k).2.1 (T k).2.2.1 ∈ lw_all ∨ Cond.fieldLinkNest own idx ref (T k).2.1 (T k).2.2.1 host ∈ lw_tbl) ∧ (ref = (T k).1 ∨ Cond.sameField ref (T k).1 (T k).2.1 (T k).2.2.1 ∈ lw_all) ∧ ty0 k = ty ∧ (T k).2.2.2 = fin ∧ (fin = true → (T k).1 = own ∧ Cond.fieldLink own idx ref (T k).2.1 (T k).2.2.1 ∈ lw_all)
/-- the same, for reading alone -/
def FLr (own : String) (idx ci k : Nat) : Prop := ∃ (C : String) (T : u_T) (N : Nat) (ref host : String), wcl[ci]? = some (C, T, N) ∧ k < N ∧ (∀ w ∈ u_ws C T N, w ∈ lw_all) ∧
  (Cond.fieldLink own idx ref (T k).2.1 (T k).2.2.1 ∈ lw_all ∨ Cond.fieldLinkNest own idx ref (T k).2.1 (T k).2.2.1 host ∈ lw_tbl) ∧ (ref = (T k).1 ∨ Cond.sameField ref (T k).1 (T k).2.1 (T k).2.2.1 ∈ lw_all)
section RH
variable {α : Type} {D : DE} {ω : α → Option TV × AH} {cc : ByteArray} {own : String} {nL fr lo : Nat} {ret : Option FieldType}
  {p : Program} {l : Launch} {e : Env} {R : Room} {s : State} {m : MethodId} {args : Array Value} {below : List Frame} {meth : Method} {c : Code}
  {t : Option α} {pc : Nat} {ls ls' : List (Option TV)} {rest : List TV} {A : AH} {H : Heap} {locs : List Loc} {cells slots : Nat} {Q : State → Prop}
theorem w_get (X : Cx D cc own nL fr lo ret p R s m args meth c) (hA : AbsH D A H) {idx ci k : Nat} (F : FLr own idx ci k) {a : Nat} {fs : List Value} {v : Value} (ha : hM A a = some (.inr (ci, fs))) (hv : fs[k]? = some v) {la : Array Slot} {r : List Value} (d : decode cc pc = .ok (.getfield idx, 3))
    (kk : W p l e R s m args below meth c H locs cells slots Q (F0 m (pc + 3) la (v :: r))) : W p l e R s m args below meth c H locs cells slots Q (F0 m pc la (.ref a :: r)) := by
  obtain ⟨C, T, N, ref, host, hc, hk, hin, hl, hsame⟩ := F
  obtain ⟨hx, hb, -, hown, hts, hK, -⟩ := X
  have hP : va_P (dG D) wcl [(a, .inr (ci, fs))] H := by
    intro j q hq
    have hj : j < 1 := (List.getElem?_eq_some_iff.mp hq).1
    rw [show j = 0 by omega] at hq
    cases hq
    exact (hA.2.2.2.2.2.2 a _ ha).1
  have hsm : ∀ x, s.fieldFound? (T k).1 (T k).2.1 (T k).2.2.1 = some x → s.fieldFound? ref (T k).2.1 (T k).2.2.1 = some x := by
    intro x hx
    rcases hsame with h | h
    · rw [h]; exact hx
    · exact u_same (hts _ h) x hx
  rcases hl with hl | hl
  · exact va_get hx hb hts hin hown hK.1 hP 0 rfl hc k hk (hts _ hl) hsm hv d kk
  · exact va_getN hx hb hts hin hown hK.1 hP 0 rfl hc k hk (va_Nw.use rfl (hK.2.1 _ hl rfl)) hsm hv d kk
theorem rf_getI (X : Cx D cc own nL fr lo ret p R s m args meth c) {idx ci k : Nat} (F : FLr own idx ci k) {x : Option Nat} {v : Int32} (hg : gI A x ci k = some v) (d : decode cc pc = .ok (.getfield idx, 3))
    (k1 : Rf D ω nL p l e R s m args below meth c t (pc + 3) ls (tI v :: rest) A) : Rf D ω nL p l e R s m args below meth c t pc ls (tR x :: rest) A := by
  intro r h H locs la cells slots hA hl
  obtain ⟨a, fs, rfl, ha, hv⟩ := gI_spec hg
  exact w_get X hA F ha hv d (k1 r h H locs la cells slots hA hl)
theorem rf_getR (X : Cx D cc own nL fr lo ret p R s m args meth c) {idx ci k : Nat} (F : FLr own idx ci k) {x v : Option Nat} (hg : gR A x ci k = some v) (d : decode cc pc = .ok (.getfield idx, 3))
    (k1 : Rf D ω nL p l e R s m args below meth c t (pc + 3) ls (tR v :: rest) A) : Rf D ω nL p l e R s m args below meth c t pc ls (tR x :: rest) A := by
  intro r h H locs la cells slots hA hl
  obtain ⟨a, fs, rfl, ha, hv⟩ := gR_spec hg
  exact w_get X hA F ha hv d (k1 r h H locs la cells slots hA hl)
theorem w_put (X : Cx D cc own nL fr lo ret p R s m args meth c) (hA : AbsH D A H) {idx ci k : Nat} {ty : FieldType} {fin : Bool} (F : FL own idx ci k ty fin) (hfn : fin = true → meth.name = "<init>") {a : Nat} {fs : List Value} {v : Value} (ha : hM A a = some (.inr (ci, fs))) (hkl : k < fs.length) (hn : narrow ty v = v) (hfit : fits ty v = true) {la : Array Slot} {r : List Value} (d : decode cc pc = .ok (.putfield idx, 3))
    (kk : ∀ (H1 : Heap) (locs1 : List Loc), AbsH D (hSet A a (.inr (ci, fs.set k v))) H1 → W p l e R s m args below meth c H1 locs1 cells slots Q (F0 m (pc + 3) la r)) : W p l e R s m args below meth c H locs cells slots Q (F0 m pc la (v :: .ref a :: r)) := by
  obtain ⟨C, T, N, ty0, ref, host, hc, hk, hin, hty, hnm, hl, hsame, hte, hfe, hfo⟩ := F
  obtain ⟨hx, hb, -, hown, hts, hK, -⟩ := X
  have hap := va_apart (own := own) hts hin ty0 hty hnm hK.1 hc
  obtain ⟨r0, h1, cell, q1, q2, q3, q4⟩ := (hA.2.2.2.2.2.2 a _ ha).1
  have hr : r0 = (C, T, N) := Option.some.inj (h1.symm.trans hc)
  subst hr
  obtain ⟨hS, hfc, kC, hkC, hkind⟩ := hK.1.1 ci _ hc
  obtain ⟨cf, kf, fi, f, hi, hsl⟩ := hS k hk
  have hd : parseFieldDescriptor (T k).2.2.1 = some ty := by rw [hty k hk, hte]
  have hsm : s.fieldFound? ref (T k).2.1 (T k).2.2.1 = some (cf, kf, fi, f) := by
    rcases hsame with h | h
    · rw [h]; exact hi
    · exact u_same (hts _ h) _ hi
  have hst := (u_facts hfc hkC (u_lays hts hin hk) hi).1
  have hlay := hts _ (hin _ (u_in_lay hk))
  unfold u_lay at hlay
  have fin' : ∀ (H' : Heap) (locs1 : List Loc), H'[a]? = some (cell.setSlot f.slot v) → H'.size = H.size → (∀ q, q ≠ a → H'[q]? = H[q]?) → W p l e R s m args below meth c H' locs1 cells slots Q (F0 m (pc + 3) la r) := by
    intro H' locs1 e1 e2 e3
    refine kk H' locs1 (hA.set ha (fun z => z) e2 e3 ?_ ?_)
    · rw [e1, q1]
      simp [Cell.setSlot]
    · rw [hsl] at e1
      exact ⟨_, hc, t_OB.to (V := updV (vp_V fs) k v) ⟨_, e1, q2, q3, t_set q4 hap hk v⟩ (fun j _ => vp_updV_set hkl v j)⟩
  cases fin with
  | false =>
    rw [if_neg (by rw [hfe]; decide)] at hlay
    have h6 := u_store hfc hkC hkind hlay hi hd hn hfit
    rcases hl with hl | hl
    · exact W.putK hx hb (f := f) ⟨hown, hts _ hl, ⟨_, _, _, hsm⟩, hst⟩ (by rw [q2]; exact h6) q1 q3 (by rw [hsl]; exact k2_hasslot (q4 k hk)) rfl rfl d fun H' e1 e2 e3 => fin' H' _ e1 e2 e3
    · exact va_WputK hx hb (f := f) hown (va_Nw.use rfl (hK.2.1 _ hl rfl)) hsm hst (by rw [q2]; exact h6) q1 q3 (by rw [hsl]; exact k2_hasslot (q4 k hk)) rfl rfl d fun H' e1 e2 e3 => fin' H' _ e1 e2 e3
  | true =>
    rw [if_pos hfe] at hlay
    have hcf : m.cls = cf := by
      obtain ⟨_, _, c', _, _, _, -, -, hf', -, -, -, hown2, -⟩ := Cond.laysFinal_spec hlay
      have e1 : c' = cf := by have := hi.symm.trans hf'; simp at this; exact this.1.symm
      rw [(hfo rfl).1] at hown2
      rw [← e1]; exact Option.some.inj (hown.symm.trans hown2)
    have h6 := u_fits hfc hkC hkind (Or.inr hlay) hi hd hn hfit
    exact W.putFinK hx hb hown (hts _ (hfo rfl).2) hsm hst hcf (hfn rfl) (by rw [q2]; exact h6) q1 q3 (by rw [hsl]; exact k2_hasslot (q4 k hk)) rfl rfl d fun H' e1 e2 e3 => fin' H' _ e1 e2 e3
theorem rf_putI (X : Cx D cc own nL fr lo ret p R s m args meth c) {idx ci k : Nat} {fin : Bool} (F : FL own idx ci k .int fin) (hfn : fin = true → meth.name = "<init>") {x : Option Nat} {v : Int32} {A1 : AH} (hp : pI A x ci k v = some A1) (d : decode cc pc = .ok (.putfield idx, 3))
    (k1 : Rf D ω nL p l e R s m args below meth c t (pc + 3) ls rest A1) : Rf D ω nL p l e R s m args below meth c t pc ls (tI v :: tR x :: rest) A := by
  intro r h H locs la cells slots hA hl
  obtain ⟨a, fs, rfl, ha, hkl, rfl⟩ := pV_spec hp
  exact w_put X hA F hfn ha hkl rfl rfl d (fun H1 locs1 hA1 => k1 r h H1 locs1 la cells slots hA1 hl)
theorem rf_putZ (X : Cx D cc own nL fr lo ret p R s m args meth c) {idx ci k : Nat} {fin : Bool} (F : FL own idx ci k .boolean fin) (hfn : fin = true → meth.name = "<init>") {x : Option Nat} {v : Int32} {A1 : AH} (hz : v = 0 ∨ v = 1) (hp : pI A x ci k v = some A1) (d : decode cc pc = .ok (.putfield idx, 3))
    (k1 : Rf D ω nL p l e R s m args below meth c t (pc + 3) ls rest A1) : Rf D ω nL p l e R s m args below meth c t pc ls (tI v :: tR x :: rest) A := by
  intro r h H locs la cells slots hA hl
  obtain ⟨a, fs, rfl, ha, hkl, rfl⟩ := pV_spec hp
  exact w_put X hA F hfn ha hkl (by rcases hz with rfl | rfl <;> rfl) (by rcases hz with rfl | rfl <;> rfl) d (fun H1 locs1 hA1 => k1 r h H1 locs1 la cells slots hA1 hl)
theorem rf_putR (X : Cx D cc own nL fr lo ret p R s m args meth c) {idx ci k : Nat} {ty : FieldType} {fin : Bool} (F : FL own idx ci k ty fin) (hfn : fin = true → meth.name = "<init>") (hty : ty.isReference = true) {x v : Option Nat} {A1 : AH} (hp : pR A x ci k v = some A1) (d : decode cc pc = .ok (.putfield idx, 3))
    (k1 : Rf D ω nL p l e R s m args below meth c t (pc + 3) ls rest A1) : Rf D ω nL p l e R s m args below meth c t pc ls (tR v :: tR x :: rest) A := by
  intro r h H locs la cells slots hA hl
  obtain ⟨a, fs, rfl, ha, hkl, rfl⟩ := pV_spec hp
  have hn : narrow ty (va_rf v) = va_rf v := by
    cases ty <;> first | (cases v <;> rfl) | cases hty
  have hf : fits ty (va_rf v) = true := by
    cases ty <;> first | (cases v <;> rfl) | cases hty
  exact w_put X hA F hfn ha hkl hn hf d (fun H1 locs1 hA1 => k1 r h H1 locs1 la cells slots hA1 hl)
end RH
