/-! BASE 3: the abstract heap against the machine's; the judgement -/
abbrev DE : Type := va_G × (Nat → ClassId) × Heap × Nat × Nat × (Nat → Nat)
abbrev dG (D : DE) : va_G := D.1
abbrev dA (D : DE) : Nat → ClassId := D.2.1
abbrev dH (D : DE) : Heap := D.2.2.1
abbrev dN (D : DE) : Nat := D.2.2.2.1
abbrev dU (D : DE) : Nat := D.2.2.2.2.1
abbrev dS (D : DE) : Nat → Nat := D.2.2.2.2.2
def wcl : List vw_C := [(RJ2, TJ2, 3), (RX1, TX1, 6), (RX2, TX2, 3), (RX3, TX3, 3), (RX4, TX4, 8), (RX5, TX5, 7), (RJ17, TJ17, 3), (RX7, TX7, 26), (RX8, TX8, 5), (RX9, TX9, 3), (RX10, TX10, 2), (RX11, TX11, 60), (RX12, TX12, 3), (RX13, TX13, 6), (RX14, TX14, 6), (RX15, TX15, 9), (RJ6, TJ6, 6), (RJ19, TJ19, 6), (RJ20, TJ20, 6)]
def arC (f : Nat → ClassId) (t : Nat) : ClassId := if t = 5 then f 0 else if t = 6 then f 3 else f t
def toE (D : DE) : va_E → va_E
  | .inl o => .inl (arC (dA D) o.1, o.2)
  | .inr o => .inr o
def roE : va_E → Prop
  | .inl o => 5 ≤ o.1
  | .inr _ => False
def AbsH (D : DE) (A : AH) (H : Heap) : Prop :=
  H.size = hN A ∧ hN A + hC A = dN D ∧ hU H + hS A = dU D ∧ hA A = dS D ∧ (dH D).size ≤ hN A ∧ (∀ a : Nat, a < (dH D).size → H[a]? = (dH D)[a]?) ∧
  ∀ (a : Nat) (e : va_E), hM A a = some e → va_at (dG D) wcl (a, toE D e) H ∧ ((dH D).size ≤ a ∨ roE e)
theorem AbsH.set {D : DE} {A : AH} {H H' : Heap} {a : Nat} {e e' : va_E} (h : AbsH D A H) (he : hM A a = some e) (hro : ¬ roE e) (hs : H'.size = H.size) (ho : ∀ q : Nat, q ≠ a → H'[q]? = H[q]?)
    (hz : (H'[a]?).map (fun c => c.slots.size) = (H[a]?).map (fun c => c.slots.size)) (hat : va_at (dG D) wcl (a, toE D e') H') : AbsH D (hSet A a e') H' := by
  obtain ⟨h1, h2, h3, h4, h5, h6, h7⟩ := h
  have hb : (dH D).size ≤ a := ((h7 a e he).2).resolve_right hro
  refine ⟨hs.trans h1, h2, ?_, h4, h5, fun q hq => ?_, fun q x hx => ?_⟩
  · rw [hU_congr (H := H) (H' := H') (fun q => ?_)]
    · exact h3
    · by_cases hq : q = a
      · subst hq; exact hz
      · rw [ho q hq]
  · rw [ho q (by omega)]; exact h6 q hq
  · by_cases hq : q = a
    · subst hq
      have hx' : some e' = some x := by simpa [hSet, hM] using hx
      cases hx'
      exact ⟨hat, Or.inl hb⟩
    · have hx' : hM A q = some x := by simpa [hSet, hM, hq] using hx
      exact ⟨(h7 q x hx').1.kept (ho q hq), (h7 q x hx').2⟩
theorem AbsH.new {D : DE} {A : AH} {H H' : Heap} {n : Nat} {X : Cell} {e : va_E} (h : AbsH D A H) (hc : 1 ≤ hC A) (hsl : n ≤ hS A) (hs : H'.size = H.size + 1) (hX : H'[H.size]? = some X) (hn : X.slots.size = n) (ho : ∀ q : Nat, q < H.size → H'[q]? = H[q]?)
    (hat : va_at (dG D) wcl (H.size, toE D e) H') : AbsH D (hNew A n e) H' := by
  obtain ⟨h1, h2, h3, h4, h5, h6, h7⟩ := h
  refine ⟨?_, ?_, ?_, h4, ?_, fun q hq => ?_, fun q x hx => ?_⟩
  · show H'.size = hN A + 1
    rw [hs, h1]
  · show hN A + 1 + (hC A - 1) = dN D
    omega
  · show hU H' + (hS A - n) = dU D
    rw [hU_push hs hX ho, hn]
    omega
  · show _ ≤ hN A + 1
    omega
  · rw [ho q (by omega)]; exact h6 q hq
  · by_cases hq : q = A.1
    · subst hq
      have hx' : some e = some x := by simpa [hNew, hM] using hx
      cases hx'
      have h1' : H.size = A.1 := h1
      rw [← h1']
      exact ⟨hat, Or.inl (by rw [h1']; exact h5)⟩
    · have hx' : hM A q = some x := by simpa [hNew, hM, hq] using hx
      have hlt := (h7 q x hx').1.lt
      exact ⟨(h7 q x hx').1.kept (ho q hlt), (h7 q x hx').2⟩
def tysD (D : DE) : List (ClassId × FieldType) := [(dA D 0, .int), (dA D 1, .boolean), (dA D 2, .long), (dA D 3, .object "java/lang/Object"), (dA D 4, .object "WarpMill$Warp")]
def isNw : Cond → Bool
  | .fieldLinkNest .. => true
  | .methodLinkNest .. => true
  | .castable .. => true
  | .arrayOver (.object _) => true
  | .declares .. => true
  | _ => false
def sorts8 : List String := ["NOTHING", "PLAIN", "SLOW", "VOTE", "DIVIDE", "SHARED_MEMORY", "GLOBAL_MEMORY", "UNKNOWN"]
def statD (D : DE) : List (String × String × String × Value) :=
  [("WarpMill$Sort", "NOTHING", "LWarpMill$Sort;", .ref (dS D 0)), ("WarpMill$Sort", "PLAIN", "LWarpMill$Sort;", .ref (dS D 1)), ("WarpMill$Sort", "SLOW", "LWarpMill$Sort;", .ref (dS D 2)), ("WarpMill$Sort", "VOTE", "LWarpMill$Sort;", .ref (dS D 3)),
   ("WarpMill$Sort", "DIVIDE", "LWarpMill$Sort;", .ref (dS D 4)), ("WarpMill$Sort", "SHARED_MEMORY", "LWarpMill$Sort;", .ref (dS D 5)), ("WarpMill$Sort", "GLOBAL_MEMORY", "LWarpMill$Sort;", .ref (dS D 6)), ("WarpMill$Sort", "UNKNOWN", "LWarpMill$Sort;", .ref (dS D 7)),
   ("java/util/ArrayList", "DEFAULTCAPACITY_EMPTY_ELEMENTDATA", "[Ljava/lang/Object;", .ref (dS D 8)), ("java/util/ArrayList", "EMPTY_ELEMENTDATA", "[Ljava/lang/Object;", .ref (dS D 9)), ("java/util/BitSet", "$assertionsDisabled", "Z", .int 1)]
/-- what the tables say, all through a run -/
def KN (D : DE) (U : State) : Prop :=
  va_K (dG D) wcl (tysD D) U ∧ (∀ w ∈ lw_tbl, isNw w = true → va_Nw w U) ∧
  (∀ q ∈ statD D, va_Z q.1 q.2.1 q.2.2.1 q.2.2.2 (fun a => (dH D).size ≤ a) U (dH D)) ∧
  (∀ k, k < 8 → va_O "WarpMill$Sort" (dS D k) (fun a => (dH D).size ≤ a) U (dH D) ∧ va_OF "WarpMill$Sort" "takes" "I" (.int (tk8 k)) (dS D k) (fun a => (dH D).size ≤ a) U (dH D)) ∧ va_Mi "[Ljava/lang/Object;" (dS D 10) U
theorem va_Nw.warmX {w : Cond} (hw : isNw w = true) {s U : State} (hW : s.WarmedH U.vm) (h : va_Nw w s) : va_Nw w U := by
  unfold isNw at hw
  split at hw
  · exact va_Nw.warmF hW h
  · exact va_Nw.warmM hW h
  · exact va_Nw.warmC hW h
  · exact va_AO.moved hW.alike h
  · exact va_Nw.warmD hW h
  · cases hw
theorem KN.warm {D : DE} {s U : State} (hW : s.WarmedH U.vm) (h : KN D s) : KN D U := by
  obtain ⟨h1, h2, h3, h4, h5⟩ := h
  exact ⟨h1.moved hW.alike, fun w hw hn => va_Nw.warmX hn hW (h2 w hw hn), fun q hq => (h3 q hq).moved hW.alike, fun k hk => ⟨(h4 k hk).1.moved hW.alike, (h4 k hk).2.moved hW.alike⟩, h5.moved hW.alike⟩
/-- what holds in a method's body: the machine, the code, the tables, the room -/
def Cx (D : DE) (cc : ByteArray) (own : String) (nL fr lo : Nat) (ret : Option FieldType) (p : Program) (R : Room) (s : State) (m : MethodId) (args : Array Value) (meth : Method) (c : Code) : Prop :=
  p.tables.exec = Jvm.exec ∧ c.code = cc ∧ c.maxLocals = nL ∧ s.vm.findClass own = some m.cls ∧ (∀ w ∈ lw_all, w.before args s = true) ∧ KN D s ∧ meth.locks = false ∧ meth.sig.returnType = ret ∧
  R.cells = dN D - s.heap.size ∧ R.slots = dU D - hU s.heap ∧ s.heap.size ≤ dN D ∧ hU s.heap ≤ dU D ∧ R.frames = fr ∧ R.locals = lo
theorem fix_ind {τ : Type} {bot : τ} {F : τ → τ} (P : τ → Prop) (h0 : P bot) (hs : ∀ r, P r → P (F r)) : ∀ n, P (fixG bot F n)
  | 0 => h0
  | n + 1 => hs _ (fix_ind P h0 hs n)
section RF
variable {α : Type} {D : DE} {ω : α → Option TV × AH} {cc : ByteArray} {own : String} {nL fr lo : Nat} {ret : Option FieldType}
  {p : Program} {l : Launch} {e : Env} {R : Room} {s : State} {m : MethodId} {args : Array Value} {below : List Frame} {meth : Method} {c : Code}
  {t : Option α} {pc : Nat} {ls ls' : List (Option TV)} {rest : List TV} {A : AH}
def QcF (D : DE) (v : Option TV) (A' : AH) : Array Value → State → Outcome → State → Prop := fun _ _ o u => o = .returned (v.map tv) ∧ AbsH D A' u.heap
def Rf (D : DE) (ω : α → Option TV × AH) (nL : Nat) (p : Program) (l : Launch) (e : Env) (R : Room) (s : State) (m : MethodId) (args : Array Value) (below : List Frame) (meth : Method) (c : Code)
    (t : Option α) (pc : Nat) (ls : List (Option TV)) (st : List TV) (A : AH) : Prop :=
  ∀ r, t = some r → ∀ (H : Heap) (locs : List Loc) (la : Array Slot) (cells slots : Nat), AbsH D A H → lvs la nL ls →
    W p l e R s m args below meth c H locs cells slots (MQ below (QcF D (ω r).1 (ω r).2) args s (dN D - s.heap.size) (dU D - hU s.heap) (fun _ => True)) (F0 m pc la (st.map tv))
/-- what a bind in the function tells -/
theorem rf_bind {β : Type} {o : Option β} {f : β → Option α} {st : List TV} (k : ∀ v, o = some v → Rf D ω nL p l e R s m args below meth c (f v) pc ls st A) : Rf D ω nL p l e R s m args below meth c (o.bind f) pc ls st A := by
  intro r h
  cases ho : o with
  | none => rw [ho] at h; cases h
  | some v => rw [ho] at h; exact k v ho r h
theorem rf_none {st : List TV} : Rf D ω nL p l e R s m args below meth c none pc ls st A := fun r h => by cases h
theorem rf_pos {b : Prop} [Decidable b] {t1 t2 : Option α} {st : List TV} (h : b) (k : Rf D ω nL p l e R s m args below meth c t1 pc ls st A) : Rf D ω nL p l e R s m args below meth c (if b then t1 else t2) pc ls st A := by
  rw [if_pos h]; exact k
theorem rf_neg {b : Prop} [Decidable b] {t1 t2 : Option α} {st : List TV} (h : ¬ b) (k : Rf D ω nL p l e R s m args below meth c t2 pc ls st A) : Rf D ω nL p l e R s m args below meth c (if b then t1 else t2) pc ls st A := by
  rw [if_neg h]; exact k
theorem rf_eq {t2 : Option α} {st : List TV} (h : t = t2) (k : Rf D ω nL p l e R s m args below meth c t2 pc ls st A) : Rf D ω nL p l e R s m args below meth c t pc ls st A := h ▸ k
theorem rf_jn2 {J : Type} {j : J} {f : J → Option α} {st : List TV} (P : J → Prop) (h : P j) (k : ∀ i, P i → Rf D ω nL p l e R s m args below meth c (f i) pc ls st A) : Rf D ω nL p l e R s m args below meth c (jn j f) pc ls st A := k j h
/-- a branch whose condition is put together out of several -/
theorem rf_br {b : Prop} [Decidable b] {t1 t2 : Option α} {st : List TV} (pT pF : Nat) (lT lF : List (Option TV)) (sT sF : List TV) (kT : b → Rf D ω nL p l e R s m args below meth c t1 pT lT sT A) (kF : ¬ b → Rf D ω nL p l e R s m args below meth c t2 pF lF sF A)
    (w : ∀ t : Option α, (b → Rf D ω nL p l e R s m args below meth c t pT lT sT A) → (¬ b → Rf D ω nL p l e R s m args below meth c t pF lF sF A) → Rf D ω nL p l e R s m args below meth c t pc ls st A) : Rf D ω nL p l e R s m args below meth c (if b then t1 else t2) pc ls st A := by
  by_cases h : b
  · rw [if_pos h]; exact w t1 kT (fun g => absurd h g)
  · rw [if_neg h]; exact w t2 (fun g => absurd g h) kF
theorem rf_jn {J : Type} {j : J} {f : J → Option α} {st : List TV} (k : Rf D ω nL p l e R s m args below meth c (f j) pc ls st A) : Rf D ω nL p l e R s m args below meth c (jn j f) pc ls st A := k
theorem rf_sub {st : List TV} (hs : lsubB ls ls') (k : Rf D ω nL p l e R s m args below meth c t pc ls' st A) : Rf D ω nL p l e R s m args below meth c t pc ls st A :=
  fun r h H locs la cells slots hA hl => k r h H locs la cells slots hA (lvs_sub hl hs)
end RF
