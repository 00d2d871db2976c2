/-! BASE 7: what is new, casts, statics, calls, returns, a method's entry -/
abbrev wI (g : Int32 × AH) : Option TV × AH := (some (tI g.1), g.2)
abbrev wU (A : AH) : Option TV × AH := (none, A)
abbrev wO (g : Option Nat × AH) : Option TV × AH := (some (tR g.1), g.2)
abbrev qI (A : AH) (x : Int32) : Option TV × AH := (some (tI x), A)
abbrev qU (A : AH) (_ : Unit) : Option TV × AH := (none, A)
abbrev qO (A : AH) (x : Option Nat) : Option TV × AH := (some (tR x), A)
def NW (own : String) (idx ci : Nat) (fs : List Value) : Prop := ∃ (C : String) (T : u_T) (N : Nat) (ty0 : Nat → FieldType), wcl[ci]? = some (C, T, N) ∧ (∀ w ∈ u_ws C T N, w ∈ lw_all) ∧ (∀ j, j < N → parseFieldDescriptor (T j).2.2.1 = some (ty0 j)) ∧
  Cond.classLink own idx C ∈ lw_all ∧ Cond.instantiable C N ∈ lw_all ∧ Cond.initialized C ∈ lw_all ∧ fs.length = N ∧ (∀ j, j < N → defaultValue (ty0 j) = vp_V fs j)
theorem KN.same {D : DE} {u U : State} (h : u.vm = U.vm) (hK : KN D u) : KN D U := hK.warm (h ▸ State.WarmedH.refl u)
section RN
variable {α : Type} {D : DE} {ω : α → Option TV × AH} {cc : ByteArray} {own : String} {nL fr lo : Nat} {ret : Option FieldType}
  {p : Program} {l : Launch} {e : Env} {R : Room} {s : State} {m : MethodId} {args : Array Value} {below : List Frame} {meth : Method} {c : Code}
  {t : Option α} {pc : Nat} {ls ls' : List (Option TV)} {rest : List TV} {A : AH} {H : Heap} {locs : List Loc} {cells slots : Nat} {Q : State → Prop}
theorem w_ge {g : JFrame} (kk : s.heap.size ≤ H.size → hU s.heap ≤ hU H → W p l e R s m args below meth c H locs cells slots Q g) : W p l e R s m args below meth c H locs cells slots Q g := by
  intro T hT X
  refine kk ?_ ?_ T hT X
  · rw [← hT]; exact X.same.2.1
  · obtain ⟨e1, e2, e3, e4, e5, e6⟩ := X.same
    have a2 : (T.heap.toList.take s.heap.size).map (fun c => c.slots.size) = s.heap.toList.map (fun c => c.slots.size) := by
      apply List.ext_getElem?
      intro i
      simp only [List.getElem?_map]
      by_cases hi : i < s.heap.size
      · rw [List.getElem?_take_of_lt hi, Array.getElem?_toList, Array.getElem?_toList]
        obtain ⟨c', q1, q2, q3, -⟩ := e6 i s.heap[i] (Array.getElem?_eq_getElem hi)
        have q1' : T.heap[i]? = some c' := q1
        rw [q1', Array.getElem?_eq_getElem hi]
        simp [q3]
      · rw [List.getElem?_eq_none (by simp; omega), List.getElem?_eq_none (by simp; omega)]
    rw [← hT]
    unfold hU
    conv => rhs; rw [← List.take_append_drop s.heap.size T.heap.toList]
    rw [List.map_append, List.sum_append, a2]
    omega
/-- the cells and slots as they stand -/
theorem w_now (X : Cx D cc own nL fr lo ret p R s m args meth c) (hA : AbsH D A H) {g : JFrame}
    (kk : ∀ k n : Nat, k + hC A = R.cells → n + hS A = R.slots → W p l e R s m args below meth c H locs k n Q g) : W p l e R s m args below meth c H locs cells slots Q g := by
  obtain ⟨-, -, -, -, -, -, -, -, hRc, hRs, hdn, hdu, -⟩ := X
  obtain ⟨h1, h2, h3, -⟩ := hA
  refine w_ge fun g1 g2 => ?_
  refine w_tight (k := H.size - s.heap.size) (n := hU H - hU s.heap) (by omega) (by omega) ?_
  exact kk _ _ (by omega) (by omega)
theorem rf_new (X : Cx D cc own nL fr lo ret p R s m args meth c) {idx ci : Nat} {fs : List Value} (F : NW own idx ci fs) {A1 : AH} (hp : nO A ci fs = some A1) (d : decode cc pc = .ok (.new idx, 3))
    (k : Rf D ω nL p l e R s m args below meth c t (pc + 3) ls (tR (some (hN A)) :: rest) A1) : Rf D ω nL p l e R s m args below meth c t pc ls rest A := by
  intro r h H locs la cells slots hA hl
  obtain ⟨C, T, N, ty0, hc, hin, hty, hcl, hins, hini, hlen, hdf⟩ := F
  unfold nO at hp
  split at hp
  · rename_i hroom
    cases hp
    refine w_now X hA fun k1 n1 hk1 hn1 => ?_
    obtain ⟨hx, hb, -, hown, hts, hK, -⟩ := X
    have hKn := hK.1.1 ci _ hc
    refine W.newc hx hb hown (hts _ hcl) (hts _ hins) (hts _ hini) rfl d (by omega) (by omega) fun cC kC f1 f2 f3 f4 => ?_
    have ecC : cC = (dG D).1 ci := Option.some.inj (f1.symm.trans hKn.2.1)
    have e1 : (H.push ({ cls := cC, slots := kC.instanceTypes.map defaultValue, vm := .none } : Cell))[H.size]? = some (blank cC kC) := by simp [blank]
    have hz : H.size = hN A := hA.1
    have hnew : AbsH D (hNew A fs.length (.inr (ci, fs))) (H.push ({ cls := cC, slots := kC.instanceTypes.map defaultValue, vm := .none } : Cell)) := by
      refine hA.new hroom.1 hroom.2 (by simp) e1 (by simp [blank, f4, hlen]) (fun q hq => by rw [Array.getElem?_push, if_neg (Nat.ne_of_lt hq)]) ?_
      refine ⟨_, hc, ?_⟩
      rw [ecC] at e1 f2
      rw [ecC]
      exact (u_born ty0 hts hin hKn f2 e1 hty).to hdf
    have hk := k r h _ locs la (k1 + 1) (n1 + N) hnew hl
    rw [← hz] at hk
    exact hk
  · cases hp
theorem rf_newa (X : Cx D cc own nL fr lo ret p R s m args meth c) {atype : ArrayType} {ty : FieldType} {t0 w : Nat} {f : (Nat → Int32) ⊕ (Nat → Int64) ⊕ (Nat → UInt32) ⊕ (Nat → UInt64) ⊕ (Nat → Option Nat)} (hty : newarray.typeOf atype = ty) (hw : componentBytes ty = w) (q : Cond.arrayClass ty ∈ lw_all) (ht : t0 < 3) (htt : (tysD D)[t0]? = some (dA D t0, ty)) (hra : ∀ cA, va_RA s cA ty = (s.vm.findClass ("[" ++ ty.toString) = some cA)) (hf : ∀ (cA : ClassId) (N : Nat), vp_cell cA (N, f) = arrV cA N (fun _ => defaultValue ty))
    {n : Int32} {A1 : AH} (hp : nA A t0 w n f = some A1) (d : decode cc pc = .ok (.newarray atype, 2))
    (k : Rf D ω nL p l e R s m args below meth c t (pc + 2) ls (tR (some (hN A)) :: rest) A1) : Rf D ω nL p l e R s m args below meth c t pc ls (tI n :: rest) A := by
  intro r h H locs la cells slots hA hl
  unfold nA at hp
  split at hp
  · rename_i hroom
    cases hp
    refine w_now X hA fun k1 n1 hk1 hn1 => ?_
    obtain ⟨hx, hb, -, hown, hts, hK, -⟩ := X
    refine va_newaK hx hb (by rw [hty]; exact hts _ q) rfl d rfl hroom.1 rfl (by rw [hty, hw]; exact hroom.2.1) (by omega) (by omega) hA.1 fun H1 cA e1 z1 o1 hAr hNm => ?_
    rw [hty] at e1 hNm
    have ecA : cA = dA D t0 := by
      have h1 := (hK.1.2 t0 _ htt).2
      rw [hra] at h1
      exact Option.some.inj (hNm.symm.trans h1)
    refine k r h H1 locs la _ _ (hA.new (X := arrV cA n.toNatClampNeg (fun _ => defaultValue ty)) hroom.2.2.1 hroom.2.2.2 (by rw [z1, hA.1]) (by rw [hA.1]; exact e1) (arrV_size _ _ _) (fun q hq => o1 q (by rw [← hA.1]; exact hq)) ?_) hl
    show H1[H.size]? = some (vp_cell (arC (dA D) t0) (n.toNatClampNeg, f))
    rw [hA.1, e1, hf, arC_lt (by omega), ecA]
  · cases hp
theorem rf_newI (X : Cx D cc own nL fr lo ret p R s m args meth c) {n : Int32} {A1 : AH} (hp : nAI A n = some A1) (d : decode cc pc = .ok (.newarray .int, 2))
    (k : Rf D ω nL p l e R s m args below meth c t (pc + 2) ls (tR (some (hN A)) :: rest) A1) : Rf D ω nL p l e R s m args below meth c t pc ls (tI n :: rest) A :=
  rf_newa X (ty := .int) (t0 := 0) rfl rfl q488 (by decide) rfl (fun _ => rfl) (fun _ _ => rfl) hp d k
theorem rf_newZ (X : Cx D cc own nL fr lo ret p R s m args meth c) {n : Int32} {A1 : AH} (hp : nAZ A n = some A1) (d : decode cc pc = .ok (.newarray .boolean, 2))
    (k : Rf D ω nL p l e R s m args below meth c t (pc + 2) ls (tR (some (hN A)) :: rest) A1) : Rf D ω nL p l e R s m args below meth c t pc ls (tI n :: rest) A :=
  rf_newa X (ty := .boolean) (t0 := 1) rfl rfl q1228 (by decide) rfl (fun _ => rfl) (fun _ _ => rfl) hp d k
theorem rf_newL (X : Cx D cc own nL fr lo ret p R s m args meth c) {n : Int32} {A1 : AH} (hp : nAL A n = some A1) (d : decode cc pc = .ok (.newarray .long, 2))
    (k : Rf D ω nL p l e R s m args below meth c t (pc + 2) ls (tR (some (hN A)) :: rest) A1) : Rf D ω nL p l e R s m args below meth c t pc ls (tI n :: rest) A :=
  rf_newa X (ty := .long) (t0 := 2) rfl rfl q538 (by decide) rfl (fun _ => rfl) (fun _ _ => rfl) hp d k
theorem rf_newq (X : Cx D cc own nL fr lo ret p R s m args meth c) {E : String} {idx t0 : Nat} (q : Cond.classLink own idx E ∈ lw_all) (qo : Cond.arrayOver (.object E) ∈ lw_tbl) (ht : t0 < 5) (htt : (tysD D)[t0]? = some (dA D t0, .object E)) {n : Int32} {A1 : AH} (hp : nAR A t0 n = some A1) (d : decode cc pc = .ok (.anewarray idx, 3))
    (k : Rf D ω nL p l e R s m args below meth c t (pc + 3) ls (tR (some (hN A)) :: rest) A1) : Rf D ω nL p l e R s m args below meth c t pc ls (tI n :: rest) A := by
  intro r h H locs la cells slots hA hl
  unfold nAR nA at hp
  split at hp
  · rename_i hroom
    cases hp
    refine w_now X hA fun k1 n1 hk1 hn1 => ?_
    obtain ⟨hx, hb, -, hown, hts, hK, -⟩ := X
    have hover : va_AO E s := hK.2.1 _ qo rfl
    refine W.anew hx hb hown (hts _ q) (va_AO.use hover) rfl d rfl hroom.1 hroom.2.1 (by omega) (by omega) fun cA kA comp f1 f2 f3 f4 => ?_
    have e1 : (H.push ({ cls := cA, slots := Array.replicate n.toNatClampNeg .null, vm := .none } : Cell))[H.size]? = some (arrV cA n.toNatClampNeg (fun _ => .null)) := by rw [Array.getElem?_push_size, ← arrV_new]
    have ecA : cA = dA D t0 := by
      obtain ⟨kA', comp', g1, g2, g3, g4⟩ := (hK.1.2 t0 _ htt).2
      exact Option.some.inj (f1.symm.trans g4)
    have hnew : AbsH D (hNew A n.toNatClampNeg (.inl (t0, n.toNatClampNeg, .inr (.inr (.inr (.inr fun _ => none)))))) (H.push ({ cls := cA, slots := Array.replicate n.toNatClampNeg .null, vm := .none } : Cell)) := by
      refine hA.new hroom.2.2.1 hroom.2.2.2 (by simp) e1 (arrV_size _ _ _) (fun q hq => by rw [Array.getElem?_push, if_neg (Nat.ne_of_lt hq)]) ?_
      show (H.push _)[H.size]? = some (vp_cell (arC (dA D) t0) (n.toNatClampNeg, _))
      rw [e1, vp_cell_q, arC_lt ht, ecA]
      rfl
    have hk := k r h _ locs la (k1 + 1) (n1 + n.toNatClampNeg) hnew hl
    have hz : H.size = hN A := hA.1
    rw [← hz] at hk
    exact hk
  · cases hp
/-- a cast that holds -/
theorem rf_cast (X : Cx D cc own nL fr lo ret p R s m args meth c) {E : String} {idx ci : Nat} {r0 : vw_C} (hc : wcl[ci]? = some r0) (he : r0.1 = E) (q : Cond.classLink own idx E ∈ lw_all) {x : Option Nat} {u : Unit} (hp : cst A x ci = some u) (d : decode cc pc = .ok (.checkcast idx, 3))
    (k : Rf D ω nL p l e R s m args below meth c t (pc + 3) ls (tR x :: rest) A) : Rf D ω nL p l e R s m args below meth c t pc ls (tR x :: rest) A := by
  intro r h H locs la cells slots hA hl
  cases x with
  | none => exact lv_castN X.1 X.2.1 d (k r h H locs la cells slots hA hl)
  | some a =>
    simp only [cst] at hp
    split at hp
    · rename_i hk
      obtain ⟨a', fs, ea, hm⟩ := kd_spec hk
      cases ea
      obtain ⟨r', hr', cellV, g1, g2, g3, -⟩ := (hA.one hm) 0 _ rfl
      have hcls := (X.2.2.2.2.2.1.1.1 ci r0 hc).2
      exact va_castE X.1 X.2.1 X.2.2.2.1 (X.2.2.2.2.1 _ q) ⟨cellV, g1, by rw [g3]; rfl, by rw [g2, ← he]; exact hcls.1⟩ d (k r h H locs la cells slots hA hl)
    · cases hp
/-- a static that the Statement tells -/
theorem w_gets (X : Cx D cc own nL fr lo ret p R s m args meth c) (hA : AbsH D A H) {C n ds : String} {v : Value} {idx : Nat} (hst : (C, n, ds, v) ∈ statD D) (q : Cond.fieldLink own idx C n ds ∈ lw_all ∨ ∃ h, Cond.fieldLinkNest own idx C n ds h ∈ lw_tbl) (d : decode cc pc = .ok (.getstatic idx, 3)) {la : Array Slot} {r : List Value}
    (kk : W p l e R s m args below meth c H locs cells slots Q (F0 m (pc + 3) la (v :: r))) : W p l e R s m args below meth c H locs cells slots Q (F0 m pc la r) := by
  obtain ⟨hx, hb, -, hown, hts, hK, -⟩ := X
  obtain ⟨cf, kf, fi, f, a, cell, h1, h2, h3, h4, h5, h6, h7, h8⟩ := hK.2.2.1 _ hst
  have h9 : H[a]? = some cell := by rw [hA.2.2.2.2.2.1 a (by omega)]; exact h5
  rcases q with q | ⟨hh, q⟩
  · exact W.gets hx hb hown (hts _ q) h1 h2 h3 h4 h9 (fun e => by rw [e] at h6; cases h6) h7 rfl d kk
  · exact va_WgetsN hx hb hown (va_Nw.use rfl (hK.2.1 _ q rfl)) h1 h2 h3 h4 h9 (fun e => by rw [e] at h6; cases h6) h7 rfl d kk
end RN
