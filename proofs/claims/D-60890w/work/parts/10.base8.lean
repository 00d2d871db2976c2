/-! BASE 8: statics, constants of Sort, calls, returns, a method's entry -/
/-- the contract of a method, for given arguments and a given abstract heap -/
def Sm (l : Launch) (D : DE) (y : MethodName) (b : ByteArray) (L : Nat) (rt : Option FieldType) (fr lo : Nat) (vs : List TV) (A : AH) (v : Option TV) (A' : AH) : Prop :=
  Met l y (ws_ y b L rt) { frames := fr, cells := hC A, slots := hS A, locals := lo } (va_Pc (vs.map tv) (fun U => AbsH D A U.heap ∧ KN D U)) (QcF D v A') (hC A) (hS A) (fun _ => True)
def pln (y : MethodName) (n : Nat) : Prop := y.cls ≠ "java/lang/invoke/MethodHandle" ∧ y.cls ≠ "java/lang/invoke/VarHandle" ∧ (parseMethodDescriptor y.desc).map (fun d => d.parameters.length) = some n
/-- a call through an object, of a static method, of a maker; the last two of nest mates too -/
def CV (own : String) (idx ci : Nat) (y : MethodName) (b : ByteArray) (L : Nat) (rt : Option FieldType) (n : Nat) : Prop := ∃ (T : u_T) (N : Nat), wcl[ci]? = some (y.cls, T, N) ∧ Cond.methodLink own idx y ∈ lw_all ∧ Cond.instanceMethod y ∈ lw_all ∧ Cond.selects y.cls y y ∈ lw_all ∧ Cond.initialized y.cls ∈ lw_all ∧ Cond.code y b L rt ∈ lw_all ∧ pln y n
def CS (own : String) (idx : Nat) (y : MethodName) (b : ByteArray) (L : Nat) (rt : Option FieldType) (n : Nat) : Prop := Cond.methodLink own idx y ∈ lw_all ∧ Cond.static y ∈ lw_all ∧ Cond.initialized y.cls ∈ lw_all ∧ Cond.code y b L rt ∈ lw_all ∧ pln y n
def CI (own : String) (idx : Nat) (y : MethodName) (b : ByteArray) (L : Nat) (n : Nat) : Prop := (Cond.methodLink own idx y ∈ lw_all ∨ ∃ h, Cond.methodLinkNest own idx y h ∈ lw_tbl) ∧ Cond.instanceMethod y ∈ lw_all ∧ Cond.initialized y.cls ∈ lw_all ∧ Cond.code y b L none ∈ lw_all ∧ y.name = "<init>" ∧ pln y n
theorem blindP {D : DE} {vs : List Value} {A : AH} : FrameBlind (va_Pc vs (fun U => AbsH D A U.heap ∧ KN D U)) := by
  intro a U g mk h
  exact ⟨h.1, h.2.1, KN.same (u := U) (U := U.calling g mk a) rfl h.2.2⟩
def entL : List TV → List (Option TV)
  | [] => []
  | .inr (.inl x) :: r => some (.inr (.inl x)) :: none :: entL r
  | x :: r => some x :: entL r
theorem entL_args {q : Nat × Value} {k : Nat} : ∀ {vs : List TV} {i : Nat}, q ∈ ents i (entL vs ++ List.replicate k none) → q ∈ lv_args i (vs.map tv)
  | [], i, h => by
    obtain ⟨j, x, hj, -⟩ := mem_ents.mp h
    simp only [entL, List.nil_append, List.getElem?_replicate] at hj
    split at hj <;> cases hj
  | .inl x :: r, i, h => by
    have h' : q ∈ (i, tv (.inl x)) :: ents (i + 1) (entL r ++ List.replicate k none) := h
    rcases List.mem_cons.mp h' with e | e
    · rw [e]; exact List.mem_cons_self
    · exact List.mem_cons_of_mem _ (entL_args (vs := r) e)
  | .inr (.inl x) :: r, i, h => by
    have h' : q ∈ (i, tv (.inr (.inl x))) :: ents (i + 1 + 1) (entL r ++ List.replicate k none) := h
    rcases List.mem_cons.mp h' with e | e
    · rw [e]; exact List.mem_cons_self
    · exact List.mem_cons_of_mem _ (entL_args (vs := r) e)
  | .inr (.inr x) :: r, i, h => by
    have h' : q ∈ (i, tv (.inr (.inr x))) :: ents (i + 1) (entL r ++ List.replicate k none) := h
    rcases List.mem_cons.mp h' with e | e
    · rw [e]; exact List.mem_cons_self
    · refine List.mem_cons_of_mem _ ?_
      have h1 := entL_args (vs := r) e
      rw [show (if (tv (.inr (.inr x))).category = 2 then i + 2 else i + 1) = i + 1 from if_neg (fun hh => by rw [tv_cat] at hh; cases hh)]
      exact h1
theorem entL_len (vs : List TV) : (lg_sl (vs.map tv)).length = (entL vs).length := by
  induction vs with
  | nil => rfl
  | cons x r ih =>
    have h1 : lg_sl ((x :: r).map tv) = (if (tv x).category = 2 then [Slot.val (tv x), .second] else [.val (tv x)]) ++ lg_sl (r.map tv) := rfl
    rw [h1, List.length_append, ih]
    rcases x with x | x | x
    · show 1 + _ = _
      simp [entL]; omega
    · show 2 + _ = _
      simp [entL]; omega
    · rw [if_neg (fun hh => by rw [tv_cat] at hh; cases hh)]
      simp [entL]; omega
section RC
variable {α : Type} {D : DE} {ω : α → Option TV × AH} {cc : ByteArray} {own : String} {nL fr lo : Nat} {ret : Option FieldType}
  {p : Program} {l : Launch} {e : Env} {R : Room} {s : State} {m : MethodId} {args : Array Value} {below : List Frame} {meth : Method} {c : Code}
  {t : Option α} {pc : Nat} {ls ls' : List (Option TV)} {rest : List TV} {A : AH} {H : Heap} {locs : List Loc} {cells slots : Nat} {Q : State → Prop}
theorem rf_getsR (X : Cx D cc own nL fr lo ret p R s m args meth c) (k : Nat) {C n ds : String} {idx : Nat} (hst : ∀ D : DE, (C, n, ds, Value.ref (dS D k)) ∈ statD D) (q : Cond.fieldLink own idx C n ds ∈ lw_all ∨ ∃ h, Cond.fieldLinkNest own idx C n ds h ∈ lw_tbl) (d : decode cc pc = .ok (.getstatic idx, 3))
    (k1 : Rf D ω nL p l e R s m args below meth c t (pc + 3) ls (tR (some (hA A k)) :: rest) A) : Rf D ω nL p l e R s m args below meth c t pc ls rest A := by
  intro r h H locs la cells slots hA hl
  have h1 := k1 r h H locs la cells slots hA hl
  rw [hA.2.2.2.1] at h1
  exact w_gets X hA (hst D) q d h1
theorem rf_gets1 (X : Cx D cc own nL fr lo ret p R s m args meth c) {C n ds : String} {idx : Nat} {v : Int32} (hst : ∀ D : DE, (C, n, ds, Value.int v) ∈ statD D) (q : Cond.fieldLink own idx C n ds ∈ lw_all ∨ ∃ h, Cond.fieldLinkNest own idx C n ds h ∈ lw_tbl) (d : decode cc pc = .ok (.getstatic idx, 3))
    (k1 : Rf D ω nL p l e R s m args below meth c t (pc + 3) ls (tI v :: rest) A) : Rf D ω nL p l e R s m args below meth c t pc ls rest A := by
  intro r h H locs la cells slots hA hl
  exact w_gets X hA (hst D) q d (k1 r h H locs la cells slots hA hl)
theorem rf_getT (X : Cx D cc own nL fr lo ret p R s m args meth c) {idx : Nat} (q : Cond.fieldLinkNest own idx "WarpMill$Sort" "takes" "I" "WarpMill" ∈ lw_tbl) {x : Option Nat} {v : Int32} (hg : gT A x = some v) (d : decode cc pc = .ok (.getfield idx, 3))
    (k1 : Rf D ω nL p l e R s m args below meth c t (pc + 3) ls (tI v :: rest) A) : Rf D ω nL p l e R s m args below meth c t pc ls (tR x :: rest) A := by
  intro r h H locs la cells slots hA hl
  unfold gT at hg
  cases hk : ix8 A x with
  | none => rw [hk] at hg; cases hg
  | some k =>
    rw [hk] at hg
    cases hg
    obtain ⟨hk8, rfl⟩ := ix8_spec hk
    have h1 := k1 r h H locs la cells slots hA hl
    obtain ⟨hx, hb, -, hown, hts, hK, -⟩ := X
    obtain ⟨cf, kf, fi, f, cell, g1, g2, g3, g4, g5, g6⟩ := (hK.2.2.2.1 k hk8).2
    rw [hA.2.2.2.1]
    exact va_Wgetf hx hb hown (va_Nw.use rfl (hK.2.1 _ q rfl)) g1 g2 (by rw [hA.2.2.2.2.2.1 _ (by omega)]; exact g3) g4 g5 rfl rfl d h1
theorem w_run {mc ms : Nat} {g : JFrame} {rv : List Value} {Qa : State → Outcome → State → Prop} {free : Addr → Prop} (hr : va_Run p l e R s m args below meth c H locs cells slots mc ms g rv Qa free)
    (kk : ∀ (v : Option Value) (st t : State) (locs1 : List Loc), Qa st (.returned v) t → W p l e R s m args below meth c t.heap locs1 (cells + mc) (slots + ms) Q { g with pc := g.pc + 3, stack := v.toList ++ rv }) : W p l e R s m args below meth c H locs cells slots Q g := by
  intro T hT X
  obtain ⟨v, st₀, t, T', L, h0, X', hL, e1, e2, hq, st⟩ := hr T hT X
  obtain ⟨t2, a1, b1⟩ := kk v st₀ t (locs ++ L) hq T' e1 X'
  exact ⟨t2, st t2 a1, b1⟩
theorem room8 {la : Array Slot} {st : List Value} (h : (rest.map tcat).sum ≤ 8) : 2 * (F0 m pc la st).monitorRoom + (((rest.map tv)).map fun v => v.category).sum ≤ 8 := by
  rw [tv_sum]
  show 2 * 0 + _ ≤ 8
  omega
theorem map_rev (vs rest : List TV) : (vs.reverse ++ rest).map tv = (vs.map tv).reverse ++ rest.map tv := by
  rw [List.map_append, List.map_reverse]
theorem rf_callV (X : Cx D cc own nL fr lo ret p R s m args meth c) {idx ci : Nat} {y : MethodName} {b : ByteArray} {L n fr1 lo1 a : Nat} {rt : Option FieldType} (F : CV own idx ci y b L rt n) (hR : fr1 + 1 ≤ fr ∧ 8 + (L + 11) + lo1 ≤ lo) (vs : List TV) (hn : vs.length = n) (h8 : (rest.map tcat).sum ≤ 8) {x : Option Nat} (hrc : rcv A x ci = some a) {v : Option TV} {A1 : AH} (hM : Sm l D y b L rt fr1 lo1 (tR (some a) :: vs) A v A1) (d : decode cc pc = .ok (.invokevirtual idx, 3))
    (k : Rf D ω nL p l e R s m args below meth c t (pc + 3) ls (v.toList ++ rest) A1) : Rf D ω nL p l e R s m args below meth c t pc ls (vs.reverse ++ tR x :: rest) A := by
  intro r h H locs la cells slots hA hl
  obtain ⟨T0, N, hc, q1, q2, q3, q4, q5, hd⟩ := F
  obtain ⟨rfl, fs, hm⟩ := rcv_spec hrc
  refine w_now X hA fun k1 n1 hk1 hn1 => ?_
  obtain ⟨r', hr', cellV, g1, g2, g3, -⟩ := (hA.one hm) 0 _ rfl
  obtain ⟨hx, hb, hml, hown, hts, hK, -, -, -, -, -, -, hRf, hRl⟩ := X
  have hcls := (hK.1.1 ci _ hc).2
  rw [map_rev]
  refine w_run (va_runV (As := vs.map tv) (rest := rest.map tv) (b := a) ⟨hx, hb, hml, hown, hts⟩ hM (cwV n hts (lw_V q1 q2 q3 q4 q5) rfl rfl rfl ⟨rfl, hd⟩ (by rw [hRf, hRl]; exact hR)) ⟨blindP, ⟨cellV, g1, by rw [g3]; rfl, by rw [g2]; exact hcls.1⟩, fun U hU hW => ⟨rfl, by rw [hU]; exact hA, hK.warm hW⟩⟩ rfl (by rw [List.length_map]; exact hn) hl.1 rfl (room8 h8) d ⟨by omega, by omega⟩) fun v1 st u locs1 hq => ?_
  obtain ⟨hv, hA1⟩ := hq
  cases hv
  have hk := k r h u.heap locs1 la (k1 + hC A) (n1 + hS A) hA1 hl
  rw [List.map_append] at hk
  cases v <;> exact hk
theorem rf_callS (X : Cx D cc own nL fr lo ret p R s m args meth c) {idx : Nat} {y : MethodName} {b : ByteArray} {L n fr1 lo1 : Nat} {rt : Option FieldType} (F : CS own idx y b L rt n) (hR : fr1 + 1 ≤ fr ∧ 8 + (L + 11) + lo1 ≤ lo) (vs : List TV) (hn : vs.length = n) (h8 : (rest.map tcat).sum ≤ 8) {v : Option TV} {A1 : AH} (hM : Sm l D y b L rt fr1 lo1 vs A v A1) (d : decode cc pc = .ok (.invokestatic idx, 3))
    (k : Rf D ω nL p l e R s m args below meth c t (pc + 3) ls (v.toList ++ rest) A1) : Rf D ω nL p l e R s m args below meth c t pc ls (vs.reverse ++ rest) A := by
  intro r h H locs la cells slots hA hl
  obtain ⟨q1, q2, q3, q4, hd⟩ := F
  refine w_now X hA fun k1 n1 hk1 hn1 => ?_
  obtain ⟨hx, hb, hml, hown, hts, hK, -, -, -, -, -, -, hRf, hRl⟩ := X
  rw [map_rev]
  refine w_run (va_runS (As := vs.map tv) (rest := rest.map tv) ⟨hx, hb, hml, hown, hts⟩ hM (va_cwS n hts (lw_S q1 q2 q3 q4) rfl rfl rfl hd (by rw [hRf, hRl]; exact hR)) ⟨blindP, fun U hU hW => ⟨rfl, by rw [hU]; exact hA, hK.warm hW⟩⟩ rfl (by rw [List.length_map]; exact hn) hl.1 rfl (room8 h8) d ⟨by omega, by omega⟩) fun v1 st u locs1 hq => ?_
  obtain ⟨hv, hA1⟩ := hq
  cases hv
  have hk := k r h u.heap locs1 la (k1 + hC A) (n1 + hS A) hA1 hl
  rw [List.map_append] at hk
  cases v <;> exact hk
theorem rf_callI (X : Cx D cc own nL fr lo ret p R s m args meth c) {idx : Nat} {y : MethodName} {b : ByteArray} {L n fr1 lo1 a : Nat} (F : CI own idx y b L n) (hR : fr1 + 1 ≤ fr ∧ 8 + (L + 11) + lo1 ≤ lo) (vs : List TV) (hn : vs.length = n) (h8 : (rest.map tcat).sum ≤ 8) {A1 : AH} (hM : Sm l D y b L none fr1 lo1 (tR (some a) :: vs) A none A1) (d : decode cc pc = .ok (.invokespecial idx, 3))
    (k : Rf D ω nL p l e R s m args below meth c t (pc + 3) ls rest A1) : Rf D ω nL p l e R s m args below meth c t pc ls (vs.reverse ++ tR (some a) :: rest) A := by
  intro r h H locs la cells slots hA hl
  obtain ⟨q1, q2, q3, q4, hy1, hd⟩ := F
  refine w_now X hA fun k1 n1 hk1 hn1 => ?_
  obtain ⟨hx, hb, hml, hown, hts, hK, -, -, -, -, -, -, hRf, hRl⟩ := X
  have hin : va_Run p l e R s m args below meth c H locs k1 n1 (hC A) (hS A) (F0 m pc la ((vs.reverse ++ tR (some a) :: rest).map tv)) (rest.map tv) (QcF D none A1 (Value.ref a :: vs.map tv).toArray) (fun _ => True) := by
    rw [map_rev]
    rcases q1 with q1 | ⟨hh, q1⟩
    · exact va_runI (As := vs.map tv) (rest := rest.map tv) (b := a) ⟨hx, hb, hml, hown, hts⟩ hM (cwI n hts (lw_meth q4) rfl rfl rfl (hts _ q3) (hts _ q1) (hts _ q2) hy1 hd (by rw [hRf, hRl]; exact hR)) ⟨blindP, fun U hU hW => ⟨rfl, by rw [hU]; exact hA, hK.warm hW⟩⟩ rfl (by rw [List.length_map]; exact hn) hl.1 rfl (room8 h8) d ⟨by omega, by omega⟩
    · exact va_runIN (As := vs.map tv) (rest := rest.map tv) (b := a) ⟨hx, hb, hml, hown, hts⟩ hM ⟨va_cnB n hts (lw_meth q4) rfl rfl rfl (hK.2.1 _ q1 rfl) (hts _ q3) hd (by rw [hRf, hRl]; exact hR), hy1, hts _ q2⟩ ⟨blindP, fun U hU hW => ⟨rfl, by rw [hU]; exact hA, hK.warm hW⟩⟩ rfl (by rw [List.length_map]; exact hn) hl.1 rfl (room8 h8) d ⟨by omega, by omega⟩
  refine w_run hin fun v1 st u locs1 hq => ?_
  obtain ⟨hv, hA1⟩ := hq
  cases hv
  exact k r h u.heap locs1 la (k1 + hC A) (n1 + hS A) hA1 hl
theorem rf_objInit (X : Cx D cc own nL fr lo ret p R s m args meth c) {idx : Nat} (q1 : Cond.methodLink own idx Lib.objectInit ∈ lw_all) (hR : 1 ≤ fr ∧ 20 ≤ lo) (h8 : (rest.map tcat).sum ≤ 8) {a : Nat} (d : decode cc pc = .ok (.invokespecial idx, 3))
    (k : Rf D ω nL p l e R s m args below meth c t (pc + 3) ls rest A) : Rf D ω nL p l e R s m args below meth c t pc ls (tR (some a) :: rest) A := by
  intro r h H locs la cells slots hA hl
  obtain ⟨hx, hb, hml, hown, hts, hK, -, -, -, -, -, -, hRf, hRl⟩ := X
  have h9 := room8 (m := m) (pc := pc) (la := la) (st := (tR (some a) :: rest).map tv) h8
  exact W.objInit hx hb hown (hts _ q1) (hts _ q124) (hts _ q125) rfl (by rw [hml]; exact hl.1) rfl d (by rw [hRf]; exact hR.1) (by rw [hRl]; omega) (k r h H locs la cells slots hA hl)
theorem w_end (X : Cx D cc own nL fr lo ret p R s m args meth c) (hA : AbsH D A H) {g : JFrame} (kk : W p l e R s m args below meth c H locs (dN D - s.heap.size) (dU D - hU s.heap) Q g) : W p l e R s m args below meth c H locs cells slots Q g := by
  obtain ⟨-, -, -, -, -, -, -, -, hRc, hRs, hdn, hdu, -⟩ := X
  obtain ⟨h1, h2, h3, -⟩ := hA
  exact w_tight (by omega) (by omega) kk
theorem rf_iret (X : Cx D cc own nL fr lo (some .int) p R s m args meth c) {x : Int32} {g : α} (hg : ω g = (some (tI x), A)) (d : decode cc pc = .ok (.ireturn, 1)) : Rf D ω nL p l e R s m args below meth c (some g) pc ls [tI x] A := by
  intro r h H locs la cells slots hA hl
  cases h
  exact w_end X hA (W.iret X.1 X.2.1 X.2.2.2.2.2.2.2.1 (fun u hu hW => ⟨by rw [hg]; rfl, by rw [hu, hg]; exact hA⟩) (fun _ _ => trivial) d X.2.2.2.2.2.2.1)
theorem rf_vret (X : Cx D cc own nL fr lo none p R s m args meth c) {g : α} (hg : ω g = (none, A)) (d : decode cc pc = .ok (.return_, 1)) : Rf D ω nL p l e R s m args below meth c (some g) pc ls [] A := by
  intro r h H locs la cells slots hA hl
  cases h
  exact w_end X hA (W.vret X.1 X.2.1 X.2.2.2.2.2.2.2.1 (fun u hu hW => ⟨by rw [hg]; rfl, by rw [hu, hg]; exact hA⟩) (fun _ _ => trivial) d X.2.2.2.2.2.2.1)
theorem rf_aret {rt : FieldType} (hrt : (∃ n, rt = .object n) ∨ ∃ t, rt = .array t) (X : Cx D cc own nL fr lo (some rt) p R s m args meth c) {x : Option Nat} {g : α} (hg : ω g = (some (tR x), A)) (d : decode cc pc = .ok (.areturn, 1)) : Rf D ω nL p l e R s m args below meth c (some g) pc ls [tR x] A := by
  intro r h H locs la cells slots hA hl
  cases h
  exact w_end X hA (W.aret X.1 X.2.1 X.2.2.2.2.2.2.2.1 hrt (by cases x with | none => exact Or.inl rfl | some a => exact Or.inr ⟨a, rfl⟩) (fun u hu hW => ⟨by rw [hg]; rfl, by rw [hu, hg]; exact hA⟩) (fun _ _ => trivial) d X.2.2.2.2.2.2.1)
theorem w_zret {Qc : Array Value → State → Outcome → State → Prop} {free : Addr → Prop} {v w : Int32} (hexec : p.tables.exec = Jvm.exec) (hb : c.code = cc) (hr : meth.sig.returnType = some .boolean) (hn : narrow .boolean (.int v) = .int w)
    (hq : ∀ t : State, t.heap = H → s.WarmedH t.vm → Qc args s (.returned (some (.int w))) t) (hf : ∀ q ∈ locs, free q.base) {la : Array Slot} (hdg : decode cc pc = .ok (.ireturn, 1)) (hlocks : meth.locks = false) : W p l e R s m args below meth c H locs cells slots (MQ below Qc args s cells slots free) (F0 m pc la [.int v]) := by
  intro T hT X
  obtain ⟨fs, hret, hrun, hended, hW, hframe⟩ := X.leave (v := some (.int w)) (hlocks := hlocks) (fun h => by rw [hr] at h; cases h)
  have hmeth' : T.vm.method? m = some meth := X.method'
  refine ⟨T.setFrames fs, ?_, .returned (some (.int w)), hrun, hended, hq _ hT hW, locs, ⟨⟨_, rfl⟩, hW, hframe⟩, hf⟩
  jvm_step X.here [X.here.top, hexec, hb, hdg, hmeth', hr, hn]
  (try refine ⟨rfl, ?_⟩); (try refine ⟨rfl, ?_⟩)
  first | (intro acts; rw [hret _ acts rfl rfl rfl]) | rw [hret _ _ rfl rfl rfl]
  exact Steps.refl _
theorem rf_zret (X : Cx D cc own nL fr lo (some .boolean) p R s m args meth c) {x : Int32} {g : α} (hg : ω g = (some (tI (nb x)), A)) (d : decode cc pc = .ok (.ireturn, 1)) : Rf D ω nL p l e R s m args below meth c (some g) pc ls [tI x] A := by
  intro r h H locs la cells slots hA hl
  cases h
  exact w_end X hA (w_zret X.1 X.2.1 X.2.2.2.2.2.2.2.1 rfl (fun u hu hW => ⟨by rw [hg]; rfl, by rw [hu, hg]; exact hA⟩) (fun _ _ => trivial) d X.2.2.2.2.2.2.1)
end RC
/-- a method's contract out of its body's walk -/
theorem Sm.of {α : Type} {l : Launch} {D : DE} {ω : α → Option TV × AH} {y : MethodName} {b : ByteArray} {L fr lo : Nat} {rt : Option FieldType} {vs : List TV} {A : AH} {r : α} (t : Option α) (ls0 : List (Option TV)) (hy : plainName y.cls = true) (hL : (entL vs).length ≤ L) (h0 : entL vs ++ List.replicate (L - (entL vs).length) none = ls0) (ht : t = some r)
    (body : ∀ (p : Program) (e : Env) (R : Room) (s : State) (m : MethodId) (args : Array Value) (below : List Frame) (meth : Method) (c : Code), Cx D b y.cls L fr lo rt p R s m args meth c → meth.name = y.name → Rf D ω L p l e R s m args below meth c t 0 ls0 [] A) : Sm l D y b L rt fr lo vs A (ω r).1 (ω r).2 := by
  refine Met.ofW (cc := b) (maxL := L) (ret := rt) hy rfl ?_
  intro p e s m args below meth c s₁ B hml hv
  obtain ⟨rfl, hA, hK⟩ := hv
  have hts := atoms_spec (ws := ws_ y b L rt) B.pre
  have hts : ∀ w ∈ lw_all, w.before _ s = true := fun w h => hts w (List.mem_cons_of_mem _ h)
  have hown : s.vm.findClass y.cls = some m.cls := findClass_of_methodNamed B.named
  have hin := (name_of_methodNamed B.named B.method).1
  have e1 : dN D - s.heap.size = hC A := by have := hA.1; have := hA.2.1; omega
  have e2 : dU D - hU s.heap = hS A := by have := hA.2.2.1; omega
  have X : Cx D b y.cls L fr lo rt p (headSpec (ws_ y b L rt) { frames := fr, cells := hC A, slots := hS A, locals := lo }).room s m (vs.map tv).toArray meth c :=
    ⟨B.exec, B.bytes, hml, hown, hts, hK, B.notSynchronized, B.returns, e1.symm, e2.symm, by have := hA.1; have := hA.2.1; omega, by have := hA.2.2.1; omega, rfl, rfl⟩
  have hl := lv_entry (vs.map tv) (n := L) (by rw [entL_len]; exact hL)
  rw [lg_entry_eq]
  have hl2 : lvs ((lg_sl (vs.map tv) ++ List.replicate (L - (lg_sl (vs.map tv)).length) Slot.unset).toArray) L ls0 := by
    refine ⟨hl.1, hl.2.1, fun q hq => hl.2.2 q ?_⟩
    rw [← h0] at hq
    exact entL_args hq
  have hw := body p e _ s m _ below meth c X hin r ht s.heap [] _ 0 0 hA hl2
  rw [e1, e2] at hw
  exact hw
