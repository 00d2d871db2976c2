/-! BASE 9: calls by what they answer; shorthand -/
def dz (y : Int32) : Option Unit := if y = 0 then none else some ()
theorem dz_spec {y : Int32} {u : Unit} (h : dz y = some u) : ¬ y = 0 := by
  unfold dz at h
  split at h
  · cases h
  · rename_i g; exact g
theorem ts_def {x : Int32} (lo1 hi1 : Int) (cs : List Int32) (n : Nat) (hh : lo1 + n - 1 = hi1) (hl : cs.map Int32.toInt = (List.range n).map (fun j => lo1 + (j : Nat))) (h : ∀ k ∈ cs, ¬ x = k) : x.toInt < lo1 ∨ hi1 < x.toInt := by
  rw [← hh]
  exact ts_out lo1 n cs hl h
section RZ
variable {α : Type} {D : DE} {ω : α → Option TV × AH} {cc : ByteArray} {own : String} {nL fr lo : Nat} {ret : Option FieldType}
  {p : Program} {l : Launch} {e : Env} {R : Room} {s : State} {m : MethodId} {args : Array Value} {below : List Frame} {meth : Method} {c : Code}
  {t : Option α} {pc : Nat} {ls ls' : List (Option TV)} {rest : List TV} {A : AH}
abbrev RfX (_ : Cx D cc own nL fr lo ret p R s m args meth c) (l : Launch) (e : Env) (below : List Frame) (ω : α → Option TV × AH) (t : Option α) (pc : Nat) (ls : List (Option TV)) (st : List TV) (A : AH) : Prop := Rf D ω nL p l e R s m args below meth c t pc ls st A
theorem rf_go {st : List TV} (k : Rf D ω nL p l e R s m args below meth c t pc ls' st A) (hs : lsubB ls ls') : Rf D ω nL p l e R s m args below meth c t pc ls st A := rf_sub hs k
theorem rf_mmax (X : Cx D cc own nL fr lo ret p R s m args meth c) {idx : Nat} (q1 : Cond.methodLink own idx Lib.Math.max.name ∈ lw_all) (hR : 1 ≤ fr ∧ 21 ≤ lo) (h8 : (rest.map tcat).sum ≤ 8) {x y : Int32} (d : decode cc pc = .ok (.invokestatic idx, 3))
    (k : Rf D ω nL p l e R s m args below meth c t (pc + 3) ls (tI (if x < y then y else x) :: rest) A) : Rf D ω nL p l e R s m args below meth c t pc ls (tI y :: tI x :: rest) A := by
  intro r h H locs la cells slots hA hl
  refine w_now X hA fun k1 n1 hk1 hn1 => ?_
  have hk := k r h H locs la k1 n1 hA hl
  obtain ⟨hx, hb, hml, hown, hts, hK, -, -, -, -, -, -, hRf, hRl⟩ := X
  have e8 := tv_sum rest
  exact va_mmax hx hb (by rw [hml]; exact hl.1.symm) hown (hts _ q1) (hts _ q239) (hts _ q92) (hts _ q240) (by omega) (by omega) (by omega) (by omega) d hk
theorem rf_mmin (X : Cx D cc own nL fr lo ret p R s m args meth c) {idx : Nat} (q1 : Cond.methodLink own idx Lib.Math.min.name ∈ lw_all) (hR : 1 ≤ fr ∧ 21 ≤ lo) (h8 : (rest.map tcat).sum ≤ 8) {x y : Int32} (d : decode cc pc = .ok (.invokestatic idx, 3))
    (k : Rf D ω nL p l e R s m args below meth c t (pc + 3) ls (tI (if y < x then y else x) :: rest) A) : Rf D ω nL p l e R s m args below meth c t pc ls (tI y :: tI x :: rest) A := by
  intro r h H locs la cells slots hA hl
  refine w_now X hA fun k1 n1 hk1 hn1 => ?_
  have hk := k r h H locs la k1 n1 hA hl
  obtain ⟨hx, hb, hml, hown, hts, hK, -, -, -, -, -, -, hRf, hRl⟩ := X
  have e8 := tv_sum rest
  exact va_mmin hx hb (by rw [hml]; exact hl.1.symm) hown (hts _ q1) (hts _ q257) (hts _ q92) (hts _ q258) (by omega) (by omega) (by omega) (by omega) d hk
theorem rf_fix {τ : Type} {bot : τ} {F : τ → τ} {n : Nat} {f : τ → Option α} {st : List TV} (P : τ → Prop) (h0 : P bot) (hs : ∀ r, P r → P (F r)) (k : ∀ i, P i → Rf D ω nL p l e R s m args below meth c (f i) pc ls st A) : Rf D ω nL p l e R s m args below meth c (jl (fixG bot F n) f) pc ls st A := k _ (fix_ind P h0 hs n)
theorem rf_callVI (X : Cx D cc own nL fr lo ret p R s m args meth c) {idx ci : Nat} {y : MethodName} {b : ByteArray} {L n fr1 lo1 a : Nat} {rt : Option FieldType} (F : CV own idx ci y b L rt n) (hR : fr1 + 1 ≤ fr ∧ 8 + (L + 11) + lo1 ≤ lo) (vs : List TV) (hn : vs.length = n) (h8 : (rest.map tcat).sum ≤ 8) {x : Option Nat} (hrc : rcv A x ci = some a) {v : TV} {A1 : AH} (hM : Sm l D y b L rt fr1 lo1 (tR (some a) :: vs) A (some v) A1) (d : decode cc pc = .ok (.invokevirtual idx, 3))
    (k : Rf D ω nL p l e R s m args below meth c t (pc + 3) ls (v :: rest) A1) : Rf D ω nL p l e R s m args below meth c t pc ls (vs.reverse ++ tR x :: rest) A := rf_callV X F hR vs hn h8 hrc hM d k
theorem rf_callVU (X : Cx D cc own nL fr lo ret p R s m args meth c) {idx ci : Nat} {y : MethodName} {b : ByteArray} {L n fr1 lo1 a : Nat} {rt : Option FieldType} (F : CV own idx ci y b L rt n) (hR : fr1 + 1 ≤ fr ∧ 8 + (L + 11) + lo1 ≤ lo) (vs : List TV) (hn : vs.length = n) (h8 : (rest.map tcat).sum ≤ 8) {x : Option Nat} (hrc : rcv A x ci = some a) {A1 : AH} (hM : Sm l D y b L rt fr1 lo1 (tR (some a) :: vs) A none A1) (d : decode cc pc = .ok (.invokevirtual idx, 3))
    (k : Rf D ω nL p l e R s m args below meth c t (pc + 3) ls rest A1) : Rf D ω nL p l e R s m args below meth c t pc ls (vs.reverse ++ tR x :: rest) A := rf_callV X F hR vs hn h8 hrc hM d k
theorem rf_callSI (X : Cx D cc own nL fr lo ret p R s m args meth c) {idx : Nat} {y : MethodName} {b : ByteArray} {L n fr1 lo1 : Nat} {rt : Option FieldType} (F : CS own idx y b L rt n) (hR : fr1 + 1 ≤ fr ∧ 8 + (L + 11) + lo1 ≤ lo) (vs : List TV) (hn : vs.length = n) (h8 : (rest.map tcat).sum ≤ 8) {v : TV} {A1 : AH} (hM : Sm l D y b L rt fr1 lo1 vs A (some v) A1) (d : decode cc pc = .ok (.invokestatic idx, 3))
    (k : Rf D ω nL p l e R s m args below meth c t (pc + 3) ls (v :: rest) A1) : Rf D ω nL p l e R s m args below meth c t pc ls (vs.reverse ++ rest) A := rf_callS X F hR vs hn h8 hM d k
theorem rf_callSU (X : Cx D cc own nL fr lo ret p R s m args meth c) {idx : Nat} {y : MethodName} {b : ByteArray} {L n fr1 lo1 : Nat} {rt : Option FieldType} (F : CS own idx y b L rt n) (hR : fr1 + 1 ≤ fr ∧ 8 + (L + 11) + lo1 ≤ lo) (vs : List TV) (hn : vs.length = n) (h8 : (rest.map tcat).sum ≤ 8) {A1 : AH} (hM : Sm l D y b L rt fr1 lo1 vs A none A1) (d : decode cc pc = .ok (.invokestatic idx, 3))
    (k : Rf D ω nL p l e R s m args below meth c t (pc + 3) ls rest A1) : Rf D ω nL p l e R s m args below meth c t pc ls (vs.reverse ++ rest) A := rf_callS X F hR vs hn h8 hM d k
/-- a call of a constant of Sort -/
theorem rf_callSort (X : Cx D cc own nL fr lo ret p R s m args meth c) {idx : Nat} {y : MethodName} {b : ByteArray} {L fr1 lo1 a : Nat} {rt : Option FieldType} (hy : y.cls = "WarpMill$Sort") (q1 : Cond.methodLink own idx y ∈ lw_all) (q2 : Cond.instanceMethod y ∈ lw_all) (q3 : Cond.selects "WarpMill$Sort" y y ∈ lw_all) (q4 : Cond.initialized "WarpMill$Sort" ∈ lw_all) (q5 : Cond.code y b L rt ∈ lw_all) (hd : pln y 0) (hR : fr1 + 1 ≤ fr ∧ 8 + (L + 11) + lo1 ≤ lo) (h8 : (rest.map tcat).sum ≤ 8) {x : Option Nat} (hrc : rcS A x = some a) {v : TV} {A1 : AH} (hM : Sm l D y b L rt fr1 lo1 [tR (some a)] A (some v) A1) (d : decode cc pc = .ok (.invokevirtual idx, 3))
    (k : Rf D ω nL p l e R s m args below meth c t (pc + 3) ls (v :: rest) A1) : Rf D ω nL p l e R s m args below meth c t pc ls (tR x :: rest) A := by
  intro r h H locs la cells slots hA hl
  unfold rcS at hrc
  cases hk : ix8 A x with
  | none => rw [hk] at hrc; cases hrc
  | some j =>
    rw [hk] at hrc
    have hxa : x = some a := hrc
    obtain ⟨hj, hx8⟩ := ix8_spec hk
    have haj : a = dS D j := by
      rw [hxa] at hx8
      rw [Option.some.inj hx8, hA.2.2.2.1]
    subst hxa
    refine w_now X hA fun k1 n1 hk1 hn1 => ?_
    obtain ⟨hx, hb, hml, hown, hts, hK, -, -, -, -, -, -, hRf, hRl⟩ := X
    obtain ⟨cell, g1, g2, g3, g4⟩ := (hK.2.2.2.1 j hj).1
    have g5 : H[a]? = some cell := by rw [haj, hA.2.2.2.2.2.1 _ (by omega)]; exact g1
    refine w_run (va_runV (As := []) (rest := rest.map tv) (b := a) (C := "WarpMill$Sort") ⟨hx, hb, hml, hown, hts⟩ hM (cwV 0 hts (lw_V q1 q2 q3 q4 q5) rfl rfl rfl ⟨hy, hd⟩ (by rw [hRf, hRl]; exact hR)) ⟨blindP, ⟨cell, g5, g2, g3⟩, fun U hU hW => ⟨rfl, by rw [hU]; exact hA, hK.warm hW⟩⟩ rfl rfl hl.1 rfl (room8 h8) d ⟨by omega, by omega⟩) fun v1 st u locs1 hq => ?_
    obtain ⟨hv, hA1⟩ := hq
    cases hv
    exact k r h u.heap locs1 la (k1 + hC A) (n1 + hS A) hA1 hl
end RZ
