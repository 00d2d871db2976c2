/-! BASE 6: rows of arrays, of what is new, casts, statics -/
theorem arr?_spec {A : AH} {x : Option Nat} {o : Nat × vp_A} (h : arr? A x = some o) : ∃ a, x = some a ∧ hM A a = some (.inl o) := by
  cases x with
  | none => cases h
  | some a =>
    refine ⟨a, rfl, ?_⟩
    simp only [arr?] at h
    split at h
    · rename_i q hq
      cases h
      exact hq
    · cases h
theorem ixok_spec {i : Int32} {n : Nat} {u : Unit} (h : ixok i n = some u) : vp_in i n := by
  unfold ixok at h
  split at h
  · cases h
  · rename_i q; exact q
theorem aI_spec {A : AH} {x : Option Nat} {i v : Int32} (h : aI A x i = some v) : ∃ a t n f, x = some a ∧ hM A a = some (.inl (t, n, .inl f)) ∧ (t = 0 ∨ t = 5) ∧ vp_in i n ∧ v = f i.toNatClampNeg := by
  unfold aI at h
  cases ho : arr? A x with
  | none => rw [ho] at h; cases h
  | some o =>
    rw [ho] at h
    obtain ⟨a, e1, e2⟩ := arr?_spec ho
    rcases o with ⟨t, n, f | f⟩
    · simp only [Option.bind_some] at h
      split at h
      · rename_i ht
        cases hx : ixok i n with
        | none => rw [hx] at h; cases h
        | some u => rw [hx] at h; cases h; exact ⟨a, t, n, f, e1, e2, ht, ixok_spec hx, rfl⟩
      · cases h
    · cases h
theorem aZ_spec {A : AH} {x : Option Nat} {i v : Int32} (h : aZ A x i = some v) : ∃ a n f, x = some a ∧ hM A a = some (.inl (1, n, .inl f)) ∧ vp_in i n ∧ v = f i.toNatClampNeg := by
  unfold aZ at h
  cases ho : arr? A x with
  | none => rw [ho] at h; cases h
  | some o =>
    rw [ho] at h
    obtain ⟨a, e1, e2⟩ := arr?_spec ho
    rcases o with ⟨t, n, f | f⟩
    · simp only [Option.bind_some] at h
      split at h
      · rename_i ht
        subst ht
        cases hx : ixok i n with
        | none => rw [hx] at h; cases h
        | some u => rw [hx] at h; cases h; exact ⟨a, n, f, e1, e2, ixok_spec hx, rfl⟩
      · cases h
    · cases h
theorem aL_spec {A : AH} {x : Option Nat} {i : Int32} {v : Int64} (h : aL A x i = some v) : ∃ a n f, x = some a ∧ hM A a = some (.inl (2, n, .inr (.inl f))) ∧ vp_in i n ∧ v = f i.toNatClampNeg := by
  unfold aL at h
  cases ho : arr? A x with
  | none => rw [ho] at h; cases h
  | some o =>
    rw [ho] at h
    obtain ⟨a, e1, e2⟩ := arr?_spec ho
    rcases o with ⟨t, n, f | f | f⟩
    · cases h
    · simp only [Option.bind_some] at h
      split at h
      · rename_i ht
        subst ht
        cases hx : ixok i n with
        | none => rw [hx] at h; cases h
        | some u => rw [hx] at h; cases h; exact ⟨a, n, f, e1, e2, ixok_spec hx, rfl⟩
      · cases h
    · cases h
theorem aR_spec {A : AH} {x : Option Nat} {i : Int32} {v : Option Nat} (h : aR A x i = some v) : ∃ a t n f, x = some a ∧ hM A a = some (.inl (t, n, .inr (.inr (.inr (.inr f))))) ∧ (t = 3 ∨ t = 4 ∨ t = 6) ∧ vp_in i n ∧ v = f i.toNatClampNeg := by
  unfold aR at h
  cases ho : arr? A x with
  | none => rw [ho] at h; cases h
  | some o =>
    rw [ho] at h
    obtain ⟨a, e1, e2⟩ := arr?_spec ho
    rcases o with ⟨t, n, f | f | f | f | f⟩
    · cases h
    · cases h
    · cases h
    · cases h
    · simp only [Option.bind_some] at h
      split at h
      · rename_i ht
        cases hx : ixok i n with
        | none => rw [hx] at h; cases h
        | some u => rw [hx] at h; cases h; exact ⟨a, t, n, f, e1, e2, ht, ixok_spec hx, rfl⟩
      · cases h
theorem sI_spec {A A1 : AH} {x : Option Nat} {i v : Int32} (h : sI A x i v = some A1) : ∃ a n f, x = some a ∧ hM A a = some (.inl (0, n, .inl f)) ∧ vp_in i n ∧ A1 = hSet A a (.inl (0, n, .inl (upd f i.toNatClampNeg v))) := by
  unfold sI at h
  cases ho : arr? A x with
  | none => rw [ho] at h; cases h
  | some o =>
    rw [ho] at h
    obtain ⟨a, e1, e2⟩ := arr?_spec ho
    rcases o with ⟨t, n, f | f⟩
    · simp only [Option.bind_some] at h
      split at h
      · rename_i ht
        subst ht
        cases hx : ixok i n with
        | none => rw [hx] at h; cases h
        | some u => rw [hx] at h; cases h; subst e1; exact ⟨a, n, f, rfl, e2, ixok_spec hx, rfl⟩
      · cases h
    · cases h
theorem sZ_spec {A A1 : AH} {x : Option Nat} {i v : Int32} (h : sZ A x i v = some A1) : ∃ a n f, x = some a ∧ hM A a = some (.inl (1, n, .inl f)) ∧ vp_in i n ∧ A1 = hSet A a (.inl (1, n, .inl (upd f i.toNatClampNeg (nb v)))) := by
  unfold sZ at h
  cases ho : arr? A x with
  | none => rw [ho] at h; cases h
  | some o =>
    rw [ho] at h
    obtain ⟨a, e1, e2⟩ := arr?_spec ho
    rcases o with ⟨t, n, f | f⟩
    · simp only [Option.bind_some] at h
      split at h
      · rename_i ht
        subst ht
        cases hx : ixok i n with
        | none => rw [hx] at h; cases h
        | some u => rw [hx] at h; cases h; subst e1; exact ⟨a, n, f, rfl, e2, ixok_spec hx, rfl⟩
      · cases h
    · cases h
theorem sL_spec {A A1 : AH} {x : Option Nat} {i : Int32} {v : Int64} (h : sL A x i v = some A1) : ∃ a n f, x = some a ∧ hM A a = some (.inl (2, n, .inr (.inl f))) ∧ vp_in i n ∧ A1 = hSet A a (.inl (2, n, .inr (.inl (vp_updL f i.toNatClampNeg v)))) := by
  unfold sL at h
  cases ho : arr? A x with
  | none => rw [ho] at h; cases h
  | some o =>
    rw [ho] at h
    obtain ⟨a, e1, e2⟩ := arr?_spec ho
    rcases o with ⟨t, n, f | f | f⟩
    · cases h
    · simp only [Option.bind_some] at h
      split at h
      · rename_i ht
        subst ht
        cases hx : ixok i n with
        | none => rw [hx] at h; cases h
        | some u => rw [hx] at h; cases h; subst e1; exact ⟨a, n, f, rfl, e2, ixok_spec hx, rfl⟩
      · cases h
    · cases h
theorem sR_spec {A A1 : AH} {x : Option Nat} {i : Int32} {v : Option Nat} (h : sR A x i v = some A1) : ∃ a t n f, x = some a ∧ hM A a = some (.inl (t, n, .inr (.inr (.inr (.inr f))))) ∧ (t = 3 ∨ t = 4) ∧ vp_in i n ∧ stok A t v = some () ∧ A1 = hSet A a (.inl (t, n, .inr (.inr (.inr (.inr (va_up f i.toNatClampNeg v)))))) := by
  unfold sR at h
  cases ho : arr? A x with
  | none => rw [ho] at h; cases h
  | some o =>
    rw [ho] at h
    obtain ⟨a, e1, e2⟩ := arr?_spec ho
    rcases o with ⟨t, n, f | f | f | f | f⟩
    · cases h
    · cases h
    · cases h
    · cases h
    · simp only [Option.bind_some] at h
      split at h
      · rename_i ht
        cases hx : ixok i n with
        | none => rw [hx] at h; cases h
        | some u =>
          rw [hx] at h
          cases hy : stok A t v with
          | none => rw [hy] at h; cases h
          | some u => rw [hy] at h; cases h; subst e1; exact ⟨a, t, n, f, rfl, e2, ht, ixok_spec hx, hy, rfl⟩
      · cases h
theorem kd_spec {A : AH} {x : Option Nat} {ci : Nat} (h : kd A x = some ci) : ∃ a fs, x = some a ∧ hM A a = some (.inr (ci, fs)) := by
  cases x with
  | none => cases h
  | some a =>
    simp only [kd] at h
    split at h
    · rename_i o ho
      cases h
      exact ⟨a, o.2, rfl, ho⟩
    · cases h
theorem rcv_spec {A : AH} {x : Option Nat} {ci a : Nat} (h : rcv A x ci = some a) : x = some a ∧ ∃ fs, hM A a = some (.inr (ci, fs)) := by
  cases x with
  | none => cases h
  | some b =>
    simp only [rcv] at h
    split at h
    · rename_i hk
      cases h
      obtain ⟨a, fs, e, hm⟩ := kd_spec hk
      cases e
      exact ⟨rfl, fs, hm⟩
    · cases h
theorem arC_lt {f : Nat → ClassId} {t : Nat} (h : t < 5) : arC f t = f t := by
  unfold arC
  rw [if_neg (by omega), if_neg (by omega)]
theorem arC_5 {f : Nat → ClassId} : arC f 5 = f 0 := rfl
theorem arC_6 {f : Nat → ClassId} : arC f 6 = f 3 := rfl
theorem AbsH.one {D : DE} {A : AH} {H : Heap} {a : Nat} {x : va_E} (hA : AbsH D A H) (ha : hM A a = some x) : va_P (dG D) wcl [(a, toE D x)] H := by
  intro j q hq
  have hj : j < 1 := (List.getElem?_eq_some_iff.mp hq).1
  rw [show j = 0 by omega] at hq
  cases hq
  exact (hA.2.2.2.2.2.2 a _ ha).1
/-- the constants of Sort -/
theorem ix8_spec {A : AH} {x : Option Nat} {k : Nat} (h : ix8 A x = some k) : k < 8 ∧ x = some (hA A k) := by
  have h1 := List.find?_some h
  have h2 := List.mem_of_find?_eq_some h
  exact ⟨List.mem_range.mp h2, by simpa using h1⟩
section RA
variable {α : Type} {D : DE} {ω : α → Option TV × AH} {cc : ByteArray} {own : String} {nL fr lo : Nat} {ret : Option FieldType}
  {p : Program} {l : Launch} {e : Env} {R : Room} {s : State} {m : MethodId} {args : Array Value} {below : List Frame} {meth : Method} {c : Code}
  {t : Option α} {pc : Nat} {ls ls' : List (Option TV)} {rest : List TV} {A : AH} {H : Heap} {locs : List Loc} {cells slots : Nat} {Q : State → Prop}
theorem rf_iald (X : Cx D cc own nL fr lo ret p R s m args meth c) {x : Option Nat} {i v : Int32} (hg : aI A x i = some v) (d : decode cc pc = .ok (.iaload, 1))
    (k : Rf D ω nL p l e R s m args below meth c t (pc + 1) ls (tI v :: rest) A) : Rf D ω nL p l e R s m args below meth c t pc ls (tI i :: tR x :: rest) A := by
  intro r h H locs la cells slots hA hl
  obtain ⟨a, t0, n, f, rfl, ha, ht, hin, rfl⟩ := aI_spec hg
  have hq : arC (dA D) t0 = dA D 0 := by rcases ht with rfl | rfl <;> rfl
  have hP := hA.one ha
  simp only [toE, hq] at hP
  exact va_iald X.1 X.2.1 X.2.2.2.2.2.1.1 hP 0 0 rfl rfl hin d (k r h H locs la cells slots hA hl)
theorem rf_zald (X : Cx D cc own nL fr lo ret p R s m args meth c) {x : Option Nat} {i v : Int32} (hg : aZ A x i = some v) (d : decode cc pc = .ok (.baload, 1))
    (k : Rf D ω nL p l e R s m args below meth c t (pc + 1) ls (tI v :: rest) A) : Rf D ω nL p l e R s m args below meth c t pc ls (tI i :: tR x :: rest) A := by
  intro r h H locs la cells slots hA hl
  obtain ⟨a, n, f, rfl, ha, hin, rfl⟩ := aZ_spec hg
  have hP := hA.one ha
  exact va_zald X.1 X.2.1 X.2.2.2.2.2.1.1 hP 0 1 rfl rfl hin d (k r h H locs la cells slots hA hl)
theorem rf_lald (X : Cx D cc own nL fr lo ret p R s m args meth c) {x : Option Nat} {i : Int32} {v : Int64} (hg : aL A x i = some v) (d : decode cc pc = .ok (.laload, 1))
    (k : Rf D ω nL p l e R s m args below meth c t (pc + 1) ls (tL v :: rest) A) : Rf D ω nL p l e R s m args below meth c t pc ls (tI i :: tR x :: rest) A := by
  intro r h H locs la cells slots hA hl
  obtain ⟨a, n, f, rfl, ha, hin, rfl⟩ := aL_spec hg
  have hP := hA.one ha
  exact va_lald X.1 X.2.1 X.2.2.2.2.2.1.1 hP 0 2 rfl rfl hin d (k r h H locs la cells slots hA hl)
theorem rf_aald (X : Cx D cc own nL fr lo ret p R s m args meth c) {x : Option Nat} {i : Int32} {v : Option Nat} (hg : aR A x i = some v) (d : decode cc pc = .ok (.aaload, 1))
    (k : Rf D ω nL p l e R s m args below meth c t (pc + 1) ls (tR v :: rest) A) : Rf D ω nL p l e R s m args below meth c t pc ls (tI i :: tR x :: rest) A := by
  intro r h H locs la cells slots hA hl
  obtain ⟨a, t0, n, f, rfl, ha, ht, hin, rfl⟩ := aR_spec hg
  have hP := hA.one ha
  rcases ht with rfl | rfl | rfl
  · exact va_aldq X.1 X.2.1 X.2.2.2.2.2.1.1 hP 0 3 rfl rfl hin d (k r h H locs la cells slots hA hl)
  · exact va_aldq X.1 X.2.1 X.2.2.2.2.2.1.1 hP 0 4 rfl rfl hin d (k r h H locs la cells slots hA hl)
  · exact va_aldq X.1 X.2.1 X.2.2.2.2.2.1.1 hP 0 3 rfl rfl hin d (k r h H locs la cells slots hA hl)
theorem rf_alen (X : Cx D cc own nL fr lo ret p R s m args meth c) {x : Option Nat} {v : Int32} (hg : aLen A x = some v) (d : decode cc pc = .ok (.arraylength, 1))
    (k : Rf D ω nL p l e R s m args below meth c t (pc + 1) ls (tI v :: rest) A) : Rf D ω nL p l e R s m args below meth c t pc ls (tR x :: rest) A := by
  intro r h H locs la cells slots hA hl
  unfold aLen at hg
  cases ho : arr? A x with
  | none => rw [ho] at hg; cases hg
  | some o =>
    rw [ho] at hg
    obtain ⟨a, rfl, ha⟩ := arr?_spec ho
    obtain ⟨t0, q⟩ := o
    simp only [Option.bind_some] at hg
    split at hg
    · rename_i ht
      cases hg
      have hP := hA.one ha
      obtain ⟨j, ty, hj⟩ : ∃ j ty, (tysD D)[j]? = some (arC (dA D) t0, ty) := by
        have : t0 = 0 ∨ t0 = 1 ∨ t0 = 2 ∨ t0 = 3 ∨ t0 = 4 ∨ t0 = 5 ∨ t0 = 6 := by have : t0 < 7 := ht; omega
        rcases this with rfl | rfl | rfl | rfl | rfl | rfl | rfl
        · exact ⟨0, _, rfl⟩
        · exact ⟨1, _, rfl⟩
        · exact ⟨2, _, rfl⟩
        · exact ⟨3, _, rfl⟩
        · exact ⟨4, _, rfl⟩
        · exact ⟨0, _, rfl⟩
        · exact ⟨3, _, rfl⟩
      exact va_alen X.1 X.2.1 X.2.2.2.2.2.1.1 hP 0 j rfl hj rfl d (k r h H locs la cells slots hA hl)
    · cases hg
theorem rf_iast (X : Cx D cc own nL fr lo ret p R s m args meth c) {x : Option Nat} {i v : Int32} {A1 : AH} (hp : sI A x i v = some A1) (d : decode cc pc = .ok (.iastore, 1))
    (k : Rf D ω nL p l e R s m args below meth c t (pc + 1) ls rest A1) : Rf D ω nL p l e R s m args below meth c t pc ls (tI v :: tI i :: tR x :: rest) A := by
  intro r h H locs la cells slots hA hl
  obtain ⟨a, n, f, rfl, ha, hin, rfl⟩ := sI_spec hp
  have hP := hA.one ha
  refine W.iast X.1 X.2.1 (hP 0 _ rfl) ((X.2.2.2.2.2.1.1.2 0 _ rfl).1 n (fun j => .int (f j))) (fun q => by cases q) (by show ¬ (i < 0 ∨ (arrV _ _ _).slots.size ≤ _); rw [arrV_size]; exact hin) rfl rfl d fun H1 e1 z oq => ?_
  refine k r h H1 _ la cells slots (hA.set ha (by intro q; cases q) z oq ?_ ?_) hl
  · rw [e1, hP 0 _ rfl]; simp [Cell.setSlot]
  · show H1[a]? = some (vp_cell _ _)
    rw [e1, vp_cell_i, vp_cell_i, arrV_store]
    congr 2
    funext q
    by_cases hq : q = i.toNatClampNeg
    · subst hq; simp [updV, upd]
    · simp [updV, upd, hq]
theorem rf_zast (X : Cx D cc own nL fr lo ret p R s m args meth c) {x : Option Nat} {i v : Int32} {A1 : AH} (hp : sZ A x i v = some A1) (d : decode cc pc = .ok (.bastore, 1))
    (k : Rf D ω nL p l e R s m args below meth c t (pc + 1) ls rest A1) : Rf D ω nL p l e R s m args below meth c t pc ls (tI v :: tI i :: tR x :: rest) A := by
  intro r h H locs la cells slots hA hl
  obtain ⟨a, n, f, rfl, ha, hin, rfl⟩ := sZ_spec hp
  have hP := hA.one ha
  refine W.zast X.1 X.2.1 (hP 0 _ rfl) ((X.2.2.2.2.2.1.1.2 1 _ rfl).1 n (fun j => .int (f j))) (fun q => by cases q) (by show ¬ (i < 0 ∨ (arrV _ _ _).slots.size ≤ _); rw [arrV_size]; exact hin) rfl rfl d fun H1 e1 z oq => ?_
  refine k r h H1 _ la cells slots (hA.set ha (fun q => absurd q (by show ¬ 5 ≤ 1; decide)) z oq ?_ ?_) hl
  · rw [e1, hP 0 _ rfl]; simp [Cell.setSlot]
  · show H1[a]? = some (vp_cell _ _)
    rw [e1, vp_cell_i, vp_cell_i, arrV_store]
    congr 2
    funext q
    by_cases hq : q = i.toNatClampNeg
    · subst hq
      simp [updV, upd, nb, vp_nar]
      try rfl
    · simp [updV, upd, hq]
theorem rf_last (X : Cx D cc own nL fr lo ret p R s m args meth c) {x : Option Nat} {i : Int32} {v : Int64} {A1 : AH} (hp : sL A x i v = some A1) (d : decode cc pc = .ok (.lastore, 1))
    (k : Rf D ω nL p l e R s m args below meth c t (pc + 1) ls rest A1) : Rf D ω nL p l e R s m args below meth c t pc ls (tL v :: tI i :: tR x :: rest) A := by
  intro r h H locs la cells slots hA hl
  obtain ⟨a, n, f, rfl, ha, hin, rfl⟩ := sL_spec hp
  have hP := hA.one ha
  refine W.last X.1 X.2.1 (hP 0 _ rfl) ((X.2.2.2.2.2.1.1.2 2 _ rfl).1 n (fun j => .long (f j))) (fun q => by cases q) (by show ¬ (i < 0 ∨ (arrV _ _ _).slots.size ≤ _); rw [arrV_size]; exact hin) rfl rfl d fun H1 e1 z oq => ?_
  refine k r h H1 _ la cells slots (hA.set ha (fun q => absurd q (by show ¬ 5 ≤ 2; decide)) z oq ?_ ?_) hl
  · rw [e1, hP 0 _ rfl]; simp [Cell.setSlot]
  · show H1[a]? = some (vp_cell _ _)
    rw [e1, vp_cell_l, vp_cell_l, arrV_store]
    congr 2
    funext q
    by_cases hq : q = i.toNatClampNeg
    · subst hq; simp [updV, vp_updL]
    · simp [updV, vp_updL, hq]
theorem rf_aast (X : Cx D cc own nL fr lo ret p R s m args meth c) {x : Option Nat} {i : Int32} {v : Option Nat} {A1 : AH} (hp : sR A x i v = some A1) (d : decode cc pc = .ok (.aastore, 1))
    (k : Rf D ω nL p l e R s m args below meth c t (pc + 1) ls rest A1) : Rf D ω nL p l e R s m args below meth c t pc ls (tR v :: tI i :: tR x :: rest) A := by
  intro r h H locs la cells slots hA hl
  obtain ⟨a, t0, n, f, rfl, ha, ht, hin, hst, rfl⟩ := sR_spec hp
  have hP := hA.one ha
  have hlt : i.toNatClampNeg < n := Nat.not_le.mp fun q => hin (Or.inr q)
  have h0 : ¬ i < 0 := fun q => hin (Or.inl q)
  obtain ⟨E, hE⟩ : ∃ E, (tysD D)[t0]? = some (arC (dA D) t0, .object E) ∧ (t0 = 3 → E = "java/lang/Object") ∧ (t0 = 4 → E = "WarpMill$Warp") := by
    rcases ht with rfl | rfl
    · exact ⟨_, rfl, fun _ => rfl, (fun q => by cases q)⟩
    · exact ⟨_, rfl, (fun q => by cases q), fun _ => rfl⟩
  have hro : ¬ roE (.inl (t0, n, .inr (.inr (.inr (.inr f))))) := by
    rcases ht with rfl | rfl
    · intro q; exact absurd q (by show ¬ 5 ≤ 3; decide)
    · intro q; exact absurd q (by show ¬ 5 ≤ 4; decide)
  cases v with
  | none =>
    refine va_WaastN (C := E) X.1 X.2.1 (hP 0 _ rfl) ((X.2.2.2.2.2.1.1.2 t0 _ hE.1).1 n (fun j => va_rf (f j))) (fun q => by cases q) (by show ¬ (i < 0 ∨ (arrV _ _ _).slots.size ≤ _); rw [arrV_size]; exact hin) rfl rfl d fun H1 e1 z oq => ?_
    refine k r h H1 _ la cells slots (hA.set ha hro z oq ?_ ?_) hl
    · rw [e1, hP 0 _ rfl]; simp [Cell.setSlot]
    · show H1[a]? = some (vp_cell _ _)
      rw [e1, vp_cell_q, vp_cell_q, arrV_store]
      congr 2
      funext q
      by_cases hq : q = i.toNatClampNeg
      · subst hq; simp [updV, va_up, va_rf]
      · simp [updV, va_up, hq]
  | some b =>
    obtain ⟨ci, fs, r0, hb1, hci, hcast⟩ : ∃ (ci : Nat) (fs : List Value) (r0 : vw_C), hM A b = some (.inr (ci, fs)) ∧ wcl[ci]? = some r0 ∧ (r0.1 = E ∨ va_Nw (.castable r0.1 E) s) := by
      simp only [stok] at hst
      cases hk : kd A (some b) with
      | none => rw [hk] at hst; cases hst
      | some ci =>
        rw [hk] at hst
        obtain ⟨b', fs, eb, hm⟩ := kd_spec hk
        cases eb
        rcases ht with rfl | rfl
        · have hE3 := hE.2.1 rfl
          subst hE3
          simp only [show ¬ (3 = 4) by decide, if_false] at hst
          split at hst
          · rename_i hc
            rcases hc with rfl | rfl | rfl | rfl | rfl | rfl | rfl
            · exact ⟨5, fs, _, hm, rfl, Or.inr (X.2.2.2.2.2.1.2.1 _ q2030 rfl)⟩
            · exact ⟨8, fs, _, hm, rfl, Or.inr (X.2.2.2.2.2.1.2.1 _ q2032 rfl)⟩
            · exact ⟨10, fs, _, hm, rfl, Or.inr (X.2.2.2.2.2.1.2.1 _ q2034 rfl)⟩
            · exact ⟨12, fs, _, hm, rfl, Or.inr (X.2.2.2.2.2.1.2.1 _ q2037 rfl)⟩
            · exact ⟨13, fs, _, hm, rfl, Or.inr (X.2.2.2.2.2.1.2.1 _ q2038 rfl)⟩
            · exact ⟨14, fs, _, hm, rfl, Or.inr (X.2.2.2.2.2.1.2.1 _ q2039 rfl)⟩
            · exact ⟨15, fs, _, hm, rfl, Or.inr (X.2.2.2.2.2.1.2.1 _ q2040 rfl)⟩
          · cases hst
        · have hE4 := hE.2.2 rfl
          subst hE4
          simp only [if_true] at hst
          split at hst
          · rename_i hc
            subst hc
            exact ⟨13, fs, _, hm, rfl, Or.inl rfl⟩
          · cases hst
    have hPv := hA.one hb1
    obtain ⟨r', hr', cellV, g1, g2, g3, -⟩ := hPv 0 _ rfl
    have hcls := (X.2.2.2.2.2.1.1.1 ci r0 hci).2
    obtain ⟨kA, comp, k1, k2, k3, -⟩ := (X.2.2.2.2.2.1.1.2 t0 _ hE.1).2
    obtain ⟨kE, hkE, -⟩ := Vm.findClass_spec k3
    obtain ⟨kC, hkC, -⟩ := hcls.2
    have hasg : s.vm.assignable ((dG D).1 ci) comp = true := by
      rcases hcast with h | h
      · have e1 : comp = (dG D).1 ci := Option.some.inj (k3.symm.trans (h ▸ hcls.1))
        rw [e1]; exact va_asg _ _
      · obtain ⟨c0, t1, f1, f2, f3⟩ := Cond.castable_spec (va_Nw.use (A := args) rfl h)
        cases hcls.1.symm.trans f1
        cases k3.symm.trans f2
        exact f3
    refine W.aast X.1 X.2.1 (hP 0 _ rfl) (fun q h => by cases h) (fun h => by cases h) k1 k2 rfl hkE ⟨h0, by show _ < (arrV _ _ _).slots.size; rw [arrV_size]; exact hlt⟩ g1 (fun q h => by rw [g3] at h; cases h) (by rw [g2]; exact hkC) (by rw [g2]; exact hasg) rfl rfl d fun H1 e1 z oq => ?_
    refine k r h H1 _ la cells slots (hA.set ha hro z oq ?_ ?_) hl
    · rw [e1, hP 0 _ rfl]; simp [Cell.setSlot]
    · show H1[a]? = some (vp_cell _ _)
      rw [e1, vp_cell_q, vp_cell_q, arrV_store]
      congr 2
      funext q
      by_cases hq : q = i.toNatClampNeg
      · subst hq; simp [updV, va_up, va_rf]
      · simp [updV, va_up, hq]
end RA
