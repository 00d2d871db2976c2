/-! BASE 10: the Object arrays' copies: getClass, the mirror, System.arraycopy -/
theorem stok_cast {A : AH} {b : Nat} {D : DE} {H : Heap} {s : State} (hK : KN D s) (hA : AbsH D A H) (h : (stok A 3 (some b)).isSome = true) : ∃ cell : Cell, H[b]? = some cell ∧ cell.vm.isStatics = false ∧ (∃ kC : Class, s.vm.classes[cell.cls]? = some kC) ∧ ∀ comp : ClassId, s.vm.findClass "java/lang/Object" = some comp → s.vm.assignable cell.cls comp = true := by
  simp only [stok] at h
  cases hk : kd A (some b) with
  | none => rw [hk] at h; cases h
  | some ci =>
    rw [hk] at h
    obtain ⟨b', fs, eb, hm⟩ := kd_spec hk
    cases eb
    simp only [show ¬ (3 = 4) by decide, if_false] at h
    split at h
    · rename_i hc
      obtain ⟨r0, hr0, hq⟩ : ∃ r0 : vw_C, wcl[ci]? = some r0 ∧ va_Nw (.castable r0.1 "java/lang/Object") s := by
        rcases hc with rfl | rfl | rfl | rfl | rfl | rfl | rfl
        · exact ⟨_, rfl, hK.2.1 _ q2030 rfl⟩
        · exact ⟨_, rfl, hK.2.1 _ q2032 rfl⟩
        · exact ⟨_, rfl, hK.2.1 _ q2034 rfl⟩
        · exact ⟨_, rfl, hK.2.1 _ q2037 rfl⟩
        · exact ⟨_, rfl, hK.2.1 _ q2038 rfl⟩
        · exact ⟨_, rfl, hK.2.1 _ q2039 rfl⟩
        · exact ⟨_, rfl, hK.2.1 _ q2040 rfl⟩
      obtain ⟨r', hr', cellV, g1, g2, g3, -⟩ := (hA.one hm) 0 _ rfl
      have hcls := (hK.1.1 ci r0 hr0).2
      obtain ⟨kC, hkC, -⟩ := hcls.2
      refine ⟨cellV, g1, by rw [g3]; rfl, ⟨kC, by rw [g2]; exact hkC⟩, fun comp hcomp => ?_⟩
      obtain ⟨c0, t1, f1, f2, f3⟩ := Cond.castable_spec (va_Nw.use (A := #[]) rfl hq)
      cases hcls.1.symm.trans f1
      cases hcomp.symm.trans f2
      rw [g2]
      exact f3
    · cases h
theorem cpA_spec {A A1 : AH} {x y : Option Nat} {sp dp n : Int32} (h : cpA A x sp y dp n = some A1) : ∃ a0 a t0 n0 n1 f g, x = some a0 ∧ y = some a ∧ hM A a0 = some (.inl (t0, n0, .inr (.inr (.inr (.inr f))))) ∧ hM A a = some (.inl (3, n1, .inr (.inr (.inr (.inr g))))) ∧ (t0 = 3 ∨ t0 = 6) ∧ ¬ sp < 0 ∧ ¬ dp < 0 ∧ ¬ n < 0 ∧ sp.toNatClampNeg + n.toNatClampNeg ≤ n0 ∧ dp.toNatClampNeg + n.toNatClampNeg ≤ n1 ∧
    (∀ i, i < n.toNatClampNeg → (stok A 3 (f (sp.toNatClampNeg + i))).isSome = true) ∧ A1 = hSet A a (.inl (3, n1, .inr (.inr (.inr (.inr (va_cpy f g sp.toNatClampNeg dp.toNatClampNeg n.toNatClampNeg)))))) := by
  unfold cpA at h
  cases hx : arr? A x with
  | none => rw [hx] at h; cases h
  | some o0 =>
    cases hy : arr? A y with
    | none => rw [hx, hy] at h; cases h
    | some o1 =>
      rw [hx, hy] at h
      obtain ⟨a0, e1, e2⟩ := arr?_spec hx
      obtain ⟨a, e3, e4⟩ := arr?_spec hy
      rcases o0 with ⟨t0, n0, f | f | f | f | f⟩
      · cases h
      · cases h
      · cases h
      · cases h
      · rcases o1 with ⟨t1, n1, g | g | g | g | g⟩
        · cases h
        · cases h
        · cases h
        · cases h
        · simp only [Option.bind_some] at h
          split at h
          · rename_i hc
            obtain ⟨c1, c2, c3, c4, c5, c6, c7, c8⟩ := hc
            subst c2
            cases h
            subst e1
            subst e3
            exact ⟨a0, a, t0, n0, n1, f, g, rfl, rfl, e2, e4, c1, c3, c4, c5, c6, c7, fun i hi => List.all_eq_true.mp c8 i (List.mem_range.mpr hi), rfl⟩
          · cases h
section RM
variable {α : Type} {D : DE} {ω : α → Option TV × AH} {cc : ByteArray} {own : String} {nL fr lo : Nat} {ret : Option FieldType}
  {p : Program} {l : Launch} {e : Env} {R : Room} {s : State} {m : MethodId} {args : Array Value} {below : List Frame} {meth : Method} {c : Code}
  {t : Option α} {pc : Nat} {ls ls' : List (Option TV)} {rest : List TV} {A : AH}
theorem rf_ldcM (X : Cx D cc own nL fr lo ret p R s m args meth c) {idx : Nat} (q : Cond.classLink own idx "[Ljava/lang/Object;" ∈ lw_all) (d : decode cc pc = .ok (.ldc idx, 2))
    (k : Rf D ω nL p l e R s m args below meth c t (pc + 2) ls (tR (some (hA A 10)) :: rest) A) : Rf D ω nL p l e R s m args below meth c t pc ls rest A := by
  intro r h H locs la cells slots hA hl
  have h1 := k r h H locs la cells slots hA hl
  rw [hA.2.2.2.1] at h1
  exact va_ldcM X.1 X.2.1 X.2.2.2.1 (X.2.2.2.2.1 _ q) X.2.2.2.2.2.1.2.2.2.2 d h1
theorem rf_getC (X : Cx D cc own nL fr lo ret p R s m args meth c) {idx : Nat} (q : Cond.methodLink own idx ⟨"java/lang/Object", "getClass", "()Ljava/lang/Class;"⟩ ∈ lw_all) (hR : 1 ≤ fr ∧ 60 ≤ lo) (h8 : (rest.map tcat).sum ≤ 8) {x : Option Nat} {u : Unit} (hg : gC A x = some u) (d : decode cc pc = .ok (.invokevirtual idx, 3))
    (k : Rf D ω nL p l e R s m args below meth c t (pc + 3) ls (tR (some (hA A 10)) :: rest) A) : Rf D ω nL p l e R s m args below meth c t pc ls (tR x :: rest) A := by
  intro r h H locs la cells slots hA hl
  unfold gC at hg
  cases ho : arr? A x with
  | none => rw [ho] at hg; cases hg
  | some o =>
    rw [ho] at hg
    obtain ⟨a, rfl, ha⟩ := arr?_spec ho
    simp only [Option.bind_some] at hg
    split at hg
    · rename_i ht
      have h1 := k r h H locs la cells slots hA hl
      rw [hA.2.2.2.1] at h1
      obtain ⟨hx, hb, hml, hown, hts, hK, -, -, -, -, -, -, hRf, hRl⟩ := X
      obtain ⟨t0, o2⟩ := o
      have hq : arC (dA D) t0 = dA D 3 := by
        have ht' : t0 = 3 ∨ t0 = 6 := ht
        rcases ht' with rfl | rfl <;> rfl
      have hP := hA.one ha
      simp only [toE, hq] at hP
      have hcell : H[a]? = some (vp_cell (dA D 3) o2) := hP 0 _ rfl
      have hnm : s.vm.findClass "[Ljava/lang/Object;" = some (dA D 3) := va_nmO (hK.1.2 3 _ rfl).2 (by decide)
      have hv0 : (vp_cell (dA D 3) o2).cls = dA D 3 ∧ (vp_cell (dA D 3) o2).vm = .none := by
        obtain ⟨n, f | f | f | f | f⟩ := o2 <;> exact ⟨rfl, rfl⟩
      have e8 := tv_sum rest
      exact va_getC hx hb (by rw [hml]; exact hl.1.symm) hown (hts _ q) (va_Nw.use rfl (hK.2.1 _ q2020 rfl)) (hts _ q2019) (hts _ q652) (hts _ q676) hK.2.2.2.2 ⟨_, hcell, by rw [hv0.2]; rfl, by rw [hv0.1]; exact hnm⟩ (by omega) (by omega) d h1
    · cases hg
theorem rf_acopy (X : Cx D cc own nL fr lo ret p R s m args meth c) {idx : Nat} (q : Cond.methodLink own idx arraycopyName ∈ lw_all) (hR : 1 ≤ fr ∧ 60 ≤ lo) (h8 : (rest.map tcat).sum ≤ 8) {x y : Option Nat} {sp dp n : Int32} {A1 : AH} (hp : cpA A x sp y dp n = some A1) (d : decode cc pc = .ok (.invokestatic idx, 3))
    (k : Rf D ω nL p l e R s m args below meth c t (pc + 3) ls rest A1) : Rf D ω nL p l e R s m args below meth c t pc ls (tI n :: tI dp :: tR y :: tI sp :: tR x :: rest) A := by
  intro r h H locs la cells slots hA hl
  obtain ⟨a0, a, t0, n0, n1, f, g, rfl, rfl, ha0, ha1, ht0, h1, h2, h3, h4, h5, hel, rfl⟩ := cpA_spec hp
  obtain ⟨hx, hb, hml, hown, hts, hK, -, -, -, -, -, -, hRf, hRl⟩ := X
  have hq0 : arC (dA D) t0 = dA D 3 := by rcases ht0 with rfl | rfl <;> rfl
  have nn : ∀ z : Int32, ¬ z < 0 → z.toInt = (z.toNatClampNeg : Int) := by
    intro z hz
    have hz0 : (0 : Int) ≤ z.toInt := by
      have := Int32.not_lt.mp hz
      simpa using Int32.le_iff_toInt_le.mp this
    show z.toInt = ((z.toInt.toNat : Nat) : Int)
    omega
  intro T hT XS
  have hP0 := hA.one ha0
  simp only [toE, hq0] at hP0
  have hP1 := hA.one ha1
  have hc0 : H[a0]? = some (vp_cell (dA D 3) (n0, .inr (.inr (.inr (.inr f))))) := hP0 0 _ rfl
  have hc1 : H[a]? = some (vp_cell (dA D 3) (n1, .inr (.inr (.inr (.inr g))))) := hP1 0 _ rfl
  have htt : (tysD D)[3]? = some (dA D 3, .object "java/lang/Object") := rfl
  obtain ⟨-, k0, hk0, cm0, hkk0⟩ := (hK.1.2 3 _ htt).1 n0 (fun j => va_rf (f j))
  obtain ⟨-, k1, hk1, cm1, hkk1⟩ := (hK.1.2 3 _ htt).1 n1 (fun j => va_rf (g j))
  have e8 := tv_sum rest
  have hnw : nativeFrameWords "java/lang/System" "arraycopy" 5 ≤ 40 := by decide
  obtain ⟨vm', X', step⟩ := XS.arraycopy hx hown (hts _ q) (hts _ q261) (hts _ q260) (hts _ q94) (src := a0) (dst := a) (cs := vp_cell (dA D 3) (n0, .inr (.inr (.inr (.inr f))))) (cd := vp_cell (dA D 3) (n1, .inr (.inr (.inr (.inr g))))) (srcPos := sp) (destPos := dp) (n := n) (by rw [hT]; exact hc0) (by rw [hT]; exact hc1)
    (fun _ h => by cases h) (fun _ h => by cases h) (fun h => by cases h) (fun h => by cases h) hk0 hk1 hkk0 hkk1 rfl h1 h2 h3
    (by rw [nn sp h1, nn n h3]; show ¬ _ > ((arrV (dA D 3) n0 (fun j => va_rf (f j))).slots.size : Int); rw [arrV_size]; omega)
    (by rw [nn dp h2, nn n h3]; show ¬ _ > ((arrV (dA D 3) n1 (fun j => va_rf (g j))).slots.size : Int); rw [arrV_size]; omega)
    (fun vm₁ hal i hi => by
      have e : (vp_cell (dA D 3) (n0, .inr (.inr (.inr (.inr f))))).slots.getD (sp.toNatClampNeg + i) .null = va_rf (f (sp.toNatClampNeg + i)) := by
        show (arrV (dA D 3) n0 (fun j => va_rf (f j))).slots.getD _ _ = _
        rw [Array.getD_eq_getD_getElem?, arrV_read _ _ (by omega)]
        rfl
      rw [e]
      have hst := hel i hi
      cases hy : f (sp.toNatClampNeg + i) with
      | none => exact ⟨rfl, trivial⟩
      | some y =>
        rw [hy] at hst
        obtain ⟨cellV, g1, g2, ⟨kC, hkC⟩, gas⟩ := stok_cast hK hA hst
        obtain ⟨kA, comp, r1, r2, r3, -⟩ := (hK.1.2 3 _ htt).2
        cases hk1.symm.trans r1
        cases hkk1.symm.trans r2
        obtain ⟨kE, hkE, -⟩ := Vm.findClass_spec r3
        obtain ⟨kC', hkC', -⟩ := hal.2.2 _ _ hkC
        obtain ⟨kE', hkE', -⟩ := hal.2.2 _ _ hkE
        refine ⟨rfl, cellV, (show T.heap[y]? = some cellV by rw [hT]; exact g1), (fun q h => by rw [h] at g2; cases g2), ⟨kC', hkC'⟩, ?_, ?_⟩
        · exact ⟨kE', hkE'⟩
        · show vm₁.assignable _ _ = true
          rw [hal.assignable]
          exact gas _ r3)
    (g := F0 m pc la ((tI n :: tI dp :: tR (some a) :: tI sp :: tR (some a0) :: rest).map tv)) rfl (by rw [hml]; exact hl.1) (rest := rest.map tv) rfl (by rw [hb]; exact d) (by omega) (by show 2 * 0 + _ + _ ≤ _; omega)
  have e1 : copied (vp_cell (dA D 3) (n0, .inr (.inr (.inr (.inr f))))) (vp_cell (dA D 3) (n1, .inr (.inr (.inr (.inr g))))) sp dp n = vp_cell (dA D 3) (n1, .inr (.inr (.inr (.inr (va_cpy f g sp.toNatClampNeg dp.toNatClampNeg n.toNatClampNeg))))) := by
    rw [vp_cell_q, vp_cell_q, vp_cell_q]
    exact va_copied (fun z => va_rf z) (dA D 3) (dA D 3) f g h4
  rw [e1] at X' step
  have hlt : a < H.size := (Array.getElem?_eq_some_iff.mp hc1).1
  have hheap : ((T.setVm vm').setCell a (vp_cell (dA D 3) (n1, .inr (.inr (.inr (.inr (va_cpy f g sp.toNatClampNeg dp.toNatClampNeg n.toNatClampNeg))))))).heap = H.setIfInBounds a (vp_cell (dA D 3) (n1, .inr (.inr (.inr (.inr (va_cpy f g sp.toNatClampNeg dp.toNatClampNeg n.toNatClampNeg)))))) := by rw [← hT]; rfl
  have oq : ∀ q : Nat, q ≠ a → (H.setIfInBounds a (vp_cell (dA D 3) (n1, .inr (.inr (.inr (.inr (va_cpy f g sp.toNatClampNeg dp.toNatClampNeg n.toNatClampNeg)))))))[q]? = H[q]? := fun q hq => by simp [Array.getElem?_setIfInBounds, Ne.symm hq]
  have hself : (H.setIfInBounds a (vp_cell (dA D 3) (n1, .inr (.inr (.inr (.inr (va_cpy f g sp.toNatClampNeg dp.toNatClampNeg n.toNatClampNeg)))))))[a]? = some (vp_cell (dA D 3) (n1, .inr (.inr (.inr (.inr (va_cpy f g sp.toNatClampNeg dp.toNatClampNeg n.toNatClampNeg)))))) := by simp [Array.getElem?_setIfInBounds, hlt]
  have hA1 := hA.set (H' := H.setIfInBounds a (vp_cell (dA D 3) (n1, .inr (.inr (.inr (.inr (va_cpy f g sp.toNatClampNeg dp.toNatClampNeg n.toNatClampNeg))))))) (e' := .inl (3, n1, .inr (.inr (.inr (.inr (va_cpy f g sp.toNatClampNeg dp.toNatClampNeg n.toNatClampNeg)))))) ha1 (fun q => absurd q (by show ¬ 5 ≤ 3; decide)) (by simp) oq (by rw [hself, hc1, vp_cell_q, vp_cell_q]; simp [arrV_size]) hself
  obtain ⟨t2, a1, b1⟩ := k r h _ _ la cells slots hA1 hl _ hheap X'
  exact ⟨t2, step t2 a1, b1⟩
end RM
