/-! C65: draws from the pool -/
/-- the pool's lists, what is in them, and their lists -/
def PM (V : CW) (E : EL) (P : PP) (a : Nat) : Prop := PS V P a ∨ (∃ k, k < 3 ∧ a ∈ lt V E 2 k (P 2)) ∨ ∃ k x, k < 2 ∧ x ∈ lt V E 2 k (P 2) ∧ xr V (1202 + 100 * k) x 0 = some a
def DI (nC nS : Nat) (V0 : CW) (E0 : EL) (P : PP) (A : AH) (V : CW) (E : EL) (r : AA) (n0 n1 n2 : Nat) : Prop := St (nC + rqP V E P + ptC V E r P n0 n1 n2) (nS + 4 * rqP V E P + ptS V E r P n0 n1 n2) A V ∧ DS (PM V0 E0 P) V0 E0 V E ∧ WT V E ∧ GL V E ∧ (∀ k x, k < 3 → x ∈ lt V E 2 k (P 2) → x ∈ lt V0 E0 2 k (P 2)) ∧ PN V E r P n0 n1 n2 ∧ (∀ k q a, k < 3 → r (12 + k) q = some a → kdV V a = 12 + k + 1) ∧ kdV V0 (P 2) = 3
section C65
variable {nC nS n : Nat} {A A' : AH} {V V' V'' V0 : CW} {E E' E'' E0 : EL} {r r' : AA} {P : PP} {X X' : Nat → Prop} {n0 n1 n2 m0 m1 m2 : Nat}
theorem DI.go (h : DI nC nS V0 E0 P A V E r n0 n1 n2) (s : St (nC + rqP V' E' P + ptC V' E' r' P m0 m1 m2) (nS + 4 * rqP V' E' P + ptS V' E' r' P m0 m1 m2) A' V') (ds : DS X V E V' E') (hX : ∀ a, kdV V0 a ≠ 0 → X a → PM V0 E0 P a) (wt : WT V' E') (gl : GL V' E') (sub : ∀ k x, k < 3 → x ∈ lt V' E' 2 k (P 2) → x ∈ lt V E 2 k (P 2)) (pn : PN V' E' r' P m0 m1 m2) (rk : ∀ k q a, k < 3 → r' (12 + k) q = some a → kdV V' a = 12 + k + 1) : DI nC nS V0 E0 P A' V' E' r' m0 m1 m2 := by
  obtain ⟨_, h2, _, _, h5, _, _, h8⟩ := h
  exact ⟨s, h2.tr ds hX, wt, gl, fun k x hk hx => h5 k x hk (sub k x hk hx), pn, rk, h8⟩
theorem DI.P2 (h : DI nC nS V0 E0 P A V E r n0 n1 n2) : kdV V (P 2) = 3 := h.2.1.kv (c := 2) h.2.2.2.2.2.2.2
theorem lof2 {k : Nat} (hk : k < 3) : lof 2 k ≠ 0 := by
  have : k = 0 ∨ k = 1 ∨ k = 2 := by omega
  rcases this with e | e | e <;> subst e <;> decide
theorem DI.xp (h : DI nC nS V0 E0 P A V E r n0 n1 n2) {k : Nat} (hk : k < 3) : xr V (200 + k) (P 2) 0 = xr V0 (200 + k) (P 2) 0 := (h.2.1.2.2 (P 2) 2 k h.2.2.2.2.2.2.2 (Or.inr (lof2 hk))).1
/-- the pool's lists are among these -/
theorem DI.pm (h : DI nC nS V0 E0 P A V E r n0 n1 n2) {k z : Nat} (hk : k < 3) (hz : kdV V0 z ≠ 0) (hx : xr V (200 + k) (P 2) 0 = some z) : PM V0 E0 P z := by
  have h1 := h.2.2.1.2.1 (P 2) 2 k h.P2 (lof2 hk)
  obtain ⟨ll, l1, l2, _⟩ := h1
  have : ll = z := Option.some.inj (l1.symm.trans hx)
  subst this
  refine Or.inl ⟨?_, k, hk, by rw [← h.xp hk]; exact hx⟩
  rw [← (h.2.1.1.1 ll hz).1]
  exact l2
/-- the sums of what lists may want -/
theorem sum_ds (hd : DS X V E V' E') (hw : WT V E) (hg : GL V E) (hP : kdV V (P 2) = 3) (rk : ∀ k q a, k < 3 → r (12 + k) q = some a → kdV V a = 12 + k + 1) (hx : ∀ a c ll, (c = 12 ∨ c = 13) → kdV V a = c + 1 → xr V (100 * c + 2) a 0 = some ll → ¬ X ll) : (sumA (fW V' E') (r 13) 128 = sumA (fW V E) (r 13) 128 ∧ ∀ l, (∀ x, x ∈ l → kdV V x = 14) → sumL (fW V' E') l = sumL (fW V E) l) ∧ (sumA (fB V' E') (r 12) 64 = sumA (fB V E) (r 12) 64 ∧ ∀ l, (∀ x, x ∈ l → kdV V x = 13) → sumL (fB V' E') l = sumL (fB V E) l) := by
  have ew : ∀ w, kdV V w = 14 → fW V' E' w = fW V E w := fun w hw' => by
    unfold fW
    rw [(hd.ltc hw (c := 13) (k := 2) hw' (by decide) (fun ll hl => hx w 13 ll (Or.inr rfl) hw' hl)).2]
  have eb : ∀ w, kdV V w = 13 → fB V' E' w = fB V E w := fun w hw' => by
    unfold fB
    rw [(hd.ltc hw (c := 12) (k := 2) hw' (by decide) (fun ll hl => hx w 12 ll (Or.inl rfl) hw' hl)).2]
  exact ⟨⟨sumA_c 128 (fun q _ => ⟨rfl, fun a ha => ew a (rk 1 q a (by omega) ha)⟩), fun l hl => sumL_c l (fun x hx' => ew x (hl x hx'))⟩, sumA_c 64 (fun q _ => ⟨rfl, fun a ha => eb a (rk 0 q a (by omega) ha)⟩), fun l hl => sumL_c l (fun x hx' => eb x (hl x hx'))⟩
theorem pool_kd (hw : WT V E) (hg : GL V E) (hP : kdV V (P 2) = 3) {k x : Nat} (hk : k < 3) (hx : x ∈ lt V E 2 k (P 2)) : kdV V x = 12 + k + 1 := by
  obtain ⟨pl, _, li, _⟩ := PLs hw hg hP hk
  exact li.2.2.2.2.2.1 x hx
theorem pl_no (hw : WT V E) (hP : kdV V (P 2) = 3) {k pl a c ll : Nat} (hk : k < 3) (x1 : xr V (200 + k) (P 2) 0 = some pl) (hc : c = 12 ∨ c = 13) (ha : kdV V a = c + 1) (hl : xr V (100 * c + 2) a 0 = some ll) : ll ≠ pl := by
  intro z
  subst z
  rcases hc with e | e <;> subst e
  · exact absurd (hw.2.2 a 12 2 (P 2) 2 k ll ha hP (by decide) (lof2 hk) hl x1).2.1 (by decide)
  · exact absurd (hw.2.2 a 13 2 (P 2) 2 k ll ha hP (by decide) (lof2 hk) hl x1).2.1 (by decide)
theorem DI.pop (h : DI nC nS V0 E0 P A V E r n0 n1 n2) {k q x : Nat} {l : List Nat} (hk : k < 3) (hl : lt V E 2 k (P 2) = l ++ [x]) (hq : r (12 + k) q = none) (hq0 : k = 0 → q < 64) (hq1 : k = 1 → q < 128) (hq2 : k = 2 → q < 4096) : ∃ pl, xr V (200 + k) (P 2) 0 = some pl ∧ Res (fJ2_remove pl (nI l.length) A) (fun g => g.1 = some x ∧ ∃ V' E', DI nC nS V0 E0 P g.2 V' E' (insA r (12 + k) q x) n0 n1 n2 ∧ DS (fun z => xr V (200 + k) (P 2) 0 = some z) V E V' E' ∧ V'.1 = V.1) := by
  have hP := h.P2
  have h' := h
  obtain ⟨hst, hds, hw, hg, hsub, hpn, hrk, hP0⟩ := h'
  obtain ⟨pl, x1, li, ek, el, ec, hps⟩ := PLs hw hg hP hk
  refine ⟨pl, x1, ?_⟩
  have li0 := li
  rw [hl] at li
  refine Res.m (L_remove hst li) ?_
  rintro ⟨g1, A1⟩ ⟨e1, V1, s1, f1, li1⟩
  refine ⟨e1, V1, setE E pl l (cpL V E 2 k (P 2)), ?_, ?_, f1.1⟩
  all_goals
    have hne : P 2 ≠ pl := fun z => by rw [z, li0.1] at hP; cases hP
    have ds : DS (fun z => xr V (200 + k) (P 2) 0 = some z) V E V1 (setE E pl l (cpL V E 2 k (P 2))) := by
      refine ⟨f1.vf x1, fun a ha => ⟨rfl, fun hn => ?_⟩, fun a c j ha hj => ?_⟩
      · have hn' : a ≠ pl := fun z => hn (by rw [z]; exact x1)
        exact ⟨if_neg hn', if_neg hn'⟩
      · have hn' : a ≠ pl := fun z => by
          rw [z, li0.1] at ha
          rcases hj with hj | hj
          · exact (owl_c hj).1 (by omega)
          · exact (lof_c hj).1 (by omega)
        obtain ⟨_, b2, b3⟩ := f1.2.1 a hn' (100 * c + j)
        exact ⟨by rw [b2], b3⟩
  · have hlt : ∀ j, j < 3 → lt V1 (setE E pl l (cpL V E 2 k (P 2))) 2 j (P 2) = (if j = k then l else lt V E 2 j (P 2)) ∧ cpL V1 (setE E pl l (cpL V E 2 k (P 2))) 2 j (P 2) = cpL V E 2 j (P 2) := by
      intro j hj
      by_cases c : j = k
      · subst c
        have : xr V1 (100 * 2 + j) (P 2) 0 = some pl := (ds.2.2 (P 2) 2 j hP (Or.inr (lof2 hj))).1.trans x1
        unfold lt cpL setE
        rw [if_pos rfl, this]
        exact ⟨if_pos rfl, if_pos rfl⟩
      · rw [if_neg c]
        refine ds.ltc hw (c := 2) hP (lof2 hj) (fun ll hll hx => c ?_)
        exact (hw.2.2 (P 2) 2 j (P 2) 2 k ll hP hP (lof2 hj) (lof2 hk) hll hx).2.2
    have wt : WT V1 (setE E pl l (cpL V E 2 k (P 2))) := hw.ds ds 0 (fun a c ha ha' => by rw [kdV, f1.1] at ha'; have : kdV V a = c + 1 := ha'; omega) (fun c j h0 hc _ => by rw [kdV, f1.1] at hc; have : kdV V 0 = c + 1 := hc; omega) (fun c j h0 hc _ => by rw [kdV, f1.1] at hc; have : kdV V 0 = c + 1 := hc; omega) (fun c j j' h0 hc _ _ => by rw [kdV, f1.1] at hc; have : kdV V 0 = c + 1 := hc; omega)
    have gl : GL V1 (setE E pl l (cpL V E 2 k (P 2))) := by
      refine hg.ds ds (fun a ha hx => ?_)
      rcases hx with hx | hx
      · have : a = pl := Option.some.inj (hx.symm.trans x1)
        subst this
        show LI V1 a (E.1 a) (if a = a then _ else _) (if a = a then _ else _)
        rw [if_pos rfl, if_pos rfl, ek]
        exact li1
      · rw [kdV, f1.1] at ha
        have : kdV V a = 1 := ha
        omega
    obtain ⟨⟨sa1, sa2⟩, sb1, sb2⟩ := sum_ds (r := r) ds hw hg hP hrk (fun a c ll hc ha hll hx => pl_no hw hP hk x1 hc ha hll (Option.some.inj (hx.symm.trans x1)))
    have t0 := hlt 0 (by omega)
    have t1 := hlt 1 (by omega)
    have t2 := hlt 2 (by omega)
    have q1 := sa2 (lt V E 2 1 (P 2)) (fun x hx => pool_kd hw hg hP (k := 1) (by omega) hx)
    have q0 := sb2 (lt V E 2 0 (P 2)) (fun x hx => pool_kd hw hg hP (k := 0) (by omega) hx)
    have hrq : rqP V1 (setE E pl l (cpL V E 2 k (P 2))) P = rqP V E P := by
      unfold rqP
      rw [t0.2, t1.2, t2.2]
    have hxk : kdV V x = 12 + k + 1 := pool_kd hw hg hP hk (by rw [hl]; exact List.mem_append_right _ (List.mem_singleton.mpr rfl))
    have hrk' : ∀ j q' a, j < 3 → insA r (12 + k) q x (12 + j) q' = some a → kdV V1 a = 12 + j + 1 := by
      intro j q' a hj ha
      rw [kdV, f1.1]
      by_cases c : j = k
      · subst c
        rw [insA_at] at ha
        rcases ins_or ha with ⟨_, e⟩ | e
        · rw [e]; exact hxk
        · exact hrk j q' a hj e
      · rw [insA_ne (by omega)] at ha
        exact hrk j q' a hj ha
    obtain ⟨⟨p0, p0'⟩, ⟨p1, p1'⟩, ⟨p2, p2'⟩, p3⟩ := hpn
    have caps : ∀ j, j < 3 → cpL V1 (setE E pl l (cpL V E 2 k (P 2))) 2 j (P 2) ≤ 6200 := fun j hj => by rw [(hlt j hj).2]; exact p3 j hj
    have sub : ∀ j y, j < 3 → y ∈ lt V1 (setE E pl l (cpL V E 2 k (P 2))) 2 j (P 2) → y ∈ lt V E 2 j (P 2) := by
      intro j y hj hy
      rw [(hlt j hj).1] at hy
      by_cases c : j = k
      · rw [if_pos c] at hy
        rw [c, hl]
        exact List.mem_append_left _ hy
      · rw [if_neg c] at hy
        exact hy
    have hpt : ∀ {pC pS : Nat}, pC = ptC V E r P n0 n1 n2 → pS = ptS V E r P n0 n1 n2 → St (nC + rqP V1 (setE E pl l (cpL V E 2 k (P 2))) P + pC) (nS + 4 * rqP V1 (setE E pl l (cpL V E 2 k (P 2))) P + pS) A1 V1 := by
      intro pC pS e1 e2
      rw [hrq, e1, e2]
      exact s1
    have hs1 : sumA (fW V1 (setE E pl l (cpL V E 2 k (P 2)))) (insA r (12 + k) q x 13) 128 + sumL (fW V1 (setE E pl l (cpL V E 2 k (P 2)))) (lt V1 (setE E pl l (cpL V E 2 k (P 2))) 2 1 (P 2)) = sumA (fW V E) (r 13) 128 + sumL (fW V E) (lt V E 2 1 (P 2)) := by
      rw [t1.1]
      by_cases c : k = 1
      · subst c
        rw [if_pos rfl, insA_at, sumA_ins hq (hq1 rfl), sa1]
        rw [hl, sumL_app, sumL_app] at q1
        rw [hl, sumL_app]
        have z : sumL (fW V1 (setE E pl l (cpL V E 2 1 (P 2)))) [x] = fW V1 (setE E pl l (cpL V E 2 1 (P 2))) x + 0 := rfl
        omega
      · rw [if_neg (fun z => c z.symm), insA_ne (by omega), sa1, q1]
    have hs0 : sumA (fB V1 (setE E pl l (cpL V E 2 k (P 2)))) (insA r (12 + k) q x 12) 64 + sumL (fB V1 (setE E pl l (cpL V E 2 k (P 2)))) (lt V1 (setE E pl l (cpL V E 2 k (P 2))) 2 0 (P 2)) = sumA (fB V E) (r 12) 64 + sumL (fB V E) (lt V E 2 0 (P 2)) := by
      rw [t0.1]
      by_cases c : k = 0
      · subst c
        rw [if_pos rfl, insA_at, sumA_ins hq (hq0 rfl), sb1]
        rw [hl, sumL_app, sumL_app] at q0
        rw [hl, sumL_app]
        have z : sumL (fB V1 (setE E pl l (cpL V E 2 0 (P 2)))) [x] = fB V1 (setE E pl l (cpL V E 2 0 (P 2))) x + 0 := rfl
        omega
      · rw [if_neg (fun z => c z.symm), insA_ne (by omega), sb1, q0]
    have : k = 0 ∨ k = 1 ∨ k = 2 := by omega
    refine DI.go h (hpt ?_ ?_) ds (fun a ha hx => h.pm hk ha hx) wt gl sub ?_ hrk'
    · unfold ptC
      rw [hs1, hs0]
    · unfold ptS
      rw [hs1, hs0]
    · rcases this with e | e | e
      · subst e
        exact ⟨⟨by rw [insA_at, t0.1, if_pos rfl]; exact RP.pop (by rw [← hl]; exact p0) hq (hq0 rfl), p0'⟩, ⟨by rw [insA_ne (by decide), t1.1, if_neg (by decide)]; exact p1, p1'⟩, ⟨by rw [insA_ne (by decide), t2.1, if_neg (by decide)]; exact p2, p2'⟩, caps⟩
      · subst e
        exact ⟨⟨by rw [insA_ne (by decide), t0.1, if_neg (by decide)]; exact p0, p0'⟩, ⟨by rw [insA_at, t1.1, if_pos rfl]; exact RP.pop (by rw [← hl]; exact p1) hq (hq1 rfl), p1'⟩, ⟨by rw [insA_ne (by decide), t2.1, if_neg (by decide)]; exact p2, p2'⟩, caps⟩
      · subst e
        exact ⟨⟨by rw [insA_ne (by decide), t0.1, if_neg (by decide)]; exact p0, p0'⟩, ⟨by rw [insA_ne (by decide), t1.1, if_neg (by decide)]; exact p1, p1'⟩, ⟨by rw [insA_at, t2.1, if_pos rfl]; exact RP.pop (by rw [← hl]; exact p2) hq (hq2 rfl), p2'⟩, caps⟩
  · exact ds
end C65
