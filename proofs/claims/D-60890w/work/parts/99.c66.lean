/-! C66: new ones beside the pool; a lane is drawn -/
section C66
variable {nC nS n : Nat} {A A' : AH} {V V' V'' V0 : CW} {E E' E'' E0 : EL} {r r' : AA} {P : PP} {X X' : Nat → Prop} {n0 n1 n2 m0 m1 m2 : Nat}
theorem RP.room {r : Nat → Option Nat} {l : List Nat} {n tot q : Nat} (h : RP r l n tot) (hl : l = []) (hq : r q = none) (hn : q < n) : tot < n := by
  have h4 := h.2.2.2
  have := cnB_ins (x := 0) hq hn
  have := cnB_le (fun z => oS (ins r q 0 z)) n
  rw [hl] at h4
  have h4 : cnB (fun q => oS (r q)) n + 0 = tot := h4
  omega
theorem DI.room (h : DI nC nS V0 E0 P A V E r n0 n1 n2) {k q : Nat} (hk : k < 3) (hl : lt V E 2 k (P 2) = []) (hq : r (12 + k) q = none) (hq0 : k = 0 → q < 64) (hq1 : k = 1 → q < 128) (hq2 : k = 2 → q < 4096) : (k = 0 → n0 < 64) ∧ (k = 1 → n1 < 128) ∧ (k = 2 → n2 < 4096) ∧ (if k = 0 then 4 else if k = 1 then 5 else 3) ≤ ptC V E r P n0 n1 n2 ∧ (if k = 0 then 78 else if k = 1 then 37 else 26) ≤ ptS V E r P n0 n1 n2 := by
  obtain ⟨⟨p0, _⟩, ⟨p1, _⟩, ⟨p2, _⟩, _⟩ := h.2.2.2.2.2.1
  have : k = 0 ∨ k = 1 ∨ k = 2 := by omega
  rcases this with e | e | e
  · subst e
    have := RP.room p0 hl hq (hq0 rfl)
    refine ⟨fun _ => this, fun z => by omega, fun z => by omega, ?_, ?_⟩
    · rw [if_pos rfl]; unfold ptC; omega
    · rw [if_pos rfl]; unfold ptS; omega
  · subst e
    have := RP.room p1 hl hq (hq1 rfl)
    refine ⟨fun z => by omega, fun _ => this, fun z => by omega, ?_, ?_⟩
    · rw [if_neg (by decide), if_pos rfl]; unfold ptC; omega
    · rw [if_neg (by decide), if_pos rfl]; unfold ptS; omega
  · subst e
    have := RP.room p2 hl hq (hq2 rfl)
    refine ⟨fun z => by omega, fun z => by omega, fun _ => this, ?_, ?_⟩
    · rw [if_neg (by decide), if_neg (by decide)]; unfold ptC; omega
    · rw [if_neg (by decide), if_neg (by decide)]; unfold ptS; omega
theorem DI.nw (h : DI nC nS V0 E0 P A V E r n0 n1 n2) {k q o : Nat} (hk : k < 3) (hl : lt V E 2 k (P 2) = []) (hq : r (12 + k) q = none) (hq0 : k = 0 → q < 64) (hq1 : k = 1 → q < 128) (hq2 : k = 2 → q < 4096) (ds : DS (fun _ => False) V E V' E') (wt : WT V' E') (gl : GL V' E') (ho0 : kdV V o = 0) (ho : kdV V' o = 12 + k + 1) (hc0 : k = 0 → cpL V' E' 12 2 o = 8) (hc1 : k = 1 → cpL V' E' 13 2 o = 8) (s : St (nC + rqP V E P + ptC V E r P n0 n1 n2 - (if k = 0 then 4 else if k = 1 then 5 else 3)) (nS + 4 * rqP V E P + ptS V E r P n0 n1 n2 - (if k = 0 then 78 else if k = 1 then 37 else 26)) A' V') : DI nC nS V0 E0 P A' V' E' (insA r (12 + k) q o) (if k = 0 then n0 + 1 else n0) (if k = 1 then n1 + 1 else n1) (if k = 2 then n2 + 1 else n2) := by
  obtain ⟨b0, b1, b2, b3, b4⟩ := h.room hk hl hq hq0 hq1 hq2
  have hP := h.P2
  have h' := h
  obtain ⟨hst, hds, hw, hg, hsub, hpn, hrk, hP0⟩ := h'
  have hlt : ∀ j, j < 3 → lt V' E' 2 j (P 2) = lt V E 2 j (P 2) ∧ cpL V' E' 2 j (P 2) = cpL V E 2 j (P 2) := fun j hj => ds.ltc hw (c := 2) hP (lof2 hj) (fun _ _ z => z)
  obtain ⟨⟨sa1, sa2⟩, sb1, sb2⟩ := sum_ds (r := r) ds hw hg hP hrk (fun a c ll hc ha hll hx => hx)
  have t0 := hlt 0 (by omega)
  have t1 := hlt 1 (by omega)
  have t2 := hlt 2 (by omega)
  have q1 := sa2 (lt V E 2 1 (P 2)) (fun x hx => pool_kd hw hg hP (k := 1) (by omega) hx)
  have q0 := sb2 (lt V E 2 0 (P 2)) (fun x hx => pool_kd hw hg hP (k := 0) (by omega) hx)
  have hrq : rqP V' E' P = rqP V E P := by
    unfold rqP
    rw [t0.2, t1.2, t2.2]
  have hrk' : ∀ j q' a, j < 3 → insA r (12 + k) q o (12 + j) q' = some a → kdV V' a = 12 + j + 1 := by
    intro j q' a hj ha
    by_cases c : j = k
    · subst c
      rw [insA_at] at ha
      rcases ins_or ha with ⟨_, e⟩ | e
      · rw [e]; exact ho
      · exact ds.kv (hrk j q' a hj e)
    · rw [insA_ne (by omega)] at ha
      exact ds.kv (hrk j q' a hj ha)
  obtain ⟨⟨p0, p0'⟩, ⟨p1, p1'⟩, ⟨p2, p2'⟩, p3⟩ := hpn
  have caps : ∀ j, j < 3 → cpL V' E' 2 j (P 2) ≤ 6200 := fun j hj => by rw [(hlt j hj).2]; exact p3 j hj
  have sub : ∀ j y, j < 3 → y ∈ lt V' E' 2 j (P 2) → y ∈ lt V E 2 j (P 2) := fun j y hj hy => by rw [← (hlt j hj).1]; exact hy
  have hno : ∀ j, j < 3 → o ∉ lt V E 2 j (P 2) := fun j hj z => by
    have := pool_kd hw hg hP hj z
    omega
  have hnr : ∀ j z, j < 3 → r (12 + j) z ≠ some o := fun j z hj e => by
    have := hrk j z o hj e
    omega
  have hs1 : sumA (fW V' E') (insA r (12 + k) q o 13) 128 + sumL (fW V' E') (lt V' E' 2 1 (P 2)) = sumA (fW V E) (r 13) 128 + sumL (fW V E) (lt V E 2 1 (P 2)) + (if k = 1 then 42 else 0) := by
    rw [t1.1, q1]
    by_cases c : k = 1
    · subst c
      rw [if_pos rfl, insA_at, sumA_ins hq (hq1 rfl), sa1]
      have : fW V' E' o = 42 := by unfold fW; rw [hc1 rfl]
      omega
    · rw [if_neg c, insA_ne (by omega), sa1, Nat.add_zero]
  have hs0 : sumA (fB V' E') (insA r (12 + k) q o 12) 64 + sumL (fB V' E') (lt V' E' 2 0 (P 2)) = sumA (fB V E) (r 12) 64 + sumL (fB V E) (lt V E 2 0 (P 2)) + (if k = 0 then 22 else 0) := by
    rw [t0.1, q0]
    by_cases c : k = 0
    · subst c
      rw [if_pos rfl, insA_at, sumA_ins hq (hq0 rfl), sb1]
      have : fB V' E' o = 22 := by unfold fB; rw [hc0 rfl]
      omega
    · rw [if_neg c, insA_ne (by omega), sb1, Nat.add_zero]
  have : k = 0 ∨ k = 1 ∨ k = 2 := by omega
  refine DI.go h ?_ ds (fun a ha hx => absurd hx (fun z => z)) wt gl sub ?_ hrk'
  · unfold ptC ptS at s ⊢
    rw [hs1, hs0, hrq]
    rcases this with e | e | e
    · subst e
      have := b0 rfl
      simp (config := { decide := true }) only [if_true, if_false, reduceIte] at s ⊢
      refine s.mono ?_ ?_ <;> omega
    · subst e
      have := b1 rfl
      simp (config := { decide := true }) only [if_true, if_false, reduceIte] at s ⊢
      refine s.mono ?_ ?_ <;> omega
    · subst e
      have := b2 rfl
      simp (config := { decide := true }) only [if_true, if_false, reduceIte] at s ⊢
      refine s.mono ?_ ?_ <;> omega
  · rcases this with e | e | e
    · subst e
      have := b0 rfl
      exact ⟨⟨by rw [insA_at, t0.1]; exact p0.nw hq (hq0 rfl) (hno 0 hk) (fun z => hnr 0 z hk), by rw [if_pos rfl]; omega⟩, ⟨by rw [insA_ne (by decide), t1.1]; exact p1, p1'⟩, ⟨by rw [insA_ne (by decide), t2.1]; exact p2, p2'⟩, caps⟩
    · subst e
      have := b1 rfl
      exact ⟨⟨by rw [insA_ne (by decide), t0.1]; exact p0, p0'⟩, ⟨by rw [insA_at, t1.1]; exact p1.nw hq (hq1 rfl) (hno 1 hk) (fun z => hnr 1 z hk), by rw [if_pos rfl]; omega⟩, ⟨by rw [insA_ne (by decide), t2.1]; exact p2, p2'⟩, caps⟩
    · subst e
      have := b2 rfl
      exact ⟨⟨by rw [insA_ne (by decide), t0.1]; exact p0, p0'⟩, ⟨by rw [insA_ne (by decide), t1.1]; exact p1, p1'⟩, ⟨by rw [insA_at, t2.1]; exact p2.nw hq (hq2 rfl) (hno 2 hk) (fun z => hnr 2 z hk), by rw [if_pos rfl]; omega⟩, caps⟩
end C66
