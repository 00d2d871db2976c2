/-! C68: what one in a row has changes; its list grows -/
section C68
variable {nC nS n : Nat} {A A' : AH} {V V' V'' V0 : CW} {E E' E'' E0 : EL} {r r' : AA} {P : PP} {X X' : Nat → Prop} {n0 n1 n2 m0 m1 m2 : Nat}
theorem sumA_ch {f f' : Nat → Nat} {r : Nat → Option Nat} {q o n : Nat} (hq : r q = some o) (hn : q < n) (hinj : ∀ q', r q' = some o → q' = q) (he : ∀ q' a, r q' = some a → a ≠ o → f' a = f a) : sumA f' r n + f o = sumA f r n + f' o := by
  have h1 := sumA_rm (f := f) hq n hn
  have h2 := sumA_rm (f := f') hq n hn
  have h3 : sumA f' (rm r q) n = sumA f (rm r q) n := by
    refine sumA_c n (fun q' _ => ⟨rfl, fun a ha => ?_⟩)
    have ha : (if q' = q then none else r q') = some a := ha
    by_cases e : q' = q
    · rw [if_pos e] at ha
      cases ha
    · rw [if_neg e] at ha
      refine he q' a ha (fun z => e ?_)
      rw [z] at ha
      exact hinj q' ha
  omega
theorem DI.self (h : DI nC nS V0 E0 P A V E r n0 n1 n2) : DI nC nS V E P A V E r n0 n1 n2 := ⟨h.1, DS.rf, h.2.2.1, h.2.2.2.1, fun _ _ _ z => z, h.2.2.2.2.2.1, h.2.2.2.2.2.2.1, h.P2⟩
/-- what the pool holds later was in it before -/
theorem DI.pmm (h : DI nC nS V0 E0 P A V E r n0 n1 n2) (hw0 : WT V0 E0) (hg0 : GL V0 E0) {a : Nat} (ha : kdV V0 a ≠ 0) (hp : PM V E P a) : PM V0 E0 P a := by
  rcases hp with ⟨z1, k, hk, z2⟩ | ⟨k, hk, z⟩ | ⟨k, x, hk, z1, z2⟩
  · exact h.pm hk ha z2
  · exact Or.inr (Or.inl ⟨k, hk, h.2.2.2.2.1 k a hk z⟩)
  · have hx := h.2.2.2.2.1 k x (by omega) z1
    have hxk := pool_kd hw0 hg0 h.2.2.2.2.2.2.2 (k := k) (by omega) hx
    have e : 1202 + 100 * k = 100 * (12 + k) + 2 := by omega
    refine Or.inr (Or.inr ⟨k, x, hk, hx, ?_⟩)
    rw [e] at z2 ⊢
    rw [← (h.2.1.2.2 x (12 + k) 2 hxk (Or.inr (by
      have : k = 0 ∨ k = 1 := by omega
      rcases this with e | e <;> subst e <;> decide))).1]
    exact z2
theorem DI.reb {A' : AH} (h : DI nC nS V0 E0 P A V E r n0 n1 n2) (hw0 : WT V0 E0) (hg0 : GL V0 E0) (h2 : DI nC nS V E P A' V' E' r' m0 m1 m2) : DI nC nS V0 E0 P A' V' E' r' m0 m1 m2 :=
  h.go h2.1 h2.2.1 (fun _ ha hp => h.pmm hw0 hg0 ha hp) h2.2.2.1 h2.2.2.2.1 h2.2.2.2.2.1 h2.2.2.2.2.2.1 h2.2.2.2.2.2.2.1
theorem lof_cc {c : Nat} (hc : c = 12 ∨ c = 13) : lof c 2 ≠ 0 ∧ lof c 2 = c + 2 := by
  rcases hc with e | e <;> subst e <;> decide
theorem DI.ok (h : DI nC nS V0 E0 P A V E r n0 n1 n2) {c q o : Nat} (hc : c = 12 ∨ c = 13) (hq : r c q = some o) : kdV V o = c + 1 := by
  rcases hc with e | e <;> subst e
  · exact h.2.2.2.2.2.2.1 0 q o (by omega) hq
  · exact h.2.2.2.2.2.2.1 1 q o (by omega) hq
theorem DI.rp (h : DI nC nS V0 E0 P A V E r n0 n1 n2) {c : Nat} (hc : c = 12 ∨ c = 13 ∨ c = 14) : ∃ m tot, RP (r c) (lt V E 2 (c - 12) (P 2)) m tot := by
  obtain ⟨⟨p0, _⟩, ⟨p1, _⟩, ⟨p2, _⟩, _⟩ := h.2.2.2.2.2.1
  rcases hc with e | e | e <;> subst e
  · exact ⟨_, _, p0⟩
  · exact ⟨_, _, p1⟩
  · exact ⟨_, _, p2⟩
set_option maxHeartbeats 1000000 in
theorem DI.ch (h : DI nC nS V0 E0 P A V E r n0 n1 n2) {c q o ll cap' dl : Nat} {l' : List Nat} (hc : c = 12 ∨ c = 13) (hq : r c q = some o) (hqn : q < (if c = 12 then 64 else 128)) (hll : xr V (100 * c + 2) o 0 = some ll) (e1 : V'.1 = V.1) (vf : VF (fun z => z = o ∨ z = ll) V V') (hxo : ∀ d, (d ≠ 1300 → xr V' d o = xr V d o) ∧ xn V' d o = xn V d o) (li : LI V' ll (c + 1) l' cap') (hpo : kdV V0 o ≠ 0 → PM V0 E0 P o) (hpl : kdV V0 ll ≠ 0 → PM V0 E0 P ll) (hdl : (if c = 12 then 30 else 50) - cpL V E c 2 o = (if c = 12 then 30 else 50) - cap' + dl)
    (s : St (nC + rqP V E P + ptC V E r P n0 n1 n2 - dl) (nS + 4 * rqP V E P + ptS V E r P n0 n1 n2 - 4 * dl) A' V') : DI nC nS V0 E0 P A' V' (setE E ll l' cap') r n0 n1 n2 ∧ DS (fun z => z = o ∨ z = ll) V E V' (setE E ll l' cap') ∧ lt V' (setE E ll l' cap') c 2 o = l' ∧ cpL V' (setE E ll l' cap') c 2 o = cap' := by
  have hP := h.P2
  have hok := h.ok hc hq
  have hrp := h.rp (c := c) (by omega)
  have h' := h
  obtain ⟨hst, hds, hw, hg, hsub, hpn, hrk, hP0⟩ := h'
  obtain ⟨lo1, lo2⟩ := lof_cc hc
  have hc1 : 100 * c + 2 ≠ 1300 := by omega
  obtain ⟨lk, lE⟩ : kdV V ll = 1 ∧ E.1 ll = c + 1 := by
    obtain ⟨l0, y1, y2, y3⟩ := hw.2.1 o c 2 hok lo1
    have : l0 = ll := Option.some.inj (y1.symm.trans hll)
    subst this
    exact ⟨y2, by omega⟩
  have hne : o ≠ ll := fun z => by rw [z, lk] at hok; omega
  have ek : ∀ a, kdV V' a = kdV V a := fun a => by rw [kdV, e1]
  have ds : DS (fun z => z = o ∨ z = ll) V E V' (setE E ll l' cap') := by
    refine ⟨vf, fun a ha => ⟨rfl, fun hn => ⟨if_neg (fun z => hn (Or.inr z)), if_neg (fun z => hn (Or.inr z))⟩⟩, fun a c' j ha hj => ?_⟩
    by_cases ea : a = o
    · subst ea
      have ec : c' = c := by omega
      subst ec
      have hd : 100 * c' + j ≠ 1300 := by
        rcases hj with hj | hj
        · have := owl_m hj
          omega
        · have := lof_m hj
          omega
      exact ⟨by rw [(hxo _).1 hd], (hxo _).2⟩
    · by_cases el : a = ll
      · exfalso
        rw [el, lk] at ha
        rcases hj with hj | hj
        · exact (owl_c hj).1 (by omega)
        · exact (lof_c hj).1 (by omega)
      · obtain ⟨_, b2, _, b4⟩ := (vf.1 a (by omega)).2 (fun z => z.elim ea el) (100 * c' + j)
        exact ⟨by rw [b2], b4⟩
  have hlt : ∀ j, j < 3 → lt V' (setE E ll l' cap') 2 j (P 2) = lt V E 2 j (P 2) ∧ cpL V' (setE E ll l' cap') 2 j (P 2) = cpL V E 2 j (P 2) := by
    intro j hj
    refine ds.ltc hw (c := 2) hP (lof2 hj) (fun z hz hX => ?_)
    obtain ⟨l0, y1, y2, _⟩ := hw.2.1 (P 2) 2 j hP (lof2 hj)
    have : l0 = z := Option.some.inj (y1.symm.trans hz)
    subst this
    rcases hX with e | e
    · rw [e] at y2
      omega
    · exact pl_no hw hP hj hz hc hok hll e.symm
  have hxl : xr V' (100 * c + 2) o 0 = some ll := by rw [(hxo _).1 hc1]; exact hll
  have el : lt V' (setE E ll l' cap') c 2 o = l' ∧ cpL V' (setE E ll l' cap') c 2 o = cap' := by
    unfold lt cpL setE
    rw [hxl]
    exact ⟨if_pos rfl, if_pos rfl⟩
  have cpo : ∀ a c', (c' = 12 ∨ c' = 13) → kdV V a = c' + 1 → a ≠ o → cpL V' (setE E ll l' cap') c' 2 a = cpL V E c' 2 a := by
    intro a c' hc' ha hne'
    refine (ds.ltc hw (c := c') (k := 2) ha (lof_cc hc').1 (fun z hz hX => ?_)).2
    obtain ⟨l0, y1, y2, _⟩ := hw.2.1 a c' 2 ha (lof_cc hc').1
    have : l0 = z := Option.some.inj (y1.symm.trans hz)
    subst this
    rcases hX with e | e
    · rw [e] at y2
      omega
    · rw [e] at hz
      exact hne' (hw.2.2 a c' 2 o c 2 ll ha hok (lof_cc hc').1 lo1 hz hll).1
  have eW : ∀ a, kdV V a = 14 → a ≠ o → fW V' (setE E ll l' cap') a = fW V E a := fun a ha hn => by unfold fW; rw [cpo a 13 (Or.inr rfl) ha hn]
  have eB : ∀ a, kdV V a = 13 → a ≠ o → fB V' (setE E ll l' cap') a = fB V E a := fun a ha hn => by unfold fB; rw [cpo a 12 (Or.inl rfl) ha hn]
  obtain ⟨m, tot, rp⟩ := hrp
  have hinj : ∀ q', r c q' = some o → q' = q := fun q' hq' => rp.2.2.1 q' q o hq' hq
  have hnl : o ∉ lt V E 2 (c - 12) (P 2) := fun z => rp.2.1 o z q hq
  have t0 := hlt 0 (by omega)
  have t1 := hlt 1 (by omega)
  have t2 := hlt 2 (by omega)
  have hrq : rqP V' (setE E ll l' cap') P = rqP V E P := by
    unfold rqP
    rw [t0.2, t1.2, t2.2]
  have pk1 : ∀ x, x ∈ lt V E 2 1 (P 2) → kdV V x = 14 := fun x hx => pool_kd hw hg hP (k := 1) (by omega) hx
  have pk0 : ∀ x, x ∈ lt V E 2 0 (P 2) → kdV V x = 13 := fun x hx => pool_kd hw hg hP (k := 0) (by omega) hx
  have sums : (sumA (fW V' (setE E ll l' cap')) (r 13) 128 + sumL (fW V' (setE E ll l' cap')) (lt V' (setE E ll l' cap') 2 1 (P 2))) + (sumA (fB V' (setE E ll l' cap')) (r 12) 64 + sumL (fB V' (setE E ll l' cap')) (lt V' (setE E ll l' cap') 2 0 (P 2))) + dl = (sumA (fW V E) (r 13) 128 + sumL (fW V E) (lt V E 2 1 (P 2))) + (sumA (fB V E) (r 12) 64 + sumL (fB V E) (lt V E 2 0 (P 2))) := by
    rw [t0.1, t1.1]
    rcases hc with e | e
    · subst e
      rw [if_pos rfl] at hdl hqn
      have a1 : sumA (fW V' (setE E ll l' cap')) (r 13) 128 = sumA (fW V E) (r 13) 128 := sumA_c 128 (fun q' _ => ⟨rfl, fun a ha => by
        have := hrk 1 q' a (by omega) ha
        exact eW a this (fun z => by rw [z] at this; omega)⟩)
      have a2 : sumL (fW V' (setE E ll l' cap')) (lt V E 2 1 (P 2)) = sumL (fW V E) (lt V E 2 1 (P 2)) := sumL_c _ (fun x hx => eW x (pk1 x hx) (fun z => by have := pk1 x hx; rw [z] at this; omega))
      have a3 := sumA_ch (f := fB V E) (f' := fB V' (setE E ll l' cap')) hq hqn hinj (fun q' a ha hn => eB a (hrk 0 q' a (by omega) ha) hn)
      have a4 : sumL (fB V' (setE E ll l' cap')) (lt V E 2 0 (P 2)) = sumL (fB V E) (lt V E 2 0 (P 2)) := sumL_c _ (fun x hx => eB x (pk0 x hx) (fun z => hnl (by rw [← z]; exact hx)))
      have b1 : fB V E o = 30 - cpL V E 12 2 o := rfl
      have b2 : fB V' (setE E ll l' cap') o = 30 - cap' := by unfold fB; rw [el.2]
      omega
    · subst e
      rw [if_neg (by decide)] at hdl hqn
      have a1 : sumA (fB V' (setE E ll l' cap')) (r 12) 64 = sumA (fB V E) (r 12) 64 := sumA_c 64 (fun q' _ => ⟨rfl, fun a ha => by
        have := hrk 0 q' a (by omega) ha
        exact eB a this (fun z => by rw [z] at this; omega)⟩)
      have a2 : sumL (fB V' (setE E ll l' cap')) (lt V E 2 0 (P 2)) = sumL (fB V E) (lt V E 2 0 (P 2)) := sumL_c _ (fun x hx => eB x (pk0 x hx) (fun z => by have := pk0 x hx; rw [z] at this; omega))
      have a3 := sumA_ch (f := fW V E) (f' := fW V' (setE E ll l' cap')) hq hqn hinj (fun q' a ha hn => eW a (hrk 1 q' a (by omega) ha) hn)
      have a4 : sumL (fW V' (setE E ll l' cap')) (lt V E 2 1 (P 2)) = sumL (fW V E) (lt V E 2 1 (P 2)) := sumL_c _ (fun x hx => eW x (pk1 x hx) (fun z => hnl (by rw [← z]; exact hx)))
      have b1 : fW V E o = 50 - cpL V E 13 2 o := rfl
      have b2 : fW V' (setE E ll l' cap') o = 50 - cap' := by unfold fW; rw [el.2]
      omega
  have wt : WT V' (setE E ll l' cap') := hw.ds ds 0 (fun a c' ha ha' => by rw [ek] at ha'; omega) (fun c' k h0 hc' _ => by rw [ek] at hc'; omega) (fun c' k h0 hc' _ => by rw [ek] at hc'; omega) (fun c' k k' h0 hc' _ _ => by rw [ek] at hc'; omega)
  have gl : GL V' (setE E ll l' cap') := by
    refine hg.ds ds (fun a ha hx => ?_)
    rw [ek] at ha
    rcases hx with (e | e) | e
    · rw [e] at ha
      omega
    · rw [e]
      show LI V' ll (E.1 ll) (if ll = ll then _ else _) (if ll = ll then _ else _)
      rw [if_pos rfl, if_pos rfl, lE]
      exact li
    · omega
  obtain ⟨⟨p0, p0'⟩, ⟨p1, p1'⟩, ⟨p2, p2'⟩, p3⟩ := hpn
  refine ⟨h.go ?_ ds (fun a ha hx => ?_) wt gl (fun j y hj hy => by rw [← (hlt j hj).1]; exact hy) ⟨⟨by rw [t0.1]; exact p0, p0'⟩, ⟨by rw [t1.1]; exact p1, p1'⟩, ⟨by rw [t2.1]; exact p2, p2'⟩, fun j hj => by rw [(hlt j hj).2]; exact p3 j hj⟩ (fun k q' a hk ha => by rw [ek]; exact hrk k q' a hk ha), ds, el⟩
  · unfold ptC ptS at s ⊢
    rw [hrq]
    refine s.mono ?_ ?_ <;> omega
  · rcases hx with e | e
    · rw [e] at ha ⊢
      exact hpo ha
    · rw [e] at ha ⊢
      exact hpl ha
theorem ncap_s {cap : Nat} (h : cap ≤ 10000) : ncap cap ≤ 15010 := by
  unfold ncap
  split
  · omega
  · split <;> omega
theorem ncap_k {cap : Nat} (h : cap < 32) : cap < ncap cap ∧ ncap cap ≤ 50 ∧ ncap cap ≤ 4 * (ncap cap - cap) ∧ (cap < 16 → ncap cap ≤ 30) := by
  unfold ncap
  split
  · omega
  · split <;> omega
/-- one is put into the list of one in a row -/
theorem DI.ladd (h : DI nC nS V0 E0 P A V E r n0 n1 n2) (hS : 20000 ≤ nS) (hC : 2 ≤ nC) {c q o ll v : Nat} (hc : c = 12 ∨ c = 13) (hq : r c q = some o) (hqn : q < (if c = 12 then 64 else 128)) (hll : xr V (100 * c + 2) o 0 = some ll) (hpo : kdV V0 o ≠ 0 → PM V0 E0 P o) (hpl : kdV V0 ll ≠ 0 → PM V0 E0 P ll) (hv : kdV V v = c + 2) (hlen : (lt V E c 2 o).length < (if c = 12 then 16 else 32)) :
    Res (fJ2_add ll (some v) A) (fun g => ∃ V' E', DI nC nS V0 E0 P g.2 V' E' r n0 n1 n2 ∧ DS (fun z => z = o ∨ z = ll) V E V' E' ∧ LF V V' ll ∧ lt V' E' c 2 o = lt V E c 2 o ++ [v]) := by
  have hok := h.ok hc hq
  obtain ⟨lo1, lo2⟩ := lof_cc hc
  obtain ⟨l0, y1, li, y3, _, _⟩ := h.2.2.1.li2 h.2.2.2.1 (c := c) (k := 2) (e := c + 1) hok lo2
  have : l0 = ll := Option.some.inj (y1.symm.trans hll)
  subst this
  have hb := ncap_s li.2.2.1
  have hcapl := li.2.2.2.2.1
  have hne : o ≠ l0 := fun z => by
    have := li.1
    rw [← z] at this
    omega
  obtain ⟨tC, eC⟩ : ∃ t, nC + rqP V E P + ptC V E r P n0 n1 n2 = t + 1 := ⟨nC + rqP V E P + ptC V E r P n0 n1 n2 - 1, by omega⟩
  obtain ⟨tS, eS⟩ : ∃ t, nS + 4 * rqP V E P + ptS V E r P n0 n1 n2 = t + ncap (cpL V E c 2 o) := ⟨nS + 4 * rqP V E P + ptS V E r P n0 n1 n2 - ncap (cpL V E c 2 o), by omega⟩
  have hst := h.1
  rw [eC, eS] at hst
  have hlt32 : (lt V E c 2 o).length < 32 := by
    rcases hc with e | e <;> subst e
    · rw [if_pos rfl] at hlen; omega
    · rw [if_neg (by decide)] at hlen; exact hlen
  refine Res.m (L_add tC tS hst li (fun z => ?_) hv) ?_
  · have := ncap_k (cap := cpL V E c 2 o) (by omega)
    omega
  · rintro ⟨g1, A1⟩ ⟨_, V1, s1, f1, li1⟩
    by_cases cf : (lt V E c 2 o).length = cpL V E c 2 o
    · rw [if_pos cf] at s1 li1
      have hk := ncap_k (cap := cpL V E c 2 o) (by omega)
      have hB : ncap (cpL V E c 2 o) ≤ (if c = 12 then 30 else 50) := by
        rcases hc with e | e <;> subst e
        · rw [if_pos rfl] at hlen ⊢
          exact hk.2.2.2 (by omega)
        · rw [if_neg (by decide)]
          exact hk.2.1
      obtain ⟨d1, d2, d3, d4⟩ := h.ch (V' := V1) (A' := A1) (dl := ncap (cpL V E c 2 o) - cpL V E c 2 o) hc hq hqn hll f1.1 (f1.vf (Or.inr rfl)) (fun d => ⟨fun _ => (f1.2.1 o hne d).2.1, (f1.2.1 o hne d).2.2⟩) li1 hpo hpl (by omega) (s1.mono (by omega) (by omega))
      exact ⟨V1, _, d1, d2, f1, d3⟩
    · rw [if_neg cf] at s1 li1
      obtain ⟨d1, d2, d3, d4⟩ := h.ch (V' := V1) (A' := A1) (dl := 0) hc hq hqn hll f1.1 (f1.vf (Or.inr rfl)) (fun d => ⟨fun _ => (f1.2.1 o hne d).2.1, (f1.2.1 o hne d).2.2⟩) li1 hpo hpl (by omega) (s1.mono (by omega) (by omega))
      exact ⟨V1, _, d1, d2, f1, d3⟩
/-- a new one with its list beside an empty pool -/
theorem DI.nwl (h : DI nC nS V0 E0 P A V E r n0 n1 n2) {k q p ll : Nat} (hk : k < 2) (hl : lt V E 2 k (P 2) = []) (hq : r (12 + k) q = none) (hq0 : k = 0 → q < 64) (hq1 : k = 1 → q < 128) (hp0 : kdV V p = 0) (hl0 : kdV (vNew V p (12 + k)) ll = 0) (hkd : ∀ z, kdV V' z = if z = ll then 1 else kdV (vNew V p (12 + k)) z) (vf : VF (fun z => z = p) (vNew V p (12 + k)) V') (hxl : xr V' (100 * (12 + k) + 2) p 0 = some ll) (li : LI V' ll (12 + k + 1) [] 8) (ho : ∀ j, owl (12 + k) j ≠ 0 → OW V' (12 + k) j p (owl (12 + k) j))
    (s : St (nC + rqP V E P + ptC V E r P n0 n1 n2 - (if k = 0 then 4 else if k = 1 then 5 else 3)) (nS + 4 * rqP V E P + ptS V E r P n0 n1 n2 - (if k = 0 then 78 else if k = 1 then 37 else 26)) A' V') : ∃ E', DI nC nS V0 E0 P A' V' E' (insA r (12 + k) q p) (if k = 0 then n0 + 1 else n0) (if k = 1 then n1 + 1 else n1) (if k = 2 then n2 + 1 else n2) ∧ DS (fun _ => False) V E V' E' ∧ kdV V' p = 12 + k + 1 ∧ kdV V ll = 0 := by
  have hP := h.P2
  have h' := h
  obtain ⟨hst, hds, hw, hg, hsub, hpn, hrk, hP0⟩ := h'
  have kn : ∀ z, kdV (vNew V p (12 + k)) z = if z = p then 12 + k + 1 else kdV V z := fun _ => rfl
  have hne : ll ≠ p := fun z => by
    rw [kn, if_pos z] at hl0
    omega
  have hl0' : kdV V ll = 0 := by
    rw [kn, if_neg hne] at hl0
    exact hl0
  have ek2 : ∀ a, kdV V' a = if a = ll then 1 else if a = p then 12 + k + 1 else kdV V a := fun a => by rw [hkd, kn]
  have kp : kdV V' p = 12 + k + 1 := by rw [ek2, if_neg (fun z => hne z.symm), if_pos rfl]
  have kl : kdV V' ll = 1 := by rw [ek2, if_pos rfl]
  obtain ⟨E', eE⟩ : ∃ E' : EL, E' = (fun z => if z = ll then 12 + k + 1 else E.1 z, fun z => if z = ll then [] else E.2.1 z, fun z => if z = ll then 8 else E.2.2 z) := ⟨_, rfl⟩
  have eE1 : ∀ z, E'.1 z = if z = ll then 12 + k + 1 else E.1 z := fun z => by rw [eE]
  have eE2 : ∀ z, E'.2.1 z = if z = ll then [] else E.2.1 z := fun z => by rw [eE]
  have eE3 : ∀ z, E'.2.2 z = if z = ll then 8 else E.2.2 z := fun z => by rw [eE]
  have ds : DS (fun _ => False) V E V' E' := by
    have v1 := VF.new (S := fun _ => False) (c := 12 + k) hp0
    have hz1 : ∀ {z : Nat}, kdV V z ≠ 0 → z ≠ p ∧ z ≠ ll := fun {z} hz => ⟨fun e => hz (by rw [e]; exact hp0), fun e => hz (by rw [e]; exact hl0')⟩
    refine ⟨⟨fun z hz => ?_, vf.2.1, vf.2.2⟩, fun a ha => ?_, fun a c j ha _ => ?_⟩
    · obtain ⟨z1, z2⟩ := hz1 hz
      refine ⟨by rw [ek2, if_neg z2, if_neg z1], fun _ d => ?_⟩
      obtain ⟨w1, w2⟩ := v1.1 z hz
      obtain ⟨w3, w4⟩ := vf.1 z (by rw [w1]; exact hz)
      obtain ⟨r1, r2, r3, r4⟩ := w2 (fun z => z) d
      obtain ⟨q1, q2, q3, q4⟩ := w4 z1 d
      exact ⟨q1.trans r1, q2.trans r2, q3.trans r3, q4.trans r4⟩
    · obtain ⟨z1, z2⟩ := hz1 ha
      rw [eE1, eE2, eE3, if_neg z2, if_neg z2, if_neg z2]
      exact ⟨rfl, fun _ => ⟨rfl, rfl⟩⟩
    · have hz : kdV V a ≠ 0 := by omega
      obtain ⟨z1, z2⟩ := hz1 hz
      obtain ⟨w1, w2⟩ := v1.1 a hz
      obtain ⟨w3, w4⟩ := vf.1 a (by rw [w1]; exact hz)
      obtain ⟨r1, r2, r3, r4⟩ := w2 (fun z => z) (100 * c + j)
      obtain ⟨q1, q2, q3, q4⟩ := w4 z1 (100 * c + j)
      exact ⟨by rw [q2, r2], q4.trans r4⟩
  have hcc : 12 + k = 12 ∨ 12 + k = 13 := by omega
  have lo := lof_cc hcc
  have wt : WT V' E' := by
    refine hw.ds ds p (fun a c ha ha' => ?_) (fun c j h0 hc hj => ?_) (fun c j h0 hc hj => ?_) (fun c j j' h0 hc hj hj' => ?_)
    · by_cases e : a = p
      · exact Or.inl e
      · rw [ek2, if_neg e] at ha'
        by_cases e' : a = ll
        · rw [if_pos e'] at ha'
          exact Or.inr (by omega)
        · rw [if_neg e'] at ha'
          omega
    · have : c = 12 + k := by omega
      subst this
      exact ho j hj
    · have : c = 12 + k := by omega
      subst this
      have hj2 : j = 2 := by
        have := lof_m hj
        omega
      subst hj2
      exact ⟨ll, hxl, hl0', kl, by rw [eE1, if_pos rfl, lo.2]⟩
    · have : c = 12 + k := by omega
      subst this
      have h1 := lof_m hj
      have h2 := lof_m hj'
      omega
  have gl : GL V' E' := by
    refine hg.ds ds (fun a ha z => ?_)
    rcases z with z | z
    · exact absurd z (fun z => z)
    · have ea : a = ll := by
        rw [ek2] at ha
        by_cases e : a = ll
        · exact e
        · rw [if_neg e] at ha
          by_cases e' : a = p
          · rw [if_pos e'] at ha
            omega
          · rw [if_neg e'] at ha
            omega
      subst ea
      rw [eE1, eE2, eE3, if_pos rfl, if_pos rfl, if_pos rfl]
      exact li
  have hcp : cpL V' E' (12 + k) 2 p = 8 := by
    unfold cpL
    rw [hxl]
    show E'.2.2 ll = 8
    rw [eE3, if_pos rfl]
  refine ⟨E', h.nw (k := k) (q := q) (o := p) (by omega) hl hq hq0 hq1 (fun z => by omega) ds wt gl hp0 kp (fun z => ?_) (fun z => ?_) s, ds, kp, hl0'⟩
  · subst z
    exact hcp
  · subst z
    exact hcp
end C68
