/-! G11: blocks go, lanes being told by a predicate of their own -/
def SHlq (V : CW) (E : EL) (ad : AA) (Lq : Nat → Nat → Prop) : Prop := (∀ s w, ad 13 s = some w → (lt V E 13 2 w).length ≤ 32 ∧ (∀ j, j < 32 → (Lq s j ↔ j < (lt V E 13 2 w).length)) ∧ ∀ j, j < 32 → (lt V E 13 2 w)[j]? = ad 14 (32 * s + j)) ∧ ∀ t l, ad 14 t = some l → ∃ w, ad 13 (t / 32) = some w
def SHq (V : CW) (E : EL) (ad : AA) (M : MS) (P : PP) (Lq : Nat → Nat → Prop) : Prop := AD ad ∧ (∀ c k a, ad c k = some a → kdV V a = c + 1) ∧ SHp V ad P ∧ SHu V E ad P ∧ SHw V E ad M P ∧ SHlq V E ad Lq ∧ SHb V E ad M P ∧ SHf V E ad P ∧ (P 6 ≤ 32 ∧ P 7 ≤ 16 ∧ P 8 ≤ 8 ∧ P 9 ≤ 8 ∧ P 10 ≤ 16) ∧ (M.1 1 = nI (P 6) ∧ M.1 2 = nI (P 7)) ∧ SJ V
def CPq (V : CW) (E : EL) (ad : AA) (M : MS) (P : PP) (Lq : Nat → Nat → Prop) : Prop := CX V ad M ∧ GL V E ∧ WT V E ∧ SHq V E ad M P Lq
def GYq (nC nS : Nat) (A : AH) (V : CW) (E : EL) (ad : AA) (M : MS) (P : PP) (Lq : Nat → Nat → Prop) (Bk b1 b2 n0 n1 n2 : Nat) : Prop := St (nC + rqC V E P + rqP V E P + ptC V E ad P n0 n1 n2) (nS + rqS V E P + 4 * rqP V E P + ptS V E ad P n0 n1 n2) A V ∧ (CPq V E ad M P Lq ∧ HL V E P ∧ (∃ S1 S2, CO V (P 4) Bk b1 b2 S1 S2) ∧ KN' V E M P) ∧ PN V E ad P n0 n1 n2
section G11
variable {nC nS n : Nat} {A A' : AH} {V V' : CW} {E E' : EL} {ad ad' : AA} {M M' : MS} {P : PP} {Lq : Nat → Nat → Prop} {T Bk b1 b2 n0 n1 n2 hl sl u uu : Nat}
theorem SHq.kk (h : SHq V E ad M P Lq) {c k a : Nat} (ha : ad c k = some a) : kdV V a = c + 1 := h.2.1 c k a ha
theorem SHq.bl (h : SHq V E ad M P Lq) {s w : Nat} (ha : ad 13 s = some w) : ∃ bk b, bk < 64 ∧ M.2.1 9 s = nI bk ∧ ad 12 bk = some b ∧ xr V 1300 w 0 = some b := by
  obtain ⟨_, _, bk, b, h1, h2, h3, h4, _⟩ := h.2.2.2.2.1.1 s w ha
  exact ⟨bk, b, h1, h2, h3, h4⟩
theorem SHq.mm (h : SHq V E ad M P Lq) : ad 7 0 = some (P 1) ∧ kdV V (P 1) = 8 := ⟨h.2.2.1.1.2.1, h.kk h.2.2.1.1.2.1⟩
theorem SHq.s128 (h : SHq V E ad M P Lq) {s w : Nat} (ha : ad 13 s = some w) : s < 128 := by
  obtain ⟨h1, h2, _⟩ := h.2.2.2.2.1.1 s w ha
  have h3 := h.2.2.2.2.2.2.2.2.1
  omega
theorem SHq.iob (h : SHq V E ad M P Lq) (hv : IB V V') : SHq V' E ad M P Lq := by
  rw [hv.eq]
  exact h
theorem SHq.io (h : SHq V E ad M P Lq) (hv : IV V V') : SHq V' E ad M P Lq := h.iob hv.b
theorem SHq.vg (hs : SHq V E ad M P Lq) (hw : WT V E) (h : VG hl sl V V') (hLL : LL V P hl sl) (hE : ∀ a, a ≠ hl → a ≠ sl → E'.2.1 a = E.2.1 a ∧ E'.2.2 a = E.2.2 a) : SHq V' E' ad M P Lq := by
  have hP3 : kdV V (P 3) = 4 := hs.kk hs.2.2.1.1.2.2.2.1
  have hL := hLL.2.2
  have L := fun {a c k : Nat} (ha : kdV V a = c + 1) (hk : lof c k ≠ 0) (hc3 : c ≠ 3) => lt_vg (E' := E') hw h hLL hP3 hE ha hk hc3
  obtain ⟨h1, h2, h3, h4, h5, h6, h7, h8, h9, h10, h11⟩ := hs
  have k1 := h2 _ _ _ h3.1.1
  have k7 := h2 _ _ _ h3.1.2.1
  have k2 := h2 _ _ _ h3.1.2.2.1
  have k9 := h2 _ _ _ h3.1.2.2.2.2.2
  have x1 := fun d => ((h.o hL k1 (by decide) (by decide)).2 d).1
  have x7 := fun d => ((h.o hL k7 (by decide) (by decide)).2 d).1
  refine ⟨h1, fun c k a ha => ?_, ?_, ?_, ?_, ?_, ?_, ?_, h9, h10, ?_⟩
  · have := h2 c k a ha
    rw [(h.1 a (by rw [this]; omega)).1]
    exact this
  · unfold SHp at h3 ⊢
    rw [x1, x1, x1, x1, x1, x1, x7, x7, x7, x7, x7, x7]
    refine ⟨h3.1, h3.2.1, h3.2.2.1, h3.2.2.2.1, h3.2.2.2.2.1, h3.2.2.2.2.2.1, h3.2.2.2.2.2.2.1, h3.2.2.2.2.2.2.2.1, h3.2.2.2.2.2.2.2.2.1, h3.2.2.2.2.2.2.2.2.2.1, h3.2.2.2.2.2.2.2.2.2.2.1, ?_⟩
    exact h.ow hL k7 (by decide) (by decide) h3.2.2.2.2.2.2.2.2.2.2.2
  · unfold SHu at h4 ⊢
    rw [L k7 (by decide) (by decide), L k9 (by decide) (by decide)]
    refine ⟨h4.1, h4.2.1, fun u a ha => ?_, h4.2.2.2⟩
    have ka := h2 _ _ _ ha
    obtain ⟨o1, o2⟩ := h4.2.2.1 u a ha
    exact ⟨h.ow hL ka (by decide) (by decide) o1, fun k hk => by rw [((h.o hL ka (by decide) (by decide)).2 850).1]; exact o2 k hk⟩
  · refine ⟨fun s w hwa => ?_, h5.2⟩
    obtain ⟨q1, q2, bk, b, q3, q4, q5, q6, j, q7, q8, q9⟩ := h5.1 s w hwa
    refine ⟨q1, q2, bk, b, q3, q4, q5, by rw [((h.o hL (h2 _ _ _ hwa) (by decide) (by decide)).2 1300).1]; exact q6, j, q7, q8, ?_⟩
    rw [L (h2 _ _ _ q5) (by decide) (by decide)]
    exact q9
  · refine ⟨fun s w hwa => ?_, h6.2⟩
    rw [L (h2 _ _ _ hwa) (by decide) (by decide)]
    exact h6.1 s w hwa
  · intro bk b hb
    rw [L (h2 _ _ _ hb) (by decide) (by decide)]
    exact h7 bk b hb
  · intro k hk
    have : k = 0 ∨ k = 1 ∨ k = 2 := by omega
    rcases this with e | e | e
    · subst e
      rw [L k2 (by decide) (by decide)]
      exact h8 0 hk
    · subst e
      rw [L k2 (by decide) (by decide)]
      exact h8 1 hk
    · subst e
      rw [L k2 (by decide) (by decide)]
      exact h8 2 hk
  · unfold SJ
    rw [h.2.1.2]
    exact h11
theorem CPq.vg (cp : CPq V E ad M P Lq) (h : VG hl sl V V') (hLL : LL V P hl sl) (e1 : E'.1 = E.1) (hE : ∀ a, a ≠ hl → a ≠ sl → E'.2.1 a = E.2.1 a ∧ E'.2.2 a = E.2.2 a) (l1 : LI V' hl (E.1 hl) (E'.2.1 hl) (E'.2.2 hl)) (l2 : LI V' sl (E.1 sl) (E'.2.1 sl) (E'.2.2 sl)) : CPq V' E' ad M P Lq :=
  ⟨cp.1.vg cp.2.2.2.2.1 h hLL.2.2, cp.2.1.vg h e1 hE l1 l2, cp.2.2.1.vg h hLL.2.2 e1, cp.2.2.2.vg cp.2.2.1 h hLL hE⟩
theorem KN'.hsq (h : KN' V E M P) (cp : CPq V E ad M P Lq) (hh : HS V E V' E' P) (e : M'.2.2 = M.2.2) : KN' V' E' M' P := by
  obtain ⟨hl, sl, hLL, vg, e1, hE⟩ := hh
  have hs := cp.2.2.2
  have hP3 : kdV V (P 3) = 4 := hs.kk hs.2.2.1.1.2.2.2.1
  have hP0 : kdV V (P 0) = 2 := hs.kk hs.2.2.1.1.1
  have eL : lt V' E' 1 0 (P 0) = lt V E 1 0 (P 0) := lt_vg cp.2.2.1 vg hLL hP3 hE (c := 1) hP0 (by decide) (by decide)
  unfold KN'
  rw [eL, e]
  exact ⟨h.1, fun k w hw => ((h.2 k w hw).vg vg hLL.2.2).fm (fun q h1 h2 => z_take_k _ _ _ q h1 h2)⟩
theorem KS.hsq (h : HS V E V' E' P) (cp : CPq V E ad M P Lq) : KS V E V' E' := by
  obtain ⟨hl, sl, hLL, vg, e1, hE⟩ := h
  have hs := cp.2.2.2
  have hP3 : kdV V (P 3) = 4 := hs.kk hs.2.2.1.1.2.2.2.1
  refine ⟨⟨fun a ha => (vg.1 a ha).1, vg.2.1.1⟩, fun a c k ha hk hc3 => ⟨lt_vg cp.2.2.1 vg hLL hP3 hE ha hk hc3, ?_⟩⟩
  obtain ⟨c0, c15, _⟩ := lof_c hk
  obtain ⟨ll, l1, l2, l3⟩ := cp.2.2.1.2.1 a c k ha hk
  have n1 : ll ≠ hl := fun z => hc3 (cp.2.2.1.2.2 a c k (P 3) 3 0 ll ha hP3 hk (by decide) l1 (by rw [z]; exact hLL.1)).2.1
  have n2 : ll ≠ sl := fun z => hc3 (cp.2.2.1.2.2 a c k (P 3) 3 1 ll ha hP3 hk (by decide) l1 (by rw [z]; exact hLL.2.1)).2.1
  unfold cpL
  rw [((vg.o hLL.2.2 ha c0 c15).2 _).1, l1]
  exact (hE ll n1 n2).2
theorem CPq.bw (cp : CPq V E ad M P Lq) {bk b : Nat} (hb : ad 12 bk = some b) : kdV V b = 13 ∧ bk < 64 ∧ (∃ bl cap, xr V 1202 b 0 = some bl ∧ LI V bl 13 (lt V E 12 2 b) cap) ∧ (lt V E 12 2 b).length = P 10 ∧ ∀ j w : Nat, (lt V E 12 2 b)[j]? = some w → ∃ s, s < 128 ∧ ad 13 s = some w ∧ M.2.1 9 s = nI bk ∧ M.2.1 10 s = nI j := by
  have hk := cp.2.2.2.kk hb
  obtain ⟨q1, q2, q3⟩ := cp.2.2.2.2.2.2.2.2.2.1 bk b hb
  exact ⟨hk, q1, cp.2.2.1.li cp.2.1 (c := 12) (k := 2) (e := 13) hk rfl, q2, q3⟩
theorem CPq.sb (cp : CPq V E ad M P Lq) {bk b s : Nat} (hb : ad 12 bk = some b) (hbk : bk < 64) (hs : s < 128) (h9 : M.2.1 9 s = nI bk) : ∃ w j, ad 13 s = some w ∧ j < P 10 ∧ M.2.1 10 s = nI j ∧ (lt V E 12 2 b)[j]? = some w := by
  cases hw : ad 13 s with
  | none =>
    have := cp.2.2.2.2.2.2.2.1.2 s hs hw
    rw [h9] at this
    have h2 := nI_pos' (n := bk) (by omega)
    rw [this] at h2
    exact absurd h2 (by decide)
  | some w =>
    obtain ⟨_, _, bk', b', q1, q2, q3, q4, j, q5, q6, q7⟩ := cp.2.2.2.2.2.2.2.1.1 s w hw
    have e : bk' = bk := (nI_eq (by omega) (by omega)).mp (q2.symm.trans h9)
    subst e
    have e2 : b' = b := Option.some.inj (q3.symm.trans hb)
    subst e2
    exact ⟨w, j, rfl, q5, q6, q7⟩
theorem CPq.blk (cp : CPq V E ad M P Lq) {s w bk b : Nat} (hw : ad 13 s = some w) (hb : ad 12 bk = some b) (hbk : bk < 64) : (xr V 1300 w 0 = some b ↔ M.2.1 9 s = nI bk) ∧ ∃ b', xr V 1300 w 0 = some b' := by
  obtain ⟨bk', b', q1, q2, q3, q4⟩ := cp.2.2.2.bl hw
  refine ⟨⟨fun z => ?_, fun z => ?_⟩, b', q4⟩
  · have e : b' = b := Option.some.inj (q4.symm.trans z)
    subst e
    have e2 := cp.2.2.2.1.1 12 bk' bk b' (by decide) q3 hb
    rw [← e2]
    exact q2
  · have e : bk' = bk := (nI_eq (by omega) (by omega)).mp (q2.symm.trans z)
    subst e
    rw [q4]
    exact congrArg some (Option.some.inj (q3.symm.trans hb))
theorem e8_leaveq (h : St nC nS A V) (cp : CPq V E ad M P Lq) {u uu bk b : Nat} (hu : ad 8 u = some uu) (hb : ad 12 bk = some b) (hbk : bk < 64) (hn : 17 < n) : Res (fX8_leave n uu (some b) A) (fun A' => ∃ V', St nC nS A' V' ∧ QF (fun _ => False) V V' ∧ (∀ a, a ≠ uu → xr V' 850 a = xr V 850 a) ∧ ∀ j, j < P 7 → xr V' 850 uu j = if M.2.1 9 (16 * u + j) = nI bk then none else ad 13 (16 * u + j)) := by
  have hs := cp.2.2.2
  have huk := hs.kk hu
  have hP7 := hs.2.2.2.2.2.2.2.2.1.2.1
  obtain ⟨⟨y, y1, y2, y3⟩, hsl⟩ := hs.2.2.2.1.2.2.1 u uu hu
  have y3 : xn V 800 uu = P 7 := y3
  unfold fX8_leave
  refine jl_R (fun d (g : Int32 → AH → Option AH) => ∀ k A3 V3, k + d = P 7 → St nC nS A3 V3 → QF (fun _ => False) V V3 → (∀ a, a ≠ uu → xr V3 850 a = xr V 850 a) → (∀ j, j < P 7 → xr V3 850 uu j = if (j < k ∧ M.2.1 9 (16 * u + j) = nI bk) then none else ad 13 (16 * u + j)) → Res (g (nI k) A3) (fun A' => ∃ V', St nC nS A' V' ∧ QF (fun _ => False) V V' ∧ (∀ a, a ≠ uu → xr V' 850 a = xr V 850 a) ∧ ∀ j, j < P 7 → xr V' 850 uu j = if M.2.1 9 (16 * u + j) = nI bk then none else ad 13 (16 * u + j))) (P 7) (show P 7 < n by omega) ?_ ?_ ?_
  · intro g k A3 V3 hk s3 q3 ho hr
    have ek : k = P 7 := by omega
    have hk3 := q3.kv huk
    have x1 : xr V3 800 uu 0 = some y := by rw [(q3.2.2.2 uu (fun z => z) 800).2.2 (by decide)]; exact y1
    have x2 : fr V3 y = none := by rw [q3.2.2.1.1]; exact y2
    have x3 : xn V3 800 uu = P 7 := by rw [(q3.2.2.2 uu (fun z => z) 800).2.1]; exact y3
    refine Res.b ((s3.gr 0 (c := 8) hk3 (by decide) rfl).trans (congrArg some x1)) (Res.b ((s3.ln (c := 8) (k := 0) hk3 (by decide) x1 x2).trans (congrArg (fun z => some (nI z)) x3)) ?_)
    rw [if_pos (c_le (by omega) (by omega))]
    refine Res.r ⟨V3, s3, q3, ho, fun j hj => ?_⟩
    rw [hr j hj]
    by_cases c : M.2.1 9 (16 * u + j) = nI bk
    · rw [if_pos ⟨by omega, c⟩, if_pos c]
    · rw [if_neg (fun z => c z.2), if_neg c]
  · intro d g hg k A3 V3 hk s3 q3 ho hr
    have hk3 := q3.kv huk
    have x1 : xr V3 800 uu 0 = some y := by rw [(q3.2.2.2 uu (fun z => z) 800).2.2 (by decide)]; exact y1
    have x2 : fr V3 y = none := by rw [q3.2.2.1.1]; exact y2
    have x3 : xn V3 800 uu = P 7 := by rw [(q3.2.2.2 uu (fun z => z) 800).2.1]; exact y3
    refine Res.b ((s3.gr 0 (c := 8) hk3 (by decide) rfl).trans (congrArg some x1)) (Res.b ((s3.ln (c := 8) (k := 0) hk3 (by decide) x1 x2).trans (congrArg (fun z => some (nI z)) x3)) ?_)
    rw [if_neg (c_nle (by omega) (by omega))]
    have hval : xr V3 850 uu k = ad 13 (16 * u + k) := by rw [hr k (by omega), if_neg (fun z => absurd z.1 (by omega))]
    refine Res.b ((s3.ar k (c := 8) (k := 0) hk3 (Or.inr rfl) x1 x2 (by show k < xn V3 800 uu; omega) (by omega)).trans (congrArg some hval)) ?_
    rw [jn_eq, nI_1]
    have skip : ¬ M.2.1 9 (16 * u + k) = nI bk → ∀ j, j < P 7 → xr V3 850 uu j = if (j < k + 1 ∧ M.2.1 9 (16 * u + j) = nI bk) then none else ad 13 (16 * u + j) := by
      intro hno j hj
      rw [hr j hj]
      by_cases c : j < k ∧ M.2.1 9 (16 * u + j) = nI bk
      · rw [if_pos c, if_pos ⟨by omega, c.2⟩]
      · rw [if_neg c, if_neg]
        rintro ⟨z1, z2⟩
        by_cases e : j = k
        · subst e; exact hno z2
        · exact c ⟨by omega, z2⟩
    cases hw : ad 13 (16 * u + k) with
    | none =>
      rw [if_pos rfl]
      have h9 : ¬ M.2.1 9 (16 * u + k) = nI bk := by
        have hu8 : u < 8 := by
          have := hs.2.2.2.1.2.1 u
          rw [hu] at this
          have := ge_lt this
          have h1 := hs.2.2.2.1.1
          have h2 := hs.2.2.2.2.2.2.2.2.1.2.2.1
          omega
        have := hs.2.2.2.2.1.2 (16 * u + k) (by omega) hw
        intro z
        rw [z] at this
        have h2 := nI_pos' (n := bk) (by omega)
        rw [this] at h2
        exact absurd h2 (by decide)
      exact hg (k + 1) A3 V3 (by omega) s3 q3 ho (skip h9)
    | some w =>
      rw [if_neg (fun z => by cases z)]
      have hwk := hs.kk hw
      obtain ⟨hb1, b', hb2⟩ := cp.blk hw hb hbk
      have gb : gR A3 (some w) 13 0 = some (some b') := (s3.gr 0 (c := 13) (q3.kv hwk) (by decide) rfl).trans (congrArg some (show xr V3 1300 w 0 = some b' by rw [(q3.2.2.2 w (fun z => z) 1300).2.2 (by decide)]; exact hb2))
      refine Res.b gb ?_
      by_cases c : M.2.1 9 (16 * u + k) = nI bk
      · have e : b' = b := Option.some.inj (hb2.symm.trans (hb1.mpr c))
        rw [if_pos (by rw [e])]
        obtain ⟨A4, e4, s4⟩ := s3.sr k none (c := 8) (k := 0) hk3 (Or.inr rfl) x1 x2 (by show k < xn V3 800 uu; omega) (by omega) (st_none A3 _)
        refine Res.b e4 (hg (k + 1) A4 _ (by omega) s4 (q3.tr QF.v8) (fun a ha => ?_) (fun j hj => ?_))
        · rw [← ho a ha]
          funext i
          show xr (vR' V3 850 uu k none) 850 a i = _
          rw [vRr, if_neg (fun z => ha z.2.1)]
        · show xr (vR' V3 850 uu k none) 850 uu j = _
          rw [vRr]
          by_cases ej : j = k
          · rw [if_pos ⟨rfl, rfl, ej⟩, ej, if_pos ⟨by omega, c⟩]
          · rw [if_neg (fun z => ej z.2.2), hr j hj]
            by_cases c2 : j < k ∧ M.2.1 9 (16 * u + j) = nI bk
            · rw [if_pos c2, if_pos ⟨by omega, c2.2⟩]
            · rw [if_neg c2, if_neg (fun z => c2 ⟨by omega, z.2⟩)]
      · rw [if_neg (fun z => c (hb1.mp (by rw [hb2]; exact z)))]
        exact hg (k + 1) A3 V3 (by omega) s3 q3 ho (skip c)
  · intro g hg
    refine hg 0 A V (by omega) h QF.rf (fun _ _ => rfl) (fun j hj => ?_)
    rw [if_neg (fun z => absurd z.1 (Nat.not_lt_zero _))]
    exact hsl j hj
set_option maxHeartbeats 4000000 in
theorem blk_freeq (hS : 10000 ≤ nS) (hC : 2 ≤ nC) (g : GYq nC nS A V E ad M P Lq Bk b1 b2 n0 n1 n2) {u uu bk b : Nat} (hu : ad 8 u = some uu) (q3 : ad 12 bk = some b) (hbk2 : bk < 64) (hUnit : ∀ s', s' < 128 → M.2.1 9 s' = nI bk → s' / 16 = u) (hn : 40 < n) :
    Res (fX8_leave n uu (some b) A) (fun A2 => rcv A2 (some (P 2)) 2 = some (P 2) ∧ Res (fX2_free n (P 2) (some b) A2) (fun A' => ∃ V' E' ad', GYq nC nS A' V' E' ad' (rm9 M (nI bk)) P Lq Bk b1 b2 n0 n1 n2 ∧ (∀ c, c ≠ 12 → c ≠ 13 → c ≠ 14 → ad' c = ad c) ∧ HFR V E V' E' P)) := by
  have cp := g.2.1.1
  have hs := cp.2.2.2
  obtain ⟨sf, s9⟩ := rm9_f M (nI bk)
  refine Res.m (e8_leaveq g.1 cp hu q3 hbk2 (by omega)) ?_
  rintro A2 ⟨V2, s2, qf2, ho2, hr850⟩
  have hP2 : kdV V (P 2) = 3 := hs.kk hs.2.2.1.1.2.2.1
  have hP3 : kdV V (P 3) = 4 := hs.kk hs.2.2.1.1.2.2.2.1
  have hP0 : kdV V (P 0) = 2 := hs.kk hs.2.2.1.1.1
  have nF : ∀ a, ¬ (fun _ : Nat => False) a := fun _ z => z
  have x2 : ∀ a d, d ≠ 850 → xr V2 d a = xr V d a := fun a d hd => (qf2.2.2.2 a (nF a) d).2.2 hd
  have eL2 : ∀ c k a, 100 * c + k ≠ 850 → lt V2 E c k a = lt V E c k a ∧ cpL V2 E c k a = cpL V E c k a := fun c k a hd => by
    unfold lt cpL
    rw [x2 a _ hd]
    exact ⟨rfl, rfl⟩
  refine ⟨s2.rc (qf2.kv hP2), ?_⟩
  have hw2 : WT V2 E := cp.2.2.1.qf qf2 (fun _ z => z.elim) rfl
  have hg2 : GL V2 E := cp.2.1.qf qf2 rfl (fun _ _ => ⟨rfl, rfl⟩) (fun _ z => z.elim)
  have erq : rqP V2 E P = rqP V E P := by
    unfold rqP
    rw [(eL2 2 0 (P 2) (by decide)).2, (eL2 2 1 (P 2) (by decide)).2, (eL2 2 2 (P 2) (by decide)).2]
  have pn := g.2.2
  have fi2 : FI (nC + rqC V E P + ptC V E ad P n0 n1 n2) (nS + rqS V E P + ptS V E ad P n0 n1 n2) V2 E P A2 V2 E := by
    refine ⟨s2.mono ?_ ?_, QF.rf, hw2, hg2, rfl, fun _ _ => ⟨rfl, rfl⟩, fun j hj => ?_, fun _ _ => rfl⟩
    · rw [erq]; omega
    · rw [erq]; omega
    · rw [(eL2 2 j (P 2) (by omega)).2]; exact pn.2.2.2 j hj
  obtain ⟨hbkk, hb64, _, hlenW, hslot⟩ := cp.bw q3
  obtain ⟨ws, ews⟩ : ∃ ws, ws = lt V E 12 2 b := ⟨_, rfl⟩
  rw [← ews] at hlenW hslot
  obtain ⟨sl, hsl⟩ : ∃ sl : Nat → Nat, ∀ j w', ws[j]? = some w' → sl j < 128 ∧ ad 13 (sl j) = some w' ∧ M.2.1 9 (sl j) = nI bk ∧ M.2.1 10 (sl j) = nI j := by
    have : ∀ j, ∃ s, ∀ w', ws[j]? = some w' → s < 128 ∧ ad 13 s = some w' ∧ M.2.1 9 s = nI bk ∧ M.2.1 10 s = nI j := by
      intro j
      cases e : ws[j]? with
      | none => exact ⟨0, fun w' z => by cases z⟩
      | some w' =>
        obtain ⟨s', a1, a2, a3, a4⟩ := hslot j w' e
        exact ⟨s', fun w'' z => by rw [← Option.some.inj z]; exact ⟨a1, a2, a3, a4⟩⟩
    exact Classical.skolem.mp this
  have hW16 := hs.2.2.2.2.2.2.2.2.1.2.2.2.2
  have elw2 : lt V2 E 12 2 b = ws := by rw [(eL2 12 2 b (by decide)).1]; exact ews.symm
  have hws : wsP V2 E b (ad 13) (ad 14) sl := by
    intro j w' hj
    rw [elw2] at hj
    obtain ⟨a1, a2, a3, a4⟩ := hsl j w' hj
    obtain ⟨p1, p2, p3⟩ := hs.2.2.2.2.2.1.1 (sl j) w' a2
    have el : lt V2 E 13 2 w' = lt V E 13 2 w' := (eL2 13 2 w' (by decide)).1
    rw [el]
    refine ⟨qf2.kv (hs.kk a2), a2, a1, p1, p3, fun l hl => ?_⟩
    obtain ⟨i, hi⟩ := List.mem_iff_getElem?.mp hl
    have hi32 : i < 32 := by have := ge_lt hi; omega
    rw [p3 i hi32] at hi
    exact qf2.kv (hs.kk hi)
  have hinj : ∀ j j' : Nat, j < (lt V2 E 12 2 b).length → j' < (lt V2 E 12 2 b).length → sl j = sl j' → j = j' := by
    intro j j' hj hj' he
    rw [elw2] at hj hj'
    obtain ⟨w1, hw1⟩ := lt_ge hj
    obtain ⟨w2, hw2'⟩ := lt_ge hj'
    obtain ⟨_, _, _, a4⟩ := hsl j w1 hw1
    obtain ⟨_, _, _, a4'⟩ := hsl j' w2 hw2'
    rw [he, a4'] at a4
    exact ((nI_eq (by omega) (by omega)).mp a4).symm
  have l20 := (eL2 2 0 (P 2) (by decide)).1
  have l21 := (eL2 2 1 (P 2) (by decide)).1
  have l22 := (eL2 2 2 (P 2) (by decide)).1
  refine Res.m (e2_free (by omega) (by omega) fi2 (qf2.kv hP2) (qf2.kv hbkk) sl q3 hbk2 (by rw [elw2, hlenW]; exact hW16) hws hinj (by rw [l20]; exact pn.1.1) (by rw [l21]; exact pn.2.1.1) (by rw [l22]; exact pn.2.2.1.1) pn.1.2 pn.2.1.2 pn.2.2.1.2 (fW V2 E) (fB V2 E) hn) ?_
  rintro A3 ⟨V3, E3, r13', r14', fi3, rp0, rp1, rp2, ⟨k1, k2⟩, ⟨k3, k4⟩, sm1, sm2⟩
  rw [elw2, hlenW] at k1 k2 k3 k4
  have ePS : PS V2 P = PS V P := PS.qf (qf2.up (fun _ z => z.elim)) hP2
  obtain ⟨f1, f2, f3, f4, f5, f6, f7, f8⟩ := fi3
  rw [ePS] at f2 f6 f8
  have qf3 : QF (PS V P) V V3 := (qf2.up (fun _ z => z.elim)).tr f2
  have hSk : ∀ a, PS V P a → kdV V a = 1 := fun _ z => z.1
  have eL3 := fun {a c k : Nat} (ha : kdV V a = c + 1) (hk : lof c k ≠ 0) (hc2 : c ≠ 2) => lt_qf cp.2.2.1 qf3 hP2 f6 ha hk hc2
  have x3 := fun {a c : Nat} (ha : kdV V a = c + 1) (h0 : c ≠ 0) (d : Nat) => qf3.o hSk ha h0 d
  -- who is where now
  have p13a : ∀ q, q < 128 → M.2.1 9 q = nI bk → r13' q = none := by
    intro q hq h9
    obtain ⟨w', j, a1, a2, a3, a4⟩ := cp.sb q3 hb64 hq h9
    rw [← ews] at a4
    obtain ⟨_, b2', _, _⟩ := hsl j w' a4
    have := hs.1.1 13 q (sl j) w' (by decide) a1 b2'
    rw [this]
    exact k1 j a2
  have p13b : ∀ q, M.2.1 9 q ≠ nI bk → r13' q = ad 13 q := by
    intro q h9
    refine k2 q (fun j hj z => h9 ?_)
    obtain ⟨w', hw'⟩ := lt_ge (l := ws) (i := j) (by omega)
    obtain ⟨_, _, b3, _⟩ := hsl j w' hw'
    rw [z]
    exact b3
  have p14a : ∀ t, t / 32 < 128 → M.2.1 9 (t / 32) = nI bk → r14' t = none := by
    intro t ht h9
    obtain ⟨w', j, a1, a2, a3, a4⟩ := cp.sb q3 hb64 ht h9
    rw [← ews] at a4
    obtain ⟨_, b2', _, _⟩ := hsl j w' a4
    have := hs.1.1 13 (t / 32) (sl j) w' (by decide) a1 b2'
    have e := k3 j (t % 32) a2 (Nat.mod_lt _ (by decide))
    rw [← this, show 32 * (t / 32) + t % 32 = t by omega] at e
    exact e
  have p14b : ∀ t, M.2.1 9 (t / 32) ≠ nI bk → r14' t = ad 14 t := by
    intro t h9
    refine k4 t (fun j hj z => h9 ?_)
    obtain ⟨w', hw'⟩ := lt_ge (l := ws) (i := j) (by omega)
    obtain ⟨_, _, b3, _⟩ := hsl j w' hw'
    rw [z]
    exact b3
  have sub13 : ∀ q a, r13' q = some a → ad 13 q = some a ∧ M.2.1 9 q ≠ nI bk := by
    intro q a ha
    have h9 : M.2.1 9 q ≠ nI bk := fun z => by
      by_cases hq : q < 128
      · rw [p13a q hq z] at ha; cases ha
      · have : r13' q = ad 13 q := k2 q (fun j hj e => by
          obtain ⟨w', hw'⟩ := lt_ge (l := ws) (i := j) (by omega)
          have := (hsl j w' hw').1
          omega)
        rw [this] at ha
        exact hq (hs.s128 ha)
    rw [p13b q h9] at ha
    exact ⟨ha, h9⟩
  have sub14 : ∀ t a, r14' t = some a → ad 14 t = some a ∧ M.2.1 9 (t / 32) ≠ nI bk := by
    intro t a ha
    have h9 : M.2.1 9 (t / 32) ≠ nI bk := fun z => by
      by_cases hq : t / 32 < 128
      · rw [p14a t hq z] at ha; cases ha
      · have : r14' t = ad 14 t := k4 t (fun j hj e => by
          obtain ⟨w', hw'⟩ := lt_ge (l := ws) (i := j) (by omega)
          have := (hsl j w' hw').1
          omega)
        rw [this] at ha
        obtain ⟨w', hw'⟩ := hs.2.2.2.2.2.1.2 t a ha
        exact hq (hs.s128 hw')
    rw [p14b t h9] at ha
    exact ⟨ha, h9⟩
  have sub12 : ∀ q a, rm (ad 12) bk q = some a → ad 12 q = some a ∧ q ≠ bk := by
    intro q a ha
    have ha : (if q = bk then none else ad 12 q) = some a := ha
    by_cases e : q = bk
    · rw [if_pos e] at ha; cases ha
    · rw [if_neg e] at ha; exact ⟨ha, e⟩
  obtain ⟨ad', ead⟩ : ∃ ad' : AA, ad' = fun c q => if c = 12 then rm (ad 12) bk q else if c = 13 then r13' q else if c = 14 then r14' q else ad c q := ⟨_, rfl⟩
  have a12 : ad' 12 = rm (ad 12) bk := by rw [ead]; rfl
  have a13 : ad' 13 = r13' := by rw [ead]; rfl
  have a14 : ad' 14 = r14' := by rw [ead]; rfl
  have aO : ∀ c, c ≠ 12 → c ≠ 13 → c ≠ 14 → ad' c = ad c := fun c h1 h2 h3 => by
    rw [ead]
    funext q
    show (if c = 12 then _ else if c = 13 then _ else if c = 14 then _ else ad c q) = _
    rw [if_neg h1, if_neg h2, if_neg h3]
  have sub : ∀ c q a, ad' c q = some a → ad c q = some a := by
    intro c q a ha
    by_cases e12 : c = 12
    · subst e12; rw [a12] at ha; exact (sub12 q a ha).1
    · by_cases e13 : c = 13
      · subst e13; rw [a13] at ha; exact (sub13 q a ha).1
      · by_cases e14 : c = 14
        · subst e14; rw [a14] at ha; exact (sub14 q a ha).1
        · rw [aO c e12 e13 e14] at ha; exact ha
  have m9 : ∀ q, M.2.1 9 q ≠ nI bk → (rm9 M (nI bk)).2.1 9 q = M.2.1 9 q := fun q hq => by rw [s9 q, if_neg (fun z => hq z.2)]
  have m10 : (rm9 M (nI bk)).2.1 10 = M.2.1 10 := sf.a 10
  have m1 : ∀ k, k ≠ 21 → (rm9 M (nI bk)).1 k = M.1 k := fun k _ => sf.1 k List.not_mem_nil
  have hs3 : SHq V3 E3 ad' (rm9 M (nI bk)) P Lq := by
    obtain ⟨h1, h2, h3, h4, h5, h6, h7, h8, h9, h10, h11⟩ := hs
    refine ⟨⟨fun c k k' a hc ha ha' => h1.1 c k k' a hc (sub _ _ _ ha) (sub _ _ _ ha'), fun c k a hc ha => h1.2 c k a hc (sub _ _ _ ha)⟩, fun c k a ha => qf3.kv (h2 c k a (sub _ _ _ ha)), ?_, ?_, ?_, ?_, ?_, ?_, h9, ?_, ?_⟩
    · unfold SHp at h3 ⊢
      have k1' := h2 _ _ _ h3.1.1
      have k7' := h2 _ _ _ h3.1.2.1
      have y1 : ∀ d, d ≠ 850 → xr V3 d (P 0) = xr V d (P 0) := fun d hd => (x3 k1' (by decide) d).2.2 hd
      have y7 : ∀ d, d ≠ 850 → xr V3 d (P 1) = xr V d (P 1) := fun d hd => (x3 k7' (by decide) d).2.2 hd
      rw [aO 1 (by decide) (by decide) (by decide), aO 7 (by decide) (by decide) (by decide), aO 2 (by decide) (by decide) (by decide), aO 3 (by decide) (by decide) (by decide), aO 4 (by decide) (by decide) (by decide), aO 9 (by decide) (by decide) (by decide)]
      rw [y1 _ (by decide), y1 _ (by decide), y1 _ (by decide), y1 _ (by decide), y1 _ (by decide), y1 _ (by decide), y7 _ (by decide), y7 _ (by decide), y7 _ (by decide), y7 _ (by decide), y7 _ (by decide), y7 _ (by decide)]
      exact ⟨h3.1, h3.2.1, h3.2.2.1, h3.2.2.2.1, h3.2.2.2.2.1, h3.2.2.2.2.2.1, h3.2.2.2.2.2.2.1, h3.2.2.2.2.2.2.2.1, h3.2.2.2.2.2.2.2.2.1, h3.2.2.2.2.2.2.2.2.2.1, h3.2.2.2.2.2.2.2.2.2.2.1, qf3.ow hSk k7' (by decide) (by decide) h3.2.2.2.2.2.2.2.2.2.2.2⟩
    · unfold SHu at h4 ⊢
      have k7' := h2 _ _ _ h3.1.2.1
      have k9' := h2 _ _ _ h3.1.2.2.2.2.2
      rw [aO 8 (by decide) (by decide) (by decide), aO 10 (by decide) (by decide) (by decide), (eL3 k7' (by decide) (by decide)).1, (eL3 k9' (by decide) (by decide)).1]
      refine ⟨h4.1, h4.2.1, fun u' a ha => ?_, h4.2.2.2⟩
      have ka := h2 _ _ _ ha
      obtain ⟨o1, o2⟩ := h4.2.2.1 u' a ha
      refine ⟨qf3.ow hSk ka (by decide) (by decide) o1, fun k hk => ?_⟩
      have nps : ¬ PS V P a := fun z => by have := z.1; omega
      rw [f8 a nps, a13]
      by_cases ea : a = uu
      · subst ea
        have eu : u' = u := h1.1 8 u' u a (by decide) ha hu
        subst eu
        have hu8 : u' < 8 := by
          have := h4.2.1 u'
          rw [ha] at this
          have := ge_lt this
          omega
        rw [hr850 k hk]
        by_cases c : M.2.1 9 (16 * u' + k) = nI bk
        · rw [if_pos c, p13a _ (by omega) c]
        · rw [if_neg c, p13b _ c]
      · have h9' : M.2.1 9 (16 * u' + k) ≠ nI bk := fun z => by
          have hu8 : u' < 8 := by
            have := h4.2.1 u'
            rw [ha] at this
            have := ge_lt this
            omega
          have e16 := hUnit (16 * u' + k) (by omega) z
          have eu : u' = u := by omega
          rw [eu, hu] at ha
          exact ea (Option.some.inj ha).symm
        rw [ho2 a ea, o2 k hk, p13b _ h9']
    · refine ⟨fun s' w' hw' => ?_, fun s' hs' hn' => ?_⟩
      · rw [a13] at hw'
        obtain ⟨hw1, h9'⟩ := sub13 s' w' hw'
        obtain ⟨z1, z2, bk2, b2', z3, z4, z5, z6, j, z7, z8, z9⟩ := h5.1 s' w' hw1
        have hne : bk2 ≠ bk := fun e => by
          rw [e] at z4
          exact h9' z4
        refine ⟨z1, z2, bk2, b2', z3, by rw [m9 s' h9']; exact z4, ?_, ?_, j, z7, by rw [m10]; exact z8, ?_⟩
        · rw [a12]
          show (if bk2 = bk then none else ad 12 bk2) = _
          rw [if_neg hne]
          exact z5
        · rw [(x3 (h2 _ _ _ hw1) (by decide) 1300).2.2 (by decide)]; exact z6
        · rw [(eL3 (h2 _ _ _ z5) (by decide) (by decide)).1]; exact z9
      · rw [a13] at hn'
        by_cases c : M.2.1 9 s' = nI bk
        · rw [s9 s', if_pos ⟨hs', c⟩]
        · rw [p13b s' c] at hn'
          rw [m9 s' c]
          exact h5.2 s' hs' hn'
    · refine ⟨fun s' w' hw' => ?_, fun t l hl => ?_⟩
      · rw [a13] at hw'
        obtain ⟨hw1, h9'⟩ := sub13 s' w' hw'
        rw [(eL3 (h2 _ _ _ hw1) (by decide) (by decide)).1]
        obtain ⟨z1, z2, z3⟩ := h6.1 s' w' hw1
        refine ⟨z1, fun j hj => z2 j hj, fun j hj => ?_⟩
        rw [z3 j hj, a14, p14b _ (by rw [show (32 * s' + j) / 32 = s' by omega]; exact h9')]
      · rw [a14] at hl
        obtain ⟨hl1, h9'⟩ := sub14 t l hl
        obtain ⟨w', hw'⟩ := h6.2 t l hl1
        exact ⟨w', by rw [a13, p13b _ h9']; exact hw'⟩
    · intro bk2 b2' hb2
      rw [a12] at hb2
      obtain ⟨hb2', hne⟩ := sub12 bk2 b2' hb2
      rw [(eL3 (h2 _ _ _ hb2') (by decide) (by decide)).1]
      obtain ⟨z1, z2, z3⟩ := h7 bk2 b2' hb2'
      refine ⟨z1, z2, fun j w' hj => ?_⟩
      obtain ⟨s', y1, y2, y3, y4⟩ := z3 j w' hj
      have h9' : M.2.1 9 s' ≠ nI bk := fun e => by
        rw [e] at y3
        exact hne ((nI_eq (by omega) (by omega)).mp y3).symm
      exact ⟨s', y1, by rw [a13, p13b _ h9']; exact y2, by rw [m9 s' h9']; exact y3, by rw [m10]; exact y4⟩
    · intro k hk
      have : k = 0 ∨ k = 1 ∨ k = 2 := by omega
      rcases this with e | e | e <;> subst e
      · exact ⟨rp0.1, fun y hy q => by rw [a12]; exact rp0.2.1 y hy q⟩
      · exact ⟨rp1.1, fun y hy q => by rw [a13]; exact rp1.2.1 y hy q⟩
      · exact ⟨rp2.1, fun y hy q => by rw [a14]; exact rp2.2.1 y hy q⟩
    · rw [m1 1 (by decide), m1 2 (by decide)]; exact h10
    · unfold SJ
      rw [qf3.2.2.1.2]
      exact h11
  have c3 : CX V3 ad' M := fun d k i a hd hi ha => (cp.1.qf hs.2.1 qf3 hSk) d k i a hd hi (sub _ _ _ ha)
  have cx4 : CX V3 ad' (rm9 M (nI bk)) := by
    refine c3.mm (fun d hd => rfl) (fun j hj => ?_)
    exact sf.2.1 j (by simp only [List.mem_singleton]; omega)
  obtain ⟨S1, S2, hco⟩ := g.2.1.2.2.1
  have hl := g.2.1.2.1
  have hr0 := eL3 (a := P 3) (c := 3) (k := 0) hP3 (by decide) (by decide)
  have hr1' := eL3 (a := P 3) (c := 3) (k := 1) hP3 (by decide) (by decide)
  have hl3 : HL V3 E3 P := by
    unfold HL at hl ⊢
    rw [hr0.1, hr0.2, hr1'.1, hr1'.2]
    exact hl
  have kn3 : KN' V3 E3 (rm9 M (nI bk)) P := g.2.1.2.2.2.qf cp.2.2.1 qf3 hP2 hP0 f6 rfl
  have co3 := hco.qf qf3 hSk
  refine ⟨V3, E3, ad', ⟨?_, ⟨⟨cx4, f4, f3, hs3⟩, hl3, ⟨S1, S2, co3⟩, kn3⟩, ?_⟩, aO, ⟨qf3.2.2.1.1, hr0.1, by rw [(x3 hP3 (by decide) 302).1]⟩⟩
  · have erH : rqH V3 E3 P = rqH V E P := by
      unfold rqH
      rw [hr0.1, hr1'.1]
    have erC : rqC V3 E3 P = rqC V E P := by
      unfold rqC
      rw [erH, hr0.2, hr1'.2]
    have erS : rqS V3 E3 P = rqS V E P := by
      unfold rqS
      rw [erH, hr0.2, hr1'.2]
    have ew2 : fW V2 E = fW V E := by
      funext w'
      unfold fW
      rw [(eL2 13 2 w' (by decide)).2]
    have eb2 : fB V2 E = fB V E := by
      funext w'
      unfold fB
      rw [(eL2 12 2 w' (by decide)).2]
    have ew3 : ∀ w', kdV V w' = 14 → fW V3 E3 w' = fW V E w' := fun w' hk => by
      unfold fW
      rw [(eL3 (c := 13) hk (by decide) (by decide)).2]
    have eb3 : ∀ b', kdV V b' = 13 → fB V3 E3 b' = fB V E b' := fun b' hk => by
      unfold fB
      rw [(eL3 (c := 12) hk (by decide) (by decide)).2]
    have kdl : ∀ k, k < 3 → ∀ y, y ∈ lt V3 E3 2 k (P 2) → kdV V y = 12 + k + 1 := fun k hk y hy => by
      obtain ⟨pl, _, li, _⟩ := PLs f3 f4 (qf3.kv hP2) hk
      have := li.2.2.2.2.2.1 y hy
      rw [kdV, qf3.1] at this
      exact this
    have sW : sumA (fW V3 E3) (ad' 13) 128 + sumL (fW V3 E3) (lt V3 E3 2 1 (P 2)) = sumA (fW V E) (ad 13) 128 + sumL (fW V E) (lt V E 2 1 (P 2)) := by
      rw [ew2, l21] at sm1
      rw [← sm1, a13]
      rw [sumA_c (f := fW V E) (r := r13') 128 (fun q hq => ⟨rfl, fun a ha => ew3 a (hs.kk (sub13 q a ha).1)⟩), sumL_c _ (fun y hy => ew3 y (kdl 1 (by omega) y hy))]
    have sB : sumA (fB V3 E3) (ad' 12) 64 + sumL (fB V3 E3) (lt V3 E3 2 0 (P 2)) = sumA (fB V E) (ad 12) 64 + sumL (fB V E) (lt V E 2 0 (P 2)) := by
      rw [eb2, l20] at sm2
      rw [← sm2, a12]
      rw [sumA_c (f := fB V E) (r := rm (ad 12) bk) 64 (fun q hq => ⟨rfl, fun a ha => eb3 a (hs.kk (sub12 q a ha).1)⟩), sumL_c _ (fun y hy => eb3 y (kdl 0 (by omega) y hy))]
    have ePC : ptC V3 E3 ad' P n0 n1 n2 = ptC V E ad P n0 n1 n2 := by
      unfold ptC
      rw [sW, sB]
    have ePSS : ptS V3 E3 ad' P n0 n1 n2 = ptS V E ad P n0 n1 n2 := by
      unfold ptS
      rw [sW, sB]
    refine f1.mono ?_ ?_
    · rw [erC, ePC]; omega
    · rw [erS, ePSS]; omega
  · unfold PN
    rw [a12, a13, a14]
    exact ⟨⟨rp0, pn.1.2⟩, ⟨rp1, pn.2.1.2⟩, ⟨rp2, pn.2.2.1.2⟩, f7⟩
theorem e8_clearq (hS : 10000 ≤ nS) (hC : 2 ≤ nC) (g : GYq nC nS A V E ad M P Lq Bk b1 b2 n0 n1 n2) (one : oneU M) (hu : ad 8 u = some uu) (hn : 40 < n) :
    Res (fX8_clear n uu (some (P 2)) A) (fun A' => ∃ V' E' ad' M', GYq nC nS A' V' E' ad' M' P Lq Bk b1 b2 n0 n1 n2 ∧ (∀ c, c ≠ 12 → c ≠ 13 → c ≠ 14 → ad' c = ad c) ∧ HFR V E V' E' P ∧ frm [] [9] M M' ∧ le9 M M' ∧ ∀ k, k < P 7 → M'.2.1 9 (16 * u + k) = -1) := by
  have hs := g.2.1.1.2.2.2
  have hP7 := hs.2.2.2.2.2.2.2.2.1.2.1
  have hP8 := hs.2.2.2.2.2.2.2.2.1.2.2.1
  have hu8 : u < P 8 := by
    have := hs.2.2.2.1.2.1 u
    rw [hu] at this
    have := ge_lt this
    rw [hs.2.2.2.1.1] at this
    exact this
  unfold fX8_clear
  refine jl_R (fun dd (gg : Int32 → AH → Option AH) => ∀ k A3 V3 E3 ad3 N, k + dd = P 7 → GYq nC nS A3 V3 E3 ad3 N P Lq Bk b1 b2 n0 n1 n2 → (∀ c, c ≠ 12 → c ≠ 13 → c ≠ 14 → ad3 c = ad c) → HFR V E V3 E3 P → frm [] [9] M N → le9 M N → (∀ k', k' < k → N.2.1 9 (16 * u + k') = -1) → Res (gg (nI k) A3) (fun A' => ∃ V' E' ad' M', GYq nC nS A' V' E' ad' M' P Lq Bk b1 b2 n0 n1 n2 ∧ (∀ c, c ≠ 12 → c ≠ 13 → c ≠ 14 → ad' c = ad c) ∧ HFR V E V' E' P ∧ frm [] [9] M M' ∧ le9 M M' ∧ ∀ k, k < P 7 → M'.2.1 9 (16 * u + k) = -1)) (P 7) (show P 7 < n by omega) ?_ ?_ ?_
  · intro gg k A3 V3 E3 ad3 N hk g3 had hf fr9 l9 hfree
    have ek : k = P 7 := by omega
    have hs3 := g3.2.1.1.2.2.2
    have hu3 : ad3 8 u = some uu := by rw [had 8 (by decide) (by decide) (by decide)]; exact hu
    obtain ⟨⟨y, y1, y2, y3⟩, hsl⟩ := hs3.2.2.2.1.2.2.1 u uu hu3
    have y3 : xn V3 800 uu = P 7 := y3
    refine Res.b ((g3.1.gr 0 (c := 8) (hs3.kk hu3) (by decide) rfl).trans (congrArg some y1)) (Res.b ((g3.1.ln (c := 8) (k := 0) (hs3.kk hu3) (by decide) y1 y2).trans (congrArg (fun z => some (nI z)) y3)) ?_)
    rw [if_pos (c_le (by omega) (by omega))]
    exact Res.r ⟨V3, E3, ad3, N, g3, had, hf, fr9, l9, fun k' hk' => hfree k' (by omega)⟩
  · intro dd gg hgg k A3 V3 E3 ad3 N hk g3 had hf fr9 l9 hfree
    have hs3 := g3.2.1.1.2.2.2
    have hu3 : ad3 8 u = some uu := by rw [had 8 (by decide) (by decide) (by decide)]; exact hu
    obtain ⟨⟨y, y1, y2, y3⟩, hsl⟩ := hs3.2.2.2.1.2.2.1 u uu hu3
    have y3 : xn V3 800 uu = P 7 := y3
    refine Res.b ((g3.1.gr 0 (c := 8) (hs3.kk hu3) (by decide) rfl).trans (congrArg some y1)) (Res.b ((g3.1.ln (c := 8) (k := 0) (hs3.kk hu3) (by decide) y1 y2).trans (congrArg (fun z => some (nI z)) y3)) ?_)
    rw [if_neg (c_nle (by omega) (by omega))]
    refine Res.b ((g3.1.ar k (c := 8) (k := 0) (hs3.kk hu3) (Or.inr rfl) y1 y2 (by show k < xn V3 800 uu; omega) (by omega)).trans (congrArg some (hsl k (by omega)))) ?_
    rw [jn_eq, nI_1]
    cases hw : ad3 13 (16 * u + k) with
    | none =>
      rw [if_pos rfl]
      have h9 := hs3.2.2.2.2.1.2 (16 * u + k) (by omega) hw
      refine hgg (k + 1) A3 V3 E3 ad3 N (by omega) g3 had hf fr9 l9 (fun k' hk' => ?_)
      by_cases e : k' = k
      · rw [e]; exact h9
      · exact hfree k' (by omega)
    | some w =>
      rw [if_neg (fun z => by cases z)]
      obtain ⟨bk, b, c1, c2, c3, c4⟩ := hs3.bl hw
      have hb9 : ¬ N.2.1 9 (16 * u + k) = -1 := fun z => by
        rw [c2] at z
        have h2 := nI_pos' (n := bk) (by omega)
        rw [z] at h2
        exact absurd h2 (by decide)
      have hM : M.2.1 9 (16 * u + k) = nI bk := by
        rcases l9 (16 * u + k) with z | z
        · rw [← z]; exact c2
        · exact absurd z hb9
      refine Res.b ((g3.1.gr 0 (c := 13) (hs3.kk hw) (by decide) rfl).trans (congrArg some c4)) (Res.b (g3.1.rc (hs3.kk hu3)) ?_)
      refine Res.w (blk_freeq hS hC g3 hu3 c3 c1 (fun s' hs' h9' => ?_) hn) ?_
      · have hM' : M.2.1 9 s' = nI bk := by
          rcases l9 s' with z | z
          · rw [← z]; exact h9'
          · rw [z] at h9'
            have h2 := nI_pos' (n := bk) (by omega)
            rw [← h9'] at h2
            exact absurd h2 (by decide)
        have := one (16 * u + k) s' (by omega) hs' (hM.trans hM'.symm) (by rw [hM, ← c2]; exact hb9)
        omega
      · rintro A4 ⟨rc4, r4⟩
        refine Res.b rc4 (Res.w r4 ?_)
        rintro A5 ⟨V5, E5, ad5, g5, had5, hf5⟩
        obtain ⟨f9, s9⟩ := rm9_f N (nI bk)
        refine hgg (k + 1) A5 V5 E5 ad5 (rm9 N (nI bk)) (by omega) g5 (fun c a1 a2 a3 => (had5 c a1 a2 a3).trans (had c a1 a2 a3)) (hf5.trans hf) (fr9.tr f9) (fun s => ?_) (fun k' hk' => ?_)
        · rw [s9 s]
          split
          · exact Or.inr rfl
          · exact l9 s
        · rw [s9]
          by_cases e : k' = k
          · rw [e, if_pos ⟨by omega, c2⟩]
          · rw [hfree k' (by omega)]
            split <;> rfl
  · intro gg hgg
    exact hgg 0 A V E ad M (by omega) g (fun _ _ _ _ => rfl) HFR.rf frm.rf (fun s => Or.inl rfl) (fun k' hk' => absurd hk' (Nat.not_lt_zero _))
theorem GYq.clr (hS : 10000 ≤ nS) (hC : 1 ≤ nC) (g : GYq nC nS A V E ad M P Lq Bk b1 b2 n0 n1 n2) (hn : 10100 < n) :
    Res (fX3_clear n (P 3) A) (fun A' => ∃ V' E', GYq nC nS A' V' E' ad M P Lq Bk b1 b2 n0 n1 n2 ∧ lt V' E' 3 0 (P 3) = [] ∧ xi V' 302 (P 3) 0 = 0 ∧ fr V' = fr V) := by
  obtain ⟨s, ⟨cp, ⟨i0, i1, i2, i3, i4, i5⟩, ⟨S1, S2, co⟩, kn⟩, pn⟩ := g
  have hs := cp.2.2.2
  have hP3 : kdV V (P 3) = 4 := hs.kk hs.2.2.1.1.2.2.2.1
  have hP2 : kdV V (P 2) = 3 := hs.kk hs.2.2.1.1.2.2.1
  obtain ⟨hl, x0, li0, k0, e0, c0⟩ := cp.2.2.1.li2 cp.2.1 (c := 3) (k := 0) (e := 15) hP3 rfl
  obtain ⟨sl, x1, li1, k1, e1, c1⟩ := cp.2.2.1.li2 cp.2.1 (c := 3) (k := 1) (e := 15) hP3 rfl
  have hne : hl ≠ sl := fun z => by
    rw [z] at x0
    exact absurd (cp.2.2.1.2.2 (P 3) 3 0 (P 3) 3 1 sl hP3 hP3 (by decide) (by decide) x0 x1).2.2 (by decide)
  have hLL : LL V P hl sl := ⟨x0, x1, li0.1, li1.1⟩
  refine Res.m (e3_clear (nC1 := nC + rqH V E P + (6200 - cpL V E 3 0 (P 3)) + rqP V E P + ptC V E ad P n0 n1 n2) (nS1 := nS + 9 * rqH V E P + 4 * (6200 - cpL V E 3 0 (P 3)) + 4 * rqP V E P + ptS V E ad P n0 n1 n2) (by omega) (by omega) (s.mono (by unfold rqC; omega) (by unfold rqS; omega)) hP3 x0 x1 hne li0 li1 (by omega) i5 hn) ?_
  rintro A' ⟨V', cap2', s', vg, lh, ls, hc2, h302⟩
  obtain ⟨E', eE⟩ : ∃ E' : EL, E' = setE (setE E hl [] (cpL V E 3 0 (P 3))) sl (lt V E 3 1 (P 3) ++ lt V E 3 0 (P 3)) cap2' := ⟨_, rfl⟩
  have eE1 : E'.1 = E.1 := by rw [eE]; rfl
  have eh : E'.2.1 hl = [] ∧ E'.2.2 hl = cpL V E 3 0 (P 3) := by
    rw [eE]
    exact ⟨(if_neg hne).trans (if_pos rfl), (if_neg hne).trans (if_pos rfl)⟩
  have es : E'.2.1 sl = lt V E 3 1 (P 3) ++ lt V E 3 0 (P 3) ∧ E'.2.2 sl = cap2' := by
    rw [eE]
    exact ⟨if_pos rfl, if_pos rfl⟩
  have eo : ∀ a, a ≠ hl → a ≠ sl → E'.2.1 a = E.2.1 a ∧ E'.2.2 a = E.2.2 a := fun a a1 a2 => by
    rw [eE]
    exact ⟨(if_neg a2).trans (if_neg a1), (if_neg a2).trans (if_neg a1)⟩
  have hh : HS V E V' E' P := ⟨hl, sl, hLL, vg, eE1, eo⟩
  have cp' : CPq V' E' ad M P Lq := cp.vg vg hLL eE1 eo (by rw [k0, eh.1, eh.2]; exact lh) (by rw [k1, es.1, es.2]; exact ls)
  have ks := KS.hsq hh cp
  have LL' := hLL.vg vg hP3
  have l0' : lt V' E' 3 0 (P 3) = [] ∧ cpL V' E' 3 0 (P 3) = cpL V E 3 0 (P 3) := by
    unfold lt cpL
    rw [show xr V' (100 * 3 + 0) (P 3) 0 = some hl from LL'.1]
    exact eh
  have l1' : lt V' E' 3 1 (P 3) = lt V E 3 1 (P 3) ++ lt V E 3 0 (P 3) ∧ cpL V' E' 3 1 (P 3) = cap2' := by
    have h : xr V' (100 * 3 + 1) (P 3) 0 = some sl := LL'.2.1
    constructor
    · show E'.2.1 ((xr V' (100 * 3 + 1) (P 3) 0).getD 0) = _
      rw [h]
      exact es.1
    · show E'.2.2 ((xr V' (100 * 3 + 1) (P 3) 0).getD 0) = _
      rw [h]
      exact es.2
  have q0 := ks.2 (P 2) 2 0 hP2 (by decide) (by decide)
  have q1 := ks.2 (P 2) 2 1 hP2 (by decide) (by decide)
  have q2 := ks.2 (P 2) 2 2 hP2 (by decide) (by decide)
  have kdl : ∀ k, k < 3 → ∀ y, y ∈ lt V E 2 k (P 2) → kdV V y = 12 + k + 1 := fun k hk y hy => pool_kd cp.2.2.1 cp.2.1 hP2 hk hy
  have ew : ∀ w, kdV V w = 14 → fW V' E' w = fW V E w := fun w hk => by
    unfold fW
    rw [(ks.2 w 13 2 hk (by decide) (by decide)).2]
  have eb : ∀ b, kdV V b = 13 → fB V' E' b = fB V E b := fun b hk => by
    unfold fB
    rw [(ks.2 b 12 2 hk (by decide) (by decide)).2]
  have sW : sumA (fW V' E') (ad 13) 128 + sumL (fW V' E') (lt V' E' 2 1 (P 2)) = sumA (fW V E) (ad 13) 128 + sumL (fW V E) (lt V E 2 1 (P 2)) := by
    rw [q1.1, sumA_c (f := fW V E) (r := ad 13) 128 (fun q hq => ⟨rfl, fun a ha => ew a (hs.kk ha)⟩), sumL_c _ (fun y hy => ew y (kdl 1 (by omega) y hy))]
  have sB : sumA (fB V' E') (ad 12) 64 + sumL (fB V' E') (lt V' E' 2 0 (P 2)) = sumA (fB V E) (ad 12) 64 + sumL (fB V E) (lt V E 2 0 (P 2)) := by
    rw [q0.1, sumA_c (f := fB V E) (r := ad 12) 64 (fun q hq => ⟨rfl, fun a ha => eb a (hs.kk ha)⟩), sumL_c _ (fun y hy => eb y (kdl 0 (by omega) y hy))]
  have ePC : ptC V' E' ad P n0 n1 n2 = ptC V E ad P n0 n1 n2 := by unfold ptC; rw [sW, sB]
  have ePS : ptS V' E' ad P n0 n1 n2 = ptS V E ad P n0 n1 n2 := by unfold ptS; rw [sW, sB]
  have erP : rqP V' E' P = rqP V E P := by unfold rqP; rw [q0.2, q1.2, q2.2]
  have erH : rqH V' E' P = rqH V E P := by
    unfold rqH
    rw [l0'.1, l1'.1, List.length_append]
    show 4096 - (0 + _) = _
    omega
  refine ⟨V', E', ⟨?_, ⟨cp', ⟨?_, ?_, ?_, ?_, ?_, ?_⟩, ⟨S1, S2, co.vg vg hLL.2.2⟩, kn.hsq cp hh rfl⟩, ?_⟩, l0'.1, h302, vg.2.1.1⟩
  · unfold rqC rqS
    rw [erH, erP, ePC, ePS, l0'.2, l1'.2]
    exact s'.mono (by omega) (by omega)
  · rw [l0'.1]
    intro i j v hi
    cases hi
  · rw [l1'.1]
    exact inj_app i1 i0 (fun x hx => i2 x hx)
  · rw [l0'.1]
    intro x hx
    exact absurd hx List.not_mem_nil
  · rw [l0'.1, l1'.1, List.length_append]
    show 0 + _ ≤ _
    omega
  · rw [l0'.2]; exact i4
  · rw [l1'.2]; exact hc2
  · unfold PN at pn ⊢
    rw [q0.1, q1.1, q2.1]
    refine ⟨pn.1, pn.2.1, pn.2.2.1, fun j hj => ?_⟩
    have := ks.2 (P 2) 2 j hP2 (lof2 hj) (by decide)
    rw [this.2]
    exact pn.2.2.2 j hj
theorem GX.gyq (g : GX nC nS A V E ad M P T Bk b1 b2 n0 n1 n2) : GYq nC nS A V E (ad15 ad) M P (lnI M) Bk b1 b2 n0 n1 n2 := g.gy
theorem GYq.iv (g : GYq nC nS A V E ad M P Lq Bk b1 b2 n0 n1 n2) (h : St (nC + rqC V E P + rqP V E P + ptC V E ad P n0 n1 n2) (nS + rqS V E P + 4 * rqP V E P + ptS V E ad P n0 n1 n2) A' V') (hi : IV V V') (hc : CX V' ad M') (e1 : M'.1 1 = M.1 1) (e2 : M'.1 2 = M.1 2) (e9 : M'.2.1 9 = M.2.1 9) (e10 : M'.2.1 10 = M.2.1 10) (eK : M'.2.2 = M.2.2) : GYq nC nS A' V' E ad M' P Lq Bk b1 b2 n0 n1 n2 := by
  obtain ⟨_, ⟨⟨cx, gl, wt, sh⟩, hl, ⟨S1, S2, co⟩, kn⟩, pn⟩ := g
  have eL : ∀ c k a, lt V' E c k a = lt V E c k a := fun c k a => by unfold lt; rw [hi.2.1.1]
  have eC : ∀ c k a, cpL V' E c k a = cpL V E c k a := fun c k a => by unfold cpL; rw [hi.2.1.1]
  have ew : fW V' E = fW V E := by funext w; unfold fW; rw [eC]
  have eb : fB V' E = fB V E := by funext w; unfold fB; rw [eC]
  obtain ⟨r1, r2⟩ := rq_iob (E := E) (P := P) hi.b
  have r3 : rqP V' E P = rqP V E P := by unfold rqP; rw [eC, eC, eC]
  have r4 : ptC V' E ad P n0 n1 n2 = ptC V E ad P n0 n1 n2 := by unfold ptC; rw [ew, eb, eL, eL]
  have r5 : ptS V' E ad P n0 n1 n2 = ptS V E ad P n0 n1 n2 := by unfold ptS; rw [ew, eb, eL, eL]
  have sh' := sh.io hi
  refine ⟨by rw [r1, r2, r3, r4, r5]; exact h, ⟨⟨hc, gl.io hi, wt.io hi, ?_⟩, ?_, ⟨S1, S2, co.iv hi⟩, kn.iob hi.b eK⟩, ?_⟩
  · obtain ⟨a1, a2, a3, a4, a5, a6, a7, a8, a9, a10, a11⟩ := sh'
    refine ⟨a1, a2, a3, a4, ?_, a6, ?_, a8, a9, by rw [e1, e2]; exact a10, a11⟩
    · unfold SHw at a5 ⊢
      rw [e9, e10]
      exact a5
    · unfold SHb at a7 ⊢
      rw [e9, e10]
      exact a7
  · unfold HL at hl ⊢
    rw [eL, eL, eC, eC]
    exact hl
  · unfold PN at pn ⊢
    rw [eL, eL, eL]
    exact ⟨pn.1, pn.2.1, pn.2.2.1, fun j hj => by rw [eC]; exact pn.2.2.2 j hj⟩
end G11
