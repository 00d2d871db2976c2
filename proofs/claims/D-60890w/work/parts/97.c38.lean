/-! C38: the bundle; lanes act in a row -/
def KN' (V : CW) (E : EL) (M : MS) (P : PP) : Prop := (lt V E 1 0 (P 0)).length = 128 ∧ ∀ k w : Nat, (lt V E 1 0 (P 0))[k]? = some w → WM V w (z_take M (M.2.2 k))
def GB (V : CW) (E : EL) (ad : AA) (M : MS) (P : PP) (T Bk b1 b2 : Nat) : Prop := CP V E ad M P ∧ HP V E ad M P T ∧ (∃ S1 S2, CO V (P 4) Bk b1 b2 S1 S2) ∧ KN' V E M P
section C38
variable {nC nS n : Nat} {A : AH} {V V' : CW} {E E' : EL} {ad : AA} {M M' : MS} {P : PP} {x T Bk b1 b2 : Nat} {S1 S2 : Nat → Bool}
theorem z_take_k (M M' : MS) (w : Int64) (k : Nat) (h1 : 52 ≤ k) (h2 : k < 58) : (z_take M' w).1 k = (z_take M w).1 k := by
  have : k = 52 ∨ k = 53 ∨ k = 54 ∨ k = 55 ∨ k = 56 ∨ k = 57 := by omega
  rcases this with e | e | e | e | e | e <;> (subst e; rfl)
theorem KN'.iob (h : KN' V E M P) (hv : IB V V') (e : M'.2.2 = M.2.2) : KN' V' E M' P := by
  have eL : lt V' E 1 0 (P 0) = lt V E 1 0 (P 0) := by unfold lt; rw [hv.2.1.1]
  unfold KN'
  rw [eL, e]
  exact ⟨h.1, fun k w hw => ((h.2 k w hw).iob hv).fm (fun q h1 h2 => z_take_k _ _ _ q h1 h2)⟩
theorem KN'.hs (h : KN' V E M P) (cp : CP V E ad M P) (hh : HS V E V' E' P) (e : M'.2.2 = M.2.2) : KN' V' E' M' P := by
  obtain ⟨hl, sl, hLL, vg, e1, hE⟩ := hh
  have hs := cp.2.2.2
  have hP3 : kdV V (P 3) = 4 := hs.kk hs.2.2.1.1.2.2.2.1
  have hP0 : kdV V (P 0) = 2 := hs.kk hs.2.2.1.1.1
  have eL : lt V' E' 1 0 (P 0) = lt V E 1 0 (P 0) := lt_vg cp.2.2.1 vg hLL hP3 hE (c := 1) hP0 (by decide) (by decide)
  unfold KN'
  rw [eL, e]
  exact ⟨h.1, fun k w hw => ((h.2 k w hw).vg vg hLL.2.2).fm (fun q h1 h2 => z_take_k _ _ _ q h1 h2)⟩
theorem CO.iv {co : Nat} (h : CO V co Bk b1 b2 S1 S2) (hi : IV V V') : CO V' co Bk b1 b2 S1 S2 := by
  obtain ⟨h1, h2, h3, h4, h5, h6, h7⟩ := h
  have ew : xw V' = xw V := by show V'.2.2.2.1 = V.2.2.2.1; rw [hi.2.1.2]
  have e601 : xi V' 601 = xi V 601 := hi.2.2 601 (by unfold cdC; decide) (by unfold scr; omega)
  have e403 : xi V' 403 = xi V 403 := hi.2.2 403 (by unfold cdC; decide) (by unfold scr; omega)
  have bs : ∀ {b m : Nat} {S : Nat → Bool}, BS V b m S → BS V' b m S := by
    intro b m S hb
    obtain ⟨q1, q2, ⟨x, x1, x2, x3⟩, ⟨u, u1, u2, u3⟩, q5⟩ := hb
    exact ⟨by rw [kdV, hi.1]; exact q1, q2, ⟨x, by rw [hi.2.1.1]; exact x1, by rw [hi.eq]; exact x2, by rw [hi.eq]; exact x3⟩, ⟨u, u1, by rw [e601]; exact u2, by rw [ew]; exact u3⟩, by rw [ew]; exact q5⟩
  exact ⟨by rw [kdV, hi.1]; exact h1, by rw [e403]; exact h2, by rw [hi.2.1.1]; exact h3, by rw [hi.2.1.1]; exact h4, h5, bs h6, bs h7⟩
theorem CO.vg {co hl sl : Nat} (h : CO V co Bk b1 b2 S1 S2) (vg : VG hl sl V V') (hL : kdV V hl = 1 ∧ kdV V sl = 1) : CO V' co Bk b1 b2 S1 S2 := by
  obtain ⟨h1, h2, h3, h4, h5, h6, h7⟩ := h
  have bs : ∀ {b m : Nat} {S : Nat → Bool}, BS V b m S → BS V' b m S := by
    intro b m S hb
    obtain ⟨q1, q2, q3, ⟨u, u1, u2, u3⟩, q5⟩ := hb
    obtain ⟨e, f⟩ := vg.o hL (c := 6) q1 (by decide) (by decide)
    exact ⟨e, q2, vg.ow hL (c := 6) q1 (by decide) (by decide) q3, ⟨u, u1, by rw [(f 601).2.2.2 (by decide)]; exact u2, by rw [(f 600).2.2.1]; exact u3⟩, by rw [(f 600).2.2.1]; exact q5⟩
  obtain ⟨e, f⟩ := vg.o hL (c := 4) h1 (by decide) (by decide)
  exact ⟨e, by rw [(f 403).2.2.2 (by decide)]; exact h2, by rw [(f 400).1]; exact h3, by rw [(f 401).1]; exact h4, h5, bs h6, bs h7⟩
/-- the model's rows that the heap wants -/
def fmH (M M' : MS) : Prop := fmP M M' ∧ M'.1 41 = M.1 41 ∧ (∀ j, 19 ≤ j → j ≤ 24 → M'.2.1 j = M.2.1 j) ∧ M'.2.2 = M.2.2
theorem fmH.tr {M'' : MS} (h : fmH M M') (h2 : fmH M' M'') : fmH M M'' := ⟨h.1.tr h2.1, h2.2.1.trans h.2.1, fun j a b => (h2.2.2.1 j a b).trans (h.2.2.1 j a b), h2.2.2.2.trans h.2.2.2⟩
theorem fmH.rf : fmH M M := ⟨⟨rfl, rfl, rfl, rfl, rfl⟩, rfl, fun _ _ _ => rfl, rfl⟩
theorem fmH.frm {ks js : List Nat} (h : frm ks js M M') (hk : 1 ∉ ks ∧ 13 ∉ ks ∧ 2 ∉ ks ∧ 41 ∉ ks) (hj : 9 ∉ js ∧ 10 ∉ js ∧ 19 ∉ js ∧ 20 ∉ js ∧ 21 ∉ js ∧ 22 ∉ js ∧ 23 ∉ js ∧ 24 ∉ js) : fmH M M' := by
  refine ⟨fm_frm h hj.1 hj.2.1 hk.1 hk.2.1 hk.2.2.1, h.1 41 hk.2.2.2, fun j a b => h.2.1 j ?_, h.2.2⟩
  have : j = 19 ∨ j = 20 ∨ j = 21 ∨ j = 22 ∨ j = 23 ∨ j = 24 := by omega
  rcases this with e | e | e | e | e | e <;> (subst e; first | exact hj.2.2.1 | exact hj.2.2.2.1 | exact hj.2.2.2.2.1 | exact hj.2.2.2.2.2.1 | exact hj.2.2.2.2.2.2.1 | exact hj.2.2.2.2.2.2.2)
theorem GB.iv (h : GB V E ad M P T Bk b1 b2) (hi : IV V V') (hc : CX V' ad M') (hf : fmH M M') : GB V' E ad M' P T Bk b1 b2 := by
  obtain ⟨g1, g2, ⟨S1, S2, g3⟩, g4⟩ := h
  exact ⟨g1.nx hi hc hf.1, g2.iob hi.b hf.2.1 hf.1.1 hf.2.2.1, ⟨S1, S2, g3.iv hi⟩, g4.iob hi.b hf.2.2.2⟩
theorem GB.ib (h : GB V E ad M P T Bk b1 b2) (hi : IB V V') (hc : CX V' ad M') (hf : fmH M M') (hco : CO V' (P 4) Bk b1 b2 S1 S2) : GB V' E ad M' P T Bk b1 b2 := by
  obtain ⟨g1, g2, _, g4⟩ := h
  exact ⟨g1.nxb hi hc hf.1, g2.iob hi hf.2.1 hf.1.1 hf.2.2.1, ⟨S1, S2, hco⟩, g4.iob hi hf.2.2.2⟩
theorem IB.ff (h : IB V V') : fr V' = fr V := by
  show V'.2.2.2.2.2.1 = V.2.2.2.2.2.1
  rw [h.2.1.2]
theorem IV.ff (h : IV V V') : fr V' = fr V := h.b.ff
/-- lists but the heap's stay -/
def KS (V : CW) (E : EL) (V' : CW) (E' : EL) : Prop := ((∀ a, kdV V a ≠ 0 → kdV V' a = kdV V a) ∧ fr V' = fr V) ∧ ∀ a c k, kdV V a = c + 1 → lof c k ≠ 0 → c ≠ 3 → lt V' E' c k a = lt V E c k a ∧ cpL V' E' c k a = cpL V E c k a
theorem KS.rf : KS V E V E := ⟨⟨fun _ _ => rfl, rfl⟩, fun _ _ _ _ _ _ => ⟨rfl, rfl⟩⟩
theorem KS.tr {V'' : CW} {E'' : EL} (h : KS V E V' E') (h2 : KS V' E' V'' E'') : KS V E V'' E'' := by
  refine ⟨⟨fun a ha => ?_, h2.1.2.trans h.1.2⟩, fun a c k ha hk hc => ?_⟩
  · rw [h2.1.1 a (by rw [h.1.1 a ha]; exact ha), h.1.1 a ha]
  · obtain ⟨e1, e2⟩ := h.2 a c k ha hk hc
    obtain ⟨e3, e4⟩ := h2.2 a c k (by rw [h.1.1 a (by rw [ha]; omega)]; exact ha) hk hc
    exact ⟨e3.trans e1, e4.trans e2⟩
theorem KS.ib (h : IB V V') : KS V E V' E := by
  refine ⟨⟨fun a _ => by rw [kdV, h.1], h.ff⟩, fun a c k _ _ _ => ?_⟩
  unfold lt cpL
  rw [h.2.1.1]
  exact ⟨rfl, rfl⟩
theorem KS.hs (h : HS V E V' E' P) (cp : CP V E ad M P) : KS V E V' E' := by
  obtain ⟨hl, sl, hLL, vg, e1, hE⟩ := h
  have hs := cp.2.2.2
  have hP3 : kdV V (P 3) = 4 := hs.kk hs.2.2.1.1.2.2.2.1
  refine ⟨⟨fun a ha => (vg.1 a ha).1, vg.2.1.1⟩, fun a c k ha hk hc3 => ⟨lt_vg cp.2.2.1 vg hLL hP3 hE ha hk hc3, ?_⟩⟩
  obtain ⟨c0, c15, _⟩ := lof_c hk
  obtain ⟨ll, l1, l2, l3⟩ := cp.2.2.1.2.1 a c k ha hk
  have n1 : ll ≠ hl := fun z => hc3 (cp.2.2.1.2.2 a c k (P 3) 3 0 ll ha hP3 hk (by decide) l1 (by rw [z]; exact hLL.1)).2.1
  have n2 : ll ≠ sl := fun z => hc3 (cp.2.2.1.2.2 a c k (P 3) 3 1 ll ha hP3 hk (by decide) l1 (by rw [z]; exact hLL.2.1)).2.1
  unfold cpL
  rw [((vg.o hLL.2.2 ha c0 c15).2 _).1, l1]
  exact (hE ll n1 n2).2
/-- registers of lanes to come are untouched -/
theorem ac_13 {s d a b bk : Nat} (hd : d < 16) : ∀ k j r, k ≤ j → r < 16 → (iter (acS s d a b bk) 0 k M).2.1 13 (16 * (32 * s + j) + r) = M.2.1 13 (16 * (32 * s + j) + r) := by
  intro k
  induction k with
  | zero => intro j r _ _; rfl
  | succ k ih =>
    intro j r hk hr
    rw [iter_last, Nat.zero_add, ← ih j r (by omega) hr]
    generalize iter (acS s d a b bk) 0 k M = N
    unfold acS
    split
    · rfl
    · exact act_13 N s k _ d a b _ bk _ _ _ (by omega)
end C38
