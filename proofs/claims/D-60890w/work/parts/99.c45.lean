/-! C45: what stays when pools and slots change -/
/-- some lists, and which warps are in slots, may change -/
def QF (S : Nat → Prop) (V V' : CW) : Prop := V'.1 = V.1 ∧ xw V' = xw V ∧ (fr V' = fr V ∧ sa V' = sa V) ∧ ∀ a, ¬ S a → ∀ d, xi V' d a = xi V d a ∧ xn V' d a = xn V d a ∧ (d ≠ 850 → xr V' d a = xr V d a)
/-- the lists of the pool -/
def PS (V : CW) (P : PP) (a : Nat) : Prop := kdV V a = 1 ∧ ∃ k, k < 3 ∧ xr V (200 + k) (P 2) 0 = some a
section C45
variable {nC nS n : Nat} {A : AH} {V V' V'' : CW} {E E' : EL} {ad : AA} {M M' : MS} {P : PP} {S : Nat → Prop} {x T Bk b1 b2 : Nat} {S1 S2 : Nat → Bool}
theorem QF.rf : QF S V V := ⟨rfl, rfl, ⟨rfl, rfl⟩, fun _ _ _ => ⟨rfl, rfl, fun _ => rfl⟩⟩
theorem QF.tr (h : QF S V V') (h2 : QF S V' V'') : QF S V V'' := ⟨h2.1.trans h.1, h2.2.1.trans h.2.1, ⟨h2.2.2.1.1.trans h.2.2.1.1, h2.2.2.1.2.trans h.2.2.1.2⟩, fun a ha d => ⟨(h2.2.2.2 a ha d).1.trans (h.2.2.2 a ha d).1, (h2.2.2.2 a ha d).2.1.trans (h.2.2.2 a ha d).2.1, fun hd => ((h2.2.2.2 a ha d).2.2 hd).trans ((h.2.2.2 a ha d).2.2 hd)⟩⟩
theorem QF.lf {a : Nat} (h : LF V V' a) (ha : S a) : QF S V V' := ⟨h.1, h.2.2.1, ⟨h.2.2.2.1, h.2.2.2.2⟩, fun a' ha' d => by
  obtain ⟨b1, b2, b3⟩ := h.2.1 a' (fun z => ha' (by rw [z]; exact ha)) d
  exact ⟨b1, b3, fun _ => b2⟩⟩
theorem QF.v8 {a i : Nat} {v : Option Nat} : QF S V (vR' V 850 a i v) := ⟨rfl, rfl, ⟨rfl, rfl⟩, fun a' _ d => ⟨rfl, rfl, fun hd => by
  funext j
  rw [vRr, if_neg (fun z => hd z.1)]⟩⟩
theorem QF.kv (h : QF S V V') {a c : Nat} (ha : kdV V a = c) : kdV V' a = c := by rw [kdV, h.1]; exact ha
theorem QF.o (h : QF S V V') (hS : ∀ a, S a → kdV V a = 1) {a c : Nat} (ha : kdV V a = c + 1) (h0 : c ≠ 0) (d : Nat) : xi V' d a = xi V d a ∧ xn V' d a = xn V d a ∧ (d ≠ 850 → xr V' d a = xr V d a) := h.2.2.2 a (fun z => by have := hS a z; omega) d
theorem QF.ow (h : QF S V V') (hS : ∀ a, S a → kdV V a = 1) {a c k m : Nat} (ha : kdV V a = c + 1) (h0 : c ≠ 0) (hk : 100 * c + k ≠ 850) (ho : OW V c k a m) : OW V' c k a m := by
  obtain ⟨y, y1, y2, y3⟩ := ho
  obtain ⟨_, f2, f3⟩ := h.o hS ha h0 (100 * c + k)
  exact ⟨y, by rw [f3 hk]; exact y1, by rw [h.2.2.1.1]; exact y2, by rw [f2]; exact y3⟩
theorem CX.qf (hc : CX V ad M) (hs : ∀ c k a, ad c k = some a → kdV V a = c + 1) (h : QF S V V') (hS : ∀ a, S a → kdV V a = 1) : CX V' ad M := by
  intro d k i a hd hi ha
  rw [(h.o hS (hs _ _ _ ha) (cd_c d hd).1 d).1]
  exact hc d k i a hd hi ha
theorem lof_850 {c k : Nat} (h : lof c k ≠ 0) : 100 * c + k ≠ 850 := by
  obtain ⟨_, _, hk⟩ := lof_c h
  intro z
  omega
theorem owl_850 {c k : Nat} (h : owl c k ≠ 0) : 100 * c + k ≠ 850 := by
  unfold owl at h
  cases e : ([(14, 0, 16), (14, 1, 4), (13, 3, 16), (13, 4, 4), (12, 1, 64), (10, 0, 4), (1, 1, 4096), (4, 2, 32), (4, 4, 512)] : List (Nat × Nat × Nat)).find? (fun t => t.1 == c && t.2.1 == k) with
  | none => rw [e] at h; exact absurd rfl h
  | some t =>
    have h1 := List.mem_of_find?_eq_some e
    have h2 := List.find?_some e
    simp only [Bool.and_eq_true, beq_iff_eq] at h2
    simp only [List.mem_cons, List.not_mem_nil, or_false] at h1
    rcases h1 with h1 | h1 | h1 | h1 | h1 | h1 | h1 | h1 | h1 <;> (subst h1; simp only at h2; omega)
theorem WT.qf (hw : WT V E) (h : QF S V V') (hS : ∀ a, S a → kdV V a = 1) (e1 : E'.1 = E.1) : WT V' E' := by
  obtain ⟨w1, w2, w3⟩ := hw
  have bk : ∀ {a c : Nat}, kdV V' a = c + 1 → kdV V a = c + 1 := fun ha => by rw [kdV, ← h.1]; exact ha
  refine ⟨fun a c k ha hk => ?_, fun a c k ha hk => ?_, fun a c k a' c' k' y ha ha' hk hk' hy hy' => ?_⟩
  · exact h.ow hS (bk ha) (owl_c hk).1 (owl_850 hk) (w1 a c k (bk ha) hk)
  · obtain ⟨ll, l1, l2, l3⟩ := w2 a c k (bk ha) hk
    exact ⟨ll, by rw [(h.o hS (bk ha) (lof_c hk).1 _).2.2 (lof_850 hk)]; exact l1, h.kv l2, by rw [e1]; exact l3⟩
  · rw [(h.o hS (bk ha) (lof_c hk).1 _).2.2 (lof_850 hk)] at hy
    rw [(h.o hS (bk ha') (lof_c hk').1 _).2.2 (lof_850 hk')] at hy'
    exact w3 a c k a' c' k' y (bk ha) (bk ha') hk hk' hy hy'
theorem LI.qf {a c cap : Nat} {l : List Nat} (hli : LI V a c l cap) (h : QF S V V') (h1 : ¬ S a) : LI V' a c l cap := by
  obtain ⟨q1, q2, q3, q4, q5, q6, q7, y, q8, q9⟩ := hli
  have f := h.2.2.2 a h1
  refine ⟨h.kv q1, q2, q3, by rw [(f 2).1]; exact q4, q5, fun v hv => h.kv (q6 v hv), fun i v hi => by rw [(f 51).2.2 (by decide)]; exact q7 i v hi, y, by rw [(f 1).2.2 (by decide)]; exact q8, ?_⟩
  rw [h.2.2.1.1, h.2.2.1.2, (f 1).2.1]
  exact q9
theorem GL.qf (hg : GL V E) (h : QF S V V') (e1 : E'.1 = E.1) (hE : ∀ a, ¬ S a → E'.2.1 a = E.2.1 a ∧ E'.2.2 a = E.2.2 a) (hN : ∀ a, S a → LI V' a (E.1 a) (E'.2.1 a) (E'.2.2 a)) : GL V' E' := by
  intro a ha
  have ha0 : kdV V a = 1 := by rw [kdV, ← h.1]; exact ha
  by_cases c : S a
  · rw [e1]; exact hN a c
  · rw [e1, (hE a c).1, (hE a c).2]
    exact (hg a ha0).qf h c
/-- lists that are not the pool's -/
theorem lt_qf (hw : WT V E) (h : QF (PS V P) V V') (hP : kdV V (P 2) = 3) (hE : ∀ a, ¬ PS V P a → E'.2.1 a = E.2.1 a ∧ E'.2.2 a = E.2.2 a) {a c k : Nat} (ha : kdV V a = c + 1) (hk : lof c k ≠ 0) (hc2 : c ≠ 2) : lt V' E' c k a = lt V E c k a ∧ cpL V' E' c k a = cpL V E c k a := by
  obtain ⟨ll, l1, l2, l3⟩ := hw.2.1 a c k ha hk
  have hn : ¬ PS V P ll := by
    rintro ⟨_, k', hk', z⟩
    have : k' = 0 ∨ k' = 1 ∨ k' = 2 := by omega
    rcases this with e | e | e <;> subst e
    · exact hc2 (hw.2.2 a c k (P 2) 2 0 ll ha hP hk (by decide) l1 z).2.1
    · exact hc2 (hw.2.2 a c k (P 2) 2 1 ll ha hP hk (by decide) l1 z).2.1
    · exact hc2 (hw.2.2 a c k (P 2) 2 2 ll ha hP hk (by decide) l1 z).2.1
  have ex : xr V' (100 * c + k) a = xr V (100 * c + k) a := (h.o (fun _ z => z.1) ha (lof_c hk).1 _).2.2 (lof_850 hk)
  unfold lt cpL
  rw [ex, l1]
  exact hE ll hn
theorem WM.qf (hw : WM V x M) (h : QF S V V') (hS : ∀ a, S a → kdV V a = 1) : WM V' x M := by
  obtain ⟨h1, h2, h3, h4, h5, h6, h7, h8, h9⟩ := hw
  have f := h.o hS (c := 5) h1 (by decide)
  refine ⟨h.kv h1, by unfold SJ; rw [h.2.2.1.2]; exact h2, by rw [(f _).1]; exact h3, by rw [(f _).1]; exact h4, by rw [(f _).1]; exact h5, by rw [(f _).1]; exact h6, by rw [(f _).1]; exact h7, by rw [(f _).1]; exact h8, by rw [(f _).2.2 (by decide), h.2.2.1.2]; exact h9⟩
theorem KN'.qf (hk : KN' V E M P) (hw : WT V E) (h : QF (PS V P) V V') (hP2 : kdV V (P 2) = 3) (hP0 : kdV V (P 0) = 2) (hE : ∀ a, ¬ PS V P a → E'.2.1 a = E.2.1 a ∧ E'.2.2 a = E.2.2 a) (e : M'.2.2 = M.2.2) : KN' V' E' M' P := by
  have eL := (lt_qf hw h hP2 hE (a := P 0) (c := 1) (k := 0) hP0 (by decide) (by decide)).1
  unfold KN'
  rw [eL, e]
  exact ⟨hk.1, fun k w hw' => ((hk.2 k w hw').qf h (fun _ z => z.1)).fm (fun q h1 h2 => z_take_k _ _ _ q h1 h2)⟩
theorem CO.qf {co : Nat} (hc : CO V co Bk b1 b2 S1 S2) (h : QF S V V') (hS : ∀ a, S a → kdV V a = 1) : CO V' co Bk b1 b2 S1 S2 := by
  obtain ⟨h1, h2, h3, h4, h5, h6, h7⟩ := hc
  have bs : ∀ {b m : Nat} {Sx : Nat → Bool}, BS V b m Sx → BS V' b m Sx := by
    intro b m Sx hb
    obtain ⟨q1, q2, q3, ⟨u, u1, u2, u3⟩, q5⟩ := hb
    have f := h.o hS (c := 6) q1 (by decide)
    exact ⟨h.kv q1, q2, h.ow hS (c := 6) q1 (by decide) (by decide) q3, ⟨u, u1, by rw [(f 601).1]; exact u2, by rw [h.2.1]; exact u3⟩, by rw [h.2.1]; exact q5⟩
  have f := h.o hS (c := 4) h1 (by decide)
  exact ⟨h.kv h1, by rw [(f 403).1]; exact h2, by rw [(f 400).2.2 (by decide)]; exact h3, by rw [(f 401).2.2 (by decide)]; exact h4, h5, bs h6, bs h7⟩
/-- asks, when others leave -/
theorem HP.qf (hp : HP V E ad M P T) (hw : WT V E) (hs : ∀ c k a, ad c k = some a → kdV V a = c + 1) (h : QF (PS V P) V V') (hP2 : kdV V (P 2) = 3) (hP3 : kdV V (P 3) = 4) (hE : ∀ a, ¬ PS V P a → E'.2.1 a = E.2.1 a ∧ E'.2.2 a = E.2.2 a) {ad' : AA} (e15 : ad' 15 = ad 15) (e41 : M'.1 41 = M.1 41) (eA : ∀ j, 19 ≤ j → j ≤ 24 → M'.2.1 j = M.2.1 j) (hK : ∀ k a s i bk, ad 15 k = some a → s < 128 → i < 32 → bk < 64 → M.2.1 20 k = nI (32 * (128 * bk + s) + i) → M.2.1 9 s = nI bk → M'.2.1 9 s = nI bk ∧ ad' 14 (32 * s + i) = ad 14 (32 * s + i)) : HP V' E' ad' M' P T := by
  have eL := fun {k : Nat} (hk : lof 3 k ≠ 0) => lt_qf hw h hP2 hE (a := P 3) (c := 3) (k := k) hP3 hk (by decide)
  have f3 := h.o (fun _ z => z.1) (c := 3) hP3 (by decide)
  have rk : ∀ k a, ad 15 k = some a → ∀ d, xi V' d a = xi V d a ∧ (d ≠ 850 → xr V' d a = xr V d a) := fun k a ha d => by
    have := h.o (fun _ z => z.1) (c := 15) (hs 15 k a ha) (by decide) d
    exact ⟨this.1, this.2.2⟩
  obtain ⟨h1, h2, ⟨t1, t2, tn, t3, t4⟩, ⟨o1, o2, o3⟩, o4, o5⟩ := hp
  unfold HP
  rw [(eL (k := 0) (by decide)).1, (eL (k := 1) (by decide)).1, (eL (k := 0) (by decide)).2, (eL (k := 1) (by decide)).2, e15, e41, (f3 302).1]
  refine ⟨h1, fun k a ha => ?_, ⟨t1, t2, tn, fun k a ha => ?_, t4⟩, ⟨o1, o2, ?_⟩, o4, o5⟩
  · obtain ⟨o, d, q, bk, s, i, b1, ⟨b2, b3, b4, b5⟩, ⟨b6, b7, b8, b9, b10, b11⟩, l, b12, b13⟩ := h2 k a ha
    obtain ⟨g1, g2⟩ := hK k a s i bk ha b1.2.2.2.2.1 b1.2.2.2.2.2 b1.2.2.2.1 b3 b5
    have r := rk k a ha
    have fl := h.o (fun _ z => z.1) (c := 14) (hs 14 _ l b12) (by decide)
    refine ⟨o, d, q, bk, s, i, b1, ⟨by rw [eA 21 (by omega) (by omega)]; exact b2, by rw [eA 20 (by omega) (by omega)]; exact b3, by rw [eA 22 (by omega) (by omega)]; exact b4, g1⟩, ⟨by rw [(r _).1, eA 19 (by omega) (by omega)]; exact b6, by rw [(r _).1]; exact b7, by rw [(r _).1]; exact b8, by rw [(r _).1, eA 23 (by omega) (by omega)]; exact b9, by rw [(r _).1, eA 24 (by omega) (by omega)]; exact b10, by rw [(r _).1]; exact b11⟩, l, by rw [g2]; exact b12, ?_⟩
    rw [(r 1508).2 (by decide), (r 1507).1, (fl 1405).1]
    exact b13
  · have r := rk k a ha
    show xi V' 1501 a 0 = _ ∧ _
    rw [(r 1501).1]
    exact t3 k a ha
  · refine o3.c (fun i y hy => ?_)
    obtain ⟨k, hk⟩ := (o2 y).mp ⟨i, hy⟩
    have r := rk k y hk
    exact ⟨by show xi V' 1500 y 0 = _; rw [(r 1500).1], by show xi V' 1501 y 0 = _; rw [(r 1501).1]⟩
end C45
