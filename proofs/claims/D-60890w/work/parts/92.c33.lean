/-! C33: what stays when the heap of asks changes -/
/-- asks, two lists and the heap's turn may change; asks may be new -/
def VG (hl sl : Nat) (V V' : CW) : Prop := (∀ a, kdV V a ≠ 0 → kdV V' a = kdV V a ∧ (kdV V a ≠ 16 → a ≠ hl → a ≠ sl → ∀ d, xr V' d a = xr V d a ∧ xn V' d a = xn V d a ∧ xw V' d a = xw V d a ∧ (d ≠ 302 → xi V' d a = xi V d a))) ∧ (fr V' = fr V ∧ sa V' = sa V) ∧ (∀ a, kdV V a = 0 → kdV V' a = 0 ∨ kdV V' a = 16)
section C33
variable {nC nS n : Nat} {A : AH} {V V' : CW} {E E' : EL} {ad : AA} {M : MS} {P : PP} {hl sl : Nat}
theorem VG.rf : VG hl sl V V := ⟨fun _ _ => ⟨rfl, fun _ _ _ _ => ⟨rfl, rfl, rfl, fun _ => rfl⟩⟩, ⟨rfl, rfl⟩, fun _ h => Or.inl h⟩
theorem VG.tr {V'' : CW} (h : VG hl sl V V') (h2 : VG hl sl V' V'') : VG hl sl V V'' := by
  refine ⟨fun a ha => ?_, ⟨h2.2.1.1.trans h.2.1.1, h2.2.1.2.trans h.2.1.2⟩, fun a ha => ?_⟩
  · obtain ⟨e1, f1⟩ := h.1 a ha
    obtain ⟨e2, f2⟩ := h2.1 a (by rw [e1]; exact ha)
    refine ⟨e2.trans e1, fun h16 h1 h2' d => ?_⟩
    obtain ⟨a1, a2, a3, a4⟩ := f1 h16 h1 h2' d
    obtain ⟨b1, b2, b3, b4⟩ := f2 (by rw [e1]; exact h16) h1 h2' d
    exact ⟨b1.trans a1, b2.trans a2, b3.trans a3, fun hd => (b4 hd).trans (a4 hd)⟩
  · rcases h.2.2 a ha with e | e
    · exact h2.2.2 a e
    · right
      rw [(h2.1 a (by rw [e]; decide)).1]
      exact e
theorem VG.lf (h : LF V V' hl) : VG hl sl V V' := by
  obtain ⟨h1, h2, h3, h4, h5⟩ := h
  refine ⟨fun a _ => ⟨by rw [kdV, h1], fun _ hne _ d => ?_⟩, ⟨h4, h5⟩, fun a ha => Or.inl (by rw [kdV, h1]; exact ha)⟩
  obtain ⟨b1, b2, b3⟩ := h2 a hne d
  exact ⟨b2, b3, by rw [h3], fun _ => b1⟩
theorem VG.lf2 (h : LF V V' sl) : VG hl sl V V' := by
  obtain ⟨h1, h2, h3, h4, h5⟩ := h
  refine ⟨fun a _ => ⟨by rw [kdV, h1], fun _ _ hne d => ?_⟩, ⟨h4, h5⟩, fun a ha => Or.inl (by rw [kdV, h1]; exact ha)⟩
  obtain ⟨b1, b2, b3⟩ := h2 a hne d
  exact ⟨b2, b3, by rw [h3], fun _ => b1⟩
theorem VG.vI {d a i : Nat} {v : Int32} (h : kdV V a = 16 ∨ d = 302) : VG hl sl V (vI' V d a i v) := by
  refine ⟨fun b _ => ⟨rfl, fun h16 _ _ d' => ⟨rfl, rfl, rfl, fun hd => ?_⟩⟩, ⟨rfl, rfl⟩, fun _ ha => Or.inl ha⟩
  funext j
  rw [vIi, if_neg]
  rintro ⟨z1, z2, _⟩
  rcases h with e | e
  · rw [z2] at h16
    exact h16 e
  · exact hd (z1.trans e)
theorem VG.vR {d a i : Nat} {v : Option Nat} (h : kdV V a = 16) : VG hl sl V (vR' V d a i v) := by
  refine ⟨fun b _ => ⟨rfl, fun h16 _ _ d' => ⟨?_, rfl, rfl, fun hd => rfl⟩⟩, ⟨rfl, rfl⟩, fun _ ha => Or.inl ha⟩
  funext j
  rw [vRr, if_neg]
  rintro ⟨z1, z2, _⟩
  rw [z2] at h16
  exact h16 h
theorem VG.new {p : Nat} (h0 : kdV V p = 0) : VG hl sl V (vNew V p 15) := by
  refine ⟨fun a ha => ?_, ⟨rfl, rfl⟩, fun a ha => ?_⟩
  · have hne : a ≠ p := fun z => ha (by rw [z]; exact h0)
    refine ⟨if_neg hne, fun _ _ _ d => ⟨?_, rfl, rfl, fun _ => ?_⟩⟩
    · funext i; exact if_neg hne
    · funext i; exact if_neg hne
  · by_cases e : a = p
    · right
      show (if a = p then 15 + 1 else V.1 a) = 16
      rw [if_pos e]
    · left
      show (if a = p then 15 + 1 else V.1 a) = 0
      rw [if_neg e]
      exact ha
/-- the two lists -/
def LL (V : CW) (P : PP) (hl sl : Nat) : Prop := xr V 300 (P 3) 0 = some hl ∧ xr V 301 (P 3) 0 = some sl ∧ kdV V hl = 1 ∧ kdV V sl = 1
theorem VG.o (h : VG hl sl V V') (hL : kdV V hl = 1 ∧ kdV V sl = 1) {a c : Nat} (ha : kdV V a = c + 1) (h0 : c ≠ 0) (h15 : c ≠ 15) : kdV V' a = c + 1 ∧ ∀ d, xr V' d a = xr V d a ∧ xn V' d a = xn V d a ∧ xw V' d a = xw V d a ∧ (d ≠ 302 → xi V' d a = xi V d a) := by
  obtain ⟨e, f⟩ := h.1 a (by rw [ha]; omega)
  refine ⟨e.trans ha, f (by rw [ha]; omega) (fun z => ?_) (fun z => ?_)⟩
  · rw [z, hL.1] at ha; omega
  · rw [z, hL.2] at ha; omega
theorem VG.ow (h : VG hl sl V V') (hL : kdV V hl = 1 ∧ kdV V sl = 1) {a c k m : Nat} (ha : kdV V a = c + 1) (h0 : c ≠ 0) (h15 : c ≠ 15) (ho : OW V c k a m) : OW V' c k a m := by
  obtain ⟨x, x1, x2, x3⟩ := ho
  obtain ⟨_, f⟩ := h.o hL ha h0 h15
  exact ⟨x, by rw [(f _).1]; exact x1, by rw [h.2.1.1]; exact x2, by rw [(f _).2.1]; exact x3⟩
theorem cd_c : ∀ d, cdC d → d / 100 ≠ 0 ∧ d / 100 ≠ 15 ∧ d ≠ 302 := by
  intro d hd
  unfold cdC cdA fdC at hd
  simp only [List.mem_cons, List.not_mem_nil, or_false] at hd
  omega
theorem CX.vg (hc : CX V ad M) (hs : ∀ c k a, ad c k = some a → kdV V a = c + 1) (h : VG hl sl V V') (hL : kdV V hl = 1 ∧ kdV V sl = 1) : CX V' ad M := by
  intro d k i a hd hi ha
  obtain ⟨c0, c15, c302⟩ := cd_c d hd
  obtain ⟨_, f⟩ := h.o hL (hs _ _ _ ha) c0 c15
  rw [(f d).2.2.2 c302]
  exact hc d k i a hd hi ha
theorem lof_c {c k : Nat} (h : lof c k ≠ 0) : c ≠ 0 ∧ c ≠ 15 ∧ k < 50 := by
  unfold lof at h
  cases e : ([(13, 2, 15), (12, 2, 14), (2, 0, 13), (2, 1, 14), (2, 2, 15), (3, 0, 16), (3, 1, 16), (7, 8, 9), (9, 0, 11), (1, 0, 6)] : List (Nat × Nat × Nat)).find? (fun t => t.1 == c && t.2.1 == k) with
  | none => rw [e] at h; exact absurd rfl h
  | some t =>
    have h1 := List.mem_of_find?_eq_some e
    have h2 := List.find?_some e
    simp only [Bool.and_eq_true, beq_iff_eq] at h2
    simp only [List.mem_cons, List.not_mem_nil, or_false] at h1
    rcases h1 with h1 | h1 | h1 | h1 | h1 | h1 | h1 | h1 | h1 | h1 <;> (subst h1; simp only at h2; omega)
theorem owl_c {c k : Nat} (h : owl c k ≠ 0) : c ≠ 0 ∧ c ≠ 15 := by
  unfold owl at h
  cases e : ([(14, 0, 16), (14, 1, 4), (13, 3, 16), (13, 4, 4), (12, 1, 64), (10, 0, 4), (1, 1, 4096), (4, 2, 32), (4, 4, 512)] : List (Nat × Nat × Nat)).find? (fun t => t.1 == c && t.2.1 == k) with
  | none => rw [e] at h; exact absurd rfl h
  | some t =>
    have h1 := List.mem_of_find?_eq_some e
    have h2 := List.find?_some e
    simp only [Bool.and_eq_true, beq_iff_eq] at h2
    simp only [List.mem_cons, List.not_mem_nil, or_false] at h1
    rcases h1 with h1 | h1 | h1 | h1 | h1 | h1 | h1 | h1 | h1 <;> (subst h1; simp only at h2; omega)
theorem VG.bk (h : VG hl sl V V') {a c : Nat} (ha : kdV V' a = c + 1) (h15 : c ≠ 15) : kdV V a = c + 1 := by
  cases e : kdV V a with
  | zero =>
    rcases h.2.2 a e with z | z
    · rw [z] at ha; omega
    · rw [z] at ha; omega
  | succ m =>
    have := (h.1 a (by rw [e]; omega)).1
    rw [ha, e] at this
    exact this.symm
theorem WT.vg (hw : WT V E) (h : VG hl sl V V') (hL : kdV V hl = 1 ∧ kdV V sl = 1) (e1 : E'.1 = E.1) : WT V' E' := by
  obtain ⟨w1, w2, w3⟩ := hw
  refine ⟨fun a c k ha hk => ?_, fun a c k ha hk => ?_, fun a c k a' c' k' x ha ha' hk hk' hx hx' => ?_⟩
  · obtain ⟨c0, c15⟩ := owl_c hk
    have ha0 := h.bk ha c15
    exact h.ow hL ha0 c0 c15 (w1 a c k ha0 hk)
  · obtain ⟨c0, c15, _⟩ := lof_c hk
    have ha0 := h.bk ha c15
    obtain ⟨ll, l1, l2, l3⟩ := w2 a c k ha0 hk
    refine ⟨ll, by rw [((h.o hL ha0 c0 c15).2 _).1]; exact l1, ?_, by rw [e1]; exact l3⟩
    rw [(h.1 ll (by rw [l2]; decide)).1]
    exact l2
  · obtain ⟨c0, c15, _⟩ := lof_c hk
    obtain ⟨c0', c15', _⟩ := lof_c hk'
    have ha0 := h.bk ha c15
    have ha0' := h.bk ha' c15'
    rw [((h.o hL ha0 c0 c15).2 _).1] at hx
    rw [((h.o hL ha0' c0' c15').2 _).1] at hx'
    exact w3 a c k a' c' k' x ha0 ha0' hk hk' hx hx'
theorem LI.vg {a c cap : Nat} {l : List Nat} (hli : LI V a c l cap) (h : VG hl sl V V') (h1 : a ≠ hl) (h2 : a ≠ sl) : LI V' a c l cap := by
  obtain ⟨q1, q2, q3, q4, q5, q6, q7, x, q8, q9⟩ := hli
  have ha : kdV V a ≠ 0 := by rw [q1]; decide
  obtain ⟨e, f⟩ := h.1 a ha
  have f := f (by rw [q1]; decide) h1 h2
  refine ⟨e.trans q1, q2, q3, by rw [(f 2).2.2.2 (by decide)]; exact q4, q5, fun v hv => ?_, fun i v hi => by rw [(f 51).1]; exact q7 i v hi, x, by rw [(f 1).1]; exact q8, ?_⟩
  · have := q6 v hv
    rw [(h.1 v (by rw [this]; omega)).1]
    exact this
  · rw [h.2.1.1, h.2.1.2, (f 1).2.1]
    exact q9
theorem GL.vg (hg : GL V E) (h : VG hl sl V V') (e1 : E'.1 = E.1) (hE : ∀ a, a ≠ hl → a ≠ sl → E'.2.1 a = E.2.1 a ∧ E'.2.2 a = E.2.2 a) (l1 : LI V' hl (E.1 hl) (E'.2.1 hl) (E'.2.2 hl)) (l2 : LI V' sl (E.1 sl) (E'.2.1 sl) (E'.2.2 sl)) : GL V' E' := by
  intro a ha
  have ha0 : kdV V a = 1 := h.bk (c := 0) ha (by decide)
  by_cases c1 : a = hl
  · rw [c1, e1]; exact l1
  · by_cases c2 : a = sl
    · rw [c2, e1]; exact l2
    · rw [e1, (hE a c1 c2).1, (hE a c1 c2).2]
      exact (hg a ha0).vg h c1 c2
/-- lists but the two -/
theorem lt_vg (hw : WT V E) (h : VG hl sl V V') (hLL : LL V P hl sl) (hP3 : kdV V (P 3) = 4) (hE : ∀ a, a ≠ hl → a ≠ sl → E'.2.1 a = E.2.1 a ∧ E'.2.2 a = E.2.2 a) {a c k : Nat} (ha : kdV V a = c + 1) (hk : lof c k ≠ 0) (hc3 : c ≠ 3) : lt V' E' c k a = lt V E c k a := by
  obtain ⟨c0, c15, _⟩ := lof_c hk
  obtain ⟨ll, l1, l2, l3⟩ := hw.2.1 a c k ha hk
  have n1 : ll ≠ hl := fun z => by
    have := (hw.2.2 a c k (P 3) 3 0 ll ha hP3 hk (by decide) l1 (by rw [z]; exact hLL.1)).2.1
    exact hc3 this
  have n2 : ll ≠ sl := fun z => by
    have := (hw.2.2 a c k (P 3) 3 1 ll ha hP3 hk (by decide) l1 (by rw [z]; exact hLL.2.1)).2.1
    exact hc3 this
  unfold lt
  rw [((h.o hLL.2.2 ha c0 c15).2 _).1, l1]
  exact (hE ll n1 n2).1
theorem SH.vg (hs : SH V E ad M P) (hw : WT V E) (h : VG hl sl V V') (hLL : LL V P hl sl) (hE : ∀ a, a ≠ hl → a ≠ sl → E'.2.1 a = E.2.1 a ∧ E'.2.2 a = E.2.2 a) : SH V' E' ad M P := by
  have hP3 : kdV V (P 3) = 4 := hs.kk hs.2.2.1.1.2.2.2.1
  have hL := hLL.2.2
  have L := fun {a c k : Nat} (ha : kdV V a = c + 1) (hk : lof c k ≠ 0) (hc3 : c ≠ 3) => lt_vg (E' := E') hw h hLL hP3 hE ha hk hc3
  obtain ⟨h1, h2, h3, h4, h5, h6, h7, h8, h9, h10, h11⟩ := hs
  have k1 := h2 _ _ _ h3.1.1
  have k7 := h2 _ _ _ h3.1.2.1
  have k2 := h2 _ _ _ h3.1.2.2.1
  have k9 := h2 _ _ _ h3.1.2.2.2.2.2
  have x1 := fun d => ((h.o hL k1 (by decide) (by decide)).2 d).1
  have x7 := fun d => ((h.o hL k7 (by decide) (by decide)).2 d).1
  refine ⟨h1, fun c k a ha => ?_, ?_, ?_, ?_, ?_, ?_, ?_, h9, h10, ?_⟩
  · have := h2 c k a ha
    rw [(h.1 a (by rw [this]; omega)).1]
    exact this
  · unfold SHp at h3 ⊢
    rw [x1, x1, x1, x1, x1, x1, x7, x7, x7, x7, x7, x7]
    refine ⟨h3.1, h3.2.1, h3.2.2.1, h3.2.2.2.1, h3.2.2.2.2.1, h3.2.2.2.2.2.1, h3.2.2.2.2.2.2.1, h3.2.2.2.2.2.2.2.1, h3.2.2.2.2.2.2.2.2.1, h3.2.2.2.2.2.2.2.2.2.1, h3.2.2.2.2.2.2.2.2.2.2.1, ?_⟩
    exact h.ow hL k7 (by decide) (by decide) h3.2.2.2.2.2.2.2.2.2.2.2
  · unfold SHu at h4 ⊢
    rw [L k7 (by decide) (by decide), L k9 (by decide) (by decide)]
    refine ⟨h4.1, h4.2.1, fun u a ha => ?_, h4.2.2.2⟩
    have ka := h2 _ _ _ ha
    obtain ⟨o1, o2⟩ := h4.2.2.1 u a ha
    exact ⟨h.ow hL ka (by decide) (by decide) o1, fun k hk => by rw [((h.o hL ka (by decide) (by decide)).2 850).1]; exact o2 k hk⟩
  · refine ⟨fun s w hwa => ?_, h5.2⟩
    obtain ⟨q1, q2, bk, b, q3, q4, q5, q6, j, q7, q8, q9⟩ := h5.1 s w hwa
    refine ⟨q1, q2, bk, b, q3, q4, q5, by rw [((h.o hL (h2 _ _ _ hwa) (by decide) (by decide)).2 1300).1]; exact q6, j, q7, q8, ?_⟩
    rw [L (h2 _ _ _ q5) (by decide) (by decide)]
    exact q9
  · refine ⟨fun s w hwa => ?_, h6.2⟩
    rw [L (h2 _ _ _ hwa) (by decide) (by decide)]
    exact h6.1 s w hwa
  · intro bk b hb
    rw [L (h2 _ _ _ hb) (by decide) (by decide)]
    exact h7 bk b hb
  · intro k hk
    have : k = 0 ∨ k = 1 ∨ k = 2 := by omega
    rcases this with e | e | e
    · subst e
      rw [L k2 (by decide) (by decide)]
      exact h8 0 hk
    · subst e
      rw [L k2 (by decide) (by decide)]
      exact h8 1 hk
    · subst e
      rw [L k2 (by decide) (by decide)]
      exact h8 2 hk
  · unfold SJ
    rw [h.2.1.2]
    exact h11
theorem CP.vg (cp : CP V E ad M P) (h : VG hl sl V V') (hLL : LL V P hl sl) (e1 : E'.1 = E.1) (hE : ∀ a, a ≠ hl → a ≠ sl → E'.2.1 a = E.2.1 a ∧ E'.2.2 a = E.2.2 a) (l1 : LI V' hl (E.1 hl) (E'.2.1 hl) (E'.2.2 hl)) (l2 : LI V' sl (E.1 sl) (E'.2.1 sl) (E'.2.2 sl)) : CP V' E' ad M P :=
  ⟨cp.1.vg cp.2.2.2.2.1 h hLL.2.2, cp.2.1.vg h e1 hE l1 l2, cp.2.2.1.vg h hLL.2.2 e1, cp.2.2.2.vg cp.2.2.1 h hLL hE⟩
end C33
