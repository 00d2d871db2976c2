/-! C7: what stays; new lists -/
/-- objects stay what they are; rows of owners outside S stay -/
def VF (S : Nat → Prop) (V V' : CW) : Prop := (∀ a, kdV V a ≠ 0 → kdV V' a = kdV V a ∧ (¬ S a → ∀ d, xi V' d a = xi V d a ∧ xr V' d a = xr V d a ∧ xw V' d a = xw V d a ∧ xn V' d a = xn V d a)) ∧ fr V' = fr V ∧ sa V' = sa V
theorem VF.rf {S : Nat → Prop} {V : CW} : VF S V V := ⟨fun _ _ => ⟨rfl, fun _ _ => ⟨rfl, rfl, rfl, rfl⟩⟩, rfl, rfl⟩
theorem VF.tr {S : Nat → Prop} {V V' V'' : CW} (h : VF S V V') (h2 : VF S V' V'') : VF S V V'' := by
  refine ⟨fun a ha => ?_, h2.2.1.trans h.2.1, h2.2.2.trans h.2.2⟩
  obtain ⟨e1, f1⟩ := h.1 a ha
  obtain ⟨e2, f2⟩ := h2.1 a (by rw [e1]; exact ha)
  refine ⟨e2.trans e1, fun hs d => ?_⟩
  obtain ⟨a1, a2, a3, a4⟩ := f1 hs d
  obtain ⟨b1, b2, b3, b4⟩ := f2 hs d
  exact ⟨b1.trans a1, b2.trans a2, b3.trans a3, b4.trans a4⟩
theorem VF.up {S S' : Nat → Prop} {V V' : CW} (h : VF S V V') (hs : ∀ a, kdV V a ≠ 0 → S a → S' a) : VF S' V V' := ⟨fun a ha => ⟨(h.1 a ha).1, fun hn => (h.1 a ha).2 (fun z => hn (hs a ha z))⟩, h.2⟩
theorem LF.vf {V V' : CW} {a : Nat} (h : LF V V' a) {S : Nat → Prop} (hs : S a) : VF S V V' := ⟨fun a' _ => ⟨by rw [kdV, h.1], fun hn d => by
  obtain ⟨b1, b2, b3⟩ := h.2.1 a' (fun z => hn (by rw [z]; exact hs)) d
  exact ⟨b1, b2, by rw [h.2.2.1], b3⟩⟩, h.2.2.2.1, h.2.2.2.2⟩
theorem VF.vI {S : Nat → Prop} {V : CW} {a : Nat} (d i : Nat) (v : Int32) (hs : S a) : VF S V (vI' V d a i v) := (LF.vI d i v).vf hs
theorem VF.vR {S : Nat → Prop} {V : CW} {a : Nat} (d i : Nat) (v : Option Nat) (hs : S a) : VF S V (vR' V d a i v) := (LF.vR d i v).vf hs
theorem VF.vW {S : Nat → Prop} {V : CW} {a : Nat} (d i : Nat) (v : Int64) (hs : S a) : VF S V (vW' V d a i v) := ⟨fun a' _ => ⟨rfl, fun hn d' => ⟨rfl, rfl, up3_row _ _ _ _ _ _ _ (fun z => hn (by rw [z.2]; exact hs)), rfl⟩⟩, rfl, rfl⟩
theorem VF.new {S : Nat → Prop} {V : CW} {p c : Nat} (h0 : kdV V p = 0) : VF S V (vNew V p c) := by
  refine ⟨fun a ha => ?_, rfl, rfl⟩
  have hne : a ≠ p := fun z => ha (by rw [z]; exact h0)
  refine ⟨if_neg hne, fun _ d => ⟨?_, ?_, rfl, rfl⟩⟩
  · funext i; exact if_neg hne
  · funext i; exact if_neg hne
theorem VF.k {S : Nat → Prop} {V V' : CW} (h : VF S V V') {a c : Nat} (ha : kdV V a = c + 1) : kdV V' a = c + 1 := by
  rw [(h.1 a (by rw [ha]; omega)).1]; exact ha
theorem VF.i {S : Nat → Prop} {V V' : CW} (h : VF S V V') {a c : Nat} (ha : kdV V a = c + 1) (hs : ¬ S a) (d : Nat) : xi V' d a = xi V d a := ((h.1 a (by rw [ha]; omega)).2 hs d).1
theorem VF.r {S : Nat → Prop} {V V' : CW} (h : VF S V V') {a c : Nat} (ha : kdV V a = c + 1) (hs : ¬ S a) (d : Nat) : xr V' d a = xr V d a := ((h.1 a (by rw [ha]; omega)).2 hs d).2.1
theorem VF.w {S : Nat → Prop} {V V' : CW} (h : VF S V V') {a c : Nat} (ha : kdV V a = c + 1) (hs : ¬ S a) (d : Nat) : xw V' d a = xw V d a := ((h.1 a (by rw [ha]; omega)).2 hs d).2.2.1
theorem VF.n {S : Nat → Prop} {V V' : CW} (h : VF S V V') {a c : Nat} (ha : kdV V a = c + 1) (hs : ¬ S a) (d : Nat) : xn V' d a = xn V d a := ((h.1 a (by rw [ha]; omega)).2 hs d).2.2.2
theorem LI.vf {S : Nat → Prop} {V V' : CW} {a c cap : Nat} {l : List Nat} (h : LI V a c l cap) (hf : VF S V V') (hs : ¬ S a) : LI V' a c l cap := by
  obtain ⟨q1, q2, q3, q4, q5, q6, q7, x, q8, q9⟩ := h
  refine ⟨hf.k q1, q2, q3, by rw [hf.i q1 hs]; exact q4, q5, fun v hv => hf.k (q6 v hv), fun i v hi => by rw [hf.r q1 hs]; exact q7 i v hi, x, by rw [hf.r q1 hs]; exact q8, ?_⟩
  rw [hf.2.1, hf.2.2, hf.n q1 hs]
  exact q9
section C7
variable {nC nS : Nat} {A : AH} {V : CW}
/-- an owning field is set to what lies apart and stays there -/
theorem St.ps (h : St nC nS A V) {a c k x : Nat} {e : va_E} (ha : kdV V a = c + 1) (hk : k < nfl c) (hr : isR c k = true) (hx : fr V x = some e) : ∃ A', pR A (some a) c k (some x) = some A' ∧ St nC nS A' (vR' V (100 * c + k) a 0 (some x)) := by
  have hk50 : k < 50 := by have := nfl_lt c; omega
  have hset : (flds V c a).set k (va_rf (some x)) = flds (vR' V (100 * c + k) a 0 (some x)) c a := by
    refine flds_set hk (fun k' hk' => ?_)
    rw [fldV_vR V c a k c a k' (some x) hk50 (by have := nfl_lt c; omega) hr]
    by_cases e : k' = k
    · rw [if_pos ⟨rfl, rfl, e⟩, if_pos e]
    · rw [if_neg (fun z => e z.2.2), if_neg e]
  have hob := h.ob ha
  obtain ⟨⟨b1, b2, b3⟩, h1, h2, h3, h4⟩ := h
  have hax := (h1 a c ha).2.2.2
  have hpt : ∀ a' c' k' y, own c' k' ≠ 0 → xr (vR' V (100 * c + k) a 0 (some x)) (100 * c' + k') a' 0 = some y → fr V y = none → xr V (100 * c' + k') a' 0 = some y := by
    intro a' c' k' y ho hy hf
    rw [vRr] at hy
    by_cases e : 100 * c' + k' = 100 * c + k ∧ a' = a ∧ 0 = 0
    · rw [if_pos e] at hy
      rw [← Option.some.inj hy, hx] at hf
      cases hf
    · rw [if_neg e] at hy
      exact hy
  refine ⟨hSet A a (.inr (c, flds (vR' V (100 * c + k) a 0 (some x)) c a)), ?_, ⟨⟨b1, b2, b3⟩, fun a' c' hk' => ?_, fun a' c' k' y hk' ho hy hf => ?_, fun a1 c1 k1 a2 c2 k2 y q1 q2 o1 o2 y1 y2 hf => h3 a1 c1 k1 a2 c2 k2 y q1 q2 o1 o2 (hpt _ _ _ _ o1 y1 hf) (hpt _ _ _ _ o2 y2 hf) hf, fun q e hq => ?_⟩⟩
  · unfold pR pV
    rw [hob]
    simp only [Option.bind_some, flds_len, hk, if_true, Option.getD_some, hset]
  · obtain ⟨g1, g2, g3, g4⟩ := h1 a' c' hk'
    refine ⟨g1, g2, g3, ?_⟩
    by_cases e : a' = a
    · subst e
      have : c' = c := by have := hk'.symm.trans ha; omega
      subst this
      exact hSet_at
    · rw [hSet_ne e, g4]
      refine congrArg some (congrArg (fun l => Sum.inr (c', l)) ?_)
      unfold flds
      refine List.map_congr_left (fun k' hk' => ?_)
      rw [fldV_vR V c a k c' a' k' (some x) hk50 (by have := nfl_lt c'; have := List.mem_range.mp hk'; omega) hr, if_neg (fun z => e z.1)]
  · have hy2 := hpt a' c' k' y ho hy hf
    obtain ⟨g1, g2⟩ := h2 a' c' k' y hk' ho hy2 hf
    refine ⟨g1, ?_⟩
    have h50 := own_k ho
    have e1 : arE (vR' V (100 * c + k) a 0 (some x)) (own c' k') (100 * c' + k') a' = arE V (own c' k') (100 * c' + k') a' := by
      have e : xr (vR' V (100 * c + k) a 0 (some x)) (100 * c' + k' + 50) a' = xr V (100 * c' + k' + 50) a' := up3_row _ _ _ _ _ _ _ (fun z => by omega)
      unfold arE
      rw [e]
      rfl
    rw [e1, hSet_ne, g2]
    intro z
    rw [z, hax] at g2
    exact arE_ne_obj _ _ _ _ _ _ g2.symm
  · obtain ⟨g1, g2, g3⟩ := h4 q e hq
    refine ⟨g1, ?_, g3⟩
    rw [hSet_ne, g2]
    intro z
    rw [z] at g3
    have g3 : kdV V a = 0 := g3
    omega
theorem L_init (nC nS : Nat) {A : AH} {V : CW} {p m : Nat} (h : St (nC + 1) (nS + m) A V) (hp : kdV V p = 1) (h2 : xi V 2 p 0 = 0) (hm : 0 < m) (hm2 : m ≤ 10000) : Res (fJ2_init p (nI m) A) (fun A' => ∃ V', St nC nS A' V' ∧ LF V V' p ∧ ∀ c, stc c → LI V' p c [] m) := by
  unfold fJ2_init fJ1_init fJ0_init
  obtain ⟨A1, e1, s1⟩ := h.pi 0 0 (c := 0) hp (by decide) rfl
  refine Res.b (v := A1) (by rw [Option.bind_some]; exact ob e1 rfl) ?_
  rw [jn_eq, if_neg (show ¬ nI m ≤ 0 from c_nle (a := m) (b := 0) hm (by omega))]
  obtain ⟨A2, e2, hN2, s2⟩ := s1.nar 3 m (by omega) (n := nS) (Nat.le_refl _)
  refine Res.b e2 ?_
  obtain ⟨A3, e3, _, s3⟩ := s2.abR (c := 0) (k := 1) (x := hN A1) (n := m) (f := fun _ => none) hp (by decide) rfl (Or.inl rfl) s1.lse0 (if_pos rfl)
  refine Res.b e3 (Res.r ⟨_, s3, ?_⟩)
  have hf0 : fr V (hN A1) = none := by
    cases e : fr V (hN A1) with
    | none => rfl
    | some w => exact absurd (s1.2.2.2.2 _ _ e).1 (Nat.lt_irrefl _)
  have hfr : (fun q => if q = hN A1 then none else if q = hN A1 then some (Sum.inl (3, m, Sum.inr (Sum.inr (Sum.inr (Sum.inr fun _ => none))))) else fr V q) = fr V := by
    funext q
    by_cases e : q = hN A1
    · rw [if_pos e, e, hf0]
    · rw [if_neg e, if_neg e]
  refine ⟨⟨rfl, fun a' ha d => ⟨?_, ?_, ?_⟩, rfl, hfr, rfl⟩, fun c hc => ⟨hp, hc, hm2, ?_, Nat.zero_le _, fun v hv => absurd hv (List.not_mem_nil), fun i v hv => by simp at hv, hN A1, ?_, Or.inl ⟨hm, ?_, if_pos ⟨rfl, rfl⟩⟩⟩⟩
  · exact up3_row _ _ _ _ _ _ _ (fun z => ha z.2)
  · funext i
    show (if d = 1 + 50 ∧ a' = p then none else up3 (xr V) 1 p 0 (some (hN A1)) d a' i) = _
    rw [if_neg (fun z => ha z.2), up3_row _ _ _ _ _ _ _ (fun z => ha z.2)]
  · show (if d = 1 ∧ a' = p then m else xn V d a') = _
    rw [if_neg (fun z => ha z.2)]
  · show (if 2 = 0 ∧ p = p ∧ 0 = 0 then 0 else xi V 2 p 0) = nI 0
    rw [if_neg (fun z => absurd z.1 (by decide)), h2]
    rfl
  · show (if 1 = 1 + 50 ∧ p = p then none else up3 (xr V) 1 p 0 (some (hN A1)) 1 p 0) = _
    rw [if_neg (fun z => absurd z.1 (by decide))]
    exact if_pos ⟨rfl, rfl, rfl⟩
  · show (if hN A1 = hN A1 then none else _) = none
    rw [if_pos rfl]
theorem L_init2 {nC nS : Nat} {A : AH} {V : CW} {p : Nat} (h : St nC nS A V) (hp : kdV V p = 1) (h2 : xi V 2 p 0 = 0) {g : Nat → Option Nat} (h8 : fr V (sa V 8) = some (.inl (6, 0, .inr (.inr (.inr (.inr g)))))) : Res (fJ2_init_2 p A) (fun A' => ∃ V', St nC nS A' V' ∧ LF V V' p ∧ ∀ c, stc c → LI V' p c [] 0) := by
  unfold fJ2_init_2 fJ1_init fJ0_init
  obtain ⟨A1, e1, s1⟩ := h.pi 0 0 (c := 0) hp (by decide) rfl
  refine Res.b (v := A1) (by rw [Option.bind_some]; exact ob e1 rfl) ?_
  rw [s1.1.2.2]
  obtain ⟨A2, e2, s2⟩ := s1.ps (c := 0) (k := 1) (x := sa V 8) hp (by decide) rfl h8
  refine Res.b e2 (Res.r ⟨_, s2, (LF.vI _ _ _).tr (LF.vR _ _ _), fun c hc => ⟨hp, hc, by omega, ?_, Nat.le_refl _, fun v hv => absurd hv (List.not_mem_nil), fun i v hv => by simp at hv, sa V 8, ?_, Or.inr ⟨rfl, rfl, g, h8⟩⟩⟩)
  · show (if 2 = 0 ∧ p = p ∧ 0 = 0 then 0 else xi V 2 p 0) = nI 0
    rw [if_neg (fun z => absurd z.1 (by decide)), h2]
    rfl
  · exact if_pos ⟨rfl, rfl, rfl⟩
end C7
