/-! C15: the shape: who is where; steps that change ints alone -/
def scr (d : Nat) : Prop := d = 761 ∨ d = 452 ∨ d = 454 ∨ d = 405 ∨ d = 406 ∨ d = 407
def IV (V V' : CW) : Prop := V'.1 = V.1 ∧ (xr V' = xr V ∧ V'.2.2.2 = V.2.2.2) ∧ ∀ d, ¬ cdC d → ¬ scr d → xi V' d = xi V d
/-- the same, and sets of bits may change -/
def IB (V V' : CW) : Prop := V'.1 = V.1 ∧ (xr V' = xr V ∧ V'.2.2.2.2 = V.2.2.2.2) ∧ ∀ d, ¬ cdC d → ¬ scr d → d ≠ 601 → xi V' d = xi V d
/-- elements of the list that a field has -/
def lt (V : CW) (E : EL) (c k a : Nat) : List Nat := E.2.1 ((xr V (100 * c + k) a 0).getD 0)
abbrev AA : Type := Nat → Nat → Option Nat
/-- places: 0 mill, 1 machine, 2 pool, 3 heap, 4 coalescer, 5 cache, 6 lanes, 7 slots, 8 units, 9 gates, 10 warps -/
abbrev PP : Type := Nat → Nat
def SHp (V : CW) (ad : AA) (P : PP) : Prop := (ad 1 0 = some (P 0) ∧ ad 7 0 = some (P 1) ∧ ad 2 0 = some (P 2) ∧ ad 3 0 = some (P 3) ∧ ad 4 0 = some (P 4) ∧ ad 9 0 = some (P 5)) ∧ xr V 105 (P 0) 0 = some (P 1) ∧ xr V 102 (P 0) 0 = some (P 2) ∧ xr V 103 (P 0) 0 = some (P 3) ∧ xr V 104 (P 0) 0 = some (P 4) ∧ xr V 704 (P 1) 0 = xr V 100 (P 0) 0 ∧ xr V 705 (P 1) 0 = xr V 101 (P 0) 0 ∧ xr V 706 (P 1) 0 = some (P 2) ∧ xr V 707 (P 1) 0 = some (P 3) ∧ xr V 709 (P 1) 0 = some (P 5) ∧ xr V 710 (P 1) 0 = some (P 4) ∧ OW V 7 11 (P 1) (P 6)
def SHu (V : CW) (E : EL) (ad : AA) (P : PP) : Prop := (lt V E 7 8 (P 1)).length = P 8 ∧ (∀ u, (lt V E 7 8 (P 1))[u]? = ad 8 u) ∧ (∀ u a, ad 8 u = some a → OW V 8 0 a (P 7) ∧ ∀ k, k < P 7 → xr V 850 a k = ad 13 (16 * u + k)) ∧ (lt V E 9 0 (P 5)).length = P 9 ∧ ∀ g, (lt V E 9 0 (P 5))[g]? = ad 10 g
def SHw (V : CW) (E : EL) (ad : AA) (M : MS) (P : PP) : Prop := (∀ s w, ad 13 s = some w → s / 16 < P 8 ∧ s % 16 < P 7 ∧ ∃ bk b, bk < 64 ∧ M.2.1 9 s = nI bk ∧ ad 12 bk = some b ∧ xr V 1300 w 0 = some b ∧ ∃ j, j < P 10 ∧ M.2.1 10 s = nI j ∧ (lt V E 12 2 b)[j]? = some w) ∧ (∀ s, s < 128 → ad 13 s = none → M.2.1 9 s = -1)
def SHl (V : CW) (E : EL) (ad : AA) (M : MS) : Prop := (∀ s w, ad 13 s = some w → (lt V E 13 2 w).length ≤ 32 ∧ (∀ j, j < 32 → (lnI M s j ↔ j < (lt V E 13 2 w).length)) ∧ ∀ j, j < 32 → (lt V E 13 2 w)[j]? = ad 14 (32 * s + j)) ∧ ∀ t l, ad 14 t = some l → ∃ w, ad 13 (t / 32) = some w
def SHb (V : CW) (E : EL) (ad : AA) (M : MS) (P : PP) : Prop := ∀ bk b, ad 12 bk = some b → bk < 64 ∧ (lt V E 12 2 b).length = P 10 ∧ ∀ j w, (lt V E 12 2 b)[j]? = some w → ∃ s, s < 128 ∧ ad 13 s = some w ∧ M.2.1 9 s = nI bk ∧ M.2.1 10 s = nI j
def SHf (V : CW) (E : EL) (ad : AA) (P : PP) : Prop := ∀ k, k < 3 → (lt V E 2 k (P 2)).Nodup ∧ ∀ x, x ∈ lt V E 2 k (P 2) → ∀ q, ad (12 + k) q ≠ some x
def SH (V : CW) (E : EL) (ad : AA) (M : MS) (P : PP) : Prop := AD ad ∧ (∀ c k a, ad c k = some a → kdV V a = c + 1) ∧ SHp V ad P ∧ SHu V E ad P ∧ SHw V E ad M P ∧ SHl V E ad M ∧ SHb V E ad M P ∧ SHf V E ad P ∧ (P 6 ≤ 32 ∧ P 7 ≤ 16 ∧ P 8 ≤ 8 ∧ P 9 ≤ 8 ∧ P 10 ≤ 16) ∧ (M.1 1 = nI (P 6) ∧ M.1 2 = nI (P 7)) ∧ SJ V
section C15
variable {nC nS : Nat} {A : AH} {V V' : CW} {E : EL} {ad : AA} {M : MS} {P : PP}
theorem IV.rf : IV V V := ⟨rfl, ⟨rfl, rfl⟩, fun _ _ _ => rfl⟩
theorem IV.tr {V'' : CW} (h : IV V V') (h2 : IV V' V'') : IV V V'' := ⟨h2.1.trans h.1, ⟨h2.2.1.1.trans h.2.1.1, h2.2.1.2.trans h.2.1.2⟩, fun d hd hs => (h2.2.2 d hd hs).trans (h.2.2 d hd hs)⟩
theorem IV.vI {d a i : Nat} {v : Int32} (hd : cdC d) : IV V (vI' V d a i v) := ⟨rfl, ⟨rfl, rfl⟩, fun d' hd' _ => by
  funext a' i'
  rw [vIi, if_neg (fun z => hd' (by rw [z.1]; exact hd))]⟩
theorem IV.vS {d a i : Nat} {v : Int32} (hd : scr d) : IV V (vI' V d a i v) := ⟨rfl, ⟨rfl, rfl⟩, fun d' _ hd' => by
  funext a' i'
  rw [vIi, if_neg (fun z => hd' (by rw [z.1]; exact hd))]⟩
theorem IV.b (h : IV V V') : IB V V' := ⟨h.1, ⟨h.2.1.1, by rw [h.2.1.2]⟩, fun d a b _ => h.2.2 d a b⟩
theorem IB.rf : IB V V := ⟨rfl, ⟨rfl, rfl⟩, fun _ _ _ _ => rfl⟩
theorem IB.tr {V'' : CW} (h : IB V V') (h2 : IB V' V'') : IB V V'' := ⟨h2.1.trans h.1, ⟨h2.2.1.1.trans h.2.1.1, h2.2.1.2.trans h.2.1.2⟩, fun d hd hs h6 => (h2.2.2 d hd hs h6).trans (h.2.2 d hd hs h6)⟩
theorem IB.vW {d a i : Nat} {v : Int64} : IB V (vW' V d a i v) := ⟨rfl, ⟨rfl, rfl⟩, fun _ _ _ _ => rfl⟩
theorem IB.vU {a i : Nat} {v : Int32} : IB V (vI' V 601 a i v) := ⟨rfl, ⟨rfl, rfl⟩, fun d' _ _ hd' => by
  funext a' i'
  rw [vIi, if_neg (fun z => hd' z.1)]⟩
theorem IB.eq (h : IB V V') : V' = (V.1, V'.2.1, V.2.2.1, V'.2.2.2.1, V.2.2.2.2) := by
  obtain ⟨h1, ⟨h2, h3⟩, _⟩ := h
  have h2 : V'.2.2.1 = V.2.2.1 := h2
  rw [← h1, ← h2, ← h3]
theorem IV.eq (h : IV V V') : V' = (V.1, V'.2.1, V.2.2.1, V'.2.2.2.1, V.2.2.2.2) := h.b.eq
theorem cd_2 : ¬ cdC 2 := by
  unfold cdC
  decide
theorem WT.iob (h : WT V E) (hv : IB V V') : WT V' E := by
  rw [hv.eq]
  exact h
theorem WT.io (h : WT V E) (hv : IV V V') : WT V' E := h.iob hv.b
theorem GL.iob (h : GL V E) (hv : IB V V') : GL V' E := by
  intro a ha
  have ha' : kdV V a = 1 := by rw [kdV, ← hv.1]; exact ha
  have h2 := h a ha'
  have e2 : xi V' 2 = xi V 2 := hv.2.2 2 cd_2 (by unfold scr; omega) (by decide)
  unfold LI at h2 ⊢
  rw [e2]
  rw [hv.eq]
  exact h2
theorem GL.io (h : GL V E) (hv : IV V V') : GL V' E := h.iob hv.b
theorem SH.iob (h : SH V E ad M P) (hv : IB V V') : SH V' E ad M P := by
  rw [hv.eq]
  exact h
theorem SH.io (h : SH V E ad M P) (hv : IV V V') : SH V' E ad M P := h.iob hv.b
theorem lnI_m {M M' : MS} (e10 : M'.2.1 10 = M.2.1 10) (e1 : M'.1 1 = M.1 1) (e13 : M'.1 13 = M.1 13) (s i : Nat) : lnI M' s i = lnI M s i := by
  unfold lnI
  rw [e10, e1, e13]
theorem SH.fm (h : SH V E ad M P) {M' : MS} (e9 : M'.2.1 9 = M.2.1 9) (e10 : M'.2.1 10 = M.2.1 10) (e1 : M'.1 1 = M.1 1) (e13 : M'.1 13 = M.1 13) (e2 : M'.1 2 = M.1 2) : SH V E ad M' P := by
  obtain ⟨h1, h2, h3, h4, h5, h6, h7, h8, h9, h10, h11⟩ := h
  refine ⟨h1, h2, h3, h4, ?_, ?_, ?_, h8, h9, ?_, h11⟩
  · unfold SHw
    rw [e9, e10]
    exact h5
  · unfold SHl
    refine ⟨fun s w hw => ?_, h6.2⟩
    obtain ⟨a, b, c⟩ := h6.1 s w hw
    refine ⟨a, fun j hj => ?_, c⟩
    rw [lnI_m e10 e1 e13]
    exact b j hj
  · unfold SHb
    rw [e9, e10]
    exact h7
  · rw [e1, e2]
    exact h10
theorem WT.li (h : WT V E) (hg : GL V E) {a c k e : Nat} (ha : kdV V a = c + 1) (hl : lof c k = e + 1) : ∃ ll cap, xr V (100 * c + k) a 0 = some ll ∧ LI V ll e (lt V E c k a) cap := by
  obtain ⟨ll, h1, h2, h3⟩ := h.2.1 a c k ha (by omega)
  refine ⟨ll, E.2.2 ll, h1, ?_⟩
  have := hg ll h2
  have e1 : E.1 ll = e := by omega
  unfold lt
  rw [h1]
  rw [e1] at this
  exact this
theorem WT.wl (h : WT V E) (hg : GL V E) {w : Nat} (hw : kdV V w = 14) : WL V w (lt V E 13 2 w) := h.li hg (c := 13) (k := 2) (e := 14) hw rfl
theorem SH.kk (h : SH V E ad M P) {c k a : Nat} (ha : ad c k = some a) : kdV V a = c + 1 := h.2.1 c k a ha
theorem SH.ln (h : SH V E ad M P) (hc : CX V ad M) (hw : WT V E) {t l : Nat} (ha : ad 14 t = some l) : LN V l M t (M.2.1 15 t) := by
  have hk := h.kk ha
  refine ⟨hk, hw.1 l 14 0 hk (by decide), hw.1 l 14 1 hk (by decide), fun r hr => ?_, fun p hp => ?_, ?_, ?_, ?_⟩
  · exact hc 1450 t r l (Or.inl (by decide)) hr ha
  · exact hc 1451 t p l (Or.inr (Or.inr (Or.inl rfl))) hp ha
  · exact hc 1402 t 0 l (Or.inl (by decide)) (by decide) ha
  · exact hc 1403 t 0 l (Or.inl (by decide)) (by decide) ha
  · exact hc 1404 t 0 l (Or.inl (by decide)) (by decide) ha
theorem SH.wo (h : SH V E ad M P) (hc : CX V ad M) (hw : WT V E) {s w : Nat} (ha : ad 13 s = some w) : WO V w M s := by
  have hk := h.kk ha
  refine ⟨hk, hw.1 w 13 3 hk (by decide), hw.1 w 13 4 hk (by decide), ?_, fun r hr => ?_, fun p hp => ?_, ?_⟩
  · exact hc 1301 s 0 w (Or.inl (by decide)) (by decide) ha
  · exact hc 1353 s r w (Or.inl (by decide)) hr ha
  · exact hc 1354 s p w (Or.inl (by decide)) hp ha
  · exact hc 1305 s 0 w (Or.inl (by decide)) (by decide) ha
theorem SH.lns (h : SH V E ad M P) (hc : CX V ad M) (hw : WT V E) {s w : Nat} (ha : ad 13 s = some w) : LNs V (lt V E 13 2 w) M s := by
  obtain ⟨a, b, c⟩ := h.2.2.2.2.2.1.1 s w ha
  refine ⟨a, b, fun k l hl => ?_⟩
  have hk : k < 32 := by have := (List.getElem?_eq_some_iff.mp hl).1; omega
  rw [c k hk] at hl
  exact h.ln hc hw hl
theorem SH.uo (h : SH V E ad M P) (hc : CX V ad M) {u a : Nat} (ha : ad 8 u = some a) : UO V a M u (P 7) := by
  refine ⟨h.kk ha, (h.2.2.2.1.2.2.1 u a ha).1, ?_, ?_, ?_, ?_⟩
  · exact hc 801 u 0 a (Or.inl (by decide)) (by decide) ha
  · exact hc 802 u 0 a (Or.inl (by decide)) (by decide) ha
  · exact hc 803 u 0 a (Or.inl (by decide)) (by decide) ha
  · exact hc 804 u 0 a (Or.inl (by decide)) (by decide) ha
theorem SH.s128 (h : SH V E ad M P) {s w : Nat} (ha : ad 13 s = some w) : s < 128 := by
  obtain ⟨h1, h2, _⟩ := h.2.2.2.2.1.1 s w ha
  have h3 := h.2.2.2.2.2.2.2.2.1
  omega
theorem SH.t4096 (h : SH V E ad M P) {t l : Nat} (ha : ad 14 t = some l) : t < 4096 := by
  obtain ⟨w, hw⟩ := h.2.2.2.2.2.1.2 t l ha
  have := h.s128 hw
  omega
/-- the block of a warp -/
theorem SH.bl (h : SH V E ad M P) {s w : Nat} (ha : ad 13 s = some w) : ∃ bk b, bk < 64 ∧ M.2.1 9 s = nI bk ∧ ad 12 bk = some b ∧ xr V 1300 w 0 = some b := by
  obtain ⟨_, _, bk, b, h1, h2, h3, h4, _⟩ := h.2.2.2.2.1.1 s w ha
  exact ⟨bk, b, h1, h2, h3, h4⟩
theorem SH.mm (h : SH V E ad M P) : ad 7 0 = some (P 1) ∧ kdV V (P 1) = 8 := ⟨h.2.2.1.1.2.1, h.kk h.2.2.1.1.2.1⟩
/-- ints are set: heap and rows -/
theorem St.pF (h : St nC nS A V) (hs : SH V E ad M P) (hc : CX V ad M) (k : Nat) (v : Int32) (hk : k < 26) (hr : isR 7 k = false) (hd : 700 + k ∈ fdC) (hdd : (700 + k) / 100 = 7) : ∃ A', pI A (some (P 1)) 7 k v = some A' ∧ St nC nS A' (vI' V (700 + k) (P 1) 0 v) ∧ CX (vI' V (700 + k) (P 1) 0 v) ad (mI M (nmF (700 + k)) v) ∧ IV V (vI' V (700 + k) (P 1) 0 v) := by
  obtain ⟨A', e, s⟩ := h.pi k v (c := 7) hs.mm.2 hk hr
  exact ⟨A', e, s, hc.setF hs.1 v hd (by rw [hdd]; exact hs.mm.1), IV.vI (Or.inr (Or.inl hd))⟩
theorem gF (h : St nC nS A V) (hs : SH V E ad M P) (hc : CX V ad M) (k : Nat) (hk : k < 26) (hr : isR 7 k = false) (hd : 700 + k ∈ fdC) (hdd : (700 + k) / 100 = 7) : gI A (some (P 1)) 7 k = some (M.1 (nmF (700 + k))) := by
  refine (h.gi k (c := 7) hs.mm.2 hk hr).trans (congrArg some ?_)
  have := hc (700 + k) 0 0 (P 1) (Or.inr (Or.inl hd)) (by rw [(fd_ar _ hd).2.2.2.1]; omega) (by rw [hdd]; exact hs.mm.1)
  rw [Val_fd hd] at this
  exact this
theorem e7_trap (h : St nC nS A V) (hc : CX V ad M) (hg : GL V E) (hw : WT V E) (hs : SH V E ad M P) {s w i l : Nat} (ha : ad 13 s = some w) (hl : ad 14 (32 * s + i) = some l) (hi : i < 32) (kind : Int32) : Res (fX7_trap (P 1) (some w) (nI i) kind A) (fun A' => ∃ V', St nC nS A' V' ∧ IV V V' ∧ CX V' ad (z_trap M s i kind)) := by
  obtain ⟨bk, b, hb1, hb2, hb3, hb4⟩ := hs.bl ha
  have hwk := hs.kk ha
  have hlk := hs.kk hl
  unfold fX7_trap
  obtain ⟨A1, e1, s1, c1, o1⟩ := h.pF hs hc 12 4 (by decide) rfl (by decide) rfl
  refine Res.b e1 ?_
  have hs1 := (hs.io o1).fm (M' := mI M 11 4) rfl rfl rfl rfl rfl
  have hg1 := hg.io o1
  obtain ⟨A2, e2, s2, c2, o2⟩ := s1.pF hs1 c1 22 kind (by decide) rfl (by decide) rfl
  refine Res.b e2 ?_
  have hs2 := (hs1.io o2).fm (M' := mI (mI M 11 4) 23 kind) rfl rfl rfl rfl rfl
  refine Res.b ((s2.gr 0 (c := 13) hwk (by decide) rfl).trans (congrArg some hb4)) ?_
  refine Res.b ((s2.gi 0 (c := 12) (hs2.kk hb3) (by decide) rfl).trans (congrArg some (c2 1200 bk 0 b (Or.inr (Or.inr (Or.inr rfl))) (by decide) hb3))) ?_
  rw [Val_n]
  obtain ⟨A5, e5, s5, c5, o5⟩ := s2.pF hs2 c2 23 (nI bk) (by decide) rfl (by decide) rfl
  refine Res.b e5 ?_
  have hs5 := (hs2.io o5).fm (M' := mI (mI (mI M 11 4) 23 kind) 24 (nI bk)) rfl rfl rfl rfl rfl
  refine Res.b (gF s5 hs5 c5 0 (by decide) rfl (by decide) rfl) ?_
  refine Res.b ((s5.gi 1 (c := 13) hwk (by decide) rfl).trans (congrArg some (c5 1301 s 0 w (Or.inl (by decide)) (by decide) ha))) ?_
  obtain ⟨A8, e8, s8, c8, o8⟩ := s5.pF hs5 c5 24 (M.1 1 * M.2.1 10 s + nI i) (by decide) rfl (by decide) rfl
  refine Res.b e8 ?_
  have hs8 := (hs5.io o8).fm (M' := mI (mI (mI (mI M 11 4) 23 kind) 24 (nI bk)) 25 (M.1 1 * M.2.1 10 s + nI i)) rfl rfl rfl rfl rfl
  have o08 := ((o1.tr o2).tr o5).tr o8
  obtain ⟨ll, cap, hx, hli⟩ := (hw.io o08).wl (hg.io o08) hwk
  refine Res.b ((s8.gr 2 (c := 13) hwk (by decide) rfl).trans (congrArg some hx)) ?_
  have hlt : (lt V E 13 2 w)[i]? = some l := by rw [(hs.2.2.2.2.2.1.1 s w ha).2.2 i hi]; exact hl
  refine Res.b (s8.rc hli.1) (Res.b (L_get s8 hli hlt) (Res.b (s8.cs hlk) ?_))
  refine Res.b ((s8.gi 2 (c := 14) hlk (by decide) rfl).trans (congrArg some (c8 1402 (32 * s + i) 0 l (Or.inl (by decide)) (by decide) hl))) ?_
  obtain ⟨A9, e9, s9, c9, o9⟩ := s8.pF hs8 c8 25 (M.2.1 15 (32 * s + i)) (by decide) rfl (by decide) rfl
  refine Res.b e9 (Res.r ⟨_, s9, o08.tr o9, ?_⟩)
  unfold z_trap
  rw [hb2]
  exact c9
end C15
