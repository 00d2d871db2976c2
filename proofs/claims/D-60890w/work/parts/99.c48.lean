/-! C48: a block goes to the pool -/
section C48
variable {nC nS n : Nat} {A : AH} {V V' V'' : CW} {E E' : EL} {P : PP}
theorem PS.qf (h : QF (PS V P) V V') (hP : kdV V (P 2) = 3) : PS V' P = PS V P := by
  funext a
  unfold PS
  have hn : ¬ PS V P (P 2) := fun z => by have := z.1; omega
  have e : ∀ k, k < 3 → xr V' (200 + k) (P 2) = xr V (200 + k) (P 2) := fun k hk => (h.2.2.2 (P 2) hn (200 + k)).2.2 (by omega)
  rw [kdV, h.1]
  apply propext
  constructor
  · rintro ⟨z1, k, hk, z2⟩
    exact ⟨z1, k, hk, by rw [← e k hk]; exact z2⟩
  · rintro ⟨z1, k, hk, z2⟩
    exact ⟨z1, k, hk, by rw [e k hk]; exact z2⟩
/-- the pool, and what else of lists -/
def FI (nC1 nS1 : Nat) (V0 : CW) (E0 : EL) (P : PP) (A : AH) (V : CW) (E : EL) : Prop := St (nC1 + rqP V E P) (nS1 + 4 * rqP V E P) A V ∧ QF (PS V0 P) V0 V ∧ WT V E ∧ GL V E ∧ E.1 = E0.1 ∧ (∀ a, ¬ PS V0 P a → E.2.1 a = E0.2.1 a ∧ E.2.2 a = E0.2.2 a) ∧ (∀ j, j < 3 → cpL V E 2 j (P 2) ≤ 6200) ∧ ∀ a, ¬ PS V0 P a → xr V 850 a = xr V0 850 a
theorem FI.add {nC1 nS1 : Nat} {V0 : CW} {E0 : EL} (hS : 10000 ≤ nS1) (hC : 1 ≤ nC1) (h : FI nC1 nS1 V0 E0 P A V E) (hP : kdV V0 (P 2) = 3) {k v : Nat} (hk : k < 3) (hv : kdV V0 v = 12 + k + 1) (hlen : (lt V E 2 k (P 2)).length ≤ 4095) : ∃ pl, xr V (200 + k) (P 2) 0 = some pl ∧ kdV V pl = 1 ∧ Res (fJ2_add pl (some v) A) (fun r => ∃ V' E', FI nC1 nS1 V0 E0 P r.2 V' E' ∧ ∀ j, j < 3 → lt V' E' 2 j (P 2) = if j = k then lt V E 2 j (P 2) ++ [v] else lt V E 2 j (P 2)) := by
  obtain ⟨h1, h2, h3, h4, h5, h6, h7, h8⟩ := h
  have hP' := h2.kv hP
  have hps := PS.qf h2 hP
  obtain ⟨pl, x1, hr⟩ := pool_add hS hC h1 h3 h4 hP' hk (h2.kv hv) hlen h7
  obtain ⟨pl', y1, y2, _⟩ := PLs h3 h4 hP' hk
  have epl : pl' = pl := Option.some.inj (y1.symm.trans x1)
  subst epl
  refine ⟨pl', x1, y2.1, Res.m hr ?_⟩
  rintro r ⟨V', E', q1, q2, q3, q4, q5, q6, q7, q8, q9, q10⟩
  rw [hps] at q2 q6 q10
  exact ⟨V', E', ⟨q1, h2.tr q2, q3, q4, q5.trans h5, fun a ha => ⟨(q6 a ha).1.trans (h6 a ha).1, (q6 a ha).2.trans (h6 a ha).2⟩, q9, fun a ha => (q10 a ha).trans (h8 a ha)⟩, q8⟩
/-- lists that others own stay -/
theorem FI.li {nC1 nS1 : Nat} {V0 : CW} {E0 : EL} (h : FI nC1 nS1 V0 E0 P A V E) (hw0 : WT V0 E0) (hg0 : GL V0 E0) (hP : kdV V0 (P 2) = 3) {a c k e : Nat} (ha : kdV V0 a = c + 1) (hl : lof c k = e + 1) (hc2 : c ≠ 2) : ∃ ll cap, xr V (100 * c + k) a 0 = some ll ∧ LI V ll e (lt V0 E0 c k a) cap := by
  obtain ⟨ll, cap, x1, li⟩ := h.2.2.1.li h.2.2.2.1 (h.2.1.kv ha) hl
  refine ⟨ll, cap, x1, ?_⟩
  rw [(lt_qf hw0 h.2.1 hP h.2.2.2.2.2.1 ha (by omega) hc2).1] at li
  exact li
def wsP (V : CW) (E : EL) (b : Nat) (r13 r14 : Nat → Option Nat) (sl : Nat → Nat) : Prop := ∀ j w : Nat, (lt V E 12 2 b)[j]? = some w → kdV V w = 14 ∧ r13 (sl j) = some w ∧ sl j < 128 ∧ (lt V E 13 2 w).length ≤ 32 ∧ (∀ i : Nat, i < 32 → (lt V E 13 2 w)[i]? = r14 (32 * sl j + i)) ∧ ∀ l, l ∈ lt V E 13 2 w → kdV V l = 15
set_option maxHeartbeats 2000000 in
theorem e2_free {nC1 nS1 : Nat} (hS : 10000 ≤ nS1) (hC : 1 ≤ nC1) (h : FI nC1 nS1 V E P A V E) (hP : kdV V (P 2) = 3) {b : Nat} (hb : kdV V b = 13) {r12 r13 r14 : Nat → Option Nat} {bk n0 n1 n2 : Nat} (sl : Nat → Nat) (hr12 : r12 bk = some b) (hbk : bk < 64) (hW : (lt V E 12 2 b).length ≤ 16) (hws : wsP V E b r13 r14 sl)
    (hinj : ∀ j j' : Nat, j < (lt V E 12 2 b).length → j' < (lt V E 12 2 b).length → sl j = sl j' → j = j')
    (rp0 : RP r12 (lt V E 2 0 (P 2)) 64 n0) (rp1 : RP r13 (lt V E 2 1 (P 2)) 128 n1) (rp2 : RP r14 (lt V E 2 2 (P 2)) 4096 n2) (hn0 : n0 ≤ 64) (hn1 : n1 ≤ 128) (hn2 : n2 ≤ 4096) (f : Nat → Nat) (g : Nat → Nat) (hn : 40 < n) :
    Res (fX2_free n (P 2) (some b) A) (fun A' => ∃ V' E' r13' r14', FI nC1 nS1 V E P A' V' E' ∧ RP (rm r12 bk) (lt V' E' 2 0 (P 2)) 64 n0 ∧ RP r13' (lt V' E' 2 1 (P 2)) 128 n1 ∧ RP r14' (lt V' E' 2 2 (P 2)) 4096 n2 ∧ ((∀ j, j < (lt V E 12 2 b).length → r13' (sl j) = none) ∧ ∀ q, (∀ j, j < (lt V E 12 2 b).length → q ≠ sl j) → r13' q = r13 q) ∧ ((∀ j i, j < (lt V E 12 2 b).length → i < 32 → r14' (32 * sl j + i) = none) ∧ ∀ q, (∀ j, j < (lt V E 12 2 b).length → q / 32 ≠ sl j) → r14' q = r14 q) ∧ sumA f r13' 128 + sumL f (lt V' E' 2 1 (P 2)) = sumA f r13 128 + sumL f (lt V E 2 1 (P 2)) ∧ sumA g (rm r12 bk) 64 + sumL g (lt V' E' 2 0 (P 2)) = sumA g r12 64 + sumL g (lt V E 2 0 (P 2))) := by
  have hw0 := h.2.2.1
  have hg0 := h.2.2.2.1
  obtain ⟨ws, ews⟩ : ∃ ws, ws = lt V E 12 2 b := ⟨_, rfl⟩
  rw [← ews] at hW hinj ⊢
  unfold wsP at hws
  rw [← ews] at hws
  have hcnt : ∀ {r : Nat → Option Nat} {l : List Nat} {m tot : Nat}, RP r l m tot → ∀ {t x : Nat}, r t = some x → t < m → tot ≤ m → l.length + 1 ≤ tot := by
    intro r l m tot rp t x hx ht _
    have := cnB_rm hx m ht
    have h4 := rp.2.2.2
    omega
  unfold fX2_free
  refine jl_R (fun d (gg : Int32 → AH → Option AH) => ∀ k A3 V3 E3 r13c r14c, k + d = ws.length → FI nC1 nS1 V E P A3 V3 E3 → RP r13c (lt V3 E3 2 1 (P 2)) 128 n1 → RP r14c (lt V3 E3 2 2 (P 2)) 4096 n2 → lt V3 E3 2 0 (P 2) = lt V E 2 0 (P 2) → (∀ j, j < k → r13c (sl j) = none) → (∀ q, (∀ j, j < k → q ≠ sl j) → r13c q = r13 q) → (∀ j i, j < k → i < 32 → r14c (32 * sl j + i) = none) → (∀ q, (∀ j, j < k → q / 32 ≠ sl j) → r14c q = r14 q) → sumA f r13c 128 + sumL f (lt V3 E3 2 1 (P 2)) = sumA f r13 128 + sumL f (lt V E 2 1 (P 2)) → Res (gg (nI k) A3) (fun A' => ∃ V' E' r13' r14', FI nC1 nS1 V E P A' V' E' ∧ RP (rm r12 bk) (lt V' E' 2 0 (P 2)) 64 n0 ∧ RP r13' (lt V' E' 2 1 (P 2)) 128 n1 ∧ RP r14' (lt V' E' 2 2 (P 2)) 4096 n2 ∧ ((∀ j, j < ws.length → r13' (sl j) = none) ∧ ∀ q, (∀ j, j < ws.length → q ≠ sl j) → r13' q = r13 q) ∧ ((∀ j i, j < ws.length → i < 32 → r14' (32 * sl j + i) = none) ∧ ∀ q, (∀ j, j < ws.length → q / 32 ≠ sl j) → r14' q = r14 q) ∧ sumA f r13' 128 + sumL f (lt V' E' 2 1 (P 2)) = sumA f r13 128 + sumL f (lt V E 2 1 (P 2)) ∧ sumA g (rm r12 bk) 64 + sumL g (lt V' E' 2 0 (P 2)) = sumA g r12 64 + sumL g (lt V E 2 0 (P 2)))) ws.length (show ws.length < n by omega) ?_ ?_ ?_
  · intro gg k A3 V3 E3 r13c r14c hk fi q1 q2 e0 a1 a2 a3 a4 a5
    have ek : k = ws.length := by omega
    subst ek
    obtain ⟨bl, cap, xb, lb⟩ := fi.li hw0 hg0 hP (c := 12) (k := 2) (e := 13) hb rfl (by decide)
    rw [← ews] at lb
    have hbk3 := fi.2.1.kv hb
    have hP3 := fi.2.1.kv hP
    refine Res.b ((fi.1.gr 2 (c := 12) hbk3 (by decide) rfl).trans (congrArg some xb)) (Res.b (fi.1.rc lb.1) (Res.b (L_size fi.1 lb) ?_))
    rw [if_pos (Int32.le_refl _)]
    have hl0 := hcnt rp0 hr12 hbk hn0
    obtain ⟨pl, x1, kp, hr⟩ := fi.add hS hC hP (k := 0) (v := b) (by omega) hb (by rw [e0]; omega)
    refine Res.b ((fi.1.gr 0 (c := 2) hP3 (by decide) rfl).trans (congrArg some x1)) (Res.b (fi.1.rc kp) (Res.w hr ?_))
    rintro ⟨r1, A4⟩ ⟨V4, E4, fi4, hl4⟩
    have l0 := hl4 0 (by omega)
    have l1 := hl4 1 (by omega)
    have l2 := hl4 2 (by omega)
    rw [if_pos rfl, e0] at l0
    rw [if_neg (by decide)] at l1 l2
    refine Res.r ⟨V4, E4, r13c, r14c, fi4, by rw [l0]; exact rp0.mv hr12 hbk, by rw [l1]; exact q1, by rw [l2]; exact q2, ⟨a1, a2⟩, ⟨a3, a4⟩, by rw [l1]; exact a5, ?_⟩
    rw [l0, sumL_app]
    have := sumA_rm (f := g) hr12 64 hbk
    show _ + (_ + (g b + 0)) = _
    omega
  · intro d gg hgg k A3 V3 E3 r13c r14c hk fi q1 q2 e0 a1 a2 a3 a4 a5
    obtain ⟨bl, cap, xb, lb⟩ := fi.li hw0 hg0 hP (c := 12) (k := 2) (e := 13) hb rfl (by decide)
    rw [← ews] at lb
    have hbk3 := fi.2.1.kv hb
    refine Res.b ((fi.1.gr 2 (c := 12) hbk3 (by decide) rfl).trans (congrArg some xb)) (Res.b (fi.1.rc lb.1) (Res.b (L_size fi.1 lb) ?_))
    rw [if_neg (c_nle (by omega) (by omega)), nI_1]
    obtain ⟨w, hwj⟩ := lt_ge (l := ws) (i := k) (by omega)
    obtain ⟨w1, w2, w3, w4, w5, w6⟩ := hws k w hwj
    refine Res.b (L_get fi.1 lb hwj) (Res.b (fi.1.cs (fi.2.1.kv w1)) ?_)
    have hnk : ∀ j, j < k → sl k ≠ sl j := fun j hj z => by
      have := hinj k j (by omega) (by omega) z
      omega
    have hr13k : r13c (sl k) = some w := by rw [a2 _ (fun j hj => hnk j hj)]; exact w2
    obtain ⟨lw, elw⟩ : ∃ lw, lw = lt V E 13 2 w := ⟨_, rfl⟩
    rw [← elw] at w4 w5 w6
    refine jl_R (fun d (gi : Int32 → AH → Option AH) => ∀ i A16 V16 E16 r14d, i + d = lw.length → FI nC1 nS1 V E P A16 V16 E16 → lt V16 E16 2 1 (P 2) = lt V3 E3 2 1 (P 2) → lt V16 E16 2 0 (P 2) = lt V E 2 0 (P 2) → RP r14d (lt V16 E16 2 2 (P 2)) 4096 n2 → (∀ i', i' < i → r14d (32 * sl k + i') = none) → (∀ q, (q / 32 ≠ sl k ∨ i ≤ q % 32) → r14d q = r14c q) → Res (gi (nI i) A16) (fun A' => ∃ V' E' r13' r14', FI nC1 nS1 V E P A' V' E' ∧ RP (rm r12 bk) (lt V' E' 2 0 (P 2)) 64 n0 ∧ RP r13' (lt V' E' 2 1 (P 2)) 128 n1 ∧ RP r14' (lt V' E' 2 2 (P 2)) 4096 n2 ∧ ((∀ j, j < ws.length → r13' (sl j) = none) ∧ ∀ q, (∀ j, j < ws.length → q ≠ sl j) → r13' q = r13 q) ∧ ((∀ j i, j < ws.length → i < 32 → r14' (32 * sl j + i) = none) ∧ ∀ q, (∀ j, j < ws.length → q / 32 ≠ sl j) → r14' q = r14 q) ∧ sumA f r13' 128 + sumL f (lt V' E' 2 1 (P 2)) = sumA f r13 128 + sumL f (lt V E 2 1 (P 2)) ∧ sumA g (rm r12 bk) 64 + sumL g (lt V' E' 2 0 (P 2)) = sumA g r12 64 + sumL g (lt V E 2 0 (P 2)))) lw.length (show lw.length < n by omega) ?_ ?_ ?_
    · intro gi i A16 V16 E16 r14d hi fi16 e1 e2 q3 b1 b2
      have ei : i = lw.length := by omega
      subst ei
      obtain ⟨ll, cap', xl, ll'⟩ := fi16.li hw0 hg0 hP (c := 13) (k := 2) (e := 14) w1 rfl (by decide)
      rw [← elw] at ll'
      have hw16 := fi16.2.1.kv w1
      have hP16 := fi16.2.1.kv hP
      refine Res.b ((fi16.1.gr 2 (c := 13) hw16 (by decide) rfl).trans (congrArg some xl)) (Res.b (fi16.1.rc ll'.1) (Res.b (L_size fi16.1 ll') ?_))
      rw [if_pos (Int32.le_refl _)]
      have hl1 := hcnt q1 hr13k w3 hn1
      obtain ⟨pl, x1, kp, hr⟩ := fi16.add hS hC hP (k := 1) (v := w) (by omega) w1 (by rw [e1]; omega)
      refine Res.b ((fi16.1.gr 1 (c := 2) hP16 (by decide) rfl).trans (congrArg some x1)) (Res.b (fi16.1.rc kp) (Res.w hr ?_))
      rintro ⟨r1, A4⟩ ⟨V4, E4, fi4, hl4⟩
      have l0 := hl4 0 (by omega)
      have l1 := hl4 1 (by omega)
      have l2 := hl4 2 (by omega)
      rw [if_neg (by decide), e2] at l0
      rw [if_pos rfl, e1] at l1
      rw [if_neg (by decide)] at l2
      refine hgg (k + 1) A4 V4 E4 (rm r13c (sl k)) r14d (by omega) fi4 (by rw [l1]; exact q1.mv hr13k w3) (by rw [l2]; exact q3) l0 (fun j hj => ?_) (fun q hq => ?_) (fun j i' hj hi' => ?_) (fun q hq => ?_) ?_
      · show (if sl j = sl k then none else r13c (sl j)) = none
        by_cases e : j = k
        · rw [e, if_pos rfl]
        · rw [a1 j (by omega)]
          split <;> rfl
      · show (if q = sl k then none else r13c q) = r13 q
        rw [if_neg (hq k (by omega))]
        exact a2 q (fun j hj => hq j (by omega))
      · by_cases e : j = k
        · subst e
          by_cases c : i' < lw.length
          · exact b1 i' c
          · rw [b2 _ (Or.inr (by omega)), a4 _ (fun j' hj' => by
              rw [show (32 * sl j + i') / 32 = sl j by omega]
              exact hnk j' hj'), ← w5 i' hi', List.getElem?_eq_none (by omega)]
        · rw [b2 _ (Or.inl (by
            rw [show (32 * sl j + i') / 32 = sl j by omega]
            exact fun z => hnk j (by omega) z.symm))]
          exact a3 j i' (by omega) hi'
      · rw [b2 q (Or.inl (hq k (by omega)))]
        exact a4 q (fun j hj => hq j (by omega))
      · rw [l1, sumL_app]
        have := sumA_rm (f := f) hr13k 128 w3
        show _ + (_ + (f w + 0)) = _
        omega
    · intro d gi hgi i A16 V16 E16 r14d hi fi16 e1 e2 q3 b1 b2
      obtain ⟨ll, cap', xl, ll'⟩ := fi16.li hw0 hg0 hP (c := 13) (k := 2) (e := 14) w1 rfl (by decide)
      rw [← elw] at ll'
      have hw16 := fi16.2.1.kv w1
      have hP16 := fi16.2.1.kv hP
      refine Res.b ((fi16.1.gr 2 (c := 13) hw16 (by decide) rfl).trans (congrArg some xl)) (Res.b (fi16.1.rc ll'.1) (Res.b (L_size fi16.1 ll') ?_))
      rw [if_neg (c_nle (by omega) (by omega)), nI_1]
      obtain ⟨l, hl⟩ := lt_ge (l := lw) (i := i) (by omega)
      have hlk := w6 l (List.mem_of_getElem? hl)
      have hr14 : r14d (32 * sl k + i) = some l := by
        rw [b2 _ (Or.inr (by omega)), a4 _ (fun j' hj' => by
          rw [show (32 * sl k + i) / 32 = sl k by omega]
          exact hnk j' hj'), ← w5 i (by omega)]
        exact hl
      have hl2 := hcnt q3 hr14 (by omega) hn2
      obtain ⟨pl, x1, kp, hr⟩ := fi16.add hS hC hP (k := 2) (v := l) (by omega) hlk (by omega)
      refine Res.b ((fi16.1.gr 2 (c := 2) hP16 (by decide) rfl).trans (congrArg some x1)) (Res.b (L_get fi16.1 ll' hl) (Res.b (fi16.1.cs (fi16.2.1.kv hlk)) (Res.b (fi16.1.rc kp) (Res.w hr ?_))))
      rintro ⟨r1, A4⟩ ⟨V4, E4, fi4, hl4⟩
      have l0 := hl4 0 (by omega)
      have l1 := hl4 1 (by omega)
      have l2 := hl4 2 (by omega)
      rw [if_neg (by decide), e2] at l0
      rw [if_neg (by decide), e1] at l1
      rw [if_pos rfl] at l2
      refine hgi (i + 1) A4 V4 E4 (rm r14d (32 * sl k + i)) (by omega) fi4 l1 l0 (by rw [l2]; exact q3.mv hr14 (by omega)) (fun i' hi' => ?_) (fun q hq => ?_)
      · show (if 32 * sl k + i' = 32 * sl k + i then none else r14d (32 * sl k + i')) = none
        by_cases e : i' = i
        · rw [if_pos (by omega)]
        · rw [if_neg (by omega)]
          exact b1 i' (by omega)
      · show (if q = 32 * sl k + i then none else r14d q) = r14c q
        rw [if_neg (by omega)]
        exact b2 q (by omega)
    · intro gi hgi
      exact hgi 0 A3 V3 E3 r14c (by omega) fi rfl e0 q2 (fun i' hi' => absurd hi' (Nat.not_lt_zero _)) (fun q _ => rfl)
  · intro gg hgg
    exact hgg 0 A V E r13 r14 (by omega) h rp1 rp2 rfl (fun j hj => absurd hj (Nat.not_lt_zero _)) (fun q _ => rfl) (fun j i hj => absurd hj (Nat.not_lt_zero _)) (fun q _ => rfl) rfl
end C48
