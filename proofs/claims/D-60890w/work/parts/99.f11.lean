/-! F11: blocks go, whatever is on its way -/
def rm9 (M : MS) (p : Int32) : MS := (M.1, fun j => if j = 9 then (fun s => if (s < 128 ∧ M.2.1 9 s = p) then -1 else M.2.1 9 s) else M.2.1 j, M.2.2)
theorem rm9_f (M : MS) (p : Int32) : frm [] [9] M (rm9 M p) ∧ ∀ s, (rm9 M p).2.1 9 s = if (s < 128 ∧ M.2.1 9 s = p) then -1 else M.2.1 9 s := by
  refine ⟨⟨fun _ _ => rfl, fun j hj => ?_, rfl⟩, fun s => rfl⟩
  show (if j = 9 then _ else M.2.1 j) = _
  rw [if_neg (fun z => hj (by rw [z]; exact List.mem_singleton.mpr rfl))]
/-- the heap's lists, by themselves -/
def HL (V : CW) (E : EL) (P : PP) : Prop := inj (lt V E 3 0 (P 3)) ∧ inj (lt V E 3 1 (P 3)) ∧ (∀ x, x ∈ lt V E 3 0 (P 3) → x ∉ lt V E 3 1 (P 3)) ∧ (lt V E 3 0 (P 3)).length + (lt V E 3 1 (P 3)).length ≤ 4096 ∧ cpL V E 3 0 (P 3) ≤ 6200 ∧ cpL V E 3 1 (P 3) ≤ 6200
/-- what lies apart stays, and what the heap holds -/
def HFR (V : CW) (E : EL) (V' : CW) (E' : EL) (P : PP) : Prop := fr V' = fr V ∧ lt V' E' 3 0 (P 3) = lt V E 3 0 (P 3) ∧ xi V' 302 (P 3) 0 = xi V 302 (P 3) 0
theorem HFR.rf {V : CW} {E : EL} {P : PP} : HFR V E V E P := ⟨rfl, rfl, rfl⟩
theorem HFR.trans {V V' V'' : CW} {E E' E'' : EL} {P : PP} (h2 : HFR V' E' V'' E'' P) (h : HFR V E V' E' P) : HFR V E V'' E'' P := ⟨h2.1.trans h.1, h2.2.1.trans h.2.1, h2.2.2.trans h.2.2⟩
/-- all but what is on its way -/
def GY (nC nS : Nat) (A : AH) (V : CW) (E : EL) (ad : AA) (M : MS) (P : PP) (Bk b1 b2 n0 n1 n2 : Nat) : Prop := St (nC + rqC V E P + rqP V E P + ptC V E ad P n0 n1 n2) (nS + rqS V E P + 4 * rqP V E P + ptS V E ad P n0 n1 n2) A V ∧ (CP V E ad M P ∧ HL V E P ∧ (∃ S1 S2, CO V (P 4) Bk b1 b2 S1 S2) ∧ KN' V E M P) ∧ PN V E ad P n0 n1 n2
section F11
variable {nC nS n : Nat} {A : AH} {V V' : CW} {E E' : EL} {ad : AA} {M M' : MS} {P : PP} {T Bk b1 b2 n0 n1 n2 : Nat}
set_option maxHeartbeats 4000000 in
theorem blk_free (hS : 10000 ≤ nS) (hC : 2 ≤ nC) (g : GY nC nS A V E ad M P Bk b1 b2 n0 n1 n2) {u uu bk b : Nat} (hu : ad 8 u = some uu) (q3 : ad 12 bk = some b) (hbk2 : bk < 64) (hUnit : ∀ s', s' < 128 → M.2.1 9 s' = nI bk → s' / 16 = u) (hn : 40 < n) :
    Res (fX8_leave n uu (some b) A) (fun A2 => rcv A2 (some (P 2)) 2 = some (P 2) ∧ Res (fX2_free n (P 2) (some b) A2) (fun A' => ∃ V' E' ad', GY nC nS A' V' E' ad' (rm9 M (nI bk)) P Bk b1 b2 n0 n1 n2 ∧ (∀ c, c ≠ 12 → c ≠ 13 → c ≠ 14 → ad' c = ad c) ∧ HFR V E V' E' P)) := by
  have cp := g.2.1.1
  have hs := cp.2.2.2
  obtain ⟨sf, s9⟩ := rm9_f M (nI bk)
  refine Res.m (e8_leave g.1 cp hu q3 hbk2 (by omega)) ?_
  rintro A2 ⟨V2, s2, qf2, ho2, hr850⟩
  have hP2 : kdV V (P 2) = 3 := hs.kk hs.2.2.1.1.2.2.1
  have hP3 : kdV V (P 3) = 4 := hs.kk hs.2.2.1.1.2.2.2.1
  have hP0 : kdV V (P 0) = 2 := hs.kk hs.2.2.1.1.1
  have nF : ∀ a, ¬ (fun _ : Nat => False) a := fun _ z => z
  have x2 : ∀ a d, d ≠ 850 → xr V2 d a = xr V d a := fun a d hd => (qf2.2.2.2 a (nF a) d).2.2 hd
  have eL2 : ∀ c k a, 100 * c + k ≠ 850 → lt V2 E c k a = lt V E c k a ∧ cpL V2 E c k a = cpL V E c k a := fun c k a hd => by
    unfold lt cpL
    rw [x2 a _ hd]
    exact ⟨rfl, rfl⟩
  refine ⟨s2.rc (qf2.kv hP2), ?_⟩
  have hw2 : WT V2 E := cp.2.2.1.qf qf2 (fun _ z => z.elim) rfl
  have hg2 : GL V2 E := cp.2.1.qf qf2 rfl (fun _ _ => ⟨rfl, rfl⟩) (fun _ z => z.elim)
  have erq : rqP V2 E P = rqP V E P := by
    unfold rqP
    rw [(eL2 2 0 (P 2) (by decide)).2, (eL2 2 1 (P 2) (by decide)).2, (eL2 2 2 (P 2) (by decide)).2]
  have pn := g.2.2
  have fi2 : FI (nC + rqC V E P + ptC V E ad P n0 n1 n2) (nS + rqS V E P + ptS V E ad P n0 n1 n2) V2 E P A2 V2 E := by
    refine ⟨s2.mono ?_ ?_, QF.rf, hw2, hg2, rfl, fun _ _ => ⟨rfl, rfl⟩, fun j hj => ?_, fun _ _ => rfl⟩
    · rw [erq]; omega
    · rw [erq]; omega
    · rw [(eL2 2 j (P 2) (by omega)).2]; exact pn.2.2.2 j hj
  obtain ⟨hbkk, hb64, _, hlenW, hslot⟩ := cp.bw q3
  obtain ⟨ws, ews⟩ : ∃ ws, ws = lt V E 12 2 b := ⟨_, rfl⟩
  rw [← ews] at hlenW hslot
  obtain ⟨sl, hsl⟩ : ∃ sl : Nat → Nat, ∀ j w', ws[j]? = some w' → sl j < 128 ∧ ad 13 (sl j) = some w' ∧ M.2.1 9 (sl j) = nI bk ∧ M.2.1 10 (sl j) = nI j := by
    have : ∀ j, ∃ s, ∀ w', ws[j]? = some w' → s < 128 ∧ ad 13 s = some w' ∧ M.2.1 9 s = nI bk ∧ M.2.1 10 s = nI j := by
      intro j
      cases e : ws[j]? with
      | none => exact ⟨0, fun w' z => by cases z⟩
      | some w' =>
        obtain ⟨s', a1, a2, a3, a4⟩ := hslot j w' e
        exact ⟨s', fun w'' z => by rw [← Option.some.inj z]; exact ⟨a1, a2, a3, a4⟩⟩
    exact Classical.skolem.mp this
  have hW16 := hs.2.2.2.2.2.2.2.2.1.2.2.2.2
  have elw2 : lt V2 E 12 2 b = ws := by rw [(eL2 12 2 b (by decide)).1]; exact ews.symm
  have hws : wsP V2 E b (ad 13) (ad 14) sl := by
    intro j w' hj
    rw [elw2] at hj
    obtain ⟨a1, a2, a3, a4⟩ := hsl j w' hj
    obtain ⟨p1, p2, p3⟩ := hs.2.2.2.2.2.1.1 (sl j) w' a2
    have el : lt V2 E 13 2 w' = lt V E 13 2 w' := (eL2 13 2 w' (by decide)).1
    rw [el]
    refine ⟨qf2.kv (hs.kk a2), a2, a1, p1, p3, fun l hl => ?_⟩
    obtain ⟨i, hi⟩ := List.mem_iff_getElem?.mp hl
    have hi32 : i < 32 := by have := ge_lt hi; omega
    rw [p3 i hi32] at hi
    exact qf2.kv (hs.kk hi)
  have hinj : ∀ j j' : Nat, j < (lt V2 E 12 2 b).length → j' < (lt V2 E 12 2 b).length → sl j = sl j' → j = j' := by
    intro j j' hj hj' he
    rw [elw2] at hj hj'
    obtain ⟨w1, hw1⟩ := lt_ge hj
    obtain ⟨w2, hw2'⟩ := lt_ge hj'
    obtain ⟨_, _, _, a4⟩ := hsl j w1 hw1
    obtain ⟨_, _, _, a4'⟩ := hsl j' w2 hw2'
    rw [he, a4'] at a4
    exact ((nI_eq (by omega) (by omega)).mp a4).symm
  have l20 := (eL2 2 0 (P 2) (by decide)).1
  have l21 := (eL2 2 1 (P 2) (by decide)).1
  have l22 := (eL2 2 2 (P 2) (by decide)).1
  refine Res.m (e2_free (by omega) (by omega) fi2 (qf2.kv hP2) (qf2.kv hbkk) sl q3 hbk2 (by rw [elw2, hlenW]; exact hW16) hws hinj (by rw [l20]; exact pn.1.1) (by rw [l21]; exact pn.2.1.1) (by rw [l22]; exact pn.2.2.1.1) pn.1.2 pn.2.1.2 pn.2.2.1.2 (fW V2 E) (fB V2 E) hn) ?_
  rintro A3 ⟨V3, E3, r13', r14', fi3, rp0, rp1, rp2, ⟨k1, k2⟩, ⟨k3, k4⟩, sm1, sm2⟩
  rw [elw2, hlenW] at k1 k2 k3 k4
  have ePS : PS V2 P = PS V P := PS.qf (qf2.up (fun _ z => z.elim)) hP2
  obtain ⟨f1, f2, f3, f4, f5, f6, f7, f8⟩ := fi3
  rw [ePS] at f2 f6 f8
  have qf3 : QF (PS V P) V V3 := (qf2.up (fun _ z => z.elim)).tr f2
  have hSk : ∀ a, PS V P a → kdV V a = 1 := fun _ z => z.1
  have eL3 := fun {a c k : Nat} (ha : kdV V a = c + 1) (hk : lof c k ≠ 0) (hc2 : c ≠ 2) => lt_qf cp.2.2.1 qf3 hP2 f6 ha hk hc2
  have x3 := fun {a c : Nat} (ha : kdV V a = c + 1) (h0 : c ≠ 0) (d : Nat) => qf3.o hSk ha h0 d
  -- who is where now
  have p13a : ∀ q, q < 128 → M.2.1 9 q = nI bk → r13' q = none := by
    intro q hq h9
    obtain ⟨w', j, a1, a2, a3, a4⟩ := cp.sb q3 hb64 hq h9
    rw [← ews] at a4
    obtain ⟨_, b2', _, _⟩ := hsl j w' a4
    have := hs.1.1 13 q (sl j) w' (by decide) a1 b2'
    rw [this]
    exact k1 j a2
  have p13b : ∀ q, M.2.1 9 q ≠ nI bk → r13' q = ad 13 q := by
    intro q h9
    refine k2 q (fun j hj z => h9 ?_)
    obtain ⟨w', hw'⟩ := lt_ge (l := ws) (i := j) (by omega)
    obtain ⟨_, _, b3, _⟩ := hsl j w' hw'
    rw [z]
    exact b3
  have p14a : ∀ t, t / 32 < 128 → M.2.1 9 (t / 32) = nI bk → r14' t = none := by
    intro t ht h9
    obtain ⟨w', j, a1, a2, a3, a4⟩ := cp.sb q3 hb64 ht h9
    rw [← ews] at a4
    obtain ⟨_, b2', _, _⟩ := hsl j w' a4
    have := hs.1.1 13 (t / 32) (sl j) w' (by decide) a1 b2'
    have e := k3 j (t % 32) a2 (Nat.mod_lt _ (by decide))
    rw [← this, show 32 * (t / 32) + t % 32 = t by omega] at e
    exact e
  have p14b : ∀ t, M.2.1 9 (t / 32) ≠ nI bk → r14' t = ad 14 t := by
    intro t h9
    refine k4 t (fun j hj z => h9 ?_)
    obtain ⟨w', hw'⟩ := lt_ge (l := ws) (i := j) (by omega)
    obtain ⟨_, _, b3, _⟩ := hsl j w' hw'
    rw [z]
    exact b3
  have sub13 : ∀ q a, r13' q = some a → ad 13 q = some a ∧ M.2.1 9 q ≠ nI bk := by
    intro q a ha
    have h9 : M.2.1 9 q ≠ nI bk := fun z => by
      by_cases hq : q < 128
      · rw [p13a q hq z] at ha; cases ha
      · have : r13' q = ad 13 q := k2 q (fun j hj e => by
          obtain ⟨w', hw'⟩ := lt_ge (l := ws) (i := j) (by omega)
          have := (hsl j w' hw').1
          omega)
        rw [this] at ha
        exact hq (hs.s128 ha)
    rw [p13b q h9] at ha
    exact ⟨ha, h9⟩
  have sub14 : ∀ t a, r14' t = some a → ad 14 t = some a ∧ M.2.1 9 (t / 32) ≠ nI bk := by
    intro t a ha
    have h9 : M.2.1 9 (t / 32) ≠ nI bk := fun z => by
      by_cases hq : t / 32 < 128
      · rw [p14a t hq z] at ha; cases ha
      · have : r14' t = ad 14 t := k4 t (fun j hj e => by
          obtain ⟨w', hw'⟩ := lt_ge (l := ws) (i := j) (by omega)
          have := (hsl j w' hw').1
          omega)
        rw [this] at ha
        obtain ⟨w', hw'⟩ := hs.2.2.2.2.2.1.2 t a ha
        exact hq (hs.s128 hw')
    rw [p14b t h9] at ha
    exact ⟨ha, h9⟩
  have sub12 : ∀ q a, rm (ad 12) bk q = some a → ad 12 q = some a ∧ q ≠ bk := by
    intro q a ha
    have ha : (if q = bk then none else ad 12 q) = some a := ha
    by_cases e : q = bk
    · rw [if_pos e] at ha; cases ha
    · rw [if_neg e] at ha; exact ⟨ha, e⟩
  obtain ⟨ad', ead⟩ : ∃ ad' : AA, ad' = fun c q => if c = 12 then rm (ad 12) bk q else if c = 13 then r13' q else if c = 14 then r14' q else ad c q := ⟨_, rfl⟩
  have a12 : ad' 12 = rm (ad 12) bk := by rw [ead]; rfl
  have a13 : ad' 13 = r13' := by rw [ead]; rfl
  have a14 : ad' 14 = r14' := by rw [ead]; rfl
  have aO : ∀ c, c ≠ 12 → c ≠ 13 → c ≠ 14 → ad' c = ad c := fun c h1 h2 h3 => by
    rw [ead]
    funext q
    show (if c = 12 then _ else if c = 13 then _ else if c = 14 then _ else ad c q) = _
    rw [if_neg h1, if_neg h2, if_neg h3]
  have sub : ∀ c q a, ad' c q = some a → ad c q = some a := by
    intro c q a ha
    by_cases e12 : c = 12
    · subst e12; rw [a12] at ha; exact (sub12 q a ha).1
    · by_cases e13 : c = 13
      · subst e13; rw [a13] at ha; exact (sub13 q a ha).1
      · by_cases e14 : c = 14
        · subst e14; rw [a14] at ha; exact (sub14 q a ha).1
        · rw [aO c e12 e13 e14] at ha; exact ha
  have m9 : ∀ q, M.2.1 9 q ≠ nI bk → (rm9 M (nI bk)).2.1 9 q = M.2.1 9 q := fun q hq => by rw [s9 q, if_neg (fun z => hq z.2)]
  have m10 : (rm9 M (nI bk)).2.1 10 = M.2.1 10 := sf.a 10
  have m1 : ∀ k, k ≠ 21 → (rm9 M (nI bk)).1 k = M.1 k := fun k _ => sf.1 k List.not_mem_nil
  have hln4 : ∀ s i, lnI (rm9 M (nI bk)) s i = lnI M s i := fun s i => by
    rw [lnI_m (M := M) m10 (m1 1 (by decide)) (m1 13 (by decide))]
  have hs3 : SH V3 E3 ad' (rm9 M (nI bk)) P := by
    obtain ⟨h1, h2, h3, h4, h5, h6, h7, h8, h9, h10, h11⟩ := hs
    refine ⟨⟨fun c k k' a hc ha ha' => h1.1 c k k' a hc (sub _ _ _ ha) (sub _ _ _ ha'), fun c k a hc ha => h1.2 c k a hc (sub _ _ _ ha)⟩, fun c k a ha => qf3.kv (h2 c k a (sub _ _ _ ha)), ?_, ?_, ?_, ?_, ?_, ?_, h9, ?_, ?_⟩
    · unfold SHp at h3 ⊢
      have k1' := h2 _ _ _ h3.1.1
      have k7' := h2 _ _ _ h3.1.2.1
      have y1 : ∀ d, d ≠ 850 → xr V3 d (P 0) = xr V d (P 0) := fun d hd => (x3 k1' (by decide) d).2.2 hd
      have y7 : ∀ d, d ≠ 850 → xr V3 d (P 1) = xr V d (P 1) := fun d hd => (x3 k7' (by decide) d).2.2 hd
      rw [aO 1 (by decide) (by decide) (by decide), aO 7 (by decide) (by decide) (by decide), aO 2 (by decide) (by decide) (by decide), aO 3 (by decide) (by decide) (by decide), aO 4 (by decide) (by decide) (by decide), aO 9 (by decide) (by decide) (by decide)]
      rw [y1 _ (by decide), y1 _ (by decide), y1 _ (by decide), y1 _ (by decide), y1 _ (by decide), y1 _ (by decide), y7 _ (by decide), y7 _ (by decide), y7 _ (by decide), y7 _ (by decide), y7 _ (by decide), y7 _ (by decide)]
      exact ⟨h3.1, h3.2.1, h3.2.2.1, h3.2.2.2.1, h3.2.2.2.2.1, h3.2.2.2.2.2.1, h3.2.2.2.2.2.2.1, h3.2.2.2.2.2.2.2.1, h3.2.2.2.2.2.2.2.2.1, h3.2.2.2.2.2.2.2.2.2.1, h3.2.2.2.2.2.2.2.2.2.2.1, qf3.ow hSk k7' (by decide) (by decide) h3.2.2.2.2.2.2.2.2.2.2.2⟩
    · unfold SHu at h4 ⊢
      have k7' := h2 _ _ _ h3.1.2.1
      have k9' := h2 _ _ _ h3.1.2.2.2.2.2
      rw [aO 8 (by decide) (by decide) (by decide), aO 10 (by decide) (by decide) (by decide), (eL3 k7' (by decide) (by decide)).1, (eL3 k9' (by decide) (by decide)).1]
      refine ⟨h4.1, h4.2.1, fun u' a ha => ?_, h4.2.2.2⟩
      have ka := h2 _ _ _ ha
      obtain ⟨o1, o2⟩ := h4.2.2.1 u' a ha
      refine ⟨qf3.ow hSk ka (by decide) (by decide) o1, fun k hk => ?_⟩
      have nps : ¬ PS V P a := fun z => by have := z.1; omega
      rw [f8 a nps, a13]
      by_cases ea : a = uu
      · subst ea
        have eu : u' = u := h1.1 8 u' u a (by decide) ha hu
        subst eu
        have hu8 : u' < 8 := by
          have := h4.2.1 u'
          rw [ha] at this
          have := ge_lt this
          omega
        rw [hr850 k hk]
        by_cases c : M.2.1 9 (16 * u' + k) = nI bk
        · rw [if_pos c, p13a _ (by omega) c]
        · rw [if_neg c, p13b _ c]
      · have h9' : M.2.1 9 (16 * u' + k) ≠ nI bk := fun z => by
          have hu8 : u' < 8 := by
            have := h4.2.1 u'
            rw [ha] at this
            have := ge_lt this
            omega
          have e16 := hUnit (16 * u' + k) (by omega) z
          have eu : u' = u := by omega
          rw [eu, hu] at ha
          exact ea (Option.some.inj ha).symm
        rw [ho2 a ea, o2 k hk, p13b _ h9']
    · refine ⟨fun s' w' hw' => ?_, fun s' hs' hn' => ?_⟩
      · rw [a13] at hw'
        obtain ⟨hw1, h9'⟩ := sub13 s' w' hw'
        obtain ⟨z1, z2, bk2, b2', z3, z4, z5, z6, j, z7, z8, z9⟩ := h5.1 s' w' hw1
        have hne : bk2 ≠ bk := fun e => by
          rw [e] at z4
          exact h9' z4
        refine ⟨z1, z2, bk2, b2', z3, by rw [m9 s' h9']; exact z4, ?_, ?_, j, z7, by rw [m10]; exact z8, ?_⟩
        · rw [a12]
          show (if bk2 = bk then none else ad 12 bk2) = _
          rw [if_neg hne]
          exact z5
        · rw [(x3 (h2 _ _ _ hw1) (by decide) 1300).2.2 (by decide)]; exact z6
        · rw [(eL3 (h2 _ _ _ z5) (by decide) (by decide)).1]; exact z9
      · rw [a13] at hn'
        by_cases c : M.2.1 9 s' = nI bk
        · rw [s9 s', if_pos ⟨hs', c⟩]
        · rw [p13b s' c] at hn'
          rw [m9 s' c]
          exact h5.2 s' hs' hn'
    · refine ⟨fun s' w' hw' => ?_, fun t l hl => ?_⟩
      · rw [a13] at hw'
        obtain ⟨hw1, h9'⟩ := sub13 s' w' hw'
        rw [(eL3 (h2 _ _ _ hw1) (by decide) (by decide)).1]
        obtain ⟨z1, z2, z3⟩ := h6.1 s' w' hw1
        refine ⟨z1, fun j hj => by rw [hln4]; exact z2 j hj, fun j hj => ?_⟩
        rw [z3 j hj, a14, p14b _ (by rw [show (32 * s' + j) / 32 = s' by omega]; exact h9')]
      · rw [a14] at hl
        obtain ⟨hl1, h9'⟩ := sub14 t l hl
        obtain ⟨w', hw'⟩ := h6.2 t l hl1
        exact ⟨w', by rw [a13, p13b _ h9']; exact hw'⟩
    · intro bk2 b2' hb2
      rw [a12] at hb2
      obtain ⟨hb2', hne⟩ := sub12 bk2 b2' hb2
      rw [(eL3 (h2 _ _ _ hb2') (by decide) (by decide)).1]
      obtain ⟨z1, z2, z3⟩ := h7 bk2 b2' hb2'
      refine ⟨z1, z2, fun j w' hj => ?_⟩
      obtain ⟨s', y1, y2, y3, y4⟩ := z3 j w' hj
      have h9' : M.2.1 9 s' ≠ nI bk := fun e => by
        rw [e] at y3
        exact hne ((nI_eq (by omega) (by omega)).mp y3).symm
      exact ⟨s', y1, by rw [a13, p13b _ h9']; exact y2, by rw [m9 s' h9']; exact y3, by rw [m10]; exact y4⟩
    · intro k hk
      have : k = 0 ∨ k = 1 ∨ k = 2 := by omega
      rcases this with e | e | e <;> subst e
      · exact ⟨rp0.1, fun y hy q => by rw [a12]; exact rp0.2.1 y hy q⟩
      · exact ⟨rp1.1, fun y hy q => by rw [a13]; exact rp1.2.1 y hy q⟩
      · exact ⟨rp2.1, fun y hy q => by rw [a14]; exact rp2.2.1 y hy q⟩
    · rw [m1 1 (by decide), m1 2 (by decide)]; exact h10
    · unfold SJ
      rw [qf3.2.2.1.2]
      exact h11
  have c3 : CX V3 ad' M := fun d k i a hd hi ha => (cp.1.qf hs.2.1 qf3 hSk) d k i a hd hi (sub _ _ _ ha)
  have cx4 : CX V3 ad' (rm9 M (nI bk)) := by
    refine c3.mm (fun d hd => rfl) (fun j hj => ?_)
    exact sf.2.1 j (by simp only [List.mem_singleton]; omega)
  obtain ⟨S1, S2, hco⟩ := g.2.1.2.2.1
  have hl := g.2.1.2.1
  have hr0 := eL3 (a := P 3) (c := 3) (k := 0) hP3 (by decide) (by decide)
  have hr1' := eL3 (a := P 3) (c := 3) (k := 1) hP3 (by decide) (by decide)
  have hl3 : HL V3 E3 P := by
    unfold HL at hl ⊢
    rw [hr0.1, hr0.2, hr1'.1, hr1'.2]
    exact hl
  have kn3 : KN' V3 E3 (rm9 M (nI bk)) P := g.2.1.2.2.2.qf cp.2.2.1 qf3 hP2 hP0 f6 rfl
  have co3 := hco.qf qf3 hSk
  refine ⟨V3, E3, ad', ⟨?_, ⟨⟨cx4, f4, f3, hs3⟩, hl3, ⟨S1, S2, co3⟩, kn3⟩, ?_⟩, aO, ⟨qf3.2.2.1.1, hr0.1, by rw [(x3 hP3 (by decide) 302).1]⟩⟩
  · have erH : rqH V3 E3 P = rqH V E P := by
      unfold rqH
      rw [hr0.1, hr1'.1]
    have erC : rqC V3 E3 P = rqC V E P := by
      unfold rqC
      rw [erH, hr0.2, hr1'.2]
    have erS : rqS V3 E3 P = rqS V E P := by
      unfold rqS
      rw [erH, hr0.2, hr1'.2]
    have ew2 : fW V2 E = fW V E := by
      funext w'
      unfold fW
      rw [(eL2 13 2 w' (by decide)).2]
    have eb2 : fB V2 E = fB V E := by
      funext w'
      unfold fB
      rw [(eL2 12 2 w' (by decide)).2]
    have ew3 : ∀ w', kdV V w' = 14 → fW V3 E3 w' = fW V E w' := fun w' hk => by
      unfold fW
      rw [(eL3 (c := 13) hk (by decide) (by decide)).2]
    have eb3 : ∀ b', kdV V b' = 13 → fB V3 E3 b' = fB V E b' := fun b' hk => by
      unfold fB
      rw [(eL3 (c := 12) hk (by decide) (by decide)).2]
    have kdl : ∀ k, k < 3 → ∀ y, y ∈ lt V3 E3 2 k (P 2) → kdV V y = 12 + k + 1 := fun k hk y hy => by
      obtain ⟨pl, _, li, _⟩ := PLs f3 f4 (qf3.kv hP2) hk
      have := li.2.2.2.2.2.1 y hy
      rw [kdV, qf3.1] at this
      exact this
    have sW : sumA (fW V3 E3) (ad' 13) 128 + sumL (fW V3 E3) (lt V3 E3 2 1 (P 2)) = sumA (fW V E) (ad 13) 128 + sumL (fW V E) (lt V E 2 1 (P 2)) := by
      rw [ew2, l21] at sm1
      rw [← sm1, a13]
      rw [sumA_c (f := fW V E) (r := r13') 128 (fun q hq => ⟨rfl, fun a ha => ew3 a (hs.kk (sub13 q a ha).1)⟩), sumL_c _ (fun y hy => ew3 y (kdl 1 (by omega) y hy))]
    have sB : sumA (fB V3 E3) (ad' 12) 64 + sumL (fB V3 E3) (lt V3 E3 2 0 (P 2)) = sumA (fB V E) (ad 12) 64 + sumL (fB V E) (lt V E 2 0 (P 2)) := by
      rw [eb2, l20] at sm2
      rw [← sm2, a12]
      rw [sumA_c (f := fB V E) (r := rm (ad 12) bk) 64 (fun q hq => ⟨rfl, fun a ha => eb3 a (hs.kk (sub12 q a ha).1)⟩), sumL_c _ (fun y hy => eb3 y (kdl 0 (by omega) y hy))]
    have ePC : ptC V3 E3 ad' P n0 n1 n2 = ptC V E ad P n0 n1 n2 := by
      unfold ptC
      rw [sW, sB]
    have ePSS : ptS V3 E3 ad' P n0 n1 n2 = ptS V E ad P n0 n1 n2 := by
      unfold ptS
      rw [sW, sB]
    refine f1.mono ?_ ?_
    · rw [erC, ePC]; omega
    · rw [erS, ePSS]; omega
  · unfold PN
    rw [a12, a13, a14]
    exact ⟨⟨rp0, pn.1.2⟩, ⟨rp1, pn.2.1.2⟩, ⟨rp2, pn.2.2.1.2⟩, f7⟩
end F11
