/-! C69: a warp is drawn -/
/-- a warp that begins, at slot s, with its lanes -/
def NWx (V : CW) (E : EL) (r : AA) (s w b : Nat) (num : Int32) (T : Nat) : Prop := kdV V w = 14 ∧ r 13 s = some w ∧ xr V 1300 w 0 = some b ∧ xi V 1301 w 0 = num ∧ ((∀ j, j < 16 → xi V 1353 w j = 0) ∧ (∀ j, j < 4 → xi V 1354 w j = 0) ∧ xi V 1305 w 0 = 0) ∧ (lt V E 13 2 w).length = T ∧ (∀ j, j < 32 → (lt V E 13 2 w)[j]? = r 14 (32 * s + j)) ∧ ∀ l, l ∈ lt V E 13 2 w → L0 V l ∧ kdV V l = 15
section C69
variable {nC nS n : Nat} {A A' : AH} {V V' V'' V0 : CW} {E E' E'' E0 : EL} {r r' : AA} {P : PP} {X X' : Nat → Prop} {n0 n1 n2 m0 m1 m2 : Nat}
theorem NWx.ds {s w b T : Nat} {num : Int32} (h : NWx V E r s w b num T) (ds : DS X V E V' E') (hw : WT V E) (hXw : ¬ X w) (hXl : ∀ ll, xr V 1302 w 0 = some ll → ¬ X ll) (hXL : ∀ l, l ∈ lt V E 13 2 w → ¬ X l) (h13 : r' 13 s = r 13 s) (h14 : ∀ j, j < 32 → r' 14 (32 * s + j) = r 14 (32 * s + j)) : NWx V' E' r' s w b num T := by
  obtain ⟨a1, a2, a3, a4, ⟨a5, a6, a7⟩, a8, a9, a10⟩ := h
  have el := (ds.ltc hw (c := 13) (k := 2) a1 (by decide) hXl).1
  have hv := fun d => (ds.1.1 w (by omega)).2 hXw d
  have ei : ∀ d, xi V' d w = xi V d w := fun d => (hv d).1
  have er : ∀ d, xr V' d w = xr V d w := fun d => (hv d).2.1
  unfold NWx
  rw [el]
  refine ⟨ds.kv (c := 13) a1, h13.trans a2, by rw [er]; exact a3, by rw [ei]; exact a4, ⟨fun j hj => by rw [ei]; exact a5 j hj, fun j hj => by rw [ei]; exact a6 j hj, by rw [ei]; exact a7⟩, a8, fun j hj => by rw [h14 j hj]; exact a9 j hj, fun l hl => ?_⟩
  obtain ⟨⟨c1, c2, c3, c4, c5⟩, c6⟩ := a10 l hl
  have hvl := fun d => ((ds.1.1 l (by omega)).2 (hXL l hl) d).1
  exact ⟨⟨fun j hj => by rw [hvl]; exact c1 j hj, fun j hj => by rw [hvl]; exact c2 j hj, by rw [hvl]; exact c3, by rw [hvl]; exact c4, by rw [hvl]; exact c5⟩, ds.kv (c := 14) c6⟩
/-- the pool's list of lanes is a list -/
theorem DI.pk (h : DI nC nS V0 E0 P A V E r n0 n1 n2) {k z : Nat} (hk : k < 3) (hz : xr V (200 + k) (P 2) 0 = some z) : kdV V z = 1 := by
  obtain ⟨l0, y1, y2, _⟩ := h.2.2.1.2.1 (P 2) 2 k h.P2 (lof2 hk)
  have : l0 = z := Option.some.inj (y1.symm.trans hz)
  subst this
  exact y2
theorem L_apg {l : List Nat} {x i j : Nat} (hi : l.length = i) : (l ++ [x])[j]? = if j = i then some x else l[j]? := by
  by_cases e : j = i
  · rw [if_pos e, List.getElem?_append_right (by omega), e, hi, Nat.sub_self]
    rfl
  · rw [if_neg e]
    by_cases c : j < i
    · rw [List.getElem?_append_left (by omega)]
    · rw [List.getElem?_eq_none (by rw [List.length_append]; show l.length + 1 ≤ j; omega), List.getElem?_eq_none (by omega)]
/-- one more lane -/
theorem warp_step (h : DI nC nS V0 E0 P A V E r n0 n1 n2) (hS : 20000 ≤ nS) (hC : 2 ≤ nC) {s w b i ll : Nat} {num : Int32} (hs : s < 128) (hi : i < 32) (nw : NWx V E r s w b num i) (hll : xr V 1302 w 0 = some ll) (hpw : kdV V0 w ≠ 0 → PM V0 E0 P w) (hpl : kdV V0 ll ≠ 0 → PM V0 E0 P ll) (hn : 10100 < n) :
    Res (fX2_lane n (P 2) A) (fun g => kdV V ll = 1 ∧ ∃ x, g.1 = some x ∧ rcv g.2 (some ll) 0 = some ll ∧ Res (fJ2_add ll (some x) g.2) (fun g' => ∃ V' E' m2, DI nC nS V0 E0 P g'.2 V' E' (insA r 14 (32 * s + i) x) n0 n1 m2 ∧ NWx V' E' (insA r 14 (32 * s + i) x) s w b num (i + 1) ∧ xr V' 1302 w 0 = some ll)) := by
  have nw' := nw
  obtain ⟨a1, a2, a3, a4, a5, a8, a9, a10⟩ := nw'
  have hw := h.2.2.1
  have hP := h.P2
  have hq : r 14 (32 * s + i) = none := by rw [← a9 i hi]; exact List.getElem?_eq_none (by omega)
  have llk : kdV V ll = 1 := by
    obtain ⟨l0, y1, y2, _⟩ := hw.2.1 w 13 2 a1 (by decide)
    have : l0 = ll := Option.some.inj (y1.symm.trans hll)
    subst this
    exact y2
  refine Res.m (e2_lane h hq (by omega) (by omega)) ?_
  rintro ⟨g1, A1⟩ ⟨V1, E1, x, m2, e1, d1, s1, l1, k1, nw1, hx⟩
  have hx15 : kdV V x = 0 ∨ kdV V x = 15 := hx.imp_right (fun z => pool_kd hw h.2.2.2.1 hP (k := 2) (by omega) z)
  have np : ∀ {z : Nat}, xr V 202 (P 2) 0 = some z → kdV V z = 1 := fun hz => h.pk (k := 2) (by omega) hz
  obtain ⟨m, tot, rp⟩ := h.rp (c := 14) (by omega)
  have hXl : ¬ (ll = x ∨ xr V 202 (P 2) 0 = some ll) := by
    rintro (e | e)
    · rw [← e] at hx15; omega
    · exact pl_no hw hP (k := 2) (by omega) e (Or.inr rfl) a1 hll rfl
  have nw2 : NWx V1 E1 (insA r 14 (32 * s + i) x) s w b num i → True := fun _ => trivial
  have ll1 : xr V1 1302 w 0 = some ll := by rw [(s1.2.2 w 13 2 a1 (Or.inr (by decide))).1]; exact hll
  have llk1 : kdV V1 ll = 1 := s1.kv (c := 0) llk
  have hXw : ¬ (w = x ∨ xr V 202 (P 2) 0 = some w) := by
    rintro (e | e)
    · rw [← e] at hx15; omega
    · have := np e; omega
  have hXL : ∀ l, l ∈ lt V E 13 2 w → ¬ (l = x ∨ xr V 202 (P 2) 0 = some l) := by
    intro l hl
    have hk := (a10 l hl).2
    rintro (e | e)
    · rcases hx with z | z
      · rw [← e] at z; omega
      · obtain ⟨j, hj⟩ := List.getElem?_of_mem hl
        have hj32 : j < 32 := by
          have := ge_lt hj
          omega
        rw [a9 j hj32, e] at hj
        exact rp.2.1 x z _ hj
    · have := np e; omega
  have el := (s1.ltc hw (c := 13) (k := 2) a1 (by decide) (fun z hz => by
    have : z = ll := Option.some.inj (hz.symm.trans hll)
    rw [this]
    exact hXl)).1
  have r13 : insA r 14 (32 * s + i) x 13 s = some w := by rw [insA_ne (by decide)]; exact a2
  refine ⟨llk, x, e1, d1.1.rc llk1, ?_⟩
  refine Res.m (d1.ladd hS hC (c := 13) (q := s) (o := w) (ll := ll) (v := x) (Or.inr rfl) r13 (by rw [if_neg (by decide)]; exact hs) ll1 hpw hpl k1 (by rw [el, a8, if_neg (by decide)]; exact hi)) ?_
  rintro ⟨g2, A2⟩ ⟨V2, E2, d2, s2, f2, el2⟩
  have hwne : w ≠ ll := fun z => by rw [z, llk] at a1; cases a1
  have k2w : kdV V1 w = 14 := s1.kv (c := 13) a1
  have hv1 := fun d => (s1.1.1 w (by omega)).2 hXw d
  have hv2 := fun d => f2.2.1 w hwne d
  refine ⟨V2, E2, m2, d2, ⟨f2.kv k2w, r13, ?_, ?_, ⟨fun j hj => ?_, fun j hj => ?_, ?_⟩, ?_, fun j hj => ?_, fun l hl => ?_⟩, ?_⟩
  · rw [(hv2 1300).2.1, (hv1 1300).2.1]; exact a3
  · rw [(hv2 1301).1, (hv1 1301).1]; exact a4
  · rw [(hv2 1353).1, (hv1 1353).1]; exact a5.1 j hj
  · rw [(hv2 1354).1, (hv1 1354).1]; exact a5.2.1 j hj
  · rw [(hv2 1305).1, (hv1 1305).1]; exact a5.2.2
  · rw [el2, el, List.length_append, a8]; rfl
  · rw [el2, el, L_apg a8, insA_at]
    show _ = (if 32 * s + j = 32 * s + i then some x else r 14 (32 * s + j))
    by_cases e : j = i
    · rw [if_pos e, if_pos (by omega)]
    · rw [if_neg e, if_neg (by omega)]
      exact a9 j hj
  · rw [el2, el] at hl
    have hlx : ∀ y, kdV V1 y = 15 → ∀ d, xi V2 d y = xi V1 d y := fun y hy d => (f2.2.1 y (fun z => by rw [z, llk1] at hy; cases hy) d).1
    rcases List.mem_append.mp hl with z | z
    · obtain ⟨⟨c1, c2, c3, c4, c5⟩, c6⟩ := a10 l z
      have k1l : kdV V1 l = 15 := s1.kv (c := 14) c6
      have hvl := fun d => ((s1.1.1 l (by omega)).2 (hXL l z) d).1
      have hq := hlx l k1l
      exact ⟨⟨fun j hj => by rw [hq, hvl]; exact c1 j hj, fun j hj => by rw [hq, hvl]; exact c2 j hj, by rw [hq, hvl]; exact c3, by rw [hq, hvl]; exact c4, by rw [hq, hvl]; exact c5⟩, f2.kv k1l⟩
    · have z := List.mem_singleton.mp z
      subst z
      obtain ⟨c1, c2, c3, c4, c5⟩ := l1
      have hq := hlx l k1
      exact ⟨⟨fun j hj => by rw [hq]; exact c1 j hj, fun j hj => by rw [hq]; exact c2 j hj, by rw [hq]; exact c3, by rw [hq]; exact c4, by rw [hq]; exact c5⟩, f2.kv k1⟩
  · rw [(hv2 1302).2.1]; exact ll1
set_option maxHeartbeats 1000000 in
theorem e2_warp (h : DI nC nS V E P A V E r n0 n1 n2) (hS : 20000 ≤ nS) (hC : 2 ≤ nC) {s b T : Nat} (num : Int32) (hs : s < 128) (h13 : r 13 s = none) (h14 : ∀ i, i < 32 → r 14 (32 * s + i) = none) (hT : T ≤ 32) (hn : 10100 < n) :
    Res (fX2_warp n (P 2) (some b) num (nI T) A) (fun g => ∃ V' E' w r' m1 m2, g.1 = some w ∧ DI nC nS V E P g.2 V' E' r' n0 m1 m2 ∧ NWx V' E' r' s w b num T ∧ r' 13 = ins (r 13) s w ∧ (∀ c, c ≠ 13 → c ≠ 14 → r' c = r c) ∧ ∀ t, t / 32 ≠ s → r' 14 t = r 14 t) := by
  have hP := h.P2
  have h' := h
  obtain ⟨hst, hds, hw, hg, hsub, hpn, hrk, hP0⟩ := h'
  obtain ⟨pl, x1, li, ek, el, ec, hps⟩ := PLs hw hg hP (k := 1) (by omega)
  unfold fX2_warp
  refine Res.b ((hst.gr 1 (c := 2) hP (by decide) rfl).trans (congrArg some x1)) (Res.b (hst.rc li.1) (Res.b (L_isEmpty hst li) ?_))
  rw [jn_eq]
  have kk : ∀ x A6 V6 E6 m1, DI nC nS V E P A6 V6 E6 (insA r 13 s x) n0 m1 n2 → kdV V6 x = 14 → (kdV V x ≠ 0 → PM V E P x) → (∀ ll, xr V6 1302 x 0 = some ll → kdV V ll ≠ 0 → PM V E P ll) → Res ((rcv A6 (some x) 13).bind fun v7 =>
      (fX13_begin n v7 (some b) num A6).bind fun g8 =>
      jl (fixG (fun _ _ => none) (fun (rc12 : (Int32) → (AH) → Option (Option Nat × AH)) (x10 : Int32) (A11 : AH) =>
      if nI T ≤ x10 then (some (some x, A11)) else
      (gR A11 (some x) 13 2).bind fun v14 =>
      (rcv A11 (some (P 2)) 2).bind fun v15 =>
      (fX2_lane n v15 A11).bind fun g16 =>
      (rcv g16.2 v14 0).bind fun v17 =>
      (fJ2_add v17 g16.1 g16.2).bind fun g18 =>
      rc12 (x10 + (1 : Int32)) g18.2) n) fun j9 =>
      j9 (0 : Int32) g8) (fun g => ∃ V' E' w r' m1 m2, g.1 = some w ∧ DI nC nS V E P g.2 V' E' r' n0 m1 m2 ∧ NWx V' E' r' s w b num T ∧ r' 13 = ins (r 13) s w ∧ (∀ c, c ≠ 13 → c ≠ 14 → r' c = r c) ∧ ∀ t, t / 32 ≠ s → r' 14 t = r 14 t) := by
    intro x A6 V6 E6 m1 h6 k6 hpx hpl
    obtain ⟨ll, l1, li6, l3, _, _⟩ := h6.2.2.1.li2 h6.2.2.2.1 (c := 13) (k := 2) (e := 14) k6 rfl
    have r13 : insA r 13 s x 13 s = some x := by rw [insA_at]; exact ins_at
    refine Res.b (h6.1.rc k6) (Res.w (e13_begin h6.1 num k6 (h6.2.2.1.1 x 13 3 k6 (by decide)) (h6.2.2.1.1 x 13 4 k6 (by decide)) l1 li6 hn) ?_)
    rintro A7 ⟨V7, s7, v7, f7, x7, li7, b7, num7, t7, p7, m7⟩
    obtain ⟨d7, ds7, el7, _⟩ := h6.ch (V' := V7) (A' := A7) (dl := 0) (c := 13) (q := s) (o := x) (ll := ll) (Or.inr rfl) r13 (by rw [if_neg (by decide)]; exact hs) l1 v7 f7 x7 li7 hpx (hpl ll l1) rfl s7
    have ll7 : xr V7 1302 x 0 = some ll := by rw [(x7 1302).1 (by decide)]; exact l1
    have k7 : kdV V7 x = 14 := by rw [kdV, v7]; exact k6
    have r14 : ∀ j, j < 32 → insA r 13 s x 14 (32 * s + j) = none := fun j hj => by rw [insA_ne (by decide)]; exact h14 j hj
    generalize setE E6 ll [] (cpL V6 E6 13 2 x) = E7 at *
    have nw7 : NWx V7 E7 (insA r 13 s x) s x b num 0 := by
      refine ⟨k7, r13, b7, num7, ⟨t7, p7, m7⟩, by rw [el7]; rfl, fun j hj => by rw [el7, r14 j hj]; rfl, fun l hl => ?_⟩
      rw [el7] at hl
      exact absurd hl List.not_mem_nil
    refine jl_R (fun dd (gg : Int32 → AH → Option (Option Nat × AH)) => ∀ i A8 V8 E8 r8 m2, i + dd = T → DI nC nS V E P A8 V8 E8 r8 n0 m1 m2 → NWx V8 E8 r8 s x b num i → xr V8 1302 x 0 = some ll → r8 13 = ins (r 13) s x → (∀ c, c ≠ 13 → c ≠ 14 → r8 c = r c) → (∀ t, t / 32 ≠ s → r8 14 t = r 14 t) → Res (gg (nI i) A8) (fun g => ∃ V' E' w r' m1 m2, g.1 = some w ∧ DI nC nS V E P g.2 V' E' r' n0 m1 m2 ∧ NWx V' E' r' s w b num T ∧ r' 13 = ins (r 13) s w ∧ (∀ c, c ≠ 13 → c ≠ 14 → r' c = r c) ∧ ∀ t, t / 32 ≠ s → r' 14 t = r 14 t)) T (show T < n by omega) ?_ ?_ ?_
    · intro gg i A8 V8 E8 r8 m2 hi d8 nw8 _ a13 ac a14
      have ei : i = T := by omega
      subst ei
      rw [if_pos (Int32.le_refl _)]
      exact Res.r ⟨V8, E8, x, r8, m1, m2, rfl, d8, nw8, a13, ac, a14⟩
    · intro dd gg hgg i A8 V8 E8 r8 m2 hi d8 nw8 ll8 a13 ac a14
      rw [if_neg (c_nle (by omega) (by omega)), nI_1]
      refine Res.b ((d8.1.gr 2 (c := 13) nw8.1 (by decide) rfl).trans (congrArg some ll8)) (Res.b (d8.1.rc d8.P2) ?_)
      refine Res.w (warp_step d8 hS hC hs (by omega) nw8 ll8 hpx (hpl ll l1) hn) ?_
      rintro ⟨g1, A9⟩ ⟨_, y, e9, rc9, r9⟩
      have e9 : g1 = some y := e9
      subst e9
      refine Res.b rc9 (Res.w r9 ?_)
      rintro ⟨g2, A10⟩ ⟨V10, E10, m2', d10, nw10, ll10⟩
      refine hgg (i + 1) A10 V10 E10 _ m2' (by omega) d10 nw10 ll10 (by rw [insA_ne (by decide)]; exact a13) (fun c h1 h2 => by rw [insA_ne h2]; exact ac c h1 h2) (fun t ht => ?_)
      rw [insA_at, ins_ne (by omega)]
      exact a14 t ht
    · intro gg hgg
      exact hgg 0 A7 V7 E7 _ n2 (by omega) d7 nw7 ll7 insA_at (fun c h1 h2 => insA_ne h1) (fun t ht => by rw [insA_ne (by decide)])
  by_cases c0 : (lt V E 2 1 (P 2)).length = 0
  · have e0 : lt V E 2 1 (P 2) = [] := List.length_eq_zero_iff.mp c0
    rw [b2i_t c0, if_neg (by decide)]
    have hp0 := hst.new0
    obtain ⟨_, b1, _, b3, b4⟩ := h.room (k := 1) (q := s) (by omega) e0 h13 (fun z => by omega) (fun _ => hs) (fun z => by omega)
    rw [if_neg (by decide), if_pos rfl] at b3 b4
    obtain ⟨tC, eC⟩ : ∃ t, nC + rqP V E P + ptC V E r P n0 n1 n2 = t + 4 + 1 := ⟨nC + rqP V E P + ptC V E r P n0 n1 n2 - 5, by omega⟩
    obtain ⟨tS, eS⟩ : ∃ t, nS + 4 * rqP V E P + ptS V E r P n0 n1 n2 = t + 31 + 6 := ⟨nS + 4 * rqP V E P + ptS V E r P n0 n1 n2 - 37, by omega⟩
    have hst1 := hst
    rw [eC, eS] at hst1
    obtain ⟨A1, e1, _, s1⟩ := hst1.no 13 (n := tS + 31) dfX13 (by decide) (by decide) rfl (by show tS + 31 + 6 ≤ _; omega)
    refine Res.b e1 ?_
    have k1 : kdV (vNew V (hN A) 13) (hN A) = 14 := if_pos rfl
    refine Res.w (e13_init s1 k1) ?_
    rintro A2 ⟨V2, ll, s2, l0, hkd, f2, hxl, li2, o3, o4⟩
    obtain ⟨E2, d2, ds2, kp2, hl0⟩ := h.nwl (A' := A2) (V' := V2) (k := 1) (q := s) (p := hN A) (ll := ll) (by omega) e0 h13 (fun z => by omega) (fun _ => hs) hp0 l0 hkd f2 hxl li2 (fun j hj => by
      rcases (owl_m hj).2.1 rfl with e | e
      · subst e; exact o3
      · subst e; exact o4) (by
      rw [if_neg (by decide), if_pos rfl, if_neg (by decide), if_pos rfl, eC, eS]
      exact s2.mono (by omega) (by omega))
    refine kk (hN A) A2 V2 E2 (n1 + 1) d2 kp2 (fun z => absurd hp0 z) (fun l hl z => ?_)
    have : l = ll := Option.some.inj (hl.symm.trans hxl)
    subst this
    exact absurd hl0 z
  · rw [b2i_f c0, if_pos rfl]
    obtain ⟨l, x, hlx⟩ : ∃ l0 last, lt V E 2 1 (P 2) = l0 ++ [last] := ⟨(lt V E 2 1 (P 2)).dropLast, (lt V E 2 1 (P 2)).getLast (by intro z; rw [z] at c0; exact c0 rfl), (List.dropLast_concat_getLast _).symm⟩
    have hlen : (lt V E 2 1 (P 2)).length = l.length + 1 := by rw [hlx, List.length_append]; rfl
    refine Res.b (L_size hst li) ?_
    have hb := li.2.2.1
    have hb2 := li.2.2.2.2.1
    rw [hlen, nI_sub1 (by omega), show l.length + 1 - 1 = l.length by omega]
    obtain ⟨pl', y1, hr⟩ := h.pop (k := 1) (q := s) (x := x) (l := l) (by omega) hlx h13 (fun z => by omega) (fun _ => hs) (fun z => by omega)
    have : pl' = pl := Option.some.inj (y1.symm.trans x1)
    subst this
    refine Res.w hr ?_
    rintro ⟨g1, A1⟩ ⟨e1, V1, E1, d1, s1, k1⟩
    have e1 : g1 = some x := e1
    subst e1
    have hxm : x ∈ lt V E 2 1 (P 2) := by rw [hlx]; exact List.mem_append_right _ (List.mem_singleton.mpr rfl)
    have hxk := pool_kd hw hg hP (k := 1) (by omega) hxm
    have kx : kdV V1 x = 14 := s1.kv (c := 13) hxk
    refine Res.b (d1.1.cs kx) (kk x A1 V1 E1 n1 d1 kx (fun _ => Or.inr (Or.inl ⟨1, by omega, hxm⟩)) (fun ll hll _ => ?_))
    rw [show (1302 : Nat) = 100 * 13 + 2 from rfl, (s1.2.2 x 13 2 hxk (Or.inr (by decide))).1] at hll
    exact Or.inr (Or.inr ⟨1, x, by omega, hxm, hll⟩)
end C69
