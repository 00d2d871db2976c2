/-! C70: a block is drawn -/
/-- a block that begins, with the first j of its warps at the slots sl -/
def BIx (V : CW) (E : EL) (r : AA) (sl : Nat → Nat) (bk b L Th j : Nat) : Prop := kdV V b = 13 ∧ r 12 bk = some b ∧ xi V 1200 b 0 = nI bk ∧ (∀ i, i < 64 → xi V 1251 b i = 0) ∧ (lt V E 12 2 b).length = j ∧ ∀ i w : Nat, (lt V E 12 2 b)[i]? = some w → NWx V E r (sl i) w b (nI i) (min L (Th - L * i))
def RWx (r r' : AA) (sl : Nat → Nat) (bk b j : Nat) : Prop := r' 12 = ins (r 12) bk b ∧ (∀ c, c ≠ 12 → c ≠ 13 → c ≠ 14 → r' c = r c) ∧ (∀ q, (∀ i, i < j → q ≠ sl i) → r' 13 q = r 13 q) ∧ ∀ t, (∀ i, i < j → t / 32 ≠ sl i) → r' 14 t = r 14 t
section C70
variable {nC nS n : Nat} {A A' : AH} {V V' V'' V0 : CW} {E E' E'' E0 : EL} {r r' : AA} {P : PP} {X X' : Nat → Prop} {n0 n1 n2 m0 m1 m2 : Nat}
theorem DI.ok3 (h : DI nC nS V0 E0 P A V E r n0 n1 n2) {c q o : Nat} (hc : c = 12 ∨ c = 13 ∨ c = 14) (hq : r c q = some o) : kdV V o = c + 1 := by
  rcases hc with e | e | e <;> subst e
  · exact h.2.2.2.2.2.2.1 0 q o (by omega) hq
  · exact h.2.2.2.2.2.2.1 1 q o (by omega) hq
  · exact h.2.2.2.2.2.2.1 2 q o (by omega) hq
/-- who is in a row is not in the pool -/
theorem DI.nPM (h : DI nC nS V0 E0 P A V E r n0 n1 n2) {c q o : Nat} (hc : c = 12 ∨ c = 13 ∨ c = 14) (hq : r c q = some o) : ¬ PM V E P o := by
  have hok := h.ok3 hc hq
  have hw := h.2.2.1
  obtain ⟨m, tot, rp⟩ := h.rp hc
  rintro (⟨z1, _⟩ | ⟨k, hk, z⟩ | ⟨k, x, hk, z1, z2⟩)
  · omega
  · have := pool_kd hw h.2.2.2.1 h.P2 hk z
    have ek : k = c - 12 := by omega
    subst ek
    exact rp.2.1 o z q hq
  · have hx := pool_kd hw h.2.2.2.1 h.P2 (k := k) (by omega) z1
    rw [show 1202 + 100 * k = 100 * (12 + k) + 2 by omega] at z2
    obtain ⟨l0, y1, y2, _⟩ := hw.2.1 x (12 + k) 2 hx (lof_cc (by omega)).1
    have : l0 = o := Option.some.inj (y1.symm.trans z2)
    subst this
    omega
theorem DI.nPMl (h : DI nC nS V0 E0 P A V E r n0 n1 n2) {c q o ll : Nat} (hc : c = 12 ∨ c = 13) (hq : r c q = some o) (hll : xr V (100 * c + 2) o 0 = some ll) : kdV V ll = 1 ∧ ¬ PM V E P ll := by
  have hok := h.ok hc hq
  have hw := h.2.2.1
  obtain ⟨l0, y1, y2, _⟩ := hw.2.1 o c 2 hok (lof_cc hc).1
  have : l0 = ll := Option.some.inj (y1.symm.trans hll)
  subst this
  refine ⟨y2, ?_⟩
  have hno := h.nPM (c := c) (by omega) hq
  rintro (⟨_, k, hk, z2⟩ | ⟨k, hk, z⟩ | ⟨k, x, hk, z1, z2⟩)
  · exact pl_no hw h.P2 hk z2 hc hok hll rfl
  · have := pool_kd hw h.2.2.2.1 h.P2 hk z
    omega
  · have hx := pool_kd hw h.2.2.2.1 h.P2 (k := k) (by omega) z1
    rw [show 1202 + 100 * k = 100 * (12 + k) + 2 by omega] at z2
    have := (hw.2.2 x (12 + k) 2 o c 2 l0 hx hok (lof_cc (by omega)).1 (lof_cc hc).1 z2 hll).1
    rw [this] at z1
    exact hno (Or.inr (Or.inl ⟨k, by omega, z1⟩))
/-- a warp that has begun stays so, when others are drawn -/
theorem NWx.di (h : DI nC nS V0 E0 P A V E r n0 n1 n2) (h2 : DI nC nS V E P A' V' E' r' m0 m1 m2) {s w b T : Nat} {num : Int32} (nw : NWx V E r s w b num T) (hT : T ≤ 32) (h13 : r' 13 s = r 13 s) (h14 : ∀ j, j < 32 → r' 14 (32 * s + j) = r 14 (32 * s + j)) : NWx V' E' r' s w b num T := by
  refine nw.ds h2.2.1 h.2.2.1 (h.nPM (c := 13) (by omega) nw.2.1) (fun ll hll => (h.nPMl (c := 13) (Or.inr rfl) nw.2.1 hll).2) (fun l hl => ?_) h13 h14
  obtain ⟨j, hj⟩ := List.getElem?_of_mem hl
  have hj32 : j < 32 := by
    have := ge_lt hj
    have := nw.2.2.2.2.2.1
    omega
  rw [nw.2.2.2.2.2.2.1 j hj32] at hj
  exact h.nPM (c := 14) (by omega) hj
/-- and when the block's list grows -/
theorem NWx.bl {s w b0 T bl b : Nat} {num : Int32} (hw : WT V E) (ds : DS (fun z => z = b ∨ z = bl) V E V' E') (nw : NWx V E r s w b0 num T) (hb : kdV V b = 13) (hbl : xr V 1202 b 0 = some bl) (hblk : kdV V bl = 1) : NWx V' E' r s w b0 num T := by
  refine nw.ds ds hw (fun z => ?_) (fun ll hll z => ?_) (fun l hl z => ?_) rfl (fun _ _ => rfl)
  · have := nw.1
    rcases z with z | z <;> (rw [z] at this; omega)
  · obtain ⟨l0, y1, y2, _⟩ := hw.2.1 w 13 2 nw.1 (by decide)
    have : l0 = ll := Option.some.inj (y1.symm.trans hll)
    subst this
    rcases z with z | z
    · rw [z] at y2
      omega
    · rw [z] at hll
      exact absurd (hw.2.2 w 13 2 b 12 2 bl nw.1 hb (by decide) (by decide) hll hbl).2.1 (by decide)
  · have := (nw.2.2.2.2.2.2.2 l hl).2
    rcases z with z | z <;> (rw [z] at this; omega)
/-- one more warp -/
theorem block_step (h : DI nC nS V0 E0 P A V E r' n0 n1 n2) (hw0 : WT V0 E0) (hg0 : GL V0 E0) (hS : 20000 ≤ nS) (hC : 2 ≤ nC) {bk b bl L Th W j : Nat} {sl : Nat → Nat} (hbk : bk < 64) (hsl : ∀ i, i < W → sl i < 128 ∧ r 13 (sl i) = none ∧ ∀ t, t < 32 → r 14 (32 * sl i + t) = none) (hinj : ∀ i i', i < W → i' < W → sl i = sl i' → i = i') (hL1 : 1 ≤ L) (hL : L ≤ 32) (hW16 : W ≤ 16) (hj : j < W) (bi : BIx V E r' sl bk b L Th j) (rw' : RWx r r' sl bk b j) (hbl : xr V 1202 b 0 = some bl) (hpo : kdV V0 b ≠ 0 → PM V0 E0 P b) (hpl : kdV V0 bl ≠ 0 → PM V0 E0 P bl) (hn : 10100 < n) :
    kdV V bl = 1 ∧ Res (fX2_warp n (P 2) (some b) (nI j) (nI (min L (Th - L * j))) A) (fun g => ∃ w, g.1 = some w ∧ rcv g.2 (some bl) 0 = some bl ∧ Res (fJ2_add bl (some w) g.2) (fun g' => ∃ V' E' r'' m1 m2, DI nC nS V0 E0 P g'.2 V' E' r'' n0 m1 m2 ∧ BIx V' E' r'' sl bk b L Th (j + 1) ∧ RWx r r'' sl bk b (j + 1) ∧ xr V' 1202 b 0 = some bl)) := by
  obtain ⟨b1, b2, b3, b4, b5, b6⟩ := bi
  obtain ⟨q1, q2, q3, q4⟩ := rw'
  obtain ⟨blk, nbl⟩ := h.nPMl (c := 12) (Or.inl rfl) b2 hbl
  have nb := h.nPM (c := 12) (by omega) b2
  refine ⟨blk, ?_⟩
  obtain ⟨s1, s2, s3⟩ := hsl j hj
  have hne : ∀ i, i < j → sl j ≠ sl i := fun i hi z => by
    have := hinj j i hj (by omega) z
    omega
  have w13 : r' 13 (sl j) = none := by rw [q3 _ hne]; exact s2
  have w14 : ∀ i, i < 32 → r' 14 (32 * sl j + i) = none := fun i hi => by
    rw [q4 _ (fun i' hi' => by rw [show (32 * sl j + i) / 32 = sl j by omega]; exact hne i' hi')]
    exact s3 i hi
  refine Res.m (e2_warp h.self hS hC (s := sl j) (b := b) (T := min L (Th - L * j)) (nI j) s1 w13 w14 (by omega) hn) ?_
  rintro ⟨g1, A1⟩ ⟨V1, E1, w, r1, m1, m2, e1, d1, nw1, a13, ac, a14⟩
  have d1' := h.reb hw0 hg0 d1
  have hv := fun d => (d1.2.1.1.1 b (by omega)).2 nb d
  have kb1 : kdV V1 b = 13 := d1.2.1.kv (c := 12) b1
  have kbl1 : kdV V1 bl = 1 := d1.2.1.kv (c := 0) blk
  have hbl1 : xr V1 1202 b 0 = some bl := by rw [(hv 1202).2.1]; exact hbl
  have r12 : r1 12 = r' 12 := ac 12 (by decide) (by decide)
  have el1 := (d1.2.1.ltc h.2.2.1 (c := 12) (k := 2) b1 (by decide) (fun z hz => by
    have : z = bl := Option.some.inj (hz.symm.trans hbl)
    rw [this]
    exact nbl)).1
  refine ⟨w, e1, d1.1.rc kbl1, ?_⟩
  refine Res.m (d1'.ladd hS hC (c := 12) (q := bk) (o := b) (ll := bl) (v := w) (Or.inl rfl) (by rw [r12]; exact b2) (by rw [if_pos rfl]; exact hbk) hbl1 hpo hpl nw1.1 (by rw [el1, b5, if_pos rfl]; omega)) ?_
  rintro ⟨g2, A2⟩ ⟨V2, E2, d2, s2', f2, el2⟩
  have hbne : b ≠ bl := fun z => by rw [z, blk] at b1; cases b1
  have hv2 := fun d => f2.2.1 b hbne d
  refine ⟨V2, E2, r1, m1, m2, d2, ⟨f2.kv kb1, by rw [r12]; exact b2, ?_, fun i hi => ?_, ?_, fun i w' hi => ?_⟩, ⟨r12.trans q1, fun c h1 h2 h3 => (ac c h2 h3).trans (q2 c h1 h2 h3), fun q hq => ?_, fun t ht => ?_⟩, ?_⟩
  · rw [(hv2 1200).1, (hv 1200).1]; exact b3
  · rw [(hv2 1251).1, (hv 1251).1]; exact b4 i hi
  · rw [el2, el1, List.length_append, b5]; rfl
  · rw [el2, el1, L_apg b5] at hi
    by_cases e : i = j
    · rw [if_pos e] at hi
      have : w = w' := Option.some.inj hi
      subst this
      rw [e]
      exact NWx.bl d1.2.2.1 s2' nw1 kb1 hbl1 kbl1
    · rw [if_neg e] at hi
      have hij : i < j := by
        have := ge_lt hi
        omega
      have nwi := b6 i w' hi
      refine NWx.bl d1.2.2.1 s2' (NWx.di h d1 nwi (by omega) ?_ (fun t ht => ?_)) kb1 hbl1 kbl1
      · rw [a13, ins_ne (fun z => hne i hij z.symm)]
      · rw [a14 _ (by rw [show (32 * sl i + t) / 32 = sl i by omega]; exact fun z => hne i hij z.symm)]
  · rw [a13, ins_ne (hq j (by omega))]
    exact q3 q (fun i hi => hq i (by omega))
  · rw [a14 t (ht j (by omega))]
    exact q4 t (fun i hi => ht i (by omega))
  · rw [(hv2 1202).2.1]; exact hbl1
set_option maxHeartbeats 1000000 in
theorem e2_block (h : DI nC nS V E P A V E r n0 n1 n2) (hS : 20000 ≤ nS) (hC : 2 ≤ nC) {bk L Th W : Nat} (sl : Nat → Nat) (hbk : bk < 64) (h12 : r 12 bk = none) (hsl : ∀ i, i < W → sl i < 128 ∧ r 13 (sl i) = none ∧ ∀ t, t < 32 → r 14 (32 * sl i + t) = none) (hinj : ∀ i i', i < W → i' < W → sl i = sl i' → i = i') (hL1 : 1 ≤ L) (hL : L ≤ 32) (hTh : Th ≤ 512) (hWj : ∀ j, L * j < Th ↔ j < W) (hW16 : W ≤ 16) (hn : 10100 < n) :
    Res (fX2_block n (P 2) (nI bk) (nI Th) (nI L) A) (fun g => ∃ V' E' b r' m0 m1 m2, g.1 = some b ∧ DI nC nS V E P g.2 V' E' r' m0 m1 m2 ∧ BIx V' E' r' sl bk b L Th W ∧ RWx r r' sl bk b W) := by
  have hP := h.P2
  have h' := h
  obtain ⟨hst, hds, hw, hg, hsub, hpn, hrk, hP0⟩ := h'
  obtain ⟨pl, x1, li, ek, el, ec, hps⟩ := PLs hw hg hP (k := 0) (by omega)
  unfold fX2_block
  refine Res.b ((hst.gr 0 (c := 2) hP (by decide) rfl).trans (congrArg some x1)) (Res.b (hst.rc li.1) (Res.b (L_isEmpty hst li) ?_))
  rw [jn_eq]
  have kk : ∀ x A6 V6 E6 m0, DI nC nS V E P A6 V6 E6 (insA r 12 bk x) m0 n1 n2 → kdV V6 x = 13 → (kdV V x ≠ 0 → PM V E P x) → (∀ ll, xr V6 1202 x 0 = some ll → kdV V ll ≠ 0 → PM V E P ll) → Res ((rcv A6 (some x) 12).bind fun v7 =>
      (fX12_begin n v7 (nI bk) A6).bind fun g8 =>
      jl (fixG (fun _ _ => none) (fun (rc12 : (Int32) → (AH) → Option (Option Nat × AH)) (x10 : Int32) (A11 : AH) =>
      if nI Th ≤ (nI L * x10) then (some (some x, A11)) else
      (gR A11 (some x) 12 2).bind fun v14 =>
      (rcv A11 (some (P 2)) 2).bind fun v15 =>
      (fX2_warp n v15 (some x) x10 (if (nI Th - (nI L * x10)) < nI L then (nI Th - (nI L * x10)) else nI L) A11).bind fun g16 =>
      (rcv g16.2 v14 0).bind fun v17 =>
      (fJ2_add v17 g16.1 g16.2).bind fun g18 =>
      rc12 (x10 + (1 : Int32)) g18.2) n) fun j9 =>
      j9 (0 : Int32) g8) (fun g => ∃ V' E' b r' m0 m1 m2, g.1 = some b ∧ DI nC nS V E P g.2 V' E' r' m0 m1 m2 ∧ BIx V' E' r' sl bk b L Th W ∧ RWx r r' sl bk b W) := by
    intro x A6 V6 E6 m0 h6 k6 hpx hpl
    obtain ⟨ll, l1, li6, l3, _, _⟩ := h6.2.2.1.li2 h6.2.2.2.1 (c := 12) (k := 2) (e := 13) k6 rfl
    have r12 : insA r 12 bk x 12 bk = some x := by rw [insA_at]; exact ins_at
    refine Res.b (h6.1.rc k6) (Res.w (e12_begin h6.1 (nI bk) k6 (h6.2.2.1.1 x 12 1 k6 (by decide)) l1 li6 hn) ?_)
    rintro A7 ⟨V7, s7, v7, f7, x7, li7, num7, t7⟩
    obtain ⟨d7, ds7, el7, _⟩ := h6.ch (V' := V7) (A' := A7) (dl := 0) (c := 12) (q := bk) (o := x) (ll := ll) (Or.inl rfl) r12 (by rw [if_pos rfl]; exact hbk) l1 v7 f7 (fun d => ⟨fun _ => (x7 d).1, (x7 d).2⟩) li7 hpx (hpl ll l1) rfl s7
    have ll7 : xr V7 1202 x 0 = some ll := by rw [(x7 1202).1]; exact l1
    have k7 : kdV V7 x = 13 := by rw [kdV, v7]; exact k6
    generalize setE E6 ll [] (cpL V6 E6 12 2 x) = E7 at *
    have bi7 : BIx V7 E7 (insA r 12 bk x) sl bk x L Th 0 := by
      refine ⟨k7, r12, num7, t7, by rw [el7]; rfl, fun i w hi => ?_⟩
      rw [el7] at hi
      cases hi
    have rw7 : RWx r (insA r 12 bk x) sl bk x 0 := ⟨insA_at, fun c h1 _ _ => insA_ne h1, fun q _ => by rw [insA_ne (by decide)], fun t _ => by rw [insA_ne (by decide)]⟩
    refine jl_R (fun dd (gg : Int32 → AH → Option (Option Nat × AH)) => ∀ j A8 V8 E8 r8 m1 m2, j + dd = W → DI nC nS V E P A8 V8 E8 r8 m0 m1 m2 → BIx V8 E8 r8 sl bk x L Th j → RWx r r8 sl bk x j → xr V8 1202 x 0 = some ll → Res (gg (nI j) A8) (fun g => ∃ V' E' b r' m0 m1 m2, g.1 = some b ∧ DI nC nS V E P g.2 V' E' r' m0 m1 m2 ∧ BIx V' E' r' sl bk b L Th W ∧ RWx r r' sl bk b W)) W (show W < n by omega) ?_ ?_ ?_
    · intro gg j A8 V8 E8 r8 m1 m2 hj d8 bi8 rw8 _
      have ej : j = W := by omega
      subst ej
      have hle : Th ≤ L * j := by
        have := hWj j
        omega
      have hb : L * j ≤ 32 * 16 := Nat.mul_le_mul hL hW16
      rw [pk_mul, if_pos (c_le hle (by omega))]
      exact Res.r ⟨V8, E8, x, r8, m0, m1, m2, rfl, d8, bi8, rw8⟩
    · intro dd gg hgg j A8 V8 E8 r8 m1 m2 hj d8 bi8 rw8 ll8
      have hlt : L * j < Th := (hWj j).mpr (by omega)
      have earg : (if (nI Th - (nI L * nI j)) < nI L then (nI Th - (nI L * nI j)) else nI L) = nI (min L (Th - L * j)) := by
        rw [pk_mul, pk_sub (by omega)]
        by_cases c : Th - L * j < L
        · rw [if_pos (nI_lt c (by omega)), Nat.min_eq_right (by omega)]
        · rw [if_neg (nI_nlt (by omega) (by omega)), Nat.min_eq_left (by omega)]
      obtain ⟨_, hst8⟩ := block_step (r := r) (r' := r8) d8 hw hg hS hC hbk hsl hinj hL1 hL hW16 (show j < W by omega) bi8 rw8 ll8 hpx (hpl ll l1) hn
      rw [if_neg (by rw [pk_mul]; exact c_nle hlt (by omega)), earg, nI_1]
      refine Res.b ((d8.1.gr 2 (c := 12) bi8.1 (by decide) rfl).trans (congrArg some ll8)) (Res.b (d8.1.rc d8.P2) (Res.w hst8 ?_))
      rintro ⟨g1, A9⟩ ⟨y, e9, rc9, r9⟩
      have e9 : g1 = some y := e9
      subst e9
      refine Res.b rc9 (Res.w r9 ?_)
      rintro ⟨g2, A10⟩ ⟨V10, E10, r10, m1', m2', d10, bi10, rw10, ll10⟩
      exact hgg (j + 1) A10 V10 E10 r10 m1' m2' (by omega) d10 bi10 rw10 ll10
    · intro gg hgg
      exact hgg 0 A7 V7 E7 _ n1 n2 (by omega) d7 bi7 rw7 ll7
  by_cases c0 : (lt V E 2 0 (P 2)).length = 0
  · have e0 : lt V E 2 0 (P 2) = [] := List.length_eq_zero_iff.mp c0
    rw [b2i_t c0, if_neg (by decide)]
    have hp0 := hst.new0
    obtain ⟨_, _, _, b3, b4⟩ := h.room (k := 0) (q := bk) (by omega) e0 h12 (fun _ => hbk) (fun z => by omega) (fun z => by omega)
    rw [if_pos rfl] at b3 b4
    obtain ⟨tC, eC⟩ : ∃ t, nC + rqP V E P + ptC V E r P n0 n1 n2 = t + 3 + 1 := ⟨nC + rqP V E P + ptC V E r P n0 n1 n2 - 4, by omega⟩
    obtain ⟨tS, eS⟩ : ∃ t, nS + 4 * rqP V E P + ptS V E r P n0 n1 n2 = t + 75 + 3 := ⟨nS + 4 * rqP V E P + ptS V E r P n0 n1 n2 - 78, by omega⟩
    have hst1 := hst
    rw [eC, eS] at hst1
    obtain ⟨A1, e1, _, s1⟩ := hst1.no 12 (n := tS + 75) dfX12 (by decide) (by decide) rfl (by show tS + 75 + 3 ≤ _; omega)
    refine Res.b e1 ?_
    have k1 : kdV (vNew V (hN A) 12) (hN A) = 13 := if_pos rfl
    refine Res.w (e12_init s1 k1) ?_
    rintro A2 ⟨V2, ll, s2, l0, hkd, f2, hxl, li2, o1⟩
    obtain ⟨E2, d2, ds2, kp2, hl0⟩ := h.nwl (A' := A2) (V' := V2) (k := 0) (q := bk) (p := hN A) (ll := ll) (by omega) e0 h12 (fun _ => hbk) (fun z => by omega) hp0 l0 hkd f2 hxl li2 (fun j hj => by
      have e := (owl_m hj).2.2 rfl
      subst e
      exact o1) (by
      rw [if_pos rfl, if_pos rfl, eC, eS]
      exact s2.mono (by omega) (by omega))
    refine kk (hN A) A2 V2 E2 (n0 + 1) d2 kp2 (fun z => absurd hp0 z) (fun l hl z => ?_)
    have : l = ll := Option.some.inj (hl.symm.trans hxl)
    subst this
    exact absurd hl0 z
  · rw [b2i_f c0, if_pos rfl]
    obtain ⟨l, x, hlx⟩ : ∃ l0 last, lt V E 2 0 (P 2) = l0 ++ [last] := ⟨(lt V E 2 0 (P 2)).dropLast, (lt V E 2 0 (P 2)).getLast (by intro z; rw [z] at c0; exact c0 rfl), (List.dropLast_concat_getLast _).symm⟩
    have hlen : (lt V E 2 0 (P 2)).length = l.length + 1 := by rw [hlx, List.length_append]; rfl
    refine Res.b (L_size hst li) ?_
    have hb := li.2.2.1
    have hb2 := li.2.2.2.2.1
    rw [hlen, nI_sub1 (by omega), show l.length + 1 - 1 = l.length by omega]
    obtain ⟨pl', y1, hr⟩ := h.pop (k := 0) (q := bk) (x := x) (l := l) (by omega) hlx h12 (fun _ => hbk) (fun z => by omega) (fun z => by omega)
    have : pl' = pl := Option.some.inj (y1.symm.trans x1)
    subst this
    refine Res.w hr ?_
    rintro ⟨g1, A1⟩ ⟨e1, V1, E1, d1, s1, k1⟩
    have e1 : g1 = some x := e1
    subst e1
    have hxm : x ∈ lt V E 2 0 (P 2) := by rw [hlx]; exact List.mem_append_right _ (List.mem_singleton.mpr rfl)
    have hxk := pool_kd hw hg hP (k := 0) (by omega) hxm
    have kx : kdV V1 x = 13 := s1.kv (c := 12) hxk
    refine Res.b (d1.1.cs kx) (kk x A1 V1 E1 n0 d1 kx (fun _ => Or.inr (Or.inl ⟨0, by omega, hxm⟩)) (fun ll hll _ => ?_))
    rw [show (1202 : Nat) = 100 * 12 + 2 from rfl, (s1.2.2 x 12 2 hxk (Or.inr (by decide))).1] at hll
    exact Or.inr (Or.inr ⟨0, x, by omega, hxm, hll⟩)
end C70
