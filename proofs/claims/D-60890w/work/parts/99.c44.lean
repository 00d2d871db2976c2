/-! C44: the barrier: look, isOver -/
section C44
variable {nC nS n : Nat} {A : AH} {V V' : CW} {E E' : EL} {ad : AA} {M M' : MS} {P : PP}
theorem ln_P6 (cp : CP V E ad M P) {s i : Nat} (hi : i < 32) (h : lnI M s i) : i < P 6 := by
  have h2 := h.1
  rw [cp.2.2.2.2.2.2.2.2.2.2.2.2.1.1] at h2
  have hP := cp.2.2.2.2.2.2.2.2.2.2.2.1.1
  apply Classical.byContradiction
  intro hn
  exact h2 (c_le (by omega) (by omega))
/-- all of a warp's lanes wait or have ended -/
theorem wp1 (cp : CP V E ad M P) {s w : Nat} (hw : ad 13 s = some w) (hNB : ∀ t l, ad 14 t = some l → ¬ (¬ M.2.1 16 t = 0 ∧ ¬ M.2.1 17 t = 0)) : nI (lt V E 13 2 w).length ≤ nI (cnB (fun j => decide (¬ M.2.1 16 (32 * s + j) = 0)) (lt V E 13 2 w).length) + nI (cnB (fun j => decide (¬ M.2.1 17 (32 * s + j) = 0)) (lt V E 13 2 w).length) ↔ ¬ ∃ i, i < P 6 ∧ bd1 M s i := by
  obtain ⟨hwk, _, hlen, hln, hlane, hlenP⟩ := cp.wl hw
  generalize lt V E 13 2 w = ls at *
  rw [nI_add, cnB_or ls.length (fun i hi z => ?_)]
  · have hle := cnB_le (fun i => decide (¬ M.2.1 16 (32 * s + i) = 0) || decide (¬ M.2.1 17 (32 * s + i) = 0)) ls.length
    have e1 : nI ls.length ≤ nI (cnB (fun i => decide (¬ M.2.1 16 (32 * s + i) = 0) || decide (¬ M.2.1 17 (32 * s + i) = 0)) ls.length) ↔ ls.length ≤ cnB (fun i => decide (¬ M.2.1 16 (32 * s + i) = 0) || decide (¬ M.2.1 17 (32 * s + i) = 0)) ls.length := ⟨fun z => Classical.byContradiction fun hn => c_nle (by omega) (by omega) z, fun z => c_le z (by omega)⟩
    rw [e1, cnB_all]
    constructor
    · rintro h ⟨i, hi, z1, z2, z3⟩
      have hP := cp.2.2.2.2.2.2.2.2.2.2.2.1.1
      have := h i ((hln i (by omega)).mp z3)
      rw [Bool.or_eq_true] at this
      rcases this with q | q
      · exact of_decide_eq_true q z1
      · exact of_decide_eq_true q z2
    · intro h i hi
      rw [Bool.or_eq_true]
      by_cases c1 : M.2.1 16 (32 * s + i) = 0
      · right
        refine decide_eq_true (fun c2 => h ⟨i, ?_, c1, c2, (hln i (by omega)).mpr hi⟩)
        omega
      · exact Or.inl (decide_eq_true c1)
  · obtain ⟨l, _, hl, _⟩ := hlane i hi
    exact hNB _ l hl ⟨of_decide_eq_true z.1, of_decide_eq_true z.2⟩
theorem wp2 (cp : CP V E ad M P) {s w : Nat} (hw : ad 13 s = some w) : nI (lt V E 13 2 w).length ≤ nI (cnB (fun j => decide (¬ M.2.1 16 (32 * s + j) = 0)) (lt V E 13 2 w).length) ↔ ¬ ∃ i, i < P 6 ∧ bd2 M s i := by
  obtain ⟨hwk, _, hlen, hln, hlane, hlenP⟩ := cp.wl hw
  generalize lt V E 13 2 w = ls at *
  have hle := cnB_le (fun i => decide (¬ M.2.1 16 (32 * s + i) = 0)) ls.length
  have e1 : nI ls.length ≤ nI (cnB (fun i => decide (¬ M.2.1 16 (32 * s + i) = 0)) ls.length) ↔ ls.length ≤ cnB (fun i => decide (¬ M.2.1 16 (32 * s + i) = 0)) ls.length := ⟨fun z => Classical.byContradiction fun hn => c_nle (by omega) (by omega) z, fun z => c_le z (by omega)⟩
  rw [e1, cnB_all]
  constructor
  · rintro h ⟨i, hi, z1, z3⟩
    have hP := cp.2.2.2.2.2.2.2.2.2.2.2.1.1
    exact of_decide_eq_true (h i ((hln i (by omega)).mp z3)) z1
  · intro h i hi
    exact decide_eq_true (fun c1 => h ⟨i, by omega, c1, (hln i (by omega)).mpr hi⟩)
theorem e12_isOver (h : St nC nS A V) (cp : CP V E ad M P) {bk b : Nat} (hb : ad 12 bk = some b) (hn : 33 < n) : ∃ r, fX12_isOver n b A = some r ∧ (r = 0 ↔ (stC M (P 6) (nI bk)).2 = 0) := by
  obtain ⟨hbk, hb64, ⟨bl, cap, hxb, hlb⟩, hlenW, hslot⟩ := cp.bw hb
  have hW := cp.2.2.2.2.2.2.2.2.2.2.2.1.2.2.2.2
  have hst := (stO_P M (P 6) (nI bk) 128).2
  have hsb := fun {s : Nat} (hs : s < 128) (h9 : M.2.1 9 s = nI bk) => cp.sb hb hb64 hs h9
  generalize hws : lt V E 12 2 b = ws at *
  unfold fX12_isOver
  have : Res (jl (fixG (fun _ => none) (fun (rc3 : (Int32) → Option (Int32)) (x2 : Int32) =>
      (gR A (some b) 12 2).bind fun v4 =>
      (rcv A v4 0).bind fun v5 =>
      (fJ2_size v5 A).bind fun g6 =>
      if g6 ≤ x2 then (some (nb (1 : Int32))) else
      (fJ2_get v5 x2 A).bind fun g8 =>
      (cst A g8 13).bind fun v9 =>
      (rcv A g8 13).bind fun v10 =>
      (fX13_ended n v10 A).bind fun g11 =>
      (gR A g8 13 2).bind fun v12 =>
      (rcv A v12 0).bind fun v13 =>
      (fJ2_size v13 A).bind fun g14 =>
      if g14 ≤ g11 then (rc3 (x2 + (1 : Int32))) else
      some (nb (0 : Int32))) n) fun j1 => j1 (0 : Int32)) (fun r => r = 0 ↔ (stC M (P 6) (nI bk)).2 = 0) := by
    refine jl_R (fun d (g : Int32 → Option Int32) => ∀ k, k + d = ws.length → (∀ j w s : Nat, j < k → ws[j]? = some w → ad 13 s = some w → ¬ ∃ i, i < P 6 ∧ bd2 M s i) → Res (g (nI k)) (fun r => r = 0 ↔ (stC M (P 6) (nI bk)).2 = 0)) ws.length (show ws.length < n by omega) ?_ ?_ ?_
    · intro g k hk hall
      have ek : k = ws.length := by omega
      subst ek
      refine Res.b ((h.gr 2 (c := 12) hbk (by decide) rfl).trans (congrArg some hxb)) (Res.b (h.rc hlb.1) (Res.b (L_size h hlb) ?_))
      rw [if_pos (Int32.le_refl _)]
      refine Res.r ⟨fun z => absurd z (by decide), fun z => ?_⟩
      obtain ⟨s, hs, h9, hz⟩ := hst.mp z
      obtain ⟨w, j, q1, q2, q3, q4⟩ := hsb hs h9
      exact absurd hz (hall j w s (by omega) q4 q1)
    · intro d g hg k hk hall
      refine Res.b ((h.gr 2 (c := 12) hbk (by decide) rfl).trans (congrArg some hxb)) (Res.b (h.rc hlb.1) (Res.b (L_size h hlb) ?_))
      rw [if_neg (c_nle (by omega) (by omega)), nI_1]
      obtain ⟨w, hwj⟩ := lt_ge (l := ws) (i := k) (by omega)
      obtain ⟨s, s1, s2, s3, s4⟩ := hslot k w hwj
      obtain ⟨hwk, ⟨ll, cap', hxl, hli⟩, _⟩ := cp.wl s2
      refine Res.b (L_get h hlb hwj) (Res.b (h.cs hwk) (Res.b (h.rc hwk) (Res.b (e13_ended h cp s2 hn) (Res.b ((h.gr 2 (c := 13) hwk (by decide) rfl).trans (congrArg some hxl)) (Res.b (h.rc hli.1) (Res.b (L_size h hli) ?_))))))
      have hw2 := wp2 cp s2
      by_cases c : ∃ i, i < P 6 ∧ bd2 M s i
      · rw [if_neg (fun z => hw2.mp z c)]
        exact Res.r ⟨fun _ => hst.mpr ⟨s, s1, s3, c⟩, fun _ => rfl⟩
      · rw [if_pos (hw2.mpr c)]
        refine hg (k + 1) (by omega) (fun j w' s' hj hwj' hs' => ?_)
        by_cases e : j = k
        · subst e
          have ew : w' = w := Option.some.inj (hwj'.symm.trans hwj)
          subst ew
          have es := cp.2.2.2.1.1 13 s' s w' (by decide) hs' s2
          rw [es]
          exact c
        · exact hall j w' s' (by omega) hwj' hs'
    · intro g hg
      exact hg 0 (by omega) (fun j w s hj => absurd hj (Nat.not_lt_zero _))
  obtain ⟨r, hr, hr2⟩ := this
  exact ⟨r, hr, hr2⟩
/-- who waits no more -/
def relM (M : MS) (p : Int32) (L : Nat) : MS := (M.1, fun j => if j = 17 then (fun t => if (t / 32 < 128 ∧ t % 32 < L ∧ M.2.1 9 (t / 32) = p) then 0 else M.2.1 17 t) else M.2.1 j, M.2.2)
theorem relM_frm (M : MS) (p : Int32) (L : Nat) : frm [] [17] M (relM M p L) := ⟨fun _ _ => rfl, fun j hj => if_neg (fun z => hj (by rw [z]; decide)), rfl⟩
theorem e12_look (h : St nC nS A V) (cp : CP V E ad M P) {bk b : Nat} (hb : ad 12 bk = some b) (hNB : ∀ t l, ad 14 t = some l → ¬ (¬ M.2.1 16 t = 0 ∧ ¬ M.2.1 17 t = 0)) (hn : 33 < n) : Res (fX12_look n b A) (Nx nC nS V ad (if (stC M (P 6) (nI bk)).1 = 0 then M else relM M (nI bk) (P 6))) := by
  obtain ⟨hbk, hb64, ⟨bl, cap, hxb, hlb⟩, hlenW, hslot⟩ := cp.bw hb
  have hW := cp.2.2.2.2.2.2.2.2.2.2.2.1.2.2.2.2
  have hst := (stO_P M (P 6) (nI bk) 128).1
  have hsb := fun {s : Nat} (hs : s < 128) (h9 : M.2.1 9 s = nI bk) => cp.sb hb hb64 hs h9
  generalize hws : lt V E 12 2 b = ws at *
  unfold fX12_look
  refine jl_R (fun d (g : Int32 → Option AH) => ∀ k, k + d = ws.length → (∀ j w s : Nat, j < k → ws[j]? = some w → ad 13 s = some w → ¬ ∃ i, i < P 6 ∧ bd1 M s i) → Res (g (nI k)) (Nx nC nS V ad (if (stC M (P 6) (nI bk)).1 = 0 then M else relM M (nI bk) (P 6)))) ws.length (show ws.length < n by omega) ?_ ?_ ?_
  · intro g k hk hall
    have ek : k = ws.length := by omega
    subst ek
    refine Res.b ((h.gr 2 (c := 12) hbk (by decide) rfl).trans (congrArg some hxb)) (Res.b (h.rc hlb.1) (Res.b (L_size h hlb) ?_))
    rw [if_pos (Int32.le_refl _)]
    have hc1 : ¬ (stC M (P 6) (nI bk)).1 = 0 := fun z => by
      obtain ⟨s, hs, h9, hz⟩ := hst.mp z
      obtain ⟨w, j, q1, q2, q3, q4⟩ := hsb hs h9
      exact hall j w s (by omega) q4 q1 hz
    rw [if_neg hc1]
    -- all are let go
    refine jl_R (fun d (g : Int32 → AH → Option AH) => ∀ k A3 V3 M3, k + d = ws.length → St nC nS A3 V3 → IV V V3 → CX V3 ad M3 → frm [] [17] M M3 → (∀ t l, ad 14 t = some l → ((∃ j w : Nat, j < k ∧ ws[j]? = some w ∧ ad 13 (t / 32) = some w) → M3.2.1 17 t = 0) ∧ ((¬ ∃ j w : Nat, j < k ∧ ws[j]? = some w ∧ ad 13 (t / 32) = some w) → M3.2.1 17 t = M.2.1 17 t)) → Res (g (nI k) A3) (Nx nC nS V ad (relM M (nI bk) (P 6)))) ws.length (show ws.length < n by omega) ?_ ?_ ?_
    · intro g k A3 V3 M3 hk s3 i3 c3 f3 h17
      have ek : k = ws.length := by omega
      subst ek
      have hlb3 := hlb.iob i3.b
      refine Res.b ((s3.gr 2 (c := 12) (by rw [kdV, i3.1]; exact hbk) (by decide) rfl).trans (congrArg some (show xr V3 1202 b 0 = some bl by rw [i3.2.1.1]; exact hxb))) (Res.b (s3.rc hlb3.1) (Res.b (L_size s3 hlb3) ?_))
      rw [if_pos (Int32.le_refl _)]
      refine Res.r ⟨V3, s3, i3, c3.w17 ?_ ?_⟩
      · refine ⟨fun k hk => (f3.1 k hk).symm.trans rfl |>.symm.symm, fun j hj => ?_, ?_⟩
        · rw [(relM_frm M (nI bk) (P 6)).2.1 j hj, f3.2.1 j hj]
        · rw [f3.2.2]
          rfl
      · intro t l hl
        obtain ⟨y1, y2⟩ := h17 t l hl
        show (if (t / 32 < 128 ∧ t % 32 < P 6 ∧ M.2.1 9 (t / 32) = nI bk) then 0 else M.2.1 17 t) = _
        obtain ⟨w, hw⟩ := cp.2.2.2.2.2.2.2.2.1.2 t l hl
        have hs128 := cp.2.2.2.s128 hw
        have hlnI : t % 32 < P 6 := by
          obtain ⟨q1, q2, q3⟩ := cp.2.2.2.2.2.2.2.2.1.1 (t / 32) w hw
          have e : 32 * (t / 32) + t % 32 = t := by omega
          have := q3 (t % 32) (Nat.mod_lt _ (by decide))
          rw [e, hl] at this
          exact ln_P6 cp (Nat.mod_lt _ (by decide)) ((q2 _ (Nat.mod_lt _ (by decide))).mpr (ge_lt this))
        by_cases c : M.2.1 9 (t / 32) = nI bk
        · rw [if_pos ⟨hs128, hlnI, c⟩]
          obtain ⟨w', j, q1, q2, q3, q4⟩ := hsb hs128 c
          have ew : w' = w := Option.some.inj (q1.symm.trans hw)
          subst ew
          exact (y1 ⟨j, w', ge_lt q4, q4, hw⟩).symm
        · rw [if_neg (fun z => c z.2.2)]
          refine (y2 ?_).symm
          rintro ⟨j, w', q1, q2, q3⟩
          obtain ⟨s, s1, s2, s3', s4⟩ := hslot j w' q2
          have es := cp.2.2.2.1.1 13 s (t / 32) w' (by decide) s2 q3
          rw [es] at s3'
          exact c s3'
    · intro d g hg k A3 V3 M3 hk s3 i3 c3 f3 h17
      have hlb3 := hlb.iob i3.b
      refine Res.b ((s3.gr 2 (c := 12) (by rw [kdV, i3.1]; exact hbk) (by decide) rfl).trans (congrArg some (show xr V3 1202 b 0 = some bl by rw [i3.2.1.1]; exact hxb))) (Res.b (s3.rc hlb3.1) (Res.b (L_size s3 hlb3) ?_))
      rw [if_neg (c_nle (by omega) (by omega)), nI_1]
      obtain ⟨w, hwj⟩ := lt_ge (l := ws) (i := k) (by omega)
      obtain ⟨s, s1, s2, s3', s4⟩ := hslot k w hwj
      have cp3 := cp.nx i3 c3 (fm_frm f3 (by decide) (by decide) (by decide) (by decide) (by decide))
      have hwk3 := cp3.2.2.2.kk s2
      refine Res.b (L_get s3 hlb3 hwj) (Res.b (s3.cs hwk3) (Res.b (s3.rc hwk3) (Res.w (e13_release s3 cp3 s2 hn) ?_)))
      rintro A4 ⟨V4, s4', i4, c4⟩
      obtain ⟨r1, r2⟩ := relI M3 s (lt V3 E 13 2 w).length
      refine hg (k + 1) A4 V4 _ (by omega) s4' (i3.tr i4) c4 (f3.tr r1) (fun t l hl => ?_)
      rw [r2 t]
      obtain ⟨y1, y2⟩ := h17 t l hl
      by_cases e : t / 32 = s
      · have hlt : t < 32 * s + (lt V3 E 13 2 w).length := by
          obtain ⟨q1, q2, q3⟩ := cp3.2.2.2.2.2.2.2.2.1.1 s w s2
          have e' : 32 * s + t % 32 = t := by omega
          have := q3 (t % 32) (Nat.mod_lt _ (by decide))
          rw [e', hl] at this
          have := ge_lt this
          omega
        rw [if_pos ⟨by omega, hlt⟩]
        exact ⟨fun _ => rfl, fun z => absurd ⟨k, w, by omega, hwj, by rw [e]; exact s2⟩ z⟩
      · have hout : ¬ (32 * s ≤ t ∧ t < 32 * s + (lt V3 E 13 2 w).length) := by
          have := (cp3.wl s2).2.2.1
          omega
        rw [if_neg hout]
        have hiff : (∃ j w'' : Nat, j < k + 1 ∧ ws[j]? = some w'' ∧ ad 13 (t / 32) = some w'') → ∃ j w'' : Nat, j < k ∧ ws[j]? = some w'' ∧ ad 13 (t / 32) = some w'' := by
          rintro ⟨j, w'', q1, q2, q3⟩
          by_cases ej : j = k
          · subst ej
            have ew : w'' = w := Option.some.inj (q2.symm.trans hwj)
            subst ew
            exact absurd (cp.2.2.2.1.1 13 (t / 32) s w'' (by decide) q3 s2) e
          · exact ⟨j, w'', by omega, q2, q3⟩
        exact ⟨fun z => y1 (hiff z), fun z => y2 (fun ⟨j, w'', q1, q2, q3⟩ => z ⟨j, w'', by omega, q2, q3⟩)⟩
    · intro g hg
      refine hg 0 A V M (by omega) h IV.rf cp.1 frm.rf (fun t l _ => ⟨fun ⟨j, w, q1, _⟩ => by omega, fun _ => rfl⟩)
  · intro d g hg k hk hall
    refine Res.b ((h.gr 2 (c := 12) hbk (by decide) rfl).trans (congrArg some hxb)) (Res.b (h.rc hlb.1) (Res.b (L_size h hlb) ?_))
    rw [if_neg (c_nle (by omega) (by omega)), nI_1]
    obtain ⟨w, hwj⟩ := lt_ge (l := ws) (i := k) (by omega)
    obtain ⟨s, s1, s2, s3, s4⟩ := hslot k w hwj
    obtain ⟨hwk, ⟨ll, cap', hxl, hli⟩, _⟩ := cp.wl s2
    refine Res.b (L_get h hlb hwj) (Res.b (h.cs hwk) (Res.b (h.rc hwk) (Res.b (e13_ended h cp s2 hn) (Res.b (e13_waiting h cp s2 hn) (Res.b ((h.gr 2 (c := 13) hwk (by decide) rfl).trans (congrArg some hxl)) (Res.b (h.rc hli.1) (Res.b (L_size h hli) ?_)))))))
    have hw1 := wp1 cp s2 hNB
    by_cases c : ∃ i, i < P 6 ∧ bd1 M s i
    · rw [if_neg (fun z => hw1.mp z c)]
      have hc1 : (stC M (P 6) (nI bk)).1 = 0 := hst.mpr ⟨s, s1, s3, c⟩
      rw [if_pos hc1]
      exact Res.r ⟨V, h, IV.rf, cp.1⟩
    · rw [if_pos (hw1.mpr c)]
      refine hg (k + 1) (by omega) (fun j w' s' hj hwj' hs' => ?_)
      by_cases e : j = k
      · subst e
        have ew : w' = w := Option.some.inj (hwj'.symm.trans hwj)
        subst ew
        have es := cp.2.2.2.1.1 13 s' s w' (by decide) hs' s2
        rw [es]
        exact c
      · exact hall j w' s' (by omega) hwj' hs'
  · intro g hg
    exact hg 0 (by omega) (fun j w s hj => absurd hj (Nat.not_lt_zero _))
end C44
