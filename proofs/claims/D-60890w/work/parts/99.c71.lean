/-! C71: a unit takes a block; the model's begin -/
section C71
variable {nC nS n : Nat} {A A' : AH} {V V' V'' V0 : CW} {E E' E'' E0 : EL} {r r' : AA} {P : PP}
theorem e8_take (h : St nC nS A V) {uu b bl cap S : Nat} {ws : List Nat} (hu : kdV V uu = 9) (ou : OW V 8 0 uu S) (hS : S ≤ 16) (hb : kdV V b = 13) (hbl : xr V 1202 b 0 = some bl) (li : LI V bl 13 ws cap) (hW : ws.length ≤ 16) (f : Nat → Bool) (hf : ∀ k, k < S → (f k = true ↔ xr V 850 uu k = none)) (hn : 17 < n) :
    Res (fX8_take n uu (some b) A) (fun A' => ∃ V', St nC nS A' V' ∧ QF (fun _ => False) V V' ∧ (∀ a, a ≠ uu → xr V' 850 a = xr V 850 a) ∧ ∀ k, k < S → xr V' 850 uu k = if (f k = true ∧ cnB f k < ws.length) then ws[cnB f k]? else xr V 850 uu k) := by
  obtain ⟨y, y1, y2, y3⟩ := ou
  have y1 : xr V 800 uu 0 = some y := y1
  have y3 : xn V 800 uu = S := y3
  unfold fX8_take
  refine jl_R (fun d (g : Int32 → Int32 → AH → Option AH) => ∀ k A3 V3, k + d = S → St nC nS A3 V3 → QF (fun _ => False) V V3 → (∀ a, a ≠ uu → xr V3 850 a = xr V 850 a) → (∀ j, j < S → xr V3 850 uu j = if (j < k ∧ f j = true ∧ cnB f j < ws.length) then ws[cnB f j]? else xr V 850 uu j) → Res (g (nI (min (cnB f k) ws.length)) (nI k) A3) (fun A' => ∃ V', St nC nS A' V' ∧ QF (fun _ => False) V V' ∧ (∀ a, a ≠ uu → xr V' 850 a = xr V 850 a) ∧ ∀ k, k < S → xr V' 850 uu k = if (f k = true ∧ cnB f k < ws.length) then ws[cnB f k]? else xr V 850 uu k)) S (show S < n by omega) ?_ ?_ ?_
  · intro g k A3 V3 hk s3 q3 ho hr
    have ek : k = S := by omega
    have hk3 := q3.kv hu
    have x1 : xr V3 800 uu 0 = some y := by rw [(q3.2.2.2 uu (fun z => z) 800).2.2 (by decide)]; exact y1
    have x2 : fr V3 y = none := by rw [q3.2.2.1.1]; exact y2
    have x3 : xn V3 800 uu = S := by rw [(q3.2.2.2 uu (fun z => z) 800).2.1]; exact y3
    refine Res.b ((s3.gr 0 (c := 8) hk3 (by decide) rfl).trans (congrArg some x1)) (Res.b ((s3.ln (c := 8) (k := 0) hk3 (by decide) x1 x2).trans (congrArg (fun z => some (nI z)) x3)) ?_)
    rw [jn_eq, if_pos (c_le (by omega) (by omega))]
    refine Res.r ⟨V3, s3, q3, ho, fun j hj => ?_⟩
    rw [hr j hj]
    by_cases c : f j = true ∧ cnB f j < ws.length
    · rw [if_pos ⟨by omega, c⟩, if_pos c]
    · rw [if_neg (fun z => c z.2), if_neg c]
  · intro d g hg k A3 V3 hk s3 q3 ho hr
    have hk3 := q3.kv hu
    have hb3 := q3.kv hb
    have x1 : xr V3 800 uu 0 = some y := by rw [(q3.2.2.2 uu (fun z => z) 800).2.2 (by decide)]; exact y1
    have x2 : fr V3 y = none := by rw [q3.2.2.1.1]; exact y2
    have x3 : xn V3 800 uu = S := by rw [(q3.2.2.2 uu (fun z => z) 800).2.1]; exact y3
    have xb : xr V3 1202 b 0 = some bl := by rw [(q3.2.2.2 b (fun z => z) 1202).2.2 (by decide)]; exact hbl
    have li3 : LI V3 bl 13 ws cap := li.qf q3 (fun z => z)
    have hc16 : cnB f k ≤ k := cnB_le f k
    refine Res.b ((s3.gr 0 (c := 8) hk3 (by decide) rfl).trans (congrArg some x1)) (Res.b ((s3.ln (c := 8) (k := 0) hk3 (by decide) x1 x2).trans (congrArg (fun z => some (nI z)) x3)) ?_)
    rw [jn_eq, if_neg (c_nle (by omega) (by omega))]
    refine Res.b ((s3.gr 2 (c := 12) hb3 (by decide) rfl).trans (congrArg some xb)) (Res.b (s3.rc li3.1) (Res.b (L_size s3 li3) ?_))
    by_cases cw : ws.length ≤ cnB f k
    · rw [Nat.min_eq_right cw, if_pos (Int32.le_refl _)]
      refine Res.r ⟨V3, s3, q3, ho, fun j hj => ?_⟩
      rw [hr j hj]
      by_cases c : f j = true ∧ cnB f j < ws.length
      · have hjk : j < k := by
          by_cases e : j < k
          · exact e
          · exfalso
            have := cnB_add f k (j - k)
            rw [show k + (j - k) = j by omega] at this
            omega
        rw [if_pos ⟨hjk, c⟩, if_pos c]
      · rw [if_neg (fun z => c z.2), if_neg c]
    · rw [Nat.min_eq_left (by omega), if_neg (c_nle (by omega) (by omega))]
      have hval : xr V3 850 uu k = xr V 850 uu k := by rw [hr k (by omega), if_neg (fun z => absurd z.1 (by omega))]
      refine Res.b ((s3.ar k (c := 8) (k := 0) hk3 (Or.inr rfl) x1 x2 (by show k < xn V3 800 uu; omega) (by omega)).trans (congrArg some hval)) ?_
      rw [jn_eq]
      by_cases cf : f k = true
      · have hnone := (hf k (by omega)).mp cf
        rw [if_pos hnone]
        obtain ⟨w, hw⟩ := lt_ge (l := ws) (i := cnB f k) (by omega)
        have hwk : kdV V3 w = 14 := li3.kd hw
        obtain ⟨A4, e4, s4⟩ := s3.sr k (some w) (c := 8) (k := 0) hk3 (Or.inr rfl) x1 x2 (by show k < xn V3 800 uu; omega) (by omega) (s3.st4 hwk)
        have s4 : St nC nS A4 (vR' V3 850 uu k (some w)) := s4
        refine Res.b (L_get s3 li3 hw) (Res.b (s3.cs (c := 13) hwk) (Res.b e4 ?_))
        rw [nI_1, nI_1]
        have e1 : cnB f k + 1 = min (cnB f (k + 1)) ws.length := by
          rw [cnB_s, if_pos cf]
          omega
        rw [e1]
        refine hg (k + 1) A4 _ (by omega) s4 (q3.tr QF.v8) (fun a ha => ?_) (fun j hj => ?_)
        · rw [← ho a ha]
          funext i
          rw [vRr, if_neg (fun z => ha z.2.1)]
        · rw [vRr]
          by_cases e : j = k
          · rw [if_pos ⟨rfl, rfl, e⟩, e, if_pos ⟨by omega, cf, by omega⟩, hw]
          · rw [if_neg (fun z => e z.2.2), hr j hj]
            by_cases c : j < k ∧ f j = true ∧ cnB f j < ws.length
            · rw [if_pos c, if_pos ⟨by omega, c.2⟩]
            · rw [if_neg c, if_neg (fun z => c ⟨by omega, z.2⟩)]
      · have hnone : ¬ xr V 850 uu k = none := fun z => cf ((hf k (by omega)).mpr z)
        rw [if_neg hnone, nI_1]
        have e1 : cnB f k = min (cnB f (k + 1)) ws.length := by
          rw [cnB_s, if_neg cf]
          omega
        rw [e1]
        refine hg (k + 1) A3 V3 (by omega) s3 q3 ho (fun j hj => ?_)
        rw [hr j hj]
        by_cases c : j < k ∧ f j = true ∧ cnB f j < ws.length
        · rw [if_pos c, if_pos ⟨by omega, c.2⟩]
        · rw [if_neg c, if_neg]
          rintro ⟨z1, z2, z3⟩
          by_cases e : j = k
          · rw [e] at z2
            exact cf z2
          · exact c ⟨by omega, z2, z3⟩
  · intro g hg
    have e0 : (0 : Int32) = nI (min (cnB f 0) ws.length) := by
      rw [show cnB f 0 = 0 from rfl, Nat.zero_min]
      rfl
    have := hg 0 A V (by omega) h QF.rf (fun _ _ => rfl) (fun j hj => by rw [if_neg (fun z => absurd z.1 (Nat.not_lt_zero _))])
    rw [← e0] at this
    exact this
end C71
section C71b
variable {M N : MS}
/-- a row of ints of one array is set -/
theorem iter_mA {f : Nat → MS → MS} {j off : Nat} {v : Int32} (hf : ∀ i X, f i X = mA X j (off + i) v) (M : MS) : ∀ n, frm [] [j] M (iter f 0 n M) ∧ ∀ x, (iter f 0 n M).2.1 j x = if (off ≤ x ∧ x < off + n) then v else M.2.1 j x
  | 0 => ⟨frm.rf, fun x => by rw [if_neg (by omega)]; rfl⟩
  | n + 1 => by
    obtain ⟨h1, h2⟩ := iter_mA hf M n
    rw [iter_last, Nat.zero_add, hf]
    generalize iter f 0 n M = Y at *
    refine ⟨h1.mA (List.mem_singleton.mpr rfl), fun x => ?_⟩
    rw [mA_a, if_pos rfl]
    by_cases e : x = off + n
    · rw [e, pk_us, if_pos (by omega)]
    · rw [pk_un e, h2 x]
      by_cases c : off ≤ x ∧ x < off + n
      · rw [if_pos c, if_pos (by omega)]
      · rw [if_neg c, if_neg (by omega)]
/-- one thread begins -/
theorem bwS_P (M : MS) (t : Nat) : frm [] [13, 14, 15, 16, 17] M (bwS t M) ∧ (∀ j, 14 ≤ j → j ≤ 17 → ∀ x, (bwS t M).2.1 j x = if x = t then 0 else M.2.1 j x) ∧ ∀ x, (bwS t M).2.1 13 x = if (16 * t ≤ x ∧ x < 16 * t + 16) then 0 else M.2.1 13 x := by
  obtain ⟨h1, h2⟩ := iter_mA (f := bwR t) (j := 13) (off := 16 * t) (v := 0) (fun _ _ => rfl) (mA (mA (mA (mA M 15 t 0) 14 t 0) 16 t 0) 17 t 0) 16
  have h0 : frm [] [13, 14, 15, 16, 17] M (mA (mA (mA (mA M 15 t 0) 14 t 0) 16 t 0) 17 t 0) := (((frm.rf.mA (by decide)).mA (by decide)).mA (by decide)).mA (by decide)
  refine ⟨h0.tr (h1.up (by decide) (by decide)), fun j j1 j2 x => ?_, fun x => ?_⟩
  · show (iter (bwR t) 0 16 _).2.1 j x = _
    rw [h1.2.1 j (by simp only [List.mem_singleton]; omega)]
    have : j = 14 ∨ j = 15 ∨ j = 16 ∨ j = 17 := by omega
    rcases this with e | e | e | e <;> subst e
    · rw [mA_a, if_neg (by decide), mA_a, if_neg (by decide), mA_a, if_pos rfl]
      by_cases c : x = t
      · rw [c, pk_us, if_pos rfl]
      · rw [pk_un c, if_neg c, mA_a, if_neg (by decide)]
    · rw [mA_a, if_neg (by decide), mA_a, if_neg (by decide), mA_a, if_neg (by decide), mA_a, if_pos rfl]
      by_cases c : x = t
      · rw [c, pk_us, if_pos rfl]
      · rw [pk_un c, if_neg c]
    · rw [mA_a, if_neg (by decide), mA_a, if_pos rfl]
      by_cases c : x = t
      · rw [c, pk_us, if_pos rfl]
      · rw [pk_un c, if_neg c, mA_a, if_neg (by decide), mA_a, if_neg (by decide)]
    · rw [mA_a, if_pos rfl]
      by_cases c : x = t
      · rw [c, pk_us, if_pos rfl]
      · rw [pk_un c, if_neg c, mA_a, if_neg (by decide), mA_a, if_neg (by decide), mA_a, if_neg (by decide)]
  · show (iter (bwR t) 0 16 _).2.1 13 x = _
    have e13 : (mA (mA (mA (mA M 15 t 0) 14 t 0) 16 t 0) 17 t 0).2.1 13 = M.2.1 13 := rfl
    rw [h2 x, e13]
theorem bwI_P (M : MS) (a : Nat) : ∀ n, frm [] [13, 14, 15, 16, 17] M (iter bwS a n M) ∧ (∀ j, 14 ≤ j → j ≤ 17 → ∀ x, (iter bwS a n M).2.1 j x = if (a ≤ x ∧ x < a + n) then 0 else M.2.1 j x) ∧ ∀ x, (iter bwS a n M).2.1 13 x = if (16 * a ≤ x ∧ x < 16 * (a + n)) then 0 else M.2.1 13 x
  | 0 => ⟨frm.rf, fun j _ _ x => by rw [if_neg (by omega)]; rfl, fun x => by rw [if_neg (by omega)]; rfl⟩
  | n + 1 => by
    obtain ⟨h1, h2, h3⟩ := bwI_P M a n
    rw [iter_last]
    generalize iter bwS a n M = Y at *
    obtain ⟨g1, g2, g3⟩ := bwS_P Y (a + n)
    refine ⟨h1.tr g1, fun j j1 j2 x => ?_, fun x => ?_⟩
    · rw [g2 j j1 j2 x, h2 j j1 j2 x]
      by_cases e : x = a + n
      · rw [if_pos e, if_pos (by omega)]
      · rw [if_neg e]
        by_cases c : a ≤ x ∧ x < a + n
        · rw [if_pos c, if_pos (by omega)]
        · rw [if_neg c, if_neg (by omega)]
    · rw [g3 x, h3 x]
      by_cases e : 16 * (a + n) ≤ x ∧ x < 16 * (a + n) + 16
      · rw [if_pos e, if_pos (by omega)]
      · rw [if_neg e]
        by_cases c : 16 * a ≤ x ∧ x < 16 * (a + n)
        · rw [if_pos c, if_pos (by omega)]
        · rw [if_neg c, if_neg (by omega)]
/-- a slot of the model is as before -/
def slE (M N : MS) (q : Nat) : Prop := N.2.1 9 q = M.2.1 9 q ∧ N.2.1 10 q = M.2.1 10 q ∧ N.2.1 11 q = M.2.1 11 q ∧ (∀ i, i < 20 → N.2.1 12 (20 * q + i) = M.2.1 12 (20 * q + i)) ∧ ∀ i, i < 32 → (∀ j, 14 ≤ j → j ≤ 17 → N.2.1 j (32 * q + i) = M.2.1 j (32 * q + i)) ∧ ∀ x, x < 16 → N.2.1 13 (16 * (32 * q + i) + x) = M.2.1 13 (16 * (32 * q + i) + x)
/-- a slot of the model is empty but for its block and warp -/
def slN (N : MS) (q bk w : Nat) : Prop := N.2.1 9 q = nI bk ∧ N.2.1 10 q = nI w ∧ N.2.1 11 q = 0 ∧ (∀ i, i < 20 → N.2.1 12 (20 * q + i) = 0) ∧ ∀ i, i < 32 → (∀ j, 14 ≤ j → j ≤ 17 → N.2.1 j (32 * q + i) = 0) ∧ ∀ x, x < 16 → N.2.1 13 (16 * (32 * q + i) + x) = 0
theorem slE.tr {M N N' : MS} {q : Nat} (h : slE M N q) (h2 : slE N N' q) : slE M N' q := ⟨h2.1.trans h.1, h2.2.1.trans h.2.1, h2.2.2.1.trans h.2.2.1, fun i hi => (h2.2.2.2.1 i hi).trans (h.2.2.2.1 i hi), fun i hi => ⟨fun j j1 j2 => ((h2.2.2.2.2 i hi).1 j j1 j2).trans ((h.2.2.2.2 i hi).1 j j1 j2), fun x hx => ((h2.2.2.2.2 i hi).2 x hx).trans ((h.2.2.2.2 i hi).2 x hx)⟩⟩
theorem slE.rf {M : MS} {q : Nat} : slE M M q := ⟨rfl, rfl, rfl, fun _ _ => rfl, fun _ _ => ⟨fun _ _ _ => rfl, fun _ _ => rfl⟩⟩
theorem slN.e {N N' : MS} {q bk w : Nat} (h : slN N q bk w) (h2 : slE N N' q) : slN N' q bk w := ⟨h2.1.trans h.1, h2.2.1.trans h.2.1, h2.2.2.1.trans h.2.2.1, fun i hi => (h2.2.2.2.1 i hi).trans (h.2.2.2.1 i hi), fun i hi => ⟨fun j j1 j2 => ((h2.2.2.2.2 i hi).1 j j1 j2).trans ((h.2.2.2.2 i hi).1 j j1 j2), fun x hx => ((h2.2.2.2.2 i hi).2 x hx).trans ((h.2.2.2.2 i hi).2 x hx)⟩⟩
/-- one slot begins -/
theorem bg1_P (M : MS) (k bk w : Nat) : slN (z_bw (iter (tk0 k) 0 20 (mA (mA (mA M 9 k (nI bk)) 10 k (nI w)) 11 k 0)) k) k bk w ∧ ∀ q, q ≠ k → slE M (z_bw (iter (tk0 k) 0 20 (mA (mA (mA M 9 k (nI bk)) 10 k (nI w)) 11 k 0)) k) q := by
  obtain ⟨h1, h2⟩ := iter_mA (f := tk0 k) (j := 12) (off := 20 * k) (v := 0) (fun _ _ => rfl) (mA (mA (mA M 9 k (nI bk)) 10 k (nI w)) 11 k 0) 20
  have e9 : (mA (mA (mA M 9 k (nI bk)) 10 k (nI w)) 11 k 0).2.1 9 = upd (M.2.1 9) k (nI bk) := by rw [mA_a, if_neg (by decide), mA_a, if_neg (by decide), mA_a, if_pos rfl]
  have e10 : (mA (mA (mA M 9 k (nI bk)) 10 k (nI w)) 11 k 0).2.1 10 = upd (M.2.1 10) k (nI w) := by rw [mA_a, if_neg (by decide), mA_a, if_pos rfl, mA_a, if_neg (by decide)]
  have e11 : (mA (mA (mA M 9 k (nI bk)) 10 k (nI w)) 11 k 0).2.1 11 = upd (M.2.1 11) k 0 := by rw [mA_a, if_pos rfl, mA_a, if_neg (by decide), mA_a, if_neg (by decide)]
  have eo : ∀ j, j ≠ 9 → j ≠ 10 → j ≠ 11 → (mA (mA (mA M 9 k (nI bk)) 10 k (nI w)) 11 k 0).2.1 j = M.2.1 j := fun j a b c => by rw [mA_a, if_neg c, mA_a, if_neg b, mA_a, if_neg a]
  generalize mA (mA (mA M 9 k (nI bk)) 10 k (nI w)) 11 k 0 = X at *
  generalize iter (tk0 k) 0 20 X = Y at *
  obtain ⟨g1, g2, g3⟩ := bwI_P Y (32 * k) 32
  have eZ : z_bw Y k = iter bwS (32 * k) 32 Y := rfl
  rw [eZ]
  generalize iter bwS (32 * k) 32 Y = Z at *
  refine ⟨⟨?_, ?_, ?_, fun i hi => ?_, fun i hi => ⟨fun j j1 j2 => ?_, fun x hx => ?_⟩⟩, fun q hq => ⟨?_, ?_, ?_, fun i hi => ?_, fun i hi => ⟨fun j j1 j2 => ?_, fun x hx => ?_⟩⟩⟩
  · rw [g1.a 9, h1.a 9, e9, pk_us]
  · rw [g1.a 10, h1.a 10, e10, pk_us]
  · rw [g1.a 11, h1.a 11, e11, pk_us]
  · rw [g1.a 12, h2, if_pos (by omega)]
  · rw [g2 j j1 j2, if_pos (by omega)]
  · rw [g3, if_pos (by omega)]
  · rw [g1.a 9, h1.a 9, e9, pk_un hq]
  · rw [g1.a 10, h1.a 10, e10, pk_un hq]
  · rw [g1.a 11, h1.a 11, e11, pk_un hq]
  · rw [g1.a 12, h2, if_neg (by omega), eo 12 (by decide) (by decide) (by decide)]
  · rw [g2 j j1 j2, if_neg (by omega), h1.2.1 j (by simp only [List.mem_singleton]; omega), eo j (by omega) (by omega) (by omega)]
  · rw [g3, if_neg (by omega), h1.a 13, eo 13 (by decide) (by decide) (by decide)]
/-- free slots of a unit, as the model has them -/
def frB (M : MS) (u k : Nat) : Bool := decide (M.2.1 9 (16 * u + k) = -1)
def tkn (M : MS) (u W d q : Nat) : Prop := ∃ k, q = 16 * u + k ∧ k < d ∧ frB M u k = true ∧ cnB (frB M u) k < W
theorem bgI_P (M : MS) (u bk W : Nat) (hbk : bk < 64) : ∀ d, (iter (bgS bk W) (16 * u) d (0, M)).1 = min (cnB (frB M u) d) W ∧ (∀ k, k < d → frB M u k = true → cnB (frB M u) k < W → slN (iter (bgS bk W) (16 * u) d (0, M)).2 (16 * u + k) bk (cnB (frB M u) k)) ∧ ∀ q, ¬ tkn M u W d q → slE M (iter (bgS bk W) (16 * u) d (0, M)).2 q
  | 0 => ⟨by rw [show cnB (frB M u) 0 = 0 from rfl, Nat.zero_min]; rfl, fun k hk => absurd hk (Nat.not_lt_zero _), fun q _ => slE.rf⟩
  | d + 1 => by
    obtain ⟨h1, h2, h3⟩ := bgI_P M u bk W hbk d
    rw [iter_last]
    generalize iter (bgS bk W) (16 * u) d (0, M) = c at *
    have hnt : ¬ tkn M u W d (16 * u + d) := fun ⟨k, a, b, _⟩ => by omega
    have h9 : c.2.2.1 9 (16 * u + d) = M.2.1 9 (16 * u + d) := (h3 _ hnt).1
    have same : ¬ (frB M u d = true ∧ cnB (frB M u) d < W) → c.1 = min (cnB (frB M u) (d + 1)) W ∧ (∀ k, k < d + 1 → frB M u k = true → cnB (frB M u) k < W → slN c.2 (16 * u + k) bk (cnB (frB M u) k)) ∧ ∀ q, ¬ tkn M u W (d + 1) q → slE M c.2 q := by
      intro hno
      refine ⟨?_, fun k hk hf hw => ?_, fun q hq => ?_⟩
      · rw [h1, cnB_s]
        by_cases e : frB M u d = true
        · rw [if_pos e]
          have : ¬ cnB (frB M u) d < W := fun z => hno ⟨e, z⟩
          omega
        · rw [if_neg e]
          rfl
      · by_cases e : k = d
        · rw [e] at hf hw
          exact absurd ⟨hf, hw⟩ hno
        · exact h2 k (by omega) hf hw
      · exact h3 q (fun ⟨k, a, b, cc⟩ => hq ⟨k, a, by omega, cc⟩)
    unfold bgS
    by_cases cW : W ≤ c.1
    · rw [if_pos cW]
      exact same (fun z => by omega)
    · rw [if_neg cW]
      by_cases c9 : c.2.2.1 9 (16 * u + d) = -1
      · rw [if_pos c9]
        have hf : frB M u d = true := decide_eq_true (h9.symm.trans c9)
        have hc1 : c.1 = cnB (frB M u) d := by omega
        obtain ⟨g1, g2⟩ := bg1_P c.2 (16 * u + d) bk c.1
        refine ⟨?_, fun k hk hfk hw => ?_, fun q hq => ?_⟩
        · show c.1 + 1 = _
          rw [cnB_s, if_pos hf]
          omega
        · by_cases e : k = d
          · rw [e, ← hc1]
            exact g1
          · exact (h2 k (by omega) hfk hw).e (g2 _ (by omega))
        · have hqd : q ≠ 16 * u + d := fun z => hq ⟨d, z, by omega, hf, by omega⟩
          exact (h3 q (fun ⟨k, a, b, cc⟩ => hq ⟨k, a, by omega, cc⟩)).tr (g2 q hqd)
      · rw [if_neg c9]
        exact same (fun z => c9 (h9.trans (of_decide_eq_true z.1)))
/-- what begins in the model -/
theorem begin_P (M : MS) (u bk W S : Nat) (hbk : bk < 64) : frm [] [9, 10, 11, 12, 13, 14, 15, 16, 17, 18] M (z_begin M u bk W S) ∧ (∀ k, k < S → frB M u k = true → cnB (frB M u) k < W → slN (z_begin M u bk W S) (16 * u + k) bk (cnB (frB M u) k)) ∧ (∀ q, ¬ tkn M u W S q → slE M (z_begin M u bk W S) q) ∧ ∀ x, (z_begin M u bk W S).2.1 18 x = if (64 * bk ≤ x ∧ x < 64 * bk + 64) then 0 else M.2.1 18 x := by
  obtain ⟨h1, h2, h3⟩ := bgI_P M u bk W hbk S
  have hfr : frm [] [9, 10, 11, 12, 13, 14, 15, 16, 17] M (iter (bgS bk W) (16 * u) S (0, M)).2 := by
    refine iter_ind (f := bgS bk W) (fun _ c => frm [] [9, 10, 11, 12, 13, 14, 15, 16, 17] M c.2) frm.rf (fun i c _ _ hc => hc.tr (bgS_frm bk W i c))
  unfold z_begin
  generalize iter (bgS bk W) (16 * u) S (0, M) = c at *
  obtain ⟨g1, g2⟩ := iter_mA (f := sh0 bk) (j := 18) (off := 64 * bk) (v := 0) (fun _ _ => rfl) c.2 64
  have hs : ∀ q, slE c.2 (iter (sh0 bk) 0 64 c.2) q := fun q => ⟨by rw [g1.a 9], by rw [g1.a 10], by rw [g1.a 11], fun i _ => by rw [g1.a 12], fun i _ => ⟨fun j j1 j2 => by rw [g1.2.1 j (by simp only [List.mem_singleton]; omega)], fun x _ => by rw [g1.a 13]⟩⟩
  refine ⟨(hfr.up (by decide) (by decide)).tr (g1.up (by decide) (by decide)), fun k hk hf hw => (h2 k hk hf hw).e (hs _), fun q hq => (h3 q hq).tr (hs q), fun x => ?_⟩
  rw [g2 x, hfr.a 18]
end C71b
