/-! C58: asks in the model's new order -/
theorem cnB_ex {f : Nat → Bool} {t : Nat} : ∀ n, t < cnB f n → ∃ k, k < n ∧ f k = true ∧ cnB f k = t
  | 0, h => absurd h (Nat.not_lt_zero _)
  | n + 1, h => by
    rw [cnB_s] at h
    by_cases c : t < cnB f n
    · obtain ⟨k, h1, h2⟩ := cnB_ex n c
      exact ⟨k, by omega, h2⟩
    · cases hf : f n with
      | true =>
        rw [hf, if_pos rfl] at h
        exact ⟨n, by omega, hf, by omega⟩
      | false =>
        rw [hf, if_neg (by decide)] at h
        omega
theorem cnB_mo {f : Nat → Bool} {k k' : Nat} (h : k < k') (hf : f k = true) : cnB f k < cnB f k' := by
  have e2 : k' = (k + 1) + (k' - (k + 1)) := by omega
  rw [e2, cnB_add, cnB_s, hf, if_pos rfl]
  omega
theorem cnB_uq {f : Nat → Bool} {k k' : Nat} (hf : f k = true) (hf' : f k' = true) (h : cnB f k = cnB f k') : k = k' := by
  apply Classical.byContradiction
  intro hne
  by_cases c : k < k'
  · have := cnB_mo c hf; omega
  · have := cnB_mo (show k' < k by omega) hf'; omega
section C58
variable {nC nS n : Nat} {A A' : AH} {V V' V'' : CW} {E E' : EL} {ad ad' ad1 : AA} {M M' : MS} {P : PP} {T Bk b1 b2 p : Nat}
theorem pend_GB (cp : CP V E ad1 (iter dnS 0 p M) P) (hq : HQ V E ad1 (iter dnS 0 p M) P T) (hco : ∃ S1 S2, CO V (P 4) Bk b1 b2 S1 S2) (hkn : KN' V E (iter dnS 0 p M) P) (an : adN ad ad1 M p) (hlen : (lt V E 3 0 (P 3)).length = cnB (fun q => oS (ad1 15 q)) p) (hp : ∀ k, (∃ a, ad 15 k = some a) ↔ k < p) (hp2 : p ≤ 4096) (h41 : M.1 41 = nI p) (h42 : ∀ k, k < p → M.1 42 ≤ M.2.1 19 k) : ∃ ad', GB V E ad' (z_pend M p) P T Bk b1 b2 ∧ ∀ c, c ≠ 15 → ad' c = ad c := by
  have hdf := dn_frm M p
  have hcnt : cnB (fun q => oS (ad1 15 q)) p = cnB (kpB M) p := by
    refine cnB_c p (fun q hq' => ?_)
    by_cases c : kpB M q = true
    · obtain ⟨a, ha⟩ := (hp q).mpr hq'
      rw [an.2.2 q (Or.inr c), ha, c]
      rfl
    · rw [an.2.1 q hq' c]
      cases hh : kpB M q with
      | false => rfl
      | true => exact absurd hh c
  by_cases c42 : M.1 42 ≤ M.1 15
  · -- the list is made anew
    obtain ⟨e1, e2, ⟨e3, e4⟩, e5, e6, e7⟩ := pdI M p
    have ez : z_pend M p = pdE (iter pdS 0 p (0, mI M 42 2147483647)) := by
      unfold z_pend
      rw [if_pos c42]
    rw [ez]
    unfold pdE
    rw [e1]
    generalize (iter pdS 0 p (0, mI M 42 2147483647)).2 = X at *
    have fX : frm [41, 42] [19, 20, 21, 22, 23, 24] (iter dnS 0 p M) (mI X 41 (nI (cnB (kpB M) p))) := by
      refine ⟨fun k hk => ?_, fun j hj => ?_, ?_⟩
      · simp only [List.mem_cons, List.not_mem_nil, or_false] at hk
        rw [mI_g, if_neg (by omega), e2.1 k (by simp only [List.mem_cons, List.not_mem_nil, or_false]; omega), hdf.1 k List.not_mem_nil]
      · simp only [List.mem_cons, List.not_mem_nil, or_false] at hj
        show X.2.1 j = _
        by_cases c2 : j = 2
        · rw [c2]; exact e3
        · by_cases c13 : j = 13
          · rw [c13]; exact e4
          · rw [e2.2.1 j (by simp only [List.mem_cons, List.not_mem_nil, or_false]; omega), hdf.2.1 j (by simp only [List.mem_cons, List.not_mem_nil, or_false]; omega)]
      · show X.2.2 = _
        rw [e2.2.2, hdf.2.2]
    have kex : ∀ t, ∃ k, t < cnB (kpB M) p → (k < p ∧ kpB M k = true ∧ cnB (kpB M) k = t) := fun t => by
      by_cases c : t < cnB (kpB M) p
      · obtain ⟨k, hk⟩ := cnB_ex p c
        exact ⟨k, fun _ => hk⟩
      · exact ⟨0, fun z => absurd z c⟩
    obtain ⟨kx, hkx⟩ := Classical.skolem.mp kex
    obtain ⟨ad', ead⟩ : ∃ ad' : AA, ad' = fun c q => if c = 15 then (if q < cnB (kpB M) p then ad 15 (kx q) else none) else ad c q := ⟨_, rfl⟩
    have aO : ∀ c, c ≠ 15 → ad' c = ad c := fun c hc => by
      rw [ead]
      funext q
      exact if_neg hc
    have aO1 : ∀ c, c ≠ 15 → ad' c = ad1 c := fun c hc => (aO c hc).trans (an.1 c hc).symm
    have a15 : ∀ q a, ad' 15 q = some a → q < cnB (kpB M) p ∧ ad1 15 (kx q) = some a ∧ kx q < p ∧ kpB M (kx q) = true ∧ cnB (kpB M) (kx q) = q := by
      intro q a ha
      rw [ead] at ha
      have ha : (if q < cnB (kpB M) p then ad 15 (kx q) else none) = some a := ha
      by_cases c : q < cnB (kpB M) p
      · rw [if_pos c] at ha
        obtain ⟨z1, z2, z3⟩ := hkx q c
        exact ⟨c, by rw [an.2.2 _ (Or.inr z2)]; exact ha, z1, z2, z3⟩
      · rw [if_neg c] at ha; cases ha
    have a15m : ∀ k a, ad1 15 k = some a → ad' 15 (cnB (kpB M) k) = some a ∧ k < p ∧ kpB M k = true := by
      intro k a ha
      obtain ⟨z1, z2⟩ := an.s ha
      have hkp := (hp k).mp ⟨a, z1⟩
      have hkk : kpB M k = true := z2.resolve_left (by omega)
      have hlt : cnB (kpB M) k < cnB (kpB M) p := cnB_mo hkp hkk
      obtain ⟨y1, y2, y3⟩ := hkx _ hlt
      have e : kx (cnB (kpB M) k) = k := cnB_uq y2 hkk y3
      refine ⟨?_, hkp, hkk⟩
      rw [ead]
      show (if cnB (kpB M) k < cnB (kpB M) p then ad 15 (kx (cnB (kpB M) k)) else none) = some a
      rw [if_pos hlt, e]
      exact z1
    have hs := cp.2.2.2
    have fm := fm_frm fX (by decide) (by decide) (by decide) (by decide) (by decide)
    obtain ⟨q1, ⟨t1, t2, tn, t3, t4⟩, ⟨q2, q3, q4⟩, ⟨q5, q6⟩, q7⟩ := hq
    refine ⟨ad', ⟨⟨((cp.1.frm' fX (by decide) (by
      intro j hj
      simp only [List.mem_cons, List.not_mem_nil, or_false]
      omega)).a15 aO1), cp.2.1, cp.2.2.1, (hs.fm fm.1 fm.2.1 fm.2.2.1 fm.2.2.2.1 fm.2.2.2.2).a15 aO1 (fun q q' a h1 h2 => ?_) (fun q a h1 => hs.kk (a15 q a h1).2.1)⟩, HP_HQ.mpr ⟨⟨cnB (kpB M) p, ?_, by rw [hlen, hcnt], fun k => ⟨fun ⟨a, ha⟩ => (a15 k a ha).1, fun hk => ?_⟩⟩, ⟨fun t a ha => ?_, ⟨t1, t2, fun t => tn (kx t), fun t a ha => t3 _ a (a15 t a ha).2.1, fun t t' a htt ha => ?_⟩, ⟨q2, fun y => (q3 y).trans ⟨fun ⟨k, hk⟩ => ⟨_, (a15m k y hk).1⟩, fun ⟨t, ht⟩ => ⟨_, (a15 t y ht).2.1⟩⟩, q4⟩, ⟨q5, fun i y hi t ht => q6 i y hi _ (a15 t y ht).2.1⟩, q7⟩⟩, hco, ?_⟩, aO⟩
    · obtain ⟨_, y1, _, _, y2⟩ := a15 q a h1
      obtain ⟨_, z1, _, _, z2⟩ := a15 q' a h2
      have := hs.1.1 15 _ _ a (by decide) y1 z1
      rw [← y2, ← z2, this]
    · rw [mI_g, if_pos rfl]
    · obtain ⟨z1, z2, z3⟩ := hkx k hk
      obtain ⟨a, ha⟩ := (hp (kx k)).mpr z1
      refine ⟨a, ?_⟩
      rw [ead]
      show (if k < cnB (kpB M) p then ad 15 (kx k) else none) = some a
      rw [if_pos hk]
      exact ha
    · obtain ⟨z1, z2, z3, z4, z5⟩ := a15 t a ha
      have hak := q1 _ a z2
      obtain ⟨o, d, q, bk, s, i, b1, ⟨b2, b3, b4, b5⟩, ⟨b6, b7, b8, b9, b10, b11⟩, l, b12, b13⟩ := hak
      have rw' : ∀ j, 19 ≤ j → j ≤ 24 → (mI X 41 (nI (cnB (kpB M) p))).2.1 j t = (iter dnS 0 p M).2.1 j (kx t) := fun j h1 h2 => by
        show X.2.1 j t = _
        have := e6 j (kx t) h1 h2 z3 z4
        rw [z5] at this
        rw [this, hdf.2.1 j (by simp only [List.mem_cons, List.not_mem_nil, or_false]; omega)]
      refine ⟨o, d, q, bk, s, i, b1, ⟨by rw [rw' 21 (by omega) (by omega)]; exact b2, by rw [rw' 20 (by omega) (by omega)]; exact b3, by rw [rw' 22 (by omega) (by omega)]; exact b4, by rw [fX.a 9]; exact b5⟩, ⟨by rw [rw' 19 (by omega) (by omega)]; exact b6, b7, b8, by rw [rw' 23 (by omega) (by omega)]; exact b9, by rw [rw' 24 (by omega) (by omega)]; exact b10, b11⟩, l, by rw [aO1 14 (by decide)]; exact b12, b13⟩
    · obtain ⟨z1, z2, z3, z4, z5⟩ := a15 t' a ha
      obtain ⟨y1, y2, y3⟩ := hkx t (by omega)
      have hlt : kx t < kx t' := by
        apply Classical.byContradiction
        intro hn
        by_cases e : kx t = kx t'
        · rw [e, z5] at y3; omega
        · have := cnB_mo (f := kpB M) (show kx t' < kx t by omega) z4
          omega
      exact t4 _ _ a hlt z2
    · exact hkn.iob IB.rf fX.2.2
  · have ez : z_pend M p = M := by
      unfold z_pend
      rw [if_neg c42]
    have hall : ∀ k, k < p → kpB M k = true := fun k hk => decide_eq_true (Int32.lt_of_lt_of_le (Int32.not_le.mp c42) (h42 k hk))
    have hid : iter dnS 0 p M = M := by
      have := dn_id M (a := 0) p (fun k _ hk => hall k (by omega))
      rw [Nat.zero_add] at this
      exact this
    rw [ez]
    rw [hid] at cp hq hkn
    have hk1 : ∀ k, (∃ a, ad1 15 k = some a) ↔ k < p := fun k => by
      constructor
      · rintro ⟨a, ha⟩
        exact (hp k).mp ⟨a, (an.s ha).1⟩
      · intro hk
        obtain ⟨a, ha⟩ := (hp k).mpr hk
        exact ⟨a, by rw [an.2.2 k (Or.inr (hall k hk))]; exact ha⟩
    have hcp : cnB (kpB M) p = p := by
      have h1 := cnB_le (kpB M) p
      have h2 := (cnB_all (f := kpB M) p).mpr hall
      omega
    exact ⟨ad1, ⟨cp, HP_HQ.mpr ⟨⟨p, h41, by rw [hlen, hcnt, hcp], hk1⟩, hq⟩, hco, hkn⟩, an.1⟩
end C58
