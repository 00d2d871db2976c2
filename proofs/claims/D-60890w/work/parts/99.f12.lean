/-! F12: units are cleared -/
def ad15 (ad : AA) : AA := fun c q => if c = 15 then none else ad c q
section F12
variable {nC nS n : Nat} {A A' : AH} {V V' : CW} {E E' : EL} {ad ad' : AA} {M M' N : MS} {P : PP} {T Bk b1 b2 n0 n1 n2 u uu : Nat}
theorem ad15_o {c : Nat} (h : c ≠ 15) : ad15 ad c = ad c := by
  funext q
  exact if_neg h
theorem ad15_15 (k : Nat) : ad15 ad 15 k = none := if_pos rfl
theorem GX.gy (g : GX nC nS A V E ad M P T Bk b1 b2 n0 n1 n2) : GY nC nS A V E (ad15 ad) M P Bk b1 b2 n0 n1 n2 := by
  obtain ⟨s, ⟨⟨cx, gl, wt, sh⟩, hp, co, kn⟩, pn⟩ := g
  have o : ∀ c, c ≠ 15 → ad15 ad c = ad c := fun c hc => ad15_o hc
  obtain ⟨_, _, _, ⟨i0, i1, _⟩, ⟨i2, i3⟩, i4⟩ := hp
  refine ⟨?_, ⟨⟨cx.a15 o, gl, wt, sh.a15 o (fun k k' a ha => by rw [ad15_15] at ha; cases ha) (fun k a ha => by rw [ad15_15] at ha; cases ha)⟩, ⟨i0, i2, fun x hx hx' => ?_, i4⟩, co, kn⟩, ?_⟩
  · unfold ptC ptS at s ⊢
    rw [o 12 (by decide), o 13 (by decide)]
    exact s
  · obtain ⟨i, hi⟩ := List.getElem?_of_mem hx
    obtain ⟨j, hj⟩ := List.getElem?_of_mem hx'
    obtain ⟨k, hk⟩ := (i1 x).mp ⟨i, hi⟩
    exact i3 j x hj k hk
  · unfold PN at pn ⊢
    rw [o 12 (by decide), o 13 (by decide), o 14 (by decide)]
    exact pn
/-- the model's rows that are not tied to the heap change -/
theorem GY.m9 (g : GY nC nS A V E ad M P Bk b1 b2 n0 n1 n2) (hk : ∀ k, k ∈ [1, 2, 4, 6, 11, 12, 13, 14, 21, 15, 16, 17, 18, 22, 23, 24, 25, 26, 19, 20] → M'.1 k = M.1 k) (hj : ∀ j, (j < 9 ∨ (9 < j ∧ j < 19)) → M'.2.1 j = M.2.1 j) (h9 : ∀ s, s < 128 → M'.2.1 9 s = M.2.1 9 s) (hK : M'.2.2 = M.2.2) : GY nC nS A V E ad M' P Bk b1 b2 n0 n1 n2 := by
  obtain ⟨s, ⟨⟨cx, gl, wt, sh⟩, hl, co, kn⟩, pn⟩ := g
  refine ⟨s, ⟨⟨cx.mm (fun d hd => hk _ (fd_lst d hd)) hj, gl, wt, ?_⟩, hl, co, ?_⟩, pn⟩
  · have s128 := fun {s w : Nat} (ha : ad 13 s = some w) => sh.s128 ha
    obtain ⟨h1, h2, h3, h4, h5, h6, h7, h8, h9', h10, h11⟩ := sh
    have e1 : M'.1 1 = M.1 1 := hk 1 (by decide)
    have e2 : M'.1 2 = M.1 2 := hk 2 (by decide)
    have e13 : M'.1 13 = M.1 13 := hk 13 (by decide)
    have e10 : M'.2.1 10 = M.2.1 10 := hj 10 (by omega)
    refine ⟨h1, h2, h3, h4, ⟨fun s w hw => ?_, fun s hs hn => by rw [h9 s hs]; exact h5.2 s hs hn⟩, ⟨fun s w hw => ?_, h6.2⟩, fun bk b hb => ?_, h8, h9', by rw [e1, e2]; exact h10, h11⟩
    · rw [h9 s (s128 hw), e10]
      exact h5.1 s w hw
    · obtain ⟨y1, y2, y3⟩ := h6.1 s w hw
      exact ⟨y1, fun j hj' => by rw [lnI_m (M := M) e10 e1 e13]; exact y2 j hj', y3⟩
    · obtain ⟨y1, y2, y3⟩ := h7 bk b hb
      refine ⟨y1, y2, fun j w hj' => ?_⟩
      obtain ⟨s, z1, z2, z3, z4⟩ := y3 j w hj'
      exact ⟨s, z1, z2, by rw [h9 s z1]; exact z3, by rw [e10]; exact z4⟩
  · unfold KN' at kn ⊢
    rw [hK]
    exact ⟨kn.1, fun k w hw => (kn.2 k w hw).fm (fun k' x1 x2 => z_take_k _ _ _ k' x1 x2)⟩
/-- blocks keep to one unit -/
def oneU (M : MS) : Prop := ∀ s s', s < 128 → s' < 128 → M.2.1 9 s = M.2.1 9 s' → ¬ M.2.1 9 s = -1 → s / 16 = s' / 16
theorem e8_clear (hS : 10000 ≤ nS) (hC : 2 ≤ nC) (g : GY nC nS A V E ad M P Bk b1 b2 n0 n1 n2) (one : oneU M) (hu : ad 8 u = some uu) (hn : 40 < n) :
    Res (fX8_clear n uu (some (P 2)) A) (fun A' => ∃ V' E' ad' M', GY nC nS A' V' E' ad' M' P Bk b1 b2 n0 n1 n2 ∧ (∀ c, c ≠ 12 → c ≠ 13 → c ≠ 14 → ad' c = ad c) ∧ HFR V E V' E' P ∧ frm [] [9] M M' ∧ le9 M M' ∧ ∀ k, k < P 7 → M'.2.1 9 (16 * u + k) = -1) := by
  have hs := g.2.1.1.2.2.2
  have hP7 := hs.2.2.2.2.2.2.2.2.1.2.1
  have hP8 := hs.2.2.2.2.2.2.2.2.1.2.2.1
  have hu8 : u < P 8 := by
    have := hs.2.2.2.1.2.1 u
    rw [hu] at this
    have := ge_lt this
    rw [hs.2.2.2.1.1] at this
    exact this
  unfold fX8_clear
  refine jl_R (fun dd (gg : Int32 → AH → Option AH) => ∀ k A3 V3 E3 ad3 N, k + dd = P 7 → GY nC nS A3 V3 E3 ad3 N P Bk b1 b2 n0 n1 n2 → (∀ c, c ≠ 12 → c ≠ 13 → c ≠ 14 → ad3 c = ad c) → HFR V E V3 E3 P → frm [] [9] M N → le9 M N → (∀ k', k' < k → N.2.1 9 (16 * u + k') = -1) → Res (gg (nI k) A3) (fun A' => ∃ V' E' ad' M', GY nC nS A' V' E' ad' M' P Bk b1 b2 n0 n1 n2 ∧ (∀ c, c ≠ 12 → c ≠ 13 → c ≠ 14 → ad' c = ad c) ∧ HFR V E V' E' P ∧ frm [] [9] M M' ∧ le9 M M' ∧ ∀ k, k < P 7 → M'.2.1 9 (16 * u + k) = -1)) (P 7) (show P 7 < n by omega) ?_ ?_ ?_
  · intro gg k A3 V3 E3 ad3 N hk g3 had hf fr9 l9 hfree
    have ek : k = P 7 := by omega
    have hs3 := g3.2.1.1.2.2.2
    have hu3 : ad3 8 u = some uu := by rw [had 8 (by decide) (by decide) (by decide)]; exact hu
    obtain ⟨⟨y, y1, y2, y3⟩, hsl⟩ := hs3.2.2.2.1.2.2.1 u uu hu3
    have y3 : xn V3 800 uu = P 7 := y3
    refine Res.b ((g3.1.gr 0 (c := 8) (hs3.kk hu3) (by decide) rfl).trans (congrArg some y1)) (Res.b ((g3.1.ln (c := 8) (k := 0) (hs3.kk hu3) (by decide) y1 y2).trans (congrArg (fun z => some (nI z)) y3)) ?_)
    rw [if_pos (c_le (by omega) (by omega))]
    exact Res.r ⟨V3, E3, ad3, N, g3, had, hf, fr9, l9, fun k' hk' => hfree k' (by omega)⟩
  · intro dd gg hgg k A3 V3 E3 ad3 N hk g3 had hf fr9 l9 hfree
    have hs3 := g3.2.1.1.2.2.2
    have hu3 : ad3 8 u = some uu := by rw [had 8 (by decide) (by decide) (by decide)]; exact hu
    obtain ⟨⟨y, y1, y2, y3⟩, hsl⟩ := hs3.2.2.2.1.2.2.1 u uu hu3
    have y3 : xn V3 800 uu = P 7 := y3
    refine Res.b ((g3.1.gr 0 (c := 8) (hs3.kk hu3) (by decide) rfl).trans (congrArg some y1)) (Res.b ((g3.1.ln (c := 8) (k := 0) (hs3.kk hu3) (by decide) y1 y2).trans (congrArg (fun z => some (nI z)) y3)) ?_)
    rw [if_neg (c_nle (by omega) (by omega))]
    refine Res.b ((g3.1.ar k (c := 8) (k := 0) (hs3.kk hu3) (Or.inr rfl) y1 y2 (by show k < xn V3 800 uu; omega) (by omega)).trans (congrArg some (hsl k (by omega)))) ?_
    rw [jn_eq, nI_1]
    cases hw : ad3 13 (16 * u + k) with
    | none =>
      rw [if_pos rfl]
      have h9 := hs3.2.2.2.2.1.2 (16 * u + k) (by omega) hw
      refine hgg (k + 1) A3 V3 E3 ad3 N (by omega) g3 had hf fr9 l9 (fun k' hk' => ?_)
      by_cases e : k' = k
      · rw [e]; exact h9
      · exact hfree k' (by omega)
    | some w =>
      rw [if_neg (fun z => by cases z)]
      obtain ⟨bk, b, c1, c2, c3, c4⟩ := hs3.bl hw
      have hb9 : ¬ N.2.1 9 (16 * u + k) = -1 := fun z => by
        rw [c2] at z
        have h2 := nI_pos' (n := bk) (by omega)
        rw [z] at h2
        exact absurd h2 (by decide)
      have hM : M.2.1 9 (16 * u + k) = nI bk := by
        rcases l9 (16 * u + k) with z | z
        · rw [← z]; exact c2
        · exact absurd z hb9
      refine Res.b ((g3.1.gr 0 (c := 13) (hs3.kk hw) (by decide) rfl).trans (congrArg some c4)) (Res.b (g3.1.rc (hs3.kk hu3)) ?_)
      refine Res.w (blk_free hS hC g3 hu3 c3 c1 (fun s' hs' h9' => ?_) hn) ?_
      · have hM' : M.2.1 9 s' = nI bk := by
          rcases l9 s' with z | z
          · rw [← z]; exact h9'
          · rw [z] at h9'
            have h2 := nI_pos' (n := bk) (by omega)
            rw [← h9'] at h2
            exact absurd h2 (by decide)
        have := one (16 * u + k) s' (by omega) hs' (hM.trans hM'.symm) (by rw [hM, ← c2]; exact hb9)
        omega
      · rintro A4 ⟨rc4, r4⟩
        refine Res.b rc4 (Res.w r4 ?_)
        rintro A5 ⟨V5, E5, ad5, g5, had5, hf5⟩
        obtain ⟨f9, s9⟩ := rm9_f N (nI bk)
        refine hgg (k + 1) A5 V5 E5 ad5 (rm9 N (nI bk)) (by omega) g5 (fun c a1 a2 a3 => (had5 c a1 a2 a3).trans (had c a1 a2 a3)) (hf5.trans hf) (fr9.tr f9) (fun s => ?_) (fun k' hk' => ?_)
        · rw [s9 s]
          split
          · exact Or.inr rfl
          · exact l9 s
        · rw [s9]
          by_cases e : k' = k
          · rw [e, if_pos ⟨by omega, c2⟩]
          · rw [hfree k' (by omega)]
            split <;> rfl
  · intro gg hgg
    exact hgg 0 A V E ad M (by omega) g (fun _ _ _ _ => rfl) HFR.rf frm.rf (fun s => Or.inl rfl) (fun k' hk' => absurd hk' (Nat.not_lt_zero _))
theorem oneU.le (h : oneU M) (l9 : le9 M N) : oneU N := by
  intro s s' hs hs' he hn
  have e1 : N.2.1 9 s = M.2.1 9 s := (l9 s).resolve_right hn
  have e2 : N.2.1 9 s' = M.2.1 9 s' := (l9 s').resolve_right (fun z => hn (he.trans z))
  rw [e1] at hn
  rw [e1, e2] at he
  exact h s s' hs hs' he hn
theorem e7_free (hS : 10000 ≤ nS) (hC : 2 ≤ nC) (g : GY nC nS A V E ad M P Bk b1 b2 n0 n1 n2) (one : oneU M) (hn : 40 < n) :
    Res (fX7_free n (P 1) A) (fun A' => ∃ V' E' ad' M', GY nC nS A' V' E' ad' M' P Bk b1 b2 n0 n1 n2 ∧ (∀ c, c ≠ 12 → c ≠ 13 → c ≠ 14 → ad' c = ad c) ∧ HFR V E V' E' P ∧ frm [] [9] M M' ∧ (∀ s, s < 128 → M'.2.1 9 s = -1) ∧ le9 M M') := by
  have hs := g.2.1.1.2.2.2
  have hP8 := hs.2.2.2.2.2.2.2.2.1.2.2.1
  have hP7 := hs.2.2.2.2.2.2.2.2.1.2.1
  unfold fX7_free
  refine jl_R (fun dd (gg : Int32 → AH → Option AH) => ∀ v A3 V3 E3 ad3 N, v + dd = P 8 → GY nC nS A3 V3 E3 ad3 N P Bk b1 b2 n0 n1 n2 → (∀ c, c ≠ 12 → c ≠ 13 → c ≠ 14 → ad3 c = ad c) → HFR V E V3 E3 P → frm [] [9] M N → le9 M N → (∀ v' k, v' < v → k < P 7 → N.2.1 9 (16 * v' + k) = -1) → Res (gg (nI v) A3) (fun A' => ∃ V' E' ad' M', GY nC nS A' V' E' ad' M' P Bk b1 b2 n0 n1 n2 ∧ (∀ c, c ≠ 12 → c ≠ 13 → c ≠ 14 → ad' c = ad c) ∧ HFR V E V' E' P ∧ frm [] [9] M M' ∧ (∀ s, s < 128 → M'.2.1 9 s = -1) ∧ le9 M M')) (P 8) (show P 8 < n by omega) ?_ ?_ ?_
  · intro gg v A3 V3 E3 ad3 N hv g3 had hf fr9 l9 hfree
    have ev : v = P 8 := by omega
    have cp3 := g3.2.1.1
    have hs3 := cp3.2.2.2
    obtain ⟨ul, hxu, liu, _⟩ := cp3.2.2.1.li2 cp3.2.1 (c := 7) (k := 8) (e := 8) hs3.mm.2 rfl
    refine Res.b ((g3.1.gr 8 (c := 7) hs3.mm.2 (by decide) rfl).trans (congrArg some hxu)) (Res.b (g3.1.rc liu.1) (Res.b ((L_size g3.1 liu).trans (congrArg (fun z => some (nI z)) hs3.2.2.2.1.1)) ?_))
    rw [if_pos (c_le (by omega) (by omega))]
    refine Res.r ⟨V3, E3, ad3, N, g3, had, hf, fr9, fun s hs' => ?_, l9⟩
    cases hw : ad3 13 s with
    | none => exact hs3.2.2.2.2.1.2 s hs' hw
    | some w =>
      obtain ⟨z1, z2, _⟩ := hs3.2.2.2.2.1.1 s w hw
      have := hfree (s / 16) (s % 16) (by omega) z2
      rw [show 16 * (s / 16) + s % 16 = s by omega] at this
      exact this
  · intro dd gg hgg v A3 V3 E3 ad3 N hv g3 had hf fr9 l9 hfree
    have cp3 := g3.2.1.1
    have hs3 := cp3.2.2.2
    obtain ⟨ul, hxu, liu, _⟩ := cp3.2.2.1.li2 cp3.2.1 (c := 7) (k := 8) (e := 8) hs3.mm.2 rfl
    refine Res.b ((g3.1.gr 8 (c := 7) hs3.mm.2 (by decide) rfl).trans (congrArg some hxu)) (Res.b (g3.1.rc liu.1) (Res.b ((L_size g3.1 liu).trans (congrArg (fun z => some (nI z)) hs3.2.2.2.1.1)) ?_))
    rw [if_neg (c_nle (by omega) (by omega)), nI_1]
    obtain ⟨uu, huu⟩ := lt_ge (l := lt V3 E3 7 8 (P 1)) (i := v) (by rw [hs3.2.2.2.1.1]; omega)
    have hu3 : ad3 8 v = some uu := by rw [← hs3.2.2.2.1.2.1 v]; exact huu
    refine Res.b (L_get g3.1 liu huu) (Res.b (g3.1.cs (hs3.kk hu3)) (Res.b ((g3.1.gr 6 (c := 7) hs3.mm.2 (by decide) rfl).trans (congrArg some hs3.2.2.1.2.2.2.2.2.2.2.1)) (Res.b (g3.1.rc (hs3.kk hu3)) ?_)))
    refine Res.w (e8_clear hS hC g3 (one.le l9) hu3 hn) ?_
    rintro A4 ⟨V4, E4, ad4, N4, g4, had4, hf4, f4, l4, c4⟩
    refine hgg (v + 1) A4 V4 E4 ad4 N4 (by omega) g4 (fun c a1 a2 a3 => (had4 c a1 a2 a3).trans (had c a1 a2 a3)) (hf4.trans hf) (fr9.tr f4) (l9.tr l4) (fun v' k hv' hk => ?_)
    by_cases e : v' = v
    · rw [e]; exact c4 k hk
    · rcases l4 (16 * v' + k) with z | z
      · rw [z]; exact hfree v' k (by omega) hk
      · exact z
  · intro gg hgg
    exact hgg 0 A V E ad M (by omega) g (fun _ _ _ _ => rfl) HFR.rf frm.rf (fun s => Or.inl rfl) (fun v' k hv' => absurd hv' (Nat.not_lt_zero _))
end F12
