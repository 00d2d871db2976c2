/-! C12: groups as bits -/
theorem jl_R {τ α : Type} {bot : τ} {F : τ → τ} {n : Nat} {f : τ → Option α} {P : α → Prop} (Q : Nat → τ → Prop) (d : Nat) (hd : d < n) (h0 : ∀ g, Q 0 (F g)) (hs : ∀ d g, Q d g → Q (d + 1) (F g)) (k : ∀ g, Q d g → Res (f g) P) : Res (jl (fixG bot F n) f) P := k _ (fix_cnt Q h0 hs d n hd)
/-- in the group: awake, and no other one that is awake is at a lesser place -/
def gpP (M : MS) (s k j : Nat) : Prop := j < k ∧ awk M s j ∧ ∀ i, i < k → awk M s i → M.2.1 15 (32 * s + j) ≤ M.2.1 15 (32 * s + i)
def gpI (M : MS) (s k : Nat) (x b : Int32) : Prop := (∀ j, j < 32 → (bt b j = true ↔ gpP M s k j)) ∧ (∀ j, j < 32 → bt b j = true → M.2.1 15 (32 * s + j) = x) ∧ (b = 0 → ∀ i, i < k → ¬ awk M s i)
theorem bt_ne0 {b : Int32} (h : ¬ b = 0) : ∃ j, j < 32 ∧ bt b j = true := by
  apply Classical.byContradiction
  intro hn
  apply h
  apply bt_ext
  intro k hk
  rw [bt_0]
  cases e : bt b k with
  | false => rfl
  | true => exact absurd ⟨k, hk, e⟩ hn
theorem gpI_skip {M : MS} {s k : Nat} {x b : Int32} (h : gpI M s k x b) (hk : ¬ awk M s k) : gpI M s (k + 1) x b := by
  obtain ⟨h1, h2, h3⟩ := h
  refine ⟨fun j hj => (h1 j hj).trans ⟨fun ⟨a, b, c⟩ => ⟨by omega, b, fun i hi hw => ?_⟩, fun ⟨a, b, c⟩ => ⟨?_, b, fun i hi hw => c i (by omega) hw⟩⟩, h2, fun h0 i hi => ?_⟩
  · by_cases e : i = k
    · rw [e] at hw; exact absurd hw hk
    · exact c i (by omega) hw
  · by_cases e : j = k
    · rw [e] at b; exact absurd b hk
    · omega
  · by_cases e : i = k
    · rw [e]; exact hk
    · exact h3 h0 i (by omega)
theorem gpI_more {M : MS} {s k : Nat} {x b : Int32} (h : gpI M s k x b) (hb : ¬ b = 0) (hx : ¬ M.2.1 15 (32 * s + k) ≤ x) : gpI M s (k + 1) x b := by
  obtain ⟨h1, h2, h3⟩ := h
  obtain ⟨j0, hj0, hb0⟩ := bt_ne0 hb
  have hlt : x ≤ M.2.1 15 (32 * s + k) := Int32.le_of_lt (Int32.not_le.mp hx)
  refine ⟨fun j hj => (h1 j hj).trans ⟨fun ⟨a, b, c⟩ => ⟨by omega, b, fun i hi hw => ?_⟩, fun ⟨a, b, c⟩ => ⟨?_, b, fun i hi hw => c i (by omega) hw⟩⟩, h2, fun h0 => absurd h0 hb⟩
  · by_cases e : i = k
    · rw [e, h2 j hj ((h1 j hj).mpr ⟨a, b, c⟩)]
      exact hlt
    · exact c i (by omega) hw
  · by_cases e : j = k
    · exfalso
      obtain ⟨p1, p2, p3⟩ := (h1 j0 hj0).mp hb0
      have := c j0 (by omega) p2
      rw [h2 j0 hj0 hb0, e] at this
      exact hx this
    · omega
theorem gpI_take {M : MS} {s k : Nat} {x b b' : Int32} (h : gpI M s k x b) (hk : k < 32) (ha : awk M s k) (hx : b = 0 ∨ M.2.1 15 (32 * s + k) ≤ x) (hb : b' = if (b = 0 ∨ M.2.1 15 (32 * s + k) < x) then 0 else b) : gpI M s (k + 1) (M.2.1 15 (32 * s + k)) (b' ||| ((1 : Int32) <<< (nI k &&& 31))) := by
  obtain ⟨h1, h2, h3⟩ := h
  have hbit : ∀ j, j < 32 → (bt (b' ||| ((1 : Int32) <<< (nI k &&& 31))) j = true ↔ (bt b' j = true ∨ j = k)) := fun j hj => by
    rw [bt_or, bt_1 hk hj, Bool.or_eq_true, decide_eq_true_eq]
  have hmin : ∀ i, i < k → awk M s i → M.2.1 15 (32 * s + k) ≤ M.2.1 15 (32 * s + i) := by
    intro i hi hw
    rcases hx with h0 | hx
    · exact absurd hw (h3 h0 i hi)
    · by_cases h0 : b = 0
      · exact absurd hw (h3 h0 i hi)
      · obtain ⟨j0, hj0, hb0⟩ := bt_ne0 h0
        obtain ⟨p1, p2, p3⟩ := (h1 j0 hj0).mp hb0
        have := p3 i hi hw
        rw [h2 j0 hj0 hb0] at this
        exact Int32.le_trans hx this
  have hmem : ∀ j, j < 32 → bt b' j = true → gpP M s k j ∧ M.2.1 15 (32 * s + j) = M.2.1 15 (32 * s + k) := by
    intro j hj hbj
    by_cases c : b = 0 ∨ M.2.1 15 (32 * s + k) < x
    · rw [hb, if_pos c, bt_0] at hbj
      cases hbj
    · rw [hb, if_neg c] at hbj
      have e1 := h2 j hj hbj
      have e2 : M.2.1 15 (32 * s + k) = x := Int32.le_antisymm (hx.resolve_left (fun z => c (Or.inl z))) (Int32.not_lt.mp (fun z => c (Or.inr z)))
      exact ⟨(h1 j hj).mp hbj, e1.trans e2.symm⟩
  refine ⟨fun j hj => (hbit j hj).trans ⟨?_, fun ⟨a, bw, c⟩ => ?_⟩, fun j hj hbj => ?_, fun h0 => ?_⟩
  · rintro (z | z)
    · obtain ⟨⟨q1, q2, q3⟩, q4⟩ := hmem j hj z
      refine ⟨by omega, q2, fun i hi hw => ?_⟩
      by_cases e : i = k
      · rw [e, q4]; exact Int32.le_refl _
      · exact q3 i (by omega) hw
    · rw [z]
      refine ⟨by omega, ha, fun i hi hw => ?_⟩
      by_cases e : i = k
      · rw [e]; exact Int32.le_refl _
      · exact hmin i (by omega) hw
  · by_cases e : j = k
    · exact Or.inr e
    · left
      have hjk : M.2.1 15 (32 * s + j) ≤ M.2.1 15 (32 * s + k) := c k (by omega) ha
      have hkj := hmin j (by omega) bw
      have hg : gpP M s k j := ⟨by omega, bw, fun i hi hw => c i (by omega) hw⟩
      have hbj := (h1 j hj).mpr hg
      have hxx := h2 j hj hbj
      have hc : ¬ (b = 0 ∨ M.2.1 15 (32 * s + k) < x) := by
        rintro (z | z)
        · rw [z, bt_0] at hbj; cases hbj
        · rw [← hxx] at z
          exact absurd hjk (Int32.not_le.mpr z)
      rw [hb, if_neg hc]
      exact hbj
  · rcases (hbit j hj).mp hbj with z | z
    · exact (hmem j hj z).2
    · rw [z]
  · exfalso
    have := (hbit k hk).mpr (Or.inr rfl)
    rw [h0, bt_0] at this
    cases this
section C12
variable {nC nS : Nat} {A : AH} {V : CW} {w x n : Nat} {M : MS}
theorem LNs.ad {ls : List Nat} {s k l : Nat} (h : LNs V ls M s) (hk : ls[k]? = some l) : kdV V l = 15 ∧ LN V l M (32 * s + k) (M.2.1 15 (32 * s + k)) ∧ k < 32 := by
  have h1 := h.2.2 k l hk
  have h2 := (List.getElem?_eq_some_iff.mp hk).1
  exact ⟨h1.1, h1, by have := h.1; omega⟩
theorem e13_group (h : St nC nS A V) {ls : List Nat} {s : Nat} (hw : kdV V w = 14) (hwl : WL V w ls) (hl : LNs V ls M s) (hn : 33 < n) : Res (fX13_group n w A) (fun G => ∃ x, gpI M s ls.length x G) := by
  obtain ⟨ll, cap, hx, hli⟩ := hwl
  have hlen := hl.1
  unfold fX13_group
  refine jl_R (fun d (g : Int32 → Int32 → Int32 → Option Int32) => ∀ k x b, k + d = ls.length → gpI M s k x b → Res (g x b (nI k)) (fun G => ∃ x, gpI M s ls.length x G)) ls.length (show ls.length < n by omega) ?_ ?_ ?_
  · intro g k x b hk hi
    refine Res.b ((h.gr 2 (c := 13) hw (by decide) rfl).trans (congrArg some hx)) (Res.b (h.rc hli.1) (Res.b (L_size h hli) ?_))
    rw [if_pos (c_le (by omega) (by omega))]
    have : k = ls.length := by omega
    subst this
    exact Res.r ⟨x, hi⟩
  · intro d g hg k x b hk hi
    obtain ⟨l, hkl⟩ : ∃ l, ls[k]? = some l := ⟨ls[k]'(by omega), List.getElem?_eq_getElem (by omega)⟩
    obtain ⟨hl1, ⟨_, l2, l3, l4, l5, l6, l7, l8⟩, hk32⟩ := hl.ad hkl
    have hlnI : lnI M s k := (hl.2.1 k hk32).mpr (by omega)
    have hpl : gI A (some l) 14 2 = some (M.2.1 15 (32 * s + k)) := (h.gi 2 (c := 14) hl1 (by decide) rfl).trans (congrArg some l6)
    refine Res.b ((h.gr 2 (c := 13) hw (by decide) rfl).trans (congrArg some hx)) (Res.b (h.rc hli.1) (Res.b (L_size h hli) ?_))
    rw [if_neg (c_nle (by omega) (by omega))]
    refine Res.b (L_get h hli hkl) (Res.b (h.cs hl1) (Res.b ((h.gi 3 (c := 14) hl1 (by decide) rfl).trans (congrArg some l7)) ?_))
    rw [jn_eq, nI_1]
    by_cases c3 : M.2.1 16 (32 * s + k) = 0
    · rw [if_pos c3]
      refine Res.b ((h.gi 4 (c := 14) hl1 (by decide) rfl).trans (congrArg some l8)) ?_
      by_cases c4 : M.2.1 17 (32 * s + k) = 0
      · have hak : awk M s k := ⟨hlnI, c3, c4⟩
        rw [if_pos c4, jn_eq, jn_eq, jn_eq]
        by_cases hb : b = 0
        · rw [if_pos hb, if_pos hb]
          refine Res.b hpl (hg (k + 1) _ _ (by omega) ?_)
          exact gpI_take hi hk32 hak (Or.inl hb) (by rw [if_pos (Or.inl hb)])
        · rw [if_neg hb, if_neg hb, hpl, Option.bind_some, Option.bind_some]
          by_cases c : M.2.1 15 (32 * s + k) ≤ x
          · rw [if_pos c]
            by_cases c' : x ≤ M.2.1 15 (32 * s + k)
            · rw [if_pos c']
              refine Res.b rfl (hg (k + 1) _ _ (by omega) ?_)
              exact gpI_take hi hk32 hak (Or.inr c) (by rw [if_neg (fun z => z.elim hb (fun q => absurd c' (Int32.not_le.mpr q)))])
            · rw [if_neg c']
              refine Res.b rfl (hg (k + 1) _ _ (by omega) ?_)
              exact gpI_take hi hk32 hak (Or.inr c) (by rw [if_pos (Or.inr (Int32.not_le.mp c'))])
          · rw [if_neg c]
            exact hg (k + 1) _ _ (by omega) (gpI_more hi hb c)
      · rw [if_neg c4]
        exact hg (k + 1) _ _ (by omega) (gpI_skip hi (fun z => c4 z.2.2))
    · rw [if_neg c3]
      exact hg (k + 1) _ _ (by omega) (gpI_skip hi (fun z => c3 z.2.1))
  · intro g hg
    refine hg 0 0 0 (by omega) ⟨fun j hj => ?_, fun j hj hb => absurd ((bt_0 j).symm.trans hb) (by decide), fun _ i hi => by omega⟩
    rw [bt_0]
    exact ⟨fun z => absurd z (by decide), fun z => by have := z.1; omega⟩
/-- the bits of the group are those of the model's -/
theorem gpI_grp {ls : List Nat} {s L : Nat} {x G : Int32} (hl : LNs V ls M s) (hL : ∀ j, j < 32 → lnI M s j → j < L) (hL2 : L ≤ 32) (hi : gpI M s ls.length x G) : (∀ j, j < 32 → (bt G j = true ↔ ¬ (grM M s L).2.1 26 j = 0)) ∧ (G = 0 ↔ nb (iter (grS M s) 0 L (0, 0)).1 = 0) := by
  obtain ⟨h1, h2, h3⟩ := hi
  have hlt : ∀ i, i < 32 → awk M s i → i < ls.length := fun i hi hw => (hl.2.1 i hi).mp hw.1
  have h26 := (grp_26 M s (iter (grS M s) 0 L (0, 0))).2
  rcases grS_P M s L with ⟨e0, hno⟩ | ⟨e1, ⟨j0, hj0, ha0, hp0⟩, hle⟩
  · have hno2 : ∀ j, j < 32 → ¬ awk M s j := fun j hj hw => hno j (hL j hj hw.1) hw
    refine ⟨fun j hj => ?_, ?_⟩
    · rw [h1 j hj]
      constructor
      · intro z; exact absurd z.2.1 (hno2 j hj)
      · intro z
        exfalso
        apply z
        show (z_grp M s _).2.1 26 j = 0
        rw [h26 j hj, b2i_f (fun q => q.1 e0)]
    · rw [e0]
      refine ⟨fun _ => rfl, fun _ => ?_⟩
      apply Classical.byContradiction
      intro hG
      obtain ⟨j, hj, hb⟩ := bt_ne0 hG
      exact hno2 j hj ((h1 j hj).mp hb).2.1
  · refine ⟨fun j hj => ?_, ?_⟩
    · rw [h1 j hj]
      show _ ↔ ¬ (z_grp M s _).2.1 26 j = 0
      rw [h26 j hj, b2i_0, Classical.not_not, e1]
      constructor
      · rintro ⟨a, b, c⟩
        refine ⟨by decide, b, ?_⟩
        have u1 := c j0 (hlt j0 (by omega) ha0) ha0
        have u2 := hle j (hL j hj b.1) b
        rw [hp0] at u1
        exact Int32.le_antisymm u1 u2
      · rintro ⟨a, b, c⟩
        refine ⟨hlt j hj b, b, fun i hi hw => ?_⟩
        rw [c]
        exact hle i (hL i (by have := hl.1; omega) hw.1) hw
    · rw [e1]
      refine ⟨fun hG => ?_, fun z => absurd z (by decide)⟩
      exact absurd ha0 (h3 hG j0 (hlt j0 (by omega) ha0))
theorem e13_doing (h : St nC nS A V) {ls : List Nat} {s g : Nat} {G : Int32} (hw : kdV V w = 14) (hx : WM V x M) (hwl : WL V w ls) (hl : LNs V ls M s) (h56 : M.1 56 = nI g) (hg : g < 16) (hn : 33 < n) : Res (fX13_doing n w G (some x) A) (fun D => ∀ j, j < 32 → (bt D j = true ↔ j < ls.length ∧ bt G j = true ∧ doesP M (32 * s + j))) := by
  obtain ⟨ll, cap, hxl, hli⟩ := hwl
  have hlen := hl.1
  unfold fX13_doing
  refine jl_R (fun d (gg : Int32 → Int32 → Option Int32) => ∀ k b, k + d = ls.length → (∀ j, j < 32 → (bt b j = true ↔ j < k ∧ bt G j = true ∧ doesP M (32 * s + j))) → Res (gg b (nI k)) (fun D => ∀ j, j < 32 → (bt D j = true ↔ j < ls.length ∧ bt G j = true ∧ doesP M (32 * s + j)))) ls.length (show ls.length < n by omega) ?_ ?_ ?_
  · intro gg k b hk hi
    refine Res.b ((h.gr 2 (c := 13) hw (by decide) rfl).trans (congrArg some hxl)) (Res.b (h.rc hli.1) (Res.b (L_size h hli) ?_))
    rw [if_pos (c_le (by omega) (by omega))]
    have : k = ls.length := by omega
    subst this
    exact Res.r hi
  · intro d gg hgg k b hk hi
    obtain ⟨l, hkl⟩ : ∃ l, ls[k]? = some l := ⟨ls[k]'(by omega), List.getElem?_eq_getElem (by omega)⟩
    obtain ⟨hl1, hln, hk32⟩ := hl.ad hkl
    refine Res.b ((h.gr 2 (c := 13) hw (by decide) rfl).trans (congrArg some hxl)) (Res.b (h.rc hli.1) (Res.b (L_size h hli) ?_))
    rw [if_neg (c_nle (by omega) (by omega)), jn_eq, nI_1]
    have hno : ¬ (bt G k = true ∧ doesP M (32 * s + k)) → ∀ j, j < 32 → (bt b j = true ↔ j < k + 1 ∧ bt G j = true ∧ doesP M (32 * s + j)) := by
      intro hno j hj
      rw [hi j hj]
      constructor
      · rintro ⟨a, b⟩; exact ⟨by omega, b⟩
      · rintro ⟨a, b⟩
        refine ⟨?_, b⟩
        by_cases e : j = k
        · rw [e] at b; exact absurd b hno
        · omega
    by_cases c : bt G k = true
    · rw [if_pos ((bitP_bt _ hk32).mpr c)]
      refine Res.b (L_get h hli hkl) (Res.b (h.cs hl1) (Res.b (h.rc hl1) (Res.b (e14_does h hx hln h56 hg) ?_)))
      by_cases c2 : doesP M (32 * s + k)
      · rw [if_neg (by rw [b2i_0]; exact not_not_intro c2)]
        refine hgg (k + 1) _ (by omega) (fun j hj => ?_)
        rw [bt_or, bt_1 hk32 hj, Bool.or_eq_true, decide_eq_true_eq, hi j hj]
        constructor
        · rintro (⟨a, b⟩ | e)
          · exact ⟨by omega, b⟩
          · rw [e]; exact ⟨by omega, c, c2⟩
        · rintro ⟨a, b⟩
          by_cases e : j = k
          · exact Or.inr e
          · exact Or.inl ⟨by omega, b⟩
      · rw [if_pos (by rw [b2i_0]; exact c2)]
        exact hgg (k + 1) _ (by omega) (hno (fun z => c2 z.2))
    · rw [if_neg (fun z => c ((bitP_bt _ hk32).mp z))]
      exact hgg (k + 1) _ (by omega) (hno (fun z => c z.1))
  · intro gg hgg
    refine hgg 0 0 (by omega) (fun j hj => ?_)
    rw [bt_0]
    exact ⟨fun z => absurd z (by decide), fun z => by have := z.1; omega⟩
end C12
