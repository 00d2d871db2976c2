/-! J18: a new machine is the mill's -/
def Pm (P : PP) (m ca L S U G : Nat) : PP := fun i => if i = 1 then m else if i = 5 then ca else if i = 6 then L else if i = 7 then S else if i = 8 then U else if i = 9 then G else if i = 10 then 1 else P i
def adM (P : PP) (m ca : Nat) (us gs : List Nat) : AA := fun c k => if c = 8 then us[k]? else if c = 10 then gs[k]? else if k = 0 then (if c = 1 then some (P 0) else if c = 7 then some m else if c = 2 then some (P 2) else if c = 3 then some (P 3) else if c = 4 then some (P 4) else if c = 9 then some ca else none) else none
theorem adM_inv {P : PP} {m ca : Nat} {us gs : List Nat} {c k a : Nat} (h : adM P m ca us gs c k = some a) : (c = 8 ∧ us[k]? = some a) ∨ (c = 10 ∧ gs[k]? = some a) ∨ (k = 0 ∧ ((c = 1 ∧ a = P 0) ∨ (c = 7 ∧ a = m) ∨ (c = 2 ∧ a = P 2) ∨ (c = 3 ∧ a = P 3) ∨ (c = 4 ∧ a = P 4) ∨ (c = 9 ∧ a = ca))) := by
  unfold adM at h
  by_cases c8 : c = 8
  · rw [if_pos c8] at h
    exact Or.inl ⟨c8, h⟩
  · rw [if_neg c8] at h
    by_cases c10 : c = 10
    · rw [if_pos c10] at h
      exact Or.inr (Or.inl ⟨c10, h⟩)
    · rw [if_neg c10] at h
      by_cases k0 : k = 0
      · rw [if_pos k0] at h
        refine Or.inr (Or.inr ⟨k0, ?_⟩)
        split at h
        · exact Or.inl ⟨by assumption, (Option.some.inj h).symm⟩
        · split at h
          · exact Or.inr (Or.inl ⟨by assumption, (Option.some.inj h).symm⟩)
          · split at h
            · exact Or.inr (Or.inr (Or.inl ⟨by assumption, (Option.some.inj h).symm⟩))
            · split at h
              · exact Or.inr (Or.inr (Or.inr (Or.inl ⟨by assumption, (Option.some.inj h).symm⟩)))
              · split at h
                · exact Or.inr (Or.inr (Or.inr (Or.inr (Or.inl ⟨by assumption, (Option.some.inj h).symm⟩))))
                · split at h
                  · exact Or.inr (Or.inr (Or.inr (Or.inr (Or.inr ⟨by assumption, (Option.some.inj h).symm⟩))))
                  · cases h
      · rw [if_neg k0] at h
        cases h
/-- the model's memory fits a new machine -/
def MN (N : MS) (L S U B G I : Nat) (p12 : Int32) : Prop := (N.1 1 = nI L ∧ N.1 2 = nI S ∧ N.1 4 = nI B ∧ N.1 6 = nI I ∧ N.1 22 = p12) ∧ (∀ k, k ∈ [11, 12, 13, 14, 21, 15, 16, 17, 18, 23, 24, 25, 26, 19, 20, 41] → N.1 k = 0) ∧ (∀ u, u < U → N.2.1 7 u = nI (S - 1) ∧ N.2.1 5 u = 0 ∧ N.2.1 6 u = 0 ∧ N.2.1 8 u = 0) ∧ (∀ g, g < G → (∀ i, i < 4 → N.2.1 3 (4 * g + i) = -1) ∧ N.2.1 4 g = 0) ∧ ∀ s, s < 128 → N.2.1 9 s = -1
section J18
variable {nC nS n mC mS : Nat} {A A' : AH} {V V' V'' : CW} {E E' E'' : EL} {ad : AA} {M M' N : MS} {P : PP} {T Bk Bk' b1 b2 n0 n1 n2 w x al hl sl m ul ca L S B I U G : Nat} {X : Nat → Prop} {k0 k1 : Option Nat} {p12 : Int32}
theorem owl_k50 {c k : Nat} (h : owl c k ≠ 0) : k < 50 := by
  unfold owl at h
  cases e : ([(14, 0, 16), (14, 1, 4), (13, 3, 16), (13, 4, 4), (12, 1, 64), (10, 0, 4), (1, 1, 4096), (4, 2, 32), (4, 4, 512)] : List (Nat × Nat × Nat)).find? (fun t => t.1 == c && t.2.1 == k) with
  | none => rw [e] at h; exact absurd rfl h
  | some t =>
    have h1 := List.mem_of_find?_eq_some e
    have h2 := List.find?_some e
    simp only [Bool.and_eq_true, beq_iff_eq] at h2
    simp only [List.mem_cons, List.not_mem_nil, or_false] at h1
    rcases h1 with h1 | h1 | h1 | h1 | h1 | h1 | h1 | h1 | h1 <;> (subst h1; simp only at h2; omega)
theorem cx_new (ma : MA V P k0 k1 m ul L S B I p12) (us gs : List Nat) (hus : us.length = U) (hgs : gs.length = G) (hu : ∀ a, a ∈ us → UN V a S) (hg : ∀ a, a ∈ gs → GN V a) (h901 : xi V 901 ca 0 = 0) (h902 : xi V 902 ca 0 = 0) (mem : ∀ i, i < 4096 → xi V 151 (P 0) i = N.2.1 2 i) (mn : MN N L S U B G I p12) : CX V (adM P m ca us gs) N := by
  obtain ⟨⟨f1, f2, f4, f6, f22⟩, f0, fu, fg, _⟩ := mn
  obtain ⟨_, _, ⟨a1, a2, a3, a4, a5, a6⟩, _⟩ := ma
  intro d k i a hd hi ha
  have no : ∀ {c : Nat}, c = 12 ∨ c = 13 ∨ c = 14 → adM P m ca us gs c k = some a → False := fun {c} hc h => by
    rcases adM_inv h with z | z | z <;> omega
  have uu : adM P m ca us gs 8 k = some a → UN V a S ∧ k < U := fun h => by
    rcases adM_inv h with z | z | z
    · exact ⟨hu a (List.mem_of_getElem? z.2), by rw [← hus]; exact ge_lt z.2⟩
    · omega
    · omega
  have gg : adM P m ca us gs 10 k = some a → GN V a ∧ k < G := fun h => by
    rcases adM_inv h with z | z | z
    · omega
    · exact ⟨hg a (List.mem_of_getElem? z.2), by rw [← hgs]; exact ge_lt z.2⟩
    · omega
  rcases hd with hd | hd | hd | hd
  · rw [Val_ar hd]
    simp only [cdA, List.mem_cons, List.not_mem_nil, or_false] at hd
    rcases hd with e | e | e | e | e | e | e | e | e | e | e | e | e | e | e | e <;> subst e
    · exact (no (c := 14) (by omega) ha).elim
    · exact (no (c := 14) (by omega) ha).elim
    · exact (no (c := 14) (by omega) ha).elim
    · exact (no (c := 14) (by omega) ha).elim
    · exact (no (c := 13) (by omega) ha).elim
    · exact (no (c := 13) (by omega) ha).elim
    · exact (no (c := 13) (by omega) ha).elim
    · exact (no (c := 13) (by omega) ha).elim
    · obtain ⟨u1, u2⟩ := uu ha
      have : i = 0 := by have hi : i < 1 := hi; omega
      subst this
      exact u1.2.2.2.1.trans (fu k u2).1.symm
    · obtain ⟨u1, u2⟩ := uu ha
      have : i = 0 := by have hi : i < 1 := hi; omega
      subst this
      exact (u1.2.2.2.2 802 (by decide)).trans (fu k u2).2.1.symm
    · obtain ⟨u1, u2⟩ := uu ha
      have : i = 0 := by have hi : i < 1 := hi; omega
      subst this
      exact (u1.2.2.2.2 803 (by decide)).trans (fu k u2).2.2.1.symm
    · obtain ⟨u1, u2⟩ := uu ha
      have : i = 0 := by have hi : i < 1 := hi; omega
      subst this
      exact (u1.2.2.2.2 804 (by decide)).trans (fu k u2).2.2.2.symm
    · exact (no (c := 12) (by omega) ha).elim
    · obtain ⟨u1, u2⟩ := gg ha
      have hi : i < 4 := hi
      exact (u1.2.1 i hi).trans ((fg k u2).1 i hi).symm
    · obtain ⟨u1, u2⟩ := gg ha
      have : i = 0 := by have hi : i < 1 := hi; omega
      subst this
      exact u1.2.2.trans (fg k u2).2.symm
    · rcases adM_inv ha with z | z | z
      · omega
      · omega
      · have : a = P 0 := by omega
        subst this
        exact mem i hi
  · rw [Val_fd hd]
    have hw : ∀ d ∈ fdC, wdA d = 1 := by decide
    have hi0 : i = 0 := by have := hw d hd; omega
    subst hi0
    have am : d / 100 = 7 → a = m := fun h => by
      rw [h] at ha
      rcases adM_inv ha with z | z | z <;> omega
    have ac : d / 100 = 9 → a = ca := fun h => by
      rw [h] at ha
      rcases adM_inv ha with z | z | z <;> omega
    simp only [fdC, List.mem_cons, List.not_mem_nil, or_false] at hd
    rcases hd with e | e | e | e | e | e | e | e | e | e | e | e | e | e | e | e | e | e | e | e <;> subst e
    · rw [am rfl]
      exact a1.trans f1.symm
    · rw [am rfl]
      exact a2.trans f2.symm
    · rw [am rfl]
      exact a3.trans f4.symm
    · rw [am rfl]
      exact a4.trans f6.symm
    · rw [am rfl]
      exact (a6 12 (by omega) (by omega) (by omega)).trans (f0 11 (by decide)).symm
    · rw [am rfl]
      exact (a6 13 (by omega) (by omega) (by omega)).trans (f0 12 (by decide)).symm
    · rw [am rfl]
      exact (a6 14 (by omega) (by omega) (by omega)).trans (f0 13 (by decide)).symm
    · rw [am rfl]
      exact (a6 15 (by omega) (by omega) (by omega)).trans (f0 14 (by decide)).symm
    · rw [am rfl]
      exact (a6 16 (by omega) (by omega) (by omega)).trans (f0 21 (by decide)).symm
    · rw [am rfl]
      exact (a6 17 (by omega) (by omega) (by omega)).trans (f0 15 (by decide)).symm
    · rw [am rfl]
      exact (a6 18 (by omega) (by omega) (by omega)).trans (f0 16 (by decide)).symm
    · rw [am rfl]
      exact (a6 19 (by omega) (by omega) (by omega)).trans (f0 17 (by decide)).symm
    · rw [am rfl]
      exact (a6 20 (by omega) (by omega) (by omega)).trans (f0 18 (by decide)).symm
    · rw [am rfl]
      exact a5.trans f22.symm
    · rw [am rfl]
      exact (a6 22 (by omega) (by omega) (by omega)).trans (f0 23 (by decide)).symm
    · rw [am rfl]
      exact (a6 23 (by omega) (by omega) (by omega)).trans (f0 24 (by decide)).symm
    · rw [am rfl]
      exact (a6 24 (by omega) (by omega) (by omega)).trans (f0 25 (by decide)).symm
    · rw [am rfl]
      exact (a6 25 (by omega) (by omega) (by omega)).trans (f0 26 (by decide)).symm
    · rw [ac rfl]
      exact h901.trans (f0 19 (by decide)).symm
    · rw [ac rfl]
      exact h902.trans (f0 20 (by decide)).symm
  · subst hd
    exact (no (c := 14) (by omega) ha).elim
  · subst hd
    exact (no (c := 12) (by omega) ha).elim
theorem GZ.m5 (g : GZ nC nS A V E M P Bk b1 b2 n0 n1 n2) (v : Option Nat) : ∃ A', pR A (some (P 0)) 1 5 v = some A' ∧ GZ nC nS A' (vR' V 105 (P 0) 0 v) E M P Bk b1 b2 n0 n1 n2 ∧ DS (fun z => z = P 0) V E (vR' V 105 (P 0) 0 v) E := by
  have k0 := g.2.2.1.1
  obtain ⟨S1, S2, co⟩ := g.2.2.2.2.2.1
  obtain ⟨A', e, s⟩ := g.1.pr 5 v (c := 1) k0 (by decide) rfl rfl
  have vf : VF (fun z => z = P 0) V (vR' V 105 (P 0) 0 v) := VF.vR _ _ _ rfl
  have zf : ZF V E (vR' V 105 (P 0) 0 v) E := by
    refine ⟨fun _ _ => rfl, ⟨rfl, rfl⟩, fun a c ha hc d => ⟨fun h => ?_, rfl, rfl, fun _ _ _ => rfl⟩, fun a c k ha hk hc => ?_⟩
    · funext i
      rw [vRr, if_neg (fun z => h z.1)]
    · unfold lt cpL
      rw [vRr, if_neg (fun z => ?_)]
      · exact ⟨rfl, rfl⟩
      · have z1 := z.1
        have := (lof_c hk).2.2
        have c1 : c = 1 := by omega
        have k5 : k = 5 := by omega
        subst c1 k5
        exact absurd hk (by decide)
  have hnl : ∀ a c k, kdV V a = c + 1 → (owl c k ≠ 0 ∨ lof c k ≠ 0) → xr (vR' V 105 (P 0) 0 v) (100 * c + k) a 0 = xr V (100 * c + k) a 0 := fun a c k ha hk => by
    rw [vRr, if_neg (fun z => ?_)]
    have z1 := z.1
    have k50 : k < 50 := by
      rcases hk with h | h
      · exact owl_k50 h
      · exact (lof_c h).2.2
    have c1 : c = 1 := by omega
    have k5 : k = 5 := by omega
    subst c1 k5
    rcases hk with h | h
    · exact absurd h (by decide)
    · exact absurd h (by decide)
  have ds : DS (fun z => z = P 0) V E (vR' V 105 (P 0) 0 v) E := ⟨vf, fun _ _ => ⟨rfl, fun _ => ⟨rfl, rfl⟩⟩, fun a c k ha hk => ⟨hnl a c k ha hk, rfl⟩⟩
  have gl : GL (vR' V 105 (P 0) 0 v) E := g.2.1.1.ds ds (fun a ha h => by
    have ha : kdV V a = 1 := ha
    rcases h with h | h
    · rw [h, k0] at ha; cases ha
    · omega)
  have wt : WT (vR' V 105 (P 0) 0 v) E := g.2.1.2.1.ds ds 0 (fun a c' h0 h2 => by have h2 : kdV V a = c' + 1 := h2; omega) (fun c' k h0 h2 => by have h2 : kdV V 0 = c' + 1 := h2; omega) (fun c' k h0 h2 => by have h2 : kdV V 0 = c' + 1 := h2; omega) (fun c' k k' h0 h2 => by have h2 : kdV V 0 = c' + 1 := h2; omega)
  refine ⟨A', e, g.zf zf (fun k hk => ?_) s gl wt g.2.2.2.2.2.2.2.2 co.2.1 rfl, ds⟩
  unfold lt cpL
  rw [vRr, if_neg (fun z => by have := z.1; omega)]
  exact ⟨rfl, rfl⟩
end J18
