/-! G13: a launch -/
section G13
variable {nC nS n : Nat} {A A' : AH} {V V' : CW} {E E' : EL} {ad ad' : AA} {M M' N : MS} {P : PP} {Lq : Nat → Nat → Prop} {T Bk b1 b2 n0 n1 n2 u uu c al I : Nat}
theorem freeAll_P (M : MS) : frm [41, 42] [9] M (z_freeAll M) ∧ (z_freeAll M).1 41 = 0 ∧ (z_freeAll M).1 42 = 2147483647 ∧ ∀ x, (z_freeAll M).2.1 9 x = if x < 128 then -1 else M.2.1 9 x := by
  obtain ⟨h1, h2⟩ := iter_mA (f := fun i M => mA M 9 i (-1)) (j := 9) (off := 0) (v := -1) (fun i X => by rw [Nat.zero_add]) M 128
  unfold z_freeAll
  generalize iter (fun i M => mA M 9 i (-1)) 0 128 M = Z at *
  refine ⟨((h1.up (by decide) (by decide)).mI (by decide)).mI (by decide), ?_, ?_, fun x => ?_⟩
  · rw [mI_g, if_neg (by decide), mI_g, if_pos rfl]
  · rw [mI_g, if_pos rfl]
  · show Z.2.1 9 x = _
    rw [h2 x]
    by_cases c : x < 128
    · rw [if_pos c, if_pos (by omega)]
    · rw [if_neg c, if_neg (by omega)]
theorem cluI (X : MS) : ∀ n, frm [] [4, 5, 6, 7, 8] X (iter (fun i M => mA (mA (mA (mA (mA M 5 i 0) 6 i 0) 7 i (M.1 2 - 1)) 8 i 0) 4 i 0) 0 n X) ∧ ∀ i, i < n → (iter (fun i M => mA (mA (mA (mA (mA M 5 i 0) 6 i 0) 7 i (M.1 2 - 1)) 8 i 0) 4 i 0) 0 n X).2.1 5 i = 0 ∧ (iter (fun i M => mA (mA (mA (mA (mA M 5 i 0) 6 i 0) 7 i (M.1 2 - 1)) 8 i 0) 4 i 0) 0 n X).2.1 6 i = 0 ∧ (iter (fun i M => mA (mA (mA (mA (mA M 5 i 0) 6 i 0) 7 i (M.1 2 - 1)) 8 i 0) 4 i 0) 0 n X).2.1 7 i = X.1 2 - 1 ∧ (iter (fun i M => mA (mA (mA (mA (mA M 5 i 0) 6 i 0) 7 i (M.1 2 - 1)) 8 i 0) 4 i 0) 0 n X).2.1 8 i = 0 ∧ (iter (fun i M => mA (mA (mA (mA (mA M 5 i 0) 6 i 0) 7 i (M.1 2 - 1)) 8 i 0) 4 i 0) 0 n X).2.1 4 i = 0
  | 0 => ⟨frm.rf, fun i hi => absurd hi (Nat.not_lt_zero _)⟩
  | n + 1 => by
    obtain ⟨h1, h2⟩ := cluI X n
    rw [iter_last, Nat.zero_add]
    generalize iter (fun i M => mA (mA (mA (mA (mA M 5 i 0) 6 i 0) 7 i (M.1 2 - 1)) 8 i 0) 4 i 0) 0 n X = Z at *
    refine ⟨((((h1.mA (by decide)).mA (by decide)).mA (by decide)).mA (by decide)).mA (by decide), fun i hi => ?_⟩
    have e2 : Z.1 2 = X.1 2 := h1.f 2
    have k5 : (mA (mA (mA (mA (mA Z 5 n 0) 6 n 0) 7 n (Z.1 2 - 1)) 8 n 0) 4 n 0).2.1 5 = upd (Z.2.1 5) n 0 := rfl
    have k6 : (mA (mA (mA (mA (mA Z 5 n 0) 6 n 0) 7 n (Z.1 2 - 1)) 8 n 0) 4 n 0).2.1 6 = upd (Z.2.1 6) n 0 := rfl
    have k7 : (mA (mA (mA (mA (mA Z 5 n 0) 6 n 0) 7 n (Z.1 2 - 1)) 8 n 0) 4 n 0).2.1 7 = upd (Z.2.1 7) n (Z.1 2 - 1) := rfl
    have k8 : (mA (mA (mA (mA (mA Z 5 n 0) 6 n 0) 7 n (Z.1 2 - 1)) 8 n 0) 4 n 0).2.1 8 = upd (Z.2.1 8) n 0 := rfl
    have k4 : (mA (mA (mA (mA (mA Z 5 n 0) 6 n 0) 7 n (Z.1 2 - 1)) 8 n 0) 4 n 0).2.1 4 = upd (Z.2.1 4) n 0 := rfl
    show (mA (mA (mA (mA (mA Z 5 n 0) 6 n 0) 7 n (Z.1 2 - 1)) 8 n 0) 4 n 0).2.1 5 i = 0 ∧ (mA (mA (mA (mA (mA Z 5 n 0) 6 n 0) 7 n (Z.1 2 - 1)) 8 n 0) 4 n 0).2.1 6 i = 0 ∧ (mA (mA (mA (mA (mA Z 5 n 0) 6 n 0) 7 n (Z.1 2 - 1)) 8 n 0) 4 n 0).2.1 7 i = X.1 2 - 1 ∧ (mA (mA (mA (mA (mA Z 5 n 0) 6 n 0) 7 n (Z.1 2 - 1)) 8 n 0) 4 n 0).2.1 8 i = 0 ∧ (mA (mA (mA (mA (mA Z 5 n 0) 6 n 0) 7 n (Z.1 2 - 1)) 8 n 0) 4 n 0).2.1 4 i = 0
    rw [k5, k6, k7, k8, k4, e2]
    by_cases e : i = n
    · rw [e, pk_us, pk_us, pk_us, pk_us, pk_us]
      exact ⟨rfl, rfl, rfl, rfl, rfl⟩
    · rw [pk_un e, pk_un e, pk_un e, pk_un e, pk_un e]
      exact h2 i (by omega)
/-- the model's units are cleared -/
theorem clearUnits_P (X : MS) : frm [41, 42] [4, 5, 6, 7, 8, 9] X (z_clearUnits X) ∧ (z_clearUnits X).1 41 = 0 ∧ (z_clearUnits X).1 42 = 2147483647 ∧ (∀ x, x < 128 → (z_clearUnits X).2.1 9 x = -1) ∧ ∀ i, i < 8 → (z_clearUnits X).2.1 5 i = 0 ∧ (z_clearUnits X).2.1 6 i = 0 ∧ (z_clearUnits X).2.1 7 i = X.1 2 - 1 ∧ (z_clearUnits X).2.1 8 i = 0 ∧ (z_clearUnits X).2.1 4 i = 0 := by
  obtain ⟨h1, h2⟩ := cluI X 8
  unfold z_clearUnits
  generalize iter (fun i M => mA (mA (mA (mA (mA M 5 i 0) 6 i 0) 7 i (M.1 2 - 1)) 8 i 0) 4 i 0) 0 8 X = Z at *
  obtain ⟨f1, f2, f3, f4⟩ := freeAll_P Z
  refine ⟨(h1.up (by decide) (by decide)).tr (f1.up (by decide) (by decide)), f2, f3, fun x hx => by rw [f4 x, if_pos hx], fun i hi => ?_⟩
  rw [f1.a 5, f1.a 6, f1.a 7, f1.a 8, f1.a 4]
  exact h2 i hi
/-- what a machine's memory is tied to -/
theorem Val_c {N M' : MS} {d k i : Nat} (hd : cdC d) (hF : ∀ f, f ∈ [1, 2, 4, 6, 11, 12, 13, 14, 21, 15, 16, 17, 18, 22, 23, 24, 25, 26, 19, 20] → M'.1 f = N.1 f) (hA : ∀ j, (j < 3 ∨ (9 < j ∧ j < 19) ∨ j = 3) → M'.2.1 j = N.2.1 j) (h48 : d / 100 = 8 ∨ d = 1001 → M'.2.1 (nmA d) k = N.2.1 (nmA d) k) : Val M' d k i = Val N d k i := by
  rcases hd with hd | hd | hd | hd
  · rw [Val_ar hd, Val_ar hd]
    simp only [cdA, List.mem_cons, List.not_mem_nil, or_false] at hd
    rcases hd with e | e | e | e | e | e | e | e | e | e | e | e | e | e | e | e <;> subst e
    · exact congrFun (hA 13 (by omega)) _
    · exact congrFun (hA 15 (by omega)) _
    · exact congrFun (hA 16 (by omega)) _
    · exact congrFun (hA 17 (by omega)) _
    · exact congrFun (hA 10 (by omega)) _
    · exact congrFun (hA 11 (by omega)) _
    · exact congrFun (hA 12 (by omega)) _
    · exact congrFun (hA 12 (by omega)) _
    · exact h48 (by decide)
    · exact h48 (by decide)
    · exact h48 (by decide)
    · exact h48 (by decide)
    · exact congrFun (hA 18 (by omega)) _
    · exact congrFun (hA 3 (by omega)) _
    · exact h48 (by decide)
    · exact congrFun (hA 2 (by omega)) _
  · rw [Val_fd hd, Val_fd hd]
    exact hF _ (fd_lst d hd)
  · subst hd
    rw [Val_p, Val_p, hA 14 (by omega)]
  · subst hd
    rw [Val_n, Val_n]
/-- rows of blocks, warps, lanes and asks are empty -/
def adE (ad : AA) : AA := fun c q => if (c = 12 ∨ c = 13 ∨ c = 14 ∨ c = 15) then none else ad c q
def Pw (P : PP) (W : Nat) : PP := fun i => if i = 10 then W else P i
/-- when all units are empty, any number of threads will do -/
theorem GYq.emp (g : GYq nC nS A V E ad N P Lq Bk b1 b2 n0 n1 n2) (h9 : ∀ s, s < 128 → N.2.1 9 s = -1) (hP10 : 1 ≤ P 10) (h0 : lt V E 3 0 (P 3) = []) (h302 : xi V 302 (P 3) 0 = 0) (h15 : ∀ k, ad 15 k = none) {W : Nat} (hW : W ≤ 16) (h41 : M'.1 41 = 0) (h9' : ∀ s, s < 128 → M'.2.1 9 s = -1) (hF : ∀ f, f ∈ [1, 2, 4, 6, 11, 12, 13, 14, 21, 15, 16, 17, 18, 22, 23, 24, 25, 26, 19, 20] → M'.1 f = N.1 f) (hA : ∀ j, (j < 3 ∨ (9 < j ∧ j < 19) ∨ j = 3) → M'.2.1 j = N.2.1 j) (hU : ∀ u, u < P 8 → ∀ j, 5 ≤ j → j ≤ 8 → M'.2.1 j u = N.2.1 j u) (hG : ∀ g, g < P 9 → M'.2.1 4 g = N.2.1 4 g) (hK : M'.2.2 = N.2.2) : ∃ m0 m1 m2, m0 = n0 ∧ GX nC nS A V E ad M' (Pw P W) 0 Bk b1 b2 m0 m1 m2 ∧ ∀ c k, (c = 12 ∨ c = 13 ∨ c = 14 ∨ c = 15) → ad c k = none := by
  have hs := g.2.1.1.2.2.2
  have n13 : ∀ s, ad 13 s = none := fun s => by
    cases e : ad 13 s with
    | none => rfl
    | some w =>
      obtain ⟨bk, b, c1, c2, _⟩ := hs.bl e
      rw [h9 s (hs.s128 e)] at c2
      have h2 := nI_pos' (n := bk) (by omega)
      rw [← c2] at h2
      exact absurd h2 (by decide)
  have n14 : ∀ t, ad 14 t = none := fun t => by
    cases e : ad 14 t with
    | none => rfl
    | some l =>
      obtain ⟨w, hw⟩ := hs.2.2.2.2.2.1.2 t l e
      rw [n13] at hw
      cases hw
  have n12 : ∀ bk, ad 12 bk = none := fun bk => by
    cases e : ad 12 bk with
    | none => rfl
    | some b =>
      obtain ⟨_, z2, z3⟩ := hs.2.2.2.2.2.2.1 bk b e
      obtain ⟨w, hw⟩ := lt_ge (l := lt V E 12 2 b) (i := 0) (by omega)
      obtain ⟨s, _, y2, _⟩ := z3 0 w hw
      rw [n13] at y2
      cases y2
  have nall : ∀ c k, (c = 12 ∨ c = 13 ∨ c = 14 ∨ c = 15) → ad c k = none := fun c k hc => by
    rcases hc with e | e | e | e <;> subst e
    · exact n12 k
    · exact n13 k
    · exact n14 k
    · exact h15 k
  have nn : ∀ {c k a : Nat}, (c = 12 ∨ c = 13 ∨ c = 14 ∨ c = 15) → ad c k = some a → False := fun hc ha => by
    rw [nall _ _ hc] at ha
    cases ha
  obtain ⟨s, ⟨⟨cx, gl, wt, sh⟩, hl, co, kn⟩, pn⟩ := g
  have bu : ∀ {u a : Nat}, ad 8 u = some a → u < P 8 := fun {u a} ha => by
    have := sh.2.2.2.1.2.1 u
    rw [ha] at this
    have := ge_lt this
    rw [sh.2.2.2.1.1] at this
    exact this
  have bg : ∀ {u a : Nat}, ad 10 u = some a → u < P 9 := fun {u a} ha => by
    have := sh.2.2.2.1.2.2.2.2 u
    rw [ha] at this
    have := ge_lt this
    rw [sh.2.2.2.1.2.2.2.1] at this
    exact this
  have cx' : CX V ad M' := cx.val (fun d k i a hd hi ha => Val_c hd hF hA (fun z => by
    rcases z with z | z
    · have hd8 : d ∈ [801, 802, 803, 804] := by
        rcases hd with hd | hd | hd | hd
        · simp only [cdA, List.mem_cons, List.not_mem_nil, or_false] at hd ⊢
          omega
        · have := fd_ar d hd
          omega
        · omega
        · omega
      rw [z] at ha
      have hb := bu ha
      simp only [List.mem_cons, List.not_mem_nil, or_false] at hd8
      rcases hd8 with e | e | e | e <;> subst e
      · exact hU k hb 7 (by omega) (by omega)
      · exact hU k hb 5 (by omega) (by omega)
      · exact hU k hb 6 (by omega) (by omega)
      · exact hU k hb 8 (by omega) (by omega)
    · subst z
      exact hG k (bg ha)))
  have gy : GY nC nS A V E ad M' (Pw P W) Bk b1 b2 n0 n1 n2 := by
    refine ⟨s, ⟨⟨cx', gl, wt, ?_⟩, hl, co, ?_⟩, pn⟩
    · obtain ⟨h1, h2, h3, h4, h5, h6, h7, h8, h9'', h10, h11⟩ := sh
      refine ⟨h1, h2, h3, h4, ⟨fun s w hw => (nn (by omega) hw).elim, fun s hs' _ => h9' s hs'⟩, ⟨fun s w hw => (nn (by omega) hw).elim, fun t l hl' => (nn (by omega) hl').elim⟩, fun bk b hb => (nn (by omega) hb).elim, h8, ⟨h9''.1, h9''.2.1, h9''.2.2.1, h9''.2.2.2.1, hW⟩, ?_, h11⟩
      rw [hF 1 (by decide), hF 2 (by decide)]
      exact h10
    · unfold KN' at kn ⊢
      rw [hK]
      exact ⟨kn.1, fun k w hw => (kn.2 k w hw).fm (fun k' x1 x2 => z_take_k _ _ _ k' x1 x2)⟩
  exact ⟨n0, n1, n2, rfl, gy.gx h0 h302 h15 h41, nall⟩
end G13
