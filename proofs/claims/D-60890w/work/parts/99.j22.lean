/-! J22: memory beyond the new size is emptied -/
section J22
variable {nC nS n mC mS : Nat} {A A' : AH} {V V' V'' : CW} {E E' E'' : EL} {ad : AA} {M M' N : MS} {P : PP} {T Bk Bk' b1 b2 n0 n1 n2 w x al hl sl m ul ca L S B I U G k Io mm : Nat} {p12 : Int32}
theorem GZ.w1 (g : GZ nC nS A V E M P Bk b1 b2 n0 n1 n2) {i : Nat} (hi : i < 4096) (hK : M'.2.2 = M.2.2) (hm : ∀ j, M'.2.1 2 j = if j = i then 0 else M.2.1 2 j) : ∃ y A', gR A (some (P 0)) 1 1 = some (some y) ∧ sI A (some y) (nI i) 0 = some A' ∧ GZ nC nS A' (vI' V 151 (P 0) i 0) E M' P Bk b1 b2 n0 n1 n2 ∧ ZF V E (vI' V 151 (P 0) i 0) E := by
  have k0 := g.2.2.1.1
  obtain ⟨S1, S2, co⟩ := g.2.2.2.2.2.1
  obtain ⟨y, y1, y2, y3⟩ := g.2.1.2.1.1 (P 0) 1 1 k0 (by decide)
  have y3 : xn V (100 * 1 + 1) (P 0) = 4096 := y3
  obtain ⟨A', e, s⟩ := g.1.si i 0 (c := 1) (k := 1) k0 rfl y1 y2 (by rw [y3]; exact hi) (by omega)
  have zf : ZF V E (vI' V 151 (P 0) i 0) E := by
    refine ⟨fun _ _ => rfl, ⟨rfl, rfl⟩, fun a c ha hc d => ⟨fun _ => rfl, rfl, rfl, fun _ h _ => ?_⟩, fun _ _ _ _ _ _ => ⟨rfl, rfl⟩⟩
    funext i
    rw [vIi, if_neg (fun z => h z.1)]
  have gl : GL (vI' V 151 (P 0) i 0) E := fun a ha => (g.2.1.1 a ha).vf (S := fun z => z = P 0) (VF.vI _ _ _ rfl) (fun z => by have ha : kdV V a = 1 := ha; rw [z] at ha; omega)
  refine ⟨y, A', (g.1.gr 1 (c := 1) k0 (by decide) rfl).trans (congrArg some y1), e, g.zf zf (fun _ _ => ⟨rfl, rfl⟩) s gl g.2.1.2.1 (fun j hj => ?_) ?_ hK, zf⟩
  · rw [vIi, hm j]
    by_cases z : j = i
    · rw [if_pos z, if_pos ⟨rfl, rfl, z⟩]
    · rw [if_neg z, if_neg (fun q => z q.2.2)]
      exact g.2.2.2.2.2.2.2.2 j hj
  · rw [vIi, if_neg (fun z => absurd z.1 (by decide))]
    exact co.2.1
theorem mem_loop {β : Type} (hIo : Io ≤ 4096) (hk : k ≤ 4096) (g : GZ nC nS A V E M P Bk b1 b2 n0 n1 n2) (x5 : xr V 105 (P 0) 0 = some mm) (kmm : kdV V mm = 8) (x3 : xi V 703 mm 0 = nI Io) (hn : 4100 < n) (K : AH → Option β) (Post : β → Prop)
    (hK : ∀ A' V' M', GZ nC nS A' V' E M' P Bk b1 b2 n0 n1 n2 → ZF V E V' E → xr V' 105 (P 0) 0 = some mm → kdV V' mm = 8 → xi V' 721 mm 0 = xi V 721 mm 0 → M'.2.2 = M.2.2 → (∀ j, M'.2.1 2 j = if (k ≤ j ∧ j < Io) then 0 else M.2.1 2 j) → Res (K A') Post) :
    Res (jl (fixG (fun _ _ => none) (fun (rc16 : (Int32) → (AH) → Option β) (x14 : Int32) (A15 : AH) =>
      (gR A15 (some (P 0)) 1 5).bind fun v17 =>
      (gI A15 v17 7 3).bind fun v18 =>
      if v18 ≤ x14 then (K A15) else
      (gR A15 (some (P 0)) 1 1).bind fun v30 =>
      (sI A15 v30 x14 (0 : Int32)).bind fun A31 =>
      rc16 (x14 + (1 : Int32)) A31) n) fun j13 => j13 (nI k) A) Post := by
  refine jl_R (fun d (f : Int32 → AH → Option β) => ∀ i Ai Vi Mi, i + d = max k Io → k ≤ i → GZ nC nS Ai Vi E Mi P Bk b1 b2 n0 n1 n2 → ZF V E Vi E → xr Vi 105 (P 0) 0 = some mm → kdV Vi mm = 8 → xi Vi 721 mm 0 = xi V 721 mm 0 → xi Vi 703 mm 0 = nI Io → Mi.2.2 = M.2.2 → (∀ j, Mi.2.1 2 j = if (k ≤ j ∧ j < i) then 0 else M.2.1 2 j) → Res (f (nI i) Ai) Post) (max k Io - k) (by omega) ?_ ?_ ?_
  · intro f i Ai Vi Mi hi hki gi zi x5i kmi x21 x3i hKi hmi
    refine Res.b ((gi.1.gr 5 (c := 1) gi.2.2.1.1 (by decide) rfl).trans (congrArg some x5i)) (Res.b ((gi.1.gi 3 (c := 7) kmi (by decide) rfl).trans (congrArg some x3i)) ?_)
    rw [if_pos (c_le (by omega) (by omega))]
    refine hK Ai Vi Mi gi zi x5i kmi x21 hKi (fun j => ?_)
    rw [hmi j]
    by_cases c : k ≤ j ∧ j < i
    · rw [if_pos c, if_pos (by omega)]
    · rw [if_neg c, if_neg (by omega)]
  · intro d f hf i Ai Vi Mi hi hki gi zi x5i kmi x21 x3i hKi hmi
    refine Res.b ((gi.1.gr 5 (c := 1) gi.2.2.1.1 (by decide) rfl).trans (congrArg some x5i)) (Res.b ((gi.1.gi 3 (c := 7) kmi (by decide) rfl).trans (congrArg some x3i)) ?_)
    rw [if_neg (c_nle (by omega) (by omega)), nI_1]
    have mA2 : ∀ j, (mA Mi 2 i 0).2.1 2 j = if j = i then 0 else Mi.2.1 2 j := fun j => by
      show (if (2 : Nat) = 2 then upd (Mi.2.1 2) i 0 else Mi.2.1 2) j = _
      rw [if_pos rfl]
      first | rfl | (unfold upd; rfl)
    obtain ⟨y, A1, e1, e2, g1, z1⟩ := gi.w1 (M' := mA Mi 2 i 0) (i := i) (by omega) rfl (fun j => mA2 j)
    refine Res.b e1 (Res.b e2 (hf (i + 1) A1 _ _ (by omega) (by omega) g1 (zi.tr z1) x5i kmi ?_ ?_ hKi (fun j => ?_)))
    · rw [vIi, if_neg (fun z => absurd z.1 (by decide))]
      exact x21
    · rw [vIi, if_neg (fun z => absurd z.1 (by decide))]
      exact x3i
    · rw [mA2 j, hmi j]
      by_cases z : j = i
      · rw [if_pos z, if_pos (by omega)]
      · rw [if_neg z]
        by_cases c : k ≤ j ∧ j < i
        · rw [if_pos c, if_pos (by omega)]
        · rw [if_neg c, if_neg (by omega)]
  · intro f hf
    refine hf k A V M (by omega) (Nat.le_refl _) g ⟨fun _ _ => rfl, ⟨rfl, rfl⟩, fun _ _ _ _ _ => ⟨fun _ => rfl, rfl, rfl, fun _ _ _ => rfl⟩, fun _ _ _ _ _ _ => ⟨rfl, rfl⟩⟩ x5 kmm rfl x3 rfl (fun j => ?_)
    rw [if_neg (by omega)]
end J22
