/-! J15: all units of a machine, all gates of a cache -/
def UN (V : CW) (a S : Nat) : Prop := kdV V a = 9 ∧ OW V 8 0 a S ∧ (∀ i, xr V 850 a i = none) ∧ xi V 801 a 0 = nI (S - 1) ∧ ∀ d, d ≠ 801 → xi V d a 0 = 0
def GN (V : CW) (a : Nat) : Prop := kdV V a = 11 ∧ (∀ i, i < 4 → xi V 1050 a i = -1) ∧ xi V 1001 a 0 = 0
section J15
variable {nC nS n mC mS : Nat} {A A' : AH} {V V' V'' : CW} {E E' E'' : EL} {ad : AA} {M M' : MS} {P : PP} {T Bk Bk' b1 b2 n0 n1 n2 w x al I hl sl : Nat} {X : Nat → Prop}
theorem UN.ds {a S : Nat} (h : UN V a S) (hd : DS X V E V' E') (hx : ¬ X a) : UN V' a S := by
  obtain ⟨h1, h2, h3, h4, h5⟩ := h
  exact ⟨hd.kv (c := 8) h1, h2.ds' hd h1 hx, fun i => by rw [hd.1.r (c := 8) h1 hx]; exact h3 i, by rw [hd.1.i (c := 8) h1 hx]; exact h4, fun d h => by rw [hd.1.i (c := 8) h1 hx]; exact h5 d h⟩
theorem GN.ds {a : Nat} (h : GN V a) (hd : DS X V E V' E') (hx : ¬ X a) : GN V' a := by
  obtain ⟨h1, h2, h3⟩ := h
  exact ⟨hd.kv (c := 10) h1, fun i hi => by rw [hd.1.i (c := 10) h1 hx]; exact h2 i hi, by rw [hd.1.i (c := 10) h1 hx]; exact h3⟩
theorem inj1 (p : Nat) : inj [p] := fun i j v hi hj => by
  have h1 := ge_lt hi
  have h2 := ge_lt hj
  simp only [List.length_cons, List.length_nil] at h1 h2
  omega
theorem un_new {S U m ul : Nat} (h1 : 1 ≤ S) (h16 : S ≤ 16) (hU : U ≤ 8) (hn : 10 < n) (K : AH → Option AH) (Post : AH → Prop) (g : GZ (nC + 3 * U) (nS + 36 * U) A V E M P Bk b1 b2 n0 n1 n2) (hm : kdV V m = 8) (hx : xr V 708 m 0 = some ul) (h0 : E.2.1 ul = []) (hc : E.2.2 ul ≤ 10)
    (hK : ∀ A' V' E', GZ nC nS A' V' E' M P Bk b1 b2 n0 n1 n2 → ZF V E V' E' → DS (fun z => z = ul) V E V' E' → (E'.2.1 ul).length = U → (∀ a, a ∈ E'.2.1 ul → UN V' a S) → inj (E'.2.1 ul) → Res (K A') Post) :
    Res (jl (fixG (fun _ _ => none) (fun (rc20 : (Int32) → (AH) → Option (AH)) (x18 : Int32) (A19 : AH) =>
      if nI U ≤ x18 then (K A19) else
      (gR A19 (some m) 7 8).bind fun v27 =>
      (nO A19 8 dfX8).bind fun A28 =>
      (fX8_init (hN A19) (nI S) A28).bind fun g29 =>
      (rcv g29 v27 0).bind fun v30 =>
      (fJ2_add v30 (some (hN A19)) g29).bind fun g31 =>
      rc20 (x18 + (1 : Int32)) g31.2) n) fun j17 => j17 (0 : Int32) A) Post := by
  obtain ⟨l0, y1, y2, _⟩ := g.2.1.2.1.2.1 m 7 8 hm (by decide)
  have : l0 = ul := Option.some.inj (y1.symm.trans hx)
  subst this
  have hml : m ≠ l0 := fun z => by rw [z, y2] at hm; cases hm
  refine jl_R (fun d (f : Int32 → AH → Option AH) => ∀ i Ai Vi Ei, i + d = U → GZ (nC + 3 * d) (nS + 36 * d) Ai Vi Ei M P Bk b1 b2 n0 n1 n2 → ZF V E Vi Ei → DS (fun z => z = l0) V E Vi Ei → (Ei.2.1 l0).length = i → Ei.2.2 l0 ≤ 10 → (∀ a, a ∈ Ei.2.1 l0 → UN Vi a S) → inj (Ei.2.1 l0) → Res (f (nI i) Ai) Post) U (show U < n by omega) ?_ ?_ ?_
  · intro f i Ai Vi Ei hi gi zi di li ci ui ji
    have ei : i = U := by omega
    subst ei
    rw [if_pos (Int32.le_refl _)]
    exact hK Ai Vi Ei (by simpa using gi) zi di li ui ji
  · intro d f hf i Ai Vi Ei hi gi zi di li ci ui ji
    rw [if_neg (c_nle (by omega) (by omega)), nI_1]
    have hmi : kdV Vi m = 8 := di.kv (c := 7) hm
    have xmi : xr Vi 708 m 0 = some l0 := by rw [di.1.r (c := 7) hm hml]; exact hx
    have kli : kdV Vi l0 = 1 := di.kv (c := 0) y2
    obtain ⟨A1, e1, r1⟩ := GZ.nu (nC := nC + 3 * d + 1) (nS := nS + 36 * d + 15) (by
      have h1 : nC + 3 * d + 1 + 2 = nC + 3 * (d + 1) := by omega
      have h2 : nS + 36 * d + 15 + 21 = nS + 36 * (d + 1) := by omega
      rw [h1, h2]
      exact gi) h1 h16
    refine Res.b ((gi.1.gr 8 (c := 7) hmi (by decide) rfl).trans (congrArg some xmi)) (Res.b e1 (Res.w r1 ?_))
    rintro A2 ⟨V2, g2, zf2, ds2, hp0, kd2, un⟩
    generalize hN Ai = p at *
    have kp2 : kdV V2 p = 8 + 1 := by rw [kd2, if_pos rfl]
    have km2 : kdV V2 m = 8 := ds2.kv (c := 7) hmi
    have xm2 : xr V2 708 m 0 = some l0 := by rw [ds2.1.r (c := 7) hmi (fun z => z)]; exact xmi
    have un2 : UN V2 p S := ⟨kp2, un⟩
    refine Res.b (g2.1.rc (c := 0) (ds2.kv (c := 0) kli)) (Res.w (g2.la (c := 7) (k := 8) (e := 8) (v := p) km2 (by unfold mcK; omega) (by decide) xm2 kp2 (by omega) ci) ?_)
    rintro r ⟨V3, E3, g3, zf3, ds3, k3, e31, e3l, e3c⟩
    have dd : DS (fun z => z = l0) V E V3 E3 := (di.tr ds2 (fun a _ z => z.elim)).tr ds3 (fun a _ z => z)
    refine hf (i + 1) r.2 V3 E3 (by omega) g3 ((zi.tr zf2).tr zf3) dd (by rw [e3l, List.length_append, li]; rfl) e3c (fun a ha => ?_) ?_
    · rw [e3l, List.mem_append] at ha
      rcases ha with ha | ha
      · have u1 := ui a ha
        have u2 := u1.ds ds2 (fun z => z)
        exact u2.ds ds3 (fun z => by have := u1.1; rw [z, kli] at this; cases this)
      · have : a = p := by simpa using ha
        subst this
        exact un2.ds ds3 (fun z => by rw [← z, hp0] at kli; cases kli)
    · rw [e3l]
      refine inj_app ji (inj1 p) (fun x hx hx' => ?_)
      have : x = p := by simpa using hx
      subst this
      have := (ui x hx').1
      omega
  · intro f hf
    refine hf 0 A V E (by omega) g ⟨fun _ _ => rfl, ⟨rfl, rfl⟩, fun _ _ _ _ _ => ⟨fun _ => rfl, rfl, rfl, fun _ _ _ => rfl⟩, fun _ _ _ _ _ _ => ⟨rfl, rfl⟩⟩ DS.rf (by rw [h0]; rfl) hc (fun a ha => ?_) (fun i j v hi => ?_)
    · rw [h0] at ha
      cases ha
    · rw [h0] at hi
      cases hi
theorem ga_new {U m ul : Nat} (hU : U ≤ 8) (hn : 10 < n) (K : AH → Option AH) (Post : AH → Prop) (g : GZ (nC + 3 * U) (nS + 21 * U) A V E M P Bk b1 b2 n0 n1 n2) (hm : kdV V m = 10) (hx : xr V 900 m 0 = some ul) (h0 : E.2.1 ul = []) (hc : E.2.2 ul ≤ 10)
    (hK : ∀ A' V' E', GZ nC nS A' V' E' M P Bk b1 b2 n0 n1 n2 → ZF V E V' E' → DS (fun z => z = ul) V E V' E' → (E'.2.1 ul).length = U → (∀ a, a ∈ E'.2.1 ul → GN V' a) → inj (E'.2.1 ul) → Res (K A') Post) :
    Res (jl (fixG (fun _ _ => none) (fun (rc20 : (Int32) → (AH) → Option (AH)) (x18 : Int32) (A19 : AH) =>
      if nI U ≤ x18 then (K A19) else
      (gR A19 (some m) 9 0).bind fun v27 =>
      (nO A19 10 dfX10).bind fun A28 =>
      (fX10_init n (hN A19) A28).bind fun g29 =>
      (rcv g29 v27 0).bind fun v30 =>
      (fJ2_add v30 (some (hN A19)) g29).bind fun g31 =>
      rc20 (x18 + (1 : Int32)) g31.2) n) fun j17 => j17 (0 : Int32) A) Post := by
  obtain ⟨l0, y1, y2, _⟩ := g.2.1.2.1.2.1 m 9 0 hm (by decide)
  have : l0 = ul := Option.some.inj (y1.symm.trans hx)
  subst this
  have hml : m ≠ l0 := fun z => by rw [z, y2] at hm; cases hm
  refine jl_R (fun d (f : Int32 → AH → Option AH) => ∀ i Ai Vi Ei, i + d = U → GZ (nC + 3 * d) (nS + 21 * d) Ai Vi Ei M P Bk b1 b2 n0 n1 n2 → ZF V E Vi Ei → DS (fun z => z = l0) V E Vi Ei → (Ei.2.1 l0).length = i → Ei.2.2 l0 ≤ 10 → (∀ a, a ∈ Ei.2.1 l0 → GN Vi a) → inj (Ei.2.1 l0) → Res (f (nI i) Ai) Post) U (show U < n by omega) ?_ ?_ ?_
  · intro f i Ai Vi Ei hi gi zi di li ci ui ji
    have ei : i = U := by omega
    subst ei
    rw [if_pos (Int32.le_refl _)]
    exact hK Ai Vi Ei (by simpa using gi) zi di li ui ji
  · intro d f hf i Ai Vi Ei hi gi zi di li ci ui ji
    rw [if_neg (c_nle (by omega) (by omega)), nI_1]
    have hmi : kdV Vi m = 10 := di.kv (c := 9) hm
    have xmi : xr Vi 900 m 0 = some l0 := by rw [di.1.r (c := 9) hm hml]; exact hx
    have kli : kdV Vi l0 = 1 := di.kv (c := 0) y2
    obtain ⟨A1, e1, r1⟩ := GZ.ng (nC := nC + 3 * d + 1) (nS := nS + 21 * d + 15) (by
      have h1 : nC + 3 * d + 1 + 2 = nC + 3 * (d + 1) := by omega
      have h2 : nS + 21 * d + 15 + 6 = nS + 21 * (d + 1) := by omega
      rw [h1, h2]
      exact gi) hn
    refine Res.b ((gi.1.gr 0 (c := 9) hmi (by decide) rfl).trans (congrArg some xmi)) (Res.b e1 (Res.w r1 ?_))
    rintro A2 ⟨V2, g2, zf2, ds2, hp0, kd2, un⟩
    generalize hN Ai = p at *
    have kp2 : kdV V2 p = 10 + 1 := by rw [kd2, if_pos rfl]
    have km2 : kdV V2 m = 10 := ds2.kv (c := 9) hmi
    have xm2 : xr V2 900 m 0 = some l0 := by rw [ds2.1.r (c := 9) hmi (fun z => z)]; exact xmi
    have un2 : GN V2 p := ⟨kp2, un⟩
    refine Res.b (g2.1.rc (c := 0) (ds2.kv (c := 0) kli)) (Res.w (g2.la (c := 9) (k := 0) (e := 10) (v := p) km2 (by unfold mcK; omega) (by decide) xm2 kp2 (by omega) ci) ?_)
    rintro r ⟨V3, E3, g3, zf3, ds3, k3, e31, e3l, e3c⟩
    have dd : DS (fun z => z = l0) V E V3 E3 := (di.tr ds2 (fun a _ z => z.elim)).tr ds3 (fun a _ z => z)
    refine hf (i + 1) r.2 V3 E3 (by omega) g3 ((zi.tr zf2).tr zf3) dd (by rw [e3l, List.length_append, li]; rfl) e3c (fun a ha => ?_) ?_
    · rw [e3l, List.mem_append] at ha
      rcases ha with ha | ha
      · have u1 := ui a ha
        have u2 := u1.ds ds2 (fun z => z)
        exact u2.ds ds3 (fun z => by have := u1.1; rw [z, kli] at this; cases this)
      · have : a = p := by simpa using ha
        subst this
        exact un2.ds ds3 (fun z => by rw [← z, hp0] at kli; cases kli)
    · rw [e3l]
      refine inj_app ji (inj1 p) (fun x hx hx' => ?_)
      have : x = p := by simpa using hx
      subst this
      have := (ui x hx').1
      omega
  · intro f hf
    refine hf 0 A V E (by omega) g ⟨fun _ _ => rfl, ⟨rfl, rfl⟩, fun _ _ _ _ _ => ⟨fun _ => rfl, rfl, rfl, fun _ _ _ => rfl⟩, fun _ _ _ _ _ _ => ⟨rfl, rfl⟩⟩ DS.rf (by rw [h0]; rfl) hc (fun a ha => ?_) (fun i j v hi => ?_)
    · rw [h0] at ha
      cases ha
    · rw [h0] at hi
      cases hi
end J15
