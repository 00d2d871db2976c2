/-! C22: votes -/
section C22
variable {nC nS n : Nat} {A : AH} {V V' : CW} {E : EL} {ad : AA} {M : MS} {P : PP} {x : Nat}
def voF (M : MS) (s : Nat) (D : Int32) (j : Nat) : Bool := bt D j && decide (bitP (M.2.1 14 (32 * s + j)) (lo2 (M.1 54)))
theorem LI.iob {a c cap : Nat} {l : List Nat} (h : LI V a c l cap) (hv : IB V V') : LI V' a c l cap := by
  have e2 : xi V' 2 = xi V 2 := hv.2.2 2 cd_2 (by unfold scr; omega) (by decide)
  unfold LI at h ⊢
  rw [e2]
  rw [hv.eq]
  exact h
theorem wlx {w ll cap : Nat} {ls : List Nat} (h : St nC nS A V') (hv : IB V V') (hwk : kdV V w = 14) (hxl : xr V 1302 w 0 = some ll) (hli : LI V ll 14 ls cap) : gR A (some w) 13 2 = some (some ll) ∧ rcv A (some ll) 0 = some ll ∧ fJ2_size ll A = some (nI ls.length) ∧ ∀ j l, ls[j]? = some l → fJ2_get ll (nI j) A = some (some l) := by
  have hk' : kdV V' w = 14 := by rw [kdV, hv.1]; exact hwk
  have hl' := hli.iob hv
  refine ⟨(h.gr 2 (c := 13) hk' (by decide) rfl).trans (congrArg some ?_), h.rc hl'.1, L_size h hl', fun j l hj => L_get h hl' hj⟩
  show xr V' 1302 w 0 = _
  rw [hv.2.1.1]
  exact hxl
theorem CP.wr (cp : CP V E ad M P) (h : St nC nS A V) {t l r : Nat} (hl : ad 14 t = some l) (v : Int32) (hr : r < 16) : ∃ y A', gR A (some l) 14 0 = some (some y) ∧ sI A (some y) (nI r) v = some A' ∧ St nC nS A' (vI' V 1450 l r v) ∧ CX (vI' V 1450 l r v) ad (mA M 13 (16 * t + r) v) := by
  have hk := cp.2.2.2.kk hl
  obtain ⟨l1, ⟨y, y1, y2, y3⟩, l3, l4, _⟩ := cp.2.2.2.ln cp.1 cp.2.2.1 hl
  obtain ⟨A', e, s⟩ := h.si r v (c := 14) (k := 0) hk rfl y1 y2 (by rw [y3]; exact hr) (by omega)
  exact ⟨y, A', (h.gr 0 (c := 14) hk (by decide) rfl).trans (congrArg some y1), e, s, cp.1.setA (d := 1450) (k := t) (i := r) cp.2.2.2.1 v (by decide) hr hl⟩
theorem CP.wp (cp : CP V E ad M P) (h : St nC nS A V) {t l : Nat} (hl : ad 14 t = some l) (x : Int32) (hx : x = 0 ∨ x = 1) : ∃ y A', gR A (some l) 14 1 = some (some y) ∧ sZ A (some y) (nI (lo2 (M.1 53))) x = some A' ∧ St nC nS A' (vI' V 1451 l (lo2 (M.1 53)) x) ∧ CX (vI' V 1451 l (lo2 (M.1 53)) x) ad (z_say M t x) := by
  have hk := cp.2.2.2.kk hl
  obtain ⟨l1, l2, ⟨y, y1, y2, y3⟩, l4, l5, _⟩ := cp.2.2.2.ln cp.1 cp.2.2.1 hl
  have hlo := lo2_lt (M.1 53)
  obtain ⟨A', e, s⟩ := h.sz (lo2 (M.1 53)) x (c := 14) (k := 1) hk rfl y1 y2 (by rw [y3]; exact hlo) (by omega)
  have hnb : nb x = x := by rcases hx with e | e <;> rw [e] <;> rfl
  rw [hnb] at s
  exact ⟨y, A', (h.gr 1 (c := 14) hk (by decide) rfl).trans (congrArg some y1), e, s, cp.1.setP cp.2.2.2.1 x _ hlo hl (fun q hq => bitP_say _ hlo hq x) hx⟩
theorem vI_761 {d a i : Nat} {v : Int32} (h : d ≠ 761) : xi (vI' V d a i v) 761 = xi V 761 := by
  funext a' i'
  rw [vIi, if_neg (fun z => h z.1.symm)]
theorem cd_761 : ¬ cdC 761 := by unfold cdC; decide
theorem fm_frm {ks js : List Nat} {M M' : MS} (h : frm ks js M M') (h9 : 9 ∉ js) (h10 : 10 ∉ js) (h1 : 1 ∉ ks) (h13 : 13 ∉ ks) (h2 : 2 ∉ ks) : fmP M M' := ⟨h.2.1 9 h9, h.2.1 10 h10, h.1 1 h1, h.1 13 h13, h.1 2 h2⟩
theorem ac_fm (M : MS) (s d a b bk k : Nat) : fmP M (iter (acS s d a b bk) 0 k M) := fm_frm (acI_frm M 0 k) (by decide) (by decide) (by decide) (by decide) (by decide)
theorem z_vote {s i d a b p bk q o : Nat} {old : Int32} (h : M.1 52 = 70 ∨ M.1 52 = 71 ∨ M.1 52 = 72 ∨ M.1 52 = 73) : z_act M s i old d a b p bk q o = if 71 < M.1 52 then mA M 13 (16 * (32 * s + i) + d) (if M.1 52 = 72 then M.1 58 else (if M.2.1 27 o = 0 then M.2.1 28 i else M.2.1 28 o)) else z_say M (32 * s + i) (if M.1 58 = 1 then 1 else 0) := by
  have hm : ¬ memP M := by
    unfold memP
    rcases h with e | e | e | e <;> rw [e] <;> decide
  unfold z_act
  rw [if_neg (show ¬ (memP M ∧ ¬ shP M) from fun z => hm z.1)]
  rcases h with e | e | e | e <;> simp (decide := true) only [e, if_true, if_false]
set_option maxHeartbeats 4000000 in
theorem e7_vote (h : St nC nS A V) (cp : CP V E ad M P) (hx : WM V x M) {s w d a b bk : Nat} {D : Int32} (hw : ad 13 s = some w) (h53 : M.1 53 = nI d) (h54 : M.1 54 = nI a) (hd : d < 16) (ha : a < 16) (hP6 : 1 ≤ P 6) (hn : 33 < n)
    (hD : ∀ j, j < 32 → (bt D j = true ↔ ¬ M.2.1 27 j = 0)) (hDl : ∀ j, j < 32 → bt D j = true → j < (lt V E 13 2 w).length) (hop : M.1 52 = 70 ∨ M.1 52 = 71 ∨ M.1 52 = 72 ∨ M.1 52 = 73)
    (h70 : M.1 52 = 70 → M.1 58 = if nI (cnB (voF M s D) (lt V E 13 2 w).length) ≤ 0 then 0 else 1) (h71 : M.1 52 = 71 → M.1 58 = if nI (cnB (voF M s D) (lt V E 13 2 w).length) = nI (cnB (bt D) 32) then 1 else 0) (h72 : M.1 52 = 72 → M.1 58 = nI (cnB (voF M s D) (lt V E 13 2 w).length)) (h73 : M.1 52 = 73 → ∀ j, j < (lt V E 13 2 w).length → M.2.1 28 j = rgV M (32 * s + j) a) :
    Res (fX7_vote n (P 1) (some w) D (some x) A) (Nx nC nS V ad (iter (acS s d a b bk) 0 (lt V E 13 2 w).length M)) := by
  obtain ⟨hwk, ⟨ll, cap, hxl, hli⟩, hlen, hln, hlane, hlenP⟩ := cp.wl hw
  have hP6b := cp.2.2.2.2.2.2.2.2.2.2.2.1.1
  obtain ⟨hm7, hmk⟩ := cp.2.2.2.mm
  obtain ⟨yb, yb1, yb2, yb3⟩ := cp.2.2.2.2.2.1.2.2.2.2.2.2.2.2.2.2.2
  generalize hls : lt V E 13 2 w = ls at *
  unfold fX7_vote
  refine jl_R (fun d' (g : Int32 → Int32 → AH → Option AH) => ∀ k A4 V4, k + d' = ls.length → St nC nS A4 V4 → IV V V4 → CX V4 ad M → (∀ j, j < k → xi V4 761 (P 1) j = rgV M (32 * s + j) a) → Res (g (nI (cnB (voF M s D) k)) (nI k) A4) (Nx nC nS V ad (iter (acS s d a b bk) 0 ls.length M))) ls.length (show ls.length < n by omega) ?_ ?_ ?_
  · intro g k A4 V4 hk s4 i4 c4 hbf
    have ek : k = ls.length := by omega
    subst ek
    obtain ⟨w1, w2, w3, w4⟩ := wlx s4 i4.b hwk hxl hli
    refine Res.b w1 (Res.b w2 (Res.b w3 ?_))
    rw [if_pos (Int32.le_refl _), jn_eq]
    generalize hcn : nI (cnB (voF M s D) ls.length) = cn at *
    have loop2 : ∀ y11 y14 : Int32, y11 = (if cn ≤ 0 then 0 else 1) → y14 = (if cn = nI (cnB (bt D) 32) then 1 else 0) → Res (jl (fixG (fun _ _ => none) (fun (rc18 : (Int32) → (AH) → Option (AH)) (x16 : Int32) (A17 : AH) =>
        (gR A17 (some w) 13 2).bind fun v19 =>
        (rcv A17 v19 0).bind fun v20 =>
        (fJ2_size v20 A17).bind fun g21 =>
        if g21 ≤ x16 then (some A17) else
        jn (fun (A24 : AH) =>
        rc18 (x16 + (1 : Int32)) A24) fun j23 =>
        if ((D >>> (x16 &&& 31)) &&& (1 : Int32)) = 0 then (j23 A17) else
        (fJ2_get v20 x16 A17).bind fun g26 =>
        (cst A17 g26 14).bind fun v27 =>
        (gI A17 (some x) 5 5).bind fun v28 =>
        (gI A17 (some (P 1)) 7 0).bind fun v29 =>
        (gI A17 (some x) 5 0).bind fun v30 =>
        if v30 = (70 : Int32) then ((gR A17 g26 14 1).bind fun v32 =>
        (gI A17 (some x) 5 1).bind fun v33 =>
        (sZ A17 v32 (v33 &&& (3 : Int32)) y11).bind fun A34 =>
        j23 A34) else
        if v30 = (71 : Int32) then ((gR A17 g26 14 1).bind fun v36 =>
        (gI A17 (some x) 5 1).bind fun v37 =>
        (sZ A17 v36 (v37 &&& (3 : Int32)) y14).bind fun A38 =>
        j23 A38) else
        (gR A17 g26 14 0).bind fun v39 =>
        (gI A17 (some x) 5 1).bind fun v40 =>
        jn (fun (y42 : Int32) =>
        (sI A17 v39 v40 y42).bind fun A43 =>
        j23 A43) fun j41 =>
        if v30 = (72 : Int32) then (j41 cn) else
        (gR A17 (some (P 1)) 7 11).bind fun v45 =>
        jn (fun (y47 : Int32) =>
        (aI A17 v45 y47).bind fun v48 =>
        j41 v48) fun j46 =>
        if ((D >>> ((x16 ^^^ (v28 &&& (v29 - (1 : Int32)))) &&& 31)) &&& (1 : Int32)) = (1 : Int32) then (j46 (x16 ^^^ (v28 &&& (v29 - (1 : Int32))))) else
        j46 x16) n) fun j15 =>
        j15 (0 : Int32) A4) (Nx nC nS V ad (iter (acS s d a b bk) 0 ls.length M)) := by
      intro y11 y14 hy11 hy14
      refine jl_R (fun d' (g : Int32 → AH → Option AH) => ∀ k A5 V5, k + d' = ls.length → St nC nS A5 V5 → IV V V5 → CX V5 ad (iter (acS s d a b bk) 0 k M) → xi V5 761 = xi V4 761 → Res (g (nI k) A5) (Nx nC nS V ad (iter (acS s d a b bk) 0 ls.length M))) ls.length (show ls.length < n by omega) ?_ ?_ ?_
      · intro g k A5 V5 hk s5 i5 c5 hb5
        obtain ⟨u1, u2, u3, u4⟩ := wlx s5 i5.b hwk hxl hli
        refine Res.b u1 (Res.b u2 (Res.b u3 ?_))
        have ek : k = ls.length := by omega
        subst ek
        rw [if_pos (Int32.le_refl _)]
        exact Res.r ⟨V5, s5, i5, c5⟩
      · intro d' g hg k A5 V5 hk s5 i5 c5 hb5
        obtain ⟨u1, u2, u3, u4⟩ := wlx s5 i5.b hwk hxl hli
        refine Res.b u1 (Res.b u2 (Res.b u3 ?_))
        rw [if_neg (c_nle (by omega) (by omega)), jn_eq, nI_1]
        have hfrk := acI_frm (s := s) (d := d) (a := a) (b := b) (bk := bk) M 0 k
        by_cases cb : bt D k = true
        · rw [if_neg (fun z => by rw [(bit0_bt _ (by omega)).mp z] at cb; cases cb)]
          obtain ⟨l, hl1, hl2, hl3⟩ := hlane k (by omega)
          have cp5 := cp.nx i5 c5 (ac_fm M s d a b bk k)
          have hx5 : WM V5 x (iter (acS s d a b bk) 0 k M) := (hx.io i5).fm (fun q q1 q2 => hfrk.1 q (by simp only [List.mem_cons, List.not_mem_nil, or_false]; omega))
          have e52 := hfrk.1 52 (by decide)
          have e53 := hfrk.1 53 (by decide)
          have e57 := hfrk.1 57 (by decide)
          have e58 := hfrk.1 58 (by decide)
          have e1 := hfrk.1 1 (by decide)
          have e27 := hfrk.2.1 27 (by decide)
          have e28 := hfrk.2.1 28 (by decide)
          have hac : acS s d a b bk k (iter (acS s d a b bk) 0 k M) = if 71 < M.1 52 then mA (iter (acS s d a b bk) 0 k M) 13 (16 * (32 * s + k) + d) (if M.1 52 = 72 then M.1 58 else (if M.2.1 27 (nN (nI k ^^^ (M.1 57 &&& (M.1 1 - 1)))) = 0 then M.2.1 28 k else M.2.1 28 (nN (nI k ^^^ (M.1 57 &&& (M.1 1 - 1)))))) else z_say (iter (acS s d a b bk) 0 k M) (32 * s + k) (if M.1 58 = 1 then 1 else 0) := by
            have hvv := fun (o : Nat) => z_vote (M := iter (acS s d a b bk) 0 k M) (s := s) (i := k) (d := d) (a := a) (b := b) (bk := bk) (p := nN ((iter (acS s d a b bk) 0 k M).1 41)) (q := nN (askV (iter (acS s d a b bk) 0 k M) s a k)) (o := o) (old := (iter (acS s d a b bk) 0 k M).2.1 15 (32 * s + k) - 1) (by rw [e52]; exact hop)
            generalize iter (acS s d a b bk) 0 k M = N at *
            unfold acS
            rw [e27, if_neg ((hD k (by omega)).mp cb), hvv, e52, e58, e28, e57, e1, e27]
          have nxt : ∀ (A6 : AH) (V6 : CW), St nC nS A6 V6 → IV V5 V6 → CX V6 ad (acS s d a b bk k (iter (acS s d a b bk) 0 k M)) → xi V6 761 = xi V5 761 → Res (g (nI (k + 1)) A6) (Nx nC nS V ad (iter (acS s d a b bk) 0 ls.length M)) := by
            intro A6 V6 s6 i6 c6 hb6
            refine hg (k + 1) A6 V6 (by omega) s6 (i5.tr i6) ?_ (hb6.trans hb5)
            rw [iter_last, Nat.zero_add]
            exact c6
          rw [hac] at nxt
          refine Res.b (u4 k l hl1) (Res.b (s5.cs (cp5.2.2.2.kk hl2)) (Res.b (wg5 s5 hx5) (Res.b (gF s5 cp5.2.2.2 cp5.1 0 (by decide) rfl (by decide) rfl) (Res.b (wg0 s5 hx5) ?_))))
          rw [show (iter (acS s d a b bk) 0 k M).1 (nmF (700 + 0)) = M.1 1 from e1, e57, e52]
          obtain ⟨o, ho1, ho2⟩ := xor_lt k (by omega) (M.1 57) (P 6) hP6b hP6
          rw [← cp.2.2.2.2.2.2.2.2.2.2.2.2.1.1] at ho2
          have ho3 : nN (nI k ^^^ (M.1 57 &&& (M.1 1 - 1))) = o := by rw [ho2]; exact nN_nI (by omega)
          rcases hop with e | e | e | e
          · rw [if_pos e]
            rw [if_neg (by rw [e]; decide)] at nxt
            have hv : y11 = if M.1 58 = 1 then 1 else 0 := by
              rw [h70 e, hy11]
              split <;> rfl
            obtain ⟨y, A6, g6, e6, s6, c6⟩ := cp5.wp s5 hl2 y11 (by rw [hy11]; split; exact Or.inl rfl; exact Or.inr rfl)
            refine Res.b g6 (Res.b (wg1 s5 hx5) ?_)
            rw [and3]
            refine Res.b e6 (nxt _ _ s6 (IV.vI (Or.inr (Or.inr (Or.inl rfl)))) ?_ (vI_761 (by decide)))
            rw [← hv]
            exact c6
          · rw [if_neg (by rw [e]; decide), if_pos e]
            rw [if_neg (by rw [e]; decide)] at nxt
            have hv : y14 = if M.1 58 = 1 then 1 else 0 := by
              rw [h71 e, hy14]
              split <;> rfl
            obtain ⟨y, A6, g6, e6, s6, c6⟩ := cp5.wp s5 hl2 y14 (by rw [hy14]; split; exact Or.inr rfl; exact Or.inl rfl)
            refine Res.b g6 (Res.b (wg1 s5 hx5) ?_)
            rw [and3]
            refine Res.b e6 (nxt _ _ s6 (IV.vI (Or.inr (Or.inr (Or.inl rfl)))) ?_ (vI_761 (by decide)))
            rw [← hv]
            exact c6
          · rw [if_neg (by rw [e]; decide), if_neg (by rw [e]; decide)]
            rw [if_pos (by rw [e]; decide), if_pos e] at nxt
            obtain ⟨y, A6, g6, e6, s6, c6⟩ := cp5.wr s5 hl2 (r := d) (M.1 58) hd
            refine Res.b g6 (Res.b ((wg1 s5 hx5).trans (congrArg some (e53.trans h53))) ?_)
            rw [jn_eq, if_pos e, ← h72 e]
            exact Res.b e6 (nxt _ _ s6 (IV.vI (Or.inl (by decide))) c6 (vI_761 (by decide)))
          · rw [if_neg (by rw [e]; decide), if_neg (by rw [e]; decide)]
            rw [if_pos (by rw [e]; decide), if_neg (by rw [e]; decide), ho3] at nxt
            obtain ⟨y, A6, g6, e6, s6, c6⟩ := cp5.wr s5 hl2 (r := d) (if M.2.1 27 o = 0 then M.2.1 28 k else M.2.1 28 o) hd
            refine Res.b g6 (Res.b ((wg1 s5 hx5).trans (congrArg some (e53.trans h53))) ?_)
            rw [jn_eq, if_neg (by rw [e]; decide)]
            have hk5 : kdV V5 (P 1) = 8 := by rw [kdV, i5.1]; exact hmk
            have yb1' : xr V5 711 (P 1) 0 = some yb := by rw [i5.2.1.1]; exact yb1
            have yb2' : fr V5 yb = none := by rw [i5.eq]; exact yb2
            have yb3' : xn V5 711 (P 1) = P 6 := by rw [i5.eq]; exact yb3
            refine Res.b ((s5.gr 11 (c := 7) hk5 (by decide) rfl).trans (congrArg some yb1')) ?_
            have rd : ∀ j, j < ls.length → aI A5 (some yb) (nI j) = some (M.2.1 28 j) := by
              intro j hj
              refine (s5.ai j (c := 7) (k := 11) hk5 rfl yb1' yb2' (by show j < xn V5 711 (P 1); omega) (by omega)).trans (congrArg some ?_)
              show xi V5 761 (P 1) j = _
              rw [hb5, hbf j hj, h73 e j hj]
            rw [jn_eq, ho2]
            by_cases co : bt D o = true
            · rw [if_pos ((bitP_bt _ ho1).mpr co)]
              rw [if_neg ((hD o ho1).mp co)] at e6 s6 c6 nxt
              exact Res.b (rd o (hDl o ho1 co)) (Res.b e6 (nxt _ _ s6 (IV.vI (Or.inl (by decide))) c6 (vI_761 (by decide))))
            · rw [if_neg (fun z => co ((bitP_bt _ ho1).mp z))]
              have c0 : M.2.1 27 o = 0 := Classical.byContradiction fun z => co ((hD o ho1).mpr z)
              rw [if_pos c0] at e6 s6 c6 nxt
              exact Res.b (rd k (by omega)) (Res.b e6 (nxt _ _ s6 (IV.vI (Or.inl (by decide))) c6 (vI_761 (by decide))))
        · have cbf : bt D k = false := by cases hh : bt D k with
            | false => rfl
            | true => exact absurd hh cb
          rw [if_pos ((bit0_bt _ (by omega)).mpr cbf)]
          refine hg (k + 1) A5 V5 (by omega) s5 i5 ?_ hb5
          rw [iter_last, Nat.zero_add]
          have e27 := hfrk.2.1 27 (by decide)
          have c0 : M.2.1 27 k = 0 := Classical.byContradiction fun z => cb ((hD k (by omega)).mpr z)
          generalize iter (acS s d a b bk) 0 k M = N at *
          unfold acS
          rw [e27, if_pos c0]
          exact c5
      · intro g hg
        exact hg 0 A4 V4 (by omega) s4 i4 c4 rfl
    by_cases c0 : cn ≤ 0
    · rw [if_pos c0]
      refine Res.b (e16_bitCount D A4) ?_
      rw [jn_eq]
      by_cases ce : cn = nI (cnB (bt D) 32)
      · rw [if_pos ce]
        exact loop2 0 1 (by rw [if_pos c0]) (by rw [if_pos ce])
      · rw [if_neg ce]
        exact loop2 0 0 (by rw [if_pos c0]) (by rw [if_neg ce])
    · rw [if_neg c0]
      refine Res.b (e16_bitCount D A4) ?_
      rw [jn_eq]
      by_cases ce : cn = nI (cnB (bt D) 32)
      · rw [if_pos ce]
        exact loop2 1 1 (by rw [if_neg c0]) (by rw [if_pos ce])
      · rw [if_neg ce]
        exact loop2 1 0 (by rw [if_neg c0]) (by rw [if_neg ce])
  · intro d' g hg k A4 V4 hk s4 i4 c4 hbf
    obtain ⟨u1, u2, u3, u4⟩ := wlx s4 i4.b hwk hxl hli
    refine Res.b u1 (Res.b u2 (Res.b u3 ?_))
    rw [if_neg (c_nle (by omega) (by omega))]
    obtain ⟨l, hl1, hl2, hl3⟩ := hlane k (by omega)
    have cp4 := cp.nx i4 c4 ⟨rfl, rfl, rfl, rfl, rfl⟩
    have hx4 := hx.io i4
    obtain ⟨y, gy, ry, _⟩ := cp4.rg s4 hl2
    have hk4 : kdV V4 (P 1) = 8 := by rw [kdV, i4.1]; exact hmk
    have yb1' : xr V4 711 (P 1) 0 = some yb := by rw [i4.2.1.1]; exact yb1
    have yb2' : fr V4 yb = none := by rw [i4.eq]; exact yb2
    have yb3' : xn V4 711 (P 1) = P 6 := by rw [i4.eq]; exact yb3
    refine Res.b (u4 k l hl1) (Res.b (s4.cs (cp4.2.2.2.kk hl2)) (Res.b ((s4.gr 11 (c := 7) hk4 (by decide) rfl).trans (congrArg some yb1')) (Res.b gy (Res.b ((wg2 s4 hx4).trans (congrArg some h54)) (Res.b (ry a ha) ?_)))))
    obtain ⟨A5, e5, s5⟩ := s4.si k (rgV M (32 * s + k) a) (c := 7) (k := 11) hk4 rfl yb1' yb2' (by show k < xn V4 711 (P 1); omega) (by omega)
    refine Res.b e5 ?_
    have i5 : IV V4 (vI' V4 761 (P 1) k (rgV M (32 * s + k) a)) := IV.vS (Or.inl rfl)
    have c5 : CX (vI' V4 761 (P 1) k (rgV M (32 * s + k) a)) ad M := c4.vIo cd_761
    have cp5 := cp4.nx i5 c5 ⟨rfl, rfl, rfl, rfl, rfl⟩
    have hx5 := hx4.io i5
    have hb5 : ∀ j, j < k + 1 → xi (vI' V4 761 (P 1) k (rgV M (32 * s + k) a)) 761 (P 1) j = rgV M (32 * s + j) a := by
      intro j hj
      rw [vIi]
      by_cases e : j = k
      · rw [if_pos ⟨rfl, rfl, e⟩, e]
      · rw [if_neg (fun z => e z.2.2)]
        exact hbf j (by omega)
    have nxt := hg (k + 1) A5 _ (by omega) s5 (i4.tr i5) c5 hb5
    rw [jn_eq, jn_eq, nI_1]
    have hcs : cnB (voF M s D) (k + 1) = cnB (voF M s D) k + (if voF M s D k then 1 else 0) := rfl
    by_cases cb : bt D k = true
    · rw [if_pos ((bitP_bt _ (by omega)).mpr cb)]
      obtain ⟨z, gz, rz, _⟩ := cp5.pd s5 hl2
      refine Res.b gz (Res.b (wg2 s5 hx5) ?_)
      rw [and3]
      refine Res.b (rz _ (lo2_lt _)) ?_
      by_cases cp1 : bitP (M.2.1 14 (32 * s + k)) (lo2 (M.1 54))
      · rw [if_neg (by rw [b2i_0]; exact not_not_intro cp1)]
        show Res (g (nI (cnB (voF M s D) k) + 1) (nI (k + 1)) A5) _
        rw [nI_1]
        have hv : voF M s D k = true := by unfold voF; rw [cb, Bool.true_and]; exact decide_eq_true cp1
        rw [hcs, if_pos hv] at nxt
        exact nxt
      · rw [if_pos (by rw [b2i_0]; exact cp1)]
        show Res (g (nI (cnB (voF M s D) k) + 0) (nI (k + 1)) A5) _
        rw [Int32.add_zero]
        have hv : ¬ voF M s D k = true := by unfold voF; rw [cb, Bool.true_and]; simp only [decide_eq_true_eq]; exact cp1
        rw [hcs, if_neg hv] at nxt
        exact nxt
    · rw [if_neg (fun z => cb ((bitP_bt _ (by omega)).mp z))]
      show Res (g (nI (cnB (voF M s D) k) + 0) (nI (k + 1)) A5) _
      rw [Int32.add_zero]
      have hv : ¬ voF M s D k = true := by
        unfold voF
        intro z
        rw [Bool.and_eq_true] at z
        exact cb z.1
      rw [hcs, if_neg hv] at nxt
      exact nxt
  · intro g hg
    exact hg 0 A V (by omega) h IV.rf cp.1 (fun j hj => by omega)
end C22
