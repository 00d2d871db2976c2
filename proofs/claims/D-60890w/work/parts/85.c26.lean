/-! C26: the cache; what is asked of the global memory -/
def stV4 (M : MS) (gt : Nat) : Int32 := if M.2.1 4 gt ≤ M.1 15 then M.1 15 else M.2.1 4 gt
def tmV (M : MS) (gt at_ ln : Nat) : Int32 := stV4 M gt + (if M.2.1 3 at_ = nI ln then 4 else 12)
def hit0 (M : MS) (gt at_ ln : Nat) : MS := mI (mI (mA (mA M 3 at_ (nI ln)) 4 gt (stV4 M gt + (if M.2.1 3 at_ = nI ln then 1 else 5))) 19 (M.1 19 + (if M.2.1 3 at_ = nI ln then 1 else 0))) 20 (M.1 20 + (if M.2.1 3 at_ = nI ln then 0 else 1))
theorem hitM_0 (M : MS) (gt at_ ln i : Nat) : hitM M gt at_ ln i = mA (hit0 M gt at_ ln) 25 i (tmV M gt at_ ln) := by
  unfold hitM hit0 tmV stV4
  by_cases c : M.2.1 3 at_ = nI ln
  · rw [if_pos c, if_pos c, if_pos c, if_pos c, if_pos c]
    rfl
  · rw [if_neg c, if_neg c, if_neg c, if_neg c, if_neg c]
    rfl
theorem cnt_mA {u : Nat} {many all : Int32} (X : MS) {j i : Nat} {v : Int32} (hj : j ≠ 8) : mA (cntM u many all X) j i v = cntM u many all (mA X j i v) := by
  unfold cntM
  have e8 : (mA X j i v).2.1 8 = X.2.1 8 := by rw [mA_a, if_neg (fun z => hj z.symm)]
  rw [e8]
  show mI (mI (mA (mA (mI X 16 _) 8 u _) j i v) 17 _) 18 _ = _
  rw [mA_comm _ _ _ _ _ (fun z => hj z.symm)]
  rfl
theorem mI_comm (M : MS) {a b : Nat} (v w : Int32) (h : a ≠ b) : mI (mI M a v) b w = mI (mI M b w) a v := by
  refine Prod.ext ?_ rfl
  funext c
  show (if c = b then w else if c = a then v else M.1 c) = (if c = a then v else if c = b then w else M.1 c)
  by_cases c1 : c = b
  · rw [if_pos c1, if_neg (fun z => h (z.symm.trans c1)), if_pos c1]
  · rw [if_neg c1, if_neg c1]
theorem cnt_mI {u : Nat} {many all : Int32} (X : MS) {k : Nat} {v : Int32} (h6 : k ≠ 16) (h7 : k ≠ 17) (h8 : k ≠ 18) : mI (cntM u many all X) k v = cntM u many all (mI X k v) := by
  have e16 : (mI X k v).1 16 = X.1 16 := by rw [mI_g, if_neg (fun z => h6 z.symm)]
  have e17 : (mI X k v).1 17 = X.1 17 := by rw [mI_g, if_neg (fun z => h7 z.symm)]
  have e18 : (mI X k v).1 18 = X.1 18 := by rw [mI_g, if_neg (fun z => h8 z.symm)]
  unfold cntM
  rw [mI_comm _ _ _ (fun z => h8 z.symm), mI_comm _ _ _ (fun z => h7 z.symm), e16, e17, e18]
  show mI (mI (mA (mI (mI X 16 (X.1 16 + 1)) k v) 8 u _) 17 _) 18 _ = _
  rw [mI_comm X _ v (fun z => h6 z.symm)]
  rfl
section C26
variable {nC nS n : Nat} {A : AH} {V V' : CW} {E : EL} {ad : AA} {M N : MS} {P : PP} {co Bk b1 b2 : Nat}
/-- codes of the cache -/
def caC (d : Nat) : Prop := d = 1050 ∨ d = 1001 ∨ d = 901 ∨ d = 902
theorem e9_ask (h : St nC nS A V) (cp : CP V E ad N P) {ln : Nat} (hln : ln < 512) (hG : 1 ≤ P 9) : Res (fX9_ask (P 5) (nI ln) (N.1 15) A) (fun r => r.1 = tmV N (ln % P 9) (4 * (ln % P 9) + ln / P 9 % 4) ln ∧ ∃ V', St nC nS r.2 V' ∧ IV V V' ∧ CX V' ad (hit0 N (ln % P 9) (4 * (ln % P 9) + ln / P 9 % 4) ln) ∧ ∀ d, ¬ caC d → xi V' d = xi V d) := by
  obtain ⟨hc, hg, hw, hs⟩ := cp
  have hG8 := hs.2.2.2.2.2.2.2.2.1.2.2.2.1
  have hca : ad 9 0 = some (P 5) := hs.2.2.1.1.2.2.2.2.2
  have hck := hs.kk hca
  obtain ⟨gl, cap, hx, hli⟩ := hw.li hg (c := 9) (k := 0) (e := 10) hck rfl
  have hlen : (lt V E 9 0 (P 5)).length = P 9 := hs.2.2.2.1.2.2.2.1
  have hgt : ln % P 9 < P 9 := Nat.mod_lt _ (by omega)
  obtain ⟨g, hgg⟩ : ∃ g, (lt V E 9 0 (P 5))[ln % P 9]? = some g := ⟨_, List.getElem?_eq_getElem (by omega)⟩
  have hadg : ad 10 (ln % P 9) = some g := by rw [← hs.2.2.2.1.2.2.2.2]; exact hgg
  have hgk := hs.kk hadg
  obtain ⟨y, y1, y2, y3⟩ := hw.1 g 10 0 hgk (by decide)
  have y3 : xn V 1000 g = 4 := y3
  have hp4 : ln / P 9 % 4 < 4 := Nat.mod_lt _ (by decide)
  have hsz := L_size h hli
  rw [hlen] at hsz
  unfold fX9_ask
  have hdz : dz (nI (P 9)) = some () := by
    unfold dz
    rw [if_neg (nI_ne0 (by omega) (by omega))]
  refine Res.b ((h.gr 0 (c := 9) hck (by decide) rfl).trans (congrArg some hx)) (Res.b (h.rc hli.1) (Res.b hsz (Res.b hdz ?_)))
  rw [pk_rem (by omega) (by omega) (by omega)]
  have hdv : nI ln / nI (P 9) = nI (ln / P 9) := pk_div (by omega) (by omega) (by omega)
  have hr4 : nI (ln / P 9) - nI (ln / P 9) / 4 * 4 = nI (ln / P 9 % 4) := pk_rem (d := 4) (by have := Nat.div_le_self ln (P 9); omega) (by omega) (by omega)
  rw [hdv, hr4]
  have r3 : xi V 1050 g (ln / P 9 % 4) = N.2.1 3 (4 * (ln % P 9) + ln / P 9 % 4) := hc 1050 (ln % P 9) (ln / P 9 % 4) g (Or.inl (by decide)) hp4 hadg
  have r4 : xi V 1001 g 0 = N.2.1 4 (ln % P 9) := hc 1001 (ln % P 9) 0 g (Or.inl (by decide)) (by decide) hadg
  refine Res.b (L_get h hli hgg) (Res.b (h.cs hgk) (Res.b ((h.gi 1 (c := 10) hgk (by decide) rfl).trans (congrArg some r4)) (Res.b ((h.gr 0 (c := 10) hgk (by decide) rfl).trans (congrArg some y1)) (Res.b ((h.ai (ln / P 9 % 4) (c := 10) (k := 0) hgk rfl y1 y2 (by show _ < xn V 1000 g; omega) (by omega)).trans (congrArg some r3)) ?_))))
  have hst : (if N.1 15 < N.2.1 4 (ln % P 9) then N.2.1 4 (ln % P 9) else N.1 15) = stV4 N (ln % P 9) := by
    unfold stV4
    by_cases c : N.1 15 < N.2.1 4 (ln % P 9)
    · rw [if_pos c, if_neg (Int32.not_le.mpr c)]
    · rw [if_neg c, if_pos (Int32.not_lt.mp c)]
  rw [hst]
  generalize hgt' : ln % P 9 = gt at *
  generalize hpp : ln / P 9 % 4 = pl at *
  obtain ⟨A12, e12, s12⟩ := h.si pl (nI ln) (c := 10) (k := 0) hgk rfl y1 y2 (by show _ < xn V 1000 g; omega) (by omega)
  have i12 : IV V (vI' V 1050 g pl (nI ln)) := IV.vI (Or.inl (by decide))
  have c12 : CX (vI' V 1050 g pl (nI ln)) ad (mA N 3 (4 * gt + pl) (nI ln)) := hc.setA (d := 1050) (k := gt) (i := pl) hs.1 (nI ln) (by decide) hp4 hadg
  have main : ∀ a1 a2 a3 a4 : Int32, Res ((pI A12 (some g) 10 1 (stV4 N gt + a1)).bind fun A15 => (gI A15 (some (P 5)) 9 1).bind fun v16 => (pI A15 (some (P 5)) 9 1 (v16 + a2)).bind fun A19 => (gI A19 (some (P 5)) 9 2).bind fun v20 => (pI A19 (some (P 5)) 9 2 (v20 + a3)).bind fun A23 => some ((stV4 N gt + a4), A23)) (fun r => r.1 = stV4 N gt + a4 ∧ ∃ V', St nC nS r.2 V' ∧ IV V V' ∧ CX V' ad (mI (mI (mA (mA N 3 (4 * gt + pl) (nI ln)) 4 gt (stV4 N gt + a1)) 19 (N.1 19 + a2)) 20 (N.1 20 + a3)) ∧ ∀ d, ¬ caC d → xi V' d = xi V d) := by
    intro a1 a2 a3 a4
    obtain ⟨A15, e15, s15⟩ := s12.pi 1 (stV4 N gt + a1) (c := 10) hgk (by decide) rfl
    have c15 : CX (vI' (vI' V 1050 g pl (nI ln)) 1001 g 0 (stV4 N gt + a1)) ad (mA (mA N 3 (4 * gt + pl) (nI ln)) 4 gt (stV4 N gt + a1)) := c12.setA (d := 1001) (k := gt) (i := 0) hs.1 _ (by decide) (by decide) hadg
    refine Res.b e15 (Res.b ((s15.gi 1 (c := 9) hck (by decide) rfl).trans (congrArg some (show _ = N.1 19 from c15 901 0 0 (P 5) (Or.inr (Or.inl (by decide))) (by decide) hca))) ?_)
    obtain ⟨A19, e19, s19⟩ := s15.pi 1 (N.1 19 + a2) (c := 9) hck (by decide) rfl
    have c19 := c15.setF (d := 901) hs.1 (N.1 19 + a2) (by decide) hca
    refine Res.b e19 (Res.b ((s19.gi 2 (c := 9) hck (by decide) rfl).trans (congrArg some (show _ = N.1 20 from c19 902 0 0 (P 5) (Or.inr (Or.inl (by decide))) (by decide) hca))) ?_)
    obtain ⟨A23, e23, s23⟩ := s19.pi 2 (N.1 20 + a3) (c := 9) hck (by decide) rfl
    have c23 := c19.setF (d := 902) hs.1 (N.1 20 + a3) (by decide) hca
    refine Res.b e23 (Res.r ⟨rfl, _, s23, ?_, c23, fun d hd => ?_⟩)
    · exact ((i12.tr (IV.vI (Or.inl (by decide)))).tr (IV.vI (Or.inr (Or.inl (by decide))))).tr (IV.vI (Or.inr (Or.inl (by decide))))
    · unfold caC at hd
      funext a i
      rw [vIi, if_neg (fun z => hd (by omega)), vIi, if_neg (fun z => hd (by omega)), vIi, if_neg (fun z => hd (by omega)), vIi, if_neg (fun z => hd (by omega))]
  unfold tmV hit0
  simp only [jn_eq]
  by_cases c : N.2.1 3 (4 * gt + pl) = nI ln
  · simp only [if_pos c]
    exact Res.b e12 (main 1 1 0 4)
  · simp only [if_neg c]
    exact Res.b e12 (main 5 0 1 12)
end C26
