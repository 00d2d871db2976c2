/-! M14: a word goes, the whole of it -/
theorem doeS_frm (s i : Nat) (c : Int32 × Int32 × MS) : frm [] [27] c.2.2 (doeS s i c).2.2 := frm.rf.mA (by decide)
theorem goS_frm (s d a b bk i : Nat) (M : MS) : frm [41, 42] [13, 14, 15, 16, 17, 18, 19, 20, 21, 22, 23, 24] M (goS s d a b bk i M) := by
  unfold goS
  refine ite_P _ (fun _ => frm.rf) (fun _ => ite_P _ (fun _ => frm.rf.mA (by decide)) (fun _ => ?_))
  exact frm.tr (M' := mA M 15 (32 * s + i) (M.2.1 15 (32 * s + i) + 1)) (frm.rf.mA (by decide)) (act_frm _ _ _ _ _ _ _ _ _ _ _)
theorem goS_13 (s d a b bk i : Nat) (M : MS) : loc13 (16 * (32 * s + i) + d) M (goS s d a b bk i M) := by
  unfold goS
  refine ite_P (fun M' => loc13 (16 * (32 * s + i) + d) M M') (fun _ x hx => rfl) (fun _ => ite_P (fun M' => loc13 (16 * (32 * s + i) + d) M M') (fun _ x hx => rfl) (fun _ => ?_))
  exact act_13 (mA M 15 (32 * s + i) (M.2.1 15 (32 * s + i) + 1)) s i _ d a b _ bk _ _
theorem goS_41 (s d a b bk i : Nat) (M : MS) : (goS s d a b bk i M).1 41 = M.1 41 ∨ (goS s d a b bk i M).1 41 = M.1 41 + 1 := by
  unfold goS
  refine ite_P (fun M' : MS => M'.1 41 = M.1 41 ∨ M'.1 41 = M.1 41 + 1) (fun _ => Or.inl rfl) (fun _ => ite_P (fun M' : MS => M'.1 41 = M.1 41 ∨ M'.1 41 = M.1 41 + 1) (fun _ => Or.inl rfl) (fun _ => ?_))
  exact act_41 (mA M 15 (32 * s + i) (M.2.1 15 (32 * s + i) + 1)) s i _ d a b _ bk _ _
/-- the invariant of the lanes' loop -/
def goI (s p0 i : Nat) (M M' : MS) : Prop := frm [41, 42] [13, 14, 15, 16, 17, 18, 19, 20, 21, 22, 23, 24] M M' ∧ (∀ j, i ≤ j → ∀ r, r < 16 → M'.2.1 13 (16 * (32 * s + j) + r) = M.2.1 13 (16 * (32 * s + j) + r)) ∧ ∃ p, M'.1 41 = nI p ∧ p ≤ p0 + i
theorem goI_s {s p0 i d a b bk : Nat} {M M' : MS} (hd : d < 16) (h : goI s p0 i M M') : goI s p0 (i + 1) M (goS s d a b bk i M') := by
  obtain ⟨h1, h2, p, h3, h4⟩ := h
  refine ⟨h1.tr (goS_frm s d a b bk i M'), fun j hj r hr => ?_, ?_⟩
  · rw [goS_13 s d a b bk i M' (16 * (32 * s + j) + r) (by omega), h2 j (by omega) r hr]
  · rcases goS_41 s d a b bk i M' with e | e
    · exact ⟨p, e.trans h3, by omega⟩
    · exact ⟨p + 1, by rw [e, h3, nI_1], by omega⟩
section M14
variable {B : AH} {ao : Nat} {M : MS} {n : Nat}
set_option maxHeartbeats 4000000 in
theorem e_goL (s d a b bk L p0 : Nat) (hs : s < 128) (hL1 : 1 ≤ L) (hL : L ≤ 32) (hd : d < 16) (ha : a < 16) (hb : b < 16) (hbk : bk < 64) (hp0 : p0 + 32 ≤ 32767)
    (h1 : M.1 1 = nI L) (h53 : M.1 53 = nI d) (h54 : M.1 54 = nI a) (h55 : M.1 55 = nI b) (h9 : M.2.1 9 s = nI bk) (h41 : M.1 41 = nI p0) (hw : wrdP M) (hwhy : ∀ i, i < L → ¬ M.2.1 27 i = 0 → whyV M (32 * s + i) a b = 0)
    {i : Nat} {M' : MS} (hi : i < L) (hI : goI s p0 i M M') (c26 : ¬ M'.2.1 26 i = 0) (c27 : ¬ M'.2.1 27 i = 0) :
    fX11_act ao (nI s) (nI i) (nI (32 * s + i)) (M'.2.1 15 (32 * s + i)) (mk B ao (mA M' 15 (32 * s + i) (M'.2.1 15 (32 * s + i) + 1))) = some (mk B ao (goS s d a b bk i M')) := by
  obtain ⟨hf, hr, p, hp1, hp2⟩ := hI
  have hy := hwhy i hi (by rw [← hf.a 27]; exact c27)
  have hrg : ∀ r, r < 16 → rgV M' (32 * s + i) r = rgV M (32 * s + i) r := fun r hr2 => hr i (Nat.le_refl _) r hr2
  have h52 : M'.1 52 = M.1 52 := hf.f 52
  have hav : askV M' s a i = rgV M (32 * s + i) a + M.1 57 := by
    show rgV M' (32 * s + i) a + M'.1 57 = _
    rw [hrg a ha, hf.f 57]
  have hmm : memP M' → memP M := by rw [memP, memP, h52]; exact id
  have hss : shP M' → shP M := by rw [shP, shP, h52]; exact id
  have hww : wrdP M' := by rw [wrdP, h52, hf.f 57]; exact hw
  obtain ⟨o, ho1, ho2⟩ := xor_lt i (by omega) (M'.1 57) L hL hL1
  have ho3 : nI i ^^^ (M'.1 57 &&& (M'.1 1 - 1)) = nI o := by rw [hf.f 1, h1]; exact ho2
  have hgo : goS s d a b bk i M' = z_act (mA M' 15 (32 * s + i) (M'.2.1 15 (32 * s + i) + 1)) s i (M'.2.1 15 (32 * s + i)) d a b (nN (M'.1 41)) bk (nN (askV M' s a i)) (nN (nI i ^^^ (M'.1 57 &&& (M'.1 1 - 1)))) := by
    unfold goS
    rw [if_neg c26, if_neg c27]
  rw [hgo, hp1, nN_nI (show p < 2 ^ 31 by omega), ho3, nN_nI (show o < 2 ^ 31 by omega)]
  refine e_act s i d a b p bk _ o _ hs (by omega) hd ha hb ((hf.f 53).trans h53) ((hf.f 54).trans h54) ((hf.f 55).trans h55) ?_ ?_ ?_ ?_ ?_ ?_
  · intro h7
    show ¬ rgV M' (32 * s + i) b = 0
    rw [hrg b hb]
    exact why0_div hy (by rw [← h52]; exact h7)
  · intro _
    refine ⟨?_, hbk⟩
    show M'.2.1 9 s = nI bk
    rw [hf.a 9]
    exact h9
  · intro hsh
    have hs2 : shP M' := hsh
    have hm2 : memP M := by
      have := hss hs2
      rw [memP]
      rcases this with e | e | e | e <;> rw [e] <;> decide
    obtain ⟨q0, q1⟩ := why0_mem hy hm2
    rw [if_pos (hss hs2)] at q1
    obtain ⟨q, hq1, hq2⟩ := rngI (N := 64) q0 (by rw [← l64]; exact q1) (by omega)
    show askV M' s a i = nI (nN (askV M' s a i)) ∧ nN (askV M' s a i) < 64
    rw [hav, hq2, nN_nI (show q < 2 ^ 31 by omega)]
    exact ⟨rfl, hq1⟩
  · intro _
    exact ⟨hp1, by omega⟩
  · intro _
    exact ⟨ho3, ho1⟩
  · intro h2
    exact wrd_mem hww h2
end M14
section M14b
variable {B : AH} {ao : Nat} {M : MS} {n : Nat}
theorem wr_frm1 (s d : Nat) (t : Int32) (M : MS) : frm [] [11, 12] M (wr1 s d t M) := ite_P _ (fun _ => frm.rf.mA (by decide)) (fun _ => frm.rf)
theorem wr_frm2 (s : Nat) (t : Int32) (M : MS) : frm [] [11, 12] M (wr2 s t M) := ite_P _ (fun _ => frm.rf.mA (by decide)) (fun _ => frm.rf)
theorem wr_frm3 (s : Nat) (t : Int32) (M : MS) : frm [] [11, 12] M (wr3 s t M) := ite_P _ (fun _ => frm.rf.mA (by decide)) (fun _ => frm.rf)
theorem e_wrA (s d L : Nat) (t : Int32) (hs : s < 128) (hd : d < 16) (hL : L ≤ 32) (h1 : M.1 1 = nI L) (h53 : M.1 53 = nI d) (hn : 128 < n) :
    ((rcv (mk B ao M) (some ao) 11).bind fun v47 =>
      (fX11_writesD v47 (mk B ao M)).bind fun g48 =>
      jn (fun (A50 : AH) =>
      (rcv A50 (some ao) 11).bind fun v51 =>
      (fX11_writesPredicate v51 A50).bind fun g52 =>
      jn (fun (A54 : AH) =>
      (rcv A54 (some ao) 11).bind fun v55 =>
      (fX11_isMemory v55 A54).bind fun g56 =>
      jn (fun (A58 : AH) =>
      (gI A58 (some ao) 11 52).bind fun v59 =>
      jn (fun (A61 : AH) =>
      some A61) fun j60 =>
      if (2 : Int32) ≤ v59 then (j60 A58) else
      (gR A58 (some ao) 11 31).bind fun v63 =>
      (aI A58 v63 (nI s)).bind fun v64 =>
      (rcv A58 (some ao) 11).bind fun v65 =>
      (fX11_settle n v65 v64 A58).bind fun g66 =>
      j60 g66) fun j57 =>
      if g56 = 0 then (j57 A54) else
      (gR A54 (some ao) 11 33).bind fun v68 =>
      (gI A54 (some ao) 11 15).bind fun v69 =>
      (sI A54 v68 (nI s) (v69 + t)).bind fun A70 =>
      j57 A70) fun j53 =>
      if g52 = 0 then (j53 A50) else
      (gR A50 (some ao) 11 34).bind fun v72 =>
      (gI A50 (some ao) 11 53).bind fun v73 =>
      (gI A50 (some ao) 11 15).bind fun v74 =>
      (sI A50 v72 ((((20 : Int32) * nI s) + (16 : Int32)) + (v73 &&& (3 : Int32))) (v74 + t)).bind fun A75 =>
      j53 A75) fun j49 =>
      if g48 = 0 then (j49 (mk B ao M)) else
      (gR (mk B ao M) (some ao) 11 34).bind fun v77 =>
      (gI (mk B ao M) (some ao) 11 53).bind fun v78 =>
      (gI (mk B ao M) (some ao) 11 15).bind fun v79 =>
      (sI (mk B ao M) v77 (((20 : Int32) * nI s) + v78) (v79 + t)).bind fun A80 =>
      j49 A80) = some (mk B ao (wrA s d L t M)) := by
  refine ob mrcv (ob e_writesD ?_)
  refine jn_v (mk B ao (wr1 s d t M)) (fun j => ?_) ?_
  · unfold wr1
    by_cases c : wrD M
    · rw [if_pos c, if_neg (by rw [b2i_0]; exact not_not_intro c)]
      refine ob mg34 (ob (mg53.trans (by rw [h53])) (ob mg15 ?_))
      have e2 : (20 : Int32) * nI s + nI d = nI (20 * s + d) := by rw [l20, pk_mul, nI_add]
      rw [e2]
      exact ob (ms12 _ (by omega)) rfl
    · rw [if_neg c, if_pos (by rw [b2i_0]; exact c)]
  have f1 := wr_frm1 s d t M
  unfold wrA
  generalize wr1 s d t M = M1 at f1 ⊢
  refine ob mrcv (ob e_writesPredicate ?_)
  refine jn_v (mk B ao (wr2 s t M1)) (fun j => ?_) ?_
  · unfold wr2
    by_cases c : wrP M1
    · rw [if_pos c, if_neg (by rw [b2i_0]; exact not_not_intro c)]
      refine ob mg34 (ob mg53 (ob mg15 ?_))
      have e2 : (20 : Int32) * nI s + 16 + (M1.1 53 &&& 3) = nI (20 * s + 16 + lo2 (M1.1 53)) := by rw [and3, l20, l16, pk_mul, nI_add, nI_add]
      have := lo2_lt (M1.1 53)
      rw [e2]
      exact ob (ms12 _ (by omega)) rfl
    · rw [if_neg c, if_pos (by rw [b2i_0]; exact c)]
  have f2 := f1.tr (wr_frm2 s t M1)
  generalize wr2 s t M1 = M2 at f2 ⊢
  refine ob mrcv (ob e_isMemory ?_)
  refine jn_v (mk B ao (wr3 s t M2)) (fun j => ?_) ?_
  · unfold wr3
    by_cases c : memP M2
    · rw [if_pos c, if_neg (by rw [b2i_0]; exact not_not_intro c)]
      exact ob mg33 (ob mg15 (ob (ms11 _ hs) rfl))
    · rw [if_neg c, if_pos (by rw [b2i_0]; exact c)]
  have f3 := f2.tr (wr_frm3 s t M2)
  generalize wr3 s t M2 = M3 at f3 ⊢
  refine ob mg52 ?_
  unfold wr4
  rw [jn_eq]
  by_cases c : 2 ≤ M3.1 52
  · rw [if_pos c, if_pos c]
  · rw [if_neg c, if_neg c]
    exact ob mg31 (ob (ma9 s hs) (ob mrcv (ob (e_settle L _ hL ((f3.f 1).trans h1) hn) rfl)))
end M14b
