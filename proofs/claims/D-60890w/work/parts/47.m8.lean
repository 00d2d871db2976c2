/-! M8: a lane's part of a word; how long words take -/
def cmpI (M : MS) (x y : Int32) : Int32 := if M.1 52 = 30 then (if y ≤ x then 0 else 1) else if M.1 52 = 31 then (if x = y then 1 else 0) else if M.1 52 = 32 then (if M.1 57 ≤ x then 0 else 1) else (if x = M.1 57 then 1 else 0)
def prdI (M : MS) (t : Nat) : Int32 := if M.1 52 = 34 then (if hasP M t (M.1 54) ∧ hasP M t (M.1 55) then 1 else 0) else if M.1 52 = 35 then (if hasP M t (M.1 54) ∨ hasP M t (M.1 55) then 1 else 0) else (if hasP M t (M.1 54) then 0 else 1)
def z_act (M : MS) (s i : Nat) (old : Int32) (d a b p bk q o : Nat) : MS :=
  if M.1 52 = 0 then mA M 16 (32 * s + i) 1 else if M.1 52 = 1 then mA M 17 (32 * s + i) 1 else
  if M.1 52 = 2 then mA M 13 (16 * (32 * s + i) + d) (M.1 57) else if M.1 52 = 3 then mA M 13 (16 * (32 * s + i) + d) (toldV M s i) else
  if 21 < M.1 52 then (if 33 < M.1 52 then (if 36 < M.1 52 then (if 42 < M.1 52 then
    (if memP M ∧ ¬ shP M then z_ask M s i p bk (askV M s a i) (rgV M (32 * s + i) b) (rgV M (32 * s + i) d) else
     if 59 < M.1 52 then (if 71 < M.1 52 then mA M 13 (16 * (32 * s + i) + d) (if M.1 52 = 72 then M.1 58 else (if M.2.1 27 o = 0 then M.2.1 28 i else M.2.1 28 o)) else z_say M (32 * s + i) (if M.1 58 = 1 then 1 else 0)) else
     z_touch M (16 * (32 * s + i) + d) (64 * bk + q) (rgV M (32 * s + i) b))
    else z_jump M (32 * s + i) (16 * (32 * s + i) + d) (rgV M (32 * s + i) a) old) else z_say M (32 * s + i) (prdI M (32 * s + i))) else z_say M (32 * s + i) (cmpI M (rgV M (32 * s + i) a) (rgV M (32 * s + i) b)))
  else mA M 13 (16 * (32 * s + i) + d) (rckV M (rgV M (32 * s + i) a) (rgV M (32 * s + i) b) (32 * s + i))
section M8
variable {B : AH} {ao : Nat} {M : MS} {n : Nat}
set_option maxHeartbeats 4000000 in
theorem e_act (s i d a b p bk q o : Nat) (old : Int32) (hs : s < 128) (hi : i < 32) (hd : d < 16) (ha : a < 16) (hb : b < 16) (h53 : M.1 53 = nI d) (h54 : M.1 54 = nI a) (h55 : M.1 55 = nI b)
    (hdv : (M.1 52 = 7 ∨ M.1 52 = 8) → ¬ rgV M (32 * s + i) b = 0) (hmem : memP M → M.2.1 9 s = nI bk ∧ bk < 64) (hsh : shP M → askV M s a i = nI q ∧ q < 64) (hpd : memP M ∧ ¬ shP M → M.1 41 = nI p ∧ p < 32768) (hfr : 71 < M.1 52 ∧ ¬ M.1 52 = 72 → nI i ^^^ (M.1 57 &&& (M.1 1 - 1)) = nI o ∧ o < 32) (hop : 42 < M.1 52 ∧ ¬ 59 < M.1 52 → memP M) :
    fX11_act ao (nI s) (nI i) (nI (32 * s + i)) old (mk B ao M) = some (mk B ao (z_act M s i old d a b p bk q o)) := by
  have ht : 32 * s + i < 4096 := by omega
  have hto : (16 : Int32) * nI (32 * s + i) + nI d = nI (16 * (32 * s + i) + d) := by rw [l16, pk_mul, nI_add]
  have hto2 : 16 * (32 * s + i) + d < 65536 := by omega
  have hra : M.2.1 13 (16 * (32 * s + i) + a) = rgV M (32 * s + i) a := rfl
  have hrb : M.2.1 13 (16 * (32 * s + i) + b) = rgV M (32 * s + i) b := rfl
  have hrd : M.2.1 13 (16 * (32 * s + i) + d) = rgV M (32 * s + i) d := rfl
  have hav : rgV M (32 * s + i) a + M.1 57 = askV M s a i := rfl
  unfold fX11_act
  refine ob (mg54.trans (by rw [h54])) (ob mrcv (ob ((e_reg (32 * s + i) a (by omega)).trans (by rw [hra])) (ob (mg55.trans (by rw [h55])) (ob ((e_reg (32 * s + i) b (by omega)).trans (by rw [hrb])) (ob (mg53.trans (by rw [h53])) (ob mg52 ?_))))))
  rw [jn_eq]
  unfold z_act
  by_cases c0 : M.1 52 = 0
  · rw [if_pos c0, if_pos c0]
    exact ob mg38 (ob (ms16 (32 * s + i) ht) rfl)
  rw [if_neg c0, if_neg c0]
  by_cases c1 : M.1 52 = 1
  · rw [if_pos c1, if_pos c1]
    exact ob mg39 (ob (ms17 (32 * s + i) ht) rfl)
  rw [if_neg c1, if_neg c1]
  by_cases c2 : M.1 52 = 2
  · rw [if_pos c2, if_pos c2, hto]
    exact ob mg35 (ob mg57 (ob (ms13 _ hto2) rfl))
  rw [if_neg c2, if_neg c2]
  by_cases c3 : M.1 52 = 3
  · rw [if_pos c3, if_pos c3, hto]
    exact ob mg35 (ob (e_told s i hs) (ob (ms13 _ hto2) rfl))
  rw [if_neg c3, if_neg c3]
  by_cases c21 : 21 < M.1 52
  · rw [if_pos c21, if_pos c21]
    by_cases c33 : 33 < M.1 52
    · rw [if_pos c33, if_pos c33]
      by_cases c36 : 36 < M.1 52
      · rw [if_pos c36, if_pos c36]
        by_cases c42 : 42 < M.1 52
        · rw [if_pos c42, if_pos c42]
          refine ob e_isMemory ?_
          rw [jn_eq]
          have hrest : (if (59 : Int32) < M.1 52 then (if (71 : Int32) < M.1 52 then ((gR (mk B ao M) (some ao) 11 35).bind fun v32 =>
              jn (fun (y34 : Int32) =>
              (sI (mk B ao M) v32 (((16 : Int32) * nI (32 * s + i)) + nI d) y34).bind fun A35 =>
              some A35) fun j33 =>
              if M.1 52 = (72 : Int32) then ((gI (mk B ao M) (some ao) 11 58).bind fun v37 =>
              j33 v37) else
              (fX11_from ao (nI i) (mk B ao M)).bind fun g38 =>
              j33 g38) else
              (gI (mk B ao M) (some ao) 11 58).bind fun v39 =>
              jn (fun (y41 : Int32) =>
              (fX11_say ao (nI (32 * s + i)) y41 (mk B ao M)).bind fun g42 =>
              some g42) fun j40 =>
              if v39 = (1 : Int32) then (j40 (1 : Int32)) else
              j40 (0 : Int32)) else
              (gI (mk B ao M) (some ao) 11 57).bind fun v44 =>
              (fX11_touch ao (nI s) (((16 : Int32) * nI (32 * s + i)) + nI d) (rgV M (32 * s + i) a + v44) (rgV M (32 * s + i) b) (mk B ao M)).bind fun g45 =>
              some g45) = some (mk B ao (if 59 < M.1 52 then (if 71 < M.1 52 then mA M 13 (16 * (32 * s + i) + d) (if M.1 52 = 72 then M.1 58 else (if M.2.1 27 o = 0 then M.2.1 28 i else M.2.1 28 o)) else z_say M (32 * s + i) (if M.1 58 = 1 then 1 else 0)) else
     z_touch M (16 * (32 * s + i) + d) (64 * bk + q) (rgV M (32 * s + i) b))) ∨ (memP M ∧ ¬ shP M) := by
            by_cases c59 : 59 < M.1 52
            · left
              rw [if_pos c59, if_pos c59]
              by_cases c71 : 71 < M.1 52
              · rw [if_pos c71, if_pos c71, hto]
                by_cases c72 : M.1 52 = 72
                · refine ob mg35 ?_
                  rw [jn_eq, if_pos c72, if_pos c72]
                  exact ob mg58 (ob (ms13 _ hto2) rfl)
                · refine ob mg35 ?_
                  rw [jn_eq, if_neg c72, if_neg c72]
                  exact ob (e_from i o hi (hfr ⟨c71, c72⟩).2 (hfr ⟨c71, c72⟩).1) (ob (ms13 _ hto2) rfl)
              · rw [if_neg c71, if_neg c71]
                refine ob mg58 ?_
                by_cases c1v : M.1 58 = 1
                · rw [jn_eq, if_pos c1v, if_pos c1v]
                  exact ob (e_say _ 1 ht) rfl
                · rw [jn_eq, if_neg c1v, if_neg c1v]
                  exact ob (e_say _ 0 ht) rfl
            · by_cases hs2 : shP M
              · left
                rw [if_neg c59, if_neg c59]
                refine ob mg57 ?_
                rw [hto, hav, (hsh hs2).1]
                exact ob (e_touch s _ bk q _ hs hto2 (hmem (hop ⟨c42, c59⟩)).1 (hmem (hop ⟨c42, c59⟩)).2 (hsh hs2).2) rfl
              · right
                exact ⟨hop ⟨c42, c59⟩, hs2⟩
          by_cases hm : memP M
          · by_cases hs2 : shP M
            · have hr := hrest.resolve_right (fun z => z.2 hs2)
              rw [if_neg (by rw [b2i_0]; exact not_not_intro hm)]
              refine ob e_isShared ?_
              rw [if_neg (by rw [b2i_0]; exact not_not_intro hs2), if_neg (show ¬ (memP M ∧ ¬ shP M) from fun z => z.2 hs2)]
              exact hr
            · rw [if_neg (by rw [b2i_0]; exact not_not_intro hm)]
              refine ob e_isShared ?_
              rw [if_pos (by rw [b2i_0]; exact hs2), if_pos ⟨hm, hs2⟩]
              refine ob mg57 (ob mg35 ?_)
              rw [hto, hav]
              exact ob ((ma13 _ hto2).trans (by rw [hrd])) (ob (e_ask s i p bk _ _ _ hs hi (hpd ⟨hm, hs2⟩).1 (hpd ⟨hm, hs2⟩).2 (hmem hm).1 (hmem hm).2) rfl)
          · have hr := hrest.resolve_right (fun z => hm z.1)
            rw [if_pos (by rw [b2i_0]; exact hm), if_neg (show ¬ (memP M ∧ ¬ shP M) from fun z => hm z.1)]
            exact hr
        · rw [if_neg c42, if_neg c42, hto]
          exact ob (e_jump _ _ _ old ht hto2) rfl
      · rw [if_neg c36, if_neg c36]
        refine jn_v (prdI M (32 * s + i)) (fun j => ?_) ?_
        · simp only [jn, prdI, e_has _ _ ht, Option.bind_some, b2i_0, ← h54, ← h55]
          repeat' split
          all_goals first | rfl | (exfalso; grind)
        · exact ob (e_say _ _ ht) rfl
    · rw [if_neg c33, if_neg c33]
      refine jn_v (cmpI M (rgV M (32 * s + i) a) (rgV M (32 * s + i) b)) (fun j => ?_) ?_
      · simp only [cmpI, mg57, Option.bind_some]
        repeat' split
        all_goals first | rfl | (exfalso; grind)
      · exact ob (e_say _ _ ht) rfl
  · rw [if_neg c21, if_neg c21, hto]
    exact ob mg35 (ob (e_reckon _ _ _ ht hdv) (ob (ms13 _ hto2) rfl))
end M8
