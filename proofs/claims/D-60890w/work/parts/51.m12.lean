/-! M12: what is due is done -/
theorem one_frm (M : MS) (k : Nat) : frm [] [2, 13] M (z_one M k) := by
  unfold z_one oneA
  split
  · exact (frm.rf.mA (by decide)).mA (by decide)
  · exact frm.rf.mA (by decide)
theorem cpK_frm (M : MS) (t k : Nat) : frm [42] [2, 13, 19, 20, 21, 22, 23, 24] M (cpK M t k) :=
  (((((frm.rf.mA (by decide)).mA (by decide)).mA (by decide)).mA (by decide)).mA (by decide)).mA (by decide)
/-- from a place on, nothing of what is on its way has changed -/
def askEq (M M' : MS) (k : Nat) : Prop := ∀ j, k ≤ j → M'.2.1 19 j = M.2.1 19 j ∧ M'.2.1 20 j = M.2.1 20 j ∧ M'.2.1 21 j = M.2.1 21 j ∧ M'.2.1 22 j = M.2.1 22 j ∧ M'.2.1 23 j = M.2.1 23 j ∧ M'.2.1 24 j = M.2.1 24 j
theorem cpK_eq (M : MS) (t k : Nat) (h : t ≤ k) : askEq M (cpK M t k) (k + 1) := by
  intro j hj
  have e : j ≠ t := by omega
  exact ⟨pk_un e, pk_un e, pk_un e, pk_un e, pk_un e, pk_un e⟩
theorem pdS_frm (k : Nat) (c : Nat × MS) : frm [42] [2, 13, 19, 20, 21, 22, 23, 24] c.2 (pdS k c).2 := by
  unfold pdS
  split
  · exact frm.tr (M' := mI c.2 42 (if c.2.1 42 ≤ c.2.2.1 19 k then c.2.1 42 else c.2.2.1 19 k)) (frm.rf.mI (by decide)) (cpK_frm _ _ _)
  · exact (one_frm c.2 k).up (fun k h => absurd h (List.not_mem_nil)) (fun k h => by simp only [List.mem_cons, List.not_mem_nil, or_false] at h ⊢; omega)
theorem pdS_eq (k : Nat) (c : Nat × MS) (h : c.1 ≤ k) : askEq c.2 (pdS k c).2 (k + 1) ∧ (pdS k c).1 ≤ k + 1 := by
  unfold pdS
  split
  · exact ⟨cpK_eq (mI c.2 42 (if c.2.1 42 ≤ c.2.2.1 19 k then c.2.1 42 else c.2.2.1 19 k)) c.1 k h, by show c.1 + 1 ≤ k + 1; omega⟩
  · have f := one_frm c.2 k
    refine ⟨fun j hj => ⟨?_, ?_, ?_, ?_, ?_, ?_⟩, by show c.1 ≤ k + 1; omega⟩
    · show (z_one c.2 k).2.1 19 j = _
      rw [f.a 19]
    · show (z_one c.2 k).2.1 20 j = _
      rw [f.a 20]
    · show (z_one c.2 k).2.1 21 j = _
      rw [f.a 21]
    · show (z_one c.2 k).2.1 22 j = _
      rw [f.a 22]
    · show (z_one c.2 k).2.1 23 j = _
      rw [f.a 23]
    · show (z_one c.2 k).2.1 24 j = _
      rw [f.a 24]
theorem askEq.tr {M M' M'' : MS} {k k' : Nat} (h : askEq M M' k) (h2 : askEq M' M'' k') (hk : k ≤ k') : askEq M M'' k' := by
  intro j hj
  obtain ⟨a1, a2, a3, a4, a5, a6⟩ := h j (by omega)
  obtain ⟨b1, b2, b3, b4, b5, b6⟩ := h2 j hj
  exact ⟨b1.trans a1, b2.trans a2, b3.trans a3, b4.trans a4, b5.trans a5, b6.trans a6⟩
section M12
variable {B : AH} {ao : Nat} {M : MS} {n : Nat}
theorem e_doOne (k : Nat) (hk : k < 32768) (ho : okA M k) : fX11_doOne ao (nI k) (mk B ao M) = some (mk B ao (z_one M k)) := by
  obtain ⟨x, w, q, h21, hx, h20, hw, h22, hq⟩ := ho
  unfold fX11_doOne z_one nN
  rw [h21, h20, h22, nI_clamp hx, nI_clamp hw, nI_clamp (show q < 2 ^ 31 by omega)]
  have e16 : nI x / (16 : Int32) = nI (x / 16) := by rw [l16]; exact pk_div hx (by omega) (by omega)
  have r16 : nI x - nI x / (16 : Int32) * (16 : Int32) = nI (x % 16) := by rw [l16]; exact pk_rem hx (by omega) (by omega)
  have e32 : nI w / (32 : Int32) = nI (w / 32) := by rw [l32]; exact pk_div hw (by omega) (by omega)
  have r32 : nI w - nI w / (32 : Int32) * (32 : Int32) = nI (w % 32) := by rw [l32]; exact pk_rem hw (by omega) (by omega)
  have e128 : nI (w / 32) / (128 : Int32) = nI (w / 32 / 128) := by rw [l128]; exact pk_div (by omega) (by omega) (by omega)
  have r128 : nI (w / 32) - nI (w / 32) / (128 : Int32) * (128 : Int32) = nI (w / 32 % 128) := by rw [l128]; exact pk_rem (by omega) (by omega) (by omega)
  refine ob mg45 (ob ((ma21 k hk).trans (by rw [h21])) (ob mg8 (ob mg46 (ob ((ma22 k hk).trans (by rw [h22])) (ob (ma2 q (by omega)) (ob mg47 (ob (ma23 k hk) (ob mg48 (ob (ma24 k hk) (ob (e_left _ _ _ _ _) (ob (ms2 q (by omega)) (ob mg44 (ob ((ma20 k hk).trans (show _ = some (nI w) from congrArg some h20)) ?_)))))))))))))
  rw [e16, jn_eq]
  unfold oneA
  by_cases c51 : nI (x / 16) = 51
  · rw [if_pos c51, if_neg (fun z => z.1 c51)]
  · rw [if_neg c51]
    refine ob mg31 ?_
    rw [e32, r128, e128]
    refine ob (ma9 (w / 32 % 128) (by omega)) ?_
    by_cases c9 : M.2.1 9 (w / 32 % 128) = nI (w / 32 / 128)
    · rw [if_pos (show (mA M 2 q _).2.1 9 _ = _ from c9), if_pos ⟨c51, c9⟩]
      have e2 : (16 : Int32) * nI (32 * (w / 32 % 128) + w % 32) + nI (x % 16) = nI (16 * (32 * (w / 32 % 128) + w % 32) + x % 16) := by rw [l16, pk_mul, nI_add]
      have hb1 : x % 16 < 16 := Nat.mod_lt _ (by omega)
      have hb2 : w % 32 < 32 := Nat.mod_lt _ (by omega)
      have hb3 : w / 32 % 128 < 128 := Nat.mod_lt _ (by omega)
      have r32' : nI w - nI (w / 32) * (32 : Int32) = nI (w % 32) := by rw [← e32]; exact r32
      rw [r32']
      refine ob mg35 (ob (e_thread _ _) (ob mg45 (ob ((ma21 k hk).trans (show _ = some (nI x) from congrArg some h21)) ?_)))
      rw [r16, e2]
      exact ob (ms13 _ (by omega)) rfl
    · rw [if_neg (show ¬ (mA M 2 q _).2.1 9 _ = _ from c9), if_neg (fun z => c9 z.2)]
theorem e_doPending (P : Nat) (hP : P ≤ 32767) (h41 : M.1 41 = nI P) (ho : ∀ k, k < P → okA M k) (hn : P < n) : fX11_doPending n ao (mk B ao M) = some (mk B ao (z_pend M P)) := by
  unfold fX11_doPending z_pend
  refine ob mg42 (ob mg15 ?_)
  by_cases c : M.1 42 ≤ M.1 15
  · rw [if_pos c, if_pos c]
    refine ob mp42 ?_
    refine jl_fix (fun d g => ∀ (k : Nat) (c : Nat × MS), k + d = P → c.1 ≤ k → frm [42] [2, 13, 19, 20, 21, 22, 23, 24] M c.2 → askEq M c.2 k → g (nI c.1) (nI k) (mk B ao c.2) = some (mk B ao (pdE (iter pdS k d c)))) P hn ?_ ?_ ?_
    · intro g k c hk hc hf _
      obtain rfl : k = P := by omega
      refine ob mg41 ?_
      rw [hf.f 41, h41, if_pos (c_le (Nat.le_refl _) (by omega))]
      exact ob mp41 rfl
    · intro d g hg k c hk hc hf he
      obtain ⟨e1, e2⟩ := pdS_eq k c hc
      refine Eq.trans ?_ (hg (k + 1) (pdS k c) (by omega) e2 (hf.tr (pdS_frm k c)) (he.tr e1 (by omega)))
      obtain ⟨a1, a2, a3, a4, a5, a6⟩ := he k (Nat.le_refl _)
      refine ob mg41 ?_
      rw [hf.f 41, h41, if_neg (c_nle (by omega) (by omega)), nI_1]
      refine ob mg43 (ob (ma19 k (by omega)) (ob mg15 ?_))
      rw [jn_eq]
      unfold pdS
      by_cases cl : c.2.1 15 < c.2.2.1 19 k
      · rw [if_pos cl, if_pos cl]
        refine ob mg42 (jn_v (if c.2.1 42 ≤ c.2.2.1 19 k then c.2.1 42 else c.2.2.1 19 k) (fun j => ap_ite _ _ _ _) ?_)
        have hc2 : c.1 < 32768 := by omega
        have hk2 : k < 32768 := by omega
        refine ob mp42 (ob mg43 (ob (ma19 k hk2) (ob (ms19 _ hc2) (ob mg44 (ob (ma20 k hk2) (ob (ms20 _ hc2) (ob mg45 (ob (ma21 k hk2) (ob (ms21 _ hc2) (ob mg46 (ob (ma22 k hk2) (ob (ms22 _ hc2) (ob mg47 (ob (ma23 k hk2) (ob (ms23 _ hc2) (ob mg48 (ob (ma24 k hk2) (ob (ms24 _ hc2) ?_))))))))))))))))))
        rw [nI_1]
        rfl
      · rw [if_neg cl, if_neg cl]
        obtain ⟨x, w, q, h21, hx, h20, hw, h22, hq⟩ := ho k (by omega)
        exact ob mrcv (ob (e_doOne k (by omega) ⟨x, w, q, a3.trans h21, hx, a2.trans h20, hw, a4.trans h22, hq⟩) rfl)
    · intro g hg
      exact hg 0 (0, mI M 42 2147483647) (by omega) (by omega) (frm.rf.mI (by decide)) (fun j _ => ⟨rfl, rfl, rfl, rfl, rfl, rfl⟩)
  · rw [if_neg c, if_neg c]
end M12
