/-! I11: a word is made; what stays when a list of the mill changes -/
section I11
variable {nC nS n : Nat} {A A' : AH} {V V' : CW} {E E' : EL} {ad : AA} {M M' : MS} {P : PP} {T Bk b1 b2 n0 n1 n2 w x : Nat}
theorem e5_sortOf (h0 : gI A (some w) 5 0 = some (M.1 52)) (h5 : gI A (some w) 5 5 = some (M.1 57)) : fX5_sortOf w A = some (some (hA A (srt M))) := by
  unfold fX5_sortOf srt
  simp only [h0, h5, Option.bind_some, jn_eq, apply_ite (fun k : Nat => some (some (hA A k)))]
theorem e5_init (h : St nC nS A V) (hw : kdV V w = 6) (sj : SJ V) (M : MS) (v : Int64) : Res (fX5_init w v A) (fun A' => ∃ V', St nC nS A' V' ∧ LF V V' w ∧ WM V' w (z_take M v)) := by
  unfold fX5_init
  rw [and_lo v 8 (by decide) (by decide), tk_cast v 8 8 (by decide) (by decide), tk_cast v 12 12 (by decide) (by decide), tk_cast v 16 16 (by decide) (by decide), tk_cast v 20 20 (by decide) (by decide)]
  obtain ⟨A1, e1, s1⟩ := h.pi 0 (nI (wop v)) (c := 5) hw (by decide) rfl
  obtain ⟨A2, e2, s2⟩ := s1.pi 1 (nI (wdd v)) (c := 5) hw (by decide) rfl
  obtain ⟨A3, e3, s3⟩ := s2.pi 2 (nI (waa v)) (c := 5) hw (by decide) rfl
  obtain ⟨A4, e4, s4⟩ := s3.pi 3 (nI (wbb v)) (c := 5) hw (by decide) rfl
  obtain ⟨A5, e5, s5⟩ := s4.pi 4 (nI (wgg v)) (c := 5) hw (by decide) rfl
  obtain ⟨A6, e6, s6⟩ := s5.pi 5 (wnn v) (c := 5) hw (by decide) rfl
  refine Res.b e1 (Res.b e2 (Res.b e3 (Res.b e4 (Res.b e5 (Res.b e6 (Res.b (s6.rc (c := 5) hw) ?_))))))
  have g0 : gI A6 (some w) 5 0 = some ((z_take M v).1 52) := by
    rw [s6.gi 0 (c := 5) hw (by decide) rfl]
    simp [vI', xi, up3, z_take, mI_g]
  have g5 : gI A6 (some w) 5 5 = some ((z_take M v).1 57) := by
    rw [s6.gi 5 (c := 5) hw (by decide) rfl]
    simp [vI', xi, up3, z_take, mI_g]
  obtain ⟨A7, e7, s7⟩ := s6.pr 6 (some (hA A6 (srt (z_take M v)))) (c := 5) hw (by decide) rfl rfl
  refine Res.b (e5_sortOf g0 g5) (Res.b e7 (Res.r ⟨_, s7, ?_, hw, sj, ?_, ?_, ?_, ?_, ?_, ?_, ?_⟩))
  · exact (((((((LF.vI (V := V) 500 0 _).tr (LF.vI 501 0 _)).tr (LF.vI 502 0 _)).tr (LF.vI 503 0 _)).tr (LF.vI 504 0 _)).tr (LF.vI 505 0 _))).tr (LF.vR 506 0 _)
  · simp [vI', vR', xi, up3, z_take, mI_g]
  · simp [vI', vR', xi, up3, z_take, mI_g]
  · simp [vI', vR', xi, up3, z_take, mI_g]
  · simp [vI', vR', xi, up3, z_take, mI_g]
  · simp [vI', vR', xi, up3, z_take, mI_g]
  · simp [vI', vR', xi, up3, z_take, mI_g]
  · have : hA A6 = sa V := s6.1.2.2
    rw [this]
    simp [vI', vR', xr, up3, sa]
end I11
