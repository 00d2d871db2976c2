/-! 20.g28: printed by gen/parts.py -/
set_option maxRecDepth 100000
theorem fl_X11_368 : FLr RX11 368 11 22 := ⟨RX11, TX11, 60, "WarpMillModel", "", rfl, by decide, in_X11, Or.inl q1579, Or.inl rfl⟩
theorem fp_X11_368 : FL RX11 368 11 22 (.int) false := ⟨RX11, TX11, 60, tyX11, "WarpMillModel", "", rfl, by decide, in_X11, tyX11_ok, nmX11, Or.inl q1579, Or.inl rfl, rfl, rfl, fun h => by cases h⟩
theorem fl_X11_180 : FLr RX11 180 11 23 := ⟨RX11, TX11, 60, "WarpMillModel", "", rfl, by decide, in_X11, Or.inl q1580, Or.inl rfl⟩
theorem fl_X11_183 : FLr RX11 183 11 24 := ⟨RX11, TX11, 60, "WarpMillModel", "", rfl, by decide, in_X11, Or.inl q1581, Or.inl rfl⟩
theorem fl_X11_186 : FLr RX11 186 11 25 := ⟨RX11, TX11, 60, "WarpMillModel", "", rfl, by decide, in_X11, Or.inl q1582, Or.inl rfl⟩
theorem fl_X11_189 : FLr RX11 189 11 26 := ⟨RX11, TX11, 60, "WarpMillModel", "", rfl, by decide, in_X11, Or.inl q1583, Or.inl rfl⟩
theorem c_X11_359 : CV RX11 359 11 yX11_doPending cX11_doPending 3 none 0 := ⟨TX11, 60, rfl, q1781, q1783, qs33, q111, q1784, ⟨by decide +kernel, by decide +kernel, by decide +kernel⟩⟩
theorem c_X11_365 : CV RX11 365 11 yX11_unitGoes cX11_unitGoes 4 none 1 := ⟨TX11, 60, rfl, q1815, q1817, qs40, q111, q1818, ⟨by decide +kernel, by decide +kernel, by decide +kernel⟩⟩
theorem c_X11_362 : CV RX11 362 11 yX11_dispatch cX11_dispatch 3 none 0 := ⟨TX11, 60, rfl, q1795, q1797, qs35, q111, q1798, ⟨by decide +kernel, by decide +kernel, by decide +kernel⟩⟩
theorem c_X11_371 : CV RX11 371 11 yX11_raise cX11_raise 2 (some Jvm.ClassFile.FieldType.int) 1 := ⟨TX11, 60, rfl, q1773, q1775, qs31, q111, q1776, ⟨by decide +kernel, by decide +kernel, by decide +kernel⟩⟩
theorem c_X11_374 : CV RX11 374 11 yX11_oneCycle cX11_oneCycle 2 none 0 := ⟨TX11, 60, rfl, q1777, q1779, qs32, q111, q1780, ⟨by decide +kernel, by decide +kernel, by decide +kernel⟩⟩
theorem dX11_oneCycle_0 : decode cX11_oneCycle 0 = .ok (.aload_n 0, 1) := by decide +kernel
theorem dX11_oneCycle_1 : decode cX11_oneCycle 1 = .ok (.invokevirtual 359, 3) := by decide +kernel
theorem dX11_oneCycle_4 : decode cX11_oneCycle 4 = .ok (.aload_n 0, 1) := by decide +kernel
theorem dX11_oneCycle_5 : decode cX11_oneCycle 5 = .ok (.getfield 136, 3) := by decide +kernel
theorem dX11_oneCycle_8 : decode cX11_oneCycle 8 = .ok (.iconst 1, 1) := by decide +kernel
theorem dX11_oneCycle_9 : decode cX11_oneCycle 9 = .ok (.if_icmp .ne 7, 3) := by decide +kernel
theorem dX11_oneCycle_12 : decode cX11_oneCycle 12 = .ok (.aload_n 0, 1) := by decide +kernel
theorem dX11_oneCycle_13 : decode cX11_oneCycle 13 = .ok (.invokevirtual 362, 3) := by decide +kernel
theorem dX11_oneCycle_16 : decode cX11_oneCycle 16 = .ok (.iconst 0, 1) := by decide +kernel
theorem dX11_oneCycle_17 : decode cX11_oneCycle 17 = .ok (.istore_n 1, 1) := by decide +kernel
theorem dX11_oneCycle_18 : decode cX11_oneCycle 18 = .ok (.iload_n 1, 1) := by decide +kernel
theorem dX11_oneCycle_19 : decode cX11_oneCycle 19 = .ok (.aload_n 0, 1) := by decide +kernel
theorem dX11_oneCycle_20 : decode cX11_oneCycle 20 = .ok (.getfield 16, 3) := by decide +kernel
theorem dX11_oneCycle_23 : decode cX11_oneCycle 23 = .ok (.if_icmp .ge 22, 3) := by decide +kernel
theorem dX11_oneCycle_26 : decode cX11_oneCycle 26 = .ok (.aload_n 0, 1) := by decide +kernel
theorem dX11_oneCycle_27 : decode cX11_oneCycle 27 = .ok (.getfield 136, 3) := by decide +kernel
theorem dX11_oneCycle_30 : decode cX11_oneCycle 30 = .ok (.iconst 1, 1) := by decide +kernel
theorem dX11_oneCycle_31 : decode cX11_oneCycle 31 = .ok (.if_icmp .ne 14, 3) := by decide +kernel
theorem dX11_oneCycle_34 : decode cX11_oneCycle 34 = .ok (.aload_n 0, 1) := by decide +kernel
theorem dX11_oneCycle_35 : decode cX11_oneCycle 35 = .ok (.iload_n 1, 1) := by decide +kernel
theorem dX11_oneCycle_36 : decode cX11_oneCycle 36 = .ok (.invokevirtual 365, 3) := by decide +kernel
theorem dX11_oneCycle_39 : decode cX11_oneCycle 39 = .ok (.iinc 1 1, 3) := by decide +kernel
theorem dX11_oneCycle_42 : decode cX11_oneCycle 42 = .ok (.goto (-24), 3) := by decide +kernel
theorem dX11_oneCycle_45 : decode cX11_oneCycle 45 = .ok (.aload_n 0, 1) := by decide +kernel
theorem dX11_oneCycle_46 : decode cX11_oneCycle 46 = .ok (.dup, 1) := by decide +kernel
theorem dX11_oneCycle_47 : decode cX11_oneCycle 47 = .ok (.getfield 159, 3) := by decide +kernel
theorem dX11_oneCycle_50 : decode cX11_oneCycle 50 = .ok (.iconst 1, 1) := by decide +kernel
theorem dX11_oneCycle_51 : decode cX11_oneCycle 51 = .ok (.iadd, 1) := by decide +kernel
theorem dX11_oneCycle_52 : decode cX11_oneCycle 52 = .ok (.putfield 159, 3) := by decide +kernel
theorem dX11_oneCycle_55 : decode cX11_oneCycle 55 = .ok (.aload_n 0, 1) := by decide +kernel
theorem dX11_oneCycle_56 : decode cX11_oneCycle 56 = .ok (.dup, 1) := by decide +kernel
theorem dX11_oneCycle_57 : decode cX11_oneCycle 57 = .ok (.getfield 368, 3) := by decide +kernel
theorem dX11_oneCycle_60 : decode cX11_oneCycle 60 = .ok (.iconst 1, 1) := by decide +kernel
theorem dX11_oneCycle_61 : decode cX11_oneCycle 61 = .ok (.iadd, 1) := by decide +kernel
theorem dX11_oneCycle_62 : decode cX11_oneCycle 62 = .ok (.putfield 368, 3) := by decide +kernel
theorem dX11_oneCycle_65 : decode cX11_oneCycle 65 = .ok (.aload_n 0, 1) := by decide +kernel
theorem dX11_oneCycle_66 : decode cX11_oneCycle 66 = .ok (.getfield 129, 3) := by decide +kernel
theorem dX11_oneCycle_69 : decode cX11_oneCycle 69 = .ok (.ifCond .le 4, 3) := by decide +kernel
theorem dX11_oneCycle_72 : decode cX11_oneCycle 72 = .ok (.return_, 1) := by decide +kernel
theorem dX11_oneCycle_73 : decode cX11_oneCycle 73 = .ok (.aload_n 0, 1) := by decide +kernel
theorem dX11_oneCycle_74 : decode cX11_oneCycle 74 = .ok (.getfield 136, 3) := by decide +kernel
theorem dX11_oneCycle_77 : decode cX11_oneCycle 77 = .ok (.iconst 4, 1) := by decide +kernel
theorem dX11_oneCycle_78 : decode cX11_oneCycle 78 = .ok (.if_icmp .ne 11, 3) := by decide +kernel
theorem dX11_oneCycle_81 : decode cX11_oneCycle 81 = .ok (.aload_n 0, 1) := by decide +kernel
theorem dX11_oneCycle_82 : decode cX11_oneCycle 82 = .ok (.iconst 3, 1) := by decide +kernel
theorem dX11_oneCycle_83 : decode cX11_oneCycle 83 = .ok (.putfield 136, 3) := by decide +kernel
theorem dX11_oneCycle_86 : decode cX11_oneCycle 86 = .ok (.goto 19, 3) := by decide +kernel
theorem dX11_oneCycle_89 : decode cX11_oneCycle 89 = .ok (.aload_n 0, 1) := by decide +kernel
theorem dX11_oneCycle_90 : decode cX11_oneCycle 90 = .ok (.getfield 177, 3) := by decide +kernel
theorem dX11_oneCycle_93 : decode cX11_oneCycle 93 = .ok (.aload_n 0, 1) := by decide +kernel
theorem dX11_oneCycle_94 : decode cX11_oneCycle 94 = .ok (.getfield 150, 3) := by decide +kernel
theorem dX11_oneCycle_97 : decode cX11_oneCycle 97 = .ok (.if_icmp .ne 8, 3) := by decide +kernel
theorem dX11_oneCycle_100 : decode cX11_oneCycle 100 = .ok (.aload_n 0, 1) := by decide +kernel
theorem dX11_oneCycle_101 : decode cX11_oneCycle 101 = .ok (.iconst 2, 1) := by decide +kernel
theorem dX11_oneCycle_102 : decode cX11_oneCycle 102 = .ok (.putfield 136, 3) := by decide +kernel
theorem dX11_oneCycle_105 : decode cX11_oneCycle 105 = .ok (.return_, 1) := by decide +kernel
def fX11_oneCycle (n : Nat) (a0 : Nat) (A : AH) : Option (AH) :=
(rcv A (some a0) 11).bind fun v1 =>
(fX11_doPending n v1 A).bind fun g2 =>
(gI g2 (some a0) 11 11).bind fun v3 =>
jn (fun (A5 : AH) =>
jl (fixG (fun _ _ => none) (fun (rc9 : (Int32) → (AH) → Option (AH)) (x7 : Int32) (A8 : AH) =>
(gI A8 (some a0) 11 3).bind fun v10 =>
(gI A8 (some a0) 11 11).bind fun v11 =>
if ((v10 ≤ x7) ∨ (¬ (v11 = (1 : Int32)))) then ((gI A8 (some a0) 11 15).bind fun v12 =>
(pI A8 (some a0) 11 15 (v12 + (1 : Int32))).bind fun A13 =>
(gI A13 (some a0) 11 22).bind fun v14 =>
(pI A13 (some a0) 11 22 (v14 + (1 : Int32))).bind fun A15 =>
(gI A15 (some a0) 11 41).bind fun v16 =>
if v16 ≤ 0 then ((gI A15 (some a0) 11 11).bind fun v18 =>
jn (fun (A20 : AH) =>
some A20) fun j19 =>
if v18 = (4 : Int32) then ((pI A15 (some a0) 11 11 (3 : Int32)).bind fun A22 =>
j19 A22) else
(gI A15 (some a0) 11 21).bind fun v23 =>
(gI A15 (some a0) 11 12).bind fun v24 =>
if v23 = v24 then ((pI A15 (some a0) 11 11 (2 : Int32)).bind fun A26 =>
j19 A26) else
j19 A15) else
some A15) else
(rcv A8 (some a0) 11).bind fun v27 =>
(fX11_unitGoes n v27 x7 A8).bind fun g28 =>
rc9 (x7 + (1 : Int32)) g28) n) fun j6 =>
j6 (0 : Int32) A5) fun j4 =>
if v3 = (1 : Int32) then ((rcv g2 (some a0) 11).bind fun v32 =>
(fX11_dispatch n v32 g2).bind fun g33 =>
j4 g33) else
j4 g2

set_option maxHeartbeats 4000000 in
set_option maxRecDepth 100000 in
theorem sX11_oneCycle (l : Launch) (D : DE) (n : Nat) (a0 : Nat) (A : AH) (g : AH) (hg : fX11_oneCycle n a0 A = some g) : Sm l D yX11_oneCycle cX11_oneCycle 2 none 7 171 [tR (some a0)] A (wU g).1 (wU g).2 := by
  refine Sm.of (ω := wU) (fX11_oneCycle n a0 A) [some (tR (some a0)), none] (by decide) (Nat.le_of_ble_eq_true rfl) rfl hg ?_
  intro p e R s m args below meth c X hin
  have X : Cx D cX11_oneCycle RX11 2 7 171 none p R s m args meth c := X
  unfold fX11_oneCycle
  refine rf_aload_n X rfl dX11_oneCycle_0 ?_
  refine rf_bind (fun v1 hv1 => ?_)
  refine rf_bind (fun g2 hg2 => ?_)
  refine rf_callVU X c_X11_359 ⟨Nat.le_of_ble_eq_true rfl, Nat.le_of_ble_eq_true rfl⟩ [] rfl (Nat.le_of_ble_eq_true rfl) hv1 (sX11_doPending l D n v1 A g2 hg2) dX11_oneCycle_1 ?_
  refine rf_aload_n X rfl dX11_oneCycle_4 ?_
  refine rf_bind (fun v3 hv3 => ?_)
  refine rf_getI X fl_X11_136 hv3 dX11_oneCycle_5 ?_
  refine rf_iconst X (1 : Int32) rfl dX11_oneCycle_8 ?_
  refine rf_jn2 (fun i => ∀ (A5 : AH), RfX X l e below wU (i A5) 16 [some (tR (some a0)), none] [] A5) ?_ (fun j4 hj4 => ?_)
  · intro A5
    refine rf_iconst X (0 : Int32) rfl dX11_oneCycle_16 ?_
    refine rf_istore_n X (ls' := [some (tR (some a0)), some (tI (0 : Int32))]) rfl (by decide) dX11_oneCycle_17 ?_
    refine rf_fix (fun i => ∀ (x7 : Int32) (A8 : AH), RfX X l e below wU (i x7 A8) 18 [some (tR (some a0)), some (tI x7)] [] A8) (fun _ _ => rf_none) (fun rc9 hrc9 => ?_) (fun j6 hj6 => ?_)
    · intro x7 A8
      refine rf_iload_n X rfl dX11_oneCycle_18 ?_
      refine rf_aload_n X rfl dX11_oneCycle_19 ?_
      refine rf_bind (fun v10 hv10 => ?_)
      refine rf_getI X fl_X11_16 hv10 dX11_oneCycle_20 ?_
      refine rf_bind (fun v11 hv11 => ?_)
      refine rf_br 45 34 [some (tR (some a0)), some (tI x7)] [some (tR (some a0)), some (tI x7)] [] [] (fun _ => ?_) (fun _ => ?_) (fun _ jT jF => ?_)
      · refine rf_aload_n X rfl dX11_oneCycle_45 ?_
        refine rf_dup X rfl dX11_oneCycle_46 ?_
        refine rf_bind (fun v12 hv12 => ?_)
        refine rf_getI X fl_X11_159 hv12 dX11_oneCycle_47 ?_
        refine rf_iconst X (1 : Int32) rfl dX11_oneCycle_50 ?_
        refine rf_iadd X dX11_oneCycle_51 ?_
        refine rf_bind (fun A13 hA13 => ?_)
        refine rf_putI X fp_X11_159 (fun h => by cases h) hA13 dX11_oneCycle_52 ?_
        refine rf_aload_n X rfl dX11_oneCycle_55 ?_
        refine rf_dup X rfl dX11_oneCycle_56 ?_
        refine rf_bind (fun v14 hv14 => ?_)
        refine rf_getI X fl_X11_368 hv14 dX11_oneCycle_57 ?_
        refine rf_iconst X (1 : Int32) rfl dX11_oneCycle_60 ?_
        refine rf_iadd X dX11_oneCycle_61 ?_
        refine rf_bind (fun A15 hA15 => ?_)
        refine rf_putI X fp_X11_368 (fun h => by cases h) hA15 dX11_oneCycle_62 ?_
        refine rf_aload_n X rfl dX11_oneCycle_65 ?_
        refine rf_bind (fun v16 hv16 => ?_)
        refine rf_getI X fl_X11_129 hv16 dX11_oneCycle_66 ?_
        refine rf_if_le X (tgt := 73) rfl dX11_oneCycle_69 (fun c17 => rf_pos c17 ?_) (fun c17 => rf_neg c17 ?_)
        · refine rf_aload_n X rfl dX11_oneCycle_73 ?_
          refine rf_bind (fun v18 hv18 => ?_)
          refine rf_getI X fl_X11_136 hv18 dX11_oneCycle_74 ?_
          refine rf_iconst X (4 : Int32) rfl dX11_oneCycle_77 ?_
          refine rf_jn2 (fun i => ∀ (A20 : AH), RfX X l e below wU (i A20) 105 [none, none] [] A20) ?_ (fun j19 hj19 => ?_)
          · intro A20
            exact rf_vret X rfl dX11_oneCycle_105
          refine rf_icmp_ne X (tgt := 89) rfl dX11_oneCycle_78 (fun c21 => rf_neg c21 ?_) (fun c21 => rf_pos c21 ?_)
          · refine rf_aload_n X rfl dX11_oneCycle_89 ?_
            refine rf_bind (fun v23 hv23 => ?_)
            refine rf_getI X fl_X11_177 hv23 dX11_oneCycle_90 ?_
            refine rf_aload_n X rfl dX11_oneCycle_93 ?_
            refine rf_bind (fun v24 hv24 => ?_)
            refine rf_getI X fl_X11_150 hv24 dX11_oneCycle_94 ?_
            refine rf_icmp_ne X (tgt := 105) rfl dX11_oneCycle_97 (fun c25 => rf_neg c25 ?_) (fun c25 => rf_pos c25 ?_)
            · exact rf_go (hj19 A15) True.intro
            refine rf_aload_n X rfl dX11_oneCycle_100 ?_
            refine rf_iconst X (2 : Int32) rfl dX11_oneCycle_101 ?_
            refine rf_bind (fun A26 hA26 => ?_)
            refine rf_putI X fp_X11_136 (fun h => by cases h) hA26 dX11_oneCycle_102 ?_
            exact rf_go (hj19 A26) True.intro
          refine rf_aload_n X rfl dX11_oneCycle_81 ?_
          refine rf_iconst X (3 : Int32) rfl dX11_oneCycle_82 ?_
          refine rf_bind (fun A22 hA22 => ?_)
          refine rf_putI X fp_X11_136 (fun h => by cases h) hA22 dX11_oneCycle_83 ?_
          refine rf_goto X (tgt := 105) rfl dX11_oneCycle_86 ?_
          exact rf_go (hj19 A22) True.intro
        exact rf_vret X rfl dX11_oneCycle_72
      · refine rf_aload_n X rfl dX11_oneCycle_34 ?_
        refine rf_iload_n X rfl dX11_oneCycle_35 ?_
        refine rf_bind (fun v27 hv27 => ?_)
        refine rf_bind (fun g28 hg28 => ?_)
        refine rf_callVU X c_X11_365 ⟨Nat.le_of_ble_eq_true rfl, Nat.le_of_ble_eq_true rfl⟩ [tI x7] rfl (Nat.le_of_ble_eq_true rfl) hv27 (sX11_unitGoes l D n v27 x7 A8 g28 hg28) dX11_oneCycle_36 ?_
        refine rf_iinc X (x7 + (1 : Int32)) rfl rfl (ls' := [some (tR (some a0)), some (tI (x7 + (1 : Int32)))]) rfl (by decide) dX11_oneCycle_39 ?_
        refine rf_goto X (tgt := 18) rfl dX11_oneCycle_42 ?_
        exact rf_go (hrc9 (x7 + (1 : Int32)) g28) (And.intro rfl (And.intro rfl True.intro))
      refine rf_icmp_ge X (tgt := 45) rfl dX11_oneCycle_23 (fun c29 => ?_) (fun c29 => ?_)
      · exact jT (Or.inl c29)
      refine rf_aload_n X rfl dX11_oneCycle_26 ?_
      refine rf_getI X fl_X11_136 hv11 dX11_oneCycle_27 ?_
      refine rf_iconst X (1 : Int32) rfl dX11_oneCycle_30 ?_
      refine rf_icmp_ne X (tgt := 45) rfl dX11_oneCycle_31 (fun c30 => ?_) (fun c30 => ?_)
      · exact jT (Or.inr c30)
      exact jF (fun z => z.elim c29 (fun z => z c30))
    exact rf_go (hj6 (0 : Int32) A5) (And.intro rfl (And.intro rfl True.intro))
  refine rf_icmp_ne X (tgt := 16) rfl dX11_oneCycle_9 (fun c31 => rf_neg c31 ?_) (fun c31 => rf_pos c31 ?_)
  · exact rf_go (hj4 g2) (And.intro rfl True.intro)
  refine rf_aload_n X rfl dX11_oneCycle_12 ?_
  refine rf_bind (fun v32 hv32 => ?_)
  refine rf_bind (fun g33 hg33 => ?_)
  refine rf_callVU X c_X11_362 ⟨Nat.le_of_ble_eq_true rfl, Nat.le_of_ble_eq_true rfl⟩ [] rfl (Nat.le_of_ble_eq_true rfl) hv32 (sX11_dispatch l D n v32 g2 g33 hg33) dX11_oneCycle_13 ?_
  exact rf_go (hj4 g33) (And.intro rfl True.intro)

theorem dX11_run_0 : decode cX11_run 0 = .ok (.iload_n 1, 1) := by decide +kernel
theorem dX11_run_1 : decode cX11_run 1 = .ok (.iconst 1, 1) := by decide +kernel
theorem dX11_run_2 : decode cX11_run 2 = .ok (.if_icmp .lt 10, 3) := by decide +kernel
theorem dX11_run_5 : decode cX11_run 5 = .ok (.iload_n 1, 1) := by decide +kernel
theorem dX11_run_6 : decode cX11_run 6 = .ok (.sipush 500, 3) := by decide +kernel
theorem dX11_run_9 : decode cX11_run 9 = .ok (.if_icmp .le 9, 3) := by decide +kernel
theorem dX11_run_12 : decode cX11_run 12 = .ok (.aload_n 0, 1) := by decide +kernel
theorem dX11_run_13 : decode cX11_run 13 = .ok (.iconst 1, 1) := by decide +kernel
theorem dX11_run_14 : decode cX11_run 14 = .ok (.invokevirtual 371, 3) := by decide +kernel
theorem dX11_run_17 : decode cX11_run 17 = .ok (.ireturn, 1) := by decide +kernel
theorem dX11_run_18 : decode cX11_run 18 = .ok (.aload_n 0, 1) := by decide +kernel
theorem dX11_run_19 : decode cX11_run 19 = .ok (.getfield 368, 3) := by decide +kernel
theorem dX11_run_22 : decode cX11_run 22 = .ok (.sipush 20000, 3) := by decide +kernel
theorem dX11_run_25 : decode cX11_run 25 = .ok (.if_icmp .lt 9, 3) := by decide +kernel
theorem dX11_run_28 : decode cX11_run 28 = .ok (.aload_n 0, 1) := by decide +kernel
theorem dX11_run_29 : decode cX11_run 29 = .ok (.iconst 2, 1) := by decide +kernel
theorem dX11_run_30 : decode cX11_run 30 = .ok (.invokevirtual 371, 3) := by decide +kernel
theorem dX11_run_33 : decode cX11_run 33 = .ok (.ireturn, 1) := by decide +kernel
theorem dX11_run_34 : decode cX11_run 34 = .ok (.aload_n 0, 1) := by decide +kernel
theorem dX11_run_35 : decode cX11_run 35 = .ok (.iconst 0, 1) := by decide +kernel
theorem dX11_run_36 : decode cX11_run 36 = .ok (.putfield 120, 3) := by decide +kernel
theorem dX11_run_39 : decode cX11_run 39 = .ok (.iconst 0, 1) := by decide +kernel
theorem dX11_run_40 : decode cX11_run 40 = .ok (.istore_n 2, 1) := by decide +kernel
theorem dX11_run_41 : decode cX11_run 41 = .ok (.iload_n 2, 1) := by decide +kernel
theorem dX11_run_42 : decode cX11_run 42 = .ok (.iload_n 1, 1) := by decide +kernel
theorem dX11_run_43 : decode cX11_run 43 = .ok (.if_icmp .ge 30, 3) := by decide +kernel
theorem dX11_run_46 : decode cX11_run 46 = .ok (.aload_n 0, 1) := by decide +kernel
theorem dX11_run_47 : decode cX11_run 47 = .ok (.invokevirtual 143, 3) := by decide +kernel
theorem dX11_run_50 : decode cX11_run 50 = .ok (.ifCond .eq 23, 3) := by decide +kernel
theorem dX11_run_53 : decode cX11_run 53 = .ok (.aload_n 0, 1) := by decide +kernel
theorem dX11_run_54 : decode cX11_run 54 = .ok (.getfield 368, 3) := by decide +kernel
theorem dX11_run_57 : decode cX11_run 57 = .ok (.sipush 20000, 3) := by decide +kernel
theorem dX11_run_60 : decode cX11_run 60 = .ok (.if_icmp .ge 13, 3) := by decide +kernel
theorem dX11_run_63 : decode cX11_run 63 = .ok (.aload_n 0, 1) := by decide +kernel
theorem dX11_run_64 : decode cX11_run 64 = .ok (.invokevirtual 374, 3) := by decide +kernel
theorem dX11_run_67 : decode cX11_run 67 = .ok (.iinc 2 1, 3) := by decide +kernel
theorem dX11_run_70 : decode cX11_run 70 = .ok (.goto (-29), 3) := by decide +kernel
theorem dX11_run_73 : decode cX11_run 73 = .ok (.aload_n 0, 1) := by decide +kernel
theorem dX11_run_74 : decode cX11_run 74 = .ok (.getfield 136, 3) := by decide +kernel
theorem dX11_run_77 : decode cX11_run 77 = .ok (.ireturn, 1) := by decide +kernel
def fX11_run (n : Nat) (a0 : Nat) (p1 : Int32) (A : AH) : Option (Int32 × AH) :=
if ((p1 < (1 : Int32)) ∨ (¬ (p1 ≤ (500 : Int32)))) then ((rcv A (some a0) 11).bind fun v1 =>
(fX11_raise v1 (1 : Int32) A).bind fun g2 =>
some (g2.1, g2.2)) else
(gI A (some a0) 11 22).bind fun v3 =>
if v3 < (20000 : Int32) then ((pI A (some a0) 11 0 (0 : Int32)).bind fun A5 =>
jl (fixG (fun _ _ => none) (fun (rc9 : (Int32) → (AH) → Option (Int32 × AH)) (x7 : Int32) (A8 : AH) =>
jn ((gI A8 (some a0) 11 11).bind fun v11 =>
some (v11, A8)) fun j10 =>
if p1 ≤ x7 then (j10) else
(rcv A8 (some a0) 11).bind fun v13 =>
(fX11_isUnder v13 A8).bind fun g14 =>
(gI A8 (some a0) 11 22).bind fun v15 =>
if ((g14 = 0) ∨ ((20000 : Int32) ≤ v15)) then (j10) else
(fX11_oneCycle n v13 A8).bind fun g16 =>
rc9 (x7 + (1 : Int32)) g16) n) fun j6 =>
j6 (0 : Int32) A5) else
(rcv A (some a0) 11).bind fun v19 =>
(fX11_raise v19 (2 : Int32) A).bind fun g20 =>
some (g20.1, g20.2)

set_option maxHeartbeats 4000000 in
set_option maxRecDepth 100000 in
theorem sX11_run (l : Launch) (D : DE) (n : Nat) (a0 : Nat) (p1 : Int32) (A : AH) (g : Int32 × AH) (hg : fX11_run n a0 p1 A = some g) : Sm l D yX11_run cX11_run 3 (some Jvm.ClassFile.FieldType.int) 8 192 [tR (some a0), tI p1] A (wI g).1 (wI g).2 := by
  refine Sm.of (ω := wI) (fX11_run n a0 p1 A) [some (tR (some a0)), some (tI p1), none] (by decide) (Nat.le_of_ble_eq_true rfl) rfl hg ?_
  intro p e R s m args below meth c X hin
  have X : Cx D cX11_run RX11 3 8 192 (some Jvm.ClassFile.FieldType.int) p R s m args meth c := X
  unfold fX11_run
  refine rf_iload_n X rfl dX11_run_0 ?_
  refine rf_iconst X (1 : Int32) rfl dX11_run_1 ?_
  refine rf_br 12 18 [some (tR (some a0)), some (tI p1), none] [some (tR (some a0)), some (tI p1), none] [] [] (fun _ => ?_) (fun _ => ?_) (fun _ jT jF => ?_)
  · refine rf_aload_n X rfl dX11_run_12 ?_
    refine rf_iconst X (1 : Int32) rfl dX11_run_13 ?_
    refine rf_bind (fun v1 hv1 => ?_)
    refine rf_bind (fun g2 hg2 => ?_)
    refine rf_callVI X c_X11_371 ⟨Nat.le_of_ble_eq_true rfl, Nat.le_of_ble_eq_true rfl⟩ [tI (1 : Int32)] rfl (Nat.le_of_ble_eq_true rfl) hv1 (sX11_raise l D v1 (1 : Int32) A g2 hg2) dX11_run_14 ?_
    exact rf_iret X rfl dX11_run_17
  · refine rf_aload_n X rfl dX11_run_18 ?_
    refine rf_bind (fun v3 hv3 => ?_)
    refine rf_getI X fl_X11_368 hv3 dX11_run_19 ?_
    refine rf_sipush X (20000 : Int32) rfl dX11_run_22 ?_
    refine rf_icmp_lt X (tgt := 34) rfl dX11_run_25 (fun c4 => rf_pos c4 ?_) (fun c4 => rf_neg c4 ?_)
    · refine rf_aload_n X rfl dX11_run_34 ?_
      refine rf_iconst X (0 : Int32) rfl dX11_run_35 ?_
      refine rf_bind (fun A5 hA5 => ?_)
      refine rf_putI X fp_X11_120 (fun h => by cases h) hA5 dX11_run_36 ?_
      refine rf_iconst X (0 : Int32) rfl dX11_run_39 ?_
      refine rf_istore_n X (ls' := [some (tR (some a0)), some (tI p1), some (tI (0 : Int32))]) rfl (by decide) dX11_run_40 ?_
      refine rf_fix (fun i => ∀ (x7 : Int32) (A8 : AH), RfX X l e below wI (i x7 A8) 41 [some (tR (some a0)), some (tI p1), some (tI x7)] [] A8) (fun _ _ => rf_none) (fun rc9 hrc9 => ?_) (fun j6 hj6 => ?_)
      · intro x7 A8
        refine rf_iload_n X rfl dX11_run_41 ?_
        refine rf_iload_n X rfl dX11_run_42 ?_
        refine rf_jn2 (fun i => RfX X l e below wI i 73 [some (tR (some a0)), none, none] [] A8) ?_ (fun j10 hj10 => ?_)
        · show RfX X l e below _ _ _ _ _ _
          refine rf_aload_n X rfl dX11_run_73 ?_
          refine rf_bind (fun v11 hv11 => ?_)
          refine rf_getI X fl_X11_136 hv11 dX11_run_74 ?_
          exact rf_iret X rfl dX11_run_77
        refine rf_icmp_ge X (tgt := 73) rfl dX11_run_43 (fun c12 => rf_pos c12 ?_) (fun c12 => rf_neg c12 ?_)
        · exact rf_go hj10 (And.intro rfl True.intro)
        refine rf_aload_n X rfl dX11_run_46 ?_
        refine rf_bind (fun v13 hv13 => ?_)
        refine rf_bind (fun g14 hg14 => ?_)
        refine rf_callVI X c_X11_143 ⟨Nat.le_of_ble_eq_true rfl, Nat.le_of_ble_eq_true rfl⟩ [] rfl (Nat.le_of_ble_eq_true rfl) hv13 (sX11_isUnder l D v13 A8 g14 hg14) dX11_run_47 ?_
        refine rf_bind (fun v15 hv15 => ?_)
        refine rf_br 73 63 [some (tR (some a0)), some (tI p1), some (tI x7)] [some (tR (some a0)), some (tI p1), some (tI x7)] [] [] (fun _ => ?_) (fun _ => ?_) (fun _ jT jF => ?_)
        · exact rf_go hj10 (And.intro rfl True.intro)
        · refine rf_aload_n X rfl dX11_run_63 ?_
          refine rf_bind (fun g16 hg16 => ?_)
          refine rf_callVU X c_X11_374 ⟨Nat.le_of_ble_eq_true rfl, Nat.le_of_ble_eq_true rfl⟩ [] rfl (Nat.le_of_ble_eq_true rfl) hv13 (sX11_oneCycle l D n v13 A8 g16 hg16) dX11_run_64 ?_
          refine rf_iinc X (x7 + (1 : Int32)) rfl rfl (ls' := [some (tR (some a0)), some (tI p1), some (tI (x7 + (1 : Int32)))]) rfl (by decide) dX11_run_67 ?_
          refine rf_goto X (tgt := 41) rfl dX11_run_70 ?_
          exact rf_go (hrc9 (x7 + (1 : Int32)) g16) (And.intro rfl (And.intro rfl (And.intro rfl True.intro)))
        refine rf_if_eq X (tgt := 73) rfl dX11_run_50 (fun c17 => ?_) (fun c17 => ?_)
        · exact jT (Or.inl c17)
        refine rf_aload_n X rfl dX11_run_53 ?_
        refine rf_getI X fl_X11_368 hv15 dX11_run_54 ?_
        refine rf_sipush X (20000 : Int32) rfl dX11_run_57 ?_
        refine rf_icmp_ge X (tgt := 73) rfl dX11_run_60 (fun c18 => ?_) (fun c18 => ?_)
        · exact jT (Or.inr c18)
        exact jF (fun z => z.elim c17 c18)
      exact rf_go (hj6 (0 : Int32) A5) (And.intro rfl (And.intro rfl (And.intro rfl True.intro)))
    refine rf_aload_n X rfl dX11_run_28 ?_
    refine rf_iconst X (2 : Int32) rfl dX11_run_29 ?_
    refine rf_bind (fun v19 hv19 => ?_)
    refine rf_bind (fun g20 hg20 => ?_)
    refine rf_callVI X c_X11_371 ⟨Nat.le_of_ble_eq_true rfl, Nat.le_of_ble_eq_true rfl⟩ [tI (2 : Int32)] rfl (Nat.le_of_ble_eq_true rfl) hv19 (sX11_raise l D v19 (2 : Int32) A g20 hg20) dX11_run_30 ?_
    exact rf_iret X rfl dX11_run_33
  refine rf_icmp_lt X (tgt := 12) rfl dX11_run_2 (fun c21 => ?_) (fun c21 => ?_)
  · exact jT (Or.inl c21)
  refine rf_iload_n X rfl dX11_run_5 ?_
  refine rf_sipush X (500 : Int32) rfl dX11_run_6 ?_
  refine rf_icmp_le X (tgt := 18) rfl dX11_run_9 (fun c22 => ?_) (fun c22 => ?_)
  · exact jF (fun z => z.elim c21 (fun z => z c22))
  exact jT (Or.inr c22)

theorem dX11_stop_0 : decode cX11_stop 0 = .ok (.aload_n 0, 1) := by decide +kernel
theorem dX11_stop_1 : decode cX11_stop 1 = .ok (.iconst 0, 1) := by decide +kernel
theorem dX11_stop_2 : decode cX11_stop 2 = .ok (.putfield 120, 3) := by decide +kernel
theorem dX11_stop_5 : decode cX11_stop 5 = .ok (.aload_n 0, 1) := by decide +kernel
theorem dX11_stop_6 : decode cX11_stop 6 = .ok (.invokevirtual 143, 3) := by decide +kernel
theorem dX11_stop_9 : decode cX11_stop 9 = .ok (.ifCond .ne 5, 3) := by decide +kernel
theorem dX11_stop_12 : decode cX11_stop 12 = .ok (.iconst 0, 1) := by decide +kernel
theorem dX11_stop_13 : decode cX11_stop 13 = .ok (.ireturn, 1) := by decide +kernel
theorem dX11_stop_14 : decode cX11_stop 14 = .ok (.aload_n 0, 1) := by decide +kernel
theorem dX11_stop_15 : decode cX11_stop 15 = .ok (.iconst 0, 1) := by decide +kernel
theorem dX11_stop_16 : decode cX11_stop 16 = .ok (.putfield 136, 3) := by decide +kernel
theorem dX11_stop_19 : decode cX11_stop 19 = .ok (.aload_n 0, 1) := by decide +kernel
theorem dX11_stop_20 : decode cX11_stop 20 = .ok (.invokevirtual 123, 3) := by decide +kernel
theorem dX11_stop_23 : decode cX11_stop 23 = .ok (.iconst 1, 1) := by decide +kernel
theorem dX11_stop_24 : decode cX11_stop 24 = .ok (.ireturn, 1) := by decide +kernel
def fX11_stop (n : Nat) (a0 : Nat) (A : AH) : Option (Int32 × AH) :=
(pI A (some a0) 11 0 (0 : Int32)).bind fun A1 =>
(rcv A1 (some a0) 11).bind fun v2 =>
(fX11_isUnder v2 A1).bind fun g3 =>
if g3 = 0 then (some ((nb (0 : Int32)), A1)) else
(pI A1 (some a0) 11 11 (0 : Int32)).bind fun A5 =>
(rcv A5 (some a0) 11).bind fun v6 =>
(fX11_freeAll n v6 A5).bind fun g7 =>
some ((nb (1 : Int32)), g7)

set_option maxHeartbeats 4000000 in
set_option maxRecDepth 100000 in
theorem sX11_stop (l : Launch) (D : DE) (n : Nat) (a0 : Nat) (A : AH) (g : Int32 × AH) (hg : fX11_stop n a0 A = some g) : Sm l D yX11_stop cX11_stop 1 (some Jvm.ClassFile.FieldType.boolean) 1 21 [tR (some a0)] A (wI g).1 (wI g).2 := by
  refine Sm.of (ω := wI) (fX11_stop n a0 A) [some (tR (some a0))] (by decide) (Nat.le_of_ble_eq_true rfl) rfl hg ?_
  intro p e R s m args below meth c X hin
  have X : Cx D cX11_stop RX11 1 1 21 (some Jvm.ClassFile.FieldType.boolean) p R s m args meth c := X
  unfold fX11_stop
  refine rf_aload_n X rfl dX11_stop_0 ?_
  refine rf_iconst X (0 : Int32) rfl dX11_stop_1 ?_
  refine rf_bind (fun A1 hA1 => ?_)
  refine rf_putI X fp_X11_120 (fun h => by cases h) hA1 dX11_stop_2 ?_
  refine rf_aload_n X rfl dX11_stop_5 ?_
  refine rf_bind (fun v2 hv2 => ?_)
  refine rf_bind (fun g3 hg3 => ?_)
  refine rf_callVI X c_X11_143 ⟨Nat.le_of_ble_eq_true rfl, Nat.le_of_ble_eq_true rfl⟩ [] rfl (Nat.le_of_ble_eq_true rfl) hv2 (sX11_isUnder l D v2 A1 g3 hg3) dX11_stop_6 ?_
  refine rf_if_ne X (tgt := 14) rfl dX11_stop_9 (fun c4 => rf_neg c4 ?_) (fun c4 => rf_pos c4 ?_)
  · refine rf_aload_n X rfl dX11_stop_14 ?_
    refine rf_iconst X (0 : Int32) rfl dX11_stop_15 ?_
    refine rf_bind (fun A5 hA5 => ?_)
    refine rf_putI X fp_X11_136 (fun h => by cases h) hA5 dX11_stop_16 ?_
    refine rf_aload_n X rfl dX11_stop_19 ?_
    refine rf_bind (fun v6 hv6 => ?_)
    refine rf_bind (fun g7 hg7 => ?_)
    refine rf_callVU X c_X11_123 ⟨Nat.le_of_ble_eq_true rfl, Nat.le_of_ble_eq_true rfl⟩ [] rfl (Nat.le_of_ble_eq_true rfl) hv6 (sX11_freeAll l D n v6 A5 g7 hg7) dX11_stop_20 ?_
    refine rf_iconst X (1 : Int32) rfl dX11_stop_23 ?_
    exact rf_zret X rfl dX11_stop_24
  refine rf_iconst X (0 : Int32) rfl dX11_stop_12 ?_
  exact rf_zret X rfl dX11_stop_13

theorem dX11_global_0 : decode cX11_global 0 = .ok (.aload_n 0, 1) := by decide +kernel
theorem dX11_global_1 : decode cX11_global 1 = .ok (.iload_n 1, 1) := by decide +kernel
theorem dX11_global_2 : decode cX11_global 2 = .ok (.ifCond .lt 11, 3) := by decide +kernel
theorem dX11_global_5 : decode cX11_global 5 = .ok (.iload_n 1, 1) := by decide +kernel
theorem dX11_global_6 : decode cX11_global 6 = .ok (.aload_n 0, 1) := by decide +kernel
theorem dX11_global_7 : decode cX11_global 7 = .ok (.getfield 25, 3) := by decide +kernel
theorem dX11_global_10 : decode cX11_global 10 = .ok (.if_icmp .lt 7, 3) := by decide +kernel
theorem dX11_global_13 : decode cX11_global 13 = .ok (.iconst 1, 1) := by decide +kernel
theorem dX11_global_14 : decode cX11_global 14 = .ok (.goto 4, 3) := by decide +kernel
theorem dX11_global_17 : decode cX11_global 17 = .ok (.iconst 0, 1) := by decide +kernel
theorem dX11_global_18 : decode cX11_global 18 = .ok (.putfield 120, 3) := by decide +kernel
theorem dX11_global_21 : decode cX11_global 21 = .ok (.aload_n 0, 1) := by decide +kernel
theorem dX11_global_22 : decode cX11_global 22 = .ok (.getfield 120, 3) := by decide +kernel
theorem dX11_global_25 : decode cX11_global 25 = .ok (.ifCond .ne 12, 3) := by decide +kernel
theorem dX11_global_28 : decode cX11_global 28 = .ok (.aload_n 0, 1) := by decide +kernel
theorem dX11_global_29 : decode cX11_global 29 = .ok (.getfield 32, 3) := by decide +kernel
theorem dX11_global_32 : decode cX11_global 32 = .ok (.iload_n 1, 1) := by decide +kernel
theorem dX11_global_33 : decode cX11_global 33 = .ok (.iaload, 1) := by decide +kernel
theorem dX11_global_34 : decode cX11_global 34 = .ok (.goto 4, 3) := by decide +kernel
theorem dX11_global_37 : decode cX11_global 37 = .ok (.iconst 0, 1) := by decide +kernel
theorem dX11_global_38 : decode cX11_global 38 = .ok (.ireturn, 1) := by decide +kernel
def fX11_global (a0 : Nat) (p1 : Int32) (A : AH) : Option (Int32 × AH) :=
(gI A (some a0) 11 6).bind fun v1 =>
jn (fun (y3 : Int32) =>
(pI A (some a0) 11 0 y3).bind fun A4 =>
(gI A4 (some a0) 11 0).bind fun v5 =>
jn (fun (y7 : Int32) =>
some (y7, A4)) fun j6 =>
if v5 = 0 then ((gR A4 (some a0) 11 8).bind fun v9 =>
(aI A4 v9 p1).bind fun v10 =>
j6 v10) else
j6 (0 : Int32)) fun j2 =>
if ((p1 < 0) ∨ (¬ (p1 < v1))) then (j2 (1 : Int32)) else
j2 (0 : Int32)

set_option maxHeartbeats 4000000 in
set_option maxRecDepth 100000 in
theorem sX11_global (l : Launch) (D : DE) (a0 : Nat) (p1 : Int32) (A : AH) (g : Int32 × AH) (hg : fX11_global a0 p1 A = some g) : Sm l D yX11_global cX11_global 2 (some Jvm.ClassFile.FieldType.int) 0 0 [tR (some a0), tI p1] A (wI g).1 (wI g).2 := by
  refine Sm.of (ω := wI) (fX11_global a0 p1 A) [some (tR (some a0)), some (tI p1)] (by decide) (Nat.le_of_ble_eq_true rfl) rfl hg ?_
  intro p e R s m args below meth c X hin
  have X : Cx D cX11_global RX11 2 0 0 (some Jvm.ClassFile.FieldType.int) p R s m args meth c := X
  unfold fX11_global
  refine rf_aload_n X rfl dX11_global_0 ?_
  refine rf_iload_n X rfl dX11_global_1 ?_
  refine rf_bind (fun v1 hv1 => ?_)
  refine rf_jn2 (fun i => ∀ (y3 : Int32), RfX X l e below wI (i y3) 18 [some (tR (some a0)), some (tI p1)] [tI y3, tR (some a0)] A) ?_ (fun j2 hj2 => ?_)
  · intro y3
    refine rf_bind (fun A4 hA4 => ?_)
    refine rf_putI X fp_X11_120 (fun h => by cases h) hA4 dX11_global_18 ?_
    refine rf_aload_n X rfl dX11_global_21 ?_
    refine rf_bind (fun v5 hv5 => ?_)
    refine rf_getI X fl_X11_120 hv5 dX11_global_22 ?_
    refine rf_jn2 (fun i => ∀ (y7 : Int32), RfX X l e below wI (i y7) 38 [none, none] [tI y7] A4) ?_ (fun j6 hj6 => ?_)
    · intro y7
      exact rf_iret X rfl dX11_global_38
    refine rf_if_ne X (tgt := 37) rfl dX11_global_25 (fun c8 => rf_neg c8 ?_) (fun c8 => rf_pos c8 ?_)
    · refine rf_iconst X (0 : Int32) rfl dX11_global_37 ?_
      exact rf_go (hj6 (0 : Int32)) True.intro
    refine rf_aload_n X rfl dX11_global_28 ?_
    refine rf_bind (fun v9 hv9 => ?_)
    refine rf_getR X fl_X11_32 hv9 dX11_global_29 ?_
    refine rf_iload_n X rfl dX11_global_32 ?_
    refine rf_bind (fun v10 hv10 => ?_)
    refine rf_iald X hv10 dX11_global_33 ?_
    refine rf_goto X (tgt := 38) rfl dX11_global_34 ?_
    exact rf_go (hj6 v10) True.intro
  refine rf_br 13 17 [some (tR (some a0)), some (tI p1)] [some (tR (some a0)), some (tI p1)] [tR (some a0)] [tR (some a0)] (fun _ => ?_) (fun _ => ?_) (fun _ jT jF => ?_)
  · refine rf_iconst X (1 : Int32) rfl dX11_global_13 ?_
    refine rf_goto X (tgt := 18) rfl dX11_global_14 ?_
    exact rf_go (hj2 (1 : Int32)) (And.intro rfl (And.intro rfl True.intro))
  · refine rf_iconst X (0 : Int32) rfl dX11_global_17 ?_
    exact rf_go (hj2 (0 : Int32)) (And.intro rfl (And.intro rfl True.intro))
  refine rf_if_lt X (tgt := 13) rfl dX11_global_2 (fun c11 => ?_) (fun c11 => ?_)
  · exact jT (Or.inl c11)
  refine rf_iload_n X rfl dX11_global_5 ?_
  refine rf_aload_n X rfl dX11_global_6 ?_
  refine rf_getI X fl_X11_25 hv1 dX11_global_7 ?_
  refine rf_icmp_lt X (tgt := 17) rfl dX11_global_10 (fun c12 => ?_) (fun c12 => ?_)
  · exact jF (fun z => z.elim c11 (fun z => z c12))
  exact jT (Or.inr c12)

theorem dX11_state_0 : decode cX11_state 0 = .ok (.aload_n 0, 1) := by decide +kernel
theorem dX11_state_1 : decode cX11_state 1 = .ok (.iconst 0, 1) := by decide +kernel
theorem dX11_state_2 : decode cX11_state 2 = .ok (.putfield 120, 3) := by decide +kernel
theorem dX11_state_5 : decode cX11_state 5 = .ok (.iload_n 1, 1) := by decide +kernel
theorem dX11_state_6 : decode cX11_state 6 = .ok (.tableswitch 194 0 19 #[94, 99, 104, 109, 114, 119, 124, 129, 134, 139, 144, 149, 154, 159, 164, 169, 174, 179, 184, 189], 94) := by decide +kernel
theorem dX11_state_100 : decode cX11_state 100 = .ok (.aload_n 0, 1) := by decide +kernel
theorem dX11_state_101 : decode cX11_state 101 = .ok (.getfield 136, 3) := by decide +kernel
theorem dX11_state_104 : decode cX11_state 104 = .ok (.ireturn, 1) := by decide +kernel
theorem dX11_state_105 : decode cX11_state 105 = .ok (.aload_n 0, 1) := by decide +kernel
theorem dX11_state_106 : decode cX11_state 106 = .ok (.getfield 159, 3) := by decide +kernel
theorem dX11_state_109 : decode cX11_state 109 = .ok (.ireturn, 1) := by decide +kernel
theorem dX11_state_110 : decode cX11_state 110 = .ok (.aload_n 0, 1) := by decide +kernel
theorem dX11_state_111 : decode cX11_state 111 = .ok (.getfield 162, 3) := by decide +kernel
theorem dX11_state_114 : decode cX11_state 114 = .ok (.ireturn, 1) := by decide +kernel
theorem dX11_state_115 : decode cX11_state 115 = .ok (.aload_n 0, 1) := by decide +kernel
theorem dX11_state_116 : decode cX11_state 116 = .ok (.getfield 165, 3) := by decide +kernel
theorem dX11_state_119 : decode cX11_state 119 = .ok (.ireturn, 1) := by decide +kernel
theorem dX11_state_120 : decode cX11_state 120 = .ok (.aload_n 0, 1) := by decide +kernel
theorem dX11_state_121 : decode cX11_state 121 = .ok (.getfield 171, 3) := by decide +kernel
theorem dX11_state_124 : decode cX11_state 124 = .ok (.ireturn, 1) := by decide +kernel
theorem dX11_state_125 : decode cX11_state 125 = .ok (.aload_n 0, 1) := by decide +kernel
theorem dX11_state_126 : decode cX11_state 126 = .ok (.getfield 174, 3) := by decide +kernel
theorem dX11_state_129 : decode cX11_state 129 = .ok (.ireturn, 1) := by decide +kernel
theorem dX11_state_130 : decode cX11_state 130 = .ok (.aload_n 0, 1) := by decide +kernel
theorem dX11_state_131 : decode cX11_state 131 = .ok (.getfield 177, 3) := by decide +kernel
theorem dX11_state_134 : decode cX11_state 134 = .ok (.ireturn, 1) := by decide +kernel
theorem dX11_state_135 : decode cX11_state 135 = .ok (.aload_n 0, 1) := by decide +kernel
theorem dX11_state_136 : decode cX11_state 136 = .ok (.getfield 368, 3) := by decide +kernel
theorem dX11_state_139 : decode cX11_state 139 = .ok (.ireturn, 1) := by decide +kernel
theorem dX11_state_140 : decode cX11_state 140 = .ok (.aload_n 0, 1) := by decide +kernel
theorem dX11_state_141 : decode cX11_state 141 = .ok (.getfield 180, 3) := by decide +kernel
theorem dX11_state_144 : decode cX11_state 144 = .ok (.ireturn, 1) := by decide +kernel
theorem dX11_state_145 : decode cX11_state 145 = .ok (.aload_n 0, 1) := by decide +kernel
theorem dX11_state_146 : decode cX11_state 146 = .ok (.getfield 183, 3) := by decide +kernel
theorem dX11_state_149 : decode cX11_state 149 = .ok (.ireturn, 1) := by decide +kernel
theorem dX11_state_150 : decode cX11_state 150 = .ok (.aload_n 0, 1) := by decide +kernel
theorem dX11_state_151 : decode cX11_state 151 = .ok (.getfield 186, 3) := by decide +kernel
theorem dX11_state_154 : decode cX11_state 154 = .ok (.ireturn, 1) := by decide +kernel
theorem dX11_state_155 : decode cX11_state 155 = .ok (.aload_n 0, 1) := by decide +kernel
theorem dX11_state_156 : decode cX11_state 156 = .ok (.getfield 189, 3) := by decide +kernel
theorem dX11_state_159 : decode cX11_state 159 = .ok (.ireturn, 1) := by decide +kernel
theorem dX11_state_160 : decode cX11_state 160 = .ok (.aload_n 0, 1) := by decide +kernel
theorem dX11_state_161 : decode cX11_state 161 = .ok (.getfield 168, 3) := by decide +kernel
theorem dX11_state_164 : decode cX11_state 164 = .ok (.ireturn, 1) := by decide +kernel
theorem dX11_state_165 : decode cX11_state 165 = .ok (.aload_n 0, 1) := by decide +kernel
theorem dX11_state_166 : decode cX11_state 166 = .ok (.getfield 7, 3) := by decide +kernel
theorem dX11_state_169 : decode cX11_state 169 = .ok (.ireturn, 1) := by decide +kernel
theorem dX11_state_170 : decode cX11_state 170 = .ok (.aload_n 0, 1) := by decide +kernel
theorem dX11_state_171 : decode cX11_state 171 = .ok (.getfield 13, 3) := by decide +kernel
theorem dX11_state_174 : decode cX11_state 174 = .ok (.ireturn, 1) := by decide +kernel
theorem dX11_state_175 : decode cX11_state 175 = .ok (.aload_n 0, 1) := by decide +kernel
theorem dX11_state_176 : decode cX11_state 176 = .ok (.getfield 16, 3) := by decide +kernel
theorem dX11_state_179 : decode cX11_state 179 = .ok (.ireturn, 1) := by decide +kernel
theorem dX11_state_180 : decode cX11_state 180 = .ok (.aload_n 0, 1) := by decide +kernel
theorem dX11_state_181 : decode cX11_state 181 = .ok (.getfield 19, 3) := by decide +kernel
theorem dX11_state_184 : decode cX11_state 184 = .ok (.ireturn, 1) := by decide +kernel
theorem dX11_state_185 : decode cX11_state 185 = .ok (.aload_n 0, 1) := by decide +kernel
theorem dX11_state_186 : decode cX11_state 186 = .ok (.getfield 22, 3) := by decide +kernel
theorem dX11_state_189 : decode cX11_state 189 = .ok (.ireturn, 1) := by decide +kernel
theorem dX11_state_190 : decode cX11_state 190 = .ok (.aload_n 0, 1) := by decide +kernel
theorem dX11_state_191 : decode cX11_state 191 = .ok (.getfield 25, 3) := by decide +kernel
theorem dX11_state_194 : decode cX11_state 194 = .ok (.ireturn, 1) := by decide +kernel
theorem dX11_state_195 : decode cX11_state 195 = .ok (.aload_n 0, 1) := by decide +kernel
theorem dX11_state_196 : decode cX11_state 196 = .ok (.getfield 129, 3) := by decide +kernel
theorem dX11_state_199 : decode cX11_state 199 = .ok (.ireturn, 1) := by decide +kernel
theorem dX11_state_200 : decode cX11_state 200 = .ok (.iconst (-1), 1) := by decide +kernel
theorem dX11_state_201 : decode cX11_state 201 = .ok (.ireturn, 1) := by decide +kernel
def fX11_state (a0 : Nat) (p1 : Int32) (A : AH) : Option (Int32 × AH) :=
(pI A (some a0) 11 0 (0 : Int32)).bind fun A1 =>
if p1 = (0 : Int32) then ((gI A1 (some a0) 11 11).bind fun v3 =>
some (v3, A1)) else
if p1 = (1 : Int32) then ((gI A1 (some a0) 11 15).bind fun v5 =>
some (v5, A1)) else
if p1 = (2 : Int32) then ((gI A1 (some a0) 11 16).bind fun v7 =>
some (v7, A1)) else
if p1 = (3 : Int32) then ((gI A1 (some a0) 11 17).bind fun v9 =>
some (v9, A1)) else
if p1 = (4 : Int32) then ((gI A1 (some a0) 11 19).bind fun v11 =>
some (v11, A1)) else
if p1 = (5 : Int32) then ((gI A1 (some a0) 11 20).bind fun v13 =>
some (v13, A1)) else
if p1 = (6 : Int32) then ((gI A1 (some a0) 11 21).bind fun v15 =>
some (v15, A1)) else
if p1 = (7 : Int32) then ((gI A1 (some a0) 11 22).bind fun v17 =>
some (v17, A1)) else
if p1 = (8 : Int32) then ((gI A1 (some a0) 11 23).bind fun v19 =>
some (v19, A1)) else
if p1 = (9 : Int32) then ((gI A1 (some a0) 11 24).bind fun v21 =>
some (v21, A1)) else
if p1 = (10 : Int32) then ((gI A1 (some a0) 11 25).bind fun v23 =>
some (v23, A1)) else
if p1 = (11 : Int32) then ((gI A1 (some a0) 11 26).bind fun v25 =>
some (v25, A1)) else
if p1 = (12 : Int32) then ((gI A1 (some a0) 11 18).bind fun v27 =>
some (v27, A1)) else
if p1 = (13 : Int32) then ((gI A1 (some a0) 11 1).bind fun v29 =>
some (v29, A1)) else
if p1 = (14 : Int32) then ((gI A1 (some a0) 11 2).bind fun v31 =>
some (v31, A1)) else
if p1 = (15 : Int32) then ((gI A1 (some a0) 11 3).bind fun v33 =>
some (v33, A1)) else
if p1 = (16 : Int32) then ((gI A1 (some a0) 11 4).bind fun v35 =>
some (v35, A1)) else
if p1 = (17 : Int32) then ((gI A1 (some a0) 11 5).bind fun v37 =>
some (v37, A1)) else
if p1 = (18 : Int32) then ((gI A1 (some a0) 11 6).bind fun v39 =>
some (v39, A1)) else
if p1 = (19 : Int32) then ((gI A1 (some a0) 11 41).bind fun v41 =>
some (v41, A1)) else
some ((-1 : Int32), A1)

set_option maxHeartbeats 4000000 in
set_option maxRecDepth 100000 in
theorem sX11_state (l : Launch) (D : DE) (a0 : Nat) (p1 : Int32) (A : AH) (g : Int32 × AH) (hg : fX11_state a0 p1 A = some g) : Sm l D yX11_state cX11_state 2 (some Jvm.ClassFile.FieldType.int) 0 0 [tR (some a0), tI p1] A (wI g).1 (wI g).2 := by
  refine Sm.of (ω := wI) (fX11_state a0 p1 A) [some (tR (some a0)), some (tI p1)] (by decide) (Nat.le_of_ble_eq_true rfl) rfl hg ?_
  intro p e R s m args below meth c X hin
  have X : Cx D cX11_state RX11 2 0 0 (some Jvm.ClassFile.FieldType.int) p R s m args meth c := X
  unfold fX11_state
  refine rf_aload_n X rfl dX11_state_0 ?_
  refine rf_iconst X (0 : Int32) rfl dX11_state_1 ?_
  refine rf_bind (fun A1 hA1 => ?_)
  refine rf_putI X fp_X11_120 (fun h => by cases h) hA1 dX11_state_2 ?_
  refine rf_iload_n X rfl dX11_state_5 ?_
  by_cases c2 : p1 = (0 : Int32)
  · refine rf_pos c2 ?_
    refine rf_tsIn X (0 : Int32) c2 (by decide) (by decide) (tgt := 100) rfl rfl dX11_state_6 ?_
    refine rf_aload_n X rfl dX11_state_100 ?_
    refine rf_bind (fun v3 hv3 => ?_)
    refine rf_getI X fl_X11_136 hv3 dX11_state_101 ?_
    exact rf_iret X rfl dX11_state_104
  refine rf_neg c2 ?_
  by_cases c4 : p1 = (1 : Int32)
  · refine rf_pos c4 ?_
    refine rf_tsIn X (1 : Int32) c4 (by decide) (by decide) (tgt := 105) rfl rfl dX11_state_6 ?_
    refine rf_aload_n X rfl dX11_state_105 ?_
    refine rf_bind (fun v5 hv5 => ?_)
    refine rf_getI X fl_X11_159 hv5 dX11_state_106 ?_
    exact rf_iret X rfl dX11_state_109
  refine rf_neg c4 ?_
  by_cases c6 : p1 = (2 : Int32)
  · refine rf_pos c6 ?_
    refine rf_tsIn X (2 : Int32) c6 (by decide) (by decide) (tgt := 110) rfl rfl dX11_state_6 ?_
    refine rf_aload_n X rfl dX11_state_110 ?_
    refine rf_bind (fun v7 hv7 => ?_)
    refine rf_getI X fl_X11_162 hv7 dX11_state_111 ?_
    exact rf_iret X rfl dX11_state_114
  refine rf_neg c6 ?_
  by_cases c8 : p1 = (3 : Int32)
  · refine rf_pos c8 ?_
    refine rf_tsIn X (3 : Int32) c8 (by decide) (by decide) (tgt := 115) rfl rfl dX11_state_6 ?_
    refine rf_aload_n X rfl dX11_state_115 ?_
    refine rf_bind (fun v9 hv9 => ?_)
    refine rf_getI X fl_X11_165 hv9 dX11_state_116 ?_
    exact rf_iret X rfl dX11_state_119
  refine rf_neg c8 ?_
  by_cases c10 : p1 = (4 : Int32)
  · refine rf_pos c10 ?_
    refine rf_tsIn X (4 : Int32) c10 (by decide) (by decide) (tgt := 120) rfl rfl dX11_state_6 ?_
    refine rf_aload_n X rfl dX11_state_120 ?_
    refine rf_bind (fun v11 hv11 => ?_)
    refine rf_getI X fl_X11_171 hv11 dX11_state_121 ?_
    exact rf_iret X rfl dX11_state_124
  refine rf_neg c10 ?_
  by_cases c12 : p1 = (5 : Int32)
  · refine rf_pos c12 ?_
    refine rf_tsIn X (5 : Int32) c12 (by decide) (by decide) (tgt := 125) rfl rfl dX11_state_6 ?_
    refine rf_aload_n X rfl dX11_state_125 ?_
    refine rf_bind (fun v13 hv13 => ?_)
    refine rf_getI X fl_X11_174 hv13 dX11_state_126 ?_
    exact rf_iret X rfl dX11_state_129
  refine rf_neg c12 ?_
  by_cases c14 : p1 = (6 : Int32)
  · refine rf_pos c14 ?_
    refine rf_tsIn X (6 : Int32) c14 (by decide) (by decide) (tgt := 130) rfl rfl dX11_state_6 ?_
    refine rf_aload_n X rfl dX11_state_130 ?_
    refine rf_bind (fun v15 hv15 => ?_)
    refine rf_getI X fl_X11_177 hv15 dX11_state_131 ?_
    exact rf_iret X rfl dX11_state_134
  refine rf_neg c14 ?_
  by_cases c16 : p1 = (7 : Int32)
  · refine rf_pos c16 ?_
    refine rf_tsIn X (7 : Int32) c16 (by decide) (by decide) (tgt := 135) rfl rfl dX11_state_6 ?_
    refine rf_aload_n X rfl dX11_state_135 ?_
    refine rf_bind (fun v17 hv17 => ?_)
    refine rf_getI X fl_X11_368 hv17 dX11_state_136 ?_
    exact rf_iret X rfl dX11_state_139
  refine rf_neg c16 ?_
  by_cases c18 : p1 = (8 : Int32)
  · refine rf_pos c18 ?_
    refine rf_tsIn X (8 : Int32) c18 (by decide) (by decide) (tgt := 140) rfl rfl dX11_state_6 ?_
    refine rf_aload_n X rfl dX11_state_140 ?_
    refine rf_bind (fun v19 hv19 => ?_)
    refine rf_getI X fl_X11_180 hv19 dX11_state_141 ?_
    exact rf_iret X rfl dX11_state_144
  refine rf_neg c18 ?_
  by_cases c20 : p1 = (9 : Int32)
  · refine rf_pos c20 ?_
    refine rf_tsIn X (9 : Int32) c20 (by decide) (by decide) (tgt := 145) rfl rfl dX11_state_6 ?_
    refine rf_aload_n X rfl dX11_state_145 ?_
    refine rf_bind (fun v21 hv21 => ?_)
    refine rf_getI X fl_X11_183 hv21 dX11_state_146 ?_
    exact rf_iret X rfl dX11_state_149
  refine rf_neg c20 ?_
  by_cases c22 : p1 = (10 : Int32)
  · refine rf_pos c22 ?_
    refine rf_tsIn X (10 : Int32) c22 (by decide) (by decide) (tgt := 150) rfl rfl dX11_state_6 ?_
    refine rf_aload_n X rfl dX11_state_150 ?_
    refine rf_bind (fun v23 hv23 => ?_)
    refine rf_getI X fl_X11_186 hv23 dX11_state_151 ?_
    exact rf_iret X rfl dX11_state_154
  refine rf_neg c22 ?_
  by_cases c24 : p1 = (11 : Int32)
  · refine rf_pos c24 ?_
    refine rf_tsIn X (11 : Int32) c24 (by decide) (by decide) (tgt := 155) rfl rfl dX11_state_6 ?_
    refine rf_aload_n X rfl dX11_state_155 ?_
    refine rf_bind (fun v25 hv25 => ?_)
    refine rf_getI X fl_X11_189 hv25 dX11_state_156 ?_
    exact rf_iret X rfl dX11_state_159
  refine rf_neg c24 ?_
  by_cases c26 : p1 = (12 : Int32)
  · refine rf_pos c26 ?_
    refine rf_tsIn X (12 : Int32) c26 (by decide) (by decide) (tgt := 160) rfl rfl dX11_state_6 ?_
    refine rf_aload_n X rfl dX11_state_160 ?_
    refine rf_bind (fun v27 hv27 => ?_)
    refine rf_getI X fl_X11_168 hv27 dX11_state_161 ?_
    exact rf_iret X rfl dX11_state_164
  refine rf_neg c26 ?_
  by_cases c28 : p1 = (13 : Int32)
  · refine rf_pos c28 ?_
    refine rf_tsIn X (13 : Int32) c28 (by decide) (by decide) (tgt := 165) rfl rfl dX11_state_6 ?_
    refine rf_aload_n X rfl dX11_state_165 ?_
    refine rf_bind (fun v29 hv29 => ?_)
    refine rf_getI X fl_X11_7 hv29 dX11_state_166 ?_
    exact rf_iret X rfl dX11_state_169
  refine rf_neg c28 ?_
  by_cases c30 : p1 = (14 : Int32)
  · refine rf_pos c30 ?_
    refine rf_tsIn X (14 : Int32) c30 (by decide) (by decide) (tgt := 170) rfl rfl dX11_state_6 ?_
    refine rf_aload_n X rfl dX11_state_170 ?_
    refine rf_bind (fun v31 hv31 => ?_)
    refine rf_getI X fl_X11_13 hv31 dX11_state_171 ?_
    exact rf_iret X rfl dX11_state_174
  refine rf_neg c30 ?_
  by_cases c32 : p1 = (15 : Int32)
  · refine rf_pos c32 ?_
    refine rf_tsIn X (15 : Int32) c32 (by decide) (by decide) (tgt := 175) rfl rfl dX11_state_6 ?_
    refine rf_aload_n X rfl dX11_state_175 ?_
    refine rf_bind (fun v33 hv33 => ?_)
    refine rf_getI X fl_X11_16 hv33 dX11_state_176 ?_
    exact rf_iret X rfl dX11_state_179
  refine rf_neg c32 ?_
  by_cases c34 : p1 = (16 : Int32)
  · refine rf_pos c34 ?_
    refine rf_tsIn X (16 : Int32) c34 (by decide) (by decide) (tgt := 180) rfl rfl dX11_state_6 ?_
    refine rf_aload_n X rfl dX11_state_180 ?_
    refine rf_bind (fun v35 hv35 => ?_)
    refine rf_getI X fl_X11_19 hv35 dX11_state_181 ?_
    exact rf_iret X rfl dX11_state_184
  refine rf_neg c34 ?_
  by_cases c36 : p1 = (17 : Int32)
  · refine rf_pos c36 ?_
    refine rf_tsIn X (17 : Int32) c36 (by decide) (by decide) (tgt := 185) rfl rfl dX11_state_6 ?_
    refine rf_aload_n X rfl dX11_state_185 ?_
    refine rf_bind (fun v37 hv37 => ?_)
    refine rf_getI X fl_X11_22 hv37 dX11_state_186 ?_
    exact rf_iret X rfl dX11_state_189
  refine rf_neg c36 ?_
  by_cases c38 : p1 = (18 : Int32)
  · refine rf_pos c38 ?_
    refine rf_tsIn X (18 : Int32) c38 (by decide) (by decide) (tgt := 190) rfl rfl dX11_state_6 ?_
    refine rf_aload_n X rfl dX11_state_190 ?_
    refine rf_bind (fun v39 hv39 => ?_)
    refine rf_getI X fl_X11_25 hv39 dX11_state_191 ?_
    exact rf_iret X rfl dX11_state_194
  refine rf_neg c38 ?_
  by_cases c40 : p1 = (19 : Int32)
  · refine rf_pos c40 ?_
    refine rf_tsIn X (19 : Int32) c40 (by decide) (by decide) (tgt := 195) rfl rfl dX11_state_6 ?_
    refine rf_aload_n X rfl dX11_state_195 ?_
    refine rf_bind (fun v41 hv41 => ?_)
    refine rf_getI X fl_X11_129 hv41 dX11_state_196 ?_
    exact rf_iret X rfl dX11_state_199
  refine rf_neg c40 ?_
  refine rf_tsOut X (ts_def (0) (19) [(0 : Int32), (1 : Int32), (2 : Int32), (3 : Int32), (4 : Int32), (5 : Int32), (6 : Int32), (7 : Int32), (8 : Int32), (9 : Int32), (10 : Int32), (11 : Int32), (12 : Int32), (13 : Int32), (14 : Int32), (15 : Int32), (16 : Int32), (17 : Int32), (18 : Int32), (19 : Int32)] 20 (by decide) (by decide) (List.forall_mem_cons.mpr ⟨c2, (List.forall_mem_cons.mpr ⟨c4, (List.forall_mem_cons.mpr ⟨c6, (List.forall_mem_cons.mpr ⟨c8, (List.forall_mem_cons.mpr ⟨c10, (List.forall_mem_cons.mpr ⟨c12, (List.forall_mem_cons.mpr ⟨c14, (List.forall_mem_cons.mpr ⟨c16, (List.forall_mem_cons.mpr ⟨c18, (List.forall_mem_cons.mpr ⟨c20, (List.forall_mem_cons.mpr ⟨c22, (List.forall_mem_cons.mpr ⟨c24, (List.forall_mem_cons.mpr ⟨c26, (List.forall_mem_cons.mpr ⟨c28, (List.forall_mem_cons.mpr ⟨c30, (List.forall_mem_cons.mpr ⟨c32, (List.forall_mem_cons.mpr ⟨c34, (List.forall_mem_cons.mpr ⟨c36, (List.forall_mem_cons.mpr ⟨c38, (List.forall_mem_cons.mpr ⟨c40, (fun _ h => absurd h List.not_mem_nil)⟩)⟩)⟩)⟩)⟩)⟩)⟩)⟩)⟩)⟩)⟩)⟩)⟩)⟩)⟩)⟩)⟩)⟩)⟩)⟩)) (tgt := 200) rfl dX11_state_6 ?_
  refine rf_iconst X (-1 : Int32) rfl dX11_state_200 ?_
  exact rf_iret X rfl dX11_state_201

theorem dX11_unit_0 : decode cX11_unit 0 = .ok (.aload_n 0, 1) := by decide +kernel
theorem dX11_unit_1 : decode cX11_unit 1 = .ok (.iconst 0, 1) := by decide +kernel
theorem dX11_unit_2 : decode cX11_unit 2 = .ok (.putfield 120, 3) := by decide +kernel
theorem dX11_unit_5 : decode cX11_unit 5 = .ok (.iload_n 1, 1) := by decide +kernel
theorem dX11_unit_6 : decode cX11_unit 6 = .ok (.ifCond .lt 11, 3) := by decide +kernel
theorem dX11_unit_9 : decode cX11_unit 9 = .ok (.iload_n 1, 1) := by decide +kernel
theorem dX11_unit_10 : decode cX11_unit 10 = .ok (.aload_n 0, 1) := by decide +kernel
theorem dX11_unit_11 : decode cX11_unit 11 = .ok (.getfield 16, 3) := by decide +kernel
theorem dX11_unit_14 : decode cX11_unit 14 = .ok (.if_icmp .lt 5, 3) := by decide +kernel
theorem dX11_unit_17 : decode cX11_unit 17 = .ok (.iconst (-1), 1) := by decide +kernel
theorem dX11_unit_18 : decode cX11_unit 18 = .ok (.ireturn, 1) := by decide +kernel
theorem dX11_unit_19 : decode cX11_unit 19 = .ok (.iload_n 2, 1) := by decide +kernel
theorem dX11_unit_20 : decode cX11_unit 20 = .ok (.tableswitch 60 0 3 #[32, 39, 46, 53], 32) := by decide +kernel
theorem dX11_unit_52 : decode cX11_unit 52 = .ok (.aload_n 0, 1) := by decide +kernel
theorem dX11_unit_53 : decode cX11_unit 53 = .ok (.getfield 42, 3) := by decide +kernel
theorem dX11_unit_56 : decode cX11_unit 56 = .ok (.iload_n 1, 1) := by decide +kernel
theorem dX11_unit_57 : decode cX11_unit 57 = .ok (.iaload, 1) := by decide +kernel
theorem dX11_unit_58 : decode cX11_unit 58 = .ok (.ireturn, 1) := by decide +kernel
theorem dX11_unit_59 : decode cX11_unit 59 = .ok (.aload_n 0, 1) := by decide +kernel
theorem dX11_unit_60 : decode cX11_unit 60 = .ok (.getfield 45, 3) := by decide +kernel
theorem dX11_unit_63 : decode cX11_unit 63 = .ok (.iload_n 1, 1) := by decide +kernel
theorem dX11_unit_64 : decode cX11_unit 64 = .ok (.iaload, 1) := by decide +kernel
theorem dX11_unit_65 : decode cX11_unit 65 = .ok (.ireturn, 1) := by decide +kernel
theorem dX11_unit_66 : decode cX11_unit 66 = .ok (.aload_n 0, 1) := by decide +kernel
theorem dX11_unit_67 : decode cX11_unit 67 = .ok (.getfield 48, 3) := by decide +kernel
theorem dX11_unit_70 : decode cX11_unit 70 = .ok (.iload_n 1, 1) := by decide +kernel
theorem dX11_unit_71 : decode cX11_unit 71 = .ok (.iaload, 1) := by decide +kernel
theorem dX11_unit_72 : decode cX11_unit 72 = .ok (.ireturn, 1) := by decide +kernel
theorem dX11_unit_73 : decode cX11_unit 73 = .ok (.aload_n 0, 1) := by decide +kernel
theorem dX11_unit_74 : decode cX11_unit 74 = .ok (.getfield 51, 3) := by decide +kernel
theorem dX11_unit_77 : decode cX11_unit 77 = .ok (.iload_n 1, 1) := by decide +kernel
theorem dX11_unit_78 : decode cX11_unit 78 = .ok (.iaload, 1) := by decide +kernel
theorem dX11_unit_79 : decode cX11_unit 79 = .ok (.ireturn, 1) := by decide +kernel
theorem dX11_unit_80 : decode cX11_unit 80 = .ok (.iconst (-1), 1) := by decide +kernel
theorem dX11_unit_81 : decode cX11_unit 81 = .ok (.ireturn, 1) := by decide +kernel
def fX11_unit (a0 : Nat) (p1 : Int32) (p2 : Int32) (A : AH) : Option (Int32 × AH) :=
(pI A (some a0) 11 0 (0 : Int32)).bind fun A1 =>
(gI A1 (some a0) 11 3).bind fun v2 =>
if ((p1 < 0) ∨ (¬ (p1 < v2))) then (some ((-1 : Int32), A1)) else
if p2 = (0 : Int32) then ((gR A1 (some a0) 11 27).bind fun v4 =>
(aI A1 v4 p1).bind fun v5 =>
some (v5, A1)) else
if p2 = (1 : Int32) then ((gR A1 (some a0) 11 28).bind fun v7 =>
(aI A1 v7 p1).bind fun v8 =>
some (v8, A1)) else
if p2 = (2 : Int32) then ((gR A1 (some a0) 11 29).bind fun v10 =>
(aI A1 v10 p1).bind fun v11 =>
some (v11, A1)) else
if p2 = (3 : Int32) then ((gR A1 (some a0) 11 30).bind fun v13 =>
(aI A1 v13 p1).bind fun v14 =>
some (v14, A1)) else
some ((-1 : Int32), A1)

set_option maxHeartbeats 4000000 in
set_option maxRecDepth 100000 in
theorem sX11_unit (l : Launch) (D : DE) (a0 : Nat) (p1 : Int32) (p2 : Int32) (A : AH) (g : Int32 × AH) (hg : fX11_unit a0 p1 p2 A = some g) : Sm l D yX11_unit cX11_unit 3 (some Jvm.ClassFile.FieldType.int) 0 0 [tR (some a0), tI p1, tI p2] A (wI g).1 (wI g).2 := by
  refine Sm.of (ω := wI) (fX11_unit a0 p1 p2 A) [some (tR (some a0)), some (tI p1), some (tI p2)] (by decide) (Nat.le_of_ble_eq_true rfl) rfl hg ?_
  intro p e R s m args below meth c X hin
  have X : Cx D cX11_unit RX11 3 0 0 (some Jvm.ClassFile.FieldType.int) p R s m args meth c := X
  unfold fX11_unit
  refine rf_aload_n X rfl dX11_unit_0 ?_
  refine rf_iconst X (0 : Int32) rfl dX11_unit_1 ?_
  refine rf_bind (fun A1 hA1 => ?_)
  refine rf_putI X fp_X11_120 (fun h => by cases h) hA1 dX11_unit_2 ?_
  refine rf_iload_n X rfl dX11_unit_5 ?_
  refine rf_bind (fun v2 hv2 => ?_)
  refine rf_br 17 19 [some (tR (some a0)), some (tI p1), some (tI p2)] [some (tR (some a0)), some (tI p1), some (tI p2)] [] [] (fun _ => ?_) (fun _ => ?_) (fun _ jT jF => ?_)
  · refine rf_iconst X (-1 : Int32) rfl dX11_unit_17 ?_
    exact rf_iret X rfl dX11_unit_18
  · refine rf_iload_n X rfl dX11_unit_19 ?_
    by_cases c3 : p2 = (0 : Int32)
    · refine rf_pos c3 ?_
      refine rf_tsIn X (0 : Int32) c3 (by decide) (by decide) (tgt := 52) rfl rfl dX11_unit_20 ?_
      refine rf_aload_n X rfl dX11_unit_52 ?_
      refine rf_bind (fun v4 hv4 => ?_)
      refine rf_getR X fl_X11_42 hv4 dX11_unit_53 ?_
      refine rf_iload_n X rfl dX11_unit_56 ?_
      refine rf_bind (fun v5 hv5 => ?_)
      refine rf_iald X hv5 dX11_unit_57 ?_
      exact rf_iret X rfl dX11_unit_58
    refine rf_neg c3 ?_
    by_cases c6 : p2 = (1 : Int32)
    · refine rf_pos c6 ?_
      refine rf_tsIn X (1 : Int32) c6 (by decide) (by decide) (tgt := 59) rfl rfl dX11_unit_20 ?_
      refine rf_aload_n X rfl dX11_unit_59 ?_
      refine rf_bind (fun v7 hv7 => ?_)
      refine rf_getR X fl_X11_45 hv7 dX11_unit_60 ?_
      refine rf_iload_n X rfl dX11_unit_63 ?_
      refine rf_bind (fun v8 hv8 => ?_)
      refine rf_iald X hv8 dX11_unit_64 ?_
      exact rf_iret X rfl dX11_unit_65
    refine rf_neg c6 ?_
    by_cases c9 : p2 = (2 : Int32)
    · refine rf_pos c9 ?_
      refine rf_tsIn X (2 : Int32) c9 (by decide) (by decide) (tgt := 66) rfl rfl dX11_unit_20 ?_
      refine rf_aload_n X rfl dX11_unit_66 ?_
      refine rf_bind (fun v10 hv10 => ?_)
      refine rf_getR X fl_X11_48 hv10 dX11_unit_67 ?_
      refine rf_iload_n X rfl dX11_unit_70 ?_
      refine rf_bind (fun v11 hv11 => ?_)
      refine rf_iald X hv11 dX11_unit_71 ?_
      exact rf_iret X rfl dX11_unit_72
    refine rf_neg c9 ?_
    by_cases c12 : p2 = (3 : Int32)
    · refine rf_pos c12 ?_
      refine rf_tsIn X (3 : Int32) c12 (by decide) (by decide) (tgt := 73) rfl rfl dX11_unit_20 ?_
      refine rf_aload_n X rfl dX11_unit_73 ?_
      refine rf_bind (fun v13 hv13 => ?_)
      refine rf_getR X fl_X11_51 hv13 dX11_unit_74 ?_
      refine rf_iload_n X rfl dX11_unit_77 ?_
      refine rf_bind (fun v14 hv14 => ?_)
      refine rf_iald X hv14 dX11_unit_78 ?_
      exact rf_iret X rfl dX11_unit_79
    refine rf_neg c12 ?_
    refine rf_tsOut X (ts_def (0) (3) [(0 : Int32), (1 : Int32), (2 : Int32), (3 : Int32)] 4 (by decide) (by decide) (List.forall_mem_cons.mpr ⟨c3, (List.forall_mem_cons.mpr ⟨c6, (List.forall_mem_cons.mpr ⟨c9, (List.forall_mem_cons.mpr ⟨c12, (fun _ h => absurd h List.not_mem_nil)⟩)⟩)⟩)⟩)) (tgt := 80) rfl dX11_unit_20 ?_
    refine rf_iconst X (-1 : Int32) rfl dX11_unit_80 ?_
    exact rf_iret X rfl dX11_unit_81
  refine rf_if_lt X (tgt := 17) rfl dX11_unit_6 (fun c15 => ?_) (fun c15 => ?_)
  · exact jT (Or.inl c15)
  refine rf_iload_n X rfl dX11_unit_9 ?_
  refine rf_aload_n X rfl dX11_unit_10 ?_
  refine rf_getI X fl_X11_16 hv2 dX11_unit_11 ?_
  refine rf_icmp_lt X (tgt := 19) rfl dX11_unit_14 (fun c16 => ?_) (fun c16 => ?_)
  · exact jF (fun z => z.elim c15 (fun z => z c16))
  exact jT (Or.inr c16)

theorem dX11_cached_0 : decode cX11_cached 0 = .ok (.aload_n 0, 1) := by decide +kernel
theorem dX11_cached_1 : decode cX11_cached 1 = .ok (.iconst 0, 1) := by decide +kernel
theorem dX11_cached_2 : decode cX11_cached 2 = .ok (.putfield 120, 3) := by decide +kernel
theorem dX11_cached_5 : decode cX11_cached 5 = .ok (.iload_n 1, 1) := by decide +kernel
theorem dX11_cached_6 : decode cX11_cached 6 = .ok (.ifCond .lt 20, 3) := by decide +kernel
theorem dX11_cached_9 : decode cX11_cached 9 = .ok (.iload_n 1, 1) := by decide +kernel
theorem dX11_cached_10 : decode cX11_cached 10 = .ok (.aload_n 0, 1) := by decide +kernel
theorem dX11_cached_11 : decode cX11_cached 11 = .ok (.getfield 22, 3) := by decide +kernel
theorem dX11_cached_14 : decode cX11_cached 14 = .ok (.if_icmp .ge 12, 3) := by decide +kernel
theorem dX11_cached_17 : decode cX11_cached 17 = .ok (.iload_n 2, 1) := by decide +kernel
theorem dX11_cached_18 : decode cX11_cached 18 = .ok (.ifCond .lt 8, 3) := by decide +kernel
theorem dX11_cached_21 : decode cX11_cached 21 = .ok (.iload_n 2, 1) := by decide +kernel
theorem dX11_cached_22 : decode cX11_cached 22 = .ok (.iconst 4, 1) := by decide +kernel
theorem dX11_cached_23 : decode cX11_cached 23 = .ok (.if_icmp .le 5, 3) := by decide +kernel
theorem dX11_cached_26 : decode cX11_cached 26 = .ok (.iconst (-1), 1) := by decide +kernel
theorem dX11_cached_27 : decode cX11_cached 27 = .ok (.ireturn, 1) := by decide +kernel
theorem dX11_cached_28 : decode cX11_cached 28 = .ok (.iload_n 2, 1) := by decide +kernel
theorem dX11_cached_29 : decode cX11_cached 29 = .ok (.iconst 4, 1) := by decide +kernel
theorem dX11_cached_30 : decode cX11_cached 30 = .ok (.if_icmp .ne 12, 3) := by decide +kernel
theorem dX11_cached_33 : decode cX11_cached 33 = .ok (.aload_n 0, 1) := by decide +kernel
theorem dX11_cached_34 : decode cX11_cached 34 = .ok (.getfield 39, 3) := by decide +kernel
theorem dX11_cached_37 : decode cX11_cached 37 = .ok (.iload_n 1, 1) := by decide +kernel
theorem dX11_cached_38 : decode cX11_cached 38 = .ok (.iaload, 1) := by decide +kernel
theorem dX11_cached_39 : decode cX11_cached 39 = .ok (.goto 13, 3) := by decide +kernel
theorem dX11_cached_42 : decode cX11_cached 42 = .ok (.aload_n 0, 1) := by decide +kernel
theorem dX11_cached_43 : decode cX11_cached 43 = .ok (.getfield 36, 3) := by decide +kernel
theorem dX11_cached_46 : decode cX11_cached 46 = .ok (.iconst 4, 1) := by decide +kernel
theorem dX11_cached_47 : decode cX11_cached 47 = .ok (.iload_n 1, 1) := by decide +kernel
theorem dX11_cached_48 : decode cX11_cached 48 = .ok (.imul, 1) := by decide +kernel
theorem dX11_cached_49 : decode cX11_cached 49 = .ok (.iload_n 2, 1) := by decide +kernel
theorem dX11_cached_50 : decode cX11_cached 50 = .ok (.iadd, 1) := by decide +kernel
theorem dX11_cached_51 : decode cX11_cached 51 = .ok (.iaload, 1) := by decide +kernel
theorem dX11_cached_52 : decode cX11_cached 52 = .ok (.ireturn, 1) := by decide +kernel
def fX11_cached (a0 : Nat) (p1 : Int32) (p2 : Int32) (A : AH) : Option (Int32 × AH) :=
(pI A (some a0) 11 0 (0 : Int32)).bind fun A1 =>
(gI A1 (some a0) 11 5).bind fun v2 =>
if ((((p1 < 0) ∨ (v2 ≤ p1)) ∨ (p2 < 0)) ∨ (¬ (p2 ≤ (4 : Int32)))) then (some ((-1 : Int32), A1)) else
jn (fun (y4 : Int32) =>
some (y4, A1)) fun j3 =>
if p2 = (4 : Int32) then ((gR A1 (some a0) 11 10).bind fun v6 =>
(aI A1 v6 p1).bind fun v7 =>
j3 v7) else
(gR A1 (some a0) 11 9).bind fun v8 =>
(aI A1 v8 (((4 : Int32) * p1) + p2)).bind fun v9 =>
j3 v9

set_option maxHeartbeats 4000000 in
set_option maxRecDepth 100000 in
theorem sX11_cached (l : Launch) (D : DE) (a0 : Nat) (p1 : Int32) (p2 : Int32) (A : AH) (g : Int32 × AH) (hg : fX11_cached a0 p1 p2 A = some g) : Sm l D yX11_cached cX11_cached 3 (some Jvm.ClassFile.FieldType.int) 0 0 [tR (some a0), tI p1, tI p2] A (wI g).1 (wI g).2 := by
  refine Sm.of (ω := wI) (fX11_cached a0 p1 p2 A) [some (tR (some a0)), some (tI p1), some (tI p2)] (by decide) (Nat.le_of_ble_eq_true rfl) rfl hg ?_
  intro p e R s m args below meth c X hin
  have X : Cx D cX11_cached RX11 3 0 0 (some Jvm.ClassFile.FieldType.int) p R s m args meth c := X
  unfold fX11_cached
  refine rf_aload_n X rfl dX11_cached_0 ?_
  refine rf_iconst X (0 : Int32) rfl dX11_cached_1 ?_
  refine rf_bind (fun A1 hA1 => ?_)
  refine rf_putI X fp_X11_120 (fun h => by cases h) hA1 dX11_cached_2 ?_
  refine rf_iload_n X rfl dX11_cached_5 ?_
  refine rf_bind (fun v2 hv2 => ?_)
  refine rf_br 26 28 [some (tR (some a0)), some (tI p1), some (tI p2)] [some (tR (some a0)), some (tI p1), some (tI p2)] [] [] (fun _ => ?_) (fun _ => ?_) (fun _ jT jF => ?_)
  · refine rf_iconst X (-1 : Int32) rfl dX11_cached_26 ?_
    exact rf_iret X rfl dX11_cached_27
  · refine rf_iload_n X rfl dX11_cached_28 ?_
    refine rf_iconst X (4 : Int32) rfl dX11_cached_29 ?_
    refine rf_jn2 (fun i => ∀ (y4 : Int32), RfX X l e below wI (i y4) 52 [none, none, none] [tI y4] A1) ?_ (fun j3 hj3 => ?_)
    · intro y4
      exact rf_iret X rfl dX11_cached_52
    refine rf_icmp_ne X (tgt := 42) rfl dX11_cached_30 (fun c5 => rf_neg c5 ?_) (fun c5 => rf_pos c5 ?_)
    · refine rf_aload_n X rfl dX11_cached_42 ?_
      refine rf_bind (fun v8 hv8 => ?_)
      refine rf_getR X fl_X11_36 hv8 dX11_cached_43 ?_
      refine rf_iconst X (4 : Int32) rfl dX11_cached_46 ?_
      refine rf_iload_n X rfl dX11_cached_47 ?_
      refine rf_imul X dX11_cached_48 ?_
      refine rf_iload_n X rfl dX11_cached_49 ?_
      refine rf_iadd X dX11_cached_50 ?_
      refine rf_bind (fun v9 hv9 => ?_)
      refine rf_iald X hv9 dX11_cached_51 ?_
      exact rf_go (hj3 v9) True.intro
    refine rf_aload_n X rfl dX11_cached_33 ?_
    refine rf_bind (fun v6 hv6 => ?_)
    refine rf_getR X fl_X11_39 hv6 dX11_cached_34 ?_
    refine rf_iload_n X rfl dX11_cached_37 ?_
    refine rf_bind (fun v7 hv7 => ?_)
    refine rf_iald X hv7 dX11_cached_38 ?_
    refine rf_goto X (tgt := 52) rfl dX11_cached_39 ?_
    exact rf_go (hj3 v7) True.intro
  refine rf_if_lt X (tgt := 26) rfl dX11_cached_6 (fun c10 => ?_) (fun c10 => ?_)
  · exact jT (Or.inl (Or.inl (Or.inl c10)))
  refine rf_iload_n X rfl dX11_cached_9 ?_
  refine rf_aload_n X rfl dX11_cached_10 ?_
  refine rf_getI X fl_X11_22 hv2 dX11_cached_11 ?_
  refine rf_icmp_ge X (tgt := 26) rfl dX11_cached_14 (fun c11 => ?_) (fun c11 => ?_)
  · exact jT (Or.inl (Or.inl (Or.inr c11)))
  refine rf_iload_n X rfl dX11_cached_17 ?_
  refine rf_if_lt X (tgt := 26) rfl dX11_cached_18 (fun c12 => ?_) (fun c12 => ?_)
  · exact jT (Or.inl (Or.inr c12))
  refine rf_iload_n X rfl dX11_cached_21 ?_
  refine rf_iconst X (4 : Int32) rfl dX11_cached_22 ?_
  refine rf_icmp_le X (tgt := 28) rfl dX11_cached_23 (fun c13 => ?_) (fun c13 => ?_)
  · exact jF (fun z => z.elim (fun z => z.elim (fun z => z.elim c10 c11) c12) (fun z => z c13))
  exact jT (Or.inr c13)

theorem dX11_isSlot_0 : decode cX11_isSlot 0 = .ok (.iload_n 1, 1) := by decide +kernel
theorem dX11_isSlot_1 : decode cX11_isSlot 1 = .ok (.ifCond .lt 27, 3) := by decide +kernel
theorem dX11_isSlot_4 : decode cX11_isSlot 4 = .ok (.iload_n 1, 1) := by decide +kernel
theorem dX11_isSlot_5 : decode cX11_isSlot 5 = .ok (.aload_n 0, 1) := by decide +kernel
theorem dX11_isSlot_6 : decode cX11_isSlot 6 = .ok (.getfield 16, 3) := by decide +kernel
theorem dX11_isSlot_9 : decode cX11_isSlot 9 = .ok (.if_icmp .ge 19, 3) := by decide +kernel
theorem dX11_isSlot_12 : decode cX11_isSlot 12 = .ok (.iload_n 2, 1) := by decide +kernel
theorem dX11_isSlot_13 : decode cX11_isSlot 13 = .ok (.ifCond .lt 15, 3) := by decide +kernel
theorem dX11_isSlot_16 : decode cX11_isSlot 16 = .ok (.iload_n 2, 1) := by decide +kernel
theorem dX11_isSlot_17 : decode cX11_isSlot 17 = .ok (.aload_n 0, 1) := by decide +kernel
theorem dX11_isSlot_18 : decode cX11_isSlot 18 = .ok (.getfield 13, 3) := by decide +kernel
theorem dX11_isSlot_21 : decode cX11_isSlot 21 = .ok (.if_icmp .ge 7, 3) := by decide +kernel
theorem dX11_isSlot_24 : decode cX11_isSlot 24 = .ok (.iconst 1, 1) := by decide +kernel
theorem dX11_isSlot_25 : decode cX11_isSlot 25 = .ok (.goto 4, 3) := by decide +kernel
theorem dX11_isSlot_28 : decode cX11_isSlot 28 = .ok (.iconst 0, 1) := by decide +kernel
theorem dX11_isSlot_29 : decode cX11_isSlot 29 = .ok (.ireturn, 1) := by decide +kernel
def fX11_isSlot (a0 : Nat) (p1 : Int32) (p2 : Int32) (A : AH) : Option (Int32) :=
(gI A (some a0) 11 3).bind fun v1 =>
(gI A (some a0) 11 2).bind fun v2 =>
jn (fun (y4 : Int32) =>
some (nb y4)) fun j3 =>
if ((((p1 < 0) ∨ (v1 ≤ p1)) ∨ (p2 < 0)) ∨ (v2 ≤ p2)) then (j3 (0 : Int32)) else
j3 (1 : Int32)

set_option maxHeartbeats 4000000 in
set_option maxRecDepth 100000 in
theorem sX11_isSlot (l : Launch) (D : DE) (a0 : Nat) (p1 : Int32) (p2 : Int32) (A : AH) (g : Int32) (hg : fX11_isSlot a0 p1 p2 A = some g) : Sm l D yX11_isSlot cX11_isSlot 3 (some Jvm.ClassFile.FieldType.boolean) 0 0 [tR (some a0), tI p1, tI p2] A (qI A g).1 (qI A g).2 := by
  refine Sm.of (ω := qI A) (fX11_isSlot a0 p1 p2 A) [some (tR (some a0)), some (tI p1), some (tI p2)] (by decide) (Nat.le_of_ble_eq_true rfl) rfl hg ?_
  intro p e R s m args below meth c X hin
  have X : Cx D cX11_isSlot RX11 3 0 0 (some Jvm.ClassFile.FieldType.boolean) p R s m args meth c := X
  unfold fX11_isSlot
  refine rf_iload_n X rfl dX11_isSlot_0 ?_
  refine rf_bind (fun v1 hv1 => ?_)
  refine rf_bind (fun v2 hv2 => ?_)
  refine rf_jn2 (fun i => ∀ (y4 : Int32), RfX X l e below (qI A) (i y4) 29 [none, none, none] [tI y4] A) ?_ (fun j3 hj3 => ?_)
  · intro y4
    exact rf_zret X rfl dX11_isSlot_29
  refine rf_br 28 24 [some (tR (some a0)), some (tI p1), some (tI p2)] [some (tR (some a0)), some (tI p1), some (tI p2)] [] [] (fun _ => ?_) (fun _ => ?_) (fun _ jT jF => ?_)
  · refine rf_iconst X (0 : Int32) rfl dX11_isSlot_28 ?_
    exact rf_go (hj3 (0 : Int32)) True.intro
  · refine rf_iconst X (1 : Int32) rfl dX11_isSlot_24 ?_
    refine rf_goto X (tgt := 29) rfl dX11_isSlot_25 ?_
    exact rf_go (hj3 (1 : Int32)) True.intro
  refine rf_if_lt X (tgt := 28) rfl dX11_isSlot_1 (fun c5 => ?_) (fun c5 => ?_)
  · exact jT (Or.inl (Or.inl (Or.inl c5)))
  refine rf_iload_n X rfl dX11_isSlot_4 ?_
  refine rf_aload_n X rfl dX11_isSlot_5 ?_
  refine rf_getI X fl_X11_16 hv1 dX11_isSlot_6 ?_
  refine rf_icmp_ge X (tgt := 28) rfl dX11_isSlot_9 (fun c6 => ?_) (fun c6 => ?_)
  · exact jT (Or.inl (Or.inl (Or.inr c6)))
  refine rf_iload_n X rfl dX11_isSlot_12 ?_
  refine rf_if_lt X (tgt := 28) rfl dX11_isSlot_13 (fun c7 => ?_) (fun c7 => ?_)
  · exact jT (Or.inl (Or.inr c7))
  refine rf_iload_n X rfl dX11_isSlot_16 ?_
  refine rf_aload_n X rfl dX11_isSlot_17 ?_
  refine rf_getI X fl_X11_13 hv2 dX11_isSlot_18 ?_
  refine rf_icmp_ge X (tgt := 28) rfl dX11_isSlot_21 (fun c8 => ?_) (fun c8 => ?_)
  · exact jT (Or.inr c8)
  exact jF (fun z => z.elim (fun z => z.elim (fun z => z.elim c5 c6) c7) c8)

