/-! 20.g16: printed by gen/parts.py -/
set_option maxRecDepth 100000
theorem fl_X7_174 : FLr RX7 174 3 0 := ⟨RX3, TX3, 3, "WarpMill$Heap", "WarpMill", rfl, by decide, in_X3, Or.inr q498, Or.inl rfl⟩
theorem fl_X7_52 : FLr RX7 52 7 21 := ⟨RX7, TX7, 26, "WarpMill$Machine", "", rfl, by decide, in_X7, Or.inl q830, Or.inl rfl⟩
theorem fl_X1_227 : FLr RX1 227 13 2 := ⟨RX13, TX13, 6, "WarpMill$Warp", "WarpMill", rfl, by decide, in_X13, Or.inr q1163, Or.inl rfl⟩
theorem fl_X1_234 : FLr RX1 234 14 2 := ⟨RX14, TX14, 6, "WarpMill$Lane", "WarpMill", rfl, by decide, in_X14, Or.inr q1206, Or.inl rfl⟩
theorem fl_X1_237 : FLr RX1 237 14 1 := ⟨RX14, TX14, 6, "WarpMill$Lane", "WarpMill", rfl, by decide, in_X14, Or.inr q1201, Or.inl rfl⟩
theorem fl_X1_231 : FLr RX1 231 14 0 := ⟨RX14, TX14, 6, "WarpMill$Lane", "WarpMill", rfl, by decide, in_X14, Or.inr q1199, Or.inl rfl⟩
theorem fl_X1_244 : FLr RX1 244 12 1 := ⟨RX12, TX12, 3, "WarpMill$Block", "WarpMill", rfl, by decide, in_X12, Or.inr q1123, Or.inl rfl⟩
theorem fp_X11_129 : FL RX11 129 11 41 (.int) false := ⟨RX11, TX11, 60, tyX11, "WarpMillModel", "", rfl, by decide, in_X11, tyX11_ok, nmX11, Or.inl q1598, Or.inl rfl, rfl, rfl, fun h => by cases h⟩
theorem fp_X11_133 : FL RX11 133 11 42 (.int) false := ⟨RX11, TX11, 60, tyX11, "WarpMillModel", "", rfl, by decide, in_X11, tyX11_ok, nmX11, Or.inl q1599, Or.inl rfl, rfl, rfl, fun h => by cases h⟩
theorem fl_X11_54 : FLr RX11 54 11 31 := ⟨RX11, TX11, 60, "WarpMillModel", "", rfl, by decide, in_X11, Or.inl q1588, Or.inl rfl⟩
theorem fl_X11_42 : FLr RX11 42 11 27 := ⟨RX11, TX11, 60, "WarpMillModel", "", rfl, by decide, in_X11, Or.inl q1584, Or.inl rfl⟩
theorem fl_X11_45 : FLr RX11 45 11 28 := ⟨RX11, TX11, 60, "WarpMillModel", "", rfl, by decide, in_X11, Or.inl q1585, Or.inl rfl⟩
theorem fl_X11_48 : FLr RX11 48 11 29 := ⟨RX11, TX11, 60, "WarpMillModel", "", rfl, by decide, in_X11, Or.inl q1586, Or.inl rfl⟩
theorem fl_X11_13 : FLr RX11 13 11 2 := ⟨RX11, TX11, 60, "WarpMillModel", "", rfl, by decide, in_X11, Or.inl q1559, Or.inl rfl⟩
theorem fl_X11_51 : FLr RX11 51 11 30 := ⟨RX11, TX11, 60, "WarpMillModel", "", rfl, by decide, in_X11, Or.inl q1587, Or.inl rfl⟩
theorem fl_X11_39 : FLr RX11 39 11 10 := ⟨RX11, TX11, 60, "WarpMillModel", "", rfl, by decide, in_X11, Or.inl q1567, Or.inl rfl⟩
theorem c_X7_155 : CV RX7 155 3 yX3_isDue cX3_isDue 2 (some Jvm.ClassFile.FieldType.boolean) 1 := ⟨TX3, 3, rfl, q1063, q1064, q1065, q100, q1066, ⟨by decide +kernel, by decide +kernel, by decide +kernel⟩⟩
theorem c_X7_177 : CV RX7 177 0 yJ2_isEmpty cJ2_isEmpty 1 (some Jvm.ClassFile.FieldType.boolean) 0 := ⟨TJ2, 3, rfl, q1493, q1068, q1069, q82, q1070, ⟨by decide +kernel, by decide +kernel, by decide +kernel⟩⟩
theorem c_X7_170 : CV RX7 170 7 yX7_issue cX7_issue 9 none 1 := ⟨TX7, 26, rfl, q1239, q1241, qs14, q106, q1242, ⟨by decide +kernel, by decide +kernel, by decide +kernel⟩⟩
theorem c_X7_167 : CV RX7 167 7 yX7_dispatch cX7_dispatch 4 none 0 := ⟨TX7, 26, rfl, q1097, q1099, qs11, q106, q1100, ⟨by decide +kernel, by decide +kernel, by decide +kernel⟩⟩
theorem c_X7_159 : CV RX7 159 3 yX3_take cX3_take 7 (some (Jvm.ClassFile.FieldType.object "WarpMill$Ask")) 0 := ⟨TX3, 3, rfl, q1071, q1072, q1073, q100, q1074, ⟨by decide +kernel, by decide +kernel, by decide +kernel⟩⟩
theorem c_X7_163 : CV RX7 163 7 yX7_finish cX7_finish 3 none 1 := ⟨TX7, 26, rfl, q1089, q1091, qs10, q106, q1092, ⟨by decide +kernel, by decide +kernel, by decide +kernel⟩⟩
theorem c_X1_99 : CV RX1 99 7 yX7_cycle cX7_cycle 2 none 0 := ⟨TX7, 26, rfl, q1059, q1060, q1061, q106, q1062, ⟨by decide +kernel, by decide +kernel, by decide +kernel⟩⟩
theorem c_X1_241 : CV RX1 241 7 yX7_block cX7_block 4 (some (Jvm.ClassFile.FieldType.object "WarpMill$Block")) 1 := ⟨TX7, 26, rfl, q1532, q1533, q1534, q106, q1535, ⟨by decide +kernel, by decide +kernel, by decide +kernel⟩⟩
theorem c_X11_123 : CV RX11 123 11 yX11_freeAll cX11_freeAll 2 none 0 := ⟨TX11, 60, rfl, q1552, q1554, qs28, q111, q1555, ⟨by decide +kernel, by decide +kernel, by decide +kernel⟩⟩
theorem dX7_cycle_0 : decode cX7_cycle 0 = .ok (.aload_n 0, 1) := by decide +kernel
theorem dX7_cycle_1 : decode cX7_cycle 1 = .ok (.getfield 44, 3) := by decide +kernel
theorem dX7_cycle_4 : decode cX7_cycle 4 = .ok (.aload_n 0, 1) := by decide +kernel
theorem dX7_cycle_5 : decode cX7_cycle 5 = .ok (.getfield 97, 3) := by decide +kernel
theorem dX7_cycle_8 : decode cX7_cycle 8 = .ok (.invokevirtual 155, 3) := by decide +kernel
theorem dX7_cycle_11 : decode cX7_cycle 11 = .ok (.ifCond .eq 17, 3) := by decide +kernel
theorem dX7_cycle_14 : decode cX7_cycle 14 = .ok (.aload_n 0, 1) := by decide +kernel
theorem dX7_cycle_15 : decode cX7_cycle 15 = .ok (.aload_n 0, 1) := by decide +kernel
theorem dX7_cycle_16 : decode cX7_cycle 16 = .ok (.getfield 44, 3) := by decide +kernel
theorem dX7_cycle_19 : decode cX7_cycle 19 = .ok (.invokevirtual 159, 3) := by decide +kernel
theorem dX7_cycle_22 : decode cX7_cycle 22 = .ok (.invokevirtual 163, 3) := by decide +kernel
theorem dX7_cycle_25 : decode cX7_cycle 25 = .ok (.goto (-25), 3) := by decide +kernel
theorem dX7_cycle_28 : decode cX7_cycle 28 = .ok (.aload_n 0, 1) := by decide +kernel
theorem dX7_cycle_29 : decode cX7_cycle 29 = .ok (.getfield 82, 3) := by decide +kernel
theorem dX7_cycle_32 : decode cX7_cycle 32 = .ok (.iconst 1, 1) := by decide +kernel
theorem dX7_cycle_33 : decode cX7_cycle 33 = .ok (.if_icmp .ne 7, 3) := by decide +kernel
theorem dX7_cycle_36 : decode cX7_cycle 36 = .ok (.aload_n 0, 1) := by decide +kernel
theorem dX7_cycle_37 : decode cX7_cycle 37 = .ok (.invokevirtual 167, 3) := by decide +kernel
theorem dX7_cycle_40 : decode cX7_cycle 40 = .ok (.iconst 0, 1) := by decide +kernel
theorem dX7_cycle_41 : decode cX7_cycle 41 = .ok (.istore_n 1, 1) := by decide +kernel
theorem dX7_cycle_42 : decode cX7_cycle 42 = .ok (.iload_n 1, 1) := by decide +kernel
theorem dX7_cycle_43 : decode cX7_cycle 43 = .ok (.aload_n 0, 1) := by decide +kernel
theorem dX7_cycle_44 : decode cX7_cycle 44 = .ok (.getfield 14, 3) := by decide +kernel
theorem dX7_cycle_47 : decode cX7_cycle 47 = .ok (.invokevirtual 118, 3) := by decide +kernel
theorem dX7_cycle_50 : decode cX7_cycle 50 = .ok (.if_icmp .ge 32, 3) := by decide +kernel
theorem dX7_cycle_53 : decode cX7_cycle 53 = .ok (.aload_n 0, 1) := by decide +kernel
theorem dX7_cycle_54 : decode cX7_cycle 54 = .ok (.getfield 82, 3) := by decide +kernel
theorem dX7_cycle_57 : decode cX7_cycle 57 = .ok (.iconst 1, 1) := by decide +kernel
theorem dX7_cycle_58 : decode cX7_cycle 58 = .ok (.if_icmp .ne 24, 3) := by decide +kernel
theorem dX7_cycle_61 : decode cX7_cycle 61 = .ok (.aload_n 0, 1) := by decide +kernel
theorem dX7_cycle_62 : decode cX7_cycle 62 = .ok (.aload_n 0, 1) := by decide +kernel
theorem dX7_cycle_63 : decode cX7_cycle 63 = .ok (.getfield 14, 3) := by decide +kernel
theorem dX7_cycle_66 : decode cX7_cycle 66 = .ok (.iload_n 1, 1) := by decide +kernel
theorem dX7_cycle_67 : decode cX7_cycle 67 = .ok (.invokevirtual 122, 3) := by decide +kernel
theorem dX7_cycle_70 : decode cX7_cycle 70 = .ok (.checkcast 65, 3) := by decide +kernel
theorem dX7_cycle_73 : decode cX7_cycle 73 = .ok (.invokevirtual 170, 3) := by decide +kernel
theorem dX7_cycle_76 : decode cX7_cycle 76 = .ok (.iinc 1 1, 3) := by decide +kernel
theorem dX7_cycle_79 : decode cX7_cycle 79 = .ok (.goto (-37), 3) := by decide +kernel
theorem dX7_cycle_82 : decode cX7_cycle 82 = .ok (.aload_n 0, 1) := by decide +kernel
theorem dX7_cycle_83 : decode cX7_cycle 83 = .ok (.getfield 44, 3) := by decide +kernel
theorem dX7_cycle_86 : decode cX7_cycle 86 = .ok (.getfield 174, 3) := by decide +kernel
theorem dX7_cycle_89 : decode cX7_cycle 89 = .ok (.invokevirtual 177, 3) := by decide +kernel
theorem dX7_cycle_92 : decode cX7_cycle 92 = .ok (.ifCond .eq 39, 3) := by decide +kernel
theorem dX7_cycle_95 : decode cX7_cycle 95 = .ok (.aload_n 0, 1) := by decide +kernel
theorem dX7_cycle_96 : decode cX7_cycle 96 = .ok (.getfield 82, 3) := by decide +kernel
theorem dX7_cycle_99 : decode cX7_cycle 99 = .ok (.iconst 4, 1) := by decide +kernel
theorem dX7_cycle_100 : decode cX7_cycle 100 = .ok (.if_icmp .eq 14, 3) := by decide +kernel
theorem dX7_cycle_103 : decode cX7_cycle 103 = .ok (.aload_n 0, 1) := by decide +kernel
theorem dX7_cycle_104 : decode cX7_cycle 104 = .ok (.getfield 94, 3) := by decide +kernel
theorem dX7_cycle_107 : decode cX7_cycle 107 = .ok (.aload_n 0, 1) := by decide +kernel
theorem dX7_cycle_108 : decode cX7_cycle 108 = .ok (.getfield 85, 3) := by decide +kernel
theorem dX7_cycle_111 : decode cX7_cycle 111 = .ok (.if_icmp .ne 20, 3) := by decide +kernel
theorem dX7_cycle_114 : decode cX7_cycle 114 = .ok (.aload_n 0, 1) := by decide +kernel
theorem dX7_cycle_115 : decode cX7_cycle 115 = .ok (.aload_n 0, 1) := by decide +kernel
theorem dX7_cycle_116 : decode cX7_cycle 116 = .ok (.getfield 82, 3) := by decide +kernel
theorem dX7_cycle_119 : decode cX7_cycle 119 = .ok (.iconst 4, 1) := by decide +kernel
theorem dX7_cycle_120 : decode cX7_cycle 120 = .ok (.if_icmp .ne 7, 3) := by decide +kernel
theorem dX7_cycle_123 : decode cX7_cycle 123 = .ok (.iconst 3, 1) := by decide +kernel
theorem dX7_cycle_124 : decode cX7_cycle 124 = .ok (.goto 4, 3) := by decide +kernel
theorem dX7_cycle_127 : decode cX7_cycle 127 = .ok (.iconst 2, 1) := by decide +kernel
theorem dX7_cycle_128 : decode cX7_cycle 128 = .ok (.putfield 82, 3) := by decide +kernel
theorem dX7_cycle_131 : decode cX7_cycle 131 = .ok (.aload_n 0, 1) := by decide +kernel
theorem dX7_cycle_132 : decode cX7_cycle 132 = .ok (.dup, 1) := by decide +kernel
theorem dX7_cycle_133 : decode cX7_cycle 133 = .ok (.getfield 97, 3) := by decide +kernel
theorem dX7_cycle_136 : decode cX7_cycle 136 = .ok (.iconst 1, 1) := by decide +kernel
theorem dX7_cycle_137 : decode cX7_cycle 137 = .ok (.iadd, 1) := by decide +kernel
theorem dX7_cycle_138 : decode cX7_cycle 138 = .ok (.putfield 97, 3) := by decide +kernel
theorem dX7_cycle_141 : decode cX7_cycle 141 = .ok (.aload_n 0, 1) := by decide +kernel
theorem dX7_cycle_142 : decode cX7_cycle 142 = .ok (.dup, 1) := by decide +kernel
theorem dX7_cycle_143 : decode cX7_cycle 143 = .ok (.getfield 52, 3) := by decide +kernel
theorem dX7_cycle_146 : decode cX7_cycle 146 = .ok (.iconst 1, 1) := by decide +kernel
theorem dX7_cycle_147 : decode cX7_cycle 147 = .ok (.iadd, 1) := by decide +kernel
theorem dX7_cycle_148 : decode cX7_cycle 148 = .ok (.putfield 52, 3) := by decide +kernel
theorem dX7_cycle_151 : decode cX7_cycle 151 = .ok (.return_, 1) := by decide +kernel
def fX7_cycle (n : Nat) (a0 : Nat) (A : AH) : Option (AH) :=
jl (fixG (fun _ => none) (fun (rc3 : (AH) → Option (AH)) (A2 : AH) =>
(gR A2 (some a0) 7 7).bind fun v4 =>
(gI A2 (some a0) 7 17).bind fun v5 =>
(rcv A2 v4 3).bind fun v6 =>
(fX3_isDue v6 v5 A2).bind fun g7 =>
if g7 = 0 then ((gI A2 (some a0) 7 12).bind fun v9 =>
jn (fun (A11 : AH) =>
jl (fixG (fun _ _ => none) (fun (rc15 : (Int32) → (AH) → Option (AH)) (x13 : Int32) (A14 : AH) =>
(gR A14 (some a0) 7 8).bind fun v16 =>
(rcv A14 v16 0).bind fun v17 =>
(fJ2_size v17 A14).bind fun g18 =>
(gI A14 (some a0) 7 12).bind fun v19 =>
if ((g18 ≤ x13) ∨ (¬ (v19 = (1 : Int32)))) then ((gR A14 (some a0) 7 7).bind fun v20 =>
(gR A14 v20 3 0).bind fun v21 =>
(rcv A14 v21 0).bind fun v22 =>
(fJ2_isEmpty v22 A14).bind fun g23 =>
(gI A14 (some a0) 7 16).bind fun v24 =>
(gI A14 (some a0) 7 13).bind fun v25 =>
jn (fun (A27 : AH) =>
(gI A27 (some a0) 7 17).bind fun v28 =>
(pI A27 (some a0) 7 17 (v28 + (1 : Int32))).bind fun A29 =>
(gI A29 (some a0) 7 21).bind fun v30 =>
(pI A29 (some a0) 7 21 (v30 + (1 : Int32))).bind fun A31 =>
some A31) fun j26 =>
if ((g23 = 0) ∨ (¬ ((v19 = (4 : Int32)) ∨ (v24 = v25)))) then (j26 A14) else
jn (fun (y33 : Int32) =>
(pI A14 (some a0) 7 12 y33).bind fun A34 =>
j26 A34) fun j32 =>
if v19 = (4 : Int32) then (j32 (3 : Int32)) else
j32 (2 : Int32)) else
(fJ2_get v17 x13 A14).bind fun g39 =>
(cst A14 g39 8).bind fun v40 =>
(rcv A14 (some a0) 7).bind fun v41 =>
(fX7_issue n v41 g39 A14).bind fun g42 =>
rc15 (x13 + (1 : Int32)) g42) n) fun j12 =>
j12 (0 : Int32) A11) fun j10 =>
if v9 = (1 : Int32) then ((rcv A2 (some a0) 7).bind fun v46 =>
(fX7_dispatch n v46 A2).bind fun g47 =>
j10 g47) else
j10 A2) else
(fX3_take n v6 A2).bind fun g48 =>
(rcv g48.2 (some a0) 7).bind fun v49 =>
(fX7_finish v49 g48.1 g48.2).bind fun g50 =>
rc3 g50) n) fun j1 =>
j1 A

set_option maxHeartbeats 4000000 in
set_option maxRecDepth 100000 in
theorem sX7_cycle (l : Launch) (D : DE) (n : Nat) (a0 : Nat) (A : AH) (g : AH) (hg : fX7_cycle n a0 A = some g) : Sm l D yX7_cycle cX7_cycle 2 none 12 318 [tR (some a0)] A (wU g).1 (wU g).2 := by
  refine Sm.of (ω := wU) (fX7_cycle n a0 A) [some (tR (some a0)), none] (by decide) (Nat.le_of_ble_eq_true rfl) rfl hg ?_
  intro p e R s m args below meth c X hin
  have X : Cx D cX7_cycle RX7 2 12 318 none p R s m args meth c := X
  unfold fX7_cycle
  refine rf_fix (fun i => ∀ (A2 : AH), RfX X l e below wU (i A2) 0 [some (tR (some a0)), none] [] A2) (fun _ => rf_none) (fun rc3 hrc3 => ?_) (fun j1 hj1 => ?_)
  · intro A2
    refine rf_aload_n X rfl dX7_cycle_0 ?_
    refine rf_bind (fun v4 hv4 => ?_)
    refine rf_getR X fl_X7_44 hv4 dX7_cycle_1 ?_
    refine rf_aload_n X rfl dX7_cycle_4 ?_
    refine rf_bind (fun v5 hv5 => ?_)
    refine rf_getI X fl_X7_97 hv5 dX7_cycle_5 ?_
    refine rf_bind (fun v6 hv6 => ?_)
    refine rf_bind (fun g7 hg7 => ?_)
    refine rf_callVI X c_X7_155 ⟨Nat.le_of_ble_eq_true rfl, Nat.le_of_ble_eq_true rfl⟩ [tI v5] rfl (Nat.le_of_ble_eq_true rfl) hv6 (sX3_isDue l D v6 v5 A2 g7 hg7) dX7_cycle_8 ?_
    refine rf_if_eq X (tgt := 28) rfl dX7_cycle_11 (fun c8 => rf_pos c8 ?_) (fun c8 => rf_neg c8 ?_)
    · refine rf_aload_n X rfl dX7_cycle_28 ?_
      refine rf_bind (fun v9 hv9 => ?_)
      refine rf_getI X fl_X7_82 hv9 dX7_cycle_29 ?_
      refine rf_iconst X (1 : Int32) rfl dX7_cycle_32 ?_
      refine rf_jn2 (fun i => ∀ (A11 : AH), RfX X l e below wU (i A11) 40 [some (tR (some a0)), none] [] A11) ?_ (fun j10 hj10 => ?_)
      · intro A11
        refine rf_iconst X (0 : Int32) rfl dX7_cycle_40 ?_
        refine rf_istore_n X (ls' := [some (tR (some a0)), some (tI (0 : Int32))]) rfl (by decide) dX7_cycle_41 ?_
        refine rf_fix (fun i => ∀ (x13 : Int32) (A14 : AH), RfX X l e below wU (i x13 A14) 42 [some (tR (some a0)), some (tI x13)] [] A14) (fun _ _ => rf_none) (fun rc15 hrc15 => ?_) (fun j12 hj12 => ?_)
        · intro x13 A14
          refine rf_iload_n X rfl dX7_cycle_42 ?_
          refine rf_aload_n X rfl dX7_cycle_43 ?_
          refine rf_bind (fun v16 hv16 => ?_)
          refine rf_getR X fl_X7_14 hv16 dX7_cycle_44 ?_
          refine rf_bind (fun v17 hv17 => ?_)
          refine rf_bind (fun g18 hg18 => ?_)
          refine rf_callVI X c_X7_118 ⟨Nat.le_of_ble_eq_true rfl, Nat.le_of_ble_eq_true rfl⟩ [] rfl (Nat.le_of_ble_eq_true rfl) hv17 (sJ2_size l D v17 A14 g18 hg18) dX7_cycle_47 ?_
          refine rf_bind (fun v19 hv19 => ?_)
          refine rf_br 82 61 [some (tR (some a0)), some (tI x13)] [some (tR (some a0)), some (tI x13)] [] [] (fun _ => ?_) (fun _ => ?_) (fun _ jT jF => ?_)
          · refine rf_aload_n X rfl dX7_cycle_82 ?_
            refine rf_bind (fun v20 hv20 => ?_)
            refine rf_getR X fl_X7_44 hv20 dX7_cycle_83 ?_
            refine rf_bind (fun v21 hv21 => ?_)
            refine rf_getR X fl_X7_174 hv21 dX7_cycle_86 ?_
            refine rf_bind (fun v22 hv22 => ?_)
            refine rf_bind (fun g23 hg23 => ?_)
            refine rf_callVI X c_X7_177 ⟨Nat.le_of_ble_eq_true rfl, Nat.le_of_ble_eq_true rfl⟩ [] rfl (Nat.le_of_ble_eq_true rfl) hv22 (sJ2_isEmpty l D v22 A14 g23 hg23) dX7_cycle_89 ?_
            refine rf_bind (fun v24 hv24 => ?_)
            refine rf_bind (fun v25 hv25 => ?_)
            refine rf_jn2 (fun i => ∀ (A27 : AH), RfX X l e below wU (i A27) 131 [some (tR (some a0)), none] [] A27) ?_ (fun j26 hj26 => ?_)
            · intro A27
              refine rf_aload_n X rfl dX7_cycle_131 ?_
              refine rf_dup X rfl dX7_cycle_132 ?_
              refine rf_bind (fun v28 hv28 => ?_)
              refine rf_getI X fl_X7_97 hv28 dX7_cycle_133 ?_
              refine rf_iconst X (1 : Int32) rfl dX7_cycle_136 ?_
              refine rf_iadd X dX7_cycle_137 ?_
              refine rf_bind (fun A29 hA29 => ?_)
              refine rf_putI X fp_X7_97 (fun h => by cases h) hA29 dX7_cycle_138 ?_
              refine rf_aload_n X rfl dX7_cycle_141 ?_
              refine rf_dup X rfl dX7_cycle_142 ?_
              refine rf_bind (fun v30 hv30 => ?_)
              refine rf_getI X fl_X7_52 hv30 dX7_cycle_143 ?_
              refine rf_iconst X (1 : Int32) rfl dX7_cycle_146 ?_
              refine rf_iadd X dX7_cycle_147 ?_
              refine rf_bind (fun A31 hA31 => ?_)
              refine rf_putI X fp_X7_52 (fun h => by cases h) hA31 dX7_cycle_148 ?_
              exact rf_vret X rfl dX7_cycle_151
            refine rf_br 131 114 [some (tR (some a0)), some (tI x13)] [some (tR (some a0)), some (tI x13)] [] [] (fun _ => ?_) (fun _ => ?_) (fun _ jT jF => ?_)
            · exact rf_go (hj26 A14) (And.intro rfl True.intro)
            · refine rf_aload_n X rfl dX7_cycle_114 ?_
              refine rf_aload_n X rfl dX7_cycle_115 ?_
              refine rf_getI X fl_X7_82 hv19 dX7_cycle_116 ?_
              refine rf_iconst X (4 : Int32) rfl dX7_cycle_119 ?_
              refine rf_jn2 (fun i => ∀ (y33 : Int32), RfX X l e below wU (i y33) 128 [some (tR (some a0)), none] [tI y33, tR (some a0)] A14) ?_ (fun j32 hj32 => ?_)
              · intro y33
                refine rf_bind (fun A34 hA34 => ?_)
                refine rf_putI X fp_X7_82 (fun h => by cases h) hA34 dX7_cycle_128 ?_
                exact rf_go (hj26 A34) (And.intro rfl True.intro)
              refine rf_icmp_ne X (tgt := 127) rfl dX7_cycle_120 (fun c35 => rf_neg c35 ?_) (fun c35 => rf_pos c35 ?_)
              · refine rf_iconst X (2 : Int32) rfl dX7_cycle_127 ?_
                exact rf_go (hj32 (2 : Int32)) (And.intro rfl True.intro)
              refine rf_iconst X (3 : Int32) rfl dX7_cycle_123 ?_
              refine rf_goto X (tgt := 128) rfl dX7_cycle_124 ?_
              exact rf_go (hj32 (3 : Int32)) (And.intro rfl True.intro)
            refine rf_if_eq X (tgt := 131) rfl dX7_cycle_92 (fun c36 => ?_) (fun c36 => ?_)
            · exact jT (Or.inl c36)
            refine rf_aload_n X rfl dX7_cycle_95 ?_
            refine rf_getI X fl_X7_82 hv19 dX7_cycle_96 ?_
            refine rf_iconst X (4 : Int32) rfl dX7_cycle_99 ?_
            refine rf_icmp_eq X (tgt := 114) rfl dX7_cycle_100 (fun c37 => ?_) (fun c37 => ?_)
            · exact jF (fun z => z.elim c36 (fun z => z (Or.inl c37)))
            refine rf_aload_n X rfl dX7_cycle_103 ?_
            refine rf_getI X fl_X7_94 hv24 dX7_cycle_104 ?_
            refine rf_aload_n X rfl dX7_cycle_107 ?_
            refine rf_getI X fl_X7_85 hv25 dX7_cycle_108 ?_
            refine rf_icmp_ne X (tgt := 131) rfl dX7_cycle_111 (fun c38 => ?_) (fun c38 => ?_)
            · exact jT (Or.inr (fun z => z.elim c37 c38))
            exact jF (fun z => z.elim c36 (fun z => z (Or.inr c38)))
          · refine rf_aload_n X rfl dX7_cycle_61 ?_
            refine rf_aload_n X rfl dX7_cycle_62 ?_
            refine rf_getR X fl_X7_14 hv16 dX7_cycle_63 ?_
            refine rf_iload_n X rfl dX7_cycle_66 ?_
            refine rf_bind (fun g39 hg39 => ?_)
            refine rf_callVI X c_X7_122 ⟨Nat.le_of_ble_eq_true rfl, Nat.le_of_ble_eq_true rfl⟩ [tI x13] rfl (Nat.le_of_ble_eq_true rfl) hv17 (sJ2_get l D v17 x13 A14 g39 hg39) dX7_cycle_67 ?_
            refine rf_bind (fun v40 hv40 => ?_)
            refine rf_cast X (ci := 8) rfl rfl q719 hv40 dX7_cycle_70 ?_
            refine rf_bind (fun v41 hv41 => ?_)
            refine rf_bind (fun g42 hg42 => ?_)
            refine rf_callVU X c_X7_170 ⟨Nat.le_of_ble_eq_true rfl, Nat.le_of_ble_eq_true rfl⟩ [tR g39] rfl (Nat.le_of_ble_eq_true rfl) hv41 (sX7_issue l D n v41 g39 A14 g42 hg42) dX7_cycle_73 ?_
            refine rf_iinc X (x13 + (1 : Int32)) rfl rfl (ls' := [some (tR (some a0)), some (tI (x13 + (1 : Int32)))]) rfl (by decide) dX7_cycle_76 ?_
            refine rf_goto X (tgt := 42) rfl dX7_cycle_79 ?_
            exact rf_go (hrc15 (x13 + (1 : Int32)) g42) (And.intro rfl (And.intro rfl True.intro))
          refine rf_icmp_ge X (tgt := 82) rfl dX7_cycle_50 (fun c43 => ?_) (fun c43 => ?_)
          · exact jT (Or.inl c43)
          refine rf_aload_n X rfl dX7_cycle_53 ?_
          refine rf_getI X fl_X7_82 hv19 dX7_cycle_54 ?_
          refine rf_iconst X (1 : Int32) rfl dX7_cycle_57 ?_
          refine rf_icmp_ne X (tgt := 82) rfl dX7_cycle_58 (fun c44 => ?_) (fun c44 => ?_)
          · exact jT (Or.inr c44)
          exact jF (fun z => z.elim c43 (fun z => z c44))
        exact rf_go (hj12 (0 : Int32) A11) (And.intro rfl (And.intro rfl True.intro))
      refine rf_icmp_ne X (tgt := 40) rfl dX7_cycle_33 (fun c45 => rf_neg c45 ?_) (fun c45 => rf_pos c45 ?_)
      · exact rf_go (hj10 A2) (And.intro rfl True.intro)
      refine rf_aload_n X rfl dX7_cycle_36 ?_
      refine rf_bind (fun v46 hv46 => ?_)
      refine rf_bind (fun g47 hg47 => ?_)
      refine rf_callVU X c_X7_167 ⟨Nat.le_of_ble_eq_true rfl, Nat.le_of_ble_eq_true rfl⟩ [] rfl (Nat.le_of_ble_eq_true rfl) hv46 (sX7_dispatch l D n v46 A2 g47 hg47) dX7_cycle_37 ?_
      exact rf_go (hj10 g47) (And.intro rfl True.intro)
    refine rf_aload_n X rfl dX7_cycle_14 ?_
    refine rf_aload_n X rfl dX7_cycle_15 ?_
    refine rf_getR X fl_X7_44 hv4 dX7_cycle_16 ?_
    refine rf_bind (fun g48 hg48 => ?_)
    refine rf_callVI X c_X7_159 ⟨Nat.le_of_ble_eq_true rfl, Nat.le_of_ble_eq_true rfl⟩ [] rfl (Nat.le_of_ble_eq_true rfl) hv6 (sX3_take l D n v6 A2 g48 hg48) dX7_cycle_19 ?_
    refine rf_bind (fun v49 hv49 => ?_)
    refine rf_bind (fun g50 hg50 => ?_)
    refine rf_callVU X c_X7_163 ⟨Nat.le_of_ble_eq_true rfl, Nat.le_of_ble_eq_true rfl⟩ [tR g48.1] rfl (Nat.le_of_ble_eq_true rfl) hv49 (sX7_finish l D v49 g48.1 g48.2 g50 hg50) dX7_cycle_22 ?_
    refine rf_goto X (tgt := 0) rfl dX7_cycle_25 ?_
    exact rf_go (hrc3 g50) (And.intro rfl True.intro)
  exact rf_go (hj1 A) (And.intro rfl True.intro)

theorem dX1_run_0 : decode cX1_run 0 = .ok (.iload_n 1, 1) := by decide +kernel
theorem dX1_run_1 : decode cX1_run 1 = .ok (.iconst 1, 1) := by decide +kernel
theorem dX1_run_2 : decode cX1_run 2 = .ok (.if_icmp .lt 10, 3) := by decide +kernel
theorem dX1_run_5 : decode cX1_run 5 = .ok (.iload_n 1, 1) := by decide +kernel
theorem dX1_run_6 : decode cX1_run 6 = .ok (.sipush 500, 3) := by decide +kernel
theorem dX1_run_9 : decode cX1_run 9 = .ok (.if_icmp .le 11, 3) := by decide +kernel
theorem dX1_run_20 : decode cX1_run 20 = .ok (.aload_n 0, 1) := by decide +kernel
theorem dX1_run_21 : decode cX1_run 21 = .ok (.getfield 57, 3) := by decide +kernel
theorem dX1_run_24 : decode cX1_run 24 = .ok (.getfield 76, 3) := by decide +kernel
theorem dX1_run_27 : decode cX1_run 27 = .ok (.sipush 20000, 3) := by decide +kernel
theorem dX1_run_30 : decode cX1_run 30 = .ok (.if_icmp .ne 11, 3) := by decide +kernel
theorem dX1_run_41 : decode cX1_run 41 = .ok (.iconst 0, 1) := by decide +kernel
theorem dX1_run_42 : decode cX1_run 42 = .ok (.istore_n 2, 1) := by decide +kernel
theorem dX1_run_43 : decode cX1_run 43 = .ok (.iload_n 2, 1) := by decide +kernel
theorem dX1_run_44 : decode cX1_run 44 = .ok (.iload_n 1, 1) := by decide +kernel
theorem dX1_run_45 : decode cX1_run 45 = .ok (.if_icmp .ge 39, 3) := by decide +kernel
theorem dX1_run_48 : decode cX1_run 48 = .ok (.aload_n 0, 1) := by decide +kernel
theorem dX1_run_49 : decode cX1_run 49 = .ok (.getfield 57, 3) := by decide +kernel
theorem dX1_run_52 : decode cX1_run 52 = .ok (.invokevirtual 61, 3) := by decide +kernel
theorem dX1_run_55 : decode cX1_run 55 = .ok (.ifCond .eq 29, 3) := by decide +kernel
theorem dX1_run_58 : decode cX1_run 58 = .ok (.aload_n 0, 1) := by decide +kernel
theorem dX1_run_59 : decode cX1_run 59 = .ok (.getfield 57, 3) := by decide +kernel
theorem dX1_run_62 : decode cX1_run 62 = .ok (.getfield 76, 3) := by decide +kernel
theorem dX1_run_65 : decode cX1_run 65 = .ok (.sipush 20000, 3) := by decide +kernel
theorem dX1_run_68 : decode cX1_run 68 = .ok (.if_icmp .ge 16, 3) := by decide +kernel
theorem dX1_run_71 : decode cX1_run 71 = .ok (.aload_n 0, 1) := by decide +kernel
theorem dX1_run_72 : decode cX1_run 72 = .ok (.getfield 57, 3) := by decide +kernel
theorem dX1_run_75 : decode cX1_run 75 = .ok (.invokevirtual 99, 3) := by decide +kernel
theorem dX1_run_78 : decode cX1_run 78 = .ok (.iinc 2 1, 3) := by decide +kernel
theorem dX1_run_81 : decode cX1_run 81 = .ok (.goto (-38), 3) := by decide +kernel
theorem dX1_run_84 : decode cX1_run 84 = .ok (.aload_n 0, 1) := by decide +kernel
theorem dX1_run_85 : decode cX1_run 85 = .ok (.getfield 57, 3) := by decide +kernel
theorem dX1_run_88 : decode cX1_run 88 = .ok (.getfield 102, 3) := by decide +kernel
theorem dX1_run_91 : decode cX1_run 91 = .ok (.ireturn, 1) := by decide +kernel
def fX1_run (n : Nat) (a0 : Nat) (p1 : Int32) (A : AH) : Option (Int32 × AH) :=
if ((p1 < (1 : Int32)) ∨ (¬ (p1 ≤ (500 : Int32)))) then (none) else
(gR A (some a0) 1 5).bind fun v1 =>
(gI A v1 7 21).bind fun v2 =>
if v2 = (20000 : Int32) then (none) else
jl (fixG (fun _ _ => none) (fun (rc7 : (Int32) → (AH) → Option (Int32 × AH)) (x5 : Int32) (A6 : AH) =>
jn ((gR A6 (some a0) 1 5).bind fun v9 =>
(gI A6 v9 7 12).bind fun v10 =>
some (v10, A6)) fun j8 =>
if p1 ≤ x5 then (j8) else
(gR A6 (some a0) 1 5).bind fun v12 =>
(rcv A6 v12 7).bind fun v13 =>
(fX7_isOn v13 A6).bind fun g14 =>
if g14 = 0 then (j8) else
(gI A6 v12 7 21).bind fun v16 =>
if (20000 : Int32) ≤ v16 then (j8) else
(fX7_cycle n v13 A6).bind fun g18 =>
rc7 (x5 + (1 : Int32)) g18) n) fun j4 =>
j4 (0 : Int32) A

set_option maxHeartbeats 4000000 in
set_option maxRecDepth 100000 in
theorem sX1_run (l : Launch) (D : DE) (n : Nat) (a0 : Nat) (p1 : Int32) (A : AH) (g : Int32 × AH) (hg : fX1_run n a0 p1 A = some g) : Sm l D yX1_run cX1_run 3 (some Jvm.ClassFile.FieldType.int) 13 339 [tR (some a0), tI p1] A (wI g).1 (wI g).2 := by
  refine Sm.of (ω := wI) (fX1_run n a0 p1 A) [some (tR (some a0)), some (tI p1), none] (by decide) (Nat.le_of_ble_eq_true rfl) rfl hg ?_
  intro p e R s m args below meth c X hin
  have X : Cx D cX1_run RX1 3 13 339 (some Jvm.ClassFile.FieldType.int) p R s m args meth c := X
  unfold fX1_run
  refine rf_iload_n X rfl dX1_run_0 ?_
  refine rf_iconst X (1 : Int32) rfl dX1_run_1 ?_
  refine rf_br 12 20 [some (tR (some a0)), some (tI p1), none] [some (tR (some a0)), some (tI p1), none] [] [] (fun _ => ?_) (fun _ => ?_) (fun _ jT jF => ?_)
  · exact rf_none
  · refine rf_aload_n X rfl dX1_run_20 ?_
    refine rf_bind (fun v1 hv1 => ?_)
    refine rf_getR X fl_X1_57 hv1 dX1_run_21 ?_
    refine rf_bind (fun v2 hv2 => ?_)
    refine rf_getI X fl_X1_76 hv2 dX1_run_24 ?_
    refine rf_sipush X (20000 : Int32) rfl dX1_run_27 ?_
    refine rf_icmp_ne X (tgt := 41) rfl dX1_run_30 (fun c3 => rf_neg c3 ?_) (fun c3 => rf_pos c3 ?_)
    · refine rf_iconst X (0 : Int32) rfl dX1_run_41 ?_
      refine rf_istore_n X (ls' := [some (tR (some a0)), some (tI p1), some (tI (0 : Int32))]) rfl (by decide) dX1_run_42 ?_
      refine rf_fix (fun i => ∀ (x5 : Int32) (A6 : AH), RfX X l e below wI (i x5 A6) 43 [some (tR (some a0)), some (tI p1), some (tI x5)] [] A6) (fun _ _ => rf_none) (fun rc7 hrc7 => ?_) (fun j4 hj4 => ?_)
      · intro x5 A6
        refine rf_iload_n X rfl dX1_run_43 ?_
        refine rf_iload_n X rfl dX1_run_44 ?_
        refine rf_jn2 (fun i => RfX X l e below wI i 84 [some (tR (some a0)), none, none] [] A6) ?_ (fun j8 hj8 => ?_)
        · show RfX X l e below _ _ _ _ _ _
          refine rf_aload_n X rfl dX1_run_84 ?_
          refine rf_bind (fun v9 hv9 => ?_)
          refine rf_getR X fl_X1_57 hv9 dX1_run_85 ?_
          refine rf_bind (fun v10 hv10 => ?_)
          refine rf_getI X fl_X1_102 hv10 dX1_run_88 ?_
          exact rf_iret X rfl dX1_run_91
        refine rf_icmp_ge X (tgt := 84) rfl dX1_run_45 (fun c11 => rf_pos c11 ?_) (fun c11 => rf_neg c11 ?_)
        · exact rf_go hj8 (And.intro rfl True.intro)
        refine rf_aload_n X rfl dX1_run_48 ?_
        refine rf_bind (fun v12 hv12 => ?_)
        refine rf_getR X fl_X1_57 hv12 dX1_run_49 ?_
        refine rf_bind (fun v13 hv13 => ?_)
        refine rf_bind (fun g14 hg14 => ?_)
        refine rf_callVI X c_X1_61 ⟨Nat.le_of_ble_eq_true rfl, Nat.le_of_ble_eq_true rfl⟩ [] rfl (Nat.le_of_ble_eq_true rfl) hv13 (sX7_isOn l D v13 A6 g14 hg14) dX1_run_52 ?_
        refine rf_if_eq X (tgt := 84) rfl dX1_run_55 (fun c15 => rf_pos c15 ?_) (fun c15 => rf_neg c15 ?_)
        · exact rf_go hj8 (And.intro rfl True.intro)
        refine rf_aload_n X rfl dX1_run_58 ?_
        refine rf_getR X fl_X1_57 hv12 dX1_run_59 ?_
        refine rf_bind (fun v16 hv16 => ?_)
        refine rf_getI X fl_X1_76 hv16 dX1_run_62 ?_
        refine rf_sipush X (20000 : Int32) rfl dX1_run_65 ?_
        refine rf_icmp_ge X (tgt := 84) rfl dX1_run_68 (fun c17 => rf_pos c17 ?_) (fun c17 => rf_neg c17 ?_)
        · exact rf_go hj8 (And.intro rfl True.intro)
        refine rf_aload_n X rfl dX1_run_71 ?_
        refine rf_getR X fl_X1_57 hv12 dX1_run_72 ?_
        refine rf_bind (fun g18 hg18 => ?_)
        refine rf_callVU X c_X1_99 ⟨Nat.le_of_ble_eq_true rfl, Nat.le_of_ble_eq_true rfl⟩ [] rfl (Nat.le_of_ble_eq_true rfl) hv13 (sX7_cycle l D n v13 A6 g18 hg18) dX1_run_75 ?_
        refine rf_iinc X (x5 + (1 : Int32)) rfl rfl (ls' := [some (tR (some a0)), some (tI p1), some (tI (x5 + (1 : Int32)))]) rfl (by decide) dX1_run_78 ?_
        refine rf_goto X (tgt := 43) rfl dX1_run_81 ?_
        exact rf_go (hrc7 (x5 + (1 : Int32)) g18) (And.intro rfl (And.intro rfl (And.intro rfl True.intro)))
      exact rf_go (hj4 (0 : Int32) A) (And.intro rfl (And.intro rfl (And.intro rfl True.intro)))
    exact rf_none
  refine rf_icmp_lt X (tgt := 12) rfl dX1_run_2 (fun c19 => ?_) (fun c19 => ?_)
  · exact jT (Or.inl c19)
  refine rf_iload_n X rfl dX1_run_5 ?_
  refine rf_sipush X (500 : Int32) rfl dX1_run_6 ?_
  refine rf_icmp_le X (tgt := 20) rfl dX1_run_9 (fun c20 => ?_) (fun c20 => ?_)
  · exact jF (fun z => z.elim c19 (fun z => z c20))
  exact jT (Or.inr c20)

theorem dX1_global_0 : decode cX1_global 0 = .ok (.iload_n 1, 1) := by decide +kernel
theorem dX1_global_1 : decode cX1_global 1 = .ok (.ifCond .lt 14, 3) := by decide +kernel
theorem dX1_global_4 : decode cX1_global 4 = .ok (.iload_n 1, 1) := by decide +kernel
theorem dX1_global_5 : decode cX1_global 5 = .ok (.aload_n 0, 1) := by decide +kernel
theorem dX1_global_6 : decode cX1_global 6 = .ok (.getfield 57, 3) := by decide +kernel
theorem dX1_global_9 : decode cX1_global 9 = .ok (.getfield 72, 3) := by decide +kernel
theorem dX1_global_12 : decode cX1_global 12 = .ok (.if_icmp .lt 11, 3) := by decide +kernel
theorem dX1_global_23 : decode cX1_global 23 = .ok (.aload_n 0, 1) := by decide +kernel
theorem dX1_global_24 : decode cX1_global 24 = .ok (.getfield 18, 3) := by decide +kernel
theorem dX1_global_27 : decode cX1_global 27 = .ok (.iload_n 1, 1) := by decide +kernel
theorem dX1_global_28 : decode cX1_global 28 = .ok (.iaload, 1) := by decide +kernel
theorem dX1_global_29 : decode cX1_global 29 = .ok (.ireturn, 1) := by decide +kernel
def fX1_global (a0 : Nat) (p1 : Int32) (A : AH) : Option (Int32) :=
if p1 < 0 then (none) else
(gR A (some a0) 1 5).bind fun v2 =>
(gI A v2 7 3).bind fun v3 =>
if p1 < v3 then ((gR A (some a0) 1 1).bind fun v5 =>
(aI A v5 p1).bind fun v6 =>
some v6) else
none

set_option maxHeartbeats 4000000 in
set_option maxRecDepth 100000 in
theorem sX1_global (l : Launch) (D : DE) (a0 : Nat) (p1 : Int32) (A : AH) (g : Int32) (hg : fX1_global a0 p1 A = some g) : Sm l D yX1_global cX1_global 2 (some Jvm.ClassFile.FieldType.int) 0 0 [tR (some a0), tI p1] A (qI A g).1 (qI A g).2 := by
  refine Sm.of (ω := qI A) (fX1_global a0 p1 A) [some (tR (some a0)), some (tI p1)] (by decide) (Nat.le_of_ble_eq_true rfl) rfl hg ?_
  intro p e R s m args below meth c X hin
  have X : Cx D cX1_global RX1 2 0 0 (some Jvm.ClassFile.FieldType.int) p R s m args meth c := X
  unfold fX1_global
  refine rf_iload_n X rfl dX1_global_0 ?_
  refine rf_if_lt X (tgt := 15) rfl dX1_global_1 (fun c1 => rf_pos c1 ?_) (fun c1 => rf_neg c1 ?_)
  · exact rf_none
  refine rf_iload_n X rfl dX1_global_4 ?_
  refine rf_aload_n X rfl dX1_global_5 ?_
  refine rf_bind (fun v2 hv2 => ?_)
  refine rf_getR X fl_X1_57 hv2 dX1_global_6 ?_
  refine rf_bind (fun v3 hv3 => ?_)
  refine rf_getI X fl_X1_72 hv3 dX1_global_9 ?_
  refine rf_icmp_lt X (tgt := 23) rfl dX1_global_12 (fun c4 => rf_pos c4 ?_) (fun c4 => rf_neg c4 ?_)
  · refine rf_aload_n X rfl dX1_global_23 ?_
    refine rf_bind (fun v5 hv5 => ?_)
    refine rf_getR X fl_X1_18 hv5 dX1_global_24 ?_
    refine rf_iload_n X rfl dX1_global_27 ?_
    refine rf_bind (fun v6 hv6 => ?_)
    refine rf_iald X hv6 dX1_global_28 ?_
    exact rf_iret X rfl dX1_global_29
  exact rf_none

theorem dX1_lane_0 : decode cX1_lane 0 = .ok (.aload_n 0, 1) := by decide +kernel
theorem dX1_lane_1 : decode cX1_lane 1 = .ok (.iload_n 1, 1) := by decide +kernel
theorem dX1_lane_2 : decode cX1_lane 2 = .ok (.iload_n 2, 1) := by decide +kernel
theorem dX1_lane_3 : decode cX1_lane 3 = .ok (.invokevirtual 194, 3) := by decide +kernel
theorem dX1_lane_6 : decode cX1_lane 6 = .ok (.ifCond .eq 25, 3) := by decide +kernel
theorem dX1_lane_9 : decode cX1_lane 9 = .ok (.aload_n 0, 1) := by decide +kernel
theorem dX1_lane_10 : decode cX1_lane 10 = .ok (.getfield 57, 3) := by decide +kernel
theorem dX1_lane_13 : decode cX1_lane 13 = .ok (.getfield 149, 3) := by decide +kernel
theorem dX1_lane_16 : decode cX1_lane 16 = .ok (.iload_n 1, 1) := by decide +kernel
theorem dX1_lane_17 : decode cX1_lane 17 = .ok (.invokevirtual 170, 3) := by decide +kernel
theorem dX1_lane_20 : decode cX1_lane 20 = .ok (.checkcast 174, 3) := by decide +kernel
theorem dX1_lane_23 : decode cX1_lane 23 = .ok (.getfield 197, 3) := by decide +kernel
theorem dX1_lane_26 : decode cX1_lane 26 = .ok (.iload_n 2, 1) := by decide +kernel
theorem dX1_lane_27 : decode cX1_lane 27 = .ok (.aaload, 1) := by decide +kernel
theorem dX1_lane_28 : decode cX1_lane 28 = .ok (.goto 4, 3) := by decide +kernel
theorem dX1_lane_31 : decode cX1_lane 31 = .ok (.aconst_null, 1) := by decide +kernel
theorem dX1_lane_32 : decode cX1_lane 32 = .ok (.astore 5, 2) := by decide +kernel
theorem dX1_lane_34 : decode cX1_lane 34 = .ok (.aload 5, 2) := by decide +kernel
theorem dX1_lane_36 : decode cX1_lane 36 = .ok (.ifnull 31, 3) := by decide +kernel
theorem dX1_lane_39 : decode cX1_lane 39 = .ok (.iload_n 3, 1) := by decide +kernel
theorem dX1_lane_40 : decode cX1_lane 40 = .ok (.ifCond .lt 27, 3) := by decide +kernel
theorem dX1_lane_43 : decode cX1_lane 43 = .ok (.iload_n 3, 1) := by decide +kernel
theorem dX1_lane_44 : decode cX1_lane 44 = .ok (.aload 5, 2) := by decide +kernel
theorem dX1_lane_46 : decode cX1_lane 46 = .ok (.getfield 227, 3) := by decide +kernel
theorem dX1_lane_49 : decode cX1_lane 49 = .ok (.invokevirtual 152, 3) := by decide +kernel
theorem dX1_lane_52 : decode cX1_lane 52 = .ok (.if_icmp .ge 15, 3) := by decide +kernel
theorem dX1_lane_55 : decode cX1_lane 55 = .ok (.iload 4, 2) := by decide +kernel
theorem dX1_lane_57 : decode cX1_lane 57 = .ok (.ifCond .lt 10, 3) := by decide +kernel
theorem dX1_lane_60 : decode cX1_lane 60 = .ok (.iload 4, 2) := by decide +kernel
theorem dX1_lane_62 : decode cX1_lane 62 = .ok (.bipush 20, 2) := by decide +kernel
theorem dX1_lane_64 : decode cX1_lane 64 = .ok (.if_icmp .le 11, 3) := by decide +kernel
theorem dX1_lane_75 : decode cX1_lane 75 = .ok (.aload 5, 2) := by decide +kernel
theorem dX1_lane_77 : decode cX1_lane 77 = .ok (.getfield 227, 3) := by decide +kernel
theorem dX1_lane_80 : decode cX1_lane 80 = .ok (.iload_n 3, 1) := by decide +kernel
theorem dX1_lane_81 : decode cX1_lane 81 = .ok (.invokevirtual 170, 3) := by decide +kernel
theorem dX1_lane_84 : decode cX1_lane 84 = .ok (.checkcast 229, 3) := by decide +kernel
theorem dX1_lane_87 : decode cX1_lane 87 = .ok (.astore 6, 2) := by decide +kernel
theorem dX1_lane_89 : decode cX1_lane 89 = .ok (.iload 4, 2) := by decide +kernel
theorem dX1_lane_91 : decode cX1_lane 91 = .ok (.bipush 16, 2) := by decide +kernel
theorem dX1_lane_93 : decode cX1_lane 93 = .ok (.if_icmp .ge 14, 3) := by decide +kernel
theorem dX1_lane_96 : decode cX1_lane 96 = .ok (.aload 6, 2) := by decide +kernel
theorem dX1_lane_98 : decode cX1_lane 98 = .ok (.getfield 231, 3) := by decide +kernel
theorem dX1_lane_101 : decode cX1_lane 101 = .ok (.iload 4, 2) := by decide +kernel
theorem dX1_lane_103 : decode cX1_lane 103 = .ok (.iaload, 1) := by decide +kernel
theorem dX1_lane_104 : decode cX1_lane 104 = .ok (.goto 39, 3) := by decide +kernel
theorem dX1_lane_107 : decode cX1_lane 107 = .ok (.iload 4, 2) := by decide +kernel
theorem dX1_lane_109 : decode cX1_lane 109 = .ok (.bipush 16, 2) := by decide +kernel
theorem dX1_lane_111 : decode cX1_lane 111 = .ok (.if_icmp .ne 11, 3) := by decide +kernel
theorem dX1_lane_114 : decode cX1_lane 114 = .ok (.aload 6, 2) := by decide +kernel
theorem dX1_lane_116 : decode cX1_lane 116 = .ok (.getfield 234, 3) := by decide +kernel
theorem dX1_lane_119 : decode cX1_lane 119 = .ok (.goto 24, 3) := by decide +kernel
theorem dX1_lane_122 : decode cX1_lane 122 = .ok (.aload 6, 2) := by decide +kernel
theorem dX1_lane_124 : decode cX1_lane 124 = .ok (.getfield 237, 3) := by decide +kernel
theorem dX1_lane_127 : decode cX1_lane 127 = .ok (.iload 4, 2) := by decide +kernel
theorem dX1_lane_129 : decode cX1_lane 129 = .ok (.bipush 16, 2) := by decide +kernel
theorem dX1_lane_131 : decode cX1_lane 131 = .ok (.isub, 1) := by decide +kernel
theorem dX1_lane_132 : decode cX1_lane 132 = .ok (.iconst 1, 1) := by decide +kernel
theorem dX1_lane_133 : decode cX1_lane 133 = .ok (.isub, 1) := by decide +kernel
theorem dX1_lane_134 : decode cX1_lane 134 = .ok (.baload, 1) := by decide +kernel
theorem dX1_lane_135 : decode cX1_lane 135 = .ok (.ifCond .eq 7, 3) := by decide +kernel
theorem dX1_lane_138 : decode cX1_lane 138 = .ok (.iconst 1, 1) := by decide +kernel
theorem dX1_lane_139 : decode cX1_lane 139 = .ok (.goto 4, 3) := by decide +kernel
theorem dX1_lane_142 : decode cX1_lane 142 = .ok (.iconst 0, 1) := by decide +kernel
theorem dX1_lane_143 : decode cX1_lane 143 = .ok (.ireturn, 1) := by decide +kernel
def fX1_lane (a0 : Nat) (p1 : Int32) (p2 : Int32) (p3 : Int32) (p4 : Int32) (A : AH) : Option (Int32) :=
(rcv A (some a0) 1).bind fun v1 =>
(fX1_isSlot v1 p1 p2 A).bind fun g2 =>
jn (fun (y4 : Option Nat) =>
if ((y4 = none) ∨ (p3 < 0)) then (none) else
(gR A y4 13 2).bind fun v5 =>
(rcv A v5 0).bind fun v6 =>
(fJ2_size v6 A).bind fun g7 =>
if (((g7 ≤ p3) ∨ (p4 < 0)) ∨ (¬ (p4 ≤ (20 : Int32)))) then (none) else
(fJ2_get v6 p3 A).bind fun g8 =>
(cst A g8 14).bind fun v9 =>
jn (fun (y11 : Int32) =>
some y11) fun j10 =>
if (16 : Int32) ≤ p4 then (if p4 = (16 : Int32) then ((gI A g8 14 2).bind fun v14 =>
j10 v14) else
(gR A g8 14 1).bind fun v15 =>
(aZ A v15 ((p4 - (16 : Int32)) - (1 : Int32))).bind fun v16 =>
if v16 = 0 then (j10 (0 : Int32)) else
j10 (1 : Int32)) else
(gR A g8 14 0).bind fun v18 =>
(aI A v18 p4).bind fun v19 =>
j10 v19) fun j3 =>
if g2 = 0 then (j3 (none : Option Nat)) else
(gR A (some a0) 1 5).bind fun v26 =>
(gR A v26 7 8).bind fun v27 =>
(rcv A v27 0).bind fun v28 =>
(fJ2_get v28 p1 A).bind fun g29 =>
(cst A g29 8).bind fun v30 =>
(gR A g29 8 0).bind fun v31 =>
(aR A v31 p2).bind fun v32 =>
j3 v32

set_option maxHeartbeats 4000000 in
set_option maxRecDepth 100000 in
theorem sX1_lane (l : Launch) (D : DE) (a0 : Nat) (p1 : Int32) (p2 : Int32) (p3 : Int32) (p4 : Int32) (A : AH) (g : Int32) (hg : fX1_lane a0 p1 p2 p3 p4 A = some g) : Sm l D yX1_lane cX1_lane 7 (some Jvm.ClassFile.FieldType.int) 3 64 [tR (some a0), tI p1, tI p2, tI p3, tI p4] A (qI A g).1 (qI A g).2 := by
  refine Sm.of (ω := qI A) (fX1_lane a0 p1 p2 p3 p4 A) [some (tR (some a0)), some (tI p1), some (tI p2), some (tI p3), some (tI p4), none, none] (by decide) (Nat.le_of_ble_eq_true rfl) rfl hg ?_
  intro p e R s m args below meth c X hin
  have X : Cx D cX1_lane RX1 7 3 64 (some Jvm.ClassFile.FieldType.int) p R s m args meth c := X
  unfold fX1_lane
  refine rf_aload_n X rfl dX1_lane_0 ?_
  refine rf_iload_n X rfl dX1_lane_1 ?_
  refine rf_iload_n X rfl dX1_lane_2 ?_
  refine rf_bind (fun v1 hv1 => ?_)
  refine rf_bind (fun g2 hg2 => ?_)
  refine rf_callVI X c_X1_194 ⟨Nat.le_of_ble_eq_true rfl, Nat.le_of_ble_eq_true rfl⟩ [tI p1, tI p2] rfl (Nat.le_of_ble_eq_true rfl) hv1 (sX1_isSlot l D v1 p1 p2 A g2 hg2) dX1_lane_3 ?_
  refine rf_jn2 (fun i => ∀ (y4 : Option Nat), RfX X l e below (qI A) (i y4) 32 [none, none, none, some (tI p3), some (tI p4), none, none] [tR y4] A) ?_ (fun j3 hj3 => ?_)
  · intro y4
    refine rf_astore X (ls' := [none, none, none, some (tI p3), some (tI p4), some (tR y4), none]) rfl (by decide) dX1_lane_32 ?_
    refine rf_aload X rfl dX1_lane_34 ?_
    refine rf_br 67 43 [none, none, none, some (tI p3), some (tI p4), some (tR y4), none] [none, none, none, some (tI p3), some (tI p4), some (tR y4), none] [] [] (fun _ => ?_) (fun _ => ?_) (fun _ jT jF => ?_)
    · exact rf_none
    · refine rf_iload_n X rfl dX1_lane_43 ?_
      refine rf_aload X rfl dX1_lane_44 ?_
      refine rf_bind (fun v5 hv5 => ?_)
      refine rf_getR X fl_X1_227 hv5 dX1_lane_46 ?_
      refine rf_bind (fun v6 hv6 => ?_)
      refine rf_bind (fun g7 hg7 => ?_)
      refine rf_callVI X c_X1_152 ⟨Nat.le_of_ble_eq_true rfl, Nat.le_of_ble_eq_true rfl⟩ [] rfl (Nat.le_of_ble_eq_true rfl) hv6 (sJ2_size l D v6 A g7 hg7) dX1_lane_49 ?_
      refine rf_br 67 75 [none, none, none, some (tI p3), some (tI p4), some (tR y4), none] [none, none, none, some (tI p3), some (tI p4), some (tR y4), none] [] [] (fun _ => ?_) (fun _ => ?_) (fun _ jT jF => ?_)
      · exact rf_none
      · refine rf_aload X rfl dX1_lane_75 ?_
        refine rf_getR X fl_X1_227 hv5 dX1_lane_77 ?_
        refine rf_iload_n X rfl dX1_lane_80 ?_
        refine rf_bind (fun g8 hg8 => ?_)
        refine rf_callVI X c_X1_170 ⟨Nat.le_of_ble_eq_true rfl, Nat.le_of_ble_eq_true rfl⟩ [tI p3] rfl (Nat.le_of_ble_eq_true rfl) hv6 (sJ2_get l D v6 p3 A g8 hg8) dX1_lane_81 ?_
        refine rf_bind (fun v9 hv9 => ?_)
        refine rf_cast X (ci := 14) rfl rfl q1524 hv9 dX1_lane_84 ?_
        refine rf_astore X (ls' := [none, none, none, some (tI p3), some (tI p4), some (tR y4), some (tR g8)]) rfl (by decide) dX1_lane_87 ?_
        refine rf_iload X rfl dX1_lane_89 ?_
        refine rf_bipush X (16 : Int32) rfl dX1_lane_91 ?_
        refine rf_jn2 (fun i => ∀ (y11 : Int32), RfX X l e below (qI A) (i y11) 143 [none, none, none, none, none, none, none] [tI y11] A) ?_ (fun j10 hj10 => ?_)
        · intro y11
          exact rf_iret X rfl dX1_lane_143
        refine rf_icmp_ge X (tgt := 107) rfl dX1_lane_93 (fun c12 => rf_pos c12 ?_) (fun c12 => rf_neg c12 ?_)
        · refine rf_iload X rfl dX1_lane_107 ?_
          refine rf_bipush X (16 : Int32) rfl dX1_lane_109 ?_
          refine rf_icmp_ne X (tgt := 122) rfl dX1_lane_111 (fun c13 => rf_neg c13 ?_) (fun c13 => rf_pos c13 ?_)
          · refine rf_aload X rfl dX1_lane_122 ?_
            refine rf_bind (fun v15 hv15 => ?_)
            refine rf_getR X fl_X1_237 hv15 dX1_lane_124 ?_
            refine rf_iload X rfl dX1_lane_127 ?_
            refine rf_bipush X (16 : Int32) rfl dX1_lane_129 ?_
            refine rf_isub X dX1_lane_131 ?_
            refine rf_iconst X (1 : Int32) rfl dX1_lane_132 ?_
            refine rf_isub X dX1_lane_133 ?_
            refine rf_bind (fun v16 hv16 => ?_)
            refine rf_zald X hv16 dX1_lane_134 ?_
            refine rf_if_eq X (tgt := 142) rfl dX1_lane_135 (fun c17 => rf_pos c17 ?_) (fun c17 => rf_neg c17 ?_)
            · refine rf_iconst X (0 : Int32) rfl dX1_lane_142 ?_
              exact rf_go (hj10 (0 : Int32)) True.intro
            refine rf_iconst X (1 : Int32) rfl dX1_lane_138 ?_
            refine rf_goto X (tgt := 143) rfl dX1_lane_139 ?_
            exact rf_go (hj10 (1 : Int32)) True.intro
          refine rf_aload X rfl dX1_lane_114 ?_
          refine rf_bind (fun v14 hv14 => ?_)
          refine rf_getI X fl_X1_234 hv14 dX1_lane_116 ?_
          refine rf_goto X (tgt := 143) rfl dX1_lane_119 ?_
          exact rf_go (hj10 v14) True.intro
        refine rf_aload X rfl dX1_lane_96 ?_
        refine rf_bind (fun v18 hv18 => ?_)
        refine rf_getR X fl_X1_231 hv18 dX1_lane_98 ?_
        refine rf_iload X rfl dX1_lane_101 ?_
        refine rf_bind (fun v19 hv19 => ?_)
        refine rf_iald X hv19 dX1_lane_103 ?_
        refine rf_goto X (tgt := 143) rfl dX1_lane_104 ?_
        exact rf_go (hj10 v19) True.intro
      refine rf_icmp_ge X (tgt := 67) rfl dX1_lane_52 (fun c20 => ?_) (fun c20 => ?_)
      · exact jT (Or.inl (Or.inl c20))
      refine rf_iload X rfl dX1_lane_55 ?_
      refine rf_if_lt X (tgt := 67) rfl dX1_lane_57 (fun c21 => ?_) (fun c21 => ?_)
      · exact jT (Or.inl (Or.inr c21))
      refine rf_iload X rfl dX1_lane_60 ?_
      refine rf_bipush X (20 : Int32) rfl dX1_lane_62 ?_
      refine rf_icmp_le X (tgt := 75) rfl dX1_lane_64 (fun c22 => ?_) (fun c22 => ?_)
      · exact jF (fun z => z.elim (fun z => z.elim c20 c21) (fun z => z c22))
      exact jT (Or.inr c22)
    refine rf_ifnull X (tgt := 67) rfl dX1_lane_36 (fun c23 => ?_) (fun c23 => ?_)
    · exact jT (Or.inl c23)
    refine rf_iload_n X rfl dX1_lane_39 ?_
    refine rf_if_lt X (tgt := 67) rfl dX1_lane_40 (fun c24 => ?_) (fun c24 => ?_)
    · exact jT (Or.inr c24)
    exact jF (fun z => z.elim c23 c24)
  refine rf_if_eq X (tgt := 31) rfl dX1_lane_6 (fun c25 => rf_pos c25 ?_) (fun c25 => rf_neg c25 ?_)
  · refine rf_null X dX1_lane_31 ?_
    exact rf_go (hj3 (none : Option Nat)) (And.intro rfl (And.intro rfl True.intro))
  refine rf_aload_n X rfl dX1_lane_9 ?_
  refine rf_bind (fun v26 hv26 => ?_)
  refine rf_getR X fl_X1_57 hv26 dX1_lane_10 ?_
  refine rf_bind (fun v27 hv27 => ?_)
  refine rf_getR X fl_X1_149 hv27 dX1_lane_13 ?_
  refine rf_iload_n X rfl dX1_lane_16 ?_
  refine rf_bind (fun v28 hv28 => ?_)
  refine rf_bind (fun g29 hg29 => ?_)
  refine rf_callVI X c_X1_170 ⟨Nat.le_of_ble_eq_true rfl, Nat.le_of_ble_eq_true rfl⟩ [tI p1] rfl (Nat.le_of_ble_eq_true rfl) hv28 (sJ2_get l D v28 p1 A g29 hg29) dX1_lane_17 ?_
  refine rf_bind (fun v30 hv30 => ?_)
  refine rf_cast X (ci := 8) rfl rfl q999 hv30 dX1_lane_20 ?_
  refine rf_bind (fun v31 hv31 => ?_)
  refine rf_getR X fl_X1_197 hv31 dX1_lane_23 ?_
  refine rf_iload_n X rfl dX1_lane_26 ?_
  refine rf_bind (fun v32 hv32 => ?_)
  refine rf_aald X hv32 dX1_lane_27 ?_
  refine rf_goto X (tgt := 32) rfl dX1_lane_28 ?_
  exact rf_go (hj3 v32) (And.intro rfl (And.intro rfl True.intro))

theorem dX7_block_0 : decode cX7_block 0 = .ok (.iconst 0, 1) := by decide +kernel
theorem dX7_block_1 : decode cX7_block 1 = .ok (.istore_n 2, 1) := by decide +kernel
theorem dX7_block_2 : decode cX7_block 2 = .ok (.iload_n 2, 1) := by decide +kernel
theorem dX7_block_3 : decode cX7_block 3 = .ok (.aload_n 0, 1) := by decide +kernel
theorem dX7_block_4 : decode cX7_block 4 = .ok (.getfield 14, 3) := by decide +kernel
theorem dX7_block_7 : decode cX7_block 7 = .ok (.invokevirtual 118, 3) := by decide +kernel
theorem dX7_block_10 : decode cX7_block 10 = .ok (.if_icmp .ge 90, 3) := by decide +kernel
theorem dX7_block_13 : decode cX7_block 13 = .ok (.iconst 0, 1) := by decide +kernel
theorem dX7_block_14 : decode cX7_block 14 = .ok (.istore_n 3, 1) := by decide +kernel
theorem dX7_block_15 : decode cX7_block 15 = .ok (.iload_n 3, 1) := by decide +kernel
theorem dX7_block_16 : decode cX7_block 16 = .ok (.aload_n 0, 1) := by decide +kernel
theorem dX7_block_17 : decode cX7_block 17 = .ok (.getfield 24, 3) := by decide +kernel
theorem dX7_block_20 : decode cX7_block 20 = .ok (.if_icmp .ge 74, 3) := by decide +kernel
theorem dX7_block_23 : decode cX7_block 23 = .ok (.aload_n 0, 1) := by decide +kernel
theorem dX7_block_24 : decode cX7_block 24 = .ok (.getfield 14, 3) := by decide +kernel
theorem dX7_block_27 : decode cX7_block 27 = .ok (.iload_n 2, 1) := by decide +kernel
theorem dX7_block_28 : decode cX7_block 28 = .ok (.invokevirtual 122, 3) := by decide +kernel
theorem dX7_block_31 : decode cX7_block 31 = .ok (.checkcast 65, 3) := by decide +kernel
theorem dX7_block_34 : decode cX7_block 34 = .ok (.getfield 229, 3) := by decide +kernel
theorem dX7_block_37 : decode cX7_block 37 = .ok (.iload_n 3, 1) := by decide +kernel
theorem dX7_block_38 : decode cX7_block 38 = .ok (.aaload, 1) := by decide +kernel
theorem dX7_block_39 : decode cX7_block 39 = .ok (.ifnull 49, 3) := by decide +kernel
theorem dX7_block_42 : decode cX7_block 42 = .ok (.aload_n 0, 1) := by decide +kernel
theorem dX7_block_43 : decode cX7_block 43 = .ok (.getfield 14, 3) := by decide +kernel
theorem dX7_block_46 : decode cX7_block 46 = .ok (.iload_n 2, 1) := by decide +kernel
theorem dX7_block_47 : decode cX7_block 47 = .ok (.invokevirtual 122, 3) := by decide +kernel
theorem dX7_block_50 : decode cX7_block 50 = .ok (.checkcast 65, 3) := by decide +kernel
theorem dX7_block_53 : decode cX7_block 53 = .ok (.getfield 229, 3) := by decide +kernel
theorem dX7_block_56 : decode cX7_block 56 = .ok (.iload_n 3, 1) := by decide +kernel
theorem dX7_block_57 : decode cX7_block 57 = .ok (.aaload, 1) := by decide +kernel
theorem dX7_block_58 : decode cX7_block 58 = .ok (.getfield 268, 3) := by decide +kernel
theorem dX7_block_61 : decode cX7_block 61 = .ok (.getfield 271, 3) := by decide +kernel
theorem dX7_block_64 : decode cX7_block 64 = .ok (.iload_n 1, 1) := by decide +kernel
theorem dX7_block_65 : decode cX7_block 65 = .ok (.if_icmp .ne 23, 3) := by decide +kernel
theorem dX7_block_68 : decode cX7_block 68 = .ok (.aload_n 0, 1) := by decide +kernel
theorem dX7_block_69 : decode cX7_block 69 = .ok (.getfield 14, 3) := by decide +kernel
theorem dX7_block_72 : decode cX7_block 72 = .ok (.iload_n 2, 1) := by decide +kernel
theorem dX7_block_73 : decode cX7_block 73 = .ok (.invokevirtual 122, 3) := by decide +kernel
theorem dX7_block_76 : decode cX7_block 76 = .ok (.checkcast 65, 3) := by decide +kernel
theorem dX7_block_79 : decode cX7_block 79 = .ok (.getfield 229, 3) := by decide +kernel
theorem dX7_block_82 : decode cX7_block 82 = .ok (.iload_n 3, 1) := by decide +kernel
theorem dX7_block_83 : decode cX7_block 83 = .ok (.aaload, 1) := by decide +kernel
theorem dX7_block_84 : decode cX7_block 84 = .ok (.getfield 268, 3) := by decide +kernel
theorem dX7_block_87 : decode cX7_block 87 = .ok (.areturn, 1) := by decide +kernel
theorem dX7_block_88 : decode cX7_block 88 = .ok (.iinc 3 1, 3) := by decide +kernel
theorem dX7_block_91 : decode cX7_block 91 = .ok (.goto (-76), 3) := by decide +kernel
theorem dX7_block_94 : decode cX7_block 94 = .ok (.iinc 2 1, 3) := by decide +kernel
theorem dX7_block_97 : decode cX7_block 97 = .ok (.goto (-95), 3) := by decide +kernel
theorem dX7_block_100 : decode cX7_block 100 = .ok (.aconst_null, 1) := by decide +kernel
theorem dX7_block_101 : decode cX7_block 101 = .ok (.areturn, 1) := by decide +kernel
def fX7_block (n : Nat) (a0 : Nat) (p1 : Int32) (A : AH) : Option (Option Nat) :=
jl (fixG (fun _ => none) (fun (rc3 : (Int32) → Option (Option Nat)) (x2 : Int32) =>
(gR A (some a0) 7 8).bind fun v4 =>
(rcv A v4 0).bind fun v5 =>
(fJ2_size v5 A).bind fun g6 =>
if g6 ≤ x2 then (some (none : Option Nat)) else
jl (fixG (fun _ => none) (fun (rc10 : (Int32) → Option (Option Nat)) (x9 : Int32) =>
(gI A (some a0) 7 1).bind fun v11 =>
if v11 ≤ x9 then (rc3 (x2 + (1 : Int32))) else
(fJ2_get v5 x2 A).bind fun g13 =>
(cst A g13 8).bind fun v14 =>
(gR A g13 8 0).bind fun v15 =>
(aR A v15 x9).bind fun v16 =>
jn (rc10 (x9 + (1 : Int32))) fun j17 =>
if v16 = none then (j17) else
(gR A v16 13 0).bind fun v19 =>
(gI A v19 12 0).bind fun v20 =>
if v20 = p1 then (some v19) else
j17) n) fun j8 =>
j8 (0 : Int32)) n) fun j1 =>
j1 (0 : Int32)

set_option maxHeartbeats 4000000 in
set_option maxRecDepth 100000 in
theorem sX7_block (l : Launch) (D : DE) (n : Nat) (a0 : Nat) (p1 : Int32) (A : AH) (g : Option Nat) (hg : fX7_block n a0 p1 A = some g) : Sm l D yX7_block cX7_block 4 (some (Jvm.ClassFile.FieldType.object "WarpMill$Block")) 3 64 [tR (some a0), tI p1] A (qO A g).1 (qO A g).2 := by
  refine Sm.of (ω := qO A) (fX7_block n a0 p1 A) [some (tR (some a0)), some (tI p1), none, none] (by decide) (Nat.le_of_ble_eq_true rfl) rfl hg ?_
  intro p e R s m args below meth c X hin
  have X : Cx D cX7_block RX7 4 3 64 (some (Jvm.ClassFile.FieldType.object "WarpMill$Block")) p R s m args meth c := X
  unfold fX7_block
  refine rf_iconst X (0 : Int32) rfl dX7_block_0 ?_
  refine rf_istore_n X (ls' := [some (tR (some a0)), some (tI p1), some (tI (0 : Int32)), none]) rfl (by decide) dX7_block_1 ?_
  refine rf_fix (fun i => ∀ (x2 : Int32), RfX X l e below (qO A) (i x2) 2 [some (tR (some a0)), some (tI p1), some (tI x2), none] [] A) (fun _ => rf_none) (fun rc3 hrc3 => ?_) (fun j1 hj1 => ?_)
  · intro x2
    refine rf_iload_n X rfl dX7_block_2 ?_
    refine rf_aload_n X rfl dX7_block_3 ?_
    refine rf_bind (fun v4 hv4 => ?_)
    refine rf_getR X fl_X7_14 hv4 dX7_block_4 ?_
    refine rf_bind (fun v5 hv5 => ?_)
    refine rf_bind (fun g6 hg6 => ?_)
    refine rf_callVI X c_X7_118 ⟨Nat.le_of_ble_eq_true rfl, Nat.le_of_ble_eq_true rfl⟩ [] rfl (Nat.le_of_ble_eq_true rfl) hv5 (sJ2_size l D v5 A g6 hg6) dX7_block_7 ?_
    refine rf_icmp_ge X (tgt := 100) rfl dX7_block_10 (fun c7 => rf_pos c7 ?_) (fun c7 => rf_neg c7 ?_)
    · refine rf_null X dX7_block_100 ?_
      exact rf_aret (Or.inl ⟨_, rfl⟩) X rfl dX7_block_101
    refine rf_iconst X (0 : Int32) rfl dX7_block_13 ?_
    refine rf_istore_n X (ls' := [some (tR (some a0)), some (tI p1), some (tI x2), some (tI (0 : Int32))]) rfl (by decide) dX7_block_14 ?_
    refine rf_fix (fun i => ∀ (x9 : Int32), RfX X l e below (qO A) (i x9) 15 [some (tR (some a0)), some (tI p1), some (tI x2), some (tI x9)] [] A) (fun _ => rf_none) (fun rc10 hrc10 => ?_) (fun j8 hj8 => ?_)
    · intro x9
      refine rf_iload_n X rfl dX7_block_15 ?_
      refine rf_aload_n X rfl dX7_block_16 ?_
      refine rf_bind (fun v11 hv11 => ?_)
      refine rf_getI X fl_X7_24 hv11 dX7_block_17 ?_
      refine rf_icmp_ge X (tgt := 94) rfl dX7_block_20 (fun c12 => rf_pos c12 ?_) (fun c12 => rf_neg c12 ?_)
      · refine rf_iinc X (x2 + (1 : Int32)) rfl rfl (ls' := [some (tR (some a0)), some (tI p1), some (tI (x2 + (1 : Int32))), some (tI x9)]) rfl (by decide) dX7_block_94 ?_
        refine rf_goto X (tgt := 2) rfl dX7_block_97 ?_
        exact rf_go (hrc3 (x2 + (1 : Int32))) (And.intro rfl (And.intro rfl (And.intro rfl True.intro)))
      refine rf_aload_n X rfl dX7_block_23 ?_
      refine rf_getR X fl_X7_14 hv4 dX7_block_24 ?_
      refine rf_iload_n X rfl dX7_block_27 ?_
      refine rf_bind (fun g13 hg13 => ?_)
      refine rf_callVI X c_X7_122 ⟨Nat.le_of_ble_eq_true rfl, Nat.le_of_ble_eq_true rfl⟩ [tI x2] rfl (Nat.le_of_ble_eq_true rfl) hv5 (sJ2_get l D v5 x2 A g13 hg13) dX7_block_28 ?_
      refine rf_bind (fun v14 hv14 => ?_)
      refine rf_cast X (ci := 8) rfl rfl q719 hv14 dX7_block_31 ?_
      refine rf_bind (fun v15 hv15 => ?_)
      refine rf_getR X fl_X7_229 hv15 dX7_block_34 ?_
      refine rf_iload_n X rfl dX7_block_37 ?_
      refine rf_bind (fun v16 hv16 => ?_)
      refine rf_aald X hv16 dX7_block_38 ?_
      refine rf_jn2 (fun i => RfX X l e below (qO A) i 88 [some (tR (some a0)), some (tI p1), some (tI x2), some (tI x9)] [] A) ?_ (fun j17 hj17 => ?_)
      · show RfX X l e below _ _ _ _ _ _
        refine rf_iinc X (x9 + (1 : Int32)) rfl rfl (ls' := [some (tR (some a0)), some (tI p1), some (tI x2), some (tI (x9 + (1 : Int32)))]) rfl (by decide) dX7_block_88 ?_
        refine rf_goto X (tgt := 15) rfl dX7_block_91 ?_
        exact rf_go (hrc10 (x9 + (1 : Int32))) (And.intro rfl (And.intro rfl (And.intro rfl (And.intro rfl True.intro))))
      refine rf_ifnull X (tgt := 88) rfl dX7_block_39 (fun c18 => rf_pos c18 ?_) (fun c18 => rf_neg c18 ?_)
      · exact rf_go hj17 (And.intro rfl (And.intro rfl (And.intro rfl (And.intro rfl True.intro))))
      refine rf_aload_n X rfl dX7_block_42 ?_
      refine rf_getR X fl_X7_14 hv4 dX7_block_43 ?_
      refine rf_iload_n X rfl dX7_block_46 ?_
      refine rf_callVI X c_X7_122 ⟨Nat.le_of_ble_eq_true rfl, Nat.le_of_ble_eq_true rfl⟩ [tI x2] rfl (Nat.le_of_ble_eq_true rfl) hv5 (sJ2_get l D v5 x2 A g13 hg13) dX7_block_47 ?_
      refine rf_cast X (ci := 8) rfl rfl q719 hv14 dX7_block_50 ?_
      refine rf_getR X fl_X7_229 hv15 dX7_block_53 ?_
      refine rf_iload_n X rfl dX7_block_56 ?_
      refine rf_aald X hv16 dX7_block_57 ?_
      refine rf_bind (fun v19 hv19 => ?_)
      refine rf_getR X fl_X7_268 hv19 dX7_block_58 ?_
      refine rf_bind (fun v20 hv20 => ?_)
      refine rf_getI X fl_X7_271 hv20 dX7_block_61 ?_
      refine rf_iload_n X rfl dX7_block_64 ?_
      refine rf_icmp_ne X (tgt := 88) rfl dX7_block_65 (fun c21 => rf_neg c21 ?_) (fun c21 => rf_pos c21 ?_)
      · exact rf_go hj17 (And.intro rfl (And.intro rfl (And.intro rfl (And.intro rfl True.intro))))
      refine rf_aload_n X rfl dX7_block_68 ?_
      refine rf_getR X fl_X7_14 hv4 dX7_block_69 ?_
      refine rf_iload_n X rfl dX7_block_72 ?_
      refine rf_callVI X c_X7_122 ⟨Nat.le_of_ble_eq_true rfl, Nat.le_of_ble_eq_true rfl⟩ [tI x2] rfl (Nat.le_of_ble_eq_true rfl) hv5 (sJ2_get l D v5 x2 A g13 hg13) dX7_block_73 ?_
      refine rf_cast X (ci := 8) rfl rfl q719 hv14 dX7_block_76 ?_
      refine rf_getR X fl_X7_229 hv15 dX7_block_79 ?_
      refine rf_iload_n X rfl dX7_block_82 ?_
      refine rf_aald X hv16 dX7_block_83 ?_
      refine rf_getR X fl_X7_268 hv19 dX7_block_84 ?_
      exact rf_aret (Or.inl ⟨_, rfl⟩) X rfl dX7_block_87
    exact rf_go (hj8 (0 : Int32)) (And.intro rfl (And.intro rfl (And.intro rfl (And.intro rfl True.intro))))
  exact rf_go (hj1 (0 : Int32)) (And.intro rfl (And.intro rfl (And.intro rfl True.intro)))

theorem dX1_shared_0 : decode cX1_shared 0 = .ok (.aload_n 0, 1) := by decide +kernel
theorem dX1_shared_1 : decode cX1_shared 1 = .ok (.getfield 57, 3) := by decide +kernel
theorem dX1_shared_4 : decode cX1_shared 4 = .ok (.iload_n 1, 1) := by decide +kernel
theorem dX1_shared_5 : decode cX1_shared 5 = .ok (.invokevirtual 241, 3) := by decide +kernel
theorem dX1_shared_8 : decode cX1_shared 8 = .ok (.astore_n 3, 1) := by decide +kernel
theorem dX1_shared_9 : decode cX1_shared 9 = .ok (.aload_n 3, 1) := by decide +kernel
theorem dX1_shared_10 : decode cX1_shared 10 = .ok (.ifnull 13, 3) := by decide +kernel
theorem dX1_shared_13 : decode cX1_shared 13 = .ok (.iload_n 2, 1) := by decide +kernel
theorem dX1_shared_14 : decode cX1_shared 14 = .ok (.ifCond .lt 9, 3) := by decide +kernel
theorem dX1_shared_17 : decode cX1_shared 17 = .ok (.iload_n 2, 1) := by decide +kernel
theorem dX1_shared_18 : decode cX1_shared 18 = .ok (.bipush 64, 2) := by decide +kernel
theorem dX1_shared_20 : decode cX1_shared 20 = .ok (.if_icmp .lt 11, 3) := by decide +kernel
theorem dX1_shared_31 : decode cX1_shared 31 = .ok (.aload_n 3, 1) := by decide +kernel
theorem dX1_shared_32 : decode cX1_shared 32 = .ok (.getfield 244, 3) := by decide +kernel
theorem dX1_shared_35 : decode cX1_shared 35 = .ok (.iload_n 2, 1) := by decide +kernel
theorem dX1_shared_36 : decode cX1_shared 36 = .ok (.iaload, 1) := by decide +kernel
theorem dX1_shared_37 : decode cX1_shared 37 = .ok (.ireturn, 1) := by decide +kernel
def fX1_shared (n : Nat) (a0 : Nat) (p1 : Int32) (p2 : Int32) (A : AH) : Option (Int32) :=
(gR A (some a0) 1 5).bind fun v1 =>
(rcv A v1 7).bind fun v2 =>
(fX7_block n v2 p1 A).bind fun g3 =>
if (((g3 = none) ∨ (p2 < 0)) ∨ (¬ (p2 < (64 : Int32)))) then (none) else
(gR A g3 12 1).bind fun v4 =>
(aI A v4 p2).bind fun v5 =>
some v5

set_option maxHeartbeats 4000000 in
set_option maxRecDepth 100000 in
theorem sX1_shared (l : Launch) (D : DE) (n : Nat) (a0 : Nat) (p1 : Int32) (p2 : Int32) (A : AH) (g : Int32) (hg : fX1_shared n a0 p1 p2 A = some g) : Sm l D yX1_shared cX1_shared 4 (some Jvm.ClassFile.FieldType.int) 4 87 [tR (some a0), tI p1, tI p2] A (qI A g).1 (qI A g).2 := by
  refine Sm.of (ω := qI A) (fX1_shared n a0 p1 p2 A) [some (tR (some a0)), some (tI p1), some (tI p2), none] (by decide) (Nat.le_of_ble_eq_true rfl) rfl hg ?_
  intro p e R s m args below meth c X hin
  have X : Cx D cX1_shared RX1 4 4 87 (some Jvm.ClassFile.FieldType.int) p R s m args meth c := X
  unfold fX1_shared
  refine rf_aload_n X rfl dX1_shared_0 ?_
  refine rf_bind (fun v1 hv1 => ?_)
  refine rf_getR X fl_X1_57 hv1 dX1_shared_1 ?_
  refine rf_iload_n X rfl dX1_shared_4 ?_
  refine rf_bind (fun v2 hv2 => ?_)
  refine rf_bind (fun g3 hg3 => ?_)
  refine rf_callVI X c_X1_241 ⟨Nat.le_of_ble_eq_true rfl, Nat.le_of_ble_eq_true rfl⟩ [tI p1] rfl (Nat.le_of_ble_eq_true rfl) hv2 (sX7_block l D n v2 p1 A g3 hg3) dX1_shared_5 ?_
  refine rf_astore_n X (ls' := [some (tR (some a0)), some (tI p1), some (tI p2), some (tR g3)]) rfl (by decide) dX1_shared_8 ?_
  refine rf_aload_n X rfl dX1_shared_9 ?_
  refine rf_br 23 31 [some (tR (some a0)), some (tI p1), some (tI p2), some (tR g3)] [some (tR (some a0)), some (tI p1), some (tI p2), some (tR g3)] [] [] (fun _ => ?_) (fun _ => ?_) (fun _ jT jF => ?_)
  · exact rf_none
  · refine rf_aload_n X rfl dX1_shared_31 ?_
    refine rf_bind (fun v4 hv4 => ?_)
    refine rf_getR X fl_X1_244 hv4 dX1_shared_32 ?_
    refine rf_iload_n X rfl dX1_shared_35 ?_
    refine rf_bind (fun v5 hv5 => ?_)
    refine rf_iald X hv5 dX1_shared_36 ?_
    exact rf_iret X rfl dX1_shared_37
  refine rf_ifnull X (tgt := 23) rfl dX1_shared_10 (fun c6 => ?_) (fun c6 => ?_)
  · exact jT (Or.inl (Or.inl c6))
  refine rf_iload_n X rfl dX1_shared_13 ?_
  refine rf_if_lt X (tgt := 23) rfl dX1_shared_14 (fun c7 => ?_) (fun c7 => ?_)
  · exact jT (Or.inl (Or.inr c7))
  refine rf_iload_n X rfl dX1_shared_17 ?_
  refine rf_bipush X (64 : Int32) rfl dX1_shared_18 ?_
  refine rf_icmp_lt X (tgt := 31) rfl dX1_shared_20 (fun c8 => ?_) (fun c8 => ?_)
  · exact jF (fun z => z.elim (fun z => z.elim c6 c7) (fun z => z c8))
  exact jT (Or.inr c8)

theorem dX11_freeAll_0 : decode cX11_freeAll 0 = .ok (.iconst 0, 1) := by decide +kernel
theorem dX11_freeAll_1 : decode cX11_freeAll 1 = .ok (.istore_n 1, 1) := by decide +kernel
theorem dX11_freeAll_2 : decode cX11_freeAll 2 = .ok (.iload_n 1, 1) := by decide +kernel
theorem dX11_freeAll_3 : decode cX11_freeAll 3 = .ok (.sipush 128, 3) := by decide +kernel
theorem dX11_freeAll_6 : decode cX11_freeAll 6 = .ok (.if_icmp .ge 16, 3) := by decide +kernel
theorem dX11_freeAll_9 : decode cX11_freeAll 9 = .ok (.aload_n 0, 1) := by decide +kernel
theorem dX11_freeAll_10 : decode cX11_freeAll 10 = .ok (.getfield 54, 3) := by decide +kernel
theorem dX11_freeAll_13 : decode cX11_freeAll 13 = .ok (.iload_n 1, 1) := by decide +kernel
theorem dX11_freeAll_14 : decode cX11_freeAll 14 = .ok (.iconst (-1), 1) := by decide +kernel
theorem dX11_freeAll_15 : decode cX11_freeAll 15 = .ok (.iastore, 1) := by decide +kernel
theorem dX11_freeAll_16 : decode cX11_freeAll 16 = .ok (.iinc 1 1, 3) := by decide +kernel
theorem dX11_freeAll_19 : decode cX11_freeAll 19 = .ok (.goto (-17), 3) := by decide +kernel
theorem dX11_freeAll_22 : decode cX11_freeAll 22 = .ok (.aload_n 0, 1) := by decide +kernel
theorem dX11_freeAll_23 : decode cX11_freeAll 23 = .ok (.iconst 0, 1) := by decide +kernel
theorem dX11_freeAll_24 : decode cX11_freeAll 24 = .ok (.putfield 129, 3) := by decide +kernel
theorem dX11_freeAll_27 : decode cX11_freeAll 27 = .ok (.aload_n 0, 1) := by decide +kernel
theorem dX11_freeAll_28 : decode cX11_freeAll 28 = .ok (.ldc 132, 2) := by decide +kernel
theorem dX11_freeAll_30 : decode cX11_freeAll 30 = .ok (.putfield 133, 3) := by decide +kernel
theorem dX11_freeAll_33 : decode cX11_freeAll 33 = .ok (.return_, 1) := by decide +kernel
def fX11_freeAll (n : Nat) (a0 : Nat) (A : AH) : Option (AH) :=
jl (fixG (fun _ _ => none) (fun (rc4 : (Int32) → (AH) → Option (AH)) (x2 : Int32) (A3 : AH) =>
if (128 : Int32) ≤ x2 then ((pI A3 (some a0) 11 41 (0 : Int32)).bind fun A6 =>
(pI A6 (some a0) 11 42 (2147483647 : Int32)).bind fun A7 =>
some A7) else
(gR A3 (some a0) 11 31).bind fun v8 =>
(sI A3 v8 x2 (-1 : Int32)).bind fun A9 =>
rc4 (x2 + (1 : Int32)) A9) n) fun j1 =>
j1 (0 : Int32) A

set_option maxHeartbeats 4000000 in
set_option maxRecDepth 100000 in
theorem sX11_freeAll (l : Launch) (D : DE) (n : Nat) (a0 : Nat) (A : AH) (g : AH) (hg : fX11_freeAll n a0 A = some g) : Sm l D yX11_freeAll cX11_freeAll 2 none 0 0 [tR (some a0)] A (wU g).1 (wU g).2 := by
  refine Sm.of (ω := wU) (fX11_freeAll n a0 A) [some (tR (some a0)), none] (by decide) (Nat.le_of_ble_eq_true rfl) rfl hg ?_
  intro p e R s m args below meth c X hin
  have X : Cx D cX11_freeAll RX11 2 0 0 none p R s m args meth c := X
  unfold fX11_freeAll
  refine rf_iconst X (0 : Int32) rfl dX11_freeAll_0 ?_
  refine rf_istore_n X (ls' := [some (tR (some a0)), some (tI (0 : Int32))]) rfl (by decide) dX11_freeAll_1 ?_
  refine rf_fix (fun i => ∀ (x2 : Int32) (A3 : AH), RfX X l e below wU (i x2 A3) 2 [some (tR (some a0)), some (tI x2)] [] A3) (fun _ _ => rf_none) (fun rc4 hrc4 => ?_) (fun j1 hj1 => ?_)
  · intro x2 A3
    refine rf_iload_n X rfl dX11_freeAll_2 ?_
    refine rf_sipush X (128 : Int32) rfl dX11_freeAll_3 ?_
    refine rf_icmp_ge X (tgt := 22) rfl dX11_freeAll_6 (fun c5 => rf_pos c5 ?_) (fun c5 => rf_neg c5 ?_)
    · refine rf_aload_n X rfl dX11_freeAll_22 ?_
      refine rf_iconst X (0 : Int32) rfl dX11_freeAll_23 ?_
      refine rf_bind (fun A6 hA6 => ?_)
      refine rf_putI X fp_X11_129 (fun h => by cases h) hA6 dX11_freeAll_24 ?_
      refine rf_aload_n X rfl dX11_freeAll_27 ?_
      refine rf_ldc X (v := (2147483647 : Int32)) q1556 dX11_freeAll_28 ?_
      refine rf_bind (fun A7 hA7 => ?_)
      refine rf_putI X fp_X11_133 (fun h => by cases h) hA7 dX11_freeAll_30 ?_
      exact rf_vret X rfl dX11_freeAll_33
    refine rf_aload_n X rfl dX11_freeAll_9 ?_
    refine rf_bind (fun v8 hv8 => ?_)
    refine rf_getR X fl_X11_54 hv8 dX11_freeAll_10 ?_
    refine rf_iload_n X rfl dX11_freeAll_13 ?_
    refine rf_iconst X (-1 : Int32) rfl dX11_freeAll_14 ?_
    refine rf_bind (fun A9 hA9 => ?_)
    refine rf_iast X hA9 dX11_freeAll_15 ?_
    refine rf_iinc X (x2 + (1 : Int32)) rfl rfl (ls' := [some (tR (some a0)), some (tI (x2 + (1 : Int32)))]) rfl (by decide) dX11_freeAll_16 ?_
    refine rf_goto X (tgt := 2) rfl dX11_freeAll_19 ?_
    exact rf_go (hrc4 (x2 + (1 : Int32)) A9) (And.intro rfl (And.intro rfl True.intro))
  exact rf_go (hj1 (0 : Int32) A) (And.intro rfl (And.intro rfl True.intro))

theorem dX11_clearUnits_0 : decode cX11_clearUnits 0 = .ok (.iconst 0, 1) := by decide +kernel
theorem dX11_clearUnits_1 : decode cX11_clearUnits 1 = .ok (.istore_n 1, 1) := by decide +kernel
theorem dX11_clearUnits_2 : decode cX11_clearUnits 2 = .ok (.iload_n 1, 1) := by decide +kernel
theorem dX11_clearUnits_3 : decode cX11_clearUnits 3 = .ok (.bipush 8, 2) := by decide +kernel
theorem dX11_clearUnits_5 : decode cX11_clearUnits 5 = .ok (.if_icmp .ge 49, 3) := by decide +kernel
theorem dX11_clearUnits_8 : decode cX11_clearUnits 8 = .ok (.aload_n 0, 1) := by decide +kernel
theorem dX11_clearUnits_9 : decode cX11_clearUnits 9 = .ok (.getfield 42, 3) := by decide +kernel
theorem dX11_clearUnits_12 : decode cX11_clearUnits 12 = .ok (.iload_n 1, 1) := by decide +kernel
theorem dX11_clearUnits_13 : decode cX11_clearUnits 13 = .ok (.iconst 0, 1) := by decide +kernel
theorem dX11_clearUnits_14 : decode cX11_clearUnits 14 = .ok (.iastore, 1) := by decide +kernel
theorem dX11_clearUnits_15 : decode cX11_clearUnits 15 = .ok (.aload_n 0, 1) := by decide +kernel
theorem dX11_clearUnits_16 : decode cX11_clearUnits 16 = .ok (.getfield 45, 3) := by decide +kernel
theorem dX11_clearUnits_19 : decode cX11_clearUnits 19 = .ok (.iload_n 1, 1) := by decide +kernel
theorem dX11_clearUnits_20 : decode cX11_clearUnits 20 = .ok (.iconst 0, 1) := by decide +kernel
theorem dX11_clearUnits_21 : decode cX11_clearUnits 21 = .ok (.iastore, 1) := by decide +kernel
theorem dX11_clearUnits_22 : decode cX11_clearUnits 22 = .ok (.aload_n 0, 1) := by decide +kernel
theorem dX11_clearUnits_23 : decode cX11_clearUnits 23 = .ok (.getfield 48, 3) := by decide +kernel
theorem dX11_clearUnits_26 : decode cX11_clearUnits 26 = .ok (.iload_n 1, 1) := by decide +kernel
theorem dX11_clearUnits_27 : decode cX11_clearUnits 27 = .ok (.aload_n 0, 1) := by decide +kernel
theorem dX11_clearUnits_28 : decode cX11_clearUnits 28 = .ok (.getfield 13, 3) := by decide +kernel
theorem dX11_clearUnits_31 : decode cX11_clearUnits 31 = .ok (.iconst 1, 1) := by decide +kernel
theorem dX11_clearUnits_32 : decode cX11_clearUnits 32 = .ok (.isub, 1) := by decide +kernel
theorem dX11_clearUnits_33 : decode cX11_clearUnits 33 = .ok (.iastore, 1) := by decide +kernel
theorem dX11_clearUnits_34 : decode cX11_clearUnits 34 = .ok (.aload_n 0, 1) := by decide +kernel
theorem dX11_clearUnits_35 : decode cX11_clearUnits 35 = .ok (.getfield 51, 3) := by decide +kernel
theorem dX11_clearUnits_38 : decode cX11_clearUnits 38 = .ok (.iload_n 1, 1) := by decide +kernel
theorem dX11_clearUnits_39 : decode cX11_clearUnits 39 = .ok (.iconst 0, 1) := by decide +kernel
theorem dX11_clearUnits_40 : decode cX11_clearUnits 40 = .ok (.iastore, 1) := by decide +kernel
theorem dX11_clearUnits_41 : decode cX11_clearUnits 41 = .ok (.aload_n 0, 1) := by decide +kernel
theorem dX11_clearUnits_42 : decode cX11_clearUnits 42 = .ok (.getfield 39, 3) := by decide +kernel
theorem dX11_clearUnits_45 : decode cX11_clearUnits 45 = .ok (.iload_n 1, 1) := by decide +kernel
theorem dX11_clearUnits_46 : decode cX11_clearUnits 46 = .ok (.iconst 0, 1) := by decide +kernel
theorem dX11_clearUnits_47 : decode cX11_clearUnits 47 = .ok (.iastore, 1) := by decide +kernel
theorem dX11_clearUnits_48 : decode cX11_clearUnits 48 = .ok (.iinc 1 1, 3) := by decide +kernel
theorem dX11_clearUnits_51 : decode cX11_clearUnits 51 = .ok (.goto (-49), 3) := by decide +kernel
theorem dX11_clearUnits_54 : decode cX11_clearUnits 54 = .ok (.aload_n 0, 1) := by decide +kernel
theorem dX11_clearUnits_55 : decode cX11_clearUnits 55 = .ok (.invokevirtual 123, 3) := by decide +kernel
theorem dX11_clearUnits_58 : decode cX11_clearUnits 58 = .ok (.return_, 1) := by decide +kernel
def fX11_clearUnits (n : Nat) (a0 : Nat) (A : AH) : Option (AH) :=
jl (fixG (fun _ _ => none) (fun (rc4 : (Int32) → (AH) → Option (AH)) (x2 : Int32) (A3 : AH) =>
if (8 : Int32) ≤ x2 then ((rcv A3 (some a0) 11).bind fun v6 =>
(fX11_freeAll n v6 A3).bind fun g7 =>
some g7) else
(gR A3 (some a0) 11 27).bind fun v8 =>
(sI A3 v8 x2 (0 : Int32)).bind fun A9 =>
(gR A9 (some a0) 11 28).bind fun v10 =>
(sI A9 v10 x2 (0 : Int32)).bind fun A11 =>
(gR A11 (some a0) 11 29).bind fun v12 =>
(gI A11 (some a0) 11 2).bind fun v13 =>
(sI A11 v12 x2 (v13 - (1 : Int32))).bind fun A14 =>
(gR A14 (some a0) 11 30).bind fun v15 =>
(sI A14 v15 x2 (0 : Int32)).bind fun A16 =>
(gR A16 (some a0) 11 10).bind fun v17 =>
(sI A16 v17 x2 (0 : Int32)).bind fun A18 =>
rc4 (x2 + (1 : Int32)) A18) n) fun j1 =>
j1 (0 : Int32) A

set_option maxHeartbeats 4000000 in
set_option maxRecDepth 100000 in
theorem sX11_clearUnits (l : Launch) (D : DE) (n : Nat) (a0 : Nat) (A : AH) (g : AH) (hg : fX11_clearUnits n a0 A = some g) : Sm l D yX11_clearUnits cX11_clearUnits 2 none 1 21 [tR (some a0)] A (wU g).1 (wU g).2 := by
  refine Sm.of (ω := wU) (fX11_clearUnits n a0 A) [some (tR (some a0)), none] (by decide) (Nat.le_of_ble_eq_true rfl) rfl hg ?_
  intro p e R s m args below meth c X hin
  have X : Cx D cX11_clearUnits RX11 2 1 21 none p R s m args meth c := X
  unfold fX11_clearUnits
  refine rf_iconst X (0 : Int32) rfl dX11_clearUnits_0 ?_
  refine rf_istore_n X (ls' := [some (tR (some a0)), some (tI (0 : Int32))]) rfl (by decide) dX11_clearUnits_1 ?_
  refine rf_fix (fun i => ∀ (x2 : Int32) (A3 : AH), RfX X l e below wU (i x2 A3) 2 [some (tR (some a0)), some (tI x2)] [] A3) (fun _ _ => rf_none) (fun rc4 hrc4 => ?_) (fun j1 hj1 => ?_)
  · intro x2 A3
    refine rf_iload_n X rfl dX11_clearUnits_2 ?_
    refine rf_bipush X (8 : Int32) rfl dX11_clearUnits_3 ?_
    refine rf_icmp_ge X (tgt := 54) rfl dX11_clearUnits_5 (fun c5 => rf_pos c5 ?_) (fun c5 => rf_neg c5 ?_)
    · refine rf_aload_n X rfl dX11_clearUnits_54 ?_
      refine rf_bind (fun v6 hv6 => ?_)
      refine rf_bind (fun g7 hg7 => ?_)
      refine rf_callVU X c_X11_123 ⟨Nat.le_of_ble_eq_true rfl, Nat.le_of_ble_eq_true rfl⟩ [] rfl (Nat.le_of_ble_eq_true rfl) hv6 (sX11_freeAll l D n v6 A3 g7 hg7) dX11_clearUnits_55 ?_
      exact rf_vret X rfl dX11_clearUnits_58
    refine rf_aload_n X rfl dX11_clearUnits_8 ?_
    refine rf_bind (fun v8 hv8 => ?_)
    refine rf_getR X fl_X11_42 hv8 dX11_clearUnits_9 ?_
    refine rf_iload_n X rfl dX11_clearUnits_12 ?_
    refine rf_iconst X (0 : Int32) rfl dX11_clearUnits_13 ?_
    refine rf_bind (fun A9 hA9 => ?_)
    refine rf_iast X hA9 dX11_clearUnits_14 ?_
    refine rf_aload_n X rfl dX11_clearUnits_15 ?_
    refine rf_bind (fun v10 hv10 => ?_)
    refine rf_getR X fl_X11_45 hv10 dX11_clearUnits_16 ?_
    refine rf_iload_n X rfl dX11_clearUnits_19 ?_
    refine rf_iconst X (0 : Int32) rfl dX11_clearUnits_20 ?_
    refine rf_bind (fun A11 hA11 => ?_)
    refine rf_iast X hA11 dX11_clearUnits_21 ?_
    refine rf_aload_n X rfl dX11_clearUnits_22 ?_
    refine rf_bind (fun v12 hv12 => ?_)
    refine rf_getR X fl_X11_48 hv12 dX11_clearUnits_23 ?_
    refine rf_iload_n X rfl dX11_clearUnits_26 ?_
    refine rf_aload_n X rfl dX11_clearUnits_27 ?_
    refine rf_bind (fun v13 hv13 => ?_)
    refine rf_getI X fl_X11_13 hv13 dX11_clearUnits_28 ?_
    refine rf_iconst X (1 : Int32) rfl dX11_clearUnits_31 ?_
    refine rf_isub X dX11_clearUnits_32 ?_
    refine rf_bind (fun A14 hA14 => ?_)
    refine rf_iast X hA14 dX11_clearUnits_33 ?_
    refine rf_aload_n X rfl dX11_clearUnits_34 ?_
    refine rf_bind (fun v15 hv15 => ?_)
    refine rf_getR X fl_X11_51 hv15 dX11_clearUnits_35 ?_
    refine rf_iload_n X rfl dX11_clearUnits_38 ?_
    refine rf_iconst X (0 : Int32) rfl dX11_clearUnits_39 ?_
    refine rf_bind (fun A16 hA16 => ?_)
    refine rf_iast X hA16 dX11_clearUnits_40 ?_
    refine rf_aload_n X rfl dX11_clearUnits_41 ?_
    refine rf_bind (fun v17 hv17 => ?_)
    refine rf_getR X fl_X11_39 hv17 dX11_clearUnits_42 ?_
    refine rf_iload_n X rfl dX11_clearUnits_45 ?_
    refine rf_iconst X (0 : Int32) rfl dX11_clearUnits_46 ?_
    refine rf_bind (fun A18 hA18 => ?_)
    refine rf_iast X hA18 dX11_clearUnits_47 ?_
    refine rf_iinc X (x2 + (1 : Int32)) rfl rfl (ls' := [some (tR (some a0)), some (tI (x2 + (1 : Int32)))]) rfl (by decide) dX11_clearUnits_48 ?_
    refine rf_goto X (tgt := 2) rfl dX11_clearUnits_51 ?_
    exact rf_go (hrc4 (x2 + (1 : Int32)) A18) (And.intro rfl (And.intro rfl True.intro))
  exact rf_go (hj1 (0 : Int32) A) (And.intro rfl (And.intro rfl True.intro))

