/-! 20.g05: printed by gen/parts.py -/
set_option maxRecDepth 100000
theorem fl_X1_57 : FLr RX1 57 1 5 := ⟨RX1, TX1, 6, "WarpMill", "", rfl, by decide, in_X1, Or.inl q898, Or.inl rfl⟩
theorem fl_X1_72 : FLr RX1 72 7 3 := ⟨RX7, TX7, 26, "WarpMill$Machine", "WarpMill", rfl, by decide, in_X7, Or.inr q803, Or.inl rfl⟩
theorem fl_X1_76 : FLr RX1 76 7 21 := ⟨RX7, TX7, 26, "WarpMill$Machine", "WarpMill", rfl, by decide, in_X7, Or.inr q831, Or.inl rfl⟩
theorem fp_X7_138 : FL RX7 138 7 22 (.int) false := ⟨RX7, TX7, 26, tyX7, "WarpMill$Machine", "", rfl, by decide, in_X7, tyX7_ok, nmX7, Or.inl q832, Or.inl rfl, rfl, rfl, fun h => by cases h⟩
theorem fp_X7_141 : FL RX7 141 7 23 (.int) false := ⟨RX7, TX7, 26, tyX7, "WarpMill$Machine", "", rfl, by decide, in_X7, tyX7_ok, nmX7, Or.inl q834, Or.inl rfl, rfl, rfl, fun h => by cases h⟩
theorem fp_X7_144 : FL RX7 144 7 24 (.int) false := ⟨RX7, TX7, 26, tyX7, "WarpMill$Machine", "", rfl, by decide, in_X7, tyX7_ok, nmX7, Or.inl q836, Or.inl rfl, rfl, rfl, fun h => by cases h⟩
theorem fp_X7_147 : FL RX7 147 7 25 (.int) false := ⟨RX7, TX7, 26, tyX7, "WarpMill$Machine", "", rfl, by decide, in_X7, tyX7_ok, nmX7, Or.inl q838, Or.inl rfl, rfl, rfl, fun h => by cases h⟩
theorem fp_X8_52 : FL RX8 52 8 2 (.int) false := ⟨RX8, TX8, 5, tyX8, "WarpMill$Unit", "", rfl, by decide, in_X8, tyX8_ok, nmX8, Or.inl q733, Or.inl rfl, rfl, rfl, fun h => by cases h⟩
theorem fp_X8_55 : FL RX8 55 8 3 (.int) false := ⟨RX8, TX8, 5, tyX8, "WarpMill$Unit", "", rfl, by decide, in_X8, tyX8_ok, nmX8, Or.inl q736, Or.inl rfl, rfl, rfl, fun h => by cases h⟩
theorem fp_X8_58 : FL RX8 58 8 4 (.int) false := ⟨RX8, TX8, 5, tyX8, "WarpMill$Unit", "", rfl, by decide, in_X8, tyX8_ok, nmX8, Or.inl q739, Or.inl rfl, rfl, rfl, fun h => by cases h⟩
theorem fp_X7_82 : FL RX7 82 7 12 (.int) false := ⟨RX7, TX7, 26, tyX7, "WarpMill$Machine", "", rfl, by decide, in_X7, tyX7_ok, nmX7, Or.inl q815, Or.inl rfl, rfl, rfl, fun h => by cases h⟩
theorem fp_X7_85 : FL RX7 85 7 13 (.int) false := ⟨RX7, TX7, 26, tyX7, "WarpMill$Machine", "", rfl, by decide, in_X7, tyX7_ok, nmX7, Or.inl q817, Or.inl rfl, rfl, rfl, fun h => by cases h⟩
theorem fp_X7_88 : FL RX7 88 7 14 (.int) false := ⟨RX7, TX7, 26, tyX7, "WarpMill$Machine", "", rfl, by decide, in_X7, tyX7_ok, nmX7, Or.inl q818, Or.inl rfl, rfl, rfl, fun h => by cases h⟩
theorem fp_X7_91 : FL RX7 91 7 15 (.int) false := ⟨RX7, TX7, 26, tyX7, "WarpMill$Machine", "", rfl, by decide, in_X7, tyX7_ok, nmX7, Or.inl q819, Or.inl rfl, rfl, rfl, fun h => by cases h⟩
theorem fp_X7_94 : FL RX7 94 7 16 (.int) false := ⟨RX7, TX7, 26, tyX7, "WarpMill$Machine", "", rfl, by decide, in_X7, tyX7_ok, nmX7, Or.inl q820, Or.inl rfl, rfl, rfl, fun h => by cases h⟩
theorem fp_X7_97 : FL RX7 97 7 17 (.int) false := ⟨RX7, TX7, 26, tyX7, "WarpMill$Machine", "", rfl, by decide, in_X7, tyX7_ok, nmX7, Or.inl q822, Or.inl rfl, rfl, rfl, fun h => by cases h⟩
theorem fp_X7_100 : FL RX7 100 7 18 (.int) false := ⟨RX7, TX7, 26, tyX7, "WarpMill$Machine", "", rfl, by decide, in_X7, tyX7_ok, nmX7, Or.inl q824, Or.inl rfl, rfl, rfl, fun h => by cases h⟩
theorem fp_X7_103 : FL RX7 103 7 19 (.int) false := ⟨RX7, TX7, 26, tyX7, "WarpMill$Machine", "", rfl, by decide, in_X7, tyX7_ok, nmX7, Or.inl q826, Or.inl rfl, rfl, rfl, fun h => by cases h⟩
theorem fp_X7_106 : FL RX7 106 7 20 (.int) false := ⟨RX7, TX7, 26, tyX7, "WarpMill$Machine", "", rfl, by decide, in_X7, tyX7_ok, nmX7, Or.inl q828, Or.inl rfl, rfl, rfl, fun h => by cases h⟩
theorem fl_X7_75 : FLr RX7 75 7 9 := ⟨RX7, TX7, 26, "WarpMill$Machine", "", rfl, by decide, in_X7, Or.inl q811, Or.inl rfl⟩
theorem fp_X7_109 : FL RX7 109 9 1 (.int) false := ⟨RX9, TX9, 3, tyX9, "WarpMill$Cache", "WarpMill", rfl, by decide, in_X9, tyX9_ok, nmX9, Or.inr q783, Or.inl rfl, rfl, rfl, fun h => by cases h⟩
theorem fp_X7_112 : FL RX7 112 9 2 (.int) false := ⟨RX9, TX9, 3, tyX9, "WarpMill$Cache", "WarpMill", rfl, by decide, in_X9, tyX9_ok, nmX9, Or.inr q786, Or.inl rfl, rfl, rfl, fun h => by cases h⟩
theorem fl_X7_44 : FLr RX7 44 7 7 := ⟨RX7, TX7, 26, "WarpMill$Machine", "", rfl, by decide, in_X7, Or.inl q807, Or.inl rfl⟩
theorem fl_X7_115 : FLr RX7 115 9 0 := ⟨RX9, TX9, 3, "WarpMill$Cache", "WarpMill", rfl, by decide, in_X9, Or.inr q781, Or.inl rfl⟩
theorem fp_X7_128 : FL RX7 128 10 1 (.int) false := ⟨RX10, TX10, 2, tyX10, "WarpMill$Gate", "WarpMill", rfl, by decide, in_X10, tyX10_ok, nmX10, Or.inr q772, Or.inl rfl, rfl, rfl, fun h => by cases h⟩
theorem fl_X1_83 : FLr RX1 83 7 0 := ⟨RX7, TX7, 26, "WarpMill$Machine", "WarpMill", rfl, by decide, in_X7, Or.inr q797, Or.inl rfl⟩
theorem fl_X1_86 : FLr RX1 86 7 1 := ⟨RX7, TX7, 26, "WarpMill$Machine", "WarpMill", rfl, by decide, in_X7, Or.inr q799, Or.inl rfl⟩
theorem c_X1_61 : CV RX1 61 7 yX7_isOn cX7_isOn 1 (some Jvm.ClassFile.FieldType.boolean) 0 := ⟨TX7, 26, rfl, q916, q917, q918, q106, q919, ⟨by decide +kernel, by decide +kernel, by decide +kernel⟩⟩
theorem c_X1_65 : CS RX1 65 yX1_isPower cX1_isPower 2 (some Jvm.ClassFile.FieldType.boolean) 2 := ⟨q920, q921, q79, q922, ⟨by decide +kernel, by decide +kernel, by decide +kernel⟩⟩
theorem c_X1_69 : CV RX1 69 7 yX7_free cX7_free 2 none 0 := ⟨TX7, 26, rfl, q923, q924, q925, q106, q926, ⟨by decide +kernel, by decide +kernel, by decide +kernel⟩⟩
theorem c_X1_79 : CV RX1 79 0 yJ2_set cJ2_set 4 (some (Jvm.ClassFile.FieldType.object "java/lang/Object")) 2 := ⟨TJ2, 3, rfl, q950, q951, q952, q82, q953, ⟨by decide +kernel, by decide +kernel, by decide +kernel⟩⟩
theorem c_X8_48 : CV RX8 48 8 yX8_clear cX8_clear 4 none 1 := ⟨TX8, 5, rfl, q975, q930, q931, q108, q932, ⟨by decide +kernel, by decide +kernel, by decide +kernel⟩⟩
theorem c_X7_131 : CV RX7 131 7 yX7_forget cX7_forget 1 none 0 := ⟨TX7, 26, rfl, q967, q969, qs6, q106, q970, ⟨by decide +kernel, by decide +kernel, by decide +kernel⟩⟩
theorem c_X7_134 : CV RX7 134 8 yX8_begin cX8_begin 2 none 1 := ⟨TX8, 5, rfl, q971, q972, q973, q108, q974, ⟨by decide +kernel, by decide +kernel, by decide +kernel⟩⟩
theorem c_X1_89 : CV RX1 89 7 yX7_begin cX7_begin 4 none 2 := ⟨TX7, 26, rfl, q962, q963, q964, q106, q965, ⟨by decide +kernel, by decide +kernel, by decide +kernel⟩⟩
theorem c_X7_150 : CV RX7 150 7 yX7_free cX7_free 2 none 0 := ⟨TX7, 26, rfl, q984, q924, q925, q106, q926, ⟨by decide +kernel, by decide +kernel, by decide +kernel⟩⟩
theorem c_X1_105 : CV RX1 105 7 yX7_stop cX7_stop 1 none 0 := ⟨TX7, 26, rfl, q980, q981, q982, q106, q983, ⟨by decide +kernel, by decide +kernel, by decide +kernel⟩⟩
theorem dX1_sizes_0 : decode cX1_sizes 0 = .ok (.aload_n 0, 1) := by decide +kernel
theorem dX1_sizes_1 : decode cX1_sizes 1 = .ok (.getfield 57, 3) := by decide +kernel
theorem dX1_sizes_4 : decode cX1_sizes 4 = .ok (.invokevirtual 61, 3) := by decide +kernel
theorem dX1_sizes_7 : decode cX1_sizes 7 = .ok (.ifCond .ne 73, 3) := by decide +kernel
theorem dX1_sizes_10 : decode cX1_sizes 10 = .ok (.iload_n 1, 1) := by decide +kernel
theorem dX1_sizes_11 : decode cX1_sizes 11 = .ok (.bipush 32, 2) := by decide +kernel
theorem dX1_sizes_13 : decode cX1_sizes 13 = .ok (.invokestatic 65, 3) := by decide +kernel
theorem dX1_sizes_16 : decode cX1_sizes 16 = .ok (.ifCond .eq 64, 3) := by decide +kernel
theorem dX1_sizes_19 : decode cX1_sizes 19 = .ok (.iload_n 2, 1) := by decide +kernel
theorem dX1_sizes_20 : decode cX1_sizes 20 = .ok (.iconst 1, 1) := by decide +kernel
theorem dX1_sizes_21 : decode cX1_sizes 21 = .ok (.if_icmp .lt 59, 3) := by decide +kernel
theorem dX1_sizes_24 : decode cX1_sizes 24 = .ok (.iload_n 2, 1) := by decide +kernel
theorem dX1_sizes_25 : decode cX1_sizes 25 = .ok (.bipush 16, 2) := by decide +kernel
theorem dX1_sizes_27 : decode cX1_sizes 27 = .ok (.if_icmp .gt 53, 3) := by decide +kernel
theorem dX1_sizes_30 : decode cX1_sizes 30 = .ok (.iload_n 3, 1) := by decide +kernel
theorem dX1_sizes_31 : decode cX1_sizes 31 = .ok (.iconst 1, 1) := by decide +kernel
theorem dX1_sizes_32 : decode cX1_sizes 32 = .ok (.if_icmp .lt 48, 3) := by decide +kernel
theorem dX1_sizes_35 : decode cX1_sizes 35 = .ok (.iload_n 3, 1) := by decide +kernel
theorem dX1_sizes_36 : decode cX1_sizes 36 = .ok (.bipush 8, 2) := by decide +kernel
theorem dX1_sizes_38 : decode cX1_sizes 38 = .ok (.if_icmp .gt 42, 3) := by decide +kernel
theorem dX1_sizes_41 : decode cX1_sizes 41 = .ok (.iload 4, 2) := by decide +kernel
theorem dX1_sizes_43 : decode cX1_sizes 43 = .ok (.bipush 32, 2) := by decide +kernel
theorem dX1_sizes_45 : decode cX1_sizes 45 = .ok (.invokestatic 65, 3) := by decide +kernel
theorem dX1_sizes_48 : decode cX1_sizes 48 = .ok (.ifCond .eq 32, 3) := by decide +kernel
theorem dX1_sizes_51 : decode cX1_sizes 51 = .ok (.iload 5, 2) := by decide +kernel
theorem dX1_sizes_53 : decode cX1_sizes 53 = .ok (.bipush 8, 2) := by decide +kernel
theorem dX1_sizes_55 : decode cX1_sizes 55 = .ok (.invokestatic 65, 3) := by decide +kernel
theorem dX1_sizes_58 : decode cX1_sizes 58 = .ok (.ifCond .eq 22, 3) := by decide +kernel
theorem dX1_sizes_61 : decode cX1_sizes 61 = .ok (.iload 6, 2) := by decide +kernel
theorem dX1_sizes_63 : decode cX1_sizes 63 = .ok (.sipush 4096, 3) := by decide +kernel
theorem dX1_sizes_66 : decode cX1_sizes 66 = .ok (.invokestatic 65, 3) := by decide +kernel
theorem dX1_sizes_69 : decode cX1_sizes 69 = .ok (.ifCond .eq 11, 3) := by decide +kernel
theorem dX1_sizes_72 : decode cX1_sizes 72 = .ok (.iload 6, 2) := by decide +kernel
theorem dX1_sizes_74 : decode cX1_sizes 74 = .ok (.sipush 512, 3) := by decide +kernel
theorem dX1_sizes_77 : decode cX1_sizes 77 = .ok (.if_icmp .ge 5, 3) := by decide +kernel
theorem dX1_sizes_80 : decode cX1_sizes 80 = .ok (.iconst 0, 1) := by decide +kernel
theorem dX1_sizes_81 : decode cX1_sizes 81 = .ok (.ireturn, 1) := by decide +kernel
theorem dX1_sizes_82 : decode cX1_sizes 82 = .ok (.aload_n 0, 1) := by decide +kernel
theorem dX1_sizes_83 : decode cX1_sizes 83 = .ok (.getfield 57, 3) := by decide +kernel
theorem dX1_sizes_86 : decode cX1_sizes 86 = .ok (.invokevirtual 69, 3) := by decide +kernel
theorem dX1_sizes_89 : decode cX1_sizes 89 = .ok (.iload 6, 2) := by decide +kernel
theorem dX1_sizes_91 : decode cX1_sizes 91 = .ok (.istore 7, 2) := by decide +kernel
theorem dX1_sizes_93 : decode cX1_sizes 93 = .ok (.iload 7, 2) := by decide +kernel
theorem dX1_sizes_95 : decode cX1_sizes 95 = .ok (.aload_n 0, 1) := by decide +kernel
theorem dX1_sizes_96 : decode cX1_sizes 96 = .ok (.getfield 57, 3) := by decide +kernel
theorem dX1_sizes_99 : decode cX1_sizes 99 = .ok (.getfield 72, 3) := by decide +kernel
theorem dX1_sizes_102 : decode cX1_sizes 102 = .ok (.if_icmp .ge 17, 3) := by decide +kernel
theorem dX1_sizes_105 : decode cX1_sizes 105 = .ok (.aload_n 0, 1) := by decide +kernel
theorem dX1_sizes_106 : decode cX1_sizes 106 = .ok (.getfield 18, 3) := by decide +kernel
theorem dX1_sizes_109 : decode cX1_sizes 109 = .ok (.iload 7, 2) := by decide +kernel
theorem dX1_sizes_111 : decode cX1_sizes 111 = .ok (.iconst 0, 1) := by decide +kernel
theorem dX1_sizes_112 : decode cX1_sizes 112 = .ok (.iastore, 1) := by decide +kernel
theorem dX1_sizes_113 : decode cX1_sizes 113 = .ok (.iinc 7 1, 3) := by decide +kernel
theorem dX1_sizes_116 : decode cX1_sizes 116 = .ok (.goto (-23), 3) := by decide +kernel
theorem dX1_sizes_119 : decode cX1_sizes 119 = .ok (.aload_n 0, 1) := by decide +kernel
theorem dX1_sizes_120 : decode cX1_sizes 120 = .ok (.new 52, 3) := by decide +kernel
theorem dX1_sizes_123 : decode cX1_sizes 123 = .ok (.dup, 1) := by decide +kernel
theorem dX1_sizes_124 : decode cX1_sizes 124 = .ok (.iload_n 1, 1) := by decide +kernel
theorem dX1_sizes_125 : decode cX1_sizes 125 = .ok (.iload_n 2, 1) := by decide +kernel
theorem dX1_sizes_126 : decode cX1_sizes 126 = .ok (.iload_n 3, 1) := by decide +kernel
theorem dX1_sizes_127 : decode cX1_sizes 127 = .ok (.iload 4, 2) := by decide +kernel
theorem dX1_sizes_129 : decode cX1_sizes 129 = .ok (.iload 5, 2) := by decide +kernel
theorem dX1_sizes_131 : decode cX1_sizes 131 = .ok (.iload 6, 2) := by decide +kernel
theorem dX1_sizes_133 : decode cX1_sizes 133 = .ok (.aload_n 0, 1) := by decide +kernel
theorem dX1_sizes_134 : decode cX1_sizes 134 = .ok (.getfield 14, 3) := by decide +kernel
theorem dX1_sizes_137 : decode cX1_sizes 137 = .ok (.aload_n 0, 1) := by decide +kernel
theorem dX1_sizes_138 : decode cX1_sizes 138 = .ok (.getfield 18, 3) := by decide +kernel
theorem dX1_sizes_141 : decode cX1_sizes 141 = .ok (.aload_n 0, 1) := by decide +kernel
theorem dX1_sizes_142 : decode cX1_sizes 142 = .ok (.getfield 25, 3) := by decide +kernel
theorem dX1_sizes_145 : decode cX1_sizes 145 = .ok (.aload_n 0, 1) := by decide +kernel
theorem dX1_sizes_146 : decode cX1_sizes 146 = .ok (.getfield 32, 3) := by decide +kernel
theorem dX1_sizes_149 : decode cX1_sizes 149 = .ok (.aload_n 0, 1) := by decide +kernel
theorem dX1_sizes_150 : decode cX1_sizes 150 = .ok (.getfield 39, 3) := by decide +kernel
theorem dX1_sizes_153 : decode cX1_sizes 153 = .ok (.aload_n 0, 1) := by decide +kernel
theorem dX1_sizes_154 : decode cX1_sizes 154 = .ok (.getfield 57, 3) := by decide +kernel
theorem dX1_sizes_157 : decode cX1_sizes 157 = .ok (.getfield 76, 3) := by decide +kernel
theorem dX1_sizes_160 : decode cX1_sizes 160 = .ok (.invokespecial 54, 3) := by decide +kernel
theorem dX1_sizes_163 : decode cX1_sizes 163 = .ok (.putfield 57, 3) := by decide +kernel
theorem dX1_sizes_166 : decode cX1_sizes 166 = .ok (.iconst 1, 1) := by decide +kernel
theorem dX1_sizes_167 : decode cX1_sizes 167 = .ok (.ireturn, 1) := by decide +kernel
def fX1_sizes (n : Nat) (a0 : Nat) (p1 : Int32) (p2 : Int32) (p3 : Int32) (p4 : Int32) (p5 : Int32) (p6 : Int32) (A : AH) : Option (Int32 × AH) :=
(gR A (some a0) 1 5).bind fun v1 =>
(rcv A v1 7).bind fun v2 =>
(fX7_isOn v2 A).bind fun g3 =>
jn (some ((nb (0 : Int32)), A)) fun j4 =>
if g3 = 0 then ((fX1_isPower p1 (32 : Int32) A).bind fun g6 =>
if (((((g6 = 0) ∨ (p2 < (1 : Int32))) ∨ ((16 : Int32) < p2)) ∨ (p3 < (1 : Int32))) ∨ ((8 : Int32) < p3)) then (j4) else
(fX1_isPower p4 (32 : Int32) A).bind fun g7 =>
if g7 = 0 then (j4) else
(fX1_isPower p5 (8 : Int32) A).bind fun g9 =>
if g9 = 0 then (j4) else
(fX1_isPower p6 (4096 : Int32) A).bind fun g11 =>
if ((g11 = 0) ∨ (¬ ((512 : Int32) ≤ p6))) then (j4) else
(fX7_free n v2 A).bind fun g12 =>
jl (fixG (fun _ _ => none) (fun (rc16 : (Int32) → (AH) → Option (Int32 × AH)) (x14 : Int32) (A15 : AH) =>
(gR A15 (some a0) 1 5).bind fun v17 =>
(gI A15 v17 7 3).bind fun v18 =>
if v18 ≤ x14 then ((nO A15 7 dfX7).bind fun A20 =>
(gR A20 (some a0) 1 0).bind fun v21 =>
(gR A20 (some a0) 1 1).bind fun v22 =>
(gR A20 (some a0) 1 2).bind fun v23 =>
(gR A20 (some a0) 1 3).bind fun v24 =>
(gR A20 (some a0) 1 4).bind fun v25 =>
(gR A20 (some a0) 1 5).bind fun v26 =>
(gI A20 v26 7 21).bind fun v27 =>
(fX7_init n (hN A15) p1 p2 p3 p4 p5 p6 v21 v22 v23 v24 v25 v27 A20).bind fun g28 =>
(pR g28 (some a0) 1 5 (some (hN A15))).bind fun A29 =>
some ((nb (1 : Int32)), A29)) else
(gR A15 (some a0) 1 1).bind fun v30 =>
(sI A15 v30 x14 (0 : Int32)).bind fun A31 =>
rc16 (x14 + (1 : Int32)) A31) n) fun j13 =>
j13 p6 g12) else
j4

set_option maxHeartbeats 4000000 in
set_option maxRecDepth 100000 in
theorem sX1_sizes (l : Launch) (D : DE) (n : Nat) (a0 : Nat) (p1 : Int32) (p2 : Int32) (p3 : Int32) (p4 : Int32) (p5 : Int32) (p6 : Int32) (A : AH) (g : Int32 × AH) (hg : fX1_sizes n a0 p1 p2 p3 p4 p5 p6 A = some g) : Sm l D yX1_sizes cX1_sizes 8 (some Jvm.ClassFile.FieldType.boolean) 10 259 [tR (some a0), tI p1, tI p2, tI p3, tI p4, tI p5, tI p6] A (wI g).1 (wI g).2 := by
  refine Sm.of (ω := wI) (fX1_sizes n a0 p1 p2 p3 p4 p5 p6 A) [some (tR (some a0)), some (tI p1), some (tI p2), some (tI p3), some (tI p4), some (tI p5), some (tI p6), none] (by decide) (Nat.le_of_ble_eq_true rfl) rfl hg ?_
  intro p e R s m args below meth c X hin
  have X : Cx D cX1_sizes RX1 8 10 259 (some Jvm.ClassFile.FieldType.boolean) p R s m args meth c := X
  unfold fX1_sizes
  refine rf_aload_n X rfl dX1_sizes_0 ?_
  refine rf_bind (fun v1 hv1 => ?_)
  refine rf_getR X fl_X1_57 hv1 dX1_sizes_1 ?_
  refine rf_bind (fun v2 hv2 => ?_)
  refine rf_bind (fun g3 hg3 => ?_)
  refine rf_callVI X c_X1_61 ⟨Nat.le_of_ble_eq_true rfl, Nat.le_of_ble_eq_true rfl⟩ [] rfl (Nat.le_of_ble_eq_true rfl) hv2 (sX7_isOn l D v2 A g3 hg3) dX1_sizes_4 ?_
  refine rf_jn2 (fun i => RfX X l e below wI i 80 [none, none, none, none, none, none, none, none] [] A) ?_ (fun j4 hj4 => ?_)
  · show RfX X l e below _ _ _ _ _ _
    refine rf_iconst X (0 : Int32) rfl dX1_sizes_80 ?_
    exact rf_zret X rfl dX1_sizes_81
  refine rf_if_ne X (tgt := 80) rfl dX1_sizes_7 (fun c5 => rf_neg c5 ?_) (fun c5 => rf_pos c5 ?_)
  · exact rf_go hj4 True.intro
  refine rf_iload_n X rfl dX1_sizes_10 ?_
  refine rf_bipush X (32 : Int32) rfl dX1_sizes_11 ?_
  refine rf_bind (fun g6 hg6 => ?_)
  refine rf_callSI X c_X1_65 ⟨Nat.le_of_ble_eq_true rfl, Nat.le_of_ble_eq_true rfl⟩ [tI p1, tI (32 : Int32)] rfl (Nat.le_of_ble_eq_true rfl) (sX1_isPower l D p1 (32 : Int32) A g6 hg6) dX1_sizes_13 ?_
  refine rf_br 80 41 [some (tR (some a0)), some (tI p1), some (tI p2), some (tI p3), some (tI p4), some (tI p5), some (tI p6), none] [some (tR (some a0)), some (tI p1), some (tI p2), some (tI p3), some (tI p4), some (tI p5), some (tI p6), none] [] [] (fun _ => ?_) (fun _ => ?_) (fun _ jT jF => ?_)
  · exact rf_go hj4 True.intro
  · refine rf_iload X rfl dX1_sizes_41 ?_
    refine rf_bipush X (32 : Int32) rfl dX1_sizes_43 ?_
    refine rf_bind (fun g7 hg7 => ?_)
    refine rf_callSI X c_X1_65 ⟨Nat.le_of_ble_eq_true rfl, Nat.le_of_ble_eq_true rfl⟩ [tI p4, tI (32 : Int32)] rfl (Nat.le_of_ble_eq_true rfl) (sX1_isPower l D p4 (32 : Int32) A g7 hg7) dX1_sizes_45 ?_
    refine rf_if_eq X (tgt := 80) rfl dX1_sizes_48 (fun c8 => rf_pos c8 ?_) (fun c8 => rf_neg c8 ?_)
    · exact rf_go hj4 True.intro
    refine rf_iload X rfl dX1_sizes_51 ?_
    refine rf_bipush X (8 : Int32) rfl dX1_sizes_53 ?_
    refine rf_bind (fun g9 hg9 => ?_)
    refine rf_callSI X c_X1_65 ⟨Nat.le_of_ble_eq_true rfl, Nat.le_of_ble_eq_true rfl⟩ [tI p5, tI (8 : Int32)] rfl (Nat.le_of_ble_eq_true rfl) (sX1_isPower l D p5 (8 : Int32) A g9 hg9) dX1_sizes_55 ?_
    refine rf_if_eq X (tgt := 80) rfl dX1_sizes_58 (fun c10 => rf_pos c10 ?_) (fun c10 => rf_neg c10 ?_)
    · exact rf_go hj4 True.intro
    refine rf_iload X rfl dX1_sizes_61 ?_
    refine rf_sipush X (4096 : Int32) rfl dX1_sizes_63 ?_
    refine rf_bind (fun g11 hg11 => ?_)
    refine rf_callSI X c_X1_65 ⟨Nat.le_of_ble_eq_true rfl, Nat.le_of_ble_eq_true rfl⟩ [tI p6, tI (4096 : Int32)] rfl (Nat.le_of_ble_eq_true rfl) (sX1_isPower l D p6 (4096 : Int32) A g11 hg11) dX1_sizes_66 ?_
    refine rf_br 80 82 [some (tR (some a0)), some (tI p1), some (tI p2), some (tI p3), some (tI p4), some (tI p5), some (tI p6), none] [some (tR (some a0)), some (tI p1), some (tI p2), some (tI p3), some (tI p4), some (tI p5), some (tI p6), none] [] [] (fun _ => ?_) (fun _ => ?_) (fun _ jT jF => ?_)
    · exact rf_go hj4 True.intro
    · refine rf_aload_n X rfl dX1_sizes_82 ?_
      refine rf_getR X fl_X1_57 hv1 dX1_sizes_83 ?_
      refine rf_bind (fun g12 hg12 => ?_)
      refine rf_callVU X c_X1_69 ⟨Nat.le_of_ble_eq_true rfl, Nat.le_of_ble_eq_true rfl⟩ [] rfl (Nat.le_of_ble_eq_true rfl) hv2 (sX7_free l D n v2 A g12 hg12) dX1_sizes_86 ?_
      refine rf_iload X rfl dX1_sizes_89 ?_
      refine rf_istore X (ls' := [some (tR (some a0)), some (tI p1), some (tI p2), some (tI p3), some (tI p4), some (tI p5), some (tI p6), some (tI p6)]) rfl (by decide) dX1_sizes_91 ?_
      refine rf_fix (fun i => ∀ (x14 : Int32) (A15 : AH), RfX X l e below wI (i x14 A15) 93 [some (tR (some a0)), some (tI p1), some (tI p2), some (tI p3), some (tI p4), some (tI p5), some (tI p6), some (tI x14)] [] A15) (fun _ _ => rf_none) (fun rc16 hrc16 => ?_) (fun j13 hj13 => ?_)
      · intro x14 A15
        refine rf_iload X rfl dX1_sizes_93 ?_
        refine rf_aload_n X rfl dX1_sizes_95 ?_
        refine rf_bind (fun v17 hv17 => ?_)
        refine rf_getR X fl_X1_57 hv17 dX1_sizes_96 ?_
        refine rf_bind (fun v18 hv18 => ?_)
        refine rf_getI X fl_X1_72 hv18 dX1_sizes_99 ?_
        refine rf_icmp_ge X (tgt := 119) rfl dX1_sizes_102 (fun c19 => rf_pos c19 ?_) (fun c19 => rf_neg c19 ?_)
        · refine rf_aload_n X rfl dX1_sizes_119 ?_
          refine rf_bind (fun A20 hA20 => ?_)
          refine rf_new X nw_X1_52 hA20 dX1_sizes_120 ?_
          refine rf_dup X rfl dX1_sizes_123 ?_
          refine rf_iload_n X rfl dX1_sizes_124 ?_
          refine rf_iload_n X rfl dX1_sizes_125 ?_
          refine rf_iload_n X rfl dX1_sizes_126 ?_
          refine rf_iload X rfl dX1_sizes_127 ?_
          refine rf_iload X rfl dX1_sizes_129 ?_
          refine rf_iload X rfl dX1_sizes_131 ?_
          refine rf_aload_n X rfl dX1_sizes_133 ?_
          refine rf_bind (fun v21 hv21 => ?_)
          refine rf_getR X fl_X1_14 hv21 dX1_sizes_134 ?_
          refine rf_aload_n X rfl dX1_sizes_137 ?_
          refine rf_bind (fun v22 hv22 => ?_)
          refine rf_getR X fl_X1_18 hv22 dX1_sizes_138 ?_
          refine rf_aload_n X rfl dX1_sizes_141 ?_
          refine rf_bind (fun v23 hv23 => ?_)
          refine rf_getR X fl_X1_25 hv23 dX1_sizes_142 ?_
          refine rf_aload_n X rfl dX1_sizes_145 ?_
          refine rf_bind (fun v24 hv24 => ?_)
          refine rf_getR X fl_X1_32 hv24 dX1_sizes_146 ?_
          refine rf_aload_n X rfl dX1_sizes_149 ?_
          refine rf_bind (fun v25 hv25 => ?_)
          refine rf_getR X fl_X1_39 hv25 dX1_sizes_150 ?_
          refine rf_aload_n X rfl dX1_sizes_153 ?_
          refine rf_bind (fun v26 hv26 => ?_)
          refine rf_getR X fl_X1_57 hv26 dX1_sizes_154 ?_
          refine rf_bind (fun v27 hv27 => ?_)
          refine rf_getI X fl_X1_76 hv27 dX1_sizes_157 ?_
          refine rf_bind (fun g28 hg28 => ?_)
          refine rf_callI X c_X1_54 ⟨Nat.le_of_ble_eq_true rfl, Nat.le_of_ble_eq_true rfl⟩ [tI p1, tI p2, tI p3, tI p4, tI p5, tI p6, tR v21, tR v22, tR v23, tR v24, tR v25, tI v27] rfl (Nat.le_of_ble_eq_true rfl) (sX7_init l D n (hN A15) p1 p2 p3 p4 p5 p6 v21 v22 v23 v24 v25 v27 A20 g28 hg28) dX1_sizes_160 ?_
          refine rf_bind (fun A29 hA29 => ?_)
          refine rf_putR X fp_X1_57 (fun h => by cases h) rfl hA29 dX1_sizes_163 ?_
          refine rf_iconst X (1 : Int32) rfl dX1_sizes_166 ?_
          exact rf_zret X rfl dX1_sizes_167
        refine rf_aload_n X rfl dX1_sizes_105 ?_
        refine rf_bind (fun v30 hv30 => ?_)
        refine rf_getR X fl_X1_18 hv30 dX1_sizes_106 ?_
        refine rf_iload X rfl dX1_sizes_109 ?_
        refine rf_iconst X (0 : Int32) rfl dX1_sizes_111 ?_
        refine rf_bind (fun A31 hA31 => ?_)
        refine rf_iast X hA31 dX1_sizes_112 ?_
        refine rf_iinc X (x14 + (1 : Int32)) rfl rfl (ls' := [some (tR (some a0)), some (tI p1), some (tI p2), some (tI p3), some (tI p4), some (tI p5), some (tI p6), some (tI (x14 + (1 : Int32)))]) rfl (by decide) dX1_sizes_113 ?_
        refine rf_goto X (tgt := 93) rfl dX1_sizes_116 ?_
        exact rf_go (hrc16 (x14 + (1 : Int32)) A31) (And.intro rfl (And.intro rfl (And.intro rfl (And.intro rfl (And.intro rfl (And.intro rfl (And.intro rfl (And.intro rfl True.intro))))))))
      exact rf_go (hj13 p6 g12) (And.intro rfl (And.intro rfl (And.intro rfl (And.intro rfl (And.intro rfl (And.intro rfl (And.intro rfl (And.intro rfl True.intro))))))))
    refine rf_if_eq X (tgt := 80) rfl dX1_sizes_69 (fun c32 => ?_) (fun c32 => ?_)
    · exact jT (Or.inl c32)
    refine rf_iload X rfl dX1_sizes_72 ?_
    refine rf_sipush X (512 : Int32) rfl dX1_sizes_74 ?_
    refine rf_icmp_ge X (tgt := 82) rfl dX1_sizes_77 (fun c33 => ?_) (fun c33 => ?_)
    · exact jF (fun z => z.elim c32 (fun z => z c33))
    exact jT (Or.inr c33)
  refine rf_if_eq X (tgt := 80) rfl dX1_sizes_16 (fun c34 => ?_) (fun c34 => ?_)
  · exact jT (Or.inl (Or.inl (Or.inl (Or.inl c34))))
  refine rf_iload_n X rfl dX1_sizes_19 ?_
  refine rf_iconst X (1 : Int32) rfl dX1_sizes_20 ?_
  refine rf_icmp_lt X (tgt := 80) rfl dX1_sizes_21 (fun c35 => ?_) (fun c35 => ?_)
  · exact jT (Or.inl (Or.inl (Or.inl (Or.inr c35))))
  refine rf_iload_n X rfl dX1_sizes_24 ?_
  refine rf_bipush X (16 : Int32) rfl dX1_sizes_25 ?_
  refine rf_icmp_gt X (tgt := 80) rfl dX1_sizes_27 (fun c36 => ?_) (fun c36 => ?_)
  · exact jT (Or.inl (Or.inl (Or.inr c36)))
  refine rf_iload_n X rfl dX1_sizes_30 ?_
  refine rf_iconst X (1 : Int32) rfl dX1_sizes_31 ?_
  refine rf_icmp_lt X (tgt := 80) rfl dX1_sizes_32 (fun c37 => ?_) (fun c37 => ?_)
  · exact jT (Or.inl (Or.inr c37))
  refine rf_iload_n X rfl dX1_sizes_35 ?_
  refine rf_bipush X (8 : Int32) rfl dX1_sizes_36 ?_
  refine rf_icmp_gt X (tgt := 80) rfl dX1_sizes_38 (fun c38 => ?_) (fun c38 => ?_)
  · exact jT (Or.inr c38)
  exact jF (fun z => z.elim (fun z => z.elim (fun z => z.elim (fun z => z.elim c34 c35) c36) c37) c38)

theorem dX1_word_0 : decode cX1_word 0 = .ok (.iload_n 1, 1) := by decide +kernel
theorem dX1_word_1 : decode cX1_word 1 = .ok (.ifCond .lt 20, 3) := by decide +kernel
theorem dX1_word_4 : decode cX1_word 4 = .ok (.iload_n 1, 1) := by decide +kernel
theorem dX1_word_5 : decode cX1_word 5 = .ok (.sipush 128, 3) := by decide +kernel
theorem dX1_word_8 : decode cX1_word 8 = .ok (.if_icmp .ge 13, 3) := by decide +kernel
theorem dX1_word_11 : decode cX1_word 11 = .ok (.aload_n 0, 1) := by decide +kernel
theorem dX1_word_12 : decode cX1_word 12 = .ok (.getfield 57, 3) := by decide +kernel
theorem dX1_word_15 : decode cX1_word 15 = .ok (.invokevirtual 61, 3) := by decide +kernel
theorem dX1_word_18 : decode cX1_word 18 = .ok (.ifCond .eq 5, 3) := by decide +kernel
theorem dX1_word_21 : decode cX1_word 21 = .ok (.iconst 0, 1) := by decide +kernel
theorem dX1_word_22 : decode cX1_word 22 = .ok (.ireturn, 1) := by decide +kernel
theorem dX1_word_23 : decode cX1_word 23 = .ok (.aload_n 0, 1) := by decide +kernel
theorem dX1_word_24 : decode cX1_word 24 = .ok (.getfield 14, 3) := by decide +kernel
theorem dX1_word_27 : decode cX1_word 27 = .ok (.iload_n 1, 1) := by decide +kernel
theorem dX1_word_28 : decode cX1_word 28 = .ok (.new 43, 3) := by decide +kernel
theorem dX1_word_31 : decode cX1_word 31 = .ok (.dup, 1) := by decide +kernel
theorem dX1_word_32 : decode cX1_word 32 = .ok (.lload_n 2, 1) := by decide +kernel
theorem dX1_word_33 : decode cX1_word 33 = .ok (.invokespecial 45, 3) := by decide +kernel
theorem dX1_word_36 : decode cX1_word 36 = .ok (.invokevirtual 79, 3) := by decide +kernel
theorem dX1_word_39 : decode cX1_word 39 = .ok (.pop, 1) := by decide +kernel
theorem dX1_word_40 : decode cX1_word 40 = .ok (.iconst 1, 1) := by decide +kernel
theorem dX1_word_41 : decode cX1_word 41 = .ok (.ireturn, 1) := by decide +kernel
def fX1_word (a0 : Nat) (p1 : Int32) (p2 : Int64) (A : AH) : Option (Int32 × AH) :=
jn (some ((nb (0 : Int32)), A)) fun j1 =>
if ((p1 < 0) ∨ ((128 : Int32) ≤ p1)) then (j1) else
(gR A (some a0) 1 5).bind fun v2 =>
(rcv A v2 7).bind fun v3 =>
(fX7_isOn v3 A).bind fun g4 =>
if g4 = 0 then ((gR A (some a0) 1 0).bind fun v6 =>
(nO A 5 dfX5).bind fun A7 =>
(fX5_init (hN A) p2 A7).bind fun g8 =>
(rcv g8 v6 0).bind fun v9 =>
(fJ2_set v9 p1 (some (hN A)) g8).bind fun g10 =>
some ((nb (1 : Int32)), g10.2)) else
j1

set_option maxHeartbeats 4000000 in
set_option maxRecDepth 100000 in
theorem sX1_word (l : Launch) (D : DE) (a0 : Nat) (p1 : Int32) (p2 : Int64) (A : AH) (g : Int32 × AH) (hg : fX1_word a0 p1 p2 A = some g) : Sm l D yX1_word cX1_word 4 (some Jvm.ClassFile.FieldType.boolean) 3 66 [tR (some a0), tI p1, tL p2] A (wI g).1 (wI g).2 := by
  refine Sm.of (ω := wI) (fX1_word a0 p1 p2 A) [some (tR (some a0)), some (tI p1), some (tL p2), none] (by decide) (Nat.le_of_ble_eq_true rfl) rfl hg ?_
  intro p e R s m args below meth c X hin
  have X : Cx D cX1_word RX1 4 3 66 (some Jvm.ClassFile.FieldType.boolean) p R s m args meth c := X
  unfold fX1_word
  refine rf_iload_n X rfl dX1_word_0 ?_
  refine rf_jn2 (fun i => RfX X l e below wI i 21 [none, none, none, none] [] A) ?_ (fun j1 hj1 => ?_)
  · show RfX X l e below _ _ _ _ _ _
    refine rf_iconst X (0 : Int32) rfl dX1_word_21 ?_
    exact rf_zret X rfl dX1_word_22
  refine rf_br 21 11 [some (tR (some a0)), some (tI p1), some (tL p2), none] [some (tR (some a0)), some (tI p1), some (tL p2), none] [] [] (fun _ => ?_) (fun _ => ?_) (fun _ jT jF => ?_)
  · exact rf_go hj1 True.intro
  · refine rf_aload_n X rfl dX1_word_11 ?_
    refine rf_bind (fun v2 hv2 => ?_)
    refine rf_getR X fl_X1_57 hv2 dX1_word_12 ?_
    refine rf_bind (fun v3 hv3 => ?_)
    refine rf_bind (fun g4 hg4 => ?_)
    refine rf_callVI X c_X1_61 ⟨Nat.le_of_ble_eq_true rfl, Nat.le_of_ble_eq_true rfl⟩ [] rfl (Nat.le_of_ble_eq_true rfl) hv3 (sX7_isOn l D v3 A g4 hg4) dX1_word_15 ?_
    refine rf_if_eq X (tgt := 23) rfl dX1_word_18 (fun c5 => rf_pos c5 ?_) (fun c5 => rf_neg c5 ?_)
    · refine rf_aload_n X rfl dX1_word_23 ?_
      refine rf_bind (fun v6 hv6 => ?_)
      refine rf_getR X fl_X1_14 hv6 dX1_word_24 ?_
      refine rf_iload_n X rfl dX1_word_27 ?_
      refine rf_bind (fun A7 hA7 => ?_)
      refine rf_new X nw_X1_43 hA7 dX1_word_28 ?_
      refine rf_dup X rfl dX1_word_31 ?_
      refine rf_lload_n X rfl dX1_word_32 ?_
      refine rf_bind (fun g8 hg8 => ?_)
      refine rf_callI X c_X1_45 ⟨Nat.le_of_ble_eq_true rfl, Nat.le_of_ble_eq_true rfl⟩ [tL p2] rfl (Nat.le_of_ble_eq_true rfl) (sX5_init l D (hN A) p2 A7 g8 hg8) dX1_word_33 ?_
      refine rf_bind (fun v9 hv9 => ?_)
      refine rf_bind (fun g10 hg10 => ?_)
      refine rf_callVI X c_X1_79 ⟨Nat.le_of_ble_eq_true rfl, Nat.le_of_ble_eq_true rfl⟩ [tI p1, tR (some (hN A))] rfl (Nat.le_of_ble_eq_true rfl) hv9 (sJ2_set l D v9 p1 (some (hN A)) g8 g10 hg10) dX1_word_36 ?_
      refine rf_pop X rfl dX1_word_39 ?_
      refine rf_iconst X (1 : Int32) rfl dX1_word_40 ?_
      exact rf_zret X rfl dX1_word_41
    exact rf_go hj1 True.intro
  refine rf_if_lt X (tgt := 21) rfl dX1_word_1 (fun c11 => ?_) (fun c11 => ?_)
  · exact jT (Or.inl c11)
  refine rf_iload_n X rfl dX1_word_4 ?_
  refine rf_sipush X (128 : Int32) rfl dX1_word_5 ?_
  refine rf_icmp_ge X (tgt := 21) rfl dX1_word_8 (fun c12 => ?_) (fun c12 => ?_)
  · exact jT (Or.inr c12)
  exact jF (fun z => z.elim c11 c12)

theorem dX1_set_0 : decode cX1_set 0 = .ok (.iload_n 1, 1) := by decide +kernel
theorem dX1_set_1 : decode cX1_set 1 = .ok (.ifCond .lt 24, 3) := by decide +kernel
theorem dX1_set_4 : decode cX1_set 4 = .ok (.iload_n 1, 1) := by decide +kernel
theorem dX1_set_5 : decode cX1_set 5 = .ok (.aload_n 0, 1) := by decide +kernel
theorem dX1_set_6 : decode cX1_set 6 = .ok (.getfield 57, 3) := by decide +kernel
theorem dX1_set_9 : decode cX1_set 9 = .ok (.getfield 72, 3) := by decide +kernel
theorem dX1_set_12 : decode cX1_set 12 = .ok (.if_icmp .ge 13, 3) := by decide +kernel
theorem dX1_set_15 : decode cX1_set 15 = .ok (.aload_n 0, 1) := by decide +kernel
theorem dX1_set_16 : decode cX1_set 16 = .ok (.getfield 57, 3) := by decide +kernel
theorem dX1_set_19 : decode cX1_set 19 = .ok (.invokevirtual 61, 3) := by decide +kernel
theorem dX1_set_22 : decode cX1_set 22 = .ok (.ifCond .eq 5, 3) := by decide +kernel
theorem dX1_set_25 : decode cX1_set 25 = .ok (.iconst 0, 1) := by decide +kernel
theorem dX1_set_26 : decode cX1_set 26 = .ok (.ireturn, 1) := by decide +kernel
theorem dX1_set_27 : decode cX1_set 27 = .ok (.aload_n 0, 1) := by decide +kernel
theorem dX1_set_28 : decode cX1_set 28 = .ok (.getfield 18, 3) := by decide +kernel
theorem dX1_set_31 : decode cX1_set 31 = .ok (.iload_n 1, 1) := by decide +kernel
theorem dX1_set_32 : decode cX1_set 32 = .ok (.iload_n 2, 1) := by decide +kernel
theorem dX1_set_33 : decode cX1_set 33 = .ok (.iastore, 1) := by decide +kernel
theorem dX1_set_34 : decode cX1_set 34 = .ok (.iconst 1, 1) := by decide +kernel
theorem dX1_set_35 : decode cX1_set 35 = .ok (.ireturn, 1) := by decide +kernel
def fX1_set (a0 : Nat) (p1 : Int32) (p2 : Int32) (A : AH) : Option (Int32 × AH) :=
jn (some ((nb (0 : Int32)), A)) fun j1 =>
if p1 < 0 then (j1) else
(gR A (some a0) 1 5).bind fun v3 =>
(gI A v3 7 3).bind fun v4 =>
if v4 ≤ p1 then (j1) else
(rcv A v3 7).bind fun v6 =>
(fX7_isOn v6 A).bind fun g7 =>
if g7 = 0 then ((gR A (some a0) 1 1).bind fun v9 =>
(sI A v9 p1 p2).bind fun A10 =>
some ((nb (1 : Int32)), A10)) else
j1

set_option maxHeartbeats 4000000 in
set_option maxRecDepth 100000 in
theorem sX1_set (l : Launch) (D : DE) (a0 : Nat) (p1 : Int32) (p2 : Int32) (A : AH) (g : Int32 × AH) (hg : fX1_set a0 p1 p2 A = some g) : Sm l D yX1_set cX1_set 3 (some Jvm.ClassFile.FieldType.boolean) 1 20 [tR (some a0), tI p1, tI p2] A (wI g).1 (wI g).2 := by
  refine Sm.of (ω := wI) (fX1_set a0 p1 p2 A) [some (tR (some a0)), some (tI p1), some (tI p2)] (by decide) (Nat.le_of_ble_eq_true rfl) rfl hg ?_
  intro p e R s m args below meth c X hin
  have X : Cx D cX1_set RX1 3 1 20 (some Jvm.ClassFile.FieldType.boolean) p R s m args meth c := X
  unfold fX1_set
  refine rf_iload_n X rfl dX1_set_0 ?_
  refine rf_jn2 (fun i => RfX X l e below wI i 25 [none, none, none] [] A) ?_ (fun j1 hj1 => ?_)
  · show RfX X l e below _ _ _ _ _ _
    refine rf_iconst X (0 : Int32) rfl dX1_set_25 ?_
    exact rf_zret X rfl dX1_set_26
  refine rf_if_lt X (tgt := 25) rfl dX1_set_1 (fun c2 => rf_pos c2 ?_) (fun c2 => rf_neg c2 ?_)
  · exact rf_go hj1 True.intro
  refine rf_iload_n X rfl dX1_set_4 ?_
  refine rf_aload_n X rfl dX1_set_5 ?_
  refine rf_bind (fun v3 hv3 => ?_)
  refine rf_getR X fl_X1_57 hv3 dX1_set_6 ?_
  refine rf_bind (fun v4 hv4 => ?_)
  refine rf_getI X fl_X1_72 hv4 dX1_set_9 ?_
  refine rf_icmp_ge X (tgt := 25) rfl dX1_set_12 (fun c5 => rf_pos c5 ?_) (fun c5 => rf_neg c5 ?_)
  · exact rf_go hj1 True.intro
  refine rf_aload_n X rfl dX1_set_15 ?_
  refine rf_getR X fl_X1_57 hv3 dX1_set_16 ?_
  refine rf_bind (fun v6 hv6 => ?_)
  refine rf_bind (fun g7 hg7 => ?_)
  refine rf_callVI X c_X1_61 ⟨Nat.le_of_ble_eq_true rfl, Nat.le_of_ble_eq_true rfl⟩ [] rfl (Nat.le_of_ble_eq_true rfl) hv6 (sX7_isOn l D v6 A g7 hg7) dX1_set_19 ?_
  refine rf_if_eq X (tgt := 27) rfl dX1_set_22 (fun c8 => rf_pos c8 ?_) (fun c8 => rf_neg c8 ?_)
  · refine rf_aload_n X rfl dX1_set_27 ?_
    refine rf_bind (fun v9 hv9 => ?_)
    refine rf_getR X fl_X1_18 hv9 dX1_set_28 ?_
    refine rf_iload_n X rfl dX1_set_31 ?_
    refine rf_iload_n X rfl dX1_set_32 ?_
    refine rf_bind (fun A10 hA10 => ?_)
    refine rf_iast X hA10 dX1_set_33 ?_
    refine rf_iconst X (1 : Int32) rfl dX1_set_34 ?_
    exact rf_zret X rfl dX1_set_35
  exact rf_go hj1 True.intro

theorem dX7_forget_0 : decode cX7_forget 0 = .ok (.aload_n 0, 1) := by decide +kernel
theorem dX7_forget_1 : decode cX7_forget 1 = .ok (.iconst 0, 1) := by decide +kernel
theorem dX7_forget_2 : decode cX7_forget 2 = .ok (.putfield 138, 3) := by decide +kernel
theorem dX7_forget_5 : decode cX7_forget 5 = .ok (.aload_n 0, 1) := by decide +kernel
theorem dX7_forget_6 : decode cX7_forget 6 = .ok (.iconst 0, 1) := by decide +kernel
theorem dX7_forget_7 : decode cX7_forget 7 = .ok (.putfield 141, 3) := by decide +kernel
theorem dX7_forget_10 : decode cX7_forget 10 = .ok (.aload_n 0, 1) := by decide +kernel
theorem dX7_forget_11 : decode cX7_forget 11 = .ok (.iconst 0, 1) := by decide +kernel
theorem dX7_forget_12 : decode cX7_forget 12 = .ok (.putfield 144, 3) := by decide +kernel
theorem dX7_forget_15 : decode cX7_forget 15 = .ok (.aload_n 0, 1) := by decide +kernel
theorem dX7_forget_16 : decode cX7_forget 16 = .ok (.iconst 0, 1) := by decide +kernel
theorem dX7_forget_17 : decode cX7_forget 17 = .ok (.putfield 147, 3) := by decide +kernel
theorem dX7_forget_20 : decode cX7_forget 20 = .ok (.return_, 1) := by decide +kernel
def fX7_forget (a0 : Nat) (A : AH) : Option (AH) :=
(pI A (some a0) 7 22 (0 : Int32)).bind fun A1 =>
(pI A1 (some a0) 7 23 (0 : Int32)).bind fun A2 =>
(pI A2 (some a0) 7 24 (0 : Int32)).bind fun A3 =>
(pI A3 (some a0) 7 25 (0 : Int32)).bind fun A4 =>
some A4

set_option maxHeartbeats 4000000 in
set_option maxRecDepth 100000 in
theorem sX7_forget (l : Launch) (D : DE) (a0 : Nat) (A : AH) (g : AH) (hg : fX7_forget a0 A = some g) : Sm l D yX7_forget cX7_forget 1 none 0 0 [tR (some a0)] A (wU g).1 (wU g).2 := by
  refine Sm.of (ω := wU) (fX7_forget a0 A) [some (tR (some a0))] (by decide) (Nat.le_of_ble_eq_true rfl) rfl hg ?_
  intro p e R s m args below meth c X hin
  have X : Cx D cX7_forget RX7 1 0 0 none p R s m args meth c := X
  unfold fX7_forget
  refine rf_aload_n X rfl dX7_forget_0 ?_
  refine rf_iconst X (0 : Int32) rfl dX7_forget_1 ?_
  refine rf_bind (fun A1 hA1 => ?_)
  refine rf_putI X fp_X7_138 (fun h => by cases h) hA1 dX7_forget_2 ?_
  refine rf_aload_n X rfl dX7_forget_5 ?_
  refine rf_iconst X (0 : Int32) rfl dX7_forget_6 ?_
  refine rf_bind (fun A2 hA2 => ?_)
  refine rf_putI X fp_X7_141 (fun h => by cases h) hA2 dX7_forget_7 ?_
  refine rf_aload_n X rfl dX7_forget_10 ?_
  refine rf_iconst X (0 : Int32) rfl dX7_forget_11 ?_
  refine rf_bind (fun A3 hA3 => ?_)
  refine rf_putI X fp_X7_144 (fun h => by cases h) hA3 dX7_forget_12 ?_
  refine rf_aload_n X rfl dX7_forget_15 ?_
  refine rf_iconst X (0 : Int32) rfl dX7_forget_16 ?_
  refine rf_bind (fun A4 hA4 => ?_)
  refine rf_putI X fp_X7_147 (fun h => by cases h) hA4 dX7_forget_17 ?_
  exact rf_vret X rfl dX7_forget_20

theorem dX8_begin_0 : decode cX8_begin 0 = .ok (.aload_n 0, 1) := by decide +kernel
theorem dX8_begin_1 : decode cX8_begin 1 = .ok (.aload_n 1, 1) := by decide +kernel
theorem dX8_begin_2 : decode cX8_begin 2 = .ok (.invokevirtual 48, 3) := by decide +kernel
theorem dX8_begin_5 : decode cX8_begin 5 = .ok (.aload_n 0, 1) := by decide +kernel
theorem dX8_begin_6 : decode cX8_begin 6 = .ok (.aload_n 0, 1) := by decide +kernel
theorem dX8_begin_7 : decode cX8_begin 7 = .ok (.getfield 9, 3) := by decide +kernel
theorem dX8_begin_10 : decode cX8_begin 10 = .ok (.arraylength, 1) := by decide +kernel
theorem dX8_begin_11 : decode cX8_begin 11 = .ok (.iconst 1, 1) := by decide +kernel
theorem dX8_begin_12 : decode cX8_begin 12 = .ok (.isub, 1) := by decide +kernel
theorem dX8_begin_13 : decode cX8_begin 13 = .ok (.putfield 15, 3) := by decide +kernel
theorem dX8_begin_16 : decode cX8_begin 16 = .ok (.aload_n 0, 1) := by decide +kernel
theorem dX8_begin_17 : decode cX8_begin 17 = .ok (.iconst 0, 1) := by decide +kernel
theorem dX8_begin_18 : decode cX8_begin 18 = .ok (.putfield 52, 3) := by decide +kernel
theorem dX8_begin_21 : decode cX8_begin 21 = .ok (.aload_n 0, 1) := by decide +kernel
theorem dX8_begin_22 : decode cX8_begin 22 = .ok (.iconst 0, 1) := by decide +kernel
theorem dX8_begin_23 : decode cX8_begin 23 = .ok (.putfield 55, 3) := by decide +kernel
theorem dX8_begin_26 : decode cX8_begin 26 = .ok (.aload_n 0, 1) := by decide +kernel
theorem dX8_begin_27 : decode cX8_begin 27 = .ok (.iconst 0, 1) := by decide +kernel
theorem dX8_begin_28 : decode cX8_begin 28 = .ok (.putfield 58, 3) := by decide +kernel
theorem dX8_begin_31 : decode cX8_begin 31 = .ok (.return_, 1) := by decide +kernel
def fX8_begin (n : Nat) (a0 : Nat) (p1 : Option Nat) (A : AH) : Option (AH) :=
(rcv A (some a0) 8).bind fun v1 =>
(fX8_clear n v1 p1 A).bind fun g2 =>
(gR g2 (some a0) 8 0).bind fun v3 =>
(aLen g2 v3).bind fun v4 =>
(pI g2 (some a0) 8 1 (v4 - (1 : Int32))).bind fun A5 =>
(pI A5 (some a0) 8 2 (0 : Int32)).bind fun A6 =>
(pI A6 (some a0) 8 3 (0 : Int32)).bind fun A7 =>
(pI A7 (some a0) 8 4 (0 : Int32)).bind fun A8 =>
some A8

set_option maxHeartbeats 4000000 in
set_option maxRecDepth 100000 in
theorem sX8_begin (l : Launch) (D : DE) (n : Nat) (a0 : Nat) (p1 : Option Nat) (A : AH) (g : AH) (hg : fX8_begin n a0 p1 A = some g) : Sm l D yX8_begin cX8_begin 2 none 9 238 [tR (some a0), tR p1] A (wU g).1 (wU g).2 := by
  refine Sm.of (ω := wU) (fX8_begin n a0 p1 A) [some (tR (some a0)), some (tR p1)] (by decide) (Nat.le_of_ble_eq_true rfl) rfl hg ?_
  intro p e R s m args below meth c X hin
  have X : Cx D cX8_begin RX8 2 9 238 none p R s m args meth c := X
  unfold fX8_begin
  refine rf_aload_n X rfl dX8_begin_0 ?_
  refine rf_aload_n X rfl dX8_begin_1 ?_
  refine rf_bind (fun v1 hv1 => ?_)
  refine rf_bind (fun g2 hg2 => ?_)
  refine rf_callVU X c_X8_48 ⟨Nat.le_of_ble_eq_true rfl, Nat.le_of_ble_eq_true rfl⟩ [tR p1] rfl (Nat.le_of_ble_eq_true rfl) hv1 (sX8_clear l D n v1 p1 A g2 hg2) dX8_begin_2 ?_
  refine rf_aload_n X rfl dX8_begin_5 ?_
  refine rf_aload_n X rfl dX8_begin_6 ?_
  refine rf_bind (fun v3 hv3 => ?_)
  refine rf_getR X fl_X8_9 hv3 dX8_begin_7 ?_
  refine rf_bind (fun v4 hv4 => ?_)
  refine rf_alen X hv4 dX8_begin_10 ?_
  refine rf_iconst X (1 : Int32) rfl dX8_begin_11 ?_
  refine rf_isub X dX8_begin_12 ?_
  refine rf_bind (fun A5 hA5 => ?_)
  refine rf_putI X fp_X8_15 (fun h => by cases h) hA5 dX8_begin_13 ?_
  refine rf_aload_n X rfl dX8_begin_16 ?_
  refine rf_iconst X (0 : Int32) rfl dX8_begin_17 ?_
  refine rf_bind (fun A6 hA6 => ?_)
  refine rf_putI X fp_X8_52 (fun h => by cases h) hA6 dX8_begin_18 ?_
  refine rf_aload_n X rfl dX8_begin_21 ?_
  refine rf_iconst X (0 : Int32) rfl dX8_begin_22 ?_
  refine rf_bind (fun A7 hA7 => ?_)
  refine rf_putI X fp_X8_55 (fun h => by cases h) hA7 dX8_begin_23 ?_
  refine rf_aload_n X rfl dX8_begin_26 ?_
  refine rf_iconst X (0 : Int32) rfl dX8_begin_27 ?_
  refine rf_bind (fun A8 hA8 => ?_)
  refine rf_putI X fp_X8_58 (fun h => by cases h) hA8 dX8_begin_28 ?_
  exact rf_vret X rfl dX8_begin_31

theorem dX7_begin_0 : decode cX7_begin 0 = .ok (.aload_n 0, 1) := by decide +kernel
theorem dX7_begin_1 : decode cX7_begin 1 = .ok (.iconst 1, 1) := by decide +kernel
theorem dX7_begin_2 : decode cX7_begin 2 = .ok (.putfield 82, 3) := by decide +kernel
theorem dX7_begin_5 : decode cX7_begin 5 = .ok (.aload_n 0, 1) := by decide +kernel
theorem dX7_begin_6 : decode cX7_begin 6 = .ok (.iload_n 1, 1) := by decide +kernel
theorem dX7_begin_7 : decode cX7_begin 7 = .ok (.putfield 85, 3) := by decide +kernel
theorem dX7_begin_10 : decode cX7_begin 10 = .ok (.aload_n 0, 1) := by decide +kernel
theorem dX7_begin_11 : decode cX7_begin 11 = .ok (.iload_n 2, 1) := by decide +kernel
theorem dX7_begin_12 : decode cX7_begin 12 = .ok (.putfield 88, 3) := by decide +kernel
theorem dX7_begin_15 : decode cX7_begin 15 = .ok (.aload_n 0, 1) := by decide +kernel
theorem dX7_begin_16 : decode cX7_begin 16 = .ok (.iconst 0, 1) := by decide +kernel
theorem dX7_begin_17 : decode cX7_begin 17 = .ok (.putfield 91, 3) := by decide +kernel
theorem dX7_begin_20 : decode cX7_begin 20 = .ok (.aload_n 0, 1) := by decide +kernel
theorem dX7_begin_21 : decode cX7_begin 21 = .ok (.iconst 0, 1) := by decide +kernel
theorem dX7_begin_22 : decode cX7_begin 22 = .ok (.putfield 94, 3) := by decide +kernel
theorem dX7_begin_25 : decode cX7_begin 25 = .ok (.aload_n 0, 1) := by decide +kernel
theorem dX7_begin_26 : decode cX7_begin 26 = .ok (.iconst 0, 1) := by decide +kernel
theorem dX7_begin_27 : decode cX7_begin 27 = .ok (.putfield 97, 3) := by decide +kernel
theorem dX7_begin_30 : decode cX7_begin 30 = .ok (.aload_n 0, 1) := by decide +kernel
theorem dX7_begin_31 : decode cX7_begin 31 = .ok (.iconst 0, 1) := by decide +kernel
theorem dX7_begin_32 : decode cX7_begin 32 = .ok (.putfield 100, 3) := by decide +kernel
theorem dX7_begin_35 : decode cX7_begin 35 = .ok (.aload_n 0, 1) := by decide +kernel
theorem dX7_begin_36 : decode cX7_begin 36 = .ok (.iconst 0, 1) := by decide +kernel
theorem dX7_begin_37 : decode cX7_begin 37 = .ok (.putfield 103, 3) := by decide +kernel
theorem dX7_begin_40 : decode cX7_begin 40 = .ok (.aload_n 0, 1) := by decide +kernel
theorem dX7_begin_41 : decode cX7_begin 41 = .ok (.iconst 0, 1) := by decide +kernel
theorem dX7_begin_42 : decode cX7_begin 42 = .ok (.putfield 106, 3) := by decide +kernel
theorem dX7_begin_45 : decode cX7_begin 45 = .ok (.aload_n 0, 1) := by decide +kernel
theorem dX7_begin_46 : decode cX7_begin 46 = .ok (.getfield 75, 3) := by decide +kernel
theorem dX7_begin_49 : decode cX7_begin 49 = .ok (.iconst 0, 1) := by decide +kernel
theorem dX7_begin_50 : decode cX7_begin 50 = .ok (.putfield 109, 3) := by decide +kernel
theorem dX7_begin_53 : decode cX7_begin 53 = .ok (.aload_n 0, 1) := by decide +kernel
theorem dX7_begin_54 : decode cX7_begin 54 = .ok (.getfield 75, 3) := by decide +kernel
theorem dX7_begin_57 : decode cX7_begin 57 = .ok (.iconst 0, 1) := by decide +kernel
theorem dX7_begin_58 : decode cX7_begin 58 = .ok (.putfield 112, 3) := by decide +kernel
theorem dX7_begin_61 : decode cX7_begin 61 = .ok (.aload_n 0, 1) := by decide +kernel
theorem dX7_begin_62 : decode cX7_begin 62 = .ok (.getfield 44, 3) := by decide +kernel
theorem dX7_begin_65 : decode cX7_begin 65 = .ok (.invokevirtual 55, 3) := by decide +kernel
theorem dX7_begin_68 : decode cX7_begin 68 = .ok (.iconst 0, 1) := by decide +kernel
theorem dX7_begin_69 : decode cX7_begin 69 = .ok (.istore_n 3, 1) := by decide +kernel
theorem dX7_begin_70 : decode cX7_begin 70 = .ok (.iload_n 3, 1) := by decide +kernel
theorem dX7_begin_71 : decode cX7_begin 71 = .ok (.aload_n 0, 1) := by decide +kernel
theorem dX7_begin_72 : decode cX7_begin 72 = .ok (.getfield 75, 3) := by decide +kernel
theorem dX7_begin_75 : decode cX7_begin 75 = .ok (.getfield 115, 3) := by decide +kernel
theorem dX7_begin_78 : decode cX7_begin 78 = .ok (.invokevirtual 118, 3) := by decide +kernel
theorem dX7_begin_81 : decode cX7_begin 81 = .ok (.if_icmp .ge 27, 3) := by decide +kernel
theorem dX7_begin_84 : decode cX7_begin 84 = .ok (.aload_n 0, 1) := by decide +kernel
theorem dX7_begin_85 : decode cX7_begin 85 = .ok (.getfield 75, 3) := by decide +kernel
theorem dX7_begin_88 : decode cX7_begin 88 = .ok (.getfield 115, 3) := by decide +kernel
theorem dX7_begin_91 : decode cX7_begin 91 = .ok (.iload_n 3, 1) := by decide +kernel
theorem dX7_begin_92 : decode cX7_begin 92 = .ok (.invokevirtual 122, 3) := by decide +kernel
theorem dX7_begin_95 : decode cX7_begin 95 = .ok (.checkcast 126, 3) := by decide +kernel
theorem dX7_begin_98 : decode cX7_begin 98 = .ok (.iconst 0, 1) := by decide +kernel
theorem dX7_begin_99 : decode cX7_begin 99 = .ok (.putfield 128, 3) := by decide +kernel
theorem dX7_begin_102 : decode cX7_begin 102 = .ok (.iinc 3 1, 3) := by decide +kernel
theorem dX7_begin_105 : decode cX7_begin 105 = .ok (.goto (-35), 3) := by decide +kernel
theorem dX7_begin_108 : decode cX7_begin 108 = .ok (.aload_n 0, 1) := by decide +kernel
theorem dX7_begin_109 : decode cX7_begin 109 = .ok (.invokevirtual 131, 3) := by decide +kernel
theorem dX7_begin_112 : decode cX7_begin 112 = .ok (.iconst 0, 1) := by decide +kernel
theorem dX7_begin_113 : decode cX7_begin 113 = .ok (.istore_n 3, 1) := by decide +kernel
theorem dX7_begin_114 : decode cX7_begin 114 = .ok (.iload_n 3, 1) := by decide +kernel
theorem dX7_begin_115 : decode cX7_begin 115 = .ok (.aload_n 0, 1) := by decide +kernel
theorem dX7_begin_116 : decode cX7_begin 116 = .ok (.getfield 14, 3) := by decide +kernel
theorem dX7_begin_119 : decode cX7_begin 119 = .ok (.invokevirtual 118, 3) := by decide +kernel
theorem dX7_begin_122 : decode cX7_begin 122 = .ok (.if_icmp .ge 27, 3) := by decide +kernel
theorem dX7_begin_125 : decode cX7_begin 125 = .ok (.aload_n 0, 1) := by decide +kernel
theorem dX7_begin_126 : decode cX7_begin 126 = .ok (.getfield 14, 3) := by decide +kernel
theorem dX7_begin_129 : decode cX7_begin 129 = .ok (.iload_n 3, 1) := by decide +kernel
theorem dX7_begin_130 : decode cX7_begin 130 = .ok (.invokevirtual 122, 3) := by decide +kernel
theorem dX7_begin_133 : decode cX7_begin 133 = .ok (.checkcast 65, 3) := by decide +kernel
theorem dX7_begin_136 : decode cX7_begin 136 = .ok (.aload_n 0, 1) := by decide +kernel
theorem dX7_begin_137 : decode cX7_begin 137 = .ok (.getfield 40, 3) := by decide +kernel
theorem dX7_begin_140 : decode cX7_begin 140 = .ok (.invokevirtual 134, 3) := by decide +kernel
theorem dX7_begin_143 : decode cX7_begin 143 = .ok (.iinc 3 1, 3) := by decide +kernel
theorem dX7_begin_146 : decode cX7_begin 146 = .ok (.goto (-32), 3) := by decide +kernel
theorem dX7_begin_149 : decode cX7_begin 149 = .ok (.return_, 1) := by decide +kernel
def fX7_begin (n : Nat) (a0 : Nat) (p1 : Int32) (p2 : Int32) (A : AH) : Option (AH) :=
(pI A (some a0) 7 12 (1 : Int32)).bind fun A1 =>
(pI A1 (some a0) 7 13 p1).bind fun A2 =>
(pI A2 (some a0) 7 14 p2).bind fun A3 =>
(pI A3 (some a0) 7 15 (0 : Int32)).bind fun A4 =>
(pI A4 (some a0) 7 16 (0 : Int32)).bind fun A5 =>
(pI A5 (some a0) 7 17 (0 : Int32)).bind fun A6 =>
(pI A6 (some a0) 7 18 (0 : Int32)).bind fun A7 =>
(pI A7 (some a0) 7 19 (0 : Int32)).bind fun A8 =>
(pI A8 (some a0) 7 20 (0 : Int32)).bind fun A9 =>
(gR A9 (some a0) 7 9).bind fun v10 =>
(pI A9 v10 9 1 (0 : Int32)).bind fun A11 =>
(gR A11 (some a0) 7 9).bind fun v12 =>
(pI A11 v12 9 2 (0 : Int32)).bind fun A13 =>
(gR A13 (some a0) 7 7).bind fun v14 =>
(rcv A13 v14 3).bind fun v15 =>
(fX3_clear n v15 A13).bind fun g16 =>
jl (fixG (fun _ _ => none) (fun (rc20 : (Int32) → (AH) → Option (AH)) (x18 : Int32) (A19 : AH) =>
(gR A19 (some a0) 7 9).bind fun v21 =>
(gR A19 v21 9 0).bind fun v22 =>
(rcv A19 v22 0).bind fun v23 =>
(fJ2_size v23 A19).bind fun g24 =>
if g24 ≤ x18 then ((rcv A19 (some a0) 7).bind fun v26 =>
(fX7_forget v26 A19).bind fun g27 =>
jl (fixG (fun _ _ => none) (fun (rc31 : (Int32) → (AH) → Option (AH)) (x29 : Int32) (A30 : AH) =>
(gR A30 (some a0) 7 8).bind fun v32 =>
(rcv A30 v32 0).bind fun v33 =>
(fJ2_size v33 A30).bind fun g34 =>
if g34 ≤ x29 then (some A30) else
(fJ2_get v33 x29 A30).bind fun g36 =>
(cst A30 g36 8).bind fun v37 =>
(gR A30 (some a0) 7 6).bind fun v38 =>
(rcv A30 g36 8).bind fun v39 =>
(fX8_begin n v39 v38 A30).bind fun g40 =>
rc31 (x29 + (1 : Int32)) g40) n) fun j28 =>
j28 (0 : Int32) g27) else
(fJ2_get v23 x18 A19).bind fun g41 =>
(cst A19 g41 10).bind fun v42 =>
(pI A19 g41 10 1 (0 : Int32)).bind fun A43 =>
rc20 (x18 + (1 : Int32)) A43) n) fun j17 =>
j17 (0 : Int32) g16

set_option maxHeartbeats 4000000 in
set_option maxRecDepth 100000 in
theorem sX7_begin (l : Launch) (D : DE) (n : Nat) (a0 : Nat) (p1 : Int32) (p2 : Int32) (A : AH) (g : AH) (hg : fX7_begin n a0 p1 p2 A = some g) : Sm l D yX7_begin cX7_begin 4 none 10 259 [tR (some a0), tI p1, tI p2] A (wU g).1 (wU g).2 := by
  refine Sm.of (ω := wU) (fX7_begin n a0 p1 p2 A) [some (tR (some a0)), some (tI p1), some (tI p2), none] (by decide) (Nat.le_of_ble_eq_true rfl) rfl hg ?_
  intro p e R s m args below meth c X hin
  have X : Cx D cX7_begin RX7 4 10 259 none p R s m args meth c := X
  unfold fX7_begin
  refine rf_aload_n X rfl dX7_begin_0 ?_
  refine rf_iconst X (1 : Int32) rfl dX7_begin_1 ?_
  refine rf_bind (fun A1 hA1 => ?_)
  refine rf_putI X fp_X7_82 (fun h => by cases h) hA1 dX7_begin_2 ?_
  refine rf_aload_n X rfl dX7_begin_5 ?_
  refine rf_iload_n X rfl dX7_begin_6 ?_
  refine rf_bind (fun A2 hA2 => ?_)
  refine rf_putI X fp_X7_85 (fun h => by cases h) hA2 dX7_begin_7 ?_
  refine rf_aload_n X rfl dX7_begin_10 ?_
  refine rf_iload_n X rfl dX7_begin_11 ?_
  refine rf_bind (fun A3 hA3 => ?_)
  refine rf_putI X fp_X7_88 (fun h => by cases h) hA3 dX7_begin_12 ?_
  refine rf_aload_n X rfl dX7_begin_15 ?_
  refine rf_iconst X (0 : Int32) rfl dX7_begin_16 ?_
  refine rf_bind (fun A4 hA4 => ?_)
  refine rf_putI X fp_X7_91 (fun h => by cases h) hA4 dX7_begin_17 ?_
  refine rf_aload_n X rfl dX7_begin_20 ?_
  refine rf_iconst X (0 : Int32) rfl dX7_begin_21 ?_
  refine rf_bind (fun A5 hA5 => ?_)
  refine rf_putI X fp_X7_94 (fun h => by cases h) hA5 dX7_begin_22 ?_
  refine rf_aload_n X rfl dX7_begin_25 ?_
  refine rf_iconst X (0 : Int32) rfl dX7_begin_26 ?_
  refine rf_bind (fun A6 hA6 => ?_)
  refine rf_putI X fp_X7_97 (fun h => by cases h) hA6 dX7_begin_27 ?_
  refine rf_aload_n X rfl dX7_begin_30 ?_
  refine rf_iconst X (0 : Int32) rfl dX7_begin_31 ?_
  refine rf_bind (fun A7 hA7 => ?_)
  refine rf_putI X fp_X7_100 (fun h => by cases h) hA7 dX7_begin_32 ?_
  refine rf_aload_n X rfl dX7_begin_35 ?_
  refine rf_iconst X (0 : Int32) rfl dX7_begin_36 ?_
  refine rf_bind (fun A8 hA8 => ?_)
  refine rf_putI X fp_X7_103 (fun h => by cases h) hA8 dX7_begin_37 ?_
  refine rf_aload_n X rfl dX7_begin_40 ?_
  refine rf_iconst X (0 : Int32) rfl dX7_begin_41 ?_
  refine rf_bind (fun A9 hA9 => ?_)
  refine rf_putI X fp_X7_106 (fun h => by cases h) hA9 dX7_begin_42 ?_
  refine rf_aload_n X rfl dX7_begin_45 ?_
  refine rf_bind (fun v10 hv10 => ?_)
  refine rf_getR X fl_X7_75 hv10 dX7_begin_46 ?_
  refine rf_iconst X (0 : Int32) rfl dX7_begin_49 ?_
  refine rf_bind (fun A11 hA11 => ?_)
  refine rf_putI X fp_X7_109 (fun h => by cases h) hA11 dX7_begin_50 ?_
  refine rf_aload_n X rfl dX7_begin_53 ?_
  refine rf_bind (fun v12 hv12 => ?_)
  refine rf_getR X fl_X7_75 hv12 dX7_begin_54 ?_
  refine rf_iconst X (0 : Int32) rfl dX7_begin_57 ?_
  refine rf_bind (fun A13 hA13 => ?_)
  refine rf_putI X fp_X7_112 (fun h => by cases h) hA13 dX7_begin_58 ?_
  refine rf_aload_n X rfl dX7_begin_61 ?_
  refine rf_bind (fun v14 hv14 => ?_)
  refine rf_getR X fl_X7_44 hv14 dX7_begin_62 ?_
  refine rf_bind (fun v15 hv15 => ?_)
  refine rf_bind (fun g16 hg16 => ?_)
  refine rf_callVU X c_X7_55 ⟨Nat.le_of_ble_eq_true rfl, Nat.le_of_ble_eq_true rfl⟩ [] rfl (Nat.le_of_ble_eq_true rfl) hv15 (sX3_clear l D n v15 A13 g16 hg16) dX7_begin_65 ?_
  refine rf_iconst X (0 : Int32) rfl dX7_begin_68 ?_
  refine rf_istore_n X (ls' := [some (tR (some a0)), some (tI p1), some (tI p2), some (tI (0 : Int32))]) rfl (by decide) dX7_begin_69 ?_
  refine rf_fix (fun i => ∀ (x18 : Int32) (A19 : AH), RfX X l e below wU (i x18 A19) 70 [some (tR (some a0)), none, none, some (tI x18)] [] A19) (fun _ _ => rf_none) (fun rc20 hrc20 => ?_) (fun j17 hj17 => ?_)
  · intro x18 A19
    refine rf_iload_n X rfl dX7_begin_70 ?_
    refine rf_aload_n X rfl dX7_begin_71 ?_
    refine rf_bind (fun v21 hv21 => ?_)
    refine rf_getR X fl_X7_75 hv21 dX7_begin_72 ?_
    refine rf_bind (fun v22 hv22 => ?_)
    refine rf_getR X fl_X7_115 hv22 dX7_begin_75 ?_
    refine rf_bind (fun v23 hv23 => ?_)
    refine rf_bind (fun g24 hg24 => ?_)
    refine rf_callVI X c_X7_118 ⟨Nat.le_of_ble_eq_true rfl, Nat.le_of_ble_eq_true rfl⟩ [] rfl (Nat.le_of_ble_eq_true rfl) hv23 (sJ2_size l D v23 A19 g24 hg24) dX7_begin_78 ?_
    refine rf_icmp_ge X (tgt := 108) rfl dX7_begin_81 (fun c25 => rf_pos c25 ?_) (fun c25 => rf_neg c25 ?_)
    · refine rf_aload_n X rfl dX7_begin_108 ?_
      refine rf_bind (fun v26 hv26 => ?_)
      refine rf_bind (fun g27 hg27 => ?_)
      refine rf_callVU X c_X7_131 ⟨Nat.le_of_ble_eq_true rfl, Nat.le_of_ble_eq_true rfl⟩ [] rfl (Nat.le_of_ble_eq_true rfl) hv26 (sX7_forget l D v26 A19 g27 hg27) dX7_begin_109 ?_
      refine rf_iconst X (0 : Int32) rfl dX7_begin_112 ?_
      refine rf_istore_n X (ls' := [some (tR (some a0)), none, none, some (tI (0 : Int32))]) rfl (by decide) dX7_begin_113 ?_
      refine rf_fix (fun i => ∀ (x29 : Int32) (A30 : AH), RfX X l e below wU (i x29 A30) 114 [some (tR (some a0)), none, none, some (tI x29)] [] A30) (fun _ _ => rf_none) (fun rc31 hrc31 => ?_) (fun j28 hj28 => ?_)
      · intro x29 A30
        refine rf_iload_n X rfl dX7_begin_114 ?_
        refine rf_aload_n X rfl dX7_begin_115 ?_
        refine rf_bind (fun v32 hv32 => ?_)
        refine rf_getR X fl_X7_14 hv32 dX7_begin_116 ?_
        refine rf_bind (fun v33 hv33 => ?_)
        refine rf_bind (fun g34 hg34 => ?_)
        refine rf_callVI X c_X7_118 ⟨Nat.le_of_ble_eq_true rfl, Nat.le_of_ble_eq_true rfl⟩ [] rfl (Nat.le_of_ble_eq_true rfl) hv33 (sJ2_size l D v33 A30 g34 hg34) dX7_begin_119 ?_
        refine rf_icmp_ge X (tgt := 149) rfl dX7_begin_122 (fun c35 => rf_pos c35 ?_) (fun c35 => rf_neg c35 ?_)
        · exact rf_vret X rfl dX7_begin_149
        refine rf_aload_n X rfl dX7_begin_125 ?_
        refine rf_getR X fl_X7_14 hv32 dX7_begin_126 ?_
        refine rf_iload_n X rfl dX7_begin_129 ?_
        refine rf_bind (fun g36 hg36 => ?_)
        refine rf_callVI X c_X7_122 ⟨Nat.le_of_ble_eq_true rfl, Nat.le_of_ble_eq_true rfl⟩ [tI x29] rfl (Nat.le_of_ble_eq_true rfl) hv33 (sJ2_get l D v33 x29 A30 g36 hg36) dX7_begin_130 ?_
        refine rf_bind (fun v37 hv37 => ?_)
        refine rf_cast X (ci := 8) rfl rfl q719 hv37 dX7_begin_133 ?_
        refine rf_aload_n X rfl dX7_begin_136 ?_
        refine rf_bind (fun v38 hv38 => ?_)
        refine rf_getR X fl_X7_40 hv38 dX7_begin_137 ?_
        refine rf_bind (fun v39 hv39 => ?_)
        refine rf_bind (fun g40 hg40 => ?_)
        refine rf_callVU X c_X7_134 ⟨Nat.le_of_ble_eq_true rfl, Nat.le_of_ble_eq_true rfl⟩ [tR v38] rfl (Nat.le_of_ble_eq_true rfl) hv39 (sX8_begin l D n v39 v38 A30 g40 hg40) dX7_begin_140 ?_
        refine rf_iinc X (x29 + (1 : Int32)) rfl rfl (ls' := [some (tR (some a0)), none, none, some (tI (x29 + (1 : Int32)))]) rfl (by decide) dX7_begin_143 ?_
        refine rf_goto X (tgt := 114) rfl dX7_begin_146 ?_
        exact rf_go (hrc31 (x29 + (1 : Int32)) g40) (And.intro rfl (And.intro rfl True.intro))
      exact rf_go (hj28 (0 : Int32) g27) (And.intro rfl (And.intro rfl True.intro))
    refine rf_aload_n X rfl dX7_begin_84 ?_
    refine rf_getR X fl_X7_75 hv21 dX7_begin_85 ?_
    refine rf_getR X fl_X7_115 hv22 dX7_begin_88 ?_
    refine rf_iload_n X rfl dX7_begin_91 ?_
    refine rf_bind (fun g41 hg41 => ?_)
    refine rf_callVI X c_X7_122 ⟨Nat.le_of_ble_eq_true rfl, Nat.le_of_ble_eq_true rfl⟩ [tI x18] rfl (Nat.le_of_ble_eq_true rfl) hv23 (sJ2_get l D v23 x18 A19 g41 hg41) dX7_begin_92 ?_
    refine rf_bind (fun v42 hv42 => ?_)
    refine rf_cast X (ci := 10) rfl rfl q966 hv42 dX7_begin_95 ?_
    refine rf_iconst X (0 : Int32) rfl dX7_begin_98 ?_
    refine rf_bind (fun A43 hA43 => ?_)
    refine rf_putI X fp_X7_128 (fun h => by cases h) hA43 dX7_begin_99 ?_
    refine rf_iinc X (x18 + (1 : Int32)) rfl rfl (ls' := [some (tR (some a0)), none, none, some (tI (x18 + (1 : Int32)))]) rfl (by decide) dX7_begin_102 ?_
    refine rf_goto X (tgt := 70) rfl dX7_begin_105 ?_
    exact rf_go (hrc20 (x18 + (1 : Int32)) A43) (And.intro rfl (And.intro rfl True.intro))
  exact rf_go (hj17 (0 : Int32) g16) (And.intro rfl (And.intro rfl True.intro))

theorem dX1_launch_0 : decode cX1_launch 0 = .ok (.aload_n 0, 1) := by decide +kernel
theorem dX1_launch_1 : decode cX1_launch 1 = .ok (.getfield 57, 3) := by decide +kernel
theorem dX1_launch_4 : decode cX1_launch 4 = .ok (.invokevirtual 61, 3) := by decide +kernel
theorem dX1_launch_7 : decode cX1_launch 7 = .ok (.ifCond .ne 38, 3) := by decide +kernel
theorem dX1_launch_10 : decode cX1_launch 10 = .ok (.iload_n 1, 1) := by decide +kernel
theorem dX1_launch_11 : decode cX1_launch 11 = .ok (.iconst 1, 1) := by decide +kernel
theorem dX1_launch_12 : decode cX1_launch 12 = .ok (.if_icmp .lt 33, 3) := by decide +kernel
theorem dX1_launch_15 : decode cX1_launch 15 = .ok (.iload_n 1, 1) := by decide +kernel
theorem dX1_launch_16 : decode cX1_launch 16 = .ok (.bipush 64, 2) := by decide +kernel
theorem dX1_launch_18 : decode cX1_launch 18 = .ok (.if_icmp .gt 27, 3) := by decide +kernel
theorem dX1_launch_21 : decode cX1_launch 21 = .ok (.iload_n 2, 1) := by decide +kernel
theorem dX1_launch_22 : decode cX1_launch 22 = .ok (.iconst 1, 1) := by decide +kernel
theorem dX1_launch_23 : decode cX1_launch 23 = .ok (.if_icmp .lt 22, 3) := by decide +kernel
theorem dX1_launch_26 : decode cX1_launch 26 = .ok (.iload_n 2, 1) := by decide +kernel
theorem dX1_launch_27 : decode cX1_launch 27 = .ok (.aload_n 0, 1) := by decide +kernel
theorem dX1_launch_28 : decode cX1_launch 28 = .ok (.getfield 57, 3) := by decide +kernel
theorem dX1_launch_31 : decode cX1_launch 31 = .ok (.getfield 83, 3) := by decide +kernel
theorem dX1_launch_34 : decode cX1_launch 34 = .ok (.aload_n 0, 1) := by decide +kernel
theorem dX1_launch_35 : decode cX1_launch 35 = .ok (.getfield 57, 3) := by decide +kernel
theorem dX1_launch_38 : decode cX1_launch 38 = .ok (.getfield 86, 3) := by decide +kernel
theorem dX1_launch_41 : decode cX1_launch 41 = .ok (.imul, 1) := by decide +kernel
theorem dX1_launch_42 : decode cX1_launch 42 = .ok (.if_icmp .le 5, 3) := by decide +kernel
theorem dX1_launch_45 : decode cX1_launch 45 = .ok (.iconst 0, 1) := by decide +kernel
theorem dX1_launch_46 : decode cX1_launch 46 = .ok (.ireturn, 1) := by decide +kernel
theorem dX1_launch_47 : decode cX1_launch 47 = .ok (.aload_n 0, 1) := by decide +kernel
theorem dX1_launch_48 : decode cX1_launch 48 = .ok (.getfield 57, 3) := by decide +kernel
theorem dX1_launch_51 : decode cX1_launch 51 = .ok (.iload_n 1, 1) := by decide +kernel
theorem dX1_launch_52 : decode cX1_launch 52 = .ok (.iload_n 2, 1) := by decide +kernel
theorem dX1_launch_53 : decode cX1_launch 53 = .ok (.invokevirtual 89, 3) := by decide +kernel
theorem dX1_launch_56 : decode cX1_launch 56 = .ok (.iconst 1, 1) := by decide +kernel
theorem dX1_launch_57 : decode cX1_launch 57 = .ok (.ireturn, 1) := by decide +kernel
def fX1_launch (n : Nat) (a0 : Nat) (p1 : Int32) (p2 : Int32) (A : AH) : Option (Int32 × AH) :=
(gR A (some a0) 1 5).bind fun v1 =>
(rcv A v1 7).bind fun v2 =>
(fX7_isOn v2 A).bind fun g3 =>
jn (some ((nb (0 : Int32)), A)) fun j4 =>
if ((((g3 = 0) ∧ (¬ (p1 < (1 : Int32)))) ∧ (¬ ((64 : Int32) < p1))) ∧ (¬ (p2 < (1 : Int32)))) then ((gI A v1 7 0).bind fun v5 =>
(gI A v1 7 1).bind fun v6 =>
if p2 ≤ (v5 * v6) then ((fX7_begin n v2 p1 p2 A).bind fun g8 =>
some ((nb (1 : Int32)), g8)) else
j4) else
j4

set_option maxHeartbeats 4000000 in
set_option maxRecDepth 100000 in
theorem sX1_launch (l : Launch) (D : DE) (n : Nat) (a0 : Nat) (p1 : Int32) (p2 : Int32) (A : AH) (g : Int32 × AH) (hg : fX1_launch n a0 p1 p2 A = some g) : Sm l D yX1_launch cX1_launch 3 (some Jvm.ClassFile.FieldType.boolean) 11 282 [tR (some a0), tI p1, tI p2] A (wI g).1 (wI g).2 := by
  refine Sm.of (ω := wI) (fX1_launch n a0 p1 p2 A) [some (tR (some a0)), some (tI p1), some (tI p2)] (by decide) (Nat.le_of_ble_eq_true rfl) rfl hg ?_
  intro p e R s m args below meth c X hin
  have X : Cx D cX1_launch RX1 3 11 282 (some Jvm.ClassFile.FieldType.boolean) p R s m args meth c := X
  unfold fX1_launch
  refine rf_aload_n X rfl dX1_launch_0 ?_
  refine rf_bind (fun v1 hv1 => ?_)
  refine rf_getR X fl_X1_57 hv1 dX1_launch_1 ?_
  refine rf_bind (fun v2 hv2 => ?_)
  refine rf_bind (fun g3 hg3 => ?_)
  refine rf_callVI X c_X1_61 ⟨Nat.le_of_ble_eq_true rfl, Nat.le_of_ble_eq_true rfl⟩ [] rfl (Nat.le_of_ble_eq_true rfl) hv2 (sX7_isOn l D v2 A g3 hg3) dX1_launch_4 ?_
  refine rf_jn2 (fun i => RfX X l e below wI i 45 [none, none, none] [] A) ?_ (fun j4 hj4 => ?_)
  · show RfX X l e below _ _ _ _ _ _
    refine rf_iconst X (0 : Int32) rfl dX1_launch_45 ?_
    exact rf_zret X rfl dX1_launch_46
  refine rf_br 26 45 [some (tR (some a0)), some (tI p1), some (tI p2)] [some (tR (some a0)), some (tI p1), some (tI p2)] [] [] (fun _ => ?_) (fun _ => ?_) (fun _ jT jF => ?_)
  · refine rf_iload_n X rfl dX1_launch_26 ?_
    refine rf_aload_n X rfl dX1_launch_27 ?_
    refine rf_getR X fl_X1_57 hv1 dX1_launch_28 ?_
    refine rf_bind (fun v5 hv5 => ?_)
    refine rf_getI X fl_X1_83 hv5 dX1_launch_31 ?_
    refine rf_aload_n X rfl dX1_launch_34 ?_
    refine rf_getR X fl_X1_57 hv1 dX1_launch_35 ?_
    refine rf_bind (fun v6 hv6 => ?_)
    refine rf_getI X fl_X1_86 hv6 dX1_launch_38 ?_
    refine rf_imul X dX1_launch_41 ?_
    refine rf_icmp_le X (tgt := 47) rfl dX1_launch_42 (fun c7 => rf_pos c7 ?_) (fun c7 => rf_neg c7 ?_)
    · refine rf_aload_n X rfl dX1_launch_47 ?_
      refine rf_getR X fl_X1_57 hv1 dX1_launch_48 ?_
      refine rf_iload_n X rfl dX1_launch_51 ?_
      refine rf_iload_n X rfl dX1_launch_52 ?_
      refine rf_bind (fun g8 hg8 => ?_)
      refine rf_callVU X c_X1_89 ⟨Nat.le_of_ble_eq_true rfl, Nat.le_of_ble_eq_true rfl⟩ [tI p1, tI p2] rfl (Nat.le_of_ble_eq_true rfl) hv2 (sX7_begin l D n v2 p1 p2 A g8 hg8) dX1_launch_53 ?_
      refine rf_iconst X (1 : Int32) rfl dX1_launch_56 ?_
      exact rf_zret X rfl dX1_launch_57
    exact rf_go hj4 True.intro
  · exact rf_go hj4 True.intro
  refine rf_if_ne X (tgt := 45) rfl dX1_launch_7 (fun c9 => ?_) (fun c9 => ?_)
  · exact jF (fun z => (fun z => (fun z => c9 z.1) z.1) z.1)
  refine rf_iload_n X rfl dX1_launch_10 ?_
  refine rf_iconst X (1 : Int32) rfl dX1_launch_11 ?_
  refine rf_icmp_lt X (tgt := 45) rfl dX1_launch_12 (fun c10 => ?_) (fun c10 => ?_)
  · exact jF (fun z => (fun z => (fun z => (fun z => z c10) z.2) z.1) z.1)
  refine rf_iload_n X rfl dX1_launch_15 ?_
  refine rf_bipush X (64 : Int32) rfl dX1_launch_16 ?_
  refine rf_icmp_gt X (tgt := 45) rfl dX1_launch_18 (fun c11 => ?_) (fun c11 => ?_)
  · exact jF (fun z => (fun z => (fun z => z c11) z.2) z.1)
  refine rf_iload_n X rfl dX1_launch_21 ?_
  refine rf_iconst X (1 : Int32) rfl dX1_launch_22 ?_
  refine rf_icmp_lt X (tgt := 45) rfl dX1_launch_23 (fun c12 => ?_) (fun c12 => ?_)
  · exact jF (fun z => (fun z => z c12) z.2)
  exact jT ⟨⟨⟨c9, c10⟩, c11⟩, c12⟩

theorem dX7_stop_0 : decode cX7_stop 0 = .ok (.aload_n 0, 1) := by decide +kernel
theorem dX7_stop_1 : decode cX7_stop 1 = .ok (.iconst 0, 1) := by decide +kernel
theorem dX7_stop_2 : decode cX7_stop 2 = .ok (.putfield 82, 3) := by decide +kernel
theorem dX7_stop_5 : decode cX7_stop 5 = .ok (.aload_n 0, 1) := by decide +kernel
theorem dX7_stop_6 : decode cX7_stop 6 = .ok (.invokevirtual 150, 3) := by decide +kernel
theorem dX7_stop_9 : decode cX7_stop 9 = .ok (.aload_n 0, 1) := by decide +kernel
theorem dX7_stop_10 : decode cX7_stop 10 = .ok (.getfield 44, 3) := by decide +kernel
theorem dX7_stop_13 : decode cX7_stop 13 = .ok (.invokevirtual 55, 3) := by decide +kernel
theorem dX7_stop_16 : decode cX7_stop 16 = .ok (.return_, 1) := by decide +kernel
def fX7_stop (n : Nat) (a0 : Nat) (A : AH) : Option (AH) :=
(pI A (some a0) 7 12 (0 : Int32)).bind fun A1 =>
(rcv A1 (some a0) 7).bind fun v2 =>
(fX7_free n v2 A1).bind fun g3 =>
(gR g3 (some a0) 7 7).bind fun v4 =>
(rcv g3 v4 3).bind fun v5 =>
(fX3_clear n v5 g3).bind fun g6 =>
some g6

set_option maxHeartbeats 4000000 in
set_option maxRecDepth 100000 in
theorem sX7_stop (l : Launch) (D : DE) (n : Nat) (a0 : Nat) (A : AH) (g : AH) (hg : fX7_stop n a0 A = some g) : Sm l D yX7_stop cX7_stop 1 none 10 259 [tR (some a0)] A (wU g).1 (wU g).2 := by
  refine Sm.of (ω := wU) (fX7_stop n a0 A) [some (tR (some a0))] (by decide) (Nat.le_of_ble_eq_true rfl) rfl hg ?_
  intro p e R s m args below meth c X hin
  have X : Cx D cX7_stop RX7 1 10 259 none p R s m args meth c := X
  unfold fX7_stop
  refine rf_aload_n X rfl dX7_stop_0 ?_
  refine rf_iconst X (0 : Int32) rfl dX7_stop_1 ?_
  refine rf_bind (fun A1 hA1 => ?_)
  refine rf_putI X fp_X7_82 (fun h => by cases h) hA1 dX7_stop_2 ?_
  refine rf_aload_n X rfl dX7_stop_5 ?_
  refine rf_bind (fun v2 hv2 => ?_)
  refine rf_bind (fun g3 hg3 => ?_)
  refine rf_callVU X c_X7_150 ⟨Nat.le_of_ble_eq_true rfl, Nat.le_of_ble_eq_true rfl⟩ [] rfl (Nat.le_of_ble_eq_true rfl) hv2 (sX7_free l D n v2 A1 g3 hg3) dX7_stop_6 ?_
  refine rf_aload_n X rfl dX7_stop_9 ?_
  refine rf_bind (fun v4 hv4 => ?_)
  refine rf_getR X fl_X7_44 hv4 dX7_stop_10 ?_
  refine rf_bind (fun v5 hv5 => ?_)
  refine rf_bind (fun g6 hg6 => ?_)
  refine rf_callVU X c_X7_55 ⟨Nat.le_of_ble_eq_true rfl, Nat.le_of_ble_eq_true rfl⟩ [] rfl (Nat.le_of_ble_eq_true rfl) hv5 (sX3_clear l D n v5 g3 g6 hg6) dX7_stop_13 ?_
  exact rf_vret X rfl dX7_stop_16

theorem dX1_stop_0 : decode cX1_stop 0 = .ok (.aload_n 0, 1) := by decide +kernel
theorem dX1_stop_1 : decode cX1_stop 1 = .ok (.getfield 57, 3) := by decide +kernel
theorem dX1_stop_4 : decode cX1_stop 4 = .ok (.invokevirtual 61, 3) := by decide +kernel
theorem dX1_stop_7 : decode cX1_stop 7 = .ok (.ifCond .ne 5, 3) := by decide +kernel
theorem dX1_stop_10 : decode cX1_stop 10 = .ok (.iconst 0, 1) := by decide +kernel
theorem dX1_stop_11 : decode cX1_stop 11 = .ok (.ireturn, 1) := by decide +kernel
theorem dX1_stop_12 : decode cX1_stop 12 = .ok (.aload_n 0, 1) := by decide +kernel
theorem dX1_stop_13 : decode cX1_stop 13 = .ok (.getfield 57, 3) := by decide +kernel
theorem dX1_stop_16 : decode cX1_stop 16 = .ok (.invokevirtual 105, 3) := by decide +kernel
theorem dX1_stop_19 : decode cX1_stop 19 = .ok (.iconst 1, 1) := by decide +kernel
theorem dX1_stop_20 : decode cX1_stop 20 = .ok (.ireturn, 1) := by decide +kernel
def fX1_stop (n : Nat) (a0 : Nat) (A : AH) : Option (Int32 × AH) :=
(gR A (some a0) 1 5).bind fun v1 =>
(rcv A v1 7).bind fun v2 =>
(fX7_isOn v2 A).bind fun g3 =>
if g3 = 0 then (some ((nb (0 : Int32)), A)) else
(fX7_stop n v2 A).bind fun g5 =>
some ((nb (1 : Int32)), g5)

set_option maxHeartbeats 4000000 in
set_option maxRecDepth 100000 in
theorem sX1_stop (l : Launch) (D : DE) (n : Nat) (a0 : Nat) (A : AH) (g : Int32 × AH) (hg : fX1_stop n a0 A = some g) : Sm l D yX1_stop cX1_stop 1 (some Jvm.ClassFile.FieldType.boolean) 11 279 [tR (some a0)] A (wI g).1 (wI g).2 := by
  refine Sm.of (ω := wI) (fX1_stop n a0 A) [some (tR (some a0))] (by decide) (Nat.le_of_ble_eq_true rfl) rfl hg ?_
  intro p e R s m args below meth c X hin
  have X : Cx D cX1_stop RX1 1 11 279 (some Jvm.ClassFile.FieldType.boolean) p R s m args meth c := X
  unfold fX1_stop
  refine rf_aload_n X rfl dX1_stop_0 ?_
  refine rf_bind (fun v1 hv1 => ?_)
  refine rf_getR X fl_X1_57 hv1 dX1_stop_1 ?_
  refine rf_bind (fun v2 hv2 => ?_)
  refine rf_bind (fun g3 hg3 => ?_)
  refine rf_callVI X c_X1_61 ⟨Nat.le_of_ble_eq_true rfl, Nat.le_of_ble_eq_true rfl⟩ [] rfl (Nat.le_of_ble_eq_true rfl) hv2 (sX7_isOn l D v2 A g3 hg3) dX1_stop_4 ?_
  refine rf_if_ne X (tgt := 12) rfl dX1_stop_7 (fun c4 => rf_neg c4 ?_) (fun c4 => rf_pos c4 ?_)
  · refine rf_aload_n X rfl dX1_stop_12 ?_
    refine rf_getR X fl_X1_57 hv1 dX1_stop_13 ?_
    refine rf_bind (fun g5 hg5 => ?_)
    refine rf_callVU X c_X1_105 ⟨Nat.le_of_ble_eq_true rfl, Nat.le_of_ble_eq_true rfl⟩ [] rfl (Nat.le_of_ble_eq_true rfl) hv2 (sX7_stop l D n v2 A g5 hg5) dX1_stop_16 ?_
    refine rf_iconst X (1 : Int32) rfl dX1_stop_19 ?_
    exact rf_zret X rfl dX1_stop_20
  refine rf_iconst X (0 : Int32) rfl dX1_stop_10 ?_
  exact rf_zret X rfl dX1_stop_11

