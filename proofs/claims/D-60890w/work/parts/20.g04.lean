/-! 20.g04: printed by gen/parts.py -/
set_option maxRecDepth 100000
theorem fp_X7_14 : FL RX7 14 7 8 (.object "java/util/ArrayList") true := ⟨RX7, TX7, 26, tyX7, "WarpMill$Machine", "", rfl, by decide, in_X7, tyX7_ok, nmX7, Or.inl q809, Or.inl rfl, rfl, rfl, fun _ => ⟨rfl, q809⟩⟩
theorem fp_X7_20 : FL RX7 20 7 0 (.int) true := ⟨RX7, TX7, 26, tyX7, "WarpMill$Machine", "", rfl, by decide, in_X7, tyX7_ok, nmX7, Or.inl q796, Or.inl rfl, rfl, rfl, fun _ => ⟨rfl, q796⟩⟩
theorem fp_X7_24 : FL RX7 24 7 1 (.int) true := ⟨RX7, TX7, 26, tyX7, "WarpMill$Machine", "", rfl, by decide, in_X7, tyX7_ok, nmX7, Or.inl q798, Or.inl rfl, rfl, rfl, fun _ => ⟨rfl, q798⟩⟩
theorem fp_X7_27 : FL RX7 27 7 2 (.int) true := ⟨RX7, TX7, 26, tyX7, "WarpMill$Machine", "", rfl, by decide, in_X7, tyX7_ok, nmX7, Or.inl q800, Or.inl rfl, rfl, rfl, fun _ => ⟨rfl, q800⟩⟩
theorem fp_X7_30 : FL RX7 30 7 3 (.int) true := ⟨RX7, TX7, 26, tyX7, "WarpMill$Machine", "", rfl, by decide, in_X7, tyX7_ok, nmX7, Or.inl q802, Or.inl rfl, rfl, rfl, fun _ => ⟨rfl, q802⟩⟩
theorem fp_X7_33 : FL RX7 33 7 4 (.object "java/util/ArrayList") true := ⟨RX7, TX7, 26, tyX7, "WarpMill$Machine", "", rfl, by decide, in_X7, tyX7_ok, nmX7, Or.inl q804, Or.inl rfl, rfl, rfl, fun _ => ⟨rfl, q804⟩⟩
theorem fp_X7_36 : FL RX7 36 7 5 (.array .int) true := ⟨RX7, TX7, 26, tyX7, "WarpMill$Machine", "", rfl, by decide, in_X7, tyX7_ok, nmX7, Or.inl q805, Or.inl rfl, rfl, rfl, fun _ => ⟨rfl, q805⟩⟩
theorem fp_X7_40 : FL RX7 40 7 6 (.object "WarpMill$Pool") true := ⟨RX7, TX7, 26, tyX7, "WarpMill$Machine", "", rfl, by decide, in_X7, tyX7_ok, nmX7, Or.inl q806, Or.inl rfl, rfl, rfl, fun _ => ⟨rfl, q806⟩⟩
theorem fp_X7_44 : FL RX7 44 7 7 (.object "WarpMill$Heap") true := ⟨RX7, TX7, 26, tyX7, "WarpMill$Machine", "", rfl, by decide, in_X7, tyX7_ok, nmX7, Or.inl q807, Or.inl rfl, rfl, rfl, fun _ => ⟨rfl, q807⟩⟩
theorem fp_X7_48 : FL RX7 48 7 10 (.object "WarpMill$Coalescer") true := ⟨RX7, TX7, 26, tyX7, "WarpMill$Machine", "", rfl, by decide, in_X7, tyX7_ok, nmX7, Or.inl q813, Or.inl rfl, rfl, rfl, fun _ => ⟨rfl, q813⟩⟩
theorem fp_X7_52 : FL RX7 52 7 21 (.int) false := ⟨RX7, TX7, 26, tyX7, "WarpMill$Machine", "", rfl, by decide, in_X7, tyX7_ok, nmX7, Or.inl q830, Or.inl rfl, rfl, rfl, fun h => by cases h⟩
theorem fp_X7_60 : FL RX7 60 4 3 (.int) false := ⟨RX4, TX4, 8, tyX4, "WarpMill$Coalescer", "WarpMill", rfl, by decide, in_X4, tyX4_ok, nmX4, Or.inr q543, Or.inl rfl, rfl, rfl, fun h => by cases h⟩
theorem fp_X7_75 : FL RX7 75 7 9 (.object "WarpMill$Cache") true := ⟨RX7, TX7, 26, tyX7, "WarpMill$Machine", "", rfl, by decide, in_X7, tyX7_ok, nmX7, Or.inl q811, Or.inl rfl, rfl, rfl, fun _ => ⟨rfl, q811⟩⟩
theorem fp_X7_79 : FL RX7 79 7 11 (.array .int) true := ⟨RX7, TX7, 26, tyX7, "WarpMill$Machine", "", rfl, by decide, in_X7, tyX7_ok, nmX7, Or.inl q814, Or.inl rfl, rfl, rfl, fun _ => ⟨rfl, q814⟩⟩
theorem fl_X7_14 : FLr RX7 14 7 8 := ⟨RX7, TX7, 26, "WarpMill$Machine", "", rfl, by decide, in_X7, Or.inl q809, Or.inl rfl⟩
theorem fp_X1_14 : FL RX1 14 1 0 (.object "java/util/ArrayList") true := ⟨RX1, TX1, 6, tyX1, "WarpMill", "", rfl, by decide, in_X1, tyX1_ok, nmX1, Or.inl q893, Or.inl rfl, rfl, rfl, fun _ => ⟨rfl, q893⟩⟩
theorem fp_X1_18 : FL RX1 18 1 1 (.array .int) true := ⟨RX1, TX1, 6, tyX1, "WarpMill", "", rfl, by decide, in_X1, tyX1_ok, nmX1, Or.inl q894, Or.inl rfl, rfl, rfl, fun _ => ⟨rfl, q894⟩⟩
theorem fp_X1_25 : FL RX1 25 1 2 (.object "WarpMill$Pool") true := ⟨RX1, TX1, 6, tyX1, "WarpMill", "", rfl, by decide, in_X1, tyX1_ok, nmX1, Or.inl q895, Or.inl rfl, rfl, rfl, fun _ => ⟨rfl, q895⟩⟩
theorem fp_X1_32 : FL RX1 32 1 3 (.object "WarpMill$Heap") true := ⟨RX1, TX1, 6, tyX1, "WarpMill", "", rfl, by decide, in_X1, tyX1_ok, nmX1, Or.inl q896, Or.inl rfl, rfl, rfl, fun _ => ⟨rfl, q896⟩⟩
theorem fp_X1_39 : FL RX1 39 1 4 (.object "WarpMill$Coalescer") true := ⟨RX1, TX1, 6, tyX1, "WarpMill", "", rfl, by decide, in_X1, tyX1_ok, nmX1, Or.inl q897, Or.inl rfl, rfl, rfl, fun _ => ⟨rfl, q897⟩⟩
theorem fl_X1_14 : FLr RX1 14 1 0 := ⟨RX1, TX1, 6, "WarpMill", "", rfl, by decide, in_X1, Or.inl q893, Or.inl rfl⟩
theorem fl_X1_18 : FLr RX1 18 1 1 := ⟨RX1, TX1, 6, "WarpMill", "", rfl, by decide, in_X1, Or.inl q894, Or.inl rfl⟩
theorem fl_X1_25 : FLr RX1 25 1 2 := ⟨RX1, TX1, 6, "WarpMill", "", rfl, by decide, in_X1, Or.inl q895, Or.inl rfl⟩
theorem fl_X1_32 : FLr RX1 32 1 3 := ⟨RX1, TX1, 6, "WarpMill", "", rfl, by decide, in_X1, Or.inl q896, Or.inl rfl⟩
theorem fl_X1_39 : FLr RX1 39 1 4 := ⟨RX1, TX1, 6, "WarpMill", "", rfl, by decide, in_X1, Or.inl q897, Or.inl rfl⟩
theorem fp_X1_57 : FL RX1 57 1 5 (.object "WarpMill$Machine") false := ⟨RX1, TX1, 6, tyX1, "WarpMill", "", rfl, by decide, in_X1, tyX1_ok, nmX1, Or.inl q898, Or.inl rfl, rfl, rfl, fun h => by cases h⟩
theorem fl_X7_82 : FLr RX7 82 7 12 := ⟨RX7, TX7, 26, "WarpMill$Machine", "", rfl, by decide, in_X7, Or.inl q815, Or.inl rfl⟩
theorem fl_X8_9 : FLr RX8 9 8 0 := ⟨RX8, TX8, 5, "WarpMill$Unit", "", rfl, by decide, in_X8, Or.inl q727, Or.inl rfl⟩
theorem fl_X8_35 : FLr RX8 35 13 0 := ⟨RX13, TX13, 6, "WarpMill$Warp", "WarpMill", rfl, by decide, in_X13, Or.inr q1153, Or.inl rfl⟩
theorem fl_X2_61 : FLr RX2 61 12 2 := ⟨RX12, TX12, 3, "WarpMill$Block", "WarpMill", rfl, by decide, in_X12, Or.inr q1126, Or.inl rfl⟩
theorem fl_X2_10 : FLr RX2 10 2 0 := ⟨RX2, TX2, 3, "WarpMill$Pool", "", rfl, by decide, in_X2, Or.inl q478, Or.inl rfl⟩
theorem fl_X2_46 : FLr RX2 46 13 2 := ⟨RX13, TX13, 6, "WarpMill$Warp", "WarpMill", rfl, by decide, in_X13, Or.inr q1161, Or.inl rfl⟩
theorem fl_X2_16 : FLr RX2 16 2 1 := ⟨RX2, TX2, 3, "WarpMill$Pool", "", rfl, by decide, in_X2, Or.inl q479, Or.inl rfl⟩
theorem fl_X2_19 : FLr RX2 19 2 2 := ⟨RX2, TX2, 3, "WarpMill$Pool", "", rfl, by decide, in_X2, Or.inl q480, Or.inl rfl⟩
theorem fl_X7_40 : FLr RX7 40 7 6 := ⟨RX7, TX7, 26, "WarpMill$Machine", "", rfl, by decide, in_X7, Or.inl q806, Or.inl rfl⟩
theorem nw_X7_9 : NW RX7 9 0 dfJ2 := ⟨RJ2, TJ2, 3, tyJ2, rfl, in_J2, tyJ2_ok, q689, q127, q82, rfl, by decide⟩
theorem nw_X7_72 : NW RX7 72 9 dfX9 := ⟨RX9, TX9, 3, tyX9, rfl, in_X9, tyX9_ok, q754, q755, q109, rfl, by decide⟩
theorem nw_X7_65 : NW RX7 65 8 dfX8 := ⟨RX8, TX8, 5, tyX8, rfl, in_X8, tyX8_ok, q719, q720, q108, rfl, by decide⟩
theorem nw_X1_7 : NW RX1 7 0 dfJ2 := ⟨RJ2, TJ2, 3, tyJ2, rfl, in_J2, tyJ2_ok, q126, q127, q82, rfl, by decide⟩
theorem nw_X1_22 : NW RX1 22 2 dfX2 := ⟨RX2, TX2, 3, tyX2, rfl, in_X2, tyX2_ok, q466, q467, q99, rfl, by decide⟩
theorem nw_X1_29 : NW RX1 29 3 dfX3 := ⟨RX3, TX3, 3, tyX3, rfl, in_X3, tyX3_ok, q489, q490, q100, rfl, by decide⟩
theorem nw_X1_36 : NW RX1 36 4 dfX4 := ⟨RX4, TX4, 8, tyX4, rfl, in_X4, tyX4_ok, q509, q510, q101, rfl, by decide⟩
theorem nw_X1_43 : NW RX1 43 5 dfX5 := ⟨RX5, TX5, 7, tyX5, rfl, in_X5, tyX5_ok, q569, q570, q103, rfl, by decide⟩
theorem nw_X1_52 : NW RX1 52 7 dfX7 := ⟨RX7, TX7, 26, tyX7, rfl, in_X7, tyX7_ok, q683, q684, q106, rfl, by decide⟩
theorem c_X7_11 : CI RX7 11 yJ2_init cJ2_init 2 1 := ⟨Or.inl q690, q129, q82, q130, rfl, ⟨by decide +kernel, by decide +kernel, by decide +kernel⟩⟩
theorem c_X7_55 : CV RX7 55 3 yX3_clear cX3_clear 2 none 0 := ⟨TX3, 3, rfl, q691, q692, q693, q100, q694, ⟨by decide +kernel, by decide +kernel, by decide +kernel⟩⟩
theorem c_X7_74 : CI RX7 74 yX9_init cX9_init 3 1 := ⟨Or.inl q756, q757, q109, q758, rfl, ⟨by decide +kernel, by decide +kernel, by decide +kernel⟩⟩
theorem c_X7_67 : CI RX7 67 yX8_init cX8_init 2 1 := ⟨Or.inl q721, q722, q108, q723, rfl, ⟨by decide +kernel, by decide +kernel, by decide +kernel⟩⟩
theorem c_X7_68 : CV RX7 68 0 yJ2_add cJ2_add 2 (some Jvm.ClassFile.FieldType.boolean) 1 := ⟨TJ2, 3, rfl, q753, q632, q633, q82, q634, ⟨by decide +kernel, by decide +kernel, by decide +kernel⟩⟩
theorem c_X1_11 : CI RX1 11 yJ2_init cJ2_init 2 1 := ⟨Or.inl q128, q129, q82, q130, rfl, ⟨by decide +kernel, by decide +kernel, by decide +kernel⟩⟩
theorem c_X1_24 : CI RX1 24 yX2_init cX2_init 1 0 := ⟨Or.inr ⟨_, q468⟩, q469, q99, q470, rfl, ⟨by decide +kernel, by decide +kernel, by decide +kernel⟩⟩
theorem c_X1_31 : CI RX1 31 yX3_init cX3_init 1 0 := ⟨Or.inr ⟨_, q491⟩, q492, q100, q493, rfl, ⟨by decide +kernel, by decide +kernel, by decide +kernel⟩⟩
theorem c_X1_38 : CI RX1 38 yX4_init cX4_init 1 0 := ⟨Or.inr ⟨_, q511⟩, q512, q101, q513, rfl, ⟨by decide +kernel, by decide +kernel, by decide +kernel⟩⟩
theorem c_X1_45 : CI RX1 45 yX5_init cX5_init 3 1 := ⟨Or.inl q571, q572, q103, q573, rfl, ⟨by decide +kernel, by decide +kernel, by decide +kernel⟩⟩
theorem c_X1_54 : CI RX1 54 yX7_init cX7_init 14 12 := ⟨Or.inl q685, q686, q106, q687, rfl, ⟨by decide +kernel, by decide +kernel, by decide +kernel⟩⟩
theorem c_X1_48 : CV RX1 48 0 yJ2_add cJ2_add 2 (some Jvm.ClassFile.FieldType.boolean) 1 := ⟨TJ2, 3, rfl, q631, q632, q633, q82, q634, ⟨by decide +kernel, by decide +kernel, by decide +kernel⟩⟩
theorem c_X2_29 : CV RX2 29 0 yJ2_size cJ2_size 1 (some Jvm.ClassFile.FieldType.int) 0 := ⟨TJ2, 3, rfl, q941, q696, q697, q82, q698, ⟨by decide +kernel, by decide +kernel, by decide +kernel⟩⟩
theorem c_X2_51 : CV RX2 51 0 yJ2_add cJ2_add 2 (some Jvm.ClassFile.FieldType.boolean) 1 := ⟨TJ2, 3, rfl, q945, q632, q633, q82, q634, ⟨by decide +kernel, by decide +kernel, by decide +kernel⟩⟩
theorem c_X2_72 : CV RX2 72 0 yJ2_get cJ2_get 2 (some (Jvm.ClassFile.FieldType.object "java/lang/Object")) 1 := ⟨TJ2, 3, rfl, q942, q700, q701, q82, q702, ⟨by decide +kernel, by decide +kernel, by decide +kernel⟩⟩
theorem c_X8_39 : CV RX8 39 8 yX8_leave cX8_leave 3 none 1 := ⟨TX8, 5, rfl, q933, q934, q935, q108, q936, ⟨by decide +kernel, by decide +kernel, by decide +kernel⟩⟩
theorem c_X8_43 : CV RX8 43 2 yX2_free cX2_free 5 none 1 := ⟨TX2, 3, rfl, q937, q938, q939, q99, q940, ⟨by decide +kernel, by decide +kernel, by decide +kernel⟩⟩
theorem c_X7_118 : CV RX7 118 0 yJ2_size cJ2_size 1 (some Jvm.ClassFile.FieldType.int) 0 := ⟨TJ2, 3, rfl, q927, q696, q697, q82, q698, ⟨by decide +kernel, by decide +kernel, by decide +kernel⟩⟩
theorem c_X7_122 : CV RX7 122 0 yJ2_get cJ2_get 2 (some (Jvm.ClassFile.FieldType.object "java/lang/Object")) 1 := ⟨TJ2, 3, rfl, q928, q700, q701, q82, q702, ⟨by decide +kernel, by decide +kernel, by decide +kernel⟩⟩
theorem c_X7_153 : CV RX7 153 8 yX8_clear cX8_clear 4 none 1 := ⟨TX8, 5, rfl, q929, q930, q931, q108, q932, ⟨by decide +kernel, by decide +kernel, by decide +kernel⟩⟩
theorem dX7_init_0 : decode cX7_init 0 = .ok (.aload_n 0, 1) := by decide +kernel
theorem dX7_init_1 : decode cX7_init 1 = .ok (.invokespecial 3, 3) := by decide +kernel
theorem dX7_init_4 : decode cX7_init 4 = .ok (.aload_n 0, 1) := by decide +kernel
theorem dX7_init_5 : decode cX7_init 5 = .ok (.new 9, 3) := by decide +kernel
theorem dX7_init_8 : decode cX7_init 8 = .ok (.dup, 1) := by decide +kernel
theorem dX7_init_9 : decode cX7_init 9 = .ok (.iconst 4, 1) := by decide +kernel
theorem dX7_init_10 : decode cX7_init 10 = .ok (.invokespecial 11, 3) := by decide +kernel
theorem dX7_init_13 : decode cX7_init 13 = .ok (.putfield 14, 3) := by decide +kernel
theorem dX7_init_16 : decode cX7_init 16 = .ok (.aload_n 0, 1) := by decide +kernel
theorem dX7_init_17 : decode cX7_init 17 = .ok (.iload_n 1, 1) := by decide +kernel
theorem dX7_init_18 : decode cX7_init 18 = .ok (.putfield 20, 3) := by decide +kernel
theorem dX7_init_21 : decode cX7_init 21 = .ok (.aload_n 0, 1) := by decide +kernel
theorem dX7_init_22 : decode cX7_init 22 = .ok (.iload_n 2, 1) := by decide +kernel
theorem dX7_init_23 : decode cX7_init 23 = .ok (.putfield 24, 3) := by decide +kernel
theorem dX7_init_26 : decode cX7_init 26 = .ok (.aload_n 0, 1) := by decide +kernel
theorem dX7_init_27 : decode cX7_init 27 = .ok (.iload 4, 2) := by decide +kernel
theorem dX7_init_29 : decode cX7_init 29 = .ok (.putfield 27, 3) := by decide +kernel
theorem dX7_init_32 : decode cX7_init 32 = .ok (.aload_n 0, 1) := by decide +kernel
theorem dX7_init_33 : decode cX7_init 33 = .ok (.iload 6, 2) := by decide +kernel
theorem dX7_init_35 : decode cX7_init 35 = .ok (.putfield 30, 3) := by decide +kernel
theorem dX7_init_38 : decode cX7_init 38 = .ok (.aload_n 0, 1) := by decide +kernel
theorem dX7_init_39 : decode cX7_init 39 = .ok (.aload 7, 2) := by decide +kernel
theorem dX7_init_41 : decode cX7_init 41 = .ok (.putfield 33, 3) := by decide +kernel
theorem dX7_init_44 : decode cX7_init 44 = .ok (.aload_n 0, 1) := by decide +kernel
theorem dX7_init_45 : decode cX7_init 45 = .ok (.aload 8, 2) := by decide +kernel
theorem dX7_init_47 : decode cX7_init 47 = .ok (.putfield 36, 3) := by decide +kernel
theorem dX7_init_50 : decode cX7_init 50 = .ok (.aload_n 0, 1) := by decide +kernel
theorem dX7_init_51 : decode cX7_init 51 = .ok (.aload 9, 2) := by decide +kernel
theorem dX7_init_53 : decode cX7_init 53 = .ok (.putfield 40, 3) := by decide +kernel
theorem dX7_init_56 : decode cX7_init 56 = .ok (.aload_n 0, 1) := by decide +kernel
theorem dX7_init_57 : decode cX7_init 57 = .ok (.aload 10, 2) := by decide +kernel
theorem dX7_init_59 : decode cX7_init 59 = .ok (.putfield 44, 3) := by decide +kernel
theorem dX7_init_62 : decode cX7_init 62 = .ok (.aload_n 0, 1) := by decide +kernel
theorem dX7_init_63 : decode cX7_init 63 = .ok (.aload 11, 2) := by decide +kernel
theorem dX7_init_65 : decode cX7_init 65 = .ok (.putfield 48, 3) := by decide +kernel
theorem dX7_init_68 : decode cX7_init 68 = .ok (.aload_n 0, 1) := by decide +kernel
theorem dX7_init_69 : decode cX7_init 69 = .ok (.iload 12, 2) := by decide +kernel
theorem dX7_init_71 : decode cX7_init 71 = .ok (.putfield 52, 3) := by decide +kernel
theorem dX7_init_74 : decode cX7_init 74 = .ok (.aload 10, 2) := by decide +kernel
theorem dX7_init_76 : decode cX7_init 76 = .ok (.invokevirtual 55, 3) := by decide +kernel
theorem dX7_init_79 : decode cX7_init 79 = .ok (.aload 11, 2) := by decide +kernel
theorem dX7_init_81 : decode cX7_init 81 = .ok (.iload 4, 2) := by decide +kernel
theorem dX7_init_83 : decode cX7_init 83 = .ok (.putfield 60, 3) := by decide +kernel
theorem dX7_init_86 : decode cX7_init 86 = .ok (.iconst 0, 1) := by decide +kernel
theorem dX7_init_87 : decode cX7_init 87 = .ok (.istore 13, 2) := by decide +kernel
theorem dX7_init_89 : decode cX7_init 89 = .ok (.iload 13, 2) := by decide +kernel
theorem dX7_init_91 : decode cX7_init 91 = .ok (.iload_n 3, 1) := by decide +kernel
theorem dX7_init_92 : decode cX7_init 92 = .ok (.if_icmp .ge 25, 3) := by decide +kernel
theorem dX7_init_95 : decode cX7_init 95 = .ok (.aload_n 0, 1) := by decide +kernel
theorem dX7_init_96 : decode cX7_init 96 = .ok (.getfield 14, 3) := by decide +kernel
theorem dX7_init_99 : decode cX7_init 99 = .ok (.new 65, 3) := by decide +kernel
theorem dX7_init_102 : decode cX7_init 102 = .ok (.dup, 1) := by decide +kernel
theorem dX7_init_103 : decode cX7_init 103 = .ok (.iload_n 2, 1) := by decide +kernel
theorem dX7_init_104 : decode cX7_init 104 = .ok (.invokespecial 67, 3) := by decide +kernel
theorem dX7_init_107 : decode cX7_init 107 = .ok (.invokevirtual 68, 3) := by decide +kernel
theorem dX7_init_110 : decode cX7_init 110 = .ok (.pop, 1) := by decide +kernel
theorem dX7_init_111 : decode cX7_init 111 = .ok (.iinc 13 1, 3) := by decide +kernel
theorem dX7_init_114 : decode cX7_init 114 = .ok (.goto (-25), 3) := by decide +kernel
theorem dX7_init_117 : decode cX7_init 117 = .ok (.aload_n 0, 1) := by decide +kernel
theorem dX7_init_118 : decode cX7_init 118 = .ok (.new 72, 3) := by decide +kernel
theorem dX7_init_121 : decode cX7_init 121 = .ok (.dup, 1) := by decide +kernel
theorem dX7_init_122 : decode cX7_init 122 = .ok (.iload 5, 2) := by decide +kernel
theorem dX7_init_124 : decode cX7_init 124 = .ok (.invokespecial 74, 3) := by decide +kernel
theorem dX7_init_127 : decode cX7_init 127 = .ok (.putfield 75, 3) := by decide +kernel
theorem dX7_init_130 : decode cX7_init 130 = .ok (.aload_n 0, 1) := by decide +kernel
theorem dX7_init_131 : decode cX7_init 131 = .ok (.iload_n 1, 1) := by decide +kernel
theorem dX7_init_132 : decode cX7_init 132 = .ok (.newarray .int, 2) := by decide +kernel
theorem dX7_init_134 : decode cX7_init 134 = .ok (.putfield 79, 3) := by decide +kernel
theorem dX7_init_137 : decode cX7_init 137 = .ok (.return_, 1) := by decide +kernel
def fX7_init (n : Nat) (a0 : Nat) (p1 : Int32) (p2 : Int32) (p3 : Int32) (p4 : Int32) (p5 : Int32) (p6 : Int32) (p7 : Option Nat) (p8 : Option Nat) (p9 : Option Nat) (p10 : Option Nat) (p11 : Option Nat) (p12 : Int32) (A : AH) : Option (AH) :=
(nO A 0 dfJ2).bind fun A1 =>
(fJ2_init (hN A) (4 : Int32) A1).bind fun g2 =>
(pR g2 (some a0) 7 8 (some (hN A))).bind fun A3 =>
(pI A3 (some a0) 7 0 p1).bind fun A4 =>
(pI A4 (some a0) 7 1 p2).bind fun A5 =>
(pI A5 (some a0) 7 2 p4).bind fun A6 =>
(pI A6 (some a0) 7 3 p6).bind fun A7 =>
(pR A7 (some a0) 7 4 p7).bind fun A8 =>
(pR A8 (some a0) 7 5 p8).bind fun A9 =>
(pR A9 (some a0) 7 6 p9).bind fun A10 =>
(pR A10 (some a0) 7 7 p10).bind fun A11 =>
(pR A11 (some a0) 7 10 p11).bind fun A12 =>
(pI A12 (some a0) 7 21 p12).bind fun A13 =>
(rcv A13 p10 3).bind fun v14 =>
(fX3_clear n v14 A13).bind fun g15 =>
(pI g15 p11 4 3 p4).bind fun A16 =>
jl (fixG (fun _ _ => none) (fun (rc20 : (Int32) → (AH) → Option (AH)) (x18 : Int32) (A19 : AH) =>
if p3 ≤ x18 then ((nO A19 9 dfX9).bind fun A22 =>
(fX9_init n (hN A19) p5 A22).bind fun g23 =>
(pR g23 (some a0) 7 9 (some (hN A19))).bind fun A24 =>
(nAI A24 p1).bind fun A25 =>
(pR A25 (some a0) 7 11 (some (hN A24))).bind fun A26 =>
some A26) else
(gR A19 (some a0) 7 8).bind fun v27 =>
(nO A19 8 dfX8).bind fun A28 =>
(fX8_init (hN A19) p2 A28).bind fun g29 =>
(rcv g29 v27 0).bind fun v30 =>
(fJ2_add v30 (some (hN A19)) g29).bind fun g31 =>
rc20 (x18 + (1 : Int32)) g31.2) n) fun j17 =>
j17 (0 : Int32) A16

set_option maxHeartbeats 4000000 in
set_option maxRecDepth 100000 in
theorem sX7_init (l : Launch) (D : DE) (n : Nat) (a0 : Nat) (p1 : Int32) (p2 : Int32) (p3 : Int32) (p4 : Int32) (p5 : Int32) (p6 : Int32) (p7 : Option Nat) (p8 : Option Nat) (p9 : Option Nat) (p10 : Option Nat) (p11 : Option Nat) (p12 : Int32) (A : AH) (g : AH) (hg : fX7_init n a0 p1 p2 p3 p4 p5 p6 p7 p8 p9 p10 p11 p12 A = some g) : Sm l D yX7_init cX7_init 14 none 8 213 [tR (some a0), tI p1, tI p2, tI p3, tI p4, tI p5, tI p6, tR p7, tR p8, tR p9, tR p10, tR p11, tI p12] A (wU g).1 (wU g).2 := by
  refine Sm.of (ω := wU) (fX7_init n a0 p1 p2 p3 p4 p5 p6 p7 p8 p9 p10 p11 p12 A) [some (tR (some a0)), some (tI p1), some (tI p2), some (tI p3), some (tI p4), some (tI p5), some (tI p6), some (tR p7), some (tR p8), some (tR p9), some (tR p10), some (tR p11), some (tI p12), none] (by decide) (Nat.le_of_ble_eq_true rfl) rfl hg ?_
  intro p e R s m args below meth c X hin
  have X : Cx D cX7_init RX7 14 8 213 none p R s m args meth c := X
  unfold fX7_init
  refine rf_aload_n X rfl dX7_init_0 ?_
  refine rf_objInit X q688 ⟨by decide, by decide⟩ (Nat.le_of_ble_eq_true rfl) dX7_init_1 ?_
  refine rf_aload_n X rfl dX7_init_4 ?_
  refine rf_bind (fun A1 hA1 => ?_)
  refine rf_new X nw_X7_9 hA1 dX7_init_5 ?_
  refine rf_dup X rfl dX7_init_8 ?_
  refine rf_iconst X (4 : Int32) rfl dX7_init_9 ?_
  refine rf_bind (fun g2 hg2 => ?_)
  refine rf_callI X c_X7_11 ⟨Nat.le_of_ble_eq_true rfl, Nat.le_of_ble_eq_true rfl⟩ [tI (4 : Int32)] rfl (Nat.le_of_ble_eq_true rfl) (sJ2_init l D (hN A) (4 : Int32) A1 g2 hg2) dX7_init_10 ?_
  refine rf_bind (fun A3 hA3 => ?_)
  refine rf_putR X fp_X7_14 (fun _ => hin) rfl hA3 dX7_init_13 ?_
  refine rf_aload_n X rfl dX7_init_16 ?_
  refine rf_iload_n X rfl dX7_init_17 ?_
  refine rf_bind (fun A4 hA4 => ?_)
  refine rf_putI X fp_X7_20 (fun _ => hin) hA4 dX7_init_18 ?_
  refine rf_aload_n X rfl dX7_init_21 ?_
  refine rf_iload_n X rfl dX7_init_22 ?_
  refine rf_bind (fun A5 hA5 => ?_)
  refine rf_putI X fp_X7_24 (fun _ => hin) hA5 dX7_init_23 ?_
  refine rf_aload_n X rfl dX7_init_26 ?_
  refine rf_iload X rfl dX7_init_27 ?_
  refine rf_bind (fun A6 hA6 => ?_)
  refine rf_putI X fp_X7_27 (fun _ => hin) hA6 dX7_init_29 ?_
  refine rf_aload_n X rfl dX7_init_32 ?_
  refine rf_iload X rfl dX7_init_33 ?_
  refine rf_bind (fun A7 hA7 => ?_)
  refine rf_putI X fp_X7_30 (fun _ => hin) hA7 dX7_init_35 ?_
  refine rf_aload_n X rfl dX7_init_38 ?_
  refine rf_aload X rfl dX7_init_39 ?_
  refine rf_bind (fun A8 hA8 => ?_)
  refine rf_putR X fp_X7_33 (fun _ => hin) rfl hA8 dX7_init_41 ?_
  refine rf_aload_n X rfl dX7_init_44 ?_
  refine rf_aload X rfl dX7_init_45 ?_
  refine rf_bind (fun A9 hA9 => ?_)
  refine rf_putR X fp_X7_36 (fun _ => hin) rfl hA9 dX7_init_47 ?_
  refine rf_aload_n X rfl dX7_init_50 ?_
  refine rf_aload X rfl dX7_init_51 ?_
  refine rf_bind (fun A10 hA10 => ?_)
  refine rf_putR X fp_X7_40 (fun _ => hin) rfl hA10 dX7_init_53 ?_
  refine rf_aload_n X rfl dX7_init_56 ?_
  refine rf_aload X rfl dX7_init_57 ?_
  refine rf_bind (fun A11 hA11 => ?_)
  refine rf_putR X fp_X7_44 (fun _ => hin) rfl hA11 dX7_init_59 ?_
  refine rf_aload_n X rfl dX7_init_62 ?_
  refine rf_aload X rfl dX7_init_63 ?_
  refine rf_bind (fun A12 hA12 => ?_)
  refine rf_putR X fp_X7_48 (fun _ => hin) rfl hA12 dX7_init_65 ?_
  refine rf_aload_n X rfl dX7_init_68 ?_
  refine rf_iload X rfl dX7_init_69 ?_
  refine rf_bind (fun A13 hA13 => ?_)
  refine rf_putI X fp_X7_52 (fun _ => hin) hA13 dX7_init_71 ?_
  refine rf_aload X rfl dX7_init_74 ?_
  refine rf_bind (fun v14 hv14 => ?_)
  refine rf_bind (fun g15 hg15 => ?_)
  refine rf_callVU X c_X7_55 ⟨Nat.le_of_ble_eq_true rfl, Nat.le_of_ble_eq_true rfl⟩ [] rfl (Nat.le_of_ble_eq_true rfl) hv14 (sX3_clear l D n v14 A13 g15 hg15) dX7_init_76 ?_
  refine rf_aload X rfl dX7_init_79 ?_
  refine rf_iload X rfl dX7_init_81 ?_
  refine rf_bind (fun A16 hA16 => ?_)
  refine rf_putI X fp_X7_60 (fun _ => hin) hA16 dX7_init_83 ?_
  refine rf_iconst X (0 : Int32) rfl dX7_init_86 ?_
  refine rf_istore X (ls' := [some (tR (some a0)), some (tI p1), some (tI p2), some (tI p3), some (tI p4), some (tI p5), some (tI p6), some (tR p7), some (tR p8), some (tR p9), some (tR p10), some (tR p11), some (tI p12), some (tI (0 : Int32))]) rfl (by decide) dX7_init_87 ?_
  refine rf_fix (fun i => ∀ (x18 : Int32) (A19 : AH), RfX X l e below wU (i x18 A19) 89 [some (tR (some a0)), some (tI p1), some (tI p2), some (tI p3), none, some (tI p5), none, none, none, none, none, none, none, some (tI x18)] [] A19) (fun _ _ => rf_none) (fun rc20 hrc20 => ?_) (fun j17 hj17 => ?_)
  · intro x18 A19
    refine rf_iload X rfl dX7_init_89 ?_
    refine rf_iload_n X rfl dX7_init_91 ?_
    refine rf_icmp_ge X (tgt := 117) rfl dX7_init_92 (fun c21 => rf_pos c21 ?_) (fun c21 => rf_neg c21 ?_)
    · refine rf_aload_n X rfl dX7_init_117 ?_
      refine rf_bind (fun A22 hA22 => ?_)
      refine rf_new X nw_X7_72 hA22 dX7_init_118 ?_
      refine rf_dup X rfl dX7_init_121 ?_
      refine rf_iload X rfl dX7_init_122 ?_
      refine rf_bind (fun g23 hg23 => ?_)
      refine rf_callI X c_X7_74 ⟨Nat.le_of_ble_eq_true rfl, Nat.le_of_ble_eq_true rfl⟩ [tI p5] rfl (Nat.le_of_ble_eq_true rfl) (sX9_init l D n (hN A19) p5 A22 g23 hg23) dX7_init_124 ?_
      refine rf_bind (fun A24 hA24 => ?_)
      refine rf_putR X fp_X7_75 (fun _ => hin) rfl hA24 dX7_init_127 ?_
      refine rf_aload_n X rfl dX7_init_130 ?_
      refine rf_iload_n X rfl dX7_init_131 ?_
      refine rf_bind (fun A25 hA25 => ?_)
      refine rf_newI X hA25 dX7_init_132 ?_
      refine rf_bind (fun A26 hA26 => ?_)
      refine rf_putR X fp_X7_79 (fun _ => hin) rfl hA26 dX7_init_134 ?_
      exact rf_vret X rfl dX7_init_137
    refine rf_aload_n X rfl dX7_init_95 ?_
    refine rf_bind (fun v27 hv27 => ?_)
    refine rf_getR X fl_X7_14 hv27 dX7_init_96 ?_
    refine rf_bind (fun A28 hA28 => ?_)
    refine rf_new X nw_X7_65 hA28 dX7_init_99 ?_
    refine rf_dup X rfl dX7_init_102 ?_
    refine rf_iload_n X rfl dX7_init_103 ?_
    refine rf_bind (fun g29 hg29 => ?_)
    refine rf_callI X c_X7_67 ⟨Nat.le_of_ble_eq_true rfl, Nat.le_of_ble_eq_true rfl⟩ [tI p2] rfl (Nat.le_of_ble_eq_true rfl) (sX8_init l D (hN A19) p2 A28 g29 hg29) dX7_init_104 ?_
    refine rf_bind (fun v30 hv30 => ?_)
    refine rf_bind (fun g31 hg31 => ?_)
    refine rf_callVI X c_X7_68 ⟨Nat.le_of_ble_eq_true rfl, Nat.le_of_ble_eq_true rfl⟩ [tR (some (hN A19))] rfl (Nat.le_of_ble_eq_true rfl) hv30 (sJ2_add l D v30 (some (hN A19)) g29 g31 hg31) dX7_init_107 ?_
    refine rf_pop X rfl dX7_init_110 ?_
    refine rf_iinc X (x18 + (1 : Int32)) rfl rfl (ls' := [some (tR (some a0)), some (tI p1), some (tI p2), some (tI p3), none, some (tI p5), none, none, none, none, none, none, none, some (tI (x18 + (1 : Int32)))]) rfl (by decide) dX7_init_111 ?_
    refine rf_goto X (tgt := 89) rfl dX7_init_114 ?_
    exact rf_go (hrc20 (x18 + (1 : Int32)) g31.2) (And.intro rfl (And.intro rfl (And.intro rfl (And.intro rfl (And.intro rfl (And.intro rfl True.intro))))))
  exact rf_go (hj17 (0 : Int32) A16) (And.intro rfl (And.intro rfl (And.intro rfl (And.intro rfl (And.intro rfl (And.intro rfl True.intro))))))

theorem dX1_init_0 : decode cX1_init 0 = .ok (.aload_n 0, 1) := by decide +kernel
theorem dX1_init_1 : decode cX1_init 1 = .ok (.invokespecial 1, 3) := by decide +kernel
theorem dX1_init_4 : decode cX1_init 4 = .ok (.aload_n 0, 1) := by decide +kernel
theorem dX1_init_5 : decode cX1_init 5 = .ok (.new 7, 3) := by decide +kernel
theorem dX1_init_8 : decode cX1_init 8 = .ok (.dup, 1) := by decide +kernel
theorem dX1_init_9 : decode cX1_init 9 = .ok (.sipush 128, 3) := by decide +kernel
theorem dX1_init_12 : decode cX1_init 12 = .ok (.invokespecial 11, 3) := by decide +kernel
theorem dX1_init_15 : decode cX1_init 15 = .ok (.putfield 14, 3) := by decide +kernel
theorem dX1_init_18 : decode cX1_init 18 = .ok (.aload_n 0, 1) := by decide +kernel
theorem dX1_init_19 : decode cX1_init 19 = .ok (.sipush 4096, 3) := by decide +kernel
theorem dX1_init_22 : decode cX1_init 22 = .ok (.newarray .int, 2) := by decide +kernel
theorem dX1_init_24 : decode cX1_init 24 = .ok (.putfield 18, 3) := by decide +kernel
theorem dX1_init_27 : decode cX1_init 27 = .ok (.aload_n 0, 1) := by decide +kernel
theorem dX1_init_28 : decode cX1_init 28 = .ok (.new 22, 3) := by decide +kernel
theorem dX1_init_31 : decode cX1_init 31 = .ok (.dup, 1) := by decide +kernel
theorem dX1_init_32 : decode cX1_init 32 = .ok (.invokespecial 24, 3) := by decide +kernel
theorem dX1_init_35 : decode cX1_init 35 = .ok (.putfield 25, 3) := by decide +kernel
theorem dX1_init_38 : decode cX1_init 38 = .ok (.aload_n 0, 1) := by decide +kernel
theorem dX1_init_39 : decode cX1_init 39 = .ok (.new 29, 3) := by decide +kernel
theorem dX1_init_42 : decode cX1_init 42 = .ok (.dup, 1) := by decide +kernel
theorem dX1_init_43 : decode cX1_init 43 = .ok (.invokespecial 31, 3) := by decide +kernel
theorem dX1_init_46 : decode cX1_init 46 = .ok (.putfield 32, 3) := by decide +kernel
theorem dX1_init_49 : decode cX1_init 49 = .ok (.aload_n 0, 1) := by decide +kernel
theorem dX1_init_50 : decode cX1_init 50 = .ok (.new 36, 3) := by decide +kernel
theorem dX1_init_53 : decode cX1_init 53 = .ok (.dup, 1) := by decide +kernel
theorem dX1_init_54 : decode cX1_init 54 = .ok (.invokespecial 38, 3) := by decide +kernel
theorem dX1_init_57 : decode cX1_init 57 = .ok (.putfield 39, 3) := by decide +kernel
theorem dX1_init_60 : decode cX1_init 60 = .ok (.new 43, 3) := by decide +kernel
theorem dX1_init_63 : decode cX1_init 63 = .ok (.dup, 1) := by decide +kernel
theorem dX1_init_64 : decode cX1_init 64 = .ok (.lconst 0, 1) := by decide +kernel
theorem dX1_init_65 : decode cX1_init 65 = .ok (.invokespecial 45, 3) := by decide +kernel
theorem dX1_init_68 : decode cX1_init 68 = .ok (.astore_n 1, 1) := by decide +kernel
theorem dX1_init_69 : decode cX1_init 69 = .ok (.iconst 0, 1) := by decide +kernel
theorem dX1_init_70 : decode cX1_init 70 = .ok (.istore_n 2, 1) := by decide +kernel
theorem dX1_init_71 : decode cX1_init 71 = .ok (.iload_n 2, 1) := by decide +kernel
theorem dX1_init_72 : decode cX1_init 72 = .ok (.sipush 128, 3) := by decide +kernel
theorem dX1_init_75 : decode cX1_init 75 = .ok (.if_icmp .ge 18, 3) := by decide +kernel
theorem dX1_init_78 : decode cX1_init 78 = .ok (.aload_n 0, 1) := by decide +kernel
theorem dX1_init_79 : decode cX1_init 79 = .ok (.getfield 14, 3) := by decide +kernel
theorem dX1_init_82 : decode cX1_init 82 = .ok (.aload_n 1, 1) := by decide +kernel
theorem dX1_init_83 : decode cX1_init 83 = .ok (.invokevirtual 48, 3) := by decide +kernel
theorem dX1_init_86 : decode cX1_init 86 = .ok (.pop, 1) := by decide +kernel
theorem dX1_init_87 : decode cX1_init 87 = .ok (.iinc 2 1, 3) := by decide +kernel
theorem dX1_init_90 : decode cX1_init 90 = .ok (.goto (-19), 3) := by decide +kernel
theorem dX1_init_93 : decode cX1_init 93 = .ok (.aload_n 0, 1) := by decide +kernel
theorem dX1_init_94 : decode cX1_init 94 = .ok (.new 52, 3) := by decide +kernel
theorem dX1_init_97 : decode cX1_init 97 = .ok (.dup, 1) := by decide +kernel
theorem dX1_init_98 : decode cX1_init 98 = .ok (.iconst 4, 1) := by decide +kernel
theorem dX1_init_99 : decode cX1_init 99 = .ok (.iconst 4, 1) := by decide +kernel
theorem dX1_init_100 : decode cX1_init 100 = .ok (.iconst 2, 1) := by decide +kernel
theorem dX1_init_101 : decode cX1_init 101 = .ok (.iconst 4, 1) := by decide +kernel
theorem dX1_init_102 : decode cX1_init 102 = .ok (.iconst 2, 1) := by decide +kernel
theorem dX1_init_103 : decode cX1_init 103 = .ok (.sipush 512, 3) := by decide +kernel
theorem dX1_init_106 : decode cX1_init 106 = .ok (.aload_n 0, 1) := by decide +kernel
theorem dX1_init_107 : decode cX1_init 107 = .ok (.getfield 14, 3) := by decide +kernel
theorem dX1_init_110 : decode cX1_init 110 = .ok (.aload_n 0, 1) := by decide +kernel
theorem dX1_init_111 : decode cX1_init 111 = .ok (.getfield 18, 3) := by decide +kernel
theorem dX1_init_114 : decode cX1_init 114 = .ok (.aload_n 0, 1) := by decide +kernel
theorem dX1_init_115 : decode cX1_init 115 = .ok (.getfield 25, 3) := by decide +kernel
theorem dX1_init_118 : decode cX1_init 118 = .ok (.aload_n 0, 1) := by decide +kernel
theorem dX1_init_119 : decode cX1_init 119 = .ok (.getfield 32, 3) := by decide +kernel
theorem dX1_init_122 : decode cX1_init 122 = .ok (.aload_n 0, 1) := by decide +kernel
theorem dX1_init_123 : decode cX1_init 123 = .ok (.getfield 39, 3) := by decide +kernel
theorem dX1_init_126 : decode cX1_init 126 = .ok (.iconst 0, 1) := by decide +kernel
theorem dX1_init_127 : decode cX1_init 127 = .ok (.invokespecial 54, 3) := by decide +kernel
theorem dX1_init_130 : decode cX1_init 130 = .ok (.putfield 57, 3) := by decide +kernel
theorem dX1_init_133 : decode cX1_init 133 = .ok (.return_, 1) := by decide +kernel
def fX1_init (n : Nat) (a0 : Nat) (A : AH) : Option (AH) :=
(nO A 0 dfJ2).bind fun A1 =>
(fJ2_init (hN A) (128 : Int32) A1).bind fun g2 =>
(pR g2 (some a0) 1 0 (some (hN A))).bind fun A3 =>
(nAI A3 (4096 : Int32)).bind fun A4 =>
(pR A4 (some a0) 1 1 (some (hN A3))).bind fun A5 =>
(nO A5 2 dfX2).bind fun A6 =>
(fX2_init (hN A5) A6).bind fun g7 =>
(pR g7 (some a0) 1 2 (some (hN A5))).bind fun A8 =>
(nO A8 3 dfX3).bind fun A9 =>
(fX3_init (hN A8) A9).bind fun g10 =>
(pR g10 (some a0) 1 3 (some (hN A8))).bind fun A11 =>
(nO A11 4 dfX4).bind fun A12 =>
(fX4_init (hN A11) A12).bind fun g13 =>
(pR g13 (some a0) 1 4 (some (hN A11))).bind fun A14 =>
(nO A14 5 dfX5).bind fun A15 =>
(fX5_init (hN A14) (0 : Int64) A15).bind fun g16 =>
jl (fixG (fun _ _ => none) (fun (rc20 : (Int32) → (AH) → Option (AH)) (x18 : Int32) (A19 : AH) =>
if (128 : Int32) ≤ x18 then ((nO A19 7 dfX7).bind fun A22 =>
(gR A22 (some a0) 1 0).bind fun v23 =>
(gR A22 (some a0) 1 1).bind fun v24 =>
(gR A22 (some a0) 1 2).bind fun v25 =>
(gR A22 (some a0) 1 3).bind fun v26 =>
(gR A22 (some a0) 1 4).bind fun v27 =>
(fX7_init n (hN A19) (4 : Int32) (4 : Int32) (2 : Int32) (4 : Int32) (2 : Int32) (512 : Int32) v23 v24 v25 v26 v27 (0 : Int32) A22).bind fun g28 =>
(pR g28 (some a0) 1 5 (some (hN A19))).bind fun A29 =>
some A29) else
(gR A19 (some a0) 1 0).bind fun v30 =>
(rcv A19 v30 0).bind fun v31 =>
(fJ2_add v31 (some (hN A14)) A19).bind fun g32 =>
rc20 (x18 + (1 : Int32)) g32.2) n) fun j17 =>
j17 (0 : Int32) g16

set_option maxHeartbeats 4000000 in
set_option maxRecDepth 100000 in
theorem sX1_init (l : Launch) (D : DE) (n : Nat) (a0 : Nat) (A : AH) (g : AH) (hg : fX1_init n a0 A = some g) : Sm l D yX1_init cX1_init 3 none 9 246 [tR (some a0)] A (wU g).1 (wU g).2 := by
  refine Sm.of (ω := wU) (fX1_init n a0 A) [some (tR (some a0)), none, none] (by decide) (Nat.le_of_ble_eq_true rfl) rfl hg ?_
  intro p e R s m args below meth c X hin
  have X : Cx D cX1_init RX1 3 9 246 none p R s m args meth c := X
  unfold fX1_init
  refine rf_aload_n X rfl dX1_init_0 ?_
  refine rf_objInit X q123 ⟨by decide, by decide⟩ (Nat.le_of_ble_eq_true rfl) dX1_init_1 ?_
  refine rf_aload_n X rfl dX1_init_4 ?_
  refine rf_bind (fun A1 hA1 => ?_)
  refine rf_new X nw_X1_7 hA1 dX1_init_5 ?_
  refine rf_dup X rfl dX1_init_8 ?_
  refine rf_sipush X (128 : Int32) rfl dX1_init_9 ?_
  refine rf_bind (fun g2 hg2 => ?_)
  refine rf_callI X c_X1_11 ⟨Nat.le_of_ble_eq_true rfl, Nat.le_of_ble_eq_true rfl⟩ [tI (128 : Int32)] rfl (Nat.le_of_ble_eq_true rfl) (sJ2_init l D (hN A) (128 : Int32) A1 g2 hg2) dX1_init_12 ?_
  refine rf_bind (fun A3 hA3 => ?_)
  refine rf_putR X fp_X1_14 (fun _ => hin) rfl hA3 dX1_init_15 ?_
  refine rf_aload_n X rfl dX1_init_18 ?_
  refine rf_sipush X (4096 : Int32) rfl dX1_init_19 ?_
  refine rf_bind (fun A4 hA4 => ?_)
  refine rf_newI X hA4 dX1_init_22 ?_
  refine rf_bind (fun A5 hA5 => ?_)
  refine rf_putR X fp_X1_18 (fun _ => hin) rfl hA5 dX1_init_24 ?_
  refine rf_aload_n X rfl dX1_init_27 ?_
  refine rf_bind (fun A6 hA6 => ?_)
  refine rf_new X nw_X1_22 hA6 dX1_init_28 ?_
  refine rf_dup X rfl dX1_init_31 ?_
  refine rf_bind (fun g7 hg7 => ?_)
  refine rf_callI X c_X1_24 ⟨Nat.le_of_ble_eq_true rfl, Nat.le_of_ble_eq_true rfl⟩ [] rfl (Nat.le_of_ble_eq_true rfl) (sX2_init l D (hN A5) A6 g7 hg7) dX1_init_32 ?_
  refine rf_bind (fun A8 hA8 => ?_)
  refine rf_putR X fp_X1_25 (fun _ => hin) rfl hA8 dX1_init_35 ?_
  refine rf_aload_n X rfl dX1_init_38 ?_
  refine rf_bind (fun A9 hA9 => ?_)
  refine rf_new X nw_X1_29 hA9 dX1_init_39 ?_
  refine rf_dup X rfl dX1_init_42 ?_
  refine rf_bind (fun g10 hg10 => ?_)
  refine rf_callI X c_X1_31 ⟨Nat.le_of_ble_eq_true rfl, Nat.le_of_ble_eq_true rfl⟩ [] rfl (Nat.le_of_ble_eq_true rfl) (sX3_init l D (hN A8) A9 g10 hg10) dX1_init_43 ?_
  refine rf_bind (fun A11 hA11 => ?_)
  refine rf_putR X fp_X1_32 (fun _ => hin) rfl hA11 dX1_init_46 ?_
  refine rf_aload_n X rfl dX1_init_49 ?_
  refine rf_bind (fun A12 hA12 => ?_)
  refine rf_new X nw_X1_36 hA12 dX1_init_50 ?_
  refine rf_dup X rfl dX1_init_53 ?_
  refine rf_bind (fun g13 hg13 => ?_)
  refine rf_callI X c_X1_38 ⟨Nat.le_of_ble_eq_true rfl, Nat.le_of_ble_eq_true rfl⟩ [] rfl (Nat.le_of_ble_eq_true rfl) (sX4_init l D (hN A11) A12 g13 hg13) dX1_init_54 ?_
  refine rf_bind (fun A14 hA14 => ?_)
  refine rf_putR X fp_X1_39 (fun _ => hin) rfl hA14 dX1_init_57 ?_
  refine rf_bind (fun A15 hA15 => ?_)
  refine rf_new X nw_X1_43 hA15 dX1_init_60 ?_
  refine rf_dup X rfl dX1_init_63 ?_
  refine rf_lconst X (0 : Int64) rfl dX1_init_64 ?_
  refine rf_bind (fun g16 hg16 => ?_)
  refine rf_callI X c_X1_45 ⟨Nat.le_of_ble_eq_true rfl, Nat.le_of_ble_eq_true rfl⟩ [tL (0 : Int64)] rfl (Nat.le_of_ble_eq_true rfl) (sX5_init l D (hN A14) (0 : Int64) A15 g16 hg16) dX1_init_65 ?_
  refine rf_astore_n X (ls' := [some (tR (some a0)), some (tR (some (hN A14))), none]) rfl (by decide) dX1_init_68 ?_
  refine rf_iconst X (0 : Int32) rfl dX1_init_69 ?_
  refine rf_istore_n X (ls' := [some (tR (some a0)), some (tR (some (hN A14))), some (tI (0 : Int32))]) rfl (by decide) dX1_init_70 ?_
  refine rf_fix (fun i => ∀ (x18 : Int32) (A19 : AH), RfX X l e below wU (i x18 A19) 71 [some (tR (some a0)), some (tR (some (hN A14))), some (tI x18)] [] A19) (fun _ _ => rf_none) (fun rc20 hrc20 => ?_) (fun j17 hj17 => ?_)
  · intro x18 A19
    refine rf_iload_n X rfl dX1_init_71 ?_
    refine rf_sipush X (128 : Int32) rfl dX1_init_72 ?_
    refine rf_icmp_ge X (tgt := 93) rfl dX1_init_75 (fun c21 => rf_pos c21 ?_) (fun c21 => rf_neg c21 ?_)
    · refine rf_aload_n X rfl dX1_init_93 ?_
      refine rf_bind (fun A22 hA22 => ?_)
      refine rf_new X nw_X1_52 hA22 dX1_init_94 ?_
      refine rf_dup X rfl dX1_init_97 ?_
      refine rf_iconst X (4 : Int32) rfl dX1_init_98 ?_
      refine rf_iconst X (4 : Int32) rfl dX1_init_99 ?_
      refine rf_iconst X (2 : Int32) rfl dX1_init_100 ?_
      refine rf_iconst X (4 : Int32) rfl dX1_init_101 ?_
      refine rf_iconst X (2 : Int32) rfl dX1_init_102 ?_
      refine rf_sipush X (512 : Int32) rfl dX1_init_103 ?_
      refine rf_aload_n X rfl dX1_init_106 ?_
      refine rf_bind (fun v23 hv23 => ?_)
      refine rf_getR X fl_X1_14 hv23 dX1_init_107 ?_
      refine rf_aload_n X rfl dX1_init_110 ?_
      refine rf_bind (fun v24 hv24 => ?_)
      refine rf_getR X fl_X1_18 hv24 dX1_init_111 ?_
      refine rf_aload_n X rfl dX1_init_114 ?_
      refine rf_bind (fun v25 hv25 => ?_)
      refine rf_getR X fl_X1_25 hv25 dX1_init_115 ?_
      refine rf_aload_n X rfl dX1_init_118 ?_
      refine rf_bind (fun v26 hv26 => ?_)
      refine rf_getR X fl_X1_32 hv26 dX1_init_119 ?_
      refine rf_aload_n X rfl dX1_init_122 ?_
      refine rf_bind (fun v27 hv27 => ?_)
      refine rf_getR X fl_X1_39 hv27 dX1_init_123 ?_
      refine rf_iconst X (0 : Int32) rfl dX1_init_126 ?_
      refine rf_bind (fun g28 hg28 => ?_)
      refine rf_callI X c_X1_54 ⟨Nat.le_of_ble_eq_true rfl, Nat.le_of_ble_eq_true rfl⟩ [tI (4 : Int32), tI (4 : Int32), tI (2 : Int32), tI (4 : Int32), tI (2 : Int32), tI (512 : Int32), tR v23, tR v24, tR v25, tR v26, tR v27, tI (0 : Int32)] rfl (Nat.le_of_ble_eq_true rfl) (sX7_init l D n (hN A19) (4 : Int32) (4 : Int32) (2 : Int32) (4 : Int32) (2 : Int32) (512 : Int32) v23 v24 v25 v26 v27 (0 : Int32) A22 g28 hg28) dX1_init_127 ?_
      refine rf_bind (fun A29 hA29 => ?_)
      refine rf_putR X fp_X1_57 (fun _ => hin) rfl hA29 dX1_init_130 ?_
      exact rf_vret X rfl dX1_init_133
    refine rf_aload_n X rfl dX1_init_78 ?_
    refine rf_bind (fun v30 hv30 => ?_)
    refine rf_getR X fl_X1_14 hv30 dX1_init_79 ?_
    refine rf_aload_n X rfl dX1_init_82 ?_
    refine rf_bind (fun v31 hv31 => ?_)
    refine rf_bind (fun g32 hg32 => ?_)
    refine rf_callVI X c_X1_48 ⟨Nat.le_of_ble_eq_true rfl, Nat.le_of_ble_eq_true rfl⟩ [tR (some (hN A14))] rfl (Nat.le_of_ble_eq_true rfl) hv31 (sJ2_add l D v31 (some (hN A14)) A19 g32 hg32) dX1_init_83 ?_
    refine rf_pop X rfl dX1_init_86 ?_
    refine rf_iinc X (x18 + (1 : Int32)) rfl rfl (ls' := [some (tR (some a0)), some (tR (some (hN A14))), some (tI (x18 + (1 : Int32)))]) rfl (by decide) dX1_init_87 ?_
    refine rf_goto X (tgt := 71) rfl dX1_init_90 ?_
    exact rf_go (hrc20 (x18 + (1 : Int32)) g32.2) (And.intro rfl (And.intro rfl (And.intro rfl True.intro)))
  exact rf_go (hj17 (0 : Int32) g16) (And.intro rfl (And.intro rfl (And.intro rfl True.intro)))

theorem dX7_isOn_0 : decode cX7_isOn 0 = .ok (.aload_n 0, 1) := by decide +kernel
theorem dX7_isOn_1 : decode cX7_isOn 1 = .ok (.getfield 82, 3) := by decide +kernel
theorem dX7_isOn_4 : decode cX7_isOn 4 = .ok (.iconst 1, 1) := by decide +kernel
theorem dX7_isOn_5 : decode cX7_isOn 5 = .ok (.if_icmp .eq 11, 3) := by decide +kernel
theorem dX7_isOn_8 : decode cX7_isOn 8 = .ok (.aload_n 0, 1) := by decide +kernel
theorem dX7_isOn_9 : decode cX7_isOn 9 = .ok (.getfield 82, 3) := by decide +kernel
theorem dX7_isOn_12 : decode cX7_isOn 12 = .ok (.iconst 4, 1) := by decide +kernel
theorem dX7_isOn_13 : decode cX7_isOn 13 = .ok (.if_icmp .ne 7, 3) := by decide +kernel
theorem dX7_isOn_16 : decode cX7_isOn 16 = .ok (.iconst 1, 1) := by decide +kernel
theorem dX7_isOn_17 : decode cX7_isOn 17 = .ok (.goto 4, 3) := by decide +kernel
theorem dX7_isOn_20 : decode cX7_isOn 20 = .ok (.iconst 0, 1) := by decide +kernel
theorem dX7_isOn_21 : decode cX7_isOn 21 = .ok (.ireturn, 1) := by decide +kernel
def fX7_isOn (a0 : Nat) (A : AH) : Option (Int32) :=
(gI A (some a0) 7 12).bind fun v1 =>
jn (fun (y3 : Int32) =>
some (nb y3)) fun j2 =>
if ((v1 = (1 : Int32)) ∨ (v1 = (4 : Int32))) then (j2 (1 : Int32)) else
j2 (0 : Int32)

set_option maxHeartbeats 4000000 in
set_option maxRecDepth 100000 in
theorem sX7_isOn (l : Launch) (D : DE) (a0 : Nat) (A : AH) (g : Int32) (hg : fX7_isOn a0 A = some g) : Sm l D yX7_isOn cX7_isOn 1 (some Jvm.ClassFile.FieldType.boolean) 0 0 [tR (some a0)] A (qI A g).1 (qI A g).2 := by
  refine Sm.of (ω := qI A) (fX7_isOn a0 A) [some (tR (some a0))] (by decide) (Nat.le_of_ble_eq_true rfl) rfl hg ?_
  intro p e R s m args below meth c X hin
  have X : Cx D cX7_isOn RX7 1 0 0 (some Jvm.ClassFile.FieldType.boolean) p R s m args meth c := X
  unfold fX7_isOn
  refine rf_aload_n X rfl dX7_isOn_0 ?_
  refine rf_bind (fun v1 hv1 => ?_)
  refine rf_getI X fl_X7_82 hv1 dX7_isOn_1 ?_
  refine rf_iconst X (1 : Int32) rfl dX7_isOn_4 ?_
  refine rf_jn2 (fun i => ∀ (y3 : Int32), RfX X l e below (qI A) (i y3) 21 [none] [tI y3] A) ?_ (fun j2 hj2 => ?_)
  · intro y3
    exact rf_zret X rfl dX7_isOn_21
  refine rf_br 16 20 [some (tR (some a0))] [some (tR (some a0))] [] [] (fun _ => ?_) (fun _ => ?_) (fun _ jT jF => ?_)
  · refine rf_iconst X (1 : Int32) rfl dX7_isOn_16 ?_
    refine rf_goto X (tgt := 21) rfl dX7_isOn_17 ?_
    exact rf_go (hj2 (1 : Int32)) True.intro
  · refine rf_iconst X (0 : Int32) rfl dX7_isOn_20 ?_
    exact rf_go (hj2 (0 : Int32)) True.intro
  refine rf_icmp_eq X (tgt := 16) rfl dX7_isOn_5 (fun c4 => ?_) (fun c4 => ?_)
  · exact jT (Or.inl c4)
  refine rf_aload_n X rfl dX7_isOn_8 ?_
  refine rf_getI X fl_X7_82 hv1 dX7_isOn_9 ?_
  refine rf_iconst X (4 : Int32) rfl dX7_isOn_12 ?_
  refine rf_icmp_ne X (tgt := 20) rfl dX7_isOn_13 (fun c5 => ?_) (fun c5 => ?_)
  · exact jF (fun z => z.elim c4 c5)
  exact jT (Or.inr c5)

theorem dX1_isPower_0 : decode cX1_isPower 0 = .ok (.iload_n 0, 1) := by decide +kernel
theorem dX1_isPower_1 : decode cX1_isPower 1 = .ok (.ifCond .le 20, 3) := by decide +kernel
theorem dX1_isPower_4 : decode cX1_isPower 4 = .ok (.iload_n 0, 1) := by decide +kernel
theorem dX1_isPower_5 : decode cX1_isPower 5 = .ok (.iload_n 1, 1) := by decide +kernel
theorem dX1_isPower_6 : decode cX1_isPower 6 = .ok (.if_icmp .gt 15, 3) := by decide +kernel
theorem dX1_isPower_9 : decode cX1_isPower 9 = .ok (.iload_n 0, 1) := by decide +kernel
theorem dX1_isPower_10 : decode cX1_isPower 10 = .ok (.iload_n 0, 1) := by decide +kernel
theorem dX1_isPower_11 : decode cX1_isPower 11 = .ok (.iconst 1, 1) := by decide +kernel
theorem dX1_isPower_12 : decode cX1_isPower 12 = .ok (.isub, 1) := by decide +kernel
theorem dX1_isPower_13 : decode cX1_isPower 13 = .ok (.iand, 1) := by decide +kernel
theorem dX1_isPower_14 : decode cX1_isPower 14 = .ok (.ifCond .ne 7, 3) := by decide +kernel
theorem dX1_isPower_17 : decode cX1_isPower 17 = .ok (.iconst 1, 1) := by decide +kernel
theorem dX1_isPower_18 : decode cX1_isPower 18 = .ok (.goto 4, 3) := by decide +kernel
theorem dX1_isPower_21 : decode cX1_isPower 21 = .ok (.iconst 0, 1) := by decide +kernel
theorem dX1_isPower_22 : decode cX1_isPower 22 = .ok (.ireturn, 1) := by decide +kernel
def fX1_isPower (p1 : Int32) (p2 : Int32) (A : AH) : Option (Int32) :=
jn (fun (y2 : Int32) =>
some (nb y2)) fun j1 =>
if (((p1 ≤ 0) ∨ (p2 < p1)) ∨ (¬ ((p1 &&& (p1 - (1 : Int32))) = 0))) then (j1 (0 : Int32)) else
j1 (1 : Int32)

set_option maxHeartbeats 4000000 in
set_option maxRecDepth 100000 in
theorem sX1_isPower (l : Launch) (D : DE) (p1 : Int32) (p2 : Int32) (A : AH) (g : Int32) (hg : fX1_isPower p1 p2 A = some g) : Sm l D yX1_isPower cX1_isPower 2 (some Jvm.ClassFile.FieldType.boolean) 0 0 [tI p1, tI p2] A (qI A g).1 (qI A g).2 := by
  refine Sm.of (ω := qI A) (fX1_isPower p1 p2 A) [some (tI p1), some (tI p2)] (by decide) (Nat.le_of_ble_eq_true rfl) rfl hg ?_
  intro p e R s m args below meth c X hin
  have X : Cx D cX1_isPower RX1 2 0 0 (some Jvm.ClassFile.FieldType.boolean) p R s m args meth c := X
  unfold fX1_isPower
  refine rf_iload_n X rfl dX1_isPower_0 ?_
  refine rf_jn2 (fun i => ∀ (y2 : Int32), RfX X l e below (qI A) (i y2) 22 [none, none] [tI y2] A) ?_ (fun j1 hj1 => ?_)
  · intro y2
    exact rf_zret X rfl dX1_isPower_22
  refine rf_br 21 17 [some (tI p1), some (tI p2)] [some (tI p1), some (tI p2)] [] [] (fun _ => ?_) (fun _ => ?_) (fun _ jT jF => ?_)
  · refine rf_iconst X (0 : Int32) rfl dX1_isPower_21 ?_
    exact rf_go (hj1 (0 : Int32)) True.intro
  · refine rf_iconst X (1 : Int32) rfl dX1_isPower_17 ?_
    refine rf_goto X (tgt := 22) rfl dX1_isPower_18 ?_
    exact rf_go (hj1 (1 : Int32)) True.intro
  refine rf_if_le X (tgt := 21) rfl dX1_isPower_1 (fun c3 => ?_) (fun c3 => ?_)
  · exact jT (Or.inl (Or.inl c3))
  refine rf_iload_n X rfl dX1_isPower_4 ?_
  refine rf_iload_n X rfl dX1_isPower_5 ?_
  refine rf_icmp_gt X (tgt := 21) rfl dX1_isPower_6 (fun c4 => ?_) (fun c4 => ?_)
  · exact jT (Or.inl (Or.inr c4))
  refine rf_iload_n X rfl dX1_isPower_9 ?_
  refine rf_iload_n X rfl dX1_isPower_10 ?_
  refine rf_iconst X (1 : Int32) rfl dX1_isPower_11 ?_
  refine rf_isub X dX1_isPower_12 ?_
  refine rf_iand X dX1_isPower_13 ?_
  refine rf_if_ne X (tgt := 21) rfl dX1_isPower_14 (fun c5 => ?_) (fun c5 => ?_)
  · exact jT (Or.inr c5)
  exact jF (fun z => z.elim (fun z => z.elim c3 c4) (fun z => z c5))

theorem dX8_leave_0 : decode cX8_leave 0 = .ok (.iconst 0, 1) := by decide +kernel
theorem dX8_leave_1 : decode cX8_leave 1 = .ok (.istore_n 2, 1) := by decide +kernel
theorem dX8_leave_2 : decode cX8_leave 2 = .ok (.iload_n 2, 1) := by decide +kernel
theorem dX8_leave_3 : decode cX8_leave 3 = .ok (.aload_n 0, 1) := by decide +kernel
theorem dX8_leave_4 : decode cX8_leave 4 = .ok (.getfield 9, 3) := by decide +kernel
theorem dX8_leave_7 : decode cX8_leave 7 = .ok (.arraylength, 1) := by decide +kernel
theorem dX8_leave_8 : decode cX8_leave 8 = .ok (.if_icmp .ge 38, 3) := by decide +kernel
theorem dX8_leave_11 : decode cX8_leave 11 = .ok (.aload_n 0, 1) := by decide +kernel
theorem dX8_leave_12 : decode cX8_leave 12 = .ok (.getfield 9, 3) := by decide +kernel
theorem dX8_leave_15 : decode cX8_leave 15 = .ok (.iload_n 2, 1) := by decide +kernel
theorem dX8_leave_16 : decode cX8_leave 16 = .ok (.aaload, 1) := by decide +kernel
theorem dX8_leave_17 : decode cX8_leave 17 = .ok (.ifnull 23, 3) := by decide +kernel
theorem dX8_leave_20 : decode cX8_leave 20 = .ok (.aload_n 0, 1) := by decide +kernel
theorem dX8_leave_21 : decode cX8_leave 21 = .ok (.getfield 9, 3) := by decide +kernel
theorem dX8_leave_24 : decode cX8_leave 24 = .ok (.iload_n 2, 1) := by decide +kernel
theorem dX8_leave_25 : decode cX8_leave 25 = .ok (.aaload, 1) := by decide +kernel
theorem dX8_leave_26 : decode cX8_leave 26 = .ok (.getfield 35, 3) := by decide +kernel
theorem dX8_leave_29 : decode cX8_leave 29 = .ok (.aload_n 1, 1) := by decide +kernel
theorem dX8_leave_30 : decode cX8_leave 30 = .ok (.if_acmp .ne 10, 3) := by decide +kernel
theorem dX8_leave_33 : decode cX8_leave 33 = .ok (.aload_n 0, 1) := by decide +kernel
theorem dX8_leave_34 : decode cX8_leave 34 = .ok (.getfield 9, 3) := by decide +kernel
theorem dX8_leave_37 : decode cX8_leave 37 = .ok (.iload_n 2, 1) := by decide +kernel
theorem dX8_leave_38 : decode cX8_leave 38 = .ok (.aconst_null, 1) := by decide +kernel
theorem dX8_leave_39 : decode cX8_leave 39 = .ok (.aastore, 1) := by decide +kernel
theorem dX8_leave_40 : decode cX8_leave 40 = .ok (.iinc 2 1, 3) := by decide +kernel
theorem dX8_leave_43 : decode cX8_leave 43 = .ok (.goto (-41), 3) := by decide +kernel
theorem dX8_leave_46 : decode cX8_leave 46 = .ok (.return_, 1) := by decide +kernel
def fX8_leave (n : Nat) (a0 : Nat) (p1 : Option Nat) (A : AH) : Option (AH) :=
jl (fixG (fun _ _ => none) (fun (rc4 : (Int32) → (AH) → Option (AH)) (x2 : Int32) (A3 : AH) =>
(gR A3 (some a0) 8 0).bind fun v5 =>
(aLen A3 v5).bind fun v6 =>
if v6 ≤ x2 then (some A3) else
(aR A3 v5 x2).bind fun v8 =>
jn (fun (A10 : AH) =>
rc4 (x2 + (1 : Int32)) A10) fun j9 =>
if v8 = none then (j9 A3) else
(gR A3 v8 13 0).bind fun v12 =>
if v12 = p1 then ((sR A3 v5 x2 (none : Option Nat)).bind fun A14 =>
j9 A14) else
j9 A3) n) fun j1 =>
j1 (0 : Int32) A

set_option maxHeartbeats 4000000 in
set_option maxRecDepth 100000 in
theorem sX8_leave (l : Launch) (D : DE) (n : Nat) (a0 : Nat) (p1 : Option Nat) (A : AH) (g : AH) (hg : fX8_leave n a0 p1 A = some g) : Sm l D yX8_leave cX8_leave 3 none 0 0 [tR (some a0), tR p1] A (wU g).1 (wU g).2 := by
  refine Sm.of (ω := wU) (fX8_leave n a0 p1 A) [some (tR (some a0)), some (tR p1), none] (by decide) (Nat.le_of_ble_eq_true rfl) rfl hg ?_
  intro p e R s m args below meth c X hin
  have X : Cx D cX8_leave RX8 3 0 0 none p R s m args meth c := X
  unfold fX8_leave
  refine rf_iconst X (0 : Int32) rfl dX8_leave_0 ?_
  refine rf_istore_n X (ls' := [some (tR (some a0)), some (tR p1), some (tI (0 : Int32))]) rfl (by decide) dX8_leave_1 ?_
  refine rf_fix (fun i => ∀ (x2 : Int32) (A3 : AH), RfX X l e below wU (i x2 A3) 2 [some (tR (some a0)), some (tR p1), some (tI x2)] [] A3) (fun _ _ => rf_none) (fun rc4 hrc4 => ?_) (fun j1 hj1 => ?_)
  · intro x2 A3
    refine rf_iload_n X rfl dX8_leave_2 ?_
    refine rf_aload_n X rfl dX8_leave_3 ?_
    refine rf_bind (fun v5 hv5 => ?_)
    refine rf_getR X fl_X8_9 hv5 dX8_leave_4 ?_
    refine rf_bind (fun v6 hv6 => ?_)
    refine rf_alen X hv6 dX8_leave_7 ?_
    refine rf_icmp_ge X (tgt := 46) rfl dX8_leave_8 (fun c7 => rf_pos c7 ?_) (fun c7 => rf_neg c7 ?_)
    · exact rf_vret X rfl dX8_leave_46
    refine rf_aload_n X rfl dX8_leave_11 ?_
    refine rf_getR X fl_X8_9 hv5 dX8_leave_12 ?_
    refine rf_iload_n X rfl dX8_leave_15 ?_
    refine rf_bind (fun v8 hv8 => ?_)
    refine rf_aald X hv8 dX8_leave_16 ?_
    refine rf_jn2 (fun i => ∀ (A10 : AH), RfX X l e below wU (i A10) 40 [some (tR (some a0)), some (tR p1), some (tI x2)] [] A10) ?_ (fun j9 hj9 => ?_)
    · intro A10
      refine rf_iinc X (x2 + (1 : Int32)) rfl rfl (ls' := [some (tR (some a0)), some (tR p1), some (tI (x2 + (1 : Int32)))]) rfl (by decide) dX8_leave_40 ?_
      refine rf_goto X (tgt := 2) rfl dX8_leave_43 ?_
      exact rf_go (hrc4 (x2 + (1 : Int32)) A10) (And.intro rfl (And.intro rfl (And.intro rfl True.intro)))
    refine rf_ifnull X (tgt := 40) rfl dX8_leave_17 (fun c11 => rf_pos c11 ?_) (fun c11 => rf_neg c11 ?_)
    · exact rf_go (hj9 A3) (And.intro rfl (And.intro rfl (And.intro rfl True.intro)))
    refine rf_aload_n X rfl dX8_leave_20 ?_
    refine rf_getR X fl_X8_9 hv5 dX8_leave_21 ?_
    refine rf_iload_n X rfl dX8_leave_24 ?_
    refine rf_aald X hv8 dX8_leave_25 ?_
    refine rf_bind (fun v12 hv12 => ?_)
    refine rf_getR X fl_X8_35 hv12 dX8_leave_26 ?_
    refine rf_aload_n X rfl dX8_leave_29 ?_
    refine rf_acmp_ne X (tgt := 40) rfl dX8_leave_30 (fun c13 => rf_neg c13 ?_) (fun c13 => rf_pos c13 ?_)
    · exact rf_go (hj9 A3) (And.intro rfl (And.intro rfl (And.intro rfl True.intro)))
    refine rf_aload_n X rfl dX8_leave_33 ?_
    refine rf_getR X fl_X8_9 hv5 dX8_leave_34 ?_
    refine rf_iload_n X rfl dX8_leave_37 ?_
    refine rf_null X dX8_leave_38 ?_
    refine rf_bind (fun A14 hA14 => ?_)
    refine rf_aast X hA14 dX8_leave_39 ?_
    exact rf_go (hj9 A14) (And.intro rfl (And.intro rfl (And.intro rfl True.intro)))
  exact rf_go (hj1 (0 : Int32) A) (And.intro rfl (And.intro rfl (And.intro rfl True.intro)))

theorem dX2_free_0 : decode cX2_free 0 = .ok (.iconst 0, 1) := by decide +kernel
theorem dX2_free_1 : decode cX2_free 1 = .ok (.istore_n 2, 1) := by decide +kernel
theorem dX2_free_2 : decode cX2_free 2 = .ok (.iload_n 2, 1) := by decide +kernel
theorem dX2_free_3 : decode cX2_free 3 = .ok (.aload_n 1, 1) := by decide +kernel
theorem dX2_free_4 : decode cX2_free 4 = .ok (.getfield 61, 3) := by decide +kernel
theorem dX2_free_7 : decode cX2_free 7 = .ok (.invokevirtual 29, 3) := by decide +kernel
theorem dX2_free_10 : decode cX2_free 10 = .ok (.if_icmp .ge 71, 3) := by decide +kernel
theorem dX2_free_13 : decode cX2_free 13 = .ok (.aload_n 1, 1) := by decide +kernel
theorem dX2_free_14 : decode cX2_free 14 = .ok (.getfield 61, 3) := by decide +kernel
theorem dX2_free_17 : decode cX2_free 17 = .ok (.iload_n 2, 1) := by decide +kernel
theorem dX2_free_18 : decode cX2_free 18 = .ok (.invokevirtual 72, 3) := by decide +kernel
theorem dX2_free_21 : decode cX2_free 21 = .ok (.checkcast 40, 3) := by decide +kernel
theorem dX2_free_24 : decode cX2_free 24 = .ok (.astore_n 3, 1) := by decide +kernel
theorem dX2_free_25 : decode cX2_free 25 = .ok (.iconst 0, 1) := by decide +kernel
theorem dX2_free_26 : decode cX2_free 26 = .ok (.istore 4, 2) := by decide +kernel
theorem dX2_free_28 : decode cX2_free 28 = .ok (.iload 4, 2) := by decide +kernel
theorem dX2_free_30 : decode cX2_free 30 = .ok (.aload_n 3, 1) := by decide +kernel
theorem dX2_free_31 : decode cX2_free 31 = .ok (.getfield 46, 3) := by decide +kernel
theorem dX2_free_34 : decode cX2_free 34 = .ok (.invokevirtual 29, 3) := by decide +kernel
theorem dX2_free_37 : decode cX2_free 37 = .ok (.if_icmp .ge 29, 3) := by decide +kernel
theorem dX2_free_40 : decode cX2_free 40 = .ok (.aload_n 0, 1) := by decide +kernel
theorem dX2_free_41 : decode cX2_free 41 = .ok (.getfield 19, 3) := by decide +kernel
theorem dX2_free_44 : decode cX2_free 44 = .ok (.aload_n 3, 1) := by decide +kernel
theorem dX2_free_45 : decode cX2_free 45 = .ok (.getfield 46, 3) := by decide +kernel
theorem dX2_free_48 : decode cX2_free 48 = .ok (.iload 4, 2) := by decide +kernel
theorem dX2_free_50 : decode cX2_free 50 = .ok (.invokevirtual 72, 3) := by decide +kernel
theorem dX2_free_53 : decode cX2_free 53 = .ok (.checkcast 26, 3) := by decide +kernel
theorem dX2_free_56 : decode cX2_free 56 = .ok (.invokevirtual 51, 3) := by decide +kernel
theorem dX2_free_59 : decode cX2_free 59 = .ok (.pop, 1) := by decide +kernel
theorem dX2_free_60 : decode cX2_free 60 = .ok (.iinc 4 1, 3) := by decide +kernel
theorem dX2_free_63 : decode cX2_free 63 = .ok (.goto (-35), 3) := by decide +kernel
theorem dX2_free_66 : decode cX2_free 66 = .ok (.aload_n 0, 1) := by decide +kernel
theorem dX2_free_67 : decode cX2_free 67 = .ok (.getfield 16, 3) := by decide +kernel
theorem dX2_free_70 : decode cX2_free 70 = .ok (.aload_n 3, 1) := by decide +kernel
theorem dX2_free_71 : decode cX2_free 71 = .ok (.invokevirtual 51, 3) := by decide +kernel
theorem dX2_free_74 : decode cX2_free 74 = .ok (.pop, 1) := by decide +kernel
theorem dX2_free_75 : decode cX2_free 75 = .ok (.iinc 2 1, 3) := by decide +kernel
theorem dX2_free_78 : decode cX2_free 78 = .ok (.goto (-76), 3) := by decide +kernel
theorem dX2_free_81 : decode cX2_free 81 = .ok (.aload_n 0, 1) := by decide +kernel
theorem dX2_free_82 : decode cX2_free 82 = .ok (.getfield 10, 3) := by decide +kernel
theorem dX2_free_85 : decode cX2_free 85 = .ok (.aload_n 1, 1) := by decide +kernel
theorem dX2_free_86 : decode cX2_free 86 = .ok (.invokevirtual 51, 3) := by decide +kernel
theorem dX2_free_89 : decode cX2_free 89 = .ok (.pop, 1) := by decide +kernel
theorem dX2_free_90 : decode cX2_free 90 = .ok (.return_, 1) := by decide +kernel
def fX2_free (n : Nat) (a0 : Nat) (p1 : Option Nat) (A : AH) : Option (AH) :=
jl (fixG (fun _ _ => none) (fun (rc4 : (Int32) → (AH) → Option (AH)) (x2 : Int32) (A3 : AH) =>
(gR A3 p1 12 2).bind fun v5 =>
(rcv A3 v5 0).bind fun v6 =>
(fJ2_size v6 A3).bind fun g7 =>
if g7 ≤ x2 then ((gR A3 (some a0) 2 0).bind fun v9 =>
(rcv A3 v9 0).bind fun v10 =>
(fJ2_add v10 p1 A3).bind fun g11 =>
some g11.2) else
(fJ2_get v6 x2 A3).bind fun g12 =>
(cst A3 g12 13).bind fun v13 =>
jl (fixG (fun _ _ => none) (fun (rc17 : (Int32) → (AH) → Option (AH)) (x15 : Int32) (A16 : AH) =>
(gR A16 g12 13 2).bind fun v18 =>
(rcv A16 v18 0).bind fun v19 =>
(fJ2_size v19 A16).bind fun g20 =>
if g20 ≤ x15 then ((gR A16 (some a0) 2 1).bind fun v22 =>
(rcv A16 v22 0).bind fun v23 =>
(fJ2_add v23 g12 A16).bind fun g24 =>
rc4 (x2 + (1 : Int32)) g24.2) else
(gR A16 (some a0) 2 2).bind fun v25 =>
(fJ2_get v19 x15 A16).bind fun g26 =>
(cst A16 g26 14).bind fun v27 =>
(rcv A16 v25 0).bind fun v28 =>
(fJ2_add v28 g26 A16).bind fun g29 =>
rc17 (x15 + (1 : Int32)) g29.2) n) fun j14 =>
j14 (0 : Int32) A3) n) fun j1 =>
j1 (0 : Int32) A

set_option maxHeartbeats 4000000 in
set_option maxRecDepth 100000 in
theorem sX2_free (l : Launch) (D : DE) (n : Nat) (a0 : Nat) (p1 : Option Nat) (A : AH) (g : AH) (hg : fX2_free n a0 p1 A = some g) : Sm l D yX2_free cX2_free 5 none 7 191 [tR (some a0), tR p1] A (wU g).1 (wU g).2 := by
  refine Sm.of (ω := wU) (fX2_free n a0 p1 A) [some (tR (some a0)), some (tR p1), none, none, none] (by decide) (Nat.le_of_ble_eq_true rfl) rfl hg ?_
  intro p e R s m args below meth c X hin
  have X : Cx D cX2_free RX2 5 7 191 none p R s m args meth c := X
  unfold fX2_free
  refine rf_iconst X (0 : Int32) rfl dX2_free_0 ?_
  refine rf_istore_n X (ls' := [some (tR (some a0)), some (tR p1), some (tI (0 : Int32)), none, none]) rfl (by decide) dX2_free_1 ?_
  refine rf_fix (fun i => ∀ (x2 : Int32) (A3 : AH), RfX X l e below wU (i x2 A3) 2 [some (tR (some a0)), some (tR p1), some (tI x2), none, none] [] A3) (fun _ _ => rf_none) (fun rc4 hrc4 => ?_) (fun j1 hj1 => ?_)
  · intro x2 A3
    refine rf_iload_n X rfl dX2_free_2 ?_
    refine rf_aload_n X rfl dX2_free_3 ?_
    refine rf_bind (fun v5 hv5 => ?_)
    refine rf_getR X fl_X2_61 hv5 dX2_free_4 ?_
    refine rf_bind (fun v6 hv6 => ?_)
    refine rf_bind (fun g7 hg7 => ?_)
    refine rf_callVI X c_X2_29 ⟨Nat.le_of_ble_eq_true rfl, Nat.le_of_ble_eq_true rfl⟩ [] rfl (Nat.le_of_ble_eq_true rfl) hv6 (sJ2_size l D v6 A3 g7 hg7) dX2_free_7 ?_
    refine rf_icmp_ge X (tgt := 81) rfl dX2_free_10 (fun c8 => rf_pos c8 ?_) (fun c8 => rf_neg c8 ?_)
    · refine rf_aload_n X rfl dX2_free_81 ?_
      refine rf_bind (fun v9 hv9 => ?_)
      refine rf_getR X fl_X2_10 hv9 dX2_free_82 ?_
      refine rf_aload_n X rfl dX2_free_85 ?_
      refine rf_bind (fun v10 hv10 => ?_)
      refine rf_bind (fun g11 hg11 => ?_)
      refine rf_callVI X c_X2_51 ⟨Nat.le_of_ble_eq_true rfl, Nat.le_of_ble_eq_true rfl⟩ [tR p1] rfl (Nat.le_of_ble_eq_true rfl) hv10 (sJ2_add l D v10 p1 A3 g11 hg11) dX2_free_86 ?_
      refine rf_pop X rfl dX2_free_89 ?_
      exact rf_vret X rfl dX2_free_90
    refine rf_aload_n X rfl dX2_free_13 ?_
    refine rf_getR X fl_X2_61 hv5 dX2_free_14 ?_
    refine rf_iload_n X rfl dX2_free_17 ?_
    refine rf_bind (fun g12 hg12 => ?_)
    refine rf_callVI X c_X2_72 ⟨Nat.le_of_ble_eq_true rfl, Nat.le_of_ble_eq_true rfl⟩ [tI x2] rfl (Nat.le_of_ble_eq_true rfl) hv6 (sJ2_get l D v6 x2 A3 g12 hg12) dX2_free_18 ?_
    refine rf_bind (fun v13 hv13 => ?_)
    refine rf_cast X (ci := 13) rfl rfl q943 hv13 dX2_free_21 ?_
    refine rf_astore_n X (ls' := [some (tR (some a0)), some (tR p1), some (tI x2), some (tR g12), none]) rfl (by decide) dX2_free_24 ?_
    refine rf_iconst X (0 : Int32) rfl dX2_free_25 ?_
    refine rf_istore X (ls' := [some (tR (some a0)), some (tR p1), some (tI x2), some (tR g12), some (tI (0 : Int32))]) rfl (by decide) dX2_free_26 ?_
    refine rf_fix (fun i => ∀ (x15 : Int32) (A16 : AH), RfX X l e below wU (i x15 A16) 28 [some (tR (some a0)), some (tR p1), some (tI x2), some (tR g12), some (tI x15)] [] A16) (fun _ _ => rf_none) (fun rc17 hrc17 => ?_) (fun j14 hj14 => ?_)
    · intro x15 A16
      refine rf_iload X rfl dX2_free_28 ?_
      refine rf_aload_n X rfl dX2_free_30 ?_
      refine rf_bind (fun v18 hv18 => ?_)
      refine rf_getR X fl_X2_46 hv18 dX2_free_31 ?_
      refine rf_bind (fun v19 hv19 => ?_)
      refine rf_bind (fun g20 hg20 => ?_)
      refine rf_callVI X c_X2_29 ⟨Nat.le_of_ble_eq_true rfl, Nat.le_of_ble_eq_true rfl⟩ [] rfl (Nat.le_of_ble_eq_true rfl) hv19 (sJ2_size l D v19 A16 g20 hg20) dX2_free_34 ?_
      refine rf_icmp_ge X (tgt := 66) rfl dX2_free_37 (fun c21 => rf_pos c21 ?_) (fun c21 => rf_neg c21 ?_)
      · refine rf_aload_n X rfl dX2_free_66 ?_
        refine rf_bind (fun v22 hv22 => ?_)
        refine rf_getR X fl_X2_16 hv22 dX2_free_67 ?_
        refine rf_aload_n X rfl dX2_free_70 ?_
        refine rf_bind (fun v23 hv23 => ?_)
        refine rf_bind (fun g24 hg24 => ?_)
        refine rf_callVI X c_X2_51 ⟨Nat.le_of_ble_eq_true rfl, Nat.le_of_ble_eq_true rfl⟩ [tR g12] rfl (Nat.le_of_ble_eq_true rfl) hv23 (sJ2_add l D v23 g12 A16 g24 hg24) dX2_free_71 ?_
        refine rf_pop X rfl dX2_free_74 ?_
        refine rf_iinc X (x2 + (1 : Int32)) rfl rfl (ls' := [some (tR (some a0)), some (tR p1), some (tI (x2 + (1 : Int32))), some (tR g12), some (tI x15)]) rfl (by decide) dX2_free_75 ?_
        refine rf_goto X (tgt := 2) rfl dX2_free_78 ?_
        exact rf_go (hrc4 (x2 + (1 : Int32)) g24.2) (And.intro rfl (And.intro rfl (And.intro rfl True.intro)))
      refine rf_aload_n X rfl dX2_free_40 ?_
      refine rf_bind (fun v25 hv25 => ?_)
      refine rf_getR X fl_X2_19 hv25 dX2_free_41 ?_
      refine rf_aload_n X rfl dX2_free_44 ?_
      refine rf_getR X fl_X2_46 hv18 dX2_free_45 ?_
      refine rf_iload X rfl dX2_free_48 ?_
      refine rf_bind (fun g26 hg26 => ?_)
      refine rf_callVI X c_X2_72 ⟨Nat.le_of_ble_eq_true rfl, Nat.le_of_ble_eq_true rfl⟩ [tI x15] rfl (Nat.le_of_ble_eq_true rfl) hv19 (sJ2_get l D v19 x15 A16 g26 hg26) dX2_free_50 ?_
      refine rf_bind (fun v27 hv27 => ?_)
      refine rf_cast X (ci := 14) rfl rfl q944 hv27 dX2_free_53 ?_
      refine rf_bind (fun v28 hv28 => ?_)
      refine rf_bind (fun g29 hg29 => ?_)
      refine rf_callVI X c_X2_51 ⟨Nat.le_of_ble_eq_true rfl, Nat.le_of_ble_eq_true rfl⟩ [tR g26] rfl (Nat.le_of_ble_eq_true rfl) hv28 (sJ2_add l D v28 g26 A16 g29 hg29) dX2_free_56 ?_
      refine rf_pop X rfl dX2_free_59 ?_
      refine rf_iinc X (x15 + (1 : Int32)) rfl rfl (ls' := [some (tR (some a0)), some (tR p1), some (tI x2), some (tR g12), some (tI (x15 + (1 : Int32)))]) rfl (by decide) dX2_free_60 ?_
      refine rf_goto X (tgt := 28) rfl dX2_free_63 ?_
      exact rf_go (hrc17 (x15 + (1 : Int32)) g29.2) (And.intro rfl (And.intro rfl (And.intro rfl (And.intro rfl (And.intro rfl True.intro)))))
    exact rf_go (hj14 (0 : Int32) A3) (And.intro rfl (And.intro rfl (And.intro rfl (And.intro rfl (And.intro rfl True.intro)))))
  exact rf_go (hj1 (0 : Int32) A) (And.intro rfl (And.intro rfl (And.intro rfl True.intro)))

theorem dX8_clear_0 : decode cX8_clear 0 = .ok (.iconst 0, 1) := by decide +kernel
theorem dX8_clear_1 : decode cX8_clear 1 = .ok (.istore_n 2, 1) := by decide +kernel
theorem dX8_clear_2 : decode cX8_clear 2 = .ok (.iload_n 2, 1) := by decide +kernel
theorem dX8_clear_3 : decode cX8_clear 3 = .ok (.aload_n 0, 1) := by decide +kernel
theorem dX8_clear_4 : decode cX8_clear 4 = .ok (.getfield 9, 3) := by decide +kernel
theorem dX8_clear_7 : decode cX8_clear 7 = .ok (.arraylength, 1) := by decide +kernel
theorem dX8_clear_8 : decode cX8_clear 8 = .ok (.if_icmp .ge 41, 3) := by decide +kernel
theorem dX8_clear_11 : decode cX8_clear 11 = .ok (.aload_n 0, 1) := by decide +kernel
theorem dX8_clear_12 : decode cX8_clear 12 = .ok (.getfield 9, 3) := by decide +kernel
theorem dX8_clear_15 : decode cX8_clear 15 = .ok (.iload_n 2, 1) := by decide +kernel
theorem dX8_clear_16 : decode cX8_clear 16 = .ok (.aaload, 1) := by decide +kernel
theorem dX8_clear_17 : decode cX8_clear 17 = .ok (.ifnonnull 6, 3) := by decide +kernel
theorem dX8_clear_20 : decode cX8_clear 20 = .ok (.goto 23, 3) := by decide +kernel
theorem dX8_clear_23 : decode cX8_clear 23 = .ok (.aload_n 0, 1) := by decide +kernel
theorem dX8_clear_24 : decode cX8_clear 24 = .ok (.getfield 9, 3) := by decide +kernel
theorem dX8_clear_27 : decode cX8_clear 27 = .ok (.iload_n 2, 1) := by decide +kernel
theorem dX8_clear_28 : decode cX8_clear 28 = .ok (.aaload, 1) := by decide +kernel
theorem dX8_clear_29 : decode cX8_clear 29 = .ok (.getfield 35, 3) := by decide +kernel
theorem dX8_clear_32 : decode cX8_clear 32 = .ok (.astore_n 3, 1) := by decide +kernel
theorem dX8_clear_33 : decode cX8_clear 33 = .ok (.aload_n 0, 1) := by decide +kernel
theorem dX8_clear_34 : decode cX8_clear 34 = .ok (.aload_n 3, 1) := by decide +kernel
theorem dX8_clear_35 : decode cX8_clear 35 = .ok (.invokevirtual 39, 3) := by decide +kernel
theorem dX8_clear_38 : decode cX8_clear 38 = .ok (.aload_n 1, 1) := by decide +kernel
theorem dX8_clear_39 : decode cX8_clear 39 = .ok (.aload_n 3, 1) := by decide +kernel
theorem dX8_clear_40 : decode cX8_clear 40 = .ok (.invokevirtual 43, 3) := by decide +kernel
theorem dX8_clear_43 : decode cX8_clear 43 = .ok (.iinc 2 1, 3) := by decide +kernel
theorem dX8_clear_46 : decode cX8_clear 46 = .ok (.goto (-44), 3) := by decide +kernel
theorem dX8_clear_49 : decode cX8_clear 49 = .ok (.return_, 1) := by decide +kernel
def fX8_clear (n : Nat) (a0 : Nat) (p1 : Option Nat) (A : AH) : Option (AH) :=
jl (fixG (fun _ _ => none) (fun (rc4 : (Int32) → (AH) → Option (AH)) (x2 : Int32) (A3 : AH) =>
(gR A3 (some a0) 8 0).bind fun v5 =>
(aLen A3 v5).bind fun v6 =>
if v6 ≤ x2 then (some A3) else
(aR A3 v5 x2).bind fun v8 =>
jn (fun (A10 : AH) =>
rc4 (x2 + (1 : Int32)) A10) fun j9 =>
if v8 = none then (j9 A3) else
(gR A3 v8 13 0).bind fun v12 =>
(rcv A3 (some a0) 8).bind fun v13 =>
(fX8_leave n v13 v12 A3).bind fun g14 =>
(rcv g14 p1 2).bind fun v15 =>
(fX2_free n v15 v12 g14).bind fun g16 =>
j9 g16) n) fun j1 =>
j1 (0 : Int32) A

set_option maxHeartbeats 4000000 in
set_option maxRecDepth 100000 in
theorem sX8_clear (l : Launch) (D : DE) (n : Nat) (a0 : Nat) (p1 : Option Nat) (A : AH) (g : AH) (hg : fX8_clear n a0 p1 A = some g) : Sm l D yX8_clear cX8_clear 4 none 8 215 [tR (some a0), tR p1] A (wU g).1 (wU g).2 := by
  refine Sm.of (ω := wU) (fX8_clear n a0 p1 A) [some (tR (some a0)), some (tR p1), none, none] (by decide) (Nat.le_of_ble_eq_true rfl) rfl hg ?_
  intro p e R s m args below meth c X hin
  have X : Cx D cX8_clear RX8 4 8 215 none p R s m args meth c := X
  unfold fX8_clear
  refine rf_iconst X (0 : Int32) rfl dX8_clear_0 ?_
  refine rf_istore_n X (ls' := [some (tR (some a0)), some (tR p1), some (tI (0 : Int32)), none]) rfl (by decide) dX8_clear_1 ?_
  refine rf_fix (fun i => ∀ (x2 : Int32) (A3 : AH), RfX X l e below wU (i x2 A3) 2 [some (tR (some a0)), some (tR p1), some (tI x2), none] [] A3) (fun _ _ => rf_none) (fun rc4 hrc4 => ?_) (fun j1 hj1 => ?_)
  · intro x2 A3
    refine rf_iload_n X rfl dX8_clear_2 ?_
    refine rf_aload_n X rfl dX8_clear_3 ?_
    refine rf_bind (fun v5 hv5 => ?_)
    refine rf_getR X fl_X8_9 hv5 dX8_clear_4 ?_
    refine rf_bind (fun v6 hv6 => ?_)
    refine rf_alen X hv6 dX8_clear_7 ?_
    refine rf_icmp_ge X (tgt := 49) rfl dX8_clear_8 (fun c7 => rf_pos c7 ?_) (fun c7 => rf_neg c7 ?_)
    · exact rf_vret X rfl dX8_clear_49
    refine rf_aload_n X rfl dX8_clear_11 ?_
    refine rf_getR X fl_X8_9 hv5 dX8_clear_12 ?_
    refine rf_iload_n X rfl dX8_clear_15 ?_
    refine rf_bind (fun v8 hv8 => ?_)
    refine rf_aald X hv8 dX8_clear_16 ?_
    refine rf_jn2 (fun i => ∀ (A10 : AH), RfX X l e below wU (i A10) 43 [some (tR (some a0)), some (tR p1), some (tI x2), none] [] A10) ?_ (fun j9 hj9 => ?_)
    · intro A10
      refine rf_iinc X (x2 + (1 : Int32)) rfl rfl (ls' := [some (tR (some a0)), some (tR p1), some (tI (x2 + (1 : Int32))), none]) rfl (by decide) dX8_clear_43 ?_
      refine rf_goto X (tgt := 2) rfl dX8_clear_46 ?_
      exact rf_go (hrc4 (x2 + (1 : Int32)) A10) (And.intro rfl (And.intro rfl (And.intro rfl True.intro)))
    refine rf_ifnonnull X (tgt := 23) rfl dX8_clear_17 (fun c11 => rf_neg c11 ?_) (fun c11 => rf_pos c11 ?_)
    · refine rf_aload_n X rfl dX8_clear_23 ?_
      refine rf_getR X fl_X8_9 hv5 dX8_clear_24 ?_
      refine rf_iload_n X rfl dX8_clear_27 ?_
      refine rf_aald X hv8 dX8_clear_28 ?_
      refine rf_bind (fun v12 hv12 => ?_)
      refine rf_getR X fl_X8_35 hv12 dX8_clear_29 ?_
      refine rf_astore_n X (ls' := [some (tR (some a0)), some (tR p1), some (tI x2), some (tR v12)]) rfl (by decide) dX8_clear_32 ?_
      refine rf_aload_n X rfl dX8_clear_33 ?_
      refine rf_aload_n X rfl dX8_clear_34 ?_
      refine rf_bind (fun v13 hv13 => ?_)
      refine rf_bind (fun g14 hg14 => ?_)
      refine rf_callVU X c_X8_39 ⟨Nat.le_of_ble_eq_true rfl, Nat.le_of_ble_eq_true rfl⟩ [tR v12] rfl (Nat.le_of_ble_eq_true rfl) hv13 (sX8_leave l D n v13 v12 A3 g14 hg14) dX8_clear_35 ?_
      refine rf_aload_n X rfl dX8_clear_38 ?_
      refine rf_aload_n X rfl dX8_clear_39 ?_
      refine rf_bind (fun v15 hv15 => ?_)
      refine rf_bind (fun g16 hg16 => ?_)
      refine rf_callVU X c_X8_43 ⟨Nat.le_of_ble_eq_true rfl, Nat.le_of_ble_eq_true rfl⟩ [tR v12] rfl (Nat.le_of_ble_eq_true rfl) hv15 (sX2_free l D n v15 v12 g14 g16 hg16) dX8_clear_40 ?_
      exact rf_go (hj9 g16) (And.intro rfl (And.intro rfl (And.intro rfl True.intro)))
    refine rf_goto X (tgt := 43) rfl dX8_clear_20 ?_
    exact rf_go (hj9 A3) (And.intro rfl (And.intro rfl (And.intro rfl True.intro)))
  exact rf_go (hj1 (0 : Int32) A) (And.intro rfl (And.intro rfl (And.intro rfl True.intro)))

theorem dX7_free_0 : decode cX7_free 0 = .ok (.iconst 0, 1) := by decide +kernel
theorem dX7_free_1 : decode cX7_free 1 = .ok (.istore_n 1, 1) := by decide +kernel
theorem dX7_free_2 : decode cX7_free 2 = .ok (.iload_n 1, 1) := by decide +kernel
theorem dX7_free_3 : decode cX7_free 3 = .ok (.aload_n 0, 1) := by decide +kernel
theorem dX7_free_4 : decode cX7_free 4 = .ok (.getfield 14, 3) := by decide +kernel
theorem dX7_free_7 : decode cX7_free 7 = .ok (.invokevirtual 118, 3) := by decide +kernel
theorem dX7_free_10 : decode cX7_free 10 = .ok (.if_icmp .ge 27, 3) := by decide +kernel
theorem dX7_free_13 : decode cX7_free 13 = .ok (.aload_n 0, 1) := by decide +kernel
theorem dX7_free_14 : decode cX7_free 14 = .ok (.getfield 14, 3) := by decide +kernel
theorem dX7_free_17 : decode cX7_free 17 = .ok (.iload_n 1, 1) := by decide +kernel
theorem dX7_free_18 : decode cX7_free 18 = .ok (.invokevirtual 122, 3) := by decide +kernel
theorem dX7_free_21 : decode cX7_free 21 = .ok (.checkcast 65, 3) := by decide +kernel
theorem dX7_free_24 : decode cX7_free 24 = .ok (.aload_n 0, 1) := by decide +kernel
theorem dX7_free_25 : decode cX7_free 25 = .ok (.getfield 40, 3) := by decide +kernel
theorem dX7_free_28 : decode cX7_free 28 = .ok (.invokevirtual 153, 3) := by decide +kernel
theorem dX7_free_31 : decode cX7_free 31 = .ok (.iinc 1 1, 3) := by decide +kernel
theorem dX7_free_34 : decode cX7_free 34 = .ok (.goto (-32), 3) := by decide +kernel
theorem dX7_free_37 : decode cX7_free 37 = .ok (.return_, 1) := by decide +kernel
def fX7_free (n : Nat) (a0 : Nat) (A : AH) : Option (AH) :=
jl (fixG (fun _ _ => none) (fun (rc4 : (Int32) → (AH) → Option (AH)) (x2 : Int32) (A3 : AH) =>
(gR A3 (some a0) 7 8).bind fun v5 =>
(rcv A3 v5 0).bind fun v6 =>
(fJ2_size v6 A3).bind fun g7 =>
if g7 ≤ x2 then (some A3) else
(fJ2_get v6 x2 A3).bind fun g9 =>
(cst A3 g9 8).bind fun v10 =>
(gR A3 (some a0) 7 6).bind fun v11 =>
(rcv A3 g9 8).bind fun v12 =>
(fX8_clear n v12 v11 A3).bind fun g13 =>
rc4 (x2 + (1 : Int32)) g13) n) fun j1 =>
j1 (0 : Int32) A

set_option maxHeartbeats 4000000 in
set_option maxRecDepth 100000 in
theorem sX7_free (l : Launch) (D : DE) (n : Nat) (a0 : Nat) (A : AH) (g : AH) (hg : fX7_free n a0 A = some g) : Sm l D yX7_free cX7_free 2 none 9 238 [tR (some a0)] A (wU g).1 (wU g).2 := by
  refine Sm.of (ω := wU) (fX7_free n a0 A) [some (tR (some a0)), none] (by decide) (Nat.le_of_ble_eq_true rfl) rfl hg ?_
  intro p e R s m args below meth c X hin
  have X : Cx D cX7_free RX7 2 9 238 none p R s m args meth c := X
  unfold fX7_free
  refine rf_iconst X (0 : Int32) rfl dX7_free_0 ?_
  refine rf_istore_n X (ls' := [some (tR (some a0)), some (tI (0 : Int32))]) rfl (by decide) dX7_free_1 ?_
  refine rf_fix (fun i => ∀ (x2 : Int32) (A3 : AH), RfX X l e below wU (i x2 A3) 2 [some (tR (some a0)), some (tI x2)] [] A3) (fun _ _ => rf_none) (fun rc4 hrc4 => ?_) (fun j1 hj1 => ?_)
  · intro x2 A3
    refine rf_iload_n X rfl dX7_free_2 ?_
    refine rf_aload_n X rfl dX7_free_3 ?_
    refine rf_bind (fun v5 hv5 => ?_)
    refine rf_getR X fl_X7_14 hv5 dX7_free_4 ?_
    refine rf_bind (fun v6 hv6 => ?_)
    refine rf_bind (fun g7 hg7 => ?_)
    refine rf_callVI X c_X7_118 ⟨Nat.le_of_ble_eq_true rfl, Nat.le_of_ble_eq_true rfl⟩ [] rfl (Nat.le_of_ble_eq_true rfl) hv6 (sJ2_size l D v6 A3 g7 hg7) dX7_free_7 ?_
    refine rf_icmp_ge X (tgt := 37) rfl dX7_free_10 (fun c8 => rf_pos c8 ?_) (fun c8 => rf_neg c8 ?_)
    · exact rf_vret X rfl dX7_free_37
    refine rf_aload_n X rfl dX7_free_13 ?_
    refine rf_getR X fl_X7_14 hv5 dX7_free_14 ?_
    refine rf_iload_n X rfl dX7_free_17 ?_
    refine rf_bind (fun g9 hg9 => ?_)
    refine rf_callVI X c_X7_122 ⟨Nat.le_of_ble_eq_true rfl, Nat.le_of_ble_eq_true rfl⟩ [tI x2] rfl (Nat.le_of_ble_eq_true rfl) hv6 (sJ2_get l D v6 x2 A3 g9 hg9) dX7_free_18 ?_
    refine rf_bind (fun v10 hv10 => ?_)
    refine rf_cast X (ci := 8) rfl rfl q719 hv10 dX7_free_21 ?_
    refine rf_aload_n X rfl dX7_free_24 ?_
    refine rf_bind (fun v11 hv11 => ?_)
    refine rf_getR X fl_X7_40 hv11 dX7_free_25 ?_
    refine rf_bind (fun v12 hv12 => ?_)
    refine rf_bind (fun g13 hg13 => ?_)
    refine rf_callVU X c_X7_153 ⟨Nat.le_of_ble_eq_true rfl, Nat.le_of_ble_eq_true rfl⟩ [tR v11] rfl (Nat.le_of_ble_eq_true rfl) hv12 (sX8_clear l D n v12 v11 A3 g13 hg13) dX7_free_28 ?_
    refine rf_iinc X (x2 + (1 : Int32)) rfl rfl (ls' := [some (tR (some a0)), some (tI (x2 + (1 : Int32)))]) rfl (by decide) dX7_free_31 ?_
    refine rf_goto X (tgt := 2) rfl dX7_free_34 ?_
    exact rf_go (hrc4 (x2 + (1 : Int32)) g13) (And.intro rfl (And.intro rfl True.intro))
  exact rf_go (hj1 (0 : Int32) A) (And.intro rfl (And.intro rfl True.intro))

