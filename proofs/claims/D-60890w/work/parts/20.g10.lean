/-! 20.g10: printed by gen/parts.py -/
set_option maxRecDepth 100000
theorem fl_X13_98 : FLr RX13 98 5 6 := ⟨RX5, TX5, 7, "WarpMill$Word", "WarpMill", rfl, by decide, in_X5, Or.inr q614, Or.inl rfl⟩
theorem fl_X13_38 : FLr RX13 38 13 5 := ⟨RX13, TX13, 6, "WarpMill$Warp", "", rfl, by decide, in_X13, Or.inl q1168, Or.inl rfl⟩
theorem fl_X13_107 : FLr RX13 107 5 0 := ⟨RX5, TX5, 7, "WarpMill$Word", "WarpMill", rfl, by decide, in_X5, Or.inr q597, Or.inl rfl⟩
theorem fl_X13_89 : FLr RX13 89 5 1 := ⟨RX5, TX5, 7, "WarpMill$Word", "WarpMill", rfl, by decide, in_X5, Or.inr q600, Or.inl rfl⟩
theorem fl_X13_80 : FLr RX13 80 5 3 := ⟨RX5, TX5, 7, "WarpMill$Word", "WarpMill", rfl, by decide, in_X5, Or.inr q606, Or.inl rfl⟩
theorem fl_X13_74 : FLr RX13 74 5 2 := ⟨RX5, TX5, 7, "WarpMill$Word", "WarpMill", rfl, by decide, in_X5, Or.inr q603, Or.inl rfl⟩
theorem fl_X8_61 : FLr RX8 61 5 6 := ⟨RX5, TX5, 7, "WarpMill$Word", "WarpMill", rfl, by decide, in_X5, Or.inr q613, Or.inl rfl⟩
theorem fl_X8_52 : FLr RX8 52 8 2 := ⟨RX8, TX8, 5, "WarpMill$Unit", "", rfl, by decide, in_X8, Or.inl q733, Or.inl rfl⟩
theorem fl_X8_55 : FLr RX8 55 8 3 := ⟨RX8, TX8, 5, "WarpMill$Unit", "", rfl, by decide, in_X8, Or.inl q736, Or.inl rfl⟩
theorem fl_X7_268 : FLr RX7 268 13 0 := ⟨RX13, TX13, 6, "WarpMill$Warp", "WarpMill", rfl, by decide, in_X13, Or.inr q1154, Or.inl rfl⟩
theorem fl_X7_271 : FLr RX7 271 12 0 := ⟨RX12, TX12, 3, "WarpMill$Block", "WarpMill", rfl, by decide, in_X12, Or.inr q1119, Or.inl rfl⟩
theorem fl_X7_276 : FLr RX7 276 13 1 := ⟨RX13, TX13, 6, "WarpMill$Warp", "WarpMill", rfl, by decide, in_X13, Or.inr q1157, Or.inl rfl⟩
theorem fl_X7_243 : FLr RX7 243 13 2 := ⟨RX13, TX13, 6, "WarpMill$Warp", "WarpMill", rfl, by decide, in_X13, Or.inr q1162, Or.inl rfl⟩
theorem fl_X7_245 : FLr RX7 245 14 2 := ⟨RX14, TX14, 6, "WarpMill$Lane", "WarpMill", rfl, by decide, in_X14, Or.inr q1205, Or.inl rfl⟩
theorem fl_X14_39 : FLr RX14 39 5 4 := ⟨RX5, TX5, 7, "WarpMill$Word", "WarpMill", rfl, by decide, in_X5, Or.inr q609, Or.inl rfl⟩
theorem fl_X7_325 : FLr RX7 325 5 2 := ⟨RX5, TX5, 7, "WarpMill$Word", "WarpMill", rfl, by decide, in_X5, Or.inr q604, Or.inl rfl⟩
theorem fl_X7_328 : FLr RX7 328 5 5 := ⟨RX5, TX5, 7, "WarpMill$Word", "WarpMill", rfl, by decide, in_X5, Or.inr q611, Or.inl rfl⟩
theorem fl_X7_293 : FLr RX7 293 5 6 := ⟨RX5, TX5, 7, "WarpMill$Word", "WarpMill", rfl, by decide, in_X5, Or.inr q615, Or.inl rfl⟩
theorem fl_X7_334 : FLr RX7 334 5 3 := ⟨RX5, TX5, 7, "WarpMill$Word", "WarpMill", rfl, by decide, in_X5, Or.inr q607, Or.inl rfl⟩
theorem fl_X7_30 : FLr RX7 30 7 3 := ⟨RX7, TX7, 26, "WarpMill$Machine", "", rfl, by decide, in_X7, Or.inl q802, Or.inl rfl⟩
theorem fl_X4_14 : FLr RX4 14 4 0 := ⟨RX4, TX4, 8, "WarpMill$Coalescer", "", rfl, by decide, in_X4, Or.inl q539, Or.inl rfl⟩
theorem fl_X4_20 : FLr RX4 20 4 1 := ⟨RX4, TX4, 8, "WarpMill$Coalescer", "", rfl, by decide, in_X4, Or.inl q540, Or.inl rfl⟩
theorem fl_X4_23 : FLr RX4 23 4 2 := ⟨RX4, TX4, 8, "WarpMill$Coalescer", "", rfl, by decide, in_X4, Or.inl q541, Or.inl rfl⟩
theorem fp_X4_37 : FL RX4 37 4 5 (.int) false := ⟨RX4, TX4, 8, tyX4, "WarpMill$Coalescer", "", rfl, by decide, in_X4, tyX4_ok, nmX4, Or.inl q546, Or.inl rfl, rfl, rfl, fun h => by cases h⟩
theorem fp_X4_40 : FL RX4 40 4 6 (.int) false := ⟨RX4, TX4, 8, tyX4, "WarpMill$Coalescer", "", rfl, by decide, in_X4, tyX4_ok, nmX4, Or.inl q548, Or.inl rfl, rfl, rfl, fun h => by cases h⟩
theorem fp_X4_43 : FL RX4 43 4 7 (.int) false := ⟨RX4, TX4, 8, tyX4, "WarpMill$Coalescer", "", rfl, by decide, in_X4, tyX4_ok, nmX4, Or.inl q550, Or.inl rfl, rfl, rfl, fun h => by cases h⟩
theorem c_X13_65 : CV RX13 65 5 yX5_isKnown cX5_isKnown 1 (some Jvm.ClassFile.FieldType.boolean) 0 := ⟨TX5, 7, rfl, q1257, q1258, q1259, q103, q1260, ⟨by decide +kernel, by decide +kernel, by decide +kernel⟩⟩
theorem c_X13_71 : CV RX13 71 5 yX5_readsFirst cX5_readsFirst 1 (some Jvm.ClassFile.FieldType.boolean) 0 := ⟨TX5, 7, rfl, q1261, q1262, q1263, q103, q1264, ⟨by decide +kernel, by decide +kernel, by decide +kernel⟩⟩
theorem c_X13_95 : CV RX13 95 5 yX5_asked cX5_asked 2 (some Jvm.ClassFile.FieldType.int) 0 := ⟨TX5, 7, rfl, q1287, q1288, q1289, q103, q1290, ⟨by decide +kernel, by decide +kernel, by decide +kernel⟩⟩
theorem c_X13_92 : CV RX13 92 5 yX5_decides cX5_decides 1 (some Jvm.ClassFile.FieldType.boolean) 0 := ⟨TX5, 7, rfl, q1283, q1284, q1285, q103, q1286, ⟨by decide +kernel, by decide +kernel, by decide +kernel⟩⟩
theorem c_X13_83 : CV RX13 83 5 yX5_writes cX5_writes 1 (some Jvm.ClassFile.FieldType.boolean) 0 := ⟨TX5, 7, rfl, q1275, q1276, q1277, q103, q1278, ⟨by decide +kernel, by decide +kernel, by decide +kernel⟩⟩
theorem c_X13_86 : CV RX13 86 5 yX5_readsOwn cX5_readsOwn 1 (some Jvm.ClassFile.FieldType.boolean) 0 := ⟨TX5, 7, rfl, q1279, q1280, q1281, q103, q1282, ⟨by decide +kernel, by decide +kernel, by decide +kernel⟩⟩
theorem c_X13_77 : CV RX13 77 5 yX5_readsSecond cX5_readsSecond 1 (some Jvm.ClassFile.FieldType.boolean) 0 := ⟨TX5, 7, rfl, q1271, q1272, q1273, q103, q1274, ⟨by decide +kernel, by decide +kernel, by decide +kernel⟩⟩
theorem c_X14_33 : CV RX14 33 5 yX5_isGuarded cX5_isGuarded 1 (some Jvm.ClassFile.FieldType.boolean) 0 := ⟨TX5, 7, rfl, q1319, q1292, q1293, q103, q1294, ⟨by decide +kernel, by decide +kernel, by decide +kernel⟩⟩
theorem c_X13_61 : CV RX13 61 14 yX14_does cX14_does 2 (some Jvm.ClassFile.FieldType.boolean) 1 := ⟨TX14, 6, rfl, q1315, q1316, q1317, q115, q1318, ⟨by decide +kernel, by decide +kernel, by decide +kernel⟩⟩
theorem c_X7_340 : CS RX7 340 yX7_address cX7_address 2 (some Jvm.ClassFile.FieldType.int) 2 := ⟨q1326, q1327, q106, q1328, ⟨by decide +kernel, by decide +kernel, by decide +kernel⟩⟩
theorem c_X4_34 : CV RX4 34 6 yJ17_clear cJ17_clear 1 none 0 := ⟨TJ17, 3, rfl, q1344, q1345, q1346, q102, q1347, ⟨by decide +kernel, by decide +kernel, by decide +kernel⟩⟩
theorem dX13_isThere_0 : decode cX13_isThere 0 = .ok (.aload_n 1, 1) := by decide +kernel
theorem dX13_isThere_1 : decode cX13_isThere 1 = .ok (.invokevirtual 65, 3) := by decide +kernel
theorem dX13_isThere_4 : decode cX13_isThere 4 = .ok (.ifCond .ne 5, 3) := by decide +kernel
theorem dX13_isThere_7 : decode cX13_isThere 7 = .ok (.iconst 1, 1) := by decide +kernel
theorem dX13_isThere_8 : decode cX13_isThere 8 = .ok (.ireturn, 1) := by decide +kernel
theorem dX13_isThere_9 : decode cX13_isThere 9 = .ok (.aload_n 1, 1) := by decide +kernel
theorem dX13_isThere_10 : decode cX13_isThere 10 = .ok (.invokevirtual 71, 3) := by decide +kernel
theorem dX13_isThere_13 : decode cX13_isThere 13 = .ok (.ifCond .eq 16, 3) := by decide +kernel
theorem dX13_isThere_16 : decode cX13_isThere 16 = .ok (.aload_n 0, 1) := by decide +kernel
theorem dX13_isThere_17 : decode cX13_isThere 17 = .ok (.getfield 20, 3) := by decide +kernel
theorem dX13_isThere_20 : decode cX13_isThere 20 = .ok (.aload_n 1, 1) := by decide +kernel
theorem dX13_isThere_21 : decode cX13_isThere 21 = .ok (.getfield 74, 3) := by decide +kernel
theorem dX13_isThere_24 : decode cX13_isThere 24 = .ok (.iaload, 1) := by decide +kernel
theorem dX13_isThere_25 : decode cX13_isThere 25 = .ok (.iload_n 2, 1) := by decide +kernel
theorem dX13_isThere_26 : decode cX13_isThere 26 = .ok (.if_icmp .gt 7, 3) := by decide +kernel
theorem dX13_isThere_29 : decode cX13_isThere 29 = .ok (.iconst 1, 1) := by decide +kernel
theorem dX13_isThere_30 : decode cX13_isThere 30 = .ok (.goto 4, 3) := by decide +kernel
theorem dX13_isThere_33 : decode cX13_isThere 33 = .ok (.iconst 0, 1) := by decide +kernel
theorem dX13_isThere_34 : decode cX13_isThere 34 = .ok (.istore_n 3, 1) := by decide +kernel
theorem dX13_isThere_35 : decode cX13_isThere 35 = .ok (.iload_n 3, 1) := by decide +kernel
theorem dX13_isThere_36 : decode cX13_isThere 36 = .ok (.ifCond .eq 27, 3) := by decide +kernel
theorem dX13_isThere_39 : decode cX13_isThere 39 = .ok (.aload_n 1, 1) := by decide +kernel
theorem dX13_isThere_40 : decode cX13_isThere 40 = .ok (.invokevirtual 77, 3) := by decide +kernel
theorem dX13_isThere_43 : decode cX13_isThere 43 = .ok (.ifCond .eq 16, 3) := by decide +kernel
theorem dX13_isThere_46 : decode cX13_isThere 46 = .ok (.aload_n 0, 1) := by decide +kernel
theorem dX13_isThere_47 : decode cX13_isThere 47 = .ok (.getfield 20, 3) := by decide +kernel
theorem dX13_isThere_50 : decode cX13_isThere 50 = .ok (.aload_n 1, 1) := by decide +kernel
theorem dX13_isThere_51 : decode cX13_isThere 51 = .ok (.getfield 80, 3) := by decide +kernel
theorem dX13_isThere_54 : decode cX13_isThere 54 = .ok (.iaload, 1) := by decide +kernel
theorem dX13_isThere_55 : decode cX13_isThere 55 = .ok (.iload_n 2, 1) := by decide +kernel
theorem dX13_isThere_56 : decode cX13_isThere 56 = .ok (.if_icmp .gt 7, 3) := by decide +kernel
theorem dX13_isThere_59 : decode cX13_isThere 59 = .ok (.iconst 1, 1) := by decide +kernel
theorem dX13_isThere_60 : decode cX13_isThere 60 = .ok (.goto 4, 3) := by decide +kernel
theorem dX13_isThere_63 : decode cX13_isThere 63 = .ok (.iconst 0, 1) := by decide +kernel
theorem dX13_isThere_64 : decode cX13_isThere 64 = .ok (.istore_n 3, 1) := by decide +kernel
theorem dX13_isThere_65 : decode cX13_isThere 65 = .ok (.iload_n 3, 1) := by decide +kernel
theorem dX13_isThere_66 : decode cX13_isThere 66 = .ok (.ifCond .eq 34, 3) := by decide +kernel
theorem dX13_isThere_69 : decode cX13_isThere 69 = .ok (.aload_n 1, 1) := by decide +kernel
theorem dX13_isThere_70 : decode cX13_isThere 70 = .ok (.invokevirtual 83, 3) := by decide +kernel
theorem dX13_isThere_73 : decode cX13_isThere 73 = .ok (.ifCond .ne 10, 3) := by decide +kernel
theorem dX13_isThere_76 : decode cX13_isThere 76 = .ok (.aload_n 1, 1) := by decide +kernel
theorem dX13_isThere_77 : decode cX13_isThere 77 = .ok (.invokevirtual 86, 3) := by decide +kernel
theorem dX13_isThere_80 : decode cX13_isThere 80 = .ok (.ifCond .eq 16, 3) := by decide +kernel
theorem dX13_isThere_83 : decode cX13_isThere 83 = .ok (.aload_n 0, 1) := by decide +kernel
theorem dX13_isThere_84 : decode cX13_isThere 84 = .ok (.getfield 20, 3) := by decide +kernel
theorem dX13_isThere_87 : decode cX13_isThere 87 = .ok (.aload_n 1, 1) := by decide +kernel
theorem dX13_isThere_88 : decode cX13_isThere 88 = .ok (.getfield 89, 3) := by decide +kernel
theorem dX13_isThere_91 : decode cX13_isThere 91 = .ok (.iaload, 1) := by decide +kernel
theorem dX13_isThere_92 : decode cX13_isThere 92 = .ok (.iload_n 2, 1) := by decide +kernel
theorem dX13_isThere_93 : decode cX13_isThere 93 = .ok (.if_icmp .gt 7, 3) := by decide +kernel
theorem dX13_isThere_96 : decode cX13_isThere 96 = .ok (.iconst 1, 1) := by decide +kernel
theorem dX13_isThere_97 : decode cX13_isThere 97 = .ok (.goto 4, 3) := by decide +kernel
theorem dX13_isThere_100 : decode cX13_isThere 100 = .ok (.iconst 0, 1) := by decide +kernel
theorem dX13_isThere_101 : decode cX13_isThere 101 = .ok (.istore_n 3, 1) := by decide +kernel
theorem dX13_isThere_102 : decode cX13_isThere 102 = .ok (.iload_n 3, 1) := by decide +kernel
theorem dX13_isThere_103 : decode cX13_isThere 103 = .ok (.ifCond .eq 29, 3) := by decide +kernel
theorem dX13_isThere_106 : decode cX13_isThere 106 = .ok (.aload_n 1, 1) := by decide +kernel
theorem dX13_isThere_107 : decode cX13_isThere 107 = .ok (.invokevirtual 92, 3) := by decide +kernel
theorem dX13_isThere_110 : decode cX13_isThere 110 = .ok (.ifCond .eq 18, 3) := by decide +kernel
theorem dX13_isThere_113 : decode cX13_isThere 113 = .ok (.aload_n 0, 1) := by decide +kernel
theorem dX13_isThere_114 : decode cX13_isThere 114 = .ok (.getfield 24, 3) := by decide +kernel
theorem dX13_isThere_117 : decode cX13_isThere 117 = .ok (.aload_n 1, 1) := by decide +kernel
theorem dX13_isThere_118 : decode cX13_isThere 118 = .ok (.getfield 89, 3) := by decide +kernel
theorem dX13_isThere_121 : decode cX13_isThere 121 = .ok (.iconst 3, 1) := by decide +kernel
theorem dX13_isThere_122 : decode cX13_isThere 122 = .ok (.iand, 1) := by decide +kernel
theorem dX13_isThere_123 : decode cX13_isThere 123 = .ok (.iaload, 1) := by decide +kernel
theorem dX13_isThere_124 : decode cX13_isThere 124 = .ok (.iload_n 2, 1) := by decide +kernel
theorem dX13_isThere_125 : decode cX13_isThere 125 = .ok (.if_icmp .gt 7, 3) := by decide +kernel
theorem dX13_isThere_128 : decode cX13_isThere 128 = .ok (.iconst 1, 1) := by decide +kernel
theorem dX13_isThere_129 : decode cX13_isThere 129 = .ok (.goto 4, 3) := by decide +kernel
theorem dX13_isThere_132 : decode cX13_isThere 132 = .ok (.iconst 0, 1) := by decide +kernel
theorem dX13_isThere_133 : decode cX13_isThere 133 = .ok (.istore_n 3, 1) := by decide +kernel
theorem dX13_isThere_134 : decode cX13_isThere 134 = .ok (.aload_n 1, 1) := by decide +kernel
theorem dX13_isThere_135 : decode cX13_isThere 135 = .ok (.invokevirtual 95, 3) := by decide +kernel
theorem dX13_isThere_138 : decode cX13_isThere 138 = .ok (.istore 4, 2) := by decide +kernel
theorem dX13_isThere_140 : decode cX13_isThere 140 = .ok (.iconst 0, 1) := by decide +kernel
theorem dX13_isThere_141 : decode cX13_isThere 141 = .ok (.istore 5, 2) := by decide +kernel
theorem dX13_isThere_143 : decode cX13_isThere 143 = .ok (.iload 5, 2) := by decide +kernel
theorem dX13_isThere_145 : decode cX13_isThere 145 = .ok (.iconst 4, 1) := by decide +kernel
theorem dX13_isThere_146 : decode cX13_isThere 146 = .ok (.if_icmp .ge 40, 3) := by decide +kernel
theorem dX13_isThere_149 : decode cX13_isThere 149 = .ok (.iload_n 3, 1) := by decide +kernel
theorem dX13_isThere_150 : decode cX13_isThere 150 = .ok (.ifCond .eq 28, 3) := by decide +kernel
theorem dX13_isThere_153 : decode cX13_isThere 153 = .ok (.iload 4, 2) := by decide +kernel
theorem dX13_isThere_155 : decode cX13_isThere 155 = .ok (.iload 5, 2) := by decide +kernel
theorem dX13_isThere_157 : decode cX13_isThere 157 = .ok (.ishr, 1) := by decide +kernel
theorem dX13_isThere_158 : decode cX13_isThere 158 = .ok (.iconst 1, 1) := by decide +kernel
theorem dX13_isThere_159 : decode cX13_isThere 159 = .ok (.iand, 1) := by decide +kernel
theorem dX13_isThere_160 : decode cX13_isThere 160 = .ok (.ifCond .eq 14, 3) := by decide +kernel
theorem dX13_isThere_163 : decode cX13_isThere 163 = .ok (.aload_n 0, 1) := by decide +kernel
theorem dX13_isThere_164 : decode cX13_isThere 164 = .ok (.getfield 24, 3) := by decide +kernel
theorem dX13_isThere_167 : decode cX13_isThere 167 = .ok (.iload 5, 2) := by decide +kernel
theorem dX13_isThere_169 : decode cX13_isThere 169 = .ok (.iaload, 1) := by decide +kernel
theorem dX13_isThere_170 : decode cX13_isThere 170 = .ok (.iload_n 2, 1) := by decide +kernel
theorem dX13_isThere_171 : decode cX13_isThere 171 = .ok (.if_icmp .gt 7, 3) := by decide +kernel
theorem dX13_isThere_174 : decode cX13_isThere 174 = .ok (.iconst 1, 1) := by decide +kernel
theorem dX13_isThere_175 : decode cX13_isThere 175 = .ok (.goto 4, 3) := by decide +kernel
theorem dX13_isThere_178 : decode cX13_isThere 178 = .ok (.iconst 0, 1) := by decide +kernel
theorem dX13_isThere_179 : decode cX13_isThere 179 = .ok (.istore_n 3, 1) := by decide +kernel
theorem dX13_isThere_180 : decode cX13_isThere 180 = .ok (.iinc 5 1, 3) := by decide +kernel
theorem dX13_isThere_183 : decode cX13_isThere 183 = .ok (.goto (-40), 3) := by decide +kernel
theorem dX13_isThere_186 : decode cX13_isThere 186 = .ok (.iload_n 3, 1) := by decide +kernel
theorem dX13_isThere_187 : decode cX13_isThere 187 = .ok (.ifCond .eq 40, 3) := by decide +kernel
theorem dX13_isThere_190 : decode cX13_isThere 190 = .ok (.aload_n 1, 1) := by decide +kernel
theorem dX13_isThere_191 : decode cX13_isThere 191 = .ok (.getfield 98, 3) := by decide +kernel
theorem dX13_isThere_194 : decode cX13_isThere 194 = .ok (.invokevirtual 102, 3) := by decide +kernel
theorem dX13_isThere_197 : decode cX13_isThere 197 = .ok (.ifCond .ne 18, 3) := by decide +kernel
theorem dX13_isThere_200 : decode cX13_isThere 200 = .ok (.aload_n 1, 1) := by decide +kernel
theorem dX13_isThere_201 : decode cX13_isThere 201 = .ok (.getfield 107, 3) := by decide +kernel
theorem dX13_isThere_204 : decode cX13_isThere 204 = .ok (.ifCond .eq 11, 3) := by decide +kernel
theorem dX13_isThere_207 : decode cX13_isThere 207 = .ok (.aload_n 1, 1) := by decide +kernel
theorem dX13_isThere_208 : decode cX13_isThere 208 = .ok (.getfield 107, 3) := by decide +kernel
theorem dX13_isThere_211 : decode cX13_isThere 211 = .ok (.iconst 1, 1) := by decide +kernel
theorem dX13_isThere_212 : decode cX13_isThere 212 = .ok (.if_icmp .ne 11, 3) := by decide +kernel
theorem dX13_isThere_215 : decode cX13_isThere 215 = .ok (.aload_n 0, 1) := by decide +kernel
theorem dX13_isThere_216 : decode cX13_isThere 216 = .ok (.getfield 38, 3) := by decide +kernel
theorem dX13_isThere_219 : decode cX13_isThere 219 = .ok (.iload_n 2, 1) := by decide +kernel
theorem dX13_isThere_220 : decode cX13_isThere 220 = .ok (.if_icmp .gt 7, 3) := by decide +kernel
theorem dX13_isThere_223 : decode cX13_isThere 223 = .ok (.iconst 1, 1) := by decide +kernel
theorem dX13_isThere_224 : decode cX13_isThere 224 = .ok (.goto 4, 3) := by decide +kernel
theorem dX13_isThere_227 : decode cX13_isThere 227 = .ok (.iconst 0, 1) := by decide +kernel
theorem dX13_isThere_228 : decode cX13_isThere 228 = .ok (.ireturn, 1) := by decide +kernel
def fX13_isThere (n : Nat) (a0 : Nat) (p1 : Option Nat) (p2 : Int32) (A : AH) : Option (Int32) :=
(rcv A p1 5).bind fun v1 =>
(fX5_isKnown v1 A).bind fun g2 =>
if g2 = 0 then (some (nb (1 : Int32))) else
(fX5_readsFirst v1 A).bind fun g4 =>
jn (fun (y6 : Int32) =>
jn (fun (y8 : Int32) =>
jn (fun (y10 : Int32) =>
jn (fun (y12 : Int32) =>
(fX5_asked v1 A).bind fun g13 =>
jl (fixG (fun _ _ => none) (fun (rc17 : (Int32) → (Int32) → Option (Int32)) (x15 : Int32) (x16 : Int32) =>
if (4 : Int32) ≤ x16 then (jn (fun (y20 : Int32) =>
some (nb y20)) fun j19 =>
jn (j19 (0 : Int32)) fun j21 =>
if x15 = 0 then (j21) else
(gR A p1 5 6).bind fun v23 =>
(rcS A v23).bind fun v24 =>
(fX6_isMemory v24 A).bind fun g25 =>
jn (j19 (1 : Int32)) fun j26 =>
jn ((gI A (some a0) 13 5).bind fun v28 =>
if p2 < v28 then (j21) else
j26) fun j27 =>
if g25 = 0 then ((gI A p1 5 0).bind fun v31 =>
if v31 = 0 then (j27) else
if v31 = (1 : Int32) then (j27) else
j26) else
j27) else
jn (fun (y35 : Int32) =>
rc17 y35 (x16 + (1 : Int32))) fun j34 =>
jn (j34 (0 : Int32)) fun j36 =>
if x15 = 0 then (j36) else
jn (j34 (1 : Int32)) fun j38 =>
if ((g13 >>> (x16 &&& 31)) &&& (1 : Int32)) = 0 then (j38) else
(gR A (some a0) 13 4).bind fun v40 =>
(aI A v40 x16).bind fun v41 =>
if p2 < v41 then (j36) else
j38) n) fun j14 =>
j14 y12 (0 : Int32)) fun j11 =>
jn (j11 (0 : Int32)) fun j43 =>
if y10 = 0 then (j43) else
(fX5_decides v1 A).bind fun g45 =>
jn (j11 (1 : Int32)) fun j46 =>
if g45 = 0 then (j46) else
(gR A (some a0) 13 4).bind fun v48 =>
(gI A p1 5 1).bind fun v49 =>
(aI A v48 (v49 &&& (3 : Int32))).bind fun v50 =>
if p2 < v50 then (j43) else
j46) fun j9 =>
jn (j9 (0 : Int32)) fun j52 =>
if y8 = 0 then (j52) else
(fX5_writes v1 A).bind fun g54 =>
jn (j9 (1 : Int32)) fun j55 =>
jn ((gR A (some a0) 13 3).bind fun v57 =>
(gI A p1 5 1).bind fun v58 =>
(aI A v57 v58).bind fun v59 =>
if p2 < v59 then (j52) else
j55) fun j56 =>
if g54 = 0 then ((fX5_readsOwn v1 A).bind fun g62 =>
if g62 = 0 then (j55) else
j56) else
j56) fun j7 =>
jn (j7 (0 : Int32)) fun j64 =>
if y6 = 0 then (j64) else
(fX5_readsSecond v1 A).bind fun g66 =>
jn (j7 (1 : Int32)) fun j67 =>
if g66 = 0 then (j67) else
(gR A (some a0) 13 3).bind fun v69 =>
(gI A p1 5 3).bind fun v70 =>
(aI A v69 v70).bind fun v71 =>
if p2 < v71 then (j64) else
j67) fun j5 =>
jn (j5 (1 : Int32)) fun j73 =>
if g4 = 0 then (j73) else
(gR A (some a0) 13 3).bind fun v75 =>
(gI A p1 5 2).bind fun v76 =>
(aI A v75 v76).bind fun v77 =>
if p2 < v77 then (j5 (0 : Int32)) else
j73

set_option maxHeartbeats 4000000 in
set_option maxRecDepth 100000 in
theorem sX13_isThere (l : Launch) (D : DE) (n : Nat) (a0 : Nat) (p1 : Option Nat) (p2 : Int32) (A : AH) (g : Int32) (hg : fX13_isThere n a0 p1 p2 A = some g) : Sm l D yX13_isThere cX13_isThere 6 (some Jvm.ClassFile.FieldType.boolean) 2 41 [tR (some a0), tR p1, tI p2] A (qI A g).1 (qI A g).2 := by
  refine Sm.of (ω := qI A) (fX13_isThere n a0 p1 p2 A) [some (tR (some a0)), some (tR p1), some (tI p2), none, none, none] (by decide) (Nat.le_of_ble_eq_true rfl) rfl hg ?_
  intro p e R s m args below meth c X hin
  have X : Cx D cX13_isThere RX13 6 2 41 (some Jvm.ClassFile.FieldType.boolean) p R s m args meth c := X
  unfold fX13_isThere
  refine rf_aload_n X rfl dX13_isThere_0 ?_
  refine rf_bind (fun v1 hv1 => ?_)
  refine rf_bind (fun g2 hg2 => ?_)
  refine rf_callVI X c_X13_65 ⟨Nat.le_of_ble_eq_true rfl, Nat.le_of_ble_eq_true rfl⟩ [] rfl (Nat.le_of_ble_eq_true rfl) hv1 (sX5_isKnown l D v1 A g2 hg2) dX13_isThere_1 ?_
  refine rf_if_ne X (tgt := 9) rfl dX13_isThere_4 (fun c3 => rf_neg c3 ?_) (fun c3 => rf_pos c3 ?_)
  · refine rf_aload_n X rfl dX13_isThere_9 ?_
    refine rf_bind (fun g4 hg4 => ?_)
    refine rf_callVI X c_X13_71 ⟨Nat.le_of_ble_eq_true rfl, Nat.le_of_ble_eq_true rfl⟩ [] rfl (Nat.le_of_ble_eq_true rfl) hv1 (sX5_readsFirst l D v1 A g4 hg4) dX13_isThere_10 ?_
    refine rf_jn2 (fun i => ∀ (y6 : Int32), RfX X l e below (qI A) (i y6) 34 [some (tR (some a0)), some (tR p1), some (tI p2), none, none, none] [tI y6] A) ?_ (fun j5 hj5 => ?_)
    · intro y6
      refine rf_istore_n X (ls' := [some (tR (some a0)), some (tR p1), some (tI p2), some (tI y6), none, none]) rfl (by decide) dX13_isThere_34 ?_
      refine rf_iload_n X rfl dX13_isThere_35 ?_
      refine rf_jn2 (fun i => ∀ (y8 : Int32), RfX X l e below (qI A) (i y8) 64 [some (tR (some a0)), some (tR p1), some (tI p2), none, none, none] [tI y8] A) ?_ (fun j7 hj7 => ?_)
      · intro y8
        refine rf_istore_n X (ls' := [some (tR (some a0)), some (tR p1), some (tI p2), some (tI y8), none, none]) rfl (by decide) dX13_isThere_64 ?_
        refine rf_iload_n X rfl dX13_isThere_65 ?_
        refine rf_jn2 (fun i => ∀ (y10 : Int32), RfX X l e below (qI A) (i y10) 101 [some (tR (some a0)), some (tR p1), some (tI p2), none, none, none] [tI y10] A) ?_ (fun j9 hj9 => ?_)
        · intro y10
          refine rf_istore_n X (ls' := [some (tR (some a0)), some (tR p1), some (tI p2), some (tI y10), none, none]) rfl (by decide) dX13_isThere_101 ?_
          refine rf_iload_n X rfl dX13_isThere_102 ?_
          refine rf_jn2 (fun i => ∀ (y12 : Int32), RfX X l e below (qI A) (i y12) 133 [some (tR (some a0)), some (tR p1), some (tI p2), none, none, none] [tI y12] A) ?_ (fun j11 hj11 => ?_)
          · intro y12
            refine rf_istore_n X (ls' := [some (tR (some a0)), some (tR p1), some (tI p2), some (tI y12), none, none]) rfl (by decide) dX13_isThere_133 ?_
            refine rf_aload_n X rfl dX13_isThere_134 ?_
            refine rf_bind (fun g13 hg13 => ?_)
            refine rf_callVI X c_X13_95 ⟨Nat.le_of_ble_eq_true rfl, Nat.le_of_ble_eq_true rfl⟩ [] rfl (Nat.le_of_ble_eq_true rfl) hv1 (sX5_asked l D v1 A g13 hg13) dX13_isThere_135 ?_
            refine rf_istore X (ls' := [some (tR (some a0)), some (tR p1), some (tI p2), some (tI y12), some (tI g13), none]) rfl (by decide) dX13_isThere_138 ?_
            refine rf_iconst X (0 : Int32) rfl dX13_isThere_140 ?_
            refine rf_istore X (ls' := [some (tR (some a0)), some (tR p1), some (tI p2), some (tI y12), some (tI g13), some (tI (0 : Int32))]) rfl (by decide) dX13_isThere_141 ?_
            refine rf_fix (fun i => ∀ (x15 : Int32) (x16 : Int32), RfX X l e below (qI A) (i x15 x16) 143 [some (tR (some a0)), some (tR p1), some (tI p2), some (tI x15), some (tI g13), some (tI x16)] [] A) (fun _ _ => rf_none) (fun rc17 hrc17 => ?_) (fun j14 hj14 => ?_)
            · intro x15 x16
              refine rf_iload X rfl dX13_isThere_143 ?_
              refine rf_iconst X (4 : Int32) rfl dX13_isThere_145 ?_
              refine rf_icmp_ge X (tgt := 186) rfl dX13_isThere_146 (fun c18 => rf_pos c18 ?_) (fun c18 => rf_neg c18 ?_)
              · refine rf_iload_n X rfl dX13_isThere_186 ?_
                refine rf_jn2 (fun i => ∀ (y20 : Int32), RfX X l e below (qI A) (i y20) 228 [none, none, none, none, none, none] [tI y20] A) ?_ (fun j19 hj19 => ?_)
                · intro y20
                  exact rf_zret X rfl dX13_isThere_228
                refine rf_jn2 (fun i => RfX X l e below (qI A) i 227 [none, none, none, none, none, none] [] A) ?_ (fun j21 hj21 => ?_)
                · show RfX X l e below _ _ _ _ _ _
                  refine rf_iconst X (0 : Int32) rfl dX13_isThere_227 ?_
                  exact rf_go (hj19 (0 : Int32)) True.intro
                refine rf_if_eq X (tgt := 227) rfl dX13_isThere_187 (fun c22 => rf_pos c22 ?_) (fun c22 => rf_neg c22 ?_)
                · exact rf_go hj21 True.intro
                refine rf_aload_n X rfl dX13_isThere_190 ?_
                refine rf_bind (fun v23 hv23 => ?_)
                refine rf_getR X fl_X13_98 hv23 dX13_isThere_191 ?_
                refine rf_bind (fun v24 hv24 => ?_)
                refine rf_bind (fun g25 hg25 => ?_)
                refine rf_callSort X rfl q1295 q1266 q1267 q105 q1268 pl_yX6_isMemory ⟨Nat.le_of_ble_eq_true rfl, Nat.le_of_ble_eq_true rfl⟩ (Nat.le_of_ble_eq_true rfl) hv24 (sX6_isMemory l D v24 A g25 hg25) dX13_isThere_194 ?_
                refine rf_jn2 (fun i => RfX X l e below (qI A) i 223 [none, none, none, none, none, none] [] A) ?_ (fun j26 hj26 => ?_)
                · show RfX X l e below _ _ _ _ _ _
                  refine rf_iconst X (1 : Int32) rfl dX13_isThere_223 ?_
                  refine rf_goto X (tgt := 228) rfl dX13_isThere_224 ?_
                  exact rf_go (hj19 (1 : Int32)) True.intro
                refine rf_jn2 (fun i => RfX X l e below (qI A) i 215 [some (tR (some a0)), none, some (tI p2), none, none, none] [] A) ?_ (fun j27 hj27 => ?_)
                · show RfX X l e below _ _ _ _ _ _
                  refine rf_aload_n X rfl dX13_isThere_215 ?_
                  refine rf_bind (fun v28 hv28 => ?_)
                  refine rf_getI X fl_X13_38 hv28 dX13_isThere_216 ?_
                  refine rf_iload_n X rfl dX13_isThere_219 ?_
                  refine rf_icmp_gt X (tgt := 227) rfl dX13_isThere_220 (fun c29 => rf_pos c29 ?_) (fun c29 => rf_neg c29 ?_)
                  · exact rf_go hj21 True.intro
                  exact rf_go hj26 True.intro
                refine rf_if_ne X (tgt := 215) rfl dX13_isThere_197 (fun c30 => rf_neg c30 ?_) (fun c30 => rf_pos c30 ?_)
                · exact rf_go hj27 (And.intro rfl (And.intro rfl True.intro))
                refine rf_aload_n X rfl dX13_isThere_200 ?_
                refine rf_bind (fun v31 hv31 => ?_)
                refine rf_getI X fl_X13_107 hv31 dX13_isThere_201 ?_
                refine rf_if_eq X (tgt := 215) rfl dX13_isThere_204 (fun c32 => rf_pos c32 ?_) (fun c32 => rf_neg c32 ?_)
                · exact rf_go hj27 (And.intro rfl (And.intro rfl True.intro))
                refine rf_aload_n X rfl dX13_isThere_207 ?_
                refine rf_getI X fl_X13_107 hv31 dX13_isThere_208 ?_
                refine rf_iconst X (1 : Int32) rfl dX13_isThere_211 ?_
                refine rf_icmp_ne X (tgt := 223) rfl dX13_isThere_212 (fun c33 => rf_neg c33 ?_) (fun c33 => rf_pos c33 ?_)
                · exact rf_go hj26 True.intro
                exact rf_go hj27 (And.intro rfl (And.intro rfl True.intro))
              refine rf_iload_n X rfl dX13_isThere_149 ?_
              refine rf_jn2 (fun i => ∀ (y35 : Int32), RfX X l e below (qI A) (i y35) 179 [some (tR (some a0)), some (tR p1), some (tI p2), none, some (tI g13), some (tI x16)] [tI y35] A) ?_ (fun j34 hj34 => ?_)
              · intro y35
                refine rf_istore_n X (ls' := [some (tR (some a0)), some (tR p1), some (tI p2), some (tI y35), some (tI g13), some (tI x16)]) rfl (by decide) dX13_isThere_179 ?_
                refine rf_iinc X (x16 + (1 : Int32)) rfl rfl (ls' := [some (tR (some a0)), some (tR p1), some (tI p2), some (tI y35), some (tI g13), some (tI (x16 + (1 : Int32)))]) rfl (by decide) dX13_isThere_180 ?_
                refine rf_goto X (tgt := 143) rfl dX13_isThere_183 ?_
                exact rf_go (hrc17 y35 (x16 + (1 : Int32))) (And.intro rfl (And.intro rfl (And.intro rfl (And.intro rfl (And.intro rfl (And.intro rfl True.intro))))))
              refine rf_jn2 (fun i => RfX X l e below (qI A) i 178 [some (tR (some a0)), some (tR p1), some (tI p2), none, some (tI g13), some (tI x16)] [] A) ?_ (fun j36 hj36 => ?_)
              · show RfX X l e below _ _ _ _ _ _
                refine rf_iconst X (0 : Int32) rfl dX13_isThere_178 ?_
                exact rf_go (hj34 (0 : Int32)) (And.intro rfl (And.intro rfl (And.intro rfl (And.intro rfl (And.intro rfl True.intro)))))
              refine rf_if_eq X (tgt := 178) rfl dX13_isThere_150 (fun c37 => rf_pos c37 ?_) (fun c37 => rf_neg c37 ?_)
              · exact rf_go hj36 (And.intro rfl (And.intro rfl (And.intro rfl (And.intro rfl (And.intro rfl True.intro)))))
              refine rf_iload X rfl dX13_isThere_153 ?_
              refine rf_iload X rfl dX13_isThere_155 ?_
              refine rf_ishr X dX13_isThere_157 ?_
              refine rf_iconst X (1 : Int32) rfl dX13_isThere_158 ?_
              refine rf_iand X dX13_isThere_159 ?_
              refine rf_jn2 (fun i => RfX X l e below (qI A) i 174 [some (tR (some a0)), some (tR p1), some (tI p2), none, some (tI g13), some (tI x16)] [] A) ?_ (fun j38 hj38 => ?_)
              · show RfX X l e below _ _ _ _ _ _
                refine rf_iconst X (1 : Int32) rfl dX13_isThere_174 ?_
                refine rf_goto X (tgt := 179) rfl dX13_isThere_175 ?_
                exact rf_go (hj34 (1 : Int32)) (And.intro rfl (And.intro rfl (And.intro rfl (And.intro rfl (And.intro rfl True.intro)))))
              refine rf_if_eq X (tgt := 174) rfl dX13_isThere_160 (fun c39 => rf_pos c39 ?_) (fun c39 => rf_neg c39 ?_)
              · exact rf_go hj38 (And.intro rfl (And.intro rfl (And.intro rfl (And.intro rfl (And.intro rfl True.intro)))))
              refine rf_aload_n X rfl dX13_isThere_163 ?_
              refine rf_bind (fun v40 hv40 => ?_)
              refine rf_getR X fl_X13_24 hv40 dX13_isThere_164 ?_
              refine rf_iload X rfl dX13_isThere_167 ?_
              refine rf_bind (fun v41 hv41 => ?_)
              refine rf_iald X hv41 dX13_isThere_169 ?_
              refine rf_iload_n X rfl dX13_isThere_170 ?_
              refine rf_icmp_gt X (tgt := 178) rfl dX13_isThere_171 (fun c42 => rf_pos c42 ?_) (fun c42 => rf_neg c42 ?_)
              · exact rf_go hj36 (And.intro rfl (And.intro rfl (And.intro rfl (And.intro rfl (And.intro rfl True.intro)))))
              exact rf_go hj38 (And.intro rfl (And.intro rfl (And.intro rfl (And.intro rfl (And.intro rfl True.intro)))))
            exact rf_go (hj14 y12 (0 : Int32)) (And.intro rfl (And.intro rfl (And.intro rfl (And.intro rfl (And.intro rfl (And.intro rfl True.intro))))))
          refine rf_jn2 (fun i => RfX X l e below (qI A) i 132 [some (tR (some a0)), some (tR p1), some (tI p2), none, none, none] [] A) ?_ (fun j43 hj43 => ?_)
          · show RfX X l e below _ _ _ _ _ _
            refine rf_iconst X (0 : Int32) rfl dX13_isThere_132 ?_
            exact rf_go (hj11 (0 : Int32)) (And.intro rfl (And.intro rfl (And.intro rfl True.intro)))
          refine rf_if_eq X (tgt := 132) rfl dX13_isThere_103 (fun c44 => rf_pos c44 ?_) (fun c44 => rf_neg c44 ?_)
          · exact rf_go hj43 (And.intro rfl (And.intro rfl (And.intro rfl True.intro)))
          refine rf_aload_n X rfl dX13_isThere_106 ?_
          refine rf_bind (fun g45 hg45 => ?_)
          refine rf_callVI X c_X13_92 ⟨Nat.le_of_ble_eq_true rfl, Nat.le_of_ble_eq_true rfl⟩ [] rfl (Nat.le_of_ble_eq_true rfl) hv1 (sX5_decides l D v1 A g45 hg45) dX13_isThere_107 ?_
          refine rf_jn2 (fun i => RfX X l e below (qI A) i 128 [some (tR (some a0)), some (tR p1), some (tI p2), none, none, none] [] A) ?_ (fun j46 hj46 => ?_)
          · show RfX X l e below _ _ _ _ _ _
            refine rf_iconst X (1 : Int32) rfl dX13_isThere_128 ?_
            refine rf_goto X (tgt := 133) rfl dX13_isThere_129 ?_
            exact rf_go (hj11 (1 : Int32)) (And.intro rfl (And.intro rfl (And.intro rfl True.intro)))
          refine rf_if_eq X (tgt := 128) rfl dX13_isThere_110 (fun c47 => rf_pos c47 ?_) (fun c47 => rf_neg c47 ?_)
          · exact rf_go hj46 (And.intro rfl (And.intro rfl (And.intro rfl True.intro)))
          refine rf_aload_n X rfl dX13_isThere_113 ?_
          refine rf_bind (fun v48 hv48 => ?_)
          refine rf_getR X fl_X13_24 hv48 dX13_isThere_114 ?_
          refine rf_aload_n X rfl dX13_isThere_117 ?_
          refine rf_bind (fun v49 hv49 => ?_)
          refine rf_getI X fl_X13_89 hv49 dX13_isThere_118 ?_
          refine rf_iconst X (3 : Int32) rfl dX13_isThere_121 ?_
          refine rf_iand X dX13_isThere_122 ?_
          refine rf_bind (fun v50 hv50 => ?_)
          refine rf_iald X hv50 dX13_isThere_123 ?_
          refine rf_iload_n X rfl dX13_isThere_124 ?_
          refine rf_icmp_gt X (tgt := 132) rfl dX13_isThere_125 (fun c51 => rf_pos c51 ?_) (fun c51 => rf_neg c51 ?_)
          · exact rf_go hj43 (And.intro rfl (And.intro rfl (And.intro rfl True.intro)))
          exact rf_go hj46 (And.intro rfl (And.intro rfl (And.intro rfl True.intro)))
        refine rf_jn2 (fun i => RfX X l e below (qI A) i 100 [some (tR (some a0)), some (tR p1), some (tI p2), none, none, none] [] A) ?_ (fun j52 hj52 => ?_)
        · show RfX X l e below _ _ _ _ _ _
          refine rf_iconst X (0 : Int32) rfl dX13_isThere_100 ?_
          exact rf_go (hj9 (0 : Int32)) (And.intro rfl (And.intro rfl (And.intro rfl True.intro)))
        refine rf_if_eq X (tgt := 100) rfl dX13_isThere_66 (fun c53 => rf_pos c53 ?_) (fun c53 => rf_neg c53 ?_)
        · exact rf_go hj52 (And.intro rfl (And.intro rfl (And.intro rfl True.intro)))
        refine rf_aload_n X rfl dX13_isThere_69 ?_
        refine rf_bind (fun g54 hg54 => ?_)
        refine rf_callVI X c_X13_83 ⟨Nat.le_of_ble_eq_true rfl, Nat.le_of_ble_eq_true rfl⟩ [] rfl (Nat.le_of_ble_eq_true rfl) hv1 (sX5_writes l D v1 A g54 hg54) dX13_isThere_70 ?_
        refine rf_jn2 (fun i => RfX X l e below (qI A) i 96 [some (tR (some a0)), some (tR p1), some (tI p2), none, none, none] [] A) ?_ (fun j55 hj55 => ?_)
        · show RfX X l e below _ _ _ _ _ _
          refine rf_iconst X (1 : Int32) rfl dX13_isThere_96 ?_
          refine rf_goto X (tgt := 101) rfl dX13_isThere_97 ?_
          exact rf_go (hj9 (1 : Int32)) (And.intro rfl (And.intro rfl (And.intro rfl True.intro)))
        refine rf_jn2 (fun i => RfX X l e below (qI A) i 83 [some (tR (some a0)), some (tR p1), some (tI p2), none, none, none] [] A) ?_ (fun j56 hj56 => ?_)
        · show RfX X l e below _ _ _ _ _ _
          refine rf_aload_n X rfl dX13_isThere_83 ?_
          refine rf_bind (fun v57 hv57 => ?_)
          refine rf_getR X fl_X13_20 hv57 dX13_isThere_84 ?_
          refine rf_aload_n X rfl dX13_isThere_87 ?_
          refine rf_bind (fun v58 hv58 => ?_)
          refine rf_getI X fl_X13_89 hv58 dX13_isThere_88 ?_
          refine rf_bind (fun v59 hv59 => ?_)
          refine rf_iald X hv59 dX13_isThere_91 ?_
          refine rf_iload_n X rfl dX13_isThere_92 ?_
          refine rf_icmp_gt X (tgt := 100) rfl dX13_isThere_93 (fun c60 => rf_pos c60 ?_) (fun c60 => rf_neg c60 ?_)
          · exact rf_go hj52 (And.intro rfl (And.intro rfl (And.intro rfl True.intro)))
          exact rf_go hj55 (And.intro rfl (And.intro rfl (And.intro rfl True.intro)))
        refine rf_if_ne X (tgt := 83) rfl dX13_isThere_73 (fun c61 => rf_neg c61 ?_) (fun c61 => rf_pos c61 ?_)
        · exact rf_go hj56 (And.intro rfl (And.intro rfl (And.intro rfl True.intro)))
        refine rf_aload_n X rfl dX13_isThere_76 ?_
        refine rf_bind (fun g62 hg62 => ?_)
        refine rf_callVI X c_X13_86 ⟨Nat.le_of_ble_eq_true rfl, Nat.le_of_ble_eq_true rfl⟩ [] rfl (Nat.le_of_ble_eq_true rfl) hv1 (sX5_readsOwn l D v1 A g62 hg62) dX13_isThere_77 ?_
        refine rf_if_eq X (tgt := 96) rfl dX13_isThere_80 (fun c63 => rf_pos c63 ?_) (fun c63 => rf_neg c63 ?_)
        · exact rf_go hj55 (And.intro rfl (And.intro rfl (And.intro rfl True.intro)))
        exact rf_go hj56 (And.intro rfl (And.intro rfl (And.intro rfl True.intro)))
      refine rf_jn2 (fun i => RfX X l e below (qI A) i 63 [some (tR (some a0)), some (tR p1), some (tI p2), none, none, none] [] A) ?_ (fun j64 hj64 => ?_)
      · show RfX X l e below _ _ _ _ _ _
        refine rf_iconst X (0 : Int32) rfl dX13_isThere_63 ?_
        exact rf_go (hj7 (0 : Int32)) (And.intro rfl (And.intro rfl (And.intro rfl True.intro)))
      refine rf_if_eq X (tgt := 63) rfl dX13_isThere_36 (fun c65 => rf_pos c65 ?_) (fun c65 => rf_neg c65 ?_)
      · exact rf_go hj64 (And.intro rfl (And.intro rfl (And.intro rfl True.intro)))
      refine rf_aload_n X rfl dX13_isThere_39 ?_
      refine rf_bind (fun g66 hg66 => ?_)
      refine rf_callVI X c_X13_77 ⟨Nat.le_of_ble_eq_true rfl, Nat.le_of_ble_eq_true rfl⟩ [] rfl (Nat.le_of_ble_eq_true rfl) hv1 (sX5_readsSecond l D v1 A g66 hg66) dX13_isThere_40 ?_
      refine rf_jn2 (fun i => RfX X l e below (qI A) i 59 [some (tR (some a0)), some (tR p1), some (tI p2), none, none, none] [] A) ?_ (fun j67 hj67 => ?_)
      · show RfX X l e below _ _ _ _ _ _
        refine rf_iconst X (1 : Int32) rfl dX13_isThere_59 ?_
        refine rf_goto X (tgt := 64) rfl dX13_isThere_60 ?_
        exact rf_go (hj7 (1 : Int32)) (And.intro rfl (And.intro rfl (And.intro rfl True.intro)))
      refine rf_if_eq X (tgt := 59) rfl dX13_isThere_43 (fun c68 => rf_pos c68 ?_) (fun c68 => rf_neg c68 ?_)
      · exact rf_go hj67 (And.intro rfl (And.intro rfl (And.intro rfl True.intro)))
      refine rf_aload_n X rfl dX13_isThere_46 ?_
      refine rf_bind (fun v69 hv69 => ?_)
      refine rf_getR X fl_X13_20 hv69 dX13_isThere_47 ?_
      refine rf_aload_n X rfl dX13_isThere_50 ?_
      refine rf_bind (fun v70 hv70 => ?_)
      refine rf_getI X fl_X13_80 hv70 dX13_isThere_51 ?_
      refine rf_bind (fun v71 hv71 => ?_)
      refine rf_iald X hv71 dX13_isThere_54 ?_
      refine rf_iload_n X rfl dX13_isThere_55 ?_
      refine rf_icmp_gt X (tgt := 63) rfl dX13_isThere_56 (fun c72 => rf_pos c72 ?_) (fun c72 => rf_neg c72 ?_)
      · exact rf_go hj64 (And.intro rfl (And.intro rfl (And.intro rfl True.intro)))
      exact rf_go hj67 (And.intro rfl (And.intro rfl (And.intro rfl True.intro)))
    refine rf_jn2 (fun i => RfX X l e below (qI A) i 29 [some (tR (some a0)), some (tR p1), some (tI p2), none, none, none] [] A) ?_ (fun j73 hj73 => ?_)
    · show RfX X l e below _ _ _ _ _ _
      refine rf_iconst X (1 : Int32) rfl dX13_isThere_29 ?_
      refine rf_goto X (tgt := 34) rfl dX13_isThere_30 ?_
      exact rf_go (hj5 (1 : Int32)) (And.intro rfl (And.intro rfl (And.intro rfl True.intro)))
    refine rf_if_eq X (tgt := 29) rfl dX13_isThere_13 (fun c74 => rf_pos c74 ?_) (fun c74 => rf_neg c74 ?_)
    · exact rf_go hj73 (And.intro rfl (And.intro rfl (And.intro rfl True.intro)))
    refine rf_aload_n X rfl dX13_isThere_16 ?_
    refine rf_bind (fun v75 hv75 => ?_)
    refine rf_getR X fl_X13_20 hv75 dX13_isThere_17 ?_
    refine rf_aload_n X rfl dX13_isThere_20 ?_
    refine rf_bind (fun v76 hv76 => ?_)
    refine rf_getI X fl_X13_74 hv76 dX13_isThere_21 ?_
    refine rf_bind (fun v77 hv77 => ?_)
    refine rf_iald X hv77 dX13_isThere_24 ?_
    refine rf_iload_n X rfl dX13_isThere_25 ?_
    refine rf_icmp_gt X (tgt := 33) rfl dX13_isThere_26 (fun c78 => rf_pos c78 ?_) (fun c78 => rf_neg c78 ?_)
    · refine rf_iconst X (0 : Int32) rfl dX13_isThere_33 ?_
      exact rf_go (hj5 (0 : Int32)) (And.intro rfl (And.intro rfl (And.intro rfl True.intro)))
    exact rf_go hj73 (And.intro rfl (And.intro rfl (And.intro rfl True.intro)))
  refine rf_iconst X (1 : Int32) rfl dX13_isThere_7 ?_
  exact rf_zret X rfl dX13_isThere_8

theorem dX8_isFree_0 : decode cX8_isFree 0 = .ok (.aload_n 1, 1) := by decide +kernel
theorem dX8_isFree_1 : decode cX8_isFree 1 = .ok (.getfield 61, 3) := by decide +kernel
theorem dX8_isFree_4 : decode cX8_isFree 4 = .ok (.getstatic 67, 3) := by decide +kernel
theorem dX8_isFree_7 : decode cX8_isFree 7 = .ok (.if_acmp .ne 11, 3) := by decide +kernel
theorem dX8_isFree_10 : decode cX8_isFree 10 = .ok (.aload_n 0, 1) := by decide +kernel
theorem dX8_isFree_11 : decode cX8_isFree 11 = .ok (.getfield 52, 3) := by decide +kernel
theorem dX8_isFree_14 : decode cX8_isFree 14 = .ok (.iload_n 2, 1) := by decide +kernel
theorem dX8_isFree_15 : decode cX8_isFree 15 = .ok (.if_icmp .gt 25, 3) := by decide +kernel
theorem dX8_isFree_18 : decode cX8_isFree 18 = .ok (.aload_n 1, 1) := by decide +kernel
theorem dX8_isFree_19 : decode cX8_isFree 19 = .ok (.getfield 61, 3) := by decide +kernel
theorem dX8_isFree_22 : decode cX8_isFree 22 = .ok (.getstatic 72, 3) := by decide +kernel
theorem dX8_isFree_25 : decode cX8_isFree 25 = .ok (.if_acmp .ne 11, 3) := by decide +kernel
theorem dX8_isFree_28 : decode cX8_isFree 28 = .ok (.aload_n 0, 1) := by decide +kernel
theorem dX8_isFree_29 : decode cX8_isFree 29 = .ok (.getfield 55, 3) := by decide +kernel
theorem dX8_isFree_32 : decode cX8_isFree 32 = .ok (.iload_n 2, 1) := by decide +kernel
theorem dX8_isFree_33 : decode cX8_isFree 33 = .ok (.if_icmp .gt 7, 3) := by decide +kernel
theorem dX8_isFree_36 : decode cX8_isFree 36 = .ok (.iconst 1, 1) := by decide +kernel
theorem dX8_isFree_37 : decode cX8_isFree 37 = .ok (.goto 4, 3) := by decide +kernel
theorem dX8_isFree_40 : decode cX8_isFree 40 = .ok (.iconst 0, 1) := by decide +kernel
theorem dX8_isFree_41 : decode cX8_isFree 41 = .ok (.ireturn, 1) := by decide +kernel
def fX8_isFree (a0 : Nat) (p1 : Option Nat) (p2 : Int32) (A : AH) : Option (Int32) :=
(gR A p1 5 6).bind fun v1 =>
(gI A (some a0) 8 2).bind fun v2 =>
jn (fun (y4 : Int32) =>
some (nb y4)) fun j3 =>
jn (j3 (0 : Int32)) fun j5 =>
if ((v1 = (some (hA A 4))) ∧ (p2 < v2)) then (j5) else
(gI A (some a0) 8 3).bind fun v6 =>
if ((v1 = (some (hA A 5))) ∧ (p2 < v6)) then (j5) else
j3 (1 : Int32)

set_option maxHeartbeats 4000000 in
set_option maxRecDepth 100000 in
theorem sX8_isFree (l : Launch) (D : DE) (a0 : Nat) (p1 : Option Nat) (p2 : Int32) (A : AH) (g : Int32) (hg : fX8_isFree a0 p1 p2 A = some g) : Sm l D yX8_isFree cX8_isFree 3 (some Jvm.ClassFile.FieldType.boolean) 0 0 [tR (some a0), tR p1, tI p2] A (qI A g).1 (qI A g).2 := by
  refine Sm.of (ω := qI A) (fX8_isFree a0 p1 p2 A) [some (tR (some a0)), some (tR p1), some (tI p2)] (by decide) (Nat.le_of_ble_eq_true rfl) rfl hg ?_
  intro p e R s m args below meth c X hin
  have X : Cx D cX8_isFree RX8 3 0 0 (some Jvm.ClassFile.FieldType.boolean) p R s m args meth c := X
  unfold fX8_isFree
  refine rf_aload_n X rfl dX8_isFree_0 ?_
  refine rf_bind (fun v1 hv1 => ?_)
  refine rf_getR X fl_X8_61 hv1 dX8_isFree_1 ?_
  refine rf_getsR X 4 (fun D => by simp [statD]) (Or.inl q1300) dX8_isFree_4 ?_
  refine rf_bind (fun v2 hv2 => ?_)
  refine rf_jn2 (fun i => ∀ (y4 : Int32), RfX X l e below (qI A) (i y4) 41 [none, none, none] [tI y4] A) ?_ (fun j3 hj3 => ?_)
  · intro y4
    exact rf_zret X rfl dX8_isFree_41
  refine rf_jn2 (fun i => RfX X l e below (qI A) i 40 [none, none, none] [] A) ?_ (fun j5 hj5 => ?_)
  · show RfX X l e below _ _ _ _ _ _
    refine rf_iconst X (0 : Int32) rfl dX8_isFree_40 ?_
    exact rf_go (hj3 (0 : Int32)) True.intro
  refine rf_br 40 18 [some (tR (some a0)), some (tR p1), some (tI p2)] [some (tR (some a0)), some (tR p1), some (tI p2)] [] [] (fun _ => ?_) (fun _ => ?_) (fun _ jT jF => ?_)
  · exact rf_go hj5 True.intro
  · refine rf_aload_n X rfl dX8_isFree_18 ?_
    refine rf_getR X fl_X8_61 hv1 dX8_isFree_19 ?_
    refine rf_getsR X 5 (fun D => by simp [statD]) (Or.inl q1301) dX8_isFree_22 ?_
    refine rf_bind (fun v6 hv6 => ?_)
    refine rf_br 40 36 [some (tR (some a0)), some (tR p1), some (tI p2)] [some (tR (some a0)), some (tR p1), some (tI p2)] [] [] (fun _ => ?_) (fun _ => ?_) (fun _ jT jF => ?_)
    · exact rf_go hj5 True.intro
    · refine rf_iconst X (1 : Int32) rfl dX8_isFree_36 ?_
      refine rf_goto X (tgt := 41) rfl dX8_isFree_37 ?_
      exact rf_go (hj3 (1 : Int32)) True.intro
    refine rf_acmp_ne X (tgt := 36) rfl dX8_isFree_25 (fun c7 => ?_) (fun c7 => ?_)
    · exact jF (fun z => c7 z.1)
    refine rf_aload_n X rfl dX8_isFree_28 ?_
    refine rf_getI X fl_X8_55 hv6 dX8_isFree_29 ?_
    refine rf_iload_n X rfl dX8_isFree_32 ?_
    refine rf_icmp_gt X (tgt := 40) rfl dX8_isFree_33 (fun c8 => ?_) (fun c8 => ?_)
    · exact jT ⟨c7, c8⟩
    exact jF (fun z => c8 z.2)
  refine rf_acmp_ne X (tgt := 18) rfl dX8_isFree_7 (fun c9 => ?_) (fun c9 => ?_)
  · exact jF (fun z => c9 z.1)
  refine rf_aload_n X rfl dX8_isFree_10 ?_
  refine rf_getI X fl_X8_52 hv2 dX8_isFree_11 ?_
  refine rf_iload_n X rfl dX8_isFree_14 ?_
  refine rf_icmp_gt X (tgt := 40) rfl dX8_isFree_15 (fun c10 => ?_) (fun c10 => ?_)
  · exact jT ⟨c9, c10⟩
  exact jF (fun z => c10 z.2)

theorem dX7_trap_0 : decode cX7_trap 0 = .ok (.aload_n 0, 1) := by decide +kernel
theorem dX7_trap_1 : decode cX7_trap 1 = .ok (.iconst 4, 1) := by decide +kernel
theorem dX7_trap_2 : decode cX7_trap 2 = .ok (.putfield 82, 3) := by decide +kernel
theorem dX7_trap_5 : decode cX7_trap 5 = .ok (.aload_n 0, 1) := by decide +kernel
theorem dX7_trap_6 : decode cX7_trap 6 = .ok (.iload_n 3, 1) := by decide +kernel
theorem dX7_trap_7 : decode cX7_trap 7 = .ok (.putfield 138, 3) := by decide +kernel
theorem dX7_trap_10 : decode cX7_trap 10 = .ok (.aload_n 0, 1) := by decide +kernel
theorem dX7_trap_11 : decode cX7_trap 11 = .ok (.aload_n 1, 1) := by decide +kernel
theorem dX7_trap_12 : decode cX7_trap 12 = .ok (.getfield 268, 3) := by decide +kernel
theorem dX7_trap_15 : decode cX7_trap 15 = .ok (.getfield 271, 3) := by decide +kernel
theorem dX7_trap_18 : decode cX7_trap 18 = .ok (.putfield 141, 3) := by decide +kernel
theorem dX7_trap_21 : decode cX7_trap 21 = .ok (.aload_n 0, 1) := by decide +kernel
theorem dX7_trap_22 : decode cX7_trap 22 = .ok (.aload_n 0, 1) := by decide +kernel
theorem dX7_trap_23 : decode cX7_trap 23 = .ok (.getfield 20, 3) := by decide +kernel
theorem dX7_trap_26 : decode cX7_trap 26 = .ok (.aload_n 1, 1) := by decide +kernel
theorem dX7_trap_27 : decode cX7_trap 27 = .ok (.getfield 276, 3) := by decide +kernel
theorem dX7_trap_30 : decode cX7_trap 30 = .ok (.imul, 1) := by decide +kernel
theorem dX7_trap_31 : decode cX7_trap 31 = .ok (.iload_n 2, 1) := by decide +kernel
theorem dX7_trap_32 : decode cX7_trap 32 = .ok (.iadd, 1) := by decide +kernel
theorem dX7_trap_33 : decode cX7_trap 33 = .ok (.putfield 144, 3) := by decide +kernel
theorem dX7_trap_36 : decode cX7_trap 36 = .ok (.aload_n 0, 1) := by decide +kernel
theorem dX7_trap_37 : decode cX7_trap 37 = .ok (.aload_n 1, 1) := by decide +kernel
theorem dX7_trap_38 : decode cX7_trap 38 = .ok (.getfield 243, 3) := by decide +kernel
theorem dX7_trap_41 : decode cX7_trap 41 = .ok (.iload_n 2, 1) := by decide +kernel
theorem dX7_trap_42 : decode cX7_trap 42 = .ok (.invokevirtual 122, 3) := by decide +kernel
theorem dX7_trap_45 : decode cX7_trap 45 = .ok (.checkcast 204, 3) := by decide +kernel
theorem dX7_trap_48 : decode cX7_trap 48 = .ok (.getfield 245, 3) := by decide +kernel
theorem dX7_trap_51 : decode cX7_trap 51 = .ok (.putfield 147, 3) := by decide +kernel
theorem dX7_trap_54 : decode cX7_trap 54 = .ok (.return_, 1) := by decide +kernel
def fX7_trap (a0 : Nat) (p1 : Option Nat) (p2 : Int32) (p3 : Int32) (A : AH) : Option (AH) :=
(pI A (some a0) 7 12 (4 : Int32)).bind fun A1 =>
(pI A1 (some a0) 7 22 p3).bind fun A2 =>
(gR A2 p1 13 0).bind fun v3 =>
(gI A2 v3 12 0).bind fun v4 =>
(pI A2 (some a0) 7 23 v4).bind fun A5 =>
(gI A5 (some a0) 7 0).bind fun v6 =>
(gI A5 p1 13 1).bind fun v7 =>
(pI A5 (some a0) 7 24 ((v6 * v7) + p2)).bind fun A8 =>
(gR A8 p1 13 2).bind fun v9 =>
(rcv A8 v9 0).bind fun v10 =>
(fJ2_get v10 p2 A8).bind fun g11 =>
(cst A8 g11 14).bind fun v12 =>
(gI A8 g11 14 2).bind fun v13 =>
(pI A8 (some a0) 7 25 v13).bind fun A14 =>
some A14

set_option maxHeartbeats 4000000 in
set_option maxRecDepth 100000 in
theorem sX7_trap (l : Launch) (D : DE) (a0 : Nat) (p1 : Option Nat) (p2 : Int32) (p3 : Int32) (A : AH) (g : AH) (hg : fX7_trap a0 p1 p2 p3 A = some g) : Sm l D yX7_trap cX7_trap 4 none 3 64 [tR (some a0), tR p1, tI p2, tI p3] A (wU g).1 (wU g).2 := by
  refine Sm.of (ω := wU) (fX7_trap a0 p1 p2 p3 A) [some (tR (some a0)), some (tR p1), some (tI p2), some (tI p3)] (by decide) (Nat.le_of_ble_eq_true rfl) rfl hg ?_
  intro p e R s m args below meth c X hin
  have X : Cx D cX7_trap RX7 4 3 64 none p R s m args meth c := X
  unfold fX7_trap
  refine rf_aload_n X rfl dX7_trap_0 ?_
  refine rf_iconst X (4 : Int32) rfl dX7_trap_1 ?_
  refine rf_bind (fun A1 hA1 => ?_)
  refine rf_putI X fp_X7_82 (fun h => by cases h) hA1 dX7_trap_2 ?_
  refine rf_aload_n X rfl dX7_trap_5 ?_
  refine rf_iload_n X rfl dX7_trap_6 ?_
  refine rf_bind (fun A2 hA2 => ?_)
  refine rf_putI X fp_X7_138 (fun h => by cases h) hA2 dX7_trap_7 ?_
  refine rf_aload_n X rfl dX7_trap_10 ?_
  refine rf_aload_n X rfl dX7_trap_11 ?_
  refine rf_bind (fun v3 hv3 => ?_)
  refine rf_getR X fl_X7_268 hv3 dX7_trap_12 ?_
  refine rf_bind (fun v4 hv4 => ?_)
  refine rf_getI X fl_X7_271 hv4 dX7_trap_15 ?_
  refine rf_bind (fun A5 hA5 => ?_)
  refine rf_putI X fp_X7_141 (fun h => by cases h) hA5 dX7_trap_18 ?_
  refine rf_aload_n X rfl dX7_trap_21 ?_
  refine rf_aload_n X rfl dX7_trap_22 ?_
  refine rf_bind (fun v6 hv6 => ?_)
  refine rf_getI X fl_X7_20 hv6 dX7_trap_23 ?_
  refine rf_aload_n X rfl dX7_trap_26 ?_
  refine rf_bind (fun v7 hv7 => ?_)
  refine rf_getI X fl_X7_276 hv7 dX7_trap_27 ?_
  refine rf_imul X dX7_trap_30 ?_
  refine rf_iload_n X rfl dX7_trap_31 ?_
  refine rf_iadd X dX7_trap_32 ?_
  refine rf_bind (fun A8 hA8 => ?_)
  refine rf_putI X fp_X7_144 (fun h => by cases h) hA8 dX7_trap_33 ?_
  refine rf_aload_n X rfl dX7_trap_36 ?_
  refine rf_aload_n X rfl dX7_trap_37 ?_
  refine rf_bind (fun v9 hv9 => ?_)
  refine rf_getR X fl_X7_243 hv9 dX7_trap_38 ?_
  refine rf_iload_n X rfl dX7_trap_41 ?_
  refine rf_bind (fun v10 hv10 => ?_)
  refine rf_bind (fun g11 hg11 => ?_)
  refine rf_callVI X c_X7_122 ⟨Nat.le_of_ble_eq_true rfl, Nat.le_of_ble_eq_true rfl⟩ [tI p2] rfl (Nat.le_of_ble_eq_true rfl) hv10 (sJ2_get l D v10 p2 A8 g11 hg11) dX7_trap_42 ?_
  refine rf_bind (fun v12 hv12 => ?_)
  refine rf_cast X (ci := 14) rfl rfl q1251 hv12 dX7_trap_45 ?_
  refine rf_bind (fun v13 hv13 => ?_)
  refine rf_getI X fl_X7_245 hv13 dX7_trap_48 ?_
  refine rf_bind (fun A14 hA14 => ?_)
  refine rf_putI X fp_X7_147 (fun h => by cases h) hA14 dX7_trap_51 ?_
  exact rf_vret X rfl dX7_trap_54

theorem dX14_does_0 : decode cX14_does 0 = .ok (.aload_n 1, 1) := by decide +kernel
theorem dX14_does_1 : decode cX14_does 1 = .ok (.invokevirtual 33, 3) := by decide +kernel
theorem dX14_does_4 : decode cX14_does 4 = .ok (.ifCond .eq 32, 3) := by decide +kernel
theorem dX14_does_7 : decode cX14_does 7 = .ok (.aload_n 0, 1) := by decide +kernel
theorem dX14_does_8 : decode cX14_does 8 = .ok (.getfield 15, 3) := by decide +kernel
theorem dX14_does_11 : decode cX14_does 11 = .ok (.aload_n 1, 1) := by decide +kernel
theorem dX14_does_12 : decode cX14_does 12 = .ok (.getfield 39, 3) := by decide +kernel
theorem dX14_does_15 : decode cX14_does 15 = .ok (.iconst 3, 1) := by decide +kernel
theorem dX14_does_16 : decode cX14_does 16 = .ok (.iand, 1) := by decide +kernel
theorem dX14_does_17 : decode cX14_does 17 = .ok (.baload, 1) := by decide +kernel
theorem dX14_does_18 : decode cX14_does 18 = .ok (.aload_n 1, 1) := by decide +kernel
theorem dX14_does_19 : decode cX14_does 19 = .ok (.getfield 39, 3) := by decide +kernel
theorem dX14_does_22 : decode cX14_does 22 = .ok (.iconst 4, 1) := by decide +kernel
theorem dX14_does_23 : decode cX14_does 23 = .ok (.iand, 1) := by decide +kernel
theorem dX14_does_24 : decode cX14_does 24 = .ok (.iconst 4, 1) := by decide +kernel
theorem dX14_does_25 : decode cX14_does 25 = .ok (.if_icmp .ne 7, 3) := by decide +kernel
theorem dX14_does_28 : decode cX14_does 28 = .ok (.iconst 1, 1) := by decide +kernel
theorem dX14_does_29 : decode cX14_does 29 = .ok (.goto 4, 3) := by decide +kernel
theorem dX14_does_32 : decode cX14_does 32 = .ok (.iconst 0, 1) := by decide +kernel
theorem dX14_does_33 : decode cX14_does 33 = .ok (.if_icmp .eq 7, 3) := by decide +kernel
theorem dX14_does_36 : decode cX14_does 36 = .ok (.iconst 1, 1) := by decide +kernel
theorem dX14_does_37 : decode cX14_does 37 = .ok (.goto 4, 3) := by decide +kernel
theorem dX14_does_40 : decode cX14_does 40 = .ok (.iconst 0, 1) := by decide +kernel
theorem dX14_does_41 : decode cX14_does 41 = .ok (.ireturn, 1) := by decide +kernel
def fX14_does (a0 : Nat) (p1 : Option Nat) (A : AH) : Option (Int32) :=
(rcv A p1 5).bind fun v1 =>
(fX5_isGuarded v1 A).bind fun g2 =>
jn (fun (y4 : Int32) =>
some (nb y4)) fun j3 =>
jn (j3 (1 : Int32)) fun j5 =>
if g2 = 0 then (j5) else
(gR A (some a0) 14 1).bind fun v7 =>
(gI A p1 5 4).bind fun v8 =>
(aZ A v7 (v8 &&& (3 : Int32))).bind fun v9 =>
jn (fun (y11 : Int32) =>
if v9 = y11 then (j3 (0 : Int32)) else
j5) fun j10 =>
if (v8 &&& (4 : Int32)) = (4 : Int32) then (j10 (1 : Int32)) else
j10 (0 : Int32)

set_option maxHeartbeats 4000000 in
set_option maxRecDepth 100000 in
theorem sX14_does (l : Launch) (D : DE) (a0 : Nat) (p1 : Option Nat) (A : AH) (g : Int32) (hg : fX14_does a0 p1 A = some g) : Sm l D yX14_does cX14_does 2 (some Jvm.ClassFile.FieldType.boolean) 1 20 [tR (some a0), tR p1] A (qI A g).1 (qI A g).2 := by
  refine Sm.of (ω := qI A) (fX14_does a0 p1 A) [some (tR (some a0)), some (tR p1)] (by decide) (Nat.le_of_ble_eq_true rfl) rfl hg ?_
  intro p e R s m args below meth c X hin
  have X : Cx D cX14_does RX14 2 1 20 (some Jvm.ClassFile.FieldType.boolean) p R s m args meth c := X
  unfold fX14_does
  refine rf_aload_n X rfl dX14_does_0 ?_
  refine rf_bind (fun v1 hv1 => ?_)
  refine rf_bind (fun g2 hg2 => ?_)
  refine rf_callVI X c_X14_33 ⟨Nat.le_of_ble_eq_true rfl, Nat.le_of_ble_eq_true rfl⟩ [] rfl (Nat.le_of_ble_eq_true rfl) hv1 (sX5_isGuarded l D v1 A g2 hg2) dX14_does_1 ?_
  refine rf_jn2 (fun i => ∀ (y4 : Int32), RfX X l e below (qI A) (i y4) 41 [none, none] [tI y4] A) ?_ (fun j3 hj3 => ?_)
  · intro y4
    exact rf_zret X rfl dX14_does_41
  refine rf_jn2 (fun i => RfX X l e below (qI A) i 36 [none, none] [] A) ?_ (fun j5 hj5 => ?_)
  · show RfX X l e below _ _ _ _ _ _
    refine rf_iconst X (1 : Int32) rfl dX14_does_36 ?_
    refine rf_goto X (tgt := 41) rfl dX14_does_37 ?_
    exact rf_go (hj3 (1 : Int32)) True.intro
  refine rf_if_eq X (tgt := 36) rfl dX14_does_4 (fun c6 => rf_pos c6 ?_) (fun c6 => rf_neg c6 ?_)
  · exact rf_go hj5 True.intro
  refine rf_aload_n X rfl dX14_does_7 ?_
  refine rf_bind (fun v7 hv7 => ?_)
  refine rf_getR X fl_X14_15 hv7 dX14_does_8 ?_
  refine rf_aload_n X rfl dX14_does_11 ?_
  refine rf_bind (fun v8 hv8 => ?_)
  refine rf_getI X fl_X14_39 hv8 dX14_does_12 ?_
  refine rf_iconst X (3 : Int32) rfl dX14_does_15 ?_
  refine rf_iand X dX14_does_16 ?_
  refine rf_bind (fun v9 hv9 => ?_)
  refine rf_zald X hv9 dX14_does_17 ?_
  refine rf_aload_n X rfl dX14_does_18 ?_
  refine rf_getI X fl_X14_39 hv8 dX14_does_19 ?_
  refine rf_iconst X (4 : Int32) rfl dX14_does_22 ?_
  refine rf_iand X dX14_does_23 ?_
  refine rf_iconst X (4 : Int32) rfl dX14_does_24 ?_
  refine rf_jn2 (fun i => ∀ (y11 : Int32), RfX X l e below (qI A) (i y11) 33 [none, none] [tI y11, tI v9] A) ?_ (fun j10 hj10 => ?_)
  · intro y11
    refine rf_icmp_eq X (tgt := 40) rfl dX14_does_33 (fun c12 => rf_pos c12 ?_) (fun c12 => rf_neg c12 ?_)
    · refine rf_iconst X (0 : Int32) rfl dX14_does_40 ?_
      exact rf_go (hj3 (0 : Int32)) True.intro
    exact rf_go hj5 True.intro
  refine rf_icmp_ne X (tgt := 32) rfl dX14_does_25 (fun c13 => rf_neg c13 ?_) (fun c13 => rf_pos c13 ?_)
  · refine rf_iconst X (0 : Int32) rfl dX14_does_32 ?_
    exact rf_go (hj10 (0 : Int32)) True.intro
  refine rf_iconst X (1 : Int32) rfl dX14_does_28 ?_
  refine rf_goto X (tgt := 33) rfl dX14_does_29 ?_
  exact rf_go (hj10 (1 : Int32)) True.intro

theorem dX13_doing_0 : decode cX13_doing 0 = .ok (.iconst 0, 1) := by decide +kernel
theorem dX13_doing_1 : decode cX13_doing 1 = .ok (.istore_n 3, 1) := by decide +kernel
theorem dX13_doing_2 : decode cX13_doing 2 = .ok (.iconst 0, 1) := by decide +kernel
theorem dX13_doing_3 : decode cX13_doing 3 = .ok (.istore 4, 2) := by decide +kernel
theorem dX13_doing_5 : decode cX13_doing 5 = .ok (.iload 4, 2) := by decide +kernel
theorem dX13_doing_7 : decode cX13_doing 7 = .ok (.aload_n 0, 1) := by decide +kernel
theorem dX13_doing_8 : decode cX13_doing 8 = .ok (.getfield 14, 3) := by decide +kernel
theorem dX13_doing_11 : decode cX13_doing 11 = .ok (.invokevirtual 41, 3) := by decide +kernel
theorem dX13_doing_14 : decode cX13_doing 14 = .ok (.if_icmp .ge 45, 3) := by decide +kernel
theorem dX13_doing_17 : decode cX13_doing 17 = .ok (.iload_n 1, 1) := by decide +kernel
theorem dX13_doing_18 : decode cX13_doing 18 = .ok (.iload 4, 2) := by decide +kernel
theorem dX13_doing_20 : decode cX13_doing 20 = .ok (.ishr, 1) := by decide +kernel
theorem dX13_doing_21 : decode cX13_doing 21 = .ok (.iconst 1, 1) := by decide +kernel
theorem dX13_doing_22 : decode cX13_doing 22 = .ok (.iand, 1) := by decide +kernel
theorem dX13_doing_23 : decode cX13_doing 23 = .ok (.iconst 1, 1) := by decide +kernel
theorem dX13_doing_24 : decode cX13_doing 24 = .ok (.if_icmp .ne 29, 3) := by decide +kernel
theorem dX13_doing_27 : decode cX13_doing 27 = .ok (.aload_n 0, 1) := by decide +kernel
theorem dX13_doing_28 : decode cX13_doing 28 = .ok (.getfield 14, 3) := by decide +kernel
theorem dX13_doing_31 : decode cX13_doing 31 = .ok (.iload 4, 2) := by decide +kernel
theorem dX13_doing_33 : decode cX13_doing 33 = .ok (.invokevirtual 45, 3) := by decide +kernel
theorem dX13_doing_36 : decode cX13_doing 36 = .ok (.checkcast 49, 3) := by decide +kernel
theorem dX13_doing_39 : decode cX13_doing 39 = .ok (.aload_n 2, 1) := by decide +kernel
theorem dX13_doing_40 : decode cX13_doing 40 = .ok (.invokevirtual 61, 3) := by decide +kernel
theorem dX13_doing_43 : decode cX13_doing 43 = .ok (.ifCond .eq 10, 3) := by decide +kernel
theorem dX13_doing_46 : decode cX13_doing 46 = .ok (.iload_n 3, 1) := by decide +kernel
theorem dX13_doing_47 : decode cX13_doing 47 = .ok (.iconst 1, 1) := by decide +kernel
theorem dX13_doing_48 : decode cX13_doing 48 = .ok (.iload 4, 2) := by decide +kernel
theorem dX13_doing_50 : decode cX13_doing 50 = .ok (.ishl, 1) := by decide +kernel
theorem dX13_doing_51 : decode cX13_doing 51 = .ok (.ior, 1) := by decide +kernel
theorem dX13_doing_52 : decode cX13_doing 52 = .ok (.istore_n 3, 1) := by decide +kernel
theorem dX13_doing_53 : decode cX13_doing 53 = .ok (.iinc 4 1, 3) := by decide +kernel
theorem dX13_doing_56 : decode cX13_doing 56 = .ok (.goto (-51), 3) := by decide +kernel
theorem dX13_doing_59 : decode cX13_doing 59 = .ok (.iload_n 3, 1) := by decide +kernel
theorem dX13_doing_60 : decode cX13_doing 60 = .ok (.ireturn, 1) := by decide +kernel
def fX13_doing (n : Nat) (a0 : Nat) (p1 : Int32) (p2 : Option Nat) (A : AH) : Option (Int32) :=
jl (fixG (fun _ _ => none) (fun (rc4 : (Int32) → (Int32) → Option (Int32)) (x2 : Int32) (x3 : Int32) =>
(gR A (some a0) 13 2).bind fun v5 =>
(rcv A v5 0).bind fun v6 =>
(fJ2_size v6 A).bind fun g7 =>
if g7 ≤ x3 then (some x2) else
jn (fun (x10 : Int32) =>
rc4 x10 (x3 + (1 : Int32))) fun j9 =>
if ((p1 >>> (x3 &&& 31)) &&& (1 : Int32)) = (1 : Int32) then ((fJ2_get v6 x3 A).bind fun g12 =>
(cst A g12 14).bind fun v13 =>
(rcv A g12 14).bind fun v14 =>
(fX14_does v14 p2 A).bind fun g15 =>
if g15 = 0 then (j9 x2) else
j9 (x2 ||| ((1 : Int32) <<< (x3 &&& 31)))) else
j9 x2) n) fun j1 =>
j1 (0 : Int32) (0 : Int32)

set_option maxHeartbeats 4000000 in
set_option maxRecDepth 100000 in
theorem sX13_doing (l : Launch) (D : DE) (n : Nat) (a0 : Nat) (p1 : Int32) (p2 : Option Nat) (A : AH) (g : Int32) (hg : fX13_doing n a0 p1 p2 A = some g) : Sm l D yX13_doing cX13_doing 5 (some Jvm.ClassFile.FieldType.int) 3 64 [tR (some a0), tI p1, tR p2] A (qI A g).1 (qI A g).2 := by
  refine Sm.of (ω := qI A) (fX13_doing n a0 p1 p2 A) [some (tR (some a0)), some (tI p1), some (tR p2), none, none] (by decide) (Nat.le_of_ble_eq_true rfl) rfl hg ?_
  intro p e R s m args below meth c X hin
  have X : Cx D cX13_doing RX13 5 3 64 (some Jvm.ClassFile.FieldType.int) p R s m args meth c := X
  unfold fX13_doing
  refine rf_iconst X (0 : Int32) rfl dX13_doing_0 ?_
  refine rf_istore_n X (ls' := [some (tR (some a0)), some (tI p1), some (tR p2), some (tI (0 : Int32)), none]) rfl (by decide) dX13_doing_1 ?_
  refine rf_iconst X (0 : Int32) rfl dX13_doing_2 ?_
  refine rf_istore X (ls' := [some (tR (some a0)), some (tI p1), some (tR p2), some (tI (0 : Int32)), some (tI (0 : Int32))]) rfl (by decide) dX13_doing_3 ?_
  refine rf_fix (fun i => ∀ (x2 : Int32) (x3 : Int32), RfX X l e below (qI A) (i x2 x3) 5 [some (tR (some a0)), some (tI p1), some (tR p2), some (tI x2), some (tI x3)] [] A) (fun _ _ => rf_none) (fun rc4 hrc4 => ?_) (fun j1 hj1 => ?_)
  · intro x2 x3
    refine rf_iload X rfl dX13_doing_5 ?_
    refine rf_aload_n X rfl dX13_doing_7 ?_
    refine rf_bind (fun v5 hv5 => ?_)
    refine rf_getR X fl_X13_14 hv5 dX13_doing_8 ?_
    refine rf_bind (fun v6 hv6 => ?_)
    refine rf_bind (fun g7 hg7 => ?_)
    refine rf_callVI X c_X13_41 ⟨Nat.le_of_ble_eq_true rfl, Nat.le_of_ble_eq_true rfl⟩ [] rfl (Nat.le_of_ble_eq_true rfl) hv6 (sJ2_size l D v6 A g7 hg7) dX13_doing_11 ?_
    refine rf_icmp_ge X (tgt := 59) rfl dX13_doing_14 (fun c8 => rf_pos c8 ?_) (fun c8 => rf_neg c8 ?_)
    · refine rf_iload_n X rfl dX13_doing_59 ?_
      exact rf_iret X rfl dX13_doing_60
    refine rf_iload_n X rfl dX13_doing_17 ?_
    refine rf_iload X rfl dX13_doing_18 ?_
    refine rf_ishr X dX13_doing_20 ?_
    refine rf_iconst X (1 : Int32) rfl dX13_doing_21 ?_
    refine rf_iand X dX13_doing_22 ?_
    refine rf_iconst X (1 : Int32) rfl dX13_doing_23 ?_
    refine rf_jn2 (fun i => ∀ (x10 : Int32), RfX X l e below (qI A) (i x10) 53 [some (tR (some a0)), some (tI p1), some (tR p2), some (tI x10), some (tI x3)] [] A) ?_ (fun j9 hj9 => ?_)
    · intro x10
      refine rf_iinc X (x3 + (1 : Int32)) rfl rfl (ls' := [some (tR (some a0)), some (tI p1), some (tR p2), some (tI x10), some (tI (x3 + (1 : Int32)))]) rfl (by decide) dX13_doing_53 ?_
      refine rf_goto X (tgt := 5) rfl dX13_doing_56 ?_
      exact rf_go (hrc4 x10 (x3 + (1 : Int32))) (And.intro rfl (And.intro rfl (And.intro rfl (And.intro rfl (And.intro rfl True.intro)))))
    refine rf_icmp_ne X (tgt := 53) rfl dX13_doing_24 (fun c11 => rf_neg c11 ?_) (fun c11 => rf_pos c11 ?_)
    · exact rf_go (hj9 x2) (And.intro rfl (And.intro rfl (And.intro rfl (And.intro rfl (And.intro rfl True.intro)))))
    refine rf_aload_n X rfl dX13_doing_27 ?_
    refine rf_getR X fl_X13_14 hv5 dX13_doing_28 ?_
    refine rf_iload X rfl dX13_doing_31 ?_
    refine rf_bind (fun g12 hg12 => ?_)
    refine rf_callVI X c_X13_45 ⟨Nat.le_of_ble_eq_true rfl, Nat.le_of_ble_eq_true rfl⟩ [tI x3] rfl (Nat.le_of_ble_eq_true rfl) hv6 (sJ2_get l D v6 x3 A g12 hg12) dX13_doing_33 ?_
    refine rf_bind (fun v13 hv13 => ?_)
    refine rf_cast X (ci := 14) rfl rfl q1019 hv13 dX13_doing_36 ?_
    refine rf_aload_n X rfl dX13_doing_39 ?_
    refine rf_bind (fun v14 hv14 => ?_)
    refine rf_bind (fun g15 hg15 => ?_)
    refine rf_callVI X c_X13_61 ⟨Nat.le_of_ble_eq_true rfl, Nat.le_of_ble_eq_true rfl⟩ [tR p2] rfl (Nat.le_of_ble_eq_true rfl) hv14 (sX14_does l D v14 p2 A g15 hg15) dX13_doing_40 ?_
    refine rf_if_eq X (tgt := 53) rfl dX13_doing_43 (fun c16 => rf_pos c16 ?_) (fun c16 => rf_neg c16 ?_)
    · exact rf_go (hj9 x2) (And.intro rfl (And.intro rfl (And.intro rfl (And.intro rfl (And.intro rfl True.intro)))))
    refine rf_iload_n X rfl dX13_doing_46 ?_
    refine rf_iconst X (1 : Int32) rfl dX13_doing_47 ?_
    refine rf_iload X rfl dX13_doing_48 ?_
    refine rf_ishl X dX13_doing_50 ?_
    refine rf_ior X dX13_doing_51 ?_
    refine rf_istore_n X (ls' := [some (tR (some a0)), some (tI p1), some (tR p2), some (tI (x2 ||| ((1 : Int32) <<< (x3 &&& 31)))), some (tI x3)]) rfl (by decide) dX13_doing_52 ?_
    exact rf_go (hj9 (x2 ||| ((1 : Int32) <<< (x3 &&& 31)))) (And.intro rfl (And.intro rfl (And.intro rfl (And.intro rfl (And.intro rfl True.intro)))))
  exact rf_go (hj1 (0 : Int32) (0 : Int32)) (And.intro rfl (And.intro rfl (And.intro rfl (And.intro rfl (And.intro rfl True.intro)))))

theorem dX7_address_0 : decode cX7_address 0 = .ok (.aload_n 0, 1) := by decide +kernel
theorem dX7_address_1 : decode cX7_address 1 = .ok (.getfield 209, 3) := by decide +kernel
theorem dX7_address_4 : decode cX7_address 4 = .ok (.aload_n 1, 1) := by decide +kernel
theorem dX7_address_5 : decode cX7_address 5 = .ok (.getfield 325, 3) := by decide +kernel
theorem dX7_address_8 : decode cX7_address 8 = .ok (.iaload, 1) := by decide +kernel
theorem dX7_address_9 : decode cX7_address 9 = .ok (.aload_n 1, 1) := by decide +kernel
theorem dX7_address_10 : decode cX7_address 10 = .ok (.getfield 328, 3) := by decide +kernel
theorem dX7_address_13 : decode cX7_address 13 = .ok (.iadd, 1) := by decide +kernel
theorem dX7_address_14 : decode cX7_address 14 = .ok (.ireturn, 1) := by decide +kernel
def fX7_address (p1 : Option Nat) (p2 : Option Nat) (A : AH) : Option (Int32) :=
(gR A p1 14 0).bind fun v1 =>
(gI A p2 5 2).bind fun v2 =>
(aI A v1 v2).bind fun v3 =>
(gI A p2 5 5).bind fun v4 =>
some (v3 + v4)

set_option maxHeartbeats 4000000 in
set_option maxRecDepth 100000 in
theorem sX7_address (l : Launch) (D : DE) (p1 : Option Nat) (p2 : Option Nat) (A : AH) (g : Int32) (hg : fX7_address p1 p2 A = some g) : Sm l D yX7_address cX7_address 2 (some Jvm.ClassFile.FieldType.int) 0 0 [tR p1, tR p2] A (qI A g).1 (qI A g).2 := by
  refine Sm.of (ω := qI A) (fX7_address p1 p2 A) [some (tR p1), some (tR p2)] (by decide) (Nat.le_of_ble_eq_true rfl) rfl hg ?_
  intro p e R s m args below meth c X hin
  have X : Cx D cX7_address RX7 2 0 0 (some Jvm.ClassFile.FieldType.int) p R s m args meth c := X
  unfold fX7_address
  refine rf_aload_n X rfl dX7_address_0 ?_
  refine rf_bind (fun v1 hv1 => ?_)
  refine rf_getR X fl_X7_209 hv1 dX7_address_1 ?_
  refine rf_aload_n X rfl dX7_address_4 ?_
  refine rf_bind (fun v2 hv2 => ?_)
  refine rf_getI X fl_X7_325 hv2 dX7_address_5 ?_
  refine rf_bind (fun v3 hv3 => ?_)
  refine rf_iald X hv3 dX7_address_8 ?_
  refine rf_aload_n X rfl dX7_address_9 ?_
  refine rf_bind (fun v4 hv4 => ?_)
  refine rf_getI X fl_X7_328 hv4 dX7_address_10 ?_
  refine rf_iadd X dX7_address_13 ?_
  exact rf_iret X rfl dX7_address_14

theorem dX7_trouble_0 : decode cX7_trouble 0 = .ok (.aload_n 2, 1) := by decide +kernel
theorem dX7_trouble_1 : decode cX7_trouble 1 = .ok (.getfield 293, 3) := by decide +kernel
theorem dX7_trouble_4 : decode cX7_trouble 4 = .ok (.getstatic 331, 3) := by decide +kernel
theorem dX7_trouble_7 : decode cX7_trouble 7 = .ok (.if_acmp .ne 21, 3) := by decide +kernel
theorem dX7_trouble_10 : decode cX7_trouble 10 = .ok (.aload_n 1, 1) := by decide +kernel
theorem dX7_trouble_11 : decode cX7_trouble 11 = .ok (.getfield 209, 3) := by decide +kernel
theorem dX7_trouble_14 : decode cX7_trouble 14 = .ok (.aload_n 2, 1) := by decide +kernel
theorem dX7_trouble_15 : decode cX7_trouble 15 = .ok (.getfield 334, 3) := by decide +kernel
theorem dX7_trouble_18 : decode cX7_trouble 18 = .ok (.iaload, 1) := by decide +kernel
theorem dX7_trouble_19 : decode cX7_trouble 19 = .ok (.ifCond .ne 7, 3) := by decide +kernel
theorem dX7_trouble_22 : decode cX7_trouble 22 = .ok (.iconst 3, 1) := by decide +kernel
theorem dX7_trouble_23 : decode cX7_trouble 23 = .ok (.goto 4, 3) := by decide +kernel
theorem dX7_trouble_26 : decode cX7_trouble 26 = .ok (.iconst 0, 1) := by decide +kernel
theorem dX7_trouble_27 : decode cX7_trouble 27 = .ok (.ireturn, 1) := by decide +kernel
theorem dX7_trouble_28 : decode cX7_trouble 28 = .ok (.aload_n 2, 1) := by decide +kernel
theorem dX7_trouble_29 : decode cX7_trouble 29 = .ok (.getfield 293, 3) := by decide +kernel
theorem dX7_trouble_32 : decode cX7_trouble 32 = .ok (.invokevirtual 337, 3) := by decide +kernel
theorem dX7_trouble_35 : decode cX7_trouble 35 = .ok (.ifCond .eq 11, 3) := by decide +kernel
theorem dX7_trouble_38 : decode cX7_trouble 38 = .ok (.aload_n 1, 1) := by decide +kernel
theorem dX7_trouble_39 : decode cX7_trouble 39 = .ok (.aload_n 2, 1) := by decide +kernel
theorem dX7_trouble_40 : decode cX7_trouble 40 = .ok (.invokestatic 340, 3) := by decide +kernel
theorem dX7_trouble_43 : decode cX7_trouble 43 = .ok (.goto 4, 3) := by decide +kernel
theorem dX7_trouble_46 : decode cX7_trouble 46 = .ok (.iconst 0, 1) := by decide +kernel
theorem dX7_trouble_47 : decode cX7_trouble 47 = .ok (.istore_n 3, 1) := by decide +kernel
theorem dX7_trouble_48 : decode cX7_trouble 48 = .ok (.iload_n 3, 1) := by decide +kernel
theorem dX7_trouble_49 : decode cX7_trouble 49 = .ok (.ifCond .lt 26, 3) := by decide +kernel
theorem dX7_trouble_52 : decode cX7_trouble 52 = .ok (.iload_n 3, 1) := by decide +kernel
theorem dX7_trouble_53 : decode cX7_trouble 53 = .ok (.aload_n 2, 1) := by decide +kernel
theorem dX7_trouble_54 : decode cX7_trouble 54 = .ok (.getfield 293, 3) := by decide +kernel
theorem dX7_trouble_57 : decode cX7_trouble 57 = .ok (.getstatic 343, 3) := by decide +kernel
theorem dX7_trouble_60 : decode cX7_trouble 60 = .ok (.if_acmp .ne 8, 3) := by decide +kernel
theorem dX7_trouble_63 : decode cX7_trouble 63 = .ok (.bipush 64, 2) := by decide +kernel
theorem dX7_trouble_65 : decode cX7_trouble 65 = .ok (.goto 7, 3) := by decide +kernel
theorem dX7_trouble_68 : decode cX7_trouble 68 = .ok (.aload_n 0, 1) := by decide +kernel
theorem dX7_trouble_69 : decode cX7_trouble 69 = .ok (.getfield 30, 3) := by decide +kernel
theorem dX7_trouble_72 : decode cX7_trouble 72 = .ok (.if_icmp .lt 7, 3) := by decide +kernel
theorem dX7_trouble_75 : decode cX7_trouble 75 = .ok (.iconst 4, 1) := by decide +kernel
theorem dX7_trouble_76 : decode cX7_trouble 76 = .ok (.goto 4, 3) := by decide +kernel
theorem dX7_trouble_79 : decode cX7_trouble 79 = .ok (.iconst 0, 1) := by decide +kernel
theorem dX7_trouble_80 : decode cX7_trouble 80 = .ok (.ireturn, 1) := by decide +kernel
def fX7_trouble (a0 : Nat) (p1 : Option Nat) (p2 : Option Nat) (A : AH) : Option (Int32) :=
(gR A p2 5 6).bind fun v1 =>
if v1 = (some (hA A 4)) then ((gR A p1 14 0).bind fun v3 =>
(gI A p2 5 3).bind fun v4 =>
(aI A v3 v4).bind fun v5 =>
jn (fun (y7 : Int32) =>
some y7) fun j6 =>
if v5 = 0 then (j6 (3 : Int32)) else
j6 (0 : Int32)) else
(rcS A v1).bind fun v9 =>
(fX6_isMemory v9 A).bind fun g10 =>
jn (fun (y12 : Int32) =>
jn (fun (y14 : Int32) =>
some y14) fun j13 =>
jn (j13 (4 : Int32)) fun j15 =>
if y12 < 0 then (j15) else
jn (fun (y18 : Int32) =>
if y12 < y18 then (j13 (0 : Int32)) else
j15) fun j17 =>
if v1 = (some (hA A 5)) then (j17 (64 : Int32)) else
(gI A (some a0) 7 3).bind fun v21 =>
j17 v21) fun j11 =>
if g10 = 0 then (j11 (0 : Int32)) else
(fX7_address p1 p2 A).bind fun g23 =>
j11 g23

set_option maxHeartbeats 4000000 in
set_option maxRecDepth 100000 in
theorem sX7_trouble (l : Launch) (D : DE) (a0 : Nat) (p1 : Option Nat) (p2 : Option Nat) (A : AH) (g : Int32) (hg : fX7_trouble a0 p1 p2 A = some g) : Sm l D yX7_trouble cX7_trouble 4 (some Jvm.ClassFile.FieldType.int) 1 21 [tR (some a0), tR p1, tR p2] A (qI A g).1 (qI A g).2 := by
  refine Sm.of (ω := qI A) (fX7_trouble a0 p1 p2 A) [some (tR (some a0)), some (tR p1), some (tR p2), none] (by decide) (Nat.le_of_ble_eq_true rfl) rfl hg ?_
  intro p e R s m args below meth c X hin
  have X : Cx D cX7_trouble RX7 4 1 21 (some Jvm.ClassFile.FieldType.int) p R s m args meth c := X
  unfold fX7_trouble
  refine rf_aload_n X rfl dX7_trouble_0 ?_
  refine rf_bind (fun v1 hv1 => ?_)
  refine rf_getR X fl_X7_293 hv1 dX7_trouble_1 ?_
  refine rf_getsR X 4 (fun D => by simp [statD]) (Or.inl q1324) dX7_trouble_4 ?_
  refine rf_acmp_ne X (tgt := 28) rfl dX7_trouble_7 (fun c2 => rf_neg c2 ?_) (fun c2 => rf_pos c2 ?_)
  · refine rf_aload_n X rfl dX7_trouble_28 ?_
    refine rf_getR X fl_X7_293 hv1 dX7_trouble_29 ?_
    refine rf_bind (fun v9 hv9 => ?_)
    refine rf_bind (fun g10 hg10 => ?_)
    refine rf_callSort X rfl q1325 q1266 q1267 q105 q1268 pl_yX6_isMemory ⟨Nat.le_of_ble_eq_true rfl, Nat.le_of_ble_eq_true rfl⟩ (Nat.le_of_ble_eq_true rfl) hv9 (sX6_isMemory l D v9 A g10 hg10) dX7_trouble_32 ?_
    refine rf_jn2 (fun i => ∀ (y12 : Int32), RfX X l e below (qI A) (i y12) 47 [some (tR (some a0)), none, some (tR p2), none] [tI y12] A) ?_ (fun j11 hj11 => ?_)
    · intro y12
      refine rf_istore_n X (ls' := [some (tR (some a0)), none, some (tR p2), some (tI y12)]) rfl (by decide) dX7_trouble_47 ?_
      refine rf_iload_n X rfl dX7_trouble_48 ?_
      refine rf_jn2 (fun i => ∀ (y14 : Int32), RfX X l e below (qI A) (i y14) 80 [none, none, none, none] [tI y14] A) ?_ (fun j13 hj13 => ?_)
      · intro y14
        exact rf_iret X rfl dX7_trouble_80
      refine rf_jn2 (fun i => RfX X l e below (qI A) i 75 [none, none, none, none] [] A) ?_ (fun j15 hj15 => ?_)
      · show RfX X l e below _ _ _ _ _ _
        refine rf_iconst X (4 : Int32) rfl dX7_trouble_75 ?_
        refine rf_goto X (tgt := 80) rfl dX7_trouble_76 ?_
        exact rf_go (hj13 (4 : Int32)) True.intro
      refine rf_if_lt X (tgt := 75) rfl dX7_trouble_49 (fun c16 => rf_pos c16 ?_) (fun c16 => rf_neg c16 ?_)
      · exact rf_go hj15 True.intro
      refine rf_iload_n X rfl dX7_trouble_52 ?_
      refine rf_aload_n X rfl dX7_trouble_53 ?_
      refine rf_getR X fl_X7_293 hv1 dX7_trouble_54 ?_
      refine rf_getsR X 5 (fun D => by simp [statD]) (Or.inl q1329) dX7_trouble_57 ?_
      refine rf_jn2 (fun i => ∀ (y18 : Int32), RfX X l e below (qI A) (i y18) 72 [none, none, none, none] [tI y18, tI y12] A) ?_ (fun j17 hj17 => ?_)
      · intro y18
        refine rf_icmp_lt X (tgt := 79) rfl dX7_trouble_72 (fun c19 => rf_pos c19 ?_) (fun c19 => rf_neg c19 ?_)
        · refine rf_iconst X (0 : Int32) rfl dX7_trouble_79 ?_
          exact rf_go (hj13 (0 : Int32)) True.intro
        exact rf_go hj15 True.intro
      refine rf_acmp_ne X (tgt := 68) rfl dX7_trouble_60 (fun c20 => rf_neg c20 ?_) (fun c20 => rf_pos c20 ?_)
      · refine rf_aload_n X rfl dX7_trouble_68 ?_
        refine rf_bind (fun v21 hv21 => ?_)
        refine rf_getI X fl_X7_30 hv21 dX7_trouble_69 ?_
        exact rf_go (hj17 v21) True.intro
      refine rf_bipush X (64 : Int32) rfl dX7_trouble_63 ?_
      refine rf_goto X (tgt := 72) rfl dX7_trouble_65 ?_
      exact rf_go (hj17 (64 : Int32)) True.intro
    refine rf_if_eq X (tgt := 46) rfl dX7_trouble_35 (fun c22 => rf_pos c22 ?_) (fun c22 => rf_neg c22 ?_)
    · refine rf_iconst X (0 : Int32) rfl dX7_trouble_46 ?_
      exact rf_go (hj11 (0 : Int32)) (And.intro rfl (And.intro rfl True.intro))
    refine rf_aload_n X rfl dX7_trouble_38 ?_
    refine rf_aload_n X rfl dX7_trouble_39 ?_
    refine rf_bind (fun g23 hg23 => ?_)
    refine rf_callSI X c_X7_340 ⟨Nat.le_of_ble_eq_true rfl, Nat.le_of_ble_eq_true rfl⟩ [tR p1, tR p2] rfl (Nat.le_of_ble_eq_true rfl) (sX7_address l D p1 p2 A g23 hg23) dX7_trouble_40 ?_
    refine rf_goto X (tgt := 47) rfl dX7_trouble_43 ?_
    exact rf_go (hj11 g23) (And.intro rfl (And.intro rfl True.intro))
  refine rf_aload_n X rfl dX7_trouble_10 ?_
  refine rf_bind (fun v3 hv3 => ?_)
  refine rf_getR X fl_X7_209 hv3 dX7_trouble_11 ?_
  refine rf_aload_n X rfl dX7_trouble_14 ?_
  refine rf_bind (fun v4 hv4 => ?_)
  refine rf_getI X fl_X7_334 hv4 dX7_trouble_15 ?_
  refine rf_bind (fun v5 hv5 => ?_)
  refine rf_iald X hv5 dX7_trouble_18 ?_
  refine rf_jn2 (fun i => ∀ (y7 : Int32), RfX X l e below (qI A) (i y7) 27 [none, none, none, none] [tI y7] A) ?_ (fun j6 hj6 => ?_)
  · intro y7
    exact rf_iret X rfl dX7_trouble_27
  refine rf_if_ne X (tgt := 26) rfl dX7_trouble_19 (fun c8 => rf_neg c8 ?_) (fun c8 => rf_pos c8 ?_)
  · refine rf_iconst X (0 : Int32) rfl dX7_trouble_26 ?_
    exact rf_go (hj6 (0 : Int32)) True.intro
  refine rf_iconst X (3 : Int32) rfl dX7_trouble_22 ?_
  refine rf_goto X (tgt := 27) rfl dX7_trouble_23 ?_
  exact rf_go (hj6 (3 : Int32)) True.intro

theorem dX4_begin_0 : decode cX4_begin 0 = .ok (.aload_n 0, 1) := by decide +kernel
theorem dX4_begin_1 : decode cX4_begin 1 = .ok (.getfield 14, 3) := by decide +kernel
theorem dX4_begin_4 : decode cX4_begin 4 = .ok (.invokevirtual 34, 3) := by decide +kernel
theorem dX4_begin_7 : decode cX4_begin 7 = .ok (.aload_n 0, 1) := by decide +kernel
theorem dX4_begin_8 : decode cX4_begin 8 = .ok (.getfield 20, 3) := by decide +kernel
theorem dX4_begin_11 : decode cX4_begin 11 = .ok (.invokevirtual 34, 3) := by decide +kernel
theorem dX4_begin_14 : decode cX4_begin 14 = .ok (.iconst 0, 1) := by decide +kernel
theorem dX4_begin_15 : decode cX4_begin 15 = .ok (.istore_n 2, 1) := by decide +kernel
theorem dX4_begin_16 : decode cX4_begin 16 = .ok (.iload_n 2, 1) := by decide +kernel
theorem dX4_begin_17 : decode cX4_begin 17 = .ok (.aload_n 0, 1) := by decide +kernel
theorem dX4_begin_18 : decode cX4_begin 18 = .ok (.getfield 23, 3) := by decide +kernel
theorem dX4_begin_21 : decode cX4_begin 21 = .ok (.arraylength, 1) := by decide +kernel
theorem dX4_begin_22 : decode cX4_begin 22 = .ok (.if_icmp .ge 16, 3) := by decide +kernel
theorem dX4_begin_25 : decode cX4_begin 25 = .ok (.aload_n 0, 1) := by decide +kernel
theorem dX4_begin_26 : decode cX4_begin 26 = .ok (.getfield 23, 3) := by decide +kernel
theorem dX4_begin_29 : decode cX4_begin 29 = .ok (.iload_n 2, 1) := by decide +kernel
theorem dX4_begin_30 : decode cX4_begin 30 = .ok (.iconst 0, 1) := by decide +kernel
theorem dX4_begin_31 : decode cX4_begin 31 = .ok (.iastore, 1) := by decide +kernel
theorem dX4_begin_32 : decode cX4_begin 32 = .ok (.iinc 2 1, 3) := by decide +kernel
theorem dX4_begin_35 : decode cX4_begin 35 = .ok (.goto (-19), 3) := by decide +kernel
theorem dX4_begin_38 : decode cX4_begin 38 = .ok (.aload_n 0, 1) := by decide +kernel
theorem dX4_begin_39 : decode cX4_begin 39 = .ok (.iconst 0, 1) := by decide +kernel
theorem dX4_begin_40 : decode cX4_begin 40 = .ok (.putfield 37, 3) := by decide +kernel
theorem dX4_begin_43 : decode cX4_begin 43 = .ok (.aload_n 0, 1) := by decide +kernel
theorem dX4_begin_44 : decode cX4_begin 44 = .ok (.iconst 0, 1) := by decide +kernel
theorem dX4_begin_45 : decode cX4_begin 45 = .ok (.putfield 40, 3) := by decide +kernel
theorem dX4_begin_48 : decode cX4_begin 48 = .ok (.aload_n 0, 1) := by decide +kernel
theorem dX4_begin_49 : decode cX4_begin 49 = .ok (.iload_n 1, 1) := by decide +kernel
theorem dX4_begin_50 : decode cX4_begin 50 = .ok (.iconst 1, 1) := by decide +kernel
theorem dX4_begin_51 : decode cX4_begin 51 = .ok (.iadd, 1) := by decide +kernel
theorem dX4_begin_52 : decode cX4_begin 52 = .ok (.putfield 43, 3) := by decide +kernel
theorem dX4_begin_55 : decode cX4_begin 55 = .ok (.return_, 1) := by decide +kernel
def fX4_begin (n : Nat) (a0 : Nat) (p1 : Int32) (A : AH) : Option (AH) :=
(gR A (some a0) 4 0).bind fun v1 =>
(rcv A v1 6).bind fun v2 =>
(fJ17_clear n v2 A).bind fun g3 =>
(gR g3 (some a0) 4 1).bind fun v4 =>
(rcv g3 v4 6).bind fun v5 =>
(fJ17_clear n v5 g3).bind fun g6 =>
jl (fixG (fun _ _ => none) (fun (rc10 : (Int32) → (AH) → Option (AH)) (x8 : Int32) (A9 : AH) =>
(gR A9 (some a0) 4 2).bind fun v11 =>
(aLen A9 v11).bind fun v12 =>
if v12 ≤ x8 then ((pI A9 (some a0) 4 5 (0 : Int32)).bind fun A14 =>
(pI A14 (some a0) 4 6 (0 : Int32)).bind fun A15 =>
(pI A15 (some a0) 4 7 (p1 + (1 : Int32))).bind fun A16 =>
some A16) else
(sI A9 v11 x8 (0 : Int32)).bind fun A17 =>
rc10 (x8 + (1 : Int32)) A17) n) fun j7 =>
j7 (0 : Int32) g6

set_option maxHeartbeats 4000000 in
set_option maxRecDepth 100000 in
theorem sX4_begin (l : Launch) (D : DE) (n : Nat) (a0 : Nat) (p1 : Int32) (A : AH) (g : AH) (hg : fX4_begin n a0 p1 A = some g) : Sm l D yX4_begin cX4_begin 3 none 1 20 [tR (some a0), tI p1] A (wU g).1 (wU g).2 := by
  refine Sm.of (ω := wU) (fX4_begin n a0 p1 A) [some (tR (some a0)), some (tI p1), none] (by decide) (Nat.le_of_ble_eq_true rfl) rfl hg ?_
  intro p e R s m args below meth c X hin
  have X : Cx D cX4_begin RX4 3 1 20 none p R s m args meth c := X
  unfold fX4_begin
  refine rf_aload_n X rfl dX4_begin_0 ?_
  refine rf_bind (fun v1 hv1 => ?_)
  refine rf_getR X fl_X4_14 hv1 dX4_begin_1 ?_
  refine rf_bind (fun v2 hv2 => ?_)
  refine rf_bind (fun g3 hg3 => ?_)
  refine rf_callVU X c_X4_34 ⟨Nat.le_of_ble_eq_true rfl, Nat.le_of_ble_eq_true rfl⟩ [] rfl (Nat.le_of_ble_eq_true rfl) hv2 (sJ17_clear l D n v2 A g3 hg3) dX4_begin_4 ?_
  refine rf_aload_n X rfl dX4_begin_7 ?_
  refine rf_bind (fun v4 hv4 => ?_)
  refine rf_getR X fl_X4_20 hv4 dX4_begin_8 ?_
  refine rf_bind (fun v5 hv5 => ?_)
  refine rf_bind (fun g6 hg6 => ?_)
  refine rf_callVU X c_X4_34 ⟨Nat.le_of_ble_eq_true rfl, Nat.le_of_ble_eq_true rfl⟩ [] rfl (Nat.le_of_ble_eq_true rfl) hv5 (sJ17_clear l D n v5 g3 g6 hg6) dX4_begin_11 ?_
  refine rf_iconst X (0 : Int32) rfl dX4_begin_14 ?_
  refine rf_istore_n X (ls' := [some (tR (some a0)), some (tI p1), some (tI (0 : Int32))]) rfl (by decide) dX4_begin_15 ?_
  refine rf_fix (fun i => ∀ (x8 : Int32) (A9 : AH), RfX X l e below wU (i x8 A9) 16 [some (tR (some a0)), some (tI p1), some (tI x8)] [] A9) (fun _ _ => rf_none) (fun rc10 hrc10 => ?_) (fun j7 hj7 => ?_)
  · intro x8 A9
    refine rf_iload_n X rfl dX4_begin_16 ?_
    refine rf_aload_n X rfl dX4_begin_17 ?_
    refine rf_bind (fun v11 hv11 => ?_)
    refine rf_getR X fl_X4_23 hv11 dX4_begin_18 ?_
    refine rf_bind (fun v12 hv12 => ?_)
    refine rf_alen X hv12 dX4_begin_21 ?_
    refine rf_icmp_ge X (tgt := 38) rfl dX4_begin_22 (fun c13 => rf_pos c13 ?_) (fun c13 => rf_neg c13 ?_)
    · refine rf_aload_n X rfl dX4_begin_38 ?_
      refine rf_iconst X (0 : Int32) rfl dX4_begin_39 ?_
      refine rf_bind (fun A14 hA14 => ?_)
      refine rf_putI X fp_X4_37 (fun h => by cases h) hA14 dX4_begin_40 ?_
      refine rf_aload_n X rfl dX4_begin_43 ?_
      refine rf_iconst X (0 : Int32) rfl dX4_begin_44 ?_
      refine rf_bind (fun A15 hA15 => ?_)
      refine rf_putI X fp_X4_40 (fun h => by cases h) hA15 dX4_begin_45 ?_
      refine rf_aload_n X rfl dX4_begin_48 ?_
      refine rf_iload_n X rfl dX4_begin_49 ?_
      refine rf_iconst X (1 : Int32) rfl dX4_begin_50 ?_
      refine rf_iadd X dX4_begin_51 ?_
      refine rf_bind (fun A16 hA16 => ?_)
      refine rf_putI X fp_X4_43 (fun h => by cases h) hA16 dX4_begin_52 ?_
      exact rf_vret X rfl dX4_begin_55
    refine rf_aload_n X rfl dX4_begin_25 ?_
    refine rf_getR X fl_X4_23 hv11 dX4_begin_26 ?_
    refine rf_iload_n X rfl dX4_begin_29 ?_
    refine rf_iconst X (0 : Int32) rfl dX4_begin_30 ?_
    refine rf_bind (fun A17 hA17 => ?_)
    refine rf_iast X hA17 dX4_begin_31 ?_
    refine rf_iinc X (x8 + (1 : Int32)) rfl rfl (ls' := [some (tR (some a0)), some (tI p1), some (tI (x8 + (1 : Int32)))]) rfl (by decide) dX4_begin_32 ?_
    refine rf_goto X (tgt := 16) rfl dX4_begin_35 ?_
    exact rf_go (hrc10 (x8 + (1 : Int32)) A17) (And.intro rfl (And.intro rfl (And.intro rfl True.intro)))
  exact rf_go (hj7 (0 : Int32) g6) (And.intro rfl (And.intro rfl (And.intro rfl True.intro)))

theorem dX5_isAtomic_0 : decode cX5_isAtomic 0 = .ok (.aload_n 0, 1) := by decide +kernel
theorem dX5_isAtomic_1 : decode cX5_isAtomic 1 = .ok (.getfield 9, 3) := by decide +kernel
theorem dX5_isAtomic_4 : decode cX5_isAtomic 4 = .ok (.bipush 54, 2) := by decide +kernel
theorem dX5_isAtomic_6 : decode cX5_isAtomic 6 = .ok (.if_icmp .lt 16, 3) := by decide +kernel
theorem dX5_isAtomic_9 : decode cX5_isAtomic 9 = .ok (.aload_n 0, 1) := by decide +kernel
theorem dX5_isAtomic_10 : decode cX5_isAtomic 10 = .ok (.getfield 9, 3) := by decide +kernel
theorem dX5_isAtomic_13 : decode cX5_isAtomic 13 = .ok (.bipush 59, 2) := by decide +kernel
theorem dX5_isAtomic_15 : decode cX5_isAtomic 15 = .ok (.if_icmp .gt 7, 3) := by decide +kernel
theorem dX5_isAtomic_18 : decode cX5_isAtomic 18 = .ok (.iconst 1, 1) := by decide +kernel
theorem dX5_isAtomic_19 : decode cX5_isAtomic 19 = .ok (.goto 4, 3) := by decide +kernel
theorem dX5_isAtomic_22 : decode cX5_isAtomic 22 = .ok (.iconst 0, 1) := by decide +kernel
theorem dX5_isAtomic_23 : decode cX5_isAtomic 23 = .ok (.ireturn, 1) := by decide +kernel
def fX5_isAtomic (a0 : Nat) (A : AH) : Option (Int32) :=
(gI A (some a0) 5 0).bind fun v1 =>
jn (fun (y3 : Int32) =>
some (nb y3)) fun j2 =>
if ((v1 < (54 : Int32)) ∨ ((59 : Int32) < v1)) then (j2 (0 : Int32)) else
j2 (1 : Int32)

set_option maxHeartbeats 4000000 in
set_option maxRecDepth 100000 in
theorem sX5_isAtomic (l : Launch) (D : DE) (a0 : Nat) (A : AH) (g : Int32) (hg : fX5_isAtomic a0 A = some g) : Sm l D yX5_isAtomic cX5_isAtomic 1 (some Jvm.ClassFile.FieldType.boolean) 0 0 [tR (some a0)] A (qI A g).1 (qI A g).2 := by
  refine Sm.of (ω := qI A) (fX5_isAtomic a0 A) [some (tR (some a0))] (by decide) (Nat.le_of_ble_eq_true rfl) rfl hg ?_
  intro p e R s m args below meth c X hin
  have X : Cx D cX5_isAtomic RX5 1 0 0 (some Jvm.ClassFile.FieldType.boolean) p R s m args meth c := X
  unfold fX5_isAtomic
  refine rf_aload_n X rfl dX5_isAtomic_0 ?_
  refine rf_bind (fun v1 hv1 => ?_)
  refine rf_getI X fl_X5_9 hv1 dX5_isAtomic_1 ?_
  refine rf_bipush X (54 : Int32) rfl dX5_isAtomic_4 ?_
  refine rf_jn2 (fun i => ∀ (y3 : Int32), RfX X l e below (qI A) (i y3) 23 [none] [tI y3] A) ?_ (fun j2 hj2 => ?_)
  · intro y3
    exact rf_zret X rfl dX5_isAtomic_23
  refine rf_br 22 18 [some (tR (some a0))] [some (tR (some a0))] [] [] (fun _ => ?_) (fun _ => ?_) (fun _ jT jF => ?_)
  · refine rf_iconst X (0 : Int32) rfl dX5_isAtomic_22 ?_
    exact rf_go (hj2 (0 : Int32)) True.intro
  · refine rf_iconst X (1 : Int32) rfl dX5_isAtomic_18 ?_
    refine rf_goto X (tgt := 23) rfl dX5_isAtomic_19 ?_
    exact rf_go (hj2 (1 : Int32)) True.intro
  refine rf_icmp_lt X (tgt := 22) rfl dX5_isAtomic_6 (fun c4 => ?_) (fun c4 => ?_)
  · exact jT (Or.inl c4)
  refine rf_aload_n X rfl dX5_isAtomic_9 ?_
  refine rf_getI X fl_X5_9 hv1 dX5_isAtomic_10 ?_
  refine rf_bipush X (59 : Int32) rfl dX5_isAtomic_13 ?_
  refine rf_icmp_gt X (tgt := 22) rfl dX5_isAtomic_15 (fun c5 => ?_) (fun c5 => ?_)
  · exact jT (Or.inr c5)
  exact jF (fun z => z.elim c4 c5)

