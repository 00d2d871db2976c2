/-! 20.g15: printed by gen/parts.py -/
set_option maxRecDepth 100000
theorem fl_X7_100 : FLr RX7 100 7 18 := ⟨RX7, TX7, 26, "WarpMill$Machine", "", rfl, by decide, in_X7, Or.inl q824, Or.inl rfl⟩
theorem fl_X7_285 : FLr RX7 285 8 4 := ⟨RX8, TX8, 5, "WarpMill$Unit", "WarpMill", rfl, by decide, in_X8, Or.inr q741, Or.inl rfl⟩
theorem fp_X7_285 : FL RX7 285 8 4 (.int) false := ⟨RX8, TX8, 5, tyX8, "WarpMill$Unit", "WarpMill", rfl, by decide, in_X8, tyX8_ok, nmX8, Or.inr q741, Or.inl rfl, rfl, rfl, fun h => by cases h⟩
theorem fl_X7_103 : FLr RX7 103 7 19 := ⟨RX7, TX7, 26, "WarpMill$Machine", "", rfl, by decide, in_X7, Or.inl q826, Or.inl rfl⟩
theorem fl_X7_106 : FLr RX7 106 7 20 := ⟨RX7, TX7, 26, "WarpMill$Machine", "", rfl, by decide, in_X7, Or.inl q828, Or.inl rfl⟩
theorem fl_X7_94 : FLr RX7 94 7 16 := ⟨RX7, TX7, 26, "WarpMill$Machine", "", rfl, by decide, in_X7, Or.inl q820, Or.inl rfl⟩
theorem fl_X7_24 : FLr RX7 24 7 1 := ⟨RX7, TX7, 26, "WarpMill$Machine", "", rfl, by decide, in_X7, Or.inl q798, Or.inl rfl⟩
theorem fl_X7_226 : FLr RX7 226 8 1 := ⟨RX8, TX8, 5, "WarpMill$Unit", "WarpMill", rfl, by decide, in_X8, Or.inr q731, Or.inl rfl⟩
theorem fl_X7_229 : FLr RX7 229 8 0 := ⟨RX8, TX8, 5, "WarpMill$Unit", "WarpMill", rfl, by decide, in_X8, Or.inr q728, Or.inl rfl⟩
theorem fp_X7_226 : FL RX7 226 8 1 (.int) false := ⟨RX8, TX8, 5, tyX8, "WarpMill$Unit", "WarpMill", rfl, by decide, in_X8, tyX8_ok, nmX8, Or.inr q731, Or.inl rfl, rfl, rfl, fun h => by cases h⟩
theorem fl_X7_33 : FLr RX7 33 7 4 := ⟨RX7, TX7, 26, "WarpMill$Machine", "", rfl, by decide, in_X7, Or.inl q804, Or.inl rfl⟩
theorem c_X7_277 : CV RX7 277 13 yX13_doing cX13_doing 5 (some Jvm.ClassFile.FieldType.int) 2 := ⟨TX13, 6, rfl, q1311, q1312, q1313, q114, q1314, ⟨by decide +kernel, by decide +kernel, by decide +kernel⟩⟩
theorem c_X7_289 : CV RX7 289 7 yX7_takes cX7_takes 8 (some Jvm.ClassFile.FieldType.int) 4 := ⟨TX7, 26, rfl, q1336, q1338, qs18, q106, q1339, ⟨by decide +kernel, by decide +kernel, by decide +kernel⟩⟩
theorem c_X7_309 : CV RX7 309 13 yX13_wrote cX13_wrote 3 none 2 := ⟨TX13, 6, rfl, q1470, q1471, q1472, q114, q1473, ⟨by decide +kernel, by decide +kernel, by decide +kernel⟩⟩
theorem c_X7_314 : CV RX7 314 12 yX12_look cX12_look 2 none 0 := ⟨TX12, 3, rfl, q1474, q1475, q1476, q113, q1477, ⟨by decide +kernel, by decide +kernel, by decide +kernel⟩⟩
theorem c_X7_317 : CV RX7 317 12 yX12_isOver cX12_isOver 2 (some Jvm.ClassFile.FieldType.boolean) 0 := ⟨TX12, 3, rfl, q1487, q1488, q1489, q113, q1490, ⟨by decide +kernel, by decide +kernel, by decide +kernel⟩⟩
theorem c_X7_320 : CV RX7 320 8 yX8_leave cX8_leave 3 none 1 := ⟨TX8, 5, rfl, q1491, q934, q935, q108, q936, ⟨by decide +kernel, by decide +kernel, by decide +kernel⟩⟩
theorem c_X7_323 : CV RX7 323 2 yX2_free cX2_free 5 none 1 := ⟨TX2, 3, rfl, q1492, q938, q939, q99, q940, ⟨by decide +kernel, by decide +kernel, by decide +kernel⟩⟩
theorem c_X7_302 : CV RX7 302 7 yX7_vote cX7_vote 10 none 3 := ⟨TX7, 26, rfl, q1400, q1402, qs22, q106, q1403, ⟨by decide +kernel, by decide +kernel, by decide +kernel⟩⟩
theorem c_X7_306 : CV RX7 306 7 yX7_act cX7_act 8 none 3 := ⟨TX7, 26, rfl, q1404, q1406, qs23, q106, q1407, ⟨by decide +kernel, by decide +kernel, by decide +kernel⟩⟩
theorem c_X7_257 : CV RX7 257 7 yX7_trap cX7_trap 4 none 3 := ⟨TX7, 26, rfl, q1302, q1304, qs15, q106, q1305, ⟨by decide +kernel, by decide +kernel, by decide +kernel⟩⟩
theorem c_X7_281 : CV RX7 281 7 yX7_trouble cX7_trouble 4 (some Jvm.ClassFile.FieldType.int) 2 := ⟨TX7, 26, rfl, q1320, q1322, qs17, q106, q1323, ⟨by decide +kernel, by decide +kernel, by decide +kernel⟩⟩
theorem c_X7_237 : CS RX7 237 yJ16_numberOfTrailingZeros cJ16_numberOfTrailingZeros 2 (some Jvm.ClassFile.FieldType.int) 1 := ⟨q1247, q1248, q98, q1249, ⟨by decide +kernel, by decide +kernel, by decide +kernel⟩⟩
theorem c_X7_261 : CV RX7 261 5 yX5_isKnown cX5_isKnown 1 (some Jvm.ClassFile.FieldType.boolean) 0 := ⟨TX5, 7, rfl, q1306, q1258, q1259, q103, q1260, ⟨by decide +kernel, by decide +kernel, by decide +kernel⟩⟩
theorem c_X7_264 : CV RX7 264 7 yX7_go cX7_go 8 none 4 := ⟨TX7, 26, rfl, q1307, q1309, qs16, q106, q1310, ⟨by decide +kernel, by decide +kernel, by decide +kernel⟩⟩
theorem c_X7_250 : CV RX7 250 13 yX13_isThere cX13_isThere 6 (some Jvm.ClassFile.FieldType.boolean) 2 := ⟨TX13, 6, rfl, q1253, q1254, q1255, q114, q1256, ⟨by decide +kernel, by decide +kernel, by decide +kernel⟩⟩
theorem c_X7_254 : CV RX7 254 8 yX8_isFree cX8_isFree 3 (some Jvm.ClassFile.FieldType.boolean) 2 := ⟨TX8, 5, rfl, q1296, q1297, q1298, q108, q1299, ⟨by decide +kernel, by decide +kernel, by decide +kernel⟩⟩
theorem c_X7_232 : CV RX7 232 13 yX13_group cX13_group 5 (some Jvm.ClassFile.FieldType.int) 0 := ⟨TX13, 6, rfl, q1243, q1244, q1245, q114, q1246, ⟨by decide +kernel, by decide +kernel, by decide +kernel⟩⟩
theorem dX7_go_0 : decode cX7_go 0 = .ok (.aload_n 2, 1) := by decide +kernel
theorem dX7_go_1 : decode cX7_go 1 = .ok (.iload_n 3, 1) := by decide +kernel
theorem dX7_go_2 : decode cX7_go 2 = .ok (.aload 4, 2) := by decide +kernel
theorem dX7_go_4 : decode cX7_go 4 = .ok (.invokevirtual 277, 3) := by decide +kernel
theorem dX7_go_7 : decode cX7_go 7 = .ok (.istore 5, 2) := by decide +kernel
theorem dX7_go_9 : decode cX7_go 9 = .ok (.iconst 0, 1) := by decide +kernel
theorem dX7_go_10 : decode cX7_go 10 = .ok (.istore 6, 2) := by decide +kernel
theorem dX7_go_12 : decode cX7_go 12 = .ok (.iload 6, 2) := by decide +kernel
theorem dX7_go_14 : decode cX7_go 14 = .ok (.aload_n 2, 1) := by decide +kernel
theorem dX7_go_15 : decode cX7_go 15 = .ok (.getfield 243, 3) := by decide +kernel
theorem dX7_go_18 : decode cX7_go 18 = .ok (.invokevirtual 118, 3) := by decide +kernel
theorem dX7_go_21 : decode cX7_go 21 = .ok (.if_icmp .ge 61, 3) := by decide +kernel
theorem dX7_go_24 : decode cX7_go 24 = .ok (.iload 5, 2) := by decide +kernel
theorem dX7_go_26 : decode cX7_go 26 = .ok (.iload 6, 2) := by decide +kernel
theorem dX7_go_28 : decode cX7_go 28 = .ok (.ishr, 1) := by decide +kernel
theorem dX7_go_29 : decode cX7_go 29 = .ok (.iconst 1, 1) := by decide +kernel
theorem dX7_go_30 : decode cX7_go 30 = .ok (.iand, 1) := by decide +kernel
theorem dX7_go_31 : decode cX7_go 31 = .ok (.ifCond .ne 7, 3) := by decide +kernel
theorem dX7_go_34 : decode cX7_go 34 = .ok (.iconst 0, 1) := by decide +kernel
theorem dX7_go_35 : decode cX7_go 35 = .ok (.goto 21, 3) := by decide +kernel
theorem dX7_go_38 : decode cX7_go 38 = .ok (.aload_n 0, 1) := by decide +kernel
theorem dX7_go_39 : decode cX7_go 39 = .ok (.aload_n 2, 1) := by decide +kernel
theorem dX7_go_40 : decode cX7_go 40 = .ok (.getfield 243, 3) := by decide +kernel
theorem dX7_go_43 : decode cX7_go 43 = .ok (.iload 6, 2) := by decide +kernel
theorem dX7_go_45 : decode cX7_go 45 = .ok (.invokevirtual 122, 3) := by decide +kernel
theorem dX7_go_48 : decode cX7_go 48 = .ok (.checkcast 204, 3) := by decide +kernel
theorem dX7_go_51 : decode cX7_go 51 = .ok (.aload 4, 2) := by decide +kernel
theorem dX7_go_53 : decode cX7_go 53 = .ok (.invokevirtual 281, 3) := by decide +kernel
theorem dX7_go_56 : decode cX7_go 56 = .ok (.istore 7, 2) := by decide +kernel
theorem dX7_go_58 : decode cX7_go 58 = .ok (.iload 7, 2) := by decide +kernel
theorem dX7_go_60 : decode cX7_go 60 = .ok (.ifCond .ne 6, 3) := by decide +kernel
theorem dX7_go_63 : decode cX7_go 63 = .ok (.goto 13, 3) := by decide +kernel
theorem dX7_go_66 : decode cX7_go 66 = .ok (.aload_n 0, 1) := by decide +kernel
theorem dX7_go_67 : decode cX7_go 67 = .ok (.aload_n 2, 1) := by decide +kernel
theorem dX7_go_68 : decode cX7_go 68 = .ok (.iload 6, 2) := by decide +kernel
theorem dX7_go_70 : decode cX7_go 70 = .ok (.iload 7, 2) := by decide +kernel
theorem dX7_go_72 : decode cX7_go 72 = .ok (.invokevirtual 257, 3) := by decide +kernel
theorem dX7_go_75 : decode cX7_go 75 = .ok (.return_, 1) := by decide +kernel
theorem dX7_go_76 : decode cX7_go 76 = .ok (.iinc 6 1, 3) := by decide +kernel
theorem dX7_go_79 : decode cX7_go 79 = .ok (.goto (-67), 3) := by decide +kernel
theorem dX7_go_82 : decode cX7_go 82 = .ok (.aload_n 0, 1) := by decide +kernel
theorem dX7_go_83 : decode cX7_go 83 = .ok (.dup, 1) := by decide +kernel
theorem dX7_go_84 : decode cX7_go 84 = .ok (.getfield 100, 3) := by decide +kernel
theorem dX7_go_87 : decode cX7_go 87 = .ok (.iconst 1, 1) := by decide +kernel
theorem dX7_go_88 : decode cX7_go 88 = .ok (.iadd, 1) := by decide +kernel
theorem dX7_go_89 : decode cX7_go 89 = .ok (.putfield 100, 3) := by decide +kernel
theorem dX7_go_92 : decode cX7_go 92 = .ok (.aload_n 1, 1) := by decide +kernel
theorem dX7_go_93 : decode cX7_go 93 = .ok (.dup, 1) := by decide +kernel
theorem dX7_go_94 : decode cX7_go 94 = .ok (.getfield 285, 3) := by decide +kernel
theorem dX7_go_97 : decode cX7_go 97 = .ok (.iconst 1, 1) := by decide +kernel
theorem dX7_go_98 : decode cX7_go 98 = .ok (.iadd, 1) := by decide +kernel
theorem dX7_go_99 : decode cX7_go 99 = .ok (.putfield 285, 3) := by decide +kernel
theorem dX7_go_102 : decode cX7_go 102 = .ok (.aload_n 0, 1) := by decide +kernel
theorem dX7_go_103 : decode cX7_go 103 = .ok (.dup, 1) := by decide +kernel
theorem dX7_go_104 : decode cX7_go 104 = .ok (.getfield 103, 3) := by decide +kernel
theorem dX7_go_107 : decode cX7_go 107 = .ok (.iload 5, 2) := by decide +kernel
theorem dX7_go_109 : decode cX7_go 109 = .ok (.invokestatic 286, 3) := by decide +kernel
theorem dX7_go_112 : decode cX7_go 112 = .ok (.iadd, 1) := by decide +kernel
theorem dX7_go_113 : decode cX7_go 113 = .ok (.putfield 103, 3) := by decide +kernel
theorem dX7_go_116 : decode cX7_go 116 = .ok (.aload_n 0, 1) := by decide +kernel
theorem dX7_go_117 : decode cX7_go 117 = .ok (.dup, 1) := by decide +kernel
theorem dX7_go_118 : decode cX7_go 118 = .ok (.getfield 106, 3) := by decide +kernel
theorem dX7_go_121 : decode cX7_go 121 = .ok (.iload 5, 2) := by decide +kernel
theorem dX7_go_123 : decode cX7_go 123 = .ok (.iload_n 3, 1) := by decide +kernel
theorem dX7_go_124 : decode cX7_go 124 = .ok (.if_icmp .ne 7, 3) := by decide +kernel
theorem dX7_go_127 : decode cX7_go 127 = .ok (.iconst 0, 1) := by decide +kernel
theorem dX7_go_128 : decode cX7_go 128 = .ok (.goto 4, 3) := by decide +kernel
theorem dX7_go_131 : decode cX7_go 131 = .ok (.iconst 1, 1) := by decide +kernel
theorem dX7_go_132 : decode cX7_go 132 = .ok (.iadd, 1) := by decide +kernel
theorem dX7_go_133 : decode cX7_go 133 = .ok (.putfield 106, 3) := by decide +kernel
theorem dX7_go_136 : decode cX7_go 136 = .ok (.aload_n 0, 1) := by decide +kernel
theorem dX7_go_137 : decode cX7_go 137 = .ok (.getfield 97, 3) := by decide +kernel
theorem dX7_go_140 : decode cX7_go 140 = .ok (.aload_n 0, 1) := by decide +kernel
theorem dX7_go_141 : decode cX7_go 141 = .ok (.aload_n 1, 1) := by decide +kernel
theorem dX7_go_142 : decode cX7_go 142 = .ok (.aload_n 2, 1) := by decide +kernel
theorem dX7_go_143 : decode cX7_go 143 = .ok (.iload 5, 2) := by decide +kernel
theorem dX7_go_145 : decode cX7_go 145 = .ok (.aload 4, 2) := by decide +kernel
theorem dX7_go_147 : decode cX7_go 147 = .ok (.invokevirtual 289, 3) := by decide +kernel
theorem dX7_go_150 : decode cX7_go 150 = .ok (.iadd, 1) := by decide +kernel
theorem dX7_go_151 : decode cX7_go 151 = .ok (.istore 6, 2) := by decide +kernel
theorem dX7_go_153 : decode cX7_go 153 = .ok (.iconst 0, 1) := by decide +kernel
theorem dX7_go_154 : decode cX7_go 154 = .ok (.istore 7, 2) := by decide +kernel
theorem dX7_go_156 : decode cX7_go 156 = .ok (.iload 7, 2) := by decide +kernel
theorem dX7_go_158 : decode cX7_go 158 = .ok (.aload_n 2, 1) := by decide +kernel
theorem dX7_go_159 : decode cX7_go 159 = .ok (.getfield 243, 3) := by decide +kernel
theorem dX7_go_162 : decode cX7_go 162 = .ok (.invokevirtual 118, 3) := by decide +kernel
theorem dX7_go_165 : decode cX7_go 165 = .ok (.if_icmp .ge 35, 3) := by decide +kernel
theorem dX7_go_168 : decode cX7_go 168 = .ok (.aload_n 2, 1) := by decide +kernel
theorem dX7_go_169 : decode cX7_go 169 = .ok (.getfield 243, 3) := by decide +kernel
theorem dX7_go_172 : decode cX7_go 172 = .ok (.iload 7, 2) := by decide +kernel
theorem dX7_go_174 : decode cX7_go 174 = .ok (.invokevirtual 122, 3) := by decide +kernel
theorem dX7_go_177 : decode cX7_go 177 = .ok (.checkcast 204, 3) := by decide +kernel
theorem dX7_go_180 : decode cX7_go 180 = .ok (.dup, 1) := by decide +kernel
theorem dX7_go_181 : decode cX7_go 181 = .ok (.getfield 245, 3) := by decide +kernel
theorem dX7_go_184 : decode cX7_go 184 = .ok (.iload_n 3, 1) := by decide +kernel
theorem dX7_go_185 : decode cX7_go 185 = .ok (.iload 7, 2) := by decide +kernel
theorem dX7_go_187 : decode cX7_go 187 = .ok (.ishr, 1) := by decide +kernel
theorem dX7_go_188 : decode cX7_go 188 = .ok (.iconst 1, 1) := by decide +kernel
theorem dX7_go_189 : decode cX7_go 189 = .ok (.iand, 1) := by decide +kernel
theorem dX7_go_190 : decode cX7_go 190 = .ok (.iadd, 1) := by decide +kernel
theorem dX7_go_191 : decode cX7_go 191 = .ok (.putfield 245, 3) := by decide +kernel
theorem dX7_go_194 : decode cX7_go 194 = .ok (.iinc 7 1, 3) := by decide +kernel
theorem dX7_go_197 : decode cX7_go 197 = .ok (.goto (-41), 3) := by decide +kernel
theorem dX7_go_200 : decode cX7_go 200 = .ok (.aload 4, 2) := by decide +kernel
theorem dX7_go_202 : decode cX7_go 202 = .ok (.getfield 293, 3) := by decide +kernel
theorem dX7_go_205 : decode cX7_go 205 = .ok (.getstatic 297, 3) := by decide +kernel
theorem dX7_go_208 : decode cX7_go 208 = .ok (.if_acmp .ne 15, 3) := by decide +kernel
theorem dX7_go_211 : decode cX7_go 211 = .ok (.aload_n 0, 1) := by decide +kernel
theorem dX7_go_212 : decode cX7_go 212 = .ok (.aload_n 2, 1) := by decide +kernel
theorem dX7_go_213 : decode cX7_go 213 = .ok (.iload 5, 2) := by decide +kernel
theorem dX7_go_215 : decode cX7_go 215 = .ok (.aload 4, 2) := by decide +kernel
theorem dX7_go_217 : decode cX7_go 217 = .ok (.invokevirtual 302, 3) := by decide +kernel
theorem dX7_go_220 : decode cX7_go 220 = .ok (.goto 44, 3) := by decide +kernel
theorem dX7_go_223 : decode cX7_go 223 = .ok (.iconst 0, 1) := by decide +kernel
theorem dX7_go_224 : decode cX7_go 224 = .ok (.istore 7, 2) := by decide +kernel
theorem dX7_go_226 : decode cX7_go 226 = .ok (.iload 7, 2) := by decide +kernel
theorem dX7_go_228 : decode cX7_go 228 = .ok (.aload_n 2, 1) := by decide +kernel
theorem dX7_go_229 : decode cX7_go 229 = .ok (.getfield 243, 3) := by decide +kernel
theorem dX7_go_232 : decode cX7_go 232 = .ok (.invokevirtual 118, 3) := by decide +kernel
theorem dX7_go_235 : decode cX7_go 235 = .ok (.if_icmp .ge 29, 3) := by decide +kernel
theorem dX7_go_238 : decode cX7_go 238 = .ok (.iload 5, 2) := by decide +kernel
theorem dX7_go_240 : decode cX7_go 240 = .ok (.iload 7, 2) := by decide +kernel
theorem dX7_go_242 : decode cX7_go 242 = .ok (.ishr, 1) := by decide +kernel
theorem dX7_go_243 : decode cX7_go 243 = .ok (.iconst 1, 1) := by decide +kernel
theorem dX7_go_244 : decode cX7_go 244 = .ok (.iand, 1) := by decide +kernel
theorem dX7_go_245 : decode cX7_go 245 = .ok (.iconst 1, 1) := by decide +kernel
theorem dX7_go_246 : decode cX7_go 246 = .ok (.if_icmp .ne 12, 3) := by decide +kernel
theorem dX7_go_249 : decode cX7_go 249 = .ok (.aload_n 0, 1) := by decide +kernel
theorem dX7_go_250 : decode cX7_go 250 = .ok (.aload_n 2, 1) := by decide +kernel
theorem dX7_go_251 : decode cX7_go 251 = .ok (.iload 7, 2) := by decide +kernel
theorem dX7_go_253 : decode cX7_go 253 = .ok (.aload 4, 2) := by decide +kernel
theorem dX7_go_255 : decode cX7_go 255 = .ok (.invokevirtual 306, 3) := by decide +kernel
theorem dX7_go_258 : decode cX7_go 258 = .ok (.iinc 7 1, 3) := by decide +kernel
theorem dX7_go_261 : decode cX7_go 261 = .ok (.goto (-35), 3) := by decide +kernel
theorem dX7_go_264 : decode cX7_go 264 = .ok (.aload_n 2, 1) := by decide +kernel
theorem dX7_go_265 : decode cX7_go 265 = .ok (.aload 4, 2) := by decide +kernel
theorem dX7_go_267 : decode cX7_go 267 = .ok (.iload 6, 2) := by decide +kernel
theorem dX7_go_269 : decode cX7_go 269 = .ok (.invokevirtual 309, 3) := by decide +kernel
theorem dX7_go_272 : decode cX7_go 272 = .ok (.aload 4, 2) := by decide +kernel
theorem dX7_go_274 : decode cX7_go 274 = .ok (.getfield 313, 3) := by decide +kernel
theorem dX7_go_277 : decode cX7_go 277 = .ok (.iconst 1, 1) := by decide +kernel
theorem dX7_go_278 : decode cX7_go 278 = .ok (.if_icmp .le 4, 3) := by decide +kernel
theorem dX7_go_281 : decode cX7_go 281 = .ok (.return_, 1) := by decide +kernel
theorem dX7_go_282 : decode cX7_go 282 = .ok (.aload_n 2, 1) := by decide +kernel
theorem dX7_go_283 : decode cX7_go 283 = .ok (.getfield 268, 3) := by decide +kernel
theorem dX7_go_286 : decode cX7_go 286 = .ok (.invokevirtual 314, 3) := by decide +kernel
theorem dX7_go_289 : decode cX7_go 289 = .ok (.aload_n 2, 1) := by decide +kernel
theorem dX7_go_290 : decode cX7_go 290 = .ok (.getfield 268, 3) := by decide +kernel
theorem dX7_go_293 : decode cX7_go 293 = .ok (.invokevirtual 317, 3) := by decide +kernel
theorem dX7_go_296 : decode cX7_go 296 = .ok (.ifCond .ne 4, 3) := by decide +kernel
theorem dX7_go_299 : decode cX7_go 299 = .ok (.return_, 1) := by decide +kernel
theorem dX7_go_300 : decode cX7_go 300 = .ok (.aload_n 2, 1) := by decide +kernel
theorem dX7_go_301 : decode cX7_go 301 = .ok (.getfield 268, 3) := by decide +kernel
theorem dX7_go_304 : decode cX7_go 304 = .ok (.astore 7, 2) := by decide +kernel
theorem dX7_go_306 : decode cX7_go 306 = .ok (.aload_n 1, 1) := by decide +kernel
theorem dX7_go_307 : decode cX7_go 307 = .ok (.aload 7, 2) := by decide +kernel
theorem dX7_go_309 : decode cX7_go 309 = .ok (.invokevirtual 320, 3) := by decide +kernel
theorem dX7_go_312 : decode cX7_go 312 = .ok (.aload_n 0, 1) := by decide +kernel
theorem dX7_go_313 : decode cX7_go 313 = .ok (.getfield 40, 3) := by decide +kernel
theorem dX7_go_316 : decode cX7_go 316 = .ok (.aload 7, 2) := by decide +kernel
theorem dX7_go_318 : decode cX7_go 318 = .ok (.invokevirtual 323, 3) := by decide +kernel
theorem dX7_go_321 : decode cX7_go 321 = .ok (.aload_n 0, 1) := by decide +kernel
theorem dX7_go_322 : decode cX7_go 322 = .ok (.dup, 1) := by decide +kernel
theorem dX7_go_323 : decode cX7_go 323 = .ok (.getfield 94, 3) := by decide +kernel
theorem dX7_go_326 : decode cX7_go 326 = .ok (.iconst 1, 1) := by decide +kernel
theorem dX7_go_327 : decode cX7_go 327 = .ok (.iadd, 1) := by decide +kernel
theorem dX7_go_328 : decode cX7_go 328 = .ok (.putfield 94, 3) := by decide +kernel
theorem dX7_go_331 : decode cX7_go 331 = .ok (.return_, 1) := by decide +kernel
def fX7_go (n : Nat) (a0 : Nat) (p1 : Option Nat) (p2 : Option Nat) (p3 : Int32) (p4 : Option Nat) (A : AH) : Option (AH) :=
(rcv A p2 13).bind fun v1 =>
(fX13_doing n v1 p3 p4 A).bind fun g2 =>
jl (fixG (fun _ => none) (fun (rc5 : (Int32) → Option (AH)) (x4 : Int32) =>
(gR A p2 13 2).bind fun v6 =>
(rcv A v6 0).bind fun v7 =>
(fJ2_size v7 A).bind fun g8 =>
if g8 ≤ x4 then ((gI A (some a0) 7 18).bind fun v10 =>
(pI A (some a0) 7 18 (v10 + (1 : Int32))).bind fun A11 =>
(gI A11 p1 8 4).bind fun v12 =>
(pI A11 p1 8 4 (v12 + (1 : Int32))).bind fun A13 =>
(gI A13 (some a0) 7 19).bind fun v14 =>
(fJ16_bitCount g2 A13).bind fun g15 =>
(pI A13 (some a0) 7 19 (v14 + g15)).bind fun A16 =>
(gI A16 (some a0) 7 20).bind fun v17 =>
jn (fun (y19 : Int32) =>
(pI A16 (some a0) 7 20 (v17 + y19)).bind fun A20 =>
(gI A20 (some a0) 7 17).bind fun v21 =>
(rcv A20 (some a0) 7).bind fun v22 =>
(fX7_takes n v22 p1 p2 g2 p4 A20).bind fun g23 =>
jl (fixG (fun _ _ => none) (fun (rc27 : (Int32) → (AH) → Option (AH)) (x25 : Int32) (A26 : AH) =>
(gR A26 p2 13 2).bind fun v28 =>
(rcv A26 v28 0).bind fun v29 =>
(fJ2_size v29 A26).bind fun g30 =>
if g30 ≤ x25 then ((gR A26 p4 5 6).bind fun v32 =>
jn (fun (A34 : AH) =>
(rcv A34 p2 13).bind fun v35 =>
(fX13_wrote v35 p4 (v21 + g23.1) A34).bind fun g36 =>
(gI g36 p4 5 0).bind fun v37 =>
if v37 ≤ (1 : Int32) then ((gR g36 p2 13 0).bind fun v39 =>
(rcv g36 v39 12).bind fun v40 =>
(fX12_look n v40 g36).bind fun g41 =>
(gR g41 p2 13 0).bind fun v42 =>
(rcv g41 v42 12).bind fun v43 =>
(fX12_isOver n v43 g41).bind fun g44 =>
if g44 = 0 then (some g41) else
(rcv g41 p1 8).bind fun v46 =>
(fX8_leave n v46 v42 g41).bind fun g47 =>
(gR g47 (some a0) 7 6).bind fun v48 =>
(rcv g47 v48 2).bind fun v49 =>
(fX2_free n v49 v42 g47).bind fun g50 =>
(gI g50 (some a0) 7 16).bind fun v51 =>
(pI g50 (some a0) 7 16 (v51 + (1 : Int32))).bind fun A52 =>
some A52) else
some g36) fun j33 =>
if v32 = (some (hA A26 3)) then ((rcv A26 (some a0) 7).bind fun v54 =>
(fX7_vote n v54 p2 g2 p4 A26).bind fun g55 =>
j33 g55) else
jl (fixG (fun _ _ => none) (fun (rc59 : (Int32) → (AH) → Option (AH)) (x57 : Int32) (A58 : AH) =>
(gR A58 p2 13 2).bind fun v60 =>
(rcv A58 v60 0).bind fun v61 =>
(fJ2_size v61 A58).bind fun g62 =>
if g62 ≤ x57 then (j33 A58) else
jn (fun (A65 : AH) =>
rc59 (x57 + (1 : Int32)) A65) fun j64 =>
if ((g2 >>> (x57 &&& 31)) &&& (1 : Int32)) = (1 : Int32) then ((rcv A58 (some a0) 7).bind fun v67 =>
(fX7_act n v67 p2 x57 p4 A58).bind fun g68 =>
j64 g68) else
j64 A58) n) fun j56 =>
j56 (0 : Int32) A26) else
(fJ2_get v29 x25 A26).bind fun g69 =>
(cst A26 g69 14).bind fun v70 =>
(gI A26 g69 14 2).bind fun v71 =>
(pI A26 g69 14 2 (v71 + ((p3 >>> (x25 &&& 31)) &&& (1 : Int32)))).bind fun A72 =>
rc27 (x25 + (1 : Int32)) A72) n) fun j24 =>
j24 (0 : Int32) g23.2) fun j18 =>
if g2 = p3 then (j18 (0 : Int32)) else
j18 (1 : Int32)) else
jn (fun (y75 : Int32) =>
if y75 = 0 then (rc5 (x4 + (1 : Int32))) else
(rcv A (some a0) 7).bind fun v77 =>
(fX7_trap v77 p2 x4 y75 A).bind fun g78 =>
some g78) fun j74 =>
if ((g2 >>> (x4 &&& 31)) &&& (1 : Int32)) = 0 then (j74 (0 : Int32)) else
(fJ2_get v7 x4 A).bind fun g80 =>
(cst A g80 14).bind fun v81 =>
(rcv A (some a0) 7).bind fun v82 =>
(fX7_trouble v82 g80 p4 A).bind fun g83 =>
j74 g83) n) fun j3 =>
j3 (0 : Int32)

set_option maxHeartbeats 4000000 in
set_option maxRecDepth 100000 in
theorem sX7_go (l : Launch) (D : DE) (n : Nat) (a0 : Nat) (p1 : Option Nat) (p2 : Option Nat) (p3 : Int32) (p4 : Option Nat) (A : AH) (g : AH) (hg : fX7_go n a0 p1 p2 p3 p4 A = some g) : Sm l D yX7_go cX7_go 8 none 10 263 [tR (some a0), tR p1, tR p2, tI p3, tR p4] A (wU g).1 (wU g).2 := by
  refine Sm.of (ω := wU) (fX7_go n a0 p1 p2 p3 p4 A) [some (tR (some a0)), some (tR p1), some (tR p2), some (tI p3), some (tR p4), none, none, none] (by decide) (Nat.le_of_ble_eq_true rfl) rfl hg ?_
  intro p e R s m args below meth c X hin
  have X : Cx D cX7_go RX7 8 10 263 none p R s m args meth c := X
  unfold fX7_go
  refine rf_aload_n X rfl dX7_go_0 ?_
  refine rf_iload_n X rfl dX7_go_1 ?_
  refine rf_aload X rfl dX7_go_2 ?_
  refine rf_bind (fun v1 hv1 => ?_)
  refine rf_bind (fun g2 hg2 => ?_)
  refine rf_callVI X c_X7_277 ⟨Nat.le_of_ble_eq_true rfl, Nat.le_of_ble_eq_true rfl⟩ [tI p3, tR p4] rfl (Nat.le_of_ble_eq_true rfl) hv1 (sX13_doing l D n v1 p3 p4 A g2 hg2) dX7_go_4 ?_
  refine rf_istore X (ls' := [some (tR (some a0)), some (tR p1), some (tR p2), some (tI p3), some (tR p4), some (tI g2), none, none]) rfl (by decide) dX7_go_7 ?_
  refine rf_iconst X (0 : Int32) rfl dX7_go_9 ?_
  refine rf_istore X (ls' := [some (tR (some a0)), some (tR p1), some (tR p2), some (tI p3), some (tR p4), some (tI g2), some (tI (0 : Int32)), none]) rfl (by decide) dX7_go_10 ?_
  refine rf_fix (fun i => ∀ (x4 : Int32), RfX X l e below wU (i x4) 12 [some (tR (some a0)), some (tR p1), some (tR p2), some (tI p3), some (tR p4), some (tI g2), some (tI x4), none] [] A) (fun _ => rf_none) (fun rc5 hrc5 => ?_) (fun j3 hj3 => ?_)
  · intro x4
    refine rf_iload X rfl dX7_go_12 ?_
    refine rf_aload_n X rfl dX7_go_14 ?_
    refine rf_bind (fun v6 hv6 => ?_)
    refine rf_getR X fl_X7_243 hv6 dX7_go_15 ?_
    refine rf_bind (fun v7 hv7 => ?_)
    refine rf_bind (fun g8 hg8 => ?_)
    refine rf_callVI X c_X7_118 ⟨Nat.le_of_ble_eq_true rfl, Nat.le_of_ble_eq_true rfl⟩ [] rfl (Nat.le_of_ble_eq_true rfl) hv7 (sJ2_size l D v7 A g8 hg8) dX7_go_18 ?_
    refine rf_icmp_ge X (tgt := 82) rfl dX7_go_21 (fun c9 => rf_pos c9 ?_) (fun c9 => rf_neg c9 ?_)
    · refine rf_aload_n X rfl dX7_go_82 ?_
      refine rf_dup X rfl dX7_go_83 ?_
      refine rf_bind (fun v10 hv10 => ?_)
      refine rf_getI X fl_X7_100 hv10 dX7_go_84 ?_
      refine rf_iconst X (1 : Int32) rfl dX7_go_87 ?_
      refine rf_iadd X dX7_go_88 ?_
      refine rf_bind (fun A11 hA11 => ?_)
      refine rf_putI X fp_X7_100 (fun h => by cases h) hA11 dX7_go_89 ?_
      refine rf_aload_n X rfl dX7_go_92 ?_
      refine rf_dup X rfl dX7_go_93 ?_
      refine rf_bind (fun v12 hv12 => ?_)
      refine rf_getI X fl_X7_285 hv12 dX7_go_94 ?_
      refine rf_iconst X (1 : Int32) rfl dX7_go_97 ?_
      refine rf_iadd X dX7_go_98 ?_
      refine rf_bind (fun A13 hA13 => ?_)
      refine rf_putI X fp_X7_285 (fun h => by cases h) hA13 dX7_go_99 ?_
      refine rf_aload_n X rfl dX7_go_102 ?_
      refine rf_dup X rfl dX7_go_103 ?_
      refine rf_bind (fun v14 hv14 => ?_)
      refine rf_getI X fl_X7_103 hv14 dX7_go_104 ?_
      refine rf_iload X rfl dX7_go_107 ?_
      refine rf_bind (fun g15 hg15 => ?_)
      refine rf_callSI X c_X7_286 ⟨Nat.le_of_ble_eq_true rfl, Nat.le_of_ble_eq_true rfl⟩ [tI g2] rfl (Nat.le_of_ble_eq_true rfl) (sJ16_bitCount l D g2 A13 g15 hg15) dX7_go_109 ?_
      refine rf_iadd X dX7_go_112 ?_
      refine rf_bind (fun A16 hA16 => ?_)
      refine rf_putI X fp_X7_103 (fun h => by cases h) hA16 dX7_go_113 ?_
      refine rf_aload_n X rfl dX7_go_116 ?_
      refine rf_dup X rfl dX7_go_117 ?_
      refine rf_bind (fun v17 hv17 => ?_)
      refine rf_getI X fl_X7_106 hv17 dX7_go_118 ?_
      refine rf_iload X rfl dX7_go_121 ?_
      refine rf_iload_n X rfl dX7_go_123 ?_
      refine rf_jn2 (fun i => ∀ (y19 : Int32), RfX X l e below wU (i y19) 132 [some (tR (some a0)), some (tR p1), some (tR p2), some (tI p3), some (tR p4), some (tI g2), none, none] [tI y19, tI v17, tR (some a0)] A16) ?_ (fun j18 hj18 => ?_)
      · intro y19
        refine rf_iadd X dX7_go_132 ?_
        refine rf_bind (fun A20 hA20 => ?_)
        refine rf_putI X fp_X7_106 (fun h => by cases h) hA20 dX7_go_133 ?_
        refine rf_aload_n X rfl dX7_go_136 ?_
        refine rf_bind (fun v21 hv21 => ?_)
        refine rf_getI X fl_X7_97 hv21 dX7_go_137 ?_
        refine rf_aload_n X rfl dX7_go_140 ?_
        refine rf_aload_n X rfl dX7_go_141 ?_
        refine rf_aload_n X rfl dX7_go_142 ?_
        refine rf_iload X rfl dX7_go_143 ?_
        refine rf_aload X rfl dX7_go_145 ?_
        refine rf_bind (fun v22 hv22 => ?_)
        refine rf_bind (fun g23 hg23 => ?_)
        refine rf_callVI X c_X7_289 ⟨Nat.le_of_ble_eq_true rfl, Nat.le_of_ble_eq_true rfl⟩ [tR p1, tR p2, tI g2, tR p4] rfl (Nat.le_of_ble_eq_true rfl) hv22 (sX7_takes l D n v22 p1 p2 g2 p4 A20 g23 hg23) dX7_go_147 ?_
        refine rf_iadd X dX7_go_150 ?_
        refine rf_istore X (ls' := [some (tR (some a0)), some (tR p1), some (tR p2), some (tI p3), some (tR p4), some (tI g2), some (tI (v21 + g23.1)), none]) rfl (by decide) dX7_go_151 ?_
        refine rf_iconst X (0 : Int32) rfl dX7_go_153 ?_
        refine rf_istore X (ls' := [some (tR (some a0)), some (tR p1), some (tR p2), some (tI p3), some (tR p4), some (tI g2), some (tI (v21 + g23.1)), some (tI (0 : Int32))]) rfl (by decide) dX7_go_154 ?_
        refine rf_fix (fun i => ∀ (x25 : Int32) (A26 : AH), RfX X l e below wU (i x25 A26) 156 [some (tR (some a0)), some (tR p1), some (tR p2), some (tI p3), some (tR p4), some (tI g2), some (tI (v21 + g23.1)), some (tI x25)] [] A26) (fun _ _ => rf_none) (fun rc27 hrc27 => ?_) (fun j24 hj24 => ?_)
        · intro x25 A26
          refine rf_iload X rfl dX7_go_156 ?_
          refine rf_aload_n X rfl dX7_go_158 ?_
          refine rf_bind (fun v28 hv28 => ?_)
          refine rf_getR X fl_X7_243 hv28 dX7_go_159 ?_
          refine rf_bind (fun v29 hv29 => ?_)
          refine rf_bind (fun g30 hg30 => ?_)
          refine rf_callVI X c_X7_118 ⟨Nat.le_of_ble_eq_true rfl, Nat.le_of_ble_eq_true rfl⟩ [] rfl (Nat.le_of_ble_eq_true rfl) hv29 (sJ2_size l D v29 A26 g30 hg30) dX7_go_162 ?_
          refine rf_icmp_ge X (tgt := 200) rfl dX7_go_165 (fun c31 => rf_pos c31 ?_) (fun c31 => rf_neg c31 ?_)
          · refine rf_aload X rfl dX7_go_200 ?_
            refine rf_bind (fun v32 hv32 => ?_)
            refine rf_getR X fl_X7_293 hv32 dX7_go_202 ?_
            refine rf_getsR X 3 (fun D => by simp [statD]) (Or.inl q1399) dX7_go_205 ?_
            refine rf_jn2 (fun i => ∀ (A34 : AH), RfX X l e below wU (i A34) 264 [some (tR (some a0)), some (tR p1), some (tR p2), none, some (tR p4), none, some (tI (v21 + g23.1)), none] [] A34) ?_ (fun j33 hj33 => ?_)
            · intro A34
              refine rf_aload_n X rfl dX7_go_264 ?_
              refine rf_aload X rfl dX7_go_265 ?_
              refine rf_iload X rfl dX7_go_267 ?_
              refine rf_bind (fun v35 hv35 => ?_)
              refine rf_bind (fun g36 hg36 => ?_)
              refine rf_callVU X c_X7_309 ⟨Nat.le_of_ble_eq_true rfl, Nat.le_of_ble_eq_true rfl⟩ [tR p4, tI (v21 + g23.1)] rfl (Nat.le_of_ble_eq_true rfl) hv35 (sX13_wrote l D v35 p4 (v21 + g23.1) A34 g36 hg36) dX7_go_269 ?_
              refine rf_aload X rfl dX7_go_272 ?_
              refine rf_bind (fun v37 hv37 => ?_)
              refine rf_getI X fl_X7_313 hv37 dX7_go_274 ?_
              refine rf_iconst X (1 : Int32) rfl dX7_go_277 ?_
              refine rf_icmp_le X (tgt := 282) rfl dX7_go_278 (fun c38 => rf_pos c38 ?_) (fun c38 => rf_neg c38 ?_)
              · refine rf_aload_n X rfl dX7_go_282 ?_
                refine rf_bind (fun v39 hv39 => ?_)
                refine rf_getR X fl_X7_268 hv39 dX7_go_283 ?_
                refine rf_bind (fun v40 hv40 => ?_)
                refine rf_bind (fun g41 hg41 => ?_)
                refine rf_callVU X c_X7_314 ⟨Nat.le_of_ble_eq_true rfl, Nat.le_of_ble_eq_true rfl⟩ [] rfl (Nat.le_of_ble_eq_true rfl) hv40 (sX12_look l D n v40 g36 g41 hg41) dX7_go_286 ?_
                refine rf_aload_n X rfl dX7_go_289 ?_
                refine rf_bind (fun v42 hv42 => ?_)
                refine rf_getR X fl_X7_268 hv42 dX7_go_290 ?_
                refine rf_bind (fun v43 hv43 => ?_)
                refine rf_bind (fun g44 hg44 => ?_)
                refine rf_callVI X c_X7_317 ⟨Nat.le_of_ble_eq_true rfl, Nat.le_of_ble_eq_true rfl⟩ [] rfl (Nat.le_of_ble_eq_true rfl) hv43 (sX12_isOver l D n v43 g41 g44 hg44) dX7_go_293 ?_
                refine rf_if_ne X (tgt := 300) rfl dX7_go_296 (fun c45 => rf_neg c45 ?_) (fun c45 => rf_pos c45 ?_)
                · refine rf_aload_n X rfl dX7_go_300 ?_
                  refine rf_getR X fl_X7_268 hv42 dX7_go_301 ?_
                  refine rf_astore X (ls' := [some (tR (some a0)), some (tR p1), some (tR p2), none, some (tR p4), none, some (tI (v21 + g23.1)), some (tR v42)]) rfl (by decide) dX7_go_304 ?_
                  refine rf_aload_n X rfl dX7_go_306 ?_
                  refine rf_aload X rfl dX7_go_307 ?_
                  refine rf_bind (fun v46 hv46 => ?_)
                  refine rf_bind (fun g47 hg47 => ?_)
                  refine rf_callVU X c_X7_320 ⟨Nat.le_of_ble_eq_true rfl, Nat.le_of_ble_eq_true rfl⟩ [tR v42] rfl (Nat.le_of_ble_eq_true rfl) hv46 (sX8_leave l D n v46 v42 g41 g47 hg47) dX7_go_309 ?_
                  refine rf_aload_n X rfl dX7_go_312 ?_
                  refine rf_bind (fun v48 hv48 => ?_)
                  refine rf_getR X fl_X7_40 hv48 dX7_go_313 ?_
                  refine rf_aload X rfl dX7_go_316 ?_
                  refine rf_bind (fun v49 hv49 => ?_)
                  refine rf_bind (fun g50 hg50 => ?_)
                  refine rf_callVU X c_X7_323 ⟨Nat.le_of_ble_eq_true rfl, Nat.le_of_ble_eq_true rfl⟩ [tR v42] rfl (Nat.le_of_ble_eq_true rfl) hv49 (sX2_free l D n v49 v42 g47 g50 hg50) dX7_go_318 ?_
                  refine rf_aload_n X rfl dX7_go_321 ?_
                  refine rf_dup X rfl dX7_go_322 ?_
                  refine rf_bind (fun v51 hv51 => ?_)
                  refine rf_getI X fl_X7_94 hv51 dX7_go_323 ?_
                  refine rf_iconst X (1 : Int32) rfl dX7_go_326 ?_
                  refine rf_iadd X dX7_go_327 ?_
                  refine rf_bind (fun A52 hA52 => ?_)
                  refine rf_putI X fp_X7_94 (fun h => by cases h) hA52 dX7_go_328 ?_
                  exact rf_vret X rfl dX7_go_331
                exact rf_vret X rfl dX7_go_299
              exact rf_vret X rfl dX7_go_281
            refine rf_acmp_ne X (tgt := 223) rfl dX7_go_208 (fun c53 => rf_neg c53 ?_) (fun c53 => rf_pos c53 ?_)
            · refine rf_iconst X (0 : Int32) rfl dX7_go_223 ?_
              refine rf_istore X (ls' := [some (tR (some a0)), some (tR p1), some (tR p2), some (tI p3), some (tR p4), some (tI g2), some (tI (v21 + g23.1)), some (tI (0 : Int32))]) rfl (by decide) dX7_go_224 ?_
              refine rf_fix (fun i => ∀ (x57 : Int32) (A58 : AH), RfX X l e below wU (i x57 A58) 226 [some (tR (some a0)), some (tR p1), some (tR p2), none, some (tR p4), some (tI g2), some (tI (v21 + g23.1)), some (tI x57)] [] A58) (fun _ _ => rf_none) (fun rc59 hrc59 => ?_) (fun j56 hj56 => ?_)
              · intro x57 A58
                refine rf_iload X rfl dX7_go_226 ?_
                refine rf_aload_n X rfl dX7_go_228 ?_
                refine rf_bind (fun v60 hv60 => ?_)
                refine rf_getR X fl_X7_243 hv60 dX7_go_229 ?_
                refine rf_bind (fun v61 hv61 => ?_)
                refine rf_bind (fun g62 hg62 => ?_)
                refine rf_callVI X c_X7_118 ⟨Nat.le_of_ble_eq_true rfl, Nat.le_of_ble_eq_true rfl⟩ [] rfl (Nat.le_of_ble_eq_true rfl) hv61 (sJ2_size l D v61 A58 g62 hg62) dX7_go_232 ?_
                refine rf_icmp_ge X (tgt := 264) rfl dX7_go_235 (fun c63 => rf_pos c63 ?_) (fun c63 => rf_neg c63 ?_)
                · exact rf_go (hj33 A58) (And.intro rfl (And.intro rfl (And.intro rfl (And.intro rfl (And.intro rfl True.intro)))))
                refine rf_iload X rfl dX7_go_238 ?_
                refine rf_iload X rfl dX7_go_240 ?_
                refine rf_ishr X dX7_go_242 ?_
                refine rf_iconst X (1 : Int32) rfl dX7_go_243 ?_
                refine rf_iand X dX7_go_244 ?_
                refine rf_iconst X (1 : Int32) rfl dX7_go_245 ?_
                refine rf_jn2 (fun i => ∀ (A65 : AH), RfX X l e below wU (i A65) 258 [some (tR (some a0)), some (tR p1), some (tR p2), none, some (tR p4), some (tI g2), some (tI (v21 + g23.1)), some (tI x57)] [] A65) ?_ (fun j64 hj64 => ?_)
                · intro A65
                  refine rf_iinc X (x57 + (1 : Int32)) rfl rfl (ls' := [some (tR (some a0)), some (tR p1), some (tR p2), none, some (tR p4), some (tI g2), some (tI (v21 + g23.1)), some (tI (x57 + (1 : Int32)))]) rfl (by decide) dX7_go_258 ?_
                  refine rf_goto X (tgt := 226) rfl dX7_go_261 ?_
                  exact rf_go (hrc59 (x57 + (1 : Int32)) A65) (And.intro rfl (And.intro rfl (And.intro rfl (And.intro rfl (And.intro rfl (And.intro rfl (And.intro rfl True.intro)))))))
                refine rf_icmp_ne X (tgt := 258) rfl dX7_go_246 (fun c66 => rf_neg c66 ?_) (fun c66 => rf_pos c66 ?_)
                · exact rf_go (hj64 A58) (And.intro rfl (And.intro rfl (And.intro rfl (And.intro rfl (And.intro rfl (And.intro rfl (And.intro rfl True.intro)))))))
                refine rf_aload_n X rfl dX7_go_249 ?_
                refine rf_aload_n X rfl dX7_go_250 ?_
                refine rf_iload X rfl dX7_go_251 ?_
                refine rf_aload X rfl dX7_go_253 ?_
                refine rf_bind (fun v67 hv67 => ?_)
                refine rf_bind (fun g68 hg68 => ?_)
                refine rf_callVU X c_X7_306 ⟨Nat.le_of_ble_eq_true rfl, Nat.le_of_ble_eq_true rfl⟩ [tR p2, tI x57, tR p4] rfl (Nat.le_of_ble_eq_true rfl) hv67 (sX7_act l D n v67 p2 x57 p4 A58 g68 hg68) dX7_go_255 ?_
                exact rf_go (hj64 g68) (And.intro rfl (And.intro rfl (And.intro rfl (And.intro rfl (And.intro rfl (And.intro rfl (And.intro rfl True.intro)))))))
              exact rf_go (hj56 (0 : Int32) A26) (And.intro rfl (And.intro rfl (And.intro rfl (And.intro rfl (And.intro rfl (And.intro rfl (And.intro rfl True.intro)))))))
            refine rf_aload_n X rfl dX7_go_211 ?_
            refine rf_aload_n X rfl dX7_go_212 ?_
            refine rf_iload X rfl dX7_go_213 ?_
            refine rf_aload X rfl dX7_go_215 ?_
            refine rf_bind (fun v54 hv54 => ?_)
            refine rf_bind (fun g55 hg55 => ?_)
            refine rf_callVU X c_X7_302 ⟨Nat.le_of_ble_eq_true rfl, Nat.le_of_ble_eq_true rfl⟩ [tR p2, tI g2, tR p4] rfl (Nat.le_of_ble_eq_true rfl) hv54 (sX7_vote l D n v54 p2 g2 p4 A26 g55 hg55) dX7_go_217 ?_
            refine rf_goto X (tgt := 264) rfl dX7_go_220 ?_
            exact rf_go (hj33 g55) (And.intro rfl (And.intro rfl (And.intro rfl (And.intro rfl (And.intro rfl True.intro)))))
          refine rf_aload_n X rfl dX7_go_168 ?_
          refine rf_getR X fl_X7_243 hv28 dX7_go_169 ?_
          refine rf_iload X rfl dX7_go_172 ?_
          refine rf_bind (fun g69 hg69 => ?_)
          refine rf_callVI X c_X7_122 ⟨Nat.le_of_ble_eq_true rfl, Nat.le_of_ble_eq_true rfl⟩ [tI x25] rfl (Nat.le_of_ble_eq_true rfl) hv29 (sJ2_get l D v29 x25 A26 g69 hg69) dX7_go_174 ?_
          refine rf_bind (fun v70 hv70 => ?_)
          refine rf_cast X (ci := 14) rfl rfl q1251 hv70 dX7_go_177 ?_
          refine rf_dup X rfl dX7_go_180 ?_
          refine rf_bind (fun v71 hv71 => ?_)
          refine rf_getI X fl_X7_245 hv71 dX7_go_181 ?_
          refine rf_iload_n X rfl dX7_go_184 ?_
          refine rf_iload X rfl dX7_go_185 ?_
          refine rf_ishr X dX7_go_187 ?_
          refine rf_iconst X (1 : Int32) rfl dX7_go_188 ?_
          refine rf_iand X dX7_go_189 ?_
          refine rf_iadd X dX7_go_190 ?_
          refine rf_bind (fun A72 hA72 => ?_)
          refine rf_putI X fp_X7_245 (fun h => by cases h) hA72 dX7_go_191 ?_
          refine rf_iinc X (x25 + (1 : Int32)) rfl rfl (ls' := [some (tR (some a0)), some (tR p1), some (tR p2), some (tI p3), some (tR p4), some (tI g2), some (tI (v21 + g23.1)), some (tI (x25 + (1 : Int32)))]) rfl (by decide) dX7_go_194 ?_
          refine rf_goto X (tgt := 156) rfl dX7_go_197 ?_
          exact rf_go (hrc27 (x25 + (1 : Int32)) A72) (And.intro rfl (And.intro rfl (And.intro rfl (And.intro rfl (And.intro rfl (And.intro rfl (And.intro rfl (And.intro rfl True.intro))))))))
        exact rf_go (hj24 (0 : Int32) g23.2) (And.intro rfl (And.intro rfl (And.intro rfl (And.intro rfl (And.intro rfl (And.intro rfl (And.intro rfl (And.intro rfl True.intro))))))))
      refine rf_icmp_ne X (tgt := 131) rfl dX7_go_124 (fun c73 => rf_neg c73 ?_) (fun c73 => rf_pos c73 ?_)
      · refine rf_iconst X (1 : Int32) rfl dX7_go_131 ?_
        exact rf_go (hj18 (1 : Int32)) (And.intro rfl (And.intro rfl (And.intro rfl (And.intro rfl (And.intro rfl (And.intro rfl True.intro))))))
      refine rf_iconst X (0 : Int32) rfl dX7_go_127 ?_
      refine rf_goto X (tgt := 132) rfl dX7_go_128 ?_
      exact rf_go (hj18 (0 : Int32)) (And.intro rfl (And.intro rfl (And.intro rfl (And.intro rfl (And.intro rfl (And.intro rfl True.intro))))))
    refine rf_iload X rfl dX7_go_24 ?_
    refine rf_iload X rfl dX7_go_26 ?_
    refine rf_ishr X dX7_go_28 ?_
    refine rf_iconst X (1 : Int32) rfl dX7_go_29 ?_
    refine rf_iand X dX7_go_30 ?_
    refine rf_jn2 (fun i => ∀ (y75 : Int32), RfX X l e below wU (i y75) 56 [some (tR (some a0)), some (tR p1), some (tR p2), some (tI p3), some (tR p4), some (tI g2), some (tI x4), none] [tI y75] A) ?_ (fun j74 hj74 => ?_)
    · intro y75
      refine rf_istore X (ls' := [some (tR (some a0)), some (tR p1), some (tR p2), some (tI p3), some (tR p4), some (tI g2), some (tI x4), some (tI y75)]) rfl (by decide) dX7_go_56 ?_
      refine rf_iload X rfl dX7_go_58 ?_
      refine rf_if_ne X (tgt := 66) rfl dX7_go_60 (fun c76 => rf_neg c76 ?_) (fun c76 => rf_pos c76 ?_)
      · refine rf_aload_n X rfl dX7_go_66 ?_
        refine rf_aload_n X rfl dX7_go_67 ?_
        refine rf_iload X rfl dX7_go_68 ?_
        refine rf_iload X rfl dX7_go_70 ?_
        refine rf_bind (fun v77 hv77 => ?_)
        refine rf_bind (fun g78 hg78 => ?_)
        refine rf_callVU X c_X7_257 ⟨Nat.le_of_ble_eq_true rfl, Nat.le_of_ble_eq_true rfl⟩ [tR p2, tI x4, tI y75] rfl (Nat.le_of_ble_eq_true rfl) hv77 (sX7_trap l D v77 p2 x4 y75 A g78 hg78) dX7_go_72 ?_
        exact rf_vret X rfl dX7_go_75
      refine rf_goto X (tgt := 76) rfl dX7_go_63 ?_
      refine rf_iinc X (x4 + (1 : Int32)) rfl rfl (ls' := [some (tR (some a0)), some (tR p1), some (tR p2), some (tI p3), some (tR p4), some (tI g2), some (tI (x4 + (1 : Int32))), some (tI y75)]) rfl (by decide) dX7_go_76 ?_
      refine rf_goto X (tgt := 12) rfl dX7_go_79 ?_
      exact rf_go (hrc5 (x4 + (1 : Int32))) (And.intro rfl (And.intro rfl (And.intro rfl (And.intro rfl (And.intro rfl (And.intro rfl (And.intro rfl True.intro)))))))
    refine rf_if_ne X (tgt := 38) rfl dX7_go_31 (fun c79 => rf_neg c79 ?_) (fun c79 => rf_pos c79 ?_)
    · refine rf_aload_n X rfl dX7_go_38 ?_
      refine rf_aload_n X rfl dX7_go_39 ?_
      refine rf_getR X fl_X7_243 hv6 dX7_go_40 ?_
      refine rf_iload X rfl dX7_go_43 ?_
      refine rf_bind (fun g80 hg80 => ?_)
      refine rf_callVI X c_X7_122 ⟨Nat.le_of_ble_eq_true rfl, Nat.le_of_ble_eq_true rfl⟩ [tI x4] rfl (Nat.le_of_ble_eq_true rfl) hv7 (sJ2_get l D v7 x4 A g80 hg80) dX7_go_45 ?_
      refine rf_bind (fun v81 hv81 => ?_)
      refine rf_cast X (ci := 14) rfl rfl q1251 hv81 dX7_go_48 ?_
      refine rf_aload X rfl dX7_go_51 ?_
      refine rf_bind (fun v82 hv82 => ?_)
      refine rf_bind (fun g83 hg83 => ?_)
      refine rf_callVI X c_X7_281 ⟨Nat.le_of_ble_eq_true rfl, Nat.le_of_ble_eq_true rfl⟩ [tR g80, tR p4] rfl (Nat.le_of_ble_eq_true rfl) hv82 (sX7_trouble l D v82 g80 p4 A g83 hg83) dX7_go_53 ?_
      exact rf_go (hj74 g83) (And.intro rfl (And.intro rfl (And.intro rfl (And.intro rfl (And.intro rfl (And.intro rfl (And.intro rfl True.intro)))))))
    refine rf_iconst X (0 : Int32) rfl dX7_go_34 ?_
    refine rf_goto X (tgt := 56) rfl dX7_go_35 ?_
    exact rf_go (hj74 (0 : Int32)) (And.intro rfl (And.intro rfl (And.intro rfl (And.intro rfl (And.intro rfl (And.intro rfl (And.intro rfl True.intro)))))))
  exact rf_go (hj3 (0 : Int32)) (And.intro rfl (And.intro rfl (And.intro rfl (And.intro rfl (And.intro rfl (And.intro rfl (And.intro rfl True.intro)))))))

theorem dX7_issue_0 : decode cX7_issue 0 = .ok (.iconst 1, 1) := by decide +kernel
theorem dX7_issue_1 : decode cX7_issue 1 = .ok (.istore_n 2, 1) := by decide +kernel
theorem dX7_issue_2 : decode cX7_issue 2 = .ok (.iload_n 2, 1) := by decide +kernel
theorem dX7_issue_3 : decode cX7_issue 3 = .ok (.aload_n 0, 1) := by decide +kernel
theorem dX7_issue_4 : decode cX7_issue 4 = .ok (.getfield 24, 3) := by decide +kernel
theorem dX7_issue_7 : decode cX7_issue 7 = .ok (.if_icmp .gt 227, 3) := by decide +kernel
theorem dX7_issue_10 : decode cX7_issue 10 = .ok (.aload_n 1, 1) := by decide +kernel
theorem dX7_issue_11 : decode cX7_issue 11 = .ok (.getfield 226, 3) := by decide +kernel
theorem dX7_issue_14 : decode cX7_issue 14 = .ok (.iload_n 2, 1) := by decide +kernel
theorem dX7_issue_15 : decode cX7_issue 15 = .ok (.iadd, 1) := by decide +kernel
theorem dX7_issue_16 : decode cX7_issue 16 = .ok (.aload_n 0, 1) := by decide +kernel
theorem dX7_issue_17 : decode cX7_issue 17 = .ok (.getfield 24, 3) := by decide +kernel
theorem dX7_issue_20 : decode cX7_issue 20 = .ok (.irem, 1) := by decide +kernel
theorem dX7_issue_21 : decode cX7_issue 21 = .ok (.istore_n 3, 1) := by decide +kernel
theorem dX7_issue_22 : decode cX7_issue 22 = .ok (.aload_n 1, 1) := by decide +kernel
theorem dX7_issue_23 : decode cX7_issue 23 = .ok (.getfield 229, 3) := by decide +kernel
theorem dX7_issue_26 : decode cX7_issue 26 = .ok (.iload_n 3, 1) := by decide +kernel
theorem dX7_issue_27 : decode cX7_issue 27 = .ok (.aaload, 1) := by decide +kernel
theorem dX7_issue_28 : decode cX7_issue 28 = .ok (.astore 4, 2) := by decide +kernel
theorem dX7_issue_30 : decode cX7_issue 30 = .ok (.aload 4, 2) := by decide +kernel
theorem dX7_issue_32 : decode cX7_issue 32 = .ok (.ifnonnull 7, 3) := by decide +kernel
theorem dX7_issue_35 : decode cX7_issue 35 = .ok (.iconst 0, 1) := by decide +kernel
theorem dX7_issue_36 : decode cX7_issue 36 = .ok (.goto 8, 3) := by decide +kernel
theorem dX7_issue_39 : decode cX7_issue 39 = .ok (.aload 4, 2) := by decide +kernel
theorem dX7_issue_41 : decode cX7_issue 41 = .ok (.invokevirtual 232, 3) := by decide +kernel
theorem dX7_issue_44 : decode cX7_issue 44 = .ok (.istore 5, 2) := by decide +kernel
theorem dX7_issue_46 : decode cX7_issue 46 = .ok (.iload 5, 2) := by decide +kernel
theorem dX7_issue_48 : decode cX7_issue 48 = .ok (.ifCond .ne 6, 3) := by decide +kernel
theorem dX7_issue_51 : decode cX7_issue 51 = .ok (.goto 177, 3) := by decide +kernel
theorem dX7_issue_54 : decode cX7_issue 54 = .ok (.iload 5, 2) := by decide +kernel
theorem dX7_issue_56 : decode cX7_issue 56 = .ok (.invokestatic 237, 3) := by decide +kernel
theorem dX7_issue_59 : decode cX7_issue 59 = .ok (.istore 6, 2) := by decide +kernel
theorem dX7_issue_61 : decode cX7_issue 61 = .ok (.aload 4, 2) := by decide +kernel
theorem dX7_issue_63 : decode cX7_issue 63 = .ok (.getfield 243, 3) := by decide +kernel
theorem dX7_issue_66 : decode cX7_issue 66 = .ok (.iload 6, 2) := by decide +kernel
theorem dX7_issue_68 : decode cX7_issue 68 = .ok (.invokevirtual 122, 3) := by decide +kernel
theorem dX7_issue_71 : decode cX7_issue 71 = .ok (.checkcast 204, 3) := by decide +kernel
theorem dX7_issue_74 : decode cX7_issue 74 = .ok (.getfield 245, 3) := by decide +kernel
theorem dX7_issue_77 : decode cX7_issue 77 = .ok (.istore 7, 2) := by decide +kernel
theorem dX7_issue_79 : decode cX7_issue 79 = .ok (.iload 7, 2) := by decide +kernel
theorem dX7_issue_81 : decode cX7_issue 81 = .ok (.ifCond .lt 15, 3) := by decide +kernel
theorem dX7_issue_84 : decode cX7_issue 84 = .ok (.iload 7, 2) := by decide +kernel
theorem dX7_issue_86 : decode cX7_issue 86 = .ok (.sipush 128, 3) := by decide +kernel
theorem dX7_issue_89 : decode cX7_issue 89 = .ok (.if_icmp .ge 7, 3) := by decide +kernel
theorem dX7_issue_92 : decode cX7_issue 92 = .ok (.iconst 1, 1) := by decide +kernel
theorem dX7_issue_93 : decode cX7_issue 93 = .ok (.goto 4, 3) := by decide +kernel
theorem dX7_issue_96 : decode cX7_issue 96 = .ok (.iconst 0, 1) := by decide +kernel
theorem dX7_issue_97 : decode cX7_issue 97 = .ok (.istore 8, 2) := by decide +kernel
theorem dX7_issue_99 : decode cX7_issue 99 = .ok (.iload 8, 2) := by decide +kernel
theorem dX7_issue_101 : decode cX7_issue 101 = .ok (.ifCond .eq 53, 3) := by decide +kernel
theorem dX7_issue_104 : decode cX7_issue 104 = .ok (.aload 4, 2) := by decide +kernel
theorem dX7_issue_106 : decode cX7_issue 106 = .ok (.aload_n 0, 1) := by decide +kernel
theorem dX7_issue_107 : decode cX7_issue 107 = .ok (.getfield 33, 3) := by decide +kernel
theorem dX7_issue_110 : decode cX7_issue 110 = .ok (.iload 7, 2) := by decide +kernel
theorem dX7_issue_112 : decode cX7_issue 112 = .ok (.invokevirtual 122, 3) := by decide +kernel
theorem dX7_issue_115 : decode cX7_issue 115 = .ok (.checkcast 248, 3) := by decide +kernel
theorem dX7_issue_118 : decode cX7_issue 118 = .ok (.aload_n 0, 1) := by decide +kernel
theorem dX7_issue_119 : decode cX7_issue 119 = .ok (.getfield 97, 3) := by decide +kernel
theorem dX7_issue_122 : decode cX7_issue 122 = .ok (.invokevirtual 250, 3) := by decide +kernel
theorem dX7_issue_125 : decode cX7_issue 125 = .ok (.ifCond .eq 103, 3) := by decide +kernel
theorem dX7_issue_128 : decode cX7_issue 128 = .ok (.aload_n 1, 1) := by decide +kernel
theorem dX7_issue_129 : decode cX7_issue 129 = .ok (.aload_n 0, 1) := by decide +kernel
theorem dX7_issue_130 : decode cX7_issue 130 = .ok (.getfield 33, 3) := by decide +kernel
theorem dX7_issue_133 : decode cX7_issue 133 = .ok (.iload 7, 2) := by decide +kernel
theorem dX7_issue_135 : decode cX7_issue 135 = .ok (.invokevirtual 122, 3) := by decide +kernel
theorem dX7_issue_138 : decode cX7_issue 138 = .ok (.checkcast 248, 3) := by decide +kernel
theorem dX7_issue_141 : decode cX7_issue 141 = .ok (.aload_n 0, 1) := by decide +kernel
theorem dX7_issue_142 : decode cX7_issue 142 = .ok (.getfield 97, 3) := by decide +kernel
theorem dX7_issue_145 : decode cX7_issue 145 = .ok (.invokevirtual 254, 3) := by decide +kernel
theorem dX7_issue_148 : decode cX7_issue 148 = .ok (.ifCond .ne 6, 3) := by decide +kernel
theorem dX7_issue_151 : decode cX7_issue 151 = .ok (.goto 77, 3) := by decide +kernel
theorem dX7_issue_154 : decode cX7_issue 154 = .ok (.aload_n 1, 1) := by decide +kernel
theorem dX7_issue_155 : decode cX7_issue 155 = .ok (.iload_n 3, 1) := by decide +kernel
theorem dX7_issue_156 : decode cX7_issue 156 = .ok (.putfield 226, 3) := by decide +kernel
theorem dX7_issue_159 : decode cX7_issue 159 = .ok (.iload 8, 2) := by decide +kernel
theorem dX7_issue_161 : decode cX7_issue 161 = .ok (.ifCond .ne 15, 3) := by decide +kernel
theorem dX7_issue_164 : decode cX7_issue 164 = .ok (.aload_n 0, 1) := by decide +kernel
theorem dX7_issue_165 : decode cX7_issue 165 = .ok (.aload 4, 2) := by decide +kernel
theorem dX7_issue_167 : decode cX7_issue 167 = .ok (.iload 6, 2) := by decide +kernel
theorem dX7_issue_169 : decode cX7_issue 169 = .ok (.iconst 1, 1) := by decide +kernel
theorem dX7_issue_170 : decode cX7_issue 170 = .ok (.invokevirtual 257, 3) := by decide +kernel
theorem dX7_issue_173 : decode cX7_issue 173 = .ok (.goto 54, 3) := by decide +kernel
theorem dX7_issue_176 : decode cX7_issue 176 = .ok (.aload_n 0, 1) := by decide +kernel
theorem dX7_issue_177 : decode cX7_issue 177 = .ok (.getfield 33, 3) := by decide +kernel
theorem dX7_issue_180 : decode cX7_issue 180 = .ok (.iload 7, 2) := by decide +kernel
theorem dX7_issue_182 : decode cX7_issue 182 = .ok (.invokevirtual 122, 3) := by decide +kernel
theorem dX7_issue_185 : decode cX7_issue 185 = .ok (.checkcast 248, 3) := by decide +kernel
theorem dX7_issue_188 : decode cX7_issue 188 = .ok (.invokevirtual 261, 3) := by decide +kernel
theorem dX7_issue_191 : decode cX7_issue 191 = .ok (.ifCond .ne 15, 3) := by decide +kernel
theorem dX7_issue_194 : decode cX7_issue 194 = .ok (.aload_n 0, 1) := by decide +kernel
theorem dX7_issue_195 : decode cX7_issue 195 = .ok (.aload 4, 2) := by decide +kernel
theorem dX7_issue_197 : decode cX7_issue 197 = .ok (.iload 6, 2) := by decide +kernel
theorem dX7_issue_199 : decode cX7_issue 199 = .ok (.iconst 2, 1) := by decide +kernel
theorem dX7_issue_200 : decode cX7_issue 200 = .ok (.invokevirtual 257, 3) := by decide +kernel
theorem dX7_issue_203 : decode cX7_issue 203 = .ok (.goto 24, 3) := by decide +kernel
theorem dX7_issue_206 : decode cX7_issue 206 = .ok (.aload_n 0, 1) := by decide +kernel
theorem dX7_issue_207 : decode cX7_issue 207 = .ok (.aload_n 1, 1) := by decide +kernel
theorem dX7_issue_208 : decode cX7_issue 208 = .ok (.aload 4, 2) := by decide +kernel
theorem dX7_issue_210 : decode cX7_issue 210 = .ok (.iload 5, 2) := by decide +kernel
theorem dX7_issue_212 : decode cX7_issue 212 = .ok (.aload_n 0, 1) := by decide +kernel
theorem dX7_issue_213 : decode cX7_issue 213 = .ok (.getfield 33, 3) := by decide +kernel
theorem dX7_issue_216 : decode cX7_issue 216 = .ok (.iload 7, 2) := by decide +kernel
theorem dX7_issue_218 : decode cX7_issue 218 = .ok (.invokevirtual 122, 3) := by decide +kernel
theorem dX7_issue_221 : decode cX7_issue 221 = .ok (.checkcast 248, 3) := by decide +kernel
theorem dX7_issue_224 : decode cX7_issue 224 = .ok (.invokevirtual 264, 3) := by decide +kernel
theorem dX7_issue_227 : decode cX7_issue 227 = .ok (.return_, 1) := by decide +kernel
theorem dX7_issue_228 : decode cX7_issue 228 = .ok (.iinc 2 1, 3) := by decide +kernel
theorem dX7_issue_231 : decode cX7_issue 231 = .ok (.goto (-229), 3) := by decide +kernel
theorem dX7_issue_234 : decode cX7_issue 234 = .ok (.return_, 1) := by decide +kernel
def fX7_issue (n : Nat) (a0 : Nat) (p1 : Option Nat) (A : AH) : Option (AH) :=
jl (fixG (fun _ => none) (fun (rc3 : (Int32) → Option (AH)) (x2 : Int32) =>
(gI A (some a0) 7 1).bind fun v4 =>
if v4 < x2 then (some A) else
(gI A p1 8 1).bind fun v6 =>
(dz v4).bind fun v7 =>
(gR A p1 8 0).bind fun v8 =>
(aR A v8 ((v6 + x2) - (v6 + x2) / v4 * v4)).bind fun v9 =>
jn (fun (y11 : Int32) =>
jn (rc3 (x2 + (1 : Int32))) fun j12 =>
if y11 = 0 then (j12) else
(fJ16_numberOfTrailingZeros y11 A).bind fun g14 =>
(gR A v9 13 2).bind fun v15 =>
(rcv A v15 0).bind fun v16 =>
(fJ2_get v16 g14 A).bind fun g17 =>
(cst A g17 14).bind fun v18 =>
(gI A g17 14 2).bind fun v19 =>
jn (fun (y21 : Int32) =>
jn ((pI A p1 8 1 ((v6 + x2) - (v6 + x2) / v4 * v4)).bind fun A23 =>
jn (fun (A25 : AH) =>
some A25) fun j24 =>
if y21 = 0 then ((rcv A23 (some a0) 7).bind fun v27 =>
(fX7_trap v27 v9 g14 (1 : Int32) A23).bind fun g28 =>
j24 g28) else
(gR A23 (some a0) 7 4).bind fun v29 =>
(rcv A23 v29 0).bind fun v30 =>
(fJ2_get v30 v19 A23).bind fun g31 =>
(cst A23 g31 5).bind fun v32 =>
(rcv A23 g31 5).bind fun v33 =>
(fX5_isKnown v33 A23).bind fun g34 =>
if g34 = 0 then ((rcv A23 (some a0) 7).bind fun v36 =>
(fX7_trap v36 v9 g14 (2 : Int32) A23).bind fun g37 =>
j24 g37) else
(rcv A23 (some a0) 7).bind fun v38 =>
(fX7_go n v38 p1 v9 y11 g31 A23).bind fun g39 =>
j24 g39) fun j22 =>
if y21 = 0 then (j22) else
(gR A (some a0) 7 4).bind fun v41 =>
(rcv A v41 0).bind fun v42 =>
(fJ2_get v42 v19 A).bind fun g43 =>
(cst A g43 5).bind fun v44 =>
(gI A (some a0) 7 17).bind fun v45 =>
(rcv A v9 13).bind fun v46 =>
(fX13_isThere n v46 g43 v45 A).bind fun g47 =>
if g47 = 0 then (j12) else
(rcv A p1 8).bind fun v49 =>
(fX8_isFree v49 g43 v45 A).bind fun g50 =>
if g50 = 0 then (j12) else
j22) fun j20 =>
if ((v19 < 0) ∨ ((128 : Int32) ≤ v19)) then (j20 (0 : Int32)) else
j20 (1 : Int32)) fun j10 =>
if v9 = none then (j10 (0 : Int32)) else
(rcv A v9 13).bind fun v55 =>
(fX13_group n v55 A).bind fun g56 =>
j10 g56) n) fun j1 =>
j1 (1 : Int32)

set_option maxHeartbeats 4000000 in
set_option maxRecDepth 100000 in
theorem sX7_issue (l : Launch) (D : DE) (n : Nat) (a0 : Nat) (p1 : Option Nat) (A : AH) (g : AH) (hg : fX7_issue n a0 p1 A = some g) : Sm l D yX7_issue cX7_issue 9 none 11 290 [tR (some a0), tR p1] A (wU g).1 (wU g).2 := by
  refine Sm.of (ω := wU) (fX7_issue n a0 p1 A) [some (tR (some a0)), some (tR p1), none, none, none, none, none, none, none] (by decide) (Nat.le_of_ble_eq_true rfl) rfl hg ?_
  intro p e R s m args below meth c X hin
  have X : Cx D cX7_issue RX7 9 11 290 none p R s m args meth c := X
  unfold fX7_issue
  refine rf_iconst X (1 : Int32) rfl dX7_issue_0 ?_
  refine rf_istore_n X (ls' := [some (tR (some a0)), some (tR p1), some (tI (1 : Int32)), none, none, none, none, none, none]) rfl (by decide) dX7_issue_1 ?_
  refine rf_fix (fun i => ∀ (x2 : Int32), RfX X l e below wU (i x2) 2 [some (tR (some a0)), some (tR p1), some (tI x2), none, none, none, none, none, none] [] A) (fun _ => rf_none) (fun rc3 hrc3 => ?_) (fun j1 hj1 => ?_)
  · intro x2
    refine rf_iload_n X rfl dX7_issue_2 ?_
    refine rf_aload_n X rfl dX7_issue_3 ?_
    refine rf_bind (fun v4 hv4 => ?_)
    refine rf_getI X fl_X7_24 hv4 dX7_issue_4 ?_
    refine rf_icmp_gt X (tgt := 234) rfl dX7_issue_7 (fun c5 => rf_pos c5 ?_) (fun c5 => rf_neg c5 ?_)
    · exact rf_vret X rfl dX7_issue_234
    refine rf_aload_n X rfl dX7_issue_10 ?_
    refine rf_bind (fun v6 hv6 => ?_)
    refine rf_getI X fl_X7_226 hv6 dX7_issue_11 ?_
    refine rf_iload_n X rfl dX7_issue_14 ?_
    refine rf_iadd X dX7_issue_15 ?_
    refine rf_aload_n X rfl dX7_issue_16 ?_
    refine rf_getI X fl_X7_24 hv4 dX7_issue_17 ?_
    refine rf_bind (fun v7 hv7 => ?_)
    refine rf_irem X (dz_spec hv7) dX7_issue_20 ?_
    refine rf_istore_n X (ls' := [some (tR (some a0)), some (tR p1), some (tI x2), some (tI ((v6 + x2) - (v6 + x2) / v4 * v4)), none, none, none, none, none]) rfl (by decide) dX7_issue_21 ?_
    refine rf_aload_n X rfl dX7_issue_22 ?_
    refine rf_bind (fun v8 hv8 => ?_)
    refine rf_getR X fl_X7_229 hv8 dX7_issue_23 ?_
    refine rf_iload_n X rfl dX7_issue_26 ?_
    refine rf_bind (fun v9 hv9 => ?_)
    refine rf_aald X hv9 dX7_issue_27 ?_
    refine rf_astore X (ls' := [some (tR (some a0)), some (tR p1), some (tI x2), some (tI ((v6 + x2) - (v6 + x2) / v4 * v4)), some (tR v9), none, none, none, none]) rfl (by decide) dX7_issue_28 ?_
    refine rf_aload X rfl dX7_issue_30 ?_
    refine rf_jn2 (fun i => ∀ (y11 : Int32), RfX X l e below wU (i y11) 44 [some (tR (some a0)), some (tR p1), some (tI x2), some (tI ((v6 + x2) - (v6 + x2) / v4 * v4)), some (tR v9), none, none, none, none] [tI y11] A) ?_ (fun j10 hj10 => ?_)
    · intro y11
      refine rf_istore X (ls' := [some (tR (some a0)), some (tR p1), some (tI x2), some (tI ((v6 + x2) - (v6 + x2) / v4 * v4)), some (tR v9), some (tI y11), none, none, none]) rfl (by decide) dX7_issue_44 ?_
      refine rf_iload X rfl dX7_issue_46 ?_
      refine rf_jn2 (fun i => RfX X l e below wU i 228 [some (tR (some a0)), some (tR p1), some (tI x2), none, none, none, none, none, none] [] A) ?_ (fun j12 hj12 => ?_)
      · show RfX X l e below _ _ _ _ _ _
        refine rf_iinc X (x2 + (1 : Int32)) rfl rfl (ls' := [some (tR (some a0)), some (tR p1), some (tI (x2 + (1 : Int32))), none, none, none, none, none, none]) rfl (by decide) dX7_issue_228 ?_
        refine rf_goto X (tgt := 2) rfl dX7_issue_231 ?_
        exact rf_go (hrc3 (x2 + (1 : Int32))) (And.intro rfl (And.intro rfl (And.intro rfl True.intro)))
      refine rf_if_ne X (tgt := 54) rfl dX7_issue_48 (fun c13 => rf_neg c13 ?_) (fun c13 => rf_pos c13 ?_)
      · refine rf_iload X rfl dX7_issue_54 ?_
        refine rf_bind (fun g14 hg14 => ?_)
        refine rf_callSI X c_X7_237 ⟨Nat.le_of_ble_eq_true rfl, Nat.le_of_ble_eq_true rfl⟩ [tI y11] rfl (Nat.le_of_ble_eq_true rfl) (sJ16_numberOfTrailingZeros l D y11 A g14 hg14) dX7_issue_56 ?_
        refine rf_istore X (ls' := [some (tR (some a0)), some (tR p1), some (tI x2), some (tI ((v6 + x2) - (v6 + x2) / v4 * v4)), some (tR v9), some (tI y11), some (tI g14), none, none]) rfl (by decide) dX7_issue_59 ?_
        refine rf_aload X rfl dX7_issue_61 ?_
        refine rf_bind (fun v15 hv15 => ?_)
        refine rf_getR X fl_X7_243 hv15 dX7_issue_63 ?_
        refine rf_iload X rfl dX7_issue_66 ?_
        refine rf_bind (fun v16 hv16 => ?_)
        refine rf_bind (fun g17 hg17 => ?_)
        refine rf_callVI X c_X7_122 ⟨Nat.le_of_ble_eq_true rfl, Nat.le_of_ble_eq_true rfl⟩ [tI g14] rfl (Nat.le_of_ble_eq_true rfl) hv16 (sJ2_get l D v16 g14 A g17 hg17) dX7_issue_68 ?_
        refine rf_bind (fun v18 hv18 => ?_)
        refine rf_cast X (ci := 14) rfl rfl q1251 hv18 dX7_issue_71 ?_
        refine rf_bind (fun v19 hv19 => ?_)
        refine rf_getI X fl_X7_245 hv19 dX7_issue_74 ?_
        refine rf_istore X (ls' := [some (tR (some a0)), some (tR p1), some (tI x2), some (tI ((v6 + x2) - (v6 + x2) / v4 * v4)), some (tR v9), some (tI y11), some (tI g14), some (tI v19), none]) rfl (by decide) dX7_issue_77 ?_
        refine rf_iload X rfl dX7_issue_79 ?_
        refine rf_jn2 (fun i => ∀ (y21 : Int32), RfX X l e below wU (i y21) 97 [some (tR (some a0)), some (tR p1), some (tI x2), some (tI ((v6 + x2) - (v6 + x2) / v4 * v4)), some (tR v9), some (tI y11), some (tI g14), some (tI v19), none] [tI y21] A) ?_ (fun j20 hj20 => ?_)
        · intro y21
          refine rf_istore X (ls' := [some (tR (some a0)), some (tR p1), some (tI x2), some (tI ((v6 + x2) - (v6 + x2) / v4 * v4)), some (tR v9), some (tI y11), some (tI g14), some (tI v19), some (tI y21)]) rfl (by decide) dX7_issue_97 ?_
          refine rf_iload X rfl dX7_issue_99 ?_
          refine rf_jn2 (fun i => RfX X l e below wU i 154 [some (tR (some a0)), some (tR p1), none, some (tI ((v6 + x2) - (v6 + x2) / v4 * v4)), some (tR v9), some (tI y11), some (tI g14), some (tI v19), some (tI y21)] [] A) ?_ (fun j22 hj22 => ?_)
          · show RfX X l e below _ _ _ _ _ _
            refine rf_aload_n X rfl dX7_issue_154 ?_
            refine rf_iload_n X rfl dX7_issue_155 ?_
            refine rf_bind (fun A23 hA23 => ?_)
            refine rf_putI X fp_X7_226 (fun h => by cases h) hA23 dX7_issue_156 ?_
            refine rf_iload X rfl dX7_issue_159 ?_
            refine rf_jn2 (fun i => ∀ (A25 : AH), RfX X l e below wU (i A25) 227 [none, none, none, none, none, none, none, none, none] [] A25) ?_ (fun j24 hj24 => ?_)
            · intro A25
              exact rf_vret X rfl dX7_issue_227
            refine rf_if_ne X (tgt := 176) rfl dX7_issue_161 (fun c26 => rf_neg c26 ?_) (fun c26 => rf_pos c26 ?_)
            · refine rf_aload_n X rfl dX7_issue_176 ?_
              refine rf_bind (fun v29 hv29 => ?_)
              refine rf_getR X fl_X7_33 hv29 dX7_issue_177 ?_
              refine rf_iload X rfl dX7_issue_180 ?_
              refine rf_bind (fun v30 hv30 => ?_)
              refine rf_bind (fun g31 hg31 => ?_)
              refine rf_callVI X c_X7_122 ⟨Nat.le_of_ble_eq_true rfl, Nat.le_of_ble_eq_true rfl⟩ [tI v19] rfl (Nat.le_of_ble_eq_true rfl) hv30 (sJ2_get l D v30 v19 A23 g31 hg31) dX7_issue_182 ?_
              refine rf_bind (fun v32 hv32 => ?_)
              refine rf_cast X (ci := 5) rfl rfl q1252 hv32 dX7_issue_185 ?_
              refine rf_bind (fun v33 hv33 => ?_)
              refine rf_bind (fun g34 hg34 => ?_)
              refine rf_callVI X c_X7_261 ⟨Nat.le_of_ble_eq_true rfl, Nat.le_of_ble_eq_true rfl⟩ [] rfl (Nat.le_of_ble_eq_true rfl) hv33 (sX5_isKnown l D v33 A23 g34 hg34) dX7_issue_188 ?_
              refine rf_if_ne X (tgt := 206) rfl dX7_issue_191 (fun c35 => rf_neg c35 ?_) (fun c35 => rf_pos c35 ?_)
              · refine rf_aload_n X rfl dX7_issue_206 ?_
                refine rf_aload_n X rfl dX7_issue_207 ?_
                refine rf_aload X rfl dX7_issue_208 ?_
                refine rf_iload X rfl dX7_issue_210 ?_
                refine rf_aload_n X rfl dX7_issue_212 ?_
                refine rf_getR X fl_X7_33 hv29 dX7_issue_213 ?_
                refine rf_iload X rfl dX7_issue_216 ?_
                refine rf_callVI X c_X7_122 ⟨Nat.le_of_ble_eq_true rfl, Nat.le_of_ble_eq_true rfl⟩ [tI v19] rfl (Nat.le_of_ble_eq_true rfl) hv30 (sJ2_get l D v30 v19 A23 g31 hg31) dX7_issue_218 ?_
                refine rf_cast X (ci := 5) rfl rfl q1252 hv32 dX7_issue_221 ?_
                refine rf_bind (fun v38 hv38 => ?_)
                refine rf_bind (fun g39 hg39 => ?_)
                refine rf_callVU X c_X7_264 ⟨Nat.le_of_ble_eq_true rfl, Nat.le_of_ble_eq_true rfl⟩ [tR p1, tR v9, tI y11, tR g31] rfl (Nat.le_of_ble_eq_true rfl) hv38 (sX7_go l D n v38 p1 v9 y11 g31 A23 g39 hg39) dX7_issue_224 ?_
                exact rf_go (hj24 g39) True.intro
              refine rf_aload_n X rfl dX7_issue_194 ?_
              refine rf_aload X rfl dX7_issue_195 ?_
              refine rf_iload X rfl dX7_issue_197 ?_
              refine rf_iconst X (2 : Int32) rfl dX7_issue_199 ?_
              refine rf_bind (fun v36 hv36 => ?_)
              refine rf_bind (fun g37 hg37 => ?_)
              refine rf_callVU X c_X7_257 ⟨Nat.le_of_ble_eq_true rfl, Nat.le_of_ble_eq_true rfl⟩ [tR v9, tI g14, tI (2 : Int32)] rfl (Nat.le_of_ble_eq_true rfl) hv36 (sX7_trap l D v36 v9 g14 (2 : Int32) A23 g37 hg37) dX7_issue_200 ?_
              refine rf_goto X (tgt := 227) rfl dX7_issue_203 ?_
              exact rf_go (hj24 g37) True.intro
            refine rf_aload_n X rfl dX7_issue_164 ?_
            refine rf_aload X rfl dX7_issue_165 ?_
            refine rf_iload X rfl dX7_issue_167 ?_
            refine rf_iconst X (1 : Int32) rfl dX7_issue_169 ?_
            refine rf_bind (fun v27 hv27 => ?_)
            refine rf_bind (fun g28 hg28 => ?_)
            refine rf_callVU X c_X7_257 ⟨Nat.le_of_ble_eq_true rfl, Nat.le_of_ble_eq_true rfl⟩ [tR v9, tI g14, tI (1 : Int32)] rfl (Nat.le_of_ble_eq_true rfl) hv27 (sX7_trap l D v27 v9 g14 (1 : Int32) A23 g28 hg28) dX7_issue_170 ?_
            refine rf_goto X (tgt := 227) rfl dX7_issue_173 ?_
            exact rf_go (hj24 g28) True.intro
          refine rf_if_eq X (tgt := 154) rfl dX7_issue_101 (fun c40 => rf_pos c40 ?_) (fun c40 => rf_neg c40 ?_)
          · exact rf_go hj22 (And.intro rfl (And.intro rfl (And.intro rfl (And.intro rfl (And.intro rfl (And.intro rfl (And.intro rfl (And.intro rfl True.intro))))))))
          refine rf_aload X rfl dX7_issue_104 ?_
          refine rf_aload_n X rfl dX7_issue_106 ?_
          refine rf_bind (fun v41 hv41 => ?_)
          refine rf_getR X fl_X7_33 hv41 dX7_issue_107 ?_
          refine rf_iload X rfl dX7_issue_110 ?_
          refine rf_bind (fun v42 hv42 => ?_)
          refine rf_bind (fun g43 hg43 => ?_)
          refine rf_callVI X c_X7_122 ⟨Nat.le_of_ble_eq_true rfl, Nat.le_of_ble_eq_true rfl⟩ [tI v19] rfl (Nat.le_of_ble_eq_true rfl) hv42 (sJ2_get l D v42 v19 A g43 hg43) dX7_issue_112 ?_
          refine rf_bind (fun v44 hv44 => ?_)
          refine rf_cast X (ci := 5) rfl rfl q1252 hv44 dX7_issue_115 ?_
          refine rf_aload_n X rfl dX7_issue_118 ?_
          refine rf_bind (fun v45 hv45 => ?_)
          refine rf_getI X fl_X7_97 hv45 dX7_issue_119 ?_
          refine rf_bind (fun v46 hv46 => ?_)
          refine rf_bind (fun g47 hg47 => ?_)
          refine rf_callVI X c_X7_250 ⟨Nat.le_of_ble_eq_true rfl, Nat.le_of_ble_eq_true rfl⟩ [tR g43, tI v45] rfl (Nat.le_of_ble_eq_true rfl) hv46 (sX13_isThere l D n v46 g43 v45 A g47 hg47) dX7_issue_122 ?_
          refine rf_if_eq X (tgt := 228) rfl dX7_issue_125 (fun c48 => rf_pos c48 ?_) (fun c48 => rf_neg c48 ?_)
          · exact rf_go hj12 (And.intro rfl (And.intro rfl (And.intro rfl True.intro)))
          refine rf_aload_n X rfl dX7_issue_128 ?_
          refine rf_aload_n X rfl dX7_issue_129 ?_
          refine rf_getR X fl_X7_33 hv41 dX7_issue_130 ?_
          refine rf_iload X rfl dX7_issue_133 ?_
          refine rf_callVI X c_X7_122 ⟨Nat.le_of_ble_eq_true rfl, Nat.le_of_ble_eq_true rfl⟩ [tI v19] rfl (Nat.le_of_ble_eq_true rfl) hv42 (sJ2_get l D v42 v19 A g43 hg43) dX7_issue_135 ?_
          refine rf_cast X (ci := 5) rfl rfl q1252 hv44 dX7_issue_138 ?_
          refine rf_aload_n X rfl dX7_issue_141 ?_
          refine rf_getI X fl_X7_97 hv45 dX7_issue_142 ?_
          refine rf_bind (fun v49 hv49 => ?_)
          refine rf_bind (fun g50 hg50 => ?_)
          refine rf_callVI X c_X7_254 ⟨Nat.le_of_ble_eq_true rfl, Nat.le_of_ble_eq_true rfl⟩ [tR g43, tI v45] rfl (Nat.le_of_ble_eq_true rfl) hv49 (sX8_isFree l D v49 g43 v45 A g50 hg50) dX7_issue_145 ?_
          refine rf_if_ne X (tgt := 154) rfl dX7_issue_148 (fun c51 => rf_neg c51 ?_) (fun c51 => rf_pos c51 ?_)
          · exact rf_go hj22 (And.intro rfl (And.intro rfl (And.intro rfl (And.intro rfl (And.intro rfl (And.intro rfl (And.intro rfl (And.intro rfl True.intro))))))))
          refine rf_goto X (tgt := 228) rfl dX7_issue_151 ?_
          exact rf_go hj12 (And.intro rfl (And.intro rfl (And.intro rfl True.intro)))
        refine rf_br 96 92 [some (tR (some a0)), some (tR p1), some (tI x2), some (tI ((v6 + x2) - (v6 + x2) / v4 * v4)), some (tR v9), some (tI y11), some (tI g14), some (tI v19), none] [some (tR (some a0)), some (tR p1), some (tI x2), some (tI ((v6 + x2) - (v6 + x2) / v4 * v4)), some (tR v9), some (tI y11), some (tI g14), some (tI v19), none] [] [] (fun _ => ?_) (fun _ => ?_) (fun _ jT jF => ?_)
        · refine rf_iconst X (0 : Int32) rfl dX7_issue_96 ?_
          exact rf_go (hj20 (0 : Int32)) (And.intro rfl (And.intro rfl (And.intro rfl (And.intro rfl (And.intro rfl (And.intro rfl (And.intro rfl (And.intro rfl True.intro))))))))
        · refine rf_iconst X (1 : Int32) rfl dX7_issue_92 ?_
          refine rf_goto X (tgt := 97) rfl dX7_issue_93 ?_
          exact rf_go (hj20 (1 : Int32)) (And.intro rfl (And.intro rfl (And.intro rfl (And.intro rfl (And.intro rfl (And.intro rfl (And.intro rfl (And.intro rfl True.intro))))))))
        refine rf_if_lt X (tgt := 96) rfl dX7_issue_81 (fun c52 => ?_) (fun c52 => ?_)
        · exact jT (Or.inl c52)
        refine rf_iload X rfl dX7_issue_84 ?_
        refine rf_sipush X (128 : Int32) rfl dX7_issue_86 ?_
        refine rf_icmp_ge X (tgt := 96) rfl dX7_issue_89 (fun c53 => ?_) (fun c53 => ?_)
        · exact jT (Or.inr c53)
        exact jF (fun z => z.elim c52 c53)
      refine rf_goto X (tgt := 228) rfl dX7_issue_51 ?_
      exact rf_go hj12 (And.intro rfl (And.intro rfl (And.intro rfl True.intro)))
    refine rf_ifnonnull X (tgt := 39) rfl dX7_issue_32 (fun c54 => rf_neg c54 ?_) (fun c54 => rf_pos c54 ?_)
    · refine rf_aload X rfl dX7_issue_39 ?_
      refine rf_bind (fun v55 hv55 => ?_)
      refine rf_bind (fun g56 hg56 => ?_)
      refine rf_callVI X c_X7_232 ⟨Nat.le_of_ble_eq_true rfl, Nat.le_of_ble_eq_true rfl⟩ [] rfl (Nat.le_of_ble_eq_true rfl) hv55 (sX13_group l D n v55 A g56 hg56) dX7_issue_41 ?_
      exact rf_go (hj10 g56) (And.intro rfl (And.intro rfl (And.intro rfl (And.intro rfl (And.intro rfl True.intro)))))
    refine rf_iconst X (0 : Int32) rfl dX7_issue_35 ?_
    refine rf_goto X (tgt := 44) rfl dX7_issue_36 ?_
    exact rf_go (hj10 (0 : Int32)) (And.intro rfl (And.intro rfl (And.intro rfl (And.intro rfl (And.intro rfl True.intro)))))
  exact rf_go (hj1 (1 : Int32)) (And.intro rfl (And.intro rfl (And.intro rfl True.intro)))

