/-! 20.g06: printed by gen/parts.py -/
set_option maxRecDepth 100000
theorem fl_X1_102 : FLr RX1 102 7 12 := ⟨RX7, TX7, 26, "WarpMill$Machine", "WarpMill", rfl, by decide, in_X7, Or.inr q816, Or.inl rfl⟩
theorem fl_X1_111 : FLr RX1 111 7 17 := ⟨RX7, TX7, 26, "WarpMill$Machine", "WarpMill", rfl, by decide, in_X7, Or.inr q823, Or.inl rfl⟩
theorem fl_X1_113 : FLr RX1 113 7 18 := ⟨RX7, TX7, 26, "WarpMill$Machine", "WarpMill", rfl, by decide, in_X7, Or.inr q825, Or.inl rfl⟩
theorem fl_X1_116 : FLr RX1 116 7 19 := ⟨RX7, TX7, 26, "WarpMill$Machine", "WarpMill", rfl, by decide, in_X7, Or.inr q827, Or.inl rfl⟩
theorem fl_X1_119 : FLr RX1 119 7 9 := ⟨RX7, TX7, 26, "WarpMill$Machine", "WarpMill", rfl, by decide, in_X7, Or.inr q812, Or.inl rfl⟩
theorem fl_X1_123 : FLr RX1 123 9 1 := ⟨RX9, TX9, 3, "WarpMill$Cache", "WarpMill", rfl, by decide, in_X9, Or.inr q785, Or.inl rfl⟩
theorem fl_X1_128 : FLr RX1 128 9 2 := ⟨RX9, TX9, 3, "WarpMill$Cache", "WarpMill", rfl, by decide, in_X9, Or.inr q788, Or.inl rfl⟩
theorem fl_X1_131 : FLr RX1 131 7 16 := ⟨RX7, TX7, 26, "WarpMill$Machine", "WarpMill", rfl, by decide, in_X7, Or.inr q821, Or.inl rfl⟩
theorem fl_X1_134 : FLr RX1 134 7 22 := ⟨RX7, TX7, 26, "WarpMill$Machine", "WarpMill", rfl, by decide, in_X7, Or.inr q833, Or.inl rfl⟩
theorem fl_X1_137 : FLr RX1 137 7 23 := ⟨RX7, TX7, 26, "WarpMill$Machine", "WarpMill", rfl, by decide, in_X7, Or.inr q835, Or.inl rfl⟩
theorem fl_X1_140 : FLr RX1 140 7 24 := ⟨RX7, TX7, 26, "WarpMill$Machine", "WarpMill", rfl, by decide, in_X7, Or.inr q837, Or.inl rfl⟩
theorem fl_X1_143 : FLr RX1 143 7 25 := ⟨RX7, TX7, 26, "WarpMill$Machine", "WarpMill", rfl, by decide, in_X7, Or.inr q839, Or.inl rfl⟩
theorem fl_X1_146 : FLr RX1 146 7 20 := ⟨RX7, TX7, 26, "WarpMill$Machine", "WarpMill", rfl, by decide, in_X7, Or.inr q829, Or.inl rfl⟩
theorem fl_X1_149 : FLr RX1 149 7 8 := ⟨RX7, TX7, 26, "WarpMill$Machine", "WarpMill", rfl, by decide, in_X7, Or.inr q810, Or.inl rfl⟩
theorem fl_X1_156 : FLr RX1 156 7 2 := ⟨RX7, TX7, 26, "WarpMill$Machine", "WarpMill", rfl, by decide, in_X7, Or.inr q801, Or.inl rfl⟩
theorem fl_X1_159 : FLr RX1 159 9 0 := ⟨RX9, TX9, 3, "WarpMill$Cache", "WarpMill", rfl, by decide, in_X9, Or.inr q782, Or.inl rfl⟩
theorem fl_X1_162 : FLr RX1 162 7 7 := ⟨RX7, TX7, 26, "WarpMill$Machine", "WarpMill", rfl, by decide, in_X7, Or.inr q808, Or.inl rfl⟩
theorem fl_X1_163 : FLr RX1 163 3 0 := ⟨RX3, TX3, 3, "WarpMill$Heap", "WarpMill", rfl, by decide, in_X3, Or.inr q499, Or.inl rfl⟩
theorem fl_X1_176 : FLr RX1 176 8 2 := ⟨RX8, TX8, 5, "WarpMill$Unit", "WarpMill", rfl, by decide, in_X8, Or.inr q734, Or.inl rfl⟩
theorem fl_X1_179 : FLr RX1 179 8 3 := ⟨RX8, TX8, 5, "WarpMill$Unit", "WarpMill", rfl, by decide, in_X8, Or.inr q737, Or.inl rfl⟩
theorem fl_X1_182 : FLr RX1 182 8 1 := ⟨RX8, TX8, 5, "WarpMill$Unit", "WarpMill", rfl, by decide, in_X8, Or.inr q732, Or.inl rfl⟩
theorem fl_X1_185 : FLr RX1 185 8 4 := ⟨RX8, TX8, 5, "WarpMill$Unit", "WarpMill", rfl, by decide, in_X8, Or.inr q740, Or.inl rfl⟩
theorem fl_X1_188 : FLr RX1 188 10 1 := ⟨RX10, TX10, 2, "WarpMill$Gate", "WarpMill", rfl, by decide, in_X10, Or.inr q773, Or.inl rfl⟩
theorem fl_X1_191 : FLr RX1 191 10 0 := ⟨RX10, TX10, 2, "WarpMill$Gate", "WarpMill", rfl, by decide, in_X10, Or.inr q770, Or.inl rfl⟩
theorem fl_X13_14 : FLr RX13 14 13 2 := ⟨RX13, TX13, 6, "WarpMill$Warp", "", rfl, by decide, in_X13, Or.inl q1159, Or.inl rfl⟩
theorem fl_X13_51 : FLr RX13 51 14 3 := ⟨RX14, TX14, 6, "WarpMill$Lane", "WarpMill", rfl, by decide, in_X14, Or.inr q1208, Or.inl rfl⟩
theorem fl_X13_55 : FLr RX13 55 14 4 := ⟨RX14, TX14, 6, "WarpMill$Lane", "WarpMill", rfl, by decide, in_X14, Or.inr q1211, Or.inl rfl⟩
theorem fl_X1_197 : FLr RX1 197 8 0 := ⟨RX8, TX8, 5, "WarpMill$Unit", "WarpMill", rfl, by decide, in_X8, Or.inr q729, Or.inl rfl⟩
theorem fl_X1_200 : FLr RX1 200 13 0 := ⟨RX13, TX13, 6, "WarpMill$Warp", "WarpMill", rfl, by decide, in_X13, Or.inr q1155, Or.inl rfl⟩
theorem fl_X1_206 : FLr RX1 206 12 0 := ⟨RX12, TX12, 3, "WarpMill$Block", "WarpMill", rfl, by decide, in_X12, Or.inr q1120, Or.inl rfl⟩
theorem fl_X1_211 : FLr RX1 211 13 1 := ⟨RX13, TX13, 6, "WarpMill$Warp", "WarpMill", rfl, by decide, in_X13, Or.inr q1158, Or.inl rfl⟩
theorem fl_X1_218 : FLr RX1 218 13 5 := ⟨RX13, TX13, 6, "WarpMill$Warp", "WarpMill", rfl, by decide, in_X13, Or.inr q1169, Or.inl rfl⟩
theorem fl_X1_224 : FLr RX1 224 13 4 := ⟨RX13, TX13, 6, "WarpMill$Warp", "WarpMill", rfl, by decide, in_X13, Or.inr q1167, Or.inl rfl⟩
theorem fl_X1_221 : FLr RX1 221 13 3 := ⟨RX13, TX13, 6, "WarpMill$Warp", "WarpMill", rfl, by decide, in_X13, Or.inr q1165, Or.inl rfl⟩
theorem fl_X3_56 : FLr RX3 56 15 0 := ⟨RX15, TX15, 9, "WarpMill$Ask", "WarpMill", rfl, by decide, in_X15, Or.inr q1424, Or.inl rfl⟩
theorem c_X1_152 : CV RX1 152 0 yJ2_size cJ2_size 1 (some Jvm.ClassFile.FieldType.int) 0 := ⟨TJ2, 3, rfl, q989, q696, q697, q82, q698, ⟨by decide +kernel, by decide +kernel, by decide +kernel⟩⟩
theorem c_X1_166 : CV RX1 166 1 yX1_isUnit cX1_isUnit 2 (some Jvm.ClassFile.FieldType.boolean) 1 := ⟨TX1, 6, rfl, q994, q996, qs7, q79, q997, ⟨by decide +kernel, by decide +kernel, by decide +kernel⟩⟩
theorem c_X1_170 : CV RX1 170 0 yJ2_get cJ2_get 2 (some (Jvm.ClassFile.FieldType.object "java/lang/Object")) 1 := ⟨TJ2, 3, rfl, q998, q700, q701, q82, q702, ⟨by decide +kernel, by decide +kernel, by decide +kernel⟩⟩
theorem c_X13_41 : CV RX13 41 0 yJ2_size cJ2_size 1 (some Jvm.ClassFile.FieldType.int) 0 := ⟨TJ2, 3, rfl, q1017, q696, q697, q82, q698, ⟨by decide +kernel, by decide +kernel, by decide +kernel⟩⟩
theorem c_X13_45 : CV RX13 45 0 yJ2_get cJ2_get 2 (some (Jvm.ClassFile.FieldType.object "java/lang/Object")) 1 := ⟨TJ2, 3, rfl, q1018, q700, q701, q82, q702, ⟨by decide +kernel, by decide +kernel, by decide +kernel⟩⟩
theorem c_X1_194 : CV RX1 194 1 yX1_isSlot cX1_isSlot 3 (some Jvm.ClassFile.FieldType.boolean) 2 := ⟨TX1, 6, rfl, q1009, q1011, qs8, q79, q1012, ⟨by decide +kernel, by decide +kernel, by decide +kernel⟩⟩
theorem c_X1_212 : CV RX1 212 13 yX13_ended cX13_ended 3 (some Jvm.ClassFile.FieldType.int) 0 := ⟨TX13, 6, rfl, q1013, q1014, q1015, q114, q1016, ⟨by decide +kernel, by decide +kernel, by decide +kernel⟩⟩
theorem c_X1_215 : CV RX1 215 13 yX13_waiting cX13_waiting 3 (some Jvm.ClassFile.FieldType.int) 0 := ⟨TX13, 6, rfl, q1020, q1021, q1022, q114, q1023, ⟨by decide +kernel, by decide +kernel, by decide +kernel⟩⟩
theorem c_X3_19 : CV RX3 19 0 yJ2_isEmpty cJ2_isEmpty 1 (some Jvm.ClassFile.FieldType.boolean) 0 := ⟨TJ2, 3, rfl, q1067, q1068, q1069, q82, q1070, ⟨by decide +kernel, by decide +kernel, by decide +kernel⟩⟩
theorem dX1_state_0 : decode cX1_state 0 = .ok (.iload_n 1, 1) := by decide +kernel
theorem dX1_state_1 : decode cX1_state 1 = .ok (.tableswitch 276 0 19 #[95, 103, 111, 119, 127, 138, 149, 157, 165, 173, 181, 189, 197, 205, 213, 221, 232, 240, 254, 262], 95) := by decide +kernel
theorem dX1_state_96 : decode cX1_state 96 = .ok (.aload_n 0, 1) := by decide +kernel
theorem dX1_state_97 : decode cX1_state 97 = .ok (.getfield 57, 3) := by decide +kernel
theorem dX1_state_100 : decode cX1_state 100 = .ok (.getfield 102, 3) := by decide +kernel
theorem dX1_state_103 : decode cX1_state 103 = .ok (.ireturn, 1) := by decide +kernel
theorem dX1_state_104 : decode cX1_state 104 = .ok (.aload_n 0, 1) := by decide +kernel
theorem dX1_state_105 : decode cX1_state 105 = .ok (.getfield 57, 3) := by decide +kernel
theorem dX1_state_108 : decode cX1_state 108 = .ok (.getfield 111, 3) := by decide +kernel
theorem dX1_state_111 : decode cX1_state 111 = .ok (.ireturn, 1) := by decide +kernel
theorem dX1_state_112 : decode cX1_state 112 = .ok (.aload_n 0, 1) := by decide +kernel
theorem dX1_state_113 : decode cX1_state 113 = .ok (.getfield 57, 3) := by decide +kernel
theorem dX1_state_116 : decode cX1_state 116 = .ok (.getfield 113, 3) := by decide +kernel
theorem dX1_state_119 : decode cX1_state 119 = .ok (.ireturn, 1) := by decide +kernel
theorem dX1_state_120 : decode cX1_state 120 = .ok (.aload_n 0, 1) := by decide +kernel
theorem dX1_state_121 : decode cX1_state 121 = .ok (.getfield 57, 3) := by decide +kernel
theorem dX1_state_124 : decode cX1_state 124 = .ok (.getfield 116, 3) := by decide +kernel
theorem dX1_state_127 : decode cX1_state 127 = .ok (.ireturn, 1) := by decide +kernel
theorem dX1_state_128 : decode cX1_state 128 = .ok (.aload_n 0, 1) := by decide +kernel
theorem dX1_state_129 : decode cX1_state 129 = .ok (.getfield 57, 3) := by decide +kernel
theorem dX1_state_132 : decode cX1_state 132 = .ok (.getfield 119, 3) := by decide +kernel
theorem dX1_state_135 : decode cX1_state 135 = .ok (.getfield 123, 3) := by decide +kernel
theorem dX1_state_138 : decode cX1_state 138 = .ok (.ireturn, 1) := by decide +kernel
theorem dX1_state_139 : decode cX1_state 139 = .ok (.aload_n 0, 1) := by decide +kernel
theorem dX1_state_140 : decode cX1_state 140 = .ok (.getfield 57, 3) := by decide +kernel
theorem dX1_state_143 : decode cX1_state 143 = .ok (.getfield 119, 3) := by decide +kernel
theorem dX1_state_146 : decode cX1_state 146 = .ok (.getfield 128, 3) := by decide +kernel
theorem dX1_state_149 : decode cX1_state 149 = .ok (.ireturn, 1) := by decide +kernel
theorem dX1_state_150 : decode cX1_state 150 = .ok (.aload_n 0, 1) := by decide +kernel
theorem dX1_state_151 : decode cX1_state 151 = .ok (.getfield 57, 3) := by decide +kernel
theorem dX1_state_154 : decode cX1_state 154 = .ok (.getfield 131, 3) := by decide +kernel
theorem dX1_state_157 : decode cX1_state 157 = .ok (.ireturn, 1) := by decide +kernel
theorem dX1_state_158 : decode cX1_state 158 = .ok (.aload_n 0, 1) := by decide +kernel
theorem dX1_state_159 : decode cX1_state 159 = .ok (.getfield 57, 3) := by decide +kernel
theorem dX1_state_162 : decode cX1_state 162 = .ok (.getfield 76, 3) := by decide +kernel
theorem dX1_state_165 : decode cX1_state 165 = .ok (.ireturn, 1) := by decide +kernel
theorem dX1_state_166 : decode cX1_state 166 = .ok (.aload_n 0, 1) := by decide +kernel
theorem dX1_state_167 : decode cX1_state 167 = .ok (.getfield 57, 3) := by decide +kernel
theorem dX1_state_170 : decode cX1_state 170 = .ok (.getfield 134, 3) := by decide +kernel
theorem dX1_state_173 : decode cX1_state 173 = .ok (.ireturn, 1) := by decide +kernel
theorem dX1_state_174 : decode cX1_state 174 = .ok (.aload_n 0, 1) := by decide +kernel
theorem dX1_state_175 : decode cX1_state 175 = .ok (.getfield 57, 3) := by decide +kernel
theorem dX1_state_178 : decode cX1_state 178 = .ok (.getfield 137, 3) := by decide +kernel
theorem dX1_state_181 : decode cX1_state 181 = .ok (.ireturn, 1) := by decide +kernel
theorem dX1_state_182 : decode cX1_state 182 = .ok (.aload_n 0, 1) := by decide +kernel
theorem dX1_state_183 : decode cX1_state 183 = .ok (.getfield 57, 3) := by decide +kernel
theorem dX1_state_186 : decode cX1_state 186 = .ok (.getfield 140, 3) := by decide +kernel
theorem dX1_state_189 : decode cX1_state 189 = .ok (.ireturn, 1) := by decide +kernel
theorem dX1_state_190 : decode cX1_state 190 = .ok (.aload_n 0, 1) := by decide +kernel
theorem dX1_state_191 : decode cX1_state 191 = .ok (.getfield 57, 3) := by decide +kernel
theorem dX1_state_194 : decode cX1_state 194 = .ok (.getfield 143, 3) := by decide +kernel
theorem dX1_state_197 : decode cX1_state 197 = .ok (.ireturn, 1) := by decide +kernel
theorem dX1_state_198 : decode cX1_state 198 = .ok (.aload_n 0, 1) := by decide +kernel
theorem dX1_state_199 : decode cX1_state 199 = .ok (.getfield 57, 3) := by decide +kernel
theorem dX1_state_202 : decode cX1_state 202 = .ok (.getfield 146, 3) := by decide +kernel
theorem dX1_state_205 : decode cX1_state 205 = .ok (.ireturn, 1) := by decide +kernel
theorem dX1_state_206 : decode cX1_state 206 = .ok (.aload_n 0, 1) := by decide +kernel
theorem dX1_state_207 : decode cX1_state 207 = .ok (.getfield 57, 3) := by decide +kernel
theorem dX1_state_210 : decode cX1_state 210 = .ok (.getfield 83, 3) := by decide +kernel
theorem dX1_state_213 : decode cX1_state 213 = .ok (.ireturn, 1) := by decide +kernel
theorem dX1_state_214 : decode cX1_state 214 = .ok (.aload_n 0, 1) := by decide +kernel
theorem dX1_state_215 : decode cX1_state 215 = .ok (.getfield 57, 3) := by decide +kernel
theorem dX1_state_218 : decode cX1_state 218 = .ok (.getfield 86, 3) := by decide +kernel
theorem dX1_state_221 : decode cX1_state 221 = .ok (.ireturn, 1) := by decide +kernel
theorem dX1_state_222 : decode cX1_state 222 = .ok (.aload_n 0, 1) := by decide +kernel
theorem dX1_state_223 : decode cX1_state 223 = .ok (.getfield 57, 3) := by decide +kernel
theorem dX1_state_226 : decode cX1_state 226 = .ok (.getfield 149, 3) := by decide +kernel
theorem dX1_state_229 : decode cX1_state 229 = .ok (.invokevirtual 152, 3) := by decide +kernel
theorem dX1_state_232 : decode cX1_state 232 = .ok (.ireturn, 1) := by decide +kernel
theorem dX1_state_233 : decode cX1_state 233 = .ok (.aload_n 0, 1) := by decide +kernel
theorem dX1_state_234 : decode cX1_state 234 = .ok (.getfield 57, 3) := by decide +kernel
theorem dX1_state_237 : decode cX1_state 237 = .ok (.getfield 156, 3) := by decide +kernel
theorem dX1_state_240 : decode cX1_state 240 = .ok (.ireturn, 1) := by decide +kernel
theorem dX1_state_241 : decode cX1_state 241 = .ok (.aload_n 0, 1) := by decide +kernel
theorem dX1_state_242 : decode cX1_state 242 = .ok (.getfield 57, 3) := by decide +kernel
theorem dX1_state_245 : decode cX1_state 245 = .ok (.getfield 119, 3) := by decide +kernel
theorem dX1_state_248 : decode cX1_state 248 = .ok (.getfield 159, 3) := by decide +kernel
theorem dX1_state_251 : decode cX1_state 251 = .ok (.invokevirtual 152, 3) := by decide +kernel
theorem dX1_state_254 : decode cX1_state 254 = .ok (.ireturn, 1) := by decide +kernel
theorem dX1_state_255 : decode cX1_state 255 = .ok (.aload_n 0, 1) := by decide +kernel
theorem dX1_state_256 : decode cX1_state 256 = .ok (.getfield 57, 3) := by decide +kernel
theorem dX1_state_259 : decode cX1_state 259 = .ok (.getfield 72, 3) := by decide +kernel
theorem dX1_state_262 : decode cX1_state 262 = .ok (.ireturn, 1) := by decide +kernel
theorem dX1_state_263 : decode cX1_state 263 = .ok (.aload_n 0, 1) := by decide +kernel
theorem dX1_state_264 : decode cX1_state 264 = .ok (.getfield 57, 3) := by decide +kernel
theorem dX1_state_267 : decode cX1_state 267 = .ok (.getfield 162, 3) := by decide +kernel
theorem dX1_state_270 : decode cX1_state 270 = .ok (.getfield 163, 3) := by decide +kernel
theorem dX1_state_273 : decode cX1_state 273 = .ok (.invokevirtual 152, 3) := by decide +kernel
theorem dX1_state_276 : decode cX1_state 276 = .ok (.ireturn, 1) := by decide +kernel
theorem dX1_state_277 : decode cX1_state 277 = .ok (.iconst (-1), 1) := by decide +kernel
theorem dX1_state_278 : decode cX1_state 278 = .ok (.ireturn, 1) := by decide +kernel
def fX1_state (a0 : Nat) (p1 : Int32) (A : AH) : Option (Int32) :=
if p1 = (0 : Int32) then ((gR A (some a0) 1 5).bind fun v2 =>
(gI A v2 7 12).bind fun v3 =>
some v3) else
if p1 = (1 : Int32) then ((gR A (some a0) 1 5).bind fun v5 =>
(gI A v5 7 17).bind fun v6 =>
some v6) else
if p1 = (2 : Int32) then ((gR A (some a0) 1 5).bind fun v8 =>
(gI A v8 7 18).bind fun v9 =>
some v9) else
if p1 = (3 : Int32) then ((gR A (some a0) 1 5).bind fun v11 =>
(gI A v11 7 19).bind fun v12 =>
some v12) else
if p1 = (4 : Int32) then ((gR A (some a0) 1 5).bind fun v14 =>
(gR A v14 7 9).bind fun v15 =>
(gI A v15 9 1).bind fun v16 =>
some v16) else
if p1 = (5 : Int32) then ((gR A (some a0) 1 5).bind fun v18 =>
(gR A v18 7 9).bind fun v19 =>
(gI A v19 9 2).bind fun v20 =>
some v20) else
if p1 = (6 : Int32) then ((gR A (some a0) 1 5).bind fun v22 =>
(gI A v22 7 16).bind fun v23 =>
some v23) else
if p1 = (7 : Int32) then ((gR A (some a0) 1 5).bind fun v25 =>
(gI A v25 7 21).bind fun v26 =>
some v26) else
if p1 = (8 : Int32) then ((gR A (some a0) 1 5).bind fun v28 =>
(gI A v28 7 22).bind fun v29 =>
some v29) else
if p1 = (9 : Int32) then ((gR A (some a0) 1 5).bind fun v31 =>
(gI A v31 7 23).bind fun v32 =>
some v32) else
if p1 = (10 : Int32) then ((gR A (some a0) 1 5).bind fun v34 =>
(gI A v34 7 24).bind fun v35 =>
some v35) else
if p1 = (11 : Int32) then ((gR A (some a0) 1 5).bind fun v37 =>
(gI A v37 7 25).bind fun v38 =>
some v38) else
if p1 = (12 : Int32) then ((gR A (some a0) 1 5).bind fun v40 =>
(gI A v40 7 20).bind fun v41 =>
some v41) else
if p1 = (13 : Int32) then ((gR A (some a0) 1 5).bind fun v43 =>
(gI A v43 7 0).bind fun v44 =>
some v44) else
if p1 = (14 : Int32) then ((gR A (some a0) 1 5).bind fun v46 =>
(gI A v46 7 1).bind fun v47 =>
some v47) else
if p1 = (15 : Int32) then ((gR A (some a0) 1 5).bind fun v49 =>
(gR A v49 7 8).bind fun v50 =>
(rcv A v50 0).bind fun v51 =>
(fJ2_size v51 A).bind fun g52 =>
some g52) else
if p1 = (16 : Int32) then ((gR A (some a0) 1 5).bind fun v54 =>
(gI A v54 7 2).bind fun v55 =>
some v55) else
if p1 = (17 : Int32) then ((gR A (some a0) 1 5).bind fun v57 =>
(gR A v57 7 9).bind fun v58 =>
(gR A v58 9 0).bind fun v59 =>
(rcv A v59 0).bind fun v60 =>
(fJ2_size v60 A).bind fun g61 =>
some g61) else
if p1 = (18 : Int32) then ((gR A (some a0) 1 5).bind fun v63 =>
(gI A v63 7 3).bind fun v64 =>
some v64) else
if p1 = (19 : Int32) then ((gR A (some a0) 1 5).bind fun v66 =>
(gR A v66 7 7).bind fun v67 =>
(gR A v67 3 0).bind fun v68 =>
(rcv A v68 0).bind fun v69 =>
(fJ2_size v69 A).bind fun g70 =>
some g70) else
some (-1 : Int32)

set_option maxHeartbeats 4000000 in
set_option maxRecDepth 100000 in
theorem sX1_state (l : Launch) (D : DE) (a0 : Nat) (p1 : Int32) (A : AH) (g : Int32) (hg : fX1_state a0 p1 A = some g) : Sm l D yX1_state cX1_state 2 (some Jvm.ClassFile.FieldType.int) 1 20 [tR (some a0), tI p1] A (qI A g).1 (qI A g).2 := by
  refine Sm.of (ω := qI A) (fX1_state a0 p1 A) [some (tR (some a0)), some (tI p1)] (by decide) (Nat.le_of_ble_eq_true rfl) rfl hg ?_
  intro p e R s m args below meth c X hin
  have X : Cx D cX1_state RX1 2 1 20 (some Jvm.ClassFile.FieldType.int) p R s m args meth c := X
  unfold fX1_state
  refine rf_iload_n X rfl dX1_state_0 ?_
  by_cases c1 : p1 = (0 : Int32)
  · refine rf_pos c1 ?_
    refine rf_tsIn X (0 : Int32) c1 (by decide) (by decide) (tgt := 96) rfl rfl dX1_state_1 ?_
    refine rf_aload_n X rfl dX1_state_96 ?_
    refine rf_bind (fun v2 hv2 => ?_)
    refine rf_getR X fl_X1_57 hv2 dX1_state_97 ?_
    refine rf_bind (fun v3 hv3 => ?_)
    refine rf_getI X fl_X1_102 hv3 dX1_state_100 ?_
    exact rf_iret X rfl dX1_state_103
  refine rf_neg c1 ?_
  by_cases c4 : p1 = (1 : Int32)
  · refine rf_pos c4 ?_
    refine rf_tsIn X (1 : Int32) c4 (by decide) (by decide) (tgt := 104) rfl rfl dX1_state_1 ?_
    refine rf_aload_n X rfl dX1_state_104 ?_
    refine rf_bind (fun v5 hv5 => ?_)
    refine rf_getR X fl_X1_57 hv5 dX1_state_105 ?_
    refine rf_bind (fun v6 hv6 => ?_)
    refine rf_getI X fl_X1_111 hv6 dX1_state_108 ?_
    exact rf_iret X rfl dX1_state_111
  refine rf_neg c4 ?_
  by_cases c7 : p1 = (2 : Int32)
  · refine rf_pos c7 ?_
    refine rf_tsIn X (2 : Int32) c7 (by decide) (by decide) (tgt := 112) rfl rfl dX1_state_1 ?_
    refine rf_aload_n X rfl dX1_state_112 ?_
    refine rf_bind (fun v8 hv8 => ?_)
    refine rf_getR X fl_X1_57 hv8 dX1_state_113 ?_
    refine rf_bind (fun v9 hv9 => ?_)
    refine rf_getI X fl_X1_113 hv9 dX1_state_116 ?_
    exact rf_iret X rfl dX1_state_119
  refine rf_neg c7 ?_
  by_cases c10 : p1 = (3 : Int32)
  · refine rf_pos c10 ?_
    refine rf_tsIn X (3 : Int32) c10 (by decide) (by decide) (tgt := 120) rfl rfl dX1_state_1 ?_
    refine rf_aload_n X rfl dX1_state_120 ?_
    refine rf_bind (fun v11 hv11 => ?_)
    refine rf_getR X fl_X1_57 hv11 dX1_state_121 ?_
    refine rf_bind (fun v12 hv12 => ?_)
    refine rf_getI X fl_X1_116 hv12 dX1_state_124 ?_
    exact rf_iret X rfl dX1_state_127
  refine rf_neg c10 ?_
  by_cases c13 : p1 = (4 : Int32)
  · refine rf_pos c13 ?_
    refine rf_tsIn X (4 : Int32) c13 (by decide) (by decide) (tgt := 128) rfl rfl dX1_state_1 ?_
    refine rf_aload_n X rfl dX1_state_128 ?_
    refine rf_bind (fun v14 hv14 => ?_)
    refine rf_getR X fl_X1_57 hv14 dX1_state_129 ?_
    refine rf_bind (fun v15 hv15 => ?_)
    refine rf_getR X fl_X1_119 hv15 dX1_state_132 ?_
    refine rf_bind (fun v16 hv16 => ?_)
    refine rf_getI X fl_X1_123 hv16 dX1_state_135 ?_
    exact rf_iret X rfl dX1_state_138
  refine rf_neg c13 ?_
  by_cases c17 : p1 = (5 : Int32)
  · refine rf_pos c17 ?_
    refine rf_tsIn X (5 : Int32) c17 (by decide) (by decide) (tgt := 139) rfl rfl dX1_state_1 ?_
    refine rf_aload_n X rfl dX1_state_139 ?_
    refine rf_bind (fun v18 hv18 => ?_)
    refine rf_getR X fl_X1_57 hv18 dX1_state_140 ?_
    refine rf_bind (fun v19 hv19 => ?_)
    refine rf_getR X fl_X1_119 hv19 dX1_state_143 ?_
    refine rf_bind (fun v20 hv20 => ?_)
    refine rf_getI X fl_X1_128 hv20 dX1_state_146 ?_
    exact rf_iret X rfl dX1_state_149
  refine rf_neg c17 ?_
  by_cases c21 : p1 = (6 : Int32)
  · refine rf_pos c21 ?_
    refine rf_tsIn X (6 : Int32) c21 (by decide) (by decide) (tgt := 150) rfl rfl dX1_state_1 ?_
    refine rf_aload_n X rfl dX1_state_150 ?_
    refine rf_bind (fun v22 hv22 => ?_)
    refine rf_getR X fl_X1_57 hv22 dX1_state_151 ?_
    refine rf_bind (fun v23 hv23 => ?_)
    refine rf_getI X fl_X1_131 hv23 dX1_state_154 ?_
    exact rf_iret X rfl dX1_state_157
  refine rf_neg c21 ?_
  by_cases c24 : p1 = (7 : Int32)
  · refine rf_pos c24 ?_
    refine rf_tsIn X (7 : Int32) c24 (by decide) (by decide) (tgt := 158) rfl rfl dX1_state_1 ?_
    refine rf_aload_n X rfl dX1_state_158 ?_
    refine rf_bind (fun v25 hv25 => ?_)
    refine rf_getR X fl_X1_57 hv25 dX1_state_159 ?_
    refine rf_bind (fun v26 hv26 => ?_)
    refine rf_getI X fl_X1_76 hv26 dX1_state_162 ?_
    exact rf_iret X rfl dX1_state_165
  refine rf_neg c24 ?_
  by_cases c27 : p1 = (8 : Int32)
  · refine rf_pos c27 ?_
    refine rf_tsIn X (8 : Int32) c27 (by decide) (by decide) (tgt := 166) rfl rfl dX1_state_1 ?_
    refine rf_aload_n X rfl dX1_state_166 ?_
    refine rf_bind (fun v28 hv28 => ?_)
    refine rf_getR X fl_X1_57 hv28 dX1_state_167 ?_
    refine rf_bind (fun v29 hv29 => ?_)
    refine rf_getI X fl_X1_134 hv29 dX1_state_170 ?_
    exact rf_iret X rfl dX1_state_173
  refine rf_neg c27 ?_
  by_cases c30 : p1 = (9 : Int32)
  · refine rf_pos c30 ?_
    refine rf_tsIn X (9 : Int32) c30 (by decide) (by decide) (tgt := 174) rfl rfl dX1_state_1 ?_
    refine rf_aload_n X rfl dX1_state_174 ?_
    refine rf_bind (fun v31 hv31 => ?_)
    refine rf_getR X fl_X1_57 hv31 dX1_state_175 ?_
    refine rf_bind (fun v32 hv32 => ?_)
    refine rf_getI X fl_X1_137 hv32 dX1_state_178 ?_
    exact rf_iret X rfl dX1_state_181
  refine rf_neg c30 ?_
  by_cases c33 : p1 = (10 : Int32)
  · refine rf_pos c33 ?_
    refine rf_tsIn X (10 : Int32) c33 (by decide) (by decide) (tgt := 182) rfl rfl dX1_state_1 ?_
    refine rf_aload_n X rfl dX1_state_182 ?_
    refine rf_bind (fun v34 hv34 => ?_)
    refine rf_getR X fl_X1_57 hv34 dX1_state_183 ?_
    refine rf_bind (fun v35 hv35 => ?_)
    refine rf_getI X fl_X1_140 hv35 dX1_state_186 ?_
    exact rf_iret X rfl dX1_state_189
  refine rf_neg c33 ?_
  by_cases c36 : p1 = (11 : Int32)
  · refine rf_pos c36 ?_
    refine rf_tsIn X (11 : Int32) c36 (by decide) (by decide) (tgt := 190) rfl rfl dX1_state_1 ?_
    refine rf_aload_n X rfl dX1_state_190 ?_
    refine rf_bind (fun v37 hv37 => ?_)
    refine rf_getR X fl_X1_57 hv37 dX1_state_191 ?_
    refine rf_bind (fun v38 hv38 => ?_)
    refine rf_getI X fl_X1_143 hv38 dX1_state_194 ?_
    exact rf_iret X rfl dX1_state_197
  refine rf_neg c36 ?_
  by_cases c39 : p1 = (12 : Int32)
  · refine rf_pos c39 ?_
    refine rf_tsIn X (12 : Int32) c39 (by decide) (by decide) (tgt := 198) rfl rfl dX1_state_1 ?_
    refine rf_aload_n X rfl dX1_state_198 ?_
    refine rf_bind (fun v40 hv40 => ?_)
    refine rf_getR X fl_X1_57 hv40 dX1_state_199 ?_
    refine rf_bind (fun v41 hv41 => ?_)
    refine rf_getI X fl_X1_146 hv41 dX1_state_202 ?_
    exact rf_iret X rfl dX1_state_205
  refine rf_neg c39 ?_
  by_cases c42 : p1 = (13 : Int32)
  · refine rf_pos c42 ?_
    refine rf_tsIn X (13 : Int32) c42 (by decide) (by decide) (tgt := 206) rfl rfl dX1_state_1 ?_
    refine rf_aload_n X rfl dX1_state_206 ?_
    refine rf_bind (fun v43 hv43 => ?_)
    refine rf_getR X fl_X1_57 hv43 dX1_state_207 ?_
    refine rf_bind (fun v44 hv44 => ?_)
    refine rf_getI X fl_X1_83 hv44 dX1_state_210 ?_
    exact rf_iret X rfl dX1_state_213
  refine rf_neg c42 ?_
  by_cases c45 : p1 = (14 : Int32)
  · refine rf_pos c45 ?_
    refine rf_tsIn X (14 : Int32) c45 (by decide) (by decide) (tgt := 214) rfl rfl dX1_state_1 ?_
    refine rf_aload_n X rfl dX1_state_214 ?_
    refine rf_bind (fun v46 hv46 => ?_)
    refine rf_getR X fl_X1_57 hv46 dX1_state_215 ?_
    refine rf_bind (fun v47 hv47 => ?_)
    refine rf_getI X fl_X1_86 hv47 dX1_state_218 ?_
    exact rf_iret X rfl dX1_state_221
  refine rf_neg c45 ?_
  by_cases c48 : p1 = (15 : Int32)
  · refine rf_pos c48 ?_
    refine rf_tsIn X (15 : Int32) c48 (by decide) (by decide) (tgt := 222) rfl rfl dX1_state_1 ?_
    refine rf_aload_n X rfl dX1_state_222 ?_
    refine rf_bind (fun v49 hv49 => ?_)
    refine rf_getR X fl_X1_57 hv49 dX1_state_223 ?_
    refine rf_bind (fun v50 hv50 => ?_)
    refine rf_getR X fl_X1_149 hv50 dX1_state_226 ?_
    refine rf_bind (fun v51 hv51 => ?_)
    refine rf_bind (fun g52 hg52 => ?_)
    refine rf_callVI X c_X1_152 ⟨Nat.le_of_ble_eq_true rfl, Nat.le_of_ble_eq_true rfl⟩ [] rfl (Nat.le_of_ble_eq_true rfl) hv51 (sJ2_size l D v51 A g52 hg52) dX1_state_229 ?_
    exact rf_iret X rfl dX1_state_232
  refine rf_neg c48 ?_
  by_cases c53 : p1 = (16 : Int32)
  · refine rf_pos c53 ?_
    refine rf_tsIn X (16 : Int32) c53 (by decide) (by decide) (tgt := 233) rfl rfl dX1_state_1 ?_
    refine rf_aload_n X rfl dX1_state_233 ?_
    refine rf_bind (fun v54 hv54 => ?_)
    refine rf_getR X fl_X1_57 hv54 dX1_state_234 ?_
    refine rf_bind (fun v55 hv55 => ?_)
    refine rf_getI X fl_X1_156 hv55 dX1_state_237 ?_
    exact rf_iret X rfl dX1_state_240
  refine rf_neg c53 ?_
  by_cases c56 : p1 = (17 : Int32)
  · refine rf_pos c56 ?_
    refine rf_tsIn X (17 : Int32) c56 (by decide) (by decide) (tgt := 241) rfl rfl dX1_state_1 ?_
    refine rf_aload_n X rfl dX1_state_241 ?_
    refine rf_bind (fun v57 hv57 => ?_)
    refine rf_getR X fl_X1_57 hv57 dX1_state_242 ?_
    refine rf_bind (fun v58 hv58 => ?_)
    refine rf_getR X fl_X1_119 hv58 dX1_state_245 ?_
    refine rf_bind (fun v59 hv59 => ?_)
    refine rf_getR X fl_X1_159 hv59 dX1_state_248 ?_
    refine rf_bind (fun v60 hv60 => ?_)
    refine rf_bind (fun g61 hg61 => ?_)
    refine rf_callVI X c_X1_152 ⟨Nat.le_of_ble_eq_true rfl, Nat.le_of_ble_eq_true rfl⟩ [] rfl (Nat.le_of_ble_eq_true rfl) hv60 (sJ2_size l D v60 A g61 hg61) dX1_state_251 ?_
    exact rf_iret X rfl dX1_state_254
  refine rf_neg c56 ?_
  by_cases c62 : p1 = (18 : Int32)
  · refine rf_pos c62 ?_
    refine rf_tsIn X (18 : Int32) c62 (by decide) (by decide) (tgt := 255) rfl rfl dX1_state_1 ?_
    refine rf_aload_n X rfl dX1_state_255 ?_
    refine rf_bind (fun v63 hv63 => ?_)
    refine rf_getR X fl_X1_57 hv63 dX1_state_256 ?_
    refine rf_bind (fun v64 hv64 => ?_)
    refine rf_getI X fl_X1_72 hv64 dX1_state_259 ?_
    exact rf_iret X rfl dX1_state_262
  refine rf_neg c62 ?_
  by_cases c65 : p1 = (19 : Int32)
  · refine rf_pos c65 ?_
    refine rf_tsIn X (19 : Int32) c65 (by decide) (by decide) (tgt := 263) rfl rfl dX1_state_1 ?_
    refine rf_aload_n X rfl dX1_state_263 ?_
    refine rf_bind (fun v66 hv66 => ?_)
    refine rf_getR X fl_X1_57 hv66 dX1_state_264 ?_
    refine rf_bind (fun v67 hv67 => ?_)
    refine rf_getR X fl_X1_162 hv67 dX1_state_267 ?_
    refine rf_bind (fun v68 hv68 => ?_)
    refine rf_getR X fl_X1_163 hv68 dX1_state_270 ?_
    refine rf_bind (fun v69 hv69 => ?_)
    refine rf_bind (fun g70 hg70 => ?_)
    refine rf_callVI X c_X1_152 ⟨Nat.le_of_ble_eq_true rfl, Nat.le_of_ble_eq_true rfl⟩ [] rfl (Nat.le_of_ble_eq_true rfl) hv69 (sJ2_size l D v69 A g70 hg70) dX1_state_273 ?_
    exact rf_iret X rfl dX1_state_276
  refine rf_neg c65 ?_
  refine rf_tsOut X (ts_def (0) (19) [(0 : Int32), (1 : Int32), (2 : Int32), (3 : Int32), (4 : Int32), (5 : Int32), (6 : Int32), (7 : Int32), (8 : Int32), (9 : Int32), (10 : Int32), (11 : Int32), (12 : Int32), (13 : Int32), (14 : Int32), (15 : Int32), (16 : Int32), (17 : Int32), (18 : Int32), (19 : Int32)] 20 (by decide) (by decide) (List.forall_mem_cons.mpr ⟨c1, (List.forall_mem_cons.mpr ⟨c4, (List.forall_mem_cons.mpr ⟨c7, (List.forall_mem_cons.mpr ⟨c10, (List.forall_mem_cons.mpr ⟨c13, (List.forall_mem_cons.mpr ⟨c17, (List.forall_mem_cons.mpr ⟨c21, (List.forall_mem_cons.mpr ⟨c24, (List.forall_mem_cons.mpr ⟨c27, (List.forall_mem_cons.mpr ⟨c30, (List.forall_mem_cons.mpr ⟨c33, (List.forall_mem_cons.mpr ⟨c36, (List.forall_mem_cons.mpr ⟨c39, (List.forall_mem_cons.mpr ⟨c42, (List.forall_mem_cons.mpr ⟨c45, (List.forall_mem_cons.mpr ⟨c48, (List.forall_mem_cons.mpr ⟨c53, (List.forall_mem_cons.mpr ⟨c56, (List.forall_mem_cons.mpr ⟨c62, (List.forall_mem_cons.mpr ⟨c65, (fun _ h => absurd h List.not_mem_nil)⟩)⟩)⟩)⟩)⟩)⟩)⟩)⟩)⟩)⟩)⟩)⟩)⟩)⟩)⟩)⟩)⟩)⟩)⟩)⟩)) (tgt := 277) rfl dX1_state_1 ?_
  refine rf_iconst X (-1 : Int32) rfl dX1_state_277 ?_
  exact rf_iret X rfl dX1_state_278

theorem dX1_isUnit_0 : decode cX1_isUnit 0 = .ok (.iload_n 1, 1) := by decide +kernel
theorem dX1_isUnit_1 : decode cX1_isUnit 1 = .ok (.ifCond .lt 21, 3) := by decide +kernel
theorem dX1_isUnit_4 : decode cX1_isUnit 4 = .ok (.iload_n 1, 1) := by decide +kernel
theorem dX1_isUnit_5 : decode cX1_isUnit 5 = .ok (.aload_n 0, 1) := by decide +kernel
theorem dX1_isUnit_6 : decode cX1_isUnit 6 = .ok (.getfield 57, 3) := by decide +kernel
theorem dX1_isUnit_9 : decode cX1_isUnit 9 = .ok (.getfield 149, 3) := by decide +kernel
theorem dX1_isUnit_12 : decode cX1_isUnit 12 = .ok (.invokevirtual 152, 3) := by decide +kernel
theorem dX1_isUnit_15 : decode cX1_isUnit 15 = .ok (.if_icmp .ge 7, 3) := by decide +kernel
theorem dX1_isUnit_18 : decode cX1_isUnit 18 = .ok (.iconst 1, 1) := by decide +kernel
theorem dX1_isUnit_19 : decode cX1_isUnit 19 = .ok (.goto 4, 3) := by decide +kernel
theorem dX1_isUnit_22 : decode cX1_isUnit 22 = .ok (.iconst 0, 1) := by decide +kernel
theorem dX1_isUnit_23 : decode cX1_isUnit 23 = .ok (.ireturn, 1) := by decide +kernel
def fX1_isUnit (a0 : Nat) (p1 : Int32) (A : AH) : Option (Int32) :=
jn (fun (y2 : Int32) =>
some (nb y2)) fun j1 =>
jn (j1 (0 : Int32)) fun j3 =>
if p1 < 0 then (j3) else
(gR A (some a0) 1 5).bind fun v5 =>
(gR A v5 7 8).bind fun v6 =>
(rcv A v6 0).bind fun v7 =>
(fJ2_size v7 A).bind fun g8 =>
if g8 ≤ p1 then (j3) else
j1 (1 : Int32)

set_option maxHeartbeats 4000000 in
set_option maxRecDepth 100000 in
theorem sX1_isUnit (l : Launch) (D : DE) (a0 : Nat) (p1 : Int32) (A : AH) (g : Int32) (hg : fX1_isUnit a0 p1 A = some g) : Sm l D yX1_isUnit cX1_isUnit 2 (some Jvm.ClassFile.FieldType.boolean) 1 20 [tR (some a0), tI p1] A (qI A g).1 (qI A g).2 := by
  refine Sm.of (ω := qI A) (fX1_isUnit a0 p1 A) [some (tR (some a0)), some (tI p1)] (by decide) (Nat.le_of_ble_eq_true rfl) rfl hg ?_
  intro p e R s m args below meth c X hin
  have X : Cx D cX1_isUnit RX1 2 1 20 (some Jvm.ClassFile.FieldType.boolean) p R s m args meth c := X
  unfold fX1_isUnit
  refine rf_iload_n X rfl dX1_isUnit_0 ?_
  refine rf_jn2 (fun i => ∀ (y2 : Int32), RfX X l e below (qI A) (i y2) 23 [none, none] [tI y2] A) ?_ (fun j1 hj1 => ?_)
  · intro y2
    exact rf_zret X rfl dX1_isUnit_23
  refine rf_jn2 (fun i => RfX X l e below (qI A) i 22 [none, none] [] A) ?_ (fun j3 hj3 => ?_)
  · show RfX X l e below _ _ _ _ _ _
    refine rf_iconst X (0 : Int32) rfl dX1_isUnit_22 ?_
    exact rf_go (hj1 (0 : Int32)) True.intro
  refine rf_if_lt X (tgt := 22) rfl dX1_isUnit_1 (fun c4 => rf_pos c4 ?_) (fun c4 => rf_neg c4 ?_)
  · exact rf_go hj3 True.intro
  refine rf_iload_n X rfl dX1_isUnit_4 ?_
  refine rf_aload_n X rfl dX1_isUnit_5 ?_
  refine rf_bind (fun v5 hv5 => ?_)
  refine rf_getR X fl_X1_57 hv5 dX1_isUnit_6 ?_
  refine rf_bind (fun v6 hv6 => ?_)
  refine rf_getR X fl_X1_149 hv6 dX1_isUnit_9 ?_
  refine rf_bind (fun v7 hv7 => ?_)
  refine rf_bind (fun g8 hg8 => ?_)
  refine rf_callVI X c_X1_152 ⟨Nat.le_of_ble_eq_true rfl, Nat.le_of_ble_eq_true rfl⟩ [] rfl (Nat.le_of_ble_eq_true rfl) hv7 (sJ2_size l D v7 A g8 hg8) dX1_isUnit_12 ?_
  refine rf_icmp_ge X (tgt := 22) rfl dX1_isUnit_15 (fun c9 => rf_pos c9 ?_) (fun c9 => rf_neg c9 ?_)
  · exact rf_go hj3 True.intro
  refine rf_iconst X (1 : Int32) rfl dX1_isUnit_18 ?_
  refine rf_goto X (tgt := 23) rfl dX1_isUnit_19 ?_
  exact rf_go (hj1 (1 : Int32)) True.intro

theorem dX1_unit_0 : decode cX1_unit 0 = .ok (.aload_n 0, 1) := by decide +kernel
theorem dX1_unit_1 : decode cX1_unit 1 = .ok (.iload_n 1, 1) := by decide +kernel
theorem dX1_unit_2 : decode cX1_unit 2 = .ok (.invokevirtual 166, 3) := by decide +kernel
theorem dX1_unit_5 : decode cX1_unit 5 = .ok (.ifCond .ne 5, 3) := by decide +kernel
theorem dX1_unit_8 : decode cX1_unit 8 = .ok (.iconst (-1), 1) := by decide +kernel
theorem dX1_unit_9 : decode cX1_unit 9 = .ok (.ireturn, 1) := by decide +kernel
theorem dX1_unit_10 : decode cX1_unit 10 = .ok (.aload_n 0, 1) := by decide +kernel
theorem dX1_unit_11 : decode cX1_unit 11 = .ok (.getfield 57, 3) := by decide +kernel
theorem dX1_unit_14 : decode cX1_unit 14 = .ok (.getfield 149, 3) := by decide +kernel
theorem dX1_unit_17 : decode cX1_unit 17 = .ok (.iload_n 1, 1) := by decide +kernel
theorem dX1_unit_18 : decode cX1_unit 18 = .ok (.invokevirtual 170, 3) := by decide +kernel
theorem dX1_unit_21 : decode cX1_unit 21 = .ok (.checkcast 174, 3) := by decide +kernel
theorem dX1_unit_24 : decode cX1_unit 24 = .ok (.astore_n 3, 1) := by decide +kernel
theorem dX1_unit_25 : decode cX1_unit 25 = .ok (.iload_n 2, 1) := by decide +kernel
theorem dX1_unit_26 : decode cX1_unit 26 = .ok (.tableswitch 50 0 3 #[30, 35, 40, 45], 30) := by decide +kernel
theorem dX1_unit_56 : decode cX1_unit 56 = .ok (.aload_n 3, 1) := by decide +kernel
theorem dX1_unit_57 : decode cX1_unit 57 = .ok (.getfield 176, 3) := by decide +kernel
theorem dX1_unit_60 : decode cX1_unit 60 = .ok (.ireturn, 1) := by decide +kernel
theorem dX1_unit_61 : decode cX1_unit 61 = .ok (.aload_n 3, 1) := by decide +kernel
theorem dX1_unit_62 : decode cX1_unit 62 = .ok (.getfield 179, 3) := by decide +kernel
theorem dX1_unit_65 : decode cX1_unit 65 = .ok (.ireturn, 1) := by decide +kernel
theorem dX1_unit_66 : decode cX1_unit 66 = .ok (.aload_n 3, 1) := by decide +kernel
theorem dX1_unit_67 : decode cX1_unit 67 = .ok (.getfield 182, 3) := by decide +kernel
theorem dX1_unit_70 : decode cX1_unit 70 = .ok (.ireturn, 1) := by decide +kernel
theorem dX1_unit_71 : decode cX1_unit 71 = .ok (.aload_n 3, 1) := by decide +kernel
theorem dX1_unit_72 : decode cX1_unit 72 = .ok (.getfield 185, 3) := by decide +kernel
theorem dX1_unit_75 : decode cX1_unit 75 = .ok (.ireturn, 1) := by decide +kernel
theorem dX1_unit_76 : decode cX1_unit 76 = .ok (.iconst (-1), 1) := by decide +kernel
theorem dX1_unit_77 : decode cX1_unit 77 = .ok (.ireturn, 1) := by decide +kernel
def fX1_unit (a0 : Nat) (p1 : Int32) (p2 : Int32) (A : AH) : Option (Int32) :=
(rcv A (some a0) 1).bind fun v1 =>
(fX1_isUnit v1 p1 A).bind fun g2 =>
if g2 = 0 then (some (-1 : Int32)) else
(gR A (some a0) 1 5).bind fun v4 =>
(gR A v4 7 8).bind fun v5 =>
(rcv A v5 0).bind fun v6 =>
(fJ2_get v6 p1 A).bind fun g7 =>
(cst A g7 8).bind fun v8 =>
if p2 = (0 : Int32) then ((gI A g7 8 2).bind fun v10 =>
some v10) else
if p2 = (1 : Int32) then ((gI A g7 8 3).bind fun v12 =>
some v12) else
if p2 = (2 : Int32) then ((gI A g7 8 1).bind fun v14 =>
some v14) else
if p2 = (3 : Int32) then ((gI A g7 8 4).bind fun v16 =>
some v16) else
some (-1 : Int32)

set_option maxHeartbeats 4000000 in
set_option maxRecDepth 100000 in
theorem sX1_unit (l : Launch) (D : DE) (a0 : Nat) (p1 : Int32) (p2 : Int32) (A : AH) (g : Int32) (hg : fX1_unit a0 p1 p2 A = some g) : Sm l D yX1_unit cX1_unit 4 (some Jvm.ClassFile.FieldType.int) 3 64 [tR (some a0), tI p1, tI p2] A (qI A g).1 (qI A g).2 := by
  refine Sm.of (ω := qI A) (fX1_unit a0 p1 p2 A) [some (tR (some a0)), some (tI p1), some (tI p2), none] (by decide) (Nat.le_of_ble_eq_true rfl) rfl hg ?_
  intro p e R s m args below meth c X hin
  have X : Cx D cX1_unit RX1 4 3 64 (some Jvm.ClassFile.FieldType.int) p R s m args meth c := X
  unfold fX1_unit
  refine rf_aload_n X rfl dX1_unit_0 ?_
  refine rf_iload_n X rfl dX1_unit_1 ?_
  refine rf_bind (fun v1 hv1 => ?_)
  refine rf_bind (fun g2 hg2 => ?_)
  refine rf_callVI X c_X1_166 ⟨Nat.le_of_ble_eq_true rfl, Nat.le_of_ble_eq_true rfl⟩ [tI p1] rfl (Nat.le_of_ble_eq_true rfl) hv1 (sX1_isUnit l D v1 p1 A g2 hg2) dX1_unit_2 ?_
  refine rf_if_ne X (tgt := 10) rfl dX1_unit_5 (fun c3 => rf_neg c3 ?_) (fun c3 => rf_pos c3 ?_)
  · refine rf_aload_n X rfl dX1_unit_10 ?_
    refine rf_bind (fun v4 hv4 => ?_)
    refine rf_getR X fl_X1_57 hv4 dX1_unit_11 ?_
    refine rf_bind (fun v5 hv5 => ?_)
    refine rf_getR X fl_X1_149 hv5 dX1_unit_14 ?_
    refine rf_iload_n X rfl dX1_unit_17 ?_
    refine rf_bind (fun v6 hv6 => ?_)
    refine rf_bind (fun g7 hg7 => ?_)
    refine rf_callVI X c_X1_170 ⟨Nat.le_of_ble_eq_true rfl, Nat.le_of_ble_eq_true rfl⟩ [tI p1] rfl (Nat.le_of_ble_eq_true rfl) hv6 (sJ2_get l D v6 p1 A g7 hg7) dX1_unit_18 ?_
    refine rf_bind (fun v8 hv8 => ?_)
    refine rf_cast X (ci := 8) rfl rfl q999 hv8 dX1_unit_21 ?_
    refine rf_astore_n X (ls' := [some (tR (some a0)), some (tI p1), some (tI p2), some (tR g7)]) rfl (by decide) dX1_unit_24 ?_
    refine rf_iload_n X rfl dX1_unit_25 ?_
    by_cases c9 : p2 = (0 : Int32)
    · refine rf_pos c9 ?_
      refine rf_tsIn X (0 : Int32) c9 (by decide) (by decide) (tgt := 56) rfl rfl dX1_unit_26 ?_
      refine rf_aload_n X rfl dX1_unit_56 ?_
      refine rf_bind (fun v10 hv10 => ?_)
      refine rf_getI X fl_X1_176 hv10 dX1_unit_57 ?_
      exact rf_iret X rfl dX1_unit_60
    refine rf_neg c9 ?_
    by_cases c11 : p2 = (1 : Int32)
    · refine rf_pos c11 ?_
      refine rf_tsIn X (1 : Int32) c11 (by decide) (by decide) (tgt := 61) rfl rfl dX1_unit_26 ?_
      refine rf_aload_n X rfl dX1_unit_61 ?_
      refine rf_bind (fun v12 hv12 => ?_)
      refine rf_getI X fl_X1_179 hv12 dX1_unit_62 ?_
      exact rf_iret X rfl dX1_unit_65
    refine rf_neg c11 ?_
    by_cases c13 : p2 = (2 : Int32)
    · refine rf_pos c13 ?_
      refine rf_tsIn X (2 : Int32) c13 (by decide) (by decide) (tgt := 66) rfl rfl dX1_unit_26 ?_
      refine rf_aload_n X rfl dX1_unit_66 ?_
      refine rf_bind (fun v14 hv14 => ?_)
      refine rf_getI X fl_X1_182 hv14 dX1_unit_67 ?_
      exact rf_iret X rfl dX1_unit_70
    refine rf_neg c13 ?_
    by_cases c15 : p2 = (3 : Int32)
    · refine rf_pos c15 ?_
      refine rf_tsIn X (3 : Int32) c15 (by decide) (by decide) (tgt := 71) rfl rfl dX1_unit_26 ?_
      refine rf_aload_n X rfl dX1_unit_71 ?_
      refine rf_bind (fun v16 hv16 => ?_)
      refine rf_getI X fl_X1_185 hv16 dX1_unit_72 ?_
      exact rf_iret X rfl dX1_unit_75
    refine rf_neg c15 ?_
    refine rf_tsOut X (ts_def (0) (3) [(0 : Int32), (1 : Int32), (2 : Int32), (3 : Int32)] 4 (by decide) (by decide) (List.forall_mem_cons.mpr ⟨c9, (List.forall_mem_cons.mpr ⟨c11, (List.forall_mem_cons.mpr ⟨c13, (List.forall_mem_cons.mpr ⟨c15, (fun _ h => absurd h List.not_mem_nil)⟩)⟩)⟩)⟩)) (tgt := 76) rfl dX1_unit_26 ?_
    refine rf_iconst X (-1 : Int32) rfl dX1_unit_76 ?_
    exact rf_iret X rfl dX1_unit_77
  refine rf_iconst X (-1 : Int32) rfl dX1_unit_8 ?_
  exact rf_iret X rfl dX1_unit_9

theorem dX1_cached_0 : decode cX1_cached 0 = .ok (.iload_n 1, 1) := by decide +kernel
theorem dX1_cached_1 : decode cX1_cached 1 = .ok (.ifCond .lt 29, 3) := by decide +kernel
theorem dX1_cached_4 : decode cX1_cached 4 = .ok (.iload_n 1, 1) := by decide +kernel
theorem dX1_cached_5 : decode cX1_cached 5 = .ok (.aload_n 0, 1) := by decide +kernel
theorem dX1_cached_6 : decode cX1_cached 6 = .ok (.getfield 57, 3) := by decide +kernel
theorem dX1_cached_9 : decode cX1_cached 9 = .ok (.getfield 119, 3) := by decide +kernel
theorem dX1_cached_12 : decode cX1_cached 12 = .ok (.getfield 159, 3) := by decide +kernel
theorem dX1_cached_15 : decode cX1_cached 15 = .ok (.invokevirtual 152, 3) := by decide +kernel
theorem dX1_cached_18 : decode cX1_cached 18 = .ok (.if_icmp .ge 12, 3) := by decide +kernel
theorem dX1_cached_21 : decode cX1_cached 21 = .ok (.iload_n 2, 1) := by decide +kernel
theorem dX1_cached_22 : decode cX1_cached 22 = .ok (.ifCond .lt 8, 3) := by decide +kernel
theorem dX1_cached_25 : decode cX1_cached 25 = .ok (.iload_n 2, 1) := by decide +kernel
theorem dX1_cached_26 : decode cX1_cached 26 = .ok (.iconst 4, 1) := by decide +kernel
theorem dX1_cached_27 : decode cX1_cached 27 = .ok (.if_icmp .le 5, 3) := by decide +kernel
theorem dX1_cached_30 : decode cX1_cached 30 = .ok (.iconst (-1), 1) := by decide +kernel
theorem dX1_cached_31 : decode cX1_cached 31 = .ok (.ireturn, 1) := by decide +kernel
theorem dX1_cached_32 : decode cX1_cached 32 = .ok (.aload_n 0, 1) := by decide +kernel
theorem dX1_cached_33 : decode cX1_cached 33 = .ok (.getfield 57, 3) := by decide +kernel
theorem dX1_cached_36 : decode cX1_cached 36 = .ok (.getfield 119, 3) := by decide +kernel
theorem dX1_cached_39 : decode cX1_cached 39 = .ok (.getfield 159, 3) := by decide +kernel
theorem dX1_cached_42 : decode cX1_cached 42 = .ok (.iload_n 1, 1) := by decide +kernel
theorem dX1_cached_43 : decode cX1_cached 43 = .ok (.invokevirtual 170, 3) := by decide +kernel
theorem dX1_cached_46 : decode cX1_cached 46 = .ok (.checkcast 186, 3) := by decide +kernel
theorem dX1_cached_49 : decode cX1_cached 49 = .ok (.astore_n 3, 1) := by decide +kernel
theorem dX1_cached_50 : decode cX1_cached 50 = .ok (.iload_n 2, 1) := by decide +kernel
theorem dX1_cached_51 : decode cX1_cached 51 = .ok (.iconst 4, 1) := by decide +kernel
theorem dX1_cached_52 : decode cX1_cached 52 = .ok (.if_icmp .ne 10, 3) := by decide +kernel
theorem dX1_cached_55 : decode cX1_cached 55 = .ok (.aload_n 3, 1) := by decide +kernel
theorem dX1_cached_56 : decode cX1_cached 56 = .ok (.getfield 188, 3) := by decide +kernel
theorem dX1_cached_59 : decode cX1_cached 59 = .ok (.goto 9, 3) := by decide +kernel
theorem dX1_cached_62 : decode cX1_cached 62 = .ok (.aload_n 3, 1) := by decide +kernel
theorem dX1_cached_63 : decode cX1_cached 63 = .ok (.getfield 191, 3) := by decide +kernel
theorem dX1_cached_66 : decode cX1_cached 66 = .ok (.iload_n 2, 1) := by decide +kernel
theorem dX1_cached_67 : decode cX1_cached 67 = .ok (.iaload, 1) := by decide +kernel
theorem dX1_cached_68 : decode cX1_cached 68 = .ok (.ireturn, 1) := by decide +kernel
def fX1_cached (a0 : Nat) (p1 : Int32) (p2 : Int32) (A : AH) : Option (Int32) :=
jn (some (-1 : Int32)) fun j1 =>
if p1 < 0 then (j1) else
(gR A (some a0) 1 5).bind fun v3 =>
(gR A v3 7 9).bind fun v4 =>
(gR A v4 9 0).bind fun v5 =>
(rcv A v5 0).bind fun v6 =>
(fJ2_size v6 A).bind fun g7 =>
if (((g7 ≤ p1) ∨ (p2 < 0)) ∨ (¬ (p2 ≤ (4 : Int32)))) then (j1) else
(fJ2_get v6 p1 A).bind fun g8 =>
(cst A g8 10).bind fun v9 =>
jn (fun (y11 : Int32) =>
some y11) fun j10 =>
if p2 = (4 : Int32) then ((gI A g8 10 1).bind fun v13 =>
j10 v13) else
(gR A g8 10 0).bind fun v14 =>
(aI A v14 p2).bind fun v15 =>
j10 v15

set_option maxHeartbeats 4000000 in
set_option maxRecDepth 100000 in
theorem sX1_cached (l : Launch) (D : DE) (a0 : Nat) (p1 : Int32) (p2 : Int32) (A : AH) (g : Int32) (hg : fX1_cached a0 p1 p2 A = some g) : Sm l D yX1_cached cX1_cached 4 (some Jvm.ClassFile.FieldType.int) 3 64 [tR (some a0), tI p1, tI p2] A (qI A g).1 (qI A g).2 := by
  refine Sm.of (ω := qI A) (fX1_cached a0 p1 p2 A) [some (tR (some a0)), some (tI p1), some (tI p2), none] (by decide) (Nat.le_of_ble_eq_true rfl) rfl hg ?_
  intro p e R s m args below meth c X hin
  have X : Cx D cX1_cached RX1 4 3 64 (some Jvm.ClassFile.FieldType.int) p R s m args meth c := X
  unfold fX1_cached
  refine rf_iload_n X rfl dX1_cached_0 ?_
  refine rf_jn2 (fun i => RfX X l e below (qI A) i 30 [none, none, none, none] [] A) ?_ (fun j1 hj1 => ?_)
  · show RfX X l e below _ _ _ _ _ _
    refine rf_iconst X (-1 : Int32) rfl dX1_cached_30 ?_
    exact rf_iret X rfl dX1_cached_31
  refine rf_if_lt X (tgt := 30) rfl dX1_cached_1 (fun c2 => rf_pos c2 ?_) (fun c2 => rf_neg c2 ?_)
  · exact rf_go hj1 True.intro
  refine rf_iload_n X rfl dX1_cached_4 ?_
  refine rf_aload_n X rfl dX1_cached_5 ?_
  refine rf_bind (fun v3 hv3 => ?_)
  refine rf_getR X fl_X1_57 hv3 dX1_cached_6 ?_
  refine rf_bind (fun v4 hv4 => ?_)
  refine rf_getR X fl_X1_119 hv4 dX1_cached_9 ?_
  refine rf_bind (fun v5 hv5 => ?_)
  refine rf_getR X fl_X1_159 hv5 dX1_cached_12 ?_
  refine rf_bind (fun v6 hv6 => ?_)
  refine rf_bind (fun g7 hg7 => ?_)
  refine rf_callVI X c_X1_152 ⟨Nat.le_of_ble_eq_true rfl, Nat.le_of_ble_eq_true rfl⟩ [] rfl (Nat.le_of_ble_eq_true rfl) hv6 (sJ2_size l D v6 A g7 hg7) dX1_cached_15 ?_
  refine rf_br 30 32 [some (tR (some a0)), some (tI p1), some (tI p2), none] [some (tR (some a0)), some (tI p1), some (tI p2), none] [] [] (fun _ => ?_) (fun _ => ?_) (fun _ jT jF => ?_)
  · exact rf_go hj1 True.intro
  · refine rf_aload_n X rfl dX1_cached_32 ?_
    refine rf_getR X fl_X1_57 hv3 dX1_cached_33 ?_
    refine rf_getR X fl_X1_119 hv4 dX1_cached_36 ?_
    refine rf_getR X fl_X1_159 hv5 dX1_cached_39 ?_
    refine rf_iload_n X rfl dX1_cached_42 ?_
    refine rf_bind (fun g8 hg8 => ?_)
    refine rf_callVI X c_X1_170 ⟨Nat.le_of_ble_eq_true rfl, Nat.le_of_ble_eq_true rfl⟩ [tI p1] rfl (Nat.le_of_ble_eq_true rfl) hv6 (sJ2_get l D v6 p1 A g8 hg8) dX1_cached_43 ?_
    refine rf_bind (fun v9 hv9 => ?_)
    refine rf_cast X (ci := 10) rfl rfl q1004 hv9 dX1_cached_46 ?_
    refine rf_astore_n X (ls' := [some (tR (some a0)), some (tI p1), some (tI p2), some (tR g8)]) rfl (by decide) dX1_cached_49 ?_
    refine rf_iload_n X rfl dX1_cached_50 ?_
    refine rf_iconst X (4 : Int32) rfl dX1_cached_51 ?_
    refine rf_jn2 (fun i => ∀ (y11 : Int32), RfX X l e below (qI A) (i y11) 68 [none, none, none, none] [tI y11] A) ?_ (fun j10 hj10 => ?_)
    · intro y11
      exact rf_iret X rfl dX1_cached_68
    refine rf_icmp_ne X (tgt := 62) rfl dX1_cached_52 (fun c12 => rf_neg c12 ?_) (fun c12 => rf_pos c12 ?_)
    · refine rf_aload_n X rfl dX1_cached_62 ?_
      refine rf_bind (fun v14 hv14 => ?_)
      refine rf_getR X fl_X1_191 hv14 dX1_cached_63 ?_
      refine rf_iload_n X rfl dX1_cached_66 ?_
      refine rf_bind (fun v15 hv15 => ?_)
      refine rf_iald X hv15 dX1_cached_67 ?_
      exact rf_go (hj10 v15) True.intro
    refine rf_aload_n X rfl dX1_cached_55 ?_
    refine rf_bind (fun v13 hv13 => ?_)
    refine rf_getI X fl_X1_188 hv13 dX1_cached_56 ?_
    refine rf_goto X (tgt := 68) rfl dX1_cached_59 ?_
    exact rf_go (hj10 v13) True.intro
  refine rf_icmp_ge X (tgt := 30) rfl dX1_cached_18 (fun c16 => ?_) (fun c16 => ?_)
  · exact jT (Or.inl (Or.inl c16))
  refine rf_iload_n X rfl dX1_cached_21 ?_
  refine rf_if_lt X (tgt := 30) rfl dX1_cached_22 (fun c17 => ?_) (fun c17 => ?_)
  · exact jT (Or.inl (Or.inr c17))
  refine rf_iload_n X rfl dX1_cached_25 ?_
  refine rf_iconst X (4 : Int32) rfl dX1_cached_26 ?_
  refine rf_icmp_le X (tgt := 32) rfl dX1_cached_27 (fun c18 => ?_) (fun c18 => ?_)
  · exact jF (fun z => z.elim (fun z => z.elim c16 c17) (fun z => z c18))
  exact jT (Or.inr c18)

theorem dX1_isSlot_0 : decode cX1_isSlot 0 = .ok (.aload_n 0, 1) := by decide +kernel
theorem dX1_isSlot_1 : decode cX1_isSlot 1 = .ok (.iload_n 1, 1) := by decide +kernel
theorem dX1_isSlot_2 : decode cX1_isSlot 2 = .ok (.invokevirtual 166, 3) := by decide +kernel
theorem dX1_isSlot_5 : decode cX1_isSlot 5 = .ok (.ifCond .eq 22, 3) := by decide +kernel
theorem dX1_isSlot_8 : decode cX1_isSlot 8 = .ok (.iload_n 2, 1) := by decide +kernel
theorem dX1_isSlot_9 : decode cX1_isSlot 9 = .ok (.ifCond .lt 18, 3) := by decide +kernel
theorem dX1_isSlot_12 : decode cX1_isSlot 12 = .ok (.iload_n 2, 1) := by decide +kernel
theorem dX1_isSlot_13 : decode cX1_isSlot 13 = .ok (.aload_n 0, 1) := by decide +kernel
theorem dX1_isSlot_14 : decode cX1_isSlot 14 = .ok (.getfield 57, 3) := by decide +kernel
theorem dX1_isSlot_17 : decode cX1_isSlot 17 = .ok (.getfield 86, 3) := by decide +kernel
theorem dX1_isSlot_20 : decode cX1_isSlot 20 = .ok (.if_icmp .ge 7, 3) := by decide +kernel
theorem dX1_isSlot_23 : decode cX1_isSlot 23 = .ok (.iconst 1, 1) := by decide +kernel
theorem dX1_isSlot_24 : decode cX1_isSlot 24 = .ok (.goto 4, 3) := by decide +kernel
theorem dX1_isSlot_27 : decode cX1_isSlot 27 = .ok (.iconst 0, 1) := by decide +kernel
theorem dX1_isSlot_28 : decode cX1_isSlot 28 = .ok (.ireturn, 1) := by decide +kernel
def fX1_isSlot (a0 : Nat) (p1 : Int32) (p2 : Int32) (A : AH) : Option (Int32) :=
(rcv A (some a0) 1).bind fun v1 =>
(fX1_isUnit v1 p1 A).bind fun g2 =>
jn (fun (y4 : Int32) =>
some (nb y4)) fun j3 =>
jn (j3 (0 : Int32)) fun j5 =>
if ((g2 = 0) ∨ (p2 < 0)) then (j5) else
(gR A (some a0) 1 5).bind fun v6 =>
(gI A v6 7 1).bind fun v7 =>
if v7 ≤ p2 then (j5) else
j3 (1 : Int32)

set_option maxHeartbeats 4000000 in
set_option maxRecDepth 100000 in
theorem sX1_isSlot (l : Launch) (D : DE) (a0 : Nat) (p1 : Int32) (p2 : Int32) (A : AH) (g : Int32) (hg : fX1_isSlot a0 p1 p2 A = some g) : Sm l D yX1_isSlot cX1_isSlot 3 (some Jvm.ClassFile.FieldType.boolean) 2 41 [tR (some a0), tI p1, tI p2] A (qI A g).1 (qI A g).2 := by
  refine Sm.of (ω := qI A) (fX1_isSlot a0 p1 p2 A) [some (tR (some a0)), some (tI p1), some (tI p2)] (by decide) (Nat.le_of_ble_eq_true rfl) rfl hg ?_
  intro p e R s m args below meth c X hin
  have X : Cx D cX1_isSlot RX1 3 2 41 (some Jvm.ClassFile.FieldType.boolean) p R s m args meth c := X
  unfold fX1_isSlot
  refine rf_aload_n X rfl dX1_isSlot_0 ?_
  refine rf_iload_n X rfl dX1_isSlot_1 ?_
  refine rf_bind (fun v1 hv1 => ?_)
  refine rf_bind (fun g2 hg2 => ?_)
  refine rf_callVI X c_X1_166 ⟨Nat.le_of_ble_eq_true rfl, Nat.le_of_ble_eq_true rfl⟩ [tI p1] rfl (Nat.le_of_ble_eq_true rfl) hv1 (sX1_isUnit l D v1 p1 A g2 hg2) dX1_isSlot_2 ?_
  refine rf_jn2 (fun i => ∀ (y4 : Int32), RfX X l e below (qI A) (i y4) 28 [none, none, none] [tI y4] A) ?_ (fun j3 hj3 => ?_)
  · intro y4
    exact rf_zret X rfl dX1_isSlot_28
  refine rf_jn2 (fun i => RfX X l e below (qI A) i 27 [none, none, none] [] A) ?_ (fun j5 hj5 => ?_)
  · show RfX X l e below _ _ _ _ _ _
    refine rf_iconst X (0 : Int32) rfl dX1_isSlot_27 ?_
    exact rf_go (hj3 (0 : Int32)) True.intro
  refine rf_br 27 12 [some (tR (some a0)), some (tI p1), some (tI p2)] [some (tR (some a0)), some (tI p1), some (tI p2)] [] [] (fun _ => ?_) (fun _ => ?_) (fun _ jT jF => ?_)
  · exact rf_go hj5 True.intro
  · refine rf_iload_n X rfl dX1_isSlot_12 ?_
    refine rf_aload_n X rfl dX1_isSlot_13 ?_
    refine rf_bind (fun v6 hv6 => ?_)
    refine rf_getR X fl_X1_57 hv6 dX1_isSlot_14 ?_
    refine rf_bind (fun v7 hv7 => ?_)
    refine rf_getI X fl_X1_86 hv7 dX1_isSlot_17 ?_
    refine rf_icmp_ge X (tgt := 27) rfl dX1_isSlot_20 (fun c8 => rf_pos c8 ?_) (fun c8 => rf_neg c8 ?_)
    · exact rf_go hj5 True.intro
    refine rf_iconst X (1 : Int32) rfl dX1_isSlot_23 ?_
    refine rf_goto X (tgt := 28) rfl dX1_isSlot_24 ?_
    exact rf_go (hj3 (1 : Int32)) True.intro
  refine rf_if_eq X (tgt := 27) rfl dX1_isSlot_5 (fun c9 => ?_) (fun c9 => ?_)
  · exact jT (Or.inl c9)
  refine rf_iload_n X rfl dX1_isSlot_8 ?_
  refine rf_if_lt X (tgt := 27) rfl dX1_isSlot_9 (fun c10 => ?_) (fun c10 => ?_)
  · exact jT (Or.inr c10)
  exact jF (fun z => z.elim c9 c10)

theorem dX13_ended_0 : decode cX13_ended 0 = .ok (.iconst 0, 1) := by decide +kernel
theorem dX13_ended_1 : decode cX13_ended 1 = .ok (.istore_n 1, 1) := by decide +kernel
theorem dX13_ended_2 : decode cX13_ended 2 = .ok (.iconst 0, 1) := by decide +kernel
theorem dX13_ended_3 : decode cX13_ended 3 = .ok (.istore_n 2, 1) := by decide +kernel
theorem dX13_ended_4 : decode cX13_ended 4 = .ok (.iload_n 2, 1) := by decide +kernel
theorem dX13_ended_5 : decode cX13_ended 5 = .ok (.aload_n 0, 1) := by decide +kernel
theorem dX13_ended_6 : decode cX13_ended 6 = .ok (.getfield 14, 3) := by decide +kernel
theorem dX13_ended_9 : decode cX13_ended 9 = .ok (.invokevirtual 41, 3) := by decide +kernel
theorem dX13_ended_12 : decode cX13_ended 12 = .ok (.if_icmp .ge 34, 3) := by decide +kernel
theorem dX13_ended_15 : decode cX13_ended 15 = .ok (.iload_n 1, 1) := by decide +kernel
theorem dX13_ended_16 : decode cX13_ended 16 = .ok (.aload_n 0, 1) := by decide +kernel
theorem dX13_ended_17 : decode cX13_ended 17 = .ok (.getfield 14, 3) := by decide +kernel
theorem dX13_ended_20 : decode cX13_ended 20 = .ok (.iload_n 2, 1) := by decide +kernel
theorem dX13_ended_21 : decode cX13_ended 21 = .ok (.invokevirtual 45, 3) := by decide +kernel
theorem dX13_ended_24 : decode cX13_ended 24 = .ok (.checkcast 49, 3) := by decide +kernel
theorem dX13_ended_27 : decode cX13_ended 27 = .ok (.getfield 51, 3) := by decide +kernel
theorem dX13_ended_30 : decode cX13_ended 30 = .ok (.ifCond .eq 7, 3) := by decide +kernel
theorem dX13_ended_33 : decode cX13_ended 33 = .ok (.iconst 1, 1) := by decide +kernel
theorem dX13_ended_34 : decode cX13_ended 34 = .ok (.goto 4, 3) := by decide +kernel
theorem dX13_ended_37 : decode cX13_ended 37 = .ok (.iconst 0, 1) := by decide +kernel
theorem dX13_ended_38 : decode cX13_ended 38 = .ok (.iadd, 1) := by decide +kernel
theorem dX13_ended_39 : decode cX13_ended 39 = .ok (.istore_n 1, 1) := by decide +kernel
theorem dX13_ended_40 : decode cX13_ended 40 = .ok (.iinc 2 1, 3) := by decide +kernel
theorem dX13_ended_43 : decode cX13_ended 43 = .ok (.goto (-39), 3) := by decide +kernel
theorem dX13_ended_46 : decode cX13_ended 46 = .ok (.iload_n 1, 1) := by decide +kernel
theorem dX13_ended_47 : decode cX13_ended 47 = .ok (.ireturn, 1) := by decide +kernel
def fX13_ended (n : Nat) (a0 : Nat) (A : AH) : Option (Int32) :=
jl (fixG (fun _ _ => none) (fun (rc4 : (Int32) → (Int32) → Option (Int32)) (x2 : Int32) (x3 : Int32) =>
(gR A (some a0) 13 2).bind fun v5 =>
(rcv A v5 0).bind fun v6 =>
(fJ2_size v6 A).bind fun g7 =>
if g7 ≤ x3 then (some x2) else
(fJ2_get v6 x3 A).bind fun g9 =>
(cst A g9 14).bind fun v10 =>
(gI A g9 14 3).bind fun v11 =>
jn (fun (y13 : Int32) =>
rc4 (x2 + y13) (x3 + (1 : Int32))) fun j12 =>
if v11 = 0 then (j12 (0 : Int32)) else
j12 (1 : Int32)) n) fun j1 =>
j1 (0 : Int32) (0 : Int32)

set_option maxHeartbeats 4000000 in
set_option maxRecDepth 100000 in
theorem sX13_ended (l : Launch) (D : DE) (n : Nat) (a0 : Nat) (A : AH) (g : Int32) (hg : fX13_ended n a0 A = some g) : Sm l D yX13_ended cX13_ended 3 (some Jvm.ClassFile.FieldType.int) 3 64 [tR (some a0)] A (qI A g).1 (qI A g).2 := by
  refine Sm.of (ω := qI A) (fX13_ended n a0 A) [some (tR (some a0)), none, none] (by decide) (Nat.le_of_ble_eq_true rfl) rfl hg ?_
  intro p e R s m args below meth c X hin
  have X : Cx D cX13_ended RX13 3 3 64 (some Jvm.ClassFile.FieldType.int) p R s m args meth c := X
  unfold fX13_ended
  refine rf_iconst X (0 : Int32) rfl dX13_ended_0 ?_
  refine rf_istore_n X (ls' := [some (tR (some a0)), some (tI (0 : Int32)), none]) rfl (by decide) dX13_ended_1 ?_
  refine rf_iconst X (0 : Int32) rfl dX13_ended_2 ?_
  refine rf_istore_n X (ls' := [some (tR (some a0)), some (tI (0 : Int32)), some (tI (0 : Int32))]) rfl (by decide) dX13_ended_3 ?_
  refine rf_fix (fun i => ∀ (x2 : Int32) (x3 : Int32), RfX X l e below (qI A) (i x2 x3) 4 [some (tR (some a0)), some (tI x2), some (tI x3)] [] A) (fun _ _ => rf_none) (fun rc4 hrc4 => ?_) (fun j1 hj1 => ?_)
  · intro x2 x3
    refine rf_iload_n X rfl dX13_ended_4 ?_
    refine rf_aload_n X rfl dX13_ended_5 ?_
    refine rf_bind (fun v5 hv5 => ?_)
    refine rf_getR X fl_X13_14 hv5 dX13_ended_6 ?_
    refine rf_bind (fun v6 hv6 => ?_)
    refine rf_bind (fun g7 hg7 => ?_)
    refine rf_callVI X c_X13_41 ⟨Nat.le_of_ble_eq_true rfl, Nat.le_of_ble_eq_true rfl⟩ [] rfl (Nat.le_of_ble_eq_true rfl) hv6 (sJ2_size l D v6 A g7 hg7) dX13_ended_9 ?_
    refine rf_icmp_ge X (tgt := 46) rfl dX13_ended_12 (fun c8 => rf_pos c8 ?_) (fun c8 => rf_neg c8 ?_)
    · refine rf_iload_n X rfl dX13_ended_46 ?_
      exact rf_iret X rfl dX13_ended_47
    refine rf_iload_n X rfl dX13_ended_15 ?_
    refine rf_aload_n X rfl dX13_ended_16 ?_
    refine rf_getR X fl_X13_14 hv5 dX13_ended_17 ?_
    refine rf_iload_n X rfl dX13_ended_20 ?_
    refine rf_bind (fun g9 hg9 => ?_)
    refine rf_callVI X c_X13_45 ⟨Nat.le_of_ble_eq_true rfl, Nat.le_of_ble_eq_true rfl⟩ [tI x3] rfl (Nat.le_of_ble_eq_true rfl) hv6 (sJ2_get l D v6 x3 A g9 hg9) dX13_ended_21 ?_
    refine rf_bind (fun v10 hv10 => ?_)
    refine rf_cast X (ci := 14) rfl rfl q1019 hv10 dX13_ended_24 ?_
    refine rf_bind (fun v11 hv11 => ?_)
    refine rf_getI X fl_X13_51 hv11 dX13_ended_27 ?_
    refine rf_jn2 (fun i => ∀ (y13 : Int32), RfX X l e below (qI A) (i y13) 38 [some (tR (some a0)), none, some (tI x3)] [tI y13, tI x2] A) ?_ (fun j12 hj12 => ?_)
    · intro y13
      refine rf_iadd X dX13_ended_38 ?_
      refine rf_istore_n X (ls' := [some (tR (some a0)), some (tI (x2 + y13)), some (tI x3)]) rfl (by decide) dX13_ended_39 ?_
      refine rf_iinc X (x3 + (1 : Int32)) rfl rfl (ls' := [some (tR (some a0)), some (tI (x2 + y13)), some (tI (x3 + (1 : Int32)))]) rfl (by decide) dX13_ended_40 ?_
      refine rf_goto X (tgt := 4) rfl dX13_ended_43 ?_
      exact rf_go (hrc4 (x2 + y13) (x3 + (1 : Int32))) (And.intro rfl (And.intro rfl (And.intro rfl True.intro)))
    refine rf_if_eq X (tgt := 37) rfl dX13_ended_30 (fun c14 => rf_pos c14 ?_) (fun c14 => rf_neg c14 ?_)
    · refine rf_iconst X (0 : Int32) rfl dX13_ended_37 ?_
      exact rf_go (hj12 (0 : Int32)) (And.intro rfl (And.intro rfl True.intro))
    refine rf_iconst X (1 : Int32) rfl dX13_ended_33 ?_
    refine rf_goto X (tgt := 38) rfl dX13_ended_34 ?_
    exact rf_go (hj12 (1 : Int32)) (And.intro rfl (And.intro rfl True.intro))
  exact rf_go (hj1 (0 : Int32) (0 : Int32)) (And.intro rfl (And.intro rfl (And.intro rfl True.intro)))

theorem dX13_waiting_0 : decode cX13_waiting 0 = .ok (.iconst 0, 1) := by decide +kernel
theorem dX13_waiting_1 : decode cX13_waiting 1 = .ok (.istore_n 1, 1) := by decide +kernel
theorem dX13_waiting_2 : decode cX13_waiting 2 = .ok (.iconst 0, 1) := by decide +kernel
theorem dX13_waiting_3 : decode cX13_waiting 3 = .ok (.istore_n 2, 1) := by decide +kernel
theorem dX13_waiting_4 : decode cX13_waiting 4 = .ok (.iload_n 2, 1) := by decide +kernel
theorem dX13_waiting_5 : decode cX13_waiting 5 = .ok (.aload_n 0, 1) := by decide +kernel
theorem dX13_waiting_6 : decode cX13_waiting 6 = .ok (.getfield 14, 3) := by decide +kernel
theorem dX13_waiting_9 : decode cX13_waiting 9 = .ok (.invokevirtual 41, 3) := by decide +kernel
theorem dX13_waiting_12 : decode cX13_waiting 12 = .ok (.if_icmp .ge 34, 3) := by decide +kernel
theorem dX13_waiting_15 : decode cX13_waiting 15 = .ok (.iload_n 1, 1) := by decide +kernel
theorem dX13_waiting_16 : decode cX13_waiting 16 = .ok (.aload_n 0, 1) := by decide +kernel
theorem dX13_waiting_17 : decode cX13_waiting 17 = .ok (.getfield 14, 3) := by decide +kernel
theorem dX13_waiting_20 : decode cX13_waiting 20 = .ok (.iload_n 2, 1) := by decide +kernel
theorem dX13_waiting_21 : decode cX13_waiting 21 = .ok (.invokevirtual 45, 3) := by decide +kernel
theorem dX13_waiting_24 : decode cX13_waiting 24 = .ok (.checkcast 49, 3) := by decide +kernel
theorem dX13_waiting_27 : decode cX13_waiting 27 = .ok (.getfield 55, 3) := by decide +kernel
theorem dX13_waiting_30 : decode cX13_waiting 30 = .ok (.ifCond .eq 7, 3) := by decide +kernel
theorem dX13_waiting_33 : decode cX13_waiting 33 = .ok (.iconst 1, 1) := by decide +kernel
theorem dX13_waiting_34 : decode cX13_waiting 34 = .ok (.goto 4, 3) := by decide +kernel
theorem dX13_waiting_37 : decode cX13_waiting 37 = .ok (.iconst 0, 1) := by decide +kernel
theorem dX13_waiting_38 : decode cX13_waiting 38 = .ok (.iadd, 1) := by decide +kernel
theorem dX13_waiting_39 : decode cX13_waiting 39 = .ok (.istore_n 1, 1) := by decide +kernel
theorem dX13_waiting_40 : decode cX13_waiting 40 = .ok (.iinc 2 1, 3) := by decide +kernel
theorem dX13_waiting_43 : decode cX13_waiting 43 = .ok (.goto (-39), 3) := by decide +kernel
theorem dX13_waiting_46 : decode cX13_waiting 46 = .ok (.iload_n 1, 1) := by decide +kernel
theorem dX13_waiting_47 : decode cX13_waiting 47 = .ok (.ireturn, 1) := by decide +kernel
def fX13_waiting (n : Nat) (a0 : Nat) (A : AH) : Option (Int32) :=
jl (fixG (fun _ _ => none) (fun (rc4 : (Int32) → (Int32) → Option (Int32)) (x2 : Int32) (x3 : Int32) =>
(gR A (some a0) 13 2).bind fun v5 =>
(rcv A v5 0).bind fun v6 =>
(fJ2_size v6 A).bind fun g7 =>
if g7 ≤ x3 then (some x2) else
(fJ2_get v6 x3 A).bind fun g9 =>
(cst A g9 14).bind fun v10 =>
(gI A g9 14 4).bind fun v11 =>
jn (fun (y13 : Int32) =>
rc4 (x2 + y13) (x3 + (1 : Int32))) fun j12 =>
if v11 = 0 then (j12 (0 : Int32)) else
j12 (1 : Int32)) n) fun j1 =>
j1 (0 : Int32) (0 : Int32)

set_option maxHeartbeats 4000000 in
set_option maxRecDepth 100000 in
theorem sX13_waiting (l : Launch) (D : DE) (n : Nat) (a0 : Nat) (A : AH) (g : Int32) (hg : fX13_waiting n a0 A = some g) : Sm l D yX13_waiting cX13_waiting 3 (some Jvm.ClassFile.FieldType.int) 3 64 [tR (some a0)] A (qI A g).1 (qI A g).2 := by
  refine Sm.of (ω := qI A) (fX13_waiting n a0 A) [some (tR (some a0)), none, none] (by decide) (Nat.le_of_ble_eq_true rfl) rfl hg ?_
  intro p e R s m args below meth c X hin
  have X : Cx D cX13_waiting RX13 3 3 64 (some Jvm.ClassFile.FieldType.int) p R s m args meth c := X
  unfold fX13_waiting
  refine rf_iconst X (0 : Int32) rfl dX13_waiting_0 ?_
  refine rf_istore_n X (ls' := [some (tR (some a0)), some (tI (0 : Int32)), none]) rfl (by decide) dX13_waiting_1 ?_
  refine rf_iconst X (0 : Int32) rfl dX13_waiting_2 ?_
  refine rf_istore_n X (ls' := [some (tR (some a0)), some (tI (0 : Int32)), some (tI (0 : Int32))]) rfl (by decide) dX13_waiting_3 ?_
  refine rf_fix (fun i => ∀ (x2 : Int32) (x3 : Int32), RfX X l e below (qI A) (i x2 x3) 4 [some (tR (some a0)), some (tI x2), some (tI x3)] [] A) (fun _ _ => rf_none) (fun rc4 hrc4 => ?_) (fun j1 hj1 => ?_)
  · intro x2 x3
    refine rf_iload_n X rfl dX13_waiting_4 ?_
    refine rf_aload_n X rfl dX13_waiting_5 ?_
    refine rf_bind (fun v5 hv5 => ?_)
    refine rf_getR X fl_X13_14 hv5 dX13_waiting_6 ?_
    refine rf_bind (fun v6 hv6 => ?_)
    refine rf_bind (fun g7 hg7 => ?_)
    refine rf_callVI X c_X13_41 ⟨Nat.le_of_ble_eq_true rfl, Nat.le_of_ble_eq_true rfl⟩ [] rfl (Nat.le_of_ble_eq_true rfl) hv6 (sJ2_size l D v6 A g7 hg7) dX13_waiting_9 ?_
    refine rf_icmp_ge X (tgt := 46) rfl dX13_waiting_12 (fun c8 => rf_pos c8 ?_) (fun c8 => rf_neg c8 ?_)
    · refine rf_iload_n X rfl dX13_waiting_46 ?_
      exact rf_iret X rfl dX13_waiting_47
    refine rf_iload_n X rfl dX13_waiting_15 ?_
    refine rf_aload_n X rfl dX13_waiting_16 ?_
    refine rf_getR X fl_X13_14 hv5 dX13_waiting_17 ?_
    refine rf_iload_n X rfl dX13_waiting_20 ?_
    refine rf_bind (fun g9 hg9 => ?_)
    refine rf_callVI X c_X13_45 ⟨Nat.le_of_ble_eq_true rfl, Nat.le_of_ble_eq_true rfl⟩ [tI x3] rfl (Nat.le_of_ble_eq_true rfl) hv6 (sJ2_get l D v6 x3 A g9 hg9) dX13_waiting_21 ?_
    refine rf_bind (fun v10 hv10 => ?_)
    refine rf_cast X (ci := 14) rfl rfl q1019 hv10 dX13_waiting_24 ?_
    refine rf_bind (fun v11 hv11 => ?_)
    refine rf_getI X fl_X13_55 hv11 dX13_waiting_27 ?_
    refine rf_jn2 (fun i => ∀ (y13 : Int32), RfX X l e below (qI A) (i y13) 38 [some (tR (some a0)), none, some (tI x3)] [tI y13, tI x2] A) ?_ (fun j12 hj12 => ?_)
    · intro y13
      refine rf_iadd X dX13_waiting_38 ?_
      refine rf_istore_n X (ls' := [some (tR (some a0)), some (tI (x2 + y13)), some (tI x3)]) rfl (by decide) dX13_waiting_39 ?_
      refine rf_iinc X (x3 + (1 : Int32)) rfl rfl (ls' := [some (tR (some a0)), some (tI (x2 + y13)), some (tI (x3 + (1 : Int32)))]) rfl (by decide) dX13_waiting_40 ?_
      refine rf_goto X (tgt := 4) rfl dX13_waiting_43 ?_
      exact rf_go (hrc4 (x2 + y13) (x3 + (1 : Int32))) (And.intro rfl (And.intro rfl (And.intro rfl True.intro)))
    refine rf_if_eq X (tgt := 37) rfl dX13_waiting_30 (fun c14 => rf_pos c14 ?_) (fun c14 => rf_neg c14 ?_)
    · refine rf_iconst X (0 : Int32) rfl dX13_waiting_37 ?_
      exact rf_go (hj12 (0 : Int32)) (And.intro rfl (And.intro rfl True.intro))
    refine rf_iconst X (1 : Int32) rfl dX13_waiting_33 ?_
    refine rf_goto X (tgt := 38) rfl dX13_waiting_34 ?_
    exact rf_go (hj12 (1 : Int32)) (And.intro rfl (And.intro rfl True.intro))
  exact rf_go (hj1 (0 : Int32) (0 : Int32)) (And.intro rfl (And.intro rfl (And.intro rfl True.intro)))

theorem dX1_slot_0 : decode cX1_slot 0 = .ok (.aload_n 0, 1) := by decide +kernel
theorem dX1_slot_1 : decode cX1_slot 1 = .ok (.iload_n 1, 1) := by decide +kernel
theorem dX1_slot_2 : decode cX1_slot 2 = .ok (.iload_n 2, 1) := by decide +kernel
theorem dX1_slot_3 : decode cX1_slot 3 = .ok (.invokevirtual 194, 3) := by decide +kernel
theorem dX1_slot_6 : decode cX1_slot 6 = .ok (.ifCond .eq 13, 3) := by decide +kernel
theorem dX1_slot_9 : decode cX1_slot 9 = .ok (.iload_n 3, 1) := by decide +kernel
theorem dX1_slot_10 : decode cX1_slot 10 = .ok (.ifCond .lt 9, 3) := by decide +kernel
theorem dX1_slot_13 : decode cX1_slot 13 = .ok (.iload_n 3, 1) := by decide +kernel
theorem dX1_slot_14 : decode cX1_slot 14 = .ok (.bipush 24, 2) := by decide +kernel
theorem dX1_slot_16 : decode cX1_slot 16 = .ok (.if_icmp .le 5, 3) := by decide +kernel
theorem dX1_slot_19 : decode cX1_slot 19 = .ok (.iconst (-1), 1) := by decide +kernel
theorem dX1_slot_20 : decode cX1_slot 20 = .ok (.ireturn, 1) := by decide +kernel
theorem dX1_slot_21 : decode cX1_slot 21 = .ok (.aload_n 0, 1) := by decide +kernel
theorem dX1_slot_22 : decode cX1_slot 22 = .ok (.getfield 57, 3) := by decide +kernel
theorem dX1_slot_25 : decode cX1_slot 25 = .ok (.getfield 149, 3) := by decide +kernel
theorem dX1_slot_28 : decode cX1_slot 28 = .ok (.iload_n 1, 1) := by decide +kernel
theorem dX1_slot_29 : decode cX1_slot 29 = .ok (.invokevirtual 170, 3) := by decide +kernel
theorem dX1_slot_32 : decode cX1_slot 32 = .ok (.checkcast 174, 3) := by decide +kernel
theorem dX1_slot_35 : decode cX1_slot 35 = .ok (.getfield 197, 3) := by decide +kernel
theorem dX1_slot_38 : decode cX1_slot 38 = .ok (.iload_n 2, 1) := by decide +kernel
theorem dX1_slot_39 : decode cX1_slot 39 = .ok (.aaload, 1) := by decide +kernel
theorem dX1_slot_40 : decode cX1_slot 40 = .ok (.astore 4, 2) := by decide +kernel
theorem dX1_slot_42 : decode cX1_slot 42 = .ok (.aload 4, 2) := by decide +kernel
theorem dX1_slot_44 : decode cX1_slot 44 = .ok (.ifnonnull 14, 3) := by decide +kernel
theorem dX1_slot_47 : decode cX1_slot 47 = .ok (.iload_n 3, 1) := by decide +kernel
theorem dX1_slot_48 : decode cX1_slot 48 = .ok (.iconst 2, 1) := by decide +kernel
theorem dX1_slot_49 : decode cX1_slot 49 = .ok (.if_icmp .ge 7, 3) := by decide +kernel
theorem dX1_slot_52 : decode cX1_slot 52 = .ok (.iconst (-1), 1) := by decide +kernel
theorem dX1_slot_53 : decode cX1_slot 53 = .ok (.goto 4, 3) := by decide +kernel
theorem dX1_slot_56 : decode cX1_slot 56 = .ok (.iconst 0, 1) := by decide +kernel
theorem dX1_slot_57 : decode cX1_slot 57 = .ok (.ireturn, 1) := by decide +kernel
theorem dX1_slot_58 : decode cX1_slot 58 = .ok (.iload_n 3, 1) := by decide +kernel
theorem dX1_slot_59 : decode cX1_slot 59 = .ok (.tableswitch 66 0 4 #[33, 42, 48, 54, 60], 33) := by decide +kernel
theorem dX1_slot_92 : decode cX1_slot 92 = .ok (.aload 4, 2) := by decide +kernel
theorem dX1_slot_94 : decode cX1_slot 94 = .ok (.getfield 200, 3) := by decide +kernel
theorem dX1_slot_97 : decode cX1_slot 97 = .ok (.getfield 206, 3) := by decide +kernel
theorem dX1_slot_100 : decode cX1_slot 100 = .ok (.ireturn, 1) := by decide +kernel
theorem dX1_slot_101 : decode cX1_slot 101 = .ok (.aload 4, 2) := by decide +kernel
theorem dX1_slot_103 : decode cX1_slot 103 = .ok (.getfield 211, 3) := by decide +kernel
theorem dX1_slot_106 : decode cX1_slot 106 = .ok (.ireturn, 1) := by decide +kernel
theorem dX1_slot_107 : decode cX1_slot 107 = .ok (.aload 4, 2) := by decide +kernel
theorem dX1_slot_109 : decode cX1_slot 109 = .ok (.invokevirtual 212, 3) := by decide +kernel
theorem dX1_slot_112 : decode cX1_slot 112 = .ok (.ireturn, 1) := by decide +kernel
theorem dX1_slot_113 : decode cX1_slot 113 = .ok (.aload 4, 2) := by decide +kernel
theorem dX1_slot_115 : decode cX1_slot 115 = .ok (.invokevirtual 215, 3) := by decide +kernel
theorem dX1_slot_118 : decode cX1_slot 118 = .ok (.ireturn, 1) := by decide +kernel
theorem dX1_slot_119 : decode cX1_slot 119 = .ok (.aload 4, 2) := by decide +kernel
theorem dX1_slot_121 : decode cX1_slot 121 = .ok (.getfield 218, 3) := by decide +kernel
theorem dX1_slot_124 : decode cX1_slot 124 = .ok (.ireturn, 1) := by decide +kernel
theorem dX1_slot_125 : decode cX1_slot 125 = .ok (.iload_n 3, 1) := by decide +kernel
theorem dX1_slot_126 : decode cX1_slot 126 = .ok (.bipush 21, 2) := by decide +kernel
theorem dX1_slot_128 : decode cX1_slot 128 = .ok (.if_icmp .ge 15, 3) := by decide +kernel
theorem dX1_slot_131 : decode cX1_slot 131 = .ok (.aload 4, 2) := by decide +kernel
theorem dX1_slot_133 : decode cX1_slot 133 = .ok (.getfield 221, 3) := by decide +kernel
theorem dX1_slot_136 : decode cX1_slot 136 = .ok (.iload_n 3, 1) := by decide +kernel
theorem dX1_slot_137 : decode cX1_slot 137 = .ok (.iconst 5, 1) := by decide +kernel
theorem dX1_slot_138 : decode cX1_slot 138 = .ok (.isub, 1) := by decide +kernel
theorem dX1_slot_139 : decode cX1_slot 139 = .ok (.iaload, 1) := by decide +kernel
theorem dX1_slot_140 : decode cX1_slot 140 = .ok (.goto 15, 3) := by decide +kernel
theorem dX1_slot_143 : decode cX1_slot 143 = .ok (.aload 4, 2) := by decide +kernel
theorem dX1_slot_145 : decode cX1_slot 145 = .ok (.getfield 224, 3) := by decide +kernel
theorem dX1_slot_148 : decode cX1_slot 148 = .ok (.iload_n 3, 1) := by decide +kernel
theorem dX1_slot_149 : decode cX1_slot 149 = .ok (.iconst 5, 1) := by decide +kernel
theorem dX1_slot_150 : decode cX1_slot 150 = .ok (.isub, 1) := by decide +kernel
theorem dX1_slot_151 : decode cX1_slot 151 = .ok (.bipush 16, 2) := by decide +kernel
theorem dX1_slot_153 : decode cX1_slot 153 = .ok (.isub, 1) := by decide +kernel
theorem dX1_slot_154 : decode cX1_slot 154 = .ok (.iaload, 1) := by decide +kernel
theorem dX1_slot_155 : decode cX1_slot 155 = .ok (.ireturn, 1) := by decide +kernel
def fX1_slot (n : Nat) (a0 : Nat) (p1 : Int32) (p2 : Int32) (p3 : Int32) (A : AH) : Option (Int32) :=
(rcv A (some a0) 1).bind fun v1 =>
(fX1_isSlot v1 p1 p2 A).bind fun g2 =>
if (((g2 = 0) ∨ (p3 < 0)) ∨ (¬ (p3 ≤ (24 : Int32)))) then (some (-1 : Int32)) else
(gR A (some a0) 1 5).bind fun v3 =>
(gR A v3 7 8).bind fun v4 =>
(rcv A v4 0).bind fun v5 =>
(fJ2_get v5 p1 A).bind fun g6 =>
(cst A g6 8).bind fun v7 =>
(gR A g6 8 0).bind fun v8 =>
(aR A v8 p2).bind fun v9 =>
if v9 = none then (jn (fun (y12 : Int32) =>
some y12) fun j11 =>
if (2 : Int32) ≤ p3 then (j11 (0 : Int32)) else
j11 (-1 : Int32)) else
if p3 = (0 : Int32) then ((gR A v9 13 0).bind fun v15 =>
(gI A v15 12 0).bind fun v16 =>
some v16) else
if p3 = (1 : Int32) then ((gI A v9 13 1).bind fun v18 =>
some v18) else
if p3 = (2 : Int32) then ((rcv A v9 13).bind fun v20 =>
(fX13_ended n v20 A).bind fun g21 =>
some g21) else
if p3 = (3 : Int32) then ((rcv A v9 13).bind fun v23 =>
(fX13_waiting n v23 A).bind fun g24 =>
some g24) else
if p3 = (4 : Int32) then ((gI A v9 13 5).bind fun v26 =>
some v26) else
jn (fun (y28 : Int32) =>
some y28) fun j27 =>
if (21 : Int32) ≤ p3 then ((gR A v9 13 4).bind fun v30 =>
(aI A v30 ((p3 - (5 : Int32)) - (16 : Int32))).bind fun v31 =>
j27 v31) else
(gR A v9 13 3).bind fun v32 =>
(aI A v32 (p3 - (5 : Int32))).bind fun v33 =>
j27 v33

set_option maxHeartbeats 4000000 in
set_option maxRecDepth 100000 in
theorem sX1_slot (l : Launch) (D : DE) (n : Nat) (a0 : Nat) (p1 : Int32) (p2 : Int32) (p3 : Int32) (A : AH) (g : Int32) (hg : fX1_slot n a0 p1 p2 p3 A = some g) : Sm l D yX1_slot cX1_slot 5 (some Jvm.ClassFile.FieldType.int) 4 86 [tR (some a0), tI p1, tI p2, tI p3] A (qI A g).1 (qI A g).2 := by
  refine Sm.of (ω := qI A) (fX1_slot n a0 p1 p2 p3 A) [some (tR (some a0)), some (tI p1), some (tI p2), some (tI p3), none] (by decide) (Nat.le_of_ble_eq_true rfl) rfl hg ?_
  intro p e R s m args below meth c X hin
  have X : Cx D cX1_slot RX1 5 4 86 (some Jvm.ClassFile.FieldType.int) p R s m args meth c := X
  unfold fX1_slot
  refine rf_aload_n X rfl dX1_slot_0 ?_
  refine rf_iload_n X rfl dX1_slot_1 ?_
  refine rf_iload_n X rfl dX1_slot_2 ?_
  refine rf_bind (fun v1 hv1 => ?_)
  refine rf_bind (fun g2 hg2 => ?_)
  refine rf_callVI X c_X1_194 ⟨Nat.le_of_ble_eq_true rfl, Nat.le_of_ble_eq_true rfl⟩ [tI p1, tI p2] rfl (Nat.le_of_ble_eq_true rfl) hv1 (sX1_isSlot l D v1 p1 p2 A g2 hg2) dX1_slot_3 ?_
  refine rf_br 19 21 [some (tR (some a0)), some (tI p1), some (tI p2), some (tI p3), none] [some (tR (some a0)), some (tI p1), some (tI p2), some (tI p3), none] [] [] (fun _ => ?_) (fun _ => ?_) (fun _ jT jF => ?_)
  · refine rf_iconst X (-1 : Int32) rfl dX1_slot_19 ?_
    exact rf_iret X rfl dX1_slot_20
  · refine rf_aload_n X rfl dX1_slot_21 ?_
    refine rf_bind (fun v3 hv3 => ?_)
    refine rf_getR X fl_X1_57 hv3 dX1_slot_22 ?_
    refine rf_bind (fun v4 hv4 => ?_)
    refine rf_getR X fl_X1_149 hv4 dX1_slot_25 ?_
    refine rf_iload_n X rfl dX1_slot_28 ?_
    refine rf_bind (fun v5 hv5 => ?_)
    refine rf_bind (fun g6 hg6 => ?_)
    refine rf_callVI X c_X1_170 ⟨Nat.le_of_ble_eq_true rfl, Nat.le_of_ble_eq_true rfl⟩ [tI p1] rfl (Nat.le_of_ble_eq_true rfl) hv5 (sJ2_get l D v5 p1 A g6 hg6) dX1_slot_29 ?_
    refine rf_bind (fun v7 hv7 => ?_)
    refine rf_cast X (ci := 8) rfl rfl q999 hv7 dX1_slot_32 ?_
    refine rf_bind (fun v8 hv8 => ?_)
    refine rf_getR X fl_X1_197 hv8 dX1_slot_35 ?_
    refine rf_iload_n X rfl dX1_slot_38 ?_
    refine rf_bind (fun v9 hv9 => ?_)
    refine rf_aald X hv9 dX1_slot_39 ?_
    refine rf_astore X (ls' := [some (tR (some a0)), some (tI p1), some (tI p2), some (tI p3), some (tR v9)]) rfl (by decide) dX1_slot_40 ?_
    refine rf_aload X rfl dX1_slot_42 ?_
    refine rf_ifnonnull X (tgt := 58) rfl dX1_slot_44 (fun c10 => rf_neg c10 ?_) (fun c10 => rf_pos c10 ?_)
    · refine rf_iload_n X rfl dX1_slot_58 ?_
      by_cases c14 : p3 = (0 : Int32)
      · refine rf_pos c14 ?_
        refine rf_tsIn X (0 : Int32) c14 (by decide) (by decide) (tgt := 92) rfl rfl dX1_slot_59 ?_
        refine rf_aload X rfl dX1_slot_92 ?_
        refine rf_bind (fun v15 hv15 => ?_)
        refine rf_getR X fl_X1_200 hv15 dX1_slot_94 ?_
        refine rf_bind (fun v16 hv16 => ?_)
        refine rf_getI X fl_X1_206 hv16 dX1_slot_97 ?_
        exact rf_iret X rfl dX1_slot_100
      refine rf_neg c14 ?_
      by_cases c17 : p3 = (1 : Int32)
      · refine rf_pos c17 ?_
        refine rf_tsIn X (1 : Int32) c17 (by decide) (by decide) (tgt := 101) rfl rfl dX1_slot_59 ?_
        refine rf_aload X rfl dX1_slot_101 ?_
        refine rf_bind (fun v18 hv18 => ?_)
        refine rf_getI X fl_X1_211 hv18 dX1_slot_103 ?_
        exact rf_iret X rfl dX1_slot_106
      refine rf_neg c17 ?_
      by_cases c19 : p3 = (2 : Int32)
      · refine rf_pos c19 ?_
        refine rf_tsIn X (2 : Int32) c19 (by decide) (by decide) (tgt := 107) rfl rfl dX1_slot_59 ?_
        refine rf_aload X rfl dX1_slot_107 ?_
        refine rf_bind (fun v20 hv20 => ?_)
        refine rf_bind (fun g21 hg21 => ?_)
        refine rf_callVI X c_X1_212 ⟨Nat.le_of_ble_eq_true rfl, Nat.le_of_ble_eq_true rfl⟩ [] rfl (Nat.le_of_ble_eq_true rfl) hv20 (sX13_ended l D n v20 A g21 hg21) dX1_slot_109 ?_
        exact rf_iret X rfl dX1_slot_112
      refine rf_neg c19 ?_
      by_cases c22 : p3 = (3 : Int32)
      · refine rf_pos c22 ?_
        refine rf_tsIn X (3 : Int32) c22 (by decide) (by decide) (tgt := 113) rfl rfl dX1_slot_59 ?_
        refine rf_aload X rfl dX1_slot_113 ?_
        refine rf_bind (fun v23 hv23 => ?_)
        refine rf_bind (fun g24 hg24 => ?_)
        refine rf_callVI X c_X1_215 ⟨Nat.le_of_ble_eq_true rfl, Nat.le_of_ble_eq_true rfl⟩ [] rfl (Nat.le_of_ble_eq_true rfl) hv23 (sX13_waiting l D n v23 A g24 hg24) dX1_slot_115 ?_
        exact rf_iret X rfl dX1_slot_118
      refine rf_neg c22 ?_
      by_cases c25 : p3 = (4 : Int32)
      · refine rf_pos c25 ?_
        refine rf_tsIn X (4 : Int32) c25 (by decide) (by decide) (tgt := 119) rfl rfl dX1_slot_59 ?_
        refine rf_aload X rfl dX1_slot_119 ?_
        refine rf_bind (fun v26 hv26 => ?_)
        refine rf_getI X fl_X1_218 hv26 dX1_slot_121 ?_
        exact rf_iret X rfl dX1_slot_124
      refine rf_neg c25 ?_
      refine rf_tsOut X (ts_def (0) (4) [(0 : Int32), (1 : Int32), (2 : Int32), (3 : Int32), (4 : Int32)] 5 (by decide) (by decide) (List.forall_mem_cons.mpr ⟨c14, (List.forall_mem_cons.mpr ⟨c17, (List.forall_mem_cons.mpr ⟨c19, (List.forall_mem_cons.mpr ⟨c22, (List.forall_mem_cons.mpr ⟨c25, (fun _ h => absurd h List.not_mem_nil)⟩)⟩)⟩)⟩)⟩)) (tgt := 125) rfl dX1_slot_59 ?_
      refine rf_iload_n X rfl dX1_slot_125 ?_
      refine rf_bipush X (21 : Int32) rfl dX1_slot_126 ?_
      refine rf_jn2 (fun i => ∀ (y28 : Int32), RfX X l e below (qI A) (i y28) 155 [none, none, none, none, none] [tI y28] A) ?_ (fun j27 hj27 => ?_)
      · intro y28
        exact rf_iret X rfl dX1_slot_155
      refine rf_icmp_ge X (tgt := 143) rfl dX1_slot_128 (fun c29 => rf_pos c29 ?_) (fun c29 => rf_neg c29 ?_)
      · refine rf_aload X rfl dX1_slot_143 ?_
        refine rf_bind (fun v30 hv30 => ?_)
        refine rf_getR X fl_X1_224 hv30 dX1_slot_145 ?_
        refine rf_iload_n X rfl dX1_slot_148 ?_
        refine rf_iconst X (5 : Int32) rfl dX1_slot_149 ?_
        refine rf_isub X dX1_slot_150 ?_
        refine rf_bipush X (16 : Int32) rfl dX1_slot_151 ?_
        refine rf_isub X dX1_slot_153 ?_
        refine rf_bind (fun v31 hv31 => ?_)
        refine rf_iald X hv31 dX1_slot_154 ?_
        exact rf_go (hj27 v31) True.intro
      refine rf_aload X rfl dX1_slot_131 ?_
      refine rf_bind (fun v32 hv32 => ?_)
      refine rf_getR X fl_X1_221 hv32 dX1_slot_133 ?_
      refine rf_iload_n X rfl dX1_slot_136 ?_
      refine rf_iconst X (5 : Int32) rfl dX1_slot_137 ?_
      refine rf_isub X dX1_slot_138 ?_
      refine rf_bind (fun v33 hv33 => ?_)
      refine rf_iald X hv33 dX1_slot_139 ?_
      refine rf_goto X (tgt := 155) rfl dX1_slot_140 ?_
      exact rf_go (hj27 v33) True.intro
    refine rf_iload_n X rfl dX1_slot_47 ?_
    refine rf_iconst X (2 : Int32) rfl dX1_slot_48 ?_
    refine rf_jn2 (fun i => ∀ (y12 : Int32), RfX X l e below (qI A) (i y12) 57 [none, none, none, none, none] [tI y12] A) ?_ (fun j11 hj11 => ?_)
    · intro y12
      exact rf_iret X rfl dX1_slot_57
    refine rf_icmp_ge X (tgt := 56) rfl dX1_slot_49 (fun c13 => rf_pos c13 ?_) (fun c13 => rf_neg c13 ?_)
    · refine rf_iconst X (0 : Int32) rfl dX1_slot_56 ?_
      exact rf_go (hj11 (0 : Int32)) True.intro
    refine rf_iconst X (-1 : Int32) rfl dX1_slot_52 ?_
    refine rf_goto X (tgt := 57) rfl dX1_slot_53 ?_
    exact rf_go (hj11 (-1 : Int32)) True.intro
  refine rf_if_eq X (tgt := 19) rfl dX1_slot_6 (fun c34 => ?_) (fun c34 => ?_)
  · exact jT (Or.inl (Or.inl c34))
  refine rf_iload_n X rfl dX1_slot_9 ?_
  refine rf_if_lt X (tgt := 19) rfl dX1_slot_10 (fun c35 => ?_) (fun c35 => ?_)
  · exact jT (Or.inl (Or.inr c35))
  refine rf_iload_n X rfl dX1_slot_13 ?_
  refine rf_bipush X (24 : Int32) rfl dX1_slot_14 ?_
  refine rf_icmp_le X (tgt := 21) rfl dX1_slot_16 (fun c36 => ?_) (fun c36 => ?_)
  · exact jF (fun z => z.elim (fun z => z.elim c34 c35) (fun z => z c36))
  exact jT (Or.inr c36)

theorem dX3_isDue_0 : decode cX3_isDue 0 = .ok (.aload_n 0, 1) := by decide +kernel
theorem dX3_isDue_1 : decode cX3_isDue 1 = .ok (.getfield 10, 3) := by decide +kernel
theorem dX3_isDue_4 : decode cX3_isDue 4 = .ok (.invokevirtual 19, 3) := by decide +kernel
theorem dX3_isDue_7 : decode cX3_isDue 7 = .ok (.ifCond .ne 25, 3) := by decide +kernel
theorem dX3_isDue_10 : decode cX3_isDue 10 = .ok (.aload_n 0, 1) := by decide +kernel
theorem dX3_isDue_11 : decode cX3_isDue 11 = .ok (.getfield 10, 3) := by decide +kernel
theorem dX3_isDue_14 : decode cX3_isDue 14 = .ok (.iconst 0, 1) := by decide +kernel
theorem dX3_isDue_15 : decode cX3_isDue 15 = .ok (.invokevirtual 45, 3) := by decide +kernel
theorem dX3_isDue_18 : decode cX3_isDue 18 = .ok (.checkcast 23, 3) := by decide +kernel
theorem dX3_isDue_21 : decode cX3_isDue 21 = .ok (.getfield 56, 3) := by decide +kernel
theorem dX3_isDue_24 : decode cX3_isDue 24 = .ok (.iload_n 1, 1) := by decide +kernel
theorem dX3_isDue_25 : decode cX3_isDue 25 = .ok (.if_icmp .gt 7, 3) := by decide +kernel
theorem dX3_isDue_28 : decode cX3_isDue 28 = .ok (.iconst 1, 1) := by decide +kernel
theorem dX3_isDue_29 : decode cX3_isDue 29 = .ok (.goto 4, 3) := by decide +kernel
theorem dX3_isDue_32 : decode cX3_isDue 32 = .ok (.iconst 0, 1) := by decide +kernel
theorem dX3_isDue_33 : decode cX3_isDue 33 = .ok (.ireturn, 1) := by decide +kernel
def fX3_isDue (a0 : Nat) (p1 : Int32) (A : AH) : Option (Int32) :=
(gR A (some a0) 3 0).bind fun v1 =>
(rcv A v1 0).bind fun v2 =>
(fJ2_isEmpty v2 A).bind fun g3 =>
jn (fun (y5 : Int32) =>
some (nb y5)) fun j4 =>
jn (j4 (0 : Int32)) fun j6 =>
if g3 = 0 then ((fJ2_get v2 (0 : Int32) A).bind fun g8 =>
(cst A g8 15).bind fun v9 =>
(gI A g8 15 0).bind fun v10 =>
if p1 < v10 then (j6) else
j4 (1 : Int32)) else
j6

set_option maxHeartbeats 4000000 in
set_option maxRecDepth 100000 in
theorem sX3_isDue (l : Launch) (D : DE) (a0 : Nat) (p1 : Int32) (A : AH) (g : Int32) (hg : fX3_isDue a0 p1 A = some g) : Sm l D yX3_isDue cX3_isDue 2 (some Jvm.ClassFile.FieldType.boolean) 3 64 [tR (some a0), tI p1] A (qI A g).1 (qI A g).2 := by
  refine Sm.of (ω := qI A) (fX3_isDue a0 p1 A) [some (tR (some a0)), some (tI p1)] (by decide) (Nat.le_of_ble_eq_true rfl) rfl hg ?_
  intro p e R s m args below meth c X hin
  have X : Cx D cX3_isDue RX3 2 3 64 (some Jvm.ClassFile.FieldType.boolean) p R s m args meth c := X
  unfold fX3_isDue
  refine rf_aload_n X rfl dX3_isDue_0 ?_
  refine rf_bind (fun v1 hv1 => ?_)
  refine rf_getR X fl_X3_10 hv1 dX3_isDue_1 ?_
  refine rf_bind (fun v2 hv2 => ?_)
  refine rf_bind (fun g3 hg3 => ?_)
  refine rf_callVI X c_X3_19 ⟨Nat.le_of_ble_eq_true rfl, Nat.le_of_ble_eq_true rfl⟩ [] rfl (Nat.le_of_ble_eq_true rfl) hv2 (sJ2_isEmpty l D v2 A g3 hg3) dX3_isDue_4 ?_
  refine rf_jn2 (fun i => ∀ (y5 : Int32), RfX X l e below (qI A) (i y5) 33 [none, none] [tI y5] A) ?_ (fun j4 hj4 => ?_)
  · intro y5
    exact rf_zret X rfl dX3_isDue_33
  refine rf_jn2 (fun i => RfX X l e below (qI A) i 32 [none, none] [] A) ?_ (fun j6 hj6 => ?_)
  · show RfX X l e below _ _ _ _ _ _
    refine rf_iconst X (0 : Int32) rfl dX3_isDue_32 ?_
    exact rf_go (hj4 (0 : Int32)) True.intro
  refine rf_if_ne X (tgt := 32) rfl dX3_isDue_7 (fun c7 => rf_neg c7 ?_) (fun c7 => rf_pos c7 ?_)
  · exact rf_go hj6 True.intro
  refine rf_aload_n X rfl dX3_isDue_10 ?_
  refine rf_getR X fl_X3_10 hv1 dX3_isDue_11 ?_
  refine rf_iconst X (0 : Int32) rfl dX3_isDue_14 ?_
  refine rf_bind (fun g8 hg8 => ?_)
  refine rf_callVI X c_X3_45 ⟨Nat.le_of_ble_eq_true rfl, Nat.le_of_ble_eq_true rfl⟩ [tI (0 : Int32)] rfl (Nat.le_of_ble_eq_true rfl) hv2 (sJ2_get l D v2 (0 : Int32) A g8 hg8) dX3_isDue_15 ?_
  refine rf_bind (fun v9 hv9 => ?_)
  refine rf_cast X (ci := 15) rfl rfl q713 hv9 dX3_isDue_18 ?_
  refine rf_bind (fun v10 hv10 => ?_)
  refine rf_getI X fl_X3_56 hv10 dX3_isDue_21 ?_
  refine rf_iload_n X rfl dX3_isDue_24 ?_
  refine rf_icmp_gt X (tgt := 32) rfl dX3_isDue_25 (fun c11 => rf_pos c11 ?_) (fun c11 => rf_neg c11 ?_)
  · exact rf_go hj6 True.intro
  refine rf_iconst X (1 : Int32) rfl dX3_isDue_28 ?_
  refine rf_goto X (tgt := 33) rfl dX3_isDue_29 ?_
  exact rf_go (hj4 (1 : Int32)) True.intro

