/-! 20.g12: printed by gen/parts.py -/
set_option maxRecDepth 100000
theorem fl_X7_313 : FLr RX7 313 5 0 := ⟨RX5, TX5, 7, "WarpMill$Word", "WarpMill", rfl, by decide, in_X5, Or.inr q598, Or.inl rfl⟩
theorem fl_X7_400 : FLr RX7 400 14 1 := ⟨RX14, TX14, 6, "WarpMill$Lane", "WarpMill", rfl, by decide, in_X14, Or.inr q1202, Or.inl rfl⟩
theorem fl_X7_387 : FLr RX7 387 5 1 := ⟨RX5, TX5, 7, "WarpMill$Word", "WarpMill", rfl, by decide, in_X5, Or.inr q601, Or.inl rfl⟩
theorem fl_X7_79 : FLr RX7 79 7 11 := ⟨RX7, TX7, 26, "WarpMill$Machine", "", rfl, by decide, in_X7, Or.inl q814, Or.inl rfl⟩
theorem fl_X3_34 : FLr RX3 34 3 2 := ⟨RX3, TX3, 3, "WarpMill$Heap", "", rfl, by decide, in_X3, Or.inl q501, Or.inl rfl⟩
theorem fp_X3_38 : FL RX3 38 15 1 (.int) false := ⟨RX15, TX15, 9, tyX15, "WarpMill$Ask", "WarpMill", rfl, by decide, in_X15, tyX15_ok, nmX15, Or.inr q1427, Or.inl rfl, rfl, rfl, fun h => by cases h⟩
theorem fp_X7_181 : FL RX7 181 15 3 (.int) false := ⟨RX15, TX15, 9, tyX15, "WarpMill$Ask", "WarpMill", rfl, by decide, in_X15, tyX15_ok, nmX15, Or.inr q1429, Or.inl rfl, rfl, rfl, fun h => by cases h⟩
theorem fl_X7_429 : FLr RX7 429 4 4 := ⟨RX4, TX4, 8, "WarpMill$Coalescer", "WarpMill", rfl, by decide, in_X4, Or.inr q545, Or.inl rfl⟩
theorem fp_X7_432 : FL RX7 432 15 0 (.int) false := ⟨RX15, TX15, 9, tyX15, "WarpMill$Ask", "WarpMill", rfl, by decide, in_X15, tyX15_ok, nmX15, Or.inr q1425, Or.inl rfl, rfl, rfl, fun h => by cases h⟩
theorem fp_X7_186 : FL RX7 186 15 2 (.int) false := ⟨RX15, TX15, 9, tyX15, "WarpMill$Ask", "WarpMill", rfl, by decide, in_X15, tyX15_ok, nmX15, Or.inr q1428, Or.inl rfl, rfl, rfl, fun h => by cases h⟩
theorem fp_X7_189 : FL RX7 189 15 4 (.int) false := ⟨RX15, TX15, 9, tyX15, "WarpMill$Ask", "WarpMill", rfl, by decide, in_X15, tyX15_ok, nmX15, Or.inr q1430, Or.inl rfl, rfl, rfl, fun h => by cases h⟩
theorem fp_X7_192 : FL RX7 192 15 5 (.int) false := ⟨RX15, TX15, 9, tyX15, "WarpMill$Ask", "WarpMill", rfl, by decide, in_X15, tyX15_ok, nmX15, Or.inr q1431, Or.inl rfl, rfl, rfl, fun h => by cases h⟩
theorem fp_X7_212 : FL RX7 212 15 6 (.int) false := ⟨RX15, TX15, 9, tyX15, "WarpMill$Ask", "WarpMill", rfl, by decide, in_X15, tyX15_ok, nmX15, Or.inr q1432, Or.inl rfl, rfl, rfl, fun h => by cases h⟩
theorem fp_X7_199 : FL RX7 199 15 8 (.object "WarpMill$Lane") false := ⟨RX15, TX15, 9, tyX15, "WarpMill$Ask", "WarpMill", rfl, by decide, in_X15, tyX15_ok, nmX15, Or.inr q1434, Or.inl rfl, rfl, rfl, fun h => by cases h⟩
theorem fp_X7_208 : FL RX7 208 15 7 (.int) false := ⟨RX15, TX15, 9, tyX15, "WarpMill$Ask", "WarpMill", rfl, by decide, in_X15, tyX15_ok, nmX15, Or.inr q1433, Or.inl rfl, rfl, rfl, fun h => by cases h⟩
theorem nw_X3_23 : NW RX3 23 15 dfX15 := ⟨RX15, TX15, 9, tyX15, rfl, in_X15, tyX15_ok, q713, q1418, q116, rfl, by decide⟩
theorem c_X7_286 : CS RX7 286 yJ16_bitCount cJ16_bitCount 1 (some Jvm.ClassFile.FieldType.int) 1 := ⟨q1330, q1331, q98, q1332, ⟨by decide +kernel, by decide +kernel, by decide +kernel⟩⟩
theorem c_X3_25 : CI RX3 25 yX15_init cX15_init 1 0 := ⟨Or.inr ⟨_, q1419⟩, q1420, q116, q1421, rfl, ⟨by decide +kernel, by decide +kernel, by decide +kernel⟩⟩
theorem c_X7_426 : CV RX7 426 3 yX3_fresh cX3_fresh 1 (some (Jvm.ClassFile.FieldType.object "WarpMill$Ask")) 0 := ⟨TX3, 3, rfl, q1414, q1415, q1416, q100, q1417, ⟨by decide +kernel, by decide +kernel, by decide +kernel⟩⟩
theorem c_X7_384 : CV RX7 384 5 yX5_writes cX5_writes 1 (some Jvm.ClassFile.FieldType.boolean) 0 := ⟨TX5, 7, rfl, q1408, q1276, q1277, q103, q1278, ⟨by decide +kernel, by decide +kernel, by decide +kernel⟩⟩
theorem c_X7_435 : CV RX7 435 3 yX3_add cX3_add 3 none 1 := ⟨TX3, 3, rfl, q1454, q1455, q1456, q100, q1457, ⟨by decide +kernel, by decide +kernel, by decide +kernel⟩⟩
theorem dX7_vote_0 : decode cX7_vote 0 = .ok (.iconst 0, 1) := by decide +kernel
theorem dX7_vote_1 : decode cX7_vote 1 = .ok (.istore 4, 2) := by decide +kernel
theorem dX7_vote_3 : decode cX7_vote 3 = .ok (.iconst 0, 1) := by decide +kernel
theorem dX7_vote_4 : decode cX7_vote 4 = .ok (.istore 5, 2) := by decide +kernel
theorem dX7_vote_6 : decode cX7_vote 6 = .ok (.iload 5, 2) := by decide +kernel
theorem dX7_vote_8 : decode cX7_vote 8 = .ok (.aload_n 1, 1) := by decide +kernel
theorem dX7_vote_9 : decode cX7_vote 9 = .ok (.getfield 243, 3) := by decide +kernel
theorem dX7_vote_12 : decode cX7_vote 12 = .ok (.invokevirtual 118, 3) := by decide +kernel
theorem dX7_vote_15 : decode cX7_vote 15 = .ok (.if_icmp .ge 75, 3) := by decide +kernel
theorem dX7_vote_18 : decode cX7_vote 18 = .ok (.aload_n 1, 1) := by decide +kernel
theorem dX7_vote_19 : decode cX7_vote 19 = .ok (.getfield 243, 3) := by decide +kernel
theorem dX7_vote_22 : decode cX7_vote 22 = .ok (.iload 5, 2) := by decide +kernel
theorem dX7_vote_24 : decode cX7_vote 24 = .ok (.invokevirtual 122, 3) := by decide +kernel
theorem dX7_vote_27 : decode cX7_vote 27 = .ok (.checkcast 204, 3) := by decide +kernel
theorem dX7_vote_30 : decode cX7_vote 30 = .ok (.astore 6, 2) := by decide +kernel
theorem dX7_vote_32 : decode cX7_vote 32 = .ok (.aload_n 0, 1) := by decide +kernel
theorem dX7_vote_33 : decode cX7_vote 33 = .ok (.getfield 79, 3) := by decide +kernel
theorem dX7_vote_36 : decode cX7_vote 36 = .ok (.iload 5, 2) := by decide +kernel
theorem dX7_vote_38 : decode cX7_vote 38 = .ok (.aload 6, 2) := by decide +kernel
theorem dX7_vote_40 : decode cX7_vote 40 = .ok (.getfield 209, 3) := by decide +kernel
theorem dX7_vote_43 : decode cX7_vote 43 = .ok (.aload_n 3, 1) := by decide +kernel
theorem dX7_vote_44 : decode cX7_vote 44 = .ok (.getfield 325, 3) := by decide +kernel
theorem dX7_vote_47 : decode cX7_vote 47 = .ok (.iaload, 1) := by decide +kernel
theorem dX7_vote_48 : decode cX7_vote 48 = .ok (.iastore, 1) := by decide +kernel
theorem dX7_vote_49 : decode cX7_vote 49 = .ok (.iload 4, 2) := by decide +kernel
theorem dX7_vote_51 : decode cX7_vote 51 = .ok (.iload_n 2, 1) := by decide +kernel
theorem dX7_vote_52 : decode cX7_vote 52 = .ok (.iload 5, 2) := by decide +kernel
theorem dX7_vote_54 : decode cX7_vote 54 = .ok (.ishr, 1) := by decide +kernel
theorem dX7_vote_55 : decode cX7_vote 55 = .ok (.iconst 1, 1) := by decide +kernel
theorem dX7_vote_56 : decode cX7_vote 56 = .ok (.iand, 1) := by decide +kernel
theorem dX7_vote_57 : decode cX7_vote 57 = .ok (.iconst 1, 1) := by decide +kernel
theorem dX7_vote_58 : decode cX7_vote 58 = .ok (.if_icmp .ne 22, 3) := by decide +kernel
theorem dX7_vote_61 : decode cX7_vote 61 = .ok (.aload 6, 2) := by decide +kernel
theorem dX7_vote_63 : decode cX7_vote 63 = .ok (.getfield 400, 3) := by decide +kernel
theorem dX7_vote_66 : decode cX7_vote 66 = .ok (.aload_n 3, 1) := by decide +kernel
theorem dX7_vote_67 : decode cX7_vote 67 = .ok (.getfield 325, 3) := by decide +kernel
theorem dX7_vote_70 : decode cX7_vote 70 = .ok (.iconst 3, 1) := by decide +kernel
theorem dX7_vote_71 : decode cX7_vote 71 = .ok (.iand, 1) := by decide +kernel
theorem dX7_vote_72 : decode cX7_vote 72 = .ok (.baload, 1) := by decide +kernel
theorem dX7_vote_73 : decode cX7_vote 73 = .ok (.ifCond .eq 7, 3) := by decide +kernel
theorem dX7_vote_76 : decode cX7_vote 76 = .ok (.iconst 1, 1) := by decide +kernel
theorem dX7_vote_77 : decode cX7_vote 77 = .ok (.goto 4, 3) := by decide +kernel
theorem dX7_vote_80 : decode cX7_vote 80 = .ok (.iconst 0, 1) := by decide +kernel
theorem dX7_vote_81 : decode cX7_vote 81 = .ok (.iadd, 1) := by decide +kernel
theorem dX7_vote_82 : decode cX7_vote 82 = .ok (.istore 4, 2) := by decide +kernel
theorem dX7_vote_84 : decode cX7_vote 84 = .ok (.iinc 5 1, 3) := by decide +kernel
theorem dX7_vote_87 : decode cX7_vote 87 = .ok (.goto (-81), 3) := by decide +kernel
theorem dX7_vote_90 : decode cX7_vote 90 = .ok (.iload 4, 2) := by decide +kernel
theorem dX7_vote_92 : decode cX7_vote 92 = .ok (.ifCond .le 7, 3) := by decide +kernel
theorem dX7_vote_95 : decode cX7_vote 95 = .ok (.iconst 1, 1) := by decide +kernel
theorem dX7_vote_96 : decode cX7_vote 96 = .ok (.goto 4, 3) := by decide +kernel
theorem dX7_vote_99 : decode cX7_vote 99 = .ok (.iconst 0, 1) := by decide +kernel
theorem dX7_vote_100 : decode cX7_vote 100 = .ok (.istore 5, 2) := by decide +kernel
theorem dX7_vote_102 : decode cX7_vote 102 = .ok (.iload 4, 2) := by decide +kernel
theorem dX7_vote_104 : decode cX7_vote 104 = .ok (.iload_n 2, 1) := by decide +kernel
theorem dX7_vote_105 : decode cX7_vote 105 = .ok (.invokestatic 286, 3) := by decide +kernel
theorem dX7_vote_108 : decode cX7_vote 108 = .ok (.if_icmp .ne 7, 3) := by decide +kernel
theorem dX7_vote_111 : decode cX7_vote 111 = .ok (.iconst 1, 1) := by decide +kernel
theorem dX7_vote_112 : decode cX7_vote 112 = .ok (.goto 4, 3) := by decide +kernel
theorem dX7_vote_115 : decode cX7_vote 115 = .ok (.iconst 0, 1) := by decide +kernel
theorem dX7_vote_116 : decode cX7_vote 116 = .ok (.istore 6, 2) := by decide +kernel
theorem dX7_vote_118 : decode cX7_vote 118 = .ok (.iconst 0, 1) := by decide +kernel
theorem dX7_vote_119 : decode cX7_vote 119 = .ok (.istore 7, 2) := by decide +kernel
theorem dX7_vote_121 : decode cX7_vote 121 = .ok (.iload 7, 2) := by decide +kernel
theorem dX7_vote_123 : decode cX7_vote 123 = .ok (.aload_n 1, 1) := by decide +kernel
theorem dX7_vote_124 : decode cX7_vote 124 = .ok (.getfield 243, 3) := by decide +kernel
theorem dX7_vote_127 : decode cX7_vote 127 = .ok (.invokevirtual 118, 3) := by decide +kernel
theorem dX7_vote_130 : decode cX7_vote 130 = .ok (.if_icmp .ge 149, 3) := by decide +kernel
theorem dX7_vote_133 : decode cX7_vote 133 = .ok (.iload_n 2, 1) := by decide +kernel
theorem dX7_vote_134 : decode cX7_vote 134 = .ok (.iload 7, 2) := by decide +kernel
theorem dX7_vote_136 : decode cX7_vote 136 = .ok (.ishr, 1) := by decide +kernel
theorem dX7_vote_137 : decode cX7_vote 137 = .ok (.iconst 1, 1) := by decide +kernel
theorem dX7_vote_138 : decode cX7_vote 138 = .ok (.iand, 1) := by decide +kernel
theorem dX7_vote_139 : decode cX7_vote 139 = .ok (.ifCond .ne 6, 3) := by decide +kernel
theorem dX7_vote_142 : decode cX7_vote 142 = .ok (.goto 131, 3) := by decide +kernel
theorem dX7_vote_145 : decode cX7_vote 145 = .ok (.aload_n 1, 1) := by decide +kernel
theorem dX7_vote_146 : decode cX7_vote 146 = .ok (.getfield 243, 3) := by decide +kernel
theorem dX7_vote_149 : decode cX7_vote 149 = .ok (.iload 7, 2) := by decide +kernel
theorem dX7_vote_151 : decode cX7_vote 151 = .ok (.invokevirtual 122, 3) := by decide +kernel
theorem dX7_vote_154 : decode cX7_vote 154 = .ok (.checkcast 204, 3) := by decide +kernel
theorem dX7_vote_157 : decode cX7_vote 157 = .ok (.astore 8, 2) := by decide +kernel
theorem dX7_vote_159 : decode cX7_vote 159 = .ok (.iload 7, 2) := by decide +kernel
theorem dX7_vote_161 : decode cX7_vote 161 = .ok (.aload_n 3, 1) := by decide +kernel
theorem dX7_vote_162 : decode cX7_vote 162 = .ok (.getfield 328, 3) := by decide +kernel
theorem dX7_vote_165 : decode cX7_vote 165 = .ok (.aload_n 0, 1) := by decide +kernel
theorem dX7_vote_166 : decode cX7_vote 166 = .ok (.getfield 20, 3) := by decide +kernel
theorem dX7_vote_169 : decode cX7_vote 169 = .ok (.iconst 1, 1) := by decide +kernel
theorem dX7_vote_170 : decode cX7_vote 170 = .ok (.isub, 1) := by decide +kernel
theorem dX7_vote_171 : decode cX7_vote 171 = .ok (.iand, 1) := by decide +kernel
theorem dX7_vote_172 : decode cX7_vote 172 = .ok (.ixor, 1) := by decide +kernel
theorem dX7_vote_173 : decode cX7_vote 173 = .ok (.istore 9, 2) := by decide +kernel
theorem dX7_vote_175 : decode cX7_vote 175 = .ok (.aload_n 3, 1) := by decide +kernel
theorem dX7_vote_176 : decode cX7_vote 176 = .ok (.getfield 313, 3) := by decide +kernel
theorem dX7_vote_179 : decode cX7_vote 179 = .ok (.bipush 70, 2) := by decide +kernel
theorem dX7_vote_181 : decode cX7_vote 181 = .ok (.if_icmp .ne 20, 3) := by decide +kernel
theorem dX7_vote_184 : decode cX7_vote 184 = .ok (.aload 8, 2) := by decide +kernel
theorem dX7_vote_186 : decode cX7_vote 186 = .ok (.getfield 400, 3) := by decide +kernel
theorem dX7_vote_189 : decode cX7_vote 189 = .ok (.aload_n 3, 1) := by decide +kernel
theorem dX7_vote_190 : decode cX7_vote 190 = .ok (.getfield 387, 3) := by decide +kernel
theorem dX7_vote_193 : decode cX7_vote 193 = .ok (.iconst 3, 1) := by decide +kernel
theorem dX7_vote_194 : decode cX7_vote 194 = .ok (.iand, 1) := by decide +kernel
theorem dX7_vote_195 : decode cX7_vote 195 = .ok (.iload 5, 2) := by decide +kernel
theorem dX7_vote_197 : decode cX7_vote 197 = .ok (.bastore, 1) := by decide +kernel
theorem dX7_vote_198 : decode cX7_vote 198 = .ok (.goto 75, 3) := by decide +kernel
theorem dX7_vote_201 : decode cX7_vote 201 = .ok (.aload_n 3, 1) := by decide +kernel
theorem dX7_vote_202 : decode cX7_vote 202 = .ok (.getfield 313, 3) := by decide +kernel
theorem dX7_vote_205 : decode cX7_vote 205 = .ok (.bipush 71, 2) := by decide +kernel
theorem dX7_vote_207 : decode cX7_vote 207 = .ok (.if_icmp .ne 20, 3) := by decide +kernel
theorem dX7_vote_210 : decode cX7_vote 210 = .ok (.aload 8, 2) := by decide +kernel
theorem dX7_vote_212 : decode cX7_vote 212 = .ok (.getfield 400, 3) := by decide +kernel
theorem dX7_vote_215 : decode cX7_vote 215 = .ok (.aload_n 3, 1) := by decide +kernel
theorem dX7_vote_216 : decode cX7_vote 216 = .ok (.getfield 387, 3) := by decide +kernel
theorem dX7_vote_219 : decode cX7_vote 219 = .ok (.iconst 3, 1) := by decide +kernel
theorem dX7_vote_220 : decode cX7_vote 220 = .ok (.iand, 1) := by decide +kernel
theorem dX7_vote_221 : decode cX7_vote 221 = .ok (.iload 6, 2) := by decide +kernel
theorem dX7_vote_223 : decode cX7_vote 223 = .ok (.bastore, 1) := by decide +kernel
theorem dX7_vote_224 : decode cX7_vote 224 = .ok (.goto 49, 3) := by decide +kernel
theorem dX7_vote_227 : decode cX7_vote 227 = .ok (.aload 8, 2) := by decide +kernel
theorem dX7_vote_229 : decode cX7_vote 229 = .ok (.getfield 209, 3) := by decide +kernel
theorem dX7_vote_232 : decode cX7_vote 232 = .ok (.aload_n 3, 1) := by decide +kernel
theorem dX7_vote_233 : decode cX7_vote 233 = .ok (.getfield 387, 3) := by decide +kernel
theorem dX7_vote_236 : decode cX7_vote 236 = .ok (.aload_n 3, 1) := by decide +kernel
theorem dX7_vote_237 : decode cX7_vote 237 = .ok (.getfield 313, 3) := by decide +kernel
theorem dX7_vote_240 : decode cX7_vote 240 = .ok (.bipush 72, 2) := by decide +kernel
theorem dX7_vote_242 : decode cX7_vote 242 = .ok (.if_icmp .ne 8, 3) := by decide +kernel
theorem dX7_vote_245 : decode cX7_vote 245 = .ok (.iload 4, 2) := by decide +kernel
theorem dX7_vote_247 : decode cX7_vote 247 = .ok (.goto 25, 3) := by decide +kernel
theorem dX7_vote_250 : decode cX7_vote 250 = .ok (.aload_n 0, 1) := by decide +kernel
theorem dX7_vote_251 : decode cX7_vote 251 = .ok (.getfield 79, 3) := by decide +kernel
theorem dX7_vote_254 : decode cX7_vote 254 = .ok (.iload_n 2, 1) := by decide +kernel
theorem dX7_vote_255 : decode cX7_vote 255 = .ok (.iload 9, 2) := by decide +kernel
theorem dX7_vote_257 : decode cX7_vote 257 = .ok (.ishr, 1) := by decide +kernel
theorem dX7_vote_258 : decode cX7_vote 258 = .ok (.iconst 1, 1) := by decide +kernel
theorem dX7_vote_259 : decode cX7_vote 259 = .ok (.iand, 1) := by decide +kernel
theorem dX7_vote_260 : decode cX7_vote 260 = .ok (.iconst 1, 1) := by decide +kernel
theorem dX7_vote_261 : decode cX7_vote 261 = .ok (.if_icmp .ne 8, 3) := by decide +kernel
theorem dX7_vote_264 : decode cX7_vote 264 = .ok (.iload 9, 2) := by decide +kernel
theorem dX7_vote_266 : decode cX7_vote 266 = .ok (.goto 5, 3) := by decide +kernel
theorem dX7_vote_269 : decode cX7_vote 269 = .ok (.iload 7, 2) := by decide +kernel
theorem dX7_vote_271 : decode cX7_vote 271 = .ok (.iaload, 1) := by decide +kernel
theorem dX7_vote_272 : decode cX7_vote 272 = .ok (.iastore, 1) := by decide +kernel
theorem dX7_vote_273 : decode cX7_vote 273 = .ok (.iinc 7 1, 3) := by decide +kernel
theorem dX7_vote_276 : decode cX7_vote 276 = .ok (.goto (-155), 3) := by decide +kernel
theorem dX7_vote_279 : decode cX7_vote 279 = .ok (.return_, 1) := by decide +kernel
def fX7_vote (n : Nat) (a0 : Nat) (p1 : Option Nat) (p2 : Int32) (p3 : Option Nat) (A : AH) : Option (AH) :=
jl (fixG (fun _ _ _ => none) (fun (rc5 : (Int32) → (Int32) → (AH) → Option (AH)) (x2 : Int32) (x3 : Int32) (A4 : AH) =>
(gR A4 p1 13 2).bind fun v6 =>
(rcv A4 v6 0).bind fun v7 =>
(fJ2_size v7 A4).bind fun g8 =>
if g8 ≤ x3 then (jn (fun (y11 : Int32) =>
(fJ16_bitCount p2 A4).bind fun g12 =>
jn (fun (y14 : Int32) =>
jl (fixG (fun _ _ => none) (fun (rc18 : (Int32) → (AH) → Option (AH)) (x16 : Int32) (A17 : AH) =>
(gR A17 p1 13 2).bind fun v19 =>
(rcv A17 v19 0).bind fun v20 =>
(fJ2_size v20 A17).bind fun g21 =>
if g21 ≤ x16 then (some A17) else
jn (fun (A24 : AH) =>
rc18 (x16 + (1 : Int32)) A24) fun j23 =>
if ((p2 >>> (x16 &&& 31)) &&& (1 : Int32)) = 0 then (j23 A17) else
(fJ2_get v20 x16 A17).bind fun g26 =>
(cst A17 g26 14).bind fun v27 =>
(gI A17 p3 5 5).bind fun v28 =>
(gI A17 (some a0) 7 0).bind fun v29 =>
(gI A17 p3 5 0).bind fun v30 =>
if v30 = (70 : Int32) then ((gR A17 g26 14 1).bind fun v32 =>
(gI A17 p3 5 1).bind fun v33 =>
(sZ A17 v32 (v33 &&& (3 : Int32)) y11).bind fun A34 =>
j23 A34) else
if v30 = (71 : Int32) then ((gR A17 g26 14 1).bind fun v36 =>
(gI A17 p3 5 1).bind fun v37 =>
(sZ A17 v36 (v37 &&& (3 : Int32)) y14).bind fun A38 =>
j23 A38) else
(gR A17 g26 14 0).bind fun v39 =>
(gI A17 p3 5 1).bind fun v40 =>
jn (fun (y42 : Int32) =>
(sI A17 v39 v40 y42).bind fun A43 =>
j23 A43) fun j41 =>
if v30 = (72 : Int32) then (j41 x2) else
(gR A17 (some a0) 7 11).bind fun v45 =>
jn (fun (y47 : Int32) =>
(aI A17 v45 y47).bind fun v48 =>
j41 v48) fun j46 =>
if ((p2 >>> ((x16 ^^^ (v28 &&& (v29 - (1 : Int32)))) &&& 31)) &&& (1 : Int32)) = (1 : Int32) then (j46 (x16 ^^^ (v28 &&& (v29 - (1 : Int32))))) else
j46 x16) n) fun j15 =>
j15 (0 : Int32) A4) fun j13 =>
if x2 = g12 then (j13 (1 : Int32)) else
j13 (0 : Int32)) fun j10 =>
if x2 ≤ 0 then (j10 (0 : Int32)) else
j10 (1 : Int32)) else
(fJ2_get v7 x3 A4).bind fun g52 =>
(cst A4 g52 14).bind fun v53 =>
(gR A4 (some a0) 7 11).bind fun v54 =>
(gR A4 g52 14 0).bind fun v55 =>
(gI A4 p3 5 2).bind fun v56 =>
(aI A4 v55 v56).bind fun v57 =>
(sI A4 v54 x3 v57).bind fun A58 =>
jn (fun (y60 : Int32) =>
rc5 (x2 + y60) (x3 + (1 : Int32)) A58) fun j59 =>
jn (j59 (0 : Int32)) fun j61 =>
if ((p2 >>> (x3 &&& 31)) &&& (1 : Int32)) = (1 : Int32) then ((gR A58 g52 14 1).bind fun v63 =>
(gI A58 p3 5 2).bind fun v64 =>
(aZ A58 v63 (v64 &&& (3 : Int32))).bind fun v65 =>
if v65 = 0 then (j61) else
j59 (1 : Int32)) else
j61) n) fun j1 =>
j1 (0 : Int32) (0 : Int32) A

set_option maxHeartbeats 4000000 in
set_option maxRecDepth 100000 in
theorem sX7_vote (l : Launch) (D : DE) (n : Nat) (a0 : Nat) (p1 : Option Nat) (p2 : Int32) (p3 : Option Nat) (A : AH) (g : AH) (hg : fX7_vote n a0 p1 p2 p3 A = some g) : Sm l D yX7_vote cX7_vote 10 none 3 64 [tR (some a0), tR p1, tI p2, tR p3] A (wU g).1 (wU g).2 := by
  refine Sm.of (ω := wU) (fX7_vote n a0 p1 p2 p3 A) [some (tR (some a0)), some (tR p1), some (tI p2), some (tR p3), none, none, none, none, none, none] (by decide) (Nat.le_of_ble_eq_true rfl) rfl hg ?_
  intro p e R s m args below meth c X hin
  have X : Cx D cX7_vote RX7 10 3 64 none p R s m args meth c := X
  unfold fX7_vote
  refine rf_iconst X (0 : Int32) rfl dX7_vote_0 ?_
  refine rf_istore X (ls' := [some (tR (some a0)), some (tR p1), some (tI p2), some (tR p3), some (tI (0 : Int32)), none, none, none, none, none]) rfl (by decide) dX7_vote_1 ?_
  refine rf_iconst X (0 : Int32) rfl dX7_vote_3 ?_
  refine rf_istore X (ls' := [some (tR (some a0)), some (tR p1), some (tI p2), some (tR p3), some (tI (0 : Int32)), some (tI (0 : Int32)), none, none, none, none]) rfl (by decide) dX7_vote_4 ?_
  refine rf_fix (fun i => ∀ (x2 : Int32) (x3 : Int32) (A4 : AH), RfX X l e below wU (i x2 x3 A4) 6 [some (tR (some a0)), some (tR p1), some (tI p2), some (tR p3), some (tI x2), some (tI x3), none, none, none, none] [] A4) (fun _ _ _ => rf_none) (fun rc5 hrc5 => ?_) (fun j1 hj1 => ?_)
  · intro x2 x3 A4
    refine rf_iload X rfl dX7_vote_6 ?_
    refine rf_aload_n X rfl dX7_vote_8 ?_
    refine rf_bind (fun v6 hv6 => ?_)
    refine rf_getR X fl_X7_243 hv6 dX7_vote_9 ?_
    refine rf_bind (fun v7 hv7 => ?_)
    refine rf_bind (fun g8 hg8 => ?_)
    refine rf_callVI X c_X7_118 ⟨Nat.le_of_ble_eq_true rfl, Nat.le_of_ble_eq_true rfl⟩ [] rfl (Nat.le_of_ble_eq_true rfl) hv7 (sJ2_size l D v7 A4 g8 hg8) dX7_vote_12 ?_
    refine rf_icmp_ge X (tgt := 90) rfl dX7_vote_15 (fun c9 => rf_pos c9 ?_) (fun c9 => rf_neg c9 ?_)
    · refine rf_iload X rfl dX7_vote_90 ?_
      refine rf_jn2 (fun i => ∀ (y11 : Int32), RfX X l e below wU (i y11) 100 [some (tR (some a0)), some (tR p1), some (tI p2), some (tR p3), some (tI x2), none, none, none, none, none] [tI y11] A4) ?_ (fun j10 hj10 => ?_)
      · intro y11
        refine rf_istore X (ls' := [some (tR (some a0)), some (tR p1), some (tI p2), some (tR p3), some (tI x2), some (tI y11), none, none, none, none]) rfl (by decide) dX7_vote_100 ?_
        refine rf_iload X rfl dX7_vote_102 ?_
        refine rf_iload_n X rfl dX7_vote_104 ?_
        refine rf_bind (fun g12 hg12 => ?_)
        refine rf_callSI X c_X7_286 ⟨Nat.le_of_ble_eq_true rfl, Nat.le_of_ble_eq_true rfl⟩ [tI p2] rfl (Nat.le_of_ble_eq_true rfl) (sJ16_bitCount l D p2 A4 g12 hg12) dX7_vote_105 ?_
        refine rf_jn2 (fun i => ∀ (y14 : Int32), RfX X l e below wU (i y14) 116 [some (tR (some a0)), some (tR p1), some (tI p2), some (tR p3), some (tI x2), some (tI y11), none, none, none, none] [tI y14] A4) ?_ (fun j13 hj13 => ?_)
        · intro y14
          refine rf_istore X (ls' := [some (tR (some a0)), some (tR p1), some (tI p2), some (tR p3), some (tI x2), some (tI y11), some (tI y14), none, none, none]) rfl (by decide) dX7_vote_116 ?_
          refine rf_iconst X (0 : Int32) rfl dX7_vote_118 ?_
          refine rf_istore X (ls' := [some (tR (some a0)), some (tR p1), some (tI p2), some (tR p3), some (tI x2), some (tI y11), some (tI y14), some (tI (0 : Int32)), none, none]) rfl (by decide) dX7_vote_119 ?_
          refine rf_fix (fun i => ∀ (x16 : Int32) (A17 : AH), RfX X l e below wU (i x16 A17) 121 [some (tR (some a0)), some (tR p1), some (tI p2), some (tR p3), some (tI x2), some (tI y11), some (tI y14), some (tI x16), none, none] [] A17) (fun _ _ => rf_none) (fun rc18 hrc18 => ?_) (fun j15 hj15 => ?_)
          · intro x16 A17
            refine rf_iload X rfl dX7_vote_121 ?_
            refine rf_aload_n X rfl dX7_vote_123 ?_
            refine rf_bind (fun v19 hv19 => ?_)
            refine rf_getR X fl_X7_243 hv19 dX7_vote_124 ?_
            refine rf_bind (fun v20 hv20 => ?_)
            refine rf_bind (fun g21 hg21 => ?_)
            refine rf_callVI X c_X7_118 ⟨Nat.le_of_ble_eq_true rfl, Nat.le_of_ble_eq_true rfl⟩ [] rfl (Nat.le_of_ble_eq_true rfl) hv20 (sJ2_size l D v20 A17 g21 hg21) dX7_vote_127 ?_
            refine rf_icmp_ge X (tgt := 279) rfl dX7_vote_130 (fun c22 => rf_pos c22 ?_) (fun c22 => rf_neg c22 ?_)
            · exact rf_vret X rfl dX7_vote_279
            refine rf_iload_n X rfl dX7_vote_133 ?_
            refine rf_iload X rfl dX7_vote_134 ?_
            refine rf_ishr X dX7_vote_136 ?_
            refine rf_iconst X (1 : Int32) rfl dX7_vote_137 ?_
            refine rf_iand X dX7_vote_138 ?_
            refine rf_jn2 (fun i => ∀ (A24 : AH), RfX X l e below wU (i A24) 273 [some (tR (some a0)), some (tR p1), some (tI p2), some (tR p3), some (tI x2), some (tI y11), some (tI y14), some (tI x16), none, none] [] A24) ?_ (fun j23 hj23 => ?_)
            · intro A24
              refine rf_iinc X (x16 + (1 : Int32)) rfl rfl (ls' := [some (tR (some a0)), some (tR p1), some (tI p2), some (tR p3), some (tI x2), some (tI y11), some (tI y14), some (tI (x16 + (1 : Int32))), none, none]) rfl (by decide) dX7_vote_273 ?_
              refine rf_goto X (tgt := 121) rfl dX7_vote_276 ?_
              exact rf_go (hrc18 (x16 + (1 : Int32)) A24) (And.intro rfl (And.intro rfl (And.intro rfl (And.intro rfl (And.intro rfl (And.intro rfl (And.intro rfl (And.intro rfl True.intro))))))))
            refine rf_if_ne X (tgt := 145) rfl dX7_vote_139 (fun c25 => rf_neg c25 ?_) (fun c25 => rf_pos c25 ?_)
            · refine rf_aload_n X rfl dX7_vote_145 ?_
              refine rf_getR X fl_X7_243 hv19 dX7_vote_146 ?_
              refine rf_iload X rfl dX7_vote_149 ?_
              refine rf_bind (fun g26 hg26 => ?_)
              refine rf_callVI X c_X7_122 ⟨Nat.le_of_ble_eq_true rfl, Nat.le_of_ble_eq_true rfl⟩ [tI x16] rfl (Nat.le_of_ble_eq_true rfl) hv20 (sJ2_get l D v20 x16 A17 g26 hg26) dX7_vote_151 ?_
              refine rf_bind (fun v27 hv27 => ?_)
              refine rf_cast X (ci := 14) rfl rfl q1251 hv27 dX7_vote_154 ?_
              refine rf_astore X (ls' := [some (tR (some a0)), some (tR p1), some (tI p2), some (tR p3), some (tI x2), some (tI y11), some (tI y14), some (tI x16), some (tR g26), none]) rfl (by decide) dX7_vote_157 ?_
              refine rf_iload X rfl dX7_vote_159 ?_
              refine rf_aload_n X rfl dX7_vote_161 ?_
              refine rf_bind (fun v28 hv28 => ?_)
              refine rf_getI X fl_X7_328 hv28 dX7_vote_162 ?_
              refine rf_aload_n X rfl dX7_vote_165 ?_
              refine rf_bind (fun v29 hv29 => ?_)
              refine rf_getI X fl_X7_20 hv29 dX7_vote_166 ?_
              refine rf_iconst X (1 : Int32) rfl dX7_vote_169 ?_
              refine rf_isub X dX7_vote_170 ?_
              refine rf_iand X dX7_vote_171 ?_
              refine rf_ixor X dX7_vote_172 ?_
              refine rf_istore X (ls' := [some (tR (some a0)), some (tR p1), some (tI p2), some (tR p3), some (tI x2), some (tI y11), some (tI y14), some (tI x16), some (tR g26), some (tI (x16 ^^^ (v28 &&& (v29 - (1 : Int32)))))]) rfl (by decide) dX7_vote_173 ?_
              refine rf_aload_n X rfl dX7_vote_175 ?_
              refine rf_bind (fun v30 hv30 => ?_)
              refine rf_getI X fl_X7_313 hv30 dX7_vote_176 ?_
              refine rf_bipush X (70 : Int32) rfl dX7_vote_179 ?_
              refine rf_icmp_ne X (tgt := 201) rfl dX7_vote_181 (fun c31 => rf_neg c31 ?_) (fun c31 => rf_pos c31 ?_)
              · refine rf_aload_n X rfl dX7_vote_201 ?_
                refine rf_getI X fl_X7_313 hv30 dX7_vote_202 ?_
                refine rf_bipush X (71 : Int32) rfl dX7_vote_205 ?_
                refine rf_icmp_ne X (tgt := 227) rfl dX7_vote_207 (fun c35 => rf_neg c35 ?_) (fun c35 => rf_pos c35 ?_)
                · refine rf_aload X rfl dX7_vote_227 ?_
                  refine rf_bind (fun v39 hv39 => ?_)
                  refine rf_getR X fl_X7_209 hv39 dX7_vote_229 ?_
                  refine rf_aload_n X rfl dX7_vote_232 ?_
                  refine rf_bind (fun v40 hv40 => ?_)
                  refine rf_getI X fl_X7_387 hv40 dX7_vote_233 ?_
                  refine rf_aload_n X rfl dX7_vote_236 ?_
                  refine rf_getI X fl_X7_313 hv30 dX7_vote_237 ?_
                  refine rf_bipush X (72 : Int32) rfl dX7_vote_240 ?_
                  refine rf_jn2 (fun i => ∀ (y42 : Int32), RfX X l e below wU (i y42) 272 [some (tR (some a0)), some (tR p1), some (tI p2), some (tR p3), some (tI x2), some (tI y11), some (tI y14), some (tI x16), none, none] [tI y42, tI v40, tR v39] A17) ?_ (fun j41 hj41 => ?_)
                  · intro y42
                    refine rf_bind (fun A43 hA43 => ?_)
                    refine rf_iast X hA43 dX7_vote_272 ?_
                    exact rf_go (hj23 A43) (And.intro rfl (And.intro rfl (And.intro rfl (And.intro rfl (And.intro rfl (And.intro rfl (And.intro rfl (And.intro rfl True.intro))))))))
                  refine rf_icmp_ne X (tgt := 250) rfl dX7_vote_242 (fun c44 => rf_neg c44 ?_) (fun c44 => rf_pos c44 ?_)
                  · refine rf_aload_n X rfl dX7_vote_250 ?_
                    refine rf_bind (fun v45 hv45 => ?_)
                    refine rf_getR X fl_X7_79 hv45 dX7_vote_251 ?_
                    refine rf_iload_n X rfl dX7_vote_254 ?_
                    refine rf_iload X rfl dX7_vote_255 ?_
                    refine rf_ishr X dX7_vote_257 ?_
                    refine rf_iconst X (1 : Int32) rfl dX7_vote_258 ?_
                    refine rf_iand X dX7_vote_259 ?_
                    refine rf_iconst X (1 : Int32) rfl dX7_vote_260 ?_
                    refine rf_jn2 (fun i => ∀ (y47 : Int32), RfX X l e below wU (i y47) 271 [some (tR (some a0)), some (tR p1), some (tI p2), some (tR p3), some (tI x2), some (tI y11), some (tI y14), some (tI x16), none, none] [tI y47, tR v45, tI v40, tR v39] A17) ?_ (fun j46 hj46 => ?_)
                    · intro y47
                      refine rf_bind (fun v48 hv48 => ?_)
                      refine rf_iald X hv48 dX7_vote_271 ?_
                      exact rf_go (hj41 v48) (And.intro rfl (And.intro rfl (And.intro rfl (And.intro rfl (And.intro rfl (And.intro rfl (And.intro rfl (And.intro rfl True.intro))))))))
                    refine rf_icmp_ne X (tgt := 269) rfl dX7_vote_261 (fun c49 => rf_neg c49 ?_) (fun c49 => rf_pos c49 ?_)
                    · refine rf_iload X rfl dX7_vote_269 ?_
                      exact rf_go (hj46 x16) (And.intro rfl (And.intro rfl (And.intro rfl (And.intro rfl (And.intro rfl (And.intro rfl (And.intro rfl (And.intro rfl True.intro))))))))
                    refine rf_iload X rfl dX7_vote_264 ?_
                    refine rf_goto X (tgt := 271) rfl dX7_vote_266 ?_
                    exact rf_go (hj46 (x16 ^^^ (v28 &&& (v29 - (1 : Int32))))) (And.intro rfl (And.intro rfl (And.intro rfl (And.intro rfl (And.intro rfl (And.intro rfl (And.intro rfl (And.intro rfl True.intro))))))))
                  refine rf_iload X rfl dX7_vote_245 ?_
                  refine rf_goto X (tgt := 272) rfl dX7_vote_247 ?_
                  exact rf_go (hj41 x2) (And.intro rfl (And.intro rfl (And.intro rfl (And.intro rfl (And.intro rfl (And.intro rfl (And.intro rfl (And.intro rfl True.intro))))))))
                refine rf_aload X rfl dX7_vote_210 ?_
                refine rf_bind (fun v36 hv36 => ?_)
                refine rf_getR X fl_X7_400 hv36 dX7_vote_212 ?_
                refine rf_aload_n X rfl dX7_vote_215 ?_
                refine rf_bind (fun v37 hv37 => ?_)
                refine rf_getI X fl_X7_387 hv37 dX7_vote_216 ?_
                refine rf_iconst X (3 : Int32) rfl dX7_vote_219 ?_
                refine rf_iand X dX7_vote_220 ?_
                refine rf_iload X rfl dX7_vote_221 ?_
                refine rf_bind (fun A38 hA38 => ?_)
                refine rf_zast X hA38 dX7_vote_223 ?_
                refine rf_goto X (tgt := 273) rfl dX7_vote_224 ?_
                exact rf_go (hj23 A38) (And.intro rfl (And.intro rfl (And.intro rfl (And.intro rfl (And.intro rfl (And.intro rfl (And.intro rfl (And.intro rfl True.intro))))))))
              refine rf_aload X rfl dX7_vote_184 ?_
              refine rf_bind (fun v32 hv32 => ?_)
              refine rf_getR X fl_X7_400 hv32 dX7_vote_186 ?_
              refine rf_aload_n X rfl dX7_vote_189 ?_
              refine rf_bind (fun v33 hv33 => ?_)
              refine rf_getI X fl_X7_387 hv33 dX7_vote_190 ?_
              refine rf_iconst X (3 : Int32) rfl dX7_vote_193 ?_
              refine rf_iand X dX7_vote_194 ?_
              refine rf_iload X rfl dX7_vote_195 ?_
              refine rf_bind (fun A34 hA34 => ?_)
              refine rf_zast X hA34 dX7_vote_197 ?_
              refine rf_goto X (tgt := 273) rfl dX7_vote_198 ?_
              exact rf_go (hj23 A34) (And.intro rfl (And.intro rfl (And.intro rfl (And.intro rfl (And.intro rfl (And.intro rfl (And.intro rfl (And.intro rfl True.intro))))))))
            refine rf_goto X (tgt := 273) rfl dX7_vote_142 ?_
            exact rf_go (hj23 A17) (And.intro rfl (And.intro rfl (And.intro rfl (And.intro rfl (And.intro rfl (And.intro rfl (And.intro rfl (And.intro rfl True.intro))))))))
          exact rf_go (hj15 (0 : Int32) A4) (And.intro rfl (And.intro rfl (And.intro rfl (And.intro rfl (And.intro rfl (And.intro rfl (And.intro rfl (And.intro rfl True.intro))))))))
        refine rf_icmp_ne X (tgt := 115) rfl dX7_vote_108 (fun c50 => rf_neg c50 ?_) (fun c50 => rf_pos c50 ?_)
        · refine rf_iconst X (0 : Int32) rfl dX7_vote_115 ?_
          exact rf_go (hj13 (0 : Int32)) (And.intro rfl (And.intro rfl (And.intro rfl (And.intro rfl (And.intro rfl (And.intro rfl True.intro))))))
        refine rf_iconst X (1 : Int32) rfl dX7_vote_111 ?_
        refine rf_goto X (tgt := 116) rfl dX7_vote_112 ?_
        exact rf_go (hj13 (1 : Int32)) (And.intro rfl (And.intro rfl (And.intro rfl (And.intro rfl (And.intro rfl (And.intro rfl True.intro))))))
      refine rf_if_le X (tgt := 99) rfl dX7_vote_92 (fun c51 => rf_pos c51 ?_) (fun c51 => rf_neg c51 ?_)
      · refine rf_iconst X (0 : Int32) rfl dX7_vote_99 ?_
        exact rf_go (hj10 (0 : Int32)) (And.intro rfl (And.intro rfl (And.intro rfl (And.intro rfl (And.intro rfl True.intro)))))
      refine rf_iconst X (1 : Int32) rfl dX7_vote_95 ?_
      refine rf_goto X (tgt := 100) rfl dX7_vote_96 ?_
      exact rf_go (hj10 (1 : Int32)) (And.intro rfl (And.intro rfl (And.intro rfl (And.intro rfl (And.intro rfl True.intro)))))
    refine rf_aload_n X rfl dX7_vote_18 ?_
    refine rf_getR X fl_X7_243 hv6 dX7_vote_19 ?_
    refine rf_iload X rfl dX7_vote_22 ?_
    refine rf_bind (fun g52 hg52 => ?_)
    refine rf_callVI X c_X7_122 ⟨Nat.le_of_ble_eq_true rfl, Nat.le_of_ble_eq_true rfl⟩ [tI x3] rfl (Nat.le_of_ble_eq_true rfl) hv7 (sJ2_get l D v7 x3 A4 g52 hg52) dX7_vote_24 ?_
    refine rf_bind (fun v53 hv53 => ?_)
    refine rf_cast X (ci := 14) rfl rfl q1251 hv53 dX7_vote_27 ?_
    refine rf_astore X (ls' := [some (tR (some a0)), some (tR p1), some (tI p2), some (tR p3), some (tI x2), some (tI x3), some (tR g52), none, none, none]) rfl (by decide) dX7_vote_30 ?_
    refine rf_aload_n X rfl dX7_vote_32 ?_
    refine rf_bind (fun v54 hv54 => ?_)
    refine rf_getR X fl_X7_79 hv54 dX7_vote_33 ?_
    refine rf_iload X rfl dX7_vote_36 ?_
    refine rf_aload X rfl dX7_vote_38 ?_
    refine rf_bind (fun v55 hv55 => ?_)
    refine rf_getR X fl_X7_209 hv55 dX7_vote_40 ?_
    refine rf_aload_n X rfl dX7_vote_43 ?_
    refine rf_bind (fun v56 hv56 => ?_)
    refine rf_getI X fl_X7_325 hv56 dX7_vote_44 ?_
    refine rf_bind (fun v57 hv57 => ?_)
    refine rf_iald X hv57 dX7_vote_47 ?_
    refine rf_bind (fun A58 hA58 => ?_)
    refine rf_iast X hA58 dX7_vote_48 ?_
    refine rf_iload X rfl dX7_vote_49 ?_
    refine rf_iload_n X rfl dX7_vote_51 ?_
    refine rf_iload X rfl dX7_vote_52 ?_
    refine rf_ishr X dX7_vote_54 ?_
    refine rf_iconst X (1 : Int32) rfl dX7_vote_55 ?_
    refine rf_iand X dX7_vote_56 ?_
    refine rf_iconst X (1 : Int32) rfl dX7_vote_57 ?_
    refine rf_jn2 (fun i => ∀ (y60 : Int32), RfX X l e below wU (i y60) 81 [some (tR (some a0)), some (tR p1), some (tI p2), some (tR p3), none, some (tI x3), none, none, none, none] [tI y60, tI x2] A58) ?_ (fun j59 hj59 => ?_)
    · intro y60
      refine rf_iadd X dX7_vote_81 ?_
      refine rf_istore X (ls' := [some (tR (some a0)), some (tR p1), some (tI p2), some (tR p3), some (tI (x2 + y60)), some (tI x3), none, none, none, none]) rfl (by decide) dX7_vote_82 ?_
      refine rf_iinc X (x3 + (1 : Int32)) rfl rfl (ls' := [some (tR (some a0)), some (tR p1), some (tI p2), some (tR p3), some (tI (x2 + y60)), some (tI (x3 + (1 : Int32))), none, none, none, none]) rfl (by decide) dX7_vote_84 ?_
      refine rf_goto X (tgt := 6) rfl dX7_vote_87 ?_
      exact rf_go (hrc5 (x2 + y60) (x3 + (1 : Int32)) A58) (And.intro rfl (And.intro rfl (And.intro rfl (And.intro rfl (And.intro rfl (And.intro rfl True.intro))))))
    refine rf_jn2 (fun i => RfX X l e below wU i 80 [some (tR (some a0)), some (tR p1), some (tI p2), some (tR p3), none, some (tI x3), none, none, none, none] [tI x2] A58) ?_ (fun j61 hj61 => ?_)
    · show RfX X l e below _ _ _ _ _ _
      refine rf_iconst X (0 : Int32) rfl dX7_vote_80 ?_
      exact rf_go (hj59 (0 : Int32)) (And.intro rfl (And.intro rfl (And.intro rfl (And.intro rfl (And.intro rfl True.intro)))))
    refine rf_icmp_ne X (tgt := 80) rfl dX7_vote_58 (fun c62 => rf_neg c62 ?_) (fun c62 => rf_pos c62 ?_)
    · exact rf_go hj61 (And.intro rfl (And.intro rfl (And.intro rfl (And.intro rfl (And.intro rfl True.intro)))))
    refine rf_aload X rfl dX7_vote_61 ?_
    refine rf_bind (fun v63 hv63 => ?_)
    refine rf_getR X fl_X7_400 hv63 dX7_vote_63 ?_
    refine rf_aload_n X rfl dX7_vote_66 ?_
    refine rf_bind (fun v64 hv64 => ?_)
    refine rf_getI X fl_X7_325 hv64 dX7_vote_67 ?_
    refine rf_iconst X (3 : Int32) rfl dX7_vote_70 ?_
    refine rf_iand X dX7_vote_71 ?_
    refine rf_bind (fun v65 hv65 => ?_)
    refine rf_zald X hv65 dX7_vote_72 ?_
    refine rf_if_eq X (tgt := 80) rfl dX7_vote_73 (fun c66 => rf_pos c66 ?_) (fun c66 => rf_neg c66 ?_)
    · exact rf_go hj61 (And.intro rfl (And.intro rfl (And.intro rfl (And.intro rfl (And.intro rfl True.intro)))))
    refine rf_iconst X (1 : Int32) rfl dX7_vote_76 ?_
    refine rf_goto X (tgt := 81) rfl dX7_vote_77 ?_
    exact rf_go (hj59 (1 : Int32)) (And.intro rfl (And.intro rfl (And.intro rfl (And.intro rfl (And.intro rfl True.intro)))))
  exact rf_go (hj1 (0 : Int32) (0 : Int32) A) (And.intro rfl (And.intro rfl (And.intro rfl (And.intro rfl (And.intro rfl (And.intro rfl True.intro))))))

theorem dX15_init_0 : decode cX15_init 0 = .ok (.aload_n 0, 1) := by decide +kernel
theorem dX15_init_1 : decode cX15_init 1 = .ok (.invokespecial 1, 3) := by decide +kernel
theorem dX15_init_4 : decode cX15_init 4 = .ok (.return_, 1) := by decide +kernel
def fX15_init (a0 : Nat) (A : AH) : Option (Unit) :=
some ()

set_option maxHeartbeats 4000000 in
set_option maxRecDepth 100000 in
theorem sX15_init (l : Launch) (D : DE) (a0 : Nat) (A : AH) (g : Unit) (hg : fX15_init a0 A = some g) : Sm l D yX15_init cX15_init 1 none 1 20 [tR (some a0)] A (qU A g).1 (qU A g).2 := by
  refine Sm.of (ω := qU A) (fX15_init a0 A) [some (tR (some a0))] (by decide) (Nat.le_of_ble_eq_true rfl) rfl hg ?_
  intro p e R s m args below meth c X hin
  have X : Cx D cX15_init RX15 1 1 20 none p R s m args meth c := X
  unfold fX15_init
  refine rf_aload_n X rfl dX15_init_0 ?_
  refine rf_objInit X q1422 ⟨by decide, by decide⟩ (Nat.le_of_ble_eq_true rfl) dX15_init_1 ?_
  exact rf_vret X rfl dX15_init_4

theorem dX3_fresh_0 : decode cX3_fresh 0 = .ok (.aload_n 0, 1) := by decide +kernel
theorem dX3_fresh_1 : decode cX3_fresh 1 = .ok (.getfield 16, 3) := by decide +kernel
theorem dX3_fresh_4 : decode cX3_fresh 4 = .ok (.invokevirtual 19, 3) := by decide +kernel
theorem dX3_fresh_7 : decode cX3_fresh 7 = .ok (.ifCond .eq 13, 3) := by decide +kernel
theorem dX3_fresh_10 : decode cX3_fresh 10 = .ok (.new 23, 3) := by decide +kernel
theorem dX3_fresh_13 : decode cX3_fresh 13 = .ok (.dup, 1) := by decide +kernel
theorem dX3_fresh_14 : decode cX3_fresh 14 = .ok (.invokespecial 25, 3) := by decide +kernel
theorem dX3_fresh_17 : decode cX3_fresh 17 = .ok (.goto 22, 3) := by decide +kernel
theorem dX3_fresh_20 : decode cX3_fresh 20 = .ok (.aload_n 0, 1) := by decide +kernel
theorem dX3_fresh_21 : decode cX3_fresh 21 = .ok (.getfield 16, 3) := by decide +kernel
theorem dX3_fresh_24 : decode cX3_fresh 24 = .ok (.aload_n 0, 1) := by decide +kernel
theorem dX3_fresh_25 : decode cX3_fresh 25 = .ok (.getfield 16, 3) := by decide +kernel
theorem dX3_fresh_28 : decode cX3_fresh 28 = .ok (.invokevirtual 26, 3) := by decide +kernel
theorem dX3_fresh_31 : decode cX3_fresh 31 = .ok (.iconst 1, 1) := by decide +kernel
theorem dX3_fresh_32 : decode cX3_fresh 32 = .ok (.isub, 1) := by decide +kernel
theorem dX3_fresh_33 : decode cX3_fresh 33 = .ok (.invokevirtual 30, 3) := by decide +kernel
theorem dX3_fresh_36 : decode cX3_fresh 36 = .ok (.checkcast 23, 3) := by decide +kernel
theorem dX3_fresh_39 : decode cX3_fresh 39 = .ok (.areturn, 1) := by decide +kernel
def fX3_fresh (a0 : Nat) (A : AH) : Option (Option Nat × AH) :=
(gR A (some a0) 3 1).bind fun v1 =>
(rcv A v1 0).bind fun v2 =>
(fJ2_isEmpty v2 A).bind fun g3 =>
jn (fun (y5 : Option Nat) (A6 : AH) =>
some (y5, A6)) fun j4 =>
if g3 = 0 then ((fJ2_size v2 A).bind fun g8 =>
(fJ2_remove v2 (g8 - (1 : Int32)) A).bind fun g9 =>
(cst g9.2 g9.1 15).bind fun v10 =>
j4 g9.1 g9.2) else
(nO A 15 dfX15).bind fun A11 =>
(fX15_init (hN A) A11).bind fun g12 =>
j4 (some (hN A)) A11

set_option maxHeartbeats 4000000 in
set_option maxRecDepth 100000 in
theorem sX3_fresh (l : Launch) (D : DE) (a0 : Nat) (A : AH) (g : Option Nat × AH) (hg : fX3_fresh a0 A = some g) : Sm l D yX3_fresh cX3_fresh 1 (some (Jvm.ClassFile.FieldType.object "WarpMill$Ask")) 3 106 [tR (some a0)] A (wO g).1 (wO g).2 := by
  refine Sm.of (ω := wO) (fX3_fresh a0 A) [some (tR (some a0))] (by decide) (Nat.le_of_ble_eq_true rfl) rfl hg ?_
  intro p e R s m args below meth c X hin
  have X : Cx D cX3_fresh RX3 1 3 106 (some (Jvm.ClassFile.FieldType.object "WarpMill$Ask")) p R s m args meth c := X
  unfold fX3_fresh
  refine rf_aload_n X rfl dX3_fresh_0 ?_
  refine rf_bind (fun v1 hv1 => ?_)
  refine rf_getR X fl_X3_16 hv1 dX3_fresh_1 ?_
  refine rf_bind (fun v2 hv2 => ?_)
  refine rf_bind (fun g3 hg3 => ?_)
  refine rf_callVI X c_X3_19 ⟨Nat.le_of_ble_eq_true rfl, Nat.le_of_ble_eq_true rfl⟩ [] rfl (Nat.le_of_ble_eq_true rfl) hv2 (sJ2_isEmpty l D v2 A g3 hg3) dX3_fresh_4 ?_
  refine rf_jn2 (fun i => ∀ (y5 : Option Nat) (A6 : AH), RfX X l e below wO (i y5 A6) 39 [none] [tR y5] A6) ?_ (fun j4 hj4 => ?_)
  · intro y5 A6
    exact rf_aret (Or.inl ⟨_, rfl⟩) X rfl dX3_fresh_39
  refine rf_if_eq X (tgt := 20) rfl dX3_fresh_7 (fun c7 => rf_pos c7 ?_) (fun c7 => rf_neg c7 ?_)
  · refine rf_aload_n X rfl dX3_fresh_20 ?_
    refine rf_getR X fl_X3_16 hv1 dX3_fresh_21 ?_
    refine rf_aload_n X rfl dX3_fresh_24 ?_
    refine rf_getR X fl_X3_16 hv1 dX3_fresh_25 ?_
    refine rf_bind (fun g8 hg8 => ?_)
    refine rf_callVI X c_X3_26 ⟨Nat.le_of_ble_eq_true rfl, Nat.le_of_ble_eq_true rfl⟩ [] rfl (Nat.le_of_ble_eq_true rfl) hv2 (sJ2_size l D v2 A g8 hg8) dX3_fresh_28 ?_
    refine rf_iconst X (1 : Int32) rfl dX3_fresh_31 ?_
    refine rf_isub X dX3_fresh_32 ?_
    refine rf_bind (fun g9 hg9 => ?_)
    refine rf_callVI X c_X3_30 ⟨Nat.le_of_ble_eq_true rfl, Nat.le_of_ble_eq_true rfl⟩ [tI (g8 - (1 : Int32))] rfl (Nat.le_of_ble_eq_true rfl) hv2 (sJ2_remove l D v2 (g8 - (1 : Int32)) A g9 hg9) dX3_fresh_33 ?_
    refine rf_bind (fun v10 hv10 => ?_)
    refine rf_cast X (ci := 15) rfl rfl q713 hv10 dX3_fresh_36 ?_
    exact rf_go (hj4 g9.1 g9.2) True.intro
  refine rf_bind (fun A11 hA11 => ?_)
  refine rf_new X nw_X3_23 hA11 dX3_fresh_10 ?_
  refine rf_dup X rfl dX3_fresh_13 ?_
  refine rf_bind (fun g12 hg12 => ?_)
  refine rf_callI X c_X3_25 ⟨Nat.le_of_ble_eq_true rfl, Nat.le_of_ble_eq_true rfl⟩ [] rfl (Nat.le_of_ble_eq_true rfl) (sX15_init l D (hN A) A11 g12 hg12) dX3_fresh_14 ?_
  refine rf_goto X (tgt := 39) rfl dX3_fresh_17 ?_
  exact rf_go (hj4 (some (hN A)) A11) True.intro

theorem dX3_add_0 : decode cX3_add 0 = .ok (.aload_n 1, 1) := by decide +kernel
theorem dX3_add_1 : decode cX3_add 1 = .ok (.aload_n 0, 1) := by decide +kernel
theorem dX3_add_2 : decode cX3_add 2 = .ok (.getfield 34, 3) := by decide +kernel
theorem dX3_add_5 : decode cX3_add 5 = .ok (.putfield 38, 3) := by decide +kernel
theorem dX3_add_8 : decode cX3_add 8 = .ok (.aload_n 0, 1) := by decide +kernel
theorem dX3_add_9 : decode cX3_add 9 = .ok (.dup, 1) := by decide +kernel
theorem dX3_add_10 : decode cX3_add 10 = .ok (.getfield 34, 3) := by decide +kernel
theorem dX3_add_13 : decode cX3_add 13 = .ok (.iconst 1, 1) := by decide +kernel
theorem dX3_add_14 : decode cX3_add 14 = .ok (.iadd, 1) := by decide +kernel
theorem dX3_add_15 : decode cX3_add 15 = .ok (.putfield 34, 3) := by decide +kernel
theorem dX3_add_18 : decode cX3_add 18 = .ok (.aload_n 0, 1) := by decide +kernel
theorem dX3_add_19 : decode cX3_add 19 = .ok (.getfield 10, 3) := by decide +kernel
theorem dX3_add_22 : decode cX3_add 22 = .ok (.aload_n 1, 1) := by decide +kernel
theorem dX3_add_23 : decode cX3_add 23 = .ok (.invokevirtual 41, 3) := by decide +kernel
theorem dX3_add_26 : decode cX3_add 26 = .ok (.pop, 1) := by decide +kernel
theorem dX3_add_27 : decode cX3_add 27 = .ok (.aload_n 0, 1) := by decide +kernel
theorem dX3_add_28 : decode cX3_add 28 = .ok (.getfield 10, 3) := by decide +kernel
theorem dX3_add_31 : decode cX3_add 31 = .ok (.invokevirtual 26, 3) := by decide +kernel
theorem dX3_add_34 : decode cX3_add 34 = .ok (.iconst 1, 1) := by decide +kernel
theorem dX3_add_35 : decode cX3_add 35 = .ok (.isub, 1) := by decide +kernel
theorem dX3_add_36 : decode cX3_add 36 = .ok (.istore_n 2, 1) := by decide +kernel
theorem dX3_add_37 : decode cX3_add 37 = .ok (.iload_n 2, 1) := by decide +kernel
theorem dX3_add_38 : decode cX3_add 38 = .ok (.ifCond .le 58, 3) := by decide +kernel
theorem dX3_add_41 : decode cX3_add 41 = .ok (.aload_n 1, 1) := by decide +kernel
theorem dX3_add_42 : decode cX3_add 42 = .ok (.aload_n 0, 1) := by decide +kernel
theorem dX3_add_43 : decode cX3_add 43 = .ok (.getfield 10, 3) := by decide +kernel
theorem dX3_add_46 : decode cX3_add 46 = .ok (.iload_n 2, 1) := by decide +kernel
theorem dX3_add_47 : decode cX3_add 47 = .ok (.iconst 1, 1) := by decide +kernel
theorem dX3_add_48 : decode cX3_add 48 = .ok (.isub, 1) := by decide +kernel
theorem dX3_add_49 : decode cX3_add 49 = .ok (.iconst 2, 1) := by decide +kernel
theorem dX3_add_50 : decode cX3_add 50 = .ok (.idiv, 1) := by decide +kernel
theorem dX3_add_51 : decode cX3_add 51 = .ok (.invokevirtual 45, 3) := by decide +kernel
theorem dX3_add_54 : decode cX3_add 54 = .ok (.checkcast 23, 3) := by decide +kernel
theorem dX3_add_57 : decode cX3_add 57 = .ok (.invokevirtual 48, 3) := by decide +kernel
theorem dX3_add_60 : decode cX3_add 60 = .ok (.ifCond .eq 36, 3) := by decide +kernel
theorem dX3_add_63 : decode cX3_add 63 = .ok (.aload_n 0, 1) := by decide +kernel
theorem dX3_add_64 : decode cX3_add 64 = .ok (.getfield 10, 3) := by decide +kernel
theorem dX3_add_67 : decode cX3_add 67 = .ok (.iload_n 2, 1) := by decide +kernel
theorem dX3_add_68 : decode cX3_add 68 = .ok (.aload_n 0, 1) := by decide +kernel
theorem dX3_add_69 : decode cX3_add 69 = .ok (.getfield 10, 3) := by decide +kernel
theorem dX3_add_72 : decode cX3_add 72 = .ok (.iload_n 2, 1) := by decide +kernel
theorem dX3_add_73 : decode cX3_add 73 = .ok (.iconst 1, 1) := by decide +kernel
theorem dX3_add_74 : decode cX3_add 74 = .ok (.isub, 1) := by decide +kernel
theorem dX3_add_75 : decode cX3_add 75 = .ok (.iconst 2, 1) := by decide +kernel
theorem dX3_add_76 : decode cX3_add 76 = .ok (.idiv, 1) := by decide +kernel
theorem dX3_add_77 : decode cX3_add 77 = .ok (.invokevirtual 45, 3) := by decide +kernel
theorem dX3_add_80 : decode cX3_add 80 = .ok (.checkcast 23, 3) := by decide +kernel
theorem dX3_add_83 : decode cX3_add 83 = .ok (.invokevirtual 52, 3) := by decide +kernel
theorem dX3_add_86 : decode cX3_add 86 = .ok (.pop, 1) := by decide +kernel
theorem dX3_add_87 : decode cX3_add 87 = .ok (.iload_n 2, 1) := by decide +kernel
theorem dX3_add_88 : decode cX3_add 88 = .ok (.iconst 1, 1) := by decide +kernel
theorem dX3_add_89 : decode cX3_add 89 = .ok (.isub, 1) := by decide +kernel
theorem dX3_add_90 : decode cX3_add 90 = .ok (.iconst 2, 1) := by decide +kernel
theorem dX3_add_91 : decode cX3_add 91 = .ok (.idiv, 1) := by decide +kernel
theorem dX3_add_92 : decode cX3_add 92 = .ok (.istore_n 2, 1) := by decide +kernel
theorem dX3_add_93 : decode cX3_add 93 = .ok (.goto (-56), 3) := by decide +kernel
theorem dX3_add_96 : decode cX3_add 96 = .ok (.aload_n 0, 1) := by decide +kernel
theorem dX3_add_97 : decode cX3_add 97 = .ok (.getfield 10, 3) := by decide +kernel
theorem dX3_add_100 : decode cX3_add 100 = .ok (.iload_n 2, 1) := by decide +kernel
theorem dX3_add_101 : decode cX3_add 101 = .ok (.aload_n 1, 1) := by decide +kernel
theorem dX3_add_102 : decode cX3_add 102 = .ok (.invokevirtual 52, 3) := by decide +kernel
theorem dX3_add_105 : decode cX3_add 105 = .ok (.pop, 1) := by decide +kernel
theorem dX3_add_106 : decode cX3_add 106 = .ok (.return_, 1) := by decide +kernel
def fX3_add (n : Nat) (a0 : Nat) (p1 : Option Nat) (A : AH) : Option (AH) :=
(gI A (some a0) 3 2).bind fun v1 =>
(pI A p1 15 1 v1).bind fun A2 =>
(gI A2 (some a0) 3 2).bind fun v3 =>
(pI A2 (some a0) 3 2 (v3 + (1 : Int32))).bind fun A4 =>
(gR A4 (some a0) 3 0).bind fun v5 =>
(rcv A4 v5 0).bind fun v6 =>
(fJ2_add v6 p1 A4).bind fun g7 =>
(gR g7.2 (some a0) 3 0).bind fun v8 =>
(rcv g7.2 v8 0).bind fun v9 =>
(fJ2_size v9 g7.2).bind fun g10 =>
jl (fixG (fun _ _ => none) (fun (rc14 : (Int32) → (AH) → Option (AH)) (x12 : Int32) (A13 : AH) =>
jn ((gR A13 (some a0) 3 0).bind fun v16 =>
(rcv A13 v16 0).bind fun v17 =>
(fJ2_set v17 x12 p1 A13).bind fun g18 =>
some g18.2) fun j15 =>
if x12 ≤ 0 then (j15) else
(gR A13 (some a0) 3 0).bind fun v20 =>
(rcv A13 v20 0).bind fun v21 =>
(fJ2_get v21 ((x12 - (1 : Int32)) / (2 : Int32)) A13).bind fun g22 =>
(cst A13 g22 15).bind fun v23 =>
(rcv A13 p1 15).bind fun v24 =>
(fX15_isAhead v24 g22 A13).bind fun g25 =>
if g25 = 0 then (j15) else
(fJ2_set v21 x12 g22 A13).bind fun g27 =>
rc14 ((x12 - (1 : Int32)) / (2 : Int32)) g27.2) n) fun j11 =>
j11 (g10 - (1 : Int32)) g7.2

set_option maxHeartbeats 4000000 in
set_option maxRecDepth 100000 in
theorem sX3_add (l : Launch) (D : DE) (n : Nat) (a0 : Nat) (p1 : Option Nat) (A : AH) (g : AH) (hg : fX3_add n a0 p1 A = some g) : Sm l D yX3_add cX3_add 3 none 7 191 [tR (some a0), tR p1] A (wU g).1 (wU g).2 := by
  refine Sm.of (ω := wU) (fX3_add n a0 p1 A) [some (tR (some a0)), some (tR p1), none] (by decide) (Nat.le_of_ble_eq_true rfl) rfl hg ?_
  intro p e R s m args below meth c X hin
  have X : Cx D cX3_add RX3 3 7 191 none p R s m args meth c := X
  unfold fX3_add
  refine rf_aload_n X rfl dX3_add_0 ?_
  refine rf_aload_n X rfl dX3_add_1 ?_
  refine rf_bind (fun v1 hv1 => ?_)
  refine rf_getI X fl_X3_34 hv1 dX3_add_2 ?_
  refine rf_bind (fun A2 hA2 => ?_)
  refine rf_putI X fp_X3_38 (fun h => by cases h) hA2 dX3_add_5 ?_
  refine rf_aload_n X rfl dX3_add_8 ?_
  refine rf_dup X rfl dX3_add_9 ?_
  refine rf_bind (fun v3 hv3 => ?_)
  refine rf_getI X fl_X3_34 hv3 dX3_add_10 ?_
  refine rf_iconst X (1 : Int32) rfl dX3_add_13 ?_
  refine rf_iadd X dX3_add_14 ?_
  refine rf_bind (fun A4 hA4 => ?_)
  refine rf_putI X fp_X3_34 (fun h => by cases h) hA4 dX3_add_15 ?_
  refine rf_aload_n X rfl dX3_add_18 ?_
  refine rf_bind (fun v5 hv5 => ?_)
  refine rf_getR X fl_X3_10 hv5 dX3_add_19 ?_
  refine rf_aload_n X rfl dX3_add_22 ?_
  refine rf_bind (fun v6 hv6 => ?_)
  refine rf_bind (fun g7 hg7 => ?_)
  refine rf_callVI X c_X3_41 ⟨Nat.le_of_ble_eq_true rfl, Nat.le_of_ble_eq_true rfl⟩ [tR p1] rfl (Nat.le_of_ble_eq_true rfl) hv6 (sJ2_add l D v6 p1 A4 g7 hg7) dX3_add_23 ?_
  refine rf_pop X rfl dX3_add_26 ?_
  refine rf_aload_n X rfl dX3_add_27 ?_
  refine rf_bind (fun v8 hv8 => ?_)
  refine rf_getR X fl_X3_10 hv8 dX3_add_28 ?_
  refine rf_bind (fun v9 hv9 => ?_)
  refine rf_bind (fun g10 hg10 => ?_)
  refine rf_callVI X c_X3_26 ⟨Nat.le_of_ble_eq_true rfl, Nat.le_of_ble_eq_true rfl⟩ [] rfl (Nat.le_of_ble_eq_true rfl) hv9 (sJ2_size l D v9 g7.2 g10 hg10) dX3_add_31 ?_
  refine rf_iconst X (1 : Int32) rfl dX3_add_34 ?_
  refine rf_isub X dX3_add_35 ?_
  refine rf_istore_n X (ls' := [some (tR (some a0)), some (tR p1), some (tI (g10 - (1 : Int32)))]) rfl (by decide) dX3_add_36 ?_
  refine rf_fix (fun i => ∀ (x12 : Int32) (A13 : AH), RfX X l e below wU (i x12 A13) 37 [some (tR (some a0)), some (tR p1), some (tI x12)] [] A13) (fun _ _ => rf_none) (fun rc14 hrc14 => ?_) (fun j11 hj11 => ?_)
  · intro x12 A13
    refine rf_iload_n X rfl dX3_add_37 ?_
    refine rf_jn2 (fun i => RfX X l e below wU i 96 [some (tR (some a0)), some (tR p1), some (tI x12)] [] A13) ?_ (fun j15 hj15 => ?_)
    · show RfX X l e below _ _ _ _ _ _
      refine rf_aload_n X rfl dX3_add_96 ?_
      refine rf_bind (fun v16 hv16 => ?_)
      refine rf_getR X fl_X3_10 hv16 dX3_add_97 ?_
      refine rf_iload_n X rfl dX3_add_100 ?_
      refine rf_aload_n X rfl dX3_add_101 ?_
      refine rf_bind (fun v17 hv17 => ?_)
      refine rf_bind (fun g18 hg18 => ?_)
      refine rf_callVI X c_X3_52 ⟨Nat.le_of_ble_eq_true rfl, Nat.le_of_ble_eq_true rfl⟩ [tI x12, tR p1] rfl (Nat.le_of_ble_eq_true rfl) hv17 (sJ2_set l D v17 x12 p1 A13 g18 hg18) dX3_add_102 ?_
      refine rf_pop X rfl dX3_add_105 ?_
      exact rf_vret X rfl dX3_add_106
    refine rf_if_le X (tgt := 96) rfl dX3_add_38 (fun c19 => rf_pos c19 ?_) (fun c19 => rf_neg c19 ?_)
    · exact rf_go hj15 (And.intro rfl (And.intro rfl (And.intro rfl True.intro)))
    refine rf_aload_n X rfl dX3_add_41 ?_
    refine rf_aload_n X rfl dX3_add_42 ?_
    refine rf_bind (fun v20 hv20 => ?_)
    refine rf_getR X fl_X3_10 hv20 dX3_add_43 ?_
    refine rf_iload_n X rfl dX3_add_46 ?_
    refine rf_iconst X (1 : Int32) rfl dX3_add_47 ?_
    refine rf_isub X dX3_add_48 ?_
    refine rf_iconst X (2 : Int32) rfl dX3_add_49 ?_
    refine rf_idiv X (by decide) dX3_add_50 ?_
    refine rf_bind (fun v21 hv21 => ?_)
    refine rf_bind (fun g22 hg22 => ?_)
    refine rf_callVI X c_X3_45 ⟨Nat.le_of_ble_eq_true rfl, Nat.le_of_ble_eq_true rfl⟩ [tI ((x12 - (1 : Int32)) / (2 : Int32))] rfl (Nat.le_of_ble_eq_true rfl) hv21 (sJ2_get l D v21 ((x12 - (1 : Int32)) / (2 : Int32)) A13 g22 hg22) dX3_add_51 ?_
    refine rf_bind (fun v23 hv23 => ?_)
    refine rf_cast X (ci := 15) rfl rfl q713 hv23 dX3_add_54 ?_
    refine rf_bind (fun v24 hv24 => ?_)
    refine rf_bind (fun g25 hg25 => ?_)
    refine rf_callVI X c_X3_48 ⟨Nat.le_of_ble_eq_true rfl, Nat.le_of_ble_eq_true rfl⟩ [tR g22] rfl (Nat.le_of_ble_eq_true rfl) hv24 (sX15_isAhead l D v24 g22 A13 g25 hg25) dX3_add_57 ?_
    refine rf_if_eq X (tgt := 96) rfl dX3_add_60 (fun c26 => rf_pos c26 ?_) (fun c26 => rf_neg c26 ?_)
    · exact rf_go hj15 (And.intro rfl (And.intro rfl (And.intro rfl True.intro)))
    refine rf_aload_n X rfl dX3_add_63 ?_
    refine rf_getR X fl_X3_10 hv20 dX3_add_64 ?_
    refine rf_iload_n X rfl dX3_add_67 ?_
    refine rf_aload_n X rfl dX3_add_68 ?_
    refine rf_getR X fl_X3_10 hv20 dX3_add_69 ?_
    refine rf_iload_n X rfl dX3_add_72 ?_
    refine rf_iconst X (1 : Int32) rfl dX3_add_73 ?_
    refine rf_isub X dX3_add_74 ?_
    refine rf_iconst X (2 : Int32) rfl dX3_add_75 ?_
    refine rf_idiv X (by decide) dX3_add_76 ?_
    refine rf_callVI X c_X3_45 ⟨Nat.le_of_ble_eq_true rfl, Nat.le_of_ble_eq_true rfl⟩ [tI ((x12 - (1 : Int32)) / (2 : Int32))] rfl (Nat.le_of_ble_eq_true rfl) hv21 (sJ2_get l D v21 ((x12 - (1 : Int32)) / (2 : Int32)) A13 g22 hg22) dX3_add_77 ?_
    refine rf_cast X (ci := 15) rfl rfl q713 hv23 dX3_add_80 ?_
    refine rf_bind (fun g27 hg27 => ?_)
    refine rf_callVI X c_X3_52 ⟨Nat.le_of_ble_eq_true rfl, Nat.le_of_ble_eq_true rfl⟩ [tI x12, tR g22] rfl (Nat.le_of_ble_eq_true rfl) hv21 (sJ2_set l D v21 x12 g22 A13 g27 hg27) dX3_add_83 ?_
    refine rf_pop X rfl dX3_add_86 ?_
    refine rf_iload_n X rfl dX3_add_87 ?_
    refine rf_iconst X (1 : Int32) rfl dX3_add_88 ?_
    refine rf_isub X dX3_add_89 ?_
    refine rf_iconst X (2 : Int32) rfl dX3_add_90 ?_
    refine rf_idiv X (by decide) dX3_add_91 ?_
    refine rf_istore_n X (ls' := [some (tR (some a0)), some (tR p1), some (tI ((x12 - (1 : Int32)) / (2 : Int32)))]) rfl (by decide) dX3_add_92 ?_
    refine rf_goto X (tgt := 37) rfl dX3_add_93 ?_
    exact rf_go (hrc14 ((x12 - (1 : Int32)) / (2 : Int32)) g27.2) (And.intro rfl (And.intro rfl (And.intro rfl True.intro)))
  exact rf_go (hj11 (g10 - (1 : Int32)) g7.2) (And.intro rfl (And.intro rfl (And.intro rfl True.intro)))

theorem dX7_ask_0 : decode cX7_ask 0 = .ok (.aload_n 0, 1) := by decide +kernel
theorem dX7_ask_1 : decode cX7_ask 1 = .ok (.getfield 44, 3) := by decide +kernel
theorem dX7_ask_4 : decode cX7_ask 4 = .ok (.invokevirtual 426, 3) := by decide +kernel
theorem dX7_ask_7 : decode cX7_ask 7 = .ok (.astore_n 3, 1) := by decide +kernel
theorem dX7_ask_8 : decode cX7_ask 8 = .ok (.aload_n 3, 1) := by decide +kernel
theorem dX7_ask_9 : decode cX7_ask 9 = .ok (.aload_n 1, 1) := by decide +kernel
theorem dX7_ask_10 : decode cX7_ask 10 = .ok (.aload_n 2, 1) := by decide +kernel
theorem dX7_ask_11 : decode cX7_ask 11 = .ok (.invokestatic 340, 3) := by decide +kernel
theorem dX7_ask_14 : decode cX7_ask 14 = .ok (.putfield 181, 3) := by decide +kernel
theorem dX7_ask_17 : decode cX7_ask 17 = .ok (.aload_n 3, 1) := by decide +kernel
theorem dX7_ask_18 : decode cX7_ask 18 = .ok (.aload_n 0, 1) := by decide +kernel
theorem dX7_ask_19 : decode cX7_ask 19 = .ok (.getfield 48, 3) := by decide +kernel
theorem dX7_ask_22 : decode cX7_ask 22 = .ok (.getfield 429, 3) := by decide +kernel
theorem dX7_ask_25 : decode cX7_ask 25 = .ok (.aload_n 3, 1) := by decide +kernel
theorem dX7_ask_26 : decode cX7_ask 26 = .ok (.getfield 181, 3) := by decide +kernel
theorem dX7_ask_29 : decode cX7_ask 29 = .ok (.bipush 8, 2) := by decide +kernel
theorem dX7_ask_31 : decode cX7_ask 31 = .ok (.idiv, 1) := by decide +kernel
theorem dX7_ask_32 : decode cX7_ask 32 = .ok (.iaload, 1) := by decide +kernel
theorem dX7_ask_33 : decode cX7_ask 33 = .ok (.putfield 432, 3) := by decide +kernel
theorem dX7_ask_36 : decode cX7_ask 36 = .ok (.aload_n 3, 1) := by decide +kernel
theorem dX7_ask_37 : decode cX7_ask 37 = .ok (.aload_n 2, 1) := by decide +kernel
theorem dX7_ask_38 : decode cX7_ask 38 = .ok (.getfield 313, 3) := by decide +kernel
theorem dX7_ask_41 : decode cX7_ask 41 = .ok (.putfield 186, 3) := by decide +kernel
theorem dX7_ask_44 : decode cX7_ask 44 = .ok (.aload_n 3, 1) := by decide +kernel
theorem dX7_ask_45 : decode cX7_ask 45 = .ok (.aload_n 1, 1) := by decide +kernel
theorem dX7_ask_46 : decode cX7_ask 46 = .ok (.getfield 209, 3) := by decide +kernel
theorem dX7_ask_49 : decode cX7_ask 49 = .ok (.aload_n 2, 1) := by decide +kernel
theorem dX7_ask_50 : decode cX7_ask 50 = .ok (.getfield 334, 3) := by decide +kernel
theorem dX7_ask_53 : decode cX7_ask 53 = .ok (.iaload, 1) := by decide +kernel
theorem dX7_ask_54 : decode cX7_ask 54 = .ok (.putfield 189, 3) := by decide +kernel
theorem dX7_ask_57 : decode cX7_ask 57 = .ok (.aload_n 3, 1) := by decide +kernel
theorem dX7_ask_58 : decode cX7_ask 58 = .ok (.aload_n 1, 1) := by decide +kernel
theorem dX7_ask_59 : decode cX7_ask 59 = .ok (.getfield 209, 3) := by decide +kernel
theorem dX7_ask_62 : decode cX7_ask 62 = .ok (.aload_n 2, 1) := by decide +kernel
theorem dX7_ask_63 : decode cX7_ask 63 = .ok (.getfield 387, 3) := by decide +kernel
theorem dX7_ask_66 : decode cX7_ask 66 = .ok (.iaload, 1) := by decide +kernel
theorem dX7_ask_67 : decode cX7_ask 67 = .ok (.putfield 192, 3) := by decide +kernel
theorem dX7_ask_70 : decode cX7_ask 70 = .ok (.aload_n 3, 1) := by decide +kernel
theorem dX7_ask_71 : decode cX7_ask 71 = .ok (.aload_n 2, 1) := by decide +kernel
theorem dX7_ask_72 : decode cX7_ask 72 = .ok (.getfield 387, 3) := by decide +kernel
theorem dX7_ask_75 : decode cX7_ask 75 = .ok (.putfield 212, 3) := by decide +kernel
theorem dX7_ask_78 : decode cX7_ask 78 = .ok (.aload_n 3, 1) := by decide +kernel
theorem dX7_ask_79 : decode cX7_ask 79 = .ok (.aload_n 2, 1) := by decide +kernel
theorem dX7_ask_80 : decode cX7_ask 80 = .ok (.invokevirtual 384, 3) := by decide +kernel
theorem dX7_ask_83 : decode cX7_ask 83 = .ok (.ifCond .eq 7, 3) := by decide +kernel
theorem dX7_ask_86 : decode cX7_ask 86 = .ok (.aload_n 1, 1) := by decide +kernel
theorem dX7_ask_87 : decode cX7_ask 87 = .ok (.goto 4, 3) := by decide +kernel
theorem dX7_ask_90 : decode cX7_ask 90 = .ok (.aconst_null, 1) := by decide +kernel
theorem dX7_ask_91 : decode cX7_ask 91 = .ok (.putfield 199, 3) := by decide +kernel
theorem dX7_ask_94 : decode cX7_ask 94 = .ok (.aload_n 3, 1) := by decide +kernel
theorem dX7_ask_95 : decode cX7_ask 95 = .ok (.aload_n 1, 1) := by decide +kernel
theorem dX7_ask_96 : decode cX7_ask 96 = .ok (.getfield 203, 3) := by decide +kernel
theorem dX7_ask_99 : decode cX7_ask 99 = .ok (.putfield 208, 3) := by decide +kernel
theorem dX7_ask_102 : decode cX7_ask 102 = .ok (.aload_n 0, 1) := by decide +kernel
theorem dX7_ask_103 : decode cX7_ask 103 = .ok (.getfield 44, 3) := by decide +kernel
theorem dX7_ask_106 : decode cX7_ask 106 = .ok (.aload_n 3, 1) := by decide +kernel
theorem dX7_ask_107 : decode cX7_ask 107 = .ok (.invokevirtual 435, 3) := by decide +kernel
theorem dX7_ask_110 : decode cX7_ask 110 = .ok (.return_, 1) := by decide +kernel
def fX7_ask (n : Nat) (a0 : Nat) (p1 : Option Nat) (p2 : Option Nat) (A : AH) : Option (AH) :=
(gR A (some a0) 7 7).bind fun v1 =>
(rcv A v1 3).bind fun v2 =>
(fX3_fresh v2 A).bind fun g3 =>
(fX7_address p1 p2 g3.2).bind fun g4 =>
(pI g3.2 g3.1 15 3 g4).bind fun A5 =>
(gR A5 (some a0) 7 10).bind fun v6 =>
(gR A5 v6 4 4).bind fun v7 =>
(gI A5 g3.1 15 3).bind fun v8 =>
(aI A5 v7 (v8 / (8 : Int32))).bind fun v9 =>
(pI A5 g3.1 15 0 v9).bind fun A10 =>
(gI A10 p2 5 0).bind fun v11 =>
(pI A10 g3.1 15 2 v11).bind fun A12 =>
(gR A12 p1 14 0).bind fun v13 =>
(gI A12 p2 5 3).bind fun v14 =>
(aI A12 v13 v14).bind fun v15 =>
(pI A12 g3.1 15 4 v15).bind fun A16 =>
(gR A16 p1 14 0).bind fun v17 =>
(gI A16 p2 5 1).bind fun v18 =>
(aI A16 v17 v18).bind fun v19 =>
(pI A16 g3.1 15 5 v19).bind fun A20 =>
(gI A20 p2 5 1).bind fun v21 =>
(pI A20 g3.1 15 6 v21).bind fun A22 =>
(rcv A22 p2 5).bind fun v23 =>
(fX5_writes v23 A22).bind fun g24 =>
jn (fun (y26 : Option Nat) =>
(pR A22 g3.1 15 8 y26).bind fun A27 =>
(gI A27 p1 14 5).bind fun v28 =>
(pI A27 g3.1 15 7 v28).bind fun A29 =>
(gR A29 (some a0) 7 7).bind fun v30 =>
(rcv A29 v30 3).bind fun v31 =>
(fX3_add n v31 g3.1 A29).bind fun g32 =>
some g32) fun j25 =>
if g24 = 0 then (j25 (none : Option Nat)) else
j25 p1

set_option maxHeartbeats 4000000 in
set_option maxRecDepth 100000 in
theorem sX7_ask (l : Launch) (D : DE) (n : Nat) (a0 : Nat) (p1 : Option Nat) (p2 : Option Nat) (A : AH) (g : AH) (hg : fX7_ask n a0 p1 p2 A = some g) : Sm l D yX7_ask cX7_ask 4 none 8 213 [tR (some a0), tR p1, tR p2] A (wU g).1 (wU g).2 := by
  refine Sm.of (ω := wU) (fX7_ask n a0 p1 p2 A) [some (tR (some a0)), some (tR p1), some (tR p2), none] (by decide) (Nat.le_of_ble_eq_true rfl) rfl hg ?_
  intro p e R s m args below meth c X hin
  have X : Cx D cX7_ask RX7 4 8 213 none p R s m args meth c := X
  unfold fX7_ask
  refine rf_aload_n X rfl dX7_ask_0 ?_
  refine rf_bind (fun v1 hv1 => ?_)
  refine rf_getR X fl_X7_44 hv1 dX7_ask_1 ?_
  refine rf_bind (fun v2 hv2 => ?_)
  refine rf_bind (fun g3 hg3 => ?_)
  refine rf_callVI X c_X7_426 ⟨Nat.le_of_ble_eq_true rfl, Nat.le_of_ble_eq_true rfl⟩ [] rfl (Nat.le_of_ble_eq_true rfl) hv2 (sX3_fresh l D v2 A g3 hg3) dX7_ask_4 ?_
  refine rf_astore_n X (ls' := [some (tR (some a0)), some (tR p1), some (tR p2), some (tR g3.1)]) rfl (by decide) dX7_ask_7 ?_
  refine rf_aload_n X rfl dX7_ask_8 ?_
  refine rf_aload_n X rfl dX7_ask_9 ?_
  refine rf_aload_n X rfl dX7_ask_10 ?_
  refine rf_bind (fun g4 hg4 => ?_)
  refine rf_callSI X c_X7_340 ⟨Nat.le_of_ble_eq_true rfl, Nat.le_of_ble_eq_true rfl⟩ [tR p1, tR p2] rfl (Nat.le_of_ble_eq_true rfl) (sX7_address l D p1 p2 g3.2 g4 hg4) dX7_ask_11 ?_
  refine rf_bind (fun A5 hA5 => ?_)
  refine rf_putI X fp_X7_181 (fun h => by cases h) hA5 dX7_ask_14 ?_
  refine rf_aload_n X rfl dX7_ask_17 ?_
  refine rf_aload_n X rfl dX7_ask_18 ?_
  refine rf_bind (fun v6 hv6 => ?_)
  refine rf_getR X fl_X7_48 hv6 dX7_ask_19 ?_
  refine rf_bind (fun v7 hv7 => ?_)
  refine rf_getR X fl_X7_429 hv7 dX7_ask_22 ?_
  refine rf_aload_n X rfl dX7_ask_25 ?_
  refine rf_bind (fun v8 hv8 => ?_)
  refine rf_getI X fl_X7_181 hv8 dX7_ask_26 ?_
  refine rf_bipush X (8 : Int32) rfl dX7_ask_29 ?_
  refine rf_idiv X (by decide) dX7_ask_31 ?_
  refine rf_bind (fun v9 hv9 => ?_)
  refine rf_iald X hv9 dX7_ask_32 ?_
  refine rf_bind (fun A10 hA10 => ?_)
  refine rf_putI X fp_X7_432 (fun h => by cases h) hA10 dX7_ask_33 ?_
  refine rf_aload_n X rfl dX7_ask_36 ?_
  refine rf_aload_n X rfl dX7_ask_37 ?_
  refine rf_bind (fun v11 hv11 => ?_)
  refine rf_getI X fl_X7_313 hv11 dX7_ask_38 ?_
  refine rf_bind (fun A12 hA12 => ?_)
  refine rf_putI X fp_X7_186 (fun h => by cases h) hA12 dX7_ask_41 ?_
  refine rf_aload_n X rfl dX7_ask_44 ?_
  refine rf_aload_n X rfl dX7_ask_45 ?_
  refine rf_bind (fun v13 hv13 => ?_)
  refine rf_getR X fl_X7_209 hv13 dX7_ask_46 ?_
  refine rf_aload_n X rfl dX7_ask_49 ?_
  refine rf_bind (fun v14 hv14 => ?_)
  refine rf_getI X fl_X7_334 hv14 dX7_ask_50 ?_
  refine rf_bind (fun v15 hv15 => ?_)
  refine rf_iald X hv15 dX7_ask_53 ?_
  refine rf_bind (fun A16 hA16 => ?_)
  refine rf_putI X fp_X7_189 (fun h => by cases h) hA16 dX7_ask_54 ?_
  refine rf_aload_n X rfl dX7_ask_57 ?_
  refine rf_aload_n X rfl dX7_ask_58 ?_
  refine rf_bind (fun v17 hv17 => ?_)
  refine rf_getR X fl_X7_209 hv17 dX7_ask_59 ?_
  refine rf_aload_n X rfl dX7_ask_62 ?_
  refine rf_bind (fun v18 hv18 => ?_)
  refine rf_getI X fl_X7_387 hv18 dX7_ask_63 ?_
  refine rf_bind (fun v19 hv19 => ?_)
  refine rf_iald X hv19 dX7_ask_66 ?_
  refine rf_bind (fun A20 hA20 => ?_)
  refine rf_putI X fp_X7_192 (fun h => by cases h) hA20 dX7_ask_67 ?_
  refine rf_aload_n X rfl dX7_ask_70 ?_
  refine rf_aload_n X rfl dX7_ask_71 ?_
  refine rf_bind (fun v21 hv21 => ?_)
  refine rf_getI X fl_X7_387 hv21 dX7_ask_72 ?_
  refine rf_bind (fun A22 hA22 => ?_)
  refine rf_putI X fp_X7_212 (fun h => by cases h) hA22 dX7_ask_75 ?_
  refine rf_aload_n X rfl dX7_ask_78 ?_
  refine rf_aload_n X rfl dX7_ask_79 ?_
  refine rf_bind (fun v23 hv23 => ?_)
  refine rf_bind (fun g24 hg24 => ?_)
  refine rf_callVI X c_X7_384 ⟨Nat.le_of_ble_eq_true rfl, Nat.le_of_ble_eq_true rfl⟩ [] rfl (Nat.le_of_ble_eq_true rfl) hv23 (sX5_writes l D v23 A22 g24 hg24) dX7_ask_80 ?_
  refine rf_jn2 (fun i => ∀ (y26 : Option Nat), RfX X l e below wU (i y26) 91 [some (tR (some a0)), some (tR p1), none, some (tR g3.1)] [tR y26, tR g3.1] A22) ?_ (fun j25 hj25 => ?_)
  · intro y26
    refine rf_bind (fun A27 hA27 => ?_)
    refine rf_putR X fp_X7_199 (fun h => by cases h) rfl hA27 dX7_ask_91 ?_
    refine rf_aload_n X rfl dX7_ask_94 ?_
    refine rf_aload_n X rfl dX7_ask_95 ?_
    refine rf_bind (fun v28 hv28 => ?_)
    refine rf_getI X fl_X7_203 hv28 dX7_ask_96 ?_
    refine rf_bind (fun A29 hA29 => ?_)
    refine rf_putI X fp_X7_208 (fun h => by cases h) hA29 dX7_ask_99 ?_
    refine rf_aload_n X rfl dX7_ask_102 ?_
    refine rf_bind (fun v30 hv30 => ?_)
    refine rf_getR X fl_X7_44 hv30 dX7_ask_103 ?_
    refine rf_aload_n X rfl dX7_ask_106 ?_
    refine rf_bind (fun v31 hv31 => ?_)
    refine rf_bind (fun g32 hg32 => ?_)
    refine rf_callVU X c_X7_435 ⟨Nat.le_of_ble_eq_true rfl, Nat.le_of_ble_eq_true rfl⟩ [tR g3.1] rfl (Nat.le_of_ble_eq_true rfl) hv31 (sX3_add l D n v31 g3.1 A29 g32 hg32) dX7_ask_107 ?_
    exact rf_vret X rfl dX7_ask_110
  refine rf_if_eq X (tgt := 90) rfl dX7_ask_83 (fun c33 => rf_pos c33 ?_) (fun c33 => rf_neg c33 ?_)
  · refine rf_null X dX7_ask_90 ?_
    exact rf_go (hj25 (none : Option Nat)) (And.intro rfl (And.intro rfl (And.intro rfl True.intro)))
  refine rf_aload_n X rfl dX7_ask_86 ?_
  refine rf_goto X (tgt := 91) rfl dX7_ask_87 ?_
  exact rf_go (hj25 p1) (And.intro rfl (And.intro rfl (And.intro rfl True.intro)))

