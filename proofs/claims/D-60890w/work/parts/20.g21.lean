/-! 20.g21: printed by gen/parts.py -/
set_option maxRecDepth 100000
theorem fl_X11_234 : FLr RX11 234 11 56 := ⟨RX11, TX11, 60, "WarpMillModel", "", rfl, by decide, in_X11, Or.inl q1613, Or.inl rfl⟩
theorem fl_X11_225 : FLr RX11 225 11 53 := ⟨RX11, TX11, 60, "WarpMillModel", "", rfl, by decide, in_X11, Or.inl q1610, Or.inl rfl⟩
theorem fl_X11_228 : FLr RX11 228 11 54 := ⟨RX11, TX11, 60, "WarpMillModel", "", rfl, by decide, in_X11, Or.inl q1611, Or.inl rfl⟩
theorem fl_X11_231 : FLr RX11 231 11 55 := ⟨RX11, TX11, 60, "WarpMillModel", "", rfl, by decide, in_X11, Or.inl q1612, Or.inl rfl⟩
theorem c_X11_246 : CV RX11 246 11 yX11_group cX11_group 6 (some Jvm.ClassFile.FieldType.boolean) 1 := ⟨TX11, 60, rfl, q1823, q1825, qs42, q111, q1826, ⟨by decide +kernel, by decide +kernel, by decide +kernel⟩⟩
theorem c_X11_250 : CV RX11 250 11 yX11_firstOfGroup cX11_firstOfGroup 2 (some Jvm.ClassFile.FieldType.int) 0 := ⟨TX11, 60, rfl, q1835, q1837, qs45, q111, q1838, ⟨by decide +kernel, by decide +kernel, by decide +kernel⟩⟩
theorem c_X11_253 : CV RX11 253 11 yX11_take cX11_take 3 none 1 := ⟨TX11, 60, rfl, q1839, q1841, qs46, q111, q1842, ⟨by decide +kernel, by decide +kernel, by decide +kernel⟩⟩
theorem c_X11_257 : CV RX11 257 11 yX11_isWord cX11_isWord 1 (some Jvm.ClassFile.FieldType.boolean) 0 := ⟨TX11, 60, rfl, q1845, q1847, qs47, q111, q1848, ⟨by decide +kernel, by decide +kernel, by decide +kernel⟩⟩
theorem c_X11_275 : CV RX11 275 11 yX11_isShared cX11_isShared 1 (some Jvm.ClassFile.FieldType.boolean) 0 := ⟨TX11, 60, rfl, q1877, q1879, qs55, q111, q1880, ⟨by decide +kernel, by decide +kernel, by decide +kernel⟩⟩
theorem c_X11_272 : CV RX11 272 11 yX11_writesPredicate cX11_writesPredicate 1 (some Jvm.ClassFile.FieldType.boolean) 0 := ⟨TX11, 60, rfl, q1873, q1875, qs54, q111, q1876, ⟨by decide +kernel, by decide +kernel, by decide +kernel⟩⟩
theorem c_X11_260 : CV RX11 260 11 yX11_isPredicateThere cX11_isPredicateThere 3 (some Jvm.ClassFile.FieldType.boolean) 2 := ⟨TX11, 60, rfl, q1849, q1851, qs48, q111, q1852, ⟨by decide +kernel, by decide +kernel, by decide +kernel⟩⟩
theorem c_X11_263 : CV RX11 263 11 yX11_readsA cX11_readsA 1 (some Jvm.ClassFile.FieldType.boolean) 0 := ⟨TX11, 60, rfl, q1857, q1859, qs50, q111, q1860, ⟨by decide +kernel, by decide +kernel, by decide +kernel⟩⟩
theorem c_X11_266 : CV RX11 266 11 yX11_readsB cX11_readsB 1 (some Jvm.ClassFile.FieldType.boolean) 0 := ⟨TX11, 60, rfl, q1865, q1867, qs52, q111, q1868, ⟨by decide +kernel, by decide +kernel, by decide +kernel⟩⟩
theorem c_X11_269 : CV RX11 269 11 yX11_writesD cX11_writesD 1 (some Jvm.ClassFile.FieldType.boolean) 0 := ⟨TX11, 60, rfl, q1869, q1871, qs53, q111, q1872, ⟨by decide +kernel, by decide +kernel, by decide +kernel⟩⟩
theorem c_X11_284 : CV RX11 284 11 yX11_reg cX11_reg 3 (some Jvm.ClassFile.FieldType.int) 2 := ⟨TX11, 60, rfl, q1897, q1899, qs60, q111, q1900, ⟨by decide +kernel, by decide +kernel, by decide +kernel⟩⟩
theorem dX11_isReady_0 : decode cX11_isReady 0 = .ok (.aload_n 0, 1) := by decide +kernel
theorem dX11_isReady_1 : decode cX11_isReady 1 = .ok (.getfield 54, 3) := by decide +kernel
theorem dX11_isReady_4 : decode cX11_isReady 4 = .ok (.iload_n 2, 1) := by decide +kernel
theorem dX11_isReady_5 : decode cX11_isReady 5 = .ok (.iaload, 1) := by decide +kernel
theorem dX11_isReady_6 : decode cX11_isReady 6 = .ok (.iconst (-1), 1) := by decide +kernel
theorem dX11_isReady_7 : decode cX11_isReady 7 = .ok (.if_icmp .eq 11, 3) := by decide +kernel
theorem dX11_isReady_10 : decode cX11_isReady 10 = .ok (.aload_n 0, 1) := by decide +kernel
theorem dX11_isReady_11 : decode cX11_isReady 11 = .ok (.iload_n 2, 1) := by decide +kernel
theorem dX11_isReady_12 : decode cX11_isReady 12 = .ok (.invokevirtual 246, 3) := by decide +kernel
theorem dX11_isReady_15 : decode cX11_isReady 15 = .ok (.ifCond .ne 5, 3) := by decide +kernel
theorem dX11_isReady_18 : decode cX11_isReady 18 = .ok (.iconst 0, 1) := by decide +kernel
theorem dX11_isReady_19 : decode cX11_isReady 19 = .ok (.ireturn, 1) := by decide +kernel
theorem dX11_isReady_20 : decode cX11_isReady 20 = .ok (.aload_n 0, 1) := by decide +kernel
theorem dX11_isReady_21 : decode cX11_isReady 21 = .ok (.getfield 73, 3) := by decide +kernel
theorem dX11_isReady_24 : decode cX11_isReady 24 = .ok (.iload_n 2, 1) := by decide +kernel
theorem dX11_isReady_25 : decode cX11_isReady 25 = .ok (.aload_n 0, 1) := by decide +kernel
theorem dX11_isReady_26 : decode cX11_isReady 26 = .ok (.invokevirtual 250, 3) := by decide +kernel
theorem dX11_isReady_29 : decode cX11_isReady 29 = .ok (.invokestatic 211, 3) := by decide +kernel
theorem dX11_isReady_32 : decode cX11_isReady 32 = .ok (.iaload, 1) := by decide +kernel
theorem dX11_isReady_33 : decode cX11_isReady 33 = .ok (.istore_n 3, 1) := by decide +kernel
theorem dX11_isReady_34 : decode cX11_isReady 34 = .ok (.iload_n 3, 1) := by decide +kernel
theorem dX11_isReady_35 : decode cX11_isReady 35 = .ok (.ifCond .lt 10, 3) := by decide +kernel
theorem dX11_isReady_38 : decode cX11_isReady 38 = .ok (.iload_n 3, 1) := by decide +kernel
theorem dX11_isReady_39 : decode cX11_isReady 39 = .ok (.sipush 128, 3) := by decide +kernel
theorem dX11_isReady_42 : decode cX11_isReady 42 = .ok (.if_icmp .lt 5, 3) := by decide +kernel
theorem dX11_isReady_45 : decode cX11_isReady 45 = .ok (.iconst 1, 1) := by decide +kernel
theorem dX11_isReady_46 : decode cX11_isReady 46 = .ok (.ireturn, 1) := by decide +kernel
theorem dX11_isReady_47 : decode cX11_isReady 47 = .ok (.aload_n 0, 1) := by decide +kernel
theorem dX11_isReady_48 : decode cX11_isReady 48 = .ok (.aload_n 0, 1) := by decide +kernel
theorem dX11_isReady_49 : decode cX11_isReady 49 = .ok (.getfield 28, 3) := by decide +kernel
theorem dX11_isReady_52 : decode cX11_isReady 52 = .ok (.iload_n 3, 1) := by decide +kernel
theorem dX11_isReady_53 : decode cX11_isReady 53 = .ok (.laload, 1) := by decide +kernel
theorem dX11_isReady_54 : decode cX11_isReady 54 = .ok (.invokevirtual 253, 3) := by decide +kernel
theorem dX11_isReady_57 : decode cX11_isReady 57 = .ok (.aload_n 0, 1) := by decide +kernel
theorem dX11_isReady_58 : decode cX11_isReady 58 = .ok (.invokevirtual 257, 3) := by decide +kernel
theorem dX11_isReady_61 : decode cX11_isReady 61 = .ok (.ifCond .ne 5, 3) := by decide +kernel
theorem dX11_isReady_64 : decode cX11_isReady 64 = .ok (.iconst 1, 1) := by decide +kernel
theorem dX11_isReady_65 : decode cX11_isReady 65 = .ok (.ireturn, 1) := by decide +kernel
theorem dX11_isReady_66 : decode cX11_isReady 66 = .ok (.aload_n 0, 1) := by decide +kernel
theorem dX11_isReady_67 : decode cX11_isReady 67 = .ok (.getfield 234, 3) := by decide +kernel
theorem dX11_isReady_70 : decode cX11_isReady 70 = .ok (.bipush 8, 2) := by decide +kernel
theorem dX11_isReady_72 : decode cX11_isReady 72 = .ok (.if_icmp .lt 15, 3) := by decide +kernel
theorem dX11_isReady_75 : decode cX11_isReady 75 = .ok (.aload_n 0, 1) := by decide +kernel
theorem dX11_isReady_76 : decode cX11_isReady 76 = .ok (.iload_n 2, 1) := by decide +kernel
theorem dX11_isReady_77 : decode cX11_isReady 77 = .ok (.aload_n 0, 1) := by decide +kernel
theorem dX11_isReady_78 : decode cX11_isReady 78 = .ok (.getfield 234, 3) := by decide +kernel
theorem dX11_isReady_81 : decode cX11_isReady 81 = .ok (.invokevirtual 260, 3) := by decide +kernel
theorem dX11_isReady_84 : decode cX11_isReady 84 = .ok (.ifCond .eq 7, 3) := by decide +kernel
theorem dX11_isReady_87 : decode cX11_isReady 87 = .ok (.iconst 1, 1) := by decide +kernel
theorem dX11_isReady_88 : decode cX11_isReady 88 = .ok (.goto 4, 3) := by decide +kernel
theorem dX11_isReady_91 : decode cX11_isReady 91 = .ok (.iconst 0, 1) := by decide +kernel
theorem dX11_isReady_92 : decode cX11_isReady 92 = .ok (.istore 4, 2) := by decide +kernel
theorem dX11_isReady_94 : decode cX11_isReady 94 = .ok (.iload 4, 2) := by decide +kernel
theorem dX11_isReady_96 : decode cX11_isReady 96 = .ok (.ifCond .eq 73, 3) := by decide +kernel
theorem dX11_isReady_99 : decode cX11_isReady 99 = .ok (.aload_n 0, 1) := by decide +kernel
theorem dX11_isReady_100 : decode cX11_isReady 100 = .ok (.invokevirtual 263, 3) := by decide +kernel
theorem dX11_isReady_103 : decode cX11_isReady 103 = .ok (.ifCond .eq 15, 3) := by decide +kernel
theorem dX11_isReady_106 : decode cX11_isReady 106 = .ok (.aload_n 0, 1) := by decide +kernel
theorem dX11_isReady_107 : decode cX11_isReady 107 = .ok (.iload_n 2, 1) := by decide +kernel
theorem dX11_isReady_108 : decode cX11_isReady 108 = .ok (.aload_n 0, 1) := by decide +kernel
theorem dX11_isReady_109 : decode cX11_isReady 109 = .ok (.getfield 228, 3) := by decide +kernel
theorem dX11_isReady_112 : decode cX11_isReady 112 = .ok (.invokevirtual 243, 3) := by decide +kernel
theorem dX11_isReady_115 : decode cX11_isReady 115 = .ok (.ifCond .eq 54, 3) := by decide +kernel
theorem dX11_isReady_118 : decode cX11_isReady 118 = .ok (.aload_n 0, 1) := by decide +kernel
theorem dX11_isReady_119 : decode cX11_isReady 119 = .ok (.invokevirtual 266, 3) := by decide +kernel
theorem dX11_isReady_122 : decode cX11_isReady 122 = .ok (.ifCond .eq 15, 3) := by decide +kernel
theorem dX11_isReady_125 : decode cX11_isReady 125 = .ok (.aload_n 0, 1) := by decide +kernel
theorem dX11_isReady_126 : decode cX11_isReady 126 = .ok (.iload_n 2, 1) := by decide +kernel
theorem dX11_isReady_127 : decode cX11_isReady 127 = .ok (.aload_n 0, 1) := by decide +kernel
theorem dX11_isReady_128 : decode cX11_isReady 128 = .ok (.getfield 231, 3) := by decide +kernel
theorem dX11_isReady_131 : decode cX11_isReady 131 = .ok (.invokevirtual 243, 3) := by decide +kernel
theorem dX11_isReady_134 : decode cX11_isReady 134 = .ok (.ifCond .eq 35, 3) := by decide +kernel
theorem dX11_isReady_137 : decode cX11_isReady 137 = .ok (.aload_n 0, 1) := by decide +kernel
theorem dX11_isReady_138 : decode cX11_isReady 138 = .ok (.invokevirtual 269, 3) := by decide +kernel
theorem dX11_isReady_141 : decode cX11_isReady 141 = .ok (.ifCond .ne 12, 3) := by decide +kernel
theorem dX11_isReady_144 : decode cX11_isReady 144 = .ok (.aload_n 0, 1) := by decide +kernel
theorem dX11_isReady_145 : decode cX11_isReady 145 = .ok (.getfield 220, 3) := by decide +kernel
theorem dX11_isReady_148 : decode cX11_isReady 148 = .ok (.bipush 57, 2) := by decide +kernel
theorem dX11_isReady_150 : decode cX11_isReady 150 = .ok (.if_icmp .ne 15, 3) := by decide +kernel
theorem dX11_isReady_153 : decode cX11_isReady 153 = .ok (.aload_n 0, 1) := by decide +kernel
theorem dX11_isReady_154 : decode cX11_isReady 154 = .ok (.iload_n 2, 1) := by decide +kernel
theorem dX11_isReady_155 : decode cX11_isReady 155 = .ok (.aload_n 0, 1) := by decide +kernel
theorem dX11_isReady_156 : decode cX11_isReady 156 = .ok (.getfield 225, 3) := by decide +kernel
theorem dX11_isReady_159 : decode cX11_isReady 159 = .ok (.invokevirtual 243, 3) := by decide +kernel
theorem dX11_isReady_162 : decode cX11_isReady 162 = .ok (.ifCond .eq 7, 3) := by decide +kernel
theorem dX11_isReady_165 : decode cX11_isReady 165 = .ok (.iconst 1, 1) := by decide +kernel
theorem dX11_isReady_166 : decode cX11_isReady 166 = .ok (.goto 4, 3) := by decide +kernel
theorem dX11_isReady_169 : decode cX11_isReady 169 = .ok (.iconst 0, 1) := by decide +kernel
theorem dX11_isReady_170 : decode cX11_isReady 170 = .ok (.istore 4, 2) := by decide +kernel
theorem dX11_isReady_172 : decode cX11_isReady 172 = .ok (.iload 4, 2) := by decide +kernel
theorem dX11_isReady_174 : decode cX11_isReady 174 = .ok (.ifCond .eq 70, 3) := by decide +kernel
theorem dX11_isReady_177 : decode cX11_isReady 177 = .ok (.aload_n 0, 1) := by decide +kernel
theorem dX11_isReady_178 : decode cX11_isReady 178 = .ok (.getfield 220, 3) := by decide +kernel
theorem dX11_isReady_181 : decode cX11_isReady 181 = .ok (.bipush 21, 2) := by decide +kernel
theorem dX11_isReady_183 : decode cX11_isReady 183 = .ok (.if_icmp .ne 15, 3) := by decide +kernel
theorem dX11_isReady_186 : decode cX11_isReady 186 = .ok (.aload_n 0, 1) := by decide +kernel
theorem dX11_isReady_187 : decode cX11_isReady 187 = .ok (.iload_n 2, 1) := by decide +kernel
theorem dX11_isReady_188 : decode cX11_isReady 188 = .ok (.aload_n 0, 1) := by decide +kernel
theorem dX11_isReady_189 : decode cX11_isReady 189 = .ok (.getfield 237, 3) := by decide +kernel
theorem dX11_isReady_192 : decode cX11_isReady 192 = .ok (.invokevirtual 260, 3) := by decide +kernel
theorem dX11_isReady_195 : decode cX11_isReady 195 = .ok (.ifCond .eq 49, 3) := by decide +kernel
theorem dX11_isReady_198 : decode cX11_isReady 198 = .ok (.aload_n 0, 1) := by decide +kernel
theorem dX11_isReady_199 : decode cX11_isReady 199 = .ok (.getfield 220, 3) := by decide +kernel
theorem dX11_isReady_202 : decode cX11_isReady 202 = .ok (.bipush 34, 2) := by decide +kernel
theorem dX11_isReady_204 : decode cX11_isReady 204 = .ok (.if_icmp .eq 12, 3) := by decide +kernel
theorem dX11_isReady_207 : decode cX11_isReady 207 = .ok (.aload_n 0, 1) := by decide +kernel
theorem dX11_isReady_208 : decode cX11_isReady 208 = .ok (.getfield 220, 3) := by decide +kernel
theorem dX11_isReady_211 : decode cX11_isReady 211 = .ok (.bipush 35, 2) := by decide +kernel
theorem dX11_isReady_213 : decode cX11_isReady 213 = .ok (.if_icmp .ne 27, 3) := by decide +kernel
theorem dX11_isReady_216 : decode cX11_isReady 216 = .ok (.aload_n 0, 1) := by decide +kernel
theorem dX11_isReady_217 : decode cX11_isReady 217 = .ok (.iload_n 2, 1) := by decide +kernel
theorem dX11_isReady_218 : decode cX11_isReady 218 = .ok (.aload_n 0, 1) := by decide +kernel
theorem dX11_isReady_219 : decode cX11_isReady 219 = .ok (.getfield 228, 3) := by decide +kernel
theorem dX11_isReady_222 : decode cX11_isReady 222 = .ok (.invokevirtual 260, 3) := by decide +kernel
theorem dX11_isReady_225 : decode cX11_isReady 225 = .ok (.ifCond .eq 19, 3) := by decide +kernel
theorem dX11_isReady_228 : decode cX11_isReady 228 = .ok (.aload_n 0, 1) := by decide +kernel
theorem dX11_isReady_229 : decode cX11_isReady 229 = .ok (.iload_n 2, 1) := by decide +kernel
theorem dX11_isReady_230 : decode cX11_isReady 230 = .ok (.aload_n 0, 1) := by decide +kernel
theorem dX11_isReady_231 : decode cX11_isReady 231 = .ok (.getfield 231, 3) := by decide +kernel
theorem dX11_isReady_234 : decode cX11_isReady 234 = .ok (.invokevirtual 260, 3) := by decide +kernel
theorem dX11_isReady_237 : decode cX11_isReady 237 = .ok (.ifCond .eq 7, 3) := by decide +kernel
theorem dX11_isReady_240 : decode cX11_isReady 240 = .ok (.iconst 1, 1) := by decide +kernel
theorem dX11_isReady_241 : decode cX11_isReady 241 = .ok (.goto 4, 3) := by decide +kernel
theorem dX11_isReady_244 : decode cX11_isReady 244 = .ok (.iconst 0, 1) := by decide +kernel
theorem dX11_isReady_245 : decode cX11_isReady 245 = .ok (.istore 4, 2) := by decide +kernel
theorem dX11_isReady_247 : decode cX11_isReady 247 = .ok (.iload 4, 2) := by decide +kernel
theorem dX11_isReady_249 : decode cX11_isReady 249 = .ok (.ifCond .eq 74, 3) := by decide +kernel
theorem dX11_isReady_252 : decode cX11_isReady 252 = .ok (.aload_n 0, 1) := by decide +kernel
theorem dX11_isReady_253 : decode cX11_isReady 253 = .ok (.getfield 220, 3) := by decide +kernel
theorem dX11_isReady_256 : decode cX11_isReady 256 = .ok (.bipush 36, 2) := by decide +kernel
theorem dX11_isReady_258 : decode cX11_isReady 258 = .ok (.if_icmp .eq 30, 3) := by decide +kernel
theorem dX11_isReady_261 : decode cX11_isReady 261 = .ok (.aload_n 0, 1) := by decide +kernel
theorem dX11_isReady_262 : decode cX11_isReady 262 = .ok (.getfield 220, 3) := by decide +kernel
theorem dX11_isReady_265 : decode cX11_isReady 265 = .ok (.bipush 70, 2) := by decide +kernel
theorem dX11_isReady_267 : decode cX11_isReady 267 = .ok (.if_icmp .eq 21, 3) := by decide +kernel
theorem dX11_isReady_270 : decode cX11_isReady 270 = .ok (.aload_n 0, 1) := by decide +kernel
theorem dX11_isReady_271 : decode cX11_isReady 271 = .ok (.getfield 220, 3) := by decide +kernel
theorem dX11_isReady_274 : decode cX11_isReady 274 = .ok (.bipush 71, 2) := by decide +kernel
theorem dX11_isReady_276 : decode cX11_isReady 276 = .ok (.if_icmp .eq 12, 3) := by decide +kernel
theorem dX11_isReady_279 : decode cX11_isReady 279 = .ok (.aload_n 0, 1) := by decide +kernel
theorem dX11_isReady_280 : decode cX11_isReady 280 = .ok (.getfield 220, 3) := by decide +kernel
theorem dX11_isReady_283 : decode cX11_isReady 283 = .ok (.bipush 72, 2) := by decide +kernel
theorem dX11_isReady_285 : decode cX11_isReady 285 = .ok (.if_icmp .ne 15, 3) := by decide +kernel
theorem dX11_isReady_288 : decode cX11_isReady 288 = .ok (.aload_n 0, 1) := by decide +kernel
theorem dX11_isReady_289 : decode cX11_isReady 289 = .ok (.iload_n 2, 1) := by decide +kernel
theorem dX11_isReady_290 : decode cX11_isReady 290 = .ok (.aload_n 0, 1) := by decide +kernel
theorem dX11_isReady_291 : decode cX11_isReady 291 = .ok (.getfield 228, 3) := by decide +kernel
theorem dX11_isReady_294 : decode cX11_isReady 294 = .ok (.invokevirtual 260, 3) := by decide +kernel
theorem dX11_isReady_297 : decode cX11_isReady 297 = .ok (.ifCond .eq 26, 3) := by decide +kernel
theorem dX11_isReady_300 : decode cX11_isReady 300 = .ok (.aload_n 0, 1) := by decide +kernel
theorem dX11_isReady_301 : decode cX11_isReady 301 = .ok (.invokevirtual 272, 3) := by decide +kernel
theorem dX11_isReady_304 : decode cX11_isReady 304 = .ok (.ifCond .eq 15, 3) := by decide +kernel
theorem dX11_isReady_307 : decode cX11_isReady 307 = .ok (.aload_n 0, 1) := by decide +kernel
theorem dX11_isReady_308 : decode cX11_isReady 308 = .ok (.iload_n 2, 1) := by decide +kernel
theorem dX11_isReady_309 : decode cX11_isReady 309 = .ok (.aload_n 0, 1) := by decide +kernel
theorem dX11_isReady_310 : decode cX11_isReady 310 = .ok (.getfield 225, 3) := by decide +kernel
theorem dX11_isReady_313 : decode cX11_isReady 313 = .ok (.invokevirtual 260, 3) := by decide +kernel
theorem dX11_isReady_316 : decode cX11_isReady 316 = .ok (.ifCond .eq 7, 3) := by decide +kernel
theorem dX11_isReady_319 : decode cX11_isReady 319 = .ok (.iconst 1, 1) := by decide +kernel
theorem dX11_isReady_320 : decode cX11_isReady 320 = .ok (.goto 4, 3) := by decide +kernel
theorem dX11_isReady_323 : decode cX11_isReady 323 = .ok (.iconst 0, 1) := by decide +kernel
theorem dX11_isReady_324 : decode cX11_isReady 324 = .ok (.istore 4, 2) := by decide +kernel
theorem dX11_isReady_326 : decode cX11_isReady 326 = .ok (.iload 4, 2) := by decide +kernel
theorem dX11_isReady_328 : decode cX11_isReady 328 = .ok (.ifCond .eq 73, 3) := by decide +kernel
theorem dX11_isReady_331 : decode cX11_isReady 331 = .ok (.aload_n 0, 1) := by decide +kernel
theorem dX11_isReady_332 : decode cX11_isReady 332 = .ok (.getfield 220, 3) := by decide +kernel
theorem dX11_isReady_335 : decode cX11_isReady 335 = .ok (.bipush 7, 2) := by decide +kernel
theorem dX11_isReady_337 : decode cX11_isReady 337 = .ok (.if_icmp .eq 12, 3) := by decide +kernel
theorem dX11_isReady_340 : decode cX11_isReady 340 = .ok (.aload_n 0, 1) := by decide +kernel
theorem dX11_isReady_341 : decode cX11_isReady 341 = .ok (.getfield 220, 3) := by decide +kernel
theorem dX11_isReady_344 : decode cX11_isReady 344 = .ok (.bipush 8, 2) := by decide +kernel
theorem dX11_isReady_346 : decode cX11_isReady 346 = .ok (.if_icmp .ne 16, 3) := by decide +kernel
theorem dX11_isReady_349 : decode cX11_isReady 349 = .ok (.aload_n 0, 1) := by decide +kernel
theorem dX11_isReady_350 : decode cX11_isReady 350 = .ok (.getfield 42, 3) := by decide +kernel
theorem dX11_isReady_353 : decode cX11_isReady 353 = .ok (.iload_n 1, 1) := by decide +kernel
theorem dX11_isReady_354 : decode cX11_isReady 354 = .ok (.iaload, 1) := by decide +kernel
theorem dX11_isReady_355 : decode cX11_isReady 355 = .ok (.aload_n 0, 1) := by decide +kernel
theorem dX11_isReady_356 : decode cX11_isReady 356 = .ok (.getfield 159, 3) := by decide +kernel
theorem dX11_isReady_359 : decode cX11_isReady 359 = .ok (.if_icmp .gt 42, 3) := by decide +kernel
theorem dX11_isReady_362 : decode cX11_isReady 362 = .ok (.aload_n 0, 1) := by decide +kernel
theorem dX11_isReady_363 : decode cX11_isReady 363 = .ok (.invokevirtual 240, 3) := by decide +kernel
theorem dX11_isReady_366 : decode cX11_isReady 366 = .ok (.ifCond .ne 18, 3) := by decide +kernel
theorem dX11_isReady_369 : decode cX11_isReady 369 = .ok (.aload_n 0, 1) := by decide +kernel
theorem dX11_isReady_370 : decode cX11_isReady 370 = .ok (.getfield 220, 3) := by decide +kernel
theorem dX11_isReady_373 : decode cX11_isReady 373 = .ok (.ifCond .eq 11, 3) := by decide +kernel
theorem dX11_isReady_376 : decode cX11_isReady 376 = .ok (.aload_n 0, 1) := by decide +kernel
theorem dX11_isReady_377 : decode cX11_isReady 377 = .ok (.getfield 220, 3) := by decide +kernel
theorem dX11_isReady_380 : decode cX11_isReady 380 = .ok (.iconst 1, 1) := by decide +kernel
theorem dX11_isReady_381 : decode cX11_isReady 381 = .ok (.if_icmp .ne 16, 3) := by decide +kernel
theorem dX11_isReady_384 : decode cX11_isReady 384 = .ok (.aload_n 0, 1) := by decide +kernel
theorem dX11_isReady_385 : decode cX11_isReady 385 = .ok (.getfield 60, 3) := by decide +kernel
theorem dX11_isReady_388 : decode cX11_isReady 388 = .ok (.iload_n 2, 1) := by decide +kernel
theorem dX11_isReady_389 : decode cX11_isReady 389 = .ok (.iaload, 1) := by decide +kernel
theorem dX11_isReady_390 : decode cX11_isReady 390 = .ok (.aload_n 0, 1) := by decide +kernel
theorem dX11_isReady_391 : decode cX11_isReady 391 = .ok (.getfield 159, 3) := by decide +kernel
theorem dX11_isReady_394 : decode cX11_isReady 394 = .ok (.if_icmp .gt 7, 3) := by decide +kernel
theorem dX11_isReady_397 : decode cX11_isReady 397 = .ok (.iconst 1, 1) := by decide +kernel
theorem dX11_isReady_398 : decode cX11_isReady 398 = .ok (.goto 4, 3) := by decide +kernel
theorem dX11_isReady_401 : decode cX11_isReady 401 = .ok (.iconst 0, 1) := by decide +kernel
theorem dX11_isReady_402 : decode cX11_isReady 402 = .ok (.istore 4, 2) := by decide +kernel
theorem dX11_isReady_404 : decode cX11_isReady 404 = .ok (.iload 4, 2) := by decide +kernel
theorem dX11_isReady_406 : decode cX11_isReady 406 = .ok (.ifCond .eq 27, 3) := by decide +kernel
theorem dX11_isReady_409 : decode cX11_isReady 409 = .ok (.aload_n 0, 1) := by decide +kernel
theorem dX11_isReady_410 : decode cX11_isReady 410 = .ok (.invokevirtual 275, 3) := by decide +kernel
theorem dX11_isReady_413 : decode cX11_isReady 413 = .ok (.ifCond .eq 16, 3) := by decide +kernel
theorem dX11_isReady_416 : decode cX11_isReady 416 = .ok (.aload_n 0, 1) := by decide +kernel
theorem dX11_isReady_417 : decode cX11_isReady 417 = .ok (.getfield 45, 3) := by decide +kernel
theorem dX11_isReady_420 : decode cX11_isReady 420 = .ok (.iload_n 1, 1) := by decide +kernel
theorem dX11_isReady_421 : decode cX11_isReady 421 = .ok (.iaload, 1) := by decide +kernel
theorem dX11_isReady_422 : decode cX11_isReady 422 = .ok (.aload_n 0, 1) := by decide +kernel
theorem dX11_isReady_423 : decode cX11_isReady 423 = .ok (.getfield 159, 3) := by decide +kernel
theorem dX11_isReady_426 : decode cX11_isReady 426 = .ok (.if_icmp .gt 7, 3) := by decide +kernel
theorem dX11_isReady_429 : decode cX11_isReady 429 = .ok (.iconst 1, 1) := by decide +kernel
theorem dX11_isReady_430 : decode cX11_isReady 430 = .ok (.goto 4, 3) := by decide +kernel
theorem dX11_isReady_433 : decode cX11_isReady 433 = .ok (.iconst 0, 1) := by decide +kernel
theorem dX11_isReady_434 : decode cX11_isReady 434 = .ok (.ireturn, 1) := by decide +kernel
def fX11_isReady (n : Nat) (a0 : Nat) (p1 : Int32) (p2 : Int32) (A : AH) : Option (Int32 × AH) :=
(gR A (some a0) 11 31).bind fun v1 =>
(aI A v1 p2).bind fun v2 =>
jn (fun (A4 : AH) =>
some ((nb (0 : Int32)), A4)) fun j3 =>
if v2 = (-1 : Int32) then (j3 A) else
(rcv A (some a0) 11).bind fun v6 =>
(fX11_group n v6 p2 A).bind fun g7 =>
if g7.1 = 0 then (j3 g7.2) else
(gR g7.2 (some a0) 11 37).bind fun v9 =>
(rcv g7.2 (some a0) 11).bind fun v10 =>
(fX11_firstOfGroup n v10 g7.2).bind fun g11 =>
(fX11_thread p2 g11 g7.2).bind fun g12 =>
(aI g7.2 v9 g12).bind fun v13 =>
if ((v13 < 0) ∨ (¬ (v13 < (128 : Int32)))) then (some ((nb (1 : Int32)), g7.2)) else
(gR g7.2 (some a0) 11 7).bind fun v14 =>
(aL g7.2 v14 v13).bind fun v15 =>
(fX11_take v10 v15 g7.2).bind fun g16 =>
(rcv g16 (some a0) 11).bind fun v17 =>
(fX11_isWord v17 g16).bind fun g18 =>
if g18 = 0 then (some ((nb (1 : Int32)), g16)) else
(gI g16 (some a0) 11 56).bind fun v20 =>
jn (fun (y22 : Int32) =>
jn (fun (y24 : Int32) =>
jn (fun (y26 : Int32) =>
jn (fun (y28 : Int32) =>
jn (fun (y30 : Int32) =>
jn (fun (y32 : Int32) =>
some ((nb y32), g16)) fun j31 =>
jn (j31 (0 : Int32)) fun j33 =>
if y30 = 0 then (j33) else
(fX11_isShared v17 g16).bind fun g35 =>
jn (j31 (1 : Int32)) fun j36 =>
if g35 = 0 then (j36) else
(gR g16 (some a0) 11 28).bind fun v38 =>
(aI g16 v38 p1).bind fun v39 =>
(gI g16 (some a0) 11 15).bind fun v40 =>
if v40 < v39 then (j33) else
j36) fun j29 =>
jn (j29 (0 : Int32)) fun j42 =>
if y28 = 0 then (j42) else
(gI g16 (some a0) 11 52).bind fun v44 =>
jn ((fX11_isMemory v17 g16).bind fun g46 =>
jn (j29 (1 : Int32)) fun j47 =>
if (((g46 = 0) ∧ (¬ (v44 = 0))) ∧ (¬ (v44 = (1 : Int32)))) then (j47) else
(gR g16 (some a0) 11 33).bind fun v48 =>
(aI g16 v48 p2).bind fun v49 =>
(gI g16 (some a0) 11 15).bind fun v50 =>
if v50 < v49 then (j42) else
j47) fun j45 =>
if ((v44 = (7 : Int32)) ∨ (v44 = (8 : Int32))) then ((gR g16 (some a0) 11 27).bind fun v55 =>
(aI g16 v55 p1).bind fun v56 =>
(gI g16 (some a0) 11 15).bind fun v57 =>
if v57 < v56 then (j42) else
j45) else
j45) fun j27 =>
jn (j27 (0 : Int32)) fun j61 =>
if y26 = 0 then (j61) else
(gI g16 (some a0) 11 52).bind fun v63 =>
jn ((fX11_writesPredicate v17 g16).bind fun g65 =>
jn (j27 (1 : Int32)) fun j66 =>
if g65 = 0 then (j66) else
(gI g16 (some a0) 11 53).bind fun v68 =>
(fX11_isPredicateThere v17 p2 v68 g16).bind fun g69 =>
if g69 = 0 then (j61) else
j66) fun j64 =>
if ((((v63 = (36 : Int32)) ∨ (v63 = (70 : Int32))) ∨ (v63 = (71 : Int32))) ∨ (v63 = (72 : Int32))) then ((gI g16 (some a0) 11 54).bind fun v71 =>
(fX11_isPredicateThere v17 p2 v71 g16).bind fun g72 =>
if g72 = 0 then (j61) else
j64) else
j64) fun j25 =>
jn (j25 (0 : Int32)) fun j78 =>
if y24 = 0 then (j78) else
(gI g16 (some a0) 11 52).bind fun v80 =>
jn (jn (j25 (1 : Int32)) fun j82 =>
if ((v80 = (34 : Int32)) ∨ (v80 = (35 : Int32))) then ((gI g16 (some a0) 11 54).bind fun v83 =>
(fX11_isPredicateThere v17 p2 v83 g16).bind fun g84 =>
if g84 = 0 then (j78) else
(gI g16 (some a0) 11 55).bind fun v86 =>
(fX11_isPredicateThere v17 p2 v86 g16).bind fun g87 =>
if g87 = 0 then (j78) else
j82) else
j82) fun j81 =>
if v80 = (21 : Int32) then ((gI g16 (some a0) 11 57).bind fun v92 =>
(fX11_isPredicateThere v17 p2 v92 g16).bind fun g93 =>
if g93 = 0 then (j78) else
j81) else
j81) fun j23 =>
jn (j23 (0 : Int32)) fun j95 =>
if y22 = 0 then (j95) else
(fX11_readsA v17 g16).bind fun g97 =>
jn ((fX11_readsB v17 g16).bind fun g99 =>
jn ((fX11_writesD v17 g16).bind fun g101 =>
(gI g16 (some a0) 11 52).bind fun v102 =>
jn (j23 (1 : Int32)) fun j103 =>
if ((g101 = 0) ∧ (¬ (v102 = (57 : Int32)))) then (j103) else
(gI g16 (some a0) 11 53).bind fun v104 =>
(fX11_isThere v17 p2 v104 g16).bind fun g105 =>
if g105 = 0 then (j95) else
j103) fun j100 =>
if g99 = 0 then (j100) else
(gI g16 (some a0) 11 55).bind fun v110 =>
(fX11_isThere v17 p2 v110 g16).bind fun g111 =>
if g111 = 0 then (j95) else
j100) fun j98 =>
if g97 = 0 then (j98) else
(gI g16 (some a0) 11 54).bind fun v114 =>
(fX11_isThere v17 p2 v114 g16).bind fun g115 =>
if g115 = 0 then (j95) else
j98) fun j21 =>
jn (j21 (1 : Int32)) fun j117 =>
if v20 < (8 : Int32) then (j117) else
(fX11_isPredicateThere v17 p2 v20 g16).bind fun g119 =>
if g119 = 0 then (j21 (0 : Int32)) else
j117

set_option maxHeartbeats 4000000 in
set_option maxRecDepth 100000 in
theorem sX11_isReady (l : Launch) (D : DE) (n : Nat) (a0 : Nat) (p1 : Int32) (p2 : Int32) (A : AH) (g : Int32 × AH) (hg : fX11_isReady n a0 p1 p2 A = some g) : Sm l D yX11_isReady cX11_isReady 5 (some Jvm.ClassFile.FieldType.boolean) 3 69 [tR (some a0), tI p1, tI p2] A (wI g).1 (wI g).2 := by
  refine Sm.of (ω := wI) (fX11_isReady n a0 p1 p2 A) [some (tR (some a0)), some (tI p1), some (tI p2), none, none] (by decide) (Nat.le_of_ble_eq_true rfl) rfl hg ?_
  intro p e R s m args below meth c X hin
  have X : Cx D cX11_isReady RX11 5 3 69 (some Jvm.ClassFile.FieldType.boolean) p R s m args meth c := X
  unfold fX11_isReady
  refine rf_aload_n X rfl dX11_isReady_0 ?_
  refine rf_bind (fun v1 hv1 => ?_)
  refine rf_getR X fl_X11_54 hv1 dX11_isReady_1 ?_
  refine rf_iload_n X rfl dX11_isReady_4 ?_
  refine rf_bind (fun v2 hv2 => ?_)
  refine rf_iald X hv2 dX11_isReady_5 ?_
  refine rf_iconst X (-1 : Int32) rfl dX11_isReady_6 ?_
  refine rf_jn2 (fun i => ∀ (A4 : AH), RfX X l e below wI (i A4) 18 [none, none, none, none, none] [] A4) ?_ (fun j3 hj3 => ?_)
  · intro A4
    refine rf_iconst X (0 : Int32) rfl dX11_isReady_18 ?_
    exact rf_zret X rfl dX11_isReady_19
  refine rf_icmp_eq X (tgt := 18) rfl dX11_isReady_7 (fun c5 => rf_pos c5 ?_) (fun c5 => rf_neg c5 ?_)
  · exact rf_go (hj3 A) True.intro
  refine rf_aload_n X rfl dX11_isReady_10 ?_
  refine rf_iload_n X rfl dX11_isReady_11 ?_
  refine rf_bind (fun v6 hv6 => ?_)
  refine rf_bind (fun g7 hg7 => ?_)
  refine rf_callVI X c_X11_246 ⟨Nat.le_of_ble_eq_true rfl, Nat.le_of_ble_eq_true rfl⟩ [tI p2] rfl (Nat.le_of_ble_eq_true rfl) hv6 (sX11_group l D n v6 p2 A g7 hg7) dX11_isReady_12 ?_
  refine rf_if_ne X (tgt := 20) rfl dX11_isReady_15 (fun c8 => rf_neg c8 ?_) (fun c8 => rf_pos c8 ?_)
  · refine rf_aload_n X rfl dX11_isReady_20 ?_
    refine rf_bind (fun v9 hv9 => ?_)
    refine rf_getR X fl_X11_73 hv9 dX11_isReady_21 ?_
    refine rf_iload_n X rfl dX11_isReady_24 ?_
    refine rf_aload_n X rfl dX11_isReady_25 ?_
    refine rf_bind (fun v10 hv10 => ?_)
    refine rf_bind (fun g11 hg11 => ?_)
    refine rf_callVI X c_X11_250 ⟨Nat.le_of_ble_eq_true rfl, Nat.le_of_ble_eq_true rfl⟩ [] rfl (Nat.le_of_ble_eq_true rfl) hv10 (sX11_firstOfGroup l D n v10 g7.2 g11 hg11) dX11_isReady_26 ?_
    refine rf_bind (fun g12 hg12 => ?_)
    refine rf_callSI X c_X11_211 ⟨Nat.le_of_ble_eq_true rfl, Nat.le_of_ble_eq_true rfl⟩ [tI p2, tI g11] rfl (Nat.le_of_ble_eq_true rfl) (sX11_thread l D p2 g11 g7.2 g12 hg12) dX11_isReady_29 ?_
    refine rf_bind (fun v13 hv13 => ?_)
    refine rf_iald X hv13 dX11_isReady_32 ?_
    refine rf_istore_n X (ls' := [some (tR (some a0)), some (tI p1), some (tI p2), some (tI v13), none]) rfl (by decide) dX11_isReady_33 ?_
    refine rf_iload_n X rfl dX11_isReady_34 ?_
    refine rf_br 45 47 [some (tR (some a0)), some (tI p1), some (tI p2), some (tI v13), none] [some (tR (some a0)), some (tI p1), some (tI p2), some (tI v13), none] [] [] (fun _ => ?_) (fun _ => ?_) (fun _ jT jF => ?_)
    · refine rf_iconst X (1 : Int32) rfl dX11_isReady_45 ?_
      exact rf_zret X rfl dX11_isReady_46
    · refine rf_aload_n X rfl dX11_isReady_47 ?_
      refine rf_aload_n X rfl dX11_isReady_48 ?_
      refine rf_bind (fun v14 hv14 => ?_)
      refine rf_getR X fl_X11_28 hv14 dX11_isReady_49 ?_
      refine rf_iload_n X rfl dX11_isReady_52 ?_
      refine rf_bind (fun v15 hv15 => ?_)
      refine rf_lald X hv15 dX11_isReady_53 ?_
      refine rf_bind (fun g16 hg16 => ?_)
      refine rf_callVU X c_X11_253 ⟨Nat.le_of_ble_eq_true rfl, Nat.le_of_ble_eq_true rfl⟩ [tL v15] rfl (Nat.le_of_ble_eq_true rfl) hv10 (sX11_take l D v10 v15 g7.2 g16 hg16) dX11_isReady_54 ?_
      refine rf_aload_n X rfl dX11_isReady_57 ?_
      refine rf_bind (fun v17 hv17 => ?_)
      refine rf_bind (fun g18 hg18 => ?_)
      refine rf_callVI X c_X11_257 ⟨Nat.le_of_ble_eq_true rfl, Nat.le_of_ble_eq_true rfl⟩ [] rfl (Nat.le_of_ble_eq_true rfl) hv17 (sX11_isWord l D v17 g16 g18 hg18) dX11_isReady_58 ?_
      refine rf_if_ne X (tgt := 66) rfl dX11_isReady_61 (fun c19 => rf_neg c19 ?_) (fun c19 => rf_pos c19 ?_)
      · refine rf_aload_n X rfl dX11_isReady_66 ?_
        refine rf_bind (fun v20 hv20 => ?_)
        refine rf_getI X fl_X11_234 hv20 dX11_isReady_67 ?_
        refine rf_bipush X (8 : Int32) rfl dX11_isReady_70 ?_
        refine rf_jn2 (fun i => ∀ (y22 : Int32), RfX X l e below wI (i y22) 92 [some (tR (some a0)), some (tI p1), some (tI p2), none, none] [tI y22] g16) ?_ (fun j21 hj21 => ?_)
        · intro y22
          refine rf_istore X (ls' := [some (tR (some a0)), some (tI p1), some (tI p2), none, some (tI y22)]) rfl (by decide) dX11_isReady_92 ?_
          refine rf_iload X rfl dX11_isReady_94 ?_
          refine rf_jn2 (fun i => ∀ (y24 : Int32), RfX X l e below wI (i y24) 170 [some (tR (some a0)), some (tI p1), some (tI p2), none, none] [tI y24] g16) ?_ (fun j23 hj23 => ?_)
          · intro y24
            refine rf_istore X (ls' := [some (tR (some a0)), some (tI p1), some (tI p2), none, some (tI y24)]) rfl (by decide) dX11_isReady_170 ?_
            refine rf_iload X rfl dX11_isReady_172 ?_
            refine rf_jn2 (fun i => ∀ (y26 : Int32), RfX X l e below wI (i y26) 245 [some (tR (some a0)), some (tI p1), some (tI p2), none, none] [tI y26] g16) ?_ (fun j25 hj25 => ?_)
            · intro y26
              refine rf_istore X (ls' := [some (tR (some a0)), some (tI p1), some (tI p2), none, some (tI y26)]) rfl (by decide) dX11_isReady_245 ?_
              refine rf_iload X rfl dX11_isReady_247 ?_
              refine rf_jn2 (fun i => ∀ (y28 : Int32), RfX X l e below wI (i y28) 324 [some (tR (some a0)), some (tI p1), some (tI p2), none, none] [tI y28] g16) ?_ (fun j27 hj27 => ?_)
              · intro y28
                refine rf_istore X (ls' := [some (tR (some a0)), some (tI p1), some (tI p2), none, some (tI y28)]) rfl (by decide) dX11_isReady_324 ?_
                refine rf_iload X rfl dX11_isReady_326 ?_
                refine rf_jn2 (fun i => ∀ (y30 : Int32), RfX X l e below wI (i y30) 402 [some (tR (some a0)), some (tI p1), none, none, none] [tI y30] g16) ?_ (fun j29 hj29 => ?_)
                · intro y30
                  refine rf_istore X (ls' := [some (tR (some a0)), some (tI p1), none, none, some (tI y30)]) rfl (by decide) dX11_isReady_402 ?_
                  refine rf_iload X rfl dX11_isReady_404 ?_
                  refine rf_jn2 (fun i => ∀ (y32 : Int32), RfX X l e below wI (i y32) 434 [none, none, none, none, none] [tI y32] g16) ?_ (fun j31 hj31 => ?_)
                  · intro y32
                    exact rf_zret X rfl dX11_isReady_434
                  refine rf_jn2 (fun i => RfX X l e below wI i 433 [none, none, none, none, none] [] g16) ?_ (fun j33 hj33 => ?_)
                  · show RfX X l e below _ _ _ _ _ _
                    refine rf_iconst X (0 : Int32) rfl dX11_isReady_433 ?_
                    exact rf_go (hj31 (0 : Int32)) True.intro
                  refine rf_if_eq X (tgt := 433) rfl dX11_isReady_406 (fun c34 => rf_pos c34 ?_) (fun c34 => rf_neg c34 ?_)
                  · exact rf_go hj33 True.intro
                  refine rf_aload_n X rfl dX11_isReady_409 ?_
                  refine rf_bind (fun g35 hg35 => ?_)
                  refine rf_callVI X c_X11_275 ⟨Nat.le_of_ble_eq_true rfl, Nat.le_of_ble_eq_true rfl⟩ [] rfl (Nat.le_of_ble_eq_true rfl) hv17 (sX11_isShared l D v17 g16 g35 hg35) dX11_isReady_410 ?_
                  refine rf_jn2 (fun i => RfX X l e below wI i 429 [none, none, none, none, none] [] g16) ?_ (fun j36 hj36 => ?_)
                  · show RfX X l e below _ _ _ _ _ _
                    refine rf_iconst X (1 : Int32) rfl dX11_isReady_429 ?_
                    refine rf_goto X (tgt := 434) rfl dX11_isReady_430 ?_
                    exact rf_go (hj31 (1 : Int32)) True.intro
                  refine rf_if_eq X (tgt := 429) rfl dX11_isReady_413 (fun c37 => rf_pos c37 ?_) (fun c37 => rf_neg c37 ?_)
                  · exact rf_go hj36 True.intro
                  refine rf_aload_n X rfl dX11_isReady_416 ?_
                  refine rf_bind (fun v38 hv38 => ?_)
                  refine rf_getR X fl_X11_45 hv38 dX11_isReady_417 ?_
                  refine rf_iload_n X rfl dX11_isReady_420 ?_
                  refine rf_bind (fun v39 hv39 => ?_)
                  refine rf_iald X hv39 dX11_isReady_421 ?_
                  refine rf_aload_n X rfl dX11_isReady_422 ?_
                  refine rf_bind (fun v40 hv40 => ?_)
                  refine rf_getI X fl_X11_159 hv40 dX11_isReady_423 ?_
                  refine rf_icmp_gt X (tgt := 433) rfl dX11_isReady_426 (fun c41 => rf_pos c41 ?_) (fun c41 => rf_neg c41 ?_)
                  · exact rf_go hj33 True.intro
                  exact rf_go hj36 True.intro
                refine rf_jn2 (fun i => RfX X l e below wI i 401 [some (tR (some a0)), some (tI p1), none, none, none] [] g16) ?_ (fun j42 hj42 => ?_)
                · show RfX X l e below _ _ _ _ _ _
                  refine rf_iconst X (0 : Int32) rfl dX11_isReady_401 ?_
                  exact rf_go (hj29 (0 : Int32)) (And.intro rfl (And.intro rfl True.intro))
                refine rf_if_eq X (tgt := 401) rfl dX11_isReady_328 (fun c43 => rf_pos c43 ?_) (fun c43 => rf_neg c43 ?_)
                · exact rf_go hj42 (And.intro rfl (And.intro rfl True.intro))
                refine rf_aload_n X rfl dX11_isReady_331 ?_
                refine rf_bind (fun v44 hv44 => ?_)
                refine rf_getI X fl_X11_220 hv44 dX11_isReady_332 ?_
                refine rf_bipush X (7 : Int32) rfl dX11_isReady_335 ?_
                refine rf_jn2 (fun i => RfX X l e below wI i 362 [some (tR (some a0)), some (tI p1), some (tI p2), none, none] [] g16) ?_ (fun j45 hj45 => ?_)
                · show RfX X l e below _ _ _ _ _ _
                  refine rf_aload_n X rfl dX11_isReady_362 ?_
                  refine rf_bind (fun g46 hg46 => ?_)
                  refine rf_callVI X c_X11_240 ⟨Nat.le_of_ble_eq_true rfl, Nat.le_of_ble_eq_true rfl⟩ [] rfl (Nat.le_of_ble_eq_true rfl) hv17 (sX11_isMemory l D v17 g16 g46 hg46) dX11_isReady_363 ?_
                  refine rf_jn2 (fun i => RfX X l e below wI i 397 [some (tR (some a0)), some (tI p1), none, none, none] [] g16) ?_ (fun j47 hj47 => ?_)
                  · show RfX X l e below _ _ _ _ _ _
                    refine rf_iconst X (1 : Int32) rfl dX11_isReady_397 ?_
                    refine rf_goto X (tgt := 402) rfl dX11_isReady_398 ?_
                    exact rf_go (hj29 (1 : Int32)) (And.intro rfl (And.intro rfl True.intro))
                  refine rf_br 397 384 [some (tR (some a0)), some (tI p1), some (tI p2), none, none] [some (tR (some a0)), some (tI p1), some (tI p2), none, none] [] [] (fun _ => ?_) (fun _ => ?_) (fun _ jT jF => ?_)
                  · exact rf_go hj47 (And.intro rfl (And.intro rfl True.intro))
                  · refine rf_aload_n X rfl dX11_isReady_384 ?_
                    refine rf_bind (fun v48 hv48 => ?_)
                    refine rf_getR X fl_X11_60 hv48 dX11_isReady_385 ?_
                    refine rf_iload_n X rfl dX11_isReady_388 ?_
                    refine rf_bind (fun v49 hv49 => ?_)
                    refine rf_iald X hv49 dX11_isReady_389 ?_
                    refine rf_aload_n X rfl dX11_isReady_390 ?_
                    refine rf_bind (fun v50 hv50 => ?_)
                    refine rf_getI X fl_X11_159 hv50 dX11_isReady_391 ?_
                    refine rf_icmp_gt X (tgt := 401) rfl dX11_isReady_394 (fun c51 => rf_pos c51 ?_) (fun c51 => rf_neg c51 ?_)
                    · exact rf_go hj42 (And.intro rfl (And.intro rfl True.intro))
                    exact rf_go hj47 (And.intro rfl (And.intro rfl True.intro))
                  refine rf_if_ne X (tgt := 384) rfl dX11_isReady_366 (fun c52 => ?_) (fun c52 => ?_)
                  · exact jF (fun z => (fun z => c52 z.1) z.1)
                  refine rf_aload_n X rfl dX11_isReady_369 ?_
                  refine rf_getI X fl_X11_220 hv44 dX11_isReady_370 ?_
                  refine rf_if_eq X (tgt := 384) rfl dX11_isReady_373 (fun c53 => ?_) (fun c53 => ?_)
                  · exact jF (fun z => (fun z => (fun z => z c53) z.2) z.1)
                  refine rf_aload_n X rfl dX11_isReady_376 ?_
                  refine rf_getI X fl_X11_220 hv44 dX11_isReady_377 ?_
                  refine rf_iconst X (1 : Int32) rfl dX11_isReady_380 ?_
                  refine rf_icmp_ne X (tgt := 397) rfl dX11_isReady_381 (fun c54 => ?_) (fun c54 => ?_)
                  · exact jT ⟨⟨c52, c53⟩, c54⟩
                  exact jF (fun z => (fun z => z c54) z.2)
                refine rf_br 349 362 [some (tR (some a0)), some (tI p1), some (tI p2), none, some (tI y28)] [some (tR (some a0)), some (tI p1), some (tI p2), none, some (tI y28)] [] [] (fun _ => ?_) (fun _ => ?_) (fun _ jT jF => ?_)
                · refine rf_aload_n X rfl dX11_isReady_349 ?_
                  refine rf_bind (fun v55 hv55 => ?_)
                  refine rf_getR X fl_X11_42 hv55 dX11_isReady_350 ?_
                  refine rf_iload_n X rfl dX11_isReady_353 ?_
                  refine rf_bind (fun v56 hv56 => ?_)
                  refine rf_iald X hv56 dX11_isReady_354 ?_
                  refine rf_aload_n X rfl dX11_isReady_355 ?_
                  refine rf_bind (fun v57 hv57 => ?_)
                  refine rf_getI X fl_X11_159 hv57 dX11_isReady_356 ?_
                  refine rf_icmp_gt X (tgt := 401) rfl dX11_isReady_359 (fun c58 => rf_pos c58 ?_) (fun c58 => rf_neg c58 ?_)
                  · exact rf_go hj42 (And.intro rfl (And.intro rfl True.intro))
                  exact rf_go hj45 (And.intro rfl (And.intro rfl (And.intro rfl True.intro)))
                · exact rf_go hj45 (And.intro rfl (And.intro rfl (And.intro rfl True.intro)))
                refine rf_icmp_eq X (tgt := 349) rfl dX11_isReady_337 (fun c59 => ?_) (fun c59 => ?_)
                · exact jT (Or.inl c59)
                refine rf_aload_n X rfl dX11_isReady_340 ?_
                refine rf_getI X fl_X11_220 hv44 dX11_isReady_341 ?_
                refine rf_bipush X (8 : Int32) rfl dX11_isReady_344 ?_
                refine rf_icmp_ne X (tgt := 362) rfl dX11_isReady_346 (fun c60 => ?_) (fun c60 => ?_)
                · exact jF (fun z => z.elim c59 c60)
                exact jT (Or.inr c60)
              refine rf_jn2 (fun i => RfX X l e below wI i 323 [some (tR (some a0)), some (tI p1), some (tI p2), none, none] [] g16) ?_ (fun j61 hj61 => ?_)
              · show RfX X l e below _ _ _ _ _ _
                refine rf_iconst X (0 : Int32) rfl dX11_isReady_323 ?_
                exact rf_go (hj27 (0 : Int32)) (And.intro rfl (And.intro rfl (And.intro rfl True.intro)))
              refine rf_if_eq X (tgt := 323) rfl dX11_isReady_249 (fun c62 => rf_pos c62 ?_) (fun c62 => rf_neg c62 ?_)
              · exact rf_go hj61 (And.intro rfl (And.intro rfl (And.intro rfl True.intro)))
              refine rf_aload_n X rfl dX11_isReady_252 ?_
              refine rf_bind (fun v63 hv63 => ?_)
              refine rf_getI X fl_X11_220 hv63 dX11_isReady_253 ?_
              refine rf_bipush X (36 : Int32) rfl dX11_isReady_256 ?_
              refine rf_jn2 (fun i => RfX X l e below wI i 300 [some (tR (some a0)), some (tI p1), some (tI p2), none, none] [] g16) ?_ (fun j64 hj64 => ?_)
              · show RfX X l e below _ _ _ _ _ _
                refine rf_aload_n X rfl dX11_isReady_300 ?_
                refine rf_bind (fun g65 hg65 => ?_)
                refine rf_callVI X c_X11_272 ⟨Nat.le_of_ble_eq_true rfl, Nat.le_of_ble_eq_true rfl⟩ [] rfl (Nat.le_of_ble_eq_true rfl) hv17 (sX11_writesPredicate l D v17 g16 g65 hg65) dX11_isReady_301 ?_
                refine rf_jn2 (fun i => RfX X l e below wI i 319 [some (tR (some a0)), some (tI p1), some (tI p2), none, none] [] g16) ?_ (fun j66 hj66 => ?_)
                · show RfX X l e below _ _ _ _ _ _
                  refine rf_iconst X (1 : Int32) rfl dX11_isReady_319 ?_
                  refine rf_goto X (tgt := 324) rfl dX11_isReady_320 ?_
                  exact rf_go (hj27 (1 : Int32)) (And.intro rfl (And.intro rfl (And.intro rfl True.intro)))
                refine rf_if_eq X (tgt := 319) rfl dX11_isReady_304 (fun c67 => rf_pos c67 ?_) (fun c67 => rf_neg c67 ?_)
                · exact rf_go hj66 (And.intro rfl (And.intro rfl (And.intro rfl True.intro)))
                refine rf_aload_n X rfl dX11_isReady_307 ?_
                refine rf_iload_n X rfl dX11_isReady_308 ?_
                refine rf_aload_n X rfl dX11_isReady_309 ?_
                refine rf_bind (fun v68 hv68 => ?_)
                refine rf_getI X fl_X11_225 hv68 dX11_isReady_310 ?_
                refine rf_bind (fun g69 hg69 => ?_)
                refine rf_callVI X c_X11_260 ⟨Nat.le_of_ble_eq_true rfl, Nat.le_of_ble_eq_true rfl⟩ [tI p2, tI v68] rfl (Nat.le_of_ble_eq_true rfl) hv17 (sX11_isPredicateThere l D v17 p2 v68 g16 g69 hg69) dX11_isReady_313 ?_
                refine rf_if_eq X (tgt := 323) rfl dX11_isReady_316 (fun c70 => rf_pos c70 ?_) (fun c70 => rf_neg c70 ?_)
                · exact rf_go hj61 (And.intro rfl (And.intro rfl (And.intro rfl True.intro)))
                exact rf_go hj66 (And.intro rfl (And.intro rfl (And.intro rfl True.intro)))
              refine rf_br 288 300 [some (tR (some a0)), some (tI p1), some (tI p2), none, some (tI y26)] [some (tR (some a0)), some (tI p1), some (tI p2), none, some (tI y26)] [] [] (fun _ => ?_) (fun _ => ?_) (fun _ jT jF => ?_)
              · refine rf_aload_n X rfl dX11_isReady_288 ?_
                refine rf_iload_n X rfl dX11_isReady_289 ?_
                refine rf_aload_n X rfl dX11_isReady_290 ?_
                refine rf_bind (fun v71 hv71 => ?_)
                refine rf_getI X fl_X11_228 hv71 dX11_isReady_291 ?_
                refine rf_bind (fun g72 hg72 => ?_)
                refine rf_callVI X c_X11_260 ⟨Nat.le_of_ble_eq_true rfl, Nat.le_of_ble_eq_true rfl⟩ [tI p2, tI v71] rfl (Nat.le_of_ble_eq_true rfl) hv17 (sX11_isPredicateThere l D v17 p2 v71 g16 g72 hg72) dX11_isReady_294 ?_
                refine rf_if_eq X (tgt := 323) rfl dX11_isReady_297 (fun c73 => rf_pos c73 ?_) (fun c73 => rf_neg c73 ?_)
                · exact rf_go hj61 (And.intro rfl (And.intro rfl (And.intro rfl True.intro)))
                exact rf_go hj64 (And.intro rfl (And.intro rfl (And.intro rfl True.intro)))
              · exact rf_go hj64 (And.intro rfl (And.intro rfl (And.intro rfl True.intro)))
              refine rf_icmp_eq X (tgt := 288) rfl dX11_isReady_258 (fun c74 => ?_) (fun c74 => ?_)
              · exact jT (Or.inl (Or.inl (Or.inl c74)))
              refine rf_aload_n X rfl dX11_isReady_261 ?_
              refine rf_getI X fl_X11_220 hv63 dX11_isReady_262 ?_
              refine rf_bipush X (70 : Int32) rfl dX11_isReady_265 ?_
              refine rf_icmp_eq X (tgt := 288) rfl dX11_isReady_267 (fun c75 => ?_) (fun c75 => ?_)
              · exact jT (Or.inl (Or.inl (Or.inr c75)))
              refine rf_aload_n X rfl dX11_isReady_270 ?_
              refine rf_getI X fl_X11_220 hv63 dX11_isReady_271 ?_
              refine rf_bipush X (71 : Int32) rfl dX11_isReady_274 ?_
              refine rf_icmp_eq X (tgt := 288) rfl dX11_isReady_276 (fun c76 => ?_) (fun c76 => ?_)
              · exact jT (Or.inl (Or.inr c76))
              refine rf_aload_n X rfl dX11_isReady_279 ?_
              refine rf_getI X fl_X11_220 hv63 dX11_isReady_280 ?_
              refine rf_bipush X (72 : Int32) rfl dX11_isReady_283 ?_
              refine rf_icmp_ne X (tgt := 300) rfl dX11_isReady_285 (fun c77 => ?_) (fun c77 => ?_)
              · exact jF (fun z => z.elim (fun z => z.elim (fun z => z.elim c74 c75) c76) c77)
              exact jT (Or.inr c77)
            refine rf_jn2 (fun i => RfX X l e below wI i 244 [some (tR (some a0)), some (tI p1), some (tI p2), none, none] [] g16) ?_ (fun j78 hj78 => ?_)
            · show RfX X l e below _ _ _ _ _ _
              refine rf_iconst X (0 : Int32) rfl dX11_isReady_244 ?_
              exact rf_go (hj25 (0 : Int32)) (And.intro rfl (And.intro rfl (And.intro rfl True.intro)))
            refine rf_if_eq X (tgt := 244) rfl dX11_isReady_174 (fun c79 => rf_pos c79 ?_) (fun c79 => rf_neg c79 ?_)
            · exact rf_go hj78 (And.intro rfl (And.intro rfl (And.intro rfl True.intro)))
            refine rf_aload_n X rfl dX11_isReady_177 ?_
            refine rf_bind (fun v80 hv80 => ?_)
            refine rf_getI X fl_X11_220 hv80 dX11_isReady_178 ?_
            refine rf_bipush X (21 : Int32) rfl dX11_isReady_181 ?_
            refine rf_jn2 (fun i => RfX X l e below wI i 198 [some (tR (some a0)), some (tI p1), some (tI p2), none, none] [] g16) ?_ (fun j81 hj81 => ?_)
            · show RfX X l e below _ _ _ _ _ _
              refine rf_aload_n X rfl dX11_isReady_198 ?_
              refine rf_getI X fl_X11_220 hv80 dX11_isReady_199 ?_
              refine rf_bipush X (34 : Int32) rfl dX11_isReady_202 ?_
              refine rf_jn2 (fun i => RfX X l e below wI i 240 [some (tR (some a0)), some (tI p1), some (tI p2), none, none] [] g16) ?_ (fun j82 hj82 => ?_)
              · show RfX X l e below _ _ _ _ _ _
                refine rf_iconst X (1 : Int32) rfl dX11_isReady_240 ?_
                refine rf_goto X (tgt := 245) rfl dX11_isReady_241 ?_
                exact rf_go (hj25 (1 : Int32)) (And.intro rfl (And.intro rfl (And.intro rfl True.intro)))
              refine rf_br 216 240 [some (tR (some a0)), some (tI p1), some (tI p2), none, none] [some (tR (some a0)), some (tI p1), some (tI p2), none, none] [] [] (fun _ => ?_) (fun _ => ?_) (fun _ jT jF => ?_)
              · refine rf_aload_n X rfl dX11_isReady_216 ?_
                refine rf_iload_n X rfl dX11_isReady_217 ?_
                refine rf_aload_n X rfl dX11_isReady_218 ?_
                refine rf_bind (fun v83 hv83 => ?_)
                refine rf_getI X fl_X11_228 hv83 dX11_isReady_219 ?_
                refine rf_bind (fun g84 hg84 => ?_)
                refine rf_callVI X c_X11_260 ⟨Nat.le_of_ble_eq_true rfl, Nat.le_of_ble_eq_true rfl⟩ [tI p2, tI v83] rfl (Nat.le_of_ble_eq_true rfl) hv17 (sX11_isPredicateThere l D v17 p2 v83 g16 g84 hg84) dX11_isReady_222 ?_
                refine rf_if_eq X (tgt := 244) rfl dX11_isReady_225 (fun c85 => rf_pos c85 ?_) (fun c85 => rf_neg c85 ?_)
                · exact rf_go hj78 (And.intro rfl (And.intro rfl (And.intro rfl True.intro)))
                refine rf_aload_n X rfl dX11_isReady_228 ?_
                refine rf_iload_n X rfl dX11_isReady_229 ?_
                refine rf_aload_n X rfl dX11_isReady_230 ?_
                refine rf_bind (fun v86 hv86 => ?_)
                refine rf_getI X fl_X11_231 hv86 dX11_isReady_231 ?_
                refine rf_bind (fun g87 hg87 => ?_)
                refine rf_callVI X c_X11_260 ⟨Nat.le_of_ble_eq_true rfl, Nat.le_of_ble_eq_true rfl⟩ [tI p2, tI v86] rfl (Nat.le_of_ble_eq_true rfl) hv17 (sX11_isPredicateThere l D v17 p2 v86 g16 g87 hg87) dX11_isReady_234 ?_
                refine rf_if_eq X (tgt := 244) rfl dX11_isReady_237 (fun c88 => rf_pos c88 ?_) (fun c88 => rf_neg c88 ?_)
                · exact rf_go hj78 (And.intro rfl (And.intro rfl (And.intro rfl True.intro)))
                exact rf_go hj82 (And.intro rfl (And.intro rfl (And.intro rfl True.intro)))
              · exact rf_go hj82 (And.intro rfl (And.intro rfl (And.intro rfl True.intro)))
              refine rf_icmp_eq X (tgt := 216) rfl dX11_isReady_204 (fun c89 => ?_) (fun c89 => ?_)
              · exact jT (Or.inl c89)
              refine rf_aload_n X rfl dX11_isReady_207 ?_
              refine rf_getI X fl_X11_220 hv80 dX11_isReady_208 ?_
              refine rf_bipush X (35 : Int32) rfl dX11_isReady_211 ?_
              refine rf_icmp_ne X (tgt := 240) rfl dX11_isReady_213 (fun c90 => ?_) (fun c90 => ?_)
              · exact jF (fun z => z.elim c89 c90)
              exact jT (Or.inr c90)
            refine rf_icmp_ne X (tgt := 198) rfl dX11_isReady_183 (fun c91 => rf_neg c91 ?_) (fun c91 => rf_pos c91 ?_)
            · exact rf_go hj81 (And.intro rfl (And.intro rfl (And.intro rfl True.intro)))
            refine rf_aload_n X rfl dX11_isReady_186 ?_
            refine rf_iload_n X rfl dX11_isReady_187 ?_
            refine rf_aload_n X rfl dX11_isReady_188 ?_
            refine rf_bind (fun v92 hv92 => ?_)
            refine rf_getI X fl_X11_237 hv92 dX11_isReady_189 ?_
            refine rf_bind (fun g93 hg93 => ?_)
            refine rf_callVI X c_X11_260 ⟨Nat.le_of_ble_eq_true rfl, Nat.le_of_ble_eq_true rfl⟩ [tI p2, tI v92] rfl (Nat.le_of_ble_eq_true rfl) hv17 (sX11_isPredicateThere l D v17 p2 v92 g16 g93 hg93) dX11_isReady_192 ?_
            refine rf_if_eq X (tgt := 244) rfl dX11_isReady_195 (fun c94 => rf_pos c94 ?_) (fun c94 => rf_neg c94 ?_)
            · exact rf_go hj78 (And.intro rfl (And.intro rfl (And.intro rfl True.intro)))
            exact rf_go hj81 (And.intro rfl (And.intro rfl (And.intro rfl True.intro)))
          refine rf_jn2 (fun i => RfX X l e below wI i 169 [some (tR (some a0)), some (tI p1), some (tI p2), none, none] [] g16) ?_ (fun j95 hj95 => ?_)
          · show RfX X l e below _ _ _ _ _ _
            refine rf_iconst X (0 : Int32) rfl dX11_isReady_169 ?_
            exact rf_go (hj23 (0 : Int32)) (And.intro rfl (And.intro rfl (And.intro rfl True.intro)))
          refine rf_if_eq X (tgt := 169) rfl dX11_isReady_96 (fun c96 => rf_pos c96 ?_) (fun c96 => rf_neg c96 ?_)
          · exact rf_go hj95 (And.intro rfl (And.intro rfl (And.intro rfl True.intro)))
          refine rf_aload_n X rfl dX11_isReady_99 ?_
          refine rf_bind (fun g97 hg97 => ?_)
          refine rf_callVI X c_X11_263 ⟨Nat.le_of_ble_eq_true rfl, Nat.le_of_ble_eq_true rfl⟩ [] rfl (Nat.le_of_ble_eq_true rfl) hv17 (sX11_readsA l D v17 g16 g97 hg97) dX11_isReady_100 ?_
          refine rf_jn2 (fun i => RfX X l e below wI i 118 [some (tR (some a0)), some (tI p1), some (tI p2), none, none] [] g16) ?_ (fun j98 hj98 => ?_)
          · show RfX X l e below _ _ _ _ _ _
            refine rf_aload_n X rfl dX11_isReady_118 ?_
            refine rf_bind (fun g99 hg99 => ?_)
            refine rf_callVI X c_X11_266 ⟨Nat.le_of_ble_eq_true rfl, Nat.le_of_ble_eq_true rfl⟩ [] rfl (Nat.le_of_ble_eq_true rfl) hv17 (sX11_readsB l D v17 g16 g99 hg99) dX11_isReady_119 ?_
            refine rf_jn2 (fun i => RfX X l e below wI i 137 [some (tR (some a0)), some (tI p1), some (tI p2), none, none] [] g16) ?_ (fun j100 hj100 => ?_)
            · show RfX X l e below _ _ _ _ _ _
              refine rf_aload_n X rfl dX11_isReady_137 ?_
              refine rf_bind (fun g101 hg101 => ?_)
              refine rf_callVI X c_X11_269 ⟨Nat.le_of_ble_eq_true rfl, Nat.le_of_ble_eq_true rfl⟩ [] rfl (Nat.le_of_ble_eq_true rfl) hv17 (sX11_writesD l D v17 g16 g101 hg101) dX11_isReady_138 ?_
              refine rf_bind (fun v102 hv102 => ?_)
              refine rf_jn2 (fun i => RfX X l e below wI i 165 [some (tR (some a0)), some (tI p1), some (tI p2), none, none] [] g16) ?_ (fun j103 hj103 => ?_)
              · show RfX X l e below _ _ _ _ _ _
                refine rf_iconst X (1 : Int32) rfl dX11_isReady_165 ?_
                refine rf_goto X (tgt := 170) rfl dX11_isReady_166 ?_
                exact rf_go (hj23 (1 : Int32)) (And.intro rfl (And.intro rfl (And.intro rfl True.intro)))
              refine rf_br 165 153 [some (tR (some a0)), some (tI p1), some (tI p2), none, none] [some (tR (some a0)), some (tI p1), some (tI p2), none, none] [] [] (fun _ => ?_) (fun _ => ?_) (fun _ jT jF => ?_)
              · exact rf_go hj103 (And.intro rfl (And.intro rfl (And.intro rfl True.intro)))
              · refine rf_aload_n X rfl dX11_isReady_153 ?_
                refine rf_iload_n X rfl dX11_isReady_154 ?_
                refine rf_aload_n X rfl dX11_isReady_155 ?_
                refine rf_bind (fun v104 hv104 => ?_)
                refine rf_getI X fl_X11_225 hv104 dX11_isReady_156 ?_
                refine rf_bind (fun g105 hg105 => ?_)
                refine rf_callVI X c_X11_243 ⟨Nat.le_of_ble_eq_true rfl, Nat.le_of_ble_eq_true rfl⟩ [tI p2, tI v104] rfl (Nat.le_of_ble_eq_true rfl) hv17 (sX11_isThere l D v17 p2 v104 g16 g105 hg105) dX11_isReady_159 ?_
                refine rf_if_eq X (tgt := 169) rfl dX11_isReady_162 (fun c106 => rf_pos c106 ?_) (fun c106 => rf_neg c106 ?_)
                · exact rf_go hj95 (And.intro rfl (And.intro rfl (And.intro rfl True.intro)))
                exact rf_go hj103 (And.intro rfl (And.intro rfl (And.intro rfl True.intro)))
              refine rf_if_ne X (tgt := 153) rfl dX11_isReady_141 (fun c107 => ?_) (fun c107 => ?_)
              · exact jF (fun z => c107 z.1)
              refine rf_aload_n X rfl dX11_isReady_144 ?_
              refine rf_getI X fl_X11_220 hv102 dX11_isReady_145 ?_
              refine rf_bipush X (57 : Int32) rfl dX11_isReady_148 ?_
              refine rf_icmp_ne X (tgt := 165) rfl dX11_isReady_150 (fun c108 => ?_) (fun c108 => ?_)
              · exact jT ⟨c107, c108⟩
              exact jF (fun z => (fun z => z c108) z.2)
            refine rf_if_eq X (tgt := 137) rfl dX11_isReady_122 (fun c109 => rf_pos c109 ?_) (fun c109 => rf_neg c109 ?_)
            · exact rf_go hj100 (And.intro rfl (And.intro rfl (And.intro rfl True.intro)))
            refine rf_aload_n X rfl dX11_isReady_125 ?_
            refine rf_iload_n X rfl dX11_isReady_126 ?_
            refine rf_aload_n X rfl dX11_isReady_127 ?_
            refine rf_bind (fun v110 hv110 => ?_)
            refine rf_getI X fl_X11_231 hv110 dX11_isReady_128 ?_
            refine rf_bind (fun g111 hg111 => ?_)
            refine rf_callVI X c_X11_243 ⟨Nat.le_of_ble_eq_true rfl, Nat.le_of_ble_eq_true rfl⟩ [tI p2, tI v110] rfl (Nat.le_of_ble_eq_true rfl) hv17 (sX11_isThere l D v17 p2 v110 g16 g111 hg111) dX11_isReady_131 ?_
            refine rf_if_eq X (tgt := 169) rfl dX11_isReady_134 (fun c112 => rf_pos c112 ?_) (fun c112 => rf_neg c112 ?_)
            · exact rf_go hj95 (And.intro rfl (And.intro rfl (And.intro rfl True.intro)))
            exact rf_go hj100 (And.intro rfl (And.intro rfl (And.intro rfl True.intro)))
          refine rf_if_eq X (tgt := 118) rfl dX11_isReady_103 (fun c113 => rf_pos c113 ?_) (fun c113 => rf_neg c113 ?_)
          · exact rf_go hj98 (And.intro rfl (And.intro rfl (And.intro rfl True.intro)))
          refine rf_aload_n X rfl dX11_isReady_106 ?_
          refine rf_iload_n X rfl dX11_isReady_107 ?_
          refine rf_aload_n X rfl dX11_isReady_108 ?_
          refine rf_bind (fun v114 hv114 => ?_)
          refine rf_getI X fl_X11_228 hv114 dX11_isReady_109 ?_
          refine rf_bind (fun g115 hg115 => ?_)
          refine rf_callVI X c_X11_243 ⟨Nat.le_of_ble_eq_true rfl, Nat.le_of_ble_eq_true rfl⟩ [tI p2, tI v114] rfl (Nat.le_of_ble_eq_true rfl) hv17 (sX11_isThere l D v17 p2 v114 g16 g115 hg115) dX11_isReady_112 ?_
          refine rf_if_eq X (tgt := 169) rfl dX11_isReady_115 (fun c116 => rf_pos c116 ?_) (fun c116 => rf_neg c116 ?_)
          · exact rf_go hj95 (And.intro rfl (And.intro rfl (And.intro rfl True.intro)))
          exact rf_go hj98 (And.intro rfl (And.intro rfl (And.intro rfl True.intro)))
        refine rf_jn2 (fun i => RfX X l e below wI i 87 [some (tR (some a0)), some (tI p1), some (tI p2), none, none] [] g16) ?_ (fun j117 hj117 => ?_)
        · show RfX X l e below _ _ _ _ _ _
          refine rf_iconst X (1 : Int32) rfl dX11_isReady_87 ?_
          refine rf_goto X (tgt := 92) rfl dX11_isReady_88 ?_
          exact rf_go (hj21 (1 : Int32)) (And.intro rfl (And.intro rfl (And.intro rfl True.intro)))
        refine rf_icmp_lt X (tgt := 87) rfl dX11_isReady_72 (fun c118 => rf_pos c118 ?_) (fun c118 => rf_neg c118 ?_)
        · exact rf_go hj117 (And.intro rfl (And.intro rfl (And.intro rfl True.intro)))
        refine rf_aload_n X rfl dX11_isReady_75 ?_
        refine rf_iload_n X rfl dX11_isReady_76 ?_
        refine rf_aload_n X rfl dX11_isReady_77 ?_
        refine rf_getI X fl_X11_234 hv20 dX11_isReady_78 ?_
        refine rf_bind (fun g119 hg119 => ?_)
        refine rf_callVI X c_X11_260 ⟨Nat.le_of_ble_eq_true rfl, Nat.le_of_ble_eq_true rfl⟩ [tI p2, tI v20] rfl (Nat.le_of_ble_eq_true rfl) hv17 (sX11_isPredicateThere l D v17 p2 v20 g16 g119 hg119) dX11_isReady_81 ?_
        refine rf_if_eq X (tgt := 91) rfl dX11_isReady_84 (fun c120 => rf_pos c120 ?_) (fun c120 => rf_neg c120 ?_)
        · refine rf_iconst X (0 : Int32) rfl dX11_isReady_91 ?_
          exact rf_go (hj21 (0 : Int32)) (And.intro rfl (And.intro rfl (And.intro rfl True.intro)))
        exact rf_go hj117 (And.intro rfl (And.intro rfl (And.intro rfl True.intro)))
      refine rf_iconst X (1 : Int32) rfl dX11_isReady_64 ?_
      exact rf_zret X rfl dX11_isReady_65
    refine rf_if_lt X (tgt := 45) rfl dX11_isReady_35 (fun c121 => ?_) (fun c121 => ?_)
    · exact jT (Or.inl c121)
    refine rf_iload_n X rfl dX11_isReady_38 ?_
    refine rf_sipush X (128 : Int32) rfl dX11_isReady_39 ?_
    refine rf_icmp_lt X (tgt := 47) rfl dX11_isReady_42 (fun c122 => ?_) (fun c122 => ?_)
    · exact jF (fun z => z.elim c121 (fun z => z c122))
    exact jT (Or.inr c122)
  exact rf_go (hj3 g7.2) True.intro

theorem dX11_trap_0 : decode cX11_trap 0 = .ok (.aload_n 0, 1) := by decide +kernel
theorem dX11_trap_1 : decode cX11_trap 1 = .ok (.iconst 4, 1) := by decide +kernel
theorem dX11_trap_2 : decode cX11_trap 2 = .ok (.putfield 136, 3) := by decide +kernel
theorem dX11_trap_5 : decode cX11_trap 5 = .ok (.aload_n 0, 1) := by decide +kernel
theorem dX11_trap_6 : decode cX11_trap 6 = .ok (.iload_n 3, 1) := by decide +kernel
theorem dX11_trap_7 : decode cX11_trap 7 = .ok (.putfield 180, 3) := by decide +kernel
theorem dX11_trap_10 : decode cX11_trap 10 = .ok (.aload_n 0, 1) := by decide +kernel
theorem dX11_trap_11 : decode cX11_trap 11 = .ok (.aload_n 0, 1) := by decide +kernel
theorem dX11_trap_12 : decode cX11_trap 12 = .ok (.getfield 54, 3) := by decide +kernel
theorem dX11_trap_15 : decode cX11_trap 15 = .ok (.iload_n 1, 1) := by decide +kernel
theorem dX11_trap_16 : decode cX11_trap 16 = .ok (.iaload, 1) := by decide +kernel
theorem dX11_trap_17 : decode cX11_trap 17 = .ok (.putfield 183, 3) := by decide +kernel
theorem dX11_trap_20 : decode cX11_trap 20 = .ok (.aload_n 0, 1) := by decide +kernel
theorem dX11_trap_21 : decode cX11_trap 21 = .ok (.aload_n 0, 1) := by decide +kernel
theorem dX11_trap_22 : decode cX11_trap 22 = .ok (.getfield 7, 3) := by decide +kernel
theorem dX11_trap_25 : decode cX11_trap 25 = .ok (.aload_n 0, 1) := by decide +kernel
theorem dX11_trap_26 : decode cX11_trap 26 = .ok (.getfield 57, 3) := by decide +kernel
theorem dX11_trap_29 : decode cX11_trap 29 = .ok (.iload_n 1, 1) := by decide +kernel
theorem dX11_trap_30 : decode cX11_trap 30 = .ok (.iaload, 1) := by decide +kernel
theorem dX11_trap_31 : decode cX11_trap 31 = .ok (.imul, 1) := by decide +kernel
theorem dX11_trap_32 : decode cX11_trap 32 = .ok (.iload_n 2, 1) := by decide +kernel
theorem dX11_trap_33 : decode cX11_trap 33 = .ok (.iadd, 1) := by decide +kernel
theorem dX11_trap_34 : decode cX11_trap 34 = .ok (.putfield 186, 3) := by decide +kernel
theorem dX11_trap_37 : decode cX11_trap 37 = .ok (.aload_n 0, 1) := by decide +kernel
theorem dX11_trap_38 : decode cX11_trap 38 = .ok (.aload_n 0, 1) := by decide +kernel
theorem dX11_trap_39 : decode cX11_trap 39 = .ok (.getfield 73, 3) := by decide +kernel
theorem dX11_trap_42 : decode cX11_trap 42 = .ok (.iload_n 1, 1) := by decide +kernel
theorem dX11_trap_43 : decode cX11_trap 43 = .ok (.iload_n 2, 1) := by decide +kernel
theorem dX11_trap_44 : decode cX11_trap 44 = .ok (.invokestatic 211, 3) := by decide +kernel
theorem dX11_trap_47 : decode cX11_trap 47 = .ok (.iaload, 1) := by decide +kernel
theorem dX11_trap_48 : decode cX11_trap 48 = .ok (.putfield 189, 3) := by decide +kernel
theorem dX11_trap_51 : decode cX11_trap 51 = .ok (.return_, 1) := by decide +kernel
def fX11_trap (a0 : Nat) (p1 : Int32) (p2 : Int32) (p3 : Int32) (A : AH) : Option (AH) :=
(pI A (some a0) 11 11 (4 : Int32)).bind fun A1 =>
(pI A1 (some a0) 11 23 p3).bind fun A2 =>
(gR A2 (some a0) 11 31).bind fun v3 =>
(aI A2 v3 p1).bind fun v4 =>
(pI A2 (some a0) 11 24 v4).bind fun A5 =>
(gI A5 (some a0) 11 1).bind fun v6 =>
(gR A5 (some a0) 11 32).bind fun v7 =>
(aI A5 v7 p1).bind fun v8 =>
(pI A5 (some a0) 11 25 ((v6 * v8) + p2)).bind fun A9 =>
(gR A9 (some a0) 11 37).bind fun v10 =>
(fX11_thread p1 p2 A9).bind fun g11 =>
(aI A9 v10 g11).bind fun v12 =>
(pI A9 (some a0) 11 26 v12).bind fun A13 =>
some A13

set_option maxHeartbeats 4000000 in
set_option maxRecDepth 100000 in
theorem sX11_trap (l : Launch) (D : DE) (a0 : Nat) (p1 : Int32) (p2 : Int32) (p3 : Int32) (A : AH) (g : AH) (hg : fX11_trap a0 p1 p2 p3 A = some g) : Sm l D yX11_trap cX11_trap 4 none 1 21 [tR (some a0), tI p1, tI p2, tI p3] A (wU g).1 (wU g).2 := by
  refine Sm.of (ω := wU) (fX11_trap a0 p1 p2 p3 A) [some (tR (some a0)), some (tI p1), some (tI p2), some (tI p3)] (by decide) (Nat.le_of_ble_eq_true rfl) rfl hg ?_
  intro p e R s m args below meth c X hin
  have X : Cx D cX11_trap RX11 4 1 21 none p R s m args meth c := X
  unfold fX11_trap
  refine rf_aload_n X rfl dX11_trap_0 ?_
  refine rf_iconst X (4 : Int32) rfl dX11_trap_1 ?_
  refine rf_bind (fun A1 hA1 => ?_)
  refine rf_putI X fp_X11_136 (fun h => by cases h) hA1 dX11_trap_2 ?_
  refine rf_aload_n X rfl dX11_trap_5 ?_
  refine rf_iload_n X rfl dX11_trap_6 ?_
  refine rf_bind (fun A2 hA2 => ?_)
  refine rf_putI X fp_X11_180 (fun h => by cases h) hA2 dX11_trap_7 ?_
  refine rf_aload_n X rfl dX11_trap_10 ?_
  refine rf_aload_n X rfl dX11_trap_11 ?_
  refine rf_bind (fun v3 hv3 => ?_)
  refine rf_getR X fl_X11_54 hv3 dX11_trap_12 ?_
  refine rf_iload_n X rfl dX11_trap_15 ?_
  refine rf_bind (fun v4 hv4 => ?_)
  refine rf_iald X hv4 dX11_trap_16 ?_
  refine rf_bind (fun A5 hA5 => ?_)
  refine rf_putI X fp_X11_183 (fun h => by cases h) hA5 dX11_trap_17 ?_
  refine rf_aload_n X rfl dX11_trap_20 ?_
  refine rf_aload_n X rfl dX11_trap_21 ?_
  refine rf_bind (fun v6 hv6 => ?_)
  refine rf_getI X fl_X11_7 hv6 dX11_trap_22 ?_
  refine rf_aload_n X rfl dX11_trap_25 ?_
  refine rf_bind (fun v7 hv7 => ?_)
  refine rf_getR X fl_X11_57 hv7 dX11_trap_26 ?_
  refine rf_iload_n X rfl dX11_trap_29 ?_
  refine rf_bind (fun v8 hv8 => ?_)
  refine rf_iald X hv8 dX11_trap_30 ?_
  refine rf_imul X dX11_trap_31 ?_
  refine rf_iload_n X rfl dX11_trap_32 ?_
  refine rf_iadd X dX11_trap_33 ?_
  refine rf_bind (fun A9 hA9 => ?_)
  refine rf_putI X fp_X11_186 (fun h => by cases h) hA9 dX11_trap_34 ?_
  refine rf_aload_n X rfl dX11_trap_37 ?_
  refine rf_aload_n X rfl dX11_trap_38 ?_
  refine rf_bind (fun v10 hv10 => ?_)
  refine rf_getR X fl_X11_73 hv10 dX11_trap_39 ?_
  refine rf_iload_n X rfl dX11_trap_42 ?_
  refine rf_iload_n X rfl dX11_trap_43 ?_
  refine rf_bind (fun g11 hg11 => ?_)
  refine rf_callSI X c_X11_211 ⟨Nat.le_of_ble_eq_true rfl, Nat.le_of_ble_eq_true rfl⟩ [tI p1, tI p2] rfl (Nat.le_of_ble_eq_true rfl) (sX11_thread l D p1 p2 A9 g11 hg11) dX11_trap_44 ?_
  refine rf_bind (fun v12 hv12 => ?_)
  refine rf_iald X hv12 dX11_trap_47 ?_
  refine rf_bind (fun A13 hA13 => ?_)
  refine rf_putI X fp_X11_189 (fun h => by cases h) hA13 dX11_trap_48 ?_
  exact rf_vret X rfl dX11_trap_51

theorem dX11_has_0 : decode cX11_has 0 = .ok (.aload_n 0, 1) := by decide +kernel
theorem dX11_has_1 : decode cX11_has 1 = .ok (.getfield 70, 3) := by decide +kernel
theorem dX11_has_4 : decode cX11_has 4 = .ok (.iload_n 1, 1) := by decide +kernel
theorem dX11_has_5 : decode cX11_has 5 = .ok (.iaload, 1) := by decide +kernel
theorem dX11_has_6 : decode cX11_has 6 = .ok (.iload_n 2, 1) := by decide +kernel
theorem dX11_has_7 : decode cX11_has 7 = .ok (.iconst 3, 1) := by decide +kernel
theorem dX11_has_8 : decode cX11_has 8 = .ok (.iand, 1) := by decide +kernel
theorem dX11_has_9 : decode cX11_has 9 = .ok (.ishr, 1) := by decide +kernel
theorem dX11_has_10 : decode cX11_has 10 = .ok (.iconst 1, 1) := by decide +kernel
theorem dX11_has_11 : decode cX11_has 11 = .ok (.iand, 1) := by decide +kernel
theorem dX11_has_12 : decode cX11_has 12 = .ok (.iconst 1, 1) := by decide +kernel
theorem dX11_has_13 : decode cX11_has 13 = .ok (.if_icmp .ne 7, 3) := by decide +kernel
theorem dX11_has_16 : decode cX11_has 16 = .ok (.iconst 1, 1) := by decide +kernel
theorem dX11_has_17 : decode cX11_has 17 = .ok (.goto 4, 3) := by decide +kernel
theorem dX11_has_20 : decode cX11_has 20 = .ok (.iconst 0, 1) := by decide +kernel
theorem dX11_has_21 : decode cX11_has 21 = .ok (.ireturn, 1) := by decide +kernel
def fX11_has (a0 : Nat) (p1 : Int32) (p2 : Int32) (A : AH) : Option (Int32) :=
(gR A (some a0) 11 36).bind fun v1 =>
(aI A v1 p1).bind fun v2 =>
jn (fun (y4 : Int32) =>
some (nb y4)) fun j3 =>
if ((v2 >>> ((p2 &&& (3 : Int32)) &&& 31)) &&& (1 : Int32)) = (1 : Int32) then (j3 (1 : Int32)) else
j3 (0 : Int32)

set_option maxHeartbeats 4000000 in
set_option maxRecDepth 100000 in
theorem sX11_has (l : Launch) (D : DE) (a0 : Nat) (p1 : Int32) (p2 : Int32) (A : AH) (g : Int32) (hg : fX11_has a0 p1 p2 A = some g) : Sm l D yX11_has cX11_has 3 (some Jvm.ClassFile.FieldType.boolean) 0 0 [tR (some a0), tI p1, tI p2] A (qI A g).1 (qI A g).2 := by
  refine Sm.of (ω := qI A) (fX11_has a0 p1 p2 A) [some (tR (some a0)), some (tI p1), some (tI p2)] (by decide) (Nat.le_of_ble_eq_true rfl) rfl hg ?_
  intro p e R s m args below meth c X hin
  have X : Cx D cX11_has RX11 3 0 0 (some Jvm.ClassFile.FieldType.boolean) p R s m args meth c := X
  unfold fX11_has
  refine rf_aload_n X rfl dX11_has_0 ?_
  refine rf_bind (fun v1 hv1 => ?_)
  refine rf_getR X fl_X11_70 hv1 dX11_has_1 ?_
  refine rf_iload_n X rfl dX11_has_4 ?_
  refine rf_bind (fun v2 hv2 => ?_)
  refine rf_iald X hv2 dX11_has_5 ?_
  refine rf_iload_n X rfl dX11_has_6 ?_
  refine rf_iconst X (3 : Int32) rfl dX11_has_7 ?_
  refine rf_iand X dX11_has_8 ?_
  refine rf_ishr X dX11_has_9 ?_
  refine rf_iconst X (1 : Int32) rfl dX11_has_10 ?_
  refine rf_iand X dX11_has_11 ?_
  refine rf_iconst X (1 : Int32) rfl dX11_has_12 ?_
  refine rf_jn2 (fun i => ∀ (y4 : Int32), RfX X l e below (qI A) (i y4) 21 [none, none, none] [tI y4] A) ?_ (fun j3 hj3 => ?_)
  · intro y4
    exact rf_zret X rfl dX11_has_21
  refine rf_icmp_ne X (tgt := 20) rfl dX11_has_13 (fun c5 => rf_neg c5 ?_) (fun c5 => rf_pos c5 ?_)
  · refine rf_iconst X (0 : Int32) rfl dX11_has_20 ?_
    exact rf_go (hj3 (0 : Int32)) True.intro
  refine rf_iconst X (1 : Int32) rfl dX11_has_16 ?_
  refine rf_goto X (tgt := 21) rfl dX11_has_17 ?_
  exact rf_go (hj3 (1 : Int32)) True.intro

theorem dX11_reg_0 : decode cX11_reg 0 = .ok (.aload_n 0, 1) := by decide +kernel
theorem dX11_reg_1 : decode cX11_reg 1 = .ok (.getfield 67, 3) := by decide +kernel
theorem dX11_reg_4 : decode cX11_reg 4 = .ok (.bipush 16, 2) := by decide +kernel
theorem dX11_reg_6 : decode cX11_reg 6 = .ok (.iload_n 1, 1) := by decide +kernel
theorem dX11_reg_7 : decode cX11_reg 7 = .ok (.imul, 1) := by decide +kernel
theorem dX11_reg_8 : decode cX11_reg 8 = .ok (.iload_n 2, 1) := by decide +kernel
theorem dX11_reg_9 : decode cX11_reg 9 = .ok (.iadd, 1) := by decide +kernel
theorem dX11_reg_10 : decode cX11_reg 10 = .ok (.iaload, 1) := by decide +kernel
theorem dX11_reg_11 : decode cX11_reg 11 = .ok (.ireturn, 1) := by decide +kernel
def fX11_reg (a0 : Nat) (p1 : Int32) (p2 : Int32) (A : AH) : Option (Int32) :=
(gR A (some a0) 11 35).bind fun v1 =>
(aI A v1 (((16 : Int32) * p1) + p2)).bind fun v2 =>
some v2

set_option maxHeartbeats 4000000 in
set_option maxRecDepth 100000 in
theorem sX11_reg (l : Launch) (D : DE) (a0 : Nat) (p1 : Int32) (p2 : Int32) (A : AH) (g : Int32) (hg : fX11_reg a0 p1 p2 A = some g) : Sm l D yX11_reg cX11_reg 3 (some Jvm.ClassFile.FieldType.int) 0 0 [tR (some a0), tI p1, tI p2] A (qI A g).1 (qI A g).2 := by
  refine Sm.of (ω := qI A) (fX11_reg a0 p1 p2 A) [some (tR (some a0)), some (tI p1), some (tI p2)] (by decide) (Nat.le_of_ble_eq_true rfl) rfl hg ?_
  intro p e R s m args below meth c X hin
  have X : Cx D cX11_reg RX11 3 0 0 (some Jvm.ClassFile.FieldType.int) p R s m args meth c := X
  unfold fX11_reg
  refine rf_aload_n X rfl dX11_reg_0 ?_
  refine rf_bind (fun v1 hv1 => ?_)
  refine rf_getR X fl_X11_67 hv1 dX11_reg_1 ?_
  refine rf_bipush X (16 : Int32) rfl dX11_reg_4 ?_
  refine rf_iload_n X rfl dX11_reg_6 ?_
  refine rf_imul X dX11_reg_7 ?_
  refine rf_iload_n X rfl dX11_reg_8 ?_
  refine rf_iadd X dX11_reg_9 ?_
  refine rf_bind (fun v2 hv2 => ?_)
  refine rf_iald X hv2 dX11_reg_10 ?_
  exact rf_iret X rfl dX11_reg_11

theorem dX11_whyNot_0 : decode cX11_whyNot 0 = .ok (.aload_n 0, 1) := by decide +kernel
theorem dX11_whyNot_1 : decode cX11_whyNot 1 = .ok (.getfield 220, 3) := by decide +kernel
theorem dX11_whyNot_4 : decode cX11_whyNot 4 = .ok (.bipush 7, 2) := by decide +kernel
theorem dX11_whyNot_6 : decode cX11_whyNot 6 = .ok (.if_icmp .eq 12, 3) := by decide +kernel
theorem dX11_whyNot_9 : decode cX11_whyNot 9 = .ok (.aload_n 0, 1) := by decide +kernel
theorem dX11_whyNot_10 : decode cX11_whyNot 10 = .ok (.getfield 220, 3) := by decide +kernel
theorem dX11_whyNot_13 : decode cX11_whyNot 13 = .ok (.bipush 8, 2) := by decide +kernel
theorem dX11_whyNot_15 : decode cX11_whyNot 15 = .ok (.if_icmp .ne 17, 3) := by decide +kernel
theorem dX11_whyNot_18 : decode cX11_whyNot 18 = .ok (.aload_n 0, 1) := by decide +kernel
theorem dX11_whyNot_19 : decode cX11_whyNot 19 = .ok (.iload_n 1, 1) := by decide +kernel
theorem dX11_whyNot_20 : decode cX11_whyNot 20 = .ok (.aload_n 0, 1) := by decide +kernel
theorem dX11_whyNot_21 : decode cX11_whyNot 21 = .ok (.getfield 231, 3) := by decide +kernel
theorem dX11_whyNot_24 : decode cX11_whyNot 24 = .ok (.invokevirtual 284, 3) := by decide +kernel
theorem dX11_whyNot_27 : decode cX11_whyNot 27 = .ok (.ifCond .ne 5, 3) := by decide +kernel
theorem dX11_whyNot_30 : decode cX11_whyNot 30 = .ok (.iconst 3, 1) := by decide +kernel
theorem dX11_whyNot_31 : decode cX11_whyNot 31 = .ok (.ireturn, 1) := by decide +kernel
theorem dX11_whyNot_32 : decode cX11_whyNot 32 = .ok (.aload_n 0, 1) := by decide +kernel
theorem dX11_whyNot_33 : decode cX11_whyNot 33 = .ok (.iload_n 1, 1) := by decide +kernel
theorem dX11_whyNot_34 : decode cX11_whyNot 34 = .ok (.aload_n 0, 1) := by decide +kernel
theorem dX11_whyNot_35 : decode cX11_whyNot 35 = .ok (.getfield 228, 3) := by decide +kernel
theorem dX11_whyNot_38 : decode cX11_whyNot 38 = .ok (.invokevirtual 284, 3) := by decide +kernel
theorem dX11_whyNot_41 : decode cX11_whyNot 41 = .ok (.aload_n 0, 1) := by decide +kernel
theorem dX11_whyNot_42 : decode cX11_whyNot 42 = .ok (.getfield 237, 3) := by decide +kernel
theorem dX11_whyNot_45 : decode cX11_whyNot 45 = .ok (.iadd, 1) := by decide +kernel
theorem dX11_whyNot_46 : decode cX11_whyNot 46 = .ok (.istore_n 2, 1) := by decide +kernel
theorem dX11_whyNot_47 : decode cX11_whyNot 47 = .ok (.aload_n 0, 1) := by decide +kernel
theorem dX11_whyNot_48 : decode cX11_whyNot 48 = .ok (.invokevirtual 240, 3) := by decide +kernel
theorem dX11_whyNot_51 : decode cX11_whyNot 51 = .ok (.ifCond .eq 31, 3) := by decide +kernel
theorem dX11_whyNot_54 : decode cX11_whyNot 54 = .ok (.iload_n 2, 1) := by decide +kernel
theorem dX11_whyNot_55 : decode cX11_whyNot 55 = .ok (.ifCond .lt 23, 3) := by decide +kernel
theorem dX11_whyNot_58 : decode cX11_whyNot 58 = .ok (.iload_n 2, 1) := by decide +kernel
theorem dX11_whyNot_59 : decode cX11_whyNot 59 = .ok (.aload_n 0, 1) := by decide +kernel
theorem dX11_whyNot_60 : decode cX11_whyNot 60 = .ok (.invokevirtual 275, 3) := by decide +kernel
theorem dX11_whyNot_63 : decode cX11_whyNot 63 = .ok (.ifCond .eq 8, 3) := by decide +kernel
theorem dX11_whyNot_66 : decode cX11_whyNot 66 = .ok (.bipush 64, 2) := by decide +kernel
theorem dX11_whyNot_68 : decode cX11_whyNot 68 = .ok (.goto 7, 3) := by decide +kernel
theorem dX11_whyNot_71 : decode cX11_whyNot 71 = .ok (.aload_n 0, 1) := by decide +kernel
theorem dX11_whyNot_72 : decode cX11_whyNot 72 = .ok (.getfield 25, 3) := by decide +kernel
theorem dX11_whyNot_75 : decode cX11_whyNot 75 = .ok (.if_icmp .lt 7, 3) := by decide +kernel
theorem dX11_whyNot_78 : decode cX11_whyNot 78 = .ok (.iconst 4, 1) := by decide +kernel
theorem dX11_whyNot_79 : decode cX11_whyNot 79 = .ok (.goto 4, 3) := by decide +kernel
theorem dX11_whyNot_82 : decode cX11_whyNot 82 = .ok (.iconst 0, 1) := by decide +kernel
theorem dX11_whyNot_83 : decode cX11_whyNot 83 = .ok (.ireturn, 1) := by decide +kernel
def fX11_whyNot (a0 : Nat) (p1 : Int32) (A : AH) : Option (Int32) :=
(gI A (some a0) 11 52).bind fun v1 =>
jn ((gI A (some a0) 11 54).bind fun v3 =>
(rcv A (some a0) 11).bind fun v4 =>
(fX11_reg v4 p1 v3 A).bind fun g5 =>
(gI A (some a0) 11 57).bind fun v6 =>
(fX11_isMemory v4 A).bind fun g7 =>
jn (fun (y9 : Int32) =>
some y9) fun j8 =>
jn (j8 (0 : Int32)) fun j10 =>
if g7 = 0 then (j10) else
jn (j8 (4 : Int32)) fun j12 =>
if (g5 + v6) < 0 then (j12) else
(fX11_isShared v4 A).bind fun g14 =>
jn (fun (y16 : Int32) =>
if (g5 + v6) < y16 then (j10) else
j12) fun j15 =>
if g14 = 0 then ((gI A (some a0) 11 6).bind fun v19 =>
j15 v19) else
j15 (64 : Int32)) fun j2 =>
if ((v1 = (7 : Int32)) ∨ (v1 = (8 : Int32))) then ((gI A (some a0) 11 55).bind fun v20 =>
(rcv A (some a0) 11).bind fun v21 =>
(fX11_reg v21 p1 v20 A).bind fun g22 =>
if g22 = 0 then (some (3 : Int32)) else
j2) else
j2

set_option maxHeartbeats 4000000 in
set_option maxRecDepth 100000 in
theorem sX11_whyNot (l : Launch) (D : DE) (a0 : Nat) (p1 : Int32) (A : AH) (g : Int32) (hg : fX11_whyNot a0 p1 A = some g) : Sm l D yX11_whyNot cX11_whyNot 3 (some Jvm.ClassFile.FieldType.int) 1 22 [tR (some a0), tI p1] A (qI A g).1 (qI A g).2 := by
  refine Sm.of (ω := qI A) (fX11_whyNot a0 p1 A) [some (tR (some a0)), some (tI p1), none] (by decide) (Nat.le_of_ble_eq_true rfl) rfl hg ?_
  intro p e R s m args below meth c X hin
  have X : Cx D cX11_whyNot RX11 3 1 22 (some Jvm.ClassFile.FieldType.int) p R s m args meth c := X
  unfold fX11_whyNot
  refine rf_aload_n X rfl dX11_whyNot_0 ?_
  refine rf_bind (fun v1 hv1 => ?_)
  refine rf_getI X fl_X11_220 hv1 dX11_whyNot_1 ?_
  refine rf_bipush X (7 : Int32) rfl dX11_whyNot_4 ?_
  refine rf_jn2 (fun i => RfX X l e below (qI A) i 32 [some (tR (some a0)), some (tI p1), none] [] A) ?_ (fun j2 hj2 => ?_)
  · show RfX X l e below _ _ _ _ _ _
    refine rf_aload_n X rfl dX11_whyNot_32 ?_
    refine rf_iload_n X rfl dX11_whyNot_33 ?_
    refine rf_aload_n X rfl dX11_whyNot_34 ?_
    refine rf_bind (fun v3 hv3 => ?_)
    refine rf_getI X fl_X11_228 hv3 dX11_whyNot_35 ?_
    refine rf_bind (fun v4 hv4 => ?_)
    refine rf_bind (fun g5 hg5 => ?_)
    refine rf_callVI X c_X11_284 ⟨Nat.le_of_ble_eq_true rfl, Nat.le_of_ble_eq_true rfl⟩ [tI p1, tI v3] rfl (Nat.le_of_ble_eq_true rfl) hv4 (sX11_reg l D v4 p1 v3 A g5 hg5) dX11_whyNot_38 ?_
    refine rf_aload_n X rfl dX11_whyNot_41 ?_
    refine rf_bind (fun v6 hv6 => ?_)
    refine rf_getI X fl_X11_237 hv6 dX11_whyNot_42 ?_
    refine rf_iadd X dX11_whyNot_45 ?_
    refine rf_istore_n X (ls' := [some (tR (some a0)), some (tI p1), some (tI (g5 + v6))]) rfl (by decide) dX11_whyNot_46 ?_
    refine rf_aload_n X rfl dX11_whyNot_47 ?_
    refine rf_bind (fun g7 hg7 => ?_)
    refine rf_callVI X c_X11_240 ⟨Nat.le_of_ble_eq_true rfl, Nat.le_of_ble_eq_true rfl⟩ [] rfl (Nat.le_of_ble_eq_true rfl) hv4 (sX11_isMemory l D v4 A g7 hg7) dX11_whyNot_48 ?_
    refine rf_jn2 (fun i => ∀ (y9 : Int32), RfX X l e below (qI A) (i y9) 83 [none, none, none] [tI y9] A) ?_ (fun j8 hj8 => ?_)
    · intro y9
      exact rf_iret X rfl dX11_whyNot_83
    refine rf_jn2 (fun i => RfX X l e below (qI A) i 82 [none, none, none] [] A) ?_ (fun j10 hj10 => ?_)
    · show RfX X l e below _ _ _ _ _ _
      refine rf_iconst X (0 : Int32) rfl dX11_whyNot_82 ?_
      exact rf_go (hj8 (0 : Int32)) True.intro
    refine rf_if_eq X (tgt := 82) rfl dX11_whyNot_51 (fun c11 => rf_pos c11 ?_) (fun c11 => rf_neg c11 ?_)
    · exact rf_go hj10 True.intro
    refine rf_iload_n X rfl dX11_whyNot_54 ?_
    refine rf_jn2 (fun i => RfX X l e below (qI A) i 78 [none, none, none] [] A) ?_ (fun j12 hj12 => ?_)
    · show RfX X l e below _ _ _ _ _ _
      refine rf_iconst X (4 : Int32) rfl dX11_whyNot_78 ?_
      refine rf_goto X (tgt := 83) rfl dX11_whyNot_79 ?_
      exact rf_go (hj8 (4 : Int32)) True.intro
    refine rf_if_lt X (tgt := 78) rfl dX11_whyNot_55 (fun c13 => rf_pos c13 ?_) (fun c13 => rf_neg c13 ?_)
    · exact rf_go hj12 True.intro
    refine rf_iload_n X rfl dX11_whyNot_58 ?_
    refine rf_aload_n X rfl dX11_whyNot_59 ?_
    refine rf_bind (fun g14 hg14 => ?_)
    refine rf_callVI X c_X11_275 ⟨Nat.le_of_ble_eq_true rfl, Nat.le_of_ble_eq_true rfl⟩ [] rfl (Nat.le_of_ble_eq_true rfl) hv4 (sX11_isShared l D v4 A g14 hg14) dX11_whyNot_60 ?_
    refine rf_jn2 (fun i => ∀ (y16 : Int32), RfX X l e below (qI A) (i y16) 75 [none, none, none] [tI y16, tI (g5 + v6)] A) ?_ (fun j15 hj15 => ?_)
    · intro y16
      refine rf_icmp_lt X (tgt := 82) rfl dX11_whyNot_75 (fun c17 => rf_pos c17 ?_) (fun c17 => rf_neg c17 ?_)
      · exact rf_go hj10 True.intro
      exact rf_go hj12 True.intro
    refine rf_if_eq X (tgt := 71) rfl dX11_whyNot_63 (fun c18 => rf_pos c18 ?_) (fun c18 => rf_neg c18 ?_)
    · refine rf_aload_n X rfl dX11_whyNot_71 ?_
      refine rf_bind (fun v19 hv19 => ?_)
      refine rf_getI X fl_X11_25 hv19 dX11_whyNot_72 ?_
      exact rf_go (hj15 v19) True.intro
    refine rf_bipush X (64 : Int32) rfl dX11_whyNot_66 ?_
    refine rf_goto X (tgt := 75) rfl dX11_whyNot_68 ?_
    exact rf_go (hj15 (64 : Int32)) True.intro
  refine rf_br 18 32 [some (tR (some a0)), some (tI p1), none] [some (tR (some a0)), some (tI p1), none] [] [] (fun _ => ?_) (fun _ => ?_) (fun _ jT jF => ?_)
  · refine rf_aload_n X rfl dX11_whyNot_18 ?_
    refine rf_iload_n X rfl dX11_whyNot_19 ?_
    refine rf_aload_n X rfl dX11_whyNot_20 ?_
    refine rf_bind (fun v20 hv20 => ?_)
    refine rf_getI X fl_X11_231 hv20 dX11_whyNot_21 ?_
    refine rf_bind (fun v21 hv21 => ?_)
    refine rf_bind (fun g22 hg22 => ?_)
    refine rf_callVI X c_X11_284 ⟨Nat.le_of_ble_eq_true rfl, Nat.le_of_ble_eq_true rfl⟩ [tI p1, tI v20] rfl (Nat.le_of_ble_eq_true rfl) hv21 (sX11_reg l D v21 p1 v20 A g22 hg22) dX11_whyNot_24 ?_
    refine rf_if_ne X (tgt := 32) rfl dX11_whyNot_27 (fun c23 => rf_neg c23 ?_) (fun c23 => rf_pos c23 ?_)
    · exact rf_go hj2 (And.intro rfl (And.intro rfl True.intro))
    refine rf_iconst X (3 : Int32) rfl dX11_whyNot_30 ?_
    exact rf_iret X rfl dX11_whyNot_31
  · exact rf_go hj2 (And.intro rfl (And.intro rfl True.intro))
  refine rf_icmp_eq X (tgt := 18) rfl dX11_whyNot_6 (fun c24 => ?_) (fun c24 => ?_)
  · exact jT (Or.inl c24)
  refine rf_aload_n X rfl dX11_whyNot_9 ?_
  refine rf_getI X fl_X11_220 hv1 dX11_whyNot_10 ?_
  refine rf_bipush X (8 : Int32) rfl dX11_whyNot_13 ?_
  refine rf_icmp_ne X (tgt := 32) rfl dX11_whyNot_15 (fun c25 => ?_) (fun c25 => ?_)
  · exact jF (fun z => z.elim c24 c25)
  exact jT (Or.inr c25)

theorem dX11_asked_0 : decode cX11_asked 0 = .ok (.aload_n 0, 1) := by decide +kernel
theorem dX11_asked_1 : decode cX11_asked 1 = .ok (.iload_n 1, 1) := by decide +kernel
theorem dX11_asked_2 : decode cX11_asked 2 = .ok (.iload_n 2, 1) := by decide +kernel
theorem dX11_asked_3 : decode cX11_asked 3 = .ok (.invokestatic 211, 3) := by decide +kernel
theorem dX11_asked_6 : decode cX11_asked 6 = .ok (.aload_n 0, 1) := by decide +kernel
theorem dX11_asked_7 : decode cX11_asked 7 = .ok (.getfield 228, 3) := by decide +kernel
theorem dX11_asked_10 : decode cX11_asked 10 = .ok (.invokevirtual 284, 3) := by decide +kernel
theorem dX11_asked_13 : decode cX11_asked 13 = .ok (.aload_n 0, 1) := by decide +kernel
theorem dX11_asked_14 : decode cX11_asked 14 = .ok (.getfield 237, 3) := by decide +kernel
theorem dX11_asked_17 : decode cX11_asked 17 = .ok (.iadd, 1) := by decide +kernel
theorem dX11_asked_18 : decode cX11_asked 18 = .ok (.ireturn, 1) := by decide +kernel
def fX11_asked (a0 : Nat) (p1 : Int32) (p2 : Int32) (A : AH) : Option (Int32) :=
(fX11_thread p1 p2 A).bind fun g1 =>
(gI A (some a0) 11 54).bind fun v2 =>
(rcv A (some a0) 11).bind fun v3 =>
(fX11_reg v3 g1 v2 A).bind fun g4 =>
(gI A (some a0) 11 57).bind fun v5 =>
some (g4 + v5)

set_option maxHeartbeats 4000000 in
set_option maxRecDepth 100000 in
theorem sX11_asked (l : Launch) (D : DE) (a0 : Nat) (p1 : Int32) (p2 : Int32) (A : AH) (g : Int32) (hg : fX11_asked a0 p1 p2 A = some g) : Sm l D yX11_asked cX11_asked 3 (some Jvm.ClassFile.FieldType.int) 1 22 [tR (some a0), tI p1, tI p2] A (qI A g).1 (qI A g).2 := by
  refine Sm.of (ω := qI A) (fX11_asked a0 p1 p2 A) [some (tR (some a0)), some (tI p1), some (tI p2)] (by decide) (Nat.le_of_ble_eq_true rfl) rfl hg ?_
  intro p e R s m args below meth c X hin
  have X : Cx D cX11_asked RX11 3 1 22 (some Jvm.ClassFile.FieldType.int) p R s m args meth c := X
  unfold fX11_asked
  refine rf_aload_n X rfl dX11_asked_0 ?_
  refine rf_iload_n X rfl dX11_asked_1 ?_
  refine rf_iload_n X rfl dX11_asked_2 ?_
  refine rf_bind (fun g1 hg1 => ?_)
  refine rf_callSI X c_X11_211 ⟨Nat.le_of_ble_eq_true rfl, Nat.le_of_ble_eq_true rfl⟩ [tI p1, tI p2] rfl (Nat.le_of_ble_eq_true rfl) (sX11_thread l D p1 p2 A g1 hg1) dX11_asked_3 ?_
  refine rf_aload_n X rfl dX11_asked_6 ?_
  refine rf_bind (fun v2 hv2 => ?_)
  refine rf_getI X fl_X11_228 hv2 dX11_asked_7 ?_
  refine rf_bind (fun v3 hv3 => ?_)
  refine rf_bind (fun g4 hg4 => ?_)
  refine rf_callVI X c_X11_284 ⟨Nat.le_of_ble_eq_true rfl, Nat.le_of_ble_eq_true rfl⟩ [tI g1, tI v2] rfl (Nat.le_of_ble_eq_true rfl) hv3 (sX11_reg l D v3 g1 v2 A g4 hg4) dX11_asked_10 ?_
  refine rf_aload_n X rfl dX11_asked_13 ?_
  refine rf_bind (fun v5 hv5 => ?_)
  refine rf_getI X fl_X11_237 hv5 dX11_asked_14 ?_
  refine rf_iadd X dX11_asked_17 ?_
  exact rf_iret X rfl dX11_asked_18

