/-! 20.g27: printed by gen/parts.py -/
set_option maxRecDepth 100000
theorem fl_X11_162 : FLr RX11 162 11 16 := ⟨RX11, TX11, 60, "WarpMillModel", "", rfl, by decide, in_X11, Or.inl q1573, Or.inl rfl⟩
theorem fl_X11_165 : FLr RX11 165 11 17 := ⟨RX11, TX11, 60, "WarpMillModel", "", rfl, by decide, in_X11, Or.inl q1574, Or.inl rfl⟩
theorem fl_X11_168 : FLr RX11 168 11 18 := ⟨RX11, TX11, 60, "WarpMillModel", "", rfl, by decide, in_X11, Or.inl q1575, Or.inl rfl⟩
theorem c_X11_287 : CV RX11 287 11 yX11_trap cX11_trap 4 none 3 := ⟨TX11, 60, rfl, q1885, q1887, qs57, q111, q1888, ⟨by decide +kernel, by decide +kernel, by decide +kernel⟩⟩
theorem c_X11_297 : CV RX11 297 11 yX11_time cX11_time 3 (some Jvm.ClassFile.FieldType.int) 2 := ⟨TX11, 60, rfl, q1901, q1903, qs61, q111, q1904, ⟨by decide +kernel, by decide +kernel, by decide +kernel⟩⟩
theorem c_X11_300 : CV RX11 300 11 yX11_together cX11_together 4 none 1 := ⟨TX11, 60, rfl, q1925, q1927, qs67, q111, q1928, ⟨by decide +kernel, by decide +kernel, by decide +kernel⟩⟩
theorem c_X11_307 : CV RX11 307 11 yX11_settle cX11_settle 7 none 1 := ⟨TX11, 60, rfl, q1961, q1963, qs76, q111, q1964, ⟨by decide +kernel, by decide +kernel, by decide +kernel⟩⟩
theorem c_X11_303 : CV RX11 303 11 yX11_act cX11_act 8 none 4 := ⟨TX11, 60, rfl, q1929, q1931, qs68, q111, q1932, ⟨by decide +kernel, by decide +kernel, by decide +kernel⟩⟩
theorem c_X11_294 : CV RX11 294 11 yX11_whyNot cX11_whyNot 3 (some Jvm.ClassFile.FieldType.int) 1 := ⟨TX11, 60, rfl, q1893, q1895, qs59, q111, q1896, ⟨by decide +kernel, by decide +kernel, by decide +kernel⟩⟩
theorem c_X11_278 : CV RX11 278 11 yX11_isReady cX11_isReady 5 (some Jvm.ClassFile.FieldType.boolean) 2 := ⟨TX11, 60, rfl, q1819, q1821, qs41, q111, q1822, ⟨by decide +kernel, by decide +kernel, by decide +kernel⟩⟩
theorem c_X11_281 : CV RX11 281 11 yX11_go cX11_go 11 none 2 := ⟨TX11, 60, rfl, q1881, q1883, qs56, q111, q1884, ⟨by decide +kernel, by decide +kernel, by decide +kernel⟩⟩
theorem dX11_go_0 : decode cX11_go 0 = .ok (.aload_n 0, 1) := by decide +kernel
theorem dX11_go_1 : decode cX11_go 1 = .ok (.invokevirtual 250, 3) := by decide +kernel
theorem dX11_go_4 : decode cX11_go 4 = .ok (.istore_n 3, 1) := by decide +kernel
theorem dX11_go_5 : decode cX11_go 5 = .ok (.aload_n 0, 1) := by decide +kernel
theorem dX11_go_6 : decode cX11_go 6 = .ok (.getfield 73, 3) := by decide +kernel
theorem dX11_go_9 : decode cX11_go 9 = .ok (.iload_n 2, 1) := by decide +kernel
theorem dX11_go_10 : decode cX11_go 10 = .ok (.iload_n 3, 1) := by decide +kernel
theorem dX11_go_11 : decode cX11_go 11 = .ok (.invokestatic 211, 3) := by decide +kernel
theorem dX11_go_14 : decode cX11_go 14 = .ok (.iaload, 1) := by decide +kernel
theorem dX11_go_15 : decode cX11_go 15 = .ok (.istore 4, 2) := by decide +kernel
theorem dX11_go_17 : decode cX11_go 17 = .ok (.iload 4, 2) := by decide +kernel
theorem dX11_go_19 : decode cX11_go 19 = .ok (.ifCond .lt 11, 3) := by decide +kernel
theorem dX11_go_22 : decode cX11_go 22 = .ok (.iload 4, 2) := by decide +kernel
theorem dX11_go_24 : decode cX11_go 24 = .ok (.sipush 128, 3) := by decide +kernel
theorem dX11_go_27 : decode cX11_go 27 = .ok (.if_icmp .lt 11, 3) := by decide +kernel
theorem dX11_go_30 : decode cX11_go 30 = .ok (.aload_n 0, 1) := by decide +kernel
theorem dX11_go_31 : decode cX11_go 31 = .ok (.iload_n 2, 1) := by decide +kernel
theorem dX11_go_32 : decode cX11_go 32 = .ok (.iload_n 3, 1) := by decide +kernel
theorem dX11_go_33 : decode cX11_go 33 = .ok (.iconst 1, 1) := by decide +kernel
theorem dX11_go_34 : decode cX11_go 34 = .ok (.invokevirtual 287, 3) := by decide +kernel
theorem dX11_go_37 : decode cX11_go 37 = .ok (.return_, 1) := by decide +kernel
theorem dX11_go_38 : decode cX11_go 38 = .ok (.aload_n 0, 1) := by decide +kernel
theorem dX11_go_39 : decode cX11_go 39 = .ok (.aload_n 0, 1) := by decide +kernel
theorem dX11_go_40 : decode cX11_go 40 = .ok (.getfield 28, 3) := by decide +kernel
theorem dX11_go_43 : decode cX11_go 43 = .ok (.iload 4, 2) := by decide +kernel
theorem dX11_go_45 : decode cX11_go 45 = .ok (.laload, 1) := by decide +kernel
theorem dX11_go_46 : decode cX11_go 46 = .ok (.invokevirtual 253, 3) := by decide +kernel
theorem dX11_go_49 : decode cX11_go 49 = .ok (.aload_n 0, 1) := by decide +kernel
theorem dX11_go_50 : decode cX11_go 50 = .ok (.invokevirtual 257, 3) := by decide +kernel
theorem dX11_go_53 : decode cX11_go 53 = .ok (.ifCond .ne 11, 3) := by decide +kernel
theorem dX11_go_56 : decode cX11_go 56 = .ok (.aload_n 0, 1) := by decide +kernel
theorem dX11_go_57 : decode cX11_go 57 = .ok (.iload_n 2, 1) := by decide +kernel
theorem dX11_go_58 : decode cX11_go 58 = .ok (.iload_n 3, 1) := by decide +kernel
theorem dX11_go_59 : decode cX11_go 59 = .ok (.iconst 2, 1) := by decide +kernel
theorem dX11_go_60 : decode cX11_go 60 = .ok (.invokevirtual 287, 3) := by decide +kernel
theorem dX11_go_63 : decode cX11_go 63 = .ok (.return_, 1) := by decide +kernel
theorem dX11_go_64 : decode cX11_go 64 = .ok (.iconst 0, 1) := by decide +kernel
theorem dX11_go_65 : decode cX11_go 65 = .ok (.istore 5, 2) := by decide +kernel
theorem dX11_go_67 : decode cX11_go 67 = .ok (.iconst 0, 1) := by decide +kernel
theorem dX11_go_68 : decode cX11_go 68 = .ok (.istore 6, 2) := by decide +kernel
theorem dX11_go_70 : decode cX11_go 70 = .ok (.iconst 0, 1) := by decide +kernel
theorem dX11_go_71 : decode cX11_go 71 = .ok (.istore 7, 2) := by decide +kernel
theorem dX11_go_73 : decode cX11_go 73 = .ok (.iload 7, 2) := by decide +kernel
theorem dX11_go_75 : decode cX11_go 75 = .ok (.bipush 32, 2) := by decide +kernel
theorem dX11_go_77 : decode cX11_go 77 = .ok (.if_icmp .ge 111, 3) := by decide +kernel
theorem dX11_go_80 : decode cX11_go 80 = .ok (.aload_n 0, 1) := by decide +kernel
theorem dX11_go_81 : decode cX11_go 81 = .ok (.getfield 111, 3) := by decide +kernel
theorem dX11_go_84 : decode cX11_go 84 = .ok (.iload 7, 2) := by decide +kernel
theorem dX11_go_86 : decode cX11_go 86 = .ok (.aload_n 0, 1) := by decide +kernel
theorem dX11_go_87 : decode cX11_go 87 = .ok (.getfield 108, 3) := by decide +kernel
theorem dX11_go_90 : decode cX11_go 90 = .ok (.iload 7, 2) := by decide +kernel
theorem dX11_go_92 : decode cX11_go 92 = .ok (.baload, 1) := by decide +kernel
theorem dX11_go_93 : decode cX11_go 93 = .ok (.ifCond .eq 47, 3) := by decide +kernel
theorem dX11_go_96 : decode cX11_go 96 = .ok (.aload_n 0, 1) := by decide +kernel
theorem dX11_go_97 : decode cX11_go 97 = .ok (.getfield 234, 3) := by decide +kernel
theorem dX11_go_100 : decode cX11_go 100 = .ok (.bipush 8, 2) := by decide +kernel
theorem dX11_go_102 : decode cX11_go 102 = .ok (.if_icmp .lt 34, 3) := by decide +kernel
theorem dX11_go_105 : decode cX11_go 105 = .ok (.aload_n 0, 1) := by decide +kernel
theorem dX11_go_106 : decode cX11_go 106 = .ok (.iload_n 2, 1) := by decide +kernel
theorem dX11_go_107 : decode cX11_go 107 = .ok (.iload 7, 2) := by decide +kernel
theorem dX11_go_109 : decode cX11_go 109 = .ok (.invokestatic 211, 3) := by decide +kernel
theorem dX11_go_112 : decode cX11_go 112 = .ok (.aload_n 0, 1) := by decide +kernel
theorem dX11_go_113 : decode cX11_go 113 = .ok (.getfield 234, 3) := by decide +kernel
theorem dX11_go_116 : decode cX11_go 116 = .ok (.invokevirtual 291, 3) := by decide +kernel
theorem dX11_go_119 : decode cX11_go 119 = .ok (.aload_n 0, 1) := by decide +kernel
theorem dX11_go_120 : decode cX11_go 120 = .ok (.getfield 234, 3) := by decide +kernel
theorem dX11_go_123 : decode cX11_go 123 = .ok (.iconst 4, 1) := by decide +kernel
theorem dX11_go_124 : decode cX11_go 124 = .ok (.iand, 1) := by decide +kernel
theorem dX11_go_125 : decode cX11_go 125 = .ok (.ifCond .eq 7, 3) := by decide +kernel
theorem dX11_go_128 : decode cX11_go 128 = .ok (.iconst 1, 1) := by decide +kernel
theorem dX11_go_129 : decode cX11_go 129 = .ok (.goto 4, 3) := by decide +kernel
theorem dX11_go_132 : decode cX11_go 132 = .ok (.iconst 0, 1) := by decide +kernel
theorem dX11_go_133 : decode cX11_go 133 = .ok (.if_icmp .eq 7, 3) := by decide +kernel
theorem dX11_go_136 : decode cX11_go 136 = .ok (.iconst 1, 1) := by decide +kernel
theorem dX11_go_137 : decode cX11_go 137 = .ok (.goto 4, 3) := by decide +kernel
theorem dX11_go_140 : decode cX11_go 140 = .ok (.iconst 0, 1) := by decide +kernel
theorem dX11_go_141 : decode cX11_go 141 = .ok (.bastore, 1) := by decide +kernel
theorem dX11_go_142 : decode cX11_go 142 = .ok (.iload 5, 2) := by decide +kernel
theorem dX11_go_144 : decode cX11_go 144 = .ok (.aload_n 0, 1) := by decide +kernel
theorem dX11_go_145 : decode cX11_go 145 = .ok (.getfield 111, 3) := by decide +kernel
theorem dX11_go_148 : decode cX11_go 148 = .ok (.iload 7, 2) := by decide +kernel
theorem dX11_go_150 : decode cX11_go 150 = .ok (.baload, 1) := by decide +kernel
theorem dX11_go_151 : decode cX11_go 151 = .ok (.ifCond .eq 7, 3) := by decide +kernel
theorem dX11_go_154 : decode cX11_go 154 = .ok (.iconst 1, 1) := by decide +kernel
theorem dX11_go_155 : decode cX11_go 155 = .ok (.goto 4, 3) := by decide +kernel
theorem dX11_go_158 : decode cX11_go 158 = .ok (.iconst 0, 1) := by decide +kernel
theorem dX11_go_159 : decode cX11_go 159 = .ok (.iadd, 1) := by decide +kernel
theorem dX11_go_160 : decode cX11_go 160 = .ok (.istore 5, 2) := by decide +kernel
theorem dX11_go_162 : decode cX11_go 162 = .ok (.iload 6, 2) := by decide +kernel
theorem dX11_go_164 : decode cX11_go 164 = .ok (.aload_n 0, 1) := by decide +kernel
theorem dX11_go_165 : decode cX11_go 165 = .ok (.getfield 108, 3) := by decide +kernel
theorem dX11_go_168 : decode cX11_go 168 = .ok (.iload 7, 2) := by decide +kernel
theorem dX11_go_170 : decode cX11_go 170 = .ok (.baload, 1) := by decide +kernel
theorem dX11_go_171 : decode cX11_go 171 = .ok (.ifCond .eq 7, 3) := by decide +kernel
theorem dX11_go_174 : decode cX11_go 174 = .ok (.iconst 1, 1) := by decide +kernel
theorem dX11_go_175 : decode cX11_go 175 = .ok (.goto 4, 3) := by decide +kernel
theorem dX11_go_178 : decode cX11_go 178 = .ok (.iconst 0, 1) := by decide +kernel
theorem dX11_go_179 : decode cX11_go 179 = .ok (.iadd, 1) := by decide +kernel
theorem dX11_go_180 : decode cX11_go 180 = .ok (.istore 6, 2) := by decide +kernel
theorem dX11_go_182 : decode cX11_go 182 = .ok (.iinc 7 1, 3) := by decide +kernel
theorem dX11_go_185 : decode cX11_go 185 = .ok (.goto (-112), 3) := by decide +kernel
theorem dX11_go_188 : decode cX11_go 188 = .ok (.iconst 0, 1) := by decide +kernel
theorem dX11_go_189 : decode cX11_go 189 = .ok (.istore 7, 2) := by decide +kernel
theorem dX11_go_191 : decode cX11_go 191 = .ok (.iload 7, 2) := by decide +kernel
theorem dX11_go_193 : decode cX11_go 193 = .ok (.aload_n 0, 1) := by decide +kernel
theorem dX11_go_194 : decode cX11_go 194 = .ok (.getfield 7, 3) := by decide +kernel
theorem dX11_go_197 : decode cX11_go 197 = .ok (.if_icmp .ge 53, 3) := by decide +kernel
theorem dX11_go_200 : decode cX11_go 200 = .ok (.aload_n 0, 1) := by decide +kernel
theorem dX11_go_201 : decode cX11_go 201 = .ok (.getfield 111, 3) := by decide +kernel
theorem dX11_go_204 : decode cX11_go 204 = .ok (.iload 7, 2) := by decide +kernel
theorem dX11_go_206 : decode cX11_go 206 = .ok (.baload, 1) := by decide +kernel
theorem dX11_go_207 : decode cX11_go 207 = .ok (.ifCond .eq 16, 3) := by decide +kernel
theorem dX11_go_210 : decode cX11_go 210 = .ok (.aload_n 0, 1) := by decide +kernel
theorem dX11_go_211 : decode cX11_go 211 = .ok (.iload_n 2, 1) := by decide +kernel
theorem dX11_go_212 : decode cX11_go 212 = .ok (.iload 7, 2) := by decide +kernel
theorem dX11_go_214 : decode cX11_go 214 = .ok (.invokestatic 211, 3) := by decide +kernel
theorem dX11_go_217 : decode cX11_go 217 = .ok (.invokevirtual 294, 3) := by decide +kernel
theorem dX11_go_220 : decode cX11_go 220 = .ok (.goto 4, 3) := by decide +kernel
theorem dX11_go_223 : decode cX11_go 223 = .ok (.iconst 0, 1) := by decide +kernel
theorem dX11_go_224 : decode cX11_go 224 = .ok (.istore 8, 2) := by decide +kernel
theorem dX11_go_226 : decode cX11_go 226 = .ok (.iload 8, 2) := by decide +kernel
theorem dX11_go_228 : decode cX11_go 228 = .ok (.ifCond .ne 6, 3) := by decide +kernel
theorem dX11_go_231 : decode cX11_go 231 = .ok (.goto 13, 3) := by decide +kernel
theorem dX11_go_234 : decode cX11_go 234 = .ok (.aload_n 0, 1) := by decide +kernel
theorem dX11_go_235 : decode cX11_go 235 = .ok (.iload_n 2, 1) := by decide +kernel
theorem dX11_go_236 : decode cX11_go 236 = .ok (.iload 7, 2) := by decide +kernel
theorem dX11_go_238 : decode cX11_go 238 = .ok (.iload 8, 2) := by decide +kernel
theorem dX11_go_240 : decode cX11_go 240 = .ok (.invokevirtual 287, 3) := by decide +kernel
theorem dX11_go_243 : decode cX11_go 243 = .ok (.return_, 1) := by decide +kernel
theorem dX11_go_244 : decode cX11_go 244 = .ok (.iinc 7 1, 3) := by decide +kernel
theorem dX11_go_247 : decode cX11_go 247 = .ok (.goto (-56), 3) := by decide +kernel
theorem dX11_go_250 : decode cX11_go 250 = .ok (.aload_n 0, 1) := by decide +kernel
theorem dX11_go_251 : decode cX11_go 251 = .ok (.iload_n 1, 1) := by decide +kernel
theorem dX11_go_252 : decode cX11_go 252 = .ok (.iload_n 2, 1) := by decide +kernel
theorem dX11_go_253 : decode cX11_go 253 = .ok (.invokevirtual 297, 3) := by decide +kernel
theorem dX11_go_256 : decode cX11_go 256 = .ok (.istore 7, 2) := by decide +kernel
theorem dX11_go_258 : decode cX11_go 258 = .ok (.aload_n 0, 1) := by decide +kernel
theorem dX11_go_259 : decode cX11_go 259 = .ok (.dup, 1) := by decide +kernel
theorem dX11_go_260 : decode cX11_go 260 = .ok (.getfield 162, 3) := by decide +kernel
theorem dX11_go_263 : decode cX11_go 263 = .ok (.iconst 1, 1) := by decide +kernel
theorem dX11_go_264 : decode cX11_go 264 = .ok (.iadd, 1) := by decide +kernel
theorem dX11_go_265 : decode cX11_go 265 = .ok (.putfield 162, 3) := by decide +kernel
theorem dX11_go_268 : decode cX11_go 268 = .ok (.aload_n 0, 1) := by decide +kernel
theorem dX11_go_269 : decode cX11_go 269 = .ok (.getfield 51, 3) := by decide +kernel
theorem dX11_go_272 : decode cX11_go 272 = .ok (.iload_n 1, 1) := by decide +kernel
theorem dX11_go_273 : decode cX11_go 273 = .ok (.dup2, 1) := by decide +kernel
theorem dX11_go_274 : decode cX11_go 274 = .ok (.iaload, 1) := by decide +kernel
theorem dX11_go_275 : decode cX11_go 275 = .ok (.iconst 1, 1) := by decide +kernel
theorem dX11_go_276 : decode cX11_go 276 = .ok (.iadd, 1) := by decide +kernel
theorem dX11_go_277 : decode cX11_go 277 = .ok (.iastore, 1) := by decide +kernel
theorem dX11_go_278 : decode cX11_go 278 = .ok (.aload_n 0, 1) := by decide +kernel
theorem dX11_go_279 : decode cX11_go 279 = .ok (.dup, 1) := by decide +kernel
theorem dX11_go_280 : decode cX11_go 280 = .ok (.getfield 165, 3) := by decide +kernel
theorem dX11_go_283 : decode cX11_go 283 = .ok (.iload 5, 2) := by decide +kernel
theorem dX11_go_285 : decode cX11_go 285 = .ok (.iadd, 1) := by decide +kernel
theorem dX11_go_286 : decode cX11_go 286 = .ok (.putfield 165, 3) := by decide +kernel
theorem dX11_go_289 : decode cX11_go 289 = .ok (.aload_n 0, 1) := by decide +kernel
theorem dX11_go_290 : decode cX11_go 290 = .ok (.dup, 1) := by decide +kernel
theorem dX11_go_291 : decode cX11_go 291 = .ok (.getfield 168, 3) := by decide +kernel
theorem dX11_go_294 : decode cX11_go 294 = .ok (.iload 5, 2) := by decide +kernel
theorem dX11_go_296 : decode cX11_go 296 = .ok (.iload 6, 2) := by decide +kernel
theorem dX11_go_298 : decode cX11_go 298 = .ok (.if_icmp .ge 7, 3) := by decide +kernel
theorem dX11_go_301 : decode cX11_go 301 = .ok (.iconst 1, 1) := by decide +kernel
theorem dX11_go_302 : decode cX11_go 302 = .ok (.goto 4, 3) := by decide +kernel
theorem dX11_go_305 : decode cX11_go 305 = .ok (.iconst 0, 1) := by decide +kernel
theorem dX11_go_306 : decode cX11_go 306 = .ok (.iadd, 1) := by decide +kernel
theorem dX11_go_307 : decode cX11_go 307 = .ok (.putfield 168, 3) := by decide +kernel
theorem dX11_go_310 : decode cX11_go 310 = .ok (.aload_n 0, 1) := by decide +kernel
theorem dX11_go_311 : decode cX11_go 311 = .ok (.iload_n 2, 1) := by decide +kernel
theorem dX11_go_312 : decode cX11_go 312 = .ok (.invokevirtual 300, 3) := by decide +kernel
theorem dX11_go_315 : decode cX11_go 315 = .ok (.iconst 0, 1) := by decide +kernel
theorem dX11_go_316 : decode cX11_go 316 = .ok (.istore 8, 2) := by decide +kernel
theorem dX11_go_318 : decode cX11_go 318 = .ok (.iload 8, 2) := by decide +kernel
theorem dX11_go_320 : decode cX11_go 320 = .ok (.aload_n 0, 1) := by decide +kernel
theorem dX11_go_321 : decode cX11_go 321 = .ok (.getfield 7, 3) := by decide +kernel
theorem dX11_go_324 : decode cX11_go 324 = .ok (.if_icmp .ge 71, 3) := by decide +kernel
theorem dX11_go_327 : decode cX11_go 327 = .ok (.aload_n 0, 1) := by decide +kernel
theorem dX11_go_328 : decode cX11_go 328 = .ok (.getfield 108, 3) := by decide +kernel
theorem dX11_go_331 : decode cX11_go 331 = .ok (.iload 8, 2) := by decide +kernel
theorem dX11_go_333 : decode cX11_go 333 = .ok (.baload, 1) := by decide +kernel
theorem dX11_go_334 : decode cX11_go 334 = .ok (.ifCond .ne 6, 3) := by decide +kernel
theorem dX11_go_337 : decode cX11_go 337 = .ok (.goto 52, 3) := by decide +kernel
theorem dX11_go_340 : decode cX11_go 340 = .ok (.iload_n 2, 1) := by decide +kernel
theorem dX11_go_341 : decode cX11_go 341 = .ok (.iload 8, 2) := by decide +kernel
theorem dX11_go_343 : decode cX11_go 343 = .ok (.invokestatic 211, 3) := by decide +kernel
theorem dX11_go_346 : decode cX11_go 346 = .ok (.istore 9, 2) := by decide +kernel
theorem dX11_go_348 : decode cX11_go 348 = .ok (.aload_n 0, 1) := by decide +kernel
theorem dX11_go_349 : decode cX11_go 349 = .ok (.getfield 73, 3) := by decide +kernel
theorem dX11_go_352 : decode cX11_go 352 = .ok (.iload 9, 2) := by decide +kernel
theorem dX11_go_354 : decode cX11_go 354 = .ok (.iaload, 1) := by decide +kernel
theorem dX11_go_355 : decode cX11_go 355 = .ok (.istore 10, 2) := by decide +kernel
theorem dX11_go_357 : decode cX11_go 357 = .ok (.aload_n 0, 1) := by decide +kernel
theorem dX11_go_358 : decode cX11_go 358 = .ok (.getfield 73, 3) := by decide +kernel
theorem dX11_go_361 : decode cX11_go 361 = .ok (.iload 9, 2) := by decide +kernel
theorem dX11_go_363 : decode cX11_go 363 = .ok (.iload 10, 2) := by decide +kernel
theorem dX11_go_365 : decode cX11_go 365 = .ok (.iconst 1, 1) := by decide +kernel
theorem dX11_go_366 : decode cX11_go 366 = .ok (.iadd, 1) := by decide +kernel
theorem dX11_go_367 : decode cX11_go 367 = .ok (.iastore, 1) := by decide +kernel
theorem dX11_go_368 : decode cX11_go 368 = .ok (.aload_n 0, 1) := by decide +kernel
theorem dX11_go_369 : decode cX11_go 369 = .ok (.getfield 111, 3) := by decide +kernel
theorem dX11_go_372 : decode cX11_go 372 = .ok (.iload 8, 2) := by decide +kernel
theorem dX11_go_374 : decode cX11_go 374 = .ok (.baload, 1) := by decide +kernel
theorem dX11_go_375 : decode cX11_go 375 = .ok (.ifCond .eq 14, 3) := by decide +kernel
theorem dX11_go_378 : decode cX11_go 378 = .ok (.aload_n 0, 1) := by decide +kernel
theorem dX11_go_379 : decode cX11_go 379 = .ok (.iload_n 2, 1) := by decide +kernel
theorem dX11_go_380 : decode cX11_go 380 = .ok (.iload 8, 2) := by decide +kernel
theorem dX11_go_382 : decode cX11_go 382 = .ok (.iload 9, 2) := by decide +kernel
theorem dX11_go_384 : decode cX11_go 384 = .ok (.iload 10, 2) := by decide +kernel
theorem dX11_go_386 : decode cX11_go 386 = .ok (.invokevirtual 303, 3) := by decide +kernel
theorem dX11_go_389 : decode cX11_go 389 = .ok (.iinc 8 1, 3) := by decide +kernel
theorem dX11_go_392 : decode cX11_go 392 = .ok (.goto (-74), 3) := by decide +kernel
theorem dX11_go_395 : decode cX11_go 395 = .ok (.aload_n 0, 1) := by decide +kernel
theorem dX11_go_396 : decode cX11_go 396 = .ok (.invokevirtual 269, 3) := by decide +kernel
theorem dX11_go_399 : decode cX11_go 399 = .ok (.ifCond .eq 24, 3) := by decide +kernel
theorem dX11_go_402 : decode cX11_go 402 = .ok (.aload_n 0, 1) := by decide +kernel
theorem dX11_go_403 : decode cX11_go 403 = .ok (.getfield 63, 3) := by decide +kernel
theorem dX11_go_406 : decode cX11_go 406 = .ok (.bipush 20, 2) := by decide +kernel
theorem dX11_go_408 : decode cX11_go 408 = .ok (.iload_n 2, 1) := by decide +kernel
theorem dX11_go_409 : decode cX11_go 409 = .ok (.imul, 1) := by decide +kernel
theorem dX11_go_410 : decode cX11_go 410 = .ok (.aload_n 0, 1) := by decide +kernel
theorem dX11_go_411 : decode cX11_go 411 = .ok (.getfield 225, 3) := by decide +kernel
theorem dX11_go_414 : decode cX11_go 414 = .ok (.iadd, 1) := by decide +kernel
theorem dX11_go_415 : decode cX11_go 415 = .ok (.aload_n 0, 1) := by decide +kernel
theorem dX11_go_416 : decode cX11_go 416 = .ok (.getfield 159, 3) := by decide +kernel
theorem dX11_go_419 : decode cX11_go 419 = .ok (.iload 7, 2) := by decide +kernel
theorem dX11_go_421 : decode cX11_go 421 = .ok (.iadd, 1) := by decide +kernel
theorem dX11_go_422 : decode cX11_go 422 = .ok (.iastore, 1) := by decide +kernel
theorem dX11_go_423 : decode cX11_go 423 = .ok (.aload_n 0, 1) := by decide +kernel
theorem dX11_go_424 : decode cX11_go 424 = .ok (.invokevirtual 272, 3) := by decide +kernel
theorem dX11_go_427 : decode cX11_go 427 = .ok (.ifCond .eq 29, 3) := by decide +kernel
theorem dX11_go_430 : decode cX11_go 430 = .ok (.aload_n 0, 1) := by decide +kernel
theorem dX11_go_431 : decode cX11_go 431 = .ok (.getfield 63, 3) := by decide +kernel
theorem dX11_go_434 : decode cX11_go 434 = .ok (.bipush 20, 2) := by decide +kernel
theorem dX11_go_436 : decode cX11_go 436 = .ok (.iload_n 2, 1) := by decide +kernel
theorem dX11_go_437 : decode cX11_go 437 = .ok (.imul, 1) := by decide +kernel
theorem dX11_go_438 : decode cX11_go 438 = .ok (.bipush 16, 2) := by decide +kernel
theorem dX11_go_440 : decode cX11_go 440 = .ok (.iadd, 1) := by decide +kernel
theorem dX11_go_441 : decode cX11_go 441 = .ok (.aload_n 0, 1) := by decide +kernel
theorem dX11_go_442 : decode cX11_go 442 = .ok (.getfield 225, 3) := by decide +kernel
theorem dX11_go_445 : decode cX11_go 445 = .ok (.iconst 3, 1) := by decide +kernel
theorem dX11_go_446 : decode cX11_go 446 = .ok (.iand, 1) := by decide +kernel
theorem dX11_go_447 : decode cX11_go 447 = .ok (.iadd, 1) := by decide +kernel
theorem dX11_go_448 : decode cX11_go 448 = .ok (.aload_n 0, 1) := by decide +kernel
theorem dX11_go_449 : decode cX11_go 449 = .ok (.getfield 159, 3) := by decide +kernel
theorem dX11_go_452 : decode cX11_go 452 = .ok (.iload 7, 2) := by decide +kernel
theorem dX11_go_454 : decode cX11_go 454 = .ok (.iadd, 1) := by decide +kernel
theorem dX11_go_455 : decode cX11_go 455 = .ok (.iastore, 1) := by decide +kernel
theorem dX11_go_456 : decode cX11_go 456 = .ok (.aload_n 0, 1) := by decide +kernel
theorem dX11_go_457 : decode cX11_go 457 = .ok (.invokevirtual 240, 3) := by decide +kernel
theorem dX11_go_460 : decode cX11_go 460 = .ok (.ifCond .eq 16, 3) := by decide +kernel
theorem dX11_go_463 : decode cX11_go 463 = .ok (.aload_n 0, 1) := by decide +kernel
theorem dX11_go_464 : decode cX11_go 464 = .ok (.getfield 60, 3) := by decide +kernel
theorem dX11_go_467 : decode cX11_go 467 = .ok (.iload_n 2, 1) := by decide +kernel
theorem dX11_go_468 : decode cX11_go 468 = .ok (.aload_n 0, 1) := by decide +kernel
theorem dX11_go_469 : decode cX11_go 469 = .ok (.getfield 159, 3) := by decide +kernel
theorem dX11_go_472 : decode cX11_go 472 = .ok (.iload 7, 2) := by decide +kernel
theorem dX11_go_474 : decode cX11_go 474 = .ok (.iadd, 1) := by decide +kernel
theorem dX11_go_475 : decode cX11_go 475 = .ok (.iastore, 1) := by decide +kernel
theorem dX11_go_476 : decode cX11_go 476 = .ok (.aload_n 0, 1) := by decide +kernel
theorem dX11_go_477 : decode cX11_go 477 = .ok (.getfield 220, 3) := by decide +kernel
theorem dX11_go_480 : decode cX11_go 480 = .ok (.iconst 2, 1) := by decide +kernel
theorem dX11_go_481 : decode cX11_go 481 = .ok (.if_icmp .ge 13, 3) := by decide +kernel
theorem dX11_go_484 : decode cX11_go 484 = .ok (.aload_n 0, 1) := by decide +kernel
theorem dX11_go_485 : decode cX11_go 485 = .ok (.aload_n 0, 1) := by decide +kernel
theorem dX11_go_486 : decode cX11_go 486 = .ok (.getfield 54, 3) := by decide +kernel
theorem dX11_go_489 : decode cX11_go 489 = .ok (.iload_n 2, 1) := by decide +kernel
theorem dX11_go_490 : decode cX11_go 490 = .ok (.iaload, 1) := by decide +kernel
theorem dX11_go_491 : decode cX11_go 491 = .ok (.invokevirtual 307, 3) := by decide +kernel
theorem dX11_go_494 : decode cX11_go 494 = .ok (.return_, 1) := by decide +kernel
def fX11_go (n : Nat) (a0 : Nat) (p1 : Int32) (p2 : Int32) (A : AH) : Option (AH) :=
(rcv A (some a0) 11).bind fun v1 =>
(fX11_firstOfGroup n v1 A).bind fun g2 =>
(gR A (some a0) 11 37).bind fun v3 =>
(fX11_thread p2 g2 A).bind fun g4 =>
(aI A v3 g4).bind fun v5 =>
if ((v5 < 0) ∨ (¬ (v5 < (128 : Int32)))) then ((fX11_trap v1 p2 g2 (1 : Int32) A).bind fun g6 =>
some g6) else
(gR A (some a0) 11 7).bind fun v7 =>
(aL A v7 v5).bind fun v8 =>
(fX11_take v1 v8 A).bind fun g9 =>
(rcv g9 (some a0) 11).bind fun v10 =>
(fX11_isWord v10 g9).bind fun g11 =>
if g11 = 0 then ((fX11_trap v10 p2 g2 (2 : Int32) g9).bind fun g13 =>
some g13) else
jl (fixG (fun _ _ _ _ => none) (fun (rc19 : (Int32) → (Int32) → (Int32) → (AH) → Option (AH)) (x15 : Int32) (x16 : Int32) (x17 : Int32) (A18 : AH) =>
if (32 : Int32) ≤ x17 then (jl (fixG (fun _ => none) (fun (rc23 : (Int32) → Option (AH)) (x22 : Int32) =>
(gI A18 (some a0) 11 1).bind fun v24 =>
if v24 ≤ x22 then ((rcv A18 (some a0) 11).bind fun v26 =>
(fX11_time n v26 p1 p2 A18).bind fun g27 =>
(gI g27.2 (some a0) 11 16).bind fun v28 =>
(pI g27.2 (some a0) 11 16 (v28 + (1 : Int32))).bind fun A29 =>
(gR A29 (some a0) 11 30).bind fun v30 =>
(aI A29 v30 p1).bind fun v31 =>
(sI A29 v30 p1 (v31 + (1 : Int32))).bind fun A32 =>
(gI A32 (some a0) 11 17).bind fun v33 =>
(pI A32 (some a0) 11 17 (v33 + x15)).bind fun A34 =>
(gI A34 (some a0) 11 18).bind fun v35 =>
jn (fun (y37 : Int32) =>
(pI A34 (some a0) 11 18 (v35 + y37)).bind fun A38 =>
(rcv A38 (some a0) 11).bind fun v39 =>
(fX11_together n v39 p2 A38).bind fun g40 =>
jl (fixG (fun _ _ => none) (fun (rc44 : (Int32) → (AH) → Option (AH)) (x42 : Int32) (A43 : AH) =>
(gI A43 (some a0) 11 1).bind fun v45 =>
if v45 ≤ x42 then ((rcv A43 (some a0) 11).bind fun v47 =>
(fX11_writesD v47 A43).bind fun g48 =>
jn (fun (A50 : AH) =>
(rcv A50 (some a0) 11).bind fun v51 =>
(fX11_writesPredicate v51 A50).bind fun g52 =>
jn (fun (A54 : AH) =>
(rcv A54 (some a0) 11).bind fun v55 =>
(fX11_isMemory v55 A54).bind fun g56 =>
jn (fun (A58 : AH) =>
(gI A58 (some a0) 11 52).bind fun v59 =>
jn (fun (A61 : AH) =>
some A61) fun j60 =>
if (2 : Int32) ≤ v59 then (j60 A58) else
(gR A58 (some a0) 11 31).bind fun v63 =>
(aI A58 v63 p2).bind fun v64 =>
(rcv A58 (some a0) 11).bind fun v65 =>
(fX11_settle n v65 v64 A58).bind fun g66 =>
j60 g66) fun j57 =>
if g56 = 0 then (j57 A54) else
(gR A54 (some a0) 11 33).bind fun v68 =>
(gI A54 (some a0) 11 15).bind fun v69 =>
(sI A54 v68 p2 (v69 + g27.1)).bind fun A70 =>
j57 A70) fun j53 =>
if g52 = 0 then (j53 A50) else
(gR A50 (some a0) 11 34).bind fun v72 =>
(gI A50 (some a0) 11 53).bind fun v73 =>
(gI A50 (some a0) 11 15).bind fun v74 =>
(sI A50 v72 ((((20 : Int32) * p2) + (16 : Int32)) + (v73 &&& (3 : Int32))) (v74 + g27.1)).bind fun A75 =>
j53 A75) fun j49 =>
if g48 = 0 then (j49 A43) else
(gR A43 (some a0) 11 34).bind fun v77 =>
(gI A43 (some a0) 11 53).bind fun v78 =>
(gI A43 (some a0) 11 15).bind fun v79 =>
(sI A43 v77 (((20 : Int32) * p2) + v78) (v79 + g27.1)).bind fun A80 =>
j49 A80) else
(gR A43 (some a0) 11 50).bind fun v81 =>
(aZ A43 v81 x42).bind fun v82 =>
jn (fun (A84 : AH) =>
rc44 (x42 + (1 : Int32)) A84) fun j83 =>
if v82 = 0 then (j83 A43) else
(fX11_thread p2 x42 A43).bind fun g86 =>
(gR A43 (some a0) 11 37).bind fun v87 =>
(aI A43 v87 g86).bind fun v88 =>
(sI A43 v87 g86 (v88 + (1 : Int32))).bind fun A89 =>
(gR A89 (some a0) 11 51).bind fun v90 =>
(aZ A89 v90 x42).bind fun v91 =>
if v91 = 0 then (j83 A89) else
(rcv A89 (some a0) 11).bind fun v93 =>
(fX11_act v93 p2 x42 g86 v88 A89).bind fun g94 =>
j83 g94) n) fun j41 =>
j41 (0 : Int32) g40) fun j36 =>
if x16 ≤ x15 then (j36 (0 : Int32)) else
j36 (1 : Int32)) else
(gR A18 (some a0) 11 51).bind fun v96 =>
(aZ A18 v96 x22).bind fun v97 =>
jn (fun (y99 : Int32) =>
if y99 = 0 then (rc23 (x22 + (1 : Int32))) else
(rcv A18 (some a0) 11).bind fun v101 =>
(fX11_trap v101 p2 x22 y99 A18).bind fun g102 =>
some g102) fun j98 =>
if v97 = 0 then (j98 (0 : Int32)) else
(fX11_thread p2 x22 A18).bind fun g104 =>
(rcv A18 (some a0) 11).bind fun v105 =>
(fX11_whyNot v105 g104 A18).bind fun g106 =>
j98 g106) n) fun j21 =>
j21 (0 : Int32)) else
(gR A18 (some a0) 11 51).bind fun v107 =>
(gR A18 (some a0) 11 50).bind fun v108 =>
(aZ A18 v108 x17).bind fun v109 =>
jn (fun (y111 : Int32) =>
(sZ A18 v107 x17 y111).bind fun A112 =>
(gR A112 (some a0) 11 51).bind fun v113 =>
(aZ A112 v113 x17).bind fun v114 =>
jn (fun (y116 : Int32) =>
(gR A112 (some a0) 11 50).bind fun v117 =>
(aZ A112 v117 x17).bind fun v118 =>
jn (fun (y120 : Int32) =>
rc19 (x15 + y116) (x16 + y120) (x17 + (1 : Int32)) A112) fun j119 =>
if v118 = 0 then (j119 (0 : Int32)) else
j119 (1 : Int32)) fun j115 =>
if v114 = 0 then (j115 (0 : Int32)) else
j115 (1 : Int32)) fun j110 =>
jn (j110 (0 : Int32)) fun j123 =>
if v109 = 0 then (j123) else
(gI A18 (some a0) 11 56).bind fun v125 =>
jn (j110 (1 : Int32)) fun j126 =>
if v125 < (8 : Int32) then (j126) else
(fX11_thread p2 x17 A18).bind fun g128 =>
(rcv A18 (some a0) 11).bind fun v129 =>
(fX11_has v129 g128 v125 A18).bind fun g130 =>
jn (fun (y132 : Int32) =>
if g130 = y132 then (j123) else
j126) fun j131 =>
if (v125 &&& (4 : Int32)) = 0 then (j131 (0 : Int32)) else
j131 (1 : Int32)) n) fun j14 =>
j14 (0 : Int32) (0 : Int32) (0 : Int32) g9

set_option maxHeartbeats 4000000 in
set_option maxRecDepth 100000 in
theorem sX11_go (l : Launch) (D : DE) (n : Nat) (a0 : Nat) (p1 : Int32) (p2 : Int32) (A : AH) (g : AH) (hg : fX11_go n a0 p1 p2 A = some g) : Sm l D yX11_go cX11_go 11 none 5 118 [tR (some a0), tI p1, tI p2] A (wU g).1 (wU g).2 := by
  refine Sm.of (ω := wU) (fX11_go n a0 p1 p2 A) [some (tR (some a0)), some (tI p1), some (tI p2), none, none, none, none, none, none, none, none] (by decide) (Nat.le_of_ble_eq_true rfl) rfl hg ?_
  intro p e R s m args below meth c X hin
  have X : Cx D cX11_go RX11 11 5 118 none p R s m args meth c := X
  unfold fX11_go
  refine rf_aload_n X rfl dX11_go_0 ?_
  refine rf_bind (fun v1 hv1 => ?_)
  refine rf_bind (fun g2 hg2 => ?_)
  refine rf_callVI X c_X11_250 ⟨Nat.le_of_ble_eq_true rfl, Nat.le_of_ble_eq_true rfl⟩ [] rfl (Nat.le_of_ble_eq_true rfl) hv1 (sX11_firstOfGroup l D n v1 A g2 hg2) dX11_go_1 ?_
  refine rf_istore_n X (ls' := [some (tR (some a0)), some (tI p1), some (tI p2), some (tI g2), none, none, none, none, none, none, none]) rfl (by decide) dX11_go_4 ?_
  refine rf_aload_n X rfl dX11_go_5 ?_
  refine rf_bind (fun v3 hv3 => ?_)
  refine rf_getR X fl_X11_73 hv3 dX11_go_6 ?_
  refine rf_iload_n X rfl dX11_go_9 ?_
  refine rf_iload_n X rfl dX11_go_10 ?_
  refine rf_bind (fun g4 hg4 => ?_)
  refine rf_callSI X c_X11_211 ⟨Nat.le_of_ble_eq_true rfl, Nat.le_of_ble_eq_true rfl⟩ [tI p2, tI g2] rfl (Nat.le_of_ble_eq_true rfl) (sX11_thread l D p2 g2 A g4 hg4) dX11_go_11 ?_
  refine rf_bind (fun v5 hv5 => ?_)
  refine rf_iald X hv5 dX11_go_14 ?_
  refine rf_istore X (ls' := [some (tR (some a0)), some (tI p1), some (tI p2), some (tI g2), some (tI v5), none, none, none, none, none, none]) rfl (by decide) dX11_go_15 ?_
  refine rf_iload X rfl dX11_go_17 ?_
  refine rf_br 30 38 [some (tR (some a0)), some (tI p1), some (tI p2), some (tI g2), some (tI v5), none, none, none, none, none, none] [some (tR (some a0)), some (tI p1), some (tI p2), some (tI g2), some (tI v5), none, none, none, none, none, none] [] [] (fun _ => ?_) (fun _ => ?_) (fun _ jT jF => ?_)
  · refine rf_aload_n X rfl dX11_go_30 ?_
    refine rf_iload_n X rfl dX11_go_31 ?_
    refine rf_iload_n X rfl dX11_go_32 ?_
    refine rf_iconst X (1 : Int32) rfl dX11_go_33 ?_
    refine rf_bind (fun g6 hg6 => ?_)
    refine rf_callVU X c_X11_287 ⟨Nat.le_of_ble_eq_true rfl, Nat.le_of_ble_eq_true rfl⟩ [tI p2, tI g2, tI (1 : Int32)] rfl (Nat.le_of_ble_eq_true rfl) hv1 (sX11_trap l D v1 p2 g2 (1 : Int32) A g6 hg6) dX11_go_34 ?_
    exact rf_vret X rfl dX11_go_37
  · refine rf_aload_n X rfl dX11_go_38 ?_
    refine rf_aload_n X rfl dX11_go_39 ?_
    refine rf_bind (fun v7 hv7 => ?_)
    refine rf_getR X fl_X11_28 hv7 dX11_go_40 ?_
    refine rf_iload X rfl dX11_go_43 ?_
    refine rf_bind (fun v8 hv8 => ?_)
    refine rf_lald X hv8 dX11_go_45 ?_
    refine rf_bind (fun g9 hg9 => ?_)
    refine rf_callVU X c_X11_253 ⟨Nat.le_of_ble_eq_true rfl, Nat.le_of_ble_eq_true rfl⟩ [tL v8] rfl (Nat.le_of_ble_eq_true rfl) hv1 (sX11_take l D v1 v8 A g9 hg9) dX11_go_46 ?_
    refine rf_aload_n X rfl dX11_go_49 ?_
    refine rf_bind (fun v10 hv10 => ?_)
    refine rf_bind (fun g11 hg11 => ?_)
    refine rf_callVI X c_X11_257 ⟨Nat.le_of_ble_eq_true rfl, Nat.le_of_ble_eq_true rfl⟩ [] rfl (Nat.le_of_ble_eq_true rfl) hv10 (sX11_isWord l D v10 g9 g11 hg11) dX11_go_50 ?_
    refine rf_if_ne X (tgt := 64) rfl dX11_go_53 (fun c12 => rf_neg c12 ?_) (fun c12 => rf_pos c12 ?_)
    · refine rf_iconst X (0 : Int32) rfl dX11_go_64 ?_
      refine rf_istore X (ls' := [some (tR (some a0)), some (tI p1), some (tI p2), some (tI g2), some (tI v5), some (tI (0 : Int32)), none, none, none, none, none]) rfl (by decide) dX11_go_65 ?_
      refine rf_iconst X (0 : Int32) rfl dX11_go_67 ?_
      refine rf_istore X (ls' := [some (tR (some a0)), some (tI p1), some (tI p2), some (tI g2), some (tI v5), some (tI (0 : Int32)), some (tI (0 : Int32)), none, none, none, none]) rfl (by decide) dX11_go_68 ?_
      refine rf_iconst X (0 : Int32) rfl dX11_go_70 ?_
      refine rf_istore X (ls' := [some (tR (some a0)), some (tI p1), some (tI p2), some (tI g2), some (tI v5), some (tI (0 : Int32)), some (tI (0 : Int32)), some (tI (0 : Int32)), none, none, none]) rfl (by decide) dX11_go_71 ?_
      refine rf_fix (fun i => ∀ (x15 : Int32) (x16 : Int32) (x17 : Int32) (A18 : AH), RfX X l e below wU (i x15 x16 x17 A18) 73 [some (tR (some a0)), some (tI p1), some (tI p2), none, none, some (tI x15), some (tI x16), some (tI x17), none, none, none] [] A18) (fun _ _ _ _ => rf_none) (fun rc19 hrc19 => ?_) (fun j14 hj14 => ?_)
      · intro x15 x16 x17 A18
        refine rf_iload X rfl dX11_go_73 ?_
        refine rf_bipush X (32 : Int32) rfl dX11_go_75 ?_
        refine rf_icmp_ge X (tgt := 188) rfl dX11_go_77 (fun c20 => rf_pos c20 ?_) (fun c20 => rf_neg c20 ?_)
        · refine rf_iconst X (0 : Int32) rfl dX11_go_188 ?_
          refine rf_istore X (ls' := [some (tR (some a0)), some (tI p1), some (tI p2), none, none, some (tI x15), some (tI x16), some (tI (0 : Int32)), none, none, none]) rfl (by decide) dX11_go_189 ?_
          refine rf_fix (fun i => ∀ (x22 : Int32), RfX X l e below wU (i x22) 191 [some (tR (some a0)), some (tI p1), some (tI p2), none, none, some (tI x15), some (tI x16), some (tI x22), none, none, none] [] A18) (fun _ => rf_none) (fun rc23 hrc23 => ?_) (fun j21 hj21 => ?_)
          · intro x22
            refine rf_iload X rfl dX11_go_191 ?_
            refine rf_aload_n X rfl dX11_go_193 ?_
            refine rf_bind (fun v24 hv24 => ?_)
            refine rf_getI X fl_X11_7 hv24 dX11_go_194 ?_
            refine rf_icmp_ge X (tgt := 250) rfl dX11_go_197 (fun c25 => rf_pos c25 ?_) (fun c25 => rf_neg c25 ?_)
            · refine rf_aload_n X rfl dX11_go_250 ?_
              refine rf_iload_n X rfl dX11_go_251 ?_
              refine rf_iload_n X rfl dX11_go_252 ?_
              refine rf_bind (fun v26 hv26 => ?_)
              refine rf_bind (fun g27 hg27 => ?_)
              refine rf_callVI X c_X11_297 ⟨Nat.le_of_ble_eq_true rfl, Nat.le_of_ble_eq_true rfl⟩ [tI p1, tI p2] rfl (Nat.le_of_ble_eq_true rfl) hv26 (sX11_time l D n v26 p1 p2 A18 g27 hg27) dX11_go_253 ?_
              refine rf_istore X (ls' := [some (tR (some a0)), some (tI p1), some (tI p2), none, none, some (tI x15), some (tI x16), some (tI g27.1), none, none, none]) rfl (by decide) dX11_go_256 ?_
              refine rf_aload_n X rfl dX11_go_258 ?_
              refine rf_dup X rfl dX11_go_259 ?_
              refine rf_bind (fun v28 hv28 => ?_)
              refine rf_getI X fl_X11_162 hv28 dX11_go_260 ?_
              refine rf_iconst X (1 : Int32) rfl dX11_go_263 ?_
              refine rf_iadd X dX11_go_264 ?_
              refine rf_bind (fun A29 hA29 => ?_)
              refine rf_putI X fp_X11_162 (fun h => by cases h) hA29 dX11_go_265 ?_
              refine rf_aload_n X rfl dX11_go_268 ?_
              refine rf_bind (fun v30 hv30 => ?_)
              refine rf_getR X fl_X11_51 hv30 dX11_go_269 ?_
              refine rf_iload_n X rfl dX11_go_272 ?_
              refine rf_dup2 X rfl rfl dX11_go_273 ?_
              refine rf_bind (fun v31 hv31 => ?_)
              refine rf_iald X hv31 dX11_go_274 ?_
              refine rf_iconst X (1 : Int32) rfl dX11_go_275 ?_
              refine rf_iadd X dX11_go_276 ?_
              refine rf_bind (fun A32 hA32 => ?_)
              refine rf_iast X hA32 dX11_go_277 ?_
              refine rf_aload_n X rfl dX11_go_278 ?_
              refine rf_dup X rfl dX11_go_279 ?_
              refine rf_bind (fun v33 hv33 => ?_)
              refine rf_getI X fl_X11_165 hv33 dX11_go_280 ?_
              refine rf_iload X rfl dX11_go_283 ?_
              refine rf_iadd X dX11_go_285 ?_
              refine rf_bind (fun A34 hA34 => ?_)
              refine rf_putI X fp_X11_165 (fun h => by cases h) hA34 dX11_go_286 ?_
              refine rf_aload_n X rfl dX11_go_289 ?_
              refine rf_dup X rfl dX11_go_290 ?_
              refine rf_bind (fun v35 hv35 => ?_)
              refine rf_getI X fl_X11_168 hv35 dX11_go_291 ?_
              refine rf_iload X rfl dX11_go_294 ?_
              refine rf_iload X rfl dX11_go_296 ?_
              refine rf_jn2 (fun i => ∀ (y37 : Int32), RfX X l e below wU (i y37) 306 [some (tR (some a0)), none, some (tI p2), none, none, none, none, some (tI g27.1), none, none, none] [tI y37, tI v35, tR (some a0)] A34) ?_ (fun j36 hj36 => ?_)
              · intro y37
                refine rf_iadd X dX11_go_306 ?_
                refine rf_bind (fun A38 hA38 => ?_)
                refine rf_putI X fp_X11_168 (fun h => by cases h) hA38 dX11_go_307 ?_
                refine rf_aload_n X rfl dX11_go_310 ?_
                refine rf_iload_n X rfl dX11_go_311 ?_
                refine rf_bind (fun v39 hv39 => ?_)
                refine rf_bind (fun g40 hg40 => ?_)
                refine rf_callVU X c_X11_300 ⟨Nat.le_of_ble_eq_true rfl, Nat.le_of_ble_eq_true rfl⟩ [tI p2] rfl (Nat.le_of_ble_eq_true rfl) hv39 (sX11_together l D n v39 p2 A38 g40 hg40) dX11_go_312 ?_
                refine rf_iconst X (0 : Int32) rfl dX11_go_315 ?_
                refine rf_istore X (ls' := [some (tR (some a0)), none, some (tI p2), none, none, none, none, some (tI g27.1), some (tI (0 : Int32)), none, none]) rfl (by decide) dX11_go_316 ?_
                refine rf_fix (fun i => ∀ (x42 : Int32) (A43 : AH), RfX X l e below wU (i x42 A43) 318 [some (tR (some a0)), none, some (tI p2), none, none, none, none, some (tI g27.1), some (tI x42), none, none] [] A43) (fun _ _ => rf_none) (fun rc44 hrc44 => ?_) (fun j41 hj41 => ?_)
                · intro x42 A43
                  refine rf_iload X rfl dX11_go_318 ?_
                  refine rf_aload_n X rfl dX11_go_320 ?_
                  refine rf_bind (fun v45 hv45 => ?_)
                  refine rf_getI X fl_X11_7 hv45 dX11_go_321 ?_
                  refine rf_icmp_ge X (tgt := 395) rfl dX11_go_324 (fun c46 => rf_pos c46 ?_) (fun c46 => rf_neg c46 ?_)
                  · refine rf_aload_n X rfl dX11_go_395 ?_
                    refine rf_bind (fun v47 hv47 => ?_)
                    refine rf_bind (fun g48 hg48 => ?_)
                    refine rf_callVI X c_X11_269 ⟨Nat.le_of_ble_eq_true rfl, Nat.le_of_ble_eq_true rfl⟩ [] rfl (Nat.le_of_ble_eq_true rfl) hv47 (sX11_writesD l D v47 A43 g48 hg48) dX11_go_396 ?_
                    refine rf_jn2 (fun i => ∀ (A50 : AH), RfX X l e below wU (i A50) 423 [some (tR (some a0)), none, some (tI p2), none, none, none, none, some (tI g27.1), none, none, none] [] A50) ?_ (fun j49 hj49 => ?_)
                    · intro A50
                      refine rf_aload_n X rfl dX11_go_423 ?_
                      refine rf_bind (fun v51 hv51 => ?_)
                      refine rf_bind (fun g52 hg52 => ?_)
                      refine rf_callVI X c_X11_272 ⟨Nat.le_of_ble_eq_true rfl, Nat.le_of_ble_eq_true rfl⟩ [] rfl (Nat.le_of_ble_eq_true rfl) hv51 (sX11_writesPredicate l D v51 A50 g52 hg52) dX11_go_424 ?_
                      refine rf_jn2 (fun i => ∀ (A54 : AH), RfX X l e below wU (i A54) 456 [some (tR (some a0)), none, some (tI p2), none, none, none, none, some (tI g27.1), none, none, none] [] A54) ?_ (fun j53 hj53 => ?_)
                      · intro A54
                        refine rf_aload_n X rfl dX11_go_456 ?_
                        refine rf_bind (fun v55 hv55 => ?_)
                        refine rf_bind (fun g56 hg56 => ?_)
                        refine rf_callVI X c_X11_240 ⟨Nat.le_of_ble_eq_true rfl, Nat.le_of_ble_eq_true rfl⟩ [] rfl (Nat.le_of_ble_eq_true rfl) hv55 (sX11_isMemory l D v55 A54 g56 hg56) dX11_go_457 ?_
                        refine rf_jn2 (fun i => ∀ (A58 : AH), RfX X l e below wU (i A58) 476 [some (tR (some a0)), none, some (tI p2), none, none, none, none, none, none, none, none] [] A58) ?_ (fun j57 hj57 => ?_)
                        · intro A58
                          refine rf_aload_n X rfl dX11_go_476 ?_
                          refine rf_bind (fun v59 hv59 => ?_)
                          refine rf_getI X fl_X11_220 hv59 dX11_go_477 ?_
                          refine rf_iconst X (2 : Int32) rfl dX11_go_480 ?_
                          refine rf_jn2 (fun i => ∀ (A61 : AH), RfX X l e below wU (i A61) 494 [none, none, none, none, none, none, none, none, none, none, none] [] A61) ?_ (fun j60 hj60 => ?_)
                          · intro A61
                            exact rf_vret X rfl dX11_go_494
                          refine rf_icmp_ge X (tgt := 494) rfl dX11_go_481 (fun c62 => rf_pos c62 ?_) (fun c62 => rf_neg c62 ?_)
                          · exact rf_go (hj60 A58) True.intro
                          refine rf_aload_n X rfl dX11_go_484 ?_
                          refine rf_aload_n X rfl dX11_go_485 ?_
                          refine rf_bind (fun v63 hv63 => ?_)
                          refine rf_getR X fl_X11_54 hv63 dX11_go_486 ?_
                          refine rf_iload_n X rfl dX11_go_489 ?_
                          refine rf_bind (fun v64 hv64 => ?_)
                          refine rf_iald X hv64 dX11_go_490 ?_
                          refine rf_bind (fun v65 hv65 => ?_)
                          refine rf_bind (fun g66 hg66 => ?_)
                          refine rf_callVU X c_X11_307 ⟨Nat.le_of_ble_eq_true rfl, Nat.le_of_ble_eq_true rfl⟩ [tI v64] rfl (Nat.le_of_ble_eq_true rfl) hv65 (sX11_settle l D n v65 v64 A58 g66 hg66) dX11_go_491 ?_
                          exact rf_go (hj60 g66) True.intro
                        refine rf_if_eq X (tgt := 476) rfl dX11_go_460 (fun c67 => rf_pos c67 ?_) (fun c67 => rf_neg c67 ?_)
                        · exact rf_go (hj57 A54) (And.intro rfl (And.intro rfl True.intro))
                        refine rf_aload_n X rfl dX11_go_463 ?_
                        refine rf_bind (fun v68 hv68 => ?_)
                        refine rf_getR X fl_X11_60 hv68 dX11_go_464 ?_
                        refine rf_iload_n X rfl dX11_go_467 ?_
                        refine rf_aload_n X rfl dX11_go_468 ?_
                        refine rf_bind (fun v69 hv69 => ?_)
                        refine rf_getI X fl_X11_159 hv69 dX11_go_469 ?_
                        refine rf_iload X rfl dX11_go_472 ?_
                        refine rf_iadd X dX11_go_474 ?_
                        refine rf_bind (fun A70 hA70 => ?_)
                        refine rf_iast X hA70 dX11_go_475 ?_
                        exact rf_go (hj57 A70) (And.intro rfl (And.intro rfl True.intro))
                      refine rf_if_eq X (tgt := 456) rfl dX11_go_427 (fun c71 => rf_pos c71 ?_) (fun c71 => rf_neg c71 ?_)
                      · exact rf_go (hj53 A50) (And.intro rfl (And.intro rfl (And.intro rfl True.intro)))
                      refine rf_aload_n X rfl dX11_go_430 ?_
                      refine rf_bind (fun v72 hv72 => ?_)
                      refine rf_getR X fl_X11_63 hv72 dX11_go_431 ?_
                      refine rf_bipush X (20 : Int32) rfl dX11_go_434 ?_
                      refine rf_iload_n X rfl dX11_go_436 ?_
                      refine rf_imul X dX11_go_437 ?_
                      refine rf_bipush X (16 : Int32) rfl dX11_go_438 ?_
                      refine rf_iadd X dX11_go_440 ?_
                      refine rf_aload_n X rfl dX11_go_441 ?_
                      refine rf_bind (fun v73 hv73 => ?_)
                      refine rf_getI X fl_X11_225 hv73 dX11_go_442 ?_
                      refine rf_iconst X (3 : Int32) rfl dX11_go_445 ?_
                      refine rf_iand X dX11_go_446 ?_
                      refine rf_iadd X dX11_go_447 ?_
                      refine rf_aload_n X rfl dX11_go_448 ?_
                      refine rf_bind (fun v74 hv74 => ?_)
                      refine rf_getI X fl_X11_159 hv74 dX11_go_449 ?_
                      refine rf_iload X rfl dX11_go_452 ?_
                      refine rf_iadd X dX11_go_454 ?_
                      refine rf_bind (fun A75 hA75 => ?_)
                      refine rf_iast X hA75 dX11_go_455 ?_
                      exact rf_go (hj53 A75) (And.intro rfl (And.intro rfl (And.intro rfl True.intro)))
                    refine rf_if_eq X (tgt := 423) rfl dX11_go_399 (fun c76 => rf_pos c76 ?_) (fun c76 => rf_neg c76 ?_)
                    · exact rf_go (hj49 A43) (And.intro rfl (And.intro rfl (And.intro rfl True.intro)))
                    refine rf_aload_n X rfl dX11_go_402 ?_
                    refine rf_bind (fun v77 hv77 => ?_)
                    refine rf_getR X fl_X11_63 hv77 dX11_go_403 ?_
                    refine rf_bipush X (20 : Int32) rfl dX11_go_406 ?_
                    refine rf_iload_n X rfl dX11_go_408 ?_
                    refine rf_imul X dX11_go_409 ?_
                    refine rf_aload_n X rfl dX11_go_410 ?_
                    refine rf_bind (fun v78 hv78 => ?_)
                    refine rf_getI X fl_X11_225 hv78 dX11_go_411 ?_
                    refine rf_iadd X dX11_go_414 ?_
                    refine rf_aload_n X rfl dX11_go_415 ?_
                    refine rf_bind (fun v79 hv79 => ?_)
                    refine rf_getI X fl_X11_159 hv79 dX11_go_416 ?_
                    refine rf_iload X rfl dX11_go_419 ?_
                    refine rf_iadd X dX11_go_421 ?_
                    refine rf_bind (fun A80 hA80 => ?_)
                    refine rf_iast X hA80 dX11_go_422 ?_
                    exact rf_go (hj49 A80) (And.intro rfl (And.intro rfl (And.intro rfl True.intro)))
                  refine rf_aload_n X rfl dX11_go_327 ?_
                  refine rf_bind (fun v81 hv81 => ?_)
                  refine rf_getR X fl_X11_108 hv81 dX11_go_328 ?_
                  refine rf_iload X rfl dX11_go_331 ?_
                  refine rf_bind (fun v82 hv82 => ?_)
                  refine rf_zald X hv82 dX11_go_333 ?_
                  refine rf_jn2 (fun i => ∀ (A84 : AH), RfX X l e below wU (i A84) 389 [some (tR (some a0)), none, some (tI p2), none, none, none, none, some (tI g27.1), some (tI x42), none, none] [] A84) ?_ (fun j83 hj83 => ?_)
                  · intro A84
                    refine rf_iinc X (x42 + (1 : Int32)) rfl rfl (ls' := [some (tR (some a0)), none, some (tI p2), none, none, none, none, some (tI g27.1), some (tI (x42 + (1 : Int32))), none, none]) rfl (by decide) dX11_go_389 ?_
                    refine rf_goto X (tgt := 318) rfl dX11_go_392 ?_
                    exact rf_go (hrc44 (x42 + (1 : Int32)) A84) (And.intro rfl (And.intro rfl (And.intro rfl (And.intro rfl True.intro))))
                  refine rf_if_ne X (tgt := 340) rfl dX11_go_334 (fun c85 => rf_neg c85 ?_) (fun c85 => rf_pos c85 ?_)
                  · refine rf_iload_n X rfl dX11_go_340 ?_
                    refine rf_iload X rfl dX11_go_341 ?_
                    refine rf_bind (fun g86 hg86 => ?_)
                    refine rf_callSI X c_X11_211 ⟨Nat.le_of_ble_eq_true rfl, Nat.le_of_ble_eq_true rfl⟩ [tI p2, tI x42] rfl (Nat.le_of_ble_eq_true rfl) (sX11_thread l D p2 x42 A43 g86 hg86) dX11_go_343 ?_
                    refine rf_istore X (ls' := [some (tR (some a0)), none, some (tI p2), none, none, none, none, some (tI g27.1), some (tI x42), some (tI g86), none]) rfl (by decide) dX11_go_346 ?_
                    refine rf_aload_n X rfl dX11_go_348 ?_
                    refine rf_bind (fun v87 hv87 => ?_)
                    refine rf_getR X fl_X11_73 hv87 dX11_go_349 ?_
                    refine rf_iload X rfl dX11_go_352 ?_
                    refine rf_bind (fun v88 hv88 => ?_)
                    refine rf_iald X hv88 dX11_go_354 ?_
                    refine rf_istore X (ls' := [some (tR (some a0)), none, some (tI p2), none, none, none, none, some (tI g27.1), some (tI x42), some (tI g86), some (tI v88)]) rfl (by decide) dX11_go_355 ?_
                    refine rf_aload_n X rfl dX11_go_357 ?_
                    refine rf_getR X fl_X11_73 hv87 dX11_go_358 ?_
                    refine rf_iload X rfl dX11_go_361 ?_
                    refine rf_iload X rfl dX11_go_363 ?_
                    refine rf_iconst X (1 : Int32) rfl dX11_go_365 ?_
                    refine rf_iadd X dX11_go_366 ?_
                    refine rf_bind (fun A89 hA89 => ?_)
                    refine rf_iast X hA89 dX11_go_367 ?_
                    refine rf_aload_n X rfl dX11_go_368 ?_
                    refine rf_bind (fun v90 hv90 => ?_)
                    refine rf_getR X fl_X11_111 hv90 dX11_go_369 ?_
                    refine rf_iload X rfl dX11_go_372 ?_
                    refine rf_bind (fun v91 hv91 => ?_)
                    refine rf_zald X hv91 dX11_go_374 ?_
                    refine rf_if_eq X (tgt := 389) rfl dX11_go_375 (fun c92 => rf_pos c92 ?_) (fun c92 => rf_neg c92 ?_)
                    · exact rf_go (hj83 A89) (And.intro rfl (And.intro rfl (And.intro rfl (And.intro rfl True.intro))))
                    refine rf_aload_n X rfl dX11_go_378 ?_
                    refine rf_iload_n X rfl dX11_go_379 ?_
                    refine rf_iload X rfl dX11_go_380 ?_
                    refine rf_iload X rfl dX11_go_382 ?_
                    refine rf_iload X rfl dX11_go_384 ?_
                    refine rf_bind (fun v93 hv93 => ?_)
                    refine rf_bind (fun g94 hg94 => ?_)
                    refine rf_callVU X c_X11_303 ⟨Nat.le_of_ble_eq_true rfl, Nat.le_of_ble_eq_true rfl⟩ [tI p2, tI x42, tI g86, tI v88] rfl (Nat.le_of_ble_eq_true rfl) hv93 (sX11_act l D v93 p2 x42 g86 v88 A89 g94 hg94) dX11_go_386 ?_
                    exact rf_go (hj83 g94) (And.intro rfl (And.intro rfl (And.intro rfl (And.intro rfl True.intro))))
                  refine rf_goto X (tgt := 389) rfl dX11_go_337 ?_
                  exact rf_go (hj83 A43) (And.intro rfl (And.intro rfl (And.intro rfl (And.intro rfl True.intro))))
                exact rf_go (hj41 (0 : Int32) g40) (And.intro rfl (And.intro rfl (And.intro rfl (And.intro rfl True.intro))))
              refine rf_icmp_ge X (tgt := 305) rfl dX11_go_298 (fun c95 => rf_pos c95 ?_) (fun c95 => rf_neg c95 ?_)
              · refine rf_iconst X (0 : Int32) rfl dX11_go_305 ?_
                exact rf_go (hj36 (0 : Int32)) (And.intro rfl (And.intro rfl (And.intro rfl True.intro)))
              refine rf_iconst X (1 : Int32) rfl dX11_go_301 ?_
              refine rf_goto X (tgt := 306) rfl dX11_go_302 ?_
              exact rf_go (hj36 (1 : Int32)) (And.intro rfl (And.intro rfl (And.intro rfl True.intro)))
            refine rf_aload_n X rfl dX11_go_200 ?_
            refine rf_bind (fun v96 hv96 => ?_)
            refine rf_getR X fl_X11_111 hv96 dX11_go_201 ?_
            refine rf_iload X rfl dX11_go_204 ?_
            refine rf_bind (fun v97 hv97 => ?_)
            refine rf_zald X hv97 dX11_go_206 ?_
            refine rf_jn2 (fun i => ∀ (y99 : Int32), RfX X l e below wU (i y99) 224 [some (tR (some a0)), some (tI p1), some (tI p2), none, none, some (tI x15), some (tI x16), some (tI x22), none, none, none] [tI y99] A18) ?_ (fun j98 hj98 => ?_)
            · intro y99
              refine rf_istore X (ls' := [some (tR (some a0)), some (tI p1), some (tI p2), none, none, some (tI x15), some (tI x16), some (tI x22), some (tI y99), none, none]) rfl (by decide) dX11_go_224 ?_
              refine rf_iload X rfl dX11_go_226 ?_
              refine rf_if_ne X (tgt := 234) rfl dX11_go_228 (fun c100 => rf_neg c100 ?_) (fun c100 => rf_pos c100 ?_)
              · refine rf_aload_n X rfl dX11_go_234 ?_
                refine rf_iload_n X rfl dX11_go_235 ?_
                refine rf_iload X rfl dX11_go_236 ?_
                refine rf_iload X rfl dX11_go_238 ?_
                refine rf_bind (fun v101 hv101 => ?_)
                refine rf_bind (fun g102 hg102 => ?_)
                refine rf_callVU X c_X11_287 ⟨Nat.le_of_ble_eq_true rfl, Nat.le_of_ble_eq_true rfl⟩ [tI p2, tI x22, tI y99] rfl (Nat.le_of_ble_eq_true rfl) hv101 (sX11_trap l D v101 p2 x22 y99 A18 g102 hg102) dX11_go_240 ?_
                exact rf_vret X rfl dX11_go_243
              refine rf_goto X (tgt := 244) rfl dX11_go_231 ?_
              refine rf_iinc X (x22 + (1 : Int32)) rfl rfl (ls' := [some (tR (some a0)), some (tI p1), some (tI p2), none, none, some (tI x15), some (tI x16), some (tI (x22 + (1 : Int32))), some (tI y99), none, none]) rfl (by decide) dX11_go_244 ?_
              refine rf_goto X (tgt := 191) rfl dX11_go_247 ?_
              exact rf_go (hrc23 (x22 + (1 : Int32))) (And.intro rfl (And.intro rfl (And.intro rfl (And.intro rfl (And.intro rfl (And.intro rfl True.intro))))))
            refine rf_if_eq X (tgt := 223) rfl dX11_go_207 (fun c103 => rf_pos c103 ?_) (fun c103 => rf_neg c103 ?_)
            · refine rf_iconst X (0 : Int32) rfl dX11_go_223 ?_
              exact rf_go (hj98 (0 : Int32)) (And.intro rfl (And.intro rfl (And.intro rfl (And.intro rfl (And.intro rfl (And.intro rfl True.intro))))))
            refine rf_aload_n X rfl dX11_go_210 ?_
            refine rf_iload_n X rfl dX11_go_211 ?_
            refine rf_iload X rfl dX11_go_212 ?_
            refine rf_bind (fun g104 hg104 => ?_)
            refine rf_callSI X c_X11_211 ⟨Nat.le_of_ble_eq_true rfl, Nat.le_of_ble_eq_true rfl⟩ [tI p2, tI x22] rfl (Nat.le_of_ble_eq_true rfl) (sX11_thread l D p2 x22 A18 g104 hg104) dX11_go_214 ?_
            refine rf_bind (fun v105 hv105 => ?_)
            refine rf_bind (fun g106 hg106 => ?_)
            refine rf_callVI X c_X11_294 ⟨Nat.le_of_ble_eq_true rfl, Nat.le_of_ble_eq_true rfl⟩ [tI g104] rfl (Nat.le_of_ble_eq_true rfl) hv105 (sX11_whyNot l D v105 g104 A18 g106 hg106) dX11_go_217 ?_
            refine rf_goto X (tgt := 224) rfl dX11_go_220 ?_
            exact rf_go (hj98 g106) (And.intro rfl (And.intro rfl (And.intro rfl (And.intro rfl (And.intro rfl (And.intro rfl True.intro))))))
          exact rf_go (hj21 (0 : Int32)) (And.intro rfl (And.intro rfl (And.intro rfl (And.intro rfl (And.intro rfl (And.intro rfl True.intro))))))
        refine rf_aload_n X rfl dX11_go_80 ?_
        refine rf_bind (fun v107 hv107 => ?_)
        refine rf_getR X fl_X11_111 hv107 dX11_go_81 ?_
        refine rf_iload X rfl dX11_go_84 ?_
        refine rf_aload_n X rfl dX11_go_86 ?_
        refine rf_bind (fun v108 hv108 => ?_)
        refine rf_getR X fl_X11_108 hv108 dX11_go_87 ?_
        refine rf_iload X rfl dX11_go_90 ?_
        refine rf_bind (fun v109 hv109 => ?_)
        refine rf_zald X hv109 dX11_go_92 ?_
        refine rf_jn2 (fun i => ∀ (y111 : Int32), RfX X l e below wU (i y111) 141 [some (tR (some a0)), some (tI p1), some (tI p2), none, none, some (tI x15), some (tI x16), some (tI x17), none, none, none] [tI y111, tI x17, tR v107] A18) ?_ (fun j110 hj110 => ?_)
        · intro y111
          refine rf_bind (fun A112 hA112 => ?_)
          refine rf_zast X hA112 dX11_go_141 ?_
          refine rf_iload X rfl dX11_go_142 ?_
          refine rf_aload_n X rfl dX11_go_144 ?_
          refine rf_bind (fun v113 hv113 => ?_)
          refine rf_getR X fl_X11_111 hv113 dX11_go_145 ?_
          refine rf_iload X rfl dX11_go_148 ?_
          refine rf_bind (fun v114 hv114 => ?_)
          refine rf_zald X hv114 dX11_go_150 ?_
          refine rf_jn2 (fun i => ∀ (y116 : Int32), RfX X l e below wU (i y116) 159 [some (tR (some a0)), some (tI p1), some (tI p2), none, none, none, some (tI x16), some (tI x17), none, none, none] [tI y116, tI x15] A112) ?_ (fun j115 hj115 => ?_)
          · intro y116
            refine rf_iadd X dX11_go_159 ?_
            refine rf_istore X (ls' := [some (tR (some a0)), some (tI p1), some (tI p2), none, none, some (tI (x15 + y116)), some (tI x16), some (tI x17), none, none, none]) rfl (by decide) dX11_go_160 ?_
            refine rf_iload X rfl dX11_go_162 ?_
            refine rf_aload_n X rfl dX11_go_164 ?_
            refine rf_bind (fun v117 hv117 => ?_)
            refine rf_getR X fl_X11_108 hv117 dX11_go_165 ?_
            refine rf_iload X rfl dX11_go_168 ?_
            refine rf_bind (fun v118 hv118 => ?_)
            refine rf_zald X hv118 dX11_go_170 ?_
            refine rf_jn2 (fun i => ∀ (y120 : Int32), RfX X l e below wU (i y120) 179 [some (tR (some a0)), some (tI p1), some (tI p2), none, none, some (tI (x15 + y116)), none, some (tI x17), none, none, none] [tI y120, tI x16] A112) ?_ (fun j119 hj119 => ?_)
            · intro y120
              refine rf_iadd X dX11_go_179 ?_
              refine rf_istore X (ls' := [some (tR (some a0)), some (tI p1), some (tI p2), none, none, some (tI (x15 + y116)), some (tI (x16 + y120)), some (tI x17), none, none, none]) rfl (by decide) dX11_go_180 ?_
              refine rf_iinc X (x17 + (1 : Int32)) rfl rfl (ls' := [some (tR (some a0)), some (tI p1), some (tI p2), none, none, some (tI (x15 + y116)), some (tI (x16 + y120)), some (tI (x17 + (1 : Int32))), none, none, none]) rfl (by decide) dX11_go_182 ?_
              refine rf_goto X (tgt := 73) rfl dX11_go_185 ?_
              exact rf_go (hrc19 (x15 + y116) (x16 + y120) (x17 + (1 : Int32)) A112) (And.intro rfl (And.intro rfl (And.intro rfl (And.intro rfl (And.intro rfl (And.intro rfl True.intro))))))
            refine rf_if_eq X (tgt := 178) rfl dX11_go_171 (fun c121 => rf_pos c121 ?_) (fun c121 => rf_neg c121 ?_)
            · refine rf_iconst X (0 : Int32) rfl dX11_go_178 ?_
              exact rf_go (hj119 (0 : Int32)) (And.intro rfl (And.intro rfl (And.intro rfl (And.intro rfl (And.intro rfl True.intro)))))
            refine rf_iconst X (1 : Int32) rfl dX11_go_174 ?_
            refine rf_goto X (tgt := 179) rfl dX11_go_175 ?_
            exact rf_go (hj119 (1 : Int32)) (And.intro rfl (And.intro rfl (And.intro rfl (And.intro rfl (And.intro rfl True.intro)))))
          refine rf_if_eq X (tgt := 158) rfl dX11_go_151 (fun c122 => rf_pos c122 ?_) (fun c122 => rf_neg c122 ?_)
          · refine rf_iconst X (0 : Int32) rfl dX11_go_158 ?_
            exact rf_go (hj115 (0 : Int32)) (And.intro rfl (And.intro rfl (And.intro rfl (And.intro rfl (And.intro rfl True.intro)))))
          refine rf_iconst X (1 : Int32) rfl dX11_go_154 ?_
          refine rf_goto X (tgt := 159) rfl dX11_go_155 ?_
          exact rf_go (hj115 (1 : Int32)) (And.intro rfl (And.intro rfl (And.intro rfl (And.intro rfl (And.intro rfl True.intro)))))
        refine rf_jn2 (fun i => RfX X l e below wU i 140 [some (tR (some a0)), some (tI p1), some (tI p2), none, none, some (tI x15), some (tI x16), some (tI x17), none, none, none] [tI x17, tR v107] A18) ?_ (fun j123 hj123 => ?_)
        · show RfX X l e below _ _ _ _ _ _
          refine rf_iconst X (0 : Int32) rfl dX11_go_140 ?_
          exact rf_go (hj110 (0 : Int32)) (And.intro rfl (And.intro rfl (And.intro rfl (And.intro rfl (And.intro rfl (And.intro rfl True.intro))))))
        refine rf_if_eq X (tgt := 140) rfl dX11_go_93 (fun c124 => rf_pos c124 ?_) (fun c124 => rf_neg c124 ?_)
        · exact rf_go hj123 (And.intro rfl (And.intro rfl (And.intro rfl (And.intro rfl (And.intro rfl (And.intro rfl True.intro))))))
        refine rf_aload_n X rfl dX11_go_96 ?_
        refine rf_bind (fun v125 hv125 => ?_)
        refine rf_getI X fl_X11_234 hv125 dX11_go_97 ?_
        refine rf_bipush X (8 : Int32) rfl dX11_go_100 ?_
        refine rf_jn2 (fun i => RfX X l e below wU i 136 [some (tR (some a0)), some (tI p1), some (tI p2), none, none, some (tI x15), some (tI x16), some (tI x17), none, none, none] [tI x17, tR v107] A18) ?_ (fun j126 hj126 => ?_)
        · show RfX X l e below _ _ _ _ _ _
          refine rf_iconst X (1 : Int32) rfl dX11_go_136 ?_
          refine rf_goto X (tgt := 141) rfl dX11_go_137 ?_
          exact rf_go (hj110 (1 : Int32)) (And.intro rfl (And.intro rfl (And.intro rfl (And.intro rfl (And.intro rfl (And.intro rfl True.intro))))))
        refine rf_icmp_lt X (tgt := 136) rfl dX11_go_102 (fun c127 => rf_pos c127 ?_) (fun c127 => rf_neg c127 ?_)
        · exact rf_go hj126 (And.intro rfl (And.intro rfl (And.intro rfl (And.intro rfl (And.intro rfl (And.intro rfl True.intro))))))
        refine rf_aload_n X rfl dX11_go_105 ?_
        refine rf_iload_n X rfl dX11_go_106 ?_
        refine rf_iload X rfl dX11_go_107 ?_
        refine rf_bind (fun g128 hg128 => ?_)
        refine rf_callSI X c_X11_211 ⟨Nat.le_of_ble_eq_true rfl, Nat.le_of_ble_eq_true rfl⟩ [tI p2, tI x17] rfl (Nat.le_of_ble_eq_true rfl) (sX11_thread l D p2 x17 A18 g128 hg128) dX11_go_109 ?_
        refine rf_aload_n X rfl dX11_go_112 ?_
        refine rf_getI X fl_X11_234 hv125 dX11_go_113 ?_
        refine rf_bind (fun v129 hv129 => ?_)
        refine rf_bind (fun g130 hg130 => ?_)
        refine rf_callVI X c_X11_291 ⟨Nat.le_of_ble_eq_true rfl, Nat.le_of_ble_eq_true rfl⟩ [tI g128, tI v125] rfl (Nat.le_of_ble_eq_true rfl) hv129 (sX11_has l D v129 g128 v125 A18 g130 hg130) dX11_go_116 ?_
        refine rf_aload_n X rfl dX11_go_119 ?_
        refine rf_getI X fl_X11_234 hv125 dX11_go_120 ?_
        refine rf_iconst X (4 : Int32) rfl dX11_go_123 ?_
        refine rf_iand X dX11_go_124 ?_
        refine rf_jn2 (fun i => ∀ (y132 : Int32), RfX X l e below wU (i y132) 133 [some (tR (some a0)), some (tI p1), some (tI p2), none, none, some (tI x15), some (tI x16), some (tI x17), none, none, none] [tI y132, tI g130, tI x17, tR v107] A18) ?_ (fun j131 hj131 => ?_)
        · intro y132
          refine rf_icmp_eq X (tgt := 140) rfl dX11_go_133 (fun c133 => rf_pos c133 ?_) (fun c133 => rf_neg c133 ?_)
          · exact rf_go hj123 (And.intro rfl (And.intro rfl (And.intro rfl (And.intro rfl (And.intro rfl (And.intro rfl True.intro))))))
          exact rf_go hj126 (And.intro rfl (And.intro rfl (And.intro rfl (And.intro rfl (And.intro rfl (And.intro rfl True.intro))))))
        refine rf_if_eq X (tgt := 132) rfl dX11_go_125 (fun c134 => rf_pos c134 ?_) (fun c134 => rf_neg c134 ?_)
        · refine rf_iconst X (0 : Int32) rfl dX11_go_132 ?_
          exact rf_go (hj131 (0 : Int32)) (And.intro rfl (And.intro rfl (And.intro rfl (And.intro rfl (And.intro rfl (And.intro rfl True.intro))))))
        refine rf_iconst X (1 : Int32) rfl dX11_go_128 ?_
        refine rf_goto X (tgt := 133) rfl dX11_go_129 ?_
        exact rf_go (hj131 (1 : Int32)) (And.intro rfl (And.intro rfl (And.intro rfl (And.intro rfl (And.intro rfl (And.intro rfl True.intro))))))
      exact rf_go (hj14 (0 : Int32) (0 : Int32) (0 : Int32) g9) (And.intro rfl (And.intro rfl (And.intro rfl (And.intro rfl (And.intro rfl (And.intro rfl True.intro))))))
    refine rf_aload_n X rfl dX11_go_56 ?_
    refine rf_iload_n X rfl dX11_go_57 ?_
    refine rf_iload_n X rfl dX11_go_58 ?_
    refine rf_iconst X (2 : Int32) rfl dX11_go_59 ?_
    refine rf_bind (fun g13 hg13 => ?_)
    refine rf_callVU X c_X11_287 ⟨Nat.le_of_ble_eq_true rfl, Nat.le_of_ble_eq_true rfl⟩ [tI p2, tI g2, tI (2 : Int32)] rfl (Nat.le_of_ble_eq_true rfl) hv10 (sX11_trap l D v10 p2 g2 (2 : Int32) g9 g13 hg13) dX11_go_60 ?_
    exact rf_vret X rfl dX11_go_63
  refine rf_if_lt X (tgt := 30) rfl dX11_go_19 (fun c135 => ?_) (fun c135 => ?_)
  · exact jT (Or.inl c135)
  refine rf_iload X rfl dX11_go_22 ?_
  refine rf_sipush X (128 : Int32) rfl dX11_go_24 ?_
  refine rf_icmp_lt X (tgt := 38) rfl dX11_go_27 (fun c136 => ?_) (fun c136 => ?_)
  · exact jF (fun z => z.elim c135 (fun z => z c136))
  exact jT (Or.inr c136)

theorem dX11_unitGoes_0 : decode cX11_unitGoes 0 = .ok (.iconst 1, 1) := by decide +kernel
theorem dX11_unitGoes_1 : decode cX11_unitGoes 1 = .ok (.istore_n 2, 1) := by decide +kernel
theorem dX11_unitGoes_2 : decode cX11_unitGoes 2 = .ok (.iload_n 2, 1) := by decide +kernel
theorem dX11_unitGoes_3 : decode cX11_unitGoes 3 = .ok (.aload_n 0, 1) := by decide +kernel
theorem dX11_unitGoes_4 : decode cX11_unitGoes 4 = .ok (.getfield 13, 3) := by decide +kernel
theorem dX11_unitGoes_7 : decode cX11_unitGoes 7 = .ok (.if_icmp .gt 59, 3) := by decide +kernel
theorem dX11_unitGoes_10 : decode cX11_unitGoes 10 = .ok (.aload_n 0, 1) := by decide +kernel
theorem dX11_unitGoes_11 : decode cX11_unitGoes 11 = .ok (.getfield 48, 3) := by decide +kernel
theorem dX11_unitGoes_14 : decode cX11_unitGoes 14 = .ok (.iload_n 1, 1) := by decide +kernel
theorem dX11_unitGoes_15 : decode cX11_unitGoes 15 = .ok (.iaload, 1) := by decide +kernel
theorem dX11_unitGoes_16 : decode cX11_unitGoes 16 = .ok (.iload_n 2, 1) := by decide +kernel
theorem dX11_unitGoes_17 : decode cX11_unitGoes 17 = .ok (.iadd, 1) := by decide +kernel
theorem dX11_unitGoes_18 : decode cX11_unitGoes 18 = .ok (.aload_n 0, 1) := by decide +kernel
theorem dX11_unitGoes_19 : decode cX11_unitGoes 19 = .ok (.getfield 13, 3) := by decide +kernel
theorem dX11_unitGoes_22 : decode cX11_unitGoes 22 = .ok (.irem, 1) := by decide +kernel
theorem dX11_unitGoes_23 : decode cX11_unitGoes 23 = .ok (.istore_n 3, 1) := by decide +kernel
theorem dX11_unitGoes_24 : decode cX11_unitGoes 24 = .ok (.aload_n 0, 1) := by decide +kernel
theorem dX11_unitGoes_25 : decode cX11_unitGoes 25 = .ok (.iload_n 1, 1) := by decide +kernel
theorem dX11_unitGoes_26 : decode cX11_unitGoes 26 = .ok (.bipush 16, 2) := by decide +kernel
theorem dX11_unitGoes_28 : decode cX11_unitGoes 28 = .ok (.iload_n 1, 1) := by decide +kernel
theorem dX11_unitGoes_29 : decode cX11_unitGoes 29 = .ok (.imul, 1) := by decide +kernel
theorem dX11_unitGoes_30 : decode cX11_unitGoes 30 = .ok (.iload_n 3, 1) := by decide +kernel
theorem dX11_unitGoes_31 : decode cX11_unitGoes 31 = .ok (.iadd, 1) := by decide +kernel
theorem dX11_unitGoes_32 : decode cX11_unitGoes 32 = .ok (.invokevirtual 278, 3) := by decide +kernel
theorem dX11_unitGoes_35 : decode cX11_unitGoes 35 = .ok (.ifCond .ne 6, 3) := by decide +kernel
theorem dX11_unitGoes_38 : decode cX11_unitGoes 38 = .ok (.goto 22, 3) := by decide +kernel
theorem dX11_unitGoes_41 : decode cX11_unitGoes 41 = .ok (.aload_n 0, 1) := by decide +kernel
theorem dX11_unitGoes_42 : decode cX11_unitGoes 42 = .ok (.getfield 48, 3) := by decide +kernel
theorem dX11_unitGoes_45 : decode cX11_unitGoes 45 = .ok (.iload_n 1, 1) := by decide +kernel
theorem dX11_unitGoes_46 : decode cX11_unitGoes 46 = .ok (.iload_n 3, 1) := by decide +kernel
theorem dX11_unitGoes_47 : decode cX11_unitGoes 47 = .ok (.iastore, 1) := by decide +kernel
theorem dX11_unitGoes_48 : decode cX11_unitGoes 48 = .ok (.aload_n 0, 1) := by decide +kernel
theorem dX11_unitGoes_49 : decode cX11_unitGoes 49 = .ok (.iload_n 1, 1) := by decide +kernel
theorem dX11_unitGoes_50 : decode cX11_unitGoes 50 = .ok (.bipush 16, 2) := by decide +kernel
theorem dX11_unitGoes_52 : decode cX11_unitGoes 52 = .ok (.iload_n 1, 1) := by decide +kernel
theorem dX11_unitGoes_53 : decode cX11_unitGoes 53 = .ok (.imul, 1) := by decide +kernel
theorem dX11_unitGoes_54 : decode cX11_unitGoes 54 = .ok (.iload_n 3, 1) := by decide +kernel
theorem dX11_unitGoes_55 : decode cX11_unitGoes 55 = .ok (.iadd, 1) := by decide +kernel
theorem dX11_unitGoes_56 : decode cX11_unitGoes 56 = .ok (.invokevirtual 281, 3) := by decide +kernel
theorem dX11_unitGoes_59 : decode cX11_unitGoes 59 = .ok (.return_, 1) := by decide +kernel
theorem dX11_unitGoes_60 : decode cX11_unitGoes 60 = .ok (.iinc 2 1, 3) := by decide +kernel
theorem dX11_unitGoes_63 : decode cX11_unitGoes 63 = .ok (.goto (-61), 3) := by decide +kernel
theorem dX11_unitGoes_66 : decode cX11_unitGoes 66 = .ok (.return_, 1) := by decide +kernel
def fX11_unitGoes (n : Nat) (a0 : Nat) (p1 : Int32) (A : AH) : Option (AH) :=
jl (fixG (fun _ _ => none) (fun (rc4 : (Int32) → (AH) → Option (AH)) (x2 : Int32) (A3 : AH) =>
(gI A3 (some a0) 11 2).bind fun v5 =>
if v5 < x2 then (some A3) else
(gR A3 (some a0) 11 29).bind fun v7 =>
(aI A3 v7 p1).bind fun v8 =>
(dz v5).bind fun v9 =>
(rcv A3 (some a0) 11).bind fun v10 =>
(fX11_isReady n v10 p1 (((16 : Int32) * p1) + ((v8 + x2) - (v8 + x2) / v5 * v5)) A3).bind fun g11 =>
if g11.1 = 0 then (rc4 (x2 + (1 : Int32)) g11.2) else
(gR g11.2 (some a0) 11 29).bind fun v13 =>
(sI g11.2 v13 p1 ((v8 + x2) - (v8 + x2) / v5 * v5)).bind fun A14 =>
(rcv A14 (some a0) 11).bind fun v15 =>
(fX11_go n v15 p1 (((16 : Int32) * p1) + ((v8 + x2) - (v8 + x2) / v5 * v5)) A14).bind fun g16 =>
some g16) n) fun j1 =>
j1 (1 : Int32) A

set_option maxHeartbeats 4000000 in
set_option maxRecDepth 100000 in
theorem sX11_unitGoes (l : Launch) (D : DE) (n : Nat) (a0 : Nat) (p1 : Int32) (A : AH) (g : AH) (hg : fX11_unitGoes n a0 p1 A = some g) : Sm l D yX11_unitGoes cX11_unitGoes 4 none 6 148 [tR (some a0), tI p1] A (wU g).1 (wU g).2 := by
  refine Sm.of (ω := wU) (fX11_unitGoes n a0 p1 A) [some (tR (some a0)), some (tI p1), none, none] (by decide) (Nat.le_of_ble_eq_true rfl) rfl hg ?_
  intro p e R s m args below meth c X hin
  have X : Cx D cX11_unitGoes RX11 4 6 148 none p R s m args meth c := X
  unfold fX11_unitGoes
  refine rf_iconst X (1 : Int32) rfl dX11_unitGoes_0 ?_
  refine rf_istore_n X (ls' := [some (tR (some a0)), some (tI p1), some (tI (1 : Int32)), none]) rfl (by decide) dX11_unitGoes_1 ?_
  refine rf_fix (fun i => ∀ (x2 : Int32) (A3 : AH), RfX X l e below wU (i x2 A3) 2 [some (tR (some a0)), some (tI p1), some (tI x2), none] [] A3) (fun _ _ => rf_none) (fun rc4 hrc4 => ?_) (fun j1 hj1 => ?_)
  · intro x2 A3
    refine rf_iload_n X rfl dX11_unitGoes_2 ?_
    refine rf_aload_n X rfl dX11_unitGoes_3 ?_
    refine rf_bind (fun v5 hv5 => ?_)
    refine rf_getI X fl_X11_13 hv5 dX11_unitGoes_4 ?_
    refine rf_icmp_gt X (tgt := 66) rfl dX11_unitGoes_7 (fun c6 => rf_pos c6 ?_) (fun c6 => rf_neg c6 ?_)
    · exact rf_vret X rfl dX11_unitGoes_66
    refine rf_aload_n X rfl dX11_unitGoes_10 ?_
    refine rf_bind (fun v7 hv7 => ?_)
    refine rf_getR X fl_X11_48 hv7 dX11_unitGoes_11 ?_
    refine rf_iload_n X rfl dX11_unitGoes_14 ?_
    refine rf_bind (fun v8 hv8 => ?_)
    refine rf_iald X hv8 dX11_unitGoes_15 ?_
    refine rf_iload_n X rfl dX11_unitGoes_16 ?_
    refine rf_iadd X dX11_unitGoes_17 ?_
    refine rf_aload_n X rfl dX11_unitGoes_18 ?_
    refine rf_getI X fl_X11_13 hv5 dX11_unitGoes_19 ?_
    refine rf_bind (fun v9 hv9 => ?_)
    refine rf_irem X (dz_spec hv9) dX11_unitGoes_22 ?_
    refine rf_istore_n X (ls' := [some (tR (some a0)), some (tI p1), some (tI x2), some (tI ((v8 + x2) - (v8 + x2) / v5 * v5))]) rfl (by decide) dX11_unitGoes_23 ?_
    refine rf_aload_n X rfl dX11_unitGoes_24 ?_
    refine rf_iload_n X rfl dX11_unitGoes_25 ?_
    refine rf_bipush X (16 : Int32) rfl dX11_unitGoes_26 ?_
    refine rf_iload_n X rfl dX11_unitGoes_28 ?_
    refine rf_imul X dX11_unitGoes_29 ?_
    refine rf_iload_n X rfl dX11_unitGoes_30 ?_
    refine rf_iadd X dX11_unitGoes_31 ?_
    refine rf_bind (fun v10 hv10 => ?_)
    refine rf_bind (fun g11 hg11 => ?_)
    refine rf_callVI X c_X11_278 ⟨Nat.le_of_ble_eq_true rfl, Nat.le_of_ble_eq_true rfl⟩ [tI p1, tI (((16 : Int32) * p1) + ((v8 + x2) - (v8 + x2) / v5 * v5))] rfl (Nat.le_of_ble_eq_true rfl) hv10 (sX11_isReady l D n v10 p1 (((16 : Int32) * p1) + ((v8 + x2) - (v8 + x2) / v5 * v5)) A3 g11 hg11) dX11_unitGoes_32 ?_
    refine rf_if_ne X (tgt := 41) rfl dX11_unitGoes_35 (fun c12 => rf_neg c12 ?_) (fun c12 => rf_pos c12 ?_)
    · refine rf_aload_n X rfl dX11_unitGoes_41 ?_
      refine rf_bind (fun v13 hv13 => ?_)
      refine rf_getR X fl_X11_48 hv13 dX11_unitGoes_42 ?_
      refine rf_iload_n X rfl dX11_unitGoes_45 ?_
      refine rf_iload_n X rfl dX11_unitGoes_46 ?_
      refine rf_bind (fun A14 hA14 => ?_)
      refine rf_iast X hA14 dX11_unitGoes_47 ?_
      refine rf_aload_n X rfl dX11_unitGoes_48 ?_
      refine rf_iload_n X rfl dX11_unitGoes_49 ?_
      refine rf_bipush X (16 : Int32) rfl dX11_unitGoes_50 ?_
      refine rf_iload_n X rfl dX11_unitGoes_52 ?_
      refine rf_imul X dX11_unitGoes_53 ?_
      refine rf_iload_n X rfl dX11_unitGoes_54 ?_
      refine rf_iadd X dX11_unitGoes_55 ?_
      refine rf_bind (fun v15 hv15 => ?_)
      refine rf_bind (fun g16 hg16 => ?_)
      refine rf_callVU X c_X11_281 ⟨Nat.le_of_ble_eq_true rfl, Nat.le_of_ble_eq_true rfl⟩ [tI p1, tI (((16 : Int32) * p1) + ((v8 + x2) - (v8 + x2) / v5 * v5))] rfl (Nat.le_of_ble_eq_true rfl) hv15 (sX11_go l D n v15 p1 (((16 : Int32) * p1) + ((v8 + x2) - (v8 + x2) / v5 * v5)) A14 g16 hg16) dX11_unitGoes_56 ?_
      exact rf_vret X rfl dX11_unitGoes_59
    refine rf_goto X (tgt := 60) rfl dX11_unitGoes_38 ?_
    refine rf_iinc X (x2 + (1 : Int32)) rfl rfl (ls' := [some (tR (some a0)), some (tI p1), some (tI (x2 + (1 : Int32))), some (tI ((v8 + x2) - (v8 + x2) / v5 * v5))]) rfl (by decide) dX11_unitGoes_60 ?_
    refine rf_goto X (tgt := 2) rfl dX11_unitGoes_63 ?_
    exact rf_go (hrc4 (x2 + (1 : Int32)) g11.2) (And.intro rfl (And.intro rfl (And.intro rfl True.intro)))
  exact rf_go (hj1 (1 : Int32) A) (And.intro rfl (And.intro rfl (And.intro rfl True.intro)))

