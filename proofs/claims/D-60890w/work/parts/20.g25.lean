/-! 20.g25: printed by gen/parts.py -/
set_option maxRecDepth 100000
theorem c_X11_328 : CV RX11 328 11 yX11_told cX11_told 3 (some Jvm.ClassFile.FieldType.int) 2 := ⟨TX11, 60, rfl, q1933, q1935, qs69, q111, q1936, ⟨by decide +kernel, by decide +kernel, by decide +kernel⟩⟩
theorem c_X11_349 : CV RX11 349 11 yX11_from cX11_from 3 (some Jvm.ClassFile.FieldType.int) 1 := ⟨TX11, 60, rfl, q1957, q1959, qs75, q111, q1960, ⟨by decide +kernel, by decide +kernel, by decide +kernel⟩⟩
theorem c_X11_335 : CV RX11 335 11 yX11_say cX11_say 4 none 2 := ⟨TX11, 60, rfl, q1941, q1943, qs71, q111, q1944, ⟨by decide +kernel, by decide +kernel, by decide +kernel⟩⟩
theorem c_X11_346 : CV RX11 346 11 yX11_touch cX11_touch 7 none 4 := ⟨TX11, 60, rfl, q1953, q1955, qs74, q111, q1956, ⟨by decide +kernel, by decide +kernel, by decide +kernel⟩⟩
theorem c_X11_342 : CV RX11 342 11 yX11_ask cX11_ask 6 none 5 := ⟨TX11, 60, rfl, q1949, q1951, qs73, q111, q1952, ⟨by decide +kernel, by decide +kernel, by decide +kernel⟩⟩
theorem c_X11_339 : CV RX11 339 11 yX11_jump cX11_jump 5 none 4 := ⟨TX11, 60, rfl, q1945, q1947, qs72, q111, q1948, ⟨by decide +kernel, by decide +kernel, by decide +kernel⟩⟩
theorem c_X11_331 : CV RX11 331 11 yX11_reckon cX11_reckon 4 (some Jvm.ClassFile.FieldType.int) 3 := ⟨TX11, 60, rfl, q1937, q1939, qs70, q111, q1940, ⟨by decide +kernel, by decide +kernel, by decide +kernel⟩⟩
theorem dX11_act_0 : decode cX11_act 0 = .ok (.aload_n 0, 1) := by decide +kernel
theorem dX11_act_1 : decode cX11_act 1 = .ok (.iload_n 3, 1) := by decide +kernel
theorem dX11_act_2 : decode cX11_act 2 = .ok (.aload_n 0, 1) := by decide +kernel
theorem dX11_act_3 : decode cX11_act 3 = .ok (.getfield 228, 3) := by decide +kernel
theorem dX11_act_6 : decode cX11_act 6 = .ok (.invokevirtual 284, 3) := by decide +kernel
theorem dX11_act_9 : decode cX11_act 9 = .ok (.istore 5, 2) := by decide +kernel
theorem dX11_act_11 : decode cX11_act 11 = .ok (.aload_n 0, 1) := by decide +kernel
theorem dX11_act_12 : decode cX11_act 12 = .ok (.iload_n 3, 1) := by decide +kernel
theorem dX11_act_13 : decode cX11_act 13 = .ok (.aload_n 0, 1) := by decide +kernel
theorem dX11_act_14 : decode cX11_act 14 = .ok (.getfield 231, 3) := by decide +kernel
theorem dX11_act_17 : decode cX11_act 17 = .ok (.invokevirtual 284, 3) := by decide +kernel
theorem dX11_act_20 : decode cX11_act 20 = .ok (.istore 6, 2) := by decide +kernel
theorem dX11_act_22 : decode cX11_act 22 = .ok (.bipush 16, 2) := by decide +kernel
theorem dX11_act_24 : decode cX11_act 24 = .ok (.iload_n 3, 1) := by decide +kernel
theorem dX11_act_25 : decode cX11_act 25 = .ok (.imul, 1) := by decide +kernel
theorem dX11_act_26 : decode cX11_act 26 = .ok (.aload_n 0, 1) := by decide +kernel
theorem dX11_act_27 : decode cX11_act 27 = .ok (.getfield 225, 3) := by decide +kernel
theorem dX11_act_30 : decode cX11_act 30 = .ok (.iadd, 1) := by decide +kernel
theorem dX11_act_31 : decode cX11_act 31 = .ok (.istore 7, 2) := by decide +kernel
theorem dX11_act_33 : decode cX11_act 33 = .ok (.aload_n 0, 1) := by decide +kernel
theorem dX11_act_34 : decode cX11_act 34 = .ok (.getfield 220, 3) := by decide +kernel
theorem dX11_act_37 : decode cX11_act 37 = .ok (.ifCond .ne 13, 3) := by decide +kernel
theorem dX11_act_40 : decode cX11_act 40 = .ok (.aload_n 0, 1) := by decide +kernel
theorem dX11_act_41 : decode cX11_act 41 = .ok (.getfield 76, 3) := by decide +kernel
theorem dX11_act_44 : decode cX11_act 44 = .ok (.iload_n 3, 1) := by decide +kernel
theorem dX11_act_45 : decode cX11_act 45 = .ok (.iconst 1, 1) := by decide +kernel
theorem dX11_act_46 : decode cX11_act 46 = .ok (.bastore, 1) := by decide +kernel
theorem dX11_act_47 : decode cX11_act 47 = .ok (.goto 464, 3) := by decide +kernel
theorem dX11_act_50 : decode cX11_act 50 = .ok (.aload_n 0, 1) := by decide +kernel
theorem dX11_act_51 : decode cX11_act 51 = .ok (.getfield 220, 3) := by decide +kernel
theorem dX11_act_54 : decode cX11_act 54 = .ok (.iconst 1, 1) := by decide +kernel
theorem dX11_act_55 : decode cX11_act 55 = .ok (.if_icmp .ne 13, 3) := by decide +kernel
theorem dX11_act_58 : decode cX11_act 58 = .ok (.aload_n 0, 1) := by decide +kernel
theorem dX11_act_59 : decode cX11_act 59 = .ok (.getfield 80, 3) := by decide +kernel
theorem dX11_act_62 : decode cX11_act 62 = .ok (.iload_n 3, 1) := by decide +kernel
theorem dX11_act_63 : decode cX11_act 63 = .ok (.iconst 1, 1) := by decide +kernel
theorem dX11_act_64 : decode cX11_act 64 = .ok (.bastore, 1) := by decide +kernel
theorem dX11_act_65 : decode cX11_act 65 = .ok (.goto 446, 3) := by decide +kernel
theorem dX11_act_68 : decode cX11_act 68 = .ok (.aload_n 0, 1) := by decide +kernel
theorem dX11_act_69 : decode cX11_act 69 = .ok (.getfield 220, 3) := by decide +kernel
theorem dX11_act_72 : decode cX11_act 72 = .ok (.iconst 2, 1) := by decide +kernel
theorem dX11_act_73 : decode cX11_act 73 = .ok (.if_icmp .ne 17, 3) := by decide +kernel
theorem dX11_act_76 : decode cX11_act 76 = .ok (.aload_n 0, 1) := by decide +kernel
theorem dX11_act_77 : decode cX11_act 77 = .ok (.getfield 67, 3) := by decide +kernel
theorem dX11_act_80 : decode cX11_act 80 = .ok (.iload 7, 2) := by decide +kernel
theorem dX11_act_82 : decode cX11_act 82 = .ok (.aload_n 0, 1) := by decide +kernel
theorem dX11_act_83 : decode cX11_act 83 = .ok (.getfield 237, 3) := by decide +kernel
theorem dX11_act_86 : decode cX11_act 86 = .ok (.iastore, 1) := by decide +kernel
theorem dX11_act_87 : decode cX11_act 87 = .ok (.goto 424, 3) := by decide +kernel
theorem dX11_act_90 : decode cX11_act 90 = .ok (.aload_n 0, 1) := by decide +kernel
theorem dX11_act_91 : decode cX11_act 91 = .ok (.getfield 220, 3) := by decide +kernel
theorem dX11_act_94 : decode cX11_act 94 = .ok (.iconst 3, 1) := by decide +kernel
theorem dX11_act_95 : decode cX11_act 95 = .ok (.if_icmp .ne 19, 3) := by decide +kernel
theorem dX11_act_98 : decode cX11_act 98 = .ok (.aload_n 0, 1) := by decide +kernel
theorem dX11_act_99 : decode cX11_act 99 = .ok (.getfield 67, 3) := by decide +kernel
theorem dX11_act_102 : decode cX11_act 102 = .ok (.iload 7, 2) := by decide +kernel
theorem dX11_act_104 : decode cX11_act 104 = .ok (.aload_n 0, 1) := by decide +kernel
theorem dX11_act_105 : decode cX11_act 105 = .ok (.iload_n 1, 1) := by decide +kernel
theorem dX11_act_106 : decode cX11_act 106 = .ok (.iload_n 2, 1) := by decide +kernel
theorem dX11_act_107 : decode cX11_act 107 = .ok (.invokevirtual 328, 3) := by decide +kernel
theorem dX11_act_110 : decode cX11_act 110 = .ok (.iastore, 1) := by decide +kernel
theorem dX11_act_111 : decode cX11_act 111 = .ok (.goto 400, 3) := by decide +kernel
theorem dX11_act_114 : decode cX11_act 114 = .ok (.aload_n 0, 1) := by decide +kernel
theorem dX11_act_115 : decode cX11_act 115 = .ok (.getfield 220, 3) := by decide +kernel
theorem dX11_act_118 : decode cX11_act 118 = .ok (.bipush 21, 2) := by decide +kernel
theorem dX11_act_120 : decode cX11_act 120 = .ok (.if_icmp .gt 22, 3) := by decide +kernel
theorem dX11_act_123 : decode cX11_act 123 = .ok (.aload_n 0, 1) := by decide +kernel
theorem dX11_act_124 : decode cX11_act 124 = .ok (.getfield 67, 3) := by decide +kernel
theorem dX11_act_127 : decode cX11_act 127 = .ok (.iload 7, 2) := by decide +kernel
theorem dX11_act_129 : decode cX11_act 129 = .ok (.aload_n 0, 1) := by decide +kernel
theorem dX11_act_130 : decode cX11_act 130 = .ok (.iload 5, 2) := by decide +kernel
theorem dX11_act_132 : decode cX11_act 132 = .ok (.iload 6, 2) := by decide +kernel
theorem dX11_act_134 : decode cX11_act 134 = .ok (.iload_n 3, 1) := by decide +kernel
theorem dX11_act_135 : decode cX11_act 135 = .ok (.invokevirtual 331, 3) := by decide +kernel
theorem dX11_act_138 : decode cX11_act 138 = .ok (.iastore, 1) := by decide +kernel
theorem dX11_act_139 : decode cX11_act 139 = .ok (.goto 372, 3) := by decide +kernel
theorem dX11_act_142 : decode cX11_act 142 = .ok (.aload_n 0, 1) := by decide +kernel
theorem dX11_act_143 : decode cX11_act 143 = .ok (.getfield 220, 3) := by decide +kernel
theorem dX11_act_146 : decode cX11_act 146 = .ok (.bipush 33, 2) := by decide +kernel
theorem dX11_act_148 : decode cX11_act 148 = .ok (.if_icmp .gt 99, 3) := by decide +kernel
theorem dX11_act_151 : decode cX11_act 151 = .ok (.aload_n 0, 1) := by decide +kernel
theorem dX11_act_152 : decode cX11_act 152 = .ok (.iload_n 3, 1) := by decide +kernel
theorem dX11_act_153 : decode cX11_act 153 = .ok (.aload_n 0, 1) := by decide +kernel
theorem dX11_act_154 : decode cX11_act 154 = .ok (.getfield 220, 3) := by decide +kernel
theorem dX11_act_157 : decode cX11_act 157 = .ok (.bipush 30, 2) := by decide +kernel
theorem dX11_act_159 : decode cX11_act 159 = .ok (.if_icmp .ne 18, 3) := by decide +kernel
theorem dX11_act_162 : decode cX11_act 162 = .ok (.iload 5, 2) := by decide +kernel
theorem dX11_act_164 : decode cX11_act 164 = .ok (.iload 6, 2) := by decide +kernel
theorem dX11_act_166 : decode cX11_act 166 = .ok (.if_icmp .ge 7, 3) := by decide +kernel
theorem dX11_act_169 : decode cX11_act 169 = .ok (.iconst 1, 1) := by decide +kernel
theorem dX11_act_170 : decode cX11_act 170 = .ok (.goto 71, 3) := by decide +kernel
theorem dX11_act_173 : decode cX11_act 173 = .ok (.iconst 0, 1) := by decide +kernel
theorem dX11_act_174 : decode cX11_act 174 = .ok (.goto 67, 3) := by decide +kernel
theorem dX11_act_177 : decode cX11_act 177 = .ok (.aload_n 0, 1) := by decide +kernel
theorem dX11_act_178 : decode cX11_act 178 = .ok (.getfield 220, 3) := by decide +kernel
theorem dX11_act_181 : decode cX11_act 181 = .ok (.bipush 31, 2) := by decide +kernel
theorem dX11_act_183 : decode cX11_act 183 = .ok (.if_icmp .ne 18, 3) := by decide +kernel
theorem dX11_act_186 : decode cX11_act 186 = .ok (.iload 5, 2) := by decide +kernel
theorem dX11_act_188 : decode cX11_act 188 = .ok (.iload 6, 2) := by decide +kernel
theorem dX11_act_190 : decode cX11_act 190 = .ok (.if_icmp .ne 7, 3) := by decide +kernel
theorem dX11_act_193 : decode cX11_act 193 = .ok (.iconst 1, 1) := by decide +kernel
theorem dX11_act_194 : decode cX11_act 194 = .ok (.goto 47, 3) := by decide +kernel
theorem dX11_act_197 : decode cX11_act 197 = .ok (.iconst 0, 1) := by decide +kernel
theorem dX11_act_198 : decode cX11_act 198 = .ok (.goto 43, 3) := by decide +kernel
theorem dX11_act_201 : decode cX11_act 201 = .ok (.aload_n 0, 1) := by decide +kernel
theorem dX11_act_202 : decode cX11_act 202 = .ok (.getfield 220, 3) := by decide +kernel
theorem dX11_act_205 : decode cX11_act 205 = .ok (.bipush 32, 2) := by decide +kernel
theorem dX11_act_207 : decode cX11_act 207 = .ok (.if_icmp .ne 20, 3) := by decide +kernel
theorem dX11_act_210 : decode cX11_act 210 = .ok (.iload 5, 2) := by decide +kernel
theorem dX11_act_212 : decode cX11_act 212 = .ok (.aload_n 0, 1) := by decide +kernel
theorem dX11_act_213 : decode cX11_act 213 = .ok (.getfield 237, 3) := by decide +kernel
theorem dX11_act_216 : decode cX11_act 216 = .ok (.if_icmp .ge 7, 3) := by decide +kernel
theorem dX11_act_219 : decode cX11_act 219 = .ok (.iconst 1, 1) := by decide +kernel
theorem dX11_act_220 : decode cX11_act 220 = .ok (.goto 21, 3) := by decide +kernel
theorem dX11_act_223 : decode cX11_act 223 = .ok (.iconst 0, 1) := by decide +kernel
theorem dX11_act_224 : decode cX11_act 224 = .ok (.goto 17, 3) := by decide +kernel
theorem dX11_act_227 : decode cX11_act 227 = .ok (.iload 5, 2) := by decide +kernel
theorem dX11_act_229 : decode cX11_act 229 = .ok (.aload_n 0, 1) := by decide +kernel
theorem dX11_act_230 : decode cX11_act 230 = .ok (.getfield 237, 3) := by decide +kernel
theorem dX11_act_233 : decode cX11_act 233 = .ok (.if_icmp .ne 7, 3) := by decide +kernel
theorem dX11_act_236 : decode cX11_act 236 = .ok (.iconst 1, 1) := by decide +kernel
theorem dX11_act_237 : decode cX11_act 237 = .ok (.goto 4, 3) := by decide +kernel
theorem dX11_act_240 : decode cX11_act 240 = .ok (.iconst 0, 1) := by decide +kernel
theorem dX11_act_241 : decode cX11_act 241 = .ok (.invokevirtual 335, 3) := by decide +kernel
theorem dX11_act_244 : decode cX11_act 244 = .ok (.goto 267, 3) := by decide +kernel
theorem dX11_act_247 : decode cX11_act 247 = .ok (.aload_n 0, 1) := by decide +kernel
theorem dX11_act_248 : decode cX11_act 248 = .ok (.getfield 220, 3) := by decide +kernel
theorem dX11_act_251 : decode cX11_act 251 = .ok (.bipush 36, 2) := by decide +kernel
theorem dX11_act_253 : decode cX11_act 253 = .ok (.if_icmp .gt 110, 3) := by decide +kernel
theorem dX11_act_256 : decode cX11_act 256 = .ok (.aload_n 0, 1) := by decide +kernel
theorem dX11_act_257 : decode cX11_act 257 = .ok (.iload_n 3, 1) := by decide +kernel
theorem dX11_act_258 : decode cX11_act 258 = .ok (.aload_n 0, 1) := by decide +kernel
theorem dX11_act_259 : decode cX11_act 259 = .ok (.getfield 220, 3) := by decide +kernel
theorem dX11_act_262 : decode cX11_act 262 = .ok (.bipush 34, 2) := by decide +kernel
theorem dX11_act_264 : decode cX11_act 264 = .ok (.if_icmp .ne 35, 3) := by decide +kernel
theorem dX11_act_267 : decode cX11_act 267 = .ok (.aload_n 0, 1) := by decide +kernel
theorem dX11_act_268 : decode cX11_act 268 = .ok (.iload_n 3, 1) := by decide +kernel
theorem dX11_act_269 : decode cX11_act 269 = .ok (.aload_n 0, 1) := by decide +kernel
theorem dX11_act_270 : decode cX11_act 270 = .ok (.getfield 228, 3) := by decide +kernel
theorem dX11_act_273 : decode cX11_act 273 = .ok (.invokevirtual 291, 3) := by decide +kernel
theorem dX11_act_276 : decode cX11_act 276 = .ok (.ifCond .eq 19, 3) := by decide +kernel
theorem dX11_act_279 : decode cX11_act 279 = .ok (.aload_n 0, 1) := by decide +kernel
theorem dX11_act_280 : decode cX11_act 280 = .ok (.iload_n 3, 1) := by decide +kernel
theorem dX11_act_281 : decode cX11_act 281 = .ok (.aload_n 0, 1) := by decide +kernel
theorem dX11_act_282 : decode cX11_act 282 = .ok (.getfield 231, 3) := by decide +kernel
theorem dX11_act_285 : decode cX11_act 285 = .ok (.invokevirtual 291, 3) := by decide +kernel
theorem dX11_act_288 : decode cX11_act 288 = .ok (.ifCond .eq 7, 3) := by decide +kernel
theorem dX11_act_291 : decode cX11_act 291 = .ok (.iconst 1, 1) := by decide +kernel
theorem dX11_act_292 : decode cX11_act 292 = .ok (.goto 65, 3) := by decide +kernel
theorem dX11_act_295 : decode cX11_act 295 = .ok (.iconst 0, 1) := by decide +kernel
theorem dX11_act_296 : decode cX11_act 296 = .ok (.goto 61, 3) := by decide +kernel
theorem dX11_act_299 : decode cX11_act 299 = .ok (.aload_n 0, 1) := by decide +kernel
theorem dX11_act_300 : decode cX11_act 300 = .ok (.getfield 220, 3) := by decide +kernel
theorem dX11_act_303 : decode cX11_act 303 = .ok (.bipush 35, 2) := by decide +kernel
theorem dX11_act_305 : decode cX11_act 305 = .ok (.if_icmp .ne 35, 3) := by decide +kernel
theorem dX11_act_308 : decode cX11_act 308 = .ok (.aload_n 0, 1) := by decide +kernel
theorem dX11_act_309 : decode cX11_act 309 = .ok (.iload_n 3, 1) := by decide +kernel
theorem dX11_act_310 : decode cX11_act 310 = .ok (.aload_n 0, 1) := by decide +kernel
theorem dX11_act_311 : decode cX11_act 311 = .ok (.getfield 228, 3) := by decide +kernel
theorem dX11_act_314 : decode cX11_act 314 = .ok (.invokevirtual 291, 3) := by decide +kernel
theorem dX11_act_317 : decode cX11_act 317 = .ok (.ifCond .ne 15, 3) := by decide +kernel
theorem dX11_act_320 : decode cX11_act 320 = .ok (.aload_n 0, 1) := by decide +kernel
theorem dX11_act_321 : decode cX11_act 321 = .ok (.iload_n 3, 1) := by decide +kernel
theorem dX11_act_322 : decode cX11_act 322 = .ok (.aload_n 0, 1) := by decide +kernel
theorem dX11_act_323 : decode cX11_act 323 = .ok (.getfield 231, 3) := by decide +kernel
theorem dX11_act_326 : decode cX11_act 326 = .ok (.invokevirtual 291, 3) := by decide +kernel
theorem dX11_act_329 : decode cX11_act 329 = .ok (.ifCond .eq 7, 3) := by decide +kernel
theorem dX11_act_332 : decode cX11_act 332 = .ok (.iconst 1, 1) := by decide +kernel
theorem dX11_act_333 : decode cX11_act 333 = .ok (.goto 24, 3) := by decide +kernel
theorem dX11_act_336 : decode cX11_act 336 = .ok (.iconst 0, 1) := by decide +kernel
theorem dX11_act_337 : decode cX11_act 337 = .ok (.goto 20, 3) := by decide +kernel
theorem dX11_act_340 : decode cX11_act 340 = .ok (.aload_n 0, 1) := by decide +kernel
theorem dX11_act_341 : decode cX11_act 341 = .ok (.iload_n 3, 1) := by decide +kernel
theorem dX11_act_342 : decode cX11_act 342 = .ok (.aload_n 0, 1) := by decide +kernel
theorem dX11_act_343 : decode cX11_act 343 = .ok (.getfield 228, 3) := by decide +kernel
theorem dX11_act_346 : decode cX11_act 346 = .ok (.invokevirtual 291, 3) := by decide +kernel
theorem dX11_act_349 : decode cX11_act 349 = .ok (.ifCond .ne 7, 3) := by decide +kernel
theorem dX11_act_352 : decode cX11_act 352 = .ok (.iconst 1, 1) := by decide +kernel
theorem dX11_act_353 : decode cX11_act 353 = .ok (.goto 4, 3) := by decide +kernel
theorem dX11_act_356 : decode cX11_act 356 = .ok (.iconst 0, 1) := by decide +kernel
theorem dX11_act_357 : decode cX11_act 357 = .ok (.invokevirtual 335, 3) := by decide +kernel
theorem dX11_act_360 : decode cX11_act 360 = .ok (.goto 151, 3) := by decide +kernel
theorem dX11_act_363 : decode cX11_act 363 = .ok (.aload_n 0, 1) := by decide +kernel
theorem dX11_act_364 : decode cX11_act 364 = .ok (.getfield 220, 3) := by decide +kernel
theorem dX11_act_367 : decode cX11_act 367 = .ok (.bipush 42, 2) := by decide +kernel
theorem dX11_act_369 : decode cX11_act 369 = .ok (.if_icmp .gt 17, 3) := by decide +kernel
theorem dX11_act_372 : decode cX11_act 372 = .ok (.aload_n 0, 1) := by decide +kernel
theorem dX11_act_373 : decode cX11_act 373 = .ok (.iload_n 3, 1) := by decide +kernel
theorem dX11_act_374 : decode cX11_act 374 = .ok (.iload 7, 2) := by decide +kernel
theorem dX11_act_376 : decode cX11_act 376 = .ok (.iload 5, 2) := by decide +kernel
theorem dX11_act_378 : decode cX11_act 378 = .ok (.iload 4, 2) := by decide +kernel
theorem dX11_act_380 : decode cX11_act 380 = .ok (.invokevirtual 339, 3) := by decide +kernel
theorem dX11_act_383 : decode cX11_act 383 = .ok (.goto 128, 3) := by decide +kernel
theorem dX11_act_386 : decode cX11_act 386 = .ok (.aload_n 0, 1) := by decide +kernel
theorem dX11_act_387 : decode cX11_act 387 = .ok (.invokevirtual 240, 3) := by decide +kernel
theorem dX11_act_390 : decode cX11_act 390 = .ok (.ifCond .eq 35, 3) := by decide +kernel
theorem dX11_act_393 : decode cX11_act 393 = .ok (.aload_n 0, 1) := by decide +kernel
theorem dX11_act_394 : decode cX11_act 394 = .ok (.invokevirtual 275, 3) := by decide +kernel
theorem dX11_act_397 : decode cX11_act 397 = .ok (.ifCond .ne 28, 3) := by decide +kernel
theorem dX11_act_400 : decode cX11_act 400 = .ok (.aload_n 0, 1) := by decide +kernel
theorem dX11_act_401 : decode cX11_act 401 = .ok (.iload_n 1, 1) := by decide +kernel
theorem dX11_act_402 : decode cX11_act 402 = .ok (.iload_n 2, 1) := by decide +kernel
theorem dX11_act_403 : decode cX11_act 403 = .ok (.iload 5, 2) := by decide +kernel
theorem dX11_act_405 : decode cX11_act 405 = .ok (.aload_n 0, 1) := by decide +kernel
theorem dX11_act_406 : decode cX11_act 406 = .ok (.getfield 237, 3) := by decide +kernel
theorem dX11_act_409 : decode cX11_act 409 = .ok (.iadd, 1) := by decide +kernel
theorem dX11_act_410 : decode cX11_act 410 = .ok (.iload 6, 2) := by decide +kernel
theorem dX11_act_412 : decode cX11_act 412 = .ok (.aload_n 0, 1) := by decide +kernel
theorem dX11_act_413 : decode cX11_act 413 = .ok (.getfield 67, 3) := by decide +kernel
theorem dX11_act_416 : decode cX11_act 416 = .ok (.iload 7, 2) := by decide +kernel
theorem dX11_act_418 : decode cX11_act 418 = .ok (.iaload, 1) := by decide +kernel
theorem dX11_act_419 : decode cX11_act 419 = .ok (.invokevirtual 342, 3) := by decide +kernel
theorem dX11_act_422 : decode cX11_act 422 = .ok (.goto 89, 3) := by decide +kernel
theorem dX11_act_425 : decode cX11_act 425 = .ok (.aload_n 0, 1) := by decide +kernel
theorem dX11_act_426 : decode cX11_act 426 = .ok (.getfield 220, 3) := by decide +kernel
theorem dX11_act_429 : decode cX11_act 429 = .ok (.bipush 59, 2) := by decide +kernel
theorem dX11_act_431 : decode cX11_act 431 = .ok (.if_icmp .gt 22, 3) := by decide +kernel
theorem dX11_act_434 : decode cX11_act 434 = .ok (.aload_n 0, 1) := by decide +kernel
theorem dX11_act_435 : decode cX11_act 435 = .ok (.iload_n 1, 1) := by decide +kernel
theorem dX11_act_436 : decode cX11_act 436 = .ok (.iload 7, 2) := by decide +kernel
theorem dX11_act_438 : decode cX11_act 438 = .ok (.iload 5, 2) := by decide +kernel
theorem dX11_act_440 : decode cX11_act 440 = .ok (.aload_n 0, 1) := by decide +kernel
theorem dX11_act_441 : decode cX11_act 441 = .ok (.getfield 237, 3) := by decide +kernel
theorem dX11_act_444 : decode cX11_act 444 = .ok (.iadd, 1) := by decide +kernel
theorem dX11_act_445 : decode cX11_act 445 = .ok (.iload 6, 2) := by decide +kernel
theorem dX11_act_447 : decode cX11_act 447 = .ok (.invokevirtual 346, 3) := by decide +kernel
theorem dX11_act_450 : decode cX11_act 450 = .ok (.goto 61, 3) := by decide +kernel
theorem dX11_act_453 : decode cX11_act 453 = .ok (.aload_n 0, 1) := by decide +kernel
theorem dX11_act_454 : decode cX11_act 454 = .ok (.getfield 220, 3) := by decide +kernel
theorem dX11_act_457 : decode cX11_act 457 = .ok (.bipush 71, 2) := by decide +kernel
theorem dX11_act_459 : decode cX11_act 459 = .ok (.if_icmp .gt 24, 3) := by decide +kernel
theorem dX11_act_462 : decode cX11_act 462 = .ok (.aload_n 0, 1) := by decide +kernel
theorem dX11_act_463 : decode cX11_act 463 = .ok (.iload_n 3, 1) := by decide +kernel
theorem dX11_act_464 : decode cX11_act 464 = .ok (.aload_n 0, 1) := by decide +kernel
theorem dX11_act_465 : decode cX11_act 465 = .ok (.getfield 325, 3) := by decide +kernel
theorem dX11_act_468 : decode cX11_act 468 = .ok (.iconst 1, 1) := by decide +kernel
theorem dX11_act_469 : decode cX11_act 469 = .ok (.if_icmp .ne 7, 3) := by decide +kernel
theorem dX11_act_472 : decode cX11_act 472 = .ok (.iconst 1, 1) := by decide +kernel
theorem dX11_act_473 : decode cX11_act 473 = .ok (.goto 4, 3) := by decide +kernel
theorem dX11_act_476 : decode cX11_act 476 = .ok (.iconst 0, 1) := by decide +kernel
theorem dX11_act_477 : decode cX11_act 477 = .ok (.invokevirtual 335, 3) := by decide +kernel
theorem dX11_act_480 : decode cX11_act 480 = .ok (.goto 31, 3) := by decide +kernel
theorem dX11_act_483 : decode cX11_act 483 = .ok (.aload_n 0, 1) := by decide +kernel
theorem dX11_act_484 : decode cX11_act 484 = .ok (.getfield 67, 3) := by decide +kernel
theorem dX11_act_487 : decode cX11_act 487 = .ok (.iload 7, 2) := by decide +kernel
theorem dX11_act_489 : decode cX11_act 489 = .ok (.aload_n 0, 1) := by decide +kernel
theorem dX11_act_490 : decode cX11_act 490 = .ok (.getfield 220, 3) := by decide +kernel
theorem dX11_act_493 : decode cX11_act 493 = .ok (.bipush 72, 2) := by decide +kernel
theorem dX11_act_495 : decode cX11_act 495 = .ok (.if_icmp .ne 10, 3) := by decide +kernel
theorem dX11_act_498 : decode cX11_act 498 = .ok (.aload_n 0, 1) := by decide +kernel
theorem dX11_act_499 : decode cX11_act 499 = .ok (.getfield 325, 3) := by decide +kernel
theorem dX11_act_502 : decode cX11_act 502 = .ok (.goto 8, 3) := by decide +kernel
theorem dX11_act_505 : decode cX11_act 505 = .ok (.aload_n 0, 1) := by decide +kernel
theorem dX11_act_506 : decode cX11_act 506 = .ok (.iload_n 2, 1) := by decide +kernel
theorem dX11_act_507 : decode cX11_act 507 = .ok (.invokevirtual 349, 3) := by decide +kernel
theorem dX11_act_510 : decode cX11_act 510 = .ok (.iastore, 1) := by decide +kernel
theorem dX11_act_511 : decode cX11_act 511 = .ok (.return_, 1) := by decide +kernel
def fX11_act (a0 : Nat) (p1 : Int32) (p2 : Int32) (p3 : Int32) (p4 : Int32) (A : AH) : Option (AH) :=
(gI A (some a0) 11 54).bind fun v1 =>
(rcv A (some a0) 11).bind fun v2 =>
(fX11_reg v2 p3 v1 A).bind fun g3 =>
(gI A (some a0) 11 55).bind fun v4 =>
(fX11_reg v2 p3 v4 A).bind fun g5 =>
(gI A (some a0) 11 53).bind fun v6 =>
(gI A (some a0) 11 52).bind fun v7 =>
jn (fun (A9 : AH) =>
some A9) fun j8 =>
if v7 = 0 then ((gR A (some a0) 11 38).bind fun v11 =>
(sZ A v11 p3 (1 : Int32)).bind fun A12 =>
j8 A12) else
if v7 = (1 : Int32) then ((gR A (some a0) 11 39).bind fun v14 =>
(sZ A v14 p3 (1 : Int32)).bind fun A15 =>
j8 A15) else
if v7 = (2 : Int32) then ((gR A (some a0) 11 35).bind fun v17 =>
(gI A (some a0) 11 57).bind fun v18 =>
(sI A v17 (((16 : Int32) * p3) + v6) v18).bind fun A19 =>
j8 A19) else
if v7 = (3 : Int32) then ((gR A (some a0) 11 35).bind fun v21 =>
(fX11_told v2 p1 p2 A).bind fun g22 =>
(sI A v21 (((16 : Int32) * p3) + v6) g22).bind fun A23 =>
j8 A23) else
if (21 : Int32) < v7 then (if (33 : Int32) < v7 then (if (36 : Int32) < v7 then (if (42 : Int32) < v7 then ((fX11_isMemory v2 A).bind fun g28 =>
jn (if (59 : Int32) < v7 then (if (71 : Int32) < v7 then ((gR A (some a0) 11 35).bind fun v32 =>
jn (fun (y34 : Int32) =>
(sI A v32 (((16 : Int32) * p3) + v6) y34).bind fun A35 =>
j8 A35) fun j33 =>
if v7 = (72 : Int32) then ((gI A (some a0) 11 58).bind fun v37 =>
j33 v37) else
(fX11_from v2 p2 A).bind fun g38 =>
j33 g38) else
(gI A (some a0) 11 58).bind fun v39 =>
jn (fun (y41 : Int32) =>
(fX11_say v2 p3 y41 A).bind fun g42 =>
j8 g42) fun j40 =>
if v39 = (1 : Int32) then (j40 (1 : Int32)) else
j40 (0 : Int32)) else
(gI A (some a0) 11 57).bind fun v44 =>
(fX11_touch v2 p1 (((16 : Int32) * p3) + v6) (g3 + v44) g5 A).bind fun g45 =>
j8 g45) fun j29 =>
if g28 = 0 then (j29) else
(fX11_isShared v2 A).bind fun g47 =>
if g47 = 0 then ((gI A (some a0) 11 57).bind fun v49 =>
(gR A (some a0) 11 35).bind fun v50 =>
(aI A v50 (((16 : Int32) * p3) + v6)).bind fun v51 =>
(fX11_ask v2 p1 p2 (g3 + v49) g5 v51 A).bind fun g52 =>
j8 g52) else
j29) else
(fX11_jump v2 p3 (((16 : Int32) * p3) + v6) g3 p4 A).bind fun g53 =>
j8 g53) else
jn (fun (y55 : Int32) =>
(fX11_say v2 p3 y55 A).bind fun g56 =>
j8 g56) fun j54 =>
if v7 = (34 : Int32) then ((fX11_has v2 p3 v1 A).bind fun g58 =>
jn (j54 (0 : Int32)) fun j59 =>
if g58 = 0 then (j59) else
(fX11_has v2 p3 v4 A).bind fun g61 =>
if g61 = 0 then (j59) else
j54 (1 : Int32)) else
if v7 = (35 : Int32) then ((fX11_has v2 p3 v1 A).bind fun g64 =>
jn (j54 (1 : Int32)) fun j65 =>
if g64 = 0 then ((fX11_has v2 p3 v4 A).bind fun g67 =>
if g67 = 0 then (j54 (0 : Int32)) else
j65) else
j65) else
(fX11_has v2 p3 v1 A).bind fun g69 =>
if g69 = 0 then (j54 (1 : Int32)) else
j54 (0 : Int32)) else
jn (fun (y72 : Int32) =>
(fX11_say v2 p3 y72 A).bind fun g73 =>
j8 g73) fun j71 =>
if v7 = (30 : Int32) then (if g5 ≤ g3 then (j71 (0 : Int32)) else
j71 (1 : Int32)) else
if v7 = (31 : Int32) then (if g3 = g5 then (j71 (1 : Int32)) else
j71 (0 : Int32)) else
if v7 = (32 : Int32) then ((gI A (some a0) 11 57).bind fun v79 =>
if v79 ≤ g3 then (j71 (0 : Int32)) else
j71 (1 : Int32)) else
(gI A (some a0) 11 57).bind fun v81 =>
if g3 = v81 then (j71 (1 : Int32)) else
j71 (0 : Int32)) else
(gR A (some a0) 11 35).bind fun v83 =>
(fX11_reckon v2 g3 g5 p3 A).bind fun g84 =>
(sI A v83 (((16 : Int32) * p3) + v6) g84).bind fun A85 =>
j8 A85

set_option maxHeartbeats 4000000 in
set_option maxRecDepth 100000 in
theorem sX11_act (l : Launch) (D : DE) (a0 : Nat) (p1 : Int32) (p2 : Int32) (p3 : Int32) (p4 : Int32) (A : AH) (g : AH) (hg : fX11_act a0 p1 p2 p3 p4 A = some g) : Sm l D yX11_act cX11_act 8 none 2 49 [tR (some a0), tI p1, tI p2, tI p3, tI p4] A (wU g).1 (wU g).2 := by
  refine Sm.of (ω := wU) (fX11_act a0 p1 p2 p3 p4 A) [some (tR (some a0)), some (tI p1), some (tI p2), some (tI p3), some (tI p4), none, none, none] (by decide) (Nat.le_of_ble_eq_true rfl) rfl hg ?_
  intro p e R s m args below meth c X hin
  have X : Cx D cX11_act RX11 8 2 49 none p R s m args meth c := X
  unfold fX11_act
  refine rf_aload_n X rfl dX11_act_0 ?_
  refine rf_iload_n X rfl dX11_act_1 ?_
  refine rf_aload_n X rfl dX11_act_2 ?_
  refine rf_bind (fun v1 hv1 => ?_)
  refine rf_getI X fl_X11_228 hv1 dX11_act_3 ?_
  refine rf_bind (fun v2 hv2 => ?_)
  refine rf_bind (fun g3 hg3 => ?_)
  refine rf_callVI X c_X11_284 ⟨Nat.le_of_ble_eq_true rfl, Nat.le_of_ble_eq_true rfl⟩ [tI p3, tI v1] rfl (Nat.le_of_ble_eq_true rfl) hv2 (sX11_reg l D v2 p3 v1 A g3 hg3) dX11_act_6 ?_
  refine rf_istore X (ls' := [some (tR (some a0)), some (tI p1), some (tI p2), some (tI p3), some (tI p4), some (tI g3), none, none]) rfl (by decide) dX11_act_9 ?_
  refine rf_aload_n X rfl dX11_act_11 ?_
  refine rf_iload_n X rfl dX11_act_12 ?_
  refine rf_aload_n X rfl dX11_act_13 ?_
  refine rf_bind (fun v4 hv4 => ?_)
  refine rf_getI X fl_X11_231 hv4 dX11_act_14 ?_
  refine rf_bind (fun g5 hg5 => ?_)
  refine rf_callVI X c_X11_284 ⟨Nat.le_of_ble_eq_true rfl, Nat.le_of_ble_eq_true rfl⟩ [tI p3, tI v4] rfl (Nat.le_of_ble_eq_true rfl) hv2 (sX11_reg l D v2 p3 v4 A g5 hg5) dX11_act_17 ?_
  refine rf_istore X (ls' := [some (tR (some a0)), some (tI p1), some (tI p2), some (tI p3), some (tI p4), some (tI g3), some (tI g5), none]) rfl (by decide) dX11_act_20 ?_
  refine rf_bipush X (16 : Int32) rfl dX11_act_22 ?_
  refine rf_iload_n X rfl dX11_act_24 ?_
  refine rf_imul X dX11_act_25 ?_
  refine rf_aload_n X rfl dX11_act_26 ?_
  refine rf_bind (fun v6 hv6 => ?_)
  refine rf_getI X fl_X11_225 hv6 dX11_act_27 ?_
  refine rf_iadd X dX11_act_30 ?_
  refine rf_istore X (ls' := [some (tR (some a0)), some (tI p1), some (tI p2), some (tI p3), some (tI p4), some (tI g3), some (tI g5), some (tI (((16 : Int32) * p3) + v6))]) rfl (by decide) dX11_act_31 ?_
  refine rf_aload_n X rfl dX11_act_33 ?_
  refine rf_bind (fun v7 hv7 => ?_)
  refine rf_getI X fl_X11_220 hv7 dX11_act_34 ?_
  refine rf_jn2 (fun i => ∀ (A9 : AH), RfX X l e below wU (i A9) 511 [none, none, none, none, none, none, none, none] [] A9) ?_ (fun j8 hj8 => ?_)
  · intro A9
    exact rf_vret X rfl dX11_act_511
  refine rf_if_ne X (tgt := 50) rfl dX11_act_37 (fun c10 => rf_neg c10 ?_) (fun c10 => rf_pos c10 ?_)
  · refine rf_aload_n X rfl dX11_act_50 ?_
    refine rf_getI X fl_X11_220 hv7 dX11_act_51 ?_
    refine rf_iconst X (1 : Int32) rfl dX11_act_54 ?_
    refine rf_icmp_ne X (tgt := 68) rfl dX11_act_55 (fun c13 => rf_neg c13 ?_) (fun c13 => rf_pos c13 ?_)
    · refine rf_aload_n X rfl dX11_act_68 ?_
      refine rf_getI X fl_X11_220 hv7 dX11_act_69 ?_
      refine rf_iconst X (2 : Int32) rfl dX11_act_72 ?_
      refine rf_icmp_ne X (tgt := 90) rfl dX11_act_73 (fun c16 => rf_neg c16 ?_) (fun c16 => rf_pos c16 ?_)
      · refine rf_aload_n X rfl dX11_act_90 ?_
        refine rf_getI X fl_X11_220 hv7 dX11_act_91 ?_
        refine rf_iconst X (3 : Int32) rfl dX11_act_94 ?_
        refine rf_icmp_ne X (tgt := 114) rfl dX11_act_95 (fun c20 => rf_neg c20 ?_) (fun c20 => rf_pos c20 ?_)
        · refine rf_aload_n X rfl dX11_act_114 ?_
          refine rf_getI X fl_X11_220 hv7 dX11_act_115 ?_
          refine rf_bipush X (21 : Int32) rfl dX11_act_118 ?_
          refine rf_icmp_gt X (tgt := 142) rfl dX11_act_120 (fun c24 => rf_pos c24 ?_) (fun c24 => rf_neg c24 ?_)
          · refine rf_aload_n X rfl dX11_act_142 ?_
            refine rf_getI X fl_X11_220 hv7 dX11_act_143 ?_
            refine rf_bipush X (33 : Int32) rfl dX11_act_146 ?_
            refine rf_icmp_gt X (tgt := 247) rfl dX11_act_148 (fun c25 => rf_pos c25 ?_) (fun c25 => rf_neg c25 ?_)
            · refine rf_aload_n X rfl dX11_act_247 ?_
              refine rf_getI X fl_X11_220 hv7 dX11_act_248 ?_
              refine rf_bipush X (36 : Int32) rfl dX11_act_251 ?_
              refine rf_icmp_gt X (tgt := 363) rfl dX11_act_253 (fun c26 => rf_pos c26 ?_) (fun c26 => rf_neg c26 ?_)
              · refine rf_aload_n X rfl dX11_act_363 ?_
                refine rf_getI X fl_X11_220 hv7 dX11_act_364 ?_
                refine rf_bipush X (42 : Int32) rfl dX11_act_367 ?_
                refine rf_icmp_gt X (tgt := 386) rfl dX11_act_369 (fun c27 => rf_pos c27 ?_) (fun c27 => rf_neg c27 ?_)
                · refine rf_aload_n X rfl dX11_act_386 ?_
                  refine rf_bind (fun g28 hg28 => ?_)
                  refine rf_callVI X c_X11_240 ⟨Nat.le_of_ble_eq_true rfl, Nat.le_of_ble_eq_true rfl⟩ [] rfl (Nat.le_of_ble_eq_true rfl) hv2 (sX11_isMemory l D v2 A g28 hg28) dX11_act_387 ?_
                  refine rf_jn2 (fun i => RfX X l e below wU i 425 [some (tR (some a0)), some (tI p1), some (tI p2), some (tI p3), none, some (tI g3), some (tI g5), some (tI (((16 : Int32) * p3) + v6))] [] A) ?_ (fun j29 hj29 => ?_)
                  · show RfX X l e below _ _ _ _ _ _
                    refine rf_aload_n X rfl dX11_act_425 ?_
                    refine rf_getI X fl_X11_220 hv7 dX11_act_426 ?_
                    refine rf_bipush X (59 : Int32) rfl dX11_act_429 ?_
                    refine rf_icmp_gt X (tgt := 453) rfl dX11_act_431 (fun c30 => rf_pos c30 ?_) (fun c30 => rf_neg c30 ?_)
                    · refine rf_aload_n X rfl dX11_act_453 ?_
                      refine rf_getI X fl_X11_220 hv7 dX11_act_454 ?_
                      refine rf_bipush X (71 : Int32) rfl dX11_act_457 ?_
                      refine rf_icmp_gt X (tgt := 483) rfl dX11_act_459 (fun c31 => rf_pos c31 ?_) (fun c31 => rf_neg c31 ?_)
                      · refine rf_aload_n X rfl dX11_act_483 ?_
                        refine rf_bind (fun v32 hv32 => ?_)
                        refine rf_getR X fl_X11_67 hv32 dX11_act_484 ?_
                        refine rf_iload X rfl dX11_act_487 ?_
                        refine rf_aload_n X rfl dX11_act_489 ?_
                        refine rf_getI X fl_X11_220 hv7 dX11_act_490 ?_
                        refine rf_bipush X (72 : Int32) rfl dX11_act_493 ?_
                        refine rf_jn2 (fun i => ∀ (y34 : Int32), RfX X l e below wU (i y34) 510 [none, none, none, none, none, none, none, none] [tI y34, tI (((16 : Int32) * p3) + v6), tR v32] A) ?_ (fun j33 hj33 => ?_)
                        · intro y34
                          refine rf_bind (fun A35 hA35 => ?_)
                          refine rf_iast X hA35 dX11_act_510 ?_
                          exact rf_go (hj8 A35) True.intro
                        refine rf_icmp_ne X (tgt := 505) rfl dX11_act_495 (fun c36 => rf_neg c36 ?_) (fun c36 => rf_pos c36 ?_)
                        · refine rf_aload_n X rfl dX11_act_505 ?_
                          refine rf_iload_n X rfl dX11_act_506 ?_
                          refine rf_bind (fun g38 hg38 => ?_)
                          refine rf_callVI X c_X11_349 ⟨Nat.le_of_ble_eq_true rfl, Nat.le_of_ble_eq_true rfl⟩ [tI p2] rfl (Nat.le_of_ble_eq_true rfl) hv2 (sX11_from l D v2 p2 A g38 hg38) dX11_act_507 ?_
                          exact rf_go (hj33 g38) True.intro
                        refine rf_aload_n X rfl dX11_act_498 ?_
                        refine rf_bind (fun v37 hv37 => ?_)
                        refine rf_getI X fl_X11_325 hv37 dX11_act_499 ?_
                        refine rf_goto X (tgt := 510) rfl dX11_act_502 ?_
                        exact rf_go (hj33 v37) True.intro
                      refine rf_aload_n X rfl dX11_act_462 ?_
                      refine rf_iload_n X rfl dX11_act_463 ?_
                      refine rf_aload_n X rfl dX11_act_464 ?_
                      refine rf_bind (fun v39 hv39 => ?_)
                      refine rf_getI X fl_X11_325 hv39 dX11_act_465 ?_
                      refine rf_iconst X (1 : Int32) rfl dX11_act_468 ?_
                      refine rf_jn2 (fun i => ∀ (y41 : Int32), RfX X l e below wU (i y41) 477 [none, none, none, none, none, none, none, none] [tI y41, tI p3, tR (some a0)] A) ?_ (fun j40 hj40 => ?_)
                      · intro y41
                        refine rf_bind (fun g42 hg42 => ?_)
                        refine rf_callVU X c_X11_335 ⟨Nat.le_of_ble_eq_true rfl, Nat.le_of_ble_eq_true rfl⟩ [tI p3, tI y41] rfl (Nat.le_of_ble_eq_true rfl) hv2 (sX11_say l D v2 p3 y41 A g42 hg42) dX11_act_477 ?_
                        refine rf_goto X (tgt := 511) rfl dX11_act_480 ?_
                        exact rf_go (hj8 g42) True.intro
                      refine rf_icmp_ne X (tgt := 476) rfl dX11_act_469 (fun c43 => rf_neg c43 ?_) (fun c43 => rf_pos c43 ?_)
                      · refine rf_iconst X (0 : Int32) rfl dX11_act_476 ?_
                        exact rf_go (hj40 (0 : Int32)) True.intro
                      refine rf_iconst X (1 : Int32) rfl dX11_act_472 ?_
                      refine rf_goto X (tgt := 477) rfl dX11_act_473 ?_
                      exact rf_go (hj40 (1 : Int32)) True.intro
                    refine rf_aload_n X rfl dX11_act_434 ?_
                    refine rf_iload_n X rfl dX11_act_435 ?_
                    refine rf_iload X rfl dX11_act_436 ?_
                    refine rf_iload X rfl dX11_act_438 ?_
                    refine rf_aload_n X rfl dX11_act_440 ?_
                    refine rf_bind (fun v44 hv44 => ?_)
                    refine rf_getI X fl_X11_237 hv44 dX11_act_441 ?_
                    refine rf_iadd X dX11_act_444 ?_
                    refine rf_iload X rfl dX11_act_445 ?_
                    refine rf_bind (fun g45 hg45 => ?_)
                    refine rf_callVU X c_X11_346 ⟨Nat.le_of_ble_eq_true rfl, Nat.le_of_ble_eq_true rfl⟩ [tI p1, tI (((16 : Int32) * p3) + v6), tI (g3 + v44), tI g5] rfl (Nat.le_of_ble_eq_true rfl) hv2 (sX11_touch l D v2 p1 (((16 : Int32) * p3) + v6) (g3 + v44) g5 A g45 hg45) dX11_act_447 ?_
                    refine rf_goto X (tgt := 511) rfl dX11_act_450 ?_
                    exact rf_go (hj8 g45) True.intro
                  refine rf_if_eq X (tgt := 425) rfl dX11_act_390 (fun c46 => rf_pos c46 ?_) (fun c46 => rf_neg c46 ?_)
                  · exact rf_go hj29 (And.intro rfl (And.intro rfl (And.intro rfl (And.intro rfl (And.intro rfl (And.intro rfl (And.intro rfl True.intro)))))))
                  refine rf_aload_n X rfl dX11_act_393 ?_
                  refine rf_bind (fun g47 hg47 => ?_)
                  refine rf_callVI X c_X11_275 ⟨Nat.le_of_ble_eq_true rfl, Nat.le_of_ble_eq_true rfl⟩ [] rfl (Nat.le_of_ble_eq_true rfl) hv2 (sX11_isShared l D v2 A g47 hg47) dX11_act_394 ?_
                  refine rf_if_ne X (tgt := 425) rfl dX11_act_397 (fun c48 => rf_neg c48 ?_) (fun c48 => rf_pos c48 ?_)
                  · exact rf_go hj29 (And.intro rfl (And.intro rfl (And.intro rfl (And.intro rfl (And.intro rfl (And.intro rfl (And.intro rfl True.intro)))))))
                  refine rf_aload_n X rfl dX11_act_400 ?_
                  refine rf_iload_n X rfl dX11_act_401 ?_
                  refine rf_iload_n X rfl dX11_act_402 ?_
                  refine rf_iload X rfl dX11_act_403 ?_
                  refine rf_aload_n X rfl dX11_act_405 ?_
                  refine rf_bind (fun v49 hv49 => ?_)
                  refine rf_getI X fl_X11_237 hv49 dX11_act_406 ?_
                  refine rf_iadd X dX11_act_409 ?_
                  refine rf_iload X rfl dX11_act_410 ?_
                  refine rf_aload_n X rfl dX11_act_412 ?_
                  refine rf_bind (fun v50 hv50 => ?_)
                  refine rf_getR X fl_X11_67 hv50 dX11_act_413 ?_
                  refine rf_iload X rfl dX11_act_416 ?_
                  refine rf_bind (fun v51 hv51 => ?_)
                  refine rf_iald X hv51 dX11_act_418 ?_
                  refine rf_bind (fun g52 hg52 => ?_)
                  refine rf_callVU X c_X11_342 ⟨Nat.le_of_ble_eq_true rfl, Nat.le_of_ble_eq_true rfl⟩ [tI p1, tI p2, tI (g3 + v49), tI g5, tI v51] rfl (Nat.le_of_ble_eq_true rfl) hv2 (sX11_ask l D v2 p1 p2 (g3 + v49) g5 v51 A g52 hg52) dX11_act_419 ?_
                  refine rf_goto X (tgt := 511) rfl dX11_act_422 ?_
                  exact rf_go (hj8 g52) True.intro
                refine rf_aload_n X rfl dX11_act_372 ?_
                refine rf_iload_n X rfl dX11_act_373 ?_
                refine rf_iload X rfl dX11_act_374 ?_
                refine rf_iload X rfl dX11_act_376 ?_
                refine rf_iload X rfl dX11_act_378 ?_
                refine rf_bind (fun g53 hg53 => ?_)
                refine rf_callVU X c_X11_339 ⟨Nat.le_of_ble_eq_true rfl, Nat.le_of_ble_eq_true rfl⟩ [tI p3, tI (((16 : Int32) * p3) + v6), tI g3, tI p4] rfl (Nat.le_of_ble_eq_true rfl) hv2 (sX11_jump l D v2 p3 (((16 : Int32) * p3) + v6) g3 p4 A g53 hg53) dX11_act_380 ?_
                refine rf_goto X (tgt := 511) rfl dX11_act_383 ?_
                exact rf_go (hj8 g53) True.intro
              refine rf_aload_n X rfl dX11_act_256 ?_
              refine rf_iload_n X rfl dX11_act_257 ?_
              refine rf_aload_n X rfl dX11_act_258 ?_
              refine rf_getI X fl_X11_220 hv7 dX11_act_259 ?_
              refine rf_bipush X (34 : Int32) rfl dX11_act_262 ?_
              refine rf_jn2 (fun i => ∀ (y55 : Int32), RfX X l e below wU (i y55) 357 [none, none, none, none, none, none, none, none] [tI y55, tI p3, tR (some a0)] A) ?_ (fun j54 hj54 => ?_)
              · intro y55
                refine rf_bind (fun g56 hg56 => ?_)
                refine rf_callVU X c_X11_335 ⟨Nat.le_of_ble_eq_true rfl, Nat.le_of_ble_eq_true rfl⟩ [tI p3, tI y55] rfl (Nat.le_of_ble_eq_true rfl) hv2 (sX11_say l D v2 p3 y55 A g56 hg56) dX11_act_357 ?_
                refine rf_goto X (tgt := 511) rfl dX11_act_360 ?_
                exact rf_go (hj8 g56) True.intro
              refine rf_icmp_ne X (tgt := 299) rfl dX11_act_264 (fun c57 => rf_neg c57 ?_) (fun c57 => rf_pos c57 ?_)
              · refine rf_aload_n X rfl dX11_act_299 ?_
                refine rf_getI X fl_X11_220 hv7 dX11_act_300 ?_
                refine rf_bipush X (35 : Int32) rfl dX11_act_303 ?_
                refine rf_icmp_ne X (tgt := 340) rfl dX11_act_305 (fun c63 => rf_neg c63 ?_) (fun c63 => rf_pos c63 ?_)
                · refine rf_aload_n X rfl dX11_act_340 ?_
                  refine rf_iload_n X rfl dX11_act_341 ?_
                  refine rf_aload_n X rfl dX11_act_342 ?_
                  refine rf_getI X fl_X11_228 hv1 dX11_act_343 ?_
                  refine rf_bind (fun g69 hg69 => ?_)
                  refine rf_callVI X c_X11_291 ⟨Nat.le_of_ble_eq_true rfl, Nat.le_of_ble_eq_true rfl⟩ [tI p3, tI v1] rfl (Nat.le_of_ble_eq_true rfl) hv2 (sX11_has l D v2 p3 v1 A g69 hg69) dX11_act_346 ?_
                  refine rf_if_ne X (tgt := 356) rfl dX11_act_349 (fun c70 => rf_neg c70 ?_) (fun c70 => rf_pos c70 ?_)
                  · refine rf_iconst X (0 : Int32) rfl dX11_act_356 ?_
                    exact rf_go (hj54 (0 : Int32)) True.intro
                  refine rf_iconst X (1 : Int32) rfl dX11_act_352 ?_
                  refine rf_goto X (tgt := 357) rfl dX11_act_353 ?_
                  exact rf_go (hj54 (1 : Int32)) True.intro
                refine rf_aload_n X rfl dX11_act_308 ?_
                refine rf_iload_n X rfl dX11_act_309 ?_
                refine rf_aload_n X rfl dX11_act_310 ?_
                refine rf_getI X fl_X11_228 hv1 dX11_act_311 ?_
                refine rf_bind (fun g64 hg64 => ?_)
                refine rf_callVI X c_X11_291 ⟨Nat.le_of_ble_eq_true rfl, Nat.le_of_ble_eq_true rfl⟩ [tI p3, tI v1] rfl (Nat.le_of_ble_eq_true rfl) hv2 (sX11_has l D v2 p3 v1 A g64 hg64) dX11_act_314 ?_
                refine rf_jn2 (fun i => RfX X l e below wU i 332 [none, none, none, none, none, none, none, none] [tI p3, tR (some a0)] A) ?_ (fun j65 hj65 => ?_)
                · show RfX X l e below _ _ _ _ _ _
                  refine rf_iconst X (1 : Int32) rfl dX11_act_332 ?_
                  refine rf_goto X (tgt := 357) rfl dX11_act_333 ?_
                  exact rf_go (hj54 (1 : Int32)) True.intro
                refine rf_if_ne X (tgt := 332) rfl dX11_act_317 (fun c66 => rf_neg c66 ?_) (fun c66 => rf_pos c66 ?_)
                · exact rf_go hj65 True.intro
                refine rf_aload_n X rfl dX11_act_320 ?_
                refine rf_iload_n X rfl dX11_act_321 ?_
                refine rf_aload_n X rfl dX11_act_322 ?_
                refine rf_getI X fl_X11_231 hv4 dX11_act_323 ?_
                refine rf_bind (fun g67 hg67 => ?_)
                refine rf_callVI X c_X11_291 ⟨Nat.le_of_ble_eq_true rfl, Nat.le_of_ble_eq_true rfl⟩ [tI p3, tI v4] rfl (Nat.le_of_ble_eq_true rfl) hv2 (sX11_has l D v2 p3 v4 A g67 hg67) dX11_act_326 ?_
                refine rf_if_eq X (tgt := 336) rfl dX11_act_329 (fun c68 => rf_pos c68 ?_) (fun c68 => rf_neg c68 ?_)
                · refine rf_iconst X (0 : Int32) rfl dX11_act_336 ?_
                  refine rf_goto X (tgt := 357) rfl dX11_act_337 ?_
                  exact rf_go (hj54 (0 : Int32)) True.intro
                exact rf_go hj65 True.intro
              refine rf_aload_n X rfl dX11_act_267 ?_
              refine rf_iload_n X rfl dX11_act_268 ?_
              refine rf_aload_n X rfl dX11_act_269 ?_
              refine rf_getI X fl_X11_228 hv1 dX11_act_270 ?_
              refine rf_bind (fun g58 hg58 => ?_)
              refine rf_callVI X c_X11_291 ⟨Nat.le_of_ble_eq_true rfl, Nat.le_of_ble_eq_true rfl⟩ [tI p3, tI v1] rfl (Nat.le_of_ble_eq_true rfl) hv2 (sX11_has l D v2 p3 v1 A g58 hg58) dX11_act_273 ?_
              refine rf_jn2 (fun i => RfX X l e below wU i 295 [none, none, none, none, none, none, none, none] [tI p3, tR (some a0)] A) ?_ (fun j59 hj59 => ?_)
              · show RfX X l e below _ _ _ _ _ _
                refine rf_iconst X (0 : Int32) rfl dX11_act_295 ?_
                refine rf_goto X (tgt := 357) rfl dX11_act_296 ?_
                exact rf_go (hj54 (0 : Int32)) True.intro
              refine rf_if_eq X (tgt := 295) rfl dX11_act_276 (fun c60 => rf_pos c60 ?_) (fun c60 => rf_neg c60 ?_)
              · exact rf_go hj59 True.intro
              refine rf_aload_n X rfl dX11_act_279 ?_
              refine rf_iload_n X rfl dX11_act_280 ?_
              refine rf_aload_n X rfl dX11_act_281 ?_
              refine rf_getI X fl_X11_231 hv4 dX11_act_282 ?_
              refine rf_bind (fun g61 hg61 => ?_)
              refine rf_callVI X c_X11_291 ⟨Nat.le_of_ble_eq_true rfl, Nat.le_of_ble_eq_true rfl⟩ [tI p3, tI v4] rfl (Nat.le_of_ble_eq_true rfl) hv2 (sX11_has l D v2 p3 v4 A g61 hg61) dX11_act_285 ?_
              refine rf_if_eq X (tgt := 295) rfl dX11_act_288 (fun c62 => rf_pos c62 ?_) (fun c62 => rf_neg c62 ?_)
              · exact rf_go hj59 True.intro
              refine rf_iconst X (1 : Int32) rfl dX11_act_291 ?_
              refine rf_goto X (tgt := 357) rfl dX11_act_292 ?_
              exact rf_go (hj54 (1 : Int32)) True.intro
            refine rf_aload_n X rfl dX11_act_151 ?_
            refine rf_iload_n X rfl dX11_act_152 ?_
            refine rf_aload_n X rfl dX11_act_153 ?_
            refine rf_getI X fl_X11_220 hv7 dX11_act_154 ?_
            refine rf_bipush X (30 : Int32) rfl dX11_act_157 ?_
            refine rf_jn2 (fun i => ∀ (y72 : Int32), RfX X l e below wU (i y72) 241 [none, none, none, none, none, none, none, none] [tI y72, tI p3, tR (some a0)] A) ?_ (fun j71 hj71 => ?_)
            · intro y72
              refine rf_bind (fun g73 hg73 => ?_)
              refine rf_callVU X c_X11_335 ⟨Nat.le_of_ble_eq_true rfl, Nat.le_of_ble_eq_true rfl⟩ [tI p3, tI y72] rfl (Nat.le_of_ble_eq_true rfl) hv2 (sX11_say l D v2 p3 y72 A g73 hg73) dX11_act_241 ?_
              refine rf_goto X (tgt := 511) rfl dX11_act_244 ?_
              exact rf_go (hj8 g73) True.intro
            refine rf_icmp_ne X (tgt := 177) rfl dX11_act_159 (fun c74 => rf_neg c74 ?_) (fun c74 => rf_pos c74 ?_)
            · refine rf_aload_n X rfl dX11_act_177 ?_
              refine rf_getI X fl_X11_220 hv7 dX11_act_178 ?_
              refine rf_bipush X (31 : Int32) rfl dX11_act_181 ?_
              refine rf_icmp_ne X (tgt := 201) rfl dX11_act_183 (fun c76 => rf_neg c76 ?_) (fun c76 => rf_pos c76 ?_)
              · refine rf_aload_n X rfl dX11_act_201 ?_
                refine rf_getI X fl_X11_220 hv7 dX11_act_202 ?_
                refine rf_bipush X (32 : Int32) rfl dX11_act_205 ?_
                refine rf_icmp_ne X (tgt := 227) rfl dX11_act_207 (fun c78 => rf_neg c78 ?_) (fun c78 => rf_pos c78 ?_)
                · refine rf_iload X rfl dX11_act_227 ?_
                  refine rf_aload_n X rfl dX11_act_229 ?_
                  refine rf_bind (fun v81 hv81 => ?_)
                  refine rf_getI X fl_X11_237 hv81 dX11_act_230 ?_
                  refine rf_icmp_ne X (tgt := 240) rfl dX11_act_233 (fun c82 => rf_neg c82 ?_) (fun c82 => rf_pos c82 ?_)
                  · refine rf_iconst X (0 : Int32) rfl dX11_act_240 ?_
                    exact rf_go (hj71 (0 : Int32)) True.intro
                  refine rf_iconst X (1 : Int32) rfl dX11_act_236 ?_
                  refine rf_goto X (tgt := 241) rfl dX11_act_237 ?_
                  exact rf_go (hj71 (1 : Int32)) True.intro
                refine rf_iload X rfl dX11_act_210 ?_
                refine rf_aload_n X rfl dX11_act_212 ?_
                refine rf_bind (fun v79 hv79 => ?_)
                refine rf_getI X fl_X11_237 hv79 dX11_act_213 ?_
                refine rf_icmp_ge X (tgt := 223) rfl dX11_act_216 (fun c80 => rf_pos c80 ?_) (fun c80 => rf_neg c80 ?_)
                · refine rf_iconst X (0 : Int32) rfl dX11_act_223 ?_
                  refine rf_goto X (tgt := 241) rfl dX11_act_224 ?_
                  exact rf_go (hj71 (0 : Int32)) True.intro
                refine rf_iconst X (1 : Int32) rfl dX11_act_219 ?_
                refine rf_goto X (tgt := 241) rfl dX11_act_220 ?_
                exact rf_go (hj71 (1 : Int32)) True.intro
              refine rf_iload X rfl dX11_act_186 ?_
              refine rf_iload X rfl dX11_act_188 ?_
              refine rf_icmp_ne X (tgt := 197) rfl dX11_act_190 (fun c77 => rf_neg c77 ?_) (fun c77 => rf_pos c77 ?_)
              · refine rf_iconst X (0 : Int32) rfl dX11_act_197 ?_
                refine rf_goto X (tgt := 241) rfl dX11_act_198 ?_
                exact rf_go (hj71 (0 : Int32)) True.intro
              refine rf_iconst X (1 : Int32) rfl dX11_act_193 ?_
              refine rf_goto X (tgt := 241) rfl dX11_act_194 ?_
              exact rf_go (hj71 (1 : Int32)) True.intro
            refine rf_iload X rfl dX11_act_162 ?_
            refine rf_iload X rfl dX11_act_164 ?_
            refine rf_icmp_ge X (tgt := 173) rfl dX11_act_166 (fun c75 => rf_pos c75 ?_) (fun c75 => rf_neg c75 ?_)
            · refine rf_iconst X (0 : Int32) rfl dX11_act_173 ?_
              refine rf_goto X (tgt := 241) rfl dX11_act_174 ?_
              exact rf_go (hj71 (0 : Int32)) True.intro
            refine rf_iconst X (1 : Int32) rfl dX11_act_169 ?_
            refine rf_goto X (tgt := 241) rfl dX11_act_170 ?_
            exact rf_go (hj71 (1 : Int32)) True.intro
          refine rf_aload_n X rfl dX11_act_123 ?_
          refine rf_bind (fun v83 hv83 => ?_)
          refine rf_getR X fl_X11_67 hv83 dX11_act_124 ?_
          refine rf_iload X rfl dX11_act_127 ?_
          refine rf_aload_n X rfl dX11_act_129 ?_
          refine rf_iload X rfl dX11_act_130 ?_
          refine rf_iload X rfl dX11_act_132 ?_
          refine rf_iload_n X rfl dX11_act_134 ?_
          refine rf_bind (fun g84 hg84 => ?_)
          refine rf_callVI X c_X11_331 ⟨Nat.le_of_ble_eq_true rfl, Nat.le_of_ble_eq_true rfl⟩ [tI g3, tI g5, tI p3] rfl (Nat.le_of_ble_eq_true rfl) hv2 (sX11_reckon l D v2 g3 g5 p3 A g84 hg84) dX11_act_135 ?_
          refine rf_bind (fun A85 hA85 => ?_)
          refine rf_iast X hA85 dX11_act_138 ?_
          refine rf_goto X (tgt := 511) rfl dX11_act_139 ?_
          exact rf_go (hj8 A85) True.intro
        refine rf_aload_n X rfl dX11_act_98 ?_
        refine rf_bind (fun v21 hv21 => ?_)
        refine rf_getR X fl_X11_67 hv21 dX11_act_99 ?_
        refine rf_iload X rfl dX11_act_102 ?_
        refine rf_aload_n X rfl dX11_act_104 ?_
        refine rf_iload_n X rfl dX11_act_105 ?_
        refine rf_iload_n X rfl dX11_act_106 ?_
        refine rf_bind (fun g22 hg22 => ?_)
        refine rf_callVI X c_X11_328 ⟨Nat.le_of_ble_eq_true rfl, Nat.le_of_ble_eq_true rfl⟩ [tI p1, tI p2] rfl (Nat.le_of_ble_eq_true rfl) hv2 (sX11_told l D v2 p1 p2 A g22 hg22) dX11_act_107 ?_
        refine rf_bind (fun A23 hA23 => ?_)
        refine rf_iast X hA23 dX11_act_110 ?_
        refine rf_goto X (tgt := 511) rfl dX11_act_111 ?_
        exact rf_go (hj8 A23) True.intro
      refine rf_aload_n X rfl dX11_act_76 ?_
      refine rf_bind (fun v17 hv17 => ?_)
      refine rf_getR X fl_X11_67 hv17 dX11_act_77 ?_
      refine rf_iload X rfl dX11_act_80 ?_
      refine rf_aload_n X rfl dX11_act_82 ?_
      refine rf_bind (fun v18 hv18 => ?_)
      refine rf_getI X fl_X11_237 hv18 dX11_act_83 ?_
      refine rf_bind (fun A19 hA19 => ?_)
      refine rf_iast X hA19 dX11_act_86 ?_
      refine rf_goto X (tgt := 511) rfl dX11_act_87 ?_
      exact rf_go (hj8 A19) True.intro
    refine rf_aload_n X rfl dX11_act_58 ?_
    refine rf_bind (fun v14 hv14 => ?_)
    refine rf_getR X fl_X11_80 hv14 dX11_act_59 ?_
    refine rf_iload_n X rfl dX11_act_62 ?_
    refine rf_iconst X (1 : Int32) rfl dX11_act_63 ?_
    refine rf_bind (fun A15 hA15 => ?_)
    refine rf_zast X hA15 dX11_act_64 ?_
    refine rf_goto X (tgt := 511) rfl dX11_act_65 ?_
    exact rf_go (hj8 A15) True.intro
  refine rf_aload_n X rfl dX11_act_40 ?_
  refine rf_bind (fun v11 hv11 => ?_)
  refine rf_getR X fl_X11_76 hv11 dX11_act_41 ?_
  refine rf_iload_n X rfl dX11_act_44 ?_
  refine rf_iconst X (1 : Int32) rfl dX11_act_45 ?_
  refine rf_bind (fun A12 hA12 => ?_)
  refine rf_zast X hA12 dX11_act_46 ?_
  refine rf_goto X (tgt := 511) rfl dX11_act_47 ?_
  exact rf_go (hj8 A12) True.intro

