/-! 20.g14: printed by gen/parts.py -/
set_option maxRecDepth 100000
theorem fl_X7_382 : FLr RX7 382 12 1 := ⟨RX12, TX12, 3, "WarpMill$Block", "WarpMill", rfl, by decide, in_X12, Or.inr q1122, Or.inl rfl⟩
theorem fp_X7_408 : FL RX7 408 14 3 (.boolean) false := ⟨RX14, TX14, 6, tyX14, "WarpMill$Lane", "WarpMill", rfl, by decide, in_X14, tyX14_ok, nmX14, Or.inr q1209, Or.inl rfl, rfl, rfl, fun h => by cases h⟩
theorem fp_X7_412 : FL RX7 412 14 4 (.boolean) false := ⟨RX14, TX14, 6, tyX14, "WarpMill$Lane", "WarpMill", rfl, by decide, in_X14, tyX14_ok, nmX14, Or.inr q1212, Or.inl rfl, rfl, rfl, fun h => by cases h⟩
theorem fp_X7_245 : FL RX7 245 14 2 (.int) false := ⟨RX14, TX14, 6, tyX14, "WarpMill$Lane", "WarpMill", rfl, by decide, in_X14, tyX14_ok, nmX14, Or.inr q1205, Or.inl rfl, rfl, rfl, fun h => by cases h⟩
theorem fp_X13_55 : FL RX13 55 14 4 (.boolean) false := ⟨RX14, TX14, 6, tyX14, "WarpMill$Lane", "WarpMill", rfl, by decide, in_X14, tyX14_ok, nmX14, Or.inr q1211, Or.inl rfl, rfl, rfl, fun h => by cases h⟩
theorem fl_X12_44 : FLr RX12 44 13 2 := ⟨RX13, TX13, 6, "WarpMill$Warp", "WarpMill", rfl, by decide, in_X13, Or.inr q1160, Or.inl rfl⟩
theorem c_X7_393 : CV RX7 393 7 yX7_ask cX7_ask 4 none 2 := ⟨TX7, 26, rfl, q1410, q1412, qs24, q106, q1413, ⟨by decide +kernel, by decide +kernel, by decide +kernel⟩⟩
theorem c_X7_397 : CV RX7 397 5 yX5_decides cX5_decides 1 (some Jvm.ClassFile.FieldType.boolean) 0 := ⟨TX5, 7, rfl, q1458, q1284, q1285, q103, q1286, ⟨by decide +kernel, by decide +kernel, by decide +kernel⟩⟩
theorem c_X7_419 : CS RX7 419 yX7_reckoned cX7_reckoned 3 (some Jvm.ClassFile.FieldType.int) 3 := ⟨q1466, q1467, q106, q1468, ⟨by decide +kernel, by decide +kernel, by decide +kernel⟩⟩
theorem c_X7_415 : CV RX7 415 7 yX7_special cX7_special 4 (some Jvm.ClassFile.FieldType.int) 3 := ⟨TX7, 26, rfl, q1462, q1464, qs25, q106, q1465, ⟨by decide +kernel, by decide +kernel, by decide +kernel⟩⟩
theorem c_X7_404 : CS RX7 404 yX7_isSo cX7_isSo 4 (some Jvm.ClassFile.FieldType.boolean) 2 := ⟨q1459, q1460, q106, q1461, ⟨by decide +kernel, by decide +kernel, by decide +kernel⟩⟩
theorem c_X12_31 : CV RX12 31 0 yJ2_size cJ2_size 1 (some Jvm.ClassFile.FieldType.int) 0 := ⟨TJ2, 3, rfl, q1478, q696, q697, q82, q698, ⟨by decide +kernel, by decide +kernel, by decide +kernel⟩⟩
theorem c_X12_35 : CV RX12 35 0 yJ2_get cJ2_get 2 (some (Jvm.ClassFile.FieldType.object "java/lang/Object")) 1 := ⟨TJ2, 3, rfl, q1479, q700, q701, q82, q702, ⟨by decide +kernel, by decide +kernel, by decide +kernel⟩⟩
theorem c_X12_50 : CV RX12 50 13 yX13_release cX13_release 2 none 0 := ⟨TX13, 6, rfl, q1483, q1484, q1485, q114, q1486, ⟨by decide +kernel, by decide +kernel, by decide +kernel⟩⟩
theorem c_X12_41 : CV RX12 41 13 yX13_ended cX13_ended 3 (some Jvm.ClassFile.FieldType.int) 0 := ⟨TX13, 6, rfl, q1481, q1014, q1015, q114, q1016, ⟨by decide +kernel, by decide +kernel, by decide +kernel⟩⟩
theorem c_X12_47 : CV RX12 47 13 yX13_waiting cX13_waiting 3 (some Jvm.ClassFile.FieldType.int) 0 := ⟨TX13, 6, rfl, q1482, q1021, q1022, q114, q1023, ⟨by decide +kernel, by decide +kernel, by decide +kernel⟩⟩
theorem dX7_act_0 : decode cX7_act 0 = .ok (.aload_n 1, 1) := by decide +kernel
theorem dX7_act_1 : decode cX7_act 1 = .ok (.getfield 243, 3) := by decide +kernel
theorem dX7_act_4 : decode cX7_act 4 = .ok (.iload_n 2, 1) := by decide +kernel
theorem dX7_act_5 : decode cX7_act 5 = .ok (.invokevirtual 122, 3) := by decide +kernel
theorem dX7_act_8 : decode cX7_act 8 = .ok (.checkcast 204, 3) := by decide +kernel
theorem dX7_act_11 : decode cX7_act 11 = .ok (.astore 4, 2) := by decide +kernel
theorem dX7_act_13 : decode cX7_act 13 = .ok (.aload 4, 2) := by decide +kernel
theorem dX7_act_15 : decode cX7_act 15 = .ok (.getfield 209, 3) := by decide +kernel
theorem dX7_act_18 : decode cX7_act 18 = .ok (.astore 5, 2) := by decide +kernel
theorem dX7_act_20 : decode cX7_act 20 = .ok (.aload_n 3, 1) := by decide +kernel
theorem dX7_act_21 : decode cX7_act 21 = .ok (.getfield 293, 3) := by decide +kernel
theorem dX7_act_24 : decode cX7_act 24 = .ok (.getstatic 343, 3) := by decide +kernel
theorem dX7_act_27 : decode cX7_act 27 = .ok (.if_acmp .ne 69, 3) := by decide +kernel
theorem dX7_act_30 : decode cX7_act 30 = .ok (.aload 4, 2) := by decide +kernel
theorem dX7_act_32 : decode cX7_act 32 = .ok (.aload_n 3, 1) := by decide +kernel
theorem dX7_act_33 : decode cX7_act 33 = .ok (.invokestatic 340, 3) := by decide +kernel
theorem dX7_act_36 : decode cX7_act 36 = .ok (.istore 6, 2) := by decide +kernel
theorem dX7_act_38 : decode cX7_act 38 = .ok (.aload_n 1, 1) := by decide +kernel
theorem dX7_act_39 : decode cX7_act 39 = .ok (.getfield 268, 3) := by decide +kernel
theorem dX7_act_42 : decode cX7_act 42 = .ok (.getfield 382, 3) := by decide +kernel
theorem dX7_act_45 : decode cX7_act 45 = .ok (.iload 6, 2) := by decide +kernel
theorem dX7_act_47 : decode cX7_act 47 = .ok (.iaload, 1) := by decide +kernel
theorem dX7_act_48 : decode cX7_act 48 = .ok (.istore 7, 2) := by decide +kernel
theorem dX7_act_50 : decode cX7_act 50 = .ok (.aload_n 1, 1) := by decide +kernel
theorem dX7_act_51 : decode cX7_act 51 = .ok (.getfield 268, 3) := by decide +kernel
theorem dX7_act_54 : decode cX7_act 54 = .ok (.getfield 382, 3) := by decide +kernel
theorem dX7_act_57 : decode cX7_act 57 = .ok (.iload 6, 2) := by decide +kernel
theorem dX7_act_59 : decode cX7_act 59 = .ok (.aload_n 3, 1) := by decide +kernel
theorem dX7_act_60 : decode cX7_act 60 = .ok (.getfield 313, 3) := by decide +kernel
theorem dX7_act_63 : decode cX7_act 63 = .ok (.iload 7, 2) := by decide +kernel
theorem dX7_act_65 : decode cX7_act 65 = .ok (.aload 5, 2) := by decide +kernel
theorem dX7_act_67 : decode cX7_act 67 = .ok (.aload_n 3, 1) := by decide +kernel
theorem dX7_act_68 : decode cX7_act 68 = .ok (.getfield 334, 3) := by decide +kernel
theorem dX7_act_71 : decode cX7_act 71 = .ok (.iaload, 1) := by decide +kernel
theorem dX7_act_72 : decode cX7_act 72 = .ok (.iconst 0, 1) := by decide +kernel
theorem dX7_act_73 : decode cX7_act 73 = .ok (.invokestatic 195, 3) := by decide +kernel
theorem dX7_act_76 : decode cX7_act 76 = .ok (.iastore, 1) := by decide +kernel
theorem dX7_act_77 : decode cX7_act 77 = .ok (.aload_n 3, 1) := by decide +kernel
theorem dX7_act_78 : decode cX7_act 78 = .ok (.invokevirtual 384, 3) := by decide +kernel
theorem dX7_act_81 : decode cX7_act 81 = .ok (.ifCond .eq 12, 3) := by decide +kernel
theorem dX7_act_84 : decode cX7_act 84 = .ok (.aload 5, 2) := by decide +kernel
theorem dX7_act_86 : decode cX7_act 86 = .ok (.aload_n 3, 1) := by decide +kernel
theorem dX7_act_87 : decode cX7_act 87 = .ok (.getfield 387, 3) := by decide +kernel
theorem dX7_act_90 : decode cX7_act 90 = .ok (.iload 7, 2) := by decide +kernel
theorem dX7_act_92 : decode cX7_act 92 = .ok (.iastore, 1) := by decide +kernel
theorem dX7_act_93 : decode cX7_act 93 = .ok (.goto 482, 3) := by decide +kernel
theorem dX7_act_96 : decode cX7_act 96 = .ok (.aload_n 3, 1) := by decide +kernel
theorem dX7_act_97 : decode cX7_act 97 = .ok (.getfield 293, 3) := by decide +kernel
theorem dX7_act_100 : decode cX7_act 100 = .ok (.getstatic 390, 3) := by decide +kernel
theorem dX7_act_103 : decode cX7_act 103 = .ok (.if_acmp .ne 13, 3) := by decide +kernel
theorem dX7_act_106 : decode cX7_act 106 = .ok (.aload_n 0, 1) := by decide +kernel
theorem dX7_act_107 : decode cX7_act 107 = .ok (.aload 4, 2) := by decide +kernel
theorem dX7_act_109 : decode cX7_act 109 = .ok (.aload_n 3, 1) := by decide +kernel
theorem dX7_act_110 : decode cX7_act 110 = .ok (.invokevirtual 393, 3) := by decide +kernel
theorem dX7_act_113 : decode cX7_act 113 = .ok (.goto 462, 3) := by decide +kernel
theorem dX7_act_116 : decode cX7_act 116 = .ok (.aload_n 3, 1) := by decide +kernel
theorem dX7_act_117 : decode cX7_act 117 = .ok (.invokevirtual 397, 3) := by decide +kernel
theorem dX7_act_120 : decode cX7_act 120 = .ok (.ifCond .eq 24, 3) := by decide +kernel
theorem dX7_act_123 : decode cX7_act 123 = .ok (.aload 4, 2) := by decide +kernel
theorem dX7_act_125 : decode cX7_act 125 = .ok (.getfield 400, 3) := by decide +kernel
theorem dX7_act_128 : decode cX7_act 128 = .ok (.aload_n 3, 1) := by decide +kernel
theorem dX7_act_129 : decode cX7_act 129 = .ok (.getfield 387, 3) := by decide +kernel
theorem dX7_act_132 : decode cX7_act 132 = .ok (.iconst 3, 1) := by decide +kernel
theorem dX7_act_133 : decode cX7_act 133 = .ok (.iand, 1) := by decide +kernel
theorem dX7_act_134 : decode cX7_act 134 = .ok (.aload 4, 2) := by decide +kernel
theorem dX7_act_136 : decode cX7_act 136 = .ok (.aload_n 3, 1) := by decide +kernel
theorem dX7_act_137 : decode cX7_act 137 = .ok (.invokestatic 404, 3) := by decide +kernel
theorem dX7_act_140 : decode cX7_act 140 = .ok (.bastore, 1) := by decide +kernel
theorem dX7_act_141 : decode cX7_act 141 = .ok (.goto 434, 3) := by decide +kernel
theorem dX7_act_144 : decode cX7_act 144 = .ok (.aload_n 3, 1) := by decide +kernel
theorem dX7_act_145 : decode cX7_act 145 = .ok (.getfield 313, 3) := by decide +kernel
theorem dX7_act_148 : decode cX7_act 148 = .ok (.tableswitch 399 0 42 #[188, 197, 206, 220, 399, 399, 399, 399, 399, 399, 399, 399, 399, 399, 399, 399, 399, 399, 240, 262, 284, 306, 399, 399, 399, 399, 399, 399, 399, 399, 399, 399, 399, 399, 399, 399, 399, 399, 399, 399, 348, 360, 384], 188) := by decide +kernel
theorem dX7_act_336 : decode cX7_act 336 = .ok (.aload 4, 2) := by decide +kernel
theorem dX7_act_338 : decode cX7_act 338 = .ok (.iconst 1, 1) := by decide +kernel
theorem dX7_act_339 : decode cX7_act 339 = .ok (.putfield 408, 3) := by decide +kernel
theorem dX7_act_342 : decode cX7_act 342 = .ok (.goto 233, 3) := by decide +kernel
theorem dX7_act_345 : decode cX7_act 345 = .ok (.aload 4, 2) := by decide +kernel
theorem dX7_act_347 : decode cX7_act 347 = .ok (.iconst 1, 1) := by decide +kernel
theorem dX7_act_348 : decode cX7_act 348 = .ok (.putfield 412, 3) := by decide +kernel
theorem dX7_act_351 : decode cX7_act 351 = .ok (.goto 224, 3) := by decide +kernel
theorem dX7_act_354 : decode cX7_act 354 = .ok (.aload 5, 2) := by decide +kernel
theorem dX7_act_356 : decode cX7_act 356 = .ok (.aload_n 3, 1) := by decide +kernel
theorem dX7_act_357 : decode cX7_act 357 = .ok (.getfield 387, 3) := by decide +kernel
theorem dX7_act_360 : decode cX7_act 360 = .ok (.aload_n 3, 1) := by decide +kernel
theorem dX7_act_361 : decode cX7_act 361 = .ok (.getfield 328, 3) := by decide +kernel
theorem dX7_act_364 : decode cX7_act 364 = .ok (.iastore, 1) := by decide +kernel
theorem dX7_act_365 : decode cX7_act 365 = .ok (.goto 210, 3) := by decide +kernel
theorem dX7_act_368 : decode cX7_act 368 = .ok (.aload 5, 2) := by decide +kernel
theorem dX7_act_370 : decode cX7_act 370 = .ok (.aload_n 3, 1) := by decide +kernel
theorem dX7_act_371 : decode cX7_act 371 = .ok (.getfield 387, 3) := by decide +kernel
theorem dX7_act_374 : decode cX7_act 374 = .ok (.aload_n 0, 1) := by decide +kernel
theorem dX7_act_375 : decode cX7_act 375 = .ok (.aload_n 1, 1) := by decide +kernel
theorem dX7_act_376 : decode cX7_act 376 = .ok (.iload_n 2, 1) := by decide +kernel
theorem dX7_act_377 : decode cX7_act 377 = .ok (.aload_n 3, 1) := by decide +kernel
theorem dX7_act_378 : decode cX7_act 378 = .ok (.getfield 328, 3) := by decide +kernel
theorem dX7_act_381 : decode cX7_act 381 = .ok (.invokevirtual 415, 3) := by decide +kernel
theorem dX7_act_384 : decode cX7_act 384 = .ok (.iastore, 1) := by decide +kernel
theorem dX7_act_385 : decode cX7_act 385 = .ok (.goto 190, 3) := by decide +kernel
theorem dX7_act_388 : decode cX7_act 388 = .ok (.aload 5, 2) := by decide +kernel
theorem dX7_act_390 : decode cX7_act 390 = .ok (.aload_n 3, 1) := by decide +kernel
theorem dX7_act_391 : decode cX7_act 391 = .ok (.getfield 387, 3) := by decide +kernel
theorem dX7_act_394 : decode cX7_act 394 = .ok (.aload 5, 2) := by decide +kernel
theorem dX7_act_396 : decode cX7_act 396 = .ok (.aload_n 3, 1) := by decide +kernel
theorem dX7_act_397 : decode cX7_act 397 = .ok (.getfield 325, 3) := by decide +kernel
theorem dX7_act_400 : decode cX7_act 400 = .ok (.iaload, 1) := by decide +kernel
theorem dX7_act_401 : decode cX7_act 401 = .ok (.aload_n 3, 1) := by decide +kernel
theorem dX7_act_402 : decode cX7_act 402 = .ok (.getfield 328, 3) := by decide +kernel
theorem dX7_act_405 : decode cX7_act 405 = .ok (.iadd, 1) := by decide +kernel
theorem dX7_act_406 : decode cX7_act 406 = .ok (.iastore, 1) := by decide +kernel
theorem dX7_act_407 : decode cX7_act 407 = .ok (.goto 168, 3) := by decide +kernel
theorem dX7_act_410 : decode cX7_act 410 = .ok (.aload 5, 2) := by decide +kernel
theorem dX7_act_412 : decode cX7_act 412 = .ok (.aload_n 3, 1) := by decide +kernel
theorem dX7_act_413 : decode cX7_act 413 = .ok (.getfield 387, 3) := by decide +kernel
theorem dX7_act_416 : decode cX7_act 416 = .ok (.aload 5, 2) := by decide +kernel
theorem dX7_act_418 : decode cX7_act 418 = .ok (.aload_n 3, 1) := by decide +kernel
theorem dX7_act_419 : decode cX7_act 419 = .ok (.getfield 325, 3) := by decide +kernel
theorem dX7_act_422 : decode cX7_act 422 = .ok (.iaload, 1) := by decide +kernel
theorem dX7_act_423 : decode cX7_act 423 = .ok (.aload_n 3, 1) := by decide +kernel
theorem dX7_act_424 : decode cX7_act 424 = .ok (.getfield 328, 3) := by decide +kernel
theorem dX7_act_427 : decode cX7_act 427 = .ok (.imul, 1) := by decide +kernel
theorem dX7_act_428 : decode cX7_act 428 = .ok (.iastore, 1) := by decide +kernel
theorem dX7_act_429 : decode cX7_act 429 = .ok (.goto 146, 3) := by decide +kernel
theorem dX7_act_432 : decode cX7_act 432 = .ok (.aload 5, 2) := by decide +kernel
theorem dX7_act_434 : decode cX7_act 434 = .ok (.aload_n 3, 1) := by decide +kernel
theorem dX7_act_435 : decode cX7_act 435 = .ok (.getfield 387, 3) := by decide +kernel
theorem dX7_act_438 : decode cX7_act 438 = .ok (.aload 5, 2) := by decide +kernel
theorem dX7_act_440 : decode cX7_act 440 = .ok (.aload_n 3, 1) := by decide +kernel
theorem dX7_act_441 : decode cX7_act 441 = .ok (.getfield 325, 3) := by decide +kernel
theorem dX7_act_444 : decode cX7_act 444 = .ok (.iaload, 1) := by decide +kernel
theorem dX7_act_445 : decode cX7_act 445 = .ok (.aload_n 3, 1) := by decide +kernel
theorem dX7_act_446 : decode cX7_act 446 = .ok (.getfield 328, 3) := by decide +kernel
theorem dX7_act_449 : decode cX7_act 449 = .ok (.iand, 1) := by decide +kernel
theorem dX7_act_450 : decode cX7_act 450 = .ok (.iastore, 1) := by decide +kernel
theorem dX7_act_451 : decode cX7_act 451 = .ok (.goto 124, 3) := by decide +kernel
theorem dX7_act_454 : decode cX7_act 454 = .ok (.aload 5, 2) := by decide +kernel
theorem dX7_act_456 : decode cX7_act 456 = .ok (.aload_n 3, 1) := by decide +kernel
theorem dX7_act_457 : decode cX7_act 457 = .ok (.getfield 387, 3) := by decide +kernel
theorem dX7_act_460 : decode cX7_act 460 = .ok (.aload 4, 2) := by decide +kernel
theorem dX7_act_462 : decode cX7_act 462 = .ok (.getfield 400, 3) := by decide +kernel
theorem dX7_act_465 : decode cX7_act 465 = .ok (.aload_n 3, 1) := by decide +kernel
theorem dX7_act_466 : decode cX7_act 466 = .ok (.getfield 328, 3) := by decide +kernel
theorem dX7_act_469 : decode cX7_act 469 = .ok (.iconst 3, 1) := by decide +kernel
theorem dX7_act_470 : decode cX7_act 470 = .ok (.iand, 1) := by decide +kernel
theorem dX7_act_471 : decode cX7_act 471 = .ok (.baload, 1) := by decide +kernel
theorem dX7_act_472 : decode cX7_act 472 = .ok (.ifCond .eq 13, 3) := by decide +kernel
theorem dX7_act_475 : decode cX7_act 475 = .ok (.aload 5, 2) := by decide +kernel
theorem dX7_act_477 : decode cX7_act 477 = .ok (.aload_n 3, 1) := by decide +kernel
theorem dX7_act_478 : decode cX7_act 478 = .ok (.getfield 325, 3) := by decide +kernel
theorem dX7_act_481 : decode cX7_act 481 = .ok (.iaload, 1) := by decide +kernel
theorem dX7_act_482 : decode cX7_act 482 = .ok (.goto 10, 3) := by decide +kernel
theorem dX7_act_485 : decode cX7_act 485 = .ok (.aload 5, 2) := by decide +kernel
theorem dX7_act_487 : decode cX7_act 487 = .ok (.aload_n 3, 1) := by decide +kernel
theorem dX7_act_488 : decode cX7_act 488 = .ok (.getfield 334, 3) := by decide +kernel
theorem dX7_act_491 : decode cX7_act 491 = .ok (.iaload, 1) := by decide +kernel
theorem dX7_act_492 : decode cX7_act 492 = .ok (.iastore, 1) := by decide +kernel
theorem dX7_act_493 : decode cX7_act 493 = .ok (.goto 82, 3) := by decide +kernel
theorem dX7_act_496 : decode cX7_act 496 = .ok (.aload 4, 2) := by decide +kernel
theorem dX7_act_498 : decode cX7_act 498 = .ok (.aload_n 3, 1) := by decide +kernel
theorem dX7_act_499 : decode cX7_act 499 = .ok (.getfield 328, 3) := by decide +kernel
theorem dX7_act_502 : decode cX7_act 502 = .ok (.putfield 245, 3) := by decide +kernel
theorem dX7_act_505 : decode cX7_act 505 = .ok (.goto 70, 3) := by decide +kernel
theorem dX7_act_508 : decode cX7_act 508 = .ok (.aload 5, 2) := by decide +kernel
theorem dX7_act_510 : decode cX7_act 510 = .ok (.aload_n 3, 1) := by decide +kernel
theorem dX7_act_511 : decode cX7_act 511 = .ok (.getfield 387, 3) := by decide +kernel
theorem dX7_act_514 : decode cX7_act 514 = .ok (.aload 4, 2) := by decide +kernel
theorem dX7_act_516 : decode cX7_act 516 = .ok (.getfield 245, 3) := by decide +kernel
theorem dX7_act_519 : decode cX7_act 519 = .ok (.iastore, 1) := by decide +kernel
theorem dX7_act_520 : decode cX7_act 520 = .ok (.aload 4, 2) := by decide +kernel
theorem dX7_act_522 : decode cX7_act 522 = .ok (.aload_n 3, 1) := by decide +kernel
theorem dX7_act_523 : decode cX7_act 523 = .ok (.getfield 328, 3) := by decide +kernel
theorem dX7_act_526 : decode cX7_act 526 = .ok (.putfield 245, 3) := by decide +kernel
theorem dX7_act_529 : decode cX7_act 529 = .ok (.goto 46, 3) := by decide +kernel
theorem dX7_act_532 : decode cX7_act 532 = .ok (.aload 4, 2) := by decide +kernel
theorem dX7_act_534 : decode cX7_act 534 = .ok (.aload 5, 2) := by decide +kernel
theorem dX7_act_536 : decode cX7_act 536 = .ok (.aload_n 3, 1) := by decide +kernel
theorem dX7_act_537 : decode cX7_act 537 = .ok (.getfield 325, 3) := by decide +kernel
theorem dX7_act_540 : decode cX7_act 540 = .ok (.iaload, 1) := by decide +kernel
theorem dX7_act_541 : decode cX7_act 541 = .ok (.putfield 245, 3) := by decide +kernel
theorem dX7_act_544 : decode cX7_act 544 = .ok (.goto 31, 3) := by decide +kernel
theorem dX7_act_547 : decode cX7_act 547 = .ok (.aload 5, 2) := by decide +kernel
theorem dX7_act_549 : decode cX7_act 549 = .ok (.aload_n 3, 1) := by decide +kernel
theorem dX7_act_550 : decode cX7_act 550 = .ok (.getfield 387, 3) := by decide +kernel
theorem dX7_act_553 : decode cX7_act 553 = .ok (.aload_n 3, 1) := by decide +kernel
theorem dX7_act_554 : decode cX7_act 554 = .ok (.getfield 313, 3) := by decide +kernel
theorem dX7_act_557 : decode cX7_act 557 = .ok (.aload 5, 2) := by decide +kernel
theorem dX7_act_559 : decode cX7_act 559 = .ok (.aload_n 3, 1) := by decide +kernel
theorem dX7_act_560 : decode cX7_act 560 = .ok (.getfield 325, 3) := by decide +kernel
theorem dX7_act_563 : decode cX7_act 563 = .ok (.iaload, 1) := by decide +kernel
theorem dX7_act_564 : decode cX7_act 564 = .ok (.aload 5, 2) := by decide +kernel
theorem dX7_act_566 : decode cX7_act 566 = .ok (.aload_n 3, 1) := by decide +kernel
theorem dX7_act_567 : decode cX7_act 567 = .ok (.getfield 334, 3) := by decide +kernel
theorem dX7_act_570 : decode cX7_act 570 = .ok (.iaload, 1) := by decide +kernel
theorem dX7_act_571 : decode cX7_act 571 = .ok (.invokestatic 419, 3) := by decide +kernel
theorem dX7_act_574 : decode cX7_act 574 = .ok (.iastore, 1) := by decide +kernel
theorem dX7_act_575 : decode cX7_act 575 = .ok (.return_, 1) := by decide +kernel
def fX7_act (n : Nat) (a0 : Nat) (p1 : Option Nat) (p2 : Int32) (p3 : Option Nat) (A : AH) : Option (AH) :=
(gR A p1 13 2).bind fun v1 =>
(rcv A v1 0).bind fun v2 =>
(fJ2_get v2 p2 A).bind fun g3 =>
(cst A g3 14).bind fun v4 =>
(gR A g3 14 0).bind fun v5 =>
(gR A p3 5 6).bind fun v6 =>
jn (fun (A8 : AH) =>
some A8) fun j7 =>
if v6 = (some (hA A 5)) then ((fX7_address g3 p3 A).bind fun g10 =>
(gR A p1 13 0).bind fun v11 =>
(gR A v11 12 1).bind fun v12 =>
(aI A v12 g10).bind fun v13 =>
(gI A p3 5 0).bind fun v14 =>
(gI A p3 5 3).bind fun v15 =>
(aI A v5 v15).bind fun v16 =>
(fX7_left v14 v13 v16 (0 : Int32) A).bind fun g17 =>
(sI A v12 g10 g17).bind fun A18 =>
(rcv A18 p3 5).bind fun v19 =>
(fX5_writes v19 A18).bind fun g20 =>
jn (fun (A22 : AH) =>
j7 A22) fun j21 =>
if g20 = 0 then (j21 A18) else
(gI A18 p3 5 1).bind fun v24 =>
(sI A18 v5 v24 v13).bind fun A25 =>
j21 A25) else
if v6 = (some (hA A 6)) then ((rcv A (some a0) 7).bind fun v27 =>
(fX7_ask n v27 g3 p3 A).bind fun g28 =>
j7 g28) else
(rcv A p3 5).bind fun v29 =>
(fX5_decides v29 A).bind fun g30 =>
if g30 = 0 then ((gI A p3 5 0).bind fun v32 =>
jn ((gI A p3 5 1).bind fun v34 =>
(gI A p3 5 2).bind fun v35 =>
(aI A v5 v35).bind fun v36 =>
(gI A p3 5 3).bind fun v37 =>
(aI A v5 v37).bind fun v38 =>
(fX7_reckoned v32 v36 v38 A).bind fun g39 =>
(sI A v5 v34 g39).bind fun A40 =>
j7 A40) fun j33 =>
if v32 = (0 : Int32) then ((pI A g3 14 3 (1 : Int32)).bind fun A42 =>
j7 A42) else
if v32 = (1 : Int32) then ((pI A g3 14 4 (1 : Int32)).bind fun A44 =>
j7 A44) else
if v32 = (2 : Int32) then ((gI A p3 5 1).bind fun v46 =>
(gI A p3 5 5).bind fun v47 =>
(sI A v5 v46 v47).bind fun A48 =>
j7 A48) else
if v32 = (3 : Int32) then ((gI A p3 5 1).bind fun v50 =>
(gI A p3 5 5).bind fun v51 =>
(rcv A (some a0) 7).bind fun v52 =>
(fX7_special v52 p1 p2 v51 A).bind fun g53 =>
(sI A v5 v50 g53).bind fun A54 =>
j7 A54) else
if v32 = (4 : Int32) then (j33) else
if v32 = (5 : Int32) then (j33) else
if v32 = (6 : Int32) then (j33) else
if v32 = (7 : Int32) then (j33) else
if v32 = (8 : Int32) then (j33) else
if v32 = (9 : Int32) then (j33) else
if v32 = (10 : Int32) then (j33) else
if v32 = (11 : Int32) then (j33) else
if v32 = (12 : Int32) then (j33) else
if v32 = (13 : Int32) then (j33) else
if v32 = (14 : Int32) then (j33) else
if v32 = (15 : Int32) then (j33) else
if v32 = (16 : Int32) then (j33) else
if v32 = (17 : Int32) then (j33) else
if v32 = (18 : Int32) then ((gI A p3 5 1).bind fun v70 =>
(gI A p3 5 2).bind fun v71 =>
(aI A v5 v71).bind fun v72 =>
(gI A p3 5 5).bind fun v73 =>
(sI A v5 v70 (v72 + v73)).bind fun A74 =>
j7 A74) else
if v32 = (19 : Int32) then ((gI A p3 5 1).bind fun v76 =>
(gI A p3 5 2).bind fun v77 =>
(aI A v5 v77).bind fun v78 =>
(gI A p3 5 5).bind fun v79 =>
(sI A v5 v76 (v78 * v79)).bind fun A80 =>
j7 A80) else
if v32 = (20 : Int32) then ((gI A p3 5 1).bind fun v82 =>
(gI A p3 5 2).bind fun v83 =>
(aI A v5 v83).bind fun v84 =>
(gI A p3 5 5).bind fun v85 =>
(sI A v5 v82 (v84 &&& v85)).bind fun A86 =>
j7 A86) else
if v32 = (21 : Int32) then ((gI A p3 5 1).bind fun v88 =>
(gR A g3 14 1).bind fun v89 =>
(gI A p3 5 5).bind fun v90 =>
(aZ A v89 (v90 &&& (3 : Int32))).bind fun v91 =>
jn (fun (y93 : Int32) =>
(sI A v5 v88 y93).bind fun A94 =>
j7 A94) fun j92 =>
if v91 = 0 then ((gI A p3 5 3).bind fun v96 =>
(aI A v5 v96).bind fun v97 =>
j92 v97) else
(gI A p3 5 2).bind fun v98 =>
(aI A v5 v98).bind fun v99 =>
j92 v99) else
if v32 = (22 : Int32) then (j33) else
if v32 = (23 : Int32) then (j33) else
if v32 = (24 : Int32) then (j33) else
if v32 = (25 : Int32) then (j33) else
if v32 = (26 : Int32) then (j33) else
if v32 = (27 : Int32) then (j33) else
if v32 = (28 : Int32) then (j33) else
if v32 = (29 : Int32) then (j33) else
if v32 = (30 : Int32) then (j33) else
if v32 = (31 : Int32) then (j33) else
if v32 = (32 : Int32) then (j33) else
if v32 = (33 : Int32) then (j33) else
if v32 = (34 : Int32) then (j33) else
if v32 = (35 : Int32) then (j33) else
if v32 = (36 : Int32) then (j33) else
if v32 = (37 : Int32) then (j33) else
if v32 = (38 : Int32) then (j33) else
if v32 = (39 : Int32) then (j33) else
if v32 = (40 : Int32) then ((gI A p3 5 5).bind fun v119 =>
(pI A g3 14 2 v119).bind fun A120 =>
j7 A120) else
if v32 = (41 : Int32) then ((gI A p3 5 1).bind fun v122 =>
(gI A g3 14 2).bind fun v123 =>
(sI A v5 v122 v123).bind fun A124 =>
(gI A124 p3 5 5).bind fun v125 =>
(pI A124 g3 14 2 v125).bind fun A126 =>
j7 A126) else
if v32 = (42 : Int32) then ((gI A p3 5 2).bind fun v128 =>
(aI A v5 v128).bind fun v129 =>
(pI A g3 14 2 v129).bind fun A130 =>
j7 A130) else
j33) else
(gR A g3 14 1).bind fun v131 =>
(gI A p3 5 1).bind fun v132 =>
(fX7_isSo g3 p3 A).bind fun g133 =>
(sZ A v131 (v132 &&& (3 : Int32)) g133).bind fun A134 =>
j7 A134

set_option maxHeartbeats 4000000 in
set_option maxRecDepth 100000 in
theorem sX7_act (l : Launch) (D : DE) (n : Nat) (a0 : Nat) (p1 : Option Nat) (p2 : Int32) (p3 : Option Nat) (A : AH) (g : AH) (hg : fX7_act n a0 p1 p2 p3 A = some g) : Sm l D yX7_act cX7_act 8 none 9 236 [tR (some a0), tR p1, tI p2, tR p3] A (wU g).1 (wU g).2 := by
  refine Sm.of (ω := wU) (fX7_act n a0 p1 p2 p3 A) [some (tR (some a0)), some (tR p1), some (tI p2), some (tR p3), none, none, none, none] (by decide) (Nat.le_of_ble_eq_true rfl) rfl hg ?_
  intro p e R s m args below meth c X hin
  have X : Cx D cX7_act RX7 8 9 236 none p R s m args meth c := X
  unfold fX7_act
  refine rf_aload_n X rfl dX7_act_0 ?_
  refine rf_bind (fun v1 hv1 => ?_)
  refine rf_getR X fl_X7_243 hv1 dX7_act_1 ?_
  refine rf_iload_n X rfl dX7_act_4 ?_
  refine rf_bind (fun v2 hv2 => ?_)
  refine rf_bind (fun g3 hg3 => ?_)
  refine rf_callVI X c_X7_122 ⟨Nat.le_of_ble_eq_true rfl, Nat.le_of_ble_eq_true rfl⟩ [tI p2] rfl (Nat.le_of_ble_eq_true rfl) hv2 (sJ2_get l D v2 p2 A g3 hg3) dX7_act_5 ?_
  refine rf_bind (fun v4 hv4 => ?_)
  refine rf_cast X (ci := 14) rfl rfl q1251 hv4 dX7_act_8 ?_
  refine rf_astore X (ls' := [some (tR (some a0)), some (tR p1), some (tI p2), some (tR p3), some (tR g3), none, none, none]) rfl (by decide) dX7_act_11 ?_
  refine rf_aload X rfl dX7_act_13 ?_
  refine rf_bind (fun v5 hv5 => ?_)
  refine rf_getR X fl_X7_209 hv5 dX7_act_15 ?_
  refine rf_astore X (ls' := [some (tR (some a0)), some (tR p1), some (tI p2), some (tR p3), some (tR g3), some (tR v5), none, none]) rfl (by decide) dX7_act_18 ?_
  refine rf_aload_n X rfl dX7_act_20 ?_
  refine rf_bind (fun v6 hv6 => ?_)
  refine rf_getR X fl_X7_293 hv6 dX7_act_21 ?_
  refine rf_getsR X 5 (fun D => by simp [statD]) (Or.inl q1329) dX7_act_24 ?_
  refine rf_jn2 (fun i => ∀ (A8 : AH), RfX X l e below wU (i A8) 575 [none, none, none, none, none, none, none, none] [] A8) ?_ (fun j7 hj7 => ?_)
  · intro A8
    exact rf_vret X rfl dX7_act_575
  refine rf_acmp_ne X (tgt := 96) rfl dX7_act_27 (fun c9 => rf_neg c9 ?_) (fun c9 => rf_pos c9 ?_)
  · refine rf_aload_n X rfl dX7_act_96 ?_
    refine rf_getR X fl_X7_293 hv6 dX7_act_97 ?_
    refine rf_getsR X 6 (fun D => by simp [statD]) (Or.inl q1409) dX7_act_100 ?_
    refine rf_acmp_ne X (tgt := 116) rfl dX7_act_103 (fun c26 => rf_neg c26 ?_) (fun c26 => rf_pos c26 ?_)
    · refine rf_aload_n X rfl dX7_act_116 ?_
      refine rf_bind (fun v29 hv29 => ?_)
      refine rf_bind (fun g30 hg30 => ?_)
      refine rf_callVI X c_X7_397 ⟨Nat.le_of_ble_eq_true rfl, Nat.le_of_ble_eq_true rfl⟩ [] rfl (Nat.le_of_ble_eq_true rfl) hv29 (sX5_decides l D v29 A g30 hg30) dX7_act_117 ?_
      refine rf_if_eq X (tgt := 144) rfl dX7_act_120 (fun c31 => rf_pos c31 ?_) (fun c31 => rf_neg c31 ?_)
      · refine rf_aload_n X rfl dX7_act_144 ?_
        refine rf_bind (fun v32 hv32 => ?_)
        refine rf_getI X fl_X7_313 hv32 dX7_act_145 ?_
        refine rf_jn2 (fun i => RfX X l e below wU i 547 [none, none, none, some (tR p3), none, some (tR v5), none, none] [] A) ?_ (fun j33 hj33 => ?_)
        · show RfX X l e below _ _ _ _ _ _
          refine rf_aload X rfl dX7_act_547 ?_
          refine rf_aload_n X rfl dX7_act_549 ?_
          refine rf_bind (fun v34 hv34 => ?_)
          refine rf_getI X fl_X7_387 hv34 dX7_act_550 ?_
          refine rf_aload_n X rfl dX7_act_553 ?_
          refine rf_getI X fl_X7_313 hv32 dX7_act_554 ?_
          refine rf_aload X rfl dX7_act_557 ?_
          refine rf_aload_n X rfl dX7_act_559 ?_
          refine rf_bind (fun v35 hv35 => ?_)
          refine rf_getI X fl_X7_325 hv35 dX7_act_560 ?_
          refine rf_bind (fun v36 hv36 => ?_)
          refine rf_iald X hv36 dX7_act_563 ?_
          refine rf_aload X rfl dX7_act_564 ?_
          refine rf_aload_n X rfl dX7_act_566 ?_
          refine rf_bind (fun v37 hv37 => ?_)
          refine rf_getI X fl_X7_334 hv37 dX7_act_567 ?_
          refine rf_bind (fun v38 hv38 => ?_)
          refine rf_iald X hv38 dX7_act_570 ?_
          refine rf_bind (fun g39 hg39 => ?_)
          refine rf_callSI X c_X7_419 ⟨Nat.le_of_ble_eq_true rfl, Nat.le_of_ble_eq_true rfl⟩ [tI v32, tI v36, tI v38] rfl (Nat.le_of_ble_eq_true rfl) (sX7_reckoned l D v32 v36 v38 A g39 hg39) dX7_act_571 ?_
          refine rf_bind (fun A40 hA40 => ?_)
          refine rf_iast X hA40 dX7_act_574 ?_
          exact rf_go (hj7 A40) True.intro
        by_cases c41 : v32 = (0 : Int32)
        · refine rf_pos c41 ?_
          refine rf_tsIn X (0 : Int32) c41 (by decide) (by decide) (tgt := 336) rfl rfl dX7_act_148 ?_
          refine rf_aload X rfl dX7_act_336 ?_
          refine rf_iconst X (1 : Int32) rfl dX7_act_338 ?_
          refine rf_bind (fun A42 hA42 => ?_)
          refine rf_putZ X fp_X7_408 (fun h => by cases h) (by decide) hA42 dX7_act_339 ?_
          refine rf_goto X (tgt := 575) rfl dX7_act_342 ?_
          exact rf_go (hj7 A42) True.intro
        refine rf_neg c41 ?_
        by_cases c43 : v32 = (1 : Int32)
        · refine rf_pos c43 ?_
          refine rf_tsIn X (1 : Int32) c43 (by decide) (by decide) (tgt := 345) rfl rfl dX7_act_148 ?_
          refine rf_aload X rfl dX7_act_345 ?_
          refine rf_iconst X (1 : Int32) rfl dX7_act_347 ?_
          refine rf_bind (fun A44 hA44 => ?_)
          refine rf_putZ X fp_X7_412 (fun h => by cases h) (by decide) hA44 dX7_act_348 ?_
          refine rf_goto X (tgt := 575) rfl dX7_act_351 ?_
          exact rf_go (hj7 A44) True.intro
        refine rf_neg c43 ?_
        by_cases c45 : v32 = (2 : Int32)
        · refine rf_pos c45 ?_
          refine rf_tsIn X (2 : Int32) c45 (by decide) (by decide) (tgt := 354) rfl rfl dX7_act_148 ?_
          refine rf_aload X rfl dX7_act_354 ?_
          refine rf_aload_n X rfl dX7_act_356 ?_
          refine rf_bind (fun v46 hv46 => ?_)
          refine rf_getI X fl_X7_387 hv46 dX7_act_357 ?_
          refine rf_aload_n X rfl dX7_act_360 ?_
          refine rf_bind (fun v47 hv47 => ?_)
          refine rf_getI X fl_X7_328 hv47 dX7_act_361 ?_
          refine rf_bind (fun A48 hA48 => ?_)
          refine rf_iast X hA48 dX7_act_364 ?_
          refine rf_goto X (tgt := 575) rfl dX7_act_365 ?_
          exact rf_go (hj7 A48) True.intro
        refine rf_neg c45 ?_
        by_cases c49 : v32 = (3 : Int32)
        · refine rf_pos c49 ?_
          refine rf_tsIn X (3 : Int32) c49 (by decide) (by decide) (tgt := 368) rfl rfl dX7_act_148 ?_
          refine rf_aload X rfl dX7_act_368 ?_
          refine rf_aload_n X rfl dX7_act_370 ?_
          refine rf_bind (fun v50 hv50 => ?_)
          refine rf_getI X fl_X7_387 hv50 dX7_act_371 ?_
          refine rf_aload_n X rfl dX7_act_374 ?_
          refine rf_aload_n X rfl dX7_act_375 ?_
          refine rf_iload_n X rfl dX7_act_376 ?_
          refine rf_aload_n X rfl dX7_act_377 ?_
          refine rf_bind (fun v51 hv51 => ?_)
          refine rf_getI X fl_X7_328 hv51 dX7_act_378 ?_
          refine rf_bind (fun v52 hv52 => ?_)
          refine rf_bind (fun g53 hg53 => ?_)
          refine rf_callVI X c_X7_415 ⟨Nat.le_of_ble_eq_true rfl, Nat.le_of_ble_eq_true rfl⟩ [tR p1, tI p2, tI v51] rfl (Nat.le_of_ble_eq_true rfl) hv52 (sX7_special l D v52 p1 p2 v51 A g53 hg53) dX7_act_381 ?_
          refine rf_bind (fun A54 hA54 => ?_)
          refine rf_iast X hA54 dX7_act_384 ?_
          refine rf_goto X (tgt := 575) rfl dX7_act_385 ?_
          exact rf_go (hj7 A54) True.intro
        refine rf_neg c49 ?_
        by_cases c55 : v32 = (4 : Int32)
        · refine rf_pos c55 ?_
          refine rf_tsIn X (4 : Int32) c55 (by decide) (by decide) (tgt := 547) rfl rfl dX7_act_148 ?_
          exact rf_go hj33 (And.intro rfl (And.intro rfl True.intro))
        refine rf_neg c55 ?_
        by_cases c56 : v32 = (5 : Int32)
        · refine rf_pos c56 ?_
          refine rf_tsIn X (5 : Int32) c56 (by decide) (by decide) (tgt := 547) rfl rfl dX7_act_148 ?_
          exact rf_go hj33 (And.intro rfl (And.intro rfl True.intro))
        refine rf_neg c56 ?_
        by_cases c57 : v32 = (6 : Int32)
        · refine rf_pos c57 ?_
          refine rf_tsIn X (6 : Int32) c57 (by decide) (by decide) (tgt := 547) rfl rfl dX7_act_148 ?_
          exact rf_go hj33 (And.intro rfl (And.intro rfl True.intro))
        refine rf_neg c57 ?_
        by_cases c58 : v32 = (7 : Int32)
        · refine rf_pos c58 ?_
          refine rf_tsIn X (7 : Int32) c58 (by decide) (by decide) (tgt := 547) rfl rfl dX7_act_148 ?_
          exact rf_go hj33 (And.intro rfl (And.intro rfl True.intro))
        refine rf_neg c58 ?_
        by_cases c59 : v32 = (8 : Int32)
        · refine rf_pos c59 ?_
          refine rf_tsIn X (8 : Int32) c59 (by decide) (by decide) (tgt := 547) rfl rfl dX7_act_148 ?_
          exact rf_go hj33 (And.intro rfl (And.intro rfl True.intro))
        refine rf_neg c59 ?_
        by_cases c60 : v32 = (9 : Int32)
        · refine rf_pos c60 ?_
          refine rf_tsIn X (9 : Int32) c60 (by decide) (by decide) (tgt := 547) rfl rfl dX7_act_148 ?_
          exact rf_go hj33 (And.intro rfl (And.intro rfl True.intro))
        refine rf_neg c60 ?_
        by_cases c61 : v32 = (10 : Int32)
        · refine rf_pos c61 ?_
          refine rf_tsIn X (10 : Int32) c61 (by decide) (by decide) (tgt := 547) rfl rfl dX7_act_148 ?_
          exact rf_go hj33 (And.intro rfl (And.intro rfl True.intro))
        refine rf_neg c61 ?_
        by_cases c62 : v32 = (11 : Int32)
        · refine rf_pos c62 ?_
          refine rf_tsIn X (11 : Int32) c62 (by decide) (by decide) (tgt := 547) rfl rfl dX7_act_148 ?_
          exact rf_go hj33 (And.intro rfl (And.intro rfl True.intro))
        refine rf_neg c62 ?_
        by_cases c63 : v32 = (12 : Int32)
        · refine rf_pos c63 ?_
          refine rf_tsIn X (12 : Int32) c63 (by decide) (by decide) (tgt := 547) rfl rfl dX7_act_148 ?_
          exact rf_go hj33 (And.intro rfl (And.intro rfl True.intro))
        refine rf_neg c63 ?_
        by_cases c64 : v32 = (13 : Int32)
        · refine rf_pos c64 ?_
          refine rf_tsIn X (13 : Int32) c64 (by decide) (by decide) (tgt := 547) rfl rfl dX7_act_148 ?_
          exact rf_go hj33 (And.intro rfl (And.intro rfl True.intro))
        refine rf_neg c64 ?_
        by_cases c65 : v32 = (14 : Int32)
        · refine rf_pos c65 ?_
          refine rf_tsIn X (14 : Int32) c65 (by decide) (by decide) (tgt := 547) rfl rfl dX7_act_148 ?_
          exact rf_go hj33 (And.intro rfl (And.intro rfl True.intro))
        refine rf_neg c65 ?_
        by_cases c66 : v32 = (15 : Int32)
        · refine rf_pos c66 ?_
          refine rf_tsIn X (15 : Int32) c66 (by decide) (by decide) (tgt := 547) rfl rfl dX7_act_148 ?_
          exact rf_go hj33 (And.intro rfl (And.intro rfl True.intro))
        refine rf_neg c66 ?_
        by_cases c67 : v32 = (16 : Int32)
        · refine rf_pos c67 ?_
          refine rf_tsIn X (16 : Int32) c67 (by decide) (by decide) (tgt := 547) rfl rfl dX7_act_148 ?_
          exact rf_go hj33 (And.intro rfl (And.intro rfl True.intro))
        refine rf_neg c67 ?_
        by_cases c68 : v32 = (17 : Int32)
        · refine rf_pos c68 ?_
          refine rf_tsIn X (17 : Int32) c68 (by decide) (by decide) (tgt := 547) rfl rfl dX7_act_148 ?_
          exact rf_go hj33 (And.intro rfl (And.intro rfl True.intro))
        refine rf_neg c68 ?_
        by_cases c69 : v32 = (18 : Int32)
        · refine rf_pos c69 ?_
          refine rf_tsIn X (18 : Int32) c69 (by decide) (by decide) (tgt := 388) rfl rfl dX7_act_148 ?_
          refine rf_aload X rfl dX7_act_388 ?_
          refine rf_aload_n X rfl dX7_act_390 ?_
          refine rf_bind (fun v70 hv70 => ?_)
          refine rf_getI X fl_X7_387 hv70 dX7_act_391 ?_
          refine rf_aload X rfl dX7_act_394 ?_
          refine rf_aload_n X rfl dX7_act_396 ?_
          refine rf_bind (fun v71 hv71 => ?_)
          refine rf_getI X fl_X7_325 hv71 dX7_act_397 ?_
          refine rf_bind (fun v72 hv72 => ?_)
          refine rf_iald X hv72 dX7_act_400 ?_
          refine rf_aload_n X rfl dX7_act_401 ?_
          refine rf_bind (fun v73 hv73 => ?_)
          refine rf_getI X fl_X7_328 hv73 dX7_act_402 ?_
          refine rf_iadd X dX7_act_405 ?_
          refine rf_bind (fun A74 hA74 => ?_)
          refine rf_iast X hA74 dX7_act_406 ?_
          refine rf_goto X (tgt := 575) rfl dX7_act_407 ?_
          exact rf_go (hj7 A74) True.intro
        refine rf_neg c69 ?_
        by_cases c75 : v32 = (19 : Int32)
        · refine rf_pos c75 ?_
          refine rf_tsIn X (19 : Int32) c75 (by decide) (by decide) (tgt := 410) rfl rfl dX7_act_148 ?_
          refine rf_aload X rfl dX7_act_410 ?_
          refine rf_aload_n X rfl dX7_act_412 ?_
          refine rf_bind (fun v76 hv76 => ?_)
          refine rf_getI X fl_X7_387 hv76 dX7_act_413 ?_
          refine rf_aload X rfl dX7_act_416 ?_
          refine rf_aload_n X rfl dX7_act_418 ?_
          refine rf_bind (fun v77 hv77 => ?_)
          refine rf_getI X fl_X7_325 hv77 dX7_act_419 ?_
          refine rf_bind (fun v78 hv78 => ?_)
          refine rf_iald X hv78 dX7_act_422 ?_
          refine rf_aload_n X rfl dX7_act_423 ?_
          refine rf_bind (fun v79 hv79 => ?_)
          refine rf_getI X fl_X7_328 hv79 dX7_act_424 ?_
          refine rf_imul X dX7_act_427 ?_
          refine rf_bind (fun A80 hA80 => ?_)
          refine rf_iast X hA80 dX7_act_428 ?_
          refine rf_goto X (tgt := 575) rfl dX7_act_429 ?_
          exact rf_go (hj7 A80) True.intro
        refine rf_neg c75 ?_
        by_cases c81 : v32 = (20 : Int32)
        · refine rf_pos c81 ?_
          refine rf_tsIn X (20 : Int32) c81 (by decide) (by decide) (tgt := 432) rfl rfl dX7_act_148 ?_
          refine rf_aload X rfl dX7_act_432 ?_
          refine rf_aload_n X rfl dX7_act_434 ?_
          refine rf_bind (fun v82 hv82 => ?_)
          refine rf_getI X fl_X7_387 hv82 dX7_act_435 ?_
          refine rf_aload X rfl dX7_act_438 ?_
          refine rf_aload_n X rfl dX7_act_440 ?_
          refine rf_bind (fun v83 hv83 => ?_)
          refine rf_getI X fl_X7_325 hv83 dX7_act_441 ?_
          refine rf_bind (fun v84 hv84 => ?_)
          refine rf_iald X hv84 dX7_act_444 ?_
          refine rf_aload_n X rfl dX7_act_445 ?_
          refine rf_bind (fun v85 hv85 => ?_)
          refine rf_getI X fl_X7_328 hv85 dX7_act_446 ?_
          refine rf_iand X dX7_act_449 ?_
          refine rf_bind (fun A86 hA86 => ?_)
          refine rf_iast X hA86 dX7_act_450 ?_
          refine rf_goto X (tgt := 575) rfl dX7_act_451 ?_
          exact rf_go (hj7 A86) True.intro
        refine rf_neg c81 ?_
        by_cases c87 : v32 = (21 : Int32)
        · refine rf_pos c87 ?_
          refine rf_tsIn X (21 : Int32) c87 (by decide) (by decide) (tgt := 454) rfl rfl dX7_act_148 ?_
          refine rf_aload X rfl dX7_act_454 ?_
          refine rf_aload_n X rfl dX7_act_456 ?_
          refine rf_bind (fun v88 hv88 => ?_)
          refine rf_getI X fl_X7_387 hv88 dX7_act_457 ?_
          refine rf_aload X rfl dX7_act_460 ?_
          refine rf_bind (fun v89 hv89 => ?_)
          refine rf_getR X fl_X7_400 hv89 dX7_act_462 ?_
          refine rf_aload_n X rfl dX7_act_465 ?_
          refine rf_bind (fun v90 hv90 => ?_)
          refine rf_getI X fl_X7_328 hv90 dX7_act_466 ?_
          refine rf_iconst X (3 : Int32) rfl dX7_act_469 ?_
          refine rf_iand X dX7_act_470 ?_
          refine rf_bind (fun v91 hv91 => ?_)
          refine rf_zald X hv91 dX7_act_471 ?_
          refine rf_jn2 (fun i => ∀ (y93 : Int32), RfX X l e below wU (i y93) 492 [none, none, none, none, none, none, none, none] [tI y93, tI v88, tR v5] A) ?_ (fun j92 hj92 => ?_)
          · intro y93
            refine rf_bind (fun A94 hA94 => ?_)
            refine rf_iast X hA94 dX7_act_492 ?_
            refine rf_goto X (tgt := 575) rfl dX7_act_493 ?_
            exact rf_go (hj7 A94) True.intro
          refine rf_if_eq X (tgt := 485) rfl dX7_act_472 (fun c95 => rf_pos c95 ?_) (fun c95 => rf_neg c95 ?_)
          · refine rf_aload X rfl dX7_act_485 ?_
            refine rf_aload_n X rfl dX7_act_487 ?_
            refine rf_bind (fun v96 hv96 => ?_)
            refine rf_getI X fl_X7_334 hv96 dX7_act_488 ?_
            refine rf_bind (fun v97 hv97 => ?_)
            refine rf_iald X hv97 dX7_act_491 ?_
            exact rf_go (hj92 v97) True.intro
          refine rf_aload X rfl dX7_act_475 ?_
          refine rf_aload_n X rfl dX7_act_477 ?_
          refine rf_bind (fun v98 hv98 => ?_)
          refine rf_getI X fl_X7_325 hv98 dX7_act_478 ?_
          refine rf_bind (fun v99 hv99 => ?_)
          refine rf_iald X hv99 dX7_act_481 ?_
          refine rf_goto X (tgt := 492) rfl dX7_act_482 ?_
          exact rf_go (hj92 v99) True.intro
        refine rf_neg c87 ?_
        by_cases c100 : v32 = (22 : Int32)
        · refine rf_pos c100 ?_
          refine rf_tsIn X (22 : Int32) c100 (by decide) (by decide) (tgt := 547) rfl rfl dX7_act_148 ?_
          exact rf_go hj33 (And.intro rfl (And.intro rfl True.intro))
        refine rf_neg c100 ?_
        by_cases c101 : v32 = (23 : Int32)
        · refine rf_pos c101 ?_
          refine rf_tsIn X (23 : Int32) c101 (by decide) (by decide) (tgt := 547) rfl rfl dX7_act_148 ?_
          exact rf_go hj33 (And.intro rfl (And.intro rfl True.intro))
        refine rf_neg c101 ?_
        by_cases c102 : v32 = (24 : Int32)
        · refine rf_pos c102 ?_
          refine rf_tsIn X (24 : Int32) c102 (by decide) (by decide) (tgt := 547) rfl rfl dX7_act_148 ?_
          exact rf_go hj33 (And.intro rfl (And.intro rfl True.intro))
        refine rf_neg c102 ?_
        by_cases c103 : v32 = (25 : Int32)
        · refine rf_pos c103 ?_
          refine rf_tsIn X (25 : Int32) c103 (by decide) (by decide) (tgt := 547) rfl rfl dX7_act_148 ?_
          exact rf_go hj33 (And.intro rfl (And.intro rfl True.intro))
        refine rf_neg c103 ?_
        by_cases c104 : v32 = (26 : Int32)
        · refine rf_pos c104 ?_
          refine rf_tsIn X (26 : Int32) c104 (by decide) (by decide) (tgt := 547) rfl rfl dX7_act_148 ?_
          exact rf_go hj33 (And.intro rfl (And.intro rfl True.intro))
        refine rf_neg c104 ?_
        by_cases c105 : v32 = (27 : Int32)
        · refine rf_pos c105 ?_
          refine rf_tsIn X (27 : Int32) c105 (by decide) (by decide) (tgt := 547) rfl rfl dX7_act_148 ?_
          exact rf_go hj33 (And.intro rfl (And.intro rfl True.intro))
        refine rf_neg c105 ?_
        by_cases c106 : v32 = (28 : Int32)
        · refine rf_pos c106 ?_
          refine rf_tsIn X (28 : Int32) c106 (by decide) (by decide) (tgt := 547) rfl rfl dX7_act_148 ?_
          exact rf_go hj33 (And.intro rfl (And.intro rfl True.intro))
        refine rf_neg c106 ?_
        by_cases c107 : v32 = (29 : Int32)
        · refine rf_pos c107 ?_
          refine rf_tsIn X (29 : Int32) c107 (by decide) (by decide) (tgt := 547) rfl rfl dX7_act_148 ?_
          exact rf_go hj33 (And.intro rfl (And.intro rfl True.intro))
        refine rf_neg c107 ?_
        by_cases c108 : v32 = (30 : Int32)
        · refine rf_pos c108 ?_
          refine rf_tsIn X (30 : Int32) c108 (by decide) (by decide) (tgt := 547) rfl rfl dX7_act_148 ?_
          exact rf_go hj33 (And.intro rfl (And.intro rfl True.intro))
        refine rf_neg c108 ?_
        by_cases c109 : v32 = (31 : Int32)
        · refine rf_pos c109 ?_
          refine rf_tsIn X (31 : Int32) c109 (by decide) (by decide) (tgt := 547) rfl rfl dX7_act_148 ?_
          exact rf_go hj33 (And.intro rfl (And.intro rfl True.intro))
        refine rf_neg c109 ?_
        by_cases c110 : v32 = (32 : Int32)
        · refine rf_pos c110 ?_
          refine rf_tsIn X (32 : Int32) c110 (by decide) (by decide) (tgt := 547) rfl rfl dX7_act_148 ?_
          exact rf_go hj33 (And.intro rfl (And.intro rfl True.intro))
        refine rf_neg c110 ?_
        by_cases c111 : v32 = (33 : Int32)
        · refine rf_pos c111 ?_
          refine rf_tsIn X (33 : Int32) c111 (by decide) (by decide) (tgt := 547) rfl rfl dX7_act_148 ?_
          exact rf_go hj33 (And.intro rfl (And.intro rfl True.intro))
        refine rf_neg c111 ?_
        by_cases c112 : v32 = (34 : Int32)
        · refine rf_pos c112 ?_
          refine rf_tsIn X (34 : Int32) c112 (by decide) (by decide) (tgt := 547) rfl rfl dX7_act_148 ?_
          exact rf_go hj33 (And.intro rfl (And.intro rfl True.intro))
        refine rf_neg c112 ?_
        by_cases c113 : v32 = (35 : Int32)
        · refine rf_pos c113 ?_
          refine rf_tsIn X (35 : Int32) c113 (by decide) (by decide) (tgt := 547) rfl rfl dX7_act_148 ?_
          exact rf_go hj33 (And.intro rfl (And.intro rfl True.intro))
        refine rf_neg c113 ?_
        by_cases c114 : v32 = (36 : Int32)
        · refine rf_pos c114 ?_
          refine rf_tsIn X (36 : Int32) c114 (by decide) (by decide) (tgt := 547) rfl rfl dX7_act_148 ?_
          exact rf_go hj33 (And.intro rfl (And.intro rfl True.intro))
        refine rf_neg c114 ?_
        by_cases c115 : v32 = (37 : Int32)
        · refine rf_pos c115 ?_
          refine rf_tsIn X (37 : Int32) c115 (by decide) (by decide) (tgt := 547) rfl rfl dX7_act_148 ?_
          exact rf_go hj33 (And.intro rfl (And.intro rfl True.intro))
        refine rf_neg c115 ?_
        by_cases c116 : v32 = (38 : Int32)
        · refine rf_pos c116 ?_
          refine rf_tsIn X (38 : Int32) c116 (by decide) (by decide) (tgt := 547) rfl rfl dX7_act_148 ?_
          exact rf_go hj33 (And.intro rfl (And.intro rfl True.intro))
        refine rf_neg c116 ?_
        by_cases c117 : v32 = (39 : Int32)
        · refine rf_pos c117 ?_
          refine rf_tsIn X (39 : Int32) c117 (by decide) (by decide) (tgt := 547) rfl rfl dX7_act_148 ?_
          exact rf_go hj33 (And.intro rfl (And.intro rfl True.intro))
        refine rf_neg c117 ?_
        by_cases c118 : v32 = (40 : Int32)
        · refine rf_pos c118 ?_
          refine rf_tsIn X (40 : Int32) c118 (by decide) (by decide) (tgt := 496) rfl rfl dX7_act_148 ?_
          refine rf_aload X rfl dX7_act_496 ?_
          refine rf_aload_n X rfl dX7_act_498 ?_
          refine rf_bind (fun v119 hv119 => ?_)
          refine rf_getI X fl_X7_328 hv119 dX7_act_499 ?_
          refine rf_bind (fun A120 hA120 => ?_)
          refine rf_putI X fp_X7_245 (fun h => by cases h) hA120 dX7_act_502 ?_
          refine rf_goto X (tgt := 575) rfl dX7_act_505 ?_
          exact rf_go (hj7 A120) True.intro
        refine rf_neg c118 ?_
        by_cases c121 : v32 = (41 : Int32)
        · refine rf_pos c121 ?_
          refine rf_tsIn X (41 : Int32) c121 (by decide) (by decide) (tgt := 508) rfl rfl dX7_act_148 ?_
          refine rf_aload X rfl dX7_act_508 ?_
          refine rf_aload_n X rfl dX7_act_510 ?_
          refine rf_bind (fun v122 hv122 => ?_)
          refine rf_getI X fl_X7_387 hv122 dX7_act_511 ?_
          refine rf_aload X rfl dX7_act_514 ?_
          refine rf_bind (fun v123 hv123 => ?_)
          refine rf_getI X fl_X7_245 hv123 dX7_act_516 ?_
          refine rf_bind (fun A124 hA124 => ?_)
          refine rf_iast X hA124 dX7_act_519 ?_
          refine rf_aload X rfl dX7_act_520 ?_
          refine rf_aload_n X rfl dX7_act_522 ?_
          refine rf_bind (fun v125 hv125 => ?_)
          refine rf_getI X fl_X7_328 hv125 dX7_act_523 ?_
          refine rf_bind (fun A126 hA126 => ?_)
          refine rf_putI X fp_X7_245 (fun h => by cases h) hA126 dX7_act_526 ?_
          refine rf_goto X (tgt := 575) rfl dX7_act_529 ?_
          exact rf_go (hj7 A126) True.intro
        refine rf_neg c121 ?_
        by_cases c127 : v32 = (42 : Int32)
        · refine rf_pos c127 ?_
          refine rf_tsIn X (42 : Int32) c127 (by decide) (by decide) (tgt := 532) rfl rfl dX7_act_148 ?_
          refine rf_aload X rfl dX7_act_532 ?_
          refine rf_aload X rfl dX7_act_534 ?_
          refine rf_aload_n X rfl dX7_act_536 ?_
          refine rf_bind (fun v128 hv128 => ?_)
          refine rf_getI X fl_X7_325 hv128 dX7_act_537 ?_
          refine rf_bind (fun v129 hv129 => ?_)
          refine rf_iald X hv129 dX7_act_540 ?_
          refine rf_bind (fun A130 hA130 => ?_)
          refine rf_putI X fp_X7_245 (fun h => by cases h) hA130 dX7_act_541 ?_
          refine rf_goto X (tgt := 575) rfl dX7_act_544 ?_
          exact rf_go (hj7 A130) True.intro
        refine rf_neg c127 ?_
        refine rf_tsOut X (ts_def (0) (42) [(0 : Int32), (1 : Int32), (2 : Int32), (3 : Int32), (4 : Int32), (5 : Int32), (6 : Int32), (7 : Int32), (8 : Int32), (9 : Int32), (10 : Int32), (11 : Int32), (12 : Int32), (13 : Int32), (14 : Int32), (15 : Int32), (16 : Int32), (17 : Int32), (18 : Int32), (19 : Int32), (20 : Int32), (21 : Int32), (22 : Int32), (23 : Int32), (24 : Int32), (25 : Int32), (26 : Int32), (27 : Int32), (28 : Int32), (29 : Int32), (30 : Int32), (31 : Int32), (32 : Int32), (33 : Int32), (34 : Int32), (35 : Int32), (36 : Int32), (37 : Int32), (38 : Int32), (39 : Int32), (40 : Int32), (41 : Int32), (42 : Int32)] 43 (by decide) (by decide) (List.forall_mem_cons.mpr ⟨c41, (List.forall_mem_cons.mpr ⟨c43, (List.forall_mem_cons.mpr ⟨c45, (List.forall_mem_cons.mpr ⟨c49, (List.forall_mem_cons.mpr ⟨c55, (List.forall_mem_cons.mpr ⟨c56, (List.forall_mem_cons.mpr ⟨c57, (List.forall_mem_cons.mpr ⟨c58, (List.forall_mem_cons.mpr ⟨c59, (List.forall_mem_cons.mpr ⟨c60, (List.forall_mem_cons.mpr ⟨c61, (List.forall_mem_cons.mpr ⟨c62, (List.forall_mem_cons.mpr ⟨c63, (List.forall_mem_cons.mpr ⟨c64, (List.forall_mem_cons.mpr ⟨c65, (List.forall_mem_cons.mpr ⟨c66, (List.forall_mem_cons.mpr ⟨c67, (List.forall_mem_cons.mpr ⟨c68, (List.forall_mem_cons.mpr ⟨c69, (List.forall_mem_cons.mpr ⟨c75, (List.forall_mem_cons.mpr ⟨c81, (List.forall_mem_cons.mpr ⟨c87, (List.forall_mem_cons.mpr ⟨c100, (List.forall_mem_cons.mpr ⟨c101, (List.forall_mem_cons.mpr ⟨c102, (List.forall_mem_cons.mpr ⟨c103, (List.forall_mem_cons.mpr ⟨c104, (List.forall_mem_cons.mpr ⟨c105, (List.forall_mem_cons.mpr ⟨c106, (List.forall_mem_cons.mpr ⟨c107, (List.forall_mem_cons.mpr ⟨c108, (List.forall_mem_cons.mpr ⟨c109, (List.forall_mem_cons.mpr ⟨c110, (List.forall_mem_cons.mpr ⟨c111, (List.forall_mem_cons.mpr ⟨c112, (List.forall_mem_cons.mpr ⟨c113, (List.forall_mem_cons.mpr ⟨c114, (List.forall_mem_cons.mpr ⟨c115, (List.forall_mem_cons.mpr ⟨c116, (List.forall_mem_cons.mpr ⟨c117, (List.forall_mem_cons.mpr ⟨c118, (List.forall_mem_cons.mpr ⟨c121, (List.forall_mem_cons.mpr ⟨c127, (fun _ h => absurd h List.not_mem_nil)⟩)⟩)⟩)⟩)⟩)⟩)⟩)⟩)⟩)⟩)⟩)⟩)⟩)⟩)⟩)⟩)⟩)⟩)⟩)⟩)⟩)⟩)⟩)⟩)⟩)⟩)⟩)⟩)⟩)⟩)⟩)⟩)⟩)⟩)⟩)⟩)⟩)⟩)⟩)⟩)⟩)⟩)⟩)) (tgt := 547) rfl dX7_act_148 ?_
        exact rf_go hj33 (And.intro rfl (And.intro rfl True.intro))
      refine rf_aload X rfl dX7_act_123 ?_
      refine rf_bind (fun v131 hv131 => ?_)
      refine rf_getR X fl_X7_400 hv131 dX7_act_125 ?_
      refine rf_aload_n X rfl dX7_act_128 ?_
      refine rf_bind (fun v132 hv132 => ?_)
      refine rf_getI X fl_X7_387 hv132 dX7_act_129 ?_
      refine rf_iconst X (3 : Int32) rfl dX7_act_132 ?_
      refine rf_iand X dX7_act_133 ?_
      refine rf_aload X rfl dX7_act_134 ?_
      refine rf_aload_n X rfl dX7_act_136 ?_
      refine rf_bind (fun g133 hg133 => ?_)
      refine rf_callSI X c_X7_404 ⟨Nat.le_of_ble_eq_true rfl, Nat.le_of_ble_eq_true rfl⟩ [tR g3, tR p3] rfl (Nat.le_of_ble_eq_true rfl) (sX7_isSo l D g3 p3 A g133 hg133) dX7_act_137 ?_
      refine rf_bind (fun A134 hA134 => ?_)
      refine rf_zast X hA134 dX7_act_140 ?_
      refine rf_goto X (tgt := 575) rfl dX7_act_141 ?_
      exact rf_go (hj7 A134) True.intro
    refine rf_aload_n X rfl dX7_act_106 ?_
    refine rf_aload X rfl dX7_act_107 ?_
    refine rf_aload_n X rfl dX7_act_109 ?_
    refine rf_bind (fun v27 hv27 => ?_)
    refine rf_bind (fun g28 hg28 => ?_)
    refine rf_callVU X c_X7_393 ⟨Nat.le_of_ble_eq_true rfl, Nat.le_of_ble_eq_true rfl⟩ [tR g3, tR p3] rfl (Nat.le_of_ble_eq_true rfl) hv27 (sX7_ask l D n v27 g3 p3 A g28 hg28) dX7_act_110 ?_
    refine rf_goto X (tgt := 575) rfl dX7_act_113 ?_
    exact rf_go (hj7 g28) True.intro
  refine rf_aload X rfl dX7_act_30 ?_
  refine rf_aload_n X rfl dX7_act_32 ?_
  refine rf_bind (fun g10 hg10 => ?_)
  refine rf_callSI X c_X7_340 ⟨Nat.le_of_ble_eq_true rfl, Nat.le_of_ble_eq_true rfl⟩ [tR g3, tR p3] rfl (Nat.le_of_ble_eq_true rfl) (sX7_address l D g3 p3 A g10 hg10) dX7_act_33 ?_
  refine rf_istore X (ls' := [some (tR (some a0)), some (tR p1), some (tI p2), some (tR p3), some (tR g3), some (tR v5), some (tI g10), none]) rfl (by decide) dX7_act_36 ?_
  refine rf_aload_n X rfl dX7_act_38 ?_
  refine rf_bind (fun v11 hv11 => ?_)
  refine rf_getR X fl_X7_268 hv11 dX7_act_39 ?_
  refine rf_bind (fun v12 hv12 => ?_)
  refine rf_getR X fl_X7_382 hv12 dX7_act_42 ?_
  refine rf_iload X rfl dX7_act_45 ?_
  refine rf_bind (fun v13 hv13 => ?_)
  refine rf_iald X hv13 dX7_act_47 ?_
  refine rf_istore X (ls' := [some (tR (some a0)), some (tR p1), some (tI p2), some (tR p3), some (tR g3), some (tR v5), some (tI g10), some (tI v13)]) rfl (by decide) dX7_act_48 ?_
  refine rf_aload_n X rfl dX7_act_50 ?_
  refine rf_getR X fl_X7_268 hv11 dX7_act_51 ?_
  refine rf_getR X fl_X7_382 hv12 dX7_act_54 ?_
  refine rf_iload X rfl dX7_act_57 ?_
  refine rf_aload_n X rfl dX7_act_59 ?_
  refine rf_bind (fun v14 hv14 => ?_)
  refine rf_getI X fl_X7_313 hv14 dX7_act_60 ?_
  refine rf_iload X rfl dX7_act_63 ?_
  refine rf_aload X rfl dX7_act_65 ?_
  refine rf_aload_n X rfl dX7_act_67 ?_
  refine rf_bind (fun v15 hv15 => ?_)
  refine rf_getI X fl_X7_334 hv15 dX7_act_68 ?_
  refine rf_bind (fun v16 hv16 => ?_)
  refine rf_iald X hv16 dX7_act_71 ?_
  refine rf_iconst X (0 : Int32) rfl dX7_act_72 ?_
  refine rf_bind (fun g17 hg17 => ?_)
  refine rf_callSI X c_X7_195 ⟨Nat.le_of_ble_eq_true rfl, Nat.le_of_ble_eq_true rfl⟩ [tI v14, tI v13, tI v16, tI (0 : Int32)] rfl (Nat.le_of_ble_eq_true rfl) (sX7_left l D v14 v13 v16 (0 : Int32) A g17 hg17) dX7_act_73 ?_
  refine rf_bind (fun A18 hA18 => ?_)
  refine rf_iast X hA18 dX7_act_76 ?_
  refine rf_aload_n X rfl dX7_act_77 ?_
  refine rf_bind (fun v19 hv19 => ?_)
  refine rf_bind (fun g20 hg20 => ?_)
  refine rf_callVI X c_X7_384 ⟨Nat.le_of_ble_eq_true rfl, Nat.le_of_ble_eq_true rfl⟩ [] rfl (Nat.le_of_ble_eq_true rfl) hv19 (sX5_writes l D v19 A18 g20 hg20) dX7_act_78 ?_
  refine rf_jn2 (fun i => ∀ (A22 : AH), RfX X l e below wU (i A22) 93 [none, none, none, none, none, none, none, none] [] A22) ?_ (fun j21 hj21 => ?_)
  · intro A22
    refine rf_goto X (tgt := 575) rfl dX7_act_93 ?_
    exact rf_go (hj7 A22) True.intro
  refine rf_if_eq X (tgt := 93) rfl dX7_act_81 (fun c23 => rf_pos c23 ?_) (fun c23 => rf_neg c23 ?_)
  · exact rf_go (hj21 A18) True.intro
  refine rf_aload X rfl dX7_act_84 ?_
  refine rf_aload_n X rfl dX7_act_86 ?_
  refine rf_bind (fun v24 hv24 => ?_)
  refine rf_getI X fl_X7_387 hv24 dX7_act_87 ?_
  refine rf_iload X rfl dX7_act_90 ?_
  refine rf_bind (fun A25 hA25 => ?_)
  refine rf_iast X hA25 dX7_act_92 ?_
  exact rf_go (hj21 A25) True.intro

theorem dX13_wrote_0 : decode cX13_wrote 0 = .ok (.aload_n 1, 1) := by decide +kernel
theorem dX13_wrote_1 : decode cX13_wrote 1 = .ok (.invokevirtual 83, 3) := by decide +kernel
theorem dX13_wrote_4 : decode cX13_wrote 4 = .ok (.ifCond .eq 13, 3) := by decide +kernel
theorem dX13_wrote_7 : decode cX13_wrote 7 = .ok (.aload_n 0, 1) := by decide +kernel
theorem dX13_wrote_8 : decode cX13_wrote 8 = .ok (.getfield 20, 3) := by decide +kernel
theorem dX13_wrote_11 : decode cX13_wrote 11 = .ok (.aload_n 1, 1) := by decide +kernel
theorem dX13_wrote_12 : decode cX13_wrote 12 = .ok (.getfield 89, 3) := by decide +kernel
theorem dX13_wrote_15 : decode cX13_wrote 15 = .ok (.iload_n 2, 1) := by decide +kernel
theorem dX13_wrote_16 : decode cX13_wrote 16 = .ok (.iastore, 1) := by decide +kernel
theorem dX13_wrote_17 : decode cX13_wrote 17 = .ok (.aload_n 1, 1) := by decide +kernel
theorem dX13_wrote_18 : decode cX13_wrote 18 = .ok (.invokevirtual 92, 3) := by decide +kernel
theorem dX13_wrote_21 : decode cX13_wrote 21 = .ok (.ifCond .eq 15, 3) := by decide +kernel
theorem dX13_wrote_24 : decode cX13_wrote 24 = .ok (.aload_n 0, 1) := by decide +kernel
theorem dX13_wrote_25 : decode cX13_wrote 25 = .ok (.getfield 24, 3) := by decide +kernel
theorem dX13_wrote_28 : decode cX13_wrote 28 = .ok (.aload_n 1, 1) := by decide +kernel
theorem dX13_wrote_29 : decode cX13_wrote 29 = .ok (.getfield 89, 3) := by decide +kernel
theorem dX13_wrote_32 : decode cX13_wrote 32 = .ok (.iconst 3, 1) := by decide +kernel
theorem dX13_wrote_33 : decode cX13_wrote 33 = .ok (.iand, 1) := by decide +kernel
theorem dX13_wrote_34 : decode cX13_wrote 34 = .ok (.iload_n 2, 1) := by decide +kernel
theorem dX13_wrote_35 : decode cX13_wrote 35 = .ok (.iastore, 1) := by decide +kernel
theorem dX13_wrote_36 : decode cX13_wrote 36 = .ok (.aload_n 1, 1) := by decide +kernel
theorem dX13_wrote_37 : decode cX13_wrote 37 = .ok (.getfield 98, 3) := by decide +kernel
theorem dX13_wrote_40 : decode cX13_wrote 40 = .ok (.invokevirtual 102, 3) := by decide +kernel
theorem dX13_wrote_43 : decode cX13_wrote 43 = .ok (.ifCond .eq 8, 3) := by decide +kernel
theorem dX13_wrote_46 : decode cX13_wrote 46 = .ok (.aload_n 0, 1) := by decide +kernel
theorem dX13_wrote_47 : decode cX13_wrote 47 = .ok (.iload_n 2, 1) := by decide +kernel
theorem dX13_wrote_48 : decode cX13_wrote 48 = .ok (.putfield 38, 3) := by decide +kernel
theorem dX13_wrote_51 : decode cX13_wrote 51 = .ok (.return_, 1) := by decide +kernel
def fX13_wrote (a0 : Nat) (p1 : Option Nat) (p2 : Int32) (A : AH) : Option (AH) :=
(rcv A p1 5).bind fun v1 =>
(fX5_writes v1 A).bind fun g2 =>
jn (fun (A4 : AH) =>
(rcv A4 p1 5).bind fun v5 =>
(fX5_decides v5 A4).bind fun g6 =>
jn (fun (A8 : AH) =>
(gR A8 p1 5 6).bind fun v9 =>
(rcS A8 v9).bind fun v10 =>
(fX6_isMemory v10 A8).bind fun g11 =>
jn (fun (A13 : AH) =>
some A13) fun j12 =>
if g11 = 0 then (j12 A8) else
(pI A8 (some a0) 13 5 p2).bind fun A15 =>
j12 A15) fun j7 =>
if g6 = 0 then (j7 A4) else
(gR A4 (some a0) 13 4).bind fun v17 =>
(gI A4 p1 5 1).bind fun v18 =>
(sI A4 v17 (v18 &&& (3 : Int32)) p2).bind fun A19 =>
j7 A19) fun j3 =>
if g2 = 0 then (j3 A) else
(gR A (some a0) 13 3).bind fun v21 =>
(gI A p1 5 1).bind fun v22 =>
(sI A v21 v22 p2).bind fun A23 =>
j3 A23

set_option maxHeartbeats 4000000 in
set_option maxRecDepth 100000 in
theorem sX13_wrote (l : Launch) (D : DE) (a0 : Nat) (p1 : Option Nat) (p2 : Int32) (A : AH) (g : AH) (hg : fX13_wrote a0 p1 p2 A = some g) : Sm l D yX13_wrote cX13_wrote 3 none 1 20 [tR (some a0), tR p1, tI p2] A (wU g).1 (wU g).2 := by
  refine Sm.of (ω := wU) (fX13_wrote a0 p1 p2 A) [some (tR (some a0)), some (tR p1), some (tI p2)] (by decide) (Nat.le_of_ble_eq_true rfl) rfl hg ?_
  intro p e R s m args below meth c X hin
  have X : Cx D cX13_wrote RX13 3 1 20 none p R s m args meth c := X
  unfold fX13_wrote
  refine rf_aload_n X rfl dX13_wrote_0 ?_
  refine rf_bind (fun v1 hv1 => ?_)
  refine rf_bind (fun g2 hg2 => ?_)
  refine rf_callVI X c_X13_83 ⟨Nat.le_of_ble_eq_true rfl, Nat.le_of_ble_eq_true rfl⟩ [] rfl (Nat.le_of_ble_eq_true rfl) hv1 (sX5_writes l D v1 A g2 hg2) dX13_wrote_1 ?_
  refine rf_jn2 (fun i => ∀ (A4 : AH), RfX X l e below wU (i A4) 17 [some (tR (some a0)), some (tR p1), some (tI p2)] [] A4) ?_ (fun j3 hj3 => ?_)
  · intro A4
    refine rf_aload_n X rfl dX13_wrote_17 ?_
    refine rf_bind (fun v5 hv5 => ?_)
    refine rf_bind (fun g6 hg6 => ?_)
    refine rf_callVI X c_X13_92 ⟨Nat.le_of_ble_eq_true rfl, Nat.le_of_ble_eq_true rfl⟩ [] rfl (Nat.le_of_ble_eq_true rfl) hv5 (sX5_decides l D v5 A4 g6 hg6) dX13_wrote_18 ?_
    refine rf_jn2 (fun i => ∀ (A8 : AH), RfX X l e below wU (i A8) 36 [some (tR (some a0)), some (tR p1), some (tI p2)] [] A8) ?_ (fun j7 hj7 => ?_)
    · intro A8
      refine rf_aload_n X rfl dX13_wrote_36 ?_
      refine rf_bind (fun v9 hv9 => ?_)
      refine rf_getR X fl_X13_98 hv9 dX13_wrote_37 ?_
      refine rf_bind (fun v10 hv10 => ?_)
      refine rf_bind (fun g11 hg11 => ?_)
      refine rf_callSort X rfl q1295 q1266 q1267 q105 q1268 pl_yX6_isMemory ⟨Nat.le_of_ble_eq_true rfl, Nat.le_of_ble_eq_true rfl⟩ (Nat.le_of_ble_eq_true rfl) hv10 (sX6_isMemory l D v10 A8 g11 hg11) dX13_wrote_40 ?_
      refine rf_jn2 (fun i => ∀ (A13 : AH), RfX X l e below wU (i A13) 51 [none, none, none] [] A13) ?_ (fun j12 hj12 => ?_)
      · intro A13
        exact rf_vret X rfl dX13_wrote_51
      refine rf_if_eq X (tgt := 51) rfl dX13_wrote_43 (fun c14 => rf_pos c14 ?_) (fun c14 => rf_neg c14 ?_)
      · exact rf_go (hj12 A8) True.intro
      refine rf_aload_n X rfl dX13_wrote_46 ?_
      refine rf_iload_n X rfl dX13_wrote_47 ?_
      refine rf_bind (fun A15 hA15 => ?_)
      refine rf_putI X fp_X13_38 (fun h => by cases h) hA15 dX13_wrote_48 ?_
      exact rf_go (hj12 A15) True.intro
    refine rf_if_eq X (tgt := 36) rfl dX13_wrote_21 (fun c16 => rf_pos c16 ?_) (fun c16 => rf_neg c16 ?_)
    · exact rf_go (hj7 A4) (And.intro rfl (And.intro rfl (And.intro rfl True.intro)))
    refine rf_aload_n X rfl dX13_wrote_24 ?_
    refine rf_bind (fun v17 hv17 => ?_)
    refine rf_getR X fl_X13_24 hv17 dX13_wrote_25 ?_
    refine rf_aload_n X rfl dX13_wrote_28 ?_
    refine rf_bind (fun v18 hv18 => ?_)
    refine rf_getI X fl_X13_89 hv18 dX13_wrote_29 ?_
    refine rf_iconst X (3 : Int32) rfl dX13_wrote_32 ?_
    refine rf_iand X dX13_wrote_33 ?_
    refine rf_iload_n X rfl dX13_wrote_34 ?_
    refine rf_bind (fun A19 hA19 => ?_)
    refine rf_iast X hA19 dX13_wrote_35 ?_
    exact rf_go (hj7 A19) (And.intro rfl (And.intro rfl (And.intro rfl True.intro)))
  refine rf_if_eq X (tgt := 17) rfl dX13_wrote_4 (fun c20 => rf_pos c20 ?_) (fun c20 => rf_neg c20 ?_)
  · exact rf_go (hj3 A) (And.intro rfl (And.intro rfl (And.intro rfl True.intro)))
  refine rf_aload_n X rfl dX13_wrote_7 ?_
  refine rf_bind (fun v21 hv21 => ?_)
  refine rf_getR X fl_X13_20 hv21 dX13_wrote_8 ?_
  refine rf_aload_n X rfl dX13_wrote_11 ?_
  refine rf_bind (fun v22 hv22 => ?_)
  refine rf_getI X fl_X13_89 hv22 dX13_wrote_12 ?_
  refine rf_iload_n X rfl dX13_wrote_15 ?_
  refine rf_bind (fun A23 hA23 => ?_)
  refine rf_iast X hA23 dX13_wrote_16 ?_
  exact rf_go (hj3 A23) (And.intro rfl (And.intro rfl (And.intro rfl True.intro)))

theorem dX13_release_0 : decode cX13_release 0 = .ok (.iconst 0, 1) := by decide +kernel
theorem dX13_release_1 : decode cX13_release 1 = .ok (.istore_n 1, 1) := by decide +kernel
theorem dX13_release_2 : decode cX13_release 2 = .ok (.iload_n 1, 1) := by decide +kernel
theorem dX13_release_3 : decode cX13_release 3 = .ok (.aload_n 0, 1) := by decide +kernel
theorem dX13_release_4 : decode cX13_release 4 = .ok (.getfield 14, 3) := by decide +kernel
theorem dX13_release_7 : decode cX13_release 7 = .ok (.invokevirtual 41, 3) := by decide +kernel
theorem dX13_release_10 : decode cX13_release 10 = .ok (.if_icmp .ge 24, 3) := by decide +kernel
theorem dX13_release_13 : decode cX13_release 13 = .ok (.aload_n 0, 1) := by decide +kernel
theorem dX13_release_14 : decode cX13_release 14 = .ok (.getfield 14, 3) := by decide +kernel
theorem dX13_release_17 : decode cX13_release 17 = .ok (.iload_n 1, 1) := by decide +kernel
theorem dX13_release_18 : decode cX13_release 18 = .ok (.invokevirtual 45, 3) := by decide +kernel
theorem dX13_release_21 : decode cX13_release 21 = .ok (.checkcast 49, 3) := by decide +kernel
theorem dX13_release_24 : decode cX13_release 24 = .ok (.iconst 0, 1) := by decide +kernel
theorem dX13_release_25 : decode cX13_release 25 = .ok (.putfield 55, 3) := by decide +kernel
theorem dX13_release_28 : decode cX13_release 28 = .ok (.iinc 1 1, 3) := by decide +kernel
theorem dX13_release_31 : decode cX13_release 31 = .ok (.goto (-29), 3) := by decide +kernel
theorem dX13_release_34 : decode cX13_release 34 = .ok (.return_, 1) := by decide +kernel
def fX13_release (n : Nat) (a0 : Nat) (A : AH) : Option (AH) :=
jl (fixG (fun _ _ => none) (fun (rc4 : (Int32) → (AH) → Option (AH)) (x2 : Int32) (A3 : AH) =>
(gR A3 (some a0) 13 2).bind fun v5 =>
(rcv A3 v5 0).bind fun v6 =>
(fJ2_size v6 A3).bind fun g7 =>
if g7 ≤ x2 then (some A3) else
(fJ2_get v6 x2 A3).bind fun g9 =>
(cst A3 g9 14).bind fun v10 =>
(pI A3 g9 14 4 (0 : Int32)).bind fun A11 =>
rc4 (x2 + (1 : Int32)) A11) n) fun j1 =>
j1 (0 : Int32) A

set_option maxHeartbeats 4000000 in
set_option maxRecDepth 100000 in
theorem sX13_release (l : Launch) (D : DE) (n : Nat) (a0 : Nat) (A : AH) (g : AH) (hg : fX13_release n a0 A = some g) : Sm l D yX13_release cX13_release 2 none 3 64 [tR (some a0)] A (wU g).1 (wU g).2 := by
  refine Sm.of (ω := wU) (fX13_release n a0 A) [some (tR (some a0)), none] (by decide) (Nat.le_of_ble_eq_true rfl) rfl hg ?_
  intro p e R s m args below meth c X hin
  have X : Cx D cX13_release RX13 2 3 64 none p R s m args meth c := X
  unfold fX13_release
  refine rf_iconst X (0 : Int32) rfl dX13_release_0 ?_
  refine rf_istore_n X (ls' := [some (tR (some a0)), some (tI (0 : Int32))]) rfl (by decide) dX13_release_1 ?_
  refine rf_fix (fun i => ∀ (x2 : Int32) (A3 : AH), RfX X l e below wU (i x2 A3) 2 [some (tR (some a0)), some (tI x2)] [] A3) (fun _ _ => rf_none) (fun rc4 hrc4 => ?_) (fun j1 hj1 => ?_)
  · intro x2 A3
    refine rf_iload_n X rfl dX13_release_2 ?_
    refine rf_aload_n X rfl dX13_release_3 ?_
    refine rf_bind (fun v5 hv5 => ?_)
    refine rf_getR X fl_X13_14 hv5 dX13_release_4 ?_
    refine rf_bind (fun v6 hv6 => ?_)
    refine rf_bind (fun g7 hg7 => ?_)
    refine rf_callVI X c_X13_41 ⟨Nat.le_of_ble_eq_true rfl, Nat.le_of_ble_eq_true rfl⟩ [] rfl (Nat.le_of_ble_eq_true rfl) hv6 (sJ2_size l D v6 A3 g7 hg7) dX13_release_7 ?_
    refine rf_icmp_ge X (tgt := 34) rfl dX13_release_10 (fun c8 => rf_pos c8 ?_) (fun c8 => rf_neg c8 ?_)
    · exact rf_vret X rfl dX13_release_34
    refine rf_aload_n X rfl dX13_release_13 ?_
    refine rf_getR X fl_X13_14 hv5 dX13_release_14 ?_
    refine rf_iload_n X rfl dX13_release_17 ?_
    refine rf_bind (fun g9 hg9 => ?_)
    refine rf_callVI X c_X13_45 ⟨Nat.le_of_ble_eq_true rfl, Nat.le_of_ble_eq_true rfl⟩ [tI x2] rfl (Nat.le_of_ble_eq_true rfl) hv6 (sJ2_get l D v6 x2 A3 g9 hg9) dX13_release_18 ?_
    refine rf_bind (fun v10 hv10 => ?_)
    refine rf_cast X (ci := 14) rfl rfl q1019 hv10 dX13_release_21 ?_
    refine rf_iconst X (0 : Int32) rfl dX13_release_24 ?_
    refine rf_bind (fun A11 hA11 => ?_)
    refine rf_putZ X fp_X13_55 (fun h => by cases h) (by decide) hA11 dX13_release_25 ?_
    refine rf_iinc X (x2 + (1 : Int32)) rfl rfl (ls' := [some (tR (some a0)), some (tI (x2 + (1 : Int32)))]) rfl (by decide) dX13_release_28 ?_
    refine rf_goto X (tgt := 2) rfl dX13_release_31 ?_
    exact rf_go (hrc4 (x2 + (1 : Int32)) A11) (And.intro rfl (And.intro rfl True.intro))
  exact rf_go (hj1 (0 : Int32) A) (And.intro rfl (And.intro rfl True.intro))

theorem dX12_look_0 : decode cX12_look 0 = .ok (.iconst 0, 1) := by decide +kernel
theorem dX12_look_1 : decode cX12_look 1 = .ok (.istore_n 1, 1) := by decide +kernel
theorem dX12_look_2 : decode cX12_look 2 = .ok (.iload_n 1, 1) := by decide +kernel
theorem dX12_look_3 : decode cX12_look 3 = .ok (.aload_n 0, 1) := by decide +kernel
theorem dX12_look_4 : decode cX12_look 4 = .ok (.getfield 20, 3) := by decide +kernel
theorem dX12_look_7 : decode cX12_look 7 = .ok (.invokevirtual 31, 3) := by decide +kernel
theorem dX12_look_10 : decode cX12_look 10 = .ok (.if_icmp .ge 59, 3) := by decide +kernel
theorem dX12_look_13 : decode cX12_look 13 = .ok (.aload_n 0, 1) := by decide +kernel
theorem dX12_look_14 : decode cX12_look 14 = .ok (.getfield 20, 3) := by decide +kernel
theorem dX12_look_17 : decode cX12_look 17 = .ok (.iload_n 1, 1) := by decide +kernel
theorem dX12_look_18 : decode cX12_look 18 = .ok (.invokevirtual 35, 3) := by decide +kernel
theorem dX12_look_21 : decode cX12_look 21 = .ok (.checkcast 39, 3) := by decide +kernel
theorem dX12_look_24 : decode cX12_look 24 = .ok (.invokevirtual 41, 3) := by decide +kernel
theorem dX12_look_27 : decode cX12_look 27 = .ok (.aload_n 0, 1) := by decide +kernel
theorem dX12_look_28 : decode cX12_look 28 = .ok (.getfield 20, 3) := by decide +kernel
theorem dX12_look_31 : decode cX12_look 31 = .ok (.iload_n 1, 1) := by decide +kernel
theorem dX12_look_32 : decode cX12_look 32 = .ok (.invokevirtual 35, 3) := by decide +kernel
theorem dX12_look_35 : decode cX12_look 35 = .ok (.checkcast 39, 3) := by decide +kernel
theorem dX12_look_38 : decode cX12_look 38 = .ok (.invokevirtual 47, 3) := by decide +kernel
theorem dX12_look_41 : decode cX12_look 41 = .ok (.iadd, 1) := by decide +kernel
theorem dX12_look_42 : decode cX12_look 42 = .ok (.aload_n 0, 1) := by decide +kernel
theorem dX12_look_43 : decode cX12_look 43 = .ok (.getfield 20, 3) := by decide +kernel
theorem dX12_look_46 : decode cX12_look 46 = .ok (.iload_n 1, 1) := by decide +kernel
theorem dX12_look_47 : decode cX12_look 47 = .ok (.invokevirtual 35, 3) := by decide +kernel
theorem dX12_look_50 : decode cX12_look 50 = .ok (.checkcast 39, 3) := by decide +kernel
theorem dX12_look_53 : decode cX12_look 53 = .ok (.getfield 44, 3) := by decide +kernel
theorem dX12_look_56 : decode cX12_look 56 = .ok (.invokevirtual 31, 3) := by decide +kernel
theorem dX12_look_59 : decode cX12_look 59 = .ok (.if_icmp .ge 4, 3) := by decide +kernel
theorem dX12_look_62 : decode cX12_look 62 = .ok (.return_, 1) := by decide +kernel
theorem dX12_look_63 : decode cX12_look 63 = .ok (.iinc 1 1, 3) := by decide +kernel
theorem dX12_look_66 : decode cX12_look 66 = .ok (.goto (-64), 3) := by decide +kernel
theorem dX12_look_69 : decode cX12_look 69 = .ok (.iconst 0, 1) := by decide +kernel
theorem dX12_look_70 : decode cX12_look 70 = .ok (.istore_n 1, 1) := by decide +kernel
theorem dX12_look_71 : decode cX12_look 71 = .ok (.iload_n 1, 1) := by decide +kernel
theorem dX12_look_72 : decode cX12_look 72 = .ok (.aload_n 0, 1) := by decide +kernel
theorem dX12_look_73 : decode cX12_look 73 = .ok (.getfield 20, 3) := by decide +kernel
theorem dX12_look_76 : decode cX12_look 76 = .ok (.invokevirtual 31, 3) := by decide +kernel
theorem dX12_look_79 : decode cX12_look 79 = .ok (.if_icmp .ge 23, 3) := by decide +kernel
theorem dX12_look_82 : decode cX12_look 82 = .ok (.aload_n 0, 1) := by decide +kernel
theorem dX12_look_83 : decode cX12_look 83 = .ok (.getfield 20, 3) := by decide +kernel
theorem dX12_look_86 : decode cX12_look 86 = .ok (.iload_n 1, 1) := by decide +kernel
theorem dX12_look_87 : decode cX12_look 87 = .ok (.invokevirtual 35, 3) := by decide +kernel
theorem dX12_look_90 : decode cX12_look 90 = .ok (.checkcast 39, 3) := by decide +kernel
theorem dX12_look_93 : decode cX12_look 93 = .ok (.invokevirtual 50, 3) := by decide +kernel
theorem dX12_look_96 : decode cX12_look 96 = .ok (.iinc 1 1, 3) := by decide +kernel
theorem dX12_look_99 : decode cX12_look 99 = .ok (.goto (-28), 3) := by decide +kernel
theorem dX12_look_102 : decode cX12_look 102 = .ok (.return_, 1) := by decide +kernel
def fX12_look (n : Nat) (a0 : Nat) (A : AH) : Option (AH) :=
jl (fixG (fun _ => none) (fun (rc3 : (Int32) → Option (AH)) (x2 : Int32) =>
(gR A (some a0) 12 2).bind fun v4 =>
(rcv A v4 0).bind fun v5 =>
(fJ2_size v5 A).bind fun g6 =>
if g6 ≤ x2 then (jl (fixG (fun _ _ => none) (fun (rc11 : (Int32) → (AH) → Option (AH)) (x9 : Int32) (A10 : AH) =>
(gR A10 (some a0) 12 2).bind fun v12 =>
(rcv A10 v12 0).bind fun v13 =>
(fJ2_size v13 A10).bind fun g14 =>
if g14 ≤ x9 then (some A10) else
(fJ2_get v13 x9 A10).bind fun g16 =>
(cst A10 g16 13).bind fun v17 =>
(rcv A10 g16 13).bind fun v18 =>
(fX13_release n v18 A10).bind fun g19 =>
rc11 (x9 + (1 : Int32)) g19) n) fun j8 =>
j8 (0 : Int32) A) else
(fJ2_get v5 x2 A).bind fun g20 =>
(cst A g20 13).bind fun v21 =>
(rcv A g20 13).bind fun v22 =>
(fX13_ended n v22 A).bind fun g23 =>
(fX13_waiting n v22 A).bind fun g24 =>
(gR A g20 13 2).bind fun v25 =>
(rcv A v25 0).bind fun v26 =>
(fJ2_size v26 A).bind fun g27 =>
if g27 ≤ (g23 + g24) then (rc3 (x2 + (1 : Int32))) else
some A) n) fun j1 =>
j1 (0 : Int32)

set_option maxHeartbeats 4000000 in
set_option maxRecDepth 100000 in
theorem sX12_look (l : Launch) (D : DE) (n : Nat) (a0 : Nat) (A : AH) (g : AH) (hg : fX12_look n a0 A = some g) : Sm l D yX12_look cX12_look 2 none 4 86 [tR (some a0)] A (wU g).1 (wU g).2 := by
  refine Sm.of (ω := wU) (fX12_look n a0 A) [some (tR (some a0)), none] (by decide) (Nat.le_of_ble_eq_true rfl) rfl hg ?_
  intro p e R s m args below meth c X hin
  have X : Cx D cX12_look RX12 2 4 86 none p R s m args meth c := X
  unfold fX12_look
  refine rf_iconst X (0 : Int32) rfl dX12_look_0 ?_
  refine rf_istore_n X (ls' := [some (tR (some a0)), some (tI (0 : Int32))]) rfl (by decide) dX12_look_1 ?_
  refine rf_fix (fun i => ∀ (x2 : Int32), RfX X l e below wU (i x2) 2 [some (tR (some a0)), some (tI x2)] [] A) (fun _ => rf_none) (fun rc3 hrc3 => ?_) (fun j1 hj1 => ?_)
  · intro x2
    refine rf_iload_n X rfl dX12_look_2 ?_
    refine rf_aload_n X rfl dX12_look_3 ?_
    refine rf_bind (fun v4 hv4 => ?_)
    refine rf_getR X fl_X12_20 hv4 dX12_look_4 ?_
    refine rf_bind (fun v5 hv5 => ?_)
    refine rf_bind (fun g6 hg6 => ?_)
    refine rf_callVI X c_X12_31 ⟨Nat.le_of_ble_eq_true rfl, Nat.le_of_ble_eq_true rfl⟩ [] rfl (Nat.le_of_ble_eq_true rfl) hv5 (sJ2_size l D v5 A g6 hg6) dX12_look_7 ?_
    refine rf_icmp_ge X (tgt := 69) rfl dX12_look_10 (fun c7 => rf_pos c7 ?_) (fun c7 => rf_neg c7 ?_)
    · refine rf_iconst X (0 : Int32) rfl dX12_look_69 ?_
      refine rf_istore_n X (ls' := [some (tR (some a0)), some (tI (0 : Int32))]) rfl (by decide) dX12_look_70 ?_
      refine rf_fix (fun i => ∀ (x9 : Int32) (A10 : AH), RfX X l e below wU (i x9 A10) 71 [some (tR (some a0)), some (tI x9)] [] A10) (fun _ _ => rf_none) (fun rc11 hrc11 => ?_) (fun j8 hj8 => ?_)
      · intro x9 A10
        refine rf_iload_n X rfl dX12_look_71 ?_
        refine rf_aload_n X rfl dX12_look_72 ?_
        refine rf_bind (fun v12 hv12 => ?_)
        refine rf_getR X fl_X12_20 hv12 dX12_look_73 ?_
        refine rf_bind (fun v13 hv13 => ?_)
        refine rf_bind (fun g14 hg14 => ?_)
        refine rf_callVI X c_X12_31 ⟨Nat.le_of_ble_eq_true rfl, Nat.le_of_ble_eq_true rfl⟩ [] rfl (Nat.le_of_ble_eq_true rfl) hv13 (sJ2_size l D v13 A10 g14 hg14) dX12_look_76 ?_
        refine rf_icmp_ge X (tgt := 102) rfl dX12_look_79 (fun c15 => rf_pos c15 ?_) (fun c15 => rf_neg c15 ?_)
        · exact rf_vret X rfl dX12_look_102
        refine rf_aload_n X rfl dX12_look_82 ?_
        refine rf_getR X fl_X12_20 hv12 dX12_look_83 ?_
        refine rf_iload_n X rfl dX12_look_86 ?_
        refine rf_bind (fun g16 hg16 => ?_)
        refine rf_callVI X c_X12_35 ⟨Nat.le_of_ble_eq_true rfl, Nat.le_of_ble_eq_true rfl⟩ [tI x9] rfl (Nat.le_of_ble_eq_true rfl) hv13 (sJ2_get l D v13 x9 A10 g16 hg16) dX12_look_87 ?_
        refine rf_bind (fun v17 hv17 => ?_)
        refine rf_cast X (ci := 13) rfl rfl q1480 hv17 dX12_look_90 ?_
        refine rf_bind (fun v18 hv18 => ?_)
        refine rf_bind (fun g19 hg19 => ?_)
        refine rf_callVU X c_X12_50 ⟨Nat.le_of_ble_eq_true rfl, Nat.le_of_ble_eq_true rfl⟩ [] rfl (Nat.le_of_ble_eq_true rfl) hv18 (sX13_release l D n v18 A10 g19 hg19) dX12_look_93 ?_
        refine rf_iinc X (x9 + (1 : Int32)) rfl rfl (ls' := [some (tR (some a0)), some (tI (x9 + (1 : Int32)))]) rfl (by decide) dX12_look_96 ?_
        refine rf_goto X (tgt := 71) rfl dX12_look_99 ?_
        exact rf_go (hrc11 (x9 + (1 : Int32)) g19) (And.intro rfl (And.intro rfl True.intro))
      exact rf_go (hj8 (0 : Int32) A) (And.intro rfl (And.intro rfl True.intro))
    refine rf_aload_n X rfl dX12_look_13 ?_
    refine rf_getR X fl_X12_20 hv4 dX12_look_14 ?_
    refine rf_iload_n X rfl dX12_look_17 ?_
    refine rf_bind (fun g20 hg20 => ?_)
    refine rf_callVI X c_X12_35 ⟨Nat.le_of_ble_eq_true rfl, Nat.le_of_ble_eq_true rfl⟩ [tI x2] rfl (Nat.le_of_ble_eq_true rfl) hv5 (sJ2_get l D v5 x2 A g20 hg20) dX12_look_18 ?_
    refine rf_bind (fun v21 hv21 => ?_)
    refine rf_cast X (ci := 13) rfl rfl q1480 hv21 dX12_look_21 ?_
    refine rf_bind (fun v22 hv22 => ?_)
    refine rf_bind (fun g23 hg23 => ?_)
    refine rf_callVI X c_X12_41 ⟨Nat.le_of_ble_eq_true rfl, Nat.le_of_ble_eq_true rfl⟩ [] rfl (Nat.le_of_ble_eq_true rfl) hv22 (sX13_ended l D n v22 A g23 hg23) dX12_look_24 ?_
    refine rf_aload_n X rfl dX12_look_27 ?_
    refine rf_getR X fl_X12_20 hv4 dX12_look_28 ?_
    refine rf_iload_n X rfl dX12_look_31 ?_
    refine rf_callVI X c_X12_35 ⟨Nat.le_of_ble_eq_true rfl, Nat.le_of_ble_eq_true rfl⟩ [tI x2] rfl (Nat.le_of_ble_eq_true rfl) hv5 (sJ2_get l D v5 x2 A g20 hg20) dX12_look_32 ?_
    refine rf_cast X (ci := 13) rfl rfl q1480 hv21 dX12_look_35 ?_
    refine rf_bind (fun g24 hg24 => ?_)
    refine rf_callVI X c_X12_47 ⟨Nat.le_of_ble_eq_true rfl, Nat.le_of_ble_eq_true rfl⟩ [] rfl (Nat.le_of_ble_eq_true rfl) hv22 (sX13_waiting l D n v22 A g24 hg24) dX12_look_38 ?_
    refine rf_iadd X dX12_look_41 ?_
    refine rf_aload_n X rfl dX12_look_42 ?_
    refine rf_getR X fl_X12_20 hv4 dX12_look_43 ?_
    refine rf_iload_n X rfl dX12_look_46 ?_
    refine rf_callVI X c_X12_35 ⟨Nat.le_of_ble_eq_true rfl, Nat.le_of_ble_eq_true rfl⟩ [tI x2] rfl (Nat.le_of_ble_eq_true rfl) hv5 (sJ2_get l D v5 x2 A g20 hg20) dX12_look_47 ?_
    refine rf_cast X (ci := 13) rfl rfl q1480 hv21 dX12_look_50 ?_
    refine rf_bind (fun v25 hv25 => ?_)
    refine rf_getR X fl_X12_44 hv25 dX12_look_53 ?_
    refine rf_bind (fun v26 hv26 => ?_)
    refine rf_bind (fun g27 hg27 => ?_)
    refine rf_callVI X c_X12_31 ⟨Nat.le_of_ble_eq_true rfl, Nat.le_of_ble_eq_true rfl⟩ [] rfl (Nat.le_of_ble_eq_true rfl) hv26 (sJ2_size l D v26 A g27 hg27) dX12_look_56 ?_
    refine rf_icmp_ge X (tgt := 63) rfl dX12_look_59 (fun c28 => rf_pos c28 ?_) (fun c28 => rf_neg c28 ?_)
    · refine rf_iinc X (x2 + (1 : Int32)) rfl rfl (ls' := [some (tR (some a0)), some (tI (x2 + (1 : Int32)))]) rfl (by decide) dX12_look_63 ?_
      refine rf_goto X (tgt := 2) rfl dX12_look_66 ?_
      exact rf_go (hrc3 (x2 + (1 : Int32))) (And.intro rfl (And.intro rfl True.intro))
    exact rf_vret X rfl dX12_look_62
  exact rf_go (hj1 (0 : Int32)) (And.intro rfl (And.intro rfl True.intro))

theorem dX12_isOver_0 : decode cX12_isOver 0 = .ok (.iconst 0, 1) := by decide +kernel
theorem dX12_isOver_1 : decode cX12_isOver 1 = .ok (.istore_n 1, 1) := by decide +kernel
theorem dX12_isOver_2 : decode cX12_isOver 2 = .ok (.iload_n 1, 1) := by decide +kernel
theorem dX12_isOver_3 : decode cX12_isOver 3 = .ok (.aload_n 0, 1) := by decide +kernel
theorem dX12_isOver_4 : decode cX12_isOver 4 = .ok (.getfield 20, 3) := by decide +kernel
theorem dX12_isOver_7 : decode cX12_isOver 7 = .ok (.invokevirtual 31, 3) := by decide +kernel
theorem dX12_isOver_10 : decode cX12_isOver 10 = .ok (.if_icmp .ge 45, 3) := by decide +kernel
theorem dX12_isOver_13 : decode cX12_isOver 13 = .ok (.aload_n 0, 1) := by decide +kernel
theorem dX12_isOver_14 : decode cX12_isOver 14 = .ok (.getfield 20, 3) := by decide +kernel
theorem dX12_isOver_17 : decode cX12_isOver 17 = .ok (.iload_n 1, 1) := by decide +kernel
theorem dX12_isOver_18 : decode cX12_isOver 18 = .ok (.invokevirtual 35, 3) := by decide +kernel
theorem dX12_isOver_21 : decode cX12_isOver 21 = .ok (.checkcast 39, 3) := by decide +kernel
theorem dX12_isOver_24 : decode cX12_isOver 24 = .ok (.invokevirtual 41, 3) := by decide +kernel
theorem dX12_isOver_27 : decode cX12_isOver 27 = .ok (.aload_n 0, 1) := by decide +kernel
theorem dX12_isOver_28 : decode cX12_isOver 28 = .ok (.getfield 20, 3) := by decide +kernel
theorem dX12_isOver_31 : decode cX12_isOver 31 = .ok (.iload_n 1, 1) := by decide +kernel
theorem dX12_isOver_32 : decode cX12_isOver 32 = .ok (.invokevirtual 35, 3) := by decide +kernel
theorem dX12_isOver_35 : decode cX12_isOver 35 = .ok (.checkcast 39, 3) := by decide +kernel
theorem dX12_isOver_38 : decode cX12_isOver 38 = .ok (.getfield 44, 3) := by decide +kernel
theorem dX12_isOver_41 : decode cX12_isOver 41 = .ok (.invokevirtual 31, 3) := by decide +kernel
theorem dX12_isOver_44 : decode cX12_isOver 44 = .ok (.if_icmp .ge 5, 3) := by decide +kernel
theorem dX12_isOver_47 : decode cX12_isOver 47 = .ok (.iconst 0, 1) := by decide +kernel
theorem dX12_isOver_48 : decode cX12_isOver 48 = .ok (.ireturn, 1) := by decide +kernel
theorem dX12_isOver_49 : decode cX12_isOver 49 = .ok (.iinc 1 1, 3) := by decide +kernel
theorem dX12_isOver_52 : decode cX12_isOver 52 = .ok (.goto (-50), 3) := by decide +kernel
theorem dX12_isOver_55 : decode cX12_isOver 55 = .ok (.iconst 1, 1) := by decide +kernel
theorem dX12_isOver_56 : decode cX12_isOver 56 = .ok (.ireturn, 1) := by decide +kernel
def fX12_isOver (n : Nat) (a0 : Nat) (A : AH) : Option (Int32) :=
jl (fixG (fun _ => none) (fun (rc3 : (Int32) → Option (Int32)) (x2 : Int32) =>
(gR A (some a0) 12 2).bind fun v4 =>
(rcv A v4 0).bind fun v5 =>
(fJ2_size v5 A).bind fun g6 =>
if g6 ≤ x2 then (some (nb (1 : Int32))) else
(fJ2_get v5 x2 A).bind fun g8 =>
(cst A g8 13).bind fun v9 =>
(rcv A g8 13).bind fun v10 =>
(fX13_ended n v10 A).bind fun g11 =>
(gR A g8 13 2).bind fun v12 =>
(rcv A v12 0).bind fun v13 =>
(fJ2_size v13 A).bind fun g14 =>
if g14 ≤ g11 then (rc3 (x2 + (1 : Int32))) else
some (nb (0 : Int32))) n) fun j1 =>
j1 (0 : Int32)

set_option maxHeartbeats 4000000 in
set_option maxRecDepth 100000 in
theorem sX12_isOver (l : Launch) (D : DE) (n : Nat) (a0 : Nat) (A : AH) (g : Int32) (hg : fX12_isOver n a0 A = some g) : Sm l D yX12_isOver cX12_isOver 2 (some Jvm.ClassFile.FieldType.boolean) 4 86 [tR (some a0)] A (qI A g).1 (qI A g).2 := by
  refine Sm.of (ω := qI A) (fX12_isOver n a0 A) [some (tR (some a0)), none] (by decide) (Nat.le_of_ble_eq_true rfl) rfl hg ?_
  intro p e R s m args below meth c X hin
  have X : Cx D cX12_isOver RX12 2 4 86 (some Jvm.ClassFile.FieldType.boolean) p R s m args meth c := X
  unfold fX12_isOver
  refine rf_iconst X (0 : Int32) rfl dX12_isOver_0 ?_
  refine rf_istore_n X (ls' := [some (tR (some a0)), some (tI (0 : Int32))]) rfl (by decide) dX12_isOver_1 ?_
  refine rf_fix (fun i => ∀ (x2 : Int32), RfX X l e below (qI A) (i x2) 2 [some (tR (some a0)), some (tI x2)] [] A) (fun _ => rf_none) (fun rc3 hrc3 => ?_) (fun j1 hj1 => ?_)
  · intro x2
    refine rf_iload_n X rfl dX12_isOver_2 ?_
    refine rf_aload_n X rfl dX12_isOver_3 ?_
    refine rf_bind (fun v4 hv4 => ?_)
    refine rf_getR X fl_X12_20 hv4 dX12_isOver_4 ?_
    refine rf_bind (fun v5 hv5 => ?_)
    refine rf_bind (fun g6 hg6 => ?_)
    refine rf_callVI X c_X12_31 ⟨Nat.le_of_ble_eq_true rfl, Nat.le_of_ble_eq_true rfl⟩ [] rfl (Nat.le_of_ble_eq_true rfl) hv5 (sJ2_size l D v5 A g6 hg6) dX12_isOver_7 ?_
    refine rf_icmp_ge X (tgt := 55) rfl dX12_isOver_10 (fun c7 => rf_pos c7 ?_) (fun c7 => rf_neg c7 ?_)
    · refine rf_iconst X (1 : Int32) rfl dX12_isOver_55 ?_
      exact rf_zret X rfl dX12_isOver_56
    refine rf_aload_n X rfl dX12_isOver_13 ?_
    refine rf_getR X fl_X12_20 hv4 dX12_isOver_14 ?_
    refine rf_iload_n X rfl dX12_isOver_17 ?_
    refine rf_bind (fun g8 hg8 => ?_)
    refine rf_callVI X c_X12_35 ⟨Nat.le_of_ble_eq_true rfl, Nat.le_of_ble_eq_true rfl⟩ [tI x2] rfl (Nat.le_of_ble_eq_true rfl) hv5 (sJ2_get l D v5 x2 A g8 hg8) dX12_isOver_18 ?_
    refine rf_bind (fun v9 hv9 => ?_)
    refine rf_cast X (ci := 13) rfl rfl q1480 hv9 dX12_isOver_21 ?_
    refine rf_bind (fun v10 hv10 => ?_)
    refine rf_bind (fun g11 hg11 => ?_)
    refine rf_callVI X c_X12_41 ⟨Nat.le_of_ble_eq_true rfl, Nat.le_of_ble_eq_true rfl⟩ [] rfl (Nat.le_of_ble_eq_true rfl) hv10 (sX13_ended l D n v10 A g11 hg11) dX12_isOver_24 ?_
    refine rf_aload_n X rfl dX12_isOver_27 ?_
    refine rf_getR X fl_X12_20 hv4 dX12_isOver_28 ?_
    refine rf_iload_n X rfl dX12_isOver_31 ?_
    refine rf_callVI X c_X12_35 ⟨Nat.le_of_ble_eq_true rfl, Nat.le_of_ble_eq_true rfl⟩ [tI x2] rfl (Nat.le_of_ble_eq_true rfl) hv5 (sJ2_get l D v5 x2 A g8 hg8) dX12_isOver_32 ?_
    refine rf_cast X (ci := 13) rfl rfl q1480 hv9 dX12_isOver_35 ?_
    refine rf_bind (fun v12 hv12 => ?_)
    refine rf_getR X fl_X12_44 hv12 dX12_isOver_38 ?_
    refine rf_bind (fun v13 hv13 => ?_)
    refine rf_bind (fun g14 hg14 => ?_)
    refine rf_callVI X c_X12_31 ⟨Nat.le_of_ble_eq_true rfl, Nat.le_of_ble_eq_true rfl⟩ [] rfl (Nat.le_of_ble_eq_true rfl) hv13 (sJ2_size l D v13 A g14 hg14) dX12_isOver_41 ?_
    refine rf_icmp_ge X (tgt := 49) rfl dX12_isOver_44 (fun c15 => rf_pos c15 ?_) (fun c15 => rf_neg c15 ?_)
    · refine rf_iinc X (x2 + (1 : Int32)) rfl rfl (ls' := [some (tR (some a0)), some (tI (x2 + (1 : Int32)))]) rfl (by decide) dX12_isOver_49 ?_
      refine rf_goto X (tgt := 2) rfl dX12_isOver_52 ?_
      exact rf_go (hrc3 (x2 + (1 : Int32))) (And.intro rfl (And.intro rfl True.intro))
    refine rf_iconst X (0 : Int32) rfl dX12_isOver_47 ?_
    exact rf_zret X rfl dX12_isOver_48
  exact rf_go (hj1 (0 : Int32)) (And.intro rfl (And.intro rfl True.intro))

