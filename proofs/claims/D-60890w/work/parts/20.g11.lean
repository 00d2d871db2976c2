/-! 20.g11: printed by gen/parts.py -/
set_option maxRecDepth 100000
theorem fl_X4_27 : FLr RX4 27 4 3 := ⟨RX4, TX4, 8, "WarpMill$Coalescer", "", rfl, by decide, in_X4, Or.inl q542, Or.inl rfl⟩
theorem fl_X4_37 : FLr RX4 37 4 5 := ⟨RX4, TX4, 8, "WarpMill$Coalescer", "", rfl, by decide, in_X4, Or.inl q546, Or.inl rfl⟩
theorem fl_X9_35 : FLr RX9 35 10 1 := ⟨RX10, TX10, 2, "WarpMill$Gate", "WarpMill", rfl, by decide, in_X10, Or.inr q771, Or.inl rfl⟩
theorem fl_X9_45 : FLr RX9 45 10 0 := ⟨RX10, TX10, 2, "WarpMill$Gate", "WarpMill", rfl, by decide, in_X10, Or.inr q769, Or.inl rfl⟩
theorem fp_X9_35 : FL RX9 35 10 1 (.int) false := ⟨RX10, TX10, 2, tyX10, "WarpMill$Gate", "WarpMill", rfl, by decide, in_X10, tyX10_ok, nmX10, Or.inr q771, Or.inl rfl, rfl, rfl, fun h => by cases h⟩
theorem fl_X9_49 : FLr RX9 49 9 1 := ⟨RX9, TX9, 3, "WarpMill$Cache", "", rfl, by decide, in_X9, Or.inl q784, Or.inl rfl⟩
theorem fp_X9_49 : FL RX9 49 9 1 (.int) false := ⟨RX9, TX9, 3, tyX9, "WarpMill$Cache", "", rfl, by decide, in_X9, tyX9_ok, nmX9, Or.inl q784, Or.inl rfl, rfl, rfl, fun h => by cases h⟩
theorem fl_X9_52 : FLr RX9 52 9 2 := ⟨RX9, TX9, 3, "WarpMill$Cache", "", rfl, by decide, in_X9, Or.inl q787, Or.inl rfl⟩
theorem fp_X9_52 : FL RX9 52 9 2 (.int) false := ⟨RX9, TX9, 3, tyX9, "WarpMill$Cache", "", rfl, by decide, in_X9, tyX9_ok, nmX9, Or.inl q787, Or.inl rfl, rfl, rfl, fun h => by cases h⟩
theorem fl_X4_40 : FLr RX4 40 4 6 := ⟨RX4, TX4, 8, "WarpMill$Coalescer", "", rfl, by decide, in_X4, Or.inl q548, Or.inl rfl⟩
theorem fl_X4_31 : FLr RX4 31 4 4 := ⟨RX4, TX4, 8, "WarpMill$Coalescer", "", rfl, by decide, in_X4, Or.inl q544, Or.inl rfl⟩
theorem fl_X4_43 : FLr RX4 43 4 7 := ⟨RX4, TX4, 8, "WarpMill$Coalescer", "", rfl, by decide, in_X4, Or.inl q550, Or.inl rfl⟩
theorem fl_X7_48 : FLr RX7 48 7 10 := ⟨RX7, TX7, 26, "WarpMill$Machine", "", rfl, by decide, in_X7, Or.inl q813, Or.inl rfl⟩
theorem fl_X7_97 : FLr RX7 97 7 17 := ⟨RX7, TX7, 26, "WarpMill$Machine", "", rfl, by decide, in_X7, Or.inl q822, Or.inl rfl⟩
theorem fl_X7_364 : FLr RX7 364 4 7 := ⟨RX4, TX4, 8, "WarpMill$Coalescer", "WarpMill", rfl, by decide, in_X4, Or.inr q551, Or.inl rfl⟩
theorem fl_X7_367 : FLr RX7 367 4 6 := ⟨RX4, TX4, 8, "WarpMill$Coalescer", "WarpMill", rfl, by decide, in_X4, Or.inr q549, Or.inl rfl⟩
theorem fl_X7_370 : FLr RX7 370 4 5 := ⟨RX4, TX4, 8, "WarpMill$Coalescer", "WarpMill", rfl, by decide, in_X4, Or.inr q547, Or.inl rfl⟩
theorem fp_X7_379 : FL RX7 379 8 3 (.int) false := ⟨RX8, TX8, 5, tyX8, "WarpMill$Unit", "WarpMill", rfl, by decide, in_X8, tyX8_ok, nmX8, Or.inr q738, Or.inl rfl, rfl, rfl, fun h => by cases h⟩
theorem fp_X7_348 : FL RX7 348 8 2 (.int) false := ⟨RX8, TX8, 5, tyX8, "WarpMill$Unit", "WarpMill", rfl, by decide, in_X8, tyX8_ok, nmX8, Or.inr q735, Or.inl rfl, rfl, rfl, fun h => by cases h⟩
theorem c_X4_46 : CV RX4 46 6 yJ17_get cJ17_get 3 (some Jvm.ClassFile.FieldType.boolean) 1 := ⟨TJ17, 3, rfl, q1356, q1357, q1358, q102, q1359, ⟨by decide +kernel, by decide +kernel, by decide +kernel⟩⟩
theorem c_X4_50 : CV RX4 50 6 yJ17_set cJ17_set 3 none 1 := ⟨TJ17, 3, rfl, q1366, q1367, q1368, q102, q1369, ⟨by decide +kernel, by decide +kernel, by decide +kernel⟩⟩
theorem c_X9_27 : CV RX9 27 0 yJ2_size cJ2_size 1 (some Jvm.ClassFile.FieldType.int) 0 := ⟨TJ2, 3, rfl, q1396, q696, q697, q82, q698, ⟨by decide +kernel, by decide +kernel, by decide +kernel⟩⟩
theorem c_X9_31 : CV RX9 31 0 yJ2_get cJ2_get 2 (some (Jvm.ClassFile.FieldType.object "java/lang/Object")) 1 := ⟨TJ2, 3, rfl, q1397, q700, q701, q82, q702, ⟨by decide +kernel, by decide +kernel, by decide +kernel⟩⟩
theorem c_X4_59 : CV RX4 59 9 yX9_ask cX9_ask 7 (some Jvm.ClassFile.FieldType.int) 2 := ⟨TX9, 3, rfl, q1392, q1393, q1394, q109, q1395, ⟨by decide +kernel, by decide +kernel, by decide +kernel⟩⟩
theorem c_X7_351 : CV RX7 351 4 yX4_begin cX4_begin 3 none 1 := ⟨TX4, 8, rfl, q1340, q1341, q1342, q101, q1343, ⟨by decide +kernel, by decide +kernel, by decide +kernel⟩⟩
theorem c_X7_353 : CV RX7 353 5 yX5_isAtomic cX5_isAtomic 1 (some Jvm.ClassFile.FieldType.boolean) 0 := ⟨TX5, 7, rfl, q1348, q1349, q1350, q103, q1351, ⟨by decide +kernel, by decide +kernel, by decide +kernel⟩⟩
theorem c_X7_360 : CV RX7 360 4 yX4_askGlobal cX4_askGlobal 4 none 3 := ⟨TX4, 8, rfl, q1388, q1389, q1390, q101, q1391, ⟨by decide +kernel, by decide +kernel, by decide +kernel⟩⟩
theorem c_X7_356 : CV RX7 356 4 yX4_askShared cX4_askShared 4 none 2 := ⟨TX4, 8, rfl, q1352, q1353, q1354, q101, q1355, ⟨by decide +kernel, by decide +kernel, by decide +kernel⟩⟩
theorem dX4_askShared_0 : decode cX4_askShared 0 = .ok (.aload_n 0, 1) := by decide +kernel
theorem dX4_askShared_1 : decode cX4_askShared 1 = .ok (.getfield 14, 3) := by decide +kernel
theorem dX4_askShared_4 : decode cX4_askShared 4 = .ok (.iload_n 1, 1) := by decide +kernel
theorem dX4_askShared_5 : decode cX4_askShared 5 = .ok (.invokevirtual 46, 3) := by decide +kernel
theorem dX4_askShared_8 : decode cX4_askShared 8 = .ok (.ifCond .ne 7, 3) := by decide +kernel
theorem dX4_askShared_11 : decode cX4_askShared 11 = .ok (.iconst 1, 1) := by decide +kernel
theorem dX4_askShared_12 : decode cX4_askShared 12 = .ok (.goto 4, 3) := by decide +kernel
theorem dX4_askShared_15 : decode cX4_askShared 15 = .ok (.iconst 0, 1) := by decide +kernel
theorem dX4_askShared_16 : decode cX4_askShared 16 = .ok (.istore_n 3, 1) := by decide +kernel
theorem dX4_askShared_17 : decode cX4_askShared 17 = .ok (.aload_n 0, 1) := by decide +kernel
theorem dX4_askShared_18 : decode cX4_askShared 18 = .ok (.getfield 14, 3) := by decide +kernel
theorem dX4_askShared_21 : decode cX4_askShared 21 = .ok (.iload_n 1, 1) := by decide +kernel
theorem dX4_askShared_22 : decode cX4_askShared 22 = .ok (.invokevirtual 50, 3) := by decide +kernel
theorem dX4_askShared_25 : decode cX4_askShared 25 = .ok (.aload_n 0, 1) := by decide +kernel
theorem dX4_askShared_26 : decode cX4_askShared 26 = .ok (.getfield 23, 3) := by decide +kernel
theorem dX4_askShared_29 : decode cX4_askShared 29 = .ok (.iload_n 1, 1) := by decide +kernel
theorem dX4_askShared_30 : decode cX4_askShared 30 = .ok (.aload_n 0, 1) := by decide +kernel
theorem dX4_askShared_31 : decode cX4_askShared 31 = .ok (.getfield 27, 3) := by decide +kernel
theorem dX4_askShared_34 : decode cX4_askShared 34 = .ok (.irem, 1) := by decide +kernel
theorem dX4_askShared_35 : decode cX4_askShared 35 = .ok (.dup2, 1) := by decide +kernel
theorem dX4_askShared_36 : decode cX4_askShared 36 = .ok (.iaload, 1) := by decide +kernel
theorem dX4_askShared_37 : decode cX4_askShared 37 = .ok (.iload_n 3, 1) := by decide +kernel
theorem dX4_askShared_38 : decode cX4_askShared 38 = .ok (.ifCond .ne 7, 3) := by decide +kernel
theorem dX4_askShared_41 : decode cX4_askShared 41 = .ok (.iload_n 2, 1) := by decide +kernel
theorem dX4_askShared_42 : decode cX4_askShared 42 = .ok (.ifCond .eq 7, 3) := by decide +kernel
theorem dX4_askShared_45 : decode cX4_askShared 45 = .ok (.iconst 1, 1) := by decide +kernel
theorem dX4_askShared_46 : decode cX4_askShared 46 = .ok (.goto 4, 3) := by decide +kernel
theorem dX4_askShared_49 : decode cX4_askShared 49 = .ok (.iconst 0, 1) := by decide +kernel
theorem dX4_askShared_50 : decode cX4_askShared 50 = .ok (.iadd, 1) := by decide +kernel
theorem dX4_askShared_51 : decode cX4_askShared 51 = .ok (.iastore, 1) := by decide +kernel
theorem dX4_askShared_52 : decode cX4_askShared 52 = .ok (.aload_n 0, 1) := by decide +kernel
theorem dX4_askShared_53 : decode cX4_askShared 53 = .ok (.aload_n 0, 1) := by decide +kernel
theorem dX4_askShared_54 : decode cX4_askShared 54 = .ok (.getfield 37, 3) := by decide +kernel
theorem dX4_askShared_57 : decode cX4_askShared 57 = .ok (.aload_n 0, 1) := by decide +kernel
theorem dX4_askShared_58 : decode cX4_askShared 58 = .ok (.getfield 23, 3) := by decide +kernel
theorem dX4_askShared_61 : decode cX4_askShared 61 = .ok (.iload_n 1, 1) := by decide +kernel
theorem dX4_askShared_62 : decode cX4_askShared 62 = .ok (.aload_n 0, 1) := by decide +kernel
theorem dX4_askShared_63 : decode cX4_askShared 63 = .ok (.getfield 27, 3) := by decide +kernel
theorem dX4_askShared_66 : decode cX4_askShared 66 = .ok (.irem, 1) := by decide +kernel
theorem dX4_askShared_67 : decode cX4_askShared 67 = .ok (.iaload, 1) := by decide +kernel
theorem dX4_askShared_68 : decode cX4_askShared 68 = .ok (.invokestatic 53, 3) := by decide +kernel
theorem dX4_askShared_71 : decode cX4_askShared 71 = .ok (.putfield 37, 3) := by decide +kernel
theorem dX4_askShared_74 : decode cX4_askShared 74 = .ok (.return_, 1) := by decide +kernel
def fX4_askShared (a0 : Nat) (p1 : Int32) (p2 : Int32) (A : AH) : Option (AH) :=
(gR A (some a0) 4 0).bind fun v1 =>
(rcv A v1 6).bind fun v2 =>
(fJ17_get v2 p1 A).bind fun g3 =>
jn (fun (y5 : Int32) =>
(fJ17_set v2 p1 A).bind fun g6 =>
(gR g6 (some a0) 4 2).bind fun v7 =>
(gI g6 (some a0) 4 3).bind fun v8 =>
(dz v8).bind fun v9 =>
(aI g6 v7 (p1 - p1 / v8 * v8)).bind fun v10 =>
jn (fun (y12 : Int32) =>
(sI g6 v7 (p1 - p1 / v8 * v8) (v10 + y12)).bind fun A13 =>
(gI A13 (some a0) 4 5).bind fun v14 =>
(gR A13 (some a0) 4 2).bind fun v15 =>
(gI A13 (some a0) 4 3).bind fun v16 =>
(dz v16).bind fun v17 =>
(aI A13 v15 (p1 - p1 / v16 * v16)).bind fun v18 =>
(pI A13 (some a0) 4 5 (if v14 < v18 then v18 else v14)).bind fun A19 =>
some A19) fun j11 =>
if ((y5 = 0) ∧ (p2 = 0)) then (j11 (0 : Int32)) else
j11 (1 : Int32)) fun j4 =>
if g3 = 0 then (j4 (1 : Int32)) else
j4 (0 : Int32)

set_option maxHeartbeats 4000000 in
set_option maxRecDepth 100000 in
theorem sX4_askShared (l : Launch) (D : DE) (a0 : Nat) (p1 : Int32) (p2 : Int32) (A : AH) (g : AH) (hg : fX4_askShared a0 p1 p2 A = some g) : Sm l D yX4_askShared cX4_askShared 4 none 3 66 [tR (some a0), tI p1, tI p2] A (wU g).1 (wU g).2 := by
  refine Sm.of (ω := wU) (fX4_askShared a0 p1 p2 A) [some (tR (some a0)), some (tI p1), some (tI p2), none] (by decide) (Nat.le_of_ble_eq_true rfl) rfl hg ?_
  intro p e R s m args below meth c X hin
  have X : Cx D cX4_askShared RX4 4 3 66 none p R s m args meth c := X
  unfold fX4_askShared
  refine rf_aload_n X rfl dX4_askShared_0 ?_
  refine rf_bind (fun v1 hv1 => ?_)
  refine rf_getR X fl_X4_14 hv1 dX4_askShared_1 ?_
  refine rf_iload_n X rfl dX4_askShared_4 ?_
  refine rf_bind (fun v2 hv2 => ?_)
  refine rf_bind (fun g3 hg3 => ?_)
  refine rf_callVI X c_X4_46 ⟨Nat.le_of_ble_eq_true rfl, Nat.le_of_ble_eq_true rfl⟩ [tI p1] rfl (Nat.le_of_ble_eq_true rfl) hv2 (sJ17_get l D v2 p1 A g3 hg3) dX4_askShared_5 ?_
  refine rf_jn2 (fun i => ∀ (y5 : Int32), RfX X l e below wU (i y5) 16 [some (tR (some a0)), some (tI p1), some (tI p2), none] [tI y5] A) ?_ (fun j4 hj4 => ?_)
  · intro y5
    refine rf_istore_n X (ls' := [some (tR (some a0)), some (tI p1), some (tI p2), some (tI y5)]) rfl (by decide) dX4_askShared_16 ?_
    refine rf_aload_n X rfl dX4_askShared_17 ?_
    refine rf_getR X fl_X4_14 hv1 dX4_askShared_18 ?_
    refine rf_iload_n X rfl dX4_askShared_21 ?_
    refine rf_bind (fun g6 hg6 => ?_)
    refine rf_callVU X c_X4_50 ⟨Nat.le_of_ble_eq_true rfl, Nat.le_of_ble_eq_true rfl⟩ [tI p1] rfl (Nat.le_of_ble_eq_true rfl) hv2 (sJ17_set l D v2 p1 A g6 hg6) dX4_askShared_22 ?_
    refine rf_aload_n X rfl dX4_askShared_25 ?_
    refine rf_bind (fun v7 hv7 => ?_)
    refine rf_getR X fl_X4_23 hv7 dX4_askShared_26 ?_
    refine rf_iload_n X rfl dX4_askShared_29 ?_
    refine rf_aload_n X rfl dX4_askShared_30 ?_
    refine rf_bind (fun v8 hv8 => ?_)
    refine rf_getI X fl_X4_27 hv8 dX4_askShared_31 ?_
    refine rf_bind (fun v9 hv9 => ?_)
    refine rf_irem X (dz_spec hv9) dX4_askShared_34 ?_
    refine rf_dup2 X rfl rfl dX4_askShared_35 ?_
    refine rf_bind (fun v10 hv10 => ?_)
    refine rf_iald X hv10 dX4_askShared_36 ?_
    refine rf_iload_n X rfl dX4_askShared_37 ?_
    refine rf_jn2 (fun i => ∀ (y12 : Int32), RfX X l e below wU (i y12) 50 [some (tR (some a0)), some (tI p1), none, none] [tI y12, tI v10, tI (p1 - p1 / v8 * v8), tR v7] g6) ?_ (fun j11 hj11 => ?_)
    · intro y12
      refine rf_iadd X dX4_askShared_50 ?_
      refine rf_bind (fun A13 hA13 => ?_)
      refine rf_iast X hA13 dX4_askShared_51 ?_
      refine rf_aload_n X rfl dX4_askShared_52 ?_
      refine rf_aload_n X rfl dX4_askShared_53 ?_
      refine rf_bind (fun v14 hv14 => ?_)
      refine rf_getI X fl_X4_37 hv14 dX4_askShared_54 ?_
      refine rf_aload_n X rfl dX4_askShared_57 ?_
      refine rf_bind (fun v15 hv15 => ?_)
      refine rf_getR X fl_X4_23 hv15 dX4_askShared_58 ?_
      refine rf_iload_n X rfl dX4_askShared_61 ?_
      refine rf_aload_n X rfl dX4_askShared_62 ?_
      refine rf_bind (fun v16 hv16 => ?_)
      refine rf_getI X fl_X4_27 hv16 dX4_askShared_63 ?_
      refine rf_bind (fun v17 hv17 => ?_)
      refine rf_irem X (dz_spec hv17) dX4_askShared_66 ?_
      refine rf_bind (fun v18 hv18 => ?_)
      refine rf_iald X hv18 dX4_askShared_67 ?_
      refine rf_mmax X q1387 ⟨by decide, by decide⟩ (Nat.le_of_ble_eq_true rfl) dX4_askShared_68 ?_
      refine rf_bind (fun A19 hA19 => ?_)
      refine rf_putI X fp_X4_37 (fun h => by cases h) hA19 dX4_askShared_71 ?_
      exact rf_vret X rfl dX4_askShared_74
    refine rf_br 49 45 [some (tR (some a0)), some (tI p1), some (tI p2), some (tI y5)] [some (tR (some a0)), some (tI p1), some (tI p2), some (tI y5)] [tI v10, tI (p1 - p1 / v8 * v8), tR v7] [tI v10, tI (p1 - p1 / v8 * v8), tR v7] (fun _ => ?_) (fun _ => ?_) (fun _ jT jF => ?_)
    · refine rf_iconst X (0 : Int32) rfl dX4_askShared_49 ?_
      exact rf_go (hj11 (0 : Int32)) (And.intro rfl (And.intro rfl True.intro))
    · refine rf_iconst X (1 : Int32) rfl dX4_askShared_45 ?_
      refine rf_goto X (tgt := 50) rfl dX4_askShared_46 ?_
      exact rf_go (hj11 (1 : Int32)) (And.intro rfl (And.intro rfl True.intro))
    refine rf_if_ne X (tgt := 45) rfl dX4_askShared_38 (fun c20 => ?_) (fun c20 => ?_)
    · exact jF (fun z => c20 z.1)
    refine rf_iload_n X rfl dX4_askShared_41 ?_
    refine rf_if_eq X (tgt := 49) rfl dX4_askShared_42 (fun c21 => ?_) (fun c21 => ?_)
    · exact jT ⟨c20, c21⟩
    exact jF (fun z => c21 z.2)
  refine rf_if_ne X (tgt := 15) rfl dX4_askShared_8 (fun c22 => rf_neg c22 ?_) (fun c22 => rf_pos c22 ?_)
  · refine rf_iconst X (0 : Int32) rfl dX4_askShared_15 ?_
    exact rf_go (hj4 (0 : Int32)) (And.intro rfl (And.intro rfl (And.intro rfl True.intro)))
  refine rf_iconst X (1 : Int32) rfl dX4_askShared_11 ?_
  refine rf_goto X (tgt := 16) rfl dX4_askShared_12 ?_
  exact rf_go (hj4 (1 : Int32)) (And.intro rfl (And.intro rfl (And.intro rfl True.intro)))

theorem dX9_ask_0 : decode cX9_ask 0 = .ok (.aload_n 0, 1) := by decide +kernel
theorem dX9_ask_1 : decode cX9_ask 1 = .ok (.getfield 14, 3) := by decide +kernel
theorem dX9_ask_4 : decode cX9_ask 4 = .ok (.iload_n 1, 1) := by decide +kernel
theorem dX9_ask_5 : decode cX9_ask 5 = .ok (.aload_n 0, 1) := by decide +kernel
theorem dX9_ask_6 : decode cX9_ask 6 = .ok (.getfield 14, 3) := by decide +kernel
theorem dX9_ask_9 : decode cX9_ask 9 = .ok (.invokevirtual 27, 3) := by decide +kernel
theorem dX9_ask_12 : decode cX9_ask 12 = .ok (.irem, 1) := by decide +kernel
theorem dX9_ask_13 : decode cX9_ask 13 = .ok (.invokevirtual 31, 3) := by decide +kernel
theorem dX9_ask_16 : decode cX9_ask 16 = .ok (.checkcast 20, 3) := by decide +kernel
theorem dX9_ask_19 : decode cX9_ask 19 = .ok (.astore_n 3, 1) := by decide +kernel
theorem dX9_ask_20 : decode cX9_ask 20 = .ok (.iload_n 1, 1) := by decide +kernel
theorem dX9_ask_21 : decode cX9_ask 21 = .ok (.aload_n 0, 1) := by decide +kernel
theorem dX9_ask_22 : decode cX9_ask 22 = .ok (.getfield 14, 3) := by decide +kernel
theorem dX9_ask_25 : decode cX9_ask 25 = .ok (.invokevirtual 27, 3) := by decide +kernel
theorem dX9_ask_28 : decode cX9_ask 28 = .ok (.idiv, 1) := by decide +kernel
theorem dX9_ask_29 : decode cX9_ask 29 = .ok (.iconst 4, 1) := by decide +kernel
theorem dX9_ask_30 : decode cX9_ask 30 = .ok (.irem, 1) := by decide +kernel
theorem dX9_ask_31 : decode cX9_ask 31 = .ok (.istore 4, 2) := by decide +kernel
theorem dX9_ask_33 : decode cX9_ask 33 = .ok (.iload_n 2, 1) := by decide +kernel
theorem dX9_ask_34 : decode cX9_ask 34 = .ok (.aload_n 3, 1) := by decide +kernel
theorem dX9_ask_35 : decode cX9_ask 35 = .ok (.getfield 35, 3) := by decide +kernel
theorem dX9_ask_38 : decode cX9_ask 38 = .ok (.invokestatic 39, 3) := by decide +kernel
theorem dX9_ask_41 : decode cX9_ask 41 = .ok (.istore 5, 2) := by decide +kernel
theorem dX9_ask_43 : decode cX9_ask 43 = .ok (.aload_n 3, 1) := by decide +kernel
theorem dX9_ask_44 : decode cX9_ask 44 = .ok (.getfield 45, 3) := by decide +kernel
theorem dX9_ask_47 : decode cX9_ask 47 = .ok (.iload 4, 2) := by decide +kernel
theorem dX9_ask_49 : decode cX9_ask 49 = .ok (.iaload, 1) := by decide +kernel
theorem dX9_ask_50 : decode cX9_ask 50 = .ok (.iload_n 1, 1) := by decide +kernel
theorem dX9_ask_51 : decode cX9_ask 51 = .ok (.if_icmp .ne 7, 3) := by decide +kernel
theorem dX9_ask_54 : decode cX9_ask 54 = .ok (.iconst 1, 1) := by decide +kernel
theorem dX9_ask_55 : decode cX9_ask 55 = .ok (.goto 4, 3) := by decide +kernel
theorem dX9_ask_58 : decode cX9_ask 58 = .ok (.iconst 0, 1) := by decide +kernel
theorem dX9_ask_59 : decode cX9_ask 59 = .ok (.istore 6, 2) := by decide +kernel
theorem dX9_ask_61 : decode cX9_ask 61 = .ok (.aload_n 3, 1) := by decide +kernel
theorem dX9_ask_62 : decode cX9_ask 62 = .ok (.getfield 45, 3) := by decide +kernel
theorem dX9_ask_65 : decode cX9_ask 65 = .ok (.iload 4, 2) := by decide +kernel
theorem dX9_ask_67 : decode cX9_ask 67 = .ok (.iload_n 1, 1) := by decide +kernel
theorem dX9_ask_68 : decode cX9_ask 68 = .ok (.iastore, 1) := by decide +kernel
theorem dX9_ask_69 : decode cX9_ask 69 = .ok (.aload_n 3, 1) := by decide +kernel
theorem dX9_ask_70 : decode cX9_ask 70 = .ok (.iload 5, 2) := by decide +kernel
theorem dX9_ask_72 : decode cX9_ask 72 = .ok (.iload 6, 2) := by decide +kernel
theorem dX9_ask_74 : decode cX9_ask 74 = .ok (.ifCond .eq 7, 3) := by decide +kernel
theorem dX9_ask_77 : decode cX9_ask 77 = .ok (.iconst 1, 1) := by decide +kernel
theorem dX9_ask_78 : decode cX9_ask 78 = .ok (.goto 4, 3) := by decide +kernel
theorem dX9_ask_81 : decode cX9_ask 81 = .ok (.iconst 5, 1) := by decide +kernel
theorem dX9_ask_82 : decode cX9_ask 82 = .ok (.iadd, 1) := by decide +kernel
theorem dX9_ask_83 : decode cX9_ask 83 = .ok (.putfield 35, 3) := by decide +kernel
theorem dX9_ask_86 : decode cX9_ask 86 = .ok (.aload_n 0, 1) := by decide +kernel
theorem dX9_ask_87 : decode cX9_ask 87 = .ok (.dup, 1) := by decide +kernel
theorem dX9_ask_88 : decode cX9_ask 88 = .ok (.getfield 49, 3) := by decide +kernel
theorem dX9_ask_91 : decode cX9_ask 91 = .ok (.iload 6, 2) := by decide +kernel
theorem dX9_ask_93 : decode cX9_ask 93 = .ok (.ifCond .eq 7, 3) := by decide +kernel
theorem dX9_ask_96 : decode cX9_ask 96 = .ok (.iconst 1, 1) := by decide +kernel
theorem dX9_ask_97 : decode cX9_ask 97 = .ok (.goto 4, 3) := by decide +kernel
theorem dX9_ask_100 : decode cX9_ask 100 = .ok (.iconst 0, 1) := by decide +kernel
theorem dX9_ask_101 : decode cX9_ask 101 = .ok (.iadd, 1) := by decide +kernel
theorem dX9_ask_102 : decode cX9_ask 102 = .ok (.putfield 49, 3) := by decide +kernel
theorem dX9_ask_105 : decode cX9_ask 105 = .ok (.aload_n 0, 1) := by decide +kernel
theorem dX9_ask_106 : decode cX9_ask 106 = .ok (.dup, 1) := by decide +kernel
theorem dX9_ask_107 : decode cX9_ask 107 = .ok (.getfield 52, 3) := by decide +kernel
theorem dX9_ask_110 : decode cX9_ask 110 = .ok (.iload 6, 2) := by decide +kernel
theorem dX9_ask_112 : decode cX9_ask 112 = .ok (.ifCond .eq 7, 3) := by decide +kernel
theorem dX9_ask_115 : decode cX9_ask 115 = .ok (.iconst 0, 1) := by decide +kernel
theorem dX9_ask_116 : decode cX9_ask 116 = .ok (.goto 4, 3) := by decide +kernel
theorem dX9_ask_119 : decode cX9_ask 119 = .ok (.iconst 1, 1) := by decide +kernel
theorem dX9_ask_120 : decode cX9_ask 120 = .ok (.iadd, 1) := by decide +kernel
theorem dX9_ask_121 : decode cX9_ask 121 = .ok (.putfield 52, 3) := by decide +kernel
theorem dX9_ask_124 : decode cX9_ask 124 = .ok (.iload 5, 2) := by decide +kernel
theorem dX9_ask_126 : decode cX9_ask 126 = .ok (.iload 6, 2) := by decide +kernel
theorem dX9_ask_128 : decode cX9_ask 128 = .ok (.ifCond .eq 7, 3) := by decide +kernel
theorem dX9_ask_131 : decode cX9_ask 131 = .ok (.iconst 4, 1) := by decide +kernel
theorem dX9_ask_132 : decode cX9_ask 132 = .ok (.goto 5, 3) := by decide +kernel
theorem dX9_ask_135 : decode cX9_ask 135 = .ok (.bipush 12, 2) := by decide +kernel
theorem dX9_ask_137 : decode cX9_ask 137 = .ok (.iadd, 1) := by decide +kernel
theorem dX9_ask_138 : decode cX9_ask 138 = .ok (.ireturn, 1) := by decide +kernel
def fX9_ask (a0 : Nat) (p1 : Int32) (p2 : Int32) (A : AH) : Option (Int32 × AH) :=
(gR A (some a0) 9 0).bind fun v1 =>
(rcv A v1 0).bind fun v2 =>
(fJ2_size v2 A).bind fun g3 =>
(dz g3).bind fun v4 =>
(fJ2_get v2 (p1 - p1 / g3 * g3) A).bind fun g5 =>
(cst A g5 10).bind fun v6 =>
(gI A g5 10 1).bind fun v7 =>
(gR A g5 10 0).bind fun v8 =>
(aI A v8 ((p1 / g3) - (p1 / g3) / (4 : Int32) * (4 : Int32))).bind fun v9 =>
jn (fun (y11 : Int32) =>
(sI A v8 ((p1 / g3) - (p1 / g3) / (4 : Int32) * (4 : Int32)) p1).bind fun A12 =>
jn (fun (y14 : Int32) =>
(pI A12 g5 10 1 ((if p2 < v7 then v7 else p2) + y14)).bind fun A15 =>
(gI A15 (some a0) 9 1).bind fun v16 =>
jn (fun (y18 : Int32) =>
(pI A15 (some a0) 9 1 (v16 + y18)).bind fun A19 =>
(gI A19 (some a0) 9 2).bind fun v20 =>
jn (fun (y22 : Int32) =>
(pI A19 (some a0) 9 2 (v20 + y22)).bind fun A23 =>
jn (fun (y25 : Int32) =>
some (((if p2 < v7 then v7 else p2) + y25), A23)) fun j24 =>
if y11 = 0 then (j24 (12 : Int32)) else
j24 (4 : Int32)) fun j21 =>
if y11 = 0 then (j21 (1 : Int32)) else
j21 (0 : Int32)) fun j17 =>
if y11 = 0 then (j17 (0 : Int32)) else
j17 (1 : Int32)) fun j13 =>
if y11 = 0 then (j13 (5 : Int32)) else
j13 (1 : Int32)) fun j10 =>
if v9 = p1 then (j10 (1 : Int32)) else
j10 (0 : Int32)

set_option maxHeartbeats 4000000 in
set_option maxRecDepth 100000 in
theorem sX9_ask (l : Launch) (D : DE) (a0 : Nat) (p1 : Int32) (p2 : Int32) (A : AH) (g : Int32 × AH) (hg : fX9_ask a0 p1 p2 A = some g) : Sm l D yX9_ask cX9_ask 7 (some Jvm.ClassFile.FieldType.int) 3 64 [tR (some a0), tI p1, tI p2] A (wI g).1 (wI g).2 := by
  refine Sm.of (ω := wI) (fX9_ask a0 p1 p2 A) [some (tR (some a0)), some (tI p1), some (tI p2), none, none, none, none] (by decide) (Nat.le_of_ble_eq_true rfl) rfl hg ?_
  intro p e R s m args below meth c X hin
  have X : Cx D cX9_ask RX9 7 3 64 (some Jvm.ClassFile.FieldType.int) p R s m args meth c := X
  unfold fX9_ask
  refine rf_aload_n X rfl dX9_ask_0 ?_
  refine rf_bind (fun v1 hv1 => ?_)
  refine rf_getR X fl_X9_14 hv1 dX9_ask_1 ?_
  refine rf_iload_n X rfl dX9_ask_4 ?_
  refine rf_aload_n X rfl dX9_ask_5 ?_
  refine rf_getR X fl_X9_14 hv1 dX9_ask_6 ?_
  refine rf_bind (fun v2 hv2 => ?_)
  refine rf_bind (fun g3 hg3 => ?_)
  refine rf_callVI X c_X9_27 ⟨Nat.le_of_ble_eq_true rfl, Nat.le_of_ble_eq_true rfl⟩ [] rfl (Nat.le_of_ble_eq_true rfl) hv2 (sJ2_size l D v2 A g3 hg3) dX9_ask_9 ?_
  refine rf_bind (fun v4 hv4 => ?_)
  refine rf_irem X (dz_spec hv4) dX9_ask_12 ?_
  refine rf_bind (fun g5 hg5 => ?_)
  refine rf_callVI X c_X9_31 ⟨Nat.le_of_ble_eq_true rfl, Nat.le_of_ble_eq_true rfl⟩ [tI (p1 - p1 / g3 * g3)] rfl (Nat.le_of_ble_eq_true rfl) hv2 (sJ2_get l D v2 (p1 - p1 / g3 * g3) A g5 hg5) dX9_ask_13 ?_
  refine rf_bind (fun v6 hv6 => ?_)
  refine rf_cast X (ci := 10) rfl rfl q762 hv6 dX9_ask_16 ?_
  refine rf_astore_n X (ls' := [some (tR (some a0)), some (tI p1), some (tI p2), some (tR g5), none, none, none]) rfl (by decide) dX9_ask_19 ?_
  refine rf_iload_n X rfl dX9_ask_20 ?_
  refine rf_aload_n X rfl dX9_ask_21 ?_
  refine rf_getR X fl_X9_14 hv1 dX9_ask_22 ?_
  refine rf_callVI X c_X9_27 ⟨Nat.le_of_ble_eq_true rfl, Nat.le_of_ble_eq_true rfl⟩ [] rfl (Nat.le_of_ble_eq_true rfl) hv2 (sJ2_size l D v2 A g3 hg3) dX9_ask_25 ?_
  refine rf_idiv X (dz_spec hv4) dX9_ask_28 ?_
  refine rf_iconst X (4 : Int32) rfl dX9_ask_29 ?_
  refine rf_irem X (by decide) dX9_ask_30 ?_
  refine rf_istore X (ls' := [some (tR (some a0)), some (tI p1), some (tI p2), some (tR g5), some (tI ((p1 / g3) - (p1 / g3) / (4 : Int32) * (4 : Int32))), none, none]) rfl (by decide) dX9_ask_31 ?_
  refine rf_iload_n X rfl dX9_ask_33 ?_
  refine rf_aload_n X rfl dX9_ask_34 ?_
  refine rf_bind (fun v7 hv7 => ?_)
  refine rf_getI X fl_X9_35 hv7 dX9_ask_35 ?_
  refine rf_mmax X q1398 ⟨by decide, by decide⟩ (Nat.le_of_ble_eq_true rfl) dX9_ask_38 ?_
  refine rf_istore X (ls' := [some (tR (some a0)), some (tI p1), some (tI p2), some (tR g5), some (tI ((p1 / g3) - (p1 / g3) / (4 : Int32) * (4 : Int32))), some (tI (if p2 < v7 then v7 else p2)), none]) rfl (by decide) dX9_ask_41 ?_
  refine rf_aload_n X rfl dX9_ask_43 ?_
  refine rf_bind (fun v8 hv8 => ?_)
  refine rf_getR X fl_X9_45 hv8 dX9_ask_44 ?_
  refine rf_iload X rfl dX9_ask_47 ?_
  refine rf_bind (fun v9 hv9 => ?_)
  refine rf_iald X hv9 dX9_ask_49 ?_
  refine rf_iload_n X rfl dX9_ask_50 ?_
  refine rf_jn2 (fun i => ∀ (y11 : Int32), RfX X l e below wI (i y11) 59 [some (tR (some a0)), some (tI p1), none, some (tR g5), some (tI ((p1 / g3) - (p1 / g3) / (4 : Int32) * (4 : Int32))), some (tI (if p2 < v7 then v7 else p2)), none] [tI y11] A) ?_ (fun j10 hj10 => ?_)
  · intro y11
    refine rf_istore X (ls' := [some (tR (some a0)), some (tI p1), none, some (tR g5), some (tI ((p1 / g3) - (p1 / g3) / (4 : Int32) * (4 : Int32))), some (tI (if p2 < v7 then v7 else p2)), some (tI y11)]) rfl (by decide) dX9_ask_59 ?_
    refine rf_aload_n X rfl dX9_ask_61 ?_
    refine rf_getR X fl_X9_45 hv8 dX9_ask_62 ?_
    refine rf_iload X rfl dX9_ask_65 ?_
    refine rf_iload_n X rfl dX9_ask_67 ?_
    refine rf_bind (fun A12 hA12 => ?_)
    refine rf_iast X hA12 dX9_ask_68 ?_
    refine rf_aload_n X rfl dX9_ask_69 ?_
    refine rf_iload X rfl dX9_ask_70 ?_
    refine rf_iload X rfl dX9_ask_72 ?_
    refine rf_jn2 (fun i => ∀ (y14 : Int32), RfX X l e below wI (i y14) 82 [some (tR (some a0)), none, none, none, none, some (tI (if p2 < v7 then v7 else p2)), some (tI y11)] [tI y14, tI (if p2 < v7 then v7 else p2), tR g5] A12) ?_ (fun j13 hj13 => ?_)
    · intro y14
      refine rf_iadd X dX9_ask_82 ?_
      refine rf_bind (fun A15 hA15 => ?_)
      refine rf_putI X fp_X9_35 (fun h => by cases h) hA15 dX9_ask_83 ?_
      refine rf_aload_n X rfl dX9_ask_86 ?_
      refine rf_dup X rfl dX9_ask_87 ?_
      refine rf_bind (fun v16 hv16 => ?_)
      refine rf_getI X fl_X9_49 hv16 dX9_ask_88 ?_
      refine rf_iload X rfl dX9_ask_91 ?_
      refine rf_jn2 (fun i => ∀ (y18 : Int32), RfX X l e below wI (i y18) 101 [some (tR (some a0)), none, none, none, none, some (tI (if p2 < v7 then v7 else p2)), some (tI y11)] [tI y18, tI v16, tR (some a0)] A15) ?_ (fun j17 hj17 => ?_)
      · intro y18
        refine rf_iadd X dX9_ask_101 ?_
        refine rf_bind (fun A19 hA19 => ?_)
        refine rf_putI X fp_X9_49 (fun h => by cases h) hA19 dX9_ask_102 ?_
        refine rf_aload_n X rfl dX9_ask_105 ?_
        refine rf_dup X rfl dX9_ask_106 ?_
        refine rf_bind (fun v20 hv20 => ?_)
        refine rf_getI X fl_X9_52 hv20 dX9_ask_107 ?_
        refine rf_iload X rfl dX9_ask_110 ?_
        refine rf_jn2 (fun i => ∀ (y22 : Int32), RfX X l e below wI (i y22) 120 [none, none, none, none, none, some (tI (if p2 < v7 then v7 else p2)), some (tI y11)] [tI y22, tI v20, tR (some a0)] A19) ?_ (fun j21 hj21 => ?_)
        · intro y22
          refine rf_iadd X dX9_ask_120 ?_
          refine rf_bind (fun A23 hA23 => ?_)
          refine rf_putI X fp_X9_52 (fun h => by cases h) hA23 dX9_ask_121 ?_
          refine rf_iload X rfl dX9_ask_124 ?_
          refine rf_iload X rfl dX9_ask_126 ?_
          refine rf_jn2 (fun i => ∀ (y25 : Int32), RfX X l e below wI (i y25) 137 [none, none, none, none, none, none, none] [tI y25, tI (if p2 < v7 then v7 else p2)] A23) ?_ (fun j24 hj24 => ?_)
          · intro y25
            refine rf_iadd X dX9_ask_137 ?_
            exact rf_iret X rfl dX9_ask_138
          refine rf_if_eq X (tgt := 135) rfl dX9_ask_128 (fun c26 => rf_pos c26 ?_) (fun c26 => rf_neg c26 ?_)
          · refine rf_bipush X (12 : Int32) rfl dX9_ask_135 ?_
            exact rf_go (hj24 (12 : Int32)) True.intro
          refine rf_iconst X (4 : Int32) rfl dX9_ask_131 ?_
          refine rf_goto X (tgt := 137) rfl dX9_ask_132 ?_
          exact rf_go (hj24 (4 : Int32)) True.intro
        refine rf_if_eq X (tgt := 119) rfl dX9_ask_112 (fun c27 => rf_pos c27 ?_) (fun c27 => rf_neg c27 ?_)
        · refine rf_iconst X (1 : Int32) rfl dX9_ask_119 ?_
          exact rf_go (hj21 (1 : Int32)) (And.intro rfl (And.intro rfl True.intro))
        refine rf_iconst X (0 : Int32) rfl dX9_ask_115 ?_
        refine rf_goto X (tgt := 120) rfl dX9_ask_116 ?_
        exact rf_go (hj21 (0 : Int32)) (And.intro rfl (And.intro rfl True.intro))
      refine rf_if_eq X (tgt := 100) rfl dX9_ask_93 (fun c28 => rf_pos c28 ?_) (fun c28 => rf_neg c28 ?_)
      · refine rf_iconst X (0 : Int32) rfl dX9_ask_100 ?_
        exact rf_go (hj17 (0 : Int32)) (And.intro rfl (And.intro rfl (And.intro rfl True.intro)))
      refine rf_iconst X (1 : Int32) rfl dX9_ask_96 ?_
      refine rf_goto X (tgt := 101) rfl dX9_ask_97 ?_
      exact rf_go (hj17 (1 : Int32)) (And.intro rfl (And.intro rfl (And.intro rfl True.intro)))
    refine rf_if_eq X (tgt := 81) rfl dX9_ask_74 (fun c29 => rf_pos c29 ?_) (fun c29 => rf_neg c29 ?_)
    · refine rf_iconst X (5 : Int32) rfl dX9_ask_81 ?_
      exact rf_go (hj13 (5 : Int32)) (And.intro rfl (And.intro rfl (And.intro rfl True.intro)))
    refine rf_iconst X (1 : Int32) rfl dX9_ask_77 ?_
    refine rf_goto X (tgt := 82) rfl dX9_ask_78 ?_
    exact rf_go (hj13 (1 : Int32)) (And.intro rfl (And.intro rfl (And.intro rfl True.intro)))
  refine rf_icmp_ne X (tgt := 58) rfl dX9_ask_51 (fun c30 => rf_neg c30 ?_) (fun c30 => rf_pos c30 ?_)
  · refine rf_iconst X (0 : Int32) rfl dX9_ask_58 ?_
    exact rf_go (hj10 (0 : Int32)) (And.intro rfl (And.intro rfl (And.intro rfl (And.intro rfl (And.intro rfl True.intro)))))
  refine rf_iconst X (1 : Int32) rfl dX9_ask_54 ?_
  refine rf_goto X (tgt := 59) rfl dX9_ask_55 ?_
  exact rf_go (hj10 (1 : Int32)) (And.intro rfl (And.intro rfl (And.intro rfl (And.intro rfl (And.intro rfl True.intro)))))

theorem dX4_askGlobal_0 : decode cX4_askGlobal 0 = .ok (.aload_n 0, 1) := by decide +kernel
theorem dX4_askGlobal_1 : decode cX4_askGlobal 1 = .ok (.dup, 1) := by decide +kernel
theorem dX4_askGlobal_2 : decode cX4_askGlobal 2 = .ok (.getfield 40, 3) := by decide +kernel
theorem dX4_askGlobal_5 : decode cX4_askGlobal 5 = .ok (.aload_n 0, 1) := by decide +kernel
theorem dX4_askGlobal_6 : decode cX4_askGlobal 6 = .ok (.getfield 14, 3) := by decide +kernel
theorem dX4_askGlobal_9 : decode cX4_askGlobal 9 = .ok (.iload_n 1, 1) := by decide +kernel
theorem dX4_askGlobal_10 : decode cX4_askGlobal 10 = .ok (.invokevirtual 46, 3) := by decide +kernel
theorem dX4_askGlobal_13 : decode cX4_askGlobal 13 = .ok (.ifCond .eq 7, 3) := by decide +kernel
theorem dX4_askGlobal_16 : decode cX4_askGlobal 16 = .ok (.iconst 1, 1) := by decide +kernel
theorem dX4_askGlobal_17 : decode cX4_askGlobal 17 = .ok (.goto 4, 3) := by decide +kernel
theorem dX4_askGlobal_20 : decode cX4_askGlobal 20 = .ok (.iconst 0, 1) := by decide +kernel
theorem dX4_askGlobal_21 : decode cX4_askGlobal 21 = .ok (.iadd, 1) := by decide +kernel
theorem dX4_askGlobal_22 : decode cX4_askGlobal 22 = .ok (.putfield 40, 3) := by decide +kernel
theorem dX4_askGlobal_25 : decode cX4_askGlobal 25 = .ok (.aload_n 0, 1) := by decide +kernel
theorem dX4_askGlobal_26 : decode cX4_askGlobal 26 = .ok (.getfield 14, 3) := by decide +kernel
theorem dX4_askGlobal_29 : decode cX4_askGlobal 29 = .ok (.iload_n 1, 1) := by decide +kernel
theorem dX4_askGlobal_30 : decode cX4_askGlobal 30 = .ok (.invokevirtual 50, 3) := by decide +kernel
theorem dX4_askGlobal_33 : decode cX4_askGlobal 33 = .ok (.aload_n 0, 1) := by decide +kernel
theorem dX4_askGlobal_34 : decode cX4_askGlobal 34 = .ok (.getfield 20, 3) := by decide +kernel
theorem dX4_askGlobal_37 : decode cX4_askGlobal 37 = .ok (.iload_n 1, 1) := by decide +kernel
theorem dX4_askGlobal_38 : decode cX4_askGlobal 38 = .ok (.bipush 8, 2) := by decide +kernel
theorem dX4_askGlobal_40 : decode cX4_askGlobal 40 = .ok (.idiv, 1) := by decide +kernel
theorem dX4_askGlobal_41 : decode cX4_askGlobal 41 = .ok (.invokevirtual 46, 3) := by decide +kernel
theorem dX4_askGlobal_44 : decode cX4_askGlobal 44 = .ok (.ifCond .eq 4, 3) := by decide +kernel
theorem dX4_askGlobal_47 : decode cX4_askGlobal 47 = .ok (.return_, 1) := by decide +kernel
theorem dX4_askGlobal_48 : decode cX4_askGlobal 48 = .ok (.aload_n 0, 1) := by decide +kernel
theorem dX4_askGlobal_49 : decode cX4_askGlobal 49 = .ok (.getfield 20, 3) := by decide +kernel
theorem dX4_askGlobal_52 : decode cX4_askGlobal 52 = .ok (.iload_n 1, 1) := by decide +kernel
theorem dX4_askGlobal_53 : decode cX4_askGlobal 53 = .ok (.bipush 8, 2) := by decide +kernel
theorem dX4_askGlobal_55 : decode cX4_askGlobal 55 = .ok (.idiv, 1) := by decide +kernel
theorem dX4_askGlobal_56 : decode cX4_askGlobal 56 = .ok (.invokevirtual 50, 3) := by decide +kernel
theorem dX4_askGlobal_59 : decode cX4_askGlobal 59 = .ok (.aload_n 0, 1) := by decide +kernel
theorem dX4_askGlobal_60 : decode cX4_askGlobal 60 = .ok (.getfield 31, 3) := by decide +kernel
theorem dX4_askGlobal_63 : decode cX4_askGlobal 63 = .ok (.iload_n 1, 1) := by decide +kernel
theorem dX4_askGlobal_64 : decode cX4_askGlobal 64 = .ok (.bipush 8, 2) := by decide +kernel
theorem dX4_askGlobal_66 : decode cX4_askGlobal 66 = .ok (.idiv, 1) := by decide +kernel
theorem dX4_askGlobal_67 : decode cX4_askGlobal 67 = .ok (.aload_n 2, 1) := by decide +kernel
theorem dX4_askGlobal_68 : decode cX4_askGlobal 68 = .ok (.iload_n 1, 1) := by decide +kernel
theorem dX4_askGlobal_69 : decode cX4_askGlobal 69 = .ok (.bipush 8, 2) := by decide +kernel
theorem dX4_askGlobal_71 : decode cX4_askGlobal 71 = .ok (.idiv, 1) := by decide +kernel
theorem dX4_askGlobal_72 : decode cX4_askGlobal 72 = .ok (.iload_n 3, 1) := by decide +kernel
theorem dX4_askGlobal_73 : decode cX4_askGlobal 73 = .ok (.invokevirtual 59, 3) := by decide +kernel
theorem dX4_askGlobal_76 : decode cX4_askGlobal 76 = .ok (.iastore, 1) := by decide +kernel
theorem dX4_askGlobal_77 : decode cX4_askGlobal 77 = .ok (.aload_n 0, 1) := by decide +kernel
theorem dX4_askGlobal_78 : decode cX4_askGlobal 78 = .ok (.aload_n 0, 1) := by decide +kernel
theorem dX4_askGlobal_79 : decode cX4_askGlobal 79 = .ok (.getfield 43, 3) := by decide +kernel
theorem dX4_askGlobal_82 : decode cX4_askGlobal 82 = .ok (.aload_n 0, 1) := by decide +kernel
theorem dX4_askGlobal_83 : decode cX4_askGlobal 83 = .ok (.getfield 31, 3) := by decide +kernel
theorem dX4_askGlobal_86 : decode cX4_askGlobal 86 = .ok (.iload_n 1, 1) := by decide +kernel
theorem dX4_askGlobal_87 : decode cX4_askGlobal 87 = .ok (.bipush 8, 2) := by decide +kernel
theorem dX4_askGlobal_89 : decode cX4_askGlobal 89 = .ok (.idiv, 1) := by decide +kernel
theorem dX4_askGlobal_90 : decode cX4_askGlobal 90 = .ok (.iaload, 1) := by decide +kernel
theorem dX4_askGlobal_91 : decode cX4_askGlobal 91 = .ok (.invokestatic 53, 3) := by decide +kernel
theorem dX4_askGlobal_94 : decode cX4_askGlobal 94 = .ok (.putfield 43, 3) := by decide +kernel
theorem dX4_askGlobal_97 : decode cX4_askGlobal 97 = .ok (.return_, 1) := by decide +kernel
def fX4_askGlobal (a0 : Nat) (p1 : Int32) (p2 : Option Nat) (p3 : Int32) (A : AH) : Option (AH) :=
(gI A (some a0) 4 6).bind fun v1 =>
(gR A (some a0) 4 0).bind fun v2 =>
(rcv A v2 6).bind fun v3 =>
(fJ17_get v3 p1 A).bind fun g4 =>
jn (fun (y6 : Int32) =>
(pI A (some a0) 4 6 (v1 + y6)).bind fun A7 =>
(gR A7 (some a0) 4 0).bind fun v8 =>
(rcv A7 v8 6).bind fun v9 =>
(fJ17_set v9 p1 A7).bind fun g10 =>
(gR g10 (some a0) 4 1).bind fun v11 =>
(rcv g10 v11 6).bind fun v12 =>
(fJ17_get v12 (p1 / (8 : Int32)) g10).bind fun g13 =>
if g13 = 0 then ((fJ17_set v12 (p1 / (8 : Int32)) g10).bind fun g15 =>
(gR g15 (some a0) 4 4).bind fun v16 =>
(rcv g15 p2 9).bind fun v17 =>
(fX9_ask v17 (p1 / (8 : Int32)) p3 g15).bind fun g18 =>
(sI g18.2 v16 (p1 / (8 : Int32)) g18.1).bind fun A19 =>
(gI A19 (some a0) 4 7).bind fun v20 =>
(gR A19 (some a0) 4 4).bind fun v21 =>
(aI A19 v21 (p1 / (8 : Int32))).bind fun v22 =>
(pI A19 (some a0) 4 7 (if v20 < v22 then v22 else v20)).bind fun A23 =>
some A23) else
some g10) fun j5 =>
if g4 = 0 then (j5 (0 : Int32)) else
j5 (1 : Int32)

set_option maxHeartbeats 4000000 in
set_option maxRecDepth 100000 in
theorem sX4_askGlobal (l : Launch) (D : DE) (a0 : Nat) (p1 : Int32) (p2 : Option Nat) (p3 : Int32) (A : AH) (g : AH) (hg : fX4_askGlobal a0 p1 p2 p3 A = some g) : Sm l D yX4_askGlobal cX4_askGlobal 4 none 4 90 [tR (some a0), tI p1, tR p2, tI p3] A (wU g).1 (wU g).2 := by
  refine Sm.of (ω := wU) (fX4_askGlobal a0 p1 p2 p3 A) [some (tR (some a0)), some (tI p1), some (tR p2), some (tI p3)] (by decide) (Nat.le_of_ble_eq_true rfl) rfl hg ?_
  intro p e R s m args below meth c X hin
  have X : Cx D cX4_askGlobal RX4 4 4 90 none p R s m args meth c := X
  unfold fX4_askGlobal
  refine rf_aload_n X rfl dX4_askGlobal_0 ?_
  refine rf_dup X rfl dX4_askGlobal_1 ?_
  refine rf_bind (fun v1 hv1 => ?_)
  refine rf_getI X fl_X4_40 hv1 dX4_askGlobal_2 ?_
  refine rf_aload_n X rfl dX4_askGlobal_5 ?_
  refine rf_bind (fun v2 hv2 => ?_)
  refine rf_getR X fl_X4_14 hv2 dX4_askGlobal_6 ?_
  refine rf_iload_n X rfl dX4_askGlobal_9 ?_
  refine rf_bind (fun v3 hv3 => ?_)
  refine rf_bind (fun g4 hg4 => ?_)
  refine rf_callVI X c_X4_46 ⟨Nat.le_of_ble_eq_true rfl, Nat.le_of_ble_eq_true rfl⟩ [tI p1] rfl (Nat.le_of_ble_eq_true rfl) hv3 (sJ17_get l D v3 p1 A g4 hg4) dX4_askGlobal_10 ?_
  refine rf_jn2 (fun i => ∀ (y6 : Int32), RfX X l e below wU (i y6) 21 [some (tR (some a0)), some (tI p1), some (tR p2), some (tI p3)] [tI y6, tI v1, tR (some a0)] A) ?_ (fun j5 hj5 => ?_)
  · intro y6
    refine rf_iadd X dX4_askGlobal_21 ?_
    refine rf_bind (fun A7 hA7 => ?_)
    refine rf_putI X fp_X4_40 (fun h => by cases h) hA7 dX4_askGlobal_22 ?_
    refine rf_aload_n X rfl dX4_askGlobal_25 ?_
    refine rf_bind (fun v8 hv8 => ?_)
    refine rf_getR X fl_X4_14 hv8 dX4_askGlobal_26 ?_
    refine rf_iload_n X rfl dX4_askGlobal_29 ?_
    refine rf_bind (fun v9 hv9 => ?_)
    refine rf_bind (fun g10 hg10 => ?_)
    refine rf_callVU X c_X4_50 ⟨Nat.le_of_ble_eq_true rfl, Nat.le_of_ble_eq_true rfl⟩ [tI p1] rfl (Nat.le_of_ble_eq_true rfl) hv9 (sJ17_set l D v9 p1 A7 g10 hg10) dX4_askGlobal_30 ?_
    refine rf_aload_n X rfl dX4_askGlobal_33 ?_
    refine rf_bind (fun v11 hv11 => ?_)
    refine rf_getR X fl_X4_20 hv11 dX4_askGlobal_34 ?_
    refine rf_iload_n X rfl dX4_askGlobal_37 ?_
    refine rf_bipush X (8 : Int32) rfl dX4_askGlobal_38 ?_
    refine rf_idiv X (by decide) dX4_askGlobal_40 ?_
    refine rf_bind (fun v12 hv12 => ?_)
    refine rf_bind (fun g13 hg13 => ?_)
    refine rf_callVI X c_X4_46 ⟨Nat.le_of_ble_eq_true rfl, Nat.le_of_ble_eq_true rfl⟩ [tI (p1 / (8 : Int32))] rfl (Nat.le_of_ble_eq_true rfl) hv12 (sJ17_get l D v12 (p1 / (8 : Int32)) g10 g13 hg13) dX4_askGlobal_41 ?_
    refine rf_if_eq X (tgt := 48) rfl dX4_askGlobal_44 (fun c14 => rf_pos c14 ?_) (fun c14 => rf_neg c14 ?_)
    · refine rf_aload_n X rfl dX4_askGlobal_48 ?_
      refine rf_getR X fl_X4_20 hv11 dX4_askGlobal_49 ?_
      refine rf_iload_n X rfl dX4_askGlobal_52 ?_
      refine rf_bipush X (8 : Int32) rfl dX4_askGlobal_53 ?_
      refine rf_idiv X (by decide) dX4_askGlobal_55 ?_
      refine rf_bind (fun g15 hg15 => ?_)
      refine rf_callVU X c_X4_50 ⟨Nat.le_of_ble_eq_true rfl, Nat.le_of_ble_eq_true rfl⟩ [tI (p1 / (8 : Int32))] rfl (Nat.le_of_ble_eq_true rfl) hv12 (sJ17_set l D v12 (p1 / (8 : Int32)) g10 g15 hg15) dX4_askGlobal_56 ?_
      refine rf_aload_n X rfl dX4_askGlobal_59 ?_
      refine rf_bind (fun v16 hv16 => ?_)
      refine rf_getR X fl_X4_31 hv16 dX4_askGlobal_60 ?_
      refine rf_iload_n X rfl dX4_askGlobal_63 ?_
      refine rf_bipush X (8 : Int32) rfl dX4_askGlobal_64 ?_
      refine rf_idiv X (by decide) dX4_askGlobal_66 ?_
      refine rf_aload_n X rfl dX4_askGlobal_67 ?_
      refine rf_iload_n X rfl dX4_askGlobal_68 ?_
      refine rf_bipush X (8 : Int32) rfl dX4_askGlobal_69 ?_
      refine rf_idiv X (by decide) dX4_askGlobal_71 ?_
      refine rf_iload_n X rfl dX4_askGlobal_72 ?_
      refine rf_bind (fun v17 hv17 => ?_)
      refine rf_bind (fun g18 hg18 => ?_)
      refine rf_callVI X c_X4_59 ⟨Nat.le_of_ble_eq_true rfl, Nat.le_of_ble_eq_true rfl⟩ [tI (p1 / (8 : Int32)), tI p3] rfl (Nat.le_of_ble_eq_true rfl) hv17 (sX9_ask l D v17 (p1 / (8 : Int32)) p3 g15 g18 hg18) dX4_askGlobal_73 ?_
      refine rf_bind (fun A19 hA19 => ?_)
      refine rf_iast X hA19 dX4_askGlobal_76 ?_
      refine rf_aload_n X rfl dX4_askGlobal_77 ?_
      refine rf_aload_n X rfl dX4_askGlobal_78 ?_
      refine rf_bind (fun v20 hv20 => ?_)
      refine rf_getI X fl_X4_43 hv20 dX4_askGlobal_79 ?_
      refine rf_aload_n X rfl dX4_askGlobal_82 ?_
      refine rf_bind (fun v21 hv21 => ?_)
      refine rf_getR X fl_X4_31 hv21 dX4_askGlobal_83 ?_
      refine rf_iload_n X rfl dX4_askGlobal_86 ?_
      refine rf_bipush X (8 : Int32) rfl dX4_askGlobal_87 ?_
      refine rf_idiv X (by decide) dX4_askGlobal_89 ?_
      refine rf_bind (fun v22 hv22 => ?_)
      refine rf_iald X hv22 dX4_askGlobal_90 ?_
      refine rf_mmax X q1387 ⟨by decide, by decide⟩ (Nat.le_of_ble_eq_true rfl) dX4_askGlobal_91 ?_
      refine rf_bind (fun A23 hA23 => ?_)
      refine rf_putI X fp_X4_43 (fun h => by cases h) hA23 dX4_askGlobal_94 ?_
      exact rf_vret X rfl dX4_askGlobal_97
    exact rf_vret X rfl dX4_askGlobal_47
  refine rf_if_eq X (tgt := 20) rfl dX4_askGlobal_13 (fun c24 => rf_pos c24 ?_) (fun c24 => rf_neg c24 ?_)
  · refine rf_iconst X (0 : Int32) rfl dX4_askGlobal_20 ?_
    exact rf_go (hj5 (0 : Int32)) (And.intro rfl (And.intro rfl (And.intro rfl (And.intro rfl True.intro))))
  refine rf_iconst X (1 : Int32) rfl dX4_askGlobal_16 ?_
  refine rf_goto X (tgt := 21) rfl dX4_askGlobal_17 ?_
  exact rf_go (hj5 (1 : Int32)) (And.intro rfl (And.intro rfl (And.intro rfl (And.intro rfl True.intro))))

theorem dX7_takes_0 : decode cX7_takes 0 = .ok (.aload 4, 2) := by decide +kernel
theorem dX7_takes_2 : decode cX7_takes 2 = .ok (.getfield 293, 3) := by decide +kernel
theorem dX7_takes_5 : decode cX7_takes 5 = .ok (.getstatic 331, 3) := by decide +kernel
theorem dX7_takes_8 : decode cX7_takes 8 = .ok (.if_acmp .ne 20, 3) := by decide +kernel
theorem dX7_takes_11 : decode cX7_takes 11 = .ok (.aload_n 1, 1) := by decide +kernel
theorem dX7_takes_12 : decode cX7_takes 12 = .ok (.aload_n 0, 1) := by decide +kernel
theorem dX7_takes_13 : decode cX7_takes 13 = .ok (.getfield 97, 3) := by decide +kernel
theorem dX7_takes_16 : decode cX7_takes 16 = .ok (.aload 4, 2) := by decide +kernel
theorem dX7_takes_18 : decode cX7_takes 18 = .ok (.getfield 293, 3) := by decide +kernel
theorem dX7_takes_21 : decode cX7_takes 21 = .ok (.getfield 346, 3) := by decide +kernel
theorem dX7_takes_24 : decode cX7_takes 24 = .ok (.iadd, 1) := by decide +kernel
theorem dX7_takes_25 : decode cX7_takes 25 = .ok (.putfield 348, 3) := by decide +kernel
theorem dX7_takes_28 : decode cX7_takes 28 = .ok (.aload 4, 2) := by decide +kernel
theorem dX7_takes_30 : decode cX7_takes 30 = .ok (.getfield 293, 3) := by decide +kernel
theorem dX7_takes_33 : decode cX7_takes 33 = .ok (.invokevirtual 337, 3) := by decide +kernel
theorem dX7_takes_36 : decode cX7_takes 36 = .ok (.ifCond .ne 12, 3) := by decide +kernel
theorem dX7_takes_39 : decode cX7_takes 39 = .ok (.aload 4, 2) := by decide +kernel
theorem dX7_takes_41 : decode cX7_takes 41 = .ok (.getfield 293, 3) := by decide +kernel
theorem dX7_takes_44 : decode cX7_takes 44 = .ok (.getfield 346, 3) := by decide +kernel
theorem dX7_takes_47 : decode cX7_takes 47 = .ok (.ireturn, 1) := by decide +kernel
theorem dX7_takes_48 : decode cX7_takes 48 = .ok (.aload 4, 2) := by decide +kernel
theorem dX7_takes_50 : decode cX7_takes 50 = .ok (.getfield 293, 3) := by decide +kernel
theorem dX7_takes_53 : decode cX7_takes 53 = .ok (.getstatic 343, 3) := by decide +kernel
theorem dX7_takes_56 : decode cX7_takes 56 = .ok (.if_acmp .ne 7, 3) := by decide +kernel
theorem dX7_takes_59 : decode cX7_takes 59 = .ok (.iconst 1, 1) := by decide +kernel
theorem dX7_takes_60 : decode cX7_takes 60 = .ok (.goto 4, 3) := by decide +kernel
theorem dX7_takes_63 : decode cX7_takes 63 = .ok (.iconst 0, 1) := by decide +kernel
theorem dX7_takes_64 : decode cX7_takes 64 = .ok (.istore 5, 2) := by decide +kernel
theorem dX7_takes_66 : decode cX7_takes 66 = .ok (.aload_n 0, 1) := by decide +kernel
theorem dX7_takes_67 : decode cX7_takes 67 = .ok (.getfield 48, 3) := by decide +kernel
theorem dX7_takes_70 : decode cX7_takes 70 = .ok (.aload_n 0, 1) := by decide +kernel
theorem dX7_takes_71 : decode cX7_takes 71 = .ok (.getfield 97, 3) := by decide +kernel
theorem dX7_takes_74 : decode cX7_takes 74 = .ok (.invokevirtual 351, 3) := by decide +kernel
theorem dX7_takes_77 : decode cX7_takes 77 = .ok (.iconst 0, 1) := by decide +kernel
theorem dX7_takes_78 : decode cX7_takes 78 = .ok (.istore 6, 2) := by decide +kernel
theorem dX7_takes_80 : decode cX7_takes 80 = .ok (.iload 6, 2) := by decide +kernel
theorem dX7_takes_82 : decode cX7_takes 82 = .ok (.aload_n 2, 1) := by decide +kernel
theorem dX7_takes_83 : decode cX7_takes 83 = .ok (.getfield 243, 3) := by decide +kernel
theorem dX7_takes_86 : decode cX7_takes 86 = .ok (.invokevirtual 118, 3) := by decide +kernel
theorem dX7_takes_89 : decode cX7_takes 89 = .ok (.if_icmp .ge 79, 3) := by decide +kernel
theorem dX7_takes_92 : decode cX7_takes 92 = .ok (.iload_n 3, 1) := by decide +kernel
theorem dX7_takes_93 : decode cX7_takes 93 = .ok (.iload 6, 2) := by decide +kernel
theorem dX7_takes_95 : decode cX7_takes 95 = .ok (.ishr, 1) := by decide +kernel
theorem dX7_takes_96 : decode cX7_takes 96 = .ok (.iconst 1, 1) := by decide +kernel
theorem dX7_takes_97 : decode cX7_takes 97 = .ok (.iand, 1) := by decide +kernel
theorem dX7_takes_98 : decode cX7_takes 98 = .ok (.ifCond .ne 6, 3) := by decide +kernel
theorem dX7_takes_101 : decode cX7_takes 101 = .ok (.goto 61, 3) := by decide +kernel
theorem dX7_takes_104 : decode cX7_takes 104 = .ok (.aload_n 2, 1) := by decide +kernel
theorem dX7_takes_105 : decode cX7_takes 105 = .ok (.getfield 243, 3) := by decide +kernel
theorem dX7_takes_108 : decode cX7_takes 108 = .ok (.iload 6, 2) := by decide +kernel
theorem dX7_takes_110 : decode cX7_takes 110 = .ok (.invokevirtual 122, 3) := by decide +kernel
theorem dX7_takes_113 : decode cX7_takes 113 = .ok (.checkcast 204, 3) := by decide +kernel
theorem dX7_takes_116 : decode cX7_takes 116 = .ok (.aload 4, 2) := by decide +kernel
theorem dX7_takes_118 : decode cX7_takes 118 = .ok (.invokestatic 340, 3) := by decide +kernel
theorem dX7_takes_121 : decode cX7_takes 121 = .ok (.istore 7, 2) := by decide +kernel
theorem dX7_takes_123 : decode cX7_takes 123 = .ok (.iload 5, 2) := by decide +kernel
theorem dX7_takes_125 : decode cX7_takes 125 = .ok (.ifCond .eq 20, 3) := by decide +kernel
theorem dX7_takes_128 : decode cX7_takes 128 = .ok (.aload_n 0, 1) := by decide +kernel
theorem dX7_takes_129 : decode cX7_takes 129 = .ok (.getfield 48, 3) := by decide +kernel
theorem dX7_takes_132 : decode cX7_takes 132 = .ok (.iload 7, 2) := by decide +kernel
theorem dX7_takes_134 : decode cX7_takes 134 = .ok (.aload 4, 2) := by decide +kernel
theorem dX7_takes_136 : decode cX7_takes 136 = .ok (.invokevirtual 353, 3) := by decide +kernel
theorem dX7_takes_139 : decode cX7_takes 139 = .ok (.invokevirtual 356, 3) := by decide +kernel
theorem dX7_takes_142 : decode cX7_takes 142 = .ok (.goto 20, 3) := by decide +kernel
theorem dX7_takes_145 : decode cX7_takes 145 = .ok (.aload_n 0, 1) := by decide +kernel
theorem dX7_takes_146 : decode cX7_takes 146 = .ok (.getfield 48, 3) := by decide +kernel
theorem dX7_takes_149 : decode cX7_takes 149 = .ok (.iload 7, 2) := by decide +kernel
theorem dX7_takes_151 : decode cX7_takes 151 = .ok (.aload_n 0, 1) := by decide +kernel
theorem dX7_takes_152 : decode cX7_takes 152 = .ok (.getfield 75, 3) := by decide +kernel
theorem dX7_takes_155 : decode cX7_takes 155 = .ok (.aload_n 0, 1) := by decide +kernel
theorem dX7_takes_156 : decode cX7_takes 156 = .ok (.getfield 97, 3) := by decide +kernel
theorem dX7_takes_159 : decode cX7_takes 159 = .ok (.invokevirtual 360, 3) := by decide +kernel
theorem dX7_takes_162 : decode cX7_takes 162 = .ok (.iinc 6 1, 3) := by decide +kernel
theorem dX7_takes_165 : decode cX7_takes 165 = .ok (.goto (-85), 3) := by decide +kernel
theorem dX7_takes_168 : decode cX7_takes 168 = .ok (.iload 5, 2) := by decide +kernel
theorem dX7_takes_170 : decode cX7_takes 170 = .ok (.ifCond .ne 36, 3) := by decide +kernel
theorem dX7_takes_173 : decode cX7_takes 173 = .ok (.aload_n 0, 1) := by decide +kernel
theorem dX7_takes_174 : decode cX7_takes 174 = .ok (.getfield 48, 3) := by decide +kernel
theorem dX7_takes_177 : decode cX7_takes 177 = .ok (.getfield 364, 3) := by decide +kernel
theorem dX7_takes_180 : decode cX7_takes 180 = .ok (.aload_n 0, 1) := by decide +kernel
theorem dX7_takes_181 : decode cX7_takes 181 = .ok (.getfield 97, 3) := by decide +kernel
theorem dX7_takes_184 : decode cX7_takes 184 = .ok (.isub, 1) := by decide +kernel
theorem dX7_takes_185 : decode cX7_takes 185 = .ok (.aload 4, 2) := by decide +kernel
theorem dX7_takes_187 : decode cX7_takes 187 = .ok (.invokevirtual 353, 3) := by decide +kernel
theorem dX7_takes_190 : decode cX7_takes 190 = .ok (.ifCond .eq 13, 3) := by decide +kernel
theorem dX7_takes_193 : decode cX7_takes 193 = .ok (.aload_n 0, 1) := by decide +kernel
theorem dX7_takes_194 : decode cX7_takes 194 = .ok (.getfield 48, 3) := by decide +kernel
theorem dX7_takes_197 : decode cX7_takes 197 = .ok (.getfield 367, 3) := by decide +kernel
theorem dX7_takes_200 : decode cX7_takes 200 = .ok (.goto 4, 3) := by decide +kernel
theorem dX7_takes_203 : decode cX7_takes 203 = .ok (.iconst 0, 1) := by decide +kernel
theorem dX7_takes_204 : decode cX7_takes 204 = .ok (.iadd, 1) := by decide +kernel
theorem dX7_takes_205 : decode cX7_takes 205 = .ok (.ireturn, 1) := by decide +kernel
theorem dX7_takes_206 : decode cX7_takes 206 = .ok (.aload_n 1, 1) := by decide +kernel
theorem dX7_takes_207 : decode cX7_takes 207 = .ok (.aload_n 0, 1) := by decide +kernel
theorem dX7_takes_208 : decode cX7_takes 208 = .ok (.getfield 97, 3) := by decide +kernel
theorem dX7_takes_211 : decode cX7_takes 211 = .ok (.iconst 1, 1) := by decide +kernel
theorem dX7_takes_212 : decode cX7_takes 212 = .ok (.aload_n 0, 1) := by decide +kernel
theorem dX7_takes_213 : decode cX7_takes 213 = .ok (.getfield 48, 3) := by decide +kernel
theorem dX7_takes_216 : decode cX7_takes 216 = .ok (.getfield 370, 3) := by decide +kernel
theorem dX7_takes_219 : decode cX7_takes 219 = .ok (.invokestatic 373, 3) := by decide +kernel
theorem dX7_takes_222 : decode cX7_takes 222 = .ok (.iadd, 1) := by decide +kernel
theorem dX7_takes_223 : decode cX7_takes 223 = .ok (.putfield 379, 3) := by decide +kernel
theorem dX7_takes_226 : decode cX7_takes 226 = .ok (.iconst 2, 1) := by decide +kernel
theorem dX7_takes_227 : decode cX7_takes 227 = .ok (.aload_n 0, 1) := by decide +kernel
theorem dX7_takes_228 : decode cX7_takes 228 = .ok (.getfield 48, 3) := by decide +kernel
theorem dX7_takes_231 : decode cX7_takes 231 = .ok (.getfield 370, 3) := by decide +kernel
theorem dX7_takes_234 : decode cX7_takes 234 = .ok (.iadd, 1) := by decide +kernel
theorem dX7_takes_235 : decode cX7_takes 235 = .ok (.ireturn, 1) := by decide +kernel
def fX7_takes (n : Nat) (a0 : Nat) (p1 : Option Nat) (p2 : Option Nat) (p3 : Int32) (p4 : Option Nat) (A : AH) : Option (Int32 × AH) :=
(gR A p4 5 6).bind fun v1 =>
jn (fun (A3 : AH) =>
(gR A3 p4 5 6).bind fun v4 =>
(rcS A3 v4).bind fun v5 =>
(fX6_isMemory v5 A3).bind fun g6 =>
if g6 = 0 then ((gT A3 v4).bind fun v8 =>
some (v8, A3)) else
jn (fun (y10 : Int32) =>
(gR A3 (some a0) 7 10).bind fun v11 =>
(gI A3 (some a0) 7 17).bind fun v12 =>
(rcv A3 v11 4).bind fun v13 =>
(fX4_begin n v13 v12 A3).bind fun g14 =>
jl (fixG (fun _ _ => none) (fun (rc18 : (Int32) → (AH) → Option (Int32 × AH)) (x16 : Int32) (A17 : AH) =>
(gR A17 p2 13 2).bind fun v19 =>
(rcv A17 v19 0).bind fun v20 =>
(fJ2_size v20 A17).bind fun g21 =>
if g21 ≤ x16 then (if y10 = 0 then ((gR A17 (some a0) 7 10).bind fun v24 =>
(gI A17 v24 4 7).bind fun v25 =>
(gI A17 (some a0) 7 17).bind fun v26 =>
(rcv A17 p4 5).bind fun v27 =>
(fX5_isAtomic v27 A17).bind fun g28 =>
jn (fun (y30 : Int32) =>
some (((v25 - v26) + y30), A17)) fun j29 =>
if g28 = 0 then (j29 (0 : Int32)) else
(gI A17 v24 4 6).bind fun v32 =>
j29 v32) else
(gI A17 (some a0) 7 17).bind fun v33 =>
(gR A17 (some a0) 7 10).bind fun v34 =>
(gI A17 v34 4 5).bind fun v35 =>
(pI A17 p1 8 3 (v33 + (if (1 : Int32) < v35 then v35 else (1 : Int32)))).bind fun A36 =>
(gR A36 (some a0) 7 10).bind fun v37 =>
(gI A36 v37 4 5).bind fun v38 =>
some (((2 : Int32) + v38), A36)) else
jn (fun (A40 : AH) =>
rc18 (x16 + (1 : Int32)) A40) fun j39 =>
if ((p3 >>> (x16 &&& 31)) &&& (1 : Int32)) = 0 then (j39 A17) else
(fJ2_get v20 x16 A17).bind fun g42 =>
(cst A17 g42 14).bind fun v43 =>
(fX7_address g42 p4 A17).bind fun g44 =>
if y10 = 0 then ((gR A17 (some a0) 7 10).bind fun v46 =>
(gR A17 (some a0) 7 9).bind fun v47 =>
(gI A17 (some a0) 7 17).bind fun v48 =>
(rcv A17 v46 4).bind fun v49 =>
(fX4_askGlobal v49 g44 v47 v48 A17).bind fun g50 =>
j39 g50) else
(gR A17 (some a0) 7 10).bind fun v51 =>
(rcv A17 p4 5).bind fun v52 =>
(fX5_isAtomic v52 A17).bind fun g53 =>
(rcv A17 v51 4).bind fun v54 =>
(fX4_askShared v54 g44 g53 A17).bind fun g55 =>
j39 g55) n) fun j15 =>
j15 (0 : Int32) g14) fun j9 =>
if v4 = (some (hA A3 5)) then (j9 (1 : Int32)) else
j9 (0 : Int32)) fun j2 =>
if v1 = (some (hA A 4)) then ((gI A (some a0) 7 17).bind fun v58 =>
(gT A v1).bind fun v59 =>
(pI A p1 8 2 (v58 + v59)).bind fun A60 =>
j2 A60) else
j2 A

set_option maxHeartbeats 4000000 in
set_option maxRecDepth 100000 in
theorem sX7_takes (l : Launch) (D : DE) (n : Nat) (a0 : Nat) (p1 : Option Nat) (p2 : Option Nat) (p3 : Int32) (p4 : Option Nat) (A : AH) (g : Int32 × AH) (hg : fX7_takes n a0 p1 p2 p3 p4 A = some g) : Sm l D yX7_takes cX7_takes 8 (some Jvm.ClassFile.FieldType.int) 5 113 [tR (some a0), tR p1, tR p2, tI p3, tR p4] A (wI g).1 (wI g).2 := by
  refine Sm.of (ω := wI) (fX7_takes n a0 p1 p2 p3 p4 A) [some (tR (some a0)), some (tR p1), some (tR p2), some (tI p3), some (tR p4), none, none, none] (by decide) (Nat.le_of_ble_eq_true rfl) rfl hg ?_
  intro p e R s m args below meth c X hin
  have X : Cx D cX7_takes RX7 8 5 113 (some Jvm.ClassFile.FieldType.int) p R s m args meth c := X
  unfold fX7_takes
  refine rf_aload X rfl dX7_takes_0 ?_
  refine rf_bind (fun v1 hv1 => ?_)
  refine rf_getR X fl_X7_293 hv1 dX7_takes_2 ?_
  refine rf_getsR X 4 (fun D => by simp [statD]) (Or.inl q1324) dX7_takes_5 ?_
  refine rf_jn2 (fun i => ∀ (A3 : AH), RfX X l e below wI (i A3) 28 [some (tR (some a0)), some (tR p1), some (tR p2), some (tI p3), some (tR p4), none, none, none] [] A3) ?_ (fun j2 hj2 => ?_)
  · intro A3
    refine rf_aload X rfl dX7_takes_28 ?_
    refine rf_bind (fun v4 hv4 => ?_)
    refine rf_getR X fl_X7_293 hv4 dX7_takes_30 ?_
    refine rf_bind (fun v5 hv5 => ?_)
    refine rf_bind (fun g6 hg6 => ?_)
    refine rf_callSort X rfl q1325 q1266 q1267 q105 q1268 pl_yX6_isMemory ⟨Nat.le_of_ble_eq_true rfl, Nat.le_of_ble_eq_true rfl⟩ (Nat.le_of_ble_eq_true rfl) hv5 (sX6_isMemory l D v5 A3 g6 hg6) dX7_takes_33 ?_
    refine rf_if_ne X (tgt := 48) rfl dX7_takes_36 (fun c7 => rf_neg c7 ?_) (fun c7 => rf_pos c7 ?_)
    · refine rf_aload X rfl dX7_takes_48 ?_
      refine rf_getR X fl_X7_293 hv4 dX7_takes_50 ?_
      refine rf_getsR X 5 (fun D => by simp [statD]) (Or.inl q1329) dX7_takes_53 ?_
      refine rf_jn2 (fun i => ∀ (y10 : Int32), RfX X l e below wI (i y10) 64 [some (tR (some a0)), some (tR p1), some (tR p2), some (tI p3), some (tR p4), none, none, none] [tI y10] A3) ?_ (fun j9 hj9 => ?_)
      · intro y10
        refine rf_istore X (ls' := [some (tR (some a0)), some (tR p1), some (tR p2), some (tI p3), some (tR p4), some (tI y10), none, none]) rfl (by decide) dX7_takes_64 ?_
        refine rf_aload_n X rfl dX7_takes_66 ?_
        refine rf_bind (fun v11 hv11 => ?_)
        refine rf_getR X fl_X7_48 hv11 dX7_takes_67 ?_
        refine rf_aload_n X rfl dX7_takes_70 ?_
        refine rf_bind (fun v12 hv12 => ?_)
        refine rf_getI X fl_X7_97 hv12 dX7_takes_71 ?_
        refine rf_bind (fun v13 hv13 => ?_)
        refine rf_bind (fun g14 hg14 => ?_)
        refine rf_callVU X c_X7_351 ⟨Nat.le_of_ble_eq_true rfl, Nat.le_of_ble_eq_true rfl⟩ [tI v12] rfl (Nat.le_of_ble_eq_true rfl) hv13 (sX4_begin l D n v13 v12 A3 g14 hg14) dX7_takes_74 ?_
        refine rf_iconst X (0 : Int32) rfl dX7_takes_77 ?_
        refine rf_istore X (ls' := [some (tR (some a0)), some (tR p1), some (tR p2), some (tI p3), some (tR p4), some (tI y10), some (tI (0 : Int32)), none]) rfl (by decide) dX7_takes_78 ?_
        refine rf_fix (fun i => ∀ (x16 : Int32) (A17 : AH), RfX X l e below wI (i x16 A17) 80 [some (tR (some a0)), some (tR p1), some (tR p2), some (tI p3), some (tR p4), some (tI y10), some (tI x16), none] [] A17) (fun _ _ => rf_none) (fun rc18 hrc18 => ?_) (fun j15 hj15 => ?_)
        · intro x16 A17
          refine rf_iload X rfl dX7_takes_80 ?_
          refine rf_aload_n X rfl dX7_takes_82 ?_
          refine rf_bind (fun v19 hv19 => ?_)
          refine rf_getR X fl_X7_243 hv19 dX7_takes_83 ?_
          refine rf_bind (fun v20 hv20 => ?_)
          refine rf_bind (fun g21 hg21 => ?_)
          refine rf_callVI X c_X7_118 ⟨Nat.le_of_ble_eq_true rfl, Nat.le_of_ble_eq_true rfl⟩ [] rfl (Nat.le_of_ble_eq_true rfl) hv20 (sJ2_size l D v20 A17 g21 hg21) dX7_takes_86 ?_
          refine rf_icmp_ge X (tgt := 168) rfl dX7_takes_89 (fun c22 => rf_pos c22 ?_) (fun c22 => rf_neg c22 ?_)
          · refine rf_iload X rfl dX7_takes_168 ?_
            refine rf_if_ne X (tgt := 206) rfl dX7_takes_170 (fun c23 => rf_neg c23 ?_) (fun c23 => rf_pos c23 ?_)
            · refine rf_aload_n X rfl dX7_takes_206 ?_
              refine rf_aload_n X rfl dX7_takes_207 ?_
              refine rf_bind (fun v33 hv33 => ?_)
              refine rf_getI X fl_X7_97 hv33 dX7_takes_208 ?_
              refine rf_iconst X (1 : Int32) rfl dX7_takes_211 ?_
              refine rf_aload_n X rfl dX7_takes_212 ?_
              refine rf_bind (fun v34 hv34 => ?_)
              refine rf_getR X fl_X7_48 hv34 dX7_takes_213 ?_
              refine rf_bind (fun v35 hv35 => ?_)
              refine rf_getI X fl_X7_370 hv35 dX7_takes_216 ?_
              refine rf_mmax X q1096 ⟨by decide, by decide⟩ (Nat.le_of_ble_eq_true rfl) dX7_takes_219 ?_
              refine rf_iadd X dX7_takes_222 ?_
              refine rf_bind (fun A36 hA36 => ?_)
              refine rf_putI X fp_X7_379 (fun h => by cases h) hA36 dX7_takes_223 ?_
              refine rf_iconst X (2 : Int32) rfl dX7_takes_226 ?_
              refine rf_aload_n X rfl dX7_takes_227 ?_
              refine rf_bind (fun v37 hv37 => ?_)
              refine rf_getR X fl_X7_48 hv37 dX7_takes_228 ?_
              refine rf_bind (fun v38 hv38 => ?_)
              refine rf_getI X fl_X7_370 hv38 dX7_takes_231 ?_
              refine rf_iadd X dX7_takes_234 ?_
              exact rf_iret X rfl dX7_takes_235
            refine rf_aload_n X rfl dX7_takes_173 ?_
            refine rf_bind (fun v24 hv24 => ?_)
            refine rf_getR X fl_X7_48 hv24 dX7_takes_174 ?_
            refine rf_bind (fun v25 hv25 => ?_)
            refine rf_getI X fl_X7_364 hv25 dX7_takes_177 ?_
            refine rf_aload_n X rfl dX7_takes_180 ?_
            refine rf_bind (fun v26 hv26 => ?_)
            refine rf_getI X fl_X7_97 hv26 dX7_takes_181 ?_
            refine rf_isub X dX7_takes_184 ?_
            refine rf_aload X rfl dX7_takes_185 ?_
            refine rf_bind (fun v27 hv27 => ?_)
            refine rf_bind (fun g28 hg28 => ?_)
            refine rf_callVI X c_X7_353 ⟨Nat.le_of_ble_eq_true rfl, Nat.le_of_ble_eq_true rfl⟩ [] rfl (Nat.le_of_ble_eq_true rfl) hv27 (sX5_isAtomic l D v27 A17 g28 hg28) dX7_takes_187 ?_
            refine rf_jn2 (fun i => ∀ (y30 : Int32), RfX X l e below wI (i y30) 204 [none, none, none, none, none, none, none, none] [tI y30, tI (v25 - v26)] A17) ?_ (fun j29 hj29 => ?_)
            · intro y30
              refine rf_iadd X dX7_takes_204 ?_
              exact rf_iret X rfl dX7_takes_205
            refine rf_if_eq X (tgt := 203) rfl dX7_takes_190 (fun c31 => rf_pos c31 ?_) (fun c31 => rf_neg c31 ?_)
            · refine rf_iconst X (0 : Int32) rfl dX7_takes_203 ?_
              exact rf_go (hj29 (0 : Int32)) True.intro
            refine rf_aload_n X rfl dX7_takes_193 ?_
            refine rf_getR X fl_X7_48 hv24 dX7_takes_194 ?_
            refine rf_bind (fun v32 hv32 => ?_)
            refine rf_getI X fl_X7_367 hv32 dX7_takes_197 ?_
            refine rf_goto X (tgt := 204) rfl dX7_takes_200 ?_
            exact rf_go (hj29 v32) True.intro
          refine rf_iload_n X rfl dX7_takes_92 ?_
          refine rf_iload X rfl dX7_takes_93 ?_
          refine rf_ishr X dX7_takes_95 ?_
          refine rf_iconst X (1 : Int32) rfl dX7_takes_96 ?_
          refine rf_iand X dX7_takes_97 ?_
          refine rf_jn2 (fun i => ∀ (A40 : AH), RfX X l e below wI (i A40) 162 [some (tR (some a0)), some (tR p1), some (tR p2), some (tI p3), some (tR p4), some (tI y10), some (tI x16), none] [] A40) ?_ (fun j39 hj39 => ?_)
          · intro A40
            refine rf_iinc X (x16 + (1 : Int32)) rfl rfl (ls' := [some (tR (some a0)), some (tR p1), some (tR p2), some (tI p3), some (tR p4), some (tI y10), some (tI (x16 + (1 : Int32))), none]) rfl (by decide) dX7_takes_162 ?_
            refine rf_goto X (tgt := 80) rfl dX7_takes_165 ?_
            exact rf_go (hrc18 (x16 + (1 : Int32)) A40) (And.intro rfl (And.intro rfl (And.intro rfl (And.intro rfl (And.intro rfl (And.intro rfl (And.intro rfl True.intro)))))))
          refine rf_if_ne X (tgt := 104) rfl dX7_takes_98 (fun c41 => rf_neg c41 ?_) (fun c41 => rf_pos c41 ?_)
          · refine rf_aload_n X rfl dX7_takes_104 ?_
            refine rf_getR X fl_X7_243 hv19 dX7_takes_105 ?_
            refine rf_iload X rfl dX7_takes_108 ?_
            refine rf_bind (fun g42 hg42 => ?_)
            refine rf_callVI X c_X7_122 ⟨Nat.le_of_ble_eq_true rfl, Nat.le_of_ble_eq_true rfl⟩ [tI x16] rfl (Nat.le_of_ble_eq_true rfl) hv20 (sJ2_get l D v20 x16 A17 g42 hg42) dX7_takes_110 ?_
            refine rf_bind (fun v43 hv43 => ?_)
            refine rf_cast X (ci := 14) rfl rfl q1251 hv43 dX7_takes_113 ?_
            refine rf_aload X rfl dX7_takes_116 ?_
            refine rf_bind (fun g44 hg44 => ?_)
            refine rf_callSI X c_X7_340 ⟨Nat.le_of_ble_eq_true rfl, Nat.le_of_ble_eq_true rfl⟩ [tR g42, tR p4] rfl (Nat.le_of_ble_eq_true rfl) (sX7_address l D g42 p4 A17 g44 hg44) dX7_takes_118 ?_
            refine rf_istore X (ls' := [some (tR (some a0)), some (tR p1), some (tR p2), some (tI p3), some (tR p4), some (tI y10), some (tI x16), some (tI g44)]) rfl (by decide) dX7_takes_121 ?_
            refine rf_iload X rfl dX7_takes_123 ?_
            refine rf_if_eq X (tgt := 145) rfl dX7_takes_125 (fun c45 => rf_pos c45 ?_) (fun c45 => rf_neg c45 ?_)
            · refine rf_aload_n X rfl dX7_takes_145 ?_
              refine rf_bind (fun v46 hv46 => ?_)
              refine rf_getR X fl_X7_48 hv46 dX7_takes_146 ?_
              refine rf_iload X rfl dX7_takes_149 ?_
              refine rf_aload_n X rfl dX7_takes_151 ?_
              refine rf_bind (fun v47 hv47 => ?_)
              refine rf_getR X fl_X7_75 hv47 dX7_takes_152 ?_
              refine rf_aload_n X rfl dX7_takes_155 ?_
              refine rf_bind (fun v48 hv48 => ?_)
              refine rf_getI X fl_X7_97 hv48 dX7_takes_156 ?_
              refine rf_bind (fun v49 hv49 => ?_)
              refine rf_bind (fun g50 hg50 => ?_)
              refine rf_callVU X c_X7_360 ⟨Nat.le_of_ble_eq_true rfl, Nat.le_of_ble_eq_true rfl⟩ [tI g44, tR v47, tI v48] rfl (Nat.le_of_ble_eq_true rfl) hv49 (sX4_askGlobal l D v49 g44 v47 v48 A17 g50 hg50) dX7_takes_159 ?_
              exact rf_go (hj39 g50) (And.intro rfl (And.intro rfl (And.intro rfl (And.intro rfl (And.intro rfl (And.intro rfl (And.intro rfl True.intro)))))))
            refine rf_aload_n X rfl dX7_takes_128 ?_
            refine rf_bind (fun v51 hv51 => ?_)
            refine rf_getR X fl_X7_48 hv51 dX7_takes_129 ?_
            refine rf_iload X rfl dX7_takes_132 ?_
            refine rf_aload X rfl dX7_takes_134 ?_
            refine rf_bind (fun v52 hv52 => ?_)
            refine rf_bind (fun g53 hg53 => ?_)
            refine rf_callVI X c_X7_353 ⟨Nat.le_of_ble_eq_true rfl, Nat.le_of_ble_eq_true rfl⟩ [] rfl (Nat.le_of_ble_eq_true rfl) hv52 (sX5_isAtomic l D v52 A17 g53 hg53) dX7_takes_136 ?_
            refine rf_bind (fun v54 hv54 => ?_)
            refine rf_bind (fun g55 hg55 => ?_)
            refine rf_callVU X c_X7_356 ⟨Nat.le_of_ble_eq_true rfl, Nat.le_of_ble_eq_true rfl⟩ [tI g44, tI g53] rfl (Nat.le_of_ble_eq_true rfl) hv54 (sX4_askShared l D v54 g44 g53 A17 g55 hg55) dX7_takes_139 ?_
            refine rf_goto X (tgt := 162) rfl dX7_takes_142 ?_
            exact rf_go (hj39 g55) (And.intro rfl (And.intro rfl (And.intro rfl (And.intro rfl (And.intro rfl (And.intro rfl (And.intro rfl True.intro)))))))
          refine rf_goto X (tgt := 162) rfl dX7_takes_101 ?_
          exact rf_go (hj39 A17) (And.intro rfl (And.intro rfl (And.intro rfl (And.intro rfl (And.intro rfl (And.intro rfl (And.intro rfl True.intro)))))))
        exact rf_go (hj15 (0 : Int32) g14) (And.intro rfl (And.intro rfl (And.intro rfl (And.intro rfl (And.intro rfl (And.intro rfl (And.intro rfl True.intro)))))))
      refine rf_acmp_ne X (tgt := 63) rfl dX7_takes_56 (fun c56 => rf_neg c56 ?_) (fun c56 => rf_pos c56 ?_)
      · refine rf_iconst X (0 : Int32) rfl dX7_takes_63 ?_
        exact rf_go (hj9 (0 : Int32)) (And.intro rfl (And.intro rfl (And.intro rfl (And.intro rfl (And.intro rfl True.intro)))))
      refine rf_iconst X (1 : Int32) rfl dX7_takes_59 ?_
      refine rf_goto X (tgt := 64) rfl dX7_takes_60 ?_
      exact rf_go (hj9 (1 : Int32)) (And.intro rfl (And.intro rfl (And.intro rfl (And.intro rfl (And.intro rfl True.intro)))))
    refine rf_aload X rfl dX7_takes_39 ?_
    refine rf_getR X fl_X7_293 hv4 dX7_takes_41 ?_
    refine rf_bind (fun v8 hv8 => ?_)
    refine rf_getT X q2050 hv8 dX7_takes_44 ?_
    exact rf_iret X rfl dX7_takes_47
  refine rf_acmp_ne X (tgt := 28) rfl dX7_takes_8 (fun c57 => rf_neg c57 ?_) (fun c57 => rf_pos c57 ?_)
  · exact rf_go (hj2 A) (And.intro rfl (And.intro rfl (And.intro rfl (And.intro rfl (And.intro rfl True.intro)))))
  refine rf_aload_n X rfl dX7_takes_11 ?_
  refine rf_aload_n X rfl dX7_takes_12 ?_
  refine rf_bind (fun v58 hv58 => ?_)
  refine rf_getI X fl_X7_97 hv58 dX7_takes_13 ?_
  refine rf_aload X rfl dX7_takes_16 ?_
  refine rf_getR X fl_X7_293 hv1 dX7_takes_18 ?_
  refine rf_bind (fun v59 hv59 => ?_)
  refine rf_getT X q2050 hv59 dX7_takes_21 ?_
  refine rf_iadd X dX7_takes_24 ?_
  refine rf_bind (fun A60 hA60 => ?_)
  refine rf_putI X fp_X7_348 (fun h => by cases h) hA60 dX7_takes_25 ?_
  exact rf_go (hj2 A60) (And.intro rfl (And.intro rfl (And.intro rfl (And.intro rfl (And.intro rfl True.intro)))))

