/-! 20.g03: printed by gen/parts.py -/
set_option maxRecDepth 100000
theorem fp_X2_10 : FL RX2 10 2 0 (.object "java/util/ArrayList") true := ⟨RX2, TX2, 3, tyX2, "WarpMill$Pool", "", rfl, by decide, in_X2, tyX2_ok, nmX2, Or.inl q478, Or.inl rfl, rfl, rfl, fun _ => ⟨rfl, q478⟩⟩
theorem fp_X2_16 : FL RX2 16 2 1 (.object "java/util/ArrayList") true := ⟨RX2, TX2, 3, tyX2, "WarpMill$Pool", "", rfl, by decide, in_X2, tyX2_ok, nmX2, Or.inl q479, Or.inl rfl, rfl, rfl, fun _ => ⟨rfl, q479⟩⟩
theorem fp_X2_19 : FL RX2 19 2 2 (.object "java/util/ArrayList") true := ⟨RX2, TX2, 3, tyX2, "WarpMill$Pool", "", rfl, by decide, in_X2, tyX2_ok, nmX2, Or.inl q480, Or.inl rfl, rfl, rfl, fun _ => ⟨rfl, q480⟩⟩
theorem fp_X3_10 : FL RX3 10 3 0 (.object "java/util/ArrayList") true := ⟨RX3, TX3, 3, tyX3, "WarpMill$Heap", "", rfl, by decide, in_X3, tyX3_ok, nmX3, Or.inl q497, Or.inl rfl, rfl, rfl, fun _ => ⟨rfl, q497⟩⟩
theorem fp_X3_16 : FL RX3 16 3 1 (.object "java/util/ArrayList") true := ⟨RX3, TX3, 3, tyX3, "WarpMill$Heap", "", rfl, by decide, in_X3, tyX3_ok, nmX3, Or.inl q500, Or.inl rfl, rfl, rfl, fun _ => ⟨rfl, q500⟩⟩
theorem fp_X4_14 : FL RX4 14 4 0 (.object "java/util/BitSet") true := ⟨RX4, TX4, 8, tyX4, "WarpMill$Coalescer", "", rfl, by decide, in_X4, tyX4_ok, nmX4, Or.inl q539, Or.inl rfl, rfl, rfl, fun _ => ⟨rfl, q539⟩⟩
theorem fp_X4_20 : FL RX4 20 4 1 (.object "java/util/BitSet") true := ⟨RX4, TX4, 8, tyX4, "WarpMill$Coalescer", "", rfl, by decide, in_X4, tyX4_ok, nmX4, Or.inl q540, Or.inl rfl, rfl, rfl, fun _ => ⟨rfl, q540⟩⟩
theorem fp_X4_23 : FL RX4 23 4 2 (.array .int) true := ⟨RX4, TX4, 8, tyX4, "WarpMill$Coalescer", "", rfl, by decide, in_X4, tyX4_ok, nmX4, Or.inl q541, Or.inl rfl, rfl, rfl, fun _ => ⟨rfl, q541⟩⟩
theorem fp_X4_27 : FL RX4 27 4 3 (.int) false := ⟨RX4, TX4, 8, tyX4, "WarpMill$Coalescer", "", rfl, by decide, in_X4, tyX4_ok, nmX4, Or.inl q542, Or.inl rfl, rfl, rfl, fun h => by cases h⟩
theorem fp_X4_31 : FL RX4 31 4 4 (.array .int) true := ⟨RX4, TX4, 8, tyX4, "WarpMill$Coalescer", "", rfl, by decide, in_X4, tyX4_ok, nmX4, Or.inl q544, Or.inl rfl, rfl, rfl, fun _ => ⟨rfl, q544⟩⟩
theorem fl_X5_9 : FLr RX5 9 5 0 := ⟨RX5, TX5, 7, "WarpMill$Word", "", rfl, by decide, in_X5, Or.inl q596, Or.inl rfl⟩
theorem fl_X5_27 : FLr RX5 27 5 5 := ⟨RX5, TX5, 7, "WarpMill$Word", "", rfl, by decide, in_X5, Or.inl q610, Or.inl rfl⟩
theorem fp_X5_9 : FL RX5 9 5 0 (.int) true := ⟨RX5, TX5, 7, tyX5, "WarpMill$Word", "", rfl, by decide, in_X5, tyX5_ok, nmX5, Or.inl q596, Or.inl rfl, rfl, rfl, fun _ => ⟨rfl, q596⟩⟩
theorem fp_X5_15 : FL RX5 15 5 1 (.int) true := ⟨RX5, TX5, 7, tyX5, "WarpMill$Word", "", rfl, by decide, in_X5, tyX5_ok, nmX5, Or.inl q599, Or.inl rfl, rfl, rfl, fun _ => ⟨rfl, q599⟩⟩
theorem fp_X5_18 : FL RX5 18 5 2 (.int) true := ⟨RX5, TX5, 7, tyX5, "WarpMill$Word", "", rfl, by decide, in_X5, tyX5_ok, nmX5, Or.inl q602, Or.inl rfl, rfl, rfl, fun _ => ⟨rfl, q602⟩⟩
theorem fp_X5_21 : FL RX5 21 5 3 (.int) true := ⟨RX5, TX5, 7, tyX5, "WarpMill$Word", "", rfl, by decide, in_X5, tyX5_ok, nmX5, Or.inl q605, Or.inl rfl, rfl, rfl, fun _ => ⟨rfl, q605⟩⟩
theorem fp_X5_24 : FL RX5 24 5 4 (.int) true := ⟨RX5, TX5, 7, tyX5, "WarpMill$Word", "", rfl, by decide, in_X5, tyX5_ok, nmX5, Or.inl q608, Or.inl rfl, rfl, rfl, fun _ => ⟨rfl, q608⟩⟩
theorem fp_X5_27 : FL RX5 27 5 5 (.int) true := ⟨RX5, TX5, 7, tyX5, "WarpMill$Word", "", rfl, by decide, in_X5, tyX5_ok, nmX5, Or.inl q610, Or.inl rfl, rfl, rfl, fun _ => ⟨rfl, q610⟩⟩
theorem fp_X5_34 : FL RX5 34 5 6 (.object "WarpMill$Sort") true := ⟨RX5, TX5, 7, tyX5, "WarpMill$Word", "", rfl, by decide, in_X5, tyX5_ok, nmX5, Or.inl q612, Or.inl rfl, rfl, rfl, fun _ => ⟨rfl, q612⟩⟩
theorem fl_X3_10 : FLr RX3 10 3 0 := ⟨RX3, TX3, 3, "WarpMill$Heap", "", rfl, by decide, in_X3, Or.inl q497, Or.inl rfl⟩
theorem fp_X3_34 : FL RX3 34 3 2 (.int) false := ⟨RX3, TX3, 3, tyX3, "WarpMill$Heap", "", rfl, by decide, in_X3, tyX3_ok, nmX3, Or.inl q501, Or.inl rfl, rfl, rfl, fun h => by cases h⟩
theorem fl_X3_16 : FLr RX3 16 3 1 := ⟨RX3, TX3, 3, "WarpMill$Heap", "", rfl, by decide, in_X3, Or.inl q500, Or.inl rfl⟩
theorem fp_X8_9 : FL RX8 9 8 0 (.array (.object "WarpMill$Warp")) true := ⟨RX8, TX8, 5, tyX8, "WarpMill$Unit", "", rfl, by decide, in_X8, tyX8_ok, nmX8, Or.inl q727, Or.inl rfl, rfl, rfl, fun _ => ⟨rfl, q727⟩⟩
theorem fp_X8_15 : FL RX8 15 8 1 (.int) false := ⟨RX8, TX8, 5, tyX8, "WarpMill$Unit", "", rfl, by decide, in_X8, tyX8_ok, nmX8, Or.inl q730, Or.inl rfl, rfl, rfl, fun h => by cases h⟩
theorem fp_X10_9 : FL RX10 9 10 0 (.array .int) true := ⟨RX10, TX10, 2, tyX10, "WarpMill$Gate", "", rfl, by decide, in_X10, tyX10_ok, nmX10, Or.inl q768, Or.inl rfl, rfl, rfl, fun _ => ⟨rfl, q768⟩⟩
theorem fl_X10_9 : FLr RX10 9 10 0 := ⟨RX10, TX10, 2, "WarpMill$Gate", "", rfl, by decide, in_X10, Or.inl q768, Or.inl rfl⟩
theorem fp_X9_14 : FL RX9 14 9 0 (.object "java/util/ArrayList") true := ⟨RX9, TX9, 3, tyX9, "WarpMill$Cache", "", rfl, by decide, in_X9, tyX9_ok, nmX9, Or.inl q780, Or.inl rfl, rfl, rfl, fun _ => ⟨rfl, q780⟩⟩
theorem fl_X9_14 : FLr RX9 14 9 0 := ⟨RX9, TX9, 3, "WarpMill$Cache", "", rfl, by decide, in_X9, Or.inl q780, Or.inl rfl⟩
theorem nw_X2_7 : NW RX2 7 0 dfJ2 := ⟨RJ2, TJ2, 3, tyJ2, rfl, in_J2, tyJ2_ok, q472, q127, q82, rfl, by decide⟩
theorem nw_X3_7 : NW RX3 7 0 dfJ2 := ⟨RJ2, TJ2, 3, tyJ2, rfl, in_J2, tyJ2_ok, q495, q127, q82, rfl, by decide⟩
theorem nw_X4_9 : NW RX4 9 6 dfJ17 := ⟨RJ17, TJ17, 3, tyJ17, rfl, in_J17, tyJ17_ok, q515, q516, q102, rfl, by decide⟩
theorem nw_X9_9 : NW RX9 9 0 dfJ2 := ⟨RJ2, TJ2, 3, tyJ2, rfl, in_J2, tyJ2_ok, q760, q127, q82, rfl, by decide⟩
theorem nw_X9_20 : NW RX9 20 10 dfX10 := ⟨RX10, TX10, 2, tyX10, rfl, in_X10, tyX10_ok, q762, q763, q110, rfl, by decide⟩
theorem c_X2_9 : CI RX2 9 yJ2_init_2 cJ2_init_2 1 0 := ⟨Or.inl q473, q474, q82, q475, rfl, ⟨by decide +kernel, by decide +kernel, by decide +kernel⟩⟩
theorem c_X3_9 : CI RX3 9 yJ2_init_2 cJ2_init_2 1 0 := ⟨Or.inl q496, q474, q82, q475, rfl, ⟨by decide +kernel, by decide +kernel, by decide +kernel⟩⟩
theorem c_X4_11 : CI RX4 11 yJ17_init cJ17_init 2 1 := ⟨Or.inl q517, q518, q102, q519, rfl, ⟨by decide +kernel, by decide +kernel, by decide +kernel⟩⟩
theorem c_X5_30 : CV RX5 30 5 yX5_sortOf cX5_sortOf 1 (some (Jvm.ClassFile.FieldType.object "WarpMill$Sort")) 0 := ⟨TX5, 7, rfl, q576, q578, qs2, q103, q579, ⟨by decide +kernel, by decide +kernel, by decide +kernel⟩⟩
theorem c_X3_26 : CV RX3 26 0 yJ2_size cJ2_size 1 (some Jvm.ClassFile.FieldType.int) 0 := ⟨TJ2, 3, rfl, q695, q696, q697, q82, q698, ⟨by decide +kernel, by decide +kernel, by decide +kernel⟩⟩
theorem c_X3_59 : CV RX3 59 0 yJ2_clear cJ2_clear 4 none 0 := ⟨TJ2, 3, rfl, q715, q716, q717, q82, q718, ⟨by decide +kernel, by decide +kernel, by decide +kernel⟩⟩
theorem c_X3_45 : CV RX3 45 0 yJ2_get cJ2_get 2 (some (Jvm.ClassFile.FieldType.object "java/lang/Object")) 1 := ⟨TJ2, 3, rfl, q699, q700, q701, q82, q702, ⟨by decide +kernel, by decide +kernel, by decide +kernel⟩⟩
theorem c_X3_41 : CV RX3 41 0 yJ2_add cJ2_add 2 (some Jvm.ClassFile.FieldType.boolean) 1 := ⟨TJ2, 3, rfl, q714, q632, q633, q82, q634, ⟨by decide +kernel, by decide +kernel, by decide +kernel⟩⟩
theorem c_X9_11 : CI RX9 11 yJ2_init cJ2_init 2 1 := ⟨Or.inl q761, q129, q82, q130, rfl, ⟨by decide +kernel, by decide +kernel, by decide +kernel⟩⟩
theorem c_X9_22 : CI RX9 22 yX10_init cX10_init 2 0 := ⟨Or.inl q764, q765, q110, q766, rfl, ⟨by decide +kernel, by decide +kernel, by decide +kernel⟩⟩
theorem c_X9_23 : CV RX9 23 0 yJ2_add cJ2_add 2 (some Jvm.ClassFile.FieldType.boolean) 1 := ⟨TJ2, 3, rfl, q779, q632, q633, q82, q634, ⟨by decide +kernel, by decide +kernel, by decide +kernel⟩⟩
theorem dX2_init_0 : decode cX2_init 0 = .ok (.aload_n 0, 1) := by decide +kernel
theorem dX2_init_1 : decode cX2_init 1 = .ok (.invokespecial 1, 3) := by decide +kernel
theorem dX2_init_4 : decode cX2_init 4 = .ok (.aload_n 0, 1) := by decide +kernel
theorem dX2_init_5 : decode cX2_init 5 = .ok (.new 7, 3) := by decide +kernel
theorem dX2_init_8 : decode cX2_init 8 = .ok (.dup, 1) := by decide +kernel
theorem dX2_init_9 : decode cX2_init 9 = .ok (.invokespecial 9, 3) := by decide +kernel
theorem dX2_init_12 : decode cX2_init 12 = .ok (.putfield 10, 3) := by decide +kernel
theorem dX2_init_15 : decode cX2_init 15 = .ok (.aload_n 0, 1) := by decide +kernel
theorem dX2_init_16 : decode cX2_init 16 = .ok (.new 7, 3) := by decide +kernel
theorem dX2_init_19 : decode cX2_init 19 = .ok (.dup, 1) := by decide +kernel
theorem dX2_init_20 : decode cX2_init 20 = .ok (.invokespecial 9, 3) := by decide +kernel
theorem dX2_init_23 : decode cX2_init 23 = .ok (.putfield 16, 3) := by decide +kernel
theorem dX2_init_26 : decode cX2_init 26 = .ok (.aload_n 0, 1) := by decide +kernel
theorem dX2_init_27 : decode cX2_init 27 = .ok (.new 7, 3) := by decide +kernel
theorem dX2_init_30 : decode cX2_init 30 = .ok (.dup, 1) := by decide +kernel
theorem dX2_init_31 : decode cX2_init 31 = .ok (.invokespecial 9, 3) := by decide +kernel
theorem dX2_init_34 : decode cX2_init 34 = .ok (.putfield 19, 3) := by decide +kernel
theorem dX2_init_37 : decode cX2_init 37 = .ok (.return_, 1) := by decide +kernel
def fX2_init (a0 : Nat) (A : AH) : Option (AH) :=
(nO A 0 dfJ2).bind fun A1 =>
(fJ2_init_2 (hN A) A1).bind fun g2 =>
(pR g2 (some a0) 2 0 (some (hN A))).bind fun A3 =>
(nO A3 0 dfJ2).bind fun A4 =>
(fJ2_init_2 (hN A3) A4).bind fun g5 =>
(pR g5 (some a0) 2 1 (some (hN A3))).bind fun A6 =>
(nO A6 0 dfJ2).bind fun A7 =>
(fJ2_init_2 (hN A6) A7).bind fun g8 =>
(pR g8 (some a0) 2 2 (some (hN A6))).bind fun A9 =>
some A9

set_option maxHeartbeats 4000000 in
set_option maxRecDepth 100000 in
theorem sX2_init (l : Launch) (D : DE) (a0 : Nat) (A : AH) (g : AH) (hg : fX2_init a0 A = some g) : Sm l D yX2_init cX2_init 1 none 4 80 [tR (some a0)] A (wU g).1 (wU g).2 := by
  refine Sm.of (ω := wU) (fX2_init a0 A) [some (tR (some a0))] (by decide) (Nat.le_of_ble_eq_true rfl) rfl hg ?_
  intro p e R s m args below meth c X hin
  have X : Cx D cX2_init RX2 1 4 80 none p R s m args meth c := X
  unfold fX2_init
  refine rf_aload_n X rfl dX2_init_0 ?_
  refine rf_objInit X q471 ⟨by decide, by decide⟩ (Nat.le_of_ble_eq_true rfl) dX2_init_1 ?_
  refine rf_aload_n X rfl dX2_init_4 ?_
  refine rf_bind (fun A1 hA1 => ?_)
  refine rf_new X nw_X2_7 hA1 dX2_init_5 ?_
  refine rf_dup X rfl dX2_init_8 ?_
  refine rf_bind (fun g2 hg2 => ?_)
  refine rf_callI X c_X2_9 ⟨Nat.le_of_ble_eq_true rfl, Nat.le_of_ble_eq_true rfl⟩ [] rfl (Nat.le_of_ble_eq_true rfl) (sJ2_init_2 l D (hN A) A1 g2 hg2) dX2_init_9 ?_
  refine rf_bind (fun A3 hA3 => ?_)
  refine rf_putR X fp_X2_10 (fun _ => hin) rfl hA3 dX2_init_12 ?_
  refine rf_aload_n X rfl dX2_init_15 ?_
  refine rf_bind (fun A4 hA4 => ?_)
  refine rf_new X nw_X2_7 hA4 dX2_init_16 ?_
  refine rf_dup X rfl dX2_init_19 ?_
  refine rf_bind (fun g5 hg5 => ?_)
  refine rf_callI X c_X2_9 ⟨Nat.le_of_ble_eq_true rfl, Nat.le_of_ble_eq_true rfl⟩ [] rfl (Nat.le_of_ble_eq_true rfl) (sJ2_init_2 l D (hN A3) A4 g5 hg5) dX2_init_20 ?_
  refine rf_bind (fun A6 hA6 => ?_)
  refine rf_putR X fp_X2_16 (fun _ => hin) rfl hA6 dX2_init_23 ?_
  refine rf_aload_n X rfl dX2_init_26 ?_
  refine rf_bind (fun A7 hA7 => ?_)
  refine rf_new X nw_X2_7 hA7 dX2_init_27 ?_
  refine rf_dup X rfl dX2_init_30 ?_
  refine rf_bind (fun g8 hg8 => ?_)
  refine rf_callI X c_X2_9 ⟨Nat.le_of_ble_eq_true rfl, Nat.le_of_ble_eq_true rfl⟩ [] rfl (Nat.le_of_ble_eq_true rfl) (sJ2_init_2 l D (hN A6) A7 g8 hg8) dX2_init_31 ?_
  refine rf_bind (fun A9 hA9 => ?_)
  refine rf_putR X fp_X2_19 (fun _ => hin) rfl hA9 dX2_init_34 ?_
  exact rf_vret X rfl dX2_init_37

theorem dX3_init_0 : decode cX3_init 0 = .ok (.aload_n 0, 1) := by decide +kernel
theorem dX3_init_1 : decode cX3_init 1 = .ok (.invokespecial 1, 3) := by decide +kernel
theorem dX3_init_4 : decode cX3_init 4 = .ok (.aload_n 0, 1) := by decide +kernel
theorem dX3_init_5 : decode cX3_init 5 = .ok (.new 7, 3) := by decide +kernel
theorem dX3_init_8 : decode cX3_init 8 = .ok (.dup, 1) := by decide +kernel
theorem dX3_init_9 : decode cX3_init 9 = .ok (.invokespecial 9, 3) := by decide +kernel
theorem dX3_init_12 : decode cX3_init 12 = .ok (.putfield 10, 3) := by decide +kernel
theorem dX3_init_15 : decode cX3_init 15 = .ok (.aload_n 0, 1) := by decide +kernel
theorem dX3_init_16 : decode cX3_init 16 = .ok (.new 7, 3) := by decide +kernel
theorem dX3_init_19 : decode cX3_init 19 = .ok (.dup, 1) := by decide +kernel
theorem dX3_init_20 : decode cX3_init 20 = .ok (.invokespecial 9, 3) := by decide +kernel
theorem dX3_init_23 : decode cX3_init 23 = .ok (.putfield 16, 3) := by decide +kernel
theorem dX3_init_26 : decode cX3_init 26 = .ok (.return_, 1) := by decide +kernel
def fX3_init (a0 : Nat) (A : AH) : Option (AH) :=
(nO A 0 dfJ2).bind fun A1 =>
(fJ2_init_2 (hN A) A1).bind fun g2 =>
(pR g2 (some a0) 3 0 (some (hN A))).bind fun A3 =>
(nO A3 0 dfJ2).bind fun A4 =>
(fJ2_init_2 (hN A3) A4).bind fun g5 =>
(pR g5 (some a0) 3 1 (some (hN A3))).bind fun A6 =>
some A6

set_option maxHeartbeats 4000000 in
set_option maxRecDepth 100000 in
theorem sX3_init (l : Launch) (D : DE) (a0 : Nat) (A : AH) (g : AH) (hg : fX3_init a0 A = some g) : Sm l D yX3_init cX3_init 1 none 4 80 [tR (some a0)] A (wU g).1 (wU g).2 := by
  refine Sm.of (ω := wU) (fX3_init a0 A) [some (tR (some a0))] (by decide) (Nat.le_of_ble_eq_true rfl) rfl hg ?_
  intro p e R s m args below meth c X hin
  have X : Cx D cX3_init RX3 1 4 80 none p R s m args meth c := X
  unfold fX3_init
  refine rf_aload_n X rfl dX3_init_0 ?_
  refine rf_objInit X q494 ⟨by decide, by decide⟩ (Nat.le_of_ble_eq_true rfl) dX3_init_1 ?_
  refine rf_aload_n X rfl dX3_init_4 ?_
  refine rf_bind (fun A1 hA1 => ?_)
  refine rf_new X nw_X3_7 hA1 dX3_init_5 ?_
  refine rf_dup X rfl dX3_init_8 ?_
  refine rf_bind (fun g2 hg2 => ?_)
  refine rf_callI X c_X3_9 ⟨Nat.le_of_ble_eq_true rfl, Nat.le_of_ble_eq_true rfl⟩ [] rfl (Nat.le_of_ble_eq_true rfl) (sJ2_init_2 l D (hN A) A1 g2 hg2) dX3_init_9 ?_
  refine rf_bind (fun A3 hA3 => ?_)
  refine rf_putR X fp_X3_10 (fun _ => hin) rfl hA3 dX3_init_12 ?_
  refine rf_aload_n X rfl dX3_init_15 ?_
  refine rf_bind (fun A4 hA4 => ?_)
  refine rf_new X nw_X3_7 hA4 dX3_init_16 ?_
  refine rf_dup X rfl dX3_init_19 ?_
  refine rf_bind (fun g5 hg5 => ?_)
  refine rf_callI X c_X3_9 ⟨Nat.le_of_ble_eq_true rfl, Nat.le_of_ble_eq_true rfl⟩ [] rfl (Nat.le_of_ble_eq_true rfl) (sJ2_init_2 l D (hN A3) A4 g5 hg5) dX3_init_20 ?_
  refine rf_bind (fun A6 hA6 => ?_)
  refine rf_putR X fp_X3_16 (fun _ => hin) rfl hA6 dX3_init_23 ?_
  exact rf_vret X rfl dX3_init_26

theorem dX4_init_0 : decode cX4_init 0 = .ok (.aload_n 0, 1) := by decide +kernel
theorem dX4_init_1 : decode cX4_init 1 = .ok (.invokespecial 3, 3) := by decide +kernel
theorem dX4_init_4 : decode cX4_init 4 = .ok (.aload_n 0, 1) := by decide +kernel
theorem dX4_init_5 : decode cX4_init 5 = .ok (.new 9, 3) := by decide +kernel
theorem dX4_init_8 : decode cX4_init 8 = .ok (.dup, 1) := by decide +kernel
theorem dX4_init_9 : decode cX4_init 9 = .ok (.sipush 4096, 3) := by decide +kernel
theorem dX4_init_12 : decode cX4_init 12 = .ok (.invokespecial 11, 3) := by decide +kernel
theorem dX4_init_15 : decode cX4_init 15 = .ok (.putfield 14, 3) := by decide +kernel
theorem dX4_init_18 : decode cX4_init 18 = .ok (.aload_n 0, 1) := by decide +kernel
theorem dX4_init_19 : decode cX4_init 19 = .ok (.new 9, 3) := by decide +kernel
theorem dX4_init_22 : decode cX4_init 22 = .ok (.dup, 1) := by decide +kernel
theorem dX4_init_23 : decode cX4_init 23 = .ok (.sipush 512, 3) := by decide +kernel
theorem dX4_init_26 : decode cX4_init 26 = .ok (.invokespecial 11, 3) := by decide +kernel
theorem dX4_init_29 : decode cX4_init 29 = .ok (.putfield 20, 3) := by decide +kernel
theorem dX4_init_32 : decode cX4_init 32 = .ok (.aload_n 0, 1) := by decide +kernel
theorem dX4_init_33 : decode cX4_init 33 = .ok (.bipush 32, 2) := by decide +kernel
theorem dX4_init_35 : decode cX4_init 35 = .ok (.newarray .int, 2) := by decide +kernel
theorem dX4_init_37 : decode cX4_init 37 = .ok (.putfield 23, 3) := by decide +kernel
theorem dX4_init_40 : decode cX4_init 40 = .ok (.aload_n 0, 1) := by decide +kernel
theorem dX4_init_41 : decode cX4_init 41 = .ok (.iconst 1, 1) := by decide +kernel
theorem dX4_init_42 : decode cX4_init 42 = .ok (.putfield 27, 3) := by decide +kernel
theorem dX4_init_45 : decode cX4_init 45 = .ok (.aload_n 0, 1) := by decide +kernel
theorem dX4_init_46 : decode cX4_init 46 = .ok (.sipush 512, 3) := by decide +kernel
theorem dX4_init_49 : decode cX4_init 49 = .ok (.newarray .int, 2) := by decide +kernel
theorem dX4_init_51 : decode cX4_init 51 = .ok (.putfield 31, 3) := by decide +kernel
theorem dX4_init_54 : decode cX4_init 54 = .ok (.return_, 1) := by decide +kernel
def fX4_init (a0 : Nat) (A : AH) : Option (AH) :=
(nO A 6 dfJ17).bind fun A1 =>
(fJ17_init (hN A) (4096 : Int32) A1).bind fun g2 =>
(pR g2 (some a0) 4 0 (some (hN A))).bind fun A3 =>
(nO A3 6 dfJ17).bind fun A4 =>
(fJ17_init (hN A3) (512 : Int32) A4).bind fun g5 =>
(pR g5 (some a0) 4 1 (some (hN A3))).bind fun A6 =>
(nAI A6 (32 : Int32)).bind fun A7 =>
(pR A7 (some a0) 4 2 (some (hN A6))).bind fun A8 =>
(pI A8 (some a0) 4 3 (1 : Int32)).bind fun A9 =>
(nAI A9 (512 : Int32)).bind fun A10 =>
(pR A10 (some a0) 4 4 (some (hN A9))).bind fun A11 =>
some A11

set_option maxHeartbeats 4000000 in
set_option maxRecDepth 100000 in
theorem sX4_init (l : Launch) (D : DE) (a0 : Nat) (A : AH) (g : AH) (hg : fX4_init a0 A = some g) : Sm l D yX4_init cX4_init 1 none 3 62 [tR (some a0)] A (wU g).1 (wU g).2 := by
  refine Sm.of (ω := wU) (fX4_init a0 A) [some (tR (some a0))] (by decide) (Nat.le_of_ble_eq_true rfl) rfl hg ?_
  intro p e R s m args below meth c X hin
  have X : Cx D cX4_init RX4 1 3 62 none p R s m args meth c := X
  unfold fX4_init
  refine rf_aload_n X rfl dX4_init_0 ?_
  refine rf_objInit X q514 ⟨by decide, by decide⟩ (Nat.le_of_ble_eq_true rfl) dX4_init_1 ?_
  refine rf_aload_n X rfl dX4_init_4 ?_
  refine rf_bind (fun A1 hA1 => ?_)
  refine rf_new X nw_X4_9 hA1 dX4_init_5 ?_
  refine rf_dup X rfl dX4_init_8 ?_
  refine rf_sipush X (4096 : Int32) rfl dX4_init_9 ?_
  refine rf_bind (fun g2 hg2 => ?_)
  refine rf_callI X c_X4_11 ⟨Nat.le_of_ble_eq_true rfl, Nat.le_of_ble_eq_true rfl⟩ [tI (4096 : Int32)] rfl (Nat.le_of_ble_eq_true rfl) (sJ17_init l D (hN A) (4096 : Int32) A1 g2 hg2) dX4_init_12 ?_
  refine rf_bind (fun A3 hA3 => ?_)
  refine rf_putR X fp_X4_14 (fun _ => hin) rfl hA3 dX4_init_15 ?_
  refine rf_aload_n X rfl dX4_init_18 ?_
  refine rf_bind (fun A4 hA4 => ?_)
  refine rf_new X nw_X4_9 hA4 dX4_init_19 ?_
  refine rf_dup X rfl dX4_init_22 ?_
  refine rf_sipush X (512 : Int32) rfl dX4_init_23 ?_
  refine rf_bind (fun g5 hg5 => ?_)
  refine rf_callI X c_X4_11 ⟨Nat.le_of_ble_eq_true rfl, Nat.le_of_ble_eq_true rfl⟩ [tI (512 : Int32)] rfl (Nat.le_of_ble_eq_true rfl) (sJ17_init l D (hN A3) (512 : Int32) A4 g5 hg5) dX4_init_26 ?_
  refine rf_bind (fun A6 hA6 => ?_)
  refine rf_putR X fp_X4_20 (fun _ => hin) rfl hA6 dX4_init_29 ?_
  refine rf_aload_n X rfl dX4_init_32 ?_
  refine rf_bipush X (32 : Int32) rfl dX4_init_33 ?_
  refine rf_bind (fun A7 hA7 => ?_)
  refine rf_newI X hA7 dX4_init_35 ?_
  refine rf_bind (fun A8 hA8 => ?_)
  refine rf_putR X fp_X4_23 (fun _ => hin) rfl hA8 dX4_init_37 ?_
  refine rf_aload_n X rfl dX4_init_40 ?_
  refine rf_iconst X (1 : Int32) rfl dX4_init_41 ?_
  refine rf_bind (fun A9 hA9 => ?_)
  refine rf_putI X fp_X4_27 (fun _ => hin) hA9 dX4_init_42 ?_
  refine rf_aload_n X rfl dX4_init_45 ?_
  refine rf_sipush X (512 : Int32) rfl dX4_init_46 ?_
  refine rf_bind (fun A10 hA10 => ?_)
  refine rf_newI X hA10 dX4_init_49 ?_
  refine rf_bind (fun A11 hA11 => ?_)
  refine rf_putR X fp_X4_31 (fun _ => hin) rfl hA11 dX4_init_51 ?_
  exact rf_vret X rfl dX4_init_54

theorem dX5_sortOf_0 : decode cX5_sortOf 0 = .ok (.aload_n 0, 1) := by decide +kernel
theorem dX5_sortOf_1 : decode cX5_sortOf 1 = .ok (.getfield 9, 3) := by decide +kernel
theorem dX5_sortOf_4 : decode cX5_sortOf 4 = .ok (.iconst 2, 1) := by decide +kernel
theorem dX5_sortOf_5 : decode cX5_sortOf 5 = .ok (.if_icmp .lt 21, 3) := by decide +kernel
theorem dX5_sortOf_8 : decode cX5_sortOf 8 = .ok (.aload_n 0, 1) := by decide +kernel
theorem dX5_sortOf_9 : decode cX5_sortOf 9 = .ok (.getfield 9, 3) := by decide +kernel
theorem dX5_sortOf_12 : decode cX5_sortOf 12 = .ok (.bipush 40, 2) := by decide +kernel
theorem dX5_sortOf_14 : decode cX5_sortOf 14 = .ok (.if_icmp .eq 12, 3) := by decide +kernel
theorem dX5_sortOf_17 : decode cX5_sortOf 17 = .ok (.aload_n 0, 1) := by decide +kernel
theorem dX5_sortOf_18 : decode cX5_sortOf 18 = .ok (.getfield 9, 3) := by decide +kernel
theorem dX5_sortOf_21 : decode cX5_sortOf 21 = .ok (.bipush 42, 2) := by decide +kernel
theorem dX5_sortOf_23 : decode cX5_sortOf 23 = .ok (.if_icmp .ne 7, 3) := by decide +kernel
theorem dX5_sortOf_26 : decode cX5_sortOf 26 = .ok (.getstatic 38, 3) := by decide +kernel
theorem dX5_sortOf_29 : decode cX5_sortOf 29 = .ok (.areturn, 1) := by decide +kernel
theorem dX5_sortOf_30 : decode cX5_sortOf 30 = .ok (.aload_n 0, 1) := by decide +kernel
theorem dX5_sortOf_31 : decode cX5_sortOf 31 = .ok (.getfield 9, 3) := by decide +kernel
theorem dX5_sortOf_34 : decode cX5_sortOf 34 = .ok (.iconst 3, 1) := by decide +kernel
theorem dX5_sortOf_35 : decode cX5_sortOf 35 = .ok (.if_icmp .ne 23, 3) := by decide +kernel
theorem dX5_sortOf_38 : decode cX5_sortOf 38 = .ok (.aload_n 0, 1) := by decide +kernel
theorem dX5_sortOf_39 : decode cX5_sortOf 39 = .ok (.getfield 27, 3) := by decide +kernel
theorem dX5_sortOf_42 : decode cX5_sortOf 42 = .ok (.ifCond .lt 12, 3) := by decide +kernel
theorem dX5_sortOf_45 : decode cX5_sortOf 45 = .ok (.aload_n 0, 1) := by decide +kernel
theorem dX5_sortOf_46 : decode cX5_sortOf 46 = .ok (.getfield 27, 3) := by decide +kernel
theorem dX5_sortOf_49 : decode cX5_sortOf 49 = .ok (.bipush 6, 2) := by decide +kernel
theorem dX5_sortOf_51 : decode cX5_sortOf 51 = .ok (.if_icmp .le 7, 3) := by decide +kernel
theorem dX5_sortOf_54 : decode cX5_sortOf 54 = .ok (.getstatic 43, 3) := by decide +kernel
theorem dX5_sortOf_57 : decode cX5_sortOf 57 = .ok (.areturn, 1) := by decide +kernel
theorem dX5_sortOf_58 : decode cX5_sortOf 58 = .ok (.aload_n 0, 1) := by decide +kernel
theorem dX5_sortOf_59 : decode cX5_sortOf 59 = .ok (.getfield 9, 3) := by decide +kernel
theorem dX5_sortOf_62 : decode cX5_sortOf 62 = .ok (.bipush 6, 2) := by decide +kernel
theorem dX5_sortOf_64 : decode cX5_sortOf 64 = .ok (.if_icmp .eq 21, 3) := by decide +kernel
theorem dX5_sortOf_67 : decode cX5_sortOf 67 = .ok (.aload_n 0, 1) := by decide +kernel
theorem dX5_sortOf_68 : decode cX5_sortOf 68 = .ok (.getfield 9, 3) := by decide +kernel
theorem dX5_sortOf_71 : decode cX5_sortOf 71 = .ok (.bipush 17, 2) := by decide +kernel
theorem dX5_sortOf_73 : decode cX5_sortOf 73 = .ok (.if_icmp .eq 12, 3) := by decide +kernel
theorem dX5_sortOf_76 : decode cX5_sortOf 76 = .ok (.aload_n 0, 1) := by decide +kernel
theorem dX5_sortOf_77 : decode cX5_sortOf 77 = .ok (.getfield 9, 3) := by decide +kernel
theorem dX5_sortOf_80 : decode cX5_sortOf 80 = .ok (.bipush 19, 2) := by decide +kernel
theorem dX5_sortOf_82 : decode cX5_sortOf 82 = .ok (.if_icmp .ne 7, 3) := by decide +kernel
theorem dX5_sortOf_85 : decode cX5_sortOf 85 = .ok (.getstatic 46, 3) := by decide +kernel
theorem dX5_sortOf_88 : decode cX5_sortOf 88 = .ok (.areturn, 1) := by decide +kernel
theorem dX5_sortOf_89 : decode cX5_sortOf 89 = .ok (.aload_n 0, 1) := by decide +kernel
theorem dX5_sortOf_90 : decode cX5_sortOf 90 = .ok (.getfield 9, 3) := by decide +kernel
theorem dX5_sortOf_93 : decode cX5_sortOf 93 = .ok (.bipush 7, 2) := by decide +kernel
theorem dX5_sortOf_95 : decode cX5_sortOf 95 = .ok (.if_icmp .eq 12, 3) := by decide +kernel
theorem dX5_sortOf_98 : decode cX5_sortOf 98 = .ok (.aload_n 0, 1) := by decide +kernel
theorem dX5_sortOf_99 : decode cX5_sortOf 99 = .ok (.getfield 9, 3) := by decide +kernel
theorem dX5_sortOf_102 : decode cX5_sortOf 102 = .ok (.bipush 8, 2) := by decide +kernel
theorem dX5_sortOf_104 : decode cX5_sortOf 104 = .ok (.if_icmp .ne 7, 3) := by decide +kernel
theorem dX5_sortOf_107 : decode cX5_sortOf 107 = .ok (.getstatic 49, 3) := by decide +kernel
theorem dX5_sortOf_110 : decode cX5_sortOf 110 = .ok (.areturn, 1) := by decide +kernel
theorem dX5_sortOf_111 : decode cX5_sortOf 111 = .ok (.aload_n 0, 1) := by decide +kernel
theorem dX5_sortOf_112 : decode cX5_sortOf 112 = .ok (.getfield 9, 3) := by decide +kernel
theorem dX5_sortOf_115 : decode cX5_sortOf 115 = .ok (.bipush 21, 2) := by decide +kernel
theorem dX5_sortOf_117 : decode cX5_sortOf 117 = .ok (.if_icmp .le 30, 3) := by decide +kernel
theorem dX5_sortOf_120 : decode cX5_sortOf 120 = .ok (.aload_n 0, 1) := by decide +kernel
theorem dX5_sortOf_121 : decode cX5_sortOf 121 = .ok (.getfield 9, 3) := by decide +kernel
theorem dX5_sortOf_124 : decode cX5_sortOf 124 = .ok (.bipush 30, 2) := by decide +kernel
theorem dX5_sortOf_126 : decode cX5_sortOf 126 = .ok (.if_icmp .lt 12, 3) := by decide +kernel
theorem dX5_sortOf_129 : decode cX5_sortOf 129 = .ok (.aload_n 0, 1) := by decide +kernel
theorem dX5_sortOf_130 : decode cX5_sortOf 130 = .ok (.getfield 9, 3) := by decide +kernel
theorem dX5_sortOf_133 : decode cX5_sortOf 133 = .ok (.bipush 36, 2) := by decide +kernel
theorem dX5_sortOf_135 : decode cX5_sortOf 135 = .ok (.if_icmp .le 12, 3) := by decide +kernel
theorem dX5_sortOf_138 : decode cX5_sortOf 138 = .ok (.aload_n 0, 1) := by decide +kernel
theorem dX5_sortOf_139 : decode cX5_sortOf 139 = .ok (.getfield 9, 3) := by decide +kernel
theorem dX5_sortOf_142 : decode cX5_sortOf 142 = .ok (.bipush 41, 2) := by decide +kernel
theorem dX5_sortOf_144 : decode cX5_sortOf 144 = .ok (.if_icmp .ne 7, 3) := by decide +kernel
theorem dX5_sortOf_147 : decode cX5_sortOf 147 = .ok (.getstatic 52, 3) := by decide +kernel
theorem dX5_sortOf_150 : decode cX5_sortOf 150 = .ok (.areturn, 1) := by decide +kernel
theorem dX5_sortOf_151 : decode cX5_sortOf 151 = .ok (.aload_n 0, 1) := by decide +kernel
theorem dX5_sortOf_152 : decode cX5_sortOf 152 = .ok (.getfield 9, 3) := by decide +kernel
theorem dX5_sortOf_155 : decode cX5_sortOf 155 = .ok (.bipush 52, 2) := by decide +kernel
theorem dX5_sortOf_157 : decode cX5_sortOf 157 = .ok (.if_icmp .eq 30, 3) := by decide +kernel
theorem dX5_sortOf_160 : decode cX5_sortOf 160 = .ok (.aload_n 0, 1) := by decide +kernel
theorem dX5_sortOf_161 : decode cX5_sortOf 161 = .ok (.getfield 9, 3) := by decide +kernel
theorem dX5_sortOf_164 : decode cX5_sortOf 164 = .ok (.bipush 53, 2) := by decide +kernel
theorem dX5_sortOf_166 : decode cX5_sortOf 166 = .ok (.if_icmp .eq 21, 3) := by decide +kernel
theorem dX5_sortOf_169 : decode cX5_sortOf 169 = .ok (.aload_n 0, 1) := by decide +kernel
theorem dX5_sortOf_170 : decode cX5_sortOf 170 = .ok (.getfield 9, 3) := by decide +kernel
theorem dX5_sortOf_173 : decode cX5_sortOf 173 = .ok (.bipush 58, 2) := by decide +kernel
theorem dX5_sortOf_175 : decode cX5_sortOf 175 = .ok (.if_icmp .eq 12, 3) := by decide +kernel
theorem dX5_sortOf_178 : decode cX5_sortOf 178 = .ok (.aload_n 0, 1) := by decide +kernel
theorem dX5_sortOf_179 : decode cX5_sortOf 179 = .ok (.getfield 9, 3) := by decide +kernel
theorem dX5_sortOf_182 : decode cX5_sortOf 182 = .ok (.bipush 59, 2) := by decide +kernel
theorem dX5_sortOf_184 : decode cX5_sortOf 184 = .ok (.if_icmp .ne 7, 3) := by decide +kernel
theorem dX5_sortOf_187 : decode cX5_sortOf 187 = .ok (.getstatic 55, 3) := by decide +kernel
theorem dX5_sortOf_190 : decode cX5_sortOf 190 = .ok (.areturn, 1) := by decide +kernel
theorem dX5_sortOf_191 : decode cX5_sortOf 191 = .ok (.aload_n 0, 1) := by decide +kernel
theorem dX5_sortOf_192 : decode cX5_sortOf 192 = .ok (.getfield 9, 3) := by decide +kernel
theorem dX5_sortOf_195 : decode cX5_sortOf 195 = .ok (.bipush 50, 2) := by decide +kernel
theorem dX5_sortOf_197 : decode cX5_sortOf 197 = .ok (.if_icmp .lt 16, 3) := by decide +kernel
theorem dX5_sortOf_200 : decode cX5_sortOf 200 = .ok (.aload_n 0, 1) := by decide +kernel
theorem dX5_sortOf_201 : decode cX5_sortOf 201 = .ok (.getfield 9, 3) := by decide +kernel
theorem dX5_sortOf_204 : decode cX5_sortOf 204 = .ok (.bipush 57, 2) := by decide +kernel
theorem dX5_sortOf_206 : decode cX5_sortOf 206 = .ok (.if_icmp .gt 7, 3) := by decide +kernel
theorem dX5_sortOf_209 : decode cX5_sortOf 209 = .ok (.getstatic 58, 3) := by decide +kernel
theorem dX5_sortOf_212 : decode cX5_sortOf 212 = .ok (.areturn, 1) := by decide +kernel
theorem dX5_sortOf_213 : decode cX5_sortOf 213 = .ok (.aload_n 0, 1) := by decide +kernel
theorem dX5_sortOf_214 : decode cX5_sortOf 214 = .ok (.getfield 9, 3) := by decide +kernel
theorem dX5_sortOf_217 : decode cX5_sortOf 217 = .ok (.bipush 70, 2) := by decide +kernel
theorem dX5_sortOf_219 : decode cX5_sortOf 219 = .ok (.if_icmp .lt 18, 3) := by decide +kernel
theorem dX5_sortOf_222 : decode cX5_sortOf 222 = .ok (.aload_n 0, 1) := by decide +kernel
theorem dX5_sortOf_223 : decode cX5_sortOf 223 = .ok (.getfield 9, 3) := by decide +kernel
theorem dX5_sortOf_226 : decode cX5_sortOf 226 = .ok (.bipush 73, 2) := by decide +kernel
theorem dX5_sortOf_228 : decode cX5_sortOf 228 = .ok (.if_icmp .gt 9, 3) := by decide +kernel
theorem dX5_sortOf_231 : decode cX5_sortOf 231 = .ok (.getstatic 61, 3) := by decide +kernel
theorem dX5_sortOf_234 : decode cX5_sortOf 234 = .ok (.goto 6, 3) := by decide +kernel
theorem dX5_sortOf_237 : decode cX5_sortOf 237 = .ok (.getstatic 43, 3) := by decide +kernel
theorem dX5_sortOf_240 : decode cX5_sortOf 240 = .ok (.areturn, 1) := by decide +kernel
def fX5_sortOf (a0 : Nat) (A : AH) : Option (Option Nat) :=
(gI A (some a0) 5 0).bind fun v1 =>
if (((v1 < (2 : Int32)) ∨ (v1 = (40 : Int32))) ∨ (v1 = (42 : Int32))) then (some (some (hA A 0))) else
(gI A (some a0) 5 5).bind fun v2 =>
if ((v1 = (3 : Int32)) ∧ ((v2 < 0) ∨ (¬ (v2 ≤ (6 : Int32))))) then (some (some (hA A 7))) else
if (((v1 = (6 : Int32)) ∨ (v1 = (17 : Int32))) ∨ (v1 = (19 : Int32))) then (some (some (hA A 2))) else
if ((v1 = (7 : Int32)) ∨ (v1 = (8 : Int32))) then (some (some (hA A 4))) else
if ((v1 ≤ (21 : Int32)) ∨ (¬ (((v1 < (30 : Int32)) ∨ (¬ (v1 ≤ (36 : Int32)))) ∧ (¬ (v1 = (41 : Int32)))))) then (some (some (hA A 1))) else
if ((((v1 = (52 : Int32)) ∨ (v1 = (53 : Int32))) ∨ (v1 = (58 : Int32))) ∨ (v1 = (59 : Int32))) then (some (some (hA A 5))) else
if ((v1 < (50 : Int32)) ∨ ((57 : Int32) < v1)) then (jn (fun (y4 : Option Nat) =>
some y4) fun j3 =>
if ((v1 < (70 : Int32)) ∨ ((73 : Int32) < v1)) then (j3 (some (hA A 7))) else
j3 (some (hA A 3))) else
some (some (hA A 6))

set_option maxHeartbeats 4000000 in
set_option maxRecDepth 100000 in
theorem sX5_sortOf (l : Launch) (D : DE) (a0 : Nat) (A : AH) (g : Option Nat) (hg : fX5_sortOf a0 A = some g) : Sm l D yX5_sortOf cX5_sortOf 1 (some (Jvm.ClassFile.FieldType.object "WarpMill$Sort")) 0 0 [tR (some a0)] A (qO A g).1 (qO A g).2 := by
  refine Sm.of (ω := qO A) (fX5_sortOf a0 A) [some (tR (some a0))] (by decide) (Nat.le_of_ble_eq_true rfl) rfl hg ?_
  intro p e R s m args below meth c X hin
  have X : Cx D cX5_sortOf RX5 1 0 0 (some (Jvm.ClassFile.FieldType.object "WarpMill$Sort")) p R s m args meth c := X
  unfold fX5_sortOf
  refine rf_aload_n X rfl dX5_sortOf_0 ?_
  refine rf_bind (fun v1 hv1 => ?_)
  refine rf_getI X fl_X5_9 hv1 dX5_sortOf_1 ?_
  refine rf_iconst X (2 : Int32) rfl dX5_sortOf_4 ?_
  refine rf_br 26 30 [some (tR (some a0))] [some (tR (some a0))] [] [] (fun _ => ?_) (fun _ => ?_) (fun _ jT jF => ?_)
  · refine rf_getsR X 0 (fun D => by simp [statD]) (Or.inl q580) dX5_sortOf_26 ?_
    exact rf_aret (Or.inl ⟨_, rfl⟩) X rfl dX5_sortOf_29
  · refine rf_aload_n X rfl dX5_sortOf_30 ?_
    refine rf_getI X fl_X5_9 hv1 dX5_sortOf_31 ?_
    refine rf_iconst X (3 : Int32) rfl dX5_sortOf_34 ?_
    refine rf_bind (fun v2 hv2 => ?_)
    refine rf_br 54 58 [some (tR (some a0))] [some (tR (some a0))] [] [] (fun _ => ?_) (fun _ => ?_) (fun _ jT jF => ?_)
    · refine rf_getsR X 7 (fun D => by simp [statD]) (Or.inl q582) dX5_sortOf_54 ?_
      exact rf_aret (Or.inl ⟨_, rfl⟩) X rfl dX5_sortOf_57
    · refine rf_aload_n X rfl dX5_sortOf_58 ?_
      refine rf_getI X fl_X5_9 hv1 dX5_sortOf_59 ?_
      refine rf_bipush X (6 : Int32) rfl dX5_sortOf_62 ?_
      refine rf_br 85 89 [some (tR (some a0))] [some (tR (some a0))] [] [] (fun _ => ?_) (fun _ => ?_) (fun _ jT jF => ?_)
      · refine rf_getsR X 2 (fun D => by simp [statD]) (Or.inl q584) dX5_sortOf_85 ?_
        exact rf_aret (Or.inl ⟨_, rfl⟩) X rfl dX5_sortOf_88
      · refine rf_aload_n X rfl dX5_sortOf_89 ?_
        refine rf_getI X fl_X5_9 hv1 dX5_sortOf_90 ?_
        refine rf_bipush X (7 : Int32) rfl dX5_sortOf_93 ?_
        refine rf_br 107 111 [some (tR (some a0))] [some (tR (some a0))] [] [] (fun _ => ?_) (fun _ => ?_) (fun _ jT jF => ?_)
        · refine rf_getsR X 4 (fun D => by simp [statD]) (Or.inl q586) dX5_sortOf_107 ?_
          exact rf_aret (Or.inl ⟨_, rfl⟩) X rfl dX5_sortOf_110
        · refine rf_aload_n X rfl dX5_sortOf_111 ?_
          refine rf_getI X fl_X5_9 hv1 dX5_sortOf_112 ?_
          refine rf_bipush X (21 : Int32) rfl dX5_sortOf_115 ?_
          refine rf_br 147 151 [some (tR (some a0))] [some (tR (some a0))] [] [] (fun _ => ?_) (fun _ => ?_) (fun _ jT jF => ?_)
          · refine rf_getsR X 1 (fun D => by simp [statD]) (Or.inl q588) dX5_sortOf_147 ?_
            exact rf_aret (Or.inl ⟨_, rfl⟩) X rfl dX5_sortOf_150
          · refine rf_aload_n X rfl dX5_sortOf_151 ?_
            refine rf_getI X fl_X5_9 hv1 dX5_sortOf_152 ?_
            refine rf_bipush X (52 : Int32) rfl dX5_sortOf_155 ?_
            refine rf_br 187 191 [some (tR (some a0))] [some (tR (some a0))] [] [] (fun _ => ?_) (fun _ => ?_) (fun _ jT jF => ?_)
            · refine rf_getsR X 5 (fun D => by simp [statD]) (Or.inl q590) dX5_sortOf_187 ?_
              exact rf_aret (Or.inl ⟨_, rfl⟩) X rfl dX5_sortOf_190
            · refine rf_aload_n X rfl dX5_sortOf_191 ?_
              refine rf_getI X fl_X5_9 hv1 dX5_sortOf_192 ?_
              refine rf_bipush X (50 : Int32) rfl dX5_sortOf_195 ?_
              refine rf_br 213 209 [some (tR (some a0))] [some (tR (some a0))] [] [] (fun _ => ?_) (fun _ => ?_) (fun _ jT jF => ?_)
              · refine rf_aload_n X rfl dX5_sortOf_213 ?_
                refine rf_getI X fl_X5_9 hv1 dX5_sortOf_214 ?_
                refine rf_bipush X (70 : Int32) rfl dX5_sortOf_217 ?_
                refine rf_jn2 (fun i => ∀ (y4 : Option Nat), RfX X l e below (qO A) (i y4) 240 [none] [tR y4] A) ?_ (fun j3 hj3 => ?_)
                · intro y4
                  exact rf_aret (Or.inl ⟨_, rfl⟩) X rfl dX5_sortOf_240
                refine rf_br 237 231 [some (tR (some a0))] [some (tR (some a0))] [] [] (fun _ => ?_) (fun _ => ?_) (fun _ jT jF => ?_)
                · refine rf_getsR X 7 (fun D => by simp [statD]) (Or.inl q582) dX5_sortOf_237 ?_
                  exact rf_go (hj3 (some (hA A 7))) True.intro
                · refine rf_getsR X 3 (fun D => by simp [statD]) (Or.inl q594) dX5_sortOf_231 ?_
                  refine rf_goto X (tgt := 240) rfl dX5_sortOf_234 ?_
                  exact rf_go (hj3 (some (hA A 3))) True.intro
                refine rf_icmp_lt X (tgt := 237) rfl dX5_sortOf_219 (fun c5 => ?_) (fun c5 => ?_)
                · exact jT (Or.inl c5)
                refine rf_aload_n X rfl dX5_sortOf_222 ?_
                refine rf_getI X fl_X5_9 hv1 dX5_sortOf_223 ?_
                refine rf_bipush X (73 : Int32) rfl dX5_sortOf_226 ?_
                refine rf_icmp_gt X (tgt := 237) rfl dX5_sortOf_228 (fun c6 => ?_) (fun c6 => ?_)
                · exact jT (Or.inr c6)
                exact jF (fun z => z.elim c5 c6)
              · refine rf_getsR X 6 (fun D => by simp [statD]) (Or.inl q592) dX5_sortOf_209 ?_
                exact rf_aret (Or.inl ⟨_, rfl⟩) X rfl dX5_sortOf_212
              refine rf_icmp_lt X (tgt := 213) rfl dX5_sortOf_197 (fun c7 => ?_) (fun c7 => ?_)
              · exact jT (Or.inl c7)
              refine rf_aload_n X rfl dX5_sortOf_200 ?_
              refine rf_getI X fl_X5_9 hv1 dX5_sortOf_201 ?_
              refine rf_bipush X (57 : Int32) rfl dX5_sortOf_204 ?_
              refine rf_icmp_gt X (tgt := 213) rfl dX5_sortOf_206 (fun c8 => ?_) (fun c8 => ?_)
              · exact jT (Or.inr c8)
              exact jF (fun z => z.elim c7 c8)
            refine rf_icmp_eq X (tgt := 187) rfl dX5_sortOf_157 (fun c9 => ?_) (fun c9 => ?_)
            · exact jT (Or.inl (Or.inl (Or.inl c9)))
            refine rf_aload_n X rfl dX5_sortOf_160 ?_
            refine rf_getI X fl_X5_9 hv1 dX5_sortOf_161 ?_
            refine rf_bipush X (53 : Int32) rfl dX5_sortOf_164 ?_
            refine rf_icmp_eq X (tgt := 187) rfl dX5_sortOf_166 (fun c10 => ?_) (fun c10 => ?_)
            · exact jT (Or.inl (Or.inl (Or.inr c10)))
            refine rf_aload_n X rfl dX5_sortOf_169 ?_
            refine rf_getI X fl_X5_9 hv1 dX5_sortOf_170 ?_
            refine rf_bipush X (58 : Int32) rfl dX5_sortOf_173 ?_
            refine rf_icmp_eq X (tgt := 187) rfl dX5_sortOf_175 (fun c11 => ?_) (fun c11 => ?_)
            · exact jT (Or.inl (Or.inr c11))
            refine rf_aload_n X rfl dX5_sortOf_178 ?_
            refine rf_getI X fl_X5_9 hv1 dX5_sortOf_179 ?_
            refine rf_bipush X (59 : Int32) rfl dX5_sortOf_182 ?_
            refine rf_icmp_ne X (tgt := 191) rfl dX5_sortOf_184 (fun c12 => ?_) (fun c12 => ?_)
            · exact jF (fun z => z.elim (fun z => z.elim (fun z => z.elim c9 c10) c11) c12)
            exact jT (Or.inr c12)
          refine rf_icmp_le X (tgt := 147) rfl dX5_sortOf_117 (fun c13 => ?_) (fun c13 => ?_)
          · exact jT (Or.inl c13)
          refine rf_aload_n X rfl dX5_sortOf_120 ?_
          refine rf_getI X fl_X5_9 hv1 dX5_sortOf_121 ?_
          refine rf_bipush X (30 : Int32) rfl dX5_sortOf_124 ?_
          refine rf_icmp_lt X (tgt := 138) rfl dX5_sortOf_126 (fun c14 => ?_) (fun c14 => ?_)
          · refine rf_aload_n X rfl dX5_sortOf_138 ?_
            refine rf_getI X fl_X5_9 hv1 dX5_sortOf_139 ?_
            refine rf_bipush X (41 : Int32) rfl dX5_sortOf_142 ?_
            refine rf_icmp_ne X (tgt := 151) rfl dX5_sortOf_144 (fun c15 => ?_) (fun c15 => ?_)
            · exact jF (fun z => z.elim c13 (fun z => z ⟨(Or.inl c14), c15⟩))
            exact jT (Or.inr (fun z => (fun z => z c15) z.2))
          refine rf_aload_n X rfl dX5_sortOf_129 ?_
          refine rf_getI X fl_X5_9 hv1 dX5_sortOf_130 ?_
          refine rf_bipush X (36 : Int32) rfl dX5_sortOf_133 ?_
          refine rf_icmp_le X (tgt := 147) rfl dX5_sortOf_135 (fun c16 => ?_) (fun c16 => ?_)
          · exact jT (Or.inr (fun z => (fun z => z.elim c14 (fun z => z c16)) z.1))
          refine rf_aload_n X rfl dX5_sortOf_138 ?_
          refine rf_getI X fl_X5_9 hv1 dX5_sortOf_139 ?_
          refine rf_bipush X (41 : Int32) rfl dX5_sortOf_142 ?_
          refine rf_icmp_ne X (tgt := 151) rfl dX5_sortOf_144 (fun c17 => ?_) (fun c17 => ?_)
          · exact jF (fun z => z.elim c13 (fun z => z ⟨(Or.inr c16), c17⟩))
          exact jT (Or.inr (fun z => (fun z => z c17) z.2))
        refine rf_icmp_eq X (tgt := 107) rfl dX5_sortOf_95 (fun c18 => ?_) (fun c18 => ?_)
        · exact jT (Or.inl c18)
        refine rf_aload_n X rfl dX5_sortOf_98 ?_
        refine rf_getI X fl_X5_9 hv1 dX5_sortOf_99 ?_
        refine rf_bipush X (8 : Int32) rfl dX5_sortOf_102 ?_
        refine rf_icmp_ne X (tgt := 111) rfl dX5_sortOf_104 (fun c19 => ?_) (fun c19 => ?_)
        · exact jF (fun z => z.elim c18 c19)
        exact jT (Or.inr c19)
      refine rf_icmp_eq X (tgt := 85) rfl dX5_sortOf_64 (fun c20 => ?_) (fun c20 => ?_)
      · exact jT (Or.inl (Or.inl c20))
      refine rf_aload_n X rfl dX5_sortOf_67 ?_
      refine rf_getI X fl_X5_9 hv1 dX5_sortOf_68 ?_
      refine rf_bipush X (17 : Int32) rfl dX5_sortOf_71 ?_
      refine rf_icmp_eq X (tgt := 85) rfl dX5_sortOf_73 (fun c21 => ?_) (fun c21 => ?_)
      · exact jT (Or.inl (Or.inr c21))
      refine rf_aload_n X rfl dX5_sortOf_76 ?_
      refine rf_getI X fl_X5_9 hv1 dX5_sortOf_77 ?_
      refine rf_bipush X (19 : Int32) rfl dX5_sortOf_80 ?_
      refine rf_icmp_ne X (tgt := 89) rfl dX5_sortOf_82 (fun c22 => ?_) (fun c22 => ?_)
      · exact jF (fun z => z.elim (fun z => z.elim c20 c21) c22)
      exact jT (Or.inr c22)
    refine rf_icmp_ne X (tgt := 58) rfl dX5_sortOf_35 (fun c23 => ?_) (fun c23 => ?_)
    · exact jF (fun z => c23 z.1)
    refine rf_aload_n X rfl dX5_sortOf_38 ?_
    refine rf_getI X fl_X5_27 hv2 dX5_sortOf_39 ?_
    refine rf_if_lt X (tgt := 54) rfl dX5_sortOf_42 (fun c24 => ?_) (fun c24 => ?_)
    · exact jT ⟨c23, (Or.inl c24)⟩
    refine rf_aload_n X rfl dX5_sortOf_45 ?_
    refine rf_getI X fl_X5_27 hv2 dX5_sortOf_46 ?_
    refine rf_bipush X (6 : Int32) rfl dX5_sortOf_49 ?_
    refine rf_icmp_le X (tgt := 58) rfl dX5_sortOf_51 (fun c25 => ?_) (fun c25 => ?_)
    · exact jF (fun z => (fun z => z.elim c24 (fun z => z c25)) z.2)
    exact jT ⟨c23, (Or.inr c25)⟩
  refine rf_icmp_lt X (tgt := 26) rfl dX5_sortOf_5 (fun c26 => ?_) (fun c26 => ?_)
  · exact jT (Or.inl (Or.inl c26))
  refine rf_aload_n X rfl dX5_sortOf_8 ?_
  refine rf_getI X fl_X5_9 hv1 dX5_sortOf_9 ?_
  refine rf_bipush X (40 : Int32) rfl dX5_sortOf_12 ?_
  refine rf_icmp_eq X (tgt := 26) rfl dX5_sortOf_14 (fun c27 => ?_) (fun c27 => ?_)
  · exact jT (Or.inl (Or.inr c27))
  refine rf_aload_n X rfl dX5_sortOf_17 ?_
  refine rf_getI X fl_X5_9 hv1 dX5_sortOf_18 ?_
  refine rf_bipush X (42 : Int32) rfl dX5_sortOf_21 ?_
  refine rf_icmp_ne X (tgt := 30) rfl dX5_sortOf_23 (fun c28 => ?_) (fun c28 => ?_)
  · exact jF (fun z => z.elim (fun z => z.elim c26 c27) c28)
  exact jT (Or.inr c28)

theorem dX5_init_0 : decode cX5_init 0 = .ok (.aload_n 0, 1) := by decide +kernel
theorem dX5_init_1 : decode cX5_init 1 = .ok (.invokespecial 1, 3) := by decide +kernel
theorem dX5_init_4 : decode cX5_init 4 = .ok (.aload_n 0, 1) := by decide +kernel
theorem dX5_init_5 : decode cX5_init 5 = .ok (.lload_n 1, 1) := by decide +kernel
theorem dX5_init_6 : decode cX5_init 6 = .ok (.ldc2_w 7, 3) := by decide +kernel
theorem dX5_init_9 : decode cX5_init 9 = .ok (.land, 1) := by decide +kernel
theorem dX5_init_10 : decode cX5_init 10 = .ok (.l2i, 1) := by decide +kernel
theorem dX5_init_11 : decode cX5_init 11 = .ok (.putfield 9, 3) := by decide +kernel
theorem dX5_init_14 : decode cX5_init 14 = .ok (.aload_n 0, 1) := by decide +kernel
theorem dX5_init_15 : decode cX5_init 15 = .ok (.lload_n 1, 1) := by decide +kernel
theorem dX5_init_16 : decode cX5_init 16 = .ok (.bipush 8, 2) := by decide +kernel
theorem dX5_init_18 : decode cX5_init 18 = .ok (.lshr, 1) := by decide +kernel
theorem dX5_init_19 : decode cX5_init 19 = .ok (.l2i, 1) := by decide +kernel
theorem dX5_init_20 : decode cX5_init 20 = .ok (.bipush 15, 2) := by decide +kernel
theorem dX5_init_22 : decode cX5_init 22 = .ok (.iand, 1) := by decide +kernel
theorem dX5_init_23 : decode cX5_init 23 = .ok (.putfield 15, 3) := by decide +kernel
theorem dX5_init_26 : decode cX5_init 26 = .ok (.aload_n 0, 1) := by decide +kernel
theorem dX5_init_27 : decode cX5_init 27 = .ok (.lload_n 1, 1) := by decide +kernel
theorem dX5_init_28 : decode cX5_init 28 = .ok (.bipush 12, 2) := by decide +kernel
theorem dX5_init_30 : decode cX5_init 30 = .ok (.lshr, 1) := by decide +kernel
theorem dX5_init_31 : decode cX5_init 31 = .ok (.l2i, 1) := by decide +kernel
theorem dX5_init_32 : decode cX5_init 32 = .ok (.bipush 15, 2) := by decide +kernel
theorem dX5_init_34 : decode cX5_init 34 = .ok (.iand, 1) := by decide +kernel
theorem dX5_init_35 : decode cX5_init 35 = .ok (.putfield 18, 3) := by decide +kernel
theorem dX5_init_38 : decode cX5_init 38 = .ok (.aload_n 0, 1) := by decide +kernel
theorem dX5_init_39 : decode cX5_init 39 = .ok (.lload_n 1, 1) := by decide +kernel
theorem dX5_init_40 : decode cX5_init 40 = .ok (.bipush 16, 2) := by decide +kernel
theorem dX5_init_42 : decode cX5_init 42 = .ok (.lshr, 1) := by decide +kernel
theorem dX5_init_43 : decode cX5_init 43 = .ok (.l2i, 1) := by decide +kernel
theorem dX5_init_44 : decode cX5_init 44 = .ok (.bipush 15, 2) := by decide +kernel
theorem dX5_init_46 : decode cX5_init 46 = .ok (.iand, 1) := by decide +kernel
theorem dX5_init_47 : decode cX5_init 47 = .ok (.putfield 21, 3) := by decide +kernel
theorem dX5_init_50 : decode cX5_init 50 = .ok (.aload_n 0, 1) := by decide +kernel
theorem dX5_init_51 : decode cX5_init 51 = .ok (.lload_n 1, 1) := by decide +kernel
theorem dX5_init_52 : decode cX5_init 52 = .ok (.bipush 20, 2) := by decide +kernel
theorem dX5_init_54 : decode cX5_init 54 = .ok (.lshr, 1) := by decide +kernel
theorem dX5_init_55 : decode cX5_init 55 = .ok (.l2i, 1) := by decide +kernel
theorem dX5_init_56 : decode cX5_init 56 = .ok (.bipush 15, 2) := by decide +kernel
theorem dX5_init_58 : decode cX5_init 58 = .ok (.iand, 1) := by decide +kernel
theorem dX5_init_59 : decode cX5_init 59 = .ok (.putfield 24, 3) := by decide +kernel
theorem dX5_init_62 : decode cX5_init 62 = .ok (.aload_n 0, 1) := by decide +kernel
theorem dX5_init_63 : decode cX5_init 63 = .ok (.lload_n 1, 1) := by decide +kernel
theorem dX5_init_64 : decode cX5_init 64 = .ok (.bipush 32, 2) := by decide +kernel
theorem dX5_init_66 : decode cX5_init 66 = .ok (.lshr, 1) := by decide +kernel
theorem dX5_init_67 : decode cX5_init 67 = .ok (.l2i, 1) := by decide +kernel
theorem dX5_init_68 : decode cX5_init 68 = .ok (.putfield 27, 3) := by decide +kernel
theorem dX5_init_71 : decode cX5_init 71 = .ok (.aload_n 0, 1) := by decide +kernel
theorem dX5_init_72 : decode cX5_init 72 = .ok (.aload_n 0, 1) := by decide +kernel
theorem dX5_init_73 : decode cX5_init 73 = .ok (.invokevirtual 30, 3) := by decide +kernel
theorem dX5_init_76 : decode cX5_init 76 = .ok (.putfield 34, 3) := by decide +kernel
theorem dX5_init_79 : decode cX5_init 79 = .ok (.return_, 1) := by decide +kernel
def fX5_init (a0 : Nat) (p1 : Int64) (A : AH) : Option (AH) :=
(pI A (some a0) 5 0 (Int64.toInt32 (p1 &&& (255 : Int64)))).bind fun A1 =>
(pI A1 (some a0) 5 1 ((Int64.toInt32 (p1 >>> (Int32.toInt64 (8 : Int32) &&& 63))) &&& (15 : Int32))).bind fun A2 =>
(pI A2 (some a0) 5 2 ((Int64.toInt32 (p1 >>> (Int32.toInt64 (12 : Int32) &&& 63))) &&& (15 : Int32))).bind fun A3 =>
(pI A3 (some a0) 5 3 ((Int64.toInt32 (p1 >>> (Int32.toInt64 (16 : Int32) &&& 63))) &&& (15 : Int32))).bind fun A4 =>
(pI A4 (some a0) 5 4 ((Int64.toInt32 (p1 >>> (Int32.toInt64 (20 : Int32) &&& 63))) &&& (15 : Int32))).bind fun A5 =>
(pI A5 (some a0) 5 5 (Int64.toInt32 (p1 >>> (Int32.toInt64 (32 : Int32) &&& 63)))).bind fun A6 =>
(rcv A6 (some a0) 5).bind fun v7 =>
(fX5_sortOf v7 A6).bind fun g8 =>
(pR A6 (some a0) 5 6 g8).bind fun A9 =>
some A9

set_option maxHeartbeats 4000000 in
set_option maxRecDepth 100000 in
theorem sX5_init (l : Launch) (D : DE) (a0 : Nat) (p1 : Int64) (A : AH) (g : AH) (hg : fX5_init a0 p1 A = some g) : Sm l D yX5_init cX5_init 3 none 1 20 [tR (some a0), tL p1] A (wU g).1 (wU g).2 := by
  refine Sm.of (ω := wU) (fX5_init a0 p1 A) [some (tR (some a0)), some (tL p1), none] (by decide) (Nat.le_of_ble_eq_true rfl) rfl hg ?_
  intro p e R s m args below meth c X hin
  have X : Cx D cX5_init RX5 3 1 20 none p R s m args meth c := X
  unfold fX5_init
  refine rf_aload_n X rfl dX5_init_0 ?_
  refine rf_objInit X q574 ⟨by decide, by decide⟩ (Nat.le_of_ble_eq_true rfl) dX5_init_1 ?_
  refine rf_aload_n X rfl dX5_init_4 ?_
  refine rf_lload_n X rfl dX5_init_5 ?_
  refine rf_ldc2 X (v := (255 : Int64)) q575 dX5_init_6 ?_
  refine rf_land X dX5_init_9 ?_
  refine rf_l2i X dX5_init_10 ?_
  refine rf_bind (fun A1 hA1 => ?_)
  refine rf_putI X fp_X5_9 (fun _ => hin) hA1 dX5_init_11 ?_
  refine rf_aload_n X rfl dX5_init_14 ?_
  refine rf_lload_n X rfl dX5_init_15 ?_
  refine rf_bipush X (8 : Int32) rfl dX5_init_16 ?_
  refine rf_lshr X dX5_init_18 ?_
  refine rf_l2i X dX5_init_19 ?_
  refine rf_bipush X (15 : Int32) rfl dX5_init_20 ?_
  refine rf_iand X dX5_init_22 ?_
  refine rf_bind (fun A2 hA2 => ?_)
  refine rf_putI X fp_X5_15 (fun _ => hin) hA2 dX5_init_23 ?_
  refine rf_aload_n X rfl dX5_init_26 ?_
  refine rf_lload_n X rfl dX5_init_27 ?_
  refine rf_bipush X (12 : Int32) rfl dX5_init_28 ?_
  refine rf_lshr X dX5_init_30 ?_
  refine rf_l2i X dX5_init_31 ?_
  refine rf_bipush X (15 : Int32) rfl dX5_init_32 ?_
  refine rf_iand X dX5_init_34 ?_
  refine rf_bind (fun A3 hA3 => ?_)
  refine rf_putI X fp_X5_18 (fun _ => hin) hA3 dX5_init_35 ?_
  refine rf_aload_n X rfl dX5_init_38 ?_
  refine rf_lload_n X rfl dX5_init_39 ?_
  refine rf_bipush X (16 : Int32) rfl dX5_init_40 ?_
  refine rf_lshr X dX5_init_42 ?_
  refine rf_l2i X dX5_init_43 ?_
  refine rf_bipush X (15 : Int32) rfl dX5_init_44 ?_
  refine rf_iand X dX5_init_46 ?_
  refine rf_bind (fun A4 hA4 => ?_)
  refine rf_putI X fp_X5_21 (fun _ => hin) hA4 dX5_init_47 ?_
  refine rf_aload_n X rfl dX5_init_50 ?_
  refine rf_lload_n X rfl dX5_init_51 ?_
  refine rf_bipush X (20 : Int32) rfl dX5_init_52 ?_
  refine rf_lshr X dX5_init_54 ?_
  refine rf_l2i X dX5_init_55 ?_
  refine rf_bipush X (15 : Int32) rfl dX5_init_56 ?_
  refine rf_iand X dX5_init_58 ?_
  refine rf_bind (fun A5 hA5 => ?_)
  refine rf_putI X fp_X5_24 (fun _ => hin) hA5 dX5_init_59 ?_
  refine rf_aload_n X rfl dX5_init_62 ?_
  refine rf_lload_n X rfl dX5_init_63 ?_
  refine rf_bipush X (32 : Int32) rfl dX5_init_64 ?_
  refine rf_lshr X dX5_init_66 ?_
  refine rf_l2i X dX5_init_67 ?_
  refine rf_bind (fun A6 hA6 => ?_)
  refine rf_putI X fp_X5_27 (fun _ => hin) hA6 dX5_init_68 ?_
  refine rf_aload_n X rfl dX5_init_71 ?_
  refine rf_aload_n X rfl dX5_init_72 ?_
  refine rf_bind (fun v7 hv7 => ?_)
  refine rf_bind (fun g8 hg8 => ?_)
  refine rf_callVI X c_X5_30 ⟨Nat.le_of_ble_eq_true rfl, Nat.le_of_ble_eq_true rfl⟩ [] rfl (Nat.le_of_ble_eq_true rfl) hv7 (sX5_sortOf l D v7 A6 g8 hg8) dX5_init_73 ?_
  refine rf_bind (fun A9 hA9 => ?_)
  refine rf_putR X fp_X5_34 (fun _ => hin) rfl hA9 dX5_init_76 ?_
  exact rf_vret X rfl dX5_init_79

theorem dX3_clear_0 : decode cX3_clear 0 = .ok (.iconst 0, 1) := by decide +kernel
theorem dX3_clear_1 : decode cX3_clear 1 = .ok (.istore_n 1, 1) := by decide +kernel
theorem dX3_clear_2 : decode cX3_clear 2 = .ok (.iload_n 1, 1) := by decide +kernel
theorem dX3_clear_3 : decode cX3_clear 3 = .ok (.aload_n 0, 1) := by decide +kernel
theorem dX3_clear_4 : decode cX3_clear 4 = .ok (.getfield 10, 3) := by decide +kernel
theorem dX3_clear_7 : decode cX3_clear 7 = .ok (.invokevirtual 26, 3) := by decide +kernel
theorem dX3_clear_10 : decode cX3_clear 10 = .ok (.if_icmp .ge 28, 3) := by decide +kernel
theorem dX3_clear_13 : decode cX3_clear 13 = .ok (.aload_n 0, 1) := by decide +kernel
theorem dX3_clear_14 : decode cX3_clear 14 = .ok (.getfield 16, 3) := by decide +kernel
theorem dX3_clear_17 : decode cX3_clear 17 = .ok (.aload_n 0, 1) := by decide +kernel
theorem dX3_clear_18 : decode cX3_clear 18 = .ok (.getfield 10, 3) := by decide +kernel
theorem dX3_clear_21 : decode cX3_clear 21 = .ok (.iload_n 1, 1) := by decide +kernel
theorem dX3_clear_22 : decode cX3_clear 22 = .ok (.invokevirtual 45, 3) := by decide +kernel
theorem dX3_clear_25 : decode cX3_clear 25 = .ok (.checkcast 23, 3) := by decide +kernel
theorem dX3_clear_28 : decode cX3_clear 28 = .ok (.invokevirtual 41, 3) := by decide +kernel
theorem dX3_clear_31 : decode cX3_clear 31 = .ok (.pop, 1) := by decide +kernel
theorem dX3_clear_32 : decode cX3_clear 32 = .ok (.iinc 1 1, 3) := by decide +kernel
theorem dX3_clear_35 : decode cX3_clear 35 = .ok (.goto (-33), 3) := by decide +kernel
theorem dX3_clear_38 : decode cX3_clear 38 = .ok (.aload_n 0, 1) := by decide +kernel
theorem dX3_clear_39 : decode cX3_clear 39 = .ok (.getfield 10, 3) := by decide +kernel
theorem dX3_clear_42 : decode cX3_clear 42 = .ok (.invokevirtual 59, 3) := by decide +kernel
theorem dX3_clear_45 : decode cX3_clear 45 = .ok (.aload_n 0, 1) := by decide +kernel
theorem dX3_clear_46 : decode cX3_clear 46 = .ok (.iconst 0, 1) := by decide +kernel
theorem dX3_clear_47 : decode cX3_clear 47 = .ok (.putfield 34, 3) := by decide +kernel
theorem dX3_clear_50 : decode cX3_clear 50 = .ok (.return_, 1) := by decide +kernel
def fX3_clear (n : Nat) (a0 : Nat) (A : AH) : Option (AH) :=
jl (fixG (fun _ _ => none) (fun (rc4 : (Int32) → (AH) → Option (AH)) (x2 : Int32) (A3 : AH) =>
(gR A3 (some a0) 3 0).bind fun v5 =>
(rcv A3 v5 0).bind fun v6 =>
(fJ2_size v6 A3).bind fun g7 =>
if g7 ≤ x2 then ((fJ2_clear n v6 A3).bind fun g9 =>
(pI g9 (some a0) 3 2 (0 : Int32)).bind fun A10 =>
some A10) else
(gR A3 (some a0) 3 1).bind fun v11 =>
(fJ2_get v6 x2 A3).bind fun g12 =>
(cst A3 g12 15).bind fun v13 =>
(rcv A3 v11 0).bind fun v14 =>
(fJ2_add v14 g12 A3).bind fun g15 =>
rc4 (x2 + (1 : Int32)) g15.2) n) fun j1 =>
j1 (0 : Int32) A

set_option maxHeartbeats 4000000 in
set_option maxRecDepth 100000 in
theorem sX3_clear (l : Launch) (D : DE) (n : Nat) (a0 : Nat) (A : AH) (g : AH) (hg : fX3_clear n a0 A = some g) : Sm l D yX3_clear cX3_clear 2 none 7 191 [tR (some a0)] A (wU g).1 (wU g).2 := by
  refine Sm.of (ω := wU) (fX3_clear n a0 A) [some (tR (some a0)), none] (by decide) (Nat.le_of_ble_eq_true rfl) rfl hg ?_
  intro p e R s m args below meth c X hin
  have X : Cx D cX3_clear RX3 2 7 191 none p R s m args meth c := X
  unfold fX3_clear
  refine rf_iconst X (0 : Int32) rfl dX3_clear_0 ?_
  refine rf_istore_n X (ls' := [some (tR (some a0)), some (tI (0 : Int32))]) rfl (by decide) dX3_clear_1 ?_
  refine rf_fix (fun i => ∀ (x2 : Int32) (A3 : AH), RfX X l e below wU (i x2 A3) 2 [some (tR (some a0)), some (tI x2)] [] A3) (fun _ _ => rf_none) (fun rc4 hrc4 => ?_) (fun j1 hj1 => ?_)
  · intro x2 A3
    refine rf_iload_n X rfl dX3_clear_2 ?_
    refine rf_aload_n X rfl dX3_clear_3 ?_
    refine rf_bind (fun v5 hv5 => ?_)
    refine rf_getR X fl_X3_10 hv5 dX3_clear_4 ?_
    refine rf_bind (fun v6 hv6 => ?_)
    refine rf_bind (fun g7 hg7 => ?_)
    refine rf_callVI X c_X3_26 ⟨Nat.le_of_ble_eq_true rfl, Nat.le_of_ble_eq_true rfl⟩ [] rfl (Nat.le_of_ble_eq_true rfl) hv6 (sJ2_size l D v6 A3 g7 hg7) dX3_clear_7 ?_
    refine rf_icmp_ge X (tgt := 38) rfl dX3_clear_10 (fun c8 => rf_pos c8 ?_) (fun c8 => rf_neg c8 ?_)
    · refine rf_aload_n X rfl dX3_clear_38 ?_
      refine rf_getR X fl_X3_10 hv5 dX3_clear_39 ?_
      refine rf_bind (fun g9 hg9 => ?_)
      refine rf_callVU X c_X3_59 ⟨Nat.le_of_ble_eq_true rfl, Nat.le_of_ble_eq_true rfl⟩ [] rfl (Nat.le_of_ble_eq_true rfl) hv6 (sJ2_clear l D n v6 A3 g9 hg9) dX3_clear_42 ?_
      refine rf_aload_n X rfl dX3_clear_45 ?_
      refine rf_iconst X (0 : Int32) rfl dX3_clear_46 ?_
      refine rf_bind (fun A10 hA10 => ?_)
      refine rf_putI X fp_X3_34 (fun h => by cases h) hA10 dX3_clear_47 ?_
      exact rf_vret X rfl dX3_clear_50
    refine rf_aload_n X rfl dX3_clear_13 ?_
    refine rf_bind (fun v11 hv11 => ?_)
    refine rf_getR X fl_X3_16 hv11 dX3_clear_14 ?_
    refine rf_aload_n X rfl dX3_clear_17 ?_
    refine rf_getR X fl_X3_10 hv5 dX3_clear_18 ?_
    refine rf_iload_n X rfl dX3_clear_21 ?_
    refine rf_bind (fun g12 hg12 => ?_)
    refine rf_callVI X c_X3_45 ⟨Nat.le_of_ble_eq_true rfl, Nat.le_of_ble_eq_true rfl⟩ [tI x2] rfl (Nat.le_of_ble_eq_true rfl) hv6 (sJ2_get l D v6 x2 A3 g12 hg12) dX3_clear_22 ?_
    refine rf_bind (fun v13 hv13 => ?_)
    refine rf_cast X (ci := 15) rfl rfl q713 hv13 dX3_clear_25 ?_
    refine rf_bind (fun v14 hv14 => ?_)
    refine rf_bind (fun g15 hg15 => ?_)
    refine rf_callVI X c_X3_41 ⟨Nat.le_of_ble_eq_true rfl, Nat.le_of_ble_eq_true rfl⟩ [tR g12] rfl (Nat.le_of_ble_eq_true rfl) hv14 (sJ2_add l D v14 g12 A3 g15 hg15) dX3_clear_28 ?_
    refine rf_pop X rfl dX3_clear_31 ?_
    refine rf_iinc X (x2 + (1 : Int32)) rfl rfl (ls' := [some (tR (some a0)), some (tI (x2 + (1 : Int32)))]) rfl (by decide) dX3_clear_32 ?_
    refine rf_goto X (tgt := 2) rfl dX3_clear_35 ?_
    exact rf_go (hrc4 (x2 + (1 : Int32)) g15.2) (And.intro rfl (And.intro rfl True.intro))
  exact rf_go (hj1 (0 : Int32) A) (And.intro rfl (And.intro rfl True.intro))

theorem dX8_init_0 : decode cX8_init 0 = .ok (.aload_n 0, 1) := by decide +kernel
theorem dX8_init_1 : decode cX8_init 1 = .ok (.invokespecial 1, 3) := by decide +kernel
theorem dX8_init_4 : decode cX8_init 4 = .ok (.aload_n 0, 1) := by decide +kernel
theorem dX8_init_5 : decode cX8_init 5 = .ok (.iload_n 1, 1) := by decide +kernel
theorem dX8_init_6 : decode cX8_init 6 = .ok (.anewarray 7, 3) := by decide +kernel
theorem dX8_init_9 : decode cX8_init 9 = .ok (.putfield 9, 3) := by decide +kernel
theorem dX8_init_12 : decode cX8_init 12 = .ok (.aload_n 0, 1) := by decide +kernel
theorem dX8_init_13 : decode cX8_init 13 = .ok (.iload_n 1, 1) := by decide +kernel
theorem dX8_init_14 : decode cX8_init 14 = .ok (.iconst 1, 1) := by decide +kernel
theorem dX8_init_15 : decode cX8_init 15 = .ok (.isub, 1) := by decide +kernel
theorem dX8_init_16 : decode cX8_init 16 = .ok (.putfield 15, 3) := by decide +kernel
theorem dX8_init_19 : decode cX8_init 19 = .ok (.return_, 1) := by decide +kernel
def fX8_init (a0 : Nat) (p1 : Int32) (A : AH) : Option (AH) :=
(nAR A 4 p1).bind fun A1 =>
(pR A1 (some a0) 8 0 (some (hN A))).bind fun A2 =>
(pI A2 (some a0) 8 1 (p1 - (1 : Int32))).bind fun A3 =>
some A3

set_option maxHeartbeats 4000000 in
set_option maxRecDepth 100000 in
theorem sX8_init (l : Launch) (D : DE) (a0 : Nat) (p1 : Int32) (A : AH) (g : AH) (hg : fX8_init a0 p1 A = some g) : Sm l D yX8_init cX8_init 2 none 1 20 [tR (some a0), tI p1] A (wU g).1 (wU g).2 := by
  refine Sm.of (ω := wU) (fX8_init a0 p1 A) [some (tR (some a0)), some (tI p1)] (by decide) (Nat.le_of_ble_eq_true rfl) rfl hg ?_
  intro p e R s m args below meth c X hin
  have X : Cx D cX8_init RX8 2 1 20 none p R s m args meth c := X
  unfold fX8_init
  refine rf_aload_n X rfl dX8_init_0 ?_
  refine rf_objInit X q724 ⟨by decide, by decide⟩ (Nat.le_of_ble_eq_true rfl) dX8_init_1 ?_
  refine rf_aload_n X rfl dX8_init_4 ?_
  refine rf_iload_n X rfl dX8_init_5 ?_
  refine rf_bind (fun A1 hA1 => ?_)
  refine rf_newq X (t0 := 4) q725 q726 (by decide) rfl hA1 dX8_init_6 ?_
  refine rf_bind (fun A2 hA2 => ?_)
  refine rf_putR X fp_X8_9 (fun _ => hin) rfl hA2 dX8_init_9 ?_
  refine rf_aload_n X rfl dX8_init_12 ?_
  refine rf_iload_n X rfl dX8_init_13 ?_
  refine rf_iconst X (1 : Int32) rfl dX8_init_14 ?_
  refine rf_isub X dX8_init_15 ?_
  refine rf_bind (fun A3 hA3 => ?_)
  refine rf_putI X fp_X8_15 (fun _ => hin) hA3 dX8_init_16 ?_
  exact rf_vret X rfl dX8_init_19

theorem dX10_init_0 : decode cX10_init 0 = .ok (.aload_n 0, 1) := by decide +kernel
theorem dX10_init_1 : decode cX10_init 1 = .ok (.invokespecial 3, 3) := by decide +kernel
theorem dX10_init_4 : decode cX10_init 4 = .ok (.aload_n 0, 1) := by decide +kernel
theorem dX10_init_5 : decode cX10_init 5 = .ok (.iconst 4, 1) := by decide +kernel
theorem dX10_init_6 : decode cX10_init 6 = .ok (.newarray .int, 2) := by decide +kernel
theorem dX10_init_8 : decode cX10_init 8 = .ok (.putfield 9, 3) := by decide +kernel
theorem dX10_init_11 : decode cX10_init 11 = .ok (.iconst 0, 1) := by decide +kernel
theorem dX10_init_12 : decode cX10_init 12 = .ok (.istore_n 1, 1) := by decide +kernel
theorem dX10_init_13 : decode cX10_init 13 = .ok (.iload_n 1, 1) := by decide +kernel
theorem dX10_init_14 : decode cX10_init 14 = .ok (.iconst 4, 1) := by decide +kernel
theorem dX10_init_15 : decode cX10_init 15 = .ok (.if_icmp .ge 16, 3) := by decide +kernel
theorem dX10_init_18 : decode cX10_init 18 = .ok (.aload_n 0, 1) := by decide +kernel
theorem dX10_init_19 : decode cX10_init 19 = .ok (.getfield 9, 3) := by decide +kernel
theorem dX10_init_22 : decode cX10_init 22 = .ok (.iload_n 1, 1) := by decide +kernel
theorem dX10_init_23 : decode cX10_init 23 = .ok (.iconst (-1), 1) := by decide +kernel
theorem dX10_init_24 : decode cX10_init 24 = .ok (.iastore, 1) := by decide +kernel
theorem dX10_init_25 : decode cX10_init 25 = .ok (.iinc 1 1, 3) := by decide +kernel
theorem dX10_init_28 : decode cX10_init 28 = .ok (.goto (-15), 3) := by decide +kernel
theorem dX10_init_31 : decode cX10_init 31 = .ok (.return_, 1) := by decide +kernel
def fX10_init (n : Nat) (a0 : Nat) (A : AH) : Option (AH) :=
(nAI A (4 : Int32)).bind fun A1 =>
(pR A1 (some a0) 10 0 (some (hN A))).bind fun A2 =>
jl (fixG (fun _ _ => none) (fun (rc6 : (Int32) → (AH) → Option (AH)) (x4 : Int32) (A5 : AH) =>
if (4 : Int32) ≤ x4 then (some A5) else
(gR A5 (some a0) 10 0).bind fun v8 =>
(sI A5 v8 x4 (-1 : Int32)).bind fun A9 =>
rc6 (x4 + (1 : Int32)) A9) n) fun j3 =>
j3 (0 : Int32) A2

set_option maxHeartbeats 4000000 in
set_option maxRecDepth 100000 in
theorem sX10_init (l : Launch) (D : DE) (n : Nat) (a0 : Nat) (A : AH) (g : AH) (hg : fX10_init n a0 A = some g) : Sm l D yX10_init cX10_init 2 none 1 20 [tR (some a0)] A (wU g).1 (wU g).2 := by
  refine Sm.of (ω := wU) (fX10_init n a0 A) [some (tR (some a0)), none] (by decide) (Nat.le_of_ble_eq_true rfl) rfl hg ?_
  intro p e R s m args below meth c X hin
  have X : Cx D cX10_init RX10 2 1 20 none p R s m args meth c := X
  unfold fX10_init
  refine rf_aload_n X rfl dX10_init_0 ?_
  refine rf_objInit X q767 ⟨by decide, by decide⟩ (Nat.le_of_ble_eq_true rfl) dX10_init_1 ?_
  refine rf_aload_n X rfl dX10_init_4 ?_
  refine rf_iconst X (4 : Int32) rfl dX10_init_5 ?_
  refine rf_bind (fun A1 hA1 => ?_)
  refine rf_newI X hA1 dX10_init_6 ?_
  refine rf_bind (fun A2 hA2 => ?_)
  refine rf_putR X fp_X10_9 (fun _ => hin) rfl hA2 dX10_init_8 ?_
  refine rf_iconst X (0 : Int32) rfl dX10_init_11 ?_
  refine rf_istore_n X (ls' := [some (tR (some a0)), some (tI (0 : Int32))]) rfl (by decide) dX10_init_12 ?_
  refine rf_fix (fun i => ∀ (x4 : Int32) (A5 : AH), RfX X l e below wU (i x4 A5) 13 [some (tR (some a0)), some (tI x4)] [] A5) (fun _ _ => rf_none) (fun rc6 hrc6 => ?_) (fun j3 hj3 => ?_)
  · intro x4 A5
    refine rf_iload_n X rfl dX10_init_13 ?_
    refine rf_iconst X (4 : Int32) rfl dX10_init_14 ?_
    refine rf_icmp_ge X (tgt := 31) rfl dX10_init_15 (fun c7 => rf_pos c7 ?_) (fun c7 => rf_neg c7 ?_)
    · exact rf_vret X rfl dX10_init_31
    refine rf_aload_n X rfl dX10_init_18 ?_
    refine rf_bind (fun v8 hv8 => ?_)
    refine rf_getR X fl_X10_9 hv8 dX10_init_19 ?_
    refine rf_iload_n X rfl dX10_init_22 ?_
    refine rf_iconst X (-1 : Int32) rfl dX10_init_23 ?_
    refine rf_bind (fun A9 hA9 => ?_)
    refine rf_iast X hA9 dX10_init_24 ?_
    refine rf_iinc X (x4 + (1 : Int32)) rfl rfl (ls' := [some (tR (some a0)), some (tI (x4 + (1 : Int32)))]) rfl (by decide) dX10_init_25 ?_
    refine rf_goto X (tgt := 13) rfl dX10_init_28 ?_
    exact rf_go (hrc6 (x4 + (1 : Int32)) A9) (And.intro rfl (And.intro rfl True.intro))
  exact rf_go (hj3 (0 : Int32) A2) (And.intro rfl (And.intro rfl True.intro))

theorem dX9_init_0 : decode cX9_init 0 = .ok (.aload_n 0, 1) := by decide +kernel
theorem dX9_init_1 : decode cX9_init 1 = .ok (.invokespecial 3, 3) := by decide +kernel
theorem dX9_init_4 : decode cX9_init 4 = .ok (.aload_n 0, 1) := by decide +kernel
theorem dX9_init_5 : decode cX9_init 5 = .ok (.new 9, 3) := by decide +kernel
theorem dX9_init_8 : decode cX9_init 8 = .ok (.dup, 1) := by decide +kernel
theorem dX9_init_9 : decode cX9_init 9 = .ok (.iconst 4, 1) := by decide +kernel
theorem dX9_init_10 : decode cX9_init 10 = .ok (.invokespecial 11, 3) := by decide +kernel
theorem dX9_init_13 : decode cX9_init 13 = .ok (.putfield 14, 3) := by decide +kernel
theorem dX9_init_16 : decode cX9_init 16 = .ok (.iconst 0, 1) := by decide +kernel
theorem dX9_init_17 : decode cX9_init 17 = .ok (.istore_n 2, 1) := by decide +kernel
theorem dX9_init_18 : decode cX9_init 18 = .ok (.iload_n 2, 1) := by decide +kernel
theorem dX9_init_19 : decode cX9_init 19 = .ok (.iload_n 1, 1) := by decide +kernel
theorem dX9_init_20 : decode cX9_init 20 = .ok (.if_icmp .ge 24, 3) := by decide +kernel
theorem dX9_init_23 : decode cX9_init 23 = .ok (.aload_n 0, 1) := by decide +kernel
theorem dX9_init_24 : decode cX9_init 24 = .ok (.getfield 14, 3) := by decide +kernel
theorem dX9_init_27 : decode cX9_init 27 = .ok (.new 20, 3) := by decide +kernel
theorem dX9_init_30 : decode cX9_init 30 = .ok (.dup, 1) := by decide +kernel
theorem dX9_init_31 : decode cX9_init 31 = .ok (.invokespecial 22, 3) := by decide +kernel
theorem dX9_init_34 : decode cX9_init 34 = .ok (.invokevirtual 23, 3) := by decide +kernel
theorem dX9_init_37 : decode cX9_init 37 = .ok (.pop, 1) := by decide +kernel
theorem dX9_init_38 : decode cX9_init 38 = .ok (.iinc 2 1, 3) := by decide +kernel
theorem dX9_init_41 : decode cX9_init 41 = .ok (.goto (-23), 3) := by decide +kernel
theorem dX9_init_44 : decode cX9_init 44 = .ok (.return_, 1) := by decide +kernel
def fX9_init (n : Nat) (a0 : Nat) (p1 : Int32) (A : AH) : Option (AH) :=
(nO A 0 dfJ2).bind fun A1 =>
(fJ2_init (hN A) (4 : Int32) A1).bind fun g2 =>
(pR g2 (some a0) 9 0 (some (hN A))).bind fun A3 =>
jl (fixG (fun _ _ => none) (fun (rc7 : (Int32) → (AH) → Option (AH)) (x5 : Int32) (A6 : AH) =>
if p1 ≤ x5 then (some A6) else
(gR A6 (some a0) 9 0).bind fun v9 =>
(nO A6 10 dfX10).bind fun A10 =>
(fX10_init n (hN A6) A10).bind fun g11 =>
(rcv g11 v9 0).bind fun v12 =>
(fJ2_add v12 (some (hN A6)) g11).bind fun g13 =>
rc7 (x5 + (1 : Int32)) g13.2) n) fun j4 =>
j4 (0 : Int32) A3

set_option maxHeartbeats 4000000 in
set_option maxRecDepth 100000 in
theorem sX9_init (l : Launch) (D : DE) (n : Nat) (a0 : Nat) (p1 : Int32) (A : AH) (g : AH) (hg : fX9_init n a0 p1 A = some g) : Sm l D yX9_init cX9_init 3 none 7 191 [tR (some a0), tI p1] A (wU g).1 (wU g).2 := by
  refine Sm.of (ω := wU) (fX9_init n a0 p1 A) [some (tR (some a0)), some (tI p1), none] (by decide) (Nat.le_of_ble_eq_true rfl) rfl hg ?_
  intro p e R s m args below meth c X hin
  have X : Cx D cX9_init RX9 3 7 191 none p R s m args meth c := X
  unfold fX9_init
  refine rf_aload_n X rfl dX9_init_0 ?_
  refine rf_objInit X q759 ⟨by decide, by decide⟩ (Nat.le_of_ble_eq_true rfl) dX9_init_1 ?_
  refine rf_aload_n X rfl dX9_init_4 ?_
  refine rf_bind (fun A1 hA1 => ?_)
  refine rf_new X nw_X9_9 hA1 dX9_init_5 ?_
  refine rf_dup X rfl dX9_init_8 ?_
  refine rf_iconst X (4 : Int32) rfl dX9_init_9 ?_
  refine rf_bind (fun g2 hg2 => ?_)
  refine rf_callI X c_X9_11 ⟨Nat.le_of_ble_eq_true rfl, Nat.le_of_ble_eq_true rfl⟩ [tI (4 : Int32)] rfl (Nat.le_of_ble_eq_true rfl) (sJ2_init l D (hN A) (4 : Int32) A1 g2 hg2) dX9_init_10 ?_
  refine rf_bind (fun A3 hA3 => ?_)
  refine rf_putR X fp_X9_14 (fun _ => hin) rfl hA3 dX9_init_13 ?_
  refine rf_iconst X (0 : Int32) rfl dX9_init_16 ?_
  refine rf_istore_n X (ls' := [some (tR (some a0)), some (tI p1), some (tI (0 : Int32))]) rfl (by decide) dX9_init_17 ?_
  refine rf_fix (fun i => ∀ (x5 : Int32) (A6 : AH), RfX X l e below wU (i x5 A6) 18 [some (tR (some a0)), some (tI p1), some (tI x5)] [] A6) (fun _ _ => rf_none) (fun rc7 hrc7 => ?_) (fun j4 hj4 => ?_)
  · intro x5 A6
    refine rf_iload_n X rfl dX9_init_18 ?_
    refine rf_iload_n X rfl dX9_init_19 ?_
    refine rf_icmp_ge X (tgt := 44) rfl dX9_init_20 (fun c8 => rf_pos c8 ?_) (fun c8 => rf_neg c8 ?_)
    · exact rf_vret X rfl dX9_init_44
    refine rf_aload_n X rfl dX9_init_23 ?_
    refine rf_bind (fun v9 hv9 => ?_)
    refine rf_getR X fl_X9_14 hv9 dX9_init_24 ?_
    refine rf_bind (fun A10 hA10 => ?_)
    refine rf_new X nw_X9_20 hA10 dX9_init_27 ?_
    refine rf_dup X rfl dX9_init_30 ?_
    refine rf_bind (fun g11 hg11 => ?_)
    refine rf_callI X c_X9_22 ⟨Nat.le_of_ble_eq_true rfl, Nat.le_of_ble_eq_true rfl⟩ [] rfl (Nat.le_of_ble_eq_true rfl) (sX10_init l D n (hN A6) A10 g11 hg11) dX9_init_31 ?_
    refine rf_bind (fun v12 hv12 => ?_)
    refine rf_bind (fun g13 hg13 => ?_)
    refine rf_callVI X c_X9_23 ⟨Nat.le_of_ble_eq_true rfl, Nat.le_of_ble_eq_true rfl⟩ [tR (some (hN A6))] rfl (Nat.le_of_ble_eq_true rfl) hv12 (sJ2_add l D v12 (some (hN A6)) g11 g13 hg13) dX9_init_34 ?_
    refine rf_pop X rfl dX9_init_37 ?_
    refine rf_iinc X (x5 + (1 : Int32)) rfl rfl (ls' := [some (tR (some a0)), some (tI p1), some (tI (x5 + (1 : Int32)))]) rfl (by decide) dX9_init_38 ?_
    refine rf_goto X (tgt := 18) rfl dX9_init_41 ?_
    exact rf_go (hrc7 (x5 + (1 : Int32)) g13.2) (And.intro rfl (And.intro rfl (And.intro rfl True.intro)))
  exact rf_go (hj4 (0 : Int32) A3) (And.intro rfl (And.intro rfl (And.intro rfl True.intro)))

