/-! 20.g07: printed by gen/parts.py -/
set_option maxRecDepth 100000
theorem fl_X15_7 : FLr RX15 7 15 0 := ⟨RX15, TX15, 9, "WarpMill$Ask", "", rfl, by decide, in_X15, Or.inl q1423, Or.inl rfl⟩
theorem fl_X15_13 : FLr RX15 13 15 1 := ⟨RX15, TX15, 9, "WarpMill$Ask", "", rfl, by decide, in_X15, Or.inl q1426, Or.inl rfl⟩
theorem fl_X7_36 : FLr RX7 36 7 5 := ⟨RX7, TX7, 26, "WarpMill$Machine", "", rfl, by decide, in_X7, Or.inl q805, Or.inl rfl⟩
theorem fl_X7_181 : FLr RX7 181 15 3 := ⟨RX15, TX15, 9, "WarpMill$Ask", "WarpMill", rfl, by decide, in_X15, Or.inr q1429, Or.inl rfl⟩
theorem fl_X7_186 : FLr RX7 186 15 2 := ⟨RX15, TX15, 9, "WarpMill$Ask", "WarpMill", rfl, by decide, in_X15, Or.inr q1428, Or.inl rfl⟩
theorem fl_X7_189 : FLr RX7 189 15 4 := ⟨RX15, TX15, 9, "WarpMill$Ask", "WarpMill", rfl, by decide, in_X15, Or.inr q1430, Or.inl rfl⟩
theorem fl_X7_192 : FLr RX7 192 15 5 := ⟨RX15, TX15, 9, "WarpMill$Ask", "WarpMill", rfl, by decide, in_X15, Or.inr q1431, Or.inl rfl⟩
theorem fl_X7_199 : FLr RX7 199 15 8 := ⟨RX15, TX15, 9, "WarpMill$Ask", "WarpMill", rfl, by decide, in_X15, Or.inr q1434, Or.inl rfl⟩
theorem fl_X7_203 : FLr RX7 203 14 5 := ⟨RX14, TX14, 6, "WarpMill$Lane", "WarpMill", rfl, by decide, in_X14, Or.inr q1214, Or.inl rfl⟩
theorem fl_X7_208 : FLr RX7 208 15 7 := ⟨RX15, TX15, 9, "WarpMill$Ask", "WarpMill", rfl, by decide, in_X15, Or.inr q1433, Or.inl rfl⟩
theorem fl_X7_209 : FLr RX7 209 14 0 := ⟨RX14, TX14, 6, "WarpMill$Lane", "WarpMill", rfl, by decide, in_X14, Or.inr q1198, Or.inl rfl⟩
theorem fl_X7_212 : FLr RX7 212 15 6 := ⟨RX15, TX15, 9, "WarpMill$Ask", "WarpMill", rfl, by decide, in_X15, Or.inr q1432, Or.inl rfl⟩
theorem fp_X12_9 : FL RX12 9 12 1 (.array .int) true := ⟨RX12, TX12, 3, tyX12, "WarpMill$Block", "", rfl, by decide, in_X12, tyX12_ok, nmX12, Or.inl q1121, Or.inl rfl, rfl, rfl, fun _ => ⟨rfl, q1121⟩⟩
theorem fp_X12_20 : FL RX12 20 12 2 (.object "java/util/ArrayList") true := ⟨RX12, TX12, 3, tyX12, "WarpMill$Block", "", rfl, by decide, in_X12, tyX12_ok, nmX12, Or.inl q1124, Or.inl rfl, rfl, rfl, fun _ => ⟨rfl, q1124⟩⟩
theorem fp_X12_24 : FL RX12 24 12 0 (.int) false := ⟨RX12, TX12, 3, tyX12, "WarpMill$Block", "", rfl, by decide, in_X12, tyX12_ok, nmX12, Or.inl q1118, Or.inl rfl, rfl, rfl, fun h => by cases h⟩
theorem fl_X12_20 : FLr RX12 20 12 2 := ⟨RX12, TX12, 3, "WarpMill$Block", "", rfl, by decide, in_X12, Or.inl q1124, Or.inl rfl⟩
theorem fl_X12_9 : FLr RX12 9 12 1 := ⟨RX12, TX12, 3, "WarpMill$Block", "", rfl, by decide, in_X12, Or.inl q1121, Or.inl rfl⟩
theorem fp_X13_14 : FL RX13 14 13 2 (.object "java/util/ArrayList") true := ⟨RX13, TX13, 6, tyX13, "WarpMill$Warp", "", rfl, by decide, in_X13, tyX13_ok, nmX13, Or.inl q1159, Or.inl rfl, rfl, rfl, fun _ => ⟨rfl, q1159⟩⟩
theorem fp_X13_20 : FL RX13 20 13 3 (.array .int) true := ⟨RX13, TX13, 6, tyX13, "WarpMill$Warp", "", rfl, by decide, in_X13, tyX13_ok, nmX13, Or.inl q1164, Or.inl rfl, rfl, rfl, fun _ => ⟨rfl, q1164⟩⟩
theorem fp_X13_24 : FL RX13 24 13 4 (.array .int) true := ⟨RX13, TX13, 6, tyX13, "WarpMill$Warp", "", rfl, by decide, in_X13, tyX13_ok, nmX13, Or.inl q1166, Or.inl rfl, rfl, rfl, fun _ => ⟨rfl, q1166⟩⟩
theorem fp_X13_27 : FL RX13 27 13 0 (.object "WarpMill$Block") false := ⟨RX13, TX13, 6, tyX13, "WarpMill$Warp", "", rfl, by decide, in_X13, tyX13_ok, nmX13, Or.inl q1152, Or.inl rfl, rfl, rfl, fun h => by cases h⟩
theorem fp_X13_31 : FL RX13 31 13 1 (.int) false := ⟨RX13, TX13, 6, tyX13, "WarpMill$Warp", "", rfl, by decide, in_X13, tyX13_ok, nmX13, Or.inl q1156, Or.inl rfl, rfl, rfl, fun h => by cases h⟩
theorem fp_X13_38 : FL RX13 38 13 5 (.int) false := ⟨RX13, TX13, 6, tyX13, "WarpMill$Warp", "", rfl, by decide, in_X13, tyX13_ok, nmX13, Or.inl q1168, Or.inl rfl, rfl, rfl, fun h => by cases h⟩
theorem fl_X13_24 : FLr RX13 24 13 4 := ⟨RX13, TX13, 6, "WarpMill$Warp", "", rfl, by decide, in_X13, Or.inl q1166, Or.inl rfl⟩
theorem fl_X13_20 : FLr RX13 20 13 3 := ⟨RX13, TX13, 6, "WarpMill$Warp", "", rfl, by decide, in_X13, Or.inl q1164, Or.inl rfl⟩
theorem fp_X14_9 : FL RX14 9 14 0 (.array .int) true := ⟨RX14, TX14, 6, tyX14, "WarpMill$Lane", "", rfl, by decide, in_X14, tyX14_ok, nmX14, Or.inl q1197, Or.inl rfl, rfl, rfl, fun _ => ⟨rfl, q1197⟩⟩
theorem fp_X14_15 : FL RX14 15 14 1 (.array .boolean) true := ⟨RX14, TX14, 6, tyX14, "WarpMill$Lane", "", rfl, by decide, in_X14, tyX14_ok, nmX14, Or.inl q1200, Or.inl rfl, rfl, rfl, fun _ => ⟨rfl, q1200⟩⟩
theorem nw_X12_15 : NW RX12 15 0 dfJ2 := ⟨RJ2, TJ2, 3, tyJ2, rfl, in_J2, tyJ2_ok, q1116, q127, q82, rfl, by decide⟩
theorem nw_X13_9 : NW RX13 9 0 dfJ2 := ⟨RJ2, TJ2, 3, tyJ2, rfl, in_J2, tyJ2_ok, q1150, q127, q82, rfl, by decide⟩
theorem c_X3_30 : CV RX3 30 0 yJ2_remove cJ2_remove 4 (some (Jvm.ClassFile.FieldType.object "java/lang/Object")) 1 := ⟨TJ2, 3, rfl, q1075, q1076, q1077, q82, q1078, ⟨by decide +kernel, by decide +kernel, by decide +kernel⟩⟩
theorem c_X3_52 : CV RX3 52 0 yJ2_set cJ2_set 4 (some (Jvm.ClassFile.FieldType.object "java/lang/Object")) 2 := ⟨TJ2, 3, rfl, q1088, q951, q952, q82, q953, ⟨by decide +kernel, by decide +kernel, by decide +kernel⟩⟩
theorem c_X3_48 : CV RX3 48 15 yX15_isAhead cX15_isAhead 2 (some Jvm.ClassFile.FieldType.boolean) 1 := ⟨TX15, 9, rfl, q1084, q1085, q1086, q116, q1087, ⟨by decide +kernel, by decide +kernel, by decide +kernel⟩⟩
theorem c_X7_195 : CS RX7 195 yX7_left cX7_left 4 (some Jvm.ClassFile.FieldType.int) 4 := ⟨q1093, q1094, q106, q1095, ⟨by decide +kernel, by decide +kernel, by decide +kernel⟩⟩
theorem c_X12_17 : CI RX12 17 yJ2_init cJ2_init 2 1 := ⟨Or.inl q1117, q129, q82, q130, rfl, ⟨by decide +kernel, by decide +kernel, by decide +kernel⟩⟩
theorem c_X12_28 : CV RX12 28 0 yJ2_clear cJ2_clear 4 none 0 := ⟨TJ2, 3, rfl, q1139, q716, q717, q82, q718, ⟨by decide +kernel, by decide +kernel, by decide +kernel⟩⟩
theorem c_X13_11 : CI RX13 11 yJ2_init cJ2_init 2 1 := ⟨Or.inl q1151, q129, q82, q130, rfl, ⟨by decide +kernel, by decide +kernel, by decide +kernel⟩⟩
theorem c_X13_35 : CV RX13 35 0 yJ2_clear cJ2_clear 4 none 0 := ⟨TJ2, 3, rfl, q1187, q716, q717, q82, q718, ⟨by decide +kernel, by decide +kernel, by decide +kernel⟩⟩
theorem dX15_isAhead_0 : decode cX15_isAhead 0 = .ok (.aload_n 0, 1) := by decide +kernel
theorem dX15_isAhead_1 : decode cX15_isAhead 1 = .ok (.getfield 7, 3) := by decide +kernel
theorem dX15_isAhead_4 : decode cX15_isAhead 4 = .ok (.aload_n 1, 1) := by decide +kernel
theorem dX15_isAhead_5 : decode cX15_isAhead 5 = .ok (.getfield 7, 3) := by decide +kernel
theorem dX15_isAhead_8 : decode cX15_isAhead 8 = .ok (.if_icmp .eq 22, 3) := by decide +kernel
theorem dX15_isAhead_11 : decode cX15_isAhead 11 = .ok (.aload_n 0, 1) := by decide +kernel
theorem dX15_isAhead_12 : decode cX15_isAhead 12 = .ok (.getfield 7, 3) := by decide +kernel
theorem dX15_isAhead_15 : decode cX15_isAhead 15 = .ok (.aload_n 1, 1) := by decide +kernel
theorem dX15_isAhead_16 : decode cX15_isAhead 16 = .ok (.getfield 7, 3) := by decide +kernel
theorem dX15_isAhead_19 : decode cX15_isAhead 19 = .ok (.if_icmp .ge 7, 3) := by decide +kernel
theorem dX15_isAhead_22 : decode cX15_isAhead 22 = .ok (.iconst 1, 1) := by decide +kernel
theorem dX15_isAhead_23 : decode cX15_isAhead 23 = .ok (.goto 23, 3) := by decide +kernel
theorem dX15_isAhead_26 : decode cX15_isAhead 26 = .ok (.iconst 0, 1) := by decide +kernel
theorem dX15_isAhead_27 : decode cX15_isAhead 27 = .ok (.goto 19, 3) := by decide +kernel
theorem dX15_isAhead_30 : decode cX15_isAhead 30 = .ok (.aload_n 0, 1) := by decide +kernel
theorem dX15_isAhead_31 : decode cX15_isAhead 31 = .ok (.getfield 13, 3) := by decide +kernel
theorem dX15_isAhead_34 : decode cX15_isAhead 34 = .ok (.aload_n 1, 1) := by decide +kernel
theorem dX15_isAhead_35 : decode cX15_isAhead 35 = .ok (.getfield 13, 3) := by decide +kernel
theorem dX15_isAhead_38 : decode cX15_isAhead 38 = .ok (.if_icmp .ge 7, 3) := by decide +kernel
theorem dX15_isAhead_41 : decode cX15_isAhead 41 = .ok (.iconst 1, 1) := by decide +kernel
theorem dX15_isAhead_42 : decode cX15_isAhead 42 = .ok (.goto 4, 3) := by decide +kernel
theorem dX15_isAhead_45 : decode cX15_isAhead 45 = .ok (.iconst 0, 1) := by decide +kernel
theorem dX15_isAhead_46 : decode cX15_isAhead 46 = .ok (.ireturn, 1) := by decide +kernel
def fX15_isAhead (a0 : Nat) (p1 : Option Nat) (A : AH) : Option (Int32) :=
(gI A (some a0) 15 0).bind fun v1 =>
(gI A p1 15 0).bind fun v2 =>
jn (fun (y4 : Int32) =>
some (nb y4)) fun j3 =>
if v1 = v2 then ((gI A (some a0) 15 1).bind fun v6 =>
(gI A p1 15 1).bind fun v7 =>
if v7 ≤ v6 then (j3 (0 : Int32)) else
j3 (1 : Int32)) else
if v2 ≤ v1 then (j3 (0 : Int32)) else
j3 (1 : Int32)

set_option maxHeartbeats 4000000 in
set_option maxRecDepth 100000 in
theorem sX15_isAhead (l : Launch) (D : DE) (a0 : Nat) (p1 : Option Nat) (A : AH) (g : Int32) (hg : fX15_isAhead a0 p1 A = some g) : Sm l D yX15_isAhead cX15_isAhead 2 (some Jvm.ClassFile.FieldType.boolean) 0 0 [tR (some a0), tR p1] A (qI A g).1 (qI A g).2 := by
  refine Sm.of (ω := qI A) (fX15_isAhead a0 p1 A) [some (tR (some a0)), some (tR p1)] (by decide) (Nat.le_of_ble_eq_true rfl) rfl hg ?_
  intro p e R s m args below meth c X hin
  have X : Cx D cX15_isAhead RX15 2 0 0 (some Jvm.ClassFile.FieldType.boolean) p R s m args meth c := X
  unfold fX15_isAhead
  refine rf_aload_n X rfl dX15_isAhead_0 ?_
  refine rf_bind (fun v1 hv1 => ?_)
  refine rf_getI X fl_X15_7 hv1 dX15_isAhead_1 ?_
  refine rf_aload_n X rfl dX15_isAhead_4 ?_
  refine rf_bind (fun v2 hv2 => ?_)
  refine rf_getI X fl_X15_7 hv2 dX15_isAhead_5 ?_
  refine rf_jn2 (fun i => ∀ (y4 : Int32), RfX X l e below (qI A) (i y4) 46 [none, none] [tI y4] A) ?_ (fun j3 hj3 => ?_)
  · intro y4
    exact rf_zret X rfl dX15_isAhead_46
  refine rf_icmp_eq X (tgt := 30) rfl dX15_isAhead_8 (fun c5 => rf_pos c5 ?_) (fun c5 => rf_neg c5 ?_)
  · refine rf_aload_n X rfl dX15_isAhead_30 ?_
    refine rf_bind (fun v6 hv6 => ?_)
    refine rf_getI X fl_X15_13 hv6 dX15_isAhead_31 ?_
    refine rf_aload_n X rfl dX15_isAhead_34 ?_
    refine rf_bind (fun v7 hv7 => ?_)
    refine rf_getI X fl_X15_13 hv7 dX15_isAhead_35 ?_
    refine rf_icmp_ge X (tgt := 45) rfl dX15_isAhead_38 (fun c8 => rf_pos c8 ?_) (fun c8 => rf_neg c8 ?_)
    · refine rf_iconst X (0 : Int32) rfl dX15_isAhead_45 ?_
      exact rf_go (hj3 (0 : Int32)) True.intro
    refine rf_iconst X (1 : Int32) rfl dX15_isAhead_41 ?_
    refine rf_goto X (tgt := 46) rfl dX15_isAhead_42 ?_
    exact rf_go (hj3 (1 : Int32)) True.intro
  refine rf_aload_n X rfl dX15_isAhead_11 ?_
  refine rf_getI X fl_X15_7 hv1 dX15_isAhead_12 ?_
  refine rf_aload_n X rfl dX15_isAhead_15 ?_
  refine rf_getI X fl_X15_7 hv2 dX15_isAhead_16 ?_
  refine rf_icmp_ge X (tgt := 26) rfl dX15_isAhead_19 (fun c9 => rf_pos c9 ?_) (fun c9 => rf_neg c9 ?_)
  · refine rf_iconst X (0 : Int32) rfl dX15_isAhead_26 ?_
    refine rf_goto X (tgt := 46) rfl dX15_isAhead_27 ?_
    exact rf_go (hj3 (0 : Int32)) True.intro
  refine rf_iconst X (1 : Int32) rfl dX15_isAhead_22 ?_
  refine rf_goto X (tgt := 46) rfl dX15_isAhead_23 ?_
  exact rf_go (hj3 (1 : Int32)) True.intro

theorem dX3_take_0 : decode cX3_take 0 = .ok (.aload_n 0, 1) := by decide +kernel
theorem dX3_take_1 : decode cX3_take 1 = .ok (.getfield 10, 3) := by decide +kernel
theorem dX3_take_4 : decode cX3_take 4 = .ok (.iconst 0, 1) := by decide +kernel
theorem dX3_take_5 : decode cX3_take 5 = .ok (.invokevirtual 45, 3) := by decide +kernel
theorem dX3_take_8 : decode cX3_take 8 = .ok (.checkcast 23, 3) := by decide +kernel
theorem dX3_take_11 : decode cX3_take 11 = .ok (.astore_n 1, 1) := by decide +kernel
theorem dX3_take_12 : decode cX3_take 12 = .ok (.aload_n 0, 1) := by decide +kernel
theorem dX3_take_13 : decode cX3_take 13 = .ok (.getfield 10, 3) := by decide +kernel
theorem dX3_take_16 : decode cX3_take 16 = .ok (.aload_n 0, 1) := by decide +kernel
theorem dX3_take_17 : decode cX3_take 17 = .ok (.getfield 10, 3) := by decide +kernel
theorem dX3_take_20 : decode cX3_take 20 = .ok (.invokevirtual 26, 3) := by decide +kernel
theorem dX3_take_23 : decode cX3_take 23 = .ok (.iconst 1, 1) := by decide +kernel
theorem dX3_take_24 : decode cX3_take 24 = .ok (.isub, 1) := by decide +kernel
theorem dX3_take_25 : decode cX3_take 25 = .ok (.invokevirtual 30, 3) := by decide +kernel
theorem dX3_take_28 : decode cX3_take 28 = .ok (.checkcast 23, 3) := by decide +kernel
theorem dX3_take_31 : decode cX3_take 31 = .ok (.astore_n 2, 1) := by decide +kernel
theorem dX3_take_32 : decode cX3_take 32 = .ok (.aload_n 0, 1) := by decide +kernel
theorem dX3_take_33 : decode cX3_take 33 = .ok (.getfield 10, 3) := by decide +kernel
theorem dX3_take_36 : decode cX3_take 36 = .ok (.invokevirtual 26, 3) := by decide +kernel
theorem dX3_take_39 : decode cX3_take 39 = .ok (.istore_n 3, 1) := by decide +kernel
theorem dX3_take_40 : decode cX3_take 40 = .ok (.iconst 0, 1) := by decide +kernel
theorem dX3_take_41 : decode cX3_take 41 = .ok (.istore 4, 2) := by decide +kernel
theorem dX3_take_43 : decode cX3_take 43 = .ok (.iload_n 3, 1) := by decide +kernel
theorem dX3_take_44 : decode cX3_take 44 = .ok (.ifCond .le 7, 3) := by decide +kernel
theorem dX3_take_47 : decode cX3_take 47 = .ok (.iconst 1, 1) := by decide +kernel
theorem dX3_take_48 : decode cX3_take 48 = .ok (.goto 4, 3) := by decide +kernel
theorem dX3_take_51 : decode cX3_take 51 = .ok (.iconst 0, 1) := by decide +kernel
theorem dX3_take_52 : decode cX3_take 52 = .ok (.istore 5, 2) := by decide +kernel
theorem dX3_take_54 : decode cX3_take 54 = .ok (.iload 5, 2) := by decide +kernel
theorem dX3_take_56 : decode cX3_take 56 = .ok (.ifCond .eq 120, 3) := by decide +kernel
theorem dX3_take_59 : decode cX3_take 59 = .ok (.iconst 2, 1) := by decide +kernel
theorem dX3_take_60 : decode cX3_take 60 = .ok (.iload 4, 2) := by decide +kernel
theorem dX3_take_62 : decode cX3_take 62 = .ok (.imul, 1) := by decide +kernel
theorem dX3_take_63 : decode cX3_take 63 = .ok (.iconst 1, 1) := by decide +kernel
theorem dX3_take_64 : decode cX3_take 64 = .ok (.iadd, 1) := by decide +kernel
theorem dX3_take_65 : decode cX3_take 65 = .ok (.istore 6, 2) := by decide +kernel
theorem dX3_take_67 : decode cX3_take 67 = .ok (.iload 6, 2) := by decide +kernel
theorem dX3_take_69 : decode cX3_take 69 = .ok (.iconst 1, 1) := by decide +kernel
theorem dX3_take_70 : decode cX3_take 70 = .ok (.iadd, 1) := by decide +kernel
theorem dX3_take_71 : decode cX3_take 71 = .ok (.iload_n 3, 1) := by decide +kernel
theorem dX3_take_72 : decode cX3_take 72 = .ok (.if_icmp .ge 38, 3) := by decide +kernel
theorem dX3_take_75 : decode cX3_take 75 = .ok (.aload_n 0, 1) := by decide +kernel
theorem dX3_take_76 : decode cX3_take 76 = .ok (.getfield 10, 3) := by decide +kernel
theorem dX3_take_79 : decode cX3_take 79 = .ok (.iload 6, 2) := by decide +kernel
theorem dX3_take_81 : decode cX3_take 81 = .ok (.iconst 1, 1) := by decide +kernel
theorem dX3_take_82 : decode cX3_take 82 = .ok (.iadd, 1) := by decide +kernel
theorem dX3_take_83 : decode cX3_take 83 = .ok (.invokevirtual 45, 3) := by decide +kernel
theorem dX3_take_86 : decode cX3_take 86 = .ok (.checkcast 23, 3) := by decide +kernel
theorem dX3_take_89 : decode cX3_take 89 = .ok (.aload_n 0, 1) := by decide +kernel
theorem dX3_take_90 : decode cX3_take 90 = .ok (.getfield 10, 3) := by decide +kernel
theorem dX3_take_93 : decode cX3_take 93 = .ok (.iload 6, 2) := by decide +kernel
theorem dX3_take_95 : decode cX3_take 95 = .ok (.invokevirtual 45, 3) := by decide +kernel
theorem dX3_take_98 : decode cX3_take 98 = .ok (.checkcast 23, 3) := by decide +kernel
theorem dX3_take_101 : decode cX3_take 101 = .ok (.invokevirtual 48, 3) := by decide +kernel
theorem dX3_take_104 : decode cX3_take 104 = .ok (.ifCond .eq 6, 3) := by decide +kernel
theorem dX3_take_107 : decode cX3_take 107 = .ok (.iinc 6 1, 3) := by decide +kernel
theorem dX3_take_110 : decode cX3_take 110 = .ok (.iload 6, 2) := by decide +kernel
theorem dX3_take_112 : decode cX3_take 112 = .ok (.iload_n 3, 1) := by decide +kernel
theorem dX3_take_113 : decode cX3_take 113 = .ok (.if_icmp .ge 26, 3) := by decide +kernel
theorem dX3_take_116 : decode cX3_take 116 = .ok (.aload_n 0, 1) := by decide +kernel
theorem dX3_take_117 : decode cX3_take 117 = .ok (.getfield 10, 3) := by decide +kernel
theorem dX3_take_120 : decode cX3_take 120 = .ok (.iload 6, 2) := by decide +kernel
theorem dX3_take_122 : decode cX3_take 122 = .ok (.invokevirtual 45, 3) := by decide +kernel
theorem dX3_take_125 : decode cX3_take 125 = .ok (.checkcast 23, 3) := by decide +kernel
theorem dX3_take_128 : decode cX3_take 128 = .ok (.aload_n 2, 1) := by decide +kernel
theorem dX3_take_129 : decode cX3_take 129 = .ok (.invokevirtual 48, 3) := by decide +kernel
theorem dX3_take_132 : decode cX3_take 132 = .ok (.ifCond .eq 7, 3) := by decide +kernel
theorem dX3_take_135 : decode cX3_take 135 = .ok (.iconst 1, 1) := by decide +kernel
theorem dX3_take_136 : decode cX3_take 136 = .ok (.goto 4, 3) := by decide +kernel
theorem dX3_take_139 : decode cX3_take 139 = .ok (.iconst 0, 1) := by decide +kernel
theorem dX3_take_140 : decode cX3_take 140 = .ok (.istore 5, 2) := by decide +kernel
theorem dX3_take_142 : decode cX3_take 142 = .ok (.iload 5, 2) := by decide +kernel
theorem dX3_take_144 : decode cX3_take 144 = .ok (.ifCond .eq 29, 3) := by decide +kernel
theorem dX3_take_147 : decode cX3_take 147 = .ok (.aload_n 0, 1) := by decide +kernel
theorem dX3_take_148 : decode cX3_take 148 = .ok (.getfield 10, 3) := by decide +kernel
theorem dX3_take_151 : decode cX3_take 151 = .ok (.iload 4, 2) := by decide +kernel
theorem dX3_take_153 : decode cX3_take 153 = .ok (.aload_n 0, 1) := by decide +kernel
theorem dX3_take_154 : decode cX3_take 154 = .ok (.getfield 10, 3) := by decide +kernel
theorem dX3_take_157 : decode cX3_take 157 = .ok (.iload 6, 2) := by decide +kernel
theorem dX3_take_159 : decode cX3_take 159 = .ok (.invokevirtual 45, 3) := by decide +kernel
theorem dX3_take_162 : decode cX3_take 162 = .ok (.checkcast 23, 3) := by decide +kernel
theorem dX3_take_165 : decode cX3_take 165 = .ok (.invokevirtual 52, 3) := by decide +kernel
theorem dX3_take_168 : decode cX3_take 168 = .ok (.pop, 1) := by decide +kernel
theorem dX3_take_169 : decode cX3_take 169 = .ok (.iload 6, 2) := by decide +kernel
theorem dX3_take_171 : decode cX3_take 171 = .ok (.istore 4, 2) := by decide +kernel
theorem dX3_take_173 : decode cX3_take 173 = .ok (.goto (-119), 3) := by decide +kernel
theorem dX3_take_176 : decode cX3_take 176 = .ok (.iload_n 3, 1) := by decide +kernel
theorem dX3_take_177 : decode cX3_take 177 = .ok (.ifCond .le 14, 3) := by decide +kernel
theorem dX3_take_180 : decode cX3_take 180 = .ok (.aload_n 0, 1) := by decide +kernel
theorem dX3_take_181 : decode cX3_take 181 = .ok (.getfield 10, 3) := by decide +kernel
theorem dX3_take_184 : decode cX3_take 184 = .ok (.iload 4, 2) := by decide +kernel
theorem dX3_take_186 : decode cX3_take 186 = .ok (.aload_n 2, 1) := by decide +kernel
theorem dX3_take_187 : decode cX3_take 187 = .ok (.invokevirtual 52, 3) := by decide +kernel
theorem dX3_take_190 : decode cX3_take 190 = .ok (.pop, 1) := by decide +kernel
theorem dX3_take_191 : decode cX3_take 191 = .ok (.aload_n 0, 1) := by decide +kernel
theorem dX3_take_192 : decode cX3_take 192 = .ok (.getfield 16, 3) := by decide +kernel
theorem dX3_take_195 : decode cX3_take 195 = .ok (.aload_n 1, 1) := by decide +kernel
theorem dX3_take_196 : decode cX3_take 196 = .ok (.invokevirtual 41, 3) := by decide +kernel
theorem dX3_take_199 : decode cX3_take 199 = .ok (.pop, 1) := by decide +kernel
theorem dX3_take_200 : decode cX3_take 200 = .ok (.aload_n 1, 1) := by decide +kernel
theorem dX3_take_201 : decode cX3_take 201 = .ok (.areturn, 1) := by decide +kernel
def fX3_take (n : Nat) (a0 : Nat) (A : AH) : Option (Option Nat × AH) :=
(gR A (some a0) 3 0).bind fun v1 =>
(rcv A v1 0).bind fun v2 =>
(fJ2_get v2 (0 : Int32) A).bind fun g3 =>
(cst A g3 15).bind fun v4 =>
(fJ2_size v2 A).bind fun g5 =>
(fJ2_remove v2 (g5 - (1 : Int32)) A).bind fun g6 =>
(cst g6.2 g6.1 15).bind fun v7 =>
(gR g6.2 (some a0) 3 0).bind fun v8 =>
(rcv g6.2 v8 0).bind fun v9 =>
(fJ2_size v9 g6.2).bind fun g10 =>
jn (fun (y12 : Int32) =>
jl (fixG (fun _ _ _ => none) (fun (rc17 : (Int32) → (Int32) → (AH) → Option (Option Nat × AH)) (x14 : Int32) (x15 : Int32) (A16 : AH) =>
if x15 = 0 then (jn (fun (A20 : AH) =>
(gR A20 (some a0) 3 1).bind fun v21 =>
(rcv A20 v21 0).bind fun v22 =>
(fJ2_add v22 g3 A20).bind fun g23 =>
some (g3, g23.2)) fun j19 =>
if g10 ≤ 0 then (j19 A16) else
(gR A16 (some a0) 3 0).bind fun v25 =>
(rcv A16 v25 0).bind fun v26 =>
(fJ2_set v26 x14 g6.1 A16).bind fun g27 =>
j19 g27.2) else
jn (fun (x29 : Int32) =>
jn (fun (y31 : Int32) =>
jn (fun (x33 : Int32) (A34 : AH) =>
rc17 x33 y31 A34) fun j32 =>
if y31 = 0 then (j32 x14 A16) else
(gR A16 (some a0) 3 0).bind fun v36 =>
(rcv A16 v36 0).bind fun v37 =>
(fJ2_get v37 x29 A16).bind fun g38 =>
(cst A16 g38 15).bind fun v39 =>
(fJ2_set v37 x14 g38 A16).bind fun g40 =>
j32 x29 g40.2) fun j30 =>
jn (j30 (0 : Int32)) fun j41 =>
if g10 ≤ x29 then (j41) else
(gR A16 (some a0) 3 0).bind fun v43 =>
(rcv A16 v43 0).bind fun v44 =>
(fJ2_get v44 x29 A16).bind fun g45 =>
(cst A16 g45 15).bind fun v46 =>
(rcv A16 g45 15).bind fun v47 =>
(fX15_isAhead v47 g6.1 A16).bind fun g48 =>
if g48 = 0 then (j41) else
j30 (1 : Int32)) fun j28 =>
if g10 ≤ ((((2 : Int32) * x14) + (1 : Int32)) + (1 : Int32)) then (j28 (((2 : Int32) * x14) + (1 : Int32))) else
(gR A16 (some a0) 3 0).bind fun v51 =>
(rcv A16 v51 0).bind fun v52 =>
(fJ2_get v52 ((((2 : Int32) * x14) + (1 : Int32)) + (1 : Int32)) A16).bind fun g53 =>
(cst A16 g53 15).bind fun v54 =>
(fJ2_get v52 (((2 : Int32) * x14) + (1 : Int32)) A16).bind fun g55 =>
(cst A16 g55 15).bind fun v56 =>
(rcv A16 g53 15).bind fun v57 =>
(fX15_isAhead v57 g55 A16).bind fun g58 =>
if g58 = 0 then (j28 (((2 : Int32) * x14) + (1 : Int32))) else
j28 ((((2 : Int32) * x14) + (1 : Int32)) + (1 : Int32))) n) fun j13 =>
j13 (0 : Int32) y12 g6.2) fun j11 =>
if g10 ≤ 0 then (j11 (0 : Int32)) else
j11 (1 : Int32)

set_option maxHeartbeats 4000000 in
set_option maxRecDepth 100000 in
theorem sX3_take (l : Launch) (D : DE) (n : Nat) (a0 : Nat) (A : AH) (g : Option Nat × AH) (hg : fX3_take n a0 A = some g) : Sm l D yX3_take cX3_take 7 (some (Jvm.ClassFile.FieldType.object "WarpMill$Ask")) 7 191 [tR (some a0)] A (wO g).1 (wO g).2 := by
  refine Sm.of (ω := wO) (fX3_take n a0 A) [some (tR (some a0)), none, none, none, none, none, none] (by decide) (Nat.le_of_ble_eq_true rfl) rfl hg ?_
  intro p e R s m args below meth c X hin
  have X : Cx D cX3_take RX3 7 7 191 (some (Jvm.ClassFile.FieldType.object "WarpMill$Ask")) p R s m args meth c := X
  unfold fX3_take
  refine rf_aload_n X rfl dX3_take_0 ?_
  refine rf_bind (fun v1 hv1 => ?_)
  refine rf_getR X fl_X3_10 hv1 dX3_take_1 ?_
  refine rf_iconst X (0 : Int32) rfl dX3_take_4 ?_
  refine rf_bind (fun v2 hv2 => ?_)
  refine rf_bind (fun g3 hg3 => ?_)
  refine rf_callVI X c_X3_45 ⟨Nat.le_of_ble_eq_true rfl, Nat.le_of_ble_eq_true rfl⟩ [tI (0 : Int32)] rfl (Nat.le_of_ble_eq_true rfl) hv2 (sJ2_get l D v2 (0 : Int32) A g3 hg3) dX3_take_5 ?_
  refine rf_bind (fun v4 hv4 => ?_)
  refine rf_cast X (ci := 15) rfl rfl q713 hv4 dX3_take_8 ?_
  refine rf_astore_n X (ls' := [some (tR (some a0)), some (tR g3), none, none, none, none, none]) rfl (by decide) dX3_take_11 ?_
  refine rf_aload_n X rfl dX3_take_12 ?_
  refine rf_getR X fl_X3_10 hv1 dX3_take_13 ?_
  refine rf_aload_n X rfl dX3_take_16 ?_
  refine rf_getR X fl_X3_10 hv1 dX3_take_17 ?_
  refine rf_bind (fun g5 hg5 => ?_)
  refine rf_callVI X c_X3_26 ⟨Nat.le_of_ble_eq_true rfl, Nat.le_of_ble_eq_true rfl⟩ [] rfl (Nat.le_of_ble_eq_true rfl) hv2 (sJ2_size l D v2 A g5 hg5) dX3_take_20 ?_
  refine rf_iconst X (1 : Int32) rfl dX3_take_23 ?_
  refine rf_isub X dX3_take_24 ?_
  refine rf_bind (fun g6 hg6 => ?_)
  refine rf_callVI X c_X3_30 ⟨Nat.le_of_ble_eq_true rfl, Nat.le_of_ble_eq_true rfl⟩ [tI (g5 - (1 : Int32))] rfl (Nat.le_of_ble_eq_true rfl) hv2 (sJ2_remove l D v2 (g5 - (1 : Int32)) A g6 hg6) dX3_take_25 ?_
  refine rf_bind (fun v7 hv7 => ?_)
  refine rf_cast X (ci := 15) rfl rfl q713 hv7 dX3_take_28 ?_
  refine rf_astore_n X (ls' := [some (tR (some a0)), some (tR g3), some (tR g6.1), none, none, none, none]) rfl (by decide) dX3_take_31 ?_
  refine rf_aload_n X rfl dX3_take_32 ?_
  refine rf_bind (fun v8 hv8 => ?_)
  refine rf_getR X fl_X3_10 hv8 dX3_take_33 ?_
  refine rf_bind (fun v9 hv9 => ?_)
  refine rf_bind (fun g10 hg10 => ?_)
  refine rf_callVI X c_X3_26 ⟨Nat.le_of_ble_eq_true rfl, Nat.le_of_ble_eq_true rfl⟩ [] rfl (Nat.le_of_ble_eq_true rfl) hv9 (sJ2_size l D v9 g6.2 g10 hg10) dX3_take_36 ?_
  refine rf_istore_n X (ls' := [some (tR (some a0)), some (tR g3), some (tR g6.1), some (tI g10), none, none, none]) rfl (by decide) dX3_take_39 ?_
  refine rf_iconst X (0 : Int32) rfl dX3_take_40 ?_
  refine rf_istore X (ls' := [some (tR (some a0)), some (tR g3), some (tR g6.1), some (tI g10), some (tI (0 : Int32)), none, none]) rfl (by decide) dX3_take_41 ?_
  refine rf_iload_n X rfl dX3_take_43 ?_
  refine rf_jn2 (fun i => ∀ (y12 : Int32), RfX X l e below wO (i y12) 52 [some (tR (some a0)), some (tR g3), some (tR g6.1), some (tI g10), some (tI (0 : Int32)), none, none] [tI y12] g6.2) ?_ (fun j11 hj11 => ?_)
  · intro y12
    refine rf_istore X (ls' := [some (tR (some a0)), some (tR g3), some (tR g6.1), some (tI g10), some (tI (0 : Int32)), some (tI y12), none]) rfl (by decide) dX3_take_52 ?_
    refine rf_fix (fun i => ∀ (x14 : Int32) (x15 : Int32) (A16 : AH), RfX X l e below wO (i x14 x15 A16) 54 [some (tR (some a0)), some (tR g3), some (tR g6.1), some (tI g10), some (tI x14), some (tI x15), none] [] A16) (fun _ _ _ => rf_none) (fun rc17 hrc17 => ?_) (fun j13 hj13 => ?_)
    · intro x14 x15 A16
      refine rf_iload X rfl dX3_take_54 ?_
      refine rf_if_eq X (tgt := 176) rfl dX3_take_56 (fun c18 => rf_pos c18 ?_) (fun c18 => rf_neg c18 ?_)
      · refine rf_iload_n X rfl dX3_take_176 ?_
        refine rf_jn2 (fun i => ∀ (A20 : AH), RfX X l e below wO (i A20) 191 [some (tR (some a0)), some (tR g3), none, none, none, none, none] [] A20) ?_ (fun j19 hj19 => ?_)
        · intro A20
          refine rf_aload_n X rfl dX3_take_191 ?_
          refine rf_bind (fun v21 hv21 => ?_)
          refine rf_getR X fl_X3_16 hv21 dX3_take_192 ?_
          refine rf_aload_n X rfl dX3_take_195 ?_
          refine rf_bind (fun v22 hv22 => ?_)
          refine rf_bind (fun g23 hg23 => ?_)
          refine rf_callVI X c_X3_41 ⟨Nat.le_of_ble_eq_true rfl, Nat.le_of_ble_eq_true rfl⟩ [tR g3] rfl (Nat.le_of_ble_eq_true rfl) hv22 (sJ2_add l D v22 g3 A20 g23 hg23) dX3_take_196 ?_
          refine rf_pop X rfl dX3_take_199 ?_
          refine rf_aload_n X rfl dX3_take_200 ?_
          exact rf_aret (Or.inl ⟨_, rfl⟩) X rfl dX3_take_201
        refine rf_if_le X (tgt := 191) rfl dX3_take_177 (fun c24 => rf_pos c24 ?_) (fun c24 => rf_neg c24 ?_)
        · exact rf_go (hj19 A16) (And.intro rfl (And.intro rfl True.intro))
        refine rf_aload_n X rfl dX3_take_180 ?_
        refine rf_bind (fun v25 hv25 => ?_)
        refine rf_getR X fl_X3_10 hv25 dX3_take_181 ?_
        refine rf_iload X rfl dX3_take_184 ?_
        refine rf_aload_n X rfl dX3_take_186 ?_
        refine rf_bind (fun v26 hv26 => ?_)
        refine rf_bind (fun g27 hg27 => ?_)
        refine rf_callVI X c_X3_52 ⟨Nat.le_of_ble_eq_true rfl, Nat.le_of_ble_eq_true rfl⟩ [tI x14, tR g6.1] rfl (Nat.le_of_ble_eq_true rfl) hv26 (sJ2_set l D v26 x14 g6.1 A16 g27 hg27) dX3_take_187 ?_
        refine rf_pop X rfl dX3_take_190 ?_
        exact rf_go (hj19 g27.2) (And.intro rfl (And.intro rfl True.intro))
      refine rf_iconst X (2 : Int32) rfl dX3_take_59 ?_
      refine rf_iload X rfl dX3_take_60 ?_
      refine rf_imul X dX3_take_62 ?_
      refine rf_iconst X (1 : Int32) rfl dX3_take_63 ?_
      refine rf_iadd X dX3_take_64 ?_
      refine rf_istore X (ls' := [some (tR (some a0)), some (tR g3), some (tR g6.1), some (tI g10), some (tI x14), some (tI x15), some (tI (((2 : Int32) * x14) + (1 : Int32)))]) rfl (by decide) dX3_take_65 ?_
      refine rf_iload X rfl dX3_take_67 ?_
      refine rf_iconst X (1 : Int32) rfl dX3_take_69 ?_
      refine rf_iadd X dX3_take_70 ?_
      refine rf_iload_n X rfl dX3_take_71 ?_
      refine rf_jn2 (fun i => ∀ (x29 : Int32), RfX X l e below wO (i x29) 110 [some (tR (some a0)), some (tR g3), some (tR g6.1), some (tI g10), some (tI x14), none, some (tI x29)] [] A16) ?_ (fun j28 hj28 => ?_)
      · intro x29
        refine rf_iload X rfl dX3_take_110 ?_
        refine rf_iload_n X rfl dX3_take_112 ?_
        refine rf_jn2 (fun i => ∀ (y31 : Int32), RfX X l e below wO (i y31) 140 [some (tR (some a0)), some (tR g3), some (tR g6.1), some (tI g10), some (tI x14), none, some (tI x29)] [tI y31] A16) ?_ (fun j30 hj30 => ?_)
        · intro y31
          refine rf_istore X (ls' := [some (tR (some a0)), some (tR g3), some (tR g6.1), some (tI g10), some (tI x14), some (tI y31), some (tI x29)]) rfl (by decide) dX3_take_140 ?_
          refine rf_iload X rfl dX3_take_142 ?_
          refine rf_jn2 (fun i => ∀ (x33 : Int32) (A34 : AH), RfX X l e below wO (i x33 A34) 173 [some (tR (some a0)), some (tR g3), some (tR g6.1), some (tI g10), some (tI x33), some (tI y31), none] [] A34) ?_ (fun j32 hj32 => ?_)
          · intro x33 A34
            refine rf_goto X (tgt := 54) rfl dX3_take_173 ?_
            exact rf_go (hrc17 x33 y31 A34) (And.intro rfl (And.intro rfl (And.intro rfl (And.intro rfl (And.intro rfl (And.intro rfl True.intro))))))
          refine rf_if_eq X (tgt := 173) rfl dX3_take_144 (fun c35 => rf_pos c35 ?_) (fun c35 => rf_neg c35 ?_)
          · exact rf_go (hj32 x14 A16) (And.intro rfl (And.intro rfl (And.intro rfl (And.intro rfl (And.intro rfl (And.intro rfl True.intro))))))
          refine rf_aload_n X rfl dX3_take_147 ?_
          refine rf_bind (fun v36 hv36 => ?_)
          refine rf_getR X fl_X3_10 hv36 dX3_take_148 ?_
          refine rf_iload X rfl dX3_take_151 ?_
          refine rf_aload_n X rfl dX3_take_153 ?_
          refine rf_getR X fl_X3_10 hv36 dX3_take_154 ?_
          refine rf_iload X rfl dX3_take_157 ?_
          refine rf_bind (fun v37 hv37 => ?_)
          refine rf_bind (fun g38 hg38 => ?_)
          refine rf_callVI X c_X3_45 ⟨Nat.le_of_ble_eq_true rfl, Nat.le_of_ble_eq_true rfl⟩ [tI x29] rfl (Nat.le_of_ble_eq_true rfl) hv37 (sJ2_get l D v37 x29 A16 g38 hg38) dX3_take_159 ?_
          refine rf_bind (fun v39 hv39 => ?_)
          refine rf_cast X (ci := 15) rfl rfl q713 hv39 dX3_take_162 ?_
          refine rf_bind (fun g40 hg40 => ?_)
          refine rf_callVI X c_X3_52 ⟨Nat.le_of_ble_eq_true rfl, Nat.le_of_ble_eq_true rfl⟩ [tI x14, tR g38] rfl (Nat.le_of_ble_eq_true rfl) hv37 (sJ2_set l D v37 x14 g38 A16 g40 hg40) dX3_take_165 ?_
          refine rf_pop X rfl dX3_take_168 ?_
          refine rf_iload X rfl dX3_take_169 ?_
          refine rf_istore X (ls' := [some (tR (some a0)), some (tR g3), some (tR g6.1), some (tI g10), some (tI x29), some (tI y31), some (tI x29)]) rfl (by decide) dX3_take_171 ?_
          exact rf_go (hj32 x29 g40.2) (And.intro rfl (And.intro rfl (And.intro rfl (And.intro rfl (And.intro rfl (And.intro rfl True.intro))))))
        refine rf_jn2 (fun i => RfX X l e below wO i 139 [some (tR (some a0)), some (tR g3), some (tR g6.1), some (tI g10), some (tI x14), none, some (tI x29)] [] A16) ?_ (fun j41 hj41 => ?_)
        · show RfX X l e below _ _ _ _ _ _
          refine rf_iconst X (0 : Int32) rfl dX3_take_139 ?_
          exact rf_go (hj30 (0 : Int32)) (And.intro rfl (And.intro rfl (And.intro rfl (And.intro rfl (And.intro rfl (And.intro rfl True.intro))))))
        refine rf_icmp_ge X (tgt := 139) rfl dX3_take_113 (fun c42 => rf_pos c42 ?_) (fun c42 => rf_neg c42 ?_)
        · exact rf_go hj41 (And.intro rfl (And.intro rfl (And.intro rfl (And.intro rfl (And.intro rfl (And.intro rfl True.intro))))))
        refine rf_aload_n X rfl dX3_take_116 ?_
        refine rf_bind (fun v43 hv43 => ?_)
        refine rf_getR X fl_X3_10 hv43 dX3_take_117 ?_
        refine rf_iload X rfl dX3_take_120 ?_
        refine rf_bind (fun v44 hv44 => ?_)
        refine rf_bind (fun g45 hg45 => ?_)
        refine rf_callVI X c_X3_45 ⟨Nat.le_of_ble_eq_true rfl, Nat.le_of_ble_eq_true rfl⟩ [tI x29] rfl (Nat.le_of_ble_eq_true rfl) hv44 (sJ2_get l D v44 x29 A16 g45 hg45) dX3_take_122 ?_
        refine rf_bind (fun v46 hv46 => ?_)
        refine rf_cast X (ci := 15) rfl rfl q713 hv46 dX3_take_125 ?_
        refine rf_aload_n X rfl dX3_take_128 ?_
        refine rf_bind (fun v47 hv47 => ?_)
        refine rf_bind (fun g48 hg48 => ?_)
        refine rf_callVI X c_X3_48 ⟨Nat.le_of_ble_eq_true rfl, Nat.le_of_ble_eq_true rfl⟩ [tR g6.1] rfl (Nat.le_of_ble_eq_true rfl) hv47 (sX15_isAhead l D v47 g6.1 A16 g48 hg48) dX3_take_129 ?_
        refine rf_if_eq X (tgt := 139) rfl dX3_take_132 (fun c49 => rf_pos c49 ?_) (fun c49 => rf_neg c49 ?_)
        · exact rf_go hj41 (And.intro rfl (And.intro rfl (And.intro rfl (And.intro rfl (And.intro rfl (And.intro rfl True.intro))))))
        refine rf_iconst X (1 : Int32) rfl dX3_take_135 ?_
        refine rf_goto X (tgt := 140) rfl dX3_take_136 ?_
        exact rf_go (hj30 (1 : Int32)) (And.intro rfl (And.intro rfl (And.intro rfl (And.intro rfl (And.intro rfl (And.intro rfl True.intro))))))
      refine rf_icmp_ge X (tgt := 110) rfl dX3_take_72 (fun c50 => rf_pos c50 ?_) (fun c50 => rf_neg c50 ?_)
      · exact rf_go (hj28 (((2 : Int32) * x14) + (1 : Int32))) (And.intro rfl (And.intro rfl (And.intro rfl (And.intro rfl (And.intro rfl (And.intro rfl True.intro))))))
      refine rf_aload_n X rfl dX3_take_75 ?_
      refine rf_bind (fun v51 hv51 => ?_)
      refine rf_getR X fl_X3_10 hv51 dX3_take_76 ?_
      refine rf_iload X rfl dX3_take_79 ?_
      refine rf_iconst X (1 : Int32) rfl dX3_take_81 ?_
      refine rf_iadd X dX3_take_82 ?_
      refine rf_bind (fun v52 hv52 => ?_)
      refine rf_bind (fun g53 hg53 => ?_)
      refine rf_callVI X c_X3_45 ⟨Nat.le_of_ble_eq_true rfl, Nat.le_of_ble_eq_true rfl⟩ [tI ((((2 : Int32) * x14) + (1 : Int32)) + (1 : Int32))] rfl (Nat.le_of_ble_eq_true rfl) hv52 (sJ2_get l D v52 ((((2 : Int32) * x14) + (1 : Int32)) + (1 : Int32)) A16 g53 hg53) dX3_take_83 ?_
      refine rf_bind (fun v54 hv54 => ?_)
      refine rf_cast X (ci := 15) rfl rfl q713 hv54 dX3_take_86 ?_
      refine rf_aload_n X rfl dX3_take_89 ?_
      refine rf_getR X fl_X3_10 hv51 dX3_take_90 ?_
      refine rf_iload X rfl dX3_take_93 ?_
      refine rf_bind (fun g55 hg55 => ?_)
      refine rf_callVI X c_X3_45 ⟨Nat.le_of_ble_eq_true rfl, Nat.le_of_ble_eq_true rfl⟩ [tI (((2 : Int32) * x14) + (1 : Int32))] rfl (Nat.le_of_ble_eq_true rfl) hv52 (sJ2_get l D v52 (((2 : Int32) * x14) + (1 : Int32)) A16 g55 hg55) dX3_take_95 ?_
      refine rf_bind (fun v56 hv56 => ?_)
      refine rf_cast X (ci := 15) rfl rfl q713 hv56 dX3_take_98 ?_
      refine rf_bind (fun v57 hv57 => ?_)
      refine rf_bind (fun g58 hg58 => ?_)
      refine rf_callVI X c_X3_48 ⟨Nat.le_of_ble_eq_true rfl, Nat.le_of_ble_eq_true rfl⟩ [tR g55] rfl (Nat.le_of_ble_eq_true rfl) hv57 (sX15_isAhead l D v57 g55 A16 g58 hg58) dX3_take_101 ?_
      refine rf_if_eq X (tgt := 110) rfl dX3_take_104 (fun c59 => rf_pos c59 ?_) (fun c59 => rf_neg c59 ?_)
      · exact rf_go (hj28 (((2 : Int32) * x14) + (1 : Int32))) (And.intro rfl (And.intro rfl (And.intro rfl (And.intro rfl (And.intro rfl (And.intro rfl True.intro))))))
      refine rf_iinc X ((((2 : Int32) * x14) + (1 : Int32)) + (1 : Int32)) rfl rfl (ls' := [some (tR (some a0)), some (tR g3), some (tR g6.1), some (tI g10), some (tI x14), some (tI x15), some (tI ((((2 : Int32) * x14) + (1 : Int32)) + (1 : Int32)))]) rfl (by decide) dX3_take_107 ?_
      exact rf_go (hj28 ((((2 : Int32) * x14) + (1 : Int32)) + (1 : Int32))) (And.intro rfl (And.intro rfl (And.intro rfl (And.intro rfl (And.intro rfl (And.intro rfl True.intro))))))
    exact rf_go (hj13 (0 : Int32) y12 g6.2) (And.intro rfl (And.intro rfl (And.intro rfl (And.intro rfl (And.intro rfl (And.intro rfl True.intro))))))
  refine rf_if_le X (tgt := 51) rfl dX3_take_44 (fun c60 => rf_pos c60 ?_) (fun c60 => rf_neg c60 ?_)
  · refine rf_iconst X (0 : Int32) rfl dX3_take_51 ?_
    exact rf_go (hj11 (0 : Int32)) (And.intro rfl (And.intro rfl (And.intro rfl (And.intro rfl (And.intro rfl True.intro)))))
  refine rf_iconst X (1 : Int32) rfl dX3_take_47 ?_
  refine rf_goto X (tgt := 52) rfl dX3_take_48 ?_
  exact rf_go (hj11 (1 : Int32)) (And.intro rfl (And.intro rfl (And.intro rfl (And.intro rfl (And.intro rfl True.intro)))))

theorem dX7_left_0 : decode cX7_left 0 = .ok (.iload_n 0, 1) := by decide +kernel
theorem dX7_left_1 : decode cX7_left 1 = .ok (.tableswitch 74 51 59 #[51, 74, 51, 53, 57, 51, 63, 53, 51], 51) := by decide +kernel
theorem dX7_left_52 : decode cX7_left 52 = .ok (.iload_n 2, 1) := by decide +kernel
theorem dX7_left_53 : decode cX7_left 53 = .ok (.ireturn, 1) := by decide +kernel
theorem dX7_left_54 : decode cX7_left 54 = .ok (.iload_n 1, 1) := by decide +kernel
theorem dX7_left_55 : decode cX7_left 55 = .ok (.iload_n 2, 1) := by decide +kernel
theorem dX7_left_56 : decode cX7_left 56 = .ok (.iadd, 1) := by decide +kernel
theorem dX7_left_57 : decode cX7_left 57 = .ok (.ireturn, 1) := by decide +kernel
theorem dX7_left_58 : decode cX7_left 58 = .ok (.iload_n 1, 1) := by decide +kernel
theorem dX7_left_59 : decode cX7_left 59 = .ok (.iload_n 2, 1) := by decide +kernel
theorem dX7_left_60 : decode cX7_left 60 = .ok (.invokestatic 373, 3) := by decide +kernel
theorem dX7_left_63 : decode cX7_left 63 = .ok (.ireturn, 1) := by decide +kernel
theorem dX7_left_64 : decode cX7_left 64 = .ok (.iload_n 1, 1) := by decide +kernel
theorem dX7_left_65 : decode cX7_left 65 = .ok (.iload_n 3, 1) := by decide +kernel
theorem dX7_left_66 : decode cX7_left 66 = .ok (.if_icmp .ne 7, 3) := by decide +kernel
theorem dX7_left_69 : decode cX7_left 69 = .ok (.iload_n 2, 1) := by decide +kernel
theorem dX7_left_70 : decode cX7_left 70 = .ok (.goto 4, 3) := by decide +kernel
theorem dX7_left_73 : decode cX7_left 73 = .ok (.iload_n 1, 1) := by decide +kernel
theorem dX7_left_74 : decode cX7_left 74 = .ok (.ireturn, 1) := by decide +kernel
theorem dX7_left_75 : decode cX7_left 75 = .ok (.iload_n 1, 1) := by decide +kernel
theorem dX7_left_76 : decode cX7_left 76 = .ok (.ireturn, 1) := by decide +kernel
def fX7_left (p1 : Int32) (p2 : Int32) (p3 : Int32) (p4 : Int32) (A : AH) : Option (Int32) :=
jn (some p2) fun j1 =>
jn (some p3) fun j2 =>
jn (some (p2 + p3)) fun j3 =>
if p1 = (51 : Int32) then (j2) else
if p1 = (52 : Int32) then (j1) else
if p1 = (53 : Int32) then (j2) else
if p1 = (54 : Int32) then (j3) else
if p1 = (55 : Int32) then (some (if p2 < p3 then p3 else p2)) else
if p1 = (56 : Int32) then (j2) else
if p1 = (57 : Int32) then (jn (fun (y12 : Int32) =>
some y12) fun j11 =>
if p2 = p4 then (j11 p3) else
j11 p2) else
if p1 = (58 : Int32) then (j3) else
if p1 = (59 : Int32) then (j2) else
j1

set_option maxHeartbeats 4000000 in
set_option maxRecDepth 100000 in
theorem sX7_left (l : Launch) (D : DE) (p1 : Int32) (p2 : Int32) (p3 : Int32) (p4 : Int32) (A : AH) (g : Int32) (hg : fX7_left p1 p2 p3 p4 A = some g) : Sm l D yX7_left cX7_left 4 (some Jvm.ClassFile.FieldType.int) 1 21 [tI p1, tI p2, tI p3, tI p4] A (qI A g).1 (qI A g).2 := by
  refine Sm.of (ω := qI A) (fX7_left p1 p2 p3 p4 A) [some (tI p1), some (tI p2), some (tI p3), some (tI p4)] (by decide) (Nat.le_of_ble_eq_true rfl) rfl hg ?_
  intro p e R s m args below meth c X hin
  have X : Cx D cX7_left RX7 4 1 21 (some Jvm.ClassFile.FieldType.int) p R s m args meth c := X
  unfold fX7_left
  refine rf_iload_n X rfl dX7_left_0 ?_
  refine rf_jn2 (fun i => RfX X l e below (qI A) i 75 [none, some (tI p2), none, none] [] A) ?_ (fun j1 hj1 => ?_)
  · show RfX X l e below _ _ _ _ _ _
    refine rf_iload_n X rfl dX7_left_75 ?_
    exact rf_iret X rfl dX7_left_76
  refine rf_jn2 (fun i => RfX X l e below (qI A) i 52 [none, none, some (tI p3), none] [] A) ?_ (fun j2 hj2 => ?_)
  · show RfX X l e below _ _ _ _ _ _
    refine rf_iload_n X rfl dX7_left_52 ?_
    exact rf_iret X rfl dX7_left_53
  refine rf_jn2 (fun i => RfX X l e below (qI A) i 54 [none, some (tI p2), some (tI p3), none] [] A) ?_ (fun j3 hj3 => ?_)
  · show RfX X l e below _ _ _ _ _ _
    refine rf_iload_n X rfl dX7_left_54 ?_
    refine rf_iload_n X rfl dX7_left_55 ?_
    refine rf_iadd X dX7_left_56 ?_
    exact rf_iret X rfl dX7_left_57
  by_cases c4 : p1 = (51 : Int32)
  · refine rf_pos c4 ?_
    refine rf_tsIn X (51 : Int32) c4 (by decide) (by decide) (tgt := 52) rfl rfl dX7_left_1 ?_
    exact rf_go hj2 (And.intro rfl True.intro)
  refine rf_neg c4 ?_
  by_cases c5 : p1 = (52 : Int32)
  · refine rf_pos c5 ?_
    refine rf_tsIn X (52 : Int32) c5 (by decide) (by decide) (tgt := 75) rfl rfl dX7_left_1 ?_
    exact rf_go hj1 (And.intro rfl True.intro)
  refine rf_neg c5 ?_
  by_cases c6 : p1 = (53 : Int32)
  · refine rf_pos c6 ?_
    refine rf_tsIn X (53 : Int32) c6 (by decide) (by decide) (tgt := 52) rfl rfl dX7_left_1 ?_
    exact rf_go hj2 (And.intro rfl True.intro)
  refine rf_neg c6 ?_
  by_cases c7 : p1 = (54 : Int32)
  · refine rf_pos c7 ?_
    refine rf_tsIn X (54 : Int32) c7 (by decide) (by decide) (tgt := 54) rfl rfl dX7_left_1 ?_
    exact rf_go hj3 (And.intro rfl (And.intro rfl True.intro))
  refine rf_neg c7 ?_
  by_cases c8 : p1 = (55 : Int32)
  · refine rf_pos c8 ?_
    refine rf_tsIn X (55 : Int32) c8 (by decide) (by decide) (tgt := 58) rfl rfl dX7_left_1 ?_
    refine rf_iload_n X rfl dX7_left_58 ?_
    refine rf_iload_n X rfl dX7_left_59 ?_
    refine rf_mmax X q1096 ⟨by decide, by decide⟩ (Nat.le_of_ble_eq_true rfl) dX7_left_60 ?_
    exact rf_iret X rfl dX7_left_63
  refine rf_neg c8 ?_
  by_cases c9 : p1 = (56 : Int32)
  · refine rf_pos c9 ?_
    refine rf_tsIn X (56 : Int32) c9 (by decide) (by decide) (tgt := 52) rfl rfl dX7_left_1 ?_
    exact rf_go hj2 (And.intro rfl True.intro)
  refine rf_neg c9 ?_
  by_cases c10 : p1 = (57 : Int32)
  · refine rf_pos c10 ?_
    refine rf_tsIn X (57 : Int32) c10 (by decide) (by decide) (tgt := 64) rfl rfl dX7_left_1 ?_
    refine rf_iload_n X rfl dX7_left_64 ?_
    refine rf_iload_n X rfl dX7_left_65 ?_
    refine rf_jn2 (fun i => ∀ (y12 : Int32), RfX X l e below (qI A) (i y12) 74 [none, none, none, none] [tI y12] A) ?_ (fun j11 hj11 => ?_)
    · intro y12
      exact rf_iret X rfl dX7_left_74
    refine rf_icmp_ne X (tgt := 73) rfl dX7_left_66 (fun c13 => rf_neg c13 ?_) (fun c13 => rf_pos c13 ?_)
    · refine rf_iload_n X rfl dX7_left_73 ?_
      exact rf_go (hj11 p2) True.intro
    refine rf_iload_n X rfl dX7_left_69 ?_
    refine rf_goto X (tgt := 74) rfl dX7_left_70 ?_
    exact rf_go (hj11 p3) True.intro
  refine rf_neg c10 ?_
  by_cases c14 : p1 = (58 : Int32)
  · refine rf_pos c14 ?_
    refine rf_tsIn X (58 : Int32) c14 (by decide) (by decide) (tgt := 54) rfl rfl dX7_left_1 ?_
    exact rf_go hj3 (And.intro rfl (And.intro rfl True.intro))
  refine rf_neg c14 ?_
  by_cases c15 : p1 = (59 : Int32)
  · refine rf_pos c15 ?_
    refine rf_tsIn X (59 : Int32) c15 (by decide) (by decide) (tgt := 52) rfl rfl dX7_left_1 ?_
    exact rf_go hj2 (And.intro rfl True.intro)
  refine rf_neg c15 ?_
  refine rf_tsOut X (ts_def (51) (59) [(51 : Int32), (52 : Int32), (53 : Int32), (54 : Int32), (55 : Int32), (56 : Int32), (57 : Int32), (58 : Int32), (59 : Int32)] 9 (by decide) (by decide) (List.forall_mem_cons.mpr ⟨c4, (List.forall_mem_cons.mpr ⟨c5, (List.forall_mem_cons.mpr ⟨c6, (List.forall_mem_cons.mpr ⟨c7, (List.forall_mem_cons.mpr ⟨c8, (List.forall_mem_cons.mpr ⟨c9, (List.forall_mem_cons.mpr ⟨c10, (List.forall_mem_cons.mpr ⟨c14, (List.forall_mem_cons.mpr ⟨c15, (fun _ h => absurd h List.not_mem_nil)⟩)⟩)⟩)⟩)⟩)⟩)⟩)⟩)⟩)) (tgt := 75) rfl dX7_left_1 ?_
  exact rf_go hj1 (And.intro rfl True.intro)

theorem dX7_finish_0 : decode cX7_finish 0 = .ok (.aload_n 0, 1) := by decide +kernel
theorem dX7_finish_1 : decode cX7_finish 1 = .ok (.getfield 36, 3) := by decide +kernel
theorem dX7_finish_4 : decode cX7_finish 4 = .ok (.aload_n 1, 1) := by decide +kernel
theorem dX7_finish_5 : decode cX7_finish 5 = .ok (.getfield 181, 3) := by decide +kernel
theorem dX7_finish_8 : decode cX7_finish 8 = .ok (.iaload, 1) := by decide +kernel
theorem dX7_finish_9 : decode cX7_finish 9 = .ok (.istore_n 2, 1) := by decide +kernel
theorem dX7_finish_10 : decode cX7_finish 10 = .ok (.aload_n 0, 1) := by decide +kernel
theorem dX7_finish_11 : decode cX7_finish 11 = .ok (.getfield 36, 3) := by decide +kernel
theorem dX7_finish_14 : decode cX7_finish 14 = .ok (.aload_n 1, 1) := by decide +kernel
theorem dX7_finish_15 : decode cX7_finish 15 = .ok (.getfield 181, 3) := by decide +kernel
theorem dX7_finish_18 : decode cX7_finish 18 = .ok (.aload_n 1, 1) := by decide +kernel
theorem dX7_finish_19 : decode cX7_finish 19 = .ok (.getfield 186, 3) := by decide +kernel
theorem dX7_finish_22 : decode cX7_finish 22 = .ok (.iload_n 2, 1) := by decide +kernel
theorem dX7_finish_23 : decode cX7_finish 23 = .ok (.aload_n 1, 1) := by decide +kernel
theorem dX7_finish_24 : decode cX7_finish 24 = .ok (.getfield 189, 3) := by decide +kernel
theorem dX7_finish_27 : decode cX7_finish 27 = .ok (.aload_n 1, 1) := by decide +kernel
theorem dX7_finish_28 : decode cX7_finish 28 = .ok (.getfield 192, 3) := by decide +kernel
theorem dX7_finish_31 : decode cX7_finish 31 = .ok (.invokestatic 195, 3) := by decide +kernel
theorem dX7_finish_34 : decode cX7_finish 34 = .ok (.iastore, 1) := by decide +kernel
theorem dX7_finish_35 : decode cX7_finish 35 = .ok (.aload_n 1, 1) := by decide +kernel
theorem dX7_finish_36 : decode cX7_finish 36 = .ok (.getfield 199, 3) := by decide +kernel
theorem dX7_finish_39 : decode cX7_finish 39 = .ok (.ifnull 30, 3) := by decide +kernel
theorem dX7_finish_42 : decode cX7_finish 42 = .ok (.aload_n 1, 1) := by decide +kernel
theorem dX7_finish_43 : decode cX7_finish 43 = .ok (.getfield 199, 3) := by decide +kernel
theorem dX7_finish_46 : decode cX7_finish 46 = .ok (.getfield 203, 3) := by decide +kernel
theorem dX7_finish_49 : decode cX7_finish 49 = .ok (.aload_n 1, 1) := by decide +kernel
theorem dX7_finish_50 : decode cX7_finish 50 = .ok (.getfield 208, 3) := by decide +kernel
theorem dX7_finish_53 : decode cX7_finish 53 = .ok (.if_icmp .ne 16, 3) := by decide +kernel
theorem dX7_finish_56 : decode cX7_finish 56 = .ok (.aload_n 1, 1) := by decide +kernel
theorem dX7_finish_57 : decode cX7_finish 57 = .ok (.getfield 199, 3) := by decide +kernel
theorem dX7_finish_60 : decode cX7_finish 60 = .ok (.getfield 209, 3) := by decide +kernel
theorem dX7_finish_63 : decode cX7_finish 63 = .ok (.aload_n 1, 1) := by decide +kernel
theorem dX7_finish_64 : decode cX7_finish 64 = .ok (.getfield 212, 3) := by decide +kernel
theorem dX7_finish_67 : decode cX7_finish 67 = .ok (.iload_n 2, 1) := by decide +kernel
theorem dX7_finish_68 : decode cX7_finish 68 = .ok (.iastore, 1) := by decide +kernel
theorem dX7_finish_69 : decode cX7_finish 69 = .ok (.return_, 1) := by decide +kernel
def fX7_finish (a0 : Nat) (p1 : Option Nat) (A : AH) : Option (AH) :=
(gR A (some a0) 7 5).bind fun v1 =>
(gI A p1 15 3).bind fun v2 =>
(aI A v1 v2).bind fun v3 =>
(gI A p1 15 2).bind fun v4 =>
(gI A p1 15 4).bind fun v5 =>
(gI A p1 15 5).bind fun v6 =>
(fX7_left v4 v3 v5 v6 A).bind fun g7 =>
(sI A v1 v2 g7).bind fun A8 =>
(gR A8 p1 15 8).bind fun v9 =>
jn (fun (A11 : AH) =>
some A11) fun j10 =>
if v9 = none then (j10 A8) else
(gI A8 v9 14 5).bind fun v13 =>
(gI A8 p1 15 7).bind fun v14 =>
if v13 = v14 then ((gR A8 v9 14 0).bind fun v16 =>
(gI A8 p1 15 6).bind fun v17 =>
(sI A8 v16 v17 v3).bind fun A18 =>
j10 A18) else
j10 A8

set_option maxHeartbeats 4000000 in
set_option maxRecDepth 100000 in
theorem sX7_finish (l : Launch) (D : DE) (a0 : Nat) (p1 : Option Nat) (A : AH) (g : AH) (hg : fX7_finish a0 p1 A = some g) : Sm l D yX7_finish cX7_finish 3 none 2 44 [tR (some a0), tR p1] A (wU g).1 (wU g).2 := by
  refine Sm.of (ω := wU) (fX7_finish a0 p1 A) [some (tR (some a0)), some (tR p1), none] (by decide) (Nat.le_of_ble_eq_true rfl) rfl hg ?_
  intro p e R s m args below meth c X hin
  have X : Cx D cX7_finish RX7 3 2 44 none p R s m args meth c := X
  unfold fX7_finish
  refine rf_aload_n X rfl dX7_finish_0 ?_
  refine rf_bind (fun v1 hv1 => ?_)
  refine rf_getR X fl_X7_36 hv1 dX7_finish_1 ?_
  refine rf_aload_n X rfl dX7_finish_4 ?_
  refine rf_bind (fun v2 hv2 => ?_)
  refine rf_getI X fl_X7_181 hv2 dX7_finish_5 ?_
  refine rf_bind (fun v3 hv3 => ?_)
  refine rf_iald X hv3 dX7_finish_8 ?_
  refine rf_istore_n X (ls' := [some (tR (some a0)), some (tR p1), some (tI v3)]) rfl (by decide) dX7_finish_9 ?_
  refine rf_aload_n X rfl dX7_finish_10 ?_
  refine rf_getR X fl_X7_36 hv1 dX7_finish_11 ?_
  refine rf_aload_n X rfl dX7_finish_14 ?_
  refine rf_getI X fl_X7_181 hv2 dX7_finish_15 ?_
  refine rf_aload_n X rfl dX7_finish_18 ?_
  refine rf_bind (fun v4 hv4 => ?_)
  refine rf_getI X fl_X7_186 hv4 dX7_finish_19 ?_
  refine rf_iload_n X rfl dX7_finish_22 ?_
  refine rf_aload_n X rfl dX7_finish_23 ?_
  refine rf_bind (fun v5 hv5 => ?_)
  refine rf_getI X fl_X7_189 hv5 dX7_finish_24 ?_
  refine rf_aload_n X rfl dX7_finish_27 ?_
  refine rf_bind (fun v6 hv6 => ?_)
  refine rf_getI X fl_X7_192 hv6 dX7_finish_28 ?_
  refine rf_bind (fun g7 hg7 => ?_)
  refine rf_callSI X c_X7_195 ⟨Nat.le_of_ble_eq_true rfl, Nat.le_of_ble_eq_true rfl⟩ [tI v4, tI v3, tI v5, tI v6] rfl (Nat.le_of_ble_eq_true rfl) (sX7_left l D v4 v3 v5 v6 A g7 hg7) dX7_finish_31 ?_
  refine rf_bind (fun A8 hA8 => ?_)
  refine rf_iast X hA8 dX7_finish_34 ?_
  refine rf_aload_n X rfl dX7_finish_35 ?_
  refine rf_bind (fun v9 hv9 => ?_)
  refine rf_getR X fl_X7_199 hv9 dX7_finish_36 ?_
  refine rf_jn2 (fun i => ∀ (A11 : AH), RfX X l e below wU (i A11) 69 [none, none, none] [] A11) ?_ (fun j10 hj10 => ?_)
  · intro A11
    exact rf_vret X rfl dX7_finish_69
  refine rf_ifnull X (tgt := 69) rfl dX7_finish_39 (fun c12 => rf_pos c12 ?_) (fun c12 => rf_neg c12 ?_)
  · exact rf_go (hj10 A8) True.intro
  refine rf_aload_n X rfl dX7_finish_42 ?_
  refine rf_getR X fl_X7_199 hv9 dX7_finish_43 ?_
  refine rf_bind (fun v13 hv13 => ?_)
  refine rf_getI X fl_X7_203 hv13 dX7_finish_46 ?_
  refine rf_aload_n X rfl dX7_finish_49 ?_
  refine rf_bind (fun v14 hv14 => ?_)
  refine rf_getI X fl_X7_208 hv14 dX7_finish_50 ?_
  refine rf_icmp_ne X (tgt := 69) rfl dX7_finish_53 (fun c15 => rf_neg c15 ?_) (fun c15 => rf_pos c15 ?_)
  · exact rf_go (hj10 A8) True.intro
  refine rf_aload_n X rfl dX7_finish_56 ?_
  refine rf_getR X fl_X7_199 hv9 dX7_finish_57 ?_
  refine rf_bind (fun v16 hv16 => ?_)
  refine rf_getR X fl_X7_209 hv16 dX7_finish_60 ?_
  refine rf_aload_n X rfl dX7_finish_63 ?_
  refine rf_bind (fun v17 hv17 => ?_)
  refine rf_getI X fl_X7_212 hv17 dX7_finish_64 ?_
  refine rf_iload_n X rfl dX7_finish_67 ?_
  refine rf_bind (fun A18 hA18 => ?_)
  refine rf_iast X hA18 dX7_finish_68 ?_
  exact rf_go (hj10 A18) True.intro

theorem dX8_free_0 : decode cX8_free 0 = .ok (.iconst 0, 1) := by decide +kernel
theorem dX8_free_1 : decode cX8_free 1 = .ok (.istore_n 1, 1) := by decide +kernel
theorem dX8_free_2 : decode cX8_free 2 = .ok (.iconst 0, 1) := by decide +kernel
theorem dX8_free_3 : decode cX8_free 3 = .ok (.istore_n 2, 1) := by decide +kernel
theorem dX8_free_4 : decode cX8_free 4 = .ok (.iload_n 2, 1) := by decide +kernel
theorem dX8_free_5 : decode cX8_free 5 = .ok (.aload_n 0, 1) := by decide +kernel
theorem dX8_free_6 : decode cX8_free 6 = .ok (.getfield 9, 3) := by decide +kernel
theorem dX8_free_9 : decode cX8_free 9 = .ok (.arraylength, 1) := by decide +kernel
theorem dX8_free_10 : decode cX8_free 10 = .ok (.if_icmp .ge 26, 3) := by decide +kernel
theorem dX8_free_13 : decode cX8_free 13 = .ok (.iload_n 1, 1) := by decide +kernel
theorem dX8_free_14 : decode cX8_free 14 = .ok (.aload_n 0, 1) := by decide +kernel
theorem dX8_free_15 : decode cX8_free 15 = .ok (.getfield 9, 3) := by decide +kernel
theorem dX8_free_18 : decode cX8_free 18 = .ok (.iload_n 2, 1) := by decide +kernel
theorem dX8_free_19 : decode cX8_free 19 = .ok (.aaload, 1) := by decide +kernel
theorem dX8_free_20 : decode cX8_free 20 = .ok (.ifnonnull 7, 3) := by decide +kernel
theorem dX8_free_23 : decode cX8_free 23 = .ok (.iconst 1, 1) := by decide +kernel
theorem dX8_free_24 : decode cX8_free 24 = .ok (.goto 4, 3) := by decide +kernel
theorem dX8_free_27 : decode cX8_free 27 = .ok (.iconst 0, 1) := by decide +kernel
theorem dX8_free_28 : decode cX8_free 28 = .ok (.iadd, 1) := by decide +kernel
theorem dX8_free_29 : decode cX8_free 29 = .ok (.istore_n 1, 1) := by decide +kernel
theorem dX8_free_30 : decode cX8_free 30 = .ok (.iinc 2 1, 3) := by decide +kernel
theorem dX8_free_33 : decode cX8_free 33 = .ok (.goto (-29), 3) := by decide +kernel
theorem dX8_free_36 : decode cX8_free 36 = .ok (.iload_n 1, 1) := by decide +kernel
theorem dX8_free_37 : decode cX8_free 37 = .ok (.ireturn, 1) := by decide +kernel
def fX8_free (n : Nat) (a0 : Nat) (A : AH) : Option (Int32) :=
jl (fixG (fun _ _ => none) (fun (rc4 : (Int32) → (Int32) → Option (Int32)) (x2 : Int32) (x3 : Int32) =>
(gR A (some a0) 8 0).bind fun v5 =>
(aLen A v5).bind fun v6 =>
if v6 ≤ x3 then (some x2) else
(aR A v5 x3).bind fun v8 =>
jn (fun (y10 : Int32) =>
rc4 (x2 + y10) (x3 + (1 : Int32))) fun j9 =>
if v8 = none then (j9 (1 : Int32)) else
j9 (0 : Int32)) n) fun j1 =>
j1 (0 : Int32) (0 : Int32)

set_option maxHeartbeats 4000000 in
set_option maxRecDepth 100000 in
theorem sX8_free (l : Launch) (D : DE) (n : Nat) (a0 : Nat) (A : AH) (g : Int32) (hg : fX8_free n a0 A = some g) : Sm l D yX8_free cX8_free 3 (some Jvm.ClassFile.FieldType.int) 0 0 [tR (some a0)] A (qI A g).1 (qI A g).2 := by
  refine Sm.of (ω := qI A) (fX8_free n a0 A) [some (tR (some a0)), none, none] (by decide) (Nat.le_of_ble_eq_true rfl) rfl hg ?_
  intro p e R s m args below meth c X hin
  have X : Cx D cX8_free RX8 3 0 0 (some Jvm.ClassFile.FieldType.int) p R s m args meth c := X
  unfold fX8_free
  refine rf_iconst X (0 : Int32) rfl dX8_free_0 ?_
  refine rf_istore_n X (ls' := [some (tR (some a0)), some (tI (0 : Int32)), none]) rfl (by decide) dX8_free_1 ?_
  refine rf_iconst X (0 : Int32) rfl dX8_free_2 ?_
  refine rf_istore_n X (ls' := [some (tR (some a0)), some (tI (0 : Int32)), some (tI (0 : Int32))]) rfl (by decide) dX8_free_3 ?_
  refine rf_fix (fun i => ∀ (x2 : Int32) (x3 : Int32), RfX X l e below (qI A) (i x2 x3) 4 [some (tR (some a0)), some (tI x2), some (tI x3)] [] A) (fun _ _ => rf_none) (fun rc4 hrc4 => ?_) (fun j1 hj1 => ?_)
  · intro x2 x3
    refine rf_iload_n X rfl dX8_free_4 ?_
    refine rf_aload_n X rfl dX8_free_5 ?_
    refine rf_bind (fun v5 hv5 => ?_)
    refine rf_getR X fl_X8_9 hv5 dX8_free_6 ?_
    refine rf_bind (fun v6 hv6 => ?_)
    refine rf_alen X hv6 dX8_free_9 ?_
    refine rf_icmp_ge X (tgt := 36) rfl dX8_free_10 (fun c7 => rf_pos c7 ?_) (fun c7 => rf_neg c7 ?_)
    · refine rf_iload_n X rfl dX8_free_36 ?_
      exact rf_iret X rfl dX8_free_37
    refine rf_iload_n X rfl dX8_free_13 ?_
    refine rf_aload_n X rfl dX8_free_14 ?_
    refine rf_getR X fl_X8_9 hv5 dX8_free_15 ?_
    refine rf_iload_n X rfl dX8_free_18 ?_
    refine rf_bind (fun v8 hv8 => ?_)
    refine rf_aald X hv8 dX8_free_19 ?_
    refine rf_jn2 (fun i => ∀ (y10 : Int32), RfX X l e below (qI A) (i y10) 28 [some (tR (some a0)), none, some (tI x3)] [tI y10, tI x2] A) ?_ (fun j9 hj9 => ?_)
    · intro y10
      refine rf_iadd X dX8_free_28 ?_
      refine rf_istore_n X (ls' := [some (tR (some a0)), some (tI (x2 + y10)), some (tI x3)]) rfl (by decide) dX8_free_29 ?_
      refine rf_iinc X (x3 + (1 : Int32)) rfl rfl (ls' := [some (tR (some a0)), some (tI (x2 + y10)), some (tI (x3 + (1 : Int32)))]) rfl (by decide) dX8_free_30 ?_
      refine rf_goto X (tgt := 4) rfl dX8_free_33 ?_
      exact rf_go (hrc4 (x2 + y10) (x3 + (1 : Int32))) (And.intro rfl (And.intro rfl (And.intro rfl True.intro)))
    refine rf_ifnonnull X (tgt := 27) rfl dX8_free_20 (fun c11 => rf_neg c11 ?_) (fun c11 => rf_pos c11 ?_)
    · refine rf_iconst X (0 : Int32) rfl dX8_free_27 ?_
      exact rf_go (hj9 (0 : Int32)) (And.intro rfl (And.intro rfl True.intro))
    refine rf_iconst X (1 : Int32) rfl dX8_free_23 ?_
    refine rf_goto X (tgt := 28) rfl dX8_free_24 ?_
    exact rf_go (hj9 (1 : Int32)) (And.intro rfl (And.intro rfl True.intro))
  exact rf_go (hj1 (0 : Int32) (0 : Int32)) (And.intro rfl (And.intro rfl (And.intro rfl True.intro)))

theorem dX12_init_0 : decode cX12_init 0 = .ok (.aload_n 0, 1) := by decide +kernel
theorem dX12_init_1 : decode cX12_init 1 = .ok (.invokespecial 3, 3) := by decide +kernel
theorem dX12_init_4 : decode cX12_init 4 = .ok (.aload_n 0, 1) := by decide +kernel
theorem dX12_init_5 : decode cX12_init 5 = .ok (.bipush 64, 2) := by decide +kernel
theorem dX12_init_7 : decode cX12_init 7 = .ok (.newarray .int, 2) := by decide +kernel
theorem dX12_init_9 : decode cX12_init 9 = .ok (.putfield 9, 3) := by decide +kernel
theorem dX12_init_12 : decode cX12_init 12 = .ok (.aload_n 0, 1) := by decide +kernel
theorem dX12_init_13 : decode cX12_init 13 = .ok (.new 15, 3) := by decide +kernel
theorem dX12_init_16 : decode cX12_init 16 = .ok (.dup, 1) := by decide +kernel
theorem dX12_init_17 : decode cX12_init 17 = .ok (.bipush 8, 2) := by decide +kernel
theorem dX12_init_19 : decode cX12_init 19 = .ok (.invokespecial 17, 3) := by decide +kernel
theorem dX12_init_22 : decode cX12_init 22 = .ok (.putfield 20, 3) := by decide +kernel
theorem dX12_init_25 : decode cX12_init 25 = .ok (.return_, 1) := by decide +kernel
def fX12_init (a0 : Nat) (A : AH) : Option (AH) :=
(nAI A (64 : Int32)).bind fun A1 =>
(pR A1 (some a0) 12 1 (some (hN A))).bind fun A2 =>
(nO A2 0 dfJ2).bind fun A3 =>
(fJ2_init (hN A2) (8 : Int32) A3).bind fun g4 =>
(pR g4 (some a0) 12 2 (some (hN A2))).bind fun A5 =>
some A5

set_option maxHeartbeats 4000000 in
set_option maxRecDepth 100000 in
theorem sX12_init (l : Launch) (D : DE) (a0 : Nat) (A : AH) (g : AH) (hg : fX12_init a0 A = some g) : Sm l D yX12_init cX12_init 1 none 4 81 [tR (some a0)] A (wU g).1 (wU g).2 := by
  refine Sm.of (ω := wU) (fX12_init a0 A) [some (tR (some a0))] (by decide) (Nat.le_of_ble_eq_true rfl) rfl hg ?_
  intro p e R s m args below meth c X hin
  have X : Cx D cX12_init RX12 1 4 81 none p R s m args meth c := X
  unfold fX12_init
  refine rf_aload_n X rfl dX12_init_0 ?_
  refine rf_objInit X q1115 ⟨by decide, by decide⟩ (Nat.le_of_ble_eq_true rfl) dX12_init_1 ?_
  refine rf_aload_n X rfl dX12_init_4 ?_
  refine rf_bipush X (64 : Int32) rfl dX12_init_5 ?_
  refine rf_bind (fun A1 hA1 => ?_)
  refine rf_newI X hA1 dX12_init_7 ?_
  refine rf_bind (fun A2 hA2 => ?_)
  refine rf_putR X fp_X12_9 (fun _ => hin) rfl hA2 dX12_init_9 ?_
  refine rf_aload_n X rfl dX12_init_12 ?_
  refine rf_bind (fun A3 hA3 => ?_)
  refine rf_new X nw_X12_15 hA3 dX12_init_13 ?_
  refine rf_dup X rfl dX12_init_16 ?_
  refine rf_bipush X (8 : Int32) rfl dX12_init_17 ?_
  refine rf_bind (fun g4 hg4 => ?_)
  refine rf_callI X c_X12_17 ⟨Nat.le_of_ble_eq_true rfl, Nat.le_of_ble_eq_true rfl⟩ [tI (8 : Int32)] rfl (Nat.le_of_ble_eq_true rfl) (sJ2_init l D (hN A2) (8 : Int32) A3 g4 hg4) dX12_init_19 ?_
  refine rf_bind (fun A5 hA5 => ?_)
  refine rf_putR X fp_X12_20 (fun _ => hin) rfl hA5 dX12_init_22 ?_
  exact rf_vret X rfl dX12_init_25

theorem dX12_begin_0 : decode cX12_begin 0 = .ok (.aload_n 0, 1) := by decide +kernel
theorem dX12_begin_1 : decode cX12_begin 1 = .ok (.iload_n 1, 1) := by decide +kernel
theorem dX12_begin_2 : decode cX12_begin 2 = .ok (.putfield 24, 3) := by decide +kernel
theorem dX12_begin_5 : decode cX12_begin 5 = .ok (.iconst 0, 1) := by decide +kernel
theorem dX12_begin_6 : decode cX12_begin 6 = .ok (.istore_n 2, 1) := by decide +kernel
theorem dX12_begin_7 : decode cX12_begin 7 = .ok (.iload_n 2, 1) := by decide +kernel
theorem dX12_begin_8 : decode cX12_begin 8 = .ok (.bipush 64, 2) := by decide +kernel
theorem dX12_begin_10 : decode cX12_begin 10 = .ok (.if_icmp .ge 16, 3) := by decide +kernel
theorem dX12_begin_13 : decode cX12_begin 13 = .ok (.aload_n 0, 1) := by decide +kernel
theorem dX12_begin_14 : decode cX12_begin 14 = .ok (.getfield 9, 3) := by decide +kernel
theorem dX12_begin_17 : decode cX12_begin 17 = .ok (.iload_n 2, 1) := by decide +kernel
theorem dX12_begin_18 : decode cX12_begin 18 = .ok (.iconst 0, 1) := by decide +kernel
theorem dX12_begin_19 : decode cX12_begin 19 = .ok (.iastore, 1) := by decide +kernel
theorem dX12_begin_20 : decode cX12_begin 20 = .ok (.iinc 2 1, 3) := by decide +kernel
theorem dX12_begin_23 : decode cX12_begin 23 = .ok (.goto (-16), 3) := by decide +kernel
theorem dX12_begin_26 : decode cX12_begin 26 = .ok (.aload_n 0, 1) := by decide +kernel
theorem dX12_begin_27 : decode cX12_begin 27 = .ok (.getfield 20, 3) := by decide +kernel
theorem dX12_begin_30 : decode cX12_begin 30 = .ok (.invokevirtual 28, 3) := by decide +kernel
theorem dX12_begin_33 : decode cX12_begin 33 = .ok (.return_, 1) := by decide +kernel
def fX12_begin (n : Nat) (a0 : Nat) (p1 : Int32) (A : AH) : Option (AH) :=
(pI A (some a0) 12 0 p1).bind fun A1 =>
jl (fixG (fun _ _ => none) (fun (rc5 : (Int32) → (AH) → Option (AH)) (x3 : Int32) (A4 : AH) =>
if (64 : Int32) ≤ x3 then ((gR A4 (some a0) 12 2).bind fun v7 =>
(rcv A4 v7 0).bind fun v8 =>
(fJ2_clear n v8 A4).bind fun g9 =>
some g9) else
(gR A4 (some a0) 12 1).bind fun v10 =>
(sI A4 v10 x3 (0 : Int32)).bind fun A11 =>
rc5 (x3 + (1 : Int32)) A11) n) fun j2 =>
j2 (0 : Int32) A1

set_option maxHeartbeats 4000000 in
set_option maxRecDepth 100000 in
theorem sX12_begin (l : Launch) (D : DE) (n : Nat) (a0 : Nat) (p1 : Int32) (A : AH) (g : AH) (hg : fX12_begin n a0 p1 A = some g) : Sm l D yX12_begin cX12_begin 3 none 1 23 [tR (some a0), tI p1] A (wU g).1 (wU g).2 := by
  refine Sm.of (ω := wU) (fX12_begin n a0 p1 A) [some (tR (some a0)), some (tI p1), none] (by decide) (Nat.le_of_ble_eq_true rfl) rfl hg ?_
  intro p e R s m args below meth c X hin
  have X : Cx D cX12_begin RX12 3 1 23 none p R s m args meth c := X
  unfold fX12_begin
  refine rf_aload_n X rfl dX12_begin_0 ?_
  refine rf_iload_n X rfl dX12_begin_1 ?_
  refine rf_bind (fun A1 hA1 => ?_)
  refine rf_putI X fp_X12_24 (fun h => by cases h) hA1 dX12_begin_2 ?_
  refine rf_iconst X (0 : Int32) rfl dX12_begin_5 ?_
  refine rf_istore_n X (ls' := [some (tR (some a0)), some (tI p1), some (tI (0 : Int32))]) rfl (by decide) dX12_begin_6 ?_
  refine rf_fix (fun i => ∀ (x3 : Int32) (A4 : AH), RfX X l e below wU (i x3 A4) 7 [some (tR (some a0)), none, some (tI x3)] [] A4) (fun _ _ => rf_none) (fun rc5 hrc5 => ?_) (fun j2 hj2 => ?_)
  · intro x3 A4
    refine rf_iload_n X rfl dX12_begin_7 ?_
    refine rf_bipush X (64 : Int32) rfl dX12_begin_8 ?_
    refine rf_icmp_ge X (tgt := 26) rfl dX12_begin_10 (fun c6 => rf_pos c6 ?_) (fun c6 => rf_neg c6 ?_)
    · refine rf_aload_n X rfl dX12_begin_26 ?_
      refine rf_bind (fun v7 hv7 => ?_)
      refine rf_getR X fl_X12_20 hv7 dX12_begin_27 ?_
      refine rf_bind (fun v8 hv8 => ?_)
      refine rf_bind (fun g9 hg9 => ?_)
      refine rf_callVU X c_X12_28 ⟨Nat.le_of_ble_eq_true rfl, Nat.le_of_ble_eq_true rfl⟩ [] rfl (Nat.le_of_ble_eq_true rfl) hv8 (sJ2_clear l D n v8 A4 g9 hg9) dX12_begin_30 ?_
      exact rf_vret X rfl dX12_begin_33
    refine rf_aload_n X rfl dX12_begin_13 ?_
    refine rf_bind (fun v10 hv10 => ?_)
    refine rf_getR X fl_X12_9 hv10 dX12_begin_14 ?_
    refine rf_iload_n X rfl dX12_begin_17 ?_
    refine rf_iconst X (0 : Int32) rfl dX12_begin_18 ?_
    refine rf_bind (fun A11 hA11 => ?_)
    refine rf_iast X hA11 dX12_begin_19 ?_
    refine rf_iinc X (x3 + (1 : Int32)) rfl rfl (ls' := [some (tR (some a0)), none, some (tI (x3 + (1 : Int32)))]) rfl (by decide) dX12_begin_20 ?_
    refine rf_goto X (tgt := 7) rfl dX12_begin_23 ?_
    exact rf_go (hrc5 (x3 + (1 : Int32)) A11) (And.intro rfl (And.intro rfl True.intro))
  exact rf_go (hj2 (0 : Int32) A1) (And.intro rfl (And.intro rfl True.intro))

theorem dX13_init_0 : decode cX13_init 0 = .ok (.aload_n 0, 1) := by decide +kernel
theorem dX13_init_1 : decode cX13_init 1 = .ok (.invokespecial 3, 3) := by decide +kernel
theorem dX13_init_4 : decode cX13_init 4 = .ok (.aload_n 0, 1) := by decide +kernel
theorem dX13_init_5 : decode cX13_init 5 = .ok (.new 9, 3) := by decide +kernel
theorem dX13_init_8 : decode cX13_init 8 = .ok (.dup, 1) := by decide +kernel
theorem dX13_init_9 : decode cX13_init 9 = .ok (.bipush 8, 2) := by decide +kernel
theorem dX13_init_11 : decode cX13_init 11 = .ok (.invokespecial 11, 3) := by decide +kernel
theorem dX13_init_14 : decode cX13_init 14 = .ok (.putfield 14, 3) := by decide +kernel
theorem dX13_init_17 : decode cX13_init 17 = .ok (.aload_n 0, 1) := by decide +kernel
theorem dX13_init_18 : decode cX13_init 18 = .ok (.bipush 16, 2) := by decide +kernel
theorem dX13_init_20 : decode cX13_init 20 = .ok (.newarray .int, 2) := by decide +kernel
theorem dX13_init_22 : decode cX13_init 22 = .ok (.putfield 20, 3) := by decide +kernel
theorem dX13_init_25 : decode cX13_init 25 = .ok (.aload_n 0, 1) := by decide +kernel
theorem dX13_init_26 : decode cX13_init 26 = .ok (.iconst 4, 1) := by decide +kernel
theorem dX13_init_27 : decode cX13_init 27 = .ok (.newarray .int, 2) := by decide +kernel
theorem dX13_init_29 : decode cX13_init 29 = .ok (.putfield 24, 3) := by decide +kernel
theorem dX13_init_32 : decode cX13_init 32 = .ok (.return_, 1) := by decide +kernel
def fX13_init (a0 : Nat) (A : AH) : Option (AH) :=
(nO A 0 dfJ2).bind fun A1 =>
(fJ2_init (hN A) (8 : Int32) A1).bind fun g2 =>
(pR g2 (some a0) 13 2 (some (hN A))).bind fun A3 =>
(nAI A3 (16 : Int32)).bind fun A4 =>
(pR A4 (some a0) 13 3 (some (hN A3))).bind fun A5 =>
(nAI A5 (4 : Int32)).bind fun A6 =>
(pR A6 (some a0) 13 4 (some (hN A5))).bind fun A7 =>
some A7

set_option maxHeartbeats 4000000 in
set_option maxRecDepth 100000 in
theorem sX13_init (l : Launch) (D : DE) (a0 : Nat) (A : AH) (g : AH) (hg : fX13_init a0 A = some g) : Sm l D yX13_init cX13_init 1 none 4 81 [tR (some a0)] A (wU g).1 (wU g).2 := by
  refine Sm.of (ω := wU) (fX13_init a0 A) [some (tR (some a0))] (by decide) (Nat.le_of_ble_eq_true rfl) rfl hg ?_
  intro p e R s m args below meth c X hin
  have X : Cx D cX13_init RX13 1 4 81 none p R s m args meth c := X
  unfold fX13_init
  refine rf_aload_n X rfl dX13_init_0 ?_
  refine rf_objInit X q1149 ⟨by decide, by decide⟩ (Nat.le_of_ble_eq_true rfl) dX13_init_1 ?_
  refine rf_aload_n X rfl dX13_init_4 ?_
  refine rf_bind (fun A1 hA1 => ?_)
  refine rf_new X nw_X13_9 hA1 dX13_init_5 ?_
  refine rf_dup X rfl dX13_init_8 ?_
  refine rf_bipush X (8 : Int32) rfl dX13_init_9 ?_
  refine rf_bind (fun g2 hg2 => ?_)
  refine rf_callI X c_X13_11 ⟨Nat.le_of_ble_eq_true rfl, Nat.le_of_ble_eq_true rfl⟩ [tI (8 : Int32)] rfl (Nat.le_of_ble_eq_true rfl) (sJ2_init l D (hN A) (8 : Int32) A1 g2 hg2) dX13_init_11 ?_
  refine rf_bind (fun A3 hA3 => ?_)
  refine rf_putR X fp_X13_14 (fun _ => hin) rfl hA3 dX13_init_14 ?_
  refine rf_aload_n X rfl dX13_init_17 ?_
  refine rf_bipush X (16 : Int32) rfl dX13_init_18 ?_
  refine rf_bind (fun A4 hA4 => ?_)
  refine rf_newI X hA4 dX13_init_20 ?_
  refine rf_bind (fun A5 hA5 => ?_)
  refine rf_putR X fp_X13_20 (fun _ => hin) rfl hA5 dX13_init_22 ?_
  refine rf_aload_n X rfl dX13_init_25 ?_
  refine rf_iconst X (4 : Int32) rfl dX13_init_26 ?_
  refine rf_bind (fun A6 hA6 => ?_)
  refine rf_newI X hA6 dX13_init_27 ?_
  refine rf_bind (fun A7 hA7 => ?_)
  refine rf_putR X fp_X13_24 (fun _ => hin) rfl hA7 dX13_init_29 ?_
  exact rf_vret X rfl dX13_init_32

theorem dX13_begin_0 : decode cX13_begin 0 = .ok (.aload_n 0, 1) := by decide +kernel
theorem dX13_begin_1 : decode cX13_begin 1 = .ok (.aload_n 1, 1) := by decide +kernel
theorem dX13_begin_2 : decode cX13_begin 2 = .ok (.putfield 27, 3) := by decide +kernel
theorem dX13_begin_5 : decode cX13_begin 5 = .ok (.aload_n 0, 1) := by decide +kernel
theorem dX13_begin_6 : decode cX13_begin 6 = .ok (.iload_n 2, 1) := by decide +kernel
theorem dX13_begin_7 : decode cX13_begin 7 = .ok (.putfield 31, 3) := by decide +kernel
theorem dX13_begin_10 : decode cX13_begin 10 = .ok (.aload_n 0, 1) := by decide +kernel
theorem dX13_begin_11 : decode cX13_begin 11 = .ok (.getfield 14, 3) := by decide +kernel
theorem dX13_begin_14 : decode cX13_begin 14 = .ok (.invokevirtual 35, 3) := by decide +kernel
theorem dX13_begin_17 : decode cX13_begin 17 = .ok (.iconst 0, 1) := by decide +kernel
theorem dX13_begin_18 : decode cX13_begin 18 = .ok (.istore_n 3, 1) := by decide +kernel
theorem dX13_begin_19 : decode cX13_begin 19 = .ok (.iload_n 3, 1) := by decide +kernel
theorem dX13_begin_20 : decode cX13_begin 20 = .ok (.bipush 16, 2) := by decide +kernel
theorem dX13_begin_22 : decode cX13_begin 22 = .ok (.if_icmp .ge 16, 3) := by decide +kernel
theorem dX13_begin_25 : decode cX13_begin 25 = .ok (.aload_n 0, 1) := by decide +kernel
theorem dX13_begin_26 : decode cX13_begin 26 = .ok (.getfield 20, 3) := by decide +kernel
theorem dX13_begin_29 : decode cX13_begin 29 = .ok (.iload_n 3, 1) := by decide +kernel
theorem dX13_begin_30 : decode cX13_begin 30 = .ok (.iconst 0, 1) := by decide +kernel
theorem dX13_begin_31 : decode cX13_begin 31 = .ok (.iastore, 1) := by decide +kernel
theorem dX13_begin_32 : decode cX13_begin 32 = .ok (.iinc 3 1, 3) := by decide +kernel
theorem dX13_begin_35 : decode cX13_begin 35 = .ok (.goto (-16), 3) := by decide +kernel
theorem dX13_begin_38 : decode cX13_begin 38 = .ok (.iconst 0, 1) := by decide +kernel
theorem dX13_begin_39 : decode cX13_begin 39 = .ok (.istore_n 3, 1) := by decide +kernel
theorem dX13_begin_40 : decode cX13_begin 40 = .ok (.iload_n 3, 1) := by decide +kernel
theorem dX13_begin_41 : decode cX13_begin 41 = .ok (.iconst 4, 1) := by decide +kernel
theorem dX13_begin_42 : decode cX13_begin 42 = .ok (.if_icmp .ge 16, 3) := by decide +kernel
theorem dX13_begin_45 : decode cX13_begin 45 = .ok (.aload_n 0, 1) := by decide +kernel
theorem dX13_begin_46 : decode cX13_begin 46 = .ok (.getfield 24, 3) := by decide +kernel
theorem dX13_begin_49 : decode cX13_begin 49 = .ok (.iload_n 3, 1) := by decide +kernel
theorem dX13_begin_50 : decode cX13_begin 50 = .ok (.iconst 0, 1) := by decide +kernel
theorem dX13_begin_51 : decode cX13_begin 51 = .ok (.iastore, 1) := by decide +kernel
theorem dX13_begin_52 : decode cX13_begin 52 = .ok (.iinc 3 1, 3) := by decide +kernel
theorem dX13_begin_55 : decode cX13_begin 55 = .ok (.goto (-15), 3) := by decide +kernel
theorem dX13_begin_58 : decode cX13_begin 58 = .ok (.aload_n 0, 1) := by decide +kernel
theorem dX13_begin_59 : decode cX13_begin 59 = .ok (.iconst 0, 1) := by decide +kernel
theorem dX13_begin_60 : decode cX13_begin 60 = .ok (.putfield 38, 3) := by decide +kernel
theorem dX13_begin_63 : decode cX13_begin 63 = .ok (.return_, 1) := by decide +kernel
def fX13_begin (n : Nat) (a0 : Nat) (p1 : Option Nat) (p2 : Int32) (A : AH) : Option (AH) :=
(pR A (some a0) 13 0 p1).bind fun A1 =>
(pI A1 (some a0) 13 1 p2).bind fun A2 =>
(gR A2 (some a0) 13 2).bind fun v3 =>
(rcv A2 v3 0).bind fun v4 =>
(fJ2_clear n v4 A2).bind fun g5 =>
jl (fixG (fun _ _ => none) (fun (rc9 : (Int32) → (AH) → Option (AH)) (x7 : Int32) (A8 : AH) =>
if (16 : Int32) ≤ x7 then (jl (fixG (fun _ _ => none) (fun (rc14 : (Int32) → (AH) → Option (AH)) (x12 : Int32) (A13 : AH) =>
if (4 : Int32) ≤ x12 then ((pI A13 (some a0) 13 5 (0 : Int32)).bind fun A16 =>
some A16) else
(gR A13 (some a0) 13 4).bind fun v17 =>
(sI A13 v17 x12 (0 : Int32)).bind fun A18 =>
rc14 (x12 + (1 : Int32)) A18) n) fun j11 =>
j11 (0 : Int32) A8) else
(gR A8 (some a0) 13 3).bind fun v19 =>
(sI A8 v19 x7 (0 : Int32)).bind fun A20 =>
rc9 (x7 + (1 : Int32)) A20) n) fun j6 =>
j6 (0 : Int32) g5

set_option maxHeartbeats 4000000 in
set_option maxRecDepth 100000 in
theorem sX13_begin (l : Launch) (D : DE) (n : Nat) (a0 : Nat) (p1 : Option Nat) (p2 : Int32) (A : AH) (g : AH) (hg : fX13_begin n a0 p1 p2 A = some g) : Sm l D yX13_begin cX13_begin 4 none 1 23 [tR (some a0), tR p1, tI p2] A (wU g).1 (wU g).2 := by
  refine Sm.of (ω := wU) (fX13_begin n a0 p1 p2 A) [some (tR (some a0)), some (tR p1), some (tI p2), none] (by decide) (Nat.le_of_ble_eq_true rfl) rfl hg ?_
  intro p e R s m args below meth c X hin
  have X : Cx D cX13_begin RX13 4 1 23 none p R s m args meth c := X
  unfold fX13_begin
  refine rf_aload_n X rfl dX13_begin_0 ?_
  refine rf_aload_n X rfl dX13_begin_1 ?_
  refine rf_bind (fun A1 hA1 => ?_)
  refine rf_putR X fp_X13_27 (fun h => by cases h) rfl hA1 dX13_begin_2 ?_
  refine rf_aload_n X rfl dX13_begin_5 ?_
  refine rf_iload_n X rfl dX13_begin_6 ?_
  refine rf_bind (fun A2 hA2 => ?_)
  refine rf_putI X fp_X13_31 (fun h => by cases h) hA2 dX13_begin_7 ?_
  refine rf_aload_n X rfl dX13_begin_10 ?_
  refine rf_bind (fun v3 hv3 => ?_)
  refine rf_getR X fl_X13_14 hv3 dX13_begin_11 ?_
  refine rf_bind (fun v4 hv4 => ?_)
  refine rf_bind (fun g5 hg5 => ?_)
  refine rf_callVU X c_X13_35 ⟨Nat.le_of_ble_eq_true rfl, Nat.le_of_ble_eq_true rfl⟩ [] rfl (Nat.le_of_ble_eq_true rfl) hv4 (sJ2_clear l D n v4 A2 g5 hg5) dX13_begin_14 ?_
  refine rf_iconst X (0 : Int32) rfl dX13_begin_17 ?_
  refine rf_istore_n X (ls' := [some (tR (some a0)), some (tR p1), some (tI p2), some (tI (0 : Int32))]) rfl (by decide) dX13_begin_18 ?_
  refine rf_fix (fun i => ∀ (x7 : Int32) (A8 : AH), RfX X l e below wU (i x7 A8) 19 [some (tR (some a0)), none, none, some (tI x7)] [] A8) (fun _ _ => rf_none) (fun rc9 hrc9 => ?_) (fun j6 hj6 => ?_)
  · intro x7 A8
    refine rf_iload_n X rfl dX13_begin_19 ?_
    refine rf_bipush X (16 : Int32) rfl dX13_begin_20 ?_
    refine rf_icmp_ge X (tgt := 38) rfl dX13_begin_22 (fun c10 => rf_pos c10 ?_) (fun c10 => rf_neg c10 ?_)
    · refine rf_iconst X (0 : Int32) rfl dX13_begin_38 ?_
      refine rf_istore_n X (ls' := [some (tR (some a0)), none, none, some (tI (0 : Int32))]) rfl (by decide) dX13_begin_39 ?_
      refine rf_fix (fun i => ∀ (x12 : Int32) (A13 : AH), RfX X l e below wU (i x12 A13) 40 [some (tR (some a0)), none, none, some (tI x12)] [] A13) (fun _ _ => rf_none) (fun rc14 hrc14 => ?_) (fun j11 hj11 => ?_)
      · intro x12 A13
        refine rf_iload_n X rfl dX13_begin_40 ?_
        refine rf_iconst X (4 : Int32) rfl dX13_begin_41 ?_
        refine rf_icmp_ge X (tgt := 58) rfl dX13_begin_42 (fun c15 => rf_pos c15 ?_) (fun c15 => rf_neg c15 ?_)
        · refine rf_aload_n X rfl dX13_begin_58 ?_
          refine rf_iconst X (0 : Int32) rfl dX13_begin_59 ?_
          refine rf_bind (fun A16 hA16 => ?_)
          refine rf_putI X fp_X13_38 (fun h => by cases h) hA16 dX13_begin_60 ?_
          exact rf_vret X rfl dX13_begin_63
        refine rf_aload_n X rfl dX13_begin_45 ?_
        refine rf_bind (fun v17 hv17 => ?_)
        refine rf_getR X fl_X13_24 hv17 dX13_begin_46 ?_
        refine rf_iload_n X rfl dX13_begin_49 ?_
        refine rf_iconst X (0 : Int32) rfl dX13_begin_50 ?_
        refine rf_bind (fun A18 hA18 => ?_)
        refine rf_iast X hA18 dX13_begin_51 ?_
        refine rf_iinc X (x12 + (1 : Int32)) rfl rfl (ls' := [some (tR (some a0)), none, none, some (tI (x12 + (1 : Int32)))]) rfl (by decide) dX13_begin_52 ?_
        refine rf_goto X (tgt := 40) rfl dX13_begin_55 ?_
        exact rf_go (hrc14 (x12 + (1 : Int32)) A18) (And.intro rfl (And.intro rfl True.intro))
      exact rf_go (hj11 (0 : Int32) A8) (And.intro rfl (And.intro rfl True.intro))
    refine rf_aload_n X rfl dX13_begin_25 ?_
    refine rf_bind (fun v19 hv19 => ?_)
    refine rf_getR X fl_X13_20 hv19 dX13_begin_26 ?_
    refine rf_iload_n X rfl dX13_begin_29 ?_
    refine rf_iconst X (0 : Int32) rfl dX13_begin_30 ?_
    refine rf_bind (fun A20 hA20 => ?_)
    refine rf_iast X hA20 dX13_begin_31 ?_
    refine rf_iinc X (x7 + (1 : Int32)) rfl rfl (ls' := [some (tR (some a0)), none, none, some (tI (x7 + (1 : Int32)))]) rfl (by decide) dX13_begin_32 ?_
    refine rf_goto X (tgt := 19) rfl dX13_begin_35 ?_
    exact rf_go (hrc9 (x7 + (1 : Int32)) A20) (And.intro rfl (And.intro rfl True.intro))
  exact rf_go (hj6 (0 : Int32) g5) (And.intro rfl (And.intro rfl True.intro))

theorem dX14_init_0 : decode cX14_init 0 = .ok (.aload_n 0, 1) := by decide +kernel
theorem dX14_init_1 : decode cX14_init 1 = .ok (.invokespecial 3, 3) := by decide +kernel
theorem dX14_init_4 : decode cX14_init 4 = .ok (.aload_n 0, 1) := by decide +kernel
theorem dX14_init_5 : decode cX14_init 5 = .ok (.bipush 16, 2) := by decide +kernel
theorem dX14_init_7 : decode cX14_init 7 = .ok (.newarray .int, 2) := by decide +kernel
theorem dX14_init_9 : decode cX14_init 9 = .ok (.putfield 9, 3) := by decide +kernel
theorem dX14_init_12 : decode cX14_init 12 = .ok (.aload_n 0, 1) := by decide +kernel
theorem dX14_init_13 : decode cX14_init 13 = .ok (.iconst 4, 1) := by decide +kernel
theorem dX14_init_14 : decode cX14_init 14 = .ok (.newarray .boolean, 2) := by decide +kernel
theorem dX14_init_16 : decode cX14_init 16 = .ok (.putfield 15, 3) := by decide +kernel
theorem dX14_init_19 : decode cX14_init 19 = .ok (.return_, 1) := by decide +kernel
def fX14_init (a0 : Nat) (A : AH) : Option (AH) :=
(nAI A (16 : Int32)).bind fun A1 =>
(pR A1 (some a0) 14 0 (some (hN A))).bind fun A2 =>
(nAZ A2 (4 : Int32)).bind fun A3 =>
(pR A3 (some a0) 14 1 (some (hN A2))).bind fun A4 =>
some A4

set_option maxHeartbeats 4000000 in
set_option maxRecDepth 100000 in
theorem sX14_init (l : Launch) (D : DE) (a0 : Nat) (A : AH) (g : AH) (hg : fX14_init a0 A = some g) : Sm l D yX14_init cX14_init 1 none 1 20 [tR (some a0)] A (wU g).1 (wU g).2 := by
  refine Sm.of (ω := wU) (fX14_init a0 A) [some (tR (some a0))] (by decide) (Nat.le_of_ble_eq_true rfl) rfl hg ?_
  intro p e R s m args below meth c X hin
  have X : Cx D cX14_init RX14 1 1 20 none p R s m args meth c := X
  unfold fX14_init
  refine rf_aload_n X rfl dX14_init_0 ?_
  refine rf_objInit X q1196 ⟨by decide, by decide⟩ (Nat.le_of_ble_eq_true rfl) dX14_init_1 ?_
  refine rf_aload_n X rfl dX14_init_4 ?_
  refine rf_bipush X (16 : Int32) rfl dX14_init_5 ?_
  refine rf_bind (fun A1 hA1 => ?_)
  refine rf_newI X hA1 dX14_init_7 ?_
  refine rf_bind (fun A2 hA2 => ?_)
  refine rf_putR X fp_X14_9 (fun _ => hin) rfl hA2 dX14_init_9 ?_
  refine rf_aload_n X rfl dX14_init_12 ?_
  refine rf_iconst X (4 : Int32) rfl dX14_init_13 ?_
  refine rf_bind (fun A3 hA3 => ?_)
  refine rf_newZ X hA3 dX14_init_14 ?_
  refine rf_bind (fun A4 hA4 => ?_)
  refine rf_putR X fp_X14_15 (fun _ => hin) rfl hA4 dX14_init_16 ?_
  exact rf_vret X rfl dX14_init_19

