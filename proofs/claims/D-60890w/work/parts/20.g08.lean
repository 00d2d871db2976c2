/-! 20.g08: printed by gen/parts.py -/
set_option maxRecDepth 100000
theorem fl_X14_19 : FLr RX14 19 14 5 := ⟨RX14, TX14, 6, "WarpMill$Lane", "", rfl, by decide, in_X14, Or.inl q1213, Or.inl rfl⟩
theorem fp_X14_19 : FL RX14 19 14 5 (.int) false := ⟨RX14, TX14, 6, tyX14, "WarpMill$Lane", "", rfl, by decide, in_X14, tyX14_ok, nmX14, Or.inl q1213, Or.inl rfl, rfl, rfl, fun h => by cases h⟩
theorem fp_X14_23 : FL RX14 23 14 2 (.int) false := ⟨RX14, TX14, 6, tyX14, "WarpMill$Lane", "", rfl, by decide, in_X14, tyX14_ok, nmX14, Or.inl q1203, Or.inl rfl, rfl, rfl, fun h => by cases h⟩
theorem fp_X14_26 : FL RX14 26 14 3 (.boolean) false := ⟨RX14, TX14, 6, tyX14, "WarpMill$Lane", "", rfl, by decide, in_X14, tyX14_ok, nmX14, Or.inl q1207, Or.inl rfl, rfl, rfl, fun h => by cases h⟩
theorem fp_X14_30 : FL RX14 30 14 4 (.boolean) false := ⟨RX14, TX14, 6, tyX14, "WarpMill$Lane", "", rfl, by decide, in_X14, tyX14_ok, nmX14, Or.inl q1210, Or.inl rfl, rfl, rfl, fun h => by cases h⟩
theorem fl_X14_15 : FLr RX14 15 14 1 := ⟨RX14, TX14, 6, "WarpMill$Lane", "", rfl, by decide, in_X14, Or.inl q1200, Or.inl rfl⟩
theorem fl_X14_9 : FLr RX14 9 14 0 := ⟨RX14, TX14, 6, "WarpMill$Lane", "", rfl, by decide, in_X14, Or.inl q1197, Or.inl rfl⟩
theorem fl_X8_19 : FLr RX8 19 12 2 := ⟨RX12, TX12, 3, "WarpMill$Block", "WarpMill", rfl, by decide, in_X12, Or.inr q1125, Or.inl rfl⟩
theorem fl_X7_88 : FLr RX7 88 7 14 := ⟨RX7, TX7, 26, "WarpMill$Machine", "", rfl, by decide, in_X7, Or.inl q818, Or.inl rfl⟩
theorem fl_X7_20 : FLr RX7 20 7 0 := ⟨RX7, TX7, 26, "WarpMill$Machine", "", rfl, by decide, in_X7, Or.inl q796, Or.inl rfl⟩
theorem fl_X7_91 : FLr RX7 91 7 15 := ⟨RX7, TX7, 26, "WarpMill$Machine", "", rfl, by decide, in_X7, Or.inl q819, Or.inl rfl⟩
theorem fl_X7_85 : FLr RX7 85 7 13 := ⟨RX7, TX7, 26, "WarpMill$Machine", "", rfl, by decide, in_X7, Or.inl q817, Or.inl rfl⟩
theorem fl_X13_58 : FLr RX13 58 14 2 := ⟨RX14, TX14, 6, "WarpMill$Lane", "WarpMill", rfl, by decide, in_X14, Or.inr q1204, Or.inl rfl⟩
theorem fl_X5_34 : FLr RX5 34 5 6 := ⟨RX5, TX5, 7, "WarpMill$Word", "", rfl, by decide, in_X5, Or.inl q612, Or.inl rfl⟩
theorem nw_X2_26 : NW RX2 26 14 dfX14 := ⟨RX14, TX14, 6, tyX14, rfl, in_X14, tyX14_ok, q944, q1192, q115, rfl, by decide⟩
theorem nw_X2_40 : NW RX2 40 13 dfX13 := ⟨RX13, TX13, 6, tyX13, rfl, in_X13, tyX13_ok, q943, q1145, q114, rfl, by decide⟩
theorem nw_X2_55 : NW RX2 55 12 dfX12 := ⟨RX12, TX12, 3, tyX12, rfl, in_X12, tyX12_ok, q1110, q1111, q113, rfl, by decide⟩
theorem c_X2_22 : CV RX2 22 0 yJ2_isEmpty cJ2_isEmpty 1 (some Jvm.ClassFile.FieldType.boolean) 0 := ⟨TJ2, 3, rfl, q1109, q1068, q1069, q82, q1070, ⟨by decide +kernel, by decide +kernel, by decide +kernel⟩⟩
theorem c_X2_37 : CV RX2 37 14 yX14_begin cX14_begin 2 none 0 := ⟨TX14, 6, rfl, q1229, q1230, q1231, q115, q1232, ⟨by decide +kernel, by decide +kernel, by decide +kernel⟩⟩
theorem c_X2_33 : CV RX2 33 0 yJ2_remove cJ2_remove 4 (some (Jvm.ClassFile.FieldType.object "java/lang/Object")) 1 := ⟨TJ2, 3, rfl, q1134, q1076, q1077, q82, q1078, ⟨by decide +kernel, by decide +kernel, by decide +kernel⟩⟩
theorem c_X2_28 : CI RX2 28 yX14_init cX14_init 1 0 := ⟨Or.inr ⟨_, q1193⟩, q1194, q115, q1195, rfl, ⟨by decide +kernel, by decide +kernel, by decide +kernel⟩⟩
theorem c_X2_43 : CV RX2 43 13 yX13_begin cX13_begin 4 none 2 := ⟨TX13, 6, rfl, q1183, q1184, q1185, q114, q1186, ⟨by decide +kernel, by decide +kernel, by decide +kernel⟩⟩
theorem c_X2_47 : CV RX2 47 2 yX2_lane cX2_lane 2 (some (Jvm.ClassFile.FieldType.object "WarpMill$Lane")) 0 := ⟨TX2, 3, rfl, q1188, q1190, qs13, q99, q1191, ⟨by decide +kernel, by decide +kernel, by decide +kernel⟩⟩
theorem c_X2_42 : CI RX2 42 yX13_init cX13_init 1 0 := ⟨Or.inr ⟨_, q1146⟩, q1147, q114, q1148, rfl, ⟨by decide +kernel, by decide +kernel, by decide +kernel⟩⟩
theorem c_X2_58 : CV RX2 58 12 yX12_begin cX12_begin 3 none 1 := ⟨TX12, 3, rfl, q1135, q1136, q1137, q113, q1138, ⟨by decide +kernel, by decide +kernel, by decide +kernel⟩⟩
theorem c_X2_68 : CV RX2 68 2 yX2_warp cX2_warp 6 (some (Jvm.ClassFile.FieldType.object "WarpMill$Warp")) 3 := ⟨TX2, 3, rfl, q1141, q1143, qs12, q99, q1144, ⟨by decide +kernel, by decide +kernel, by decide +kernel⟩⟩
theorem c_X2_57 : CI RX2 57 yX12_init cX12_init 1 0 := ⟨Or.inr ⟨_, q1112⟩, q1113, q113, q1114, rfl, ⟨by decide +kernel, by decide +kernel, by decide +kernel⟩⟩
theorem c_X8_25 : CV RX8 25 0 yJ2_size cJ2_size 1 (some Jvm.ClassFile.FieldType.int) 0 := ⟨TJ2, 3, rfl, q1237, q696, q697, q82, q698, ⟨by decide +kernel, by decide +kernel, by decide +kernel⟩⟩
theorem c_X8_31 : CV RX8 31 0 yJ2_get cJ2_get 2 (some (Jvm.ClassFile.FieldType.object "java/lang/Object")) 1 := ⟨TJ2, 3, rfl, q1238, q700, q701, q82, q702, ⟨by decide +kernel, by decide +kernel, by decide +kernel⟩⟩
theorem c_X7_217 : CV RX7 217 2 yX2_block cX2_block 6 (some (Jvm.ClassFile.FieldType.object "WarpMill$Block")) 3 := ⟨TX2, 3, rfl, q1105, q1106, q1107, q99, q1108, ⟨by decide +kernel, by decide +kernel, by decide +kernel⟩⟩
theorem c_X7_223 : CV RX7 223 8 yX8_take cX8_take 4 none 1 := ⟨TX8, 5, rfl, q1233, q1234, q1235, q108, q1236, ⟨by decide +kernel, by decide +kernel, by decide +kernel⟩⟩
theorem c_X7_215 : CV RX7 215 8 yX8_free cX8_free 3 (some Jvm.ClassFile.FieldType.int) 0 := ⟨TX8, 5, rfl, q1101, q1102, q1103, q108, q1104, ⟨by decide +kernel, by decide +kernel, by decide +kernel⟩⟩
theorem dX14_begin_0 : decode cX14_begin 0 = .ok (.aload_n 0, 1) := by decide +kernel
theorem dX14_begin_1 : decode cX14_begin 1 = .ok (.dup, 1) := by decide +kernel
theorem dX14_begin_2 : decode cX14_begin 2 = .ok (.getfield 19, 3) := by decide +kernel
theorem dX14_begin_5 : decode cX14_begin 5 = .ok (.iconst 1, 1) := by decide +kernel
theorem dX14_begin_6 : decode cX14_begin 6 = .ok (.iadd, 1) := by decide +kernel
theorem dX14_begin_7 : decode cX14_begin 7 = .ok (.putfield 19, 3) := by decide +kernel
theorem dX14_begin_10 : decode cX14_begin 10 = .ok (.iconst 0, 1) := by decide +kernel
theorem dX14_begin_11 : decode cX14_begin 11 = .ok (.istore_n 1, 1) := by decide +kernel
theorem dX14_begin_12 : decode cX14_begin 12 = .ok (.iload_n 1, 1) := by decide +kernel
theorem dX14_begin_13 : decode cX14_begin 13 = .ok (.bipush 16, 2) := by decide +kernel
theorem dX14_begin_15 : decode cX14_begin 15 = .ok (.if_icmp .ge 16, 3) := by decide +kernel
theorem dX14_begin_18 : decode cX14_begin 18 = .ok (.aload_n 0, 1) := by decide +kernel
theorem dX14_begin_19 : decode cX14_begin 19 = .ok (.getfield 9, 3) := by decide +kernel
theorem dX14_begin_22 : decode cX14_begin 22 = .ok (.iload_n 1, 1) := by decide +kernel
theorem dX14_begin_23 : decode cX14_begin 23 = .ok (.iconst 0, 1) := by decide +kernel
theorem dX14_begin_24 : decode cX14_begin 24 = .ok (.iastore, 1) := by decide +kernel
theorem dX14_begin_25 : decode cX14_begin 25 = .ok (.iinc 1 1, 3) := by decide +kernel
theorem dX14_begin_28 : decode cX14_begin 28 = .ok (.goto (-16), 3) := by decide +kernel
theorem dX14_begin_31 : decode cX14_begin 31 = .ok (.iconst 0, 1) := by decide +kernel
theorem dX14_begin_32 : decode cX14_begin 32 = .ok (.istore_n 1, 1) := by decide +kernel
theorem dX14_begin_33 : decode cX14_begin 33 = .ok (.iload_n 1, 1) := by decide +kernel
theorem dX14_begin_34 : decode cX14_begin 34 = .ok (.iconst 4, 1) := by decide +kernel
theorem dX14_begin_35 : decode cX14_begin 35 = .ok (.if_icmp .ge 16, 3) := by decide +kernel
theorem dX14_begin_38 : decode cX14_begin 38 = .ok (.aload_n 0, 1) := by decide +kernel
theorem dX14_begin_39 : decode cX14_begin 39 = .ok (.getfield 15, 3) := by decide +kernel
theorem dX14_begin_42 : decode cX14_begin 42 = .ok (.iload_n 1, 1) := by decide +kernel
theorem dX14_begin_43 : decode cX14_begin 43 = .ok (.iconst 0, 1) := by decide +kernel
theorem dX14_begin_44 : decode cX14_begin 44 = .ok (.bastore, 1) := by decide +kernel
theorem dX14_begin_45 : decode cX14_begin 45 = .ok (.iinc 1 1, 3) := by decide +kernel
theorem dX14_begin_48 : decode cX14_begin 48 = .ok (.goto (-15), 3) := by decide +kernel
theorem dX14_begin_51 : decode cX14_begin 51 = .ok (.aload_n 0, 1) := by decide +kernel
theorem dX14_begin_52 : decode cX14_begin 52 = .ok (.iconst 0, 1) := by decide +kernel
theorem dX14_begin_53 : decode cX14_begin 53 = .ok (.putfield 23, 3) := by decide +kernel
theorem dX14_begin_56 : decode cX14_begin 56 = .ok (.aload_n 0, 1) := by decide +kernel
theorem dX14_begin_57 : decode cX14_begin 57 = .ok (.iconst 0, 1) := by decide +kernel
theorem dX14_begin_58 : decode cX14_begin 58 = .ok (.putfield 26, 3) := by decide +kernel
theorem dX14_begin_61 : decode cX14_begin 61 = .ok (.aload_n 0, 1) := by decide +kernel
theorem dX14_begin_62 : decode cX14_begin 62 = .ok (.iconst 0, 1) := by decide +kernel
theorem dX14_begin_63 : decode cX14_begin 63 = .ok (.putfield 30, 3) := by decide +kernel
theorem dX14_begin_66 : decode cX14_begin 66 = .ok (.return_, 1) := by decide +kernel
def fX14_begin (n : Nat) (a0 : Nat) (A : AH) : Option (AH) :=
(gI A (some a0) 14 5).bind fun v1 =>
(pI A (some a0) 14 5 (v1 + (1 : Int32))).bind fun A2 =>
jl (fixG (fun _ _ => none) (fun (rc6 : (Int32) → (AH) → Option (AH)) (x4 : Int32) (A5 : AH) =>
if (16 : Int32) ≤ x4 then (jl (fixG (fun _ _ => none) (fun (rc11 : (Int32) → (AH) → Option (AH)) (x9 : Int32) (A10 : AH) =>
if (4 : Int32) ≤ x9 then ((pI A10 (some a0) 14 2 (0 : Int32)).bind fun A13 =>
(pI A13 (some a0) 14 3 (0 : Int32)).bind fun A14 =>
(pI A14 (some a0) 14 4 (0 : Int32)).bind fun A15 =>
some A15) else
(gR A10 (some a0) 14 1).bind fun v16 =>
(sZ A10 v16 x9 (0 : Int32)).bind fun A17 =>
rc11 (x9 + (1 : Int32)) A17) n) fun j8 =>
j8 (0 : Int32) A5) else
(gR A5 (some a0) 14 0).bind fun v18 =>
(sI A5 v18 x4 (0 : Int32)).bind fun A19 =>
rc6 (x4 + (1 : Int32)) A19) n) fun j3 =>
j3 (0 : Int32) A2

set_option maxHeartbeats 4000000 in
set_option maxRecDepth 100000 in
theorem sX14_begin (l : Launch) (D : DE) (n : Nat) (a0 : Nat) (A : AH) (g : AH) (hg : fX14_begin n a0 A = some g) : Sm l D yX14_begin cX14_begin 2 none 0 0 [tR (some a0)] A (wU g).1 (wU g).2 := by
  refine Sm.of (ω := wU) (fX14_begin n a0 A) [some (tR (some a0)), none] (by decide) (Nat.le_of_ble_eq_true rfl) rfl hg ?_
  intro p e R s m args below meth c X hin
  have X : Cx D cX14_begin RX14 2 0 0 none p R s m args meth c := X
  unfold fX14_begin
  refine rf_aload_n X rfl dX14_begin_0 ?_
  refine rf_dup X rfl dX14_begin_1 ?_
  refine rf_bind (fun v1 hv1 => ?_)
  refine rf_getI X fl_X14_19 hv1 dX14_begin_2 ?_
  refine rf_iconst X (1 : Int32) rfl dX14_begin_5 ?_
  refine rf_iadd X dX14_begin_6 ?_
  refine rf_bind (fun A2 hA2 => ?_)
  refine rf_putI X fp_X14_19 (fun h => by cases h) hA2 dX14_begin_7 ?_
  refine rf_iconst X (0 : Int32) rfl dX14_begin_10 ?_
  refine rf_istore_n X (ls' := [some (tR (some a0)), some (tI (0 : Int32))]) rfl (by decide) dX14_begin_11 ?_
  refine rf_fix (fun i => ∀ (x4 : Int32) (A5 : AH), RfX X l e below wU (i x4 A5) 12 [some (tR (some a0)), some (tI x4)] [] A5) (fun _ _ => rf_none) (fun rc6 hrc6 => ?_) (fun j3 hj3 => ?_)
  · intro x4 A5
    refine rf_iload_n X rfl dX14_begin_12 ?_
    refine rf_bipush X (16 : Int32) rfl dX14_begin_13 ?_
    refine rf_icmp_ge X (tgt := 31) rfl dX14_begin_15 (fun c7 => rf_pos c7 ?_) (fun c7 => rf_neg c7 ?_)
    · refine rf_iconst X (0 : Int32) rfl dX14_begin_31 ?_
      refine rf_istore_n X (ls' := [some (tR (some a0)), some (tI (0 : Int32))]) rfl (by decide) dX14_begin_32 ?_
      refine rf_fix (fun i => ∀ (x9 : Int32) (A10 : AH), RfX X l e below wU (i x9 A10) 33 [some (tR (some a0)), some (tI x9)] [] A10) (fun _ _ => rf_none) (fun rc11 hrc11 => ?_) (fun j8 hj8 => ?_)
      · intro x9 A10
        refine rf_iload_n X rfl dX14_begin_33 ?_
        refine rf_iconst X (4 : Int32) rfl dX14_begin_34 ?_
        refine rf_icmp_ge X (tgt := 51) rfl dX14_begin_35 (fun c12 => rf_pos c12 ?_) (fun c12 => rf_neg c12 ?_)
        · refine rf_aload_n X rfl dX14_begin_51 ?_
          refine rf_iconst X (0 : Int32) rfl dX14_begin_52 ?_
          refine rf_bind (fun A13 hA13 => ?_)
          refine rf_putI X fp_X14_23 (fun h => by cases h) hA13 dX14_begin_53 ?_
          refine rf_aload_n X rfl dX14_begin_56 ?_
          refine rf_iconst X (0 : Int32) rfl dX14_begin_57 ?_
          refine rf_bind (fun A14 hA14 => ?_)
          refine rf_putZ X fp_X14_26 (fun h => by cases h) (by decide) hA14 dX14_begin_58 ?_
          refine rf_aload_n X rfl dX14_begin_61 ?_
          refine rf_iconst X (0 : Int32) rfl dX14_begin_62 ?_
          refine rf_bind (fun A15 hA15 => ?_)
          refine rf_putZ X fp_X14_30 (fun h => by cases h) (by decide) hA15 dX14_begin_63 ?_
          exact rf_vret X rfl dX14_begin_66
        refine rf_aload_n X rfl dX14_begin_38 ?_
        refine rf_bind (fun v16 hv16 => ?_)
        refine rf_getR X fl_X14_15 hv16 dX14_begin_39 ?_
        refine rf_iload_n X rfl dX14_begin_42 ?_
        refine rf_iconst X (0 : Int32) rfl dX14_begin_43 ?_
        refine rf_bind (fun A17 hA17 => ?_)
        refine rf_zast X hA17 dX14_begin_44 ?_
        refine rf_iinc X (x9 + (1 : Int32)) rfl rfl (ls' := [some (tR (some a0)), some (tI (x9 + (1 : Int32)))]) rfl (by decide) dX14_begin_45 ?_
        refine rf_goto X (tgt := 33) rfl dX14_begin_48 ?_
        exact rf_go (hrc11 (x9 + (1 : Int32)) A17) (And.intro rfl (And.intro rfl True.intro))
      exact rf_go (hj8 (0 : Int32) A5) (And.intro rfl (And.intro rfl True.intro))
    refine rf_aload_n X rfl dX14_begin_18 ?_
    refine rf_bind (fun v18 hv18 => ?_)
    refine rf_getR X fl_X14_9 hv18 dX14_begin_19 ?_
    refine rf_iload_n X rfl dX14_begin_22 ?_
    refine rf_iconst X (0 : Int32) rfl dX14_begin_23 ?_
    refine rf_bind (fun A19 hA19 => ?_)
    refine rf_iast X hA19 dX14_begin_24 ?_
    refine rf_iinc X (x4 + (1 : Int32)) rfl rfl (ls' := [some (tR (some a0)), some (tI (x4 + (1 : Int32)))]) rfl (by decide) dX14_begin_25 ?_
    refine rf_goto X (tgt := 12) rfl dX14_begin_28 ?_
    exact rf_go (hrc6 (x4 + (1 : Int32)) A19) (And.intro rfl (And.intro rfl True.intro))
  exact rf_go (hj3 (0 : Int32) A2) (And.intro rfl (And.intro rfl True.intro))

theorem dX2_lane_0 : decode cX2_lane 0 = .ok (.aload_n 0, 1) := by decide +kernel
theorem dX2_lane_1 : decode cX2_lane 1 = .ok (.getfield 19, 3) := by decide +kernel
theorem dX2_lane_4 : decode cX2_lane 4 = .ok (.invokevirtual 22, 3) := by decide +kernel
theorem dX2_lane_7 : decode cX2_lane 7 = .ok (.ifCond .eq 13, 3) := by decide +kernel
theorem dX2_lane_10 : decode cX2_lane 10 = .ok (.new 26, 3) := by decide +kernel
theorem dX2_lane_13 : decode cX2_lane 13 = .ok (.dup, 1) := by decide +kernel
theorem dX2_lane_14 : decode cX2_lane 14 = .ok (.invokespecial 28, 3) := by decide +kernel
theorem dX2_lane_17 : decode cX2_lane 17 = .ok (.goto 22, 3) := by decide +kernel
theorem dX2_lane_20 : decode cX2_lane 20 = .ok (.aload_n 0, 1) := by decide +kernel
theorem dX2_lane_21 : decode cX2_lane 21 = .ok (.getfield 19, 3) := by decide +kernel
theorem dX2_lane_24 : decode cX2_lane 24 = .ok (.aload_n 0, 1) := by decide +kernel
theorem dX2_lane_25 : decode cX2_lane 25 = .ok (.getfield 19, 3) := by decide +kernel
theorem dX2_lane_28 : decode cX2_lane 28 = .ok (.invokevirtual 29, 3) := by decide +kernel
theorem dX2_lane_31 : decode cX2_lane 31 = .ok (.iconst 1, 1) := by decide +kernel
theorem dX2_lane_32 : decode cX2_lane 32 = .ok (.isub, 1) := by decide +kernel
theorem dX2_lane_33 : decode cX2_lane 33 = .ok (.invokevirtual 33, 3) := by decide +kernel
theorem dX2_lane_36 : decode cX2_lane 36 = .ok (.checkcast 26, 3) := by decide +kernel
theorem dX2_lane_39 : decode cX2_lane 39 = .ok (.astore_n 1, 1) := by decide +kernel
theorem dX2_lane_40 : decode cX2_lane 40 = .ok (.aload_n 1, 1) := by decide +kernel
theorem dX2_lane_41 : decode cX2_lane 41 = .ok (.invokevirtual 37, 3) := by decide +kernel
theorem dX2_lane_44 : decode cX2_lane 44 = .ok (.aload_n 1, 1) := by decide +kernel
theorem dX2_lane_45 : decode cX2_lane 45 = .ok (.areturn, 1) := by decide +kernel
def fX2_lane (n : Nat) (a0 : Nat) (A : AH) : Option (Option Nat × AH) :=
(gR A (some a0) 2 2).bind fun v1 =>
(rcv A v1 0).bind fun v2 =>
(fJ2_isEmpty v2 A).bind fun g3 =>
jn (fun (y5 : Option Nat) (A6 : AH) =>
(rcv A6 y5 14).bind fun v7 =>
(fX14_begin n v7 A6).bind fun g8 =>
some (y5, g8)) fun j4 =>
if g3 = 0 then ((fJ2_size v2 A).bind fun g10 =>
(fJ2_remove v2 (g10 - (1 : Int32)) A).bind fun g11 =>
(cst g11.2 g11.1 14).bind fun v12 =>
j4 g11.1 g11.2) else
(nO A 14 dfX14).bind fun A13 =>
(fX14_init (hN A) A13).bind fun g14 =>
j4 (some (hN A)) g14

set_option maxHeartbeats 4000000 in
set_option maxRecDepth 100000 in
theorem sX2_lane (l : Launch) (D : DE) (n : Nat) (a0 : Nat) (A : AH) (g : Option Nat × AH) (hg : fX2_lane n a0 A = some g) : Sm l D yX2_lane cX2_lane 2 (some (Jvm.ClassFile.FieldType.object "WarpMill$Lane")) 3 106 [tR (some a0)] A (wO g).1 (wO g).2 := by
  refine Sm.of (ω := wO) (fX2_lane n a0 A) [some (tR (some a0)), none] (by decide) (Nat.le_of_ble_eq_true rfl) rfl hg ?_
  intro p e R s m args below meth c X hin
  have X : Cx D cX2_lane RX2 2 3 106 (some (Jvm.ClassFile.FieldType.object "WarpMill$Lane")) p R s m args meth c := X
  unfold fX2_lane
  refine rf_aload_n X rfl dX2_lane_0 ?_
  refine rf_bind (fun v1 hv1 => ?_)
  refine rf_getR X fl_X2_19 hv1 dX2_lane_1 ?_
  refine rf_bind (fun v2 hv2 => ?_)
  refine rf_bind (fun g3 hg3 => ?_)
  refine rf_callVI X c_X2_22 ⟨Nat.le_of_ble_eq_true rfl, Nat.le_of_ble_eq_true rfl⟩ [] rfl (Nat.le_of_ble_eq_true rfl) hv2 (sJ2_isEmpty l D v2 A g3 hg3) dX2_lane_4 ?_
  refine rf_jn2 (fun i => ∀ (y5 : Option Nat) (A6 : AH), RfX X l e below wO (i y5 A6) 39 [none, none] [tR y5] A6) ?_ (fun j4 hj4 => ?_)
  · intro y5 A6
    refine rf_astore_n X (ls' := [none, some (tR y5)]) rfl (by decide) dX2_lane_39 ?_
    refine rf_aload_n X rfl dX2_lane_40 ?_
    refine rf_bind (fun v7 hv7 => ?_)
    refine rf_bind (fun g8 hg8 => ?_)
    refine rf_callVU X c_X2_37 ⟨Nat.le_of_ble_eq_true rfl, Nat.le_of_ble_eq_true rfl⟩ [] rfl (Nat.le_of_ble_eq_true rfl) hv7 (sX14_begin l D n v7 A6 g8 hg8) dX2_lane_41 ?_
    refine rf_aload_n X rfl dX2_lane_44 ?_
    exact rf_aret (Or.inl ⟨_, rfl⟩) X rfl dX2_lane_45
  refine rf_if_eq X (tgt := 20) rfl dX2_lane_7 (fun c9 => rf_pos c9 ?_) (fun c9 => rf_neg c9 ?_)
  · refine rf_aload_n X rfl dX2_lane_20 ?_
    refine rf_getR X fl_X2_19 hv1 dX2_lane_21 ?_
    refine rf_aload_n X rfl dX2_lane_24 ?_
    refine rf_getR X fl_X2_19 hv1 dX2_lane_25 ?_
    refine rf_bind (fun g10 hg10 => ?_)
    refine rf_callVI X c_X2_29 ⟨Nat.le_of_ble_eq_true rfl, Nat.le_of_ble_eq_true rfl⟩ [] rfl (Nat.le_of_ble_eq_true rfl) hv2 (sJ2_size l D v2 A g10 hg10) dX2_lane_28 ?_
    refine rf_iconst X (1 : Int32) rfl dX2_lane_31 ?_
    refine rf_isub X dX2_lane_32 ?_
    refine rf_bind (fun g11 hg11 => ?_)
    refine rf_callVI X c_X2_33 ⟨Nat.le_of_ble_eq_true rfl, Nat.le_of_ble_eq_true rfl⟩ [tI (g10 - (1 : Int32))] rfl (Nat.le_of_ble_eq_true rfl) hv2 (sJ2_remove l D v2 (g10 - (1 : Int32)) A g11 hg11) dX2_lane_33 ?_
    refine rf_bind (fun v12 hv12 => ?_)
    refine rf_cast X (ci := 14) rfl rfl q944 hv12 dX2_lane_36 ?_
    exact rf_go (hj4 g11.1 g11.2) True.intro
  refine rf_bind (fun A13 hA13 => ?_)
  refine rf_new X nw_X2_26 hA13 dX2_lane_10 ?_
  refine rf_dup X rfl dX2_lane_13 ?_
  refine rf_bind (fun g14 hg14 => ?_)
  refine rf_callI X c_X2_28 ⟨Nat.le_of_ble_eq_true rfl, Nat.le_of_ble_eq_true rfl⟩ [] rfl (Nat.le_of_ble_eq_true rfl) (sX14_init l D (hN A) A13 g14 hg14) dX2_lane_14 ?_
  refine rf_goto X (tgt := 39) rfl dX2_lane_17 ?_
  exact rf_go (hj4 (some (hN A)) g14) True.intro

theorem dX2_warp_0 : decode cX2_warp 0 = .ok (.aload_n 0, 1) := by decide +kernel
theorem dX2_warp_1 : decode cX2_warp 1 = .ok (.getfield 16, 3) := by decide +kernel
theorem dX2_warp_4 : decode cX2_warp 4 = .ok (.invokevirtual 22, 3) := by decide +kernel
theorem dX2_warp_7 : decode cX2_warp 7 = .ok (.ifCond .eq 13, 3) := by decide +kernel
theorem dX2_warp_10 : decode cX2_warp 10 = .ok (.new 40, 3) := by decide +kernel
theorem dX2_warp_13 : decode cX2_warp 13 = .ok (.dup, 1) := by decide +kernel
theorem dX2_warp_14 : decode cX2_warp 14 = .ok (.invokespecial 42, 3) := by decide +kernel
theorem dX2_warp_17 : decode cX2_warp 17 = .ok (.goto 22, 3) := by decide +kernel
theorem dX2_warp_20 : decode cX2_warp 20 = .ok (.aload_n 0, 1) := by decide +kernel
theorem dX2_warp_21 : decode cX2_warp 21 = .ok (.getfield 16, 3) := by decide +kernel
theorem dX2_warp_24 : decode cX2_warp 24 = .ok (.aload_n 0, 1) := by decide +kernel
theorem dX2_warp_25 : decode cX2_warp 25 = .ok (.getfield 16, 3) := by decide +kernel
theorem dX2_warp_28 : decode cX2_warp 28 = .ok (.invokevirtual 29, 3) := by decide +kernel
theorem dX2_warp_31 : decode cX2_warp 31 = .ok (.iconst 1, 1) := by decide +kernel
theorem dX2_warp_32 : decode cX2_warp 32 = .ok (.isub, 1) := by decide +kernel
theorem dX2_warp_33 : decode cX2_warp 33 = .ok (.invokevirtual 33, 3) := by decide +kernel
theorem dX2_warp_36 : decode cX2_warp 36 = .ok (.checkcast 40, 3) := by decide +kernel
theorem dX2_warp_39 : decode cX2_warp 39 = .ok (.astore 4, 2) := by decide +kernel
theorem dX2_warp_41 : decode cX2_warp 41 = .ok (.aload 4, 2) := by decide +kernel
theorem dX2_warp_43 : decode cX2_warp 43 = .ok (.aload_n 1, 1) := by decide +kernel
theorem dX2_warp_44 : decode cX2_warp 44 = .ok (.iload_n 2, 1) := by decide +kernel
theorem dX2_warp_45 : decode cX2_warp 45 = .ok (.invokevirtual 43, 3) := by decide +kernel
theorem dX2_warp_48 : decode cX2_warp 48 = .ok (.iconst 0, 1) := by decide +kernel
theorem dX2_warp_49 : decode cX2_warp 49 = .ok (.istore 5, 2) := by decide +kernel
theorem dX2_warp_51 : decode cX2_warp 51 = .ok (.iload 5, 2) := by decide +kernel
theorem dX2_warp_53 : decode cX2_warp 53 = .ok (.iload_n 3, 1) := by decide +kernel
theorem dX2_warp_54 : decode cX2_warp 54 = .ok (.if_icmp .ge 22, 3) := by decide +kernel
theorem dX2_warp_57 : decode cX2_warp 57 = .ok (.aload 4, 2) := by decide +kernel
theorem dX2_warp_59 : decode cX2_warp 59 = .ok (.getfield 46, 3) := by decide +kernel
theorem dX2_warp_62 : decode cX2_warp 62 = .ok (.aload_n 0, 1) := by decide +kernel
theorem dX2_warp_63 : decode cX2_warp 63 = .ok (.invokevirtual 47, 3) := by decide +kernel
theorem dX2_warp_66 : decode cX2_warp 66 = .ok (.invokevirtual 51, 3) := by decide +kernel
theorem dX2_warp_69 : decode cX2_warp 69 = .ok (.pop, 1) := by decide +kernel
theorem dX2_warp_70 : decode cX2_warp 70 = .ok (.iinc 5 1, 3) := by decide +kernel
theorem dX2_warp_73 : decode cX2_warp 73 = .ok (.goto (-22), 3) := by decide +kernel
theorem dX2_warp_76 : decode cX2_warp 76 = .ok (.aload 4, 2) := by decide +kernel
theorem dX2_warp_78 : decode cX2_warp 78 = .ok (.areturn, 1) := by decide +kernel
def fX2_warp (n : Nat) (a0 : Nat) (p1 : Option Nat) (p2 : Int32) (p3 : Int32) (A : AH) : Option (Option Nat × AH) :=
(gR A (some a0) 2 1).bind fun v1 =>
(rcv A v1 0).bind fun v2 =>
(fJ2_isEmpty v2 A).bind fun g3 =>
jn (fun (y5 : Option Nat) (A6 : AH) =>
(rcv A6 y5 13).bind fun v7 =>
(fX13_begin n v7 p1 p2 A6).bind fun g8 =>
jl (fixG (fun _ _ => none) (fun (rc12 : (Int32) → (AH) → Option (Option Nat × AH)) (x10 : Int32) (A11 : AH) =>
if p3 ≤ x10 then (some (y5, A11)) else
(gR A11 y5 13 2).bind fun v14 =>
(rcv A11 (some a0) 2).bind fun v15 =>
(fX2_lane n v15 A11).bind fun g16 =>
(rcv g16.2 v14 0).bind fun v17 =>
(fJ2_add v17 g16.1 g16.2).bind fun g18 =>
rc12 (x10 + (1 : Int32)) g18.2) n) fun j9 =>
j9 (0 : Int32) g8) fun j4 =>
if g3 = 0 then ((fJ2_size v2 A).bind fun g20 =>
(fJ2_remove v2 (g20 - (1 : Int32)) A).bind fun g21 =>
(cst g21.2 g21.1 13).bind fun v22 =>
j4 g21.1 g21.2) else
(nO A 13 dfX13).bind fun A23 =>
(fX13_init (hN A) A23).bind fun g24 =>
j4 (some (hN A)) g24

set_option maxHeartbeats 4000000 in
set_option maxRecDepth 100000 in
theorem sX2_warp (l : Launch) (D : DE) (n : Nat) (a0 : Nat) (p1 : Option Nat) (p2 : Int32) (p3 : Int32) (A : AH) (g : Option Nat × AH) (hg : fX2_warp n a0 p1 p2 p3 A = some g) : Sm l D yX2_warp cX2_warp 6 (some (Jvm.ClassFile.FieldType.object "WarpMill$Warp")) 7 191 [tR (some a0), tR p1, tI p2, tI p3] A (wO g).1 (wO g).2 := by
  refine Sm.of (ω := wO) (fX2_warp n a0 p1 p2 p3 A) [some (tR (some a0)), some (tR p1), some (tI p2), some (tI p3), none, none] (by decide) (Nat.le_of_ble_eq_true rfl) rfl hg ?_
  intro p e R s m args below meth c X hin
  have X : Cx D cX2_warp RX2 6 7 191 (some (Jvm.ClassFile.FieldType.object "WarpMill$Warp")) p R s m args meth c := X
  unfold fX2_warp
  refine rf_aload_n X rfl dX2_warp_0 ?_
  refine rf_bind (fun v1 hv1 => ?_)
  refine rf_getR X fl_X2_16 hv1 dX2_warp_1 ?_
  refine rf_bind (fun v2 hv2 => ?_)
  refine rf_bind (fun g3 hg3 => ?_)
  refine rf_callVI X c_X2_22 ⟨Nat.le_of_ble_eq_true rfl, Nat.le_of_ble_eq_true rfl⟩ [] rfl (Nat.le_of_ble_eq_true rfl) hv2 (sJ2_isEmpty l D v2 A g3 hg3) dX2_warp_4 ?_
  refine rf_jn2 (fun i => ∀ (y5 : Option Nat) (A6 : AH), RfX X l e below wO (i y5 A6) 39 [some (tR (some a0)), some (tR p1), some (tI p2), some (tI p3), none, none] [tR y5] A6) ?_ (fun j4 hj4 => ?_)
  · intro y5 A6
    refine rf_astore X (ls' := [some (tR (some a0)), some (tR p1), some (tI p2), some (tI p3), some (tR y5), none]) rfl (by decide) dX2_warp_39 ?_
    refine rf_aload X rfl dX2_warp_41 ?_
    refine rf_aload_n X rfl dX2_warp_43 ?_
    refine rf_iload_n X rfl dX2_warp_44 ?_
    refine rf_bind (fun v7 hv7 => ?_)
    refine rf_bind (fun g8 hg8 => ?_)
    refine rf_callVU X c_X2_43 ⟨Nat.le_of_ble_eq_true rfl, Nat.le_of_ble_eq_true rfl⟩ [tR p1, tI p2] rfl (Nat.le_of_ble_eq_true rfl) hv7 (sX13_begin l D n v7 p1 p2 A6 g8 hg8) dX2_warp_45 ?_
    refine rf_iconst X (0 : Int32) rfl dX2_warp_48 ?_
    refine rf_istore X (ls' := [some (tR (some a0)), some (tR p1), some (tI p2), some (tI p3), some (tR y5), some (tI (0 : Int32))]) rfl (by decide) dX2_warp_49 ?_
    refine rf_fix (fun i => ∀ (x10 : Int32) (A11 : AH), RfX X l e below wO (i x10 A11) 51 [some (tR (some a0)), none, none, some (tI p3), some (tR y5), some (tI x10)] [] A11) (fun _ _ => rf_none) (fun rc12 hrc12 => ?_) (fun j9 hj9 => ?_)
    · intro x10 A11
      refine rf_iload X rfl dX2_warp_51 ?_
      refine rf_iload_n X rfl dX2_warp_53 ?_
      refine rf_icmp_ge X (tgt := 76) rfl dX2_warp_54 (fun c13 => rf_pos c13 ?_) (fun c13 => rf_neg c13 ?_)
      · refine rf_aload X rfl dX2_warp_76 ?_
        exact rf_aret (Or.inl ⟨_, rfl⟩) X rfl dX2_warp_78
      refine rf_aload X rfl dX2_warp_57 ?_
      refine rf_bind (fun v14 hv14 => ?_)
      refine rf_getR X fl_X2_46 hv14 dX2_warp_59 ?_
      refine rf_aload_n X rfl dX2_warp_62 ?_
      refine rf_bind (fun v15 hv15 => ?_)
      refine rf_bind (fun g16 hg16 => ?_)
      refine rf_callVI X c_X2_47 ⟨Nat.le_of_ble_eq_true rfl, Nat.le_of_ble_eq_true rfl⟩ [] rfl (Nat.le_of_ble_eq_true rfl) hv15 (sX2_lane l D n v15 A11 g16 hg16) dX2_warp_63 ?_
      refine rf_bind (fun v17 hv17 => ?_)
      refine rf_bind (fun g18 hg18 => ?_)
      refine rf_callVI X c_X2_51 ⟨Nat.le_of_ble_eq_true rfl, Nat.le_of_ble_eq_true rfl⟩ [tR g16.1] rfl (Nat.le_of_ble_eq_true rfl) hv17 (sJ2_add l D v17 g16.1 g16.2 g18 hg18) dX2_warp_66 ?_
      refine rf_pop X rfl dX2_warp_69 ?_
      refine rf_iinc X (x10 + (1 : Int32)) rfl rfl (ls' := [some (tR (some a0)), none, none, some (tI p3), some (tR y5), some (tI (x10 + (1 : Int32)))]) rfl (by decide) dX2_warp_70 ?_
      refine rf_goto X (tgt := 51) rfl dX2_warp_73 ?_
      exact rf_go (hrc12 (x10 + (1 : Int32)) g18.2) (And.intro rfl (And.intro rfl (And.intro rfl (And.intro rfl True.intro))))
    exact rf_go (hj9 (0 : Int32) g8) (And.intro rfl (And.intro rfl (And.intro rfl (And.intro rfl True.intro))))
  refine rf_if_eq X (tgt := 20) rfl dX2_warp_7 (fun c19 => rf_pos c19 ?_) (fun c19 => rf_neg c19 ?_)
  · refine rf_aload_n X rfl dX2_warp_20 ?_
    refine rf_getR X fl_X2_16 hv1 dX2_warp_21 ?_
    refine rf_aload_n X rfl dX2_warp_24 ?_
    refine rf_getR X fl_X2_16 hv1 dX2_warp_25 ?_
    refine rf_bind (fun g20 hg20 => ?_)
    refine rf_callVI X c_X2_29 ⟨Nat.le_of_ble_eq_true rfl, Nat.le_of_ble_eq_true rfl⟩ [] rfl (Nat.le_of_ble_eq_true rfl) hv2 (sJ2_size l D v2 A g20 hg20) dX2_warp_28 ?_
    refine rf_iconst X (1 : Int32) rfl dX2_warp_31 ?_
    refine rf_isub X dX2_warp_32 ?_
    refine rf_bind (fun g21 hg21 => ?_)
    refine rf_callVI X c_X2_33 ⟨Nat.le_of_ble_eq_true rfl, Nat.le_of_ble_eq_true rfl⟩ [tI (g20 - (1 : Int32))] rfl (Nat.le_of_ble_eq_true rfl) hv2 (sJ2_remove l D v2 (g20 - (1 : Int32)) A g21 hg21) dX2_warp_33 ?_
    refine rf_bind (fun v22 hv22 => ?_)
    refine rf_cast X (ci := 13) rfl rfl q943 hv22 dX2_warp_36 ?_
    exact rf_go (hj4 g21.1 g21.2) (And.intro rfl (And.intro rfl (And.intro rfl (And.intro rfl True.intro))))
  refine rf_bind (fun A23 hA23 => ?_)
  refine rf_new X nw_X2_40 hA23 dX2_warp_10 ?_
  refine rf_dup X rfl dX2_warp_13 ?_
  refine rf_bind (fun g24 hg24 => ?_)
  refine rf_callI X c_X2_42 ⟨Nat.le_of_ble_eq_true rfl, Nat.le_of_ble_eq_true rfl⟩ [] rfl (Nat.le_of_ble_eq_true rfl) (sX13_init l D (hN A) A23 g24 hg24) dX2_warp_14 ?_
  refine rf_goto X (tgt := 39) rfl dX2_warp_17 ?_
  exact rf_go (hj4 (some (hN A)) g24) (And.intro rfl (And.intro rfl (And.intro rfl (And.intro rfl True.intro))))

theorem dX2_block_0 : decode cX2_block 0 = .ok (.aload_n 0, 1) := by decide +kernel
theorem dX2_block_1 : decode cX2_block 1 = .ok (.getfield 10, 3) := by decide +kernel
theorem dX2_block_4 : decode cX2_block 4 = .ok (.invokevirtual 22, 3) := by decide +kernel
theorem dX2_block_7 : decode cX2_block 7 = .ok (.ifCond .eq 13, 3) := by decide +kernel
theorem dX2_block_10 : decode cX2_block 10 = .ok (.new 55, 3) := by decide +kernel
theorem dX2_block_13 : decode cX2_block 13 = .ok (.dup, 1) := by decide +kernel
theorem dX2_block_14 : decode cX2_block 14 = .ok (.invokespecial 57, 3) := by decide +kernel
theorem dX2_block_17 : decode cX2_block 17 = .ok (.goto 22, 3) := by decide +kernel
theorem dX2_block_20 : decode cX2_block 20 = .ok (.aload_n 0, 1) := by decide +kernel
theorem dX2_block_21 : decode cX2_block 21 = .ok (.getfield 10, 3) := by decide +kernel
theorem dX2_block_24 : decode cX2_block 24 = .ok (.aload_n 0, 1) := by decide +kernel
theorem dX2_block_25 : decode cX2_block 25 = .ok (.getfield 10, 3) := by decide +kernel
theorem dX2_block_28 : decode cX2_block 28 = .ok (.invokevirtual 29, 3) := by decide +kernel
theorem dX2_block_31 : decode cX2_block 31 = .ok (.iconst 1, 1) := by decide +kernel
theorem dX2_block_32 : decode cX2_block 32 = .ok (.isub, 1) := by decide +kernel
theorem dX2_block_33 : decode cX2_block 33 = .ok (.invokevirtual 33, 3) := by decide +kernel
theorem dX2_block_36 : decode cX2_block 36 = .ok (.checkcast 55, 3) := by decide +kernel
theorem dX2_block_39 : decode cX2_block 39 = .ok (.astore 4, 2) := by decide +kernel
theorem dX2_block_41 : decode cX2_block 41 = .ok (.aload 4, 2) := by decide +kernel
theorem dX2_block_43 : decode cX2_block 43 = .ok (.iload_n 1, 1) := by decide +kernel
theorem dX2_block_44 : decode cX2_block 44 = .ok (.invokevirtual 58, 3) := by decide +kernel
theorem dX2_block_47 : decode cX2_block 47 = .ok (.iconst 0, 1) := by decide +kernel
theorem dX2_block_48 : decode cX2_block 48 = .ok (.istore 5, 2) := by decide +kernel
theorem dX2_block_50 : decode cX2_block 50 = .ok (.iload_n 3, 1) := by decide +kernel
theorem dX2_block_51 : decode cX2_block 51 = .ok (.iload 5, 2) := by decide +kernel
theorem dX2_block_53 : decode cX2_block 53 = .ok (.imul, 1) := by decide +kernel
theorem dX2_block_54 : decode cX2_block 54 = .ok (.iload_n 2, 1) := by decide +kernel
theorem dX2_block_55 : decode cX2_block 55 = .ok (.if_icmp .ge 36, 3) := by decide +kernel
theorem dX2_block_58 : decode cX2_block 58 = .ok (.aload 4, 2) := by decide +kernel
theorem dX2_block_60 : decode cX2_block 60 = .ok (.getfield 61, 3) := by decide +kernel
theorem dX2_block_63 : decode cX2_block 63 = .ok (.aload_n 0, 1) := by decide +kernel
theorem dX2_block_64 : decode cX2_block 64 = .ok (.aload 4, 2) := by decide +kernel
theorem dX2_block_66 : decode cX2_block 66 = .ok (.iload 5, 2) := by decide +kernel
theorem dX2_block_68 : decode cX2_block 68 = .ok (.iload_n 3, 1) := by decide +kernel
theorem dX2_block_69 : decode cX2_block 69 = .ok (.iload_n 2, 1) := by decide +kernel
theorem dX2_block_70 : decode cX2_block 70 = .ok (.iload_n 3, 1) := by decide +kernel
theorem dX2_block_71 : decode cX2_block 71 = .ok (.iload 5, 2) := by decide +kernel
theorem dX2_block_73 : decode cX2_block 73 = .ok (.imul, 1) := by decide +kernel
theorem dX2_block_74 : decode cX2_block 74 = .ok (.isub, 1) := by decide +kernel
theorem dX2_block_75 : decode cX2_block 75 = .ok (.invokestatic 62, 3) := by decide +kernel
theorem dX2_block_78 : decode cX2_block 78 = .ok (.invokevirtual 68, 3) := by decide +kernel
theorem dX2_block_81 : decode cX2_block 81 = .ok (.invokevirtual 51, 3) := by decide +kernel
theorem dX2_block_84 : decode cX2_block 84 = .ok (.pop, 1) := by decide +kernel
theorem dX2_block_85 : decode cX2_block 85 = .ok (.iinc 5 1, 3) := by decide +kernel
theorem dX2_block_88 : decode cX2_block 88 = .ok (.goto (-38), 3) := by decide +kernel
theorem dX2_block_91 : decode cX2_block 91 = .ok (.aload 4, 2) := by decide +kernel
theorem dX2_block_93 : decode cX2_block 93 = .ok (.areturn, 1) := by decide +kernel
def fX2_block (n : Nat) (a0 : Nat) (p1 : Int32) (p2 : Int32) (p3 : Int32) (A : AH) : Option (Option Nat × AH) :=
(gR A (some a0) 2 0).bind fun v1 =>
(rcv A v1 0).bind fun v2 =>
(fJ2_isEmpty v2 A).bind fun g3 =>
jn (fun (y5 : Option Nat) (A6 : AH) =>
(rcv A6 y5 12).bind fun v7 =>
(fX12_begin n v7 p1 A6).bind fun g8 =>
jl (fixG (fun _ _ => none) (fun (rc12 : (Int32) → (AH) → Option (Option Nat × AH)) (x10 : Int32) (A11 : AH) =>
if p2 ≤ (p3 * x10) then (some (y5, A11)) else
(gR A11 y5 12 2).bind fun v14 =>
(rcv A11 (some a0) 2).bind fun v15 =>
(fX2_warp n v15 y5 x10 (if (p2 - (p3 * x10)) < p3 then (p2 - (p3 * x10)) else p3) A11).bind fun g16 =>
(rcv g16.2 v14 0).bind fun v17 =>
(fJ2_add v17 g16.1 g16.2).bind fun g18 =>
rc12 (x10 + (1 : Int32)) g18.2) n) fun j9 =>
j9 (0 : Int32) g8) fun j4 =>
if g3 = 0 then ((fJ2_size v2 A).bind fun g20 =>
(fJ2_remove v2 (g20 - (1 : Int32)) A).bind fun g21 =>
(cst g21.2 g21.1 12).bind fun v22 =>
j4 g21.1 g21.2) else
(nO A 12 dfX12).bind fun A23 =>
(fX12_init (hN A) A23).bind fun g24 =>
j4 (some (hN A)) g24

set_option maxHeartbeats 4000000 in
set_option maxRecDepth 100000 in
theorem sX2_block (l : Launch) (D : DE) (n : Nat) (a0 : Nat) (p1 : Int32) (p2 : Int32) (p3 : Int32) (A : AH) (g : Option Nat × AH) (hg : fX2_block n a0 p1 p2 p3 A = some g) : Sm l D yX2_block cX2_block 6 (some (Jvm.ClassFile.FieldType.object "WarpMill$Block")) 8 216 [tR (some a0), tI p1, tI p2, tI p3] A (wO g).1 (wO g).2 := by
  refine Sm.of (ω := wO) (fX2_block n a0 p1 p2 p3 A) [some (tR (some a0)), some (tI p1), some (tI p2), some (tI p3), none, none] (by decide) (Nat.le_of_ble_eq_true rfl) rfl hg ?_
  intro p e R s m args below meth c X hin
  have X : Cx D cX2_block RX2 6 8 216 (some (Jvm.ClassFile.FieldType.object "WarpMill$Block")) p R s m args meth c := X
  unfold fX2_block
  refine rf_aload_n X rfl dX2_block_0 ?_
  refine rf_bind (fun v1 hv1 => ?_)
  refine rf_getR X fl_X2_10 hv1 dX2_block_1 ?_
  refine rf_bind (fun v2 hv2 => ?_)
  refine rf_bind (fun g3 hg3 => ?_)
  refine rf_callVI X c_X2_22 ⟨Nat.le_of_ble_eq_true rfl, Nat.le_of_ble_eq_true rfl⟩ [] rfl (Nat.le_of_ble_eq_true rfl) hv2 (sJ2_isEmpty l D v2 A g3 hg3) dX2_block_4 ?_
  refine rf_jn2 (fun i => ∀ (y5 : Option Nat) (A6 : AH), RfX X l e below wO (i y5 A6) 39 [some (tR (some a0)), some (tI p1), some (tI p2), some (tI p3), none, none] [tR y5] A6) ?_ (fun j4 hj4 => ?_)
  · intro y5 A6
    refine rf_astore X (ls' := [some (tR (some a0)), some (tI p1), some (tI p2), some (tI p3), some (tR y5), none]) rfl (by decide) dX2_block_39 ?_
    refine rf_aload X rfl dX2_block_41 ?_
    refine rf_iload_n X rfl dX2_block_43 ?_
    refine rf_bind (fun v7 hv7 => ?_)
    refine rf_bind (fun g8 hg8 => ?_)
    refine rf_callVU X c_X2_58 ⟨Nat.le_of_ble_eq_true rfl, Nat.le_of_ble_eq_true rfl⟩ [tI p1] rfl (Nat.le_of_ble_eq_true rfl) hv7 (sX12_begin l D n v7 p1 A6 g8 hg8) dX2_block_44 ?_
    refine rf_iconst X (0 : Int32) rfl dX2_block_47 ?_
    refine rf_istore X (ls' := [some (tR (some a0)), some (tI p1), some (tI p2), some (tI p3), some (tR y5), some (tI (0 : Int32))]) rfl (by decide) dX2_block_48 ?_
    refine rf_fix (fun i => ∀ (x10 : Int32) (A11 : AH), RfX X l e below wO (i x10 A11) 50 [some (tR (some a0)), none, some (tI p2), some (tI p3), some (tR y5), some (tI x10)] [] A11) (fun _ _ => rf_none) (fun rc12 hrc12 => ?_) (fun j9 hj9 => ?_)
    · intro x10 A11
      refine rf_iload_n X rfl dX2_block_50 ?_
      refine rf_iload X rfl dX2_block_51 ?_
      refine rf_imul X dX2_block_53 ?_
      refine rf_iload_n X rfl dX2_block_54 ?_
      refine rf_icmp_ge X (tgt := 91) rfl dX2_block_55 (fun c13 => rf_pos c13 ?_) (fun c13 => rf_neg c13 ?_)
      · refine rf_aload X rfl dX2_block_91 ?_
        exact rf_aret (Or.inl ⟨_, rfl⟩) X rfl dX2_block_93
      refine rf_aload X rfl dX2_block_58 ?_
      refine rf_bind (fun v14 hv14 => ?_)
      refine rf_getR X fl_X2_61 hv14 dX2_block_60 ?_
      refine rf_aload_n X rfl dX2_block_63 ?_
      refine rf_aload X rfl dX2_block_64 ?_
      refine rf_iload X rfl dX2_block_66 ?_
      refine rf_iload_n X rfl dX2_block_68 ?_
      refine rf_iload_n X rfl dX2_block_69 ?_
      refine rf_iload_n X rfl dX2_block_70 ?_
      refine rf_iload X rfl dX2_block_71 ?_
      refine rf_imul X dX2_block_73 ?_
      refine rf_isub X dX2_block_74 ?_
      refine rf_mmin X q1140 ⟨by decide, by decide⟩ (Nat.le_of_ble_eq_true rfl) dX2_block_75 ?_
      refine rf_bind (fun v15 hv15 => ?_)
      refine rf_bind (fun g16 hg16 => ?_)
      refine rf_callVI X c_X2_68 ⟨Nat.le_of_ble_eq_true rfl, Nat.le_of_ble_eq_true rfl⟩ [tR y5, tI x10, tI (if (p2 - (p3 * x10)) < p3 then (p2 - (p3 * x10)) else p3)] rfl (Nat.le_of_ble_eq_true rfl) hv15 (sX2_warp l D n v15 y5 x10 (if (p2 - (p3 * x10)) < p3 then (p2 - (p3 * x10)) else p3) A11 g16 hg16) dX2_block_78 ?_
      refine rf_bind (fun v17 hv17 => ?_)
      refine rf_bind (fun g18 hg18 => ?_)
      refine rf_callVI X c_X2_51 ⟨Nat.le_of_ble_eq_true rfl, Nat.le_of_ble_eq_true rfl⟩ [tR g16.1] rfl (Nat.le_of_ble_eq_true rfl) hv17 (sJ2_add l D v17 g16.1 g16.2 g18 hg18) dX2_block_81 ?_
      refine rf_pop X rfl dX2_block_84 ?_
      refine rf_iinc X (x10 + (1 : Int32)) rfl rfl (ls' := [some (tR (some a0)), none, some (tI p2), some (tI p3), some (tR y5), some (tI (x10 + (1 : Int32)))]) rfl (by decide) dX2_block_85 ?_
      refine rf_goto X (tgt := 50) rfl dX2_block_88 ?_
      exact rf_go (hrc12 (x10 + (1 : Int32)) g18.2) (And.intro rfl (And.intro rfl (And.intro rfl (And.intro rfl (And.intro rfl True.intro)))))
    exact rf_go (hj9 (0 : Int32) g8) (And.intro rfl (And.intro rfl (And.intro rfl (And.intro rfl (And.intro rfl True.intro)))))
  refine rf_if_eq X (tgt := 20) rfl dX2_block_7 (fun c19 => rf_pos c19 ?_) (fun c19 => rf_neg c19 ?_)
  · refine rf_aload_n X rfl dX2_block_20 ?_
    refine rf_getR X fl_X2_10 hv1 dX2_block_21 ?_
    refine rf_aload_n X rfl dX2_block_24 ?_
    refine rf_getR X fl_X2_10 hv1 dX2_block_25 ?_
    refine rf_bind (fun g20 hg20 => ?_)
    refine rf_callVI X c_X2_29 ⟨Nat.le_of_ble_eq_true rfl, Nat.le_of_ble_eq_true rfl⟩ [] rfl (Nat.le_of_ble_eq_true rfl) hv2 (sJ2_size l D v2 A g20 hg20) dX2_block_28 ?_
    refine rf_iconst X (1 : Int32) rfl dX2_block_31 ?_
    refine rf_isub X dX2_block_32 ?_
    refine rf_bind (fun g21 hg21 => ?_)
    refine rf_callVI X c_X2_33 ⟨Nat.le_of_ble_eq_true rfl, Nat.le_of_ble_eq_true rfl⟩ [tI (g20 - (1 : Int32))] rfl (Nat.le_of_ble_eq_true rfl) hv2 (sJ2_remove l D v2 (g20 - (1 : Int32)) A g21 hg21) dX2_block_33 ?_
    refine rf_bind (fun v22 hv22 => ?_)
    refine rf_cast X (ci := 12) rfl rfl q1110 hv22 dX2_block_36 ?_
    exact rf_go (hj4 g21.1 g21.2) (And.intro rfl (And.intro rfl (And.intro rfl (And.intro rfl True.intro))))
  refine rf_bind (fun A23 hA23 => ?_)
  refine rf_new X nw_X2_55 hA23 dX2_block_10 ?_
  refine rf_dup X rfl dX2_block_13 ?_
  refine rf_bind (fun g24 hg24 => ?_)
  refine rf_callI X c_X2_57 ⟨Nat.le_of_ble_eq_true rfl, Nat.le_of_ble_eq_true rfl⟩ [] rfl (Nat.le_of_ble_eq_true rfl) (sX12_init l D (hN A) A23 g24 hg24) dX2_block_14 ?_
  refine rf_goto X (tgt := 39) rfl dX2_block_17 ?_
  exact rf_go (hj4 (some (hN A)) g24) (And.intro rfl (And.intro rfl (And.intro rfl (And.intro rfl True.intro))))

theorem dX8_take_0 : decode cX8_take 0 = .ok (.iconst 0, 1) := by decide +kernel
theorem dX8_take_1 : decode cX8_take 1 = .ok (.istore_n 2, 1) := by decide +kernel
theorem dX8_take_2 : decode cX8_take 2 = .ok (.iconst 0, 1) := by decide +kernel
theorem dX8_take_3 : decode cX8_take 3 = .ok (.istore_n 3, 1) := by decide +kernel
theorem dX8_take_4 : decode cX8_take 4 = .ok (.iload_n 3, 1) := by decide +kernel
theorem dX8_take_5 : decode cX8_take 5 = .ok (.aload_n 0, 1) := by decide +kernel
theorem dX8_take_6 : decode cX8_take 6 = .ok (.getfield 9, 3) := by decide +kernel
theorem dX8_take_9 : decode cX8_take 9 = .ok (.arraylength, 1) := by decide +kernel
theorem dX8_take_10 : decode cX8_take 10 = .ok (.if_icmp .ge 52, 3) := by decide +kernel
theorem dX8_take_13 : decode cX8_take 13 = .ok (.iload_n 2, 1) := by decide +kernel
theorem dX8_take_14 : decode cX8_take 14 = .ok (.aload_n 1, 1) := by decide +kernel
theorem dX8_take_15 : decode cX8_take 15 = .ok (.getfield 19, 3) := by decide +kernel
theorem dX8_take_18 : decode cX8_take 18 = .ok (.invokevirtual 25, 3) := by decide +kernel
theorem dX8_take_21 : decode cX8_take 21 = .ok (.if_icmp .ge 41, 3) := by decide +kernel
theorem dX8_take_24 : decode cX8_take 24 = .ok (.aload_n 0, 1) := by decide +kernel
theorem dX8_take_25 : decode cX8_take 25 = .ok (.getfield 9, 3) := by decide +kernel
theorem dX8_take_28 : decode cX8_take 28 = .ok (.iload_n 3, 1) := by decide +kernel
theorem dX8_take_29 : decode cX8_take 29 = .ok (.aaload, 1) := by decide +kernel
theorem dX8_take_30 : decode cX8_take 30 = .ok (.ifnull 6, 3) := by decide +kernel
theorem dX8_take_33 : decode cX8_take 33 = .ok (.goto 23, 3) := by decide +kernel
theorem dX8_take_36 : decode cX8_take 36 = .ok (.aload_n 0, 1) := by decide +kernel
theorem dX8_take_37 : decode cX8_take 37 = .ok (.getfield 9, 3) := by decide +kernel
theorem dX8_take_40 : decode cX8_take 40 = .ok (.iload_n 3, 1) := by decide +kernel
theorem dX8_take_41 : decode cX8_take 41 = .ok (.aload_n 1, 1) := by decide +kernel
theorem dX8_take_42 : decode cX8_take 42 = .ok (.getfield 19, 3) := by decide +kernel
theorem dX8_take_45 : decode cX8_take 45 = .ok (.iload_n 2, 1) := by decide +kernel
theorem dX8_take_46 : decode cX8_take 46 = .ok (.invokevirtual 31, 3) := by decide +kernel
theorem dX8_take_49 : decode cX8_take 49 = .ok (.checkcast 7, 3) := by decide +kernel
theorem dX8_take_52 : decode cX8_take 52 = .ok (.aastore, 1) := by decide +kernel
theorem dX8_take_53 : decode cX8_take 53 = .ok (.iinc 2 1, 3) := by decide +kernel
theorem dX8_take_56 : decode cX8_take 56 = .ok (.iinc 3 1, 3) := by decide +kernel
theorem dX8_take_59 : decode cX8_take 59 = .ok (.goto (-55), 3) := by decide +kernel
theorem dX8_take_62 : decode cX8_take 62 = .ok (.return_, 1) := by decide +kernel
def fX8_take (n : Nat) (a0 : Nat) (p1 : Option Nat) (A : AH) : Option (AH) :=
jl (fixG (fun _ _ _ => none) (fun (rc5 : (Int32) → (Int32) → (AH) → Option (AH)) (x2 : Int32) (x3 : Int32) (A4 : AH) =>
(gR A4 (some a0) 8 0).bind fun v6 =>
(aLen A4 v6).bind fun v7 =>
jn (some A4) fun j8 =>
if v7 ≤ x3 then (j8) else
(gR A4 p1 12 2).bind fun v10 =>
(rcv A4 v10 0).bind fun v11 =>
(fJ2_size v11 A4).bind fun g12 =>
if g12 ≤ x2 then (j8) else
(aR A4 v6 x3).bind fun v14 =>
jn (fun (x16 : Int32) (A17 : AH) =>
rc5 x16 (x3 + (1 : Int32)) A17) fun j15 =>
if v14 = none then ((fJ2_get v11 x2 A4).bind fun g19 =>
(cst A4 g19 13).bind fun v20 =>
(sR A4 v6 x3 g19).bind fun A21 =>
j15 (x2 + (1 : Int32)) A21) else
j15 x2 A4) n) fun j1 =>
j1 (0 : Int32) (0 : Int32) A

set_option maxHeartbeats 4000000 in
set_option maxRecDepth 100000 in
theorem sX8_take (l : Launch) (D : DE) (n : Nat) (a0 : Nat) (p1 : Option Nat) (A : AH) (g : AH) (hg : fX8_take n a0 p1 A = some g) : Sm l D yX8_take cX8_take 4 none 3 64 [tR (some a0), tR p1] A (wU g).1 (wU g).2 := by
  refine Sm.of (ω := wU) (fX8_take n a0 p1 A) [some (tR (some a0)), some (tR p1), none, none] (by decide) (Nat.le_of_ble_eq_true rfl) rfl hg ?_
  intro p e R s m args below meth c X hin
  have X : Cx D cX8_take RX8 4 3 64 none p R s m args meth c := X
  unfold fX8_take
  refine rf_iconst X (0 : Int32) rfl dX8_take_0 ?_
  refine rf_istore_n X (ls' := [some (tR (some a0)), some (tR p1), some (tI (0 : Int32)), none]) rfl (by decide) dX8_take_1 ?_
  refine rf_iconst X (0 : Int32) rfl dX8_take_2 ?_
  refine rf_istore_n X (ls' := [some (tR (some a0)), some (tR p1), some (tI (0 : Int32)), some (tI (0 : Int32))]) rfl (by decide) dX8_take_3 ?_
  refine rf_fix (fun i => ∀ (x2 : Int32) (x3 : Int32) (A4 : AH), RfX X l e below wU (i x2 x3 A4) 4 [some (tR (some a0)), some (tR p1), some (tI x2), some (tI x3)] [] A4) (fun _ _ _ => rf_none) (fun rc5 hrc5 => ?_) (fun j1 hj1 => ?_)
  · intro x2 x3 A4
    refine rf_iload_n X rfl dX8_take_4 ?_
    refine rf_aload_n X rfl dX8_take_5 ?_
    refine rf_bind (fun v6 hv6 => ?_)
    refine rf_getR X fl_X8_9 hv6 dX8_take_6 ?_
    refine rf_bind (fun v7 hv7 => ?_)
    refine rf_alen X hv7 dX8_take_9 ?_
    refine rf_jn2 (fun i => RfX X l e below wU i 62 [none, none, none, none] [] A4) ?_ (fun j8 hj8 => ?_)
    · show RfX X l e below _ _ _ _ _ _
      exact rf_vret X rfl dX8_take_62
    refine rf_icmp_ge X (tgt := 62) rfl dX8_take_10 (fun c9 => rf_pos c9 ?_) (fun c9 => rf_neg c9 ?_)
    · exact rf_go hj8 True.intro
    refine rf_iload_n X rfl dX8_take_13 ?_
    refine rf_aload_n X rfl dX8_take_14 ?_
    refine rf_bind (fun v10 hv10 => ?_)
    refine rf_getR X fl_X8_19 hv10 dX8_take_15 ?_
    refine rf_bind (fun v11 hv11 => ?_)
    refine rf_bind (fun g12 hg12 => ?_)
    refine rf_callVI X c_X8_25 ⟨Nat.le_of_ble_eq_true rfl, Nat.le_of_ble_eq_true rfl⟩ [] rfl (Nat.le_of_ble_eq_true rfl) hv11 (sJ2_size l D v11 A4 g12 hg12) dX8_take_18 ?_
    refine rf_icmp_ge X (tgt := 62) rfl dX8_take_21 (fun c13 => rf_pos c13 ?_) (fun c13 => rf_neg c13 ?_)
    · exact rf_go hj8 True.intro
    refine rf_aload_n X rfl dX8_take_24 ?_
    refine rf_getR X fl_X8_9 hv6 dX8_take_25 ?_
    refine rf_iload_n X rfl dX8_take_28 ?_
    refine rf_bind (fun v14 hv14 => ?_)
    refine rf_aald X hv14 dX8_take_29 ?_
    refine rf_jn2 (fun i => ∀ (x16 : Int32) (A17 : AH), RfX X l e below wU (i x16 A17) 56 [some (tR (some a0)), some (tR p1), some (tI x16), some (tI x3)] [] A17) ?_ (fun j15 hj15 => ?_)
    · intro x16 A17
      refine rf_iinc X (x3 + (1 : Int32)) rfl rfl (ls' := [some (tR (some a0)), some (tR p1), some (tI x16), some (tI (x3 + (1 : Int32)))]) rfl (by decide) dX8_take_56 ?_
      refine rf_goto X (tgt := 4) rfl dX8_take_59 ?_
      exact rf_go (hrc5 x16 (x3 + (1 : Int32)) A17) (And.intro rfl (And.intro rfl (And.intro rfl (And.intro rfl True.intro))))
    refine rf_ifnull X (tgt := 36) rfl dX8_take_30 (fun c18 => rf_pos c18 ?_) (fun c18 => rf_neg c18 ?_)
    · refine rf_aload_n X rfl dX8_take_36 ?_
      refine rf_getR X fl_X8_9 hv6 dX8_take_37 ?_
      refine rf_iload_n X rfl dX8_take_40 ?_
      refine rf_aload_n X rfl dX8_take_41 ?_
      refine rf_getR X fl_X8_19 hv10 dX8_take_42 ?_
      refine rf_iload_n X rfl dX8_take_45 ?_
      refine rf_bind (fun g19 hg19 => ?_)
      refine rf_callVI X c_X8_31 ⟨Nat.le_of_ble_eq_true rfl, Nat.le_of_ble_eq_true rfl⟩ [tI x2] rfl (Nat.le_of_ble_eq_true rfl) hv11 (sJ2_get l D v11 x2 A4 g19 hg19) dX8_take_46 ?_
      refine rf_bind (fun v20 hv20 => ?_)
      refine rf_cast X (ci := 13) rfl rfl q725 hv20 dX8_take_49 ?_
      refine rf_bind (fun A21 hA21 => ?_)
      refine rf_aast X hA21 dX8_take_52 ?_
      refine rf_iinc X (x2 + (1 : Int32)) rfl rfl (ls' := [some (tR (some a0)), some (tR p1), some (tI (x2 + (1 : Int32))), some (tI x3)]) rfl (by decide) dX8_take_53 ?_
      exact rf_go (hj15 (x2 + (1 : Int32)) A21) (And.intro rfl (And.intro rfl (And.intro rfl (And.intro rfl True.intro))))
    refine rf_goto X (tgt := 56) rfl dX8_take_33 ?_
    exact rf_go (hj15 x2 A4) (And.intro rfl (And.intro rfl (And.intro rfl (And.intro rfl True.intro))))
  exact rf_go (hj1 (0 : Int32) (0 : Int32) A) (And.intro rfl (And.intro rfl (And.intro rfl (And.intro rfl True.intro))))

theorem dX7_dispatch_0 : decode cX7_dispatch 0 = .ok (.aload_n 0, 1) := by decide +kernel
theorem dX7_dispatch_1 : decode cX7_dispatch 1 = .ok (.getfield 88, 3) := by decide +kernel
theorem dX7_dispatch_4 : decode cX7_dispatch 4 = .ok (.aload_n 0, 1) := by decide +kernel
theorem dX7_dispatch_5 : decode cX7_dispatch 5 = .ok (.getfield 20, 3) := by decide +kernel
theorem dX7_dispatch_8 : decode cX7_dispatch 8 = .ok (.iadd, 1) := by decide +kernel
theorem dX7_dispatch_9 : decode cX7_dispatch 9 = .ok (.iconst 1, 1) := by decide +kernel
theorem dX7_dispatch_10 : decode cX7_dispatch 10 = .ok (.isub, 1) := by decide +kernel
theorem dX7_dispatch_11 : decode cX7_dispatch 11 = .ok (.aload_n 0, 1) := by decide +kernel
theorem dX7_dispatch_12 : decode cX7_dispatch 12 = .ok (.getfield 20, 3) := by decide +kernel
theorem dX7_dispatch_15 : decode cX7_dispatch 15 = .ok (.idiv, 1) := by decide +kernel
theorem dX7_dispatch_16 : decode cX7_dispatch 16 = .ok (.istore_n 1, 1) := by decide +kernel
theorem dX7_dispatch_17 : decode cX7_dispatch 17 = .ok (.iconst 1, 1) := by decide +kernel
theorem dX7_dispatch_18 : decode cX7_dispatch 18 = .ok (.istore_n 2, 1) := by decide +kernel
theorem dX7_dispatch_19 : decode cX7_dispatch 19 = .ok (.iload_n 2, 1) := by decide +kernel
theorem dX7_dispatch_20 : decode cX7_dispatch 20 = .ok (.ifCond .eq 121, 3) := by decide +kernel
theorem dX7_dispatch_23 : decode cX7_dispatch 23 = .ok (.aload_n 0, 1) := by decide +kernel
theorem dX7_dispatch_24 : decode cX7_dispatch 24 = .ok (.getfield 91, 3) := by decide +kernel
theorem dX7_dispatch_27 : decode cX7_dispatch 27 = .ok (.aload_n 0, 1) := by decide +kernel
theorem dX7_dispatch_28 : decode cX7_dispatch 28 = .ok (.getfield 85, 3) := by decide +kernel
theorem dX7_dispatch_31 : decode cX7_dispatch 31 = .ok (.if_icmp .ge 110, 3) := by decide +kernel
theorem dX7_dispatch_34 : decode cX7_dispatch 34 = .ok (.iconst 0, 1) := by decide +kernel
theorem dX7_dispatch_35 : decode cX7_dispatch 35 = .ok (.istore_n 3, 1) := by decide +kernel
theorem dX7_dispatch_36 : decode cX7_dispatch 36 = .ok (.iload_n 3, 1) := by decide +kernel
theorem dX7_dispatch_37 : decode cX7_dispatch 37 = .ok (.aload_n 0, 1) := by decide +kernel
theorem dX7_dispatch_38 : decode cX7_dispatch 38 = .ok (.getfield 14, 3) := by decide +kernel
theorem dX7_dispatch_41 : decode cX7_dispatch 41 = .ok (.invokevirtual 118, 3) := by decide +kernel
theorem dX7_dispatch_44 : decode cX7_dispatch 44 = .ok (.if_icmp .ge 27, 3) := by decide +kernel
theorem dX7_dispatch_47 : decode cX7_dispatch 47 = .ok (.aload_n 0, 1) := by decide +kernel
theorem dX7_dispatch_48 : decode cX7_dispatch 48 = .ok (.getfield 14, 3) := by decide +kernel
theorem dX7_dispatch_51 : decode cX7_dispatch 51 = .ok (.iload_n 3, 1) := by decide +kernel
theorem dX7_dispatch_52 : decode cX7_dispatch 52 = .ok (.invokevirtual 122, 3) := by decide +kernel
theorem dX7_dispatch_55 : decode cX7_dispatch 55 = .ok (.checkcast 65, 3) := by decide +kernel
theorem dX7_dispatch_58 : decode cX7_dispatch 58 = .ok (.invokevirtual 215, 3) := by decide +kernel
theorem dX7_dispatch_61 : decode cX7_dispatch 61 = .ok (.iload_n 1, 1) := by decide +kernel
theorem dX7_dispatch_62 : decode cX7_dispatch 62 = .ok (.if_icmp .ge 9, 3) := by decide +kernel
theorem dX7_dispatch_65 : decode cX7_dispatch 65 = .ok (.iinc 3 1, 3) := by decide +kernel
theorem dX7_dispatch_68 : decode cX7_dispatch 68 = .ok (.goto (-32), 3) := by decide +kernel
theorem dX7_dispatch_71 : decode cX7_dispatch 71 = .ok (.iload_n 3, 1) := by decide +kernel
theorem dX7_dispatch_72 : decode cX7_dispatch 72 = .ok (.aload_n 0, 1) := by decide +kernel
theorem dX7_dispatch_73 : decode cX7_dispatch 73 = .ok (.getfield 14, 3) := by decide +kernel
theorem dX7_dispatch_76 : decode cX7_dispatch 76 = .ok (.invokevirtual 118, 3) := by decide +kernel
theorem dX7_dispatch_79 : decode cX7_dispatch 79 = .ok (.if_icmp .ge 7, 3) := by decide +kernel
theorem dX7_dispatch_82 : decode cX7_dispatch 82 = .ok (.iconst 1, 1) := by decide +kernel
theorem dX7_dispatch_83 : decode cX7_dispatch 83 = .ok (.goto 4, 3) := by decide +kernel
theorem dX7_dispatch_86 : decode cX7_dispatch 86 = .ok (.iconst 0, 1) := by decide +kernel
theorem dX7_dispatch_87 : decode cX7_dispatch 87 = .ok (.istore_n 2, 1) := by decide +kernel
theorem dX7_dispatch_88 : decode cX7_dispatch 88 = .ok (.iload_n 2, 1) := by decide +kernel
theorem dX7_dispatch_89 : decode cX7_dispatch 89 = .ok (.ifCond .ne 6, 3) := by decide +kernel
theorem dX7_dispatch_92 : decode cX7_dispatch 92 = .ok (.goto (-73), 3) := by decide +kernel
theorem dX7_dispatch_95 : decode cX7_dispatch 95 = .ok (.aload_n 0, 1) := by decide +kernel
theorem dX7_dispatch_96 : decode cX7_dispatch 96 = .ok (.getfield 14, 3) := by decide +kernel
theorem dX7_dispatch_99 : decode cX7_dispatch 99 = .ok (.iload_n 3, 1) := by decide +kernel
theorem dX7_dispatch_100 : decode cX7_dispatch 100 = .ok (.invokevirtual 122, 3) := by decide +kernel
theorem dX7_dispatch_103 : decode cX7_dispatch 103 = .ok (.checkcast 65, 3) := by decide +kernel
theorem dX7_dispatch_106 : decode cX7_dispatch 106 = .ok (.aload_n 0, 1) := by decide +kernel
theorem dX7_dispatch_107 : decode cX7_dispatch 107 = .ok (.getfield 40, 3) := by decide +kernel
theorem dX7_dispatch_110 : decode cX7_dispatch 110 = .ok (.aload_n 0, 1) := by decide +kernel
theorem dX7_dispatch_111 : decode cX7_dispatch 111 = .ok (.getfield 91, 3) := by decide +kernel
theorem dX7_dispatch_114 : decode cX7_dispatch 114 = .ok (.aload_n 0, 1) := by decide +kernel
theorem dX7_dispatch_115 : decode cX7_dispatch 115 = .ok (.getfield 88, 3) := by decide +kernel
theorem dX7_dispatch_118 : decode cX7_dispatch 118 = .ok (.aload_n 0, 1) := by decide +kernel
theorem dX7_dispatch_119 : decode cX7_dispatch 119 = .ok (.getfield 20, 3) := by decide +kernel
theorem dX7_dispatch_122 : decode cX7_dispatch 122 = .ok (.invokevirtual 217, 3) := by decide +kernel
theorem dX7_dispatch_125 : decode cX7_dispatch 125 = .ok (.invokevirtual 223, 3) := by decide +kernel
theorem dX7_dispatch_128 : decode cX7_dispatch 128 = .ok (.aload_n 0, 1) := by decide +kernel
theorem dX7_dispatch_129 : decode cX7_dispatch 129 = .ok (.dup, 1) := by decide +kernel
theorem dX7_dispatch_130 : decode cX7_dispatch 130 = .ok (.getfield 91, 3) := by decide +kernel
theorem dX7_dispatch_133 : decode cX7_dispatch 133 = .ok (.iconst 1, 1) := by decide +kernel
theorem dX7_dispatch_134 : decode cX7_dispatch 134 = .ok (.iadd, 1) := by decide +kernel
theorem dX7_dispatch_135 : decode cX7_dispatch 135 = .ok (.putfield 91, 3) := by decide +kernel
theorem dX7_dispatch_138 : decode cX7_dispatch 138 = .ok (.goto (-119), 3) := by decide +kernel
theorem dX7_dispatch_141 : decode cX7_dispatch 141 = .ok (.return_, 1) := by decide +kernel
def fX7_dispatch (n : Nat) (a0 : Nat) (A : AH) : Option (AH) :=
(gI A (some a0) 7 14).bind fun v1 =>
(gI A (some a0) 7 0).bind fun v2 =>
(dz v2).bind fun v3 =>
jl (fixG (fun _ _ => none) (fun (rc7 : (Int32) → (AH) → Option (AH)) (x5 : Int32) (A6 : AH) =>
(gI A6 (some a0) 7 15).bind fun v8 =>
(gI A6 (some a0) 7 13).bind fun v9 =>
if ((x5 = 0) ∨ (v9 ≤ v8)) then (some A6) else
jl (fixG (fun _ => none) (fun (rc12 : (Int32) → Option (AH)) (x11 : Int32) =>
(gR A6 (some a0) 7 8).bind fun v13 =>
(rcv A6 v13 0).bind fun v14 =>
(fJ2_size v14 A6).bind fun g15 =>
jn (jn (fun (y18 : Int32) =>
if y18 = 0 then (rc7 y18 A6) else
(fJ2_get v14 x11 A6).bind fun g20 =>
(cst A6 g20 8).bind fun v21 =>
(gR A6 (some a0) 7 6).bind fun v22 =>
(gI A6 (some a0) 7 14).bind fun v23 =>
(gI A6 (some a0) 7 0).bind fun v24 =>
(rcv A6 v22 2).bind fun v25 =>
(fX2_block n v25 v8 v23 v24 A6).bind fun g26 =>
(rcv g26.2 g20 8).bind fun v27 =>
(fX8_take n v27 g26.1 g26.2).bind fun g28 =>
(gI g28 (some a0) 7 15).bind fun v29 =>
(pI g28 (some a0) 7 15 (v29 + (1 : Int32))).bind fun A30 =>
rc7 y18 A30) fun j17 =>
if g15 ≤ x11 then (j17 (0 : Int32)) else
j17 (1 : Int32)) fun j16 =>
if g15 ≤ x11 then (j16) else
(fJ2_get v14 x11 A6).bind fun g33 =>
(cst A6 g33 8).bind fun v34 =>
(rcv A6 g33 8).bind fun v35 =>
(fX8_free n v35 A6).bind fun g36 =>
if (((v1 + v2) - (1 : Int32)) / v2) ≤ g36 then (j16) else
rc12 (x11 + (1 : Int32))) n) fun j10 =>
j10 (0 : Int32)) n) fun j4 =>
j4 (1 : Int32) A

set_option maxHeartbeats 4000000 in
set_option maxRecDepth 100000 in
theorem sX7_dispatch (l : Launch) (D : DE) (n : Nat) (a0 : Nat) (A : AH) (g : AH) (hg : fX7_dispatch n a0 A = some g) : Sm l D yX7_dispatch cX7_dispatch 4 none 9 241 [tR (some a0)] A (wU g).1 (wU g).2 := by
  refine Sm.of (ω := wU) (fX7_dispatch n a0 A) [some (tR (some a0)), none, none, none] (by decide) (Nat.le_of_ble_eq_true rfl) rfl hg ?_
  intro p e R s m args below meth c X hin
  have X : Cx D cX7_dispatch RX7 4 9 241 none p R s m args meth c := X
  unfold fX7_dispatch
  refine rf_aload_n X rfl dX7_dispatch_0 ?_
  refine rf_bind (fun v1 hv1 => ?_)
  refine rf_getI X fl_X7_88 hv1 dX7_dispatch_1 ?_
  refine rf_aload_n X rfl dX7_dispatch_4 ?_
  refine rf_bind (fun v2 hv2 => ?_)
  refine rf_getI X fl_X7_20 hv2 dX7_dispatch_5 ?_
  refine rf_iadd X dX7_dispatch_8 ?_
  refine rf_iconst X (1 : Int32) rfl dX7_dispatch_9 ?_
  refine rf_isub X dX7_dispatch_10 ?_
  refine rf_aload_n X rfl dX7_dispatch_11 ?_
  refine rf_getI X fl_X7_20 hv2 dX7_dispatch_12 ?_
  refine rf_bind (fun v3 hv3 => ?_)
  refine rf_idiv X (dz_spec hv3) dX7_dispatch_15 ?_
  refine rf_istore_n X (ls' := [some (tR (some a0)), some (tI (((v1 + v2) - (1 : Int32)) / v2)), none, none]) rfl (by decide) dX7_dispatch_16 ?_
  refine rf_iconst X (1 : Int32) rfl dX7_dispatch_17 ?_
  refine rf_istore_n X (ls' := [some (tR (some a0)), some (tI (((v1 + v2) - (1 : Int32)) / v2)), some (tI (1 : Int32)), none]) rfl (by decide) dX7_dispatch_18 ?_
  refine rf_fix (fun i => ∀ (x5 : Int32) (A6 : AH), RfX X l e below wU (i x5 A6) 19 [some (tR (some a0)), some (tI (((v1 + v2) - (1 : Int32)) / v2)), some (tI x5), none] [] A6) (fun _ _ => rf_none) (fun rc7 hrc7 => ?_) (fun j4 hj4 => ?_)
  · intro x5 A6
    refine rf_iload_n X rfl dX7_dispatch_19 ?_
    refine rf_bind (fun v8 hv8 => ?_)
    refine rf_bind (fun v9 hv9 => ?_)
    refine rf_br 141 34 [some (tR (some a0)), some (tI (((v1 + v2) - (1 : Int32)) / v2)), some (tI x5), none] [some (tR (some a0)), some (tI (((v1 + v2) - (1 : Int32)) / v2)), some (tI x5), none] [] [] (fun _ => ?_) (fun _ => ?_) (fun _ jT jF => ?_)
    · exact rf_vret X rfl dX7_dispatch_141
    · refine rf_iconst X (0 : Int32) rfl dX7_dispatch_34 ?_
      refine rf_istore_n X (ls' := [some (tR (some a0)), some (tI (((v1 + v2) - (1 : Int32)) / v2)), some (tI x5), some (tI (0 : Int32))]) rfl (by decide) dX7_dispatch_35 ?_
      refine rf_fix (fun i => ∀ (x11 : Int32), RfX X l e below wU (i x11) 36 [some (tR (some a0)), some (tI (((v1 + v2) - (1 : Int32)) / v2)), none, some (tI x11)] [] A6) (fun _ => rf_none) (fun rc12 hrc12 => ?_) (fun j10 hj10 => ?_)
      · intro x11
        refine rf_iload_n X rfl dX7_dispatch_36 ?_
        refine rf_aload_n X rfl dX7_dispatch_37 ?_
        refine rf_bind (fun v13 hv13 => ?_)
        refine rf_getR X fl_X7_14 hv13 dX7_dispatch_38 ?_
        refine rf_bind (fun v14 hv14 => ?_)
        refine rf_bind (fun g15 hg15 => ?_)
        refine rf_callVI X c_X7_118 ⟨Nat.le_of_ble_eq_true rfl, Nat.le_of_ble_eq_true rfl⟩ [] rfl (Nat.le_of_ble_eq_true rfl) hv14 (sJ2_size l D v14 A6 g15 hg15) dX7_dispatch_41 ?_
        refine rf_jn2 (fun i => RfX X l e below wU i 71 [some (tR (some a0)), some (tI (((v1 + v2) - (1 : Int32)) / v2)), none, some (tI x11)] [] A6) ?_ (fun j16 hj16 => ?_)
        · show RfX X l e below _ _ _ _ _ _
          refine rf_iload_n X rfl dX7_dispatch_71 ?_
          refine rf_aload_n X rfl dX7_dispatch_72 ?_
          refine rf_getR X fl_X7_14 hv13 dX7_dispatch_73 ?_
          refine rf_callVI X c_X7_118 ⟨Nat.le_of_ble_eq_true rfl, Nat.le_of_ble_eq_true rfl⟩ [] rfl (Nat.le_of_ble_eq_true rfl) hv14 (sJ2_size l D v14 A6 g15 hg15) dX7_dispatch_76 ?_
          refine rf_jn2 (fun i => ∀ (y18 : Int32), RfX X l e below wU (i y18) 87 [some (tR (some a0)), some (tI (((v1 + v2) - (1 : Int32)) / v2)), none, some (tI x11)] [tI y18] A6) ?_ (fun j17 hj17 => ?_)
          · intro y18
            refine rf_istore_n X (ls' := [some (tR (some a0)), some (tI (((v1 + v2) - (1 : Int32)) / v2)), some (tI y18), some (tI x11)]) rfl (by decide) dX7_dispatch_87 ?_
            refine rf_iload_n X rfl dX7_dispatch_88 ?_
            refine rf_if_ne X (tgt := 95) rfl dX7_dispatch_89 (fun c19 => rf_neg c19 ?_) (fun c19 => rf_pos c19 ?_)
            · refine rf_aload_n X rfl dX7_dispatch_95 ?_
              refine rf_getR X fl_X7_14 hv13 dX7_dispatch_96 ?_
              refine rf_iload_n X rfl dX7_dispatch_99 ?_
              refine rf_bind (fun g20 hg20 => ?_)
              refine rf_callVI X c_X7_122 ⟨Nat.le_of_ble_eq_true rfl, Nat.le_of_ble_eq_true rfl⟩ [tI x11] rfl (Nat.le_of_ble_eq_true rfl) hv14 (sJ2_get l D v14 x11 A6 g20 hg20) dX7_dispatch_100 ?_
              refine rf_bind (fun v21 hv21 => ?_)
              refine rf_cast X (ci := 8) rfl rfl q719 hv21 dX7_dispatch_103 ?_
              refine rf_aload_n X rfl dX7_dispatch_106 ?_
              refine rf_bind (fun v22 hv22 => ?_)
              refine rf_getR X fl_X7_40 hv22 dX7_dispatch_107 ?_
              refine rf_aload_n X rfl dX7_dispatch_110 ?_
              refine rf_getI X fl_X7_91 hv8 dX7_dispatch_111 ?_
              refine rf_aload_n X rfl dX7_dispatch_114 ?_
              refine rf_bind (fun v23 hv23 => ?_)
              refine rf_getI X fl_X7_88 hv23 dX7_dispatch_115 ?_
              refine rf_aload_n X rfl dX7_dispatch_118 ?_
              refine rf_bind (fun v24 hv24 => ?_)
              refine rf_getI X fl_X7_20 hv24 dX7_dispatch_119 ?_
              refine rf_bind (fun v25 hv25 => ?_)
              refine rf_bind (fun g26 hg26 => ?_)
              refine rf_callVI X c_X7_217 ⟨Nat.le_of_ble_eq_true rfl, Nat.le_of_ble_eq_true rfl⟩ [tI v8, tI v23, tI v24] rfl (Nat.le_of_ble_eq_true rfl) hv25 (sX2_block l D n v25 v8 v23 v24 A6 g26 hg26) dX7_dispatch_122 ?_
              refine rf_bind (fun v27 hv27 => ?_)
              refine rf_bind (fun g28 hg28 => ?_)
              refine rf_callVU X c_X7_223 ⟨Nat.le_of_ble_eq_true rfl, Nat.le_of_ble_eq_true rfl⟩ [tR g26.1] rfl (Nat.le_of_ble_eq_true rfl) hv27 (sX8_take l D n v27 g26.1 g26.2 g28 hg28) dX7_dispatch_125 ?_
              refine rf_aload_n X rfl dX7_dispatch_128 ?_
              refine rf_dup X rfl dX7_dispatch_129 ?_
              refine rf_bind (fun v29 hv29 => ?_)
              refine rf_getI X fl_X7_91 hv29 dX7_dispatch_130 ?_
              refine rf_iconst X (1 : Int32) rfl dX7_dispatch_133 ?_
              refine rf_iadd X dX7_dispatch_134 ?_
              refine rf_bind (fun A30 hA30 => ?_)
              refine rf_putI X fp_X7_91 (fun h => by cases h) hA30 dX7_dispatch_135 ?_
              refine rf_goto X (tgt := 19) rfl dX7_dispatch_138 ?_
              exact rf_go (hrc7 y18 A30) (And.intro rfl (And.intro rfl (And.intro rfl True.intro)))
            refine rf_goto X (tgt := 19) rfl dX7_dispatch_92 ?_
            exact rf_go (hrc7 y18 A6) (And.intro rfl (And.intro rfl (And.intro rfl True.intro)))
          refine rf_icmp_ge X (tgt := 86) rfl dX7_dispatch_79 (fun c31 => rf_pos c31 ?_) (fun c31 => rf_neg c31 ?_)
          · refine rf_iconst X (0 : Int32) rfl dX7_dispatch_86 ?_
            exact rf_go (hj17 (0 : Int32)) (And.intro rfl (And.intro rfl (And.intro rfl True.intro)))
          refine rf_iconst X (1 : Int32) rfl dX7_dispatch_82 ?_
          refine rf_goto X (tgt := 87) rfl dX7_dispatch_83 ?_
          exact rf_go (hj17 (1 : Int32)) (And.intro rfl (And.intro rfl (And.intro rfl True.intro)))
        refine rf_icmp_ge X (tgt := 71) rfl dX7_dispatch_44 (fun c32 => rf_pos c32 ?_) (fun c32 => rf_neg c32 ?_)
        · exact rf_go hj16 (And.intro rfl (And.intro rfl (And.intro rfl True.intro)))
        refine rf_aload_n X rfl dX7_dispatch_47 ?_
        refine rf_getR X fl_X7_14 hv13 dX7_dispatch_48 ?_
        refine rf_iload_n X rfl dX7_dispatch_51 ?_
        refine rf_bind (fun g33 hg33 => ?_)
        refine rf_callVI X c_X7_122 ⟨Nat.le_of_ble_eq_true rfl, Nat.le_of_ble_eq_true rfl⟩ [tI x11] rfl (Nat.le_of_ble_eq_true rfl) hv14 (sJ2_get l D v14 x11 A6 g33 hg33) dX7_dispatch_52 ?_
        refine rf_bind (fun v34 hv34 => ?_)
        refine rf_cast X (ci := 8) rfl rfl q719 hv34 dX7_dispatch_55 ?_
        refine rf_bind (fun v35 hv35 => ?_)
        refine rf_bind (fun g36 hg36 => ?_)
        refine rf_callVI X c_X7_215 ⟨Nat.le_of_ble_eq_true rfl, Nat.le_of_ble_eq_true rfl⟩ [] rfl (Nat.le_of_ble_eq_true rfl) hv35 (sX8_free l D n v35 A6 g36 hg36) dX7_dispatch_58 ?_
        refine rf_iload_n X rfl dX7_dispatch_61 ?_
        refine rf_icmp_ge X (tgt := 71) rfl dX7_dispatch_62 (fun c37 => rf_pos c37 ?_) (fun c37 => rf_neg c37 ?_)
        · exact rf_go hj16 (And.intro rfl (And.intro rfl (And.intro rfl True.intro)))
        refine rf_iinc X (x11 + (1 : Int32)) rfl rfl (ls' := [some (tR (some a0)), some (tI (((v1 + v2) - (1 : Int32)) / v2)), none, some (tI (x11 + (1 : Int32)))]) rfl (by decide) dX7_dispatch_65 ?_
        refine rf_goto X (tgt := 36) rfl dX7_dispatch_68 ?_
        exact rf_go (hrc12 (x11 + (1 : Int32))) (And.intro rfl (And.intro rfl (And.intro rfl True.intro)))
      exact rf_go (hj10 (0 : Int32)) (And.intro rfl (And.intro rfl (And.intro rfl True.intro)))
    refine rf_if_eq X (tgt := 141) rfl dX7_dispatch_20 (fun c38 => ?_) (fun c38 => ?_)
    · exact jT (Or.inl c38)
    refine rf_aload_n X rfl dX7_dispatch_23 ?_
    refine rf_getI X fl_X7_91 hv8 dX7_dispatch_24 ?_
    refine rf_aload_n X rfl dX7_dispatch_27 ?_
    refine rf_getI X fl_X7_85 hv9 dX7_dispatch_28 ?_
    refine rf_icmp_ge X (tgt := 141) rfl dX7_dispatch_31 (fun c39 => ?_) (fun c39 => ?_)
    · exact jT (Or.inr c39)
    exact jF (fun z => z.elim c38 c39)
  exact rf_go (hj4 (1 : Int32) A) (And.intro rfl (And.intro rfl (And.intro rfl True.intro)))

theorem dX13_group_0 : decode cX13_group 0 = .ok (.iconst 0, 1) := by decide +kernel
theorem dX13_group_1 : decode cX13_group 1 = .ok (.istore_n 1, 1) := by decide +kernel
theorem dX13_group_2 : decode cX13_group 2 = .ok (.iconst 0, 1) := by decide +kernel
theorem dX13_group_3 : decode cX13_group 3 = .ok (.istore_n 2, 1) := by decide +kernel
theorem dX13_group_4 : decode cX13_group 4 = .ok (.iconst 0, 1) := by decide +kernel
theorem dX13_group_5 : decode cX13_group 5 = .ok (.istore_n 3, 1) := by decide +kernel
theorem dX13_group_6 : decode cX13_group 6 = .ok (.iload_n 3, 1) := by decide +kernel
theorem dX13_group_7 : decode cX13_group 7 = .ok (.aload_n 0, 1) := by decide +kernel
theorem dX13_group_8 : decode cX13_group 8 = .ok (.getfield 14, 3) := by decide +kernel
theorem dX13_group_11 : decode cX13_group 11 = .ok (.invokevirtual 41, 3) := by decide +kernel
theorem dX13_group_14 : decode cX13_group 14 = .ok (.if_icmp .ge 85, 3) := by decide +kernel
theorem dX13_group_17 : decode cX13_group 17 = .ok (.aload_n 0, 1) := by decide +kernel
theorem dX13_group_18 : decode cX13_group 18 = .ok (.getfield 14, 3) := by decide +kernel
theorem dX13_group_21 : decode cX13_group 21 = .ok (.iload_n 3, 1) := by decide +kernel
theorem dX13_group_22 : decode cX13_group 22 = .ok (.invokevirtual 45, 3) := by decide +kernel
theorem dX13_group_25 : decode cX13_group 25 = .ok (.checkcast 49, 3) := by decide +kernel
theorem dX13_group_28 : decode cX13_group 28 = .ok (.astore 4, 2) := by decide +kernel
theorem dX13_group_30 : decode cX13_group 30 = .ok (.aload 4, 2) := by decide +kernel
theorem dX13_group_32 : decode cX13_group 32 = .ok (.getfield 51, 3) := by decide +kernel
theorem dX13_group_35 : decode cX13_group 35 = .ok (.ifCond .ne 58, 3) := by decide +kernel
theorem dX13_group_38 : decode cX13_group 38 = .ok (.aload 4, 2) := by decide +kernel
theorem dX13_group_40 : decode cX13_group 40 = .ok (.getfield 55, 3) := by decide +kernel
theorem dX13_group_43 : decode cX13_group 43 = .ok (.ifCond .ne 50, 3) := by decide +kernel
theorem dX13_group_46 : decode cX13_group 46 = .ok (.iload_n 2, 1) := by decide +kernel
theorem dX13_group_47 : decode cX13_group 47 = .ok (.ifCond .eq 15, 3) := by decide +kernel
theorem dX13_group_50 : decode cX13_group 50 = .ok (.aload 4, 2) := by decide +kernel
theorem dX13_group_52 : decode cX13_group 52 = .ok (.getfield 58, 3) := by decide +kernel
theorem dX13_group_55 : decode cX13_group 55 = .ok (.iload_n 1, 1) := by decide +kernel
theorem dX13_group_56 : decode cX13_group 56 = .ok (.if_icmp .le 6, 3) := by decide +kernel
theorem dX13_group_59 : decode cX13_group 59 = .ok (.goto 34, 3) := by decide +kernel
theorem dX13_group_62 : decode cX13_group 62 = .ok (.iload_n 2, 1) := by decide +kernel
theorem dX13_group_63 : decode cX13_group 63 = .ok (.ifCond .eq 12, 3) := by decide +kernel
theorem dX13_group_66 : decode cX13_group 66 = .ok (.aload 4, 2) := by decide +kernel
theorem dX13_group_68 : decode cX13_group 68 = .ok (.getfield 58, 3) := by decide +kernel
theorem dX13_group_71 : decode cX13_group 71 = .ok (.iload_n 1, 1) := by decide +kernel
theorem dX13_group_72 : decode cX13_group 72 = .ok (.if_icmp .ge 7, 3) := by decide +kernel
theorem dX13_group_75 : decode cX13_group 75 = .ok (.iconst 0, 1) := by decide +kernel
theorem dX13_group_76 : decode cX13_group 76 = .ok (.goto 4, 3) := by decide +kernel
theorem dX13_group_79 : decode cX13_group 79 = .ok (.iload_n 2, 1) := by decide +kernel
theorem dX13_group_80 : decode cX13_group 80 = .ok (.istore_n 2, 1) := by decide +kernel
theorem dX13_group_81 : decode cX13_group 81 = .ok (.aload 4, 2) := by decide +kernel
theorem dX13_group_83 : decode cX13_group 83 = .ok (.getfield 58, 3) := by decide +kernel
theorem dX13_group_86 : decode cX13_group 86 = .ok (.istore_n 1, 1) := by decide +kernel
theorem dX13_group_87 : decode cX13_group 87 = .ok (.iload_n 2, 1) := by decide +kernel
theorem dX13_group_88 : decode cX13_group 88 = .ok (.iconst 1, 1) := by decide +kernel
theorem dX13_group_89 : decode cX13_group 89 = .ok (.iload_n 3, 1) := by decide +kernel
theorem dX13_group_90 : decode cX13_group 90 = .ok (.ishl, 1) := by decide +kernel
theorem dX13_group_91 : decode cX13_group 91 = .ok (.ior, 1) := by decide +kernel
theorem dX13_group_92 : decode cX13_group 92 = .ok (.istore_n 2, 1) := by decide +kernel
theorem dX13_group_93 : decode cX13_group 93 = .ok (.iinc 3 1, 3) := by decide +kernel
theorem dX13_group_96 : decode cX13_group 96 = .ok (.goto (-90), 3) := by decide +kernel
theorem dX13_group_99 : decode cX13_group 99 = .ok (.iload_n 2, 1) := by decide +kernel
theorem dX13_group_100 : decode cX13_group 100 = .ok (.ireturn, 1) := by decide +kernel
def fX13_group (n : Nat) (a0 : Nat) (A : AH) : Option (Int32) :=
jl (fixG (fun _ _ _ => none) (fun (rc5 : (Int32) → (Int32) → (Int32) → Option (Int32)) (x2 : Int32) (x3 : Int32) (x4 : Int32) =>
(gR A (some a0) 13 2).bind fun v6 =>
(rcv A v6 0).bind fun v7 =>
(fJ2_size v7 A).bind fun g8 =>
if g8 ≤ x4 then (some x3) else
(fJ2_get v7 x4 A).bind fun g10 =>
(cst A g10 14).bind fun v11 =>
(gI A g10 14 3).bind fun v12 =>
jn (fun (x14 : Int32) (x15 : Int32) =>
rc5 x14 x15 (x4 + (1 : Int32))) fun j13 =>
if v12 = 0 then ((gI A g10 14 4).bind fun v17 =>
if v17 = 0 then (jn (jn (fun (y21 : Int32) =>
(gI A g10 14 2).bind fun v22 =>
j13 v22 (y21 ||| ((1 : Int32) <<< (x4 &&& 31)))) fun j20 =>
jn (j20 (0 : Int32)) fun j23 =>
if x3 = 0 then (j23) else
(gI A g10 14 2).bind fun v25 =>
if x2 ≤ v25 then (j20 x3) else
j23) fun j19 =>
if x3 = 0 then (j19) else
(gI A g10 14 2).bind fun v28 =>
if v28 ≤ x2 then (j19) else
j13 x2 x3) else
j13 x2 x3) else
j13 x2 x3) n) fun j1 =>
j1 (0 : Int32) (0 : Int32) (0 : Int32)

set_option maxHeartbeats 4000000 in
set_option maxRecDepth 100000 in
theorem sX13_group (l : Launch) (D : DE) (n : Nat) (a0 : Nat) (A : AH) (g : Int32) (hg : fX13_group n a0 A = some g) : Sm l D yX13_group cX13_group 5 (some Jvm.ClassFile.FieldType.int) 3 64 [tR (some a0)] A (qI A g).1 (qI A g).2 := by
  refine Sm.of (ω := qI A) (fX13_group n a0 A) [some (tR (some a0)), none, none, none, none] (by decide) (Nat.le_of_ble_eq_true rfl) rfl hg ?_
  intro p e R s m args below meth c X hin
  have X : Cx D cX13_group RX13 5 3 64 (some Jvm.ClassFile.FieldType.int) p R s m args meth c := X
  unfold fX13_group
  refine rf_iconst X (0 : Int32) rfl dX13_group_0 ?_
  refine rf_istore_n X (ls' := [some (tR (some a0)), some (tI (0 : Int32)), none, none, none]) rfl (by decide) dX13_group_1 ?_
  refine rf_iconst X (0 : Int32) rfl dX13_group_2 ?_
  refine rf_istore_n X (ls' := [some (tR (some a0)), some (tI (0 : Int32)), some (tI (0 : Int32)), none, none]) rfl (by decide) dX13_group_3 ?_
  refine rf_iconst X (0 : Int32) rfl dX13_group_4 ?_
  refine rf_istore_n X (ls' := [some (tR (some a0)), some (tI (0 : Int32)), some (tI (0 : Int32)), some (tI (0 : Int32)), none]) rfl (by decide) dX13_group_5 ?_
  refine rf_fix (fun i => ∀ (x2 : Int32) (x3 : Int32) (x4 : Int32), RfX X l e below (qI A) (i x2 x3 x4) 6 [some (tR (some a0)), some (tI x2), some (tI x3), some (tI x4), none] [] A) (fun _ _ _ => rf_none) (fun rc5 hrc5 => ?_) (fun j1 hj1 => ?_)
  · intro x2 x3 x4
    refine rf_iload_n X rfl dX13_group_6 ?_
    refine rf_aload_n X rfl dX13_group_7 ?_
    refine rf_bind (fun v6 hv6 => ?_)
    refine rf_getR X fl_X13_14 hv6 dX13_group_8 ?_
    refine rf_bind (fun v7 hv7 => ?_)
    refine rf_bind (fun g8 hg8 => ?_)
    refine rf_callVI X c_X13_41 ⟨Nat.le_of_ble_eq_true rfl, Nat.le_of_ble_eq_true rfl⟩ [] rfl (Nat.le_of_ble_eq_true rfl) hv7 (sJ2_size l D v7 A g8 hg8) dX13_group_11 ?_
    refine rf_icmp_ge X (tgt := 99) rfl dX13_group_14 (fun c9 => rf_pos c9 ?_) (fun c9 => rf_neg c9 ?_)
    · refine rf_iload_n X rfl dX13_group_99 ?_
      exact rf_iret X rfl dX13_group_100
    refine rf_aload_n X rfl dX13_group_17 ?_
    refine rf_getR X fl_X13_14 hv6 dX13_group_18 ?_
    refine rf_iload_n X rfl dX13_group_21 ?_
    refine rf_bind (fun g10 hg10 => ?_)
    refine rf_callVI X c_X13_45 ⟨Nat.le_of_ble_eq_true rfl, Nat.le_of_ble_eq_true rfl⟩ [tI x4] rfl (Nat.le_of_ble_eq_true rfl) hv7 (sJ2_get l D v7 x4 A g10 hg10) dX13_group_22 ?_
    refine rf_bind (fun v11 hv11 => ?_)
    refine rf_cast X (ci := 14) rfl rfl q1019 hv11 dX13_group_25 ?_
    refine rf_astore X (ls' := [some (tR (some a0)), some (tI x2), some (tI x3), some (tI x4), some (tR g10)]) rfl (by decide) dX13_group_28 ?_
    refine rf_aload X rfl dX13_group_30 ?_
    refine rf_bind (fun v12 hv12 => ?_)
    refine rf_getI X fl_X13_51 hv12 dX13_group_32 ?_
    refine rf_jn2 (fun i => ∀ (x14 : Int32) (x15 : Int32), RfX X l e below (qI A) (i x14 x15) 93 [some (tR (some a0)), some (tI x14), some (tI x15), some (tI x4), none] [] A) ?_ (fun j13 hj13 => ?_)
    · intro x14 x15
      refine rf_iinc X (x4 + (1 : Int32)) rfl rfl (ls' := [some (tR (some a0)), some (tI x14), some (tI x15), some (tI (x4 + (1 : Int32))), none]) rfl (by decide) dX13_group_93 ?_
      refine rf_goto X (tgt := 6) rfl dX13_group_96 ?_
      exact rf_go (hrc5 x14 x15 (x4 + (1 : Int32))) (And.intro rfl (And.intro rfl (And.intro rfl (And.intro rfl True.intro))))
    refine rf_if_ne X (tgt := 93) rfl dX13_group_35 (fun c16 => rf_neg c16 ?_) (fun c16 => rf_pos c16 ?_)
    · exact rf_go (hj13 x2 x3) (And.intro rfl (And.intro rfl (And.intro rfl (And.intro rfl True.intro))))
    refine rf_aload X rfl dX13_group_38 ?_
    refine rf_bind (fun v17 hv17 => ?_)
    refine rf_getI X fl_X13_55 hv17 dX13_group_40 ?_
    refine rf_if_ne X (tgt := 93) rfl dX13_group_43 (fun c18 => rf_neg c18 ?_) (fun c18 => rf_pos c18 ?_)
    · exact rf_go (hj13 x2 x3) (And.intro rfl (And.intro rfl (And.intro rfl (And.intro rfl True.intro))))
    refine rf_iload_n X rfl dX13_group_46 ?_
    refine rf_jn2 (fun i => RfX X l e below (qI A) i 62 [some (tR (some a0)), some (tI x2), some (tI x3), some (tI x4), some (tR g10)] [] A) ?_ (fun j19 hj19 => ?_)
    · show RfX X l e below _ _ _ _ _ _
      refine rf_iload_n X rfl dX13_group_62 ?_
      refine rf_jn2 (fun i => ∀ (y21 : Int32), RfX X l e below (qI A) (i y21) 80 [some (tR (some a0)), none, none, some (tI x4), some (tR g10)] [tI y21] A) ?_ (fun j20 hj20 => ?_)
      · intro y21
        refine rf_istore_n X (ls' := [some (tR (some a0)), none, some (tI y21), some (tI x4), some (tR g10)]) rfl (by decide) dX13_group_80 ?_
        refine rf_aload X rfl dX13_group_81 ?_
        refine rf_bind (fun v22 hv22 => ?_)
        refine rf_getI X fl_X13_58 hv22 dX13_group_83 ?_
        refine rf_istore_n X (ls' := [some (tR (some a0)), some (tI v22), some (tI y21), some (tI x4), some (tR g10)]) rfl (by decide) dX13_group_86 ?_
        refine rf_iload_n X rfl dX13_group_87 ?_
        refine rf_iconst X (1 : Int32) rfl dX13_group_88 ?_
        refine rf_iload_n X rfl dX13_group_89 ?_
        refine rf_ishl X dX13_group_90 ?_
        refine rf_ior X dX13_group_91 ?_
        refine rf_istore_n X (ls' := [some (tR (some a0)), some (tI v22), some (tI (y21 ||| ((1 : Int32) <<< (x4 &&& 31)))), some (tI x4), some (tR g10)]) rfl (by decide) dX13_group_92 ?_
        exact rf_go (hj13 v22 (y21 ||| ((1 : Int32) <<< (x4 &&& 31)))) (And.intro rfl (And.intro rfl (And.intro rfl (And.intro rfl True.intro))))
      refine rf_jn2 (fun i => RfX X l e below (qI A) i 75 [some (tR (some a0)), none, none, some (tI x4), some (tR g10)] [] A) ?_ (fun j23 hj23 => ?_)
      · show RfX X l e below _ _ _ _ _ _
        refine rf_iconst X (0 : Int32) rfl dX13_group_75 ?_
        refine rf_goto X (tgt := 80) rfl dX13_group_76 ?_
        exact rf_go (hj20 (0 : Int32)) (And.intro rfl (And.intro rfl (And.intro rfl True.intro)))
      refine rf_if_eq X (tgt := 75) rfl dX13_group_63 (fun c24 => rf_pos c24 ?_) (fun c24 => rf_neg c24 ?_)
      · exact rf_go hj23 (And.intro rfl (And.intro rfl (And.intro rfl True.intro)))
      refine rf_aload X rfl dX13_group_66 ?_
      refine rf_bind (fun v25 hv25 => ?_)
      refine rf_getI X fl_X13_58 hv25 dX13_group_68 ?_
      refine rf_iload_n X rfl dX13_group_71 ?_
      refine rf_icmp_ge X (tgt := 79) rfl dX13_group_72 (fun c26 => rf_pos c26 ?_) (fun c26 => rf_neg c26 ?_)
      · refine rf_iload_n X rfl dX13_group_79 ?_
        exact rf_go (hj20 x3) (And.intro rfl (And.intro rfl (And.intro rfl True.intro)))
      exact rf_go hj23 (And.intro rfl (And.intro rfl (And.intro rfl True.intro)))
    refine rf_if_eq X (tgt := 62) rfl dX13_group_47 (fun c27 => rf_pos c27 ?_) (fun c27 => rf_neg c27 ?_)
    · exact rf_go hj19 (And.intro rfl (And.intro rfl (And.intro rfl (And.intro rfl (And.intro rfl True.intro)))))
    refine rf_aload X rfl dX13_group_50 ?_
    refine rf_bind (fun v28 hv28 => ?_)
    refine rf_getI X fl_X13_58 hv28 dX13_group_52 ?_
    refine rf_iload_n X rfl dX13_group_55 ?_
    refine rf_icmp_le X (tgt := 62) rfl dX13_group_56 (fun c29 => rf_pos c29 ?_) (fun c29 => rf_neg c29 ?_)
    · exact rf_go hj19 (And.intro rfl (And.intro rfl (And.intro rfl (And.intro rfl (And.intro rfl True.intro)))))
    refine rf_goto X (tgt := 93) rfl dX13_group_59 ?_
    exact rf_go (hj13 x2 x3) (And.intro rfl (And.intro rfl (And.intro rfl (And.intro rfl True.intro))))
  exact rf_go (hj1 (0 : Int32) (0 : Int32) (0 : Int32)) (And.intro rfl (And.intro rfl (And.intro rfl (And.intro rfl True.intro))))

theorem dX5_isKnown_0 : decode cX5_isKnown 0 = .ok (.aload_n 0, 1) := by decide +kernel
theorem dX5_isKnown_1 : decode cX5_isKnown 1 = .ok (.getfield 34, 3) := by decide +kernel
theorem dX5_isKnown_4 : decode cX5_isKnown 4 = .ok (.getstatic 43, 3) := by decide +kernel
theorem dX5_isKnown_7 : decode cX5_isKnown 7 = .ok (.if_acmp .eq 7, 3) := by decide +kernel
theorem dX5_isKnown_10 : decode cX5_isKnown 10 = .ok (.iconst 1, 1) := by decide +kernel
theorem dX5_isKnown_11 : decode cX5_isKnown 11 = .ok (.goto 4, 3) := by decide +kernel
theorem dX5_isKnown_14 : decode cX5_isKnown 14 = .ok (.iconst 0, 1) := by decide +kernel
theorem dX5_isKnown_15 : decode cX5_isKnown 15 = .ok (.ireturn, 1) := by decide +kernel
def fX5_isKnown (a0 : Nat) (A : AH) : Option (Int32) :=
(gR A (some a0) 5 6).bind fun v1 =>
jn (fun (y3 : Int32) =>
some (nb y3)) fun j2 =>
if v1 = (some (hA A 7)) then (j2 (0 : Int32)) else
j2 (1 : Int32)

set_option maxHeartbeats 4000000 in
set_option maxRecDepth 100000 in
theorem sX5_isKnown (l : Launch) (D : DE) (a0 : Nat) (A : AH) (g : Int32) (hg : fX5_isKnown a0 A = some g) : Sm l D yX5_isKnown cX5_isKnown 1 (some Jvm.ClassFile.FieldType.boolean) 0 0 [tR (some a0)] A (qI A g).1 (qI A g).2 := by
  refine Sm.of (ω := qI A) (fX5_isKnown a0 A) [some (tR (some a0))] (by decide) (Nat.le_of_ble_eq_true rfl) rfl hg ?_
  intro p e R s m args below meth c X hin
  have X : Cx D cX5_isKnown RX5 1 0 0 (some Jvm.ClassFile.FieldType.boolean) p R s m args meth c := X
  unfold fX5_isKnown
  refine rf_aload_n X rfl dX5_isKnown_0 ?_
  refine rf_bind (fun v1 hv1 => ?_)
  refine rf_getR X fl_X5_34 hv1 dX5_isKnown_1 ?_
  refine rf_getsR X 7 (fun D => by simp [statD]) (Or.inl q582) dX5_isKnown_4 ?_
  refine rf_jn2 (fun i => ∀ (y3 : Int32), RfX X l e below (qI A) (i y3) 15 [none] [tI y3] A) ?_ (fun j2 hj2 => ?_)
  · intro y3
    exact rf_zret X rfl dX5_isKnown_15
  refine rf_acmp_eq X (tgt := 14) rfl dX5_isKnown_7 (fun c4 => rf_pos c4 ?_) (fun c4 => rf_neg c4 ?_)
  · refine rf_iconst X (0 : Int32) rfl dX5_isKnown_14 ?_
    exact rf_go (hj2 (0 : Int32)) True.intro
  refine rf_iconst X (1 : Int32) rfl dX5_isKnown_10 ?_
  refine rf_goto X (tgt := 15) rfl dX5_isKnown_11 ?_
  exact rf_go (hj2 (1 : Int32)) True.intro

theorem dX6_isMemory_0 : decode cX6_isMemory 0 = .ok (.aload_n 0, 1) := by decide +kernel
theorem dX6_isMemory_1 : decode cX6_isMemory 1 = .ok (.getstatic 19, 3) := by decide +kernel
theorem dX6_isMemory_4 : decode cX6_isMemory 4 = .ok (.if_acmp .eq 10, 3) := by decide +kernel
theorem dX6_isMemory_7 : decode cX6_isMemory 7 = .ok (.aload_n 0, 1) := by decide +kernel
theorem dX6_isMemory_8 : decode cX6_isMemory 8 = .ok (.getstatic 22, 3) := by decide +kernel
theorem dX6_isMemory_11 : decode cX6_isMemory 11 = .ok (.if_acmp .ne 7, 3) := by decide +kernel
theorem dX6_isMemory_14 : decode cX6_isMemory 14 = .ok (.iconst 1, 1) := by decide +kernel
theorem dX6_isMemory_15 : decode cX6_isMemory 15 = .ok (.goto 4, 3) := by decide +kernel
theorem dX6_isMemory_18 : decode cX6_isMemory 18 = .ok (.iconst 0, 1) := by decide +kernel
theorem dX6_isMemory_19 : decode cX6_isMemory 19 = .ok (.ireturn, 1) := by decide +kernel
def fX6_isMemory (a0 : Nat) (A : AH) : Option (Int32) :=
jn (fun (y2 : Int32) =>
some (nb y2)) fun j1 =>
jn (j1 (1 : Int32)) fun j3 =>
if (some a0) = (some (hA A 5)) then (j3) else
if (some a0) = (some (hA A 6)) then (j3) else
j1 (0 : Int32)

set_option maxHeartbeats 4000000 in
set_option maxRecDepth 100000 in
theorem sX6_isMemory (l : Launch) (D : DE) (a0 : Nat) (A : AH) (g : Int32) (hg : fX6_isMemory a0 A = some g) : Sm l D yX6_isMemory cX6_isMemory 1 (some Jvm.ClassFile.FieldType.boolean) 0 0 [tR (some a0)] A (qI A g).1 (qI A g).2 := by
  refine Sm.of (ω := qI A) (fX6_isMemory a0 A) [some (tR (some a0))] (by decide) (Nat.le_of_ble_eq_true rfl) rfl hg ?_
  intro p e R s m args below meth c X hin
  have X : Cx D cX6_isMemory RX6 1 0 0 (some Jvm.ClassFile.FieldType.boolean) p R s m args meth c := X
  unfold fX6_isMemory
  refine rf_aload_n X rfl dX6_isMemory_0 ?_
  refine rf_getsR X 5 (fun D => by simp [statD]) (Or.inl q1269) dX6_isMemory_1 ?_
  refine rf_jn2 (fun i => ∀ (y2 : Int32), RfX X l e below (qI A) (i y2) 19 [none] [tI y2] A) ?_ (fun j1 hj1 => ?_)
  · intro y2
    exact rf_zret X rfl dX6_isMemory_19
  refine rf_jn2 (fun i => RfX X l e below (qI A) i 14 [none] [] A) ?_ (fun j3 hj3 => ?_)
  · show RfX X l e below _ _ _ _ _ _
    refine rf_iconst X (1 : Int32) rfl dX6_isMemory_14 ?_
    refine rf_goto X (tgt := 19) rfl dX6_isMemory_15 ?_
    exact rf_go (hj1 (1 : Int32)) True.intro
  refine rf_acmp_eq X (tgt := 14) rfl dX6_isMemory_4 (fun c4 => rf_pos c4 ?_) (fun c4 => rf_neg c4 ?_)
  · exact rf_go hj3 True.intro
  refine rf_aload_n X rfl dX6_isMemory_7 ?_
  refine rf_getsR X 6 (fun D => by simp [statD]) (Or.inl q1270) dX6_isMemory_8 ?_
  refine rf_acmp_ne X (tgt := 18) rfl dX6_isMemory_11 (fun c5 => rf_neg c5 ?_) (fun c5 => rf_pos c5 ?_)
  · refine rf_iconst X (0 : Int32) rfl dX6_isMemory_18 ?_
    exact rf_go (hj1 (0 : Int32)) True.intro
  exact rf_go hj3 True.intro

