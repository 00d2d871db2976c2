/-! 20.g20: printed by gen/parts.py -/
set_option maxRecDepth 100000
theorem fp_X11_220 : FL RX11 220 11 52 (.int) false := ⟨RX11, TX11, 60, tyX11, "WarpMillModel", "", rfl, by decide, in_X11, tyX11_ok, nmX11, Or.inl q1609, Or.inl rfl, rfl, rfl, fun h => by cases h⟩
theorem fp_X11_225 : FL RX11 225 11 53 (.int) false := ⟨RX11, TX11, 60, tyX11, "WarpMillModel", "", rfl, by decide, in_X11, tyX11_ok, nmX11, Or.inl q1610, Or.inl rfl, rfl, rfl, fun h => by cases h⟩
theorem fp_X11_228 : FL RX11 228 11 54 (.int) false := ⟨RX11, TX11, 60, tyX11, "WarpMillModel", "", rfl, by decide, in_X11, tyX11_ok, nmX11, Or.inl q1611, Or.inl rfl, rfl, rfl, fun h => by cases h⟩
theorem fp_X11_231 : FL RX11 231 11 55 (.int) false := ⟨RX11, TX11, 60, tyX11, "WarpMillModel", "", rfl, by decide, in_X11, tyX11_ok, nmX11, Or.inl q1612, Or.inl rfl, rfl, rfl, fun h => by cases h⟩
theorem fp_X11_234 : FL RX11 234 11 56 (.int) false := ⟨RX11, TX11, 60, tyX11, "WarpMillModel", "", rfl, by decide, in_X11, tyX11_ok, nmX11, Or.inl q1613, Or.inl rfl, rfl, rfl, fun h => by cases h⟩
theorem fp_X11_237 : FL RX11 237 11 57 (.int) false := ⟨RX11, TX11, 60, tyX11, "WarpMillModel", "", rfl, by decide, in_X11, tyX11_ok, nmX11, Or.inl q1614, Or.inl rfl, rfl, rfl, fun h => by cases h⟩
theorem fl_X11_220 : FLr RX11 220 11 52 := ⟨RX11, TX11, 60, "WarpMillModel", "", rfl, by decide, in_X11, Or.inl q1609, Or.inl rfl⟩
theorem fl_X11_237 : FLr RX11 237 11 57 := ⟨RX11, TX11, 60, "WarpMillModel", "", rfl, by decide, in_X11, Or.inl q1614, Or.inl rfl⟩
theorem c_X11_243 : CV RX11 243 11 yX11_isThere cX11_isThere 3 (some Jvm.ClassFile.FieldType.boolean) 2 := ⟨TX11, 60, rfl, q1853, q1855, qs49, q111, q1856, ⟨by decide +kernel, by decide +kernel, by decide +kernel⟩⟩
theorem c_X11_240 : CV RX11 240 11 yX11_isMemory cX11_isMemory 1 (some Jvm.ClassFile.FieldType.boolean) 0 := ⟨TX11, 60, rfl, q1861, q1863, qs51, q111, q1864, ⟨by decide +kernel, by decide +kernel, by decide +kernel⟩⟩
theorem dX11_take_0 : decode cX11_take 0 = .ok (.aload_n 0, 1) := by decide +kernel
theorem dX11_take_1 : decode cX11_take 1 = .ok (.lload_n 1, 1) := by decide +kernel
theorem dX11_take_2 : decode cX11_take 2 = .ok (.ldc2_w 218, 3) := by decide +kernel
theorem dX11_take_5 : decode cX11_take 5 = .ok (.land, 1) := by decide +kernel
theorem dX11_take_6 : decode cX11_take 6 = .ok (.l2i, 1) := by decide +kernel
theorem dX11_take_7 : decode cX11_take 7 = .ok (.putfield 220, 3) := by decide +kernel
theorem dX11_take_10 : decode cX11_take 10 = .ok (.aload_n 0, 1) := by decide +kernel
theorem dX11_take_11 : decode cX11_take 11 = .ok (.lload_n 1, 1) := by decide +kernel
theorem dX11_take_12 : decode cX11_take 12 = .ok (.bipush 8, 2) := by decide +kernel
theorem dX11_take_14 : decode cX11_take 14 = .ok (.lshr, 1) := by decide +kernel
theorem dX11_take_15 : decode cX11_take 15 = .ok (.ldc2_w 223, 3) := by decide +kernel
theorem dX11_take_18 : decode cX11_take 18 = .ok (.land, 1) := by decide +kernel
theorem dX11_take_19 : decode cX11_take 19 = .ok (.l2i, 1) := by decide +kernel
theorem dX11_take_20 : decode cX11_take 20 = .ok (.putfield 225, 3) := by decide +kernel
theorem dX11_take_23 : decode cX11_take 23 = .ok (.aload_n 0, 1) := by decide +kernel
theorem dX11_take_24 : decode cX11_take 24 = .ok (.lload_n 1, 1) := by decide +kernel
theorem dX11_take_25 : decode cX11_take 25 = .ok (.bipush 12, 2) := by decide +kernel
theorem dX11_take_27 : decode cX11_take 27 = .ok (.lshr, 1) := by decide +kernel
theorem dX11_take_28 : decode cX11_take 28 = .ok (.ldc2_w 223, 3) := by decide +kernel
theorem dX11_take_31 : decode cX11_take 31 = .ok (.land, 1) := by decide +kernel
theorem dX11_take_32 : decode cX11_take 32 = .ok (.l2i, 1) := by decide +kernel
theorem dX11_take_33 : decode cX11_take 33 = .ok (.putfield 228, 3) := by decide +kernel
theorem dX11_take_36 : decode cX11_take 36 = .ok (.aload_n 0, 1) := by decide +kernel
theorem dX11_take_37 : decode cX11_take 37 = .ok (.lload_n 1, 1) := by decide +kernel
theorem dX11_take_38 : decode cX11_take 38 = .ok (.bipush 16, 2) := by decide +kernel
theorem dX11_take_40 : decode cX11_take 40 = .ok (.lshr, 1) := by decide +kernel
theorem dX11_take_41 : decode cX11_take 41 = .ok (.ldc2_w 223, 3) := by decide +kernel
theorem dX11_take_44 : decode cX11_take 44 = .ok (.land, 1) := by decide +kernel
theorem dX11_take_45 : decode cX11_take 45 = .ok (.l2i, 1) := by decide +kernel
theorem dX11_take_46 : decode cX11_take 46 = .ok (.putfield 231, 3) := by decide +kernel
theorem dX11_take_49 : decode cX11_take 49 = .ok (.aload_n 0, 1) := by decide +kernel
theorem dX11_take_50 : decode cX11_take 50 = .ok (.lload_n 1, 1) := by decide +kernel
theorem dX11_take_51 : decode cX11_take 51 = .ok (.bipush 20, 2) := by decide +kernel
theorem dX11_take_53 : decode cX11_take 53 = .ok (.lshr, 1) := by decide +kernel
theorem dX11_take_54 : decode cX11_take 54 = .ok (.ldc2_w 223, 3) := by decide +kernel
theorem dX11_take_57 : decode cX11_take 57 = .ok (.land, 1) := by decide +kernel
theorem dX11_take_58 : decode cX11_take 58 = .ok (.l2i, 1) := by decide +kernel
theorem dX11_take_59 : decode cX11_take 59 = .ok (.putfield 234, 3) := by decide +kernel
theorem dX11_take_62 : decode cX11_take 62 = .ok (.aload_n 0, 1) := by decide +kernel
theorem dX11_take_63 : decode cX11_take 63 = .ok (.lload_n 1, 1) := by decide +kernel
theorem dX11_take_64 : decode cX11_take 64 = .ok (.bipush 32, 2) := by decide +kernel
theorem dX11_take_66 : decode cX11_take 66 = .ok (.lshr, 1) := by decide +kernel
theorem dX11_take_67 : decode cX11_take 67 = .ok (.l2i, 1) := by decide +kernel
theorem dX11_take_68 : decode cX11_take 68 = .ok (.putfield 237, 3) := by decide +kernel
theorem dX11_take_71 : decode cX11_take 71 = .ok (.return_, 1) := by decide +kernel
def fX11_take (a0 : Nat) (p1 : Int64) (A : AH) : Option (AH) :=
(pI A (some a0) 11 52 (Int64.toInt32 (p1 &&& (255 : Int64)))).bind fun A1 =>
(pI A1 (some a0) 11 53 (Int64.toInt32 ((p1 >>> (Int32.toInt64 (8 : Int32) &&& 63)) &&& (15 : Int64)))).bind fun A2 =>
(pI A2 (some a0) 11 54 (Int64.toInt32 ((p1 >>> (Int32.toInt64 (12 : Int32) &&& 63)) &&& (15 : Int64)))).bind fun A3 =>
(pI A3 (some a0) 11 55 (Int64.toInt32 ((p1 >>> (Int32.toInt64 (16 : Int32) &&& 63)) &&& (15 : Int64)))).bind fun A4 =>
(pI A4 (some a0) 11 56 (Int64.toInt32 ((p1 >>> (Int32.toInt64 (20 : Int32) &&& 63)) &&& (15 : Int64)))).bind fun A5 =>
(pI A5 (some a0) 11 57 (Int64.toInt32 (p1 >>> (Int32.toInt64 (32 : Int32) &&& 63)))).bind fun A6 =>
some A6

set_option maxHeartbeats 4000000 in
set_option maxRecDepth 100000 in
theorem sX11_take (l : Launch) (D : DE) (a0 : Nat) (p1 : Int64) (A : AH) (g : AH) (hg : fX11_take a0 p1 A = some g) : Sm l D yX11_take cX11_take 3 none 0 0 [tR (some a0), tL p1] A (wU g).1 (wU g).2 := by
  refine Sm.of (ω := wU) (fX11_take a0 p1 A) [some (tR (some a0)), some (tL p1), none] (by decide) (Nat.le_of_ble_eq_true rfl) rfl hg ?_
  intro p e R s m args below meth c X hin
  have X : Cx D cX11_take RX11 3 0 0 none p R s m args meth c := X
  unfold fX11_take
  refine rf_aload_n X rfl dX11_take_0 ?_
  refine rf_lload_n X rfl dX11_take_1 ?_
  refine rf_ldc2 X (v := (255 : Int64)) q1843 dX11_take_2 ?_
  refine rf_land X dX11_take_5 ?_
  refine rf_l2i X dX11_take_6 ?_
  refine rf_bind (fun A1 hA1 => ?_)
  refine rf_putI X fp_X11_220 (fun h => by cases h) hA1 dX11_take_7 ?_
  refine rf_aload_n X rfl dX11_take_10 ?_
  refine rf_lload_n X rfl dX11_take_11 ?_
  refine rf_bipush X (8 : Int32) rfl dX11_take_12 ?_
  refine rf_lshr X dX11_take_14 ?_
  refine rf_ldc2 X (v := (15 : Int64)) q1844 dX11_take_15 ?_
  refine rf_land X dX11_take_18 ?_
  refine rf_l2i X dX11_take_19 ?_
  refine rf_bind (fun A2 hA2 => ?_)
  refine rf_putI X fp_X11_225 (fun h => by cases h) hA2 dX11_take_20 ?_
  refine rf_aload_n X rfl dX11_take_23 ?_
  refine rf_lload_n X rfl dX11_take_24 ?_
  refine rf_bipush X (12 : Int32) rfl dX11_take_25 ?_
  refine rf_lshr X dX11_take_27 ?_
  refine rf_ldc2 X (v := (15 : Int64)) q1844 dX11_take_28 ?_
  refine rf_land X dX11_take_31 ?_
  refine rf_l2i X dX11_take_32 ?_
  refine rf_bind (fun A3 hA3 => ?_)
  refine rf_putI X fp_X11_228 (fun h => by cases h) hA3 dX11_take_33 ?_
  refine rf_aload_n X rfl dX11_take_36 ?_
  refine rf_lload_n X rfl dX11_take_37 ?_
  refine rf_bipush X (16 : Int32) rfl dX11_take_38 ?_
  refine rf_lshr X dX11_take_40 ?_
  refine rf_ldc2 X (v := (15 : Int64)) q1844 dX11_take_41 ?_
  refine rf_land X dX11_take_44 ?_
  refine rf_l2i X dX11_take_45 ?_
  refine rf_bind (fun A4 hA4 => ?_)
  refine rf_putI X fp_X11_231 (fun h => by cases h) hA4 dX11_take_46 ?_
  refine rf_aload_n X rfl dX11_take_49 ?_
  refine rf_lload_n X rfl dX11_take_50 ?_
  refine rf_bipush X (20 : Int32) rfl dX11_take_51 ?_
  refine rf_lshr X dX11_take_53 ?_
  refine rf_ldc2 X (v := (15 : Int64)) q1844 dX11_take_54 ?_
  refine rf_land X dX11_take_57 ?_
  refine rf_l2i X dX11_take_58 ?_
  refine rf_bind (fun A5 hA5 => ?_)
  refine rf_putI X fp_X11_234 (fun h => by cases h) hA5 dX11_take_59 ?_
  refine rf_aload_n X rfl dX11_take_62 ?_
  refine rf_lload_n X rfl dX11_take_63 ?_
  refine rf_bipush X (32 : Int32) rfl dX11_take_64 ?_
  refine rf_lshr X dX11_take_66 ?_
  refine rf_l2i X dX11_take_67 ?_
  refine rf_bind (fun A6 hA6 => ?_)
  refine rf_putI X fp_X11_237 (fun h => by cases h) hA6 dX11_take_68 ?_
  exact rf_vret X rfl dX11_take_71

theorem dX11_isWord_0 : decode cX11_isWord 0 = .ok (.aload_n 0, 1) := by decide +kernel
theorem dX11_isWord_1 : decode cX11_isWord 1 = .ok (.getfield 220, 3) := by decide +kernel
theorem dX11_isWord_4 : decode cX11_isWord 4 = .ok (.bipush 21, 2) := by decide +kernel
theorem dX11_isWord_6 : decode cX11_isWord 6 = .ok (.if_icmp .gt 27, 3) := by decide +kernel
theorem dX11_isWord_9 : decode cX11_isWord 9 = .ok (.aload_n 0, 1) := by decide +kernel
theorem dX11_isWord_10 : decode cX11_isWord 10 = .ok (.getfield 220, 3) := by decide +kernel
theorem dX11_isWord_13 : decode cX11_isWord 13 = .ok (.iconst 3, 1) := by decide +kernel
theorem dX11_isWord_14 : decode cX11_isWord 14 = .ok (.if_icmp .ne 91, 3) := by decide +kernel
theorem dX11_isWord_17 : decode cX11_isWord 17 = .ok (.aload_n 0, 1) := by decide +kernel
theorem dX11_isWord_18 : decode cX11_isWord 18 = .ok (.getfield 237, 3) := by decide +kernel
theorem dX11_isWord_21 : decode cX11_isWord 21 = .ok (.ifCond .lt 12, 3) := by decide +kernel
theorem dX11_isWord_24 : decode cX11_isWord 24 = .ok (.aload_n 0, 1) := by decide +kernel
theorem dX11_isWord_25 : decode cX11_isWord 25 = .ok (.getfield 237, 3) := by decide +kernel
theorem dX11_isWord_28 : decode cX11_isWord 28 = .ok (.bipush 6, 2) := by decide +kernel
theorem dX11_isWord_30 : decode cX11_isWord 30 = .ok (.if_icmp .le 75, 3) := by decide +kernel
theorem dX11_isWord_33 : decode cX11_isWord 33 = .ok (.aload_n 0, 1) := by decide +kernel
theorem dX11_isWord_34 : decode cX11_isWord 34 = .ok (.getfield 220, 3) := by decide +kernel
theorem dX11_isWord_37 : decode cX11_isWord 37 = .ok (.bipush 30, 2) := by decide +kernel
theorem dX11_isWord_39 : decode cX11_isWord 39 = .ok (.if_icmp .lt 12, 3) := by decide +kernel
theorem dX11_isWord_42 : decode cX11_isWord 42 = .ok (.aload_n 0, 1) := by decide +kernel
theorem dX11_isWord_43 : decode cX11_isWord 43 = .ok (.getfield 220, 3) := by decide +kernel
theorem dX11_isWord_46 : decode cX11_isWord 46 = .ok (.bipush 36, 2) := by decide +kernel
theorem dX11_isWord_48 : decode cX11_isWord 48 = .ok (.if_icmp .le 57, 3) := by decide +kernel
theorem dX11_isWord_51 : decode cX11_isWord 51 = .ok (.aload_n 0, 1) := by decide +kernel
theorem dX11_isWord_52 : decode cX11_isWord 52 = .ok (.getfield 220, 3) := by decide +kernel
theorem dX11_isWord_55 : decode cX11_isWord 55 = .ok (.bipush 40, 2) := by decide +kernel
theorem dX11_isWord_57 : decode cX11_isWord 57 = .ok (.if_icmp .lt 12, 3) := by decide +kernel
theorem dX11_isWord_60 : decode cX11_isWord 60 = .ok (.aload_n 0, 1) := by decide +kernel
theorem dX11_isWord_61 : decode cX11_isWord 61 = .ok (.getfield 220, 3) := by decide +kernel
theorem dX11_isWord_64 : decode cX11_isWord 64 = .ok (.bipush 42, 2) := by decide +kernel
theorem dX11_isWord_66 : decode cX11_isWord 66 = .ok (.if_icmp .le 39, 3) := by decide +kernel
theorem dX11_isWord_69 : decode cX11_isWord 69 = .ok (.aload_n 0, 1) := by decide +kernel
theorem dX11_isWord_70 : decode cX11_isWord 70 = .ok (.getfield 220, 3) := by decide +kernel
theorem dX11_isWord_73 : decode cX11_isWord 73 = .ok (.bipush 50, 2) := by decide +kernel
theorem dX11_isWord_75 : decode cX11_isWord 75 = .ok (.if_icmp .lt 12, 3) := by decide +kernel
theorem dX11_isWord_78 : decode cX11_isWord 78 = .ok (.aload_n 0, 1) := by decide +kernel
theorem dX11_isWord_79 : decode cX11_isWord 79 = .ok (.getfield 220, 3) := by decide +kernel
theorem dX11_isWord_82 : decode cX11_isWord 82 = .ok (.bipush 59, 2) := by decide +kernel
theorem dX11_isWord_84 : decode cX11_isWord 84 = .ok (.if_icmp .le 21, 3) := by decide +kernel
theorem dX11_isWord_87 : decode cX11_isWord 87 = .ok (.aload_n 0, 1) := by decide +kernel
theorem dX11_isWord_88 : decode cX11_isWord 88 = .ok (.getfield 220, 3) := by decide +kernel
theorem dX11_isWord_91 : decode cX11_isWord 91 = .ok (.bipush 70, 2) := by decide +kernel
theorem dX11_isWord_93 : decode cX11_isWord 93 = .ok (.if_icmp .lt 16, 3) := by decide +kernel
theorem dX11_isWord_96 : decode cX11_isWord 96 = .ok (.aload_n 0, 1) := by decide +kernel
theorem dX11_isWord_97 : decode cX11_isWord 97 = .ok (.getfield 220, 3) := by decide +kernel
theorem dX11_isWord_100 : decode cX11_isWord 100 = .ok (.bipush 73, 2) := by decide +kernel
theorem dX11_isWord_102 : decode cX11_isWord 102 = .ok (.if_icmp .gt 7, 3) := by decide +kernel
theorem dX11_isWord_105 : decode cX11_isWord 105 = .ok (.iconst 1, 1) := by decide +kernel
theorem dX11_isWord_106 : decode cX11_isWord 106 = .ok (.goto 4, 3) := by decide +kernel
theorem dX11_isWord_109 : decode cX11_isWord 109 = .ok (.iconst 0, 1) := by decide +kernel
theorem dX11_isWord_110 : decode cX11_isWord 110 = .ok (.ireturn, 1) := by decide +kernel
def fX11_isWord (a0 : Nat) (A : AH) : Option (Int32) :=
(gI A (some a0) 11 52).bind fun v1 =>
jn (fun (y3 : Int32) =>
some (nb y3)) fun j2 =>
jn (j2 (1 : Int32)) fun j4 =>
jn (if (((v1 < (30 : Int32)) ∨ (¬ (v1 ≤ (36 : Int32)))) ∧ (((v1 < (40 : Int32)) ∨ (¬ (v1 ≤ (42 : Int32)))) ∧ (((v1 < (50 : Int32)) ∨ (¬ (v1 ≤ (59 : Int32)))) ∧ ((v1 < (70 : Int32)) ∨ ((73 : Int32) < v1))))) then (j2 (0 : Int32)) else
j4) fun j5 =>
if (21 : Int32) < v1 then (j5) else
(gI A (some a0) 11 57).bind fun v37 =>
if ((v1 = (3 : Int32)) ∧ ((v37 < 0) ∨ (¬ (v37 ≤ (6 : Int32))))) then (j5) else
j4

set_option maxHeartbeats 4000000 in
set_option maxRecDepth 100000 in
theorem sX11_isWord (l : Launch) (D : DE) (a0 : Nat) (A : AH) (g : Int32) (hg : fX11_isWord a0 A = some g) : Sm l D yX11_isWord cX11_isWord 1 (some Jvm.ClassFile.FieldType.boolean) 0 0 [tR (some a0)] A (qI A g).1 (qI A g).2 := by
  refine Sm.of (ω := qI A) (fX11_isWord a0 A) [some (tR (some a0))] (by decide) (Nat.le_of_ble_eq_true rfl) rfl hg ?_
  intro p e R s m args below meth c X hin
  have X : Cx D cX11_isWord RX11 1 0 0 (some Jvm.ClassFile.FieldType.boolean) p R s m args meth c := X
  unfold fX11_isWord
  refine rf_aload_n X rfl dX11_isWord_0 ?_
  refine rf_bind (fun v1 hv1 => ?_)
  refine rf_getI X fl_X11_220 hv1 dX11_isWord_1 ?_
  refine rf_bipush X (21 : Int32) rfl dX11_isWord_4 ?_
  refine rf_jn2 (fun i => ∀ (y3 : Int32), RfX X l e below (qI A) (i y3) 110 [none] [tI y3] A) ?_ (fun j2 hj2 => ?_)
  · intro y3
    exact rf_zret X rfl dX11_isWord_110
  refine rf_jn2 (fun i => RfX X l e below (qI A) i 105 [none] [] A) ?_ (fun j4 hj4 => ?_)
  · show RfX X l e below _ _ _ _ _ _
    refine rf_iconst X (1 : Int32) rfl dX11_isWord_105 ?_
    refine rf_goto X (tgt := 110) rfl dX11_isWord_106 ?_
    exact rf_go (hj2 (1 : Int32)) True.intro
  refine rf_jn2 (fun i => RfX X l e below (qI A) i 33 [some (tR (some a0))] [] A) ?_ (fun j5 hj5 => ?_)
  · show RfX X l e below _ _ _ _ _ _
    refine rf_aload_n X rfl dX11_isWord_33 ?_
    refine rf_getI X fl_X11_220 hv1 dX11_isWord_34 ?_
    refine rf_bipush X (30 : Int32) rfl dX11_isWord_37 ?_
    refine rf_br 109 105 [some (tR (some a0))] [some (tR (some a0))] [] [] (fun _ => ?_) (fun _ => ?_) (fun _ jT jF => ?_)
    · refine rf_iconst X (0 : Int32) rfl dX11_isWord_109 ?_
      exact rf_go (hj2 (0 : Int32)) True.intro
    · exact rf_go hj4 True.intro
    refine rf_icmp_lt X (tgt := 51) rfl dX11_isWord_39 (fun c6 => ?_) (fun c6 => ?_)
    · refine rf_aload_n X rfl dX11_isWord_51 ?_
      refine rf_getI X fl_X11_220 hv1 dX11_isWord_52 ?_
      refine rf_bipush X (40 : Int32) rfl dX11_isWord_55 ?_
      refine rf_icmp_lt X (tgt := 69) rfl dX11_isWord_57 (fun c7 => ?_) (fun c7 => ?_)
      · refine rf_aload_n X rfl dX11_isWord_69 ?_
        refine rf_getI X fl_X11_220 hv1 dX11_isWord_70 ?_
        refine rf_bipush X (50 : Int32) rfl dX11_isWord_73 ?_
        refine rf_icmp_lt X (tgt := 87) rfl dX11_isWord_75 (fun c8 => ?_) (fun c8 => ?_)
        · refine rf_aload_n X rfl dX11_isWord_87 ?_
          refine rf_getI X fl_X11_220 hv1 dX11_isWord_88 ?_
          refine rf_bipush X (70 : Int32) rfl dX11_isWord_91 ?_
          refine rf_icmp_lt X (tgt := 109) rfl dX11_isWord_93 (fun c9 => ?_) (fun c9 => ?_)
          · exact jT ⟨(Or.inl c6), ⟨(Or.inl c7), ⟨(Or.inl c8), (Or.inl c9)⟩⟩⟩
          refine rf_aload_n X rfl dX11_isWord_96 ?_
          refine rf_getI X fl_X11_220 hv1 dX11_isWord_97 ?_
          refine rf_bipush X (73 : Int32) rfl dX11_isWord_100 ?_
          refine rf_icmp_gt X (tgt := 109) rfl dX11_isWord_102 (fun c10 => ?_) (fun c10 => ?_)
          · exact jT ⟨(Or.inl c6), ⟨(Or.inl c7), ⟨(Or.inl c8), (Or.inr c10)⟩⟩⟩
          exact jF (fun z => (fun z => (fun z => (fun z => z.elim c9 c10) z.2) z.2) z.2)
        refine rf_aload_n X rfl dX11_isWord_78 ?_
        refine rf_getI X fl_X11_220 hv1 dX11_isWord_79 ?_
        refine rf_bipush X (59 : Int32) rfl dX11_isWord_82 ?_
        refine rf_icmp_le X (tgt := 105) rfl dX11_isWord_84 (fun c11 => ?_) (fun c11 => ?_)
        · exact jF (fun z => (fun z => (fun z => (fun z => z.elim c8 (fun z => z c11)) z.1) z.2) z.2)
        refine rf_aload_n X rfl dX11_isWord_87 ?_
        refine rf_getI X fl_X11_220 hv1 dX11_isWord_88 ?_
        refine rf_bipush X (70 : Int32) rfl dX11_isWord_91 ?_
        refine rf_icmp_lt X (tgt := 109) rfl dX11_isWord_93 (fun c12 => ?_) (fun c12 => ?_)
        · exact jT ⟨(Or.inl c6), ⟨(Or.inl c7), ⟨(Or.inr c11), (Or.inl c12)⟩⟩⟩
        refine rf_aload_n X rfl dX11_isWord_96 ?_
        refine rf_getI X fl_X11_220 hv1 dX11_isWord_97 ?_
        refine rf_bipush X (73 : Int32) rfl dX11_isWord_100 ?_
        refine rf_icmp_gt X (tgt := 109) rfl dX11_isWord_102 (fun c13 => ?_) (fun c13 => ?_)
        · exact jT ⟨(Or.inl c6), ⟨(Or.inl c7), ⟨(Or.inr c11), (Or.inr c13)⟩⟩⟩
        exact jF (fun z => (fun z => (fun z => (fun z => z.elim c12 c13) z.2) z.2) z.2)
      refine rf_aload_n X rfl dX11_isWord_60 ?_
      refine rf_getI X fl_X11_220 hv1 dX11_isWord_61 ?_
      refine rf_bipush X (42 : Int32) rfl dX11_isWord_64 ?_
      refine rf_icmp_le X (tgt := 105) rfl dX11_isWord_66 (fun c14 => ?_) (fun c14 => ?_)
      · exact jF (fun z => (fun z => (fun z => z.elim c7 (fun z => z c14)) z.1) z.2)
      refine rf_aload_n X rfl dX11_isWord_69 ?_
      refine rf_getI X fl_X11_220 hv1 dX11_isWord_70 ?_
      refine rf_bipush X (50 : Int32) rfl dX11_isWord_73 ?_
      refine rf_icmp_lt X (tgt := 87) rfl dX11_isWord_75 (fun c15 => ?_) (fun c15 => ?_)
      · refine rf_aload_n X rfl dX11_isWord_87 ?_
        refine rf_getI X fl_X11_220 hv1 dX11_isWord_88 ?_
        refine rf_bipush X (70 : Int32) rfl dX11_isWord_91 ?_
        refine rf_icmp_lt X (tgt := 109) rfl dX11_isWord_93 (fun c16 => ?_) (fun c16 => ?_)
        · exact jT ⟨(Or.inl c6), ⟨(Or.inr c14), ⟨(Or.inl c15), (Or.inl c16)⟩⟩⟩
        refine rf_aload_n X rfl dX11_isWord_96 ?_
        refine rf_getI X fl_X11_220 hv1 dX11_isWord_97 ?_
        refine rf_bipush X (73 : Int32) rfl dX11_isWord_100 ?_
        refine rf_icmp_gt X (tgt := 109) rfl dX11_isWord_102 (fun c17 => ?_) (fun c17 => ?_)
        · exact jT ⟨(Or.inl c6), ⟨(Or.inr c14), ⟨(Or.inl c15), (Or.inr c17)⟩⟩⟩
        exact jF (fun z => (fun z => (fun z => (fun z => z.elim c16 c17) z.2) z.2) z.2)
      refine rf_aload_n X rfl dX11_isWord_78 ?_
      refine rf_getI X fl_X11_220 hv1 dX11_isWord_79 ?_
      refine rf_bipush X (59 : Int32) rfl dX11_isWord_82 ?_
      refine rf_icmp_le X (tgt := 105) rfl dX11_isWord_84 (fun c18 => ?_) (fun c18 => ?_)
      · exact jF (fun z => (fun z => (fun z => (fun z => z.elim c15 (fun z => z c18)) z.1) z.2) z.2)
      refine rf_aload_n X rfl dX11_isWord_87 ?_
      refine rf_getI X fl_X11_220 hv1 dX11_isWord_88 ?_
      refine rf_bipush X (70 : Int32) rfl dX11_isWord_91 ?_
      refine rf_icmp_lt X (tgt := 109) rfl dX11_isWord_93 (fun c19 => ?_) (fun c19 => ?_)
      · exact jT ⟨(Or.inl c6), ⟨(Or.inr c14), ⟨(Or.inr c18), (Or.inl c19)⟩⟩⟩
      refine rf_aload_n X rfl dX11_isWord_96 ?_
      refine rf_getI X fl_X11_220 hv1 dX11_isWord_97 ?_
      refine rf_bipush X (73 : Int32) rfl dX11_isWord_100 ?_
      refine rf_icmp_gt X (tgt := 109) rfl dX11_isWord_102 (fun c20 => ?_) (fun c20 => ?_)
      · exact jT ⟨(Or.inl c6), ⟨(Or.inr c14), ⟨(Or.inr c18), (Or.inr c20)⟩⟩⟩
      exact jF (fun z => (fun z => (fun z => (fun z => z.elim c19 c20) z.2) z.2) z.2)
    refine rf_aload_n X rfl dX11_isWord_42 ?_
    refine rf_getI X fl_X11_220 hv1 dX11_isWord_43 ?_
    refine rf_bipush X (36 : Int32) rfl dX11_isWord_46 ?_
    refine rf_icmp_le X (tgt := 105) rfl dX11_isWord_48 (fun c21 => ?_) (fun c21 => ?_)
    · exact jF (fun z => (fun z => z.elim c6 (fun z => z c21)) z.1)
    refine rf_aload_n X rfl dX11_isWord_51 ?_
    refine rf_getI X fl_X11_220 hv1 dX11_isWord_52 ?_
    refine rf_bipush X (40 : Int32) rfl dX11_isWord_55 ?_
    refine rf_icmp_lt X (tgt := 69) rfl dX11_isWord_57 (fun c22 => ?_) (fun c22 => ?_)
    · refine rf_aload_n X rfl dX11_isWord_69 ?_
      refine rf_getI X fl_X11_220 hv1 dX11_isWord_70 ?_
      refine rf_bipush X (50 : Int32) rfl dX11_isWord_73 ?_
      refine rf_icmp_lt X (tgt := 87) rfl dX11_isWord_75 (fun c23 => ?_) (fun c23 => ?_)
      · refine rf_aload_n X rfl dX11_isWord_87 ?_
        refine rf_getI X fl_X11_220 hv1 dX11_isWord_88 ?_
        refine rf_bipush X (70 : Int32) rfl dX11_isWord_91 ?_
        refine rf_icmp_lt X (tgt := 109) rfl dX11_isWord_93 (fun c24 => ?_) (fun c24 => ?_)
        · exact jT ⟨(Or.inr c21), ⟨(Or.inl c22), ⟨(Or.inl c23), (Or.inl c24)⟩⟩⟩
        refine rf_aload_n X rfl dX11_isWord_96 ?_
        refine rf_getI X fl_X11_220 hv1 dX11_isWord_97 ?_
        refine rf_bipush X (73 : Int32) rfl dX11_isWord_100 ?_
        refine rf_icmp_gt X (tgt := 109) rfl dX11_isWord_102 (fun c25 => ?_) (fun c25 => ?_)
        · exact jT ⟨(Or.inr c21), ⟨(Or.inl c22), ⟨(Or.inl c23), (Or.inr c25)⟩⟩⟩
        exact jF (fun z => (fun z => (fun z => (fun z => z.elim c24 c25) z.2) z.2) z.2)
      refine rf_aload_n X rfl dX11_isWord_78 ?_
      refine rf_getI X fl_X11_220 hv1 dX11_isWord_79 ?_
      refine rf_bipush X (59 : Int32) rfl dX11_isWord_82 ?_
      refine rf_icmp_le X (tgt := 105) rfl dX11_isWord_84 (fun c26 => ?_) (fun c26 => ?_)
      · exact jF (fun z => (fun z => (fun z => (fun z => z.elim c23 (fun z => z c26)) z.1) z.2) z.2)
      refine rf_aload_n X rfl dX11_isWord_87 ?_
      refine rf_getI X fl_X11_220 hv1 dX11_isWord_88 ?_
      refine rf_bipush X (70 : Int32) rfl dX11_isWord_91 ?_
      refine rf_icmp_lt X (tgt := 109) rfl dX11_isWord_93 (fun c27 => ?_) (fun c27 => ?_)
      · exact jT ⟨(Or.inr c21), ⟨(Or.inl c22), ⟨(Or.inr c26), (Or.inl c27)⟩⟩⟩
      refine rf_aload_n X rfl dX11_isWord_96 ?_
      refine rf_getI X fl_X11_220 hv1 dX11_isWord_97 ?_
      refine rf_bipush X (73 : Int32) rfl dX11_isWord_100 ?_
      refine rf_icmp_gt X (tgt := 109) rfl dX11_isWord_102 (fun c28 => ?_) (fun c28 => ?_)
      · exact jT ⟨(Or.inr c21), ⟨(Or.inl c22), ⟨(Or.inr c26), (Or.inr c28)⟩⟩⟩
      exact jF (fun z => (fun z => (fun z => (fun z => z.elim c27 c28) z.2) z.2) z.2)
    refine rf_aload_n X rfl dX11_isWord_60 ?_
    refine rf_getI X fl_X11_220 hv1 dX11_isWord_61 ?_
    refine rf_bipush X (42 : Int32) rfl dX11_isWord_64 ?_
    refine rf_icmp_le X (tgt := 105) rfl dX11_isWord_66 (fun c29 => ?_) (fun c29 => ?_)
    · exact jF (fun z => (fun z => (fun z => z.elim c22 (fun z => z c29)) z.1) z.2)
    refine rf_aload_n X rfl dX11_isWord_69 ?_
    refine rf_getI X fl_X11_220 hv1 dX11_isWord_70 ?_
    refine rf_bipush X (50 : Int32) rfl dX11_isWord_73 ?_
    refine rf_icmp_lt X (tgt := 87) rfl dX11_isWord_75 (fun c30 => ?_) (fun c30 => ?_)
    · refine rf_aload_n X rfl dX11_isWord_87 ?_
      refine rf_getI X fl_X11_220 hv1 dX11_isWord_88 ?_
      refine rf_bipush X (70 : Int32) rfl dX11_isWord_91 ?_
      refine rf_icmp_lt X (tgt := 109) rfl dX11_isWord_93 (fun c31 => ?_) (fun c31 => ?_)
      · exact jT ⟨(Or.inr c21), ⟨(Or.inr c29), ⟨(Or.inl c30), (Or.inl c31)⟩⟩⟩
      refine rf_aload_n X rfl dX11_isWord_96 ?_
      refine rf_getI X fl_X11_220 hv1 dX11_isWord_97 ?_
      refine rf_bipush X (73 : Int32) rfl dX11_isWord_100 ?_
      refine rf_icmp_gt X (tgt := 109) rfl dX11_isWord_102 (fun c32 => ?_) (fun c32 => ?_)
      · exact jT ⟨(Or.inr c21), ⟨(Or.inr c29), ⟨(Or.inl c30), (Or.inr c32)⟩⟩⟩
      exact jF (fun z => (fun z => (fun z => (fun z => z.elim c31 c32) z.2) z.2) z.2)
    refine rf_aload_n X rfl dX11_isWord_78 ?_
    refine rf_getI X fl_X11_220 hv1 dX11_isWord_79 ?_
    refine rf_bipush X (59 : Int32) rfl dX11_isWord_82 ?_
    refine rf_icmp_le X (tgt := 105) rfl dX11_isWord_84 (fun c33 => ?_) (fun c33 => ?_)
    · exact jF (fun z => (fun z => (fun z => (fun z => z.elim c30 (fun z => z c33)) z.1) z.2) z.2)
    refine rf_aload_n X rfl dX11_isWord_87 ?_
    refine rf_getI X fl_X11_220 hv1 dX11_isWord_88 ?_
    refine rf_bipush X (70 : Int32) rfl dX11_isWord_91 ?_
    refine rf_icmp_lt X (tgt := 109) rfl dX11_isWord_93 (fun c34 => ?_) (fun c34 => ?_)
    · exact jT ⟨(Or.inr c21), ⟨(Or.inr c29), ⟨(Or.inr c33), (Or.inl c34)⟩⟩⟩
    refine rf_aload_n X rfl dX11_isWord_96 ?_
    refine rf_getI X fl_X11_220 hv1 dX11_isWord_97 ?_
    refine rf_bipush X (73 : Int32) rfl dX11_isWord_100 ?_
    refine rf_icmp_gt X (tgt := 109) rfl dX11_isWord_102 (fun c35 => ?_) (fun c35 => ?_)
    · exact jT ⟨(Or.inr c21), ⟨(Or.inr c29), ⟨(Or.inr c33), (Or.inr c35)⟩⟩⟩
    exact jF (fun z => (fun z => (fun z => (fun z => z.elim c34 c35) z.2) z.2) z.2)
  refine rf_icmp_gt X (tgt := 33) rfl dX11_isWord_6 (fun c36 => rf_pos c36 ?_) (fun c36 => rf_neg c36 ?_)
  · exact rf_go hj5 (And.intro rfl True.intro)
  refine rf_aload_n X rfl dX11_isWord_9 ?_
  refine rf_getI X fl_X11_220 hv1 dX11_isWord_10 ?_
  refine rf_iconst X (3 : Int32) rfl dX11_isWord_13 ?_
  refine rf_bind (fun v37 hv37 => ?_)
  refine rf_br 33 105 [some (tR (some a0))] [some (tR (some a0))] [] [] (fun _ => ?_) (fun _ => ?_) (fun _ jT jF => ?_)
  · exact rf_go hj5 (And.intro rfl True.intro)
  · exact rf_go hj4 True.intro
  refine rf_icmp_ne X (tgt := 105) rfl dX11_isWord_14 (fun c38 => ?_) (fun c38 => ?_)
  · exact jF (fun z => c38 z.1)
  refine rf_aload_n X rfl dX11_isWord_17 ?_
  refine rf_getI X fl_X11_237 hv37 dX11_isWord_18 ?_
  refine rf_if_lt X (tgt := 33) rfl dX11_isWord_21 (fun c39 => ?_) (fun c39 => ?_)
  · exact jT ⟨c38, (Or.inl c39)⟩
  refine rf_aload_n X rfl dX11_isWord_24 ?_
  refine rf_getI X fl_X11_237 hv37 dX11_isWord_25 ?_
  refine rf_bipush X (6 : Int32) rfl dX11_isWord_28 ?_
  refine rf_icmp_le X (tgt := 105) rfl dX11_isWord_30 (fun c40 => ?_) (fun c40 => ?_)
  · exact jF (fun z => (fun z => z.elim c39 (fun z => z c40)) z.2)
  exact jT ⟨c38, (Or.inr c40)⟩

theorem dX11_isThere_0 : decode cX11_isThere 0 = .ok (.aload_n 0, 1) := by decide +kernel
theorem dX11_isThere_1 : decode cX11_isThere 1 = .ok (.getfield 63, 3) := by decide +kernel
theorem dX11_isThere_4 : decode cX11_isThere 4 = .ok (.bipush 20, 2) := by decide +kernel
theorem dX11_isThere_6 : decode cX11_isThere 6 = .ok (.iload_n 1, 1) := by decide +kernel
theorem dX11_isThere_7 : decode cX11_isThere 7 = .ok (.imul, 1) := by decide +kernel
theorem dX11_isThere_8 : decode cX11_isThere 8 = .ok (.iload_n 2, 1) := by decide +kernel
theorem dX11_isThere_9 : decode cX11_isThere 9 = .ok (.iadd, 1) := by decide +kernel
theorem dX11_isThere_10 : decode cX11_isThere 10 = .ok (.iaload, 1) := by decide +kernel
theorem dX11_isThere_11 : decode cX11_isThere 11 = .ok (.aload_n 0, 1) := by decide +kernel
theorem dX11_isThere_12 : decode cX11_isThere 12 = .ok (.getfield 159, 3) := by decide +kernel
theorem dX11_isThere_15 : decode cX11_isThere 15 = .ok (.if_icmp .gt 7, 3) := by decide +kernel
theorem dX11_isThere_18 : decode cX11_isThere 18 = .ok (.iconst 1, 1) := by decide +kernel
theorem dX11_isThere_19 : decode cX11_isThere 19 = .ok (.goto 4, 3) := by decide +kernel
theorem dX11_isThere_22 : decode cX11_isThere 22 = .ok (.iconst 0, 1) := by decide +kernel
theorem dX11_isThere_23 : decode cX11_isThere 23 = .ok (.ireturn, 1) := by decide +kernel
def fX11_isThere (a0 : Nat) (p1 : Int32) (p2 : Int32) (A : AH) : Option (Int32) :=
(gR A (some a0) 11 34).bind fun v1 =>
(aI A v1 (((20 : Int32) * p1) + p2)).bind fun v2 =>
(gI A (some a0) 11 15).bind fun v3 =>
jn (fun (y5 : Int32) =>
some (nb y5)) fun j4 =>
if v3 < v2 then (j4 (0 : Int32)) else
j4 (1 : Int32)

set_option maxHeartbeats 4000000 in
set_option maxRecDepth 100000 in
theorem sX11_isThere (l : Launch) (D : DE) (a0 : Nat) (p1 : Int32) (p2 : Int32) (A : AH) (g : Int32) (hg : fX11_isThere a0 p1 p2 A = some g) : Sm l D yX11_isThere cX11_isThere 3 (some Jvm.ClassFile.FieldType.boolean) 0 0 [tR (some a0), tI p1, tI p2] A (qI A g).1 (qI A g).2 := by
  refine Sm.of (ω := qI A) (fX11_isThere a0 p1 p2 A) [some (tR (some a0)), some (tI p1), some (tI p2)] (by decide) (Nat.le_of_ble_eq_true rfl) rfl hg ?_
  intro p e R s m args below meth c X hin
  have X : Cx D cX11_isThere RX11 3 0 0 (some Jvm.ClassFile.FieldType.boolean) p R s m args meth c := X
  unfold fX11_isThere
  refine rf_aload_n X rfl dX11_isThere_0 ?_
  refine rf_bind (fun v1 hv1 => ?_)
  refine rf_getR X fl_X11_63 hv1 dX11_isThere_1 ?_
  refine rf_bipush X (20 : Int32) rfl dX11_isThere_4 ?_
  refine rf_iload_n X rfl dX11_isThere_6 ?_
  refine rf_imul X dX11_isThere_7 ?_
  refine rf_iload_n X rfl dX11_isThere_8 ?_
  refine rf_iadd X dX11_isThere_9 ?_
  refine rf_bind (fun v2 hv2 => ?_)
  refine rf_iald X hv2 dX11_isThere_10 ?_
  refine rf_aload_n X rfl dX11_isThere_11 ?_
  refine rf_bind (fun v3 hv3 => ?_)
  refine rf_getI X fl_X11_159 hv3 dX11_isThere_12 ?_
  refine rf_jn2 (fun i => ∀ (y5 : Int32), RfX X l e below (qI A) (i y5) 23 [none, none, none] [tI y5] A) ?_ (fun j4 hj4 => ?_)
  · intro y5
    exact rf_zret X rfl dX11_isThere_23
  refine rf_icmp_gt X (tgt := 22) rfl dX11_isThere_15 (fun c6 => rf_pos c6 ?_) (fun c6 => rf_neg c6 ?_)
  · refine rf_iconst X (0 : Int32) rfl dX11_isThere_22 ?_
    exact rf_go (hj4 (0 : Int32)) True.intro
  refine rf_iconst X (1 : Int32) rfl dX11_isThere_18 ?_
  refine rf_goto X (tgt := 23) rfl dX11_isThere_19 ?_
  exact rf_go (hj4 (1 : Int32)) True.intro

theorem dX11_isPredicateThere_0 : decode cX11_isPredicateThere 0 = .ok (.aload_n 0, 1) := by decide +kernel
theorem dX11_isPredicateThere_1 : decode cX11_isPredicateThere 1 = .ok (.iload_n 1, 1) := by decide +kernel
theorem dX11_isPredicateThere_2 : decode cX11_isPredicateThere 2 = .ok (.bipush 16, 2) := by decide +kernel
theorem dX11_isPredicateThere_4 : decode cX11_isPredicateThere 4 = .ok (.iload_n 2, 1) := by decide +kernel
theorem dX11_isPredicateThere_5 : decode cX11_isPredicateThere 5 = .ok (.iconst 3, 1) := by decide +kernel
theorem dX11_isPredicateThere_6 : decode cX11_isPredicateThere 6 = .ok (.iand, 1) := by decide +kernel
theorem dX11_isPredicateThere_7 : decode cX11_isPredicateThere 7 = .ok (.iadd, 1) := by decide +kernel
theorem dX11_isPredicateThere_8 : decode cX11_isPredicateThere 8 = .ok (.invokevirtual 243, 3) := by decide +kernel
theorem dX11_isPredicateThere_11 : decode cX11_isPredicateThere 11 = .ok (.ireturn, 1) := by decide +kernel
def fX11_isPredicateThere (a0 : Nat) (p1 : Int32) (p2 : Int32) (A : AH) : Option (Int32) :=
(rcv A (some a0) 11).bind fun v1 =>
(fX11_isThere v1 p1 ((16 : Int32) + (p2 &&& (3 : Int32))) A).bind fun g2 =>
some (nb g2)

set_option maxHeartbeats 4000000 in
set_option maxRecDepth 100000 in
theorem sX11_isPredicateThere (l : Launch) (D : DE) (a0 : Nat) (p1 : Int32) (p2 : Int32) (A : AH) (g : Int32) (hg : fX11_isPredicateThere a0 p1 p2 A = some g) : Sm l D yX11_isPredicateThere cX11_isPredicateThere 3 (some Jvm.ClassFile.FieldType.boolean) 1 22 [tR (some a0), tI p1, tI p2] A (qI A g).1 (qI A g).2 := by
  refine Sm.of (ω := qI A) (fX11_isPredicateThere a0 p1 p2 A) [some (tR (some a0)), some (tI p1), some (tI p2)] (by decide) (Nat.le_of_ble_eq_true rfl) rfl hg ?_
  intro p e R s m args below meth c X hin
  have X : Cx D cX11_isPredicateThere RX11 3 1 22 (some Jvm.ClassFile.FieldType.boolean) p R s m args meth c := X
  unfold fX11_isPredicateThere
  refine rf_aload_n X rfl dX11_isPredicateThere_0 ?_
  refine rf_iload_n X rfl dX11_isPredicateThere_1 ?_
  refine rf_bipush X (16 : Int32) rfl dX11_isPredicateThere_2 ?_
  refine rf_iload_n X rfl dX11_isPredicateThere_4 ?_
  refine rf_iconst X (3 : Int32) rfl dX11_isPredicateThere_5 ?_
  refine rf_iand X dX11_isPredicateThere_6 ?_
  refine rf_iadd X dX11_isPredicateThere_7 ?_
  refine rf_bind (fun v1 hv1 => ?_)
  refine rf_bind (fun g2 hg2 => ?_)
  refine rf_callVI X c_X11_243 ⟨Nat.le_of_ble_eq_true rfl, Nat.le_of_ble_eq_true rfl⟩ [tI p1, tI ((16 : Int32) + (p2 &&& (3 : Int32)))] rfl (Nat.le_of_ble_eq_true rfl) hv1 (sX11_isThere l D v1 p1 ((16 : Int32) + (p2 &&& (3 : Int32))) A g2 hg2) dX11_isPredicateThere_8 ?_
  exact rf_zret X rfl dX11_isPredicateThere_11

theorem dX11_isMemory_0 : decode cX11_isMemory 0 = .ok (.aload_n 0, 1) := by decide +kernel
theorem dX11_isMemory_1 : decode cX11_isMemory 1 = .ok (.getfield 220, 3) := by decide +kernel
theorem dX11_isMemory_4 : decode cX11_isMemory 4 = .ok (.bipush 50, 2) := by decide +kernel
theorem dX11_isMemory_6 : decode cX11_isMemory 6 = .ok (.if_icmp .lt 16, 3) := by decide +kernel
theorem dX11_isMemory_9 : decode cX11_isMemory 9 = .ok (.aload_n 0, 1) := by decide +kernel
theorem dX11_isMemory_10 : decode cX11_isMemory 10 = .ok (.getfield 220, 3) := by decide +kernel
theorem dX11_isMemory_13 : decode cX11_isMemory 13 = .ok (.bipush 59, 2) := by decide +kernel
theorem dX11_isMemory_15 : decode cX11_isMemory 15 = .ok (.if_icmp .gt 7, 3) := by decide +kernel
theorem dX11_isMemory_18 : decode cX11_isMemory 18 = .ok (.iconst 1, 1) := by decide +kernel
theorem dX11_isMemory_19 : decode cX11_isMemory 19 = .ok (.goto 4, 3) := by decide +kernel
theorem dX11_isMemory_22 : decode cX11_isMemory 22 = .ok (.iconst 0, 1) := by decide +kernel
theorem dX11_isMemory_23 : decode cX11_isMemory 23 = .ok (.ireturn, 1) := by decide +kernel
def fX11_isMemory (a0 : Nat) (A : AH) : Option (Int32) :=
(gI A (some a0) 11 52).bind fun v1 =>
jn (fun (y3 : Int32) =>
some (nb y3)) fun j2 =>
if ((v1 < (50 : Int32)) ∨ ((59 : Int32) < v1)) then (j2 (0 : Int32)) else
j2 (1 : Int32)

set_option maxHeartbeats 4000000 in
set_option maxRecDepth 100000 in
theorem sX11_isMemory (l : Launch) (D : DE) (a0 : Nat) (A : AH) (g : Int32) (hg : fX11_isMemory a0 A = some g) : Sm l D yX11_isMemory cX11_isMemory 1 (some Jvm.ClassFile.FieldType.boolean) 0 0 [tR (some a0)] A (qI A g).1 (qI A g).2 := by
  refine Sm.of (ω := qI A) (fX11_isMemory a0 A) [some (tR (some a0))] (by decide) (Nat.le_of_ble_eq_true rfl) rfl hg ?_
  intro p e R s m args below meth c X hin
  have X : Cx D cX11_isMemory RX11 1 0 0 (some Jvm.ClassFile.FieldType.boolean) p R s m args meth c := X
  unfold fX11_isMemory
  refine rf_aload_n X rfl dX11_isMemory_0 ?_
  refine rf_bind (fun v1 hv1 => ?_)
  refine rf_getI X fl_X11_220 hv1 dX11_isMemory_1 ?_
  refine rf_bipush X (50 : Int32) rfl dX11_isMemory_4 ?_
  refine rf_jn2 (fun i => ∀ (y3 : Int32), RfX X l e below (qI A) (i y3) 23 [none] [tI y3] A) ?_ (fun j2 hj2 => ?_)
  · intro y3
    exact rf_zret X rfl dX11_isMemory_23
  refine rf_br 22 18 [some (tR (some a0))] [some (tR (some a0))] [] [] (fun _ => ?_) (fun _ => ?_) (fun _ jT jF => ?_)
  · refine rf_iconst X (0 : Int32) rfl dX11_isMemory_22 ?_
    exact rf_go (hj2 (0 : Int32)) True.intro
  · refine rf_iconst X (1 : Int32) rfl dX11_isMemory_18 ?_
    refine rf_goto X (tgt := 23) rfl dX11_isMemory_19 ?_
    exact rf_go (hj2 (1 : Int32)) True.intro
  refine rf_icmp_lt X (tgt := 22) rfl dX11_isMemory_6 (fun c4 => ?_) (fun c4 => ?_)
  · exact jT (Or.inl c4)
  refine rf_aload_n X rfl dX11_isMemory_9 ?_
  refine rf_getI X fl_X11_220 hv1 dX11_isMemory_10 ?_
  refine rf_bipush X (59 : Int32) rfl dX11_isMemory_13 ?_
  refine rf_icmp_gt X (tgt := 22) rfl dX11_isMemory_15 (fun c5 => ?_) (fun c5 => ?_)
  · exact jT (Or.inr c5)
  exact jF (fun z => z.elim c4 c5)

theorem dX11_readsA_0 : decode cX11_readsA 0 = .ok (.aload_n 0, 1) := by decide +kernel
theorem dX11_readsA_1 : decode cX11_readsA 1 = .ok (.getfield 220, 3) := by decide +kernel
theorem dX11_readsA_4 : decode cX11_readsA 4 = .ok (.iconst 4, 1) := by decide +kernel
theorem dX11_readsA_5 : decode cX11_readsA 5 = .ok (.if_icmp .lt 12, 3) := by decide +kernel
theorem dX11_readsA_8 : decode cX11_readsA 8 = .ok (.aload_n 0, 1) := by decide +kernel
theorem dX11_readsA_9 : decode cX11_readsA 9 = .ok (.getfield 220, 3) := by decide +kernel
theorem dX11_readsA_12 : decode cX11_readsA 12 = .ok (.bipush 21, 2) := by decide +kernel
theorem dX11_readsA_14 : decode cX11_readsA 14 = .ok (.if_icmp .le 46, 3) := by decide +kernel
theorem dX11_readsA_17 : decode cX11_readsA 17 = .ok (.aload_n 0, 1) := by decide +kernel
theorem dX11_readsA_18 : decode cX11_readsA 18 = .ok (.getfield 220, 3) := by decide +kernel
theorem dX11_readsA_21 : decode cX11_readsA 21 = .ok (.bipush 30, 2) := by decide +kernel
theorem dX11_readsA_23 : decode cX11_readsA 23 = .ok (.if_icmp .lt 12, 3) := by decide +kernel
theorem dX11_readsA_26 : decode cX11_readsA 26 = .ok (.aload_n 0, 1) := by decide +kernel
theorem dX11_readsA_27 : decode cX11_readsA 27 = .ok (.getfield 220, 3) := by decide +kernel
theorem dX11_readsA_30 : decode cX11_readsA 30 = .ok (.bipush 33, 2) := by decide +kernel
theorem dX11_readsA_32 : decode cX11_readsA 32 = .ok (.if_icmp .le 28, 3) := by decide +kernel
theorem dX11_readsA_35 : decode cX11_readsA 35 = .ok (.aload_n 0, 1) := by decide +kernel
theorem dX11_readsA_36 : decode cX11_readsA 36 = .ok (.getfield 220, 3) := by decide +kernel
theorem dX11_readsA_39 : decode cX11_readsA 39 = .ok (.bipush 42, 2) := by decide +kernel
theorem dX11_readsA_41 : decode cX11_readsA 41 = .ok (.if_icmp .eq 19, 3) := by decide +kernel
theorem dX11_readsA_44 : decode cX11_readsA 44 = .ok (.aload_n 0, 1) := by decide +kernel
theorem dX11_readsA_45 : decode cX11_readsA 45 = .ok (.invokevirtual 240, 3) := by decide +kernel
theorem dX11_readsA_48 : decode cX11_readsA 48 = .ok (.ifCond .ne 12, 3) := by decide +kernel
theorem dX11_readsA_51 : decode cX11_readsA 51 = .ok (.aload_n 0, 1) := by decide +kernel
theorem dX11_readsA_52 : decode cX11_readsA 52 = .ok (.getfield 220, 3) := by decide +kernel
theorem dX11_readsA_55 : decode cX11_readsA 55 = .ok (.bipush 73, 2) := by decide +kernel
theorem dX11_readsA_57 : decode cX11_readsA 57 = .ok (.if_icmp .ne 7, 3) := by decide +kernel
theorem dX11_readsA_60 : decode cX11_readsA 60 = .ok (.iconst 1, 1) := by decide +kernel
theorem dX11_readsA_61 : decode cX11_readsA 61 = .ok (.goto 4, 3) := by decide +kernel
theorem dX11_readsA_64 : decode cX11_readsA 64 = .ok (.iconst 0, 1) := by decide +kernel
theorem dX11_readsA_65 : decode cX11_readsA 65 = .ok (.ireturn, 1) := by decide +kernel
def fX11_readsA (a0 : Nat) (A : AH) : Option (Int32) :=
(gI A (some a0) 11 52).bind fun v1 =>
jn (fun (y3 : Int32) =>
some (nb y3)) fun j2 =>
jn (j2 (1 : Int32)) fun j4 =>
if (((v1 < (4 : Int32)) ∨ (¬ (v1 ≤ (21 : Int32)))) ∧ (((v1 < (30 : Int32)) ∨ (¬ (v1 ≤ (33 : Int32)))) ∧ (¬ (v1 = (42 : Int32))))) then ((rcv A (some a0) 11).bind fun v5 =>
(fX11_isMemory v5 A).bind fun g6 =>
if ((g6 = 0) ∧ (¬ (v1 = (73 : Int32)))) then (j2 (0 : Int32)) else
j4) else
j4

set_option maxHeartbeats 4000000 in
set_option maxRecDepth 100000 in
theorem sX11_readsA (l : Launch) (D : DE) (a0 : Nat) (A : AH) (g : Int32) (hg : fX11_readsA a0 A = some g) : Sm l D yX11_readsA cX11_readsA 1 (some Jvm.ClassFile.FieldType.boolean) 1 20 [tR (some a0)] A (qI A g).1 (qI A g).2 := by
  refine Sm.of (ω := qI A) (fX11_readsA a0 A) [some (tR (some a0))] (by decide) (Nat.le_of_ble_eq_true rfl) rfl hg ?_
  intro p e R s m args below meth c X hin
  have X : Cx D cX11_readsA RX11 1 1 20 (some Jvm.ClassFile.FieldType.boolean) p R s m args meth c := X
  unfold fX11_readsA
  refine rf_aload_n X rfl dX11_readsA_0 ?_
  refine rf_bind (fun v1 hv1 => ?_)
  refine rf_getI X fl_X11_220 hv1 dX11_readsA_1 ?_
  refine rf_iconst X (4 : Int32) rfl dX11_readsA_4 ?_
  refine rf_jn2 (fun i => ∀ (y3 : Int32), RfX X l e below (qI A) (i y3) 65 [none] [tI y3] A) ?_ (fun j2 hj2 => ?_)
  · intro y3
    exact rf_zret X rfl dX11_readsA_65
  refine rf_jn2 (fun i => RfX X l e below (qI A) i 60 [none] [] A) ?_ (fun j4 hj4 => ?_)
  · show RfX X l e below _ _ _ _ _ _
    refine rf_iconst X (1 : Int32) rfl dX11_readsA_60 ?_
    refine rf_goto X (tgt := 65) rfl dX11_readsA_61 ?_
    exact rf_go (hj2 (1 : Int32)) True.intro
  refine rf_br 44 60 [some (tR (some a0))] [some (tR (some a0))] [] [] (fun _ => ?_) (fun _ => ?_) (fun _ jT jF => ?_)
  · refine rf_aload_n X rfl dX11_readsA_44 ?_
    refine rf_bind (fun v5 hv5 => ?_)
    refine rf_bind (fun g6 hg6 => ?_)
    refine rf_callVI X c_X11_240 ⟨Nat.le_of_ble_eq_true rfl, Nat.le_of_ble_eq_true rfl⟩ [] rfl (Nat.le_of_ble_eq_true rfl) hv5 (sX11_isMemory l D v5 A g6 hg6) dX11_readsA_45 ?_
    refine rf_br 64 60 [some (tR (some a0))] [some (tR (some a0))] [] [] (fun _ => ?_) (fun _ => ?_) (fun _ jT jF => ?_)
    · refine rf_iconst X (0 : Int32) rfl dX11_readsA_64 ?_
      exact rf_go (hj2 (0 : Int32)) True.intro
    · exact rf_go hj4 True.intro
    refine rf_if_ne X (tgt := 60) rfl dX11_readsA_48 (fun c7 => ?_) (fun c7 => ?_)
    · exact jF (fun z => c7 z.1)
    refine rf_aload_n X rfl dX11_readsA_51 ?_
    refine rf_getI X fl_X11_220 hv1 dX11_readsA_52 ?_
    refine rf_bipush X (73 : Int32) rfl dX11_readsA_55 ?_
    refine rf_icmp_ne X (tgt := 64) rfl dX11_readsA_57 (fun c8 => ?_) (fun c8 => ?_)
    · exact jT ⟨c7, c8⟩
    exact jF (fun z => (fun z => z c8) z.2)
  · exact rf_go hj4 True.intro
  refine rf_icmp_lt X (tgt := 17) rfl dX11_readsA_5 (fun c9 => ?_) (fun c9 => ?_)
  · refine rf_aload_n X rfl dX11_readsA_17 ?_
    refine rf_getI X fl_X11_220 hv1 dX11_readsA_18 ?_
    refine rf_bipush X (30 : Int32) rfl dX11_readsA_21 ?_
    refine rf_icmp_lt X (tgt := 35) rfl dX11_readsA_23 (fun c10 => ?_) (fun c10 => ?_)
    · refine rf_aload_n X rfl dX11_readsA_35 ?_
      refine rf_getI X fl_X11_220 hv1 dX11_readsA_36 ?_
      refine rf_bipush X (42 : Int32) rfl dX11_readsA_39 ?_
      refine rf_icmp_eq X (tgt := 60) rfl dX11_readsA_41 (fun c11 => ?_) (fun c11 => ?_)
      · exact jF (fun z => (fun z => (fun z => z c11) z.2) z.2)
      exact jT ⟨(Or.inl c9), ⟨(Or.inl c10), c11⟩⟩
    refine rf_aload_n X rfl dX11_readsA_26 ?_
    refine rf_getI X fl_X11_220 hv1 dX11_readsA_27 ?_
    refine rf_bipush X (33 : Int32) rfl dX11_readsA_30 ?_
    refine rf_icmp_le X (tgt := 60) rfl dX11_readsA_32 (fun c12 => ?_) (fun c12 => ?_)
    · exact jF (fun z => (fun z => (fun z => z.elim c10 (fun z => z c12)) z.1) z.2)
    refine rf_aload_n X rfl dX11_readsA_35 ?_
    refine rf_getI X fl_X11_220 hv1 dX11_readsA_36 ?_
    refine rf_bipush X (42 : Int32) rfl dX11_readsA_39 ?_
    refine rf_icmp_eq X (tgt := 60) rfl dX11_readsA_41 (fun c13 => ?_) (fun c13 => ?_)
    · exact jF (fun z => (fun z => (fun z => z c13) z.2) z.2)
    exact jT ⟨(Or.inl c9), ⟨(Or.inr c12), c13⟩⟩
  refine rf_aload_n X rfl dX11_readsA_8 ?_
  refine rf_getI X fl_X11_220 hv1 dX11_readsA_9 ?_
  refine rf_bipush X (21 : Int32) rfl dX11_readsA_12 ?_
  refine rf_icmp_le X (tgt := 60) rfl dX11_readsA_14 (fun c14 => ?_) (fun c14 => ?_)
  · exact jF (fun z => (fun z => z.elim c9 (fun z => z c14)) z.1)
  refine rf_aload_n X rfl dX11_readsA_17 ?_
  refine rf_getI X fl_X11_220 hv1 dX11_readsA_18 ?_
  refine rf_bipush X (30 : Int32) rfl dX11_readsA_21 ?_
  refine rf_icmp_lt X (tgt := 35) rfl dX11_readsA_23 (fun c15 => ?_) (fun c15 => ?_)
  · refine rf_aload_n X rfl dX11_readsA_35 ?_
    refine rf_getI X fl_X11_220 hv1 dX11_readsA_36 ?_
    refine rf_bipush X (42 : Int32) rfl dX11_readsA_39 ?_
    refine rf_icmp_eq X (tgt := 60) rfl dX11_readsA_41 (fun c16 => ?_) (fun c16 => ?_)
    · exact jF (fun z => (fun z => (fun z => z c16) z.2) z.2)
    exact jT ⟨(Or.inr c14), ⟨(Or.inl c15), c16⟩⟩
  refine rf_aload_n X rfl dX11_readsA_26 ?_
  refine rf_getI X fl_X11_220 hv1 dX11_readsA_27 ?_
  refine rf_bipush X (33 : Int32) rfl dX11_readsA_30 ?_
  refine rf_icmp_le X (tgt := 60) rfl dX11_readsA_32 (fun c17 => ?_) (fun c17 => ?_)
  · exact jF (fun z => (fun z => (fun z => z.elim c15 (fun z => z c17)) z.1) z.2)
  refine rf_aload_n X rfl dX11_readsA_35 ?_
  refine rf_getI X fl_X11_220 hv1 dX11_readsA_36 ?_
  refine rf_bipush X (42 : Int32) rfl dX11_readsA_39 ?_
  refine rf_icmp_eq X (tgt := 60) rfl dX11_readsA_41 (fun c18 => ?_) (fun c18 => ?_)
  · exact jF (fun z => (fun z => (fun z => z c18) z.2) z.2)
  exact jT ⟨(Or.inr c14), ⟨(Or.inr c17), c18⟩⟩

theorem dX11_readsB_0 : decode cX11_readsB 0 = .ok (.aload_n 0, 1) := by decide +kernel
theorem dX11_readsB_1 : decode cX11_readsB 1 = .ok (.getfield 220, 3) := by decide +kernel
theorem dX11_readsB_4 : decode cX11_readsB 4 = .ok (.iconst 4, 1) := by decide +kernel
theorem dX11_readsB_5 : decode cX11_readsB 5 = .ok (.if_icmp .lt 12, 3) := by decide +kernel
theorem dX11_readsB_8 : decode cX11_readsB 8 = .ok (.aload_n 0, 1) := by decide +kernel
theorem dX11_readsB_9 : decode cX11_readsB 9 = .ok (.getfield 220, 3) := by decide +kernel
theorem dX11_readsB_12 : decode cX11_readsB 12 = .ok (.bipush 17, 2) := by decide +kernel
theorem dX11_readsB_14 : decode cX11_readsB 14 = .ok (.if_icmp .le 57, 3) := by decide +kernel
theorem dX11_readsB_17 : decode cX11_readsB 17 = .ok (.aload_n 0, 1) := by decide +kernel
theorem dX11_readsB_18 : decode cX11_readsB 18 = .ok (.getfield 220, 3) := by decide +kernel
theorem dX11_readsB_21 : decode cX11_readsB 21 = .ok (.bipush 21, 2) := by decide +kernel
theorem dX11_readsB_23 : decode cX11_readsB 23 = .ok (.if_icmp .eq 48, 3) := by decide +kernel
theorem dX11_readsB_26 : decode cX11_readsB 26 = .ok (.aload_n 0, 1) := by decide +kernel
theorem dX11_readsB_27 : decode cX11_readsB 27 = .ok (.getfield 220, 3) := by decide +kernel
theorem dX11_readsB_30 : decode cX11_readsB 30 = .ok (.bipush 30, 2) := by decide +kernel
theorem dX11_readsB_32 : decode cX11_readsB 32 = .ok (.if_icmp .eq 39, 3) := by decide +kernel
theorem dX11_readsB_35 : decode cX11_readsB 35 = .ok (.aload_n 0, 1) := by decide +kernel
theorem dX11_readsB_36 : decode cX11_readsB 36 = .ok (.getfield 220, 3) := by decide +kernel
theorem dX11_readsB_39 : decode cX11_readsB 39 = .ok (.bipush 31, 2) := by decide +kernel
theorem dX11_readsB_41 : decode cX11_readsB 41 = .ok (.if_icmp .eq 30, 3) := by decide +kernel
theorem dX11_readsB_44 : decode cX11_readsB 44 = .ok (.aload_n 0, 1) := by decide +kernel
theorem dX11_readsB_45 : decode cX11_readsB 45 = .ok (.getfield 220, 3) := by decide +kernel
theorem dX11_readsB_48 : decode cX11_readsB 48 = .ok (.bipush 51, 2) := by decide +kernel
theorem dX11_readsB_50 : decode cX11_readsB 50 = .ok (.if_icmp .eq 21, 3) := by decide +kernel
theorem dX11_readsB_53 : decode cX11_readsB 53 = .ok (.aload_n 0, 1) := by decide +kernel
theorem dX11_readsB_54 : decode cX11_readsB 54 = .ok (.getfield 220, 3) := by decide +kernel
theorem dX11_readsB_57 : decode cX11_readsB 57 = .ok (.bipush 53, 2) := by decide +kernel
theorem dX11_readsB_59 : decode cX11_readsB 59 = .ok (.if_icmp .lt 16, 3) := by decide +kernel
theorem dX11_readsB_62 : decode cX11_readsB 62 = .ok (.aload_n 0, 1) := by decide +kernel
theorem dX11_readsB_63 : decode cX11_readsB 63 = .ok (.getfield 220, 3) := by decide +kernel
theorem dX11_readsB_66 : decode cX11_readsB 66 = .ok (.bipush 59, 2) := by decide +kernel
theorem dX11_readsB_68 : decode cX11_readsB 68 = .ok (.if_icmp .gt 7, 3) := by decide +kernel
theorem dX11_readsB_71 : decode cX11_readsB 71 = .ok (.iconst 1, 1) := by decide +kernel
theorem dX11_readsB_72 : decode cX11_readsB 72 = .ok (.goto 4, 3) := by decide +kernel
theorem dX11_readsB_75 : decode cX11_readsB 75 = .ok (.iconst 0, 1) := by decide +kernel
theorem dX11_readsB_76 : decode cX11_readsB 76 = .ok (.ireturn, 1) := by decide +kernel
def fX11_readsB (a0 : Nat) (A : AH) : Option (Int32) :=
(gI A (some a0) 11 52).bind fun v1 =>
jn (fun (y3 : Int32) =>
some (nb y3)) fun j2 =>
if (((((((v1 < (4 : Int32)) ∨ (¬ (v1 ≤ (17 : Int32)))) ∧ (¬ (v1 = (21 : Int32)))) ∧ (¬ (v1 = (30 : Int32)))) ∧ (¬ (v1 = (31 : Int32)))) ∧ (¬ (v1 = (51 : Int32)))) ∧ ((v1 < (53 : Int32)) ∨ ((59 : Int32) < v1))) then (j2 (0 : Int32)) else
j2 (1 : Int32)

set_option maxHeartbeats 4000000 in
set_option maxRecDepth 100000 in
theorem sX11_readsB (l : Launch) (D : DE) (a0 : Nat) (A : AH) (g : Int32) (hg : fX11_readsB a0 A = some g) : Sm l D yX11_readsB cX11_readsB 1 (some Jvm.ClassFile.FieldType.boolean) 0 0 [tR (some a0)] A (qI A g).1 (qI A g).2 := by
  refine Sm.of (ω := qI A) (fX11_readsB a0 A) [some (tR (some a0))] (by decide) (Nat.le_of_ble_eq_true rfl) rfl hg ?_
  intro p e R s m args below meth c X hin
  have X : Cx D cX11_readsB RX11 1 0 0 (some Jvm.ClassFile.FieldType.boolean) p R s m args meth c := X
  unfold fX11_readsB
  refine rf_aload_n X rfl dX11_readsB_0 ?_
  refine rf_bind (fun v1 hv1 => ?_)
  refine rf_getI X fl_X11_220 hv1 dX11_readsB_1 ?_
  refine rf_iconst X (4 : Int32) rfl dX11_readsB_4 ?_
  refine rf_jn2 (fun i => ∀ (y3 : Int32), RfX X l e below (qI A) (i y3) 76 [none] [tI y3] A) ?_ (fun j2 hj2 => ?_)
  · intro y3
    exact rf_zret X rfl dX11_readsB_76
  refine rf_br 75 71 [some (tR (some a0))] [some (tR (some a0))] [] [] (fun _ => ?_) (fun _ => ?_) (fun _ jT jF => ?_)
  · refine rf_iconst X (0 : Int32) rfl dX11_readsB_75 ?_
    exact rf_go (hj2 (0 : Int32)) True.intro
  · refine rf_iconst X (1 : Int32) rfl dX11_readsB_71 ?_
    refine rf_goto X (tgt := 76) rfl dX11_readsB_72 ?_
    exact rf_go (hj2 (1 : Int32)) True.intro
  refine rf_icmp_lt X (tgt := 17) rfl dX11_readsB_5 (fun c4 => ?_) (fun c4 => ?_)
  · refine rf_aload_n X rfl dX11_readsB_17 ?_
    refine rf_getI X fl_X11_220 hv1 dX11_readsB_18 ?_
    refine rf_bipush X (21 : Int32) rfl dX11_readsB_21 ?_
    refine rf_icmp_eq X (tgt := 71) rfl dX11_readsB_23 (fun c5 => ?_) (fun c5 => ?_)
    · exact jF (fun z => (fun z => (fun z => (fun z => (fun z => (fun z => z c5) z.2) z.1) z.1) z.1) z.1)
    refine rf_aload_n X rfl dX11_readsB_26 ?_
    refine rf_getI X fl_X11_220 hv1 dX11_readsB_27 ?_
    refine rf_bipush X (30 : Int32) rfl dX11_readsB_30 ?_
    refine rf_icmp_eq X (tgt := 71) rfl dX11_readsB_32 (fun c6 => ?_) (fun c6 => ?_)
    · exact jF (fun z => (fun z => (fun z => (fun z => (fun z => z c6) z.2) z.1) z.1) z.1)
    refine rf_aload_n X rfl dX11_readsB_35 ?_
    refine rf_getI X fl_X11_220 hv1 dX11_readsB_36 ?_
    refine rf_bipush X (31 : Int32) rfl dX11_readsB_39 ?_
    refine rf_icmp_eq X (tgt := 71) rfl dX11_readsB_41 (fun c7 => ?_) (fun c7 => ?_)
    · exact jF (fun z => (fun z => (fun z => (fun z => z c7) z.2) z.1) z.1)
    refine rf_aload_n X rfl dX11_readsB_44 ?_
    refine rf_getI X fl_X11_220 hv1 dX11_readsB_45 ?_
    refine rf_bipush X (51 : Int32) rfl dX11_readsB_48 ?_
    refine rf_icmp_eq X (tgt := 71) rfl dX11_readsB_50 (fun c8 => ?_) (fun c8 => ?_)
    · exact jF (fun z => (fun z => (fun z => z c8) z.2) z.1)
    refine rf_aload_n X rfl dX11_readsB_53 ?_
    refine rf_getI X fl_X11_220 hv1 dX11_readsB_54 ?_
    refine rf_bipush X (53 : Int32) rfl dX11_readsB_57 ?_
    refine rf_icmp_lt X (tgt := 75) rfl dX11_readsB_59 (fun c9 => ?_) (fun c9 => ?_)
    · exact jT ⟨⟨⟨⟨⟨(Or.inl c4), c5⟩, c6⟩, c7⟩, c8⟩, (Or.inl c9)⟩
    refine rf_aload_n X rfl dX11_readsB_62 ?_
    refine rf_getI X fl_X11_220 hv1 dX11_readsB_63 ?_
    refine rf_bipush X (59 : Int32) rfl dX11_readsB_66 ?_
    refine rf_icmp_gt X (tgt := 75) rfl dX11_readsB_68 (fun c10 => ?_) (fun c10 => ?_)
    · exact jT ⟨⟨⟨⟨⟨(Or.inl c4), c5⟩, c6⟩, c7⟩, c8⟩, (Or.inr c10)⟩
    exact jF (fun z => (fun z => z.elim c9 c10) z.2)
  refine rf_aload_n X rfl dX11_readsB_8 ?_
  refine rf_getI X fl_X11_220 hv1 dX11_readsB_9 ?_
  refine rf_bipush X (17 : Int32) rfl dX11_readsB_12 ?_
  refine rf_icmp_le X (tgt := 71) rfl dX11_readsB_14 (fun c11 => ?_) (fun c11 => ?_)
  · exact jF (fun z => (fun z => (fun z => (fun z => (fun z => (fun z => z.elim c4 (fun z => z c11)) z.1) z.1) z.1) z.1) z.1)
  refine rf_aload_n X rfl dX11_readsB_17 ?_
  refine rf_getI X fl_X11_220 hv1 dX11_readsB_18 ?_
  refine rf_bipush X (21 : Int32) rfl dX11_readsB_21 ?_
  refine rf_icmp_eq X (tgt := 71) rfl dX11_readsB_23 (fun c12 => ?_) (fun c12 => ?_)
  · exact jF (fun z => (fun z => (fun z => (fun z => (fun z => (fun z => z c12) z.2) z.1) z.1) z.1) z.1)
  refine rf_aload_n X rfl dX11_readsB_26 ?_
  refine rf_getI X fl_X11_220 hv1 dX11_readsB_27 ?_
  refine rf_bipush X (30 : Int32) rfl dX11_readsB_30 ?_
  refine rf_icmp_eq X (tgt := 71) rfl dX11_readsB_32 (fun c13 => ?_) (fun c13 => ?_)
  · exact jF (fun z => (fun z => (fun z => (fun z => (fun z => z c13) z.2) z.1) z.1) z.1)
  refine rf_aload_n X rfl dX11_readsB_35 ?_
  refine rf_getI X fl_X11_220 hv1 dX11_readsB_36 ?_
  refine rf_bipush X (31 : Int32) rfl dX11_readsB_39 ?_
  refine rf_icmp_eq X (tgt := 71) rfl dX11_readsB_41 (fun c14 => ?_) (fun c14 => ?_)
  · exact jF (fun z => (fun z => (fun z => (fun z => z c14) z.2) z.1) z.1)
  refine rf_aload_n X rfl dX11_readsB_44 ?_
  refine rf_getI X fl_X11_220 hv1 dX11_readsB_45 ?_
  refine rf_bipush X (51 : Int32) rfl dX11_readsB_48 ?_
  refine rf_icmp_eq X (tgt := 71) rfl dX11_readsB_50 (fun c15 => ?_) (fun c15 => ?_)
  · exact jF (fun z => (fun z => (fun z => z c15) z.2) z.1)
  refine rf_aload_n X rfl dX11_readsB_53 ?_
  refine rf_getI X fl_X11_220 hv1 dX11_readsB_54 ?_
  refine rf_bipush X (53 : Int32) rfl dX11_readsB_57 ?_
  refine rf_icmp_lt X (tgt := 75) rfl dX11_readsB_59 (fun c16 => ?_) (fun c16 => ?_)
  · exact jT ⟨⟨⟨⟨⟨(Or.inr c11), c12⟩, c13⟩, c14⟩, c15⟩, (Or.inl c16)⟩
  refine rf_aload_n X rfl dX11_readsB_62 ?_
  refine rf_getI X fl_X11_220 hv1 dX11_readsB_63 ?_
  refine rf_bipush X (59 : Int32) rfl dX11_readsB_66 ?_
  refine rf_icmp_gt X (tgt := 75) rfl dX11_readsB_68 (fun c17 => ?_) (fun c17 => ?_)
  · exact jT ⟨⟨⟨⟨⟨(Or.inr c11), c12⟩, c13⟩, c14⟩, c15⟩, (Or.inr c17)⟩
  exact jF (fun z => (fun z => z.elim c16 c17) z.2)

theorem dX11_writesD_0 : decode cX11_writesD 0 = .ok (.aload_n 0, 1) := by decide +kernel
theorem dX11_writesD_1 : decode cX11_writesD 1 = .ok (.getfield 220, 3) := by decide +kernel
theorem dX11_writesD_4 : decode cX11_writesD 4 = .ok (.iconst 2, 1) := by decide +kernel
theorem dX11_writesD_5 : decode cX11_writesD 5 = .ok (.if_icmp .lt 12, 3) := by decide +kernel
theorem dX11_writesD_8 : decode cX11_writesD 8 = .ok (.aload_n 0, 1) := by decide +kernel
theorem dX11_writesD_9 : decode cX11_writesD 9 = .ok (.getfield 220, 3) := by decide +kernel
theorem dX11_writesD_12 : decode cX11_writesD 12 = .ok (.bipush 21, 2) := by decide +kernel
theorem dX11_writesD_14 : decode cX11_writesD 14 = .ok (.if_icmp .le 66, 3) := by decide +kernel
theorem dX11_writesD_17 : decode cX11_writesD 17 = .ok (.aload_n 0, 1) := by decide +kernel
theorem dX11_writesD_18 : decode cX11_writesD 18 = .ok (.getfield 220, 3) := by decide +kernel
theorem dX11_writesD_21 : decode cX11_writesD 21 = .ok (.bipush 41, 2) := by decide +kernel
theorem dX11_writesD_23 : decode cX11_writesD 23 = .ok (.if_icmp .eq 57, 3) := by decide +kernel
theorem dX11_writesD_26 : decode cX11_writesD 26 = .ok (.aload_n 0, 1) := by decide +kernel
theorem dX11_writesD_27 : decode cX11_writesD 27 = .ok (.getfield 220, 3) := by decide +kernel
theorem dX11_writesD_30 : decode cX11_writesD 30 = .ok (.bipush 50, 2) := by decide +kernel
theorem dX11_writesD_32 : decode cX11_writesD 32 = .ok (.if_icmp .eq 48, 3) := by decide +kernel
theorem dX11_writesD_35 : decode cX11_writesD 35 = .ok (.aload_n 0, 1) := by decide +kernel
theorem dX11_writesD_36 : decode cX11_writesD 36 = .ok (.getfield 220, 3) := by decide +kernel
theorem dX11_writesD_39 : decode cX11_writesD 39 = .ok (.bipush 52, 2) := by decide +kernel
theorem dX11_writesD_41 : decode cX11_writesD 41 = .ok (.if_icmp .eq 39, 3) := by decide +kernel
theorem dX11_writesD_44 : decode cX11_writesD 44 = .ok (.aload_n 0, 1) := by decide +kernel
theorem dX11_writesD_45 : decode cX11_writesD 45 = .ok (.getfield 220, 3) := by decide +kernel
theorem dX11_writesD_48 : decode cX11_writesD 48 = .ok (.bipush 54, 2) := by decide +kernel
theorem dX11_writesD_50 : decode cX11_writesD 50 = .ok (.if_icmp .lt 12, 3) := by decide +kernel
theorem dX11_writesD_53 : decode cX11_writesD 53 = .ok (.aload_n 0, 1) := by decide +kernel
theorem dX11_writesD_54 : decode cX11_writesD 54 = .ok (.getfield 220, 3) := by decide +kernel
theorem dX11_writesD_57 : decode cX11_writesD 57 = .ok (.bipush 59, 2) := by decide +kernel
theorem dX11_writesD_59 : decode cX11_writesD 59 = .ok (.if_icmp .le 21, 3) := by decide +kernel
theorem dX11_writesD_62 : decode cX11_writesD 62 = .ok (.aload_n 0, 1) := by decide +kernel
theorem dX11_writesD_63 : decode cX11_writesD 63 = .ok (.getfield 220, 3) := by decide +kernel
theorem dX11_writesD_66 : decode cX11_writesD 66 = .ok (.bipush 72, 2) := by decide +kernel
theorem dX11_writesD_68 : decode cX11_writesD 68 = .ok (.if_icmp .eq 12, 3) := by decide +kernel
theorem dX11_writesD_71 : decode cX11_writesD 71 = .ok (.aload_n 0, 1) := by decide +kernel
theorem dX11_writesD_72 : decode cX11_writesD 72 = .ok (.getfield 220, 3) := by decide +kernel
theorem dX11_writesD_75 : decode cX11_writesD 75 = .ok (.bipush 73, 2) := by decide +kernel
theorem dX11_writesD_77 : decode cX11_writesD 77 = .ok (.if_icmp .ne 7, 3) := by decide +kernel
theorem dX11_writesD_80 : decode cX11_writesD 80 = .ok (.iconst 1, 1) := by decide +kernel
theorem dX11_writesD_81 : decode cX11_writesD 81 = .ok (.goto 4, 3) := by decide +kernel
theorem dX11_writesD_84 : decode cX11_writesD 84 = .ok (.iconst 0, 1) := by decide +kernel
theorem dX11_writesD_85 : decode cX11_writesD 85 = .ok (.ireturn, 1) := by decide +kernel
def fX11_writesD (a0 : Nat) (A : AH) : Option (Int32) :=
(gI A (some a0) 11 52).bind fun v1 =>
jn (fun (y3 : Int32) =>
some (nb y3)) fun j2 =>
if ((((((v1 < (2 : Int32)) ∨ (¬ (v1 ≤ (21 : Int32)))) ∧ (¬ (v1 = (41 : Int32)))) ∧ (¬ (v1 = (50 : Int32)))) ∧ (¬ (v1 = (52 : Int32)))) ∧ ((((v1 < (54 : Int32)) ∨ (¬ (v1 ≤ (59 : Int32)))) ∧ (¬ (v1 = (72 : Int32)))) ∧ (¬ (v1 = (73 : Int32))))) then (j2 (0 : Int32)) else
j2 (1 : Int32)

set_option maxHeartbeats 4000000 in
set_option maxRecDepth 100000 in
theorem sX11_writesD (l : Launch) (D : DE) (a0 : Nat) (A : AH) (g : Int32) (hg : fX11_writesD a0 A = some g) : Sm l D yX11_writesD cX11_writesD 1 (some Jvm.ClassFile.FieldType.boolean) 0 0 [tR (some a0)] A (qI A g).1 (qI A g).2 := by
  refine Sm.of (ω := qI A) (fX11_writesD a0 A) [some (tR (some a0))] (by decide) (Nat.le_of_ble_eq_true rfl) rfl hg ?_
  intro p e R s m args below meth c X hin
  have X : Cx D cX11_writesD RX11 1 0 0 (some Jvm.ClassFile.FieldType.boolean) p R s m args meth c := X
  unfold fX11_writesD
  refine rf_aload_n X rfl dX11_writesD_0 ?_
  refine rf_bind (fun v1 hv1 => ?_)
  refine rf_getI X fl_X11_220 hv1 dX11_writesD_1 ?_
  refine rf_iconst X (2 : Int32) rfl dX11_writesD_4 ?_
  refine rf_jn2 (fun i => ∀ (y3 : Int32), RfX X l e below (qI A) (i y3) 85 [none] [tI y3] A) ?_ (fun j2 hj2 => ?_)
  · intro y3
    exact rf_zret X rfl dX11_writesD_85
  refine rf_br 84 80 [some (tR (some a0))] [some (tR (some a0))] [] [] (fun _ => ?_) (fun _ => ?_) (fun _ jT jF => ?_)
  · refine rf_iconst X (0 : Int32) rfl dX11_writesD_84 ?_
    exact rf_go (hj2 (0 : Int32)) True.intro
  · refine rf_iconst X (1 : Int32) rfl dX11_writesD_80 ?_
    refine rf_goto X (tgt := 85) rfl dX11_writesD_81 ?_
    exact rf_go (hj2 (1 : Int32)) True.intro
  refine rf_icmp_lt X (tgt := 17) rfl dX11_writesD_5 (fun c4 => ?_) (fun c4 => ?_)
  · refine rf_aload_n X rfl dX11_writesD_17 ?_
    refine rf_getI X fl_X11_220 hv1 dX11_writesD_18 ?_
    refine rf_bipush X (41 : Int32) rfl dX11_writesD_21 ?_
    refine rf_icmp_eq X (tgt := 80) rfl dX11_writesD_23 (fun c5 => ?_) (fun c5 => ?_)
    · exact jF (fun z => (fun z => (fun z => (fun z => (fun z => z c5) z.2) z.1) z.1) z.1)
    refine rf_aload_n X rfl dX11_writesD_26 ?_
    refine rf_getI X fl_X11_220 hv1 dX11_writesD_27 ?_
    refine rf_bipush X (50 : Int32) rfl dX11_writesD_30 ?_
    refine rf_icmp_eq X (tgt := 80) rfl dX11_writesD_32 (fun c6 => ?_) (fun c6 => ?_)
    · exact jF (fun z => (fun z => (fun z => (fun z => z c6) z.2) z.1) z.1)
    refine rf_aload_n X rfl dX11_writesD_35 ?_
    refine rf_getI X fl_X11_220 hv1 dX11_writesD_36 ?_
    refine rf_bipush X (52 : Int32) rfl dX11_writesD_39 ?_
    refine rf_icmp_eq X (tgt := 80) rfl dX11_writesD_41 (fun c7 => ?_) (fun c7 => ?_)
    · exact jF (fun z => (fun z => (fun z => z c7) z.2) z.1)
    refine rf_aload_n X rfl dX11_writesD_44 ?_
    refine rf_getI X fl_X11_220 hv1 dX11_writesD_45 ?_
    refine rf_bipush X (54 : Int32) rfl dX11_writesD_48 ?_
    refine rf_icmp_lt X (tgt := 62) rfl dX11_writesD_50 (fun c8 => ?_) (fun c8 => ?_)
    · refine rf_aload_n X rfl dX11_writesD_62 ?_
      refine rf_getI X fl_X11_220 hv1 dX11_writesD_63 ?_
      refine rf_bipush X (72 : Int32) rfl dX11_writesD_66 ?_
      refine rf_icmp_eq X (tgt := 80) rfl dX11_writesD_68 (fun c9 => ?_) (fun c9 => ?_)
      · exact jF (fun z => (fun z => (fun z => (fun z => z c9) z.2) z.1) z.2)
      refine rf_aload_n X rfl dX11_writesD_71 ?_
      refine rf_getI X fl_X11_220 hv1 dX11_writesD_72 ?_
      refine rf_bipush X (73 : Int32) rfl dX11_writesD_75 ?_
      refine rf_icmp_ne X (tgt := 84) rfl dX11_writesD_77 (fun c10 => ?_) (fun c10 => ?_)
      · exact jT ⟨⟨⟨⟨(Or.inl c4), c5⟩, c6⟩, c7⟩, ⟨⟨(Or.inl c8), c9⟩, c10⟩⟩
      exact jF (fun z => (fun z => (fun z => z c10) z.2) z.2)
    refine rf_aload_n X rfl dX11_writesD_53 ?_
    refine rf_getI X fl_X11_220 hv1 dX11_writesD_54 ?_
    refine rf_bipush X (59 : Int32) rfl dX11_writesD_57 ?_
    refine rf_icmp_le X (tgt := 80) rfl dX11_writesD_59 (fun c11 => ?_) (fun c11 => ?_)
    · exact jF (fun z => (fun z => (fun z => (fun z => z.elim c8 (fun z => z c11)) z.1) z.1) z.2)
    refine rf_aload_n X rfl dX11_writesD_62 ?_
    refine rf_getI X fl_X11_220 hv1 dX11_writesD_63 ?_
    refine rf_bipush X (72 : Int32) rfl dX11_writesD_66 ?_
    refine rf_icmp_eq X (tgt := 80) rfl dX11_writesD_68 (fun c12 => ?_) (fun c12 => ?_)
    · exact jF (fun z => (fun z => (fun z => (fun z => z c12) z.2) z.1) z.2)
    refine rf_aload_n X rfl dX11_writesD_71 ?_
    refine rf_getI X fl_X11_220 hv1 dX11_writesD_72 ?_
    refine rf_bipush X (73 : Int32) rfl dX11_writesD_75 ?_
    refine rf_icmp_ne X (tgt := 84) rfl dX11_writesD_77 (fun c13 => ?_) (fun c13 => ?_)
    · exact jT ⟨⟨⟨⟨(Or.inl c4), c5⟩, c6⟩, c7⟩, ⟨⟨(Or.inr c11), c12⟩, c13⟩⟩
    exact jF (fun z => (fun z => (fun z => z c13) z.2) z.2)
  refine rf_aload_n X rfl dX11_writesD_8 ?_
  refine rf_getI X fl_X11_220 hv1 dX11_writesD_9 ?_
  refine rf_bipush X (21 : Int32) rfl dX11_writesD_12 ?_
  refine rf_icmp_le X (tgt := 80) rfl dX11_writesD_14 (fun c14 => ?_) (fun c14 => ?_)
  · exact jF (fun z => (fun z => (fun z => (fun z => (fun z => z.elim c4 (fun z => z c14)) z.1) z.1) z.1) z.1)
  refine rf_aload_n X rfl dX11_writesD_17 ?_
  refine rf_getI X fl_X11_220 hv1 dX11_writesD_18 ?_
  refine rf_bipush X (41 : Int32) rfl dX11_writesD_21 ?_
  refine rf_icmp_eq X (tgt := 80) rfl dX11_writesD_23 (fun c15 => ?_) (fun c15 => ?_)
  · exact jF (fun z => (fun z => (fun z => (fun z => (fun z => z c15) z.2) z.1) z.1) z.1)
  refine rf_aload_n X rfl dX11_writesD_26 ?_
  refine rf_getI X fl_X11_220 hv1 dX11_writesD_27 ?_
  refine rf_bipush X (50 : Int32) rfl dX11_writesD_30 ?_
  refine rf_icmp_eq X (tgt := 80) rfl dX11_writesD_32 (fun c16 => ?_) (fun c16 => ?_)
  · exact jF (fun z => (fun z => (fun z => (fun z => z c16) z.2) z.1) z.1)
  refine rf_aload_n X rfl dX11_writesD_35 ?_
  refine rf_getI X fl_X11_220 hv1 dX11_writesD_36 ?_
  refine rf_bipush X (52 : Int32) rfl dX11_writesD_39 ?_
  refine rf_icmp_eq X (tgt := 80) rfl dX11_writesD_41 (fun c17 => ?_) (fun c17 => ?_)
  · exact jF (fun z => (fun z => (fun z => z c17) z.2) z.1)
  refine rf_aload_n X rfl dX11_writesD_44 ?_
  refine rf_getI X fl_X11_220 hv1 dX11_writesD_45 ?_
  refine rf_bipush X (54 : Int32) rfl dX11_writesD_48 ?_
  refine rf_icmp_lt X (tgt := 62) rfl dX11_writesD_50 (fun c18 => ?_) (fun c18 => ?_)
  · refine rf_aload_n X rfl dX11_writesD_62 ?_
    refine rf_getI X fl_X11_220 hv1 dX11_writesD_63 ?_
    refine rf_bipush X (72 : Int32) rfl dX11_writesD_66 ?_
    refine rf_icmp_eq X (tgt := 80) rfl dX11_writesD_68 (fun c19 => ?_) (fun c19 => ?_)
    · exact jF (fun z => (fun z => (fun z => (fun z => z c19) z.2) z.1) z.2)
    refine rf_aload_n X rfl dX11_writesD_71 ?_
    refine rf_getI X fl_X11_220 hv1 dX11_writesD_72 ?_
    refine rf_bipush X (73 : Int32) rfl dX11_writesD_75 ?_
    refine rf_icmp_ne X (tgt := 84) rfl dX11_writesD_77 (fun c20 => ?_) (fun c20 => ?_)
    · exact jT ⟨⟨⟨⟨(Or.inr c14), c15⟩, c16⟩, c17⟩, ⟨⟨(Or.inl c18), c19⟩, c20⟩⟩
    exact jF (fun z => (fun z => (fun z => z c20) z.2) z.2)
  refine rf_aload_n X rfl dX11_writesD_53 ?_
  refine rf_getI X fl_X11_220 hv1 dX11_writesD_54 ?_
  refine rf_bipush X (59 : Int32) rfl dX11_writesD_57 ?_
  refine rf_icmp_le X (tgt := 80) rfl dX11_writesD_59 (fun c21 => ?_) (fun c21 => ?_)
  · exact jF (fun z => (fun z => (fun z => (fun z => z.elim c18 (fun z => z c21)) z.1) z.1) z.2)
  refine rf_aload_n X rfl dX11_writesD_62 ?_
  refine rf_getI X fl_X11_220 hv1 dX11_writesD_63 ?_
  refine rf_bipush X (72 : Int32) rfl dX11_writesD_66 ?_
  refine rf_icmp_eq X (tgt := 80) rfl dX11_writesD_68 (fun c22 => ?_) (fun c22 => ?_)
  · exact jF (fun z => (fun z => (fun z => (fun z => z c22) z.2) z.1) z.2)
  refine rf_aload_n X rfl dX11_writesD_71 ?_
  refine rf_getI X fl_X11_220 hv1 dX11_writesD_72 ?_
  refine rf_bipush X (73 : Int32) rfl dX11_writesD_75 ?_
  refine rf_icmp_ne X (tgt := 84) rfl dX11_writesD_77 (fun c23 => ?_) (fun c23 => ?_)
  · exact jT ⟨⟨⟨⟨(Or.inr c14), c15⟩, c16⟩, c17⟩, ⟨⟨(Or.inr c21), c22⟩, c23⟩⟩
  exact jF (fun z => (fun z => (fun z => z c23) z.2) z.2)

theorem dX11_writesPredicate_0 : decode cX11_writesPredicate 0 = .ok (.aload_n 0, 1) := by decide +kernel
theorem dX11_writesPredicate_1 : decode cX11_writesPredicate 1 = .ok (.getfield 220, 3) := by decide +kernel
theorem dX11_writesPredicate_4 : decode cX11_writesPredicate 4 = .ok (.bipush 30, 2) := by decide +kernel
theorem dX11_writesPredicate_6 : decode cX11_writesPredicate 6 = .ok (.if_icmp .lt 12, 3) := by decide +kernel
theorem dX11_writesPredicate_9 : decode cX11_writesPredicate 9 = .ok (.aload_n 0, 1) := by decide +kernel
theorem dX11_writesPredicate_10 : decode cX11_writesPredicate 10 = .ok (.getfield 220, 3) := by decide +kernel
theorem dX11_writesPredicate_13 : decode cX11_writesPredicate 13 = .ok (.bipush 36, 2) := by decide +kernel
theorem dX11_writesPredicate_15 : decode cX11_writesPredicate 15 = .ok (.if_icmp .le 21, 3) := by decide +kernel
theorem dX11_writesPredicate_18 : decode cX11_writesPredicate 18 = .ok (.aload_n 0, 1) := by decide +kernel
theorem dX11_writesPredicate_19 : decode cX11_writesPredicate 19 = .ok (.getfield 220, 3) := by decide +kernel
theorem dX11_writesPredicate_22 : decode cX11_writesPredicate 22 = .ok (.bipush 70, 2) := by decide +kernel
theorem dX11_writesPredicate_24 : decode cX11_writesPredicate 24 = .ok (.if_icmp .eq 12, 3) := by decide +kernel
theorem dX11_writesPredicate_27 : decode cX11_writesPredicate 27 = .ok (.aload_n 0, 1) := by decide +kernel
theorem dX11_writesPredicate_28 : decode cX11_writesPredicate 28 = .ok (.getfield 220, 3) := by decide +kernel
theorem dX11_writesPredicate_31 : decode cX11_writesPredicate 31 = .ok (.bipush 71, 2) := by decide +kernel
theorem dX11_writesPredicate_33 : decode cX11_writesPredicate 33 = .ok (.if_icmp .ne 7, 3) := by decide +kernel
theorem dX11_writesPredicate_36 : decode cX11_writesPredicate 36 = .ok (.iconst 1, 1) := by decide +kernel
theorem dX11_writesPredicate_37 : decode cX11_writesPredicate 37 = .ok (.goto 4, 3) := by decide +kernel
theorem dX11_writesPredicate_40 : decode cX11_writesPredicate 40 = .ok (.iconst 0, 1) := by decide +kernel
theorem dX11_writesPredicate_41 : decode cX11_writesPredicate 41 = .ok (.ireturn, 1) := by decide +kernel
def fX11_writesPredicate (a0 : Nat) (A : AH) : Option (Int32) :=
(gI A (some a0) 11 52).bind fun v1 =>
jn (fun (y3 : Int32) =>
some (nb y3)) fun j2 =>
if ((((v1 < (30 : Int32)) ∨ (¬ (v1 ≤ (36 : Int32)))) ∧ (¬ (v1 = (70 : Int32)))) ∧ (¬ (v1 = (71 : Int32)))) then (j2 (0 : Int32)) else
j2 (1 : Int32)

set_option maxHeartbeats 4000000 in
set_option maxRecDepth 100000 in
theorem sX11_writesPredicate (l : Launch) (D : DE) (a0 : Nat) (A : AH) (g : Int32) (hg : fX11_writesPredicate a0 A = some g) : Sm l D yX11_writesPredicate cX11_writesPredicate 1 (some Jvm.ClassFile.FieldType.boolean) 0 0 [tR (some a0)] A (qI A g).1 (qI A g).2 := by
  refine Sm.of (ω := qI A) (fX11_writesPredicate a0 A) [some (tR (some a0))] (by decide) (Nat.le_of_ble_eq_true rfl) rfl hg ?_
  intro p e R s m args below meth c X hin
  have X : Cx D cX11_writesPredicate RX11 1 0 0 (some Jvm.ClassFile.FieldType.boolean) p R s m args meth c := X
  unfold fX11_writesPredicate
  refine rf_aload_n X rfl dX11_writesPredicate_0 ?_
  refine rf_bind (fun v1 hv1 => ?_)
  refine rf_getI X fl_X11_220 hv1 dX11_writesPredicate_1 ?_
  refine rf_bipush X (30 : Int32) rfl dX11_writesPredicate_4 ?_
  refine rf_jn2 (fun i => ∀ (y3 : Int32), RfX X l e below (qI A) (i y3) 41 [none] [tI y3] A) ?_ (fun j2 hj2 => ?_)
  · intro y3
    exact rf_zret X rfl dX11_writesPredicate_41
  refine rf_br 40 36 [some (tR (some a0))] [some (tR (some a0))] [] [] (fun _ => ?_) (fun _ => ?_) (fun _ jT jF => ?_)
  · refine rf_iconst X (0 : Int32) rfl dX11_writesPredicate_40 ?_
    exact rf_go (hj2 (0 : Int32)) True.intro
  · refine rf_iconst X (1 : Int32) rfl dX11_writesPredicate_36 ?_
    refine rf_goto X (tgt := 41) rfl dX11_writesPredicate_37 ?_
    exact rf_go (hj2 (1 : Int32)) True.intro
  refine rf_icmp_lt X (tgt := 18) rfl dX11_writesPredicate_6 (fun c4 => ?_) (fun c4 => ?_)
  · refine rf_aload_n X rfl dX11_writesPredicate_18 ?_
    refine rf_getI X fl_X11_220 hv1 dX11_writesPredicate_19 ?_
    refine rf_bipush X (70 : Int32) rfl dX11_writesPredicate_22 ?_
    refine rf_icmp_eq X (tgt := 36) rfl dX11_writesPredicate_24 (fun c5 => ?_) (fun c5 => ?_)
    · exact jF (fun z => (fun z => (fun z => z c5) z.2) z.1)
    refine rf_aload_n X rfl dX11_writesPredicate_27 ?_
    refine rf_getI X fl_X11_220 hv1 dX11_writesPredicate_28 ?_
    refine rf_bipush X (71 : Int32) rfl dX11_writesPredicate_31 ?_
    refine rf_icmp_ne X (tgt := 40) rfl dX11_writesPredicate_33 (fun c6 => ?_) (fun c6 => ?_)
    · exact jT ⟨⟨(Or.inl c4), c5⟩, c6⟩
    exact jF (fun z => (fun z => z c6) z.2)
  refine rf_aload_n X rfl dX11_writesPredicate_9 ?_
  refine rf_getI X fl_X11_220 hv1 dX11_writesPredicate_10 ?_
  refine rf_bipush X (36 : Int32) rfl dX11_writesPredicate_13 ?_
  refine rf_icmp_le X (tgt := 36) rfl dX11_writesPredicate_15 (fun c7 => ?_) (fun c7 => ?_)
  · exact jF (fun z => (fun z => (fun z => z.elim c4 (fun z => z c7)) z.1) z.1)
  refine rf_aload_n X rfl dX11_writesPredicate_18 ?_
  refine rf_getI X fl_X11_220 hv1 dX11_writesPredicate_19 ?_
  refine rf_bipush X (70 : Int32) rfl dX11_writesPredicate_22 ?_
  refine rf_icmp_eq X (tgt := 36) rfl dX11_writesPredicate_24 (fun c8 => ?_) (fun c8 => ?_)
  · exact jF (fun z => (fun z => (fun z => z c8) z.2) z.1)
  refine rf_aload_n X rfl dX11_writesPredicate_27 ?_
  refine rf_getI X fl_X11_220 hv1 dX11_writesPredicate_28 ?_
  refine rf_bipush X (71 : Int32) rfl dX11_writesPredicate_31 ?_
  refine rf_icmp_ne X (tgt := 40) rfl dX11_writesPredicate_33 (fun c9 => ?_) (fun c9 => ?_)
  · exact jT ⟨⟨(Or.inr c7), c8⟩, c9⟩
  exact jF (fun z => (fun z => z c9) z.2)

theorem dX11_isShared_0 : decode cX11_isShared 0 = .ok (.aload_n 0, 1) := by decide +kernel
theorem dX11_isShared_1 : decode cX11_isShared 1 = .ok (.getfield 220, 3) := by decide +kernel
theorem dX11_isShared_4 : decode cX11_isShared 4 = .ok (.bipush 52, 2) := by decide +kernel
theorem dX11_isShared_6 : decode cX11_isShared 6 = .ok (.if_icmp .eq 30, 3) := by decide +kernel
theorem dX11_isShared_9 : decode cX11_isShared 9 = .ok (.aload_n 0, 1) := by decide +kernel
theorem dX11_isShared_10 : decode cX11_isShared 10 = .ok (.getfield 220, 3) := by decide +kernel
theorem dX11_isShared_13 : decode cX11_isShared 13 = .ok (.bipush 53, 2) := by decide +kernel
theorem dX11_isShared_15 : decode cX11_isShared 15 = .ok (.if_icmp .eq 21, 3) := by decide +kernel
theorem dX11_isShared_18 : decode cX11_isShared 18 = .ok (.aload_n 0, 1) := by decide +kernel
theorem dX11_isShared_19 : decode cX11_isShared 19 = .ok (.getfield 220, 3) := by decide +kernel
theorem dX11_isShared_22 : decode cX11_isShared 22 = .ok (.bipush 58, 2) := by decide +kernel
theorem dX11_isShared_24 : decode cX11_isShared 24 = .ok (.if_icmp .eq 12, 3) := by decide +kernel
theorem dX11_isShared_27 : decode cX11_isShared 27 = .ok (.aload_n 0, 1) := by decide +kernel
theorem dX11_isShared_28 : decode cX11_isShared 28 = .ok (.getfield 220, 3) := by decide +kernel
theorem dX11_isShared_31 : decode cX11_isShared 31 = .ok (.bipush 59, 2) := by decide +kernel
theorem dX11_isShared_33 : decode cX11_isShared 33 = .ok (.if_icmp .ne 7, 3) := by decide +kernel
theorem dX11_isShared_36 : decode cX11_isShared 36 = .ok (.iconst 1, 1) := by decide +kernel
theorem dX11_isShared_37 : decode cX11_isShared 37 = .ok (.goto 4, 3) := by decide +kernel
theorem dX11_isShared_40 : decode cX11_isShared 40 = .ok (.iconst 0, 1) := by decide +kernel
theorem dX11_isShared_41 : decode cX11_isShared 41 = .ok (.ireturn, 1) := by decide +kernel
def fX11_isShared (a0 : Nat) (A : AH) : Option (Int32) :=
(gI A (some a0) 11 52).bind fun v1 =>
jn (fun (y3 : Int32) =>
some (nb y3)) fun j2 =>
if ((((v1 = (52 : Int32)) ∨ (v1 = (53 : Int32))) ∨ (v1 = (58 : Int32))) ∨ (v1 = (59 : Int32))) then (j2 (1 : Int32)) else
j2 (0 : Int32)

set_option maxHeartbeats 4000000 in
set_option maxRecDepth 100000 in
theorem sX11_isShared (l : Launch) (D : DE) (a0 : Nat) (A : AH) (g : Int32) (hg : fX11_isShared a0 A = some g) : Sm l D yX11_isShared cX11_isShared 1 (some Jvm.ClassFile.FieldType.boolean) 0 0 [tR (some a0)] A (qI A g).1 (qI A g).2 := by
  refine Sm.of (ω := qI A) (fX11_isShared a0 A) [some (tR (some a0))] (by decide) (Nat.le_of_ble_eq_true rfl) rfl hg ?_
  intro p e R s m args below meth c X hin
  have X : Cx D cX11_isShared RX11 1 0 0 (some Jvm.ClassFile.FieldType.boolean) p R s m args meth c := X
  unfold fX11_isShared
  refine rf_aload_n X rfl dX11_isShared_0 ?_
  refine rf_bind (fun v1 hv1 => ?_)
  refine rf_getI X fl_X11_220 hv1 dX11_isShared_1 ?_
  refine rf_bipush X (52 : Int32) rfl dX11_isShared_4 ?_
  refine rf_jn2 (fun i => ∀ (y3 : Int32), RfX X l e below (qI A) (i y3) 41 [none] [tI y3] A) ?_ (fun j2 hj2 => ?_)
  · intro y3
    exact rf_zret X rfl dX11_isShared_41
  refine rf_br 36 40 [some (tR (some a0))] [some (tR (some a0))] [] [] (fun _ => ?_) (fun _ => ?_) (fun _ jT jF => ?_)
  · refine rf_iconst X (1 : Int32) rfl dX11_isShared_36 ?_
    refine rf_goto X (tgt := 41) rfl dX11_isShared_37 ?_
    exact rf_go (hj2 (1 : Int32)) True.intro
  · refine rf_iconst X (0 : Int32) rfl dX11_isShared_40 ?_
    exact rf_go (hj2 (0 : Int32)) True.intro
  refine rf_icmp_eq X (tgt := 36) rfl dX11_isShared_6 (fun c4 => ?_) (fun c4 => ?_)
  · exact jT (Or.inl (Or.inl (Or.inl c4)))
  refine rf_aload_n X rfl dX11_isShared_9 ?_
  refine rf_getI X fl_X11_220 hv1 dX11_isShared_10 ?_
  refine rf_bipush X (53 : Int32) rfl dX11_isShared_13 ?_
  refine rf_icmp_eq X (tgt := 36) rfl dX11_isShared_15 (fun c5 => ?_) (fun c5 => ?_)
  · exact jT (Or.inl (Or.inl (Or.inr c5)))
  refine rf_aload_n X rfl dX11_isShared_18 ?_
  refine rf_getI X fl_X11_220 hv1 dX11_isShared_19 ?_
  refine rf_bipush X (58 : Int32) rfl dX11_isShared_22 ?_
  refine rf_icmp_eq X (tgt := 36) rfl dX11_isShared_24 (fun c6 => ?_) (fun c6 => ?_)
  · exact jT (Or.inl (Or.inr c6))
  refine rf_aload_n X rfl dX11_isShared_27 ?_
  refine rf_getI X fl_X11_220 hv1 dX11_isShared_28 ?_
  refine rf_bipush X (59 : Int32) rfl dX11_isShared_31 ?_
  refine rf_icmp_ne X (tgt := 40) rfl dX11_isShared_33 (fun c7 => ?_) (fun c7 => ?_)
  · exact jF (fun z => z.elim (fun z => z.elim (fun z => z.elim c4 c5) c6) c7)
  exact jT (Or.inr c7)

