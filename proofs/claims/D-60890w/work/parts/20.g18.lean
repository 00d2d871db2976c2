/-! 20.g18: printed by gen/parts.py -/
set_option maxRecDepth 100000
theorem fl_X11_25 : FLr RX11 25 11 6 := ⟨RX11, TX11, 60, "WarpMillModel", "", rfl, by decide, in_X11, Or.inl q1563, Or.inl rfl⟩
theorem fl_X11_7 : FLr RX11 7 11 1 := ⟨RX11, TX11, 60, "WarpMillModel", "", rfl, by decide, in_X11, Or.inl q1558, Or.inl rfl⟩
theorem fp_X11_150 : FL RX11 150 11 12 (.int) false := ⟨RX11, TX11, 60, tyX11, "WarpMillModel", "", rfl, by decide, in_X11, tyX11_ok, nmX11, Or.inl q1569, Or.inl rfl, rfl, rfl, fun h => by cases h⟩
theorem fp_X11_153 : FL RX11 153 11 13 (.int) false := ⟨RX11, TX11, 60, tyX11, "WarpMillModel", "", rfl, by decide, in_X11, tyX11_ok, nmX11, Or.inl q1570, Or.inl rfl, rfl, rfl, fun h => by cases h⟩
theorem fp_X11_156 : FL RX11 156 11 14 (.int) false := ⟨RX11, TX11, 60, tyX11, "WarpMillModel", "", rfl, by decide, in_X11, tyX11_ok, nmX11, Or.inl q1571, Or.inl rfl, rfl, rfl, fun h => by cases h⟩
theorem fl_X11_93 : FLr RX11 93 11 45 := ⟨RX11, TX11, 60, "WarpMillModel", "", rfl, by decide, in_X11, Or.inl q1602, Or.inl rfl⟩
theorem fl_X11_96 : FLr RX11 96 11 46 := ⟨RX11, TX11, 60, "WarpMillModel", "", rfl, by decide, in_X11, Or.inl q1603, Or.inl rfl⟩
theorem fl_X11_99 : FLr RX11 99 11 47 := ⟨RX11, TX11, 60, "WarpMillModel", "", rfl, by decide, in_X11, Or.inl q1604, Or.inl rfl⟩
theorem fl_X11_102 : FLr RX11 102 11 48 := ⟨RX11, TX11, 60, "WarpMillModel", "", rfl, by decide, in_X11, Or.inl q1605, Or.inl rfl⟩
theorem fl_X11_90 : FLr RX11 90 11 44 := ⟨RX11, TX11, 60, "WarpMillModel", "", rfl, by decide, in_X11, Or.inl q1601, Or.inl rfl⟩
theorem fl_X11_67 : FLr RX11 67 11 35 := ⟨RX11, TX11, 60, "WarpMillModel", "", rfl, by decide, in_X11, Or.inl q1592, Or.inl rfl⟩
theorem fl_X11_133 : FLr RX11 133 11 42 := ⟨RX11, TX11, 60, "WarpMillModel", "", rfl, by decide, in_X11, Or.inl q1599, Or.inl rfl⟩
theorem fl_X11_159 : FLr RX11 159 11 15 := ⟨RX11, TX11, 60, "WarpMillModel", "", rfl, by decide, in_X11, Or.inl q1572, Or.inl rfl⟩
theorem fl_X11_129 : FLr RX11 129 11 41 := ⟨RX11, TX11, 60, "WarpMillModel", "", rfl, by decide, in_X11, Or.inl q1598, Or.inl rfl⟩
theorem fl_X11_87 : FLr RX11 87 11 43 := ⟨RX11, TX11, 60, "WarpMillModel", "", rfl, by decide, in_X11, Or.inl q1600, Or.inl rfl⟩
theorem fl_X11_153 : FLr RX11 153 11 13 := ⟨RX11, TX11, 60, "WarpMillModel", "", rfl, by decide, in_X11, Or.inl q1570, Or.inl rfl⟩
theorem c_X11_352 : CS RX11 352 yX11_left cX11_left 4 (some Jvm.ClassFile.FieldType.int) 4 := ⟨q1789, q1790, q111, q1791, ⟨by decide +kernel, by decide +kernel, by decide +kernel⟩⟩
theorem c_X11_211 : CS RX11 211 yX11_thread cX11_thread 2 (some Jvm.ClassFile.FieldType.int) 2 := ⟨q1792, q1793, q111, q1794, ⟨by decide +kernel, by decide +kernel, by decide +kernel⟩⟩
theorem c_X11_356 : CV RX11 356 11 yX11_doOne cX11_doOne 5 none 1 := ⟨TX11, 60, rfl, q1785, q1787, qs34, q111, q1788, ⟨by decide +kernel, by decide +kernel, by decide +kernel⟩⟩
theorem dX11_set_0 : decode cX11_set 0 = .ok (.aload_n 0, 1) := by decide +kernel
theorem dX11_set_1 : decode cX11_set 1 = .ok (.iconst 0, 1) := by decide +kernel
theorem dX11_set_2 : decode cX11_set 2 = .ok (.putfield 120, 3) := by decide +kernel
theorem dX11_set_5 : decode cX11_set 5 = .ok (.iload_n 1, 1) := by decide +kernel
theorem dX11_set_6 : decode cX11_set 6 = .ok (.ifCond .lt 18, 3) := by decide +kernel
theorem dX11_set_9 : decode cX11_set 9 = .ok (.iload_n 1, 1) := by decide +kernel
theorem dX11_set_10 : decode cX11_set 10 = .ok (.aload_n 0, 1) := by decide +kernel
theorem dX11_set_11 : decode cX11_set 11 = .ok (.getfield 25, 3) := by decide +kernel
theorem dX11_set_14 : decode cX11_set 14 = .ok (.if_icmp .ge 10, 3) := by decide +kernel
theorem dX11_set_17 : decode cX11_set 17 = .ok (.aload_n 0, 1) := by decide +kernel
theorem dX11_set_18 : decode cX11_set 18 = .ok (.invokevirtual 143, 3) := by decide +kernel
theorem dX11_set_21 : decode cX11_set 21 = .ok (.ifCond .eq 5, 3) := by decide +kernel
theorem dX11_set_24 : decode cX11_set 24 = .ok (.iconst 0, 1) := by decide +kernel
theorem dX11_set_25 : decode cX11_set 25 = .ok (.ireturn, 1) := by decide +kernel
theorem dX11_set_26 : decode cX11_set 26 = .ok (.aload_n 0, 1) := by decide +kernel
theorem dX11_set_27 : decode cX11_set 27 = .ok (.getfield 32, 3) := by decide +kernel
theorem dX11_set_30 : decode cX11_set 30 = .ok (.iload_n 1, 1) := by decide +kernel
theorem dX11_set_31 : decode cX11_set 31 = .ok (.iload_n 2, 1) := by decide +kernel
theorem dX11_set_32 : decode cX11_set 32 = .ok (.iastore, 1) := by decide +kernel
theorem dX11_set_33 : decode cX11_set 33 = .ok (.iconst 1, 1) := by decide +kernel
theorem dX11_set_34 : decode cX11_set 34 = .ok (.ireturn, 1) := by decide +kernel
def fX11_set (a0 : Nat) (p1 : Int32) (p2 : Int32) (A : AH) : Option (Int32 × AH) :=
(pI A (some a0) 11 0 (0 : Int32)).bind fun A1 =>
(gI A1 (some a0) 11 6).bind fun v2 =>
jn (some ((nb (0 : Int32)), A1)) fun j3 =>
if ((p1 < 0) ∨ (v2 ≤ p1)) then (j3) else
(rcv A1 (some a0) 11).bind fun v4 =>
(fX11_isUnder v4 A1).bind fun g5 =>
if g5 = 0 then ((gR A1 (some a0) 11 8).bind fun v7 =>
(sI A1 v7 p1 p2).bind fun A8 =>
some ((nb (1 : Int32)), A8)) else
j3

set_option maxHeartbeats 4000000 in
set_option maxRecDepth 100000 in
theorem sX11_set (l : Launch) (D : DE) (a0 : Nat) (p1 : Int32) (p2 : Int32) (A : AH) (g : Int32 × AH) (hg : fX11_set a0 p1 p2 A = some g) : Sm l D yX11_set cX11_set 3 (some Jvm.ClassFile.FieldType.boolean) 1 20 [tR (some a0), tI p1, tI p2] A (wI g).1 (wI g).2 := by
  refine Sm.of (ω := wI) (fX11_set a0 p1 p2 A) [some (tR (some a0)), some (tI p1), some (tI p2)] (by decide) (Nat.le_of_ble_eq_true rfl) rfl hg ?_
  intro p e R s m args below meth c X hin
  have X : Cx D cX11_set RX11 3 1 20 (some Jvm.ClassFile.FieldType.boolean) p R s m args meth c := X
  unfold fX11_set
  refine rf_aload_n X rfl dX11_set_0 ?_
  refine rf_iconst X (0 : Int32) rfl dX11_set_1 ?_
  refine rf_bind (fun A1 hA1 => ?_)
  refine rf_putI X fp_X11_120 (fun h => by cases h) hA1 dX11_set_2 ?_
  refine rf_iload_n X rfl dX11_set_5 ?_
  refine rf_bind (fun v2 hv2 => ?_)
  refine rf_jn2 (fun i => RfX X l e below wI i 24 [none, none, none] [] A1) ?_ (fun j3 hj3 => ?_)
  · show RfX X l e below _ _ _ _ _ _
    refine rf_iconst X (0 : Int32) rfl dX11_set_24 ?_
    exact rf_zret X rfl dX11_set_25
  refine rf_br 24 17 [some (tR (some a0)), some (tI p1), some (tI p2)] [some (tR (some a0)), some (tI p1), some (tI p2)] [] [] (fun _ => ?_) (fun _ => ?_) (fun _ jT jF => ?_)
  · exact rf_go hj3 True.intro
  · refine rf_aload_n X rfl dX11_set_17 ?_
    refine rf_bind (fun v4 hv4 => ?_)
    refine rf_bind (fun g5 hg5 => ?_)
    refine rf_callVI X c_X11_143 ⟨Nat.le_of_ble_eq_true rfl, Nat.le_of_ble_eq_true rfl⟩ [] rfl (Nat.le_of_ble_eq_true rfl) hv4 (sX11_isUnder l D v4 A1 g5 hg5) dX11_set_18 ?_
    refine rf_if_eq X (tgt := 26) rfl dX11_set_21 (fun c6 => rf_pos c6 ?_) (fun c6 => rf_neg c6 ?_)
    · refine rf_aload_n X rfl dX11_set_26 ?_
      refine rf_bind (fun v7 hv7 => ?_)
      refine rf_getR X fl_X11_32 hv7 dX11_set_27 ?_
      refine rf_iload_n X rfl dX11_set_30 ?_
      refine rf_iload_n X rfl dX11_set_31 ?_
      refine rf_bind (fun A8 hA8 => ?_)
      refine rf_iast X hA8 dX11_set_32 ?_
      refine rf_iconst X (1 : Int32) rfl dX11_set_33 ?_
      exact rf_zret X rfl dX11_set_34
    exact rf_go hj3 True.intro
  refine rf_if_lt X (tgt := 24) rfl dX11_set_6 (fun c9 => ?_) (fun c9 => ?_)
  · exact jT (Or.inl c9)
  refine rf_iload_n X rfl dX11_set_9 ?_
  refine rf_aload_n X rfl dX11_set_10 ?_
  refine rf_getI X fl_X11_25 hv2 dX11_set_11 ?_
  refine rf_icmp_ge X (tgt := 24) rfl dX11_set_14 (fun c10 => ?_) (fun c10 => ?_)
  · exact jT (Or.inr c10)
  exact jF (fun z => z.elim c9 c10)

theorem dX11_launch_0 : decode cX11_launch 0 = .ok (.aload_n 0, 1) := by decide +kernel
theorem dX11_launch_1 : decode cX11_launch 1 = .ok (.iconst 0, 1) := by decide +kernel
theorem dX11_launch_2 : decode cX11_launch 2 = .ok (.putfield 120, 3) := by decide +kernel
theorem dX11_launch_5 : decode cX11_launch 5 = .ok (.aload_n 0, 1) := by decide +kernel
theorem dX11_launch_6 : decode cX11_launch 6 = .ok (.invokevirtual 143, 3) := by decide +kernel
theorem dX11_launch_9 : decode cX11_launch 9 = .ok (.ifCond .ne 32, 3) := by decide +kernel
theorem dX11_launch_12 : decode cX11_launch 12 = .ok (.iload_n 1, 1) := by decide +kernel
theorem dX11_launch_13 : decode cX11_launch 13 = .ok (.iconst 1, 1) := by decide +kernel
theorem dX11_launch_14 : decode cX11_launch 14 = .ok (.if_icmp .lt 27, 3) := by decide +kernel
theorem dX11_launch_17 : decode cX11_launch 17 = .ok (.iload_n 1, 1) := by decide +kernel
theorem dX11_launch_18 : decode cX11_launch 18 = .ok (.bipush 64, 2) := by decide +kernel
theorem dX11_launch_20 : decode cX11_launch 20 = .ok (.if_icmp .gt 21, 3) := by decide +kernel
theorem dX11_launch_23 : decode cX11_launch 23 = .ok (.iload_n 2, 1) := by decide +kernel
theorem dX11_launch_24 : decode cX11_launch 24 = .ok (.iconst 1, 1) := by decide +kernel
theorem dX11_launch_25 : decode cX11_launch 25 = .ok (.if_icmp .lt 16, 3) := by decide +kernel
theorem dX11_launch_28 : decode cX11_launch 28 = .ok (.iload_n 2, 1) := by decide +kernel
theorem dX11_launch_29 : decode cX11_launch 29 = .ok (.aload_n 0, 1) := by decide +kernel
theorem dX11_launch_30 : decode cX11_launch 30 = .ok (.getfield 7, 3) := by decide +kernel
theorem dX11_launch_33 : decode cX11_launch 33 = .ok (.aload_n 0, 1) := by decide +kernel
theorem dX11_launch_34 : decode cX11_launch 34 = .ok (.getfield 13, 3) := by decide +kernel
theorem dX11_launch_37 : decode cX11_launch 37 = .ok (.imul, 1) := by decide +kernel
theorem dX11_launch_38 : decode cX11_launch 38 = .ok (.if_icmp .le 5, 3) := by decide +kernel
theorem dX11_launch_41 : decode cX11_launch 41 = .ok (.iconst 0, 1) := by decide +kernel
theorem dX11_launch_42 : decode cX11_launch 42 = .ok (.ireturn, 1) := by decide +kernel
theorem dX11_launch_43 : decode cX11_launch 43 = .ok (.aload_n 0, 1) := by decide +kernel
theorem dX11_launch_44 : decode cX11_launch 44 = .ok (.iload_n 1, 1) := by decide +kernel
theorem dX11_launch_45 : decode cX11_launch 45 = .ok (.putfield 150, 3) := by decide +kernel
theorem dX11_launch_48 : decode cX11_launch 48 = .ok (.aload_n 0, 1) := by decide +kernel
theorem dX11_launch_49 : decode cX11_launch 49 = .ok (.iload_n 2, 1) := by decide +kernel
theorem dX11_launch_50 : decode cX11_launch 50 = .ok (.putfield 153, 3) := by decide +kernel
theorem dX11_launch_53 : decode cX11_launch 53 = .ok (.aload_n 0, 1) := by decide +kernel
theorem dX11_launch_54 : decode cX11_launch 54 = .ok (.iconst 1, 1) := by decide +kernel
theorem dX11_launch_55 : decode cX11_launch 55 = .ok (.putfield 136, 3) := by decide +kernel
theorem dX11_launch_58 : decode cX11_launch 58 = .ok (.aload_n 0, 1) := by decide +kernel
theorem dX11_launch_59 : decode cX11_launch 59 = .ok (.iconst 0, 1) := by decide +kernel
theorem dX11_launch_60 : decode cX11_launch 60 = .ok (.putfield 156, 3) := by decide +kernel
theorem dX11_launch_63 : decode cX11_launch 63 = .ok (.aload_n 0, 1) := by decide +kernel
theorem dX11_launch_64 : decode cX11_launch 64 = .ok (.invokevirtual 147, 3) := by decide +kernel
theorem dX11_launch_67 : decode cX11_launch 67 = .ok (.aload_n 0, 1) := by decide +kernel
theorem dX11_launch_68 : decode cX11_launch 68 = .ok (.invokevirtual 126, 3) := by decide +kernel
theorem dX11_launch_71 : decode cX11_launch 71 = .ok (.iconst 1, 1) := by decide +kernel
theorem dX11_launch_72 : decode cX11_launch 72 = .ok (.ireturn, 1) := by decide +kernel
def fX11_launch (n : Nat) (a0 : Nat) (p1 : Int32) (p2 : Int32) (A : AH) : Option (Int32 × AH) :=
(pI A (some a0) 11 0 (0 : Int32)).bind fun A1 =>
(rcv A1 (some a0) 11).bind fun v2 =>
(fX11_isUnder v2 A1).bind fun g3 =>
(gI A1 (some a0) 11 1).bind fun v4 =>
(gI A1 (some a0) 11 2).bind fun v5 =>
if (((((g3 = 0) ∧ (¬ (p1 < (1 : Int32)))) ∧ (¬ ((64 : Int32) < p1))) ∧ (¬ (p2 < (1 : Int32)))) ∧ (p2 ≤ (v4 * v5))) then ((pI A1 (some a0) 11 12 p1).bind fun A6 =>
(pI A6 (some a0) 11 13 p2).bind fun A7 =>
(pI A7 (some a0) 11 11 (1 : Int32)).bind fun A8 =>
(pI A8 (some a0) 11 14 (0 : Int32)).bind fun A9 =>
(rcv A9 (some a0) 11).bind fun v10 =>
(fX11_clearCounts v10 A9).bind fun g11 =>
(rcv g11 (some a0) 11).bind fun v12 =>
(fX11_clearUnits n v12 g11).bind fun g13 =>
some ((nb (1 : Int32)), g13)) else
some ((nb (0 : Int32)), A1)

set_option maxHeartbeats 4000000 in
set_option maxRecDepth 100000 in
theorem sX11_launch (l : Launch) (D : DE) (n : Nat) (a0 : Nat) (p1 : Int32) (p2 : Int32) (A : AH) (g : Int32 × AH) (hg : fX11_launch n a0 p1 p2 A = some g) : Sm l D yX11_launch cX11_launch 3 (some Jvm.ClassFile.FieldType.boolean) 2 42 [tR (some a0), tI p1, tI p2] A (wI g).1 (wI g).2 := by
  refine Sm.of (ω := wI) (fX11_launch n a0 p1 p2 A) [some (tR (some a0)), some (tI p1), some (tI p2)] (by decide) (Nat.le_of_ble_eq_true rfl) rfl hg ?_
  intro p e R s m args below meth c X hin
  have X : Cx D cX11_launch RX11 3 2 42 (some Jvm.ClassFile.FieldType.boolean) p R s m args meth c := X
  unfold fX11_launch
  refine rf_aload_n X rfl dX11_launch_0 ?_
  refine rf_iconst X (0 : Int32) rfl dX11_launch_1 ?_
  refine rf_bind (fun A1 hA1 => ?_)
  refine rf_putI X fp_X11_120 (fun h => by cases h) hA1 dX11_launch_2 ?_
  refine rf_aload_n X rfl dX11_launch_5 ?_
  refine rf_bind (fun v2 hv2 => ?_)
  refine rf_bind (fun g3 hg3 => ?_)
  refine rf_callVI X c_X11_143 ⟨Nat.le_of_ble_eq_true rfl, Nat.le_of_ble_eq_true rfl⟩ [] rfl (Nat.le_of_ble_eq_true rfl) hv2 (sX11_isUnder l D v2 A1 g3 hg3) dX11_launch_6 ?_
  refine rf_bind (fun v4 hv4 => ?_)
  refine rf_bind (fun v5 hv5 => ?_)
  refine rf_br 43 41 [some (tR (some a0)), some (tI p1), some (tI p2)] [some (tR (some a0)), some (tI p1), some (tI p2)] [] [] (fun _ => ?_) (fun _ => ?_) (fun _ jT jF => ?_)
  · refine rf_aload_n X rfl dX11_launch_43 ?_
    refine rf_iload_n X rfl dX11_launch_44 ?_
    refine rf_bind (fun A6 hA6 => ?_)
    refine rf_putI X fp_X11_150 (fun h => by cases h) hA6 dX11_launch_45 ?_
    refine rf_aload_n X rfl dX11_launch_48 ?_
    refine rf_iload_n X rfl dX11_launch_49 ?_
    refine rf_bind (fun A7 hA7 => ?_)
    refine rf_putI X fp_X11_153 (fun h => by cases h) hA7 dX11_launch_50 ?_
    refine rf_aload_n X rfl dX11_launch_53 ?_
    refine rf_iconst X (1 : Int32) rfl dX11_launch_54 ?_
    refine rf_bind (fun A8 hA8 => ?_)
    refine rf_putI X fp_X11_136 (fun h => by cases h) hA8 dX11_launch_55 ?_
    refine rf_aload_n X rfl dX11_launch_58 ?_
    refine rf_iconst X (0 : Int32) rfl dX11_launch_59 ?_
    refine rf_bind (fun A9 hA9 => ?_)
    refine rf_putI X fp_X11_156 (fun h => by cases h) hA9 dX11_launch_60 ?_
    refine rf_aload_n X rfl dX11_launch_63 ?_
    refine rf_bind (fun v10 hv10 => ?_)
    refine rf_bind (fun g11 hg11 => ?_)
    refine rf_callVU X c_X11_147 ⟨Nat.le_of_ble_eq_true rfl, Nat.le_of_ble_eq_true rfl⟩ [] rfl (Nat.le_of_ble_eq_true rfl) hv10 (sX11_clearCounts l D v10 A9 g11 hg11) dX11_launch_64 ?_
    refine rf_aload_n X rfl dX11_launch_67 ?_
    refine rf_bind (fun v12 hv12 => ?_)
    refine rf_bind (fun g13 hg13 => ?_)
    refine rf_callVU X c_X11_126 ⟨Nat.le_of_ble_eq_true rfl, Nat.le_of_ble_eq_true rfl⟩ [] rfl (Nat.le_of_ble_eq_true rfl) hv12 (sX11_clearUnits l D n v12 g11 g13 hg13) dX11_launch_68 ?_
    refine rf_iconst X (1 : Int32) rfl dX11_launch_71 ?_
    exact rf_zret X rfl dX11_launch_72
  · refine rf_iconst X (0 : Int32) rfl dX11_launch_41 ?_
    exact rf_zret X rfl dX11_launch_42
  refine rf_if_ne X (tgt := 41) rfl dX11_launch_9 (fun c14 => ?_) (fun c14 => ?_)
  · exact jF (fun z => (fun z => (fun z => (fun z => c14 z.1) z.1) z.1) z.1)
  refine rf_iload_n X rfl dX11_launch_12 ?_
  refine rf_iconst X (1 : Int32) rfl dX11_launch_13 ?_
  refine rf_icmp_lt X (tgt := 41) rfl dX11_launch_14 (fun c15 => ?_) (fun c15 => ?_)
  · exact jF (fun z => (fun z => (fun z => (fun z => (fun z => z c15) z.2) z.1) z.1) z.1)
  refine rf_iload_n X rfl dX11_launch_17 ?_
  refine rf_bipush X (64 : Int32) rfl dX11_launch_18 ?_
  refine rf_icmp_gt X (tgt := 41) rfl dX11_launch_20 (fun c16 => ?_) (fun c16 => ?_)
  · exact jF (fun z => (fun z => (fun z => (fun z => z c16) z.2) z.1) z.1)
  refine rf_iload_n X rfl dX11_launch_23 ?_
  refine rf_iconst X (1 : Int32) rfl dX11_launch_24 ?_
  refine rf_icmp_lt X (tgt := 41) rfl dX11_launch_25 (fun c17 => ?_) (fun c17 => ?_)
  · exact jF (fun z => (fun z => (fun z => z c17) z.2) z.1)
  refine rf_iload_n X rfl dX11_launch_28 ?_
  refine rf_aload_n X rfl dX11_launch_29 ?_
  refine rf_getI X fl_X11_7 hv4 dX11_launch_30 ?_
  refine rf_aload_n X rfl dX11_launch_33 ?_
  refine rf_getI X fl_X11_13 hv5 dX11_launch_34 ?_
  refine rf_imul X dX11_launch_37 ?_
  refine rf_icmp_le X (tgt := 43) rfl dX11_launch_38 (fun c18 => ?_) (fun c18 => ?_)
  · exact jT ⟨⟨⟨⟨c14, c15⟩, c16⟩, c17⟩, c18⟩
  exact jF (fun z => c18 z.2)

theorem dX11_raise_0 : decode cX11_raise 0 = .ok (.aload_n 0, 1) := by decide +kernel
theorem dX11_raise_1 : decode cX11_raise 1 = .ok (.iload_n 1, 1) := by decide +kernel
theorem dX11_raise_2 : decode cX11_raise 2 = .ok (.putfield 120, 3) := by decide +kernel
theorem dX11_raise_5 : decode cX11_raise 5 = .ok (.iconst 0, 1) := by decide +kernel
theorem dX11_raise_6 : decode cX11_raise 6 = .ok (.ireturn, 1) := by decide +kernel
def fX11_raise (a0 : Nat) (p1 : Int32) (A : AH) : Option (Int32 × AH) :=
(pI A (some a0) 11 0 p1).bind fun A1 =>
some ((0 : Int32), A1)

set_option maxHeartbeats 4000000 in
set_option maxRecDepth 100000 in
theorem sX11_raise (l : Launch) (D : DE) (a0 : Nat) (p1 : Int32) (A : AH) (g : Int32 × AH) (hg : fX11_raise a0 p1 A = some g) : Sm l D yX11_raise cX11_raise 2 (some Jvm.ClassFile.FieldType.int) 0 0 [tR (some a0), tI p1] A (wI g).1 (wI g).2 := by
  refine Sm.of (ω := wI) (fX11_raise a0 p1 A) [some (tR (some a0)), some (tI p1)] (by decide) (Nat.le_of_ble_eq_true rfl) rfl hg ?_
  intro p e R s m args below meth c X hin
  have X : Cx D cX11_raise RX11 2 0 0 (some Jvm.ClassFile.FieldType.int) p R s m args meth c := X
  unfold fX11_raise
  refine rf_aload_n X rfl dX11_raise_0 ?_
  refine rf_iload_n X rfl dX11_raise_1 ?_
  refine rf_bind (fun A1 hA1 => ?_)
  refine rf_putI X fp_X11_120 (fun h => by cases h) hA1 dX11_raise_2 ?_
  refine rf_iconst X (0 : Int32) rfl dX11_raise_5 ?_
  exact rf_iret X rfl dX11_raise_6

theorem dX11_left_0 : decode cX11_left 0 = .ok (.iload_n 0, 1) := by decide +kernel
theorem dX11_left_1 : decode cX11_left 1 = .ok (.tableswitch 79 51 59 #[51, 79, 51, 53, 57, 51, 68, 53, 51], 51) := by decide +kernel
theorem dX11_left_52 : decode cX11_left 52 = .ok (.iload_n 2, 1) := by decide +kernel
theorem dX11_left_53 : decode cX11_left 53 = .ok (.ireturn, 1) := by decide +kernel
theorem dX11_left_54 : decode cX11_left 54 = .ok (.iload_n 1, 1) := by decide +kernel
theorem dX11_left_55 : decode cX11_left 55 = .ok (.iload_n 2, 1) := by decide +kernel
theorem dX11_left_56 : decode cX11_left 56 = .ok (.iadd, 1) := by decide +kernel
theorem dX11_left_57 : decode cX11_left 57 = .ok (.ireturn, 1) := by decide +kernel
theorem dX11_left_58 : decode cX11_left 58 = .ok (.iload_n 1, 1) := by decide +kernel
theorem dX11_left_59 : decode cX11_left 59 = .ok (.iload_n 2, 1) := by decide +kernel
theorem dX11_left_60 : decode cX11_left 60 = .ok (.if_icmp .le 7, 3) := by decide +kernel
theorem dX11_left_63 : decode cX11_left 63 = .ok (.iload_n 1, 1) := by decide +kernel
theorem dX11_left_64 : decode cX11_left 64 = .ok (.goto 4, 3) := by decide +kernel
theorem dX11_left_67 : decode cX11_left 67 = .ok (.iload_n 2, 1) := by decide +kernel
theorem dX11_left_68 : decode cX11_left 68 = .ok (.ireturn, 1) := by decide +kernel
theorem dX11_left_69 : decode cX11_left 69 = .ok (.iload_n 1, 1) := by decide +kernel
theorem dX11_left_70 : decode cX11_left 70 = .ok (.iload_n 3, 1) := by decide +kernel
theorem dX11_left_71 : decode cX11_left 71 = .ok (.if_icmp .ne 7, 3) := by decide +kernel
theorem dX11_left_74 : decode cX11_left 74 = .ok (.iload_n 2, 1) := by decide +kernel
theorem dX11_left_75 : decode cX11_left 75 = .ok (.goto 4, 3) := by decide +kernel
theorem dX11_left_78 : decode cX11_left 78 = .ok (.iload_n 1, 1) := by decide +kernel
theorem dX11_left_79 : decode cX11_left 79 = .ok (.ireturn, 1) := by decide +kernel
theorem dX11_left_80 : decode cX11_left 80 = .ok (.iload_n 1, 1) := by decide +kernel
theorem dX11_left_81 : decode cX11_left 81 = .ok (.ireturn, 1) := by decide +kernel
def fX11_left (p1 : Int32) (p2 : Int32) (p3 : Int32) (p4 : Int32) (A : AH) : Option (Int32) :=
jn (some p2) fun j1 =>
jn (some p3) fun j2 =>
jn (some (p2 + p3)) fun j3 =>
if p1 = (51 : Int32) then (j2) else
if p1 = (52 : Int32) then (j1) else
if p1 = (53 : Int32) then (j2) else
if p1 = (54 : Int32) then (j3) else
if p1 = (55 : Int32) then (jn (fun (y10 : Int32) =>
some y10) fun j9 =>
if p2 ≤ p3 then (j9 p3) else
j9 p2) else
if p1 = (56 : Int32) then (j2) else
if p1 = (57 : Int32) then (jn (fun (y15 : Int32) =>
some y15) fun j14 =>
if p2 = p4 then (j14 p3) else
j14 p2) else
if p1 = (58 : Int32) then (j3) else
if p1 = (59 : Int32) then (j2) else
j1

set_option maxHeartbeats 4000000 in
set_option maxRecDepth 100000 in
theorem sX11_left (l : Launch) (D : DE) (p1 : Int32) (p2 : Int32) (p3 : Int32) (p4 : Int32) (A : AH) (g : Int32) (hg : fX11_left p1 p2 p3 p4 A = some g) : Sm l D yX11_left cX11_left 4 (some Jvm.ClassFile.FieldType.int) 0 0 [tI p1, tI p2, tI p3, tI p4] A (qI A g).1 (qI A g).2 := by
  refine Sm.of (ω := qI A) (fX11_left p1 p2 p3 p4 A) [some (tI p1), some (tI p2), some (tI p3), some (tI p4)] (by decide) (Nat.le_of_ble_eq_true rfl) rfl hg ?_
  intro p e R s m args below meth c X hin
  have X : Cx D cX11_left RX11 4 0 0 (some Jvm.ClassFile.FieldType.int) p R s m args meth c := X
  unfold fX11_left
  refine rf_iload_n X rfl dX11_left_0 ?_
  refine rf_jn2 (fun i => RfX X l e below (qI A) i 80 [none, some (tI p2), none, none] [] A) ?_ (fun j1 hj1 => ?_)
  · show RfX X l e below _ _ _ _ _ _
    refine rf_iload_n X rfl dX11_left_80 ?_
    exact rf_iret X rfl dX11_left_81
  refine rf_jn2 (fun i => RfX X l e below (qI A) i 52 [none, none, some (tI p3), none] [] A) ?_ (fun j2 hj2 => ?_)
  · show RfX X l e below _ _ _ _ _ _
    refine rf_iload_n X rfl dX11_left_52 ?_
    exact rf_iret X rfl dX11_left_53
  refine rf_jn2 (fun i => RfX X l e below (qI A) i 54 [none, some (tI p2), some (tI p3), none] [] A) ?_ (fun j3 hj3 => ?_)
  · show RfX X l e below _ _ _ _ _ _
    refine rf_iload_n X rfl dX11_left_54 ?_
    refine rf_iload_n X rfl dX11_left_55 ?_
    refine rf_iadd X dX11_left_56 ?_
    exact rf_iret X rfl dX11_left_57
  by_cases c4 : p1 = (51 : Int32)
  · refine rf_pos c4 ?_
    refine rf_tsIn X (51 : Int32) c4 (by decide) (by decide) (tgt := 52) rfl rfl dX11_left_1 ?_
    exact rf_go hj2 (And.intro rfl True.intro)
  refine rf_neg c4 ?_
  by_cases c5 : p1 = (52 : Int32)
  · refine rf_pos c5 ?_
    refine rf_tsIn X (52 : Int32) c5 (by decide) (by decide) (tgt := 80) rfl rfl dX11_left_1 ?_
    exact rf_go hj1 (And.intro rfl True.intro)
  refine rf_neg c5 ?_
  by_cases c6 : p1 = (53 : Int32)
  · refine rf_pos c6 ?_
    refine rf_tsIn X (53 : Int32) c6 (by decide) (by decide) (tgt := 52) rfl rfl dX11_left_1 ?_
    exact rf_go hj2 (And.intro rfl True.intro)
  refine rf_neg c6 ?_
  by_cases c7 : p1 = (54 : Int32)
  · refine rf_pos c7 ?_
    refine rf_tsIn X (54 : Int32) c7 (by decide) (by decide) (tgt := 54) rfl rfl dX11_left_1 ?_
    exact rf_go hj3 (And.intro rfl (And.intro rfl True.intro))
  refine rf_neg c7 ?_
  by_cases c8 : p1 = (55 : Int32)
  · refine rf_pos c8 ?_
    refine rf_tsIn X (55 : Int32) c8 (by decide) (by decide) (tgt := 58) rfl rfl dX11_left_1 ?_
    refine rf_iload_n X rfl dX11_left_58 ?_
    refine rf_iload_n X rfl dX11_left_59 ?_
    refine rf_jn2 (fun i => ∀ (y10 : Int32), RfX X l e below (qI A) (i y10) 68 [none, none, none, none] [tI y10] A) ?_ (fun j9 hj9 => ?_)
    · intro y10
      exact rf_iret X rfl dX11_left_68
    refine rf_icmp_le X (tgt := 67) rfl dX11_left_60 (fun c11 => rf_pos c11 ?_) (fun c11 => rf_neg c11 ?_)
    · refine rf_iload_n X rfl dX11_left_67 ?_
      exact rf_go (hj9 p3) True.intro
    refine rf_iload_n X rfl dX11_left_63 ?_
    refine rf_goto X (tgt := 68) rfl dX11_left_64 ?_
    exact rf_go (hj9 p2) True.intro
  refine rf_neg c8 ?_
  by_cases c12 : p1 = (56 : Int32)
  · refine rf_pos c12 ?_
    refine rf_tsIn X (56 : Int32) c12 (by decide) (by decide) (tgt := 52) rfl rfl dX11_left_1 ?_
    exact rf_go hj2 (And.intro rfl True.intro)
  refine rf_neg c12 ?_
  by_cases c13 : p1 = (57 : Int32)
  · refine rf_pos c13 ?_
    refine rf_tsIn X (57 : Int32) c13 (by decide) (by decide) (tgt := 69) rfl rfl dX11_left_1 ?_
    refine rf_iload_n X rfl dX11_left_69 ?_
    refine rf_iload_n X rfl dX11_left_70 ?_
    refine rf_jn2 (fun i => ∀ (y15 : Int32), RfX X l e below (qI A) (i y15) 79 [none, none, none, none] [tI y15] A) ?_ (fun j14 hj14 => ?_)
    · intro y15
      exact rf_iret X rfl dX11_left_79
    refine rf_icmp_ne X (tgt := 78) rfl dX11_left_71 (fun c16 => rf_neg c16 ?_) (fun c16 => rf_pos c16 ?_)
    · refine rf_iload_n X rfl dX11_left_78 ?_
      exact rf_go (hj14 p2) True.intro
    refine rf_iload_n X rfl dX11_left_74 ?_
    refine rf_goto X (tgt := 79) rfl dX11_left_75 ?_
    exact rf_go (hj14 p3) True.intro
  refine rf_neg c13 ?_
  by_cases c17 : p1 = (58 : Int32)
  · refine rf_pos c17 ?_
    refine rf_tsIn X (58 : Int32) c17 (by decide) (by decide) (tgt := 54) rfl rfl dX11_left_1 ?_
    exact rf_go hj3 (And.intro rfl (And.intro rfl True.intro))
  refine rf_neg c17 ?_
  by_cases c18 : p1 = (59 : Int32)
  · refine rf_pos c18 ?_
    refine rf_tsIn X (59 : Int32) c18 (by decide) (by decide) (tgt := 52) rfl rfl dX11_left_1 ?_
    exact rf_go hj2 (And.intro rfl True.intro)
  refine rf_neg c18 ?_
  refine rf_tsOut X (ts_def (51) (59) [(51 : Int32), (52 : Int32), (53 : Int32), (54 : Int32), (55 : Int32), (56 : Int32), (57 : Int32), (58 : Int32), (59 : Int32)] 9 (by decide) (by decide) (List.forall_mem_cons.mpr ⟨c4, (List.forall_mem_cons.mpr ⟨c5, (List.forall_mem_cons.mpr ⟨c6, (List.forall_mem_cons.mpr ⟨c7, (List.forall_mem_cons.mpr ⟨c8, (List.forall_mem_cons.mpr ⟨c12, (List.forall_mem_cons.mpr ⟨c13, (List.forall_mem_cons.mpr ⟨c17, (List.forall_mem_cons.mpr ⟨c18, (fun _ h => absurd h List.not_mem_nil)⟩)⟩)⟩)⟩)⟩)⟩)⟩)⟩)⟩)) (tgt := 80) rfl dX11_left_1 ?_
  exact rf_go hj1 (And.intro rfl True.intro)

theorem dX11_thread_0 : decode cX11_thread 0 = .ok (.bipush 32, 2) := by decide +kernel
theorem dX11_thread_2 : decode cX11_thread 2 = .ok (.iload_n 0, 1) := by decide +kernel
theorem dX11_thread_3 : decode cX11_thread 3 = .ok (.imul, 1) := by decide +kernel
theorem dX11_thread_4 : decode cX11_thread 4 = .ok (.iload_n 1, 1) := by decide +kernel
theorem dX11_thread_5 : decode cX11_thread 5 = .ok (.iadd, 1) := by decide +kernel
theorem dX11_thread_6 : decode cX11_thread 6 = .ok (.ireturn, 1) := by decide +kernel
def fX11_thread (p1 : Int32) (p2 : Int32) (A : AH) : Option (Int32) :=
some (((32 : Int32) * p1) + p2)

set_option maxHeartbeats 4000000 in
set_option maxRecDepth 100000 in
theorem sX11_thread (l : Launch) (D : DE) (p1 : Int32) (p2 : Int32) (A : AH) (g : Int32) (hg : fX11_thread p1 p2 A = some g) : Sm l D yX11_thread cX11_thread 2 (some Jvm.ClassFile.FieldType.int) 0 0 [tI p1, tI p2] A (qI A g).1 (qI A g).2 := by
  refine Sm.of (ω := qI A) (fX11_thread p1 p2 A) [some (tI p1), some (tI p2)] (by decide) (Nat.le_of_ble_eq_true rfl) rfl hg ?_
  intro p e R s m args below meth c X hin
  have X : Cx D cX11_thread RX11 2 0 0 (some Jvm.ClassFile.FieldType.int) p R s m args meth c := X
  unfold fX11_thread
  refine rf_bipush X (32 : Int32) rfl dX11_thread_0 ?_
  refine rf_iload_n X rfl dX11_thread_2 ?_
  refine rf_imul X dX11_thread_3 ?_
  refine rf_iload_n X rfl dX11_thread_4 ?_
  refine rf_iadd X dX11_thread_5 ?_
  exact rf_iret X rfl dX11_thread_6

theorem dX11_doOne_0 : decode cX11_doOne 0 = .ok (.aload_n 0, 1) := by decide +kernel
theorem dX11_doOne_1 : decode cX11_doOne 1 = .ok (.getfield 93, 3) := by decide +kernel
theorem dX11_doOne_4 : decode cX11_doOne 4 = .ok (.iload_n 1, 1) := by decide +kernel
theorem dX11_doOne_5 : decode cX11_doOne 5 = .ok (.iaload, 1) := by decide +kernel
theorem dX11_doOne_6 : decode cX11_doOne 6 = .ok (.bipush 16, 2) := by decide +kernel
theorem dX11_doOne_8 : decode cX11_doOne 8 = .ok (.idiv, 1) := by decide +kernel
theorem dX11_doOne_9 : decode cX11_doOne 9 = .ok (.istore_n 2, 1) := by decide +kernel
theorem dX11_doOne_10 : decode cX11_doOne 10 = .ok (.aload_n 0, 1) := by decide +kernel
theorem dX11_doOne_11 : decode cX11_doOne 11 = .ok (.getfield 32, 3) := by decide +kernel
theorem dX11_doOne_14 : decode cX11_doOne 14 = .ok (.aload_n 0, 1) := by decide +kernel
theorem dX11_doOne_15 : decode cX11_doOne 15 = .ok (.getfield 96, 3) := by decide +kernel
theorem dX11_doOne_18 : decode cX11_doOne 18 = .ok (.iload_n 1, 1) := by decide +kernel
theorem dX11_doOne_19 : decode cX11_doOne 19 = .ok (.iaload, 1) := by decide +kernel
theorem dX11_doOne_20 : decode cX11_doOne 20 = .ok (.iaload, 1) := by decide +kernel
theorem dX11_doOne_21 : decode cX11_doOne 21 = .ok (.istore_n 3, 1) := by decide +kernel
theorem dX11_doOne_22 : decode cX11_doOne 22 = .ok (.aload_n 0, 1) := by decide +kernel
theorem dX11_doOne_23 : decode cX11_doOne 23 = .ok (.getfield 32, 3) := by decide +kernel
theorem dX11_doOne_26 : decode cX11_doOne 26 = .ok (.aload_n 0, 1) := by decide +kernel
theorem dX11_doOne_27 : decode cX11_doOne 27 = .ok (.getfield 96, 3) := by decide +kernel
theorem dX11_doOne_30 : decode cX11_doOne 30 = .ok (.iload_n 1, 1) := by decide +kernel
theorem dX11_doOne_31 : decode cX11_doOne 31 = .ok (.iaload, 1) := by decide +kernel
theorem dX11_doOne_32 : decode cX11_doOne 32 = .ok (.iload_n 2, 1) := by decide +kernel
theorem dX11_doOne_33 : decode cX11_doOne 33 = .ok (.iload_n 3, 1) := by decide +kernel
theorem dX11_doOne_34 : decode cX11_doOne 34 = .ok (.aload_n 0, 1) := by decide +kernel
theorem dX11_doOne_35 : decode cX11_doOne 35 = .ok (.getfield 99, 3) := by decide +kernel
theorem dX11_doOne_38 : decode cX11_doOne 38 = .ok (.iload_n 1, 1) := by decide +kernel
theorem dX11_doOne_39 : decode cX11_doOne 39 = .ok (.iaload, 1) := by decide +kernel
theorem dX11_doOne_40 : decode cX11_doOne 40 = .ok (.aload_n 0, 1) := by decide +kernel
theorem dX11_doOne_41 : decode cX11_doOne 41 = .ok (.getfield 102, 3) := by decide +kernel
theorem dX11_doOne_44 : decode cX11_doOne 44 = .ok (.iload_n 1, 1) := by decide +kernel
theorem dX11_doOne_45 : decode cX11_doOne 45 = .ok (.iaload, 1) := by decide +kernel
theorem dX11_doOne_46 : decode cX11_doOne 46 = .ok (.invokestatic 352, 3) := by decide +kernel
theorem dX11_doOne_49 : decode cX11_doOne 49 = .ok (.iastore, 1) := by decide +kernel
theorem dX11_doOne_50 : decode cX11_doOne 50 = .ok (.aload_n 0, 1) := by decide +kernel
theorem dX11_doOne_51 : decode cX11_doOne 51 = .ok (.getfield 90, 3) := by decide +kernel
theorem dX11_doOne_54 : decode cX11_doOne 54 = .ok (.iload_n 1, 1) := by decide +kernel
theorem dX11_doOne_55 : decode cX11_doOne 55 = .ok (.iaload, 1) := by decide +kernel
theorem dX11_doOne_56 : decode cX11_doOne 56 = .ok (.bipush 32, 2) := by decide +kernel
theorem dX11_doOne_58 : decode cX11_doOne 58 = .ok (.idiv, 1) := by decide +kernel
theorem dX11_doOne_59 : decode cX11_doOne 59 = .ok (.sipush 128, 3) := by decide +kernel
theorem dX11_doOne_62 : decode cX11_doOne 62 = .ok (.irem, 1) := by decide +kernel
theorem dX11_doOne_63 : decode cX11_doOne 63 = .ok (.istore 4, 2) := by decide +kernel
theorem dX11_doOne_65 : decode cX11_doOne 65 = .ok (.iload_n 2, 1) := by decide +kernel
theorem dX11_doOne_66 : decode cX11_doOne 66 = .ok (.bipush 51, 2) := by decide +kernel
theorem dX11_doOne_68 : decode cX11_doOne 68 = .ok (.if_icmp .eq 59, 3) := by decide +kernel
theorem dX11_doOne_71 : decode cX11_doOne 71 = .ok (.aload_n 0, 1) := by decide +kernel
theorem dX11_doOne_72 : decode cX11_doOne 72 = .ok (.getfield 54, 3) := by decide +kernel
theorem dX11_doOne_75 : decode cX11_doOne 75 = .ok (.iload 4, 2) := by decide +kernel
theorem dX11_doOne_77 : decode cX11_doOne 77 = .ok (.iaload, 1) := by decide +kernel
theorem dX11_doOne_78 : decode cX11_doOne 78 = .ok (.aload_n 0, 1) := by decide +kernel
theorem dX11_doOne_79 : decode cX11_doOne 79 = .ok (.getfield 90, 3) := by decide +kernel
theorem dX11_doOne_82 : decode cX11_doOne 82 = .ok (.iload_n 1, 1) := by decide +kernel
theorem dX11_doOne_83 : decode cX11_doOne 83 = .ok (.iaload, 1) := by decide +kernel
theorem dX11_doOne_84 : decode cX11_doOne 84 = .ok (.bipush 32, 2) := by decide +kernel
theorem dX11_doOne_86 : decode cX11_doOne 86 = .ok (.idiv, 1) := by decide +kernel
theorem dX11_doOne_87 : decode cX11_doOne 87 = .ok (.sipush 128, 3) := by decide +kernel
theorem dX11_doOne_90 : decode cX11_doOne 90 = .ok (.idiv, 1) := by decide +kernel
theorem dX11_doOne_91 : decode cX11_doOne 91 = .ok (.if_icmp .ne 36, 3) := by decide +kernel
theorem dX11_doOne_94 : decode cX11_doOne 94 = .ok (.aload_n 0, 1) := by decide +kernel
theorem dX11_doOne_95 : decode cX11_doOne 95 = .ok (.getfield 67, 3) := by decide +kernel
theorem dX11_doOne_98 : decode cX11_doOne 98 = .ok (.bipush 16, 2) := by decide +kernel
theorem dX11_doOne_100 : decode cX11_doOne 100 = .ok (.iload 4, 2) := by decide +kernel
theorem dX11_doOne_102 : decode cX11_doOne 102 = .ok (.aload_n 0, 1) := by decide +kernel
theorem dX11_doOne_103 : decode cX11_doOne 103 = .ok (.getfield 90, 3) := by decide +kernel
theorem dX11_doOne_106 : decode cX11_doOne 106 = .ok (.iload_n 1, 1) := by decide +kernel
theorem dX11_doOne_107 : decode cX11_doOne 107 = .ok (.iaload, 1) := by decide +kernel
theorem dX11_doOne_108 : decode cX11_doOne 108 = .ok (.bipush 32, 2) := by decide +kernel
theorem dX11_doOne_110 : decode cX11_doOne 110 = .ok (.irem, 1) := by decide +kernel
theorem dX11_doOne_111 : decode cX11_doOne 111 = .ok (.invokestatic 211, 3) := by decide +kernel
theorem dX11_doOne_114 : decode cX11_doOne 114 = .ok (.imul, 1) := by decide +kernel
theorem dX11_doOne_115 : decode cX11_doOne 115 = .ok (.aload_n 0, 1) := by decide +kernel
theorem dX11_doOne_116 : decode cX11_doOne 116 = .ok (.getfield 93, 3) := by decide +kernel
theorem dX11_doOne_119 : decode cX11_doOne 119 = .ok (.iload_n 1, 1) := by decide +kernel
theorem dX11_doOne_120 : decode cX11_doOne 120 = .ok (.iaload, 1) := by decide +kernel
theorem dX11_doOne_121 : decode cX11_doOne 121 = .ok (.bipush 16, 2) := by decide +kernel
theorem dX11_doOne_123 : decode cX11_doOne 123 = .ok (.irem, 1) := by decide +kernel
theorem dX11_doOne_124 : decode cX11_doOne 124 = .ok (.iadd, 1) := by decide +kernel
theorem dX11_doOne_125 : decode cX11_doOne 125 = .ok (.iload_n 3, 1) := by decide +kernel
theorem dX11_doOne_126 : decode cX11_doOne 126 = .ok (.iastore, 1) := by decide +kernel
theorem dX11_doOne_127 : decode cX11_doOne 127 = .ok (.return_, 1) := by decide +kernel
def fX11_doOne (a0 : Nat) (p1 : Int32) (A : AH) : Option (AH) :=
(gR A (some a0) 11 45).bind fun v1 =>
(aI A v1 p1).bind fun v2 =>
(gR A (some a0) 11 8).bind fun v3 =>
(gR A (some a0) 11 46).bind fun v4 =>
(aI A v4 p1).bind fun v5 =>
(aI A v3 v5).bind fun v6 =>
(gR A (some a0) 11 47).bind fun v7 =>
(aI A v7 p1).bind fun v8 =>
(gR A (some a0) 11 48).bind fun v9 =>
(aI A v9 p1).bind fun v10 =>
(fX11_left (v2 / (16 : Int32)) v6 v8 v10 A).bind fun g11 =>
(sI A v3 v5 g11).bind fun A12 =>
(gR A12 (some a0) 11 44).bind fun v13 =>
(aI A12 v13 p1).bind fun v14 =>
jn (fun (A16 : AH) =>
some A16) fun j15 =>
if (v2 / (16 : Int32)) = (51 : Int32) then (j15 A12) else
(gR A12 (some a0) 11 31).bind fun v18 =>
(aI A12 v18 ((v14 / (32 : Int32)) - (v14 / (32 : Int32)) / (128 : Int32) * (128 : Int32))).bind fun v19 =>
if v19 = ((v14 / (32 : Int32)) / (128 : Int32)) then ((gR A12 (some a0) 11 35).bind fun v21 =>
(fX11_thread ((v14 / (32 : Int32)) - (v14 / (32 : Int32)) / (128 : Int32) * (128 : Int32)) (v14 - v14 / (32 : Int32) * (32 : Int32)) A12).bind fun g22 =>
(gR A12 (some a0) 11 45).bind fun v23 =>
(aI A12 v23 p1).bind fun v24 =>
(sI A12 v21 (((16 : Int32) * g22) + (v24 - v24 / (16 : Int32) * (16 : Int32))) v6).bind fun A25 =>
j15 A25) else
j15 A12

set_option maxHeartbeats 4000000 in
set_option maxRecDepth 100000 in
theorem sX11_doOne (l : Launch) (D : DE) (a0 : Nat) (p1 : Int32) (A : AH) (g : AH) (hg : fX11_doOne a0 p1 A = some g) : Sm l D yX11_doOne cX11_doOne 5 none 1 23 [tR (some a0), tI p1] A (wU g).1 (wU g).2 := by
  refine Sm.of (ω := wU) (fX11_doOne a0 p1 A) [some (tR (some a0)), some (tI p1), none, none, none] (by decide) (Nat.le_of_ble_eq_true rfl) rfl hg ?_
  intro p e R s m args below meth c X hin
  have X : Cx D cX11_doOne RX11 5 1 23 none p R s m args meth c := X
  unfold fX11_doOne
  refine rf_aload_n X rfl dX11_doOne_0 ?_
  refine rf_bind (fun v1 hv1 => ?_)
  refine rf_getR X fl_X11_93 hv1 dX11_doOne_1 ?_
  refine rf_iload_n X rfl dX11_doOne_4 ?_
  refine rf_bind (fun v2 hv2 => ?_)
  refine rf_iald X hv2 dX11_doOne_5 ?_
  refine rf_bipush X (16 : Int32) rfl dX11_doOne_6 ?_
  refine rf_idiv X (by decide) dX11_doOne_8 ?_
  refine rf_istore_n X (ls' := [some (tR (some a0)), some (tI p1), some (tI (v2 / (16 : Int32))), none, none]) rfl (by decide) dX11_doOne_9 ?_
  refine rf_aload_n X rfl dX11_doOne_10 ?_
  refine rf_bind (fun v3 hv3 => ?_)
  refine rf_getR X fl_X11_32 hv3 dX11_doOne_11 ?_
  refine rf_aload_n X rfl dX11_doOne_14 ?_
  refine rf_bind (fun v4 hv4 => ?_)
  refine rf_getR X fl_X11_96 hv4 dX11_doOne_15 ?_
  refine rf_iload_n X rfl dX11_doOne_18 ?_
  refine rf_bind (fun v5 hv5 => ?_)
  refine rf_iald X hv5 dX11_doOne_19 ?_
  refine rf_bind (fun v6 hv6 => ?_)
  refine rf_iald X hv6 dX11_doOne_20 ?_
  refine rf_istore_n X (ls' := [some (tR (some a0)), some (tI p1), some (tI (v2 / (16 : Int32))), some (tI v6), none]) rfl (by decide) dX11_doOne_21 ?_
  refine rf_aload_n X rfl dX11_doOne_22 ?_
  refine rf_getR X fl_X11_32 hv3 dX11_doOne_23 ?_
  refine rf_aload_n X rfl dX11_doOne_26 ?_
  refine rf_getR X fl_X11_96 hv4 dX11_doOne_27 ?_
  refine rf_iload_n X rfl dX11_doOne_30 ?_
  refine rf_iald X hv5 dX11_doOne_31 ?_
  refine rf_iload_n X rfl dX11_doOne_32 ?_
  refine rf_iload_n X rfl dX11_doOne_33 ?_
  refine rf_aload_n X rfl dX11_doOne_34 ?_
  refine rf_bind (fun v7 hv7 => ?_)
  refine rf_getR X fl_X11_99 hv7 dX11_doOne_35 ?_
  refine rf_iload_n X rfl dX11_doOne_38 ?_
  refine rf_bind (fun v8 hv8 => ?_)
  refine rf_iald X hv8 dX11_doOne_39 ?_
  refine rf_aload_n X rfl dX11_doOne_40 ?_
  refine rf_bind (fun v9 hv9 => ?_)
  refine rf_getR X fl_X11_102 hv9 dX11_doOne_41 ?_
  refine rf_iload_n X rfl dX11_doOne_44 ?_
  refine rf_bind (fun v10 hv10 => ?_)
  refine rf_iald X hv10 dX11_doOne_45 ?_
  refine rf_bind (fun g11 hg11 => ?_)
  refine rf_callSI X c_X11_352 ⟨Nat.le_of_ble_eq_true rfl, Nat.le_of_ble_eq_true rfl⟩ [tI (v2 / (16 : Int32)), tI v6, tI v8, tI v10] rfl (Nat.le_of_ble_eq_true rfl) (sX11_left l D (v2 / (16 : Int32)) v6 v8 v10 A g11 hg11) dX11_doOne_46 ?_
  refine rf_bind (fun A12 hA12 => ?_)
  refine rf_iast X hA12 dX11_doOne_49 ?_
  refine rf_aload_n X rfl dX11_doOne_50 ?_
  refine rf_bind (fun v13 hv13 => ?_)
  refine rf_getR X fl_X11_90 hv13 dX11_doOne_51 ?_
  refine rf_iload_n X rfl dX11_doOne_54 ?_
  refine rf_bind (fun v14 hv14 => ?_)
  refine rf_iald X hv14 dX11_doOne_55 ?_
  refine rf_bipush X (32 : Int32) rfl dX11_doOne_56 ?_
  refine rf_idiv X (by decide) dX11_doOne_58 ?_
  refine rf_sipush X (128 : Int32) rfl dX11_doOne_59 ?_
  refine rf_irem X (by decide) dX11_doOne_62 ?_
  refine rf_istore X (ls' := [some (tR (some a0)), some (tI p1), some (tI (v2 / (16 : Int32))), some (tI v6), some (tI ((v14 / (32 : Int32)) - (v14 / (32 : Int32)) / (128 : Int32) * (128 : Int32)))]) rfl (by decide) dX11_doOne_63 ?_
  refine rf_iload_n X rfl dX11_doOne_65 ?_
  refine rf_bipush X (51 : Int32) rfl dX11_doOne_66 ?_
  refine rf_jn2 (fun i => ∀ (A16 : AH), RfX X l e below wU (i A16) 127 [none, none, none, none, none] [] A16) ?_ (fun j15 hj15 => ?_)
  · intro A16
    exact rf_vret X rfl dX11_doOne_127
  refine rf_icmp_eq X (tgt := 127) rfl dX11_doOne_68 (fun c17 => rf_pos c17 ?_) (fun c17 => rf_neg c17 ?_)
  · exact rf_go (hj15 A12) True.intro
  refine rf_aload_n X rfl dX11_doOne_71 ?_
  refine rf_bind (fun v18 hv18 => ?_)
  refine rf_getR X fl_X11_54 hv18 dX11_doOne_72 ?_
  refine rf_iload X rfl dX11_doOne_75 ?_
  refine rf_bind (fun v19 hv19 => ?_)
  refine rf_iald X hv19 dX11_doOne_77 ?_
  refine rf_aload_n X rfl dX11_doOne_78 ?_
  refine rf_getR X fl_X11_90 hv13 dX11_doOne_79 ?_
  refine rf_iload_n X rfl dX11_doOne_82 ?_
  refine rf_iald X hv14 dX11_doOne_83 ?_
  refine rf_bipush X (32 : Int32) rfl dX11_doOne_84 ?_
  refine rf_idiv X (by decide) dX11_doOne_86 ?_
  refine rf_sipush X (128 : Int32) rfl dX11_doOne_87 ?_
  refine rf_idiv X (by decide) dX11_doOne_90 ?_
  refine rf_icmp_ne X (tgt := 127) rfl dX11_doOne_91 (fun c20 => rf_neg c20 ?_) (fun c20 => rf_pos c20 ?_)
  · exact rf_go (hj15 A12) True.intro
  refine rf_aload_n X rfl dX11_doOne_94 ?_
  refine rf_bind (fun v21 hv21 => ?_)
  refine rf_getR X fl_X11_67 hv21 dX11_doOne_95 ?_
  refine rf_bipush X (16 : Int32) rfl dX11_doOne_98 ?_
  refine rf_iload X rfl dX11_doOne_100 ?_
  refine rf_aload_n X rfl dX11_doOne_102 ?_
  refine rf_getR X fl_X11_90 hv13 dX11_doOne_103 ?_
  refine rf_iload_n X rfl dX11_doOne_106 ?_
  refine rf_iald X hv14 dX11_doOne_107 ?_
  refine rf_bipush X (32 : Int32) rfl dX11_doOne_108 ?_
  refine rf_irem X (by decide) dX11_doOne_110 ?_
  refine rf_bind (fun g22 hg22 => ?_)
  refine rf_callSI X c_X11_211 ⟨Nat.le_of_ble_eq_true rfl, Nat.le_of_ble_eq_true rfl⟩ [tI ((v14 / (32 : Int32)) - (v14 / (32 : Int32)) / (128 : Int32) * (128 : Int32)), tI (v14 - v14 / (32 : Int32) * (32 : Int32))] rfl (Nat.le_of_ble_eq_true rfl) (sX11_thread l D ((v14 / (32 : Int32)) - (v14 / (32 : Int32)) / (128 : Int32) * (128 : Int32)) (v14 - v14 / (32 : Int32) * (32 : Int32)) A12 g22 hg22) dX11_doOne_111 ?_
  refine rf_imul X dX11_doOne_114 ?_
  refine rf_aload_n X rfl dX11_doOne_115 ?_
  refine rf_bind (fun v23 hv23 => ?_)
  refine rf_getR X fl_X11_93 hv23 dX11_doOne_116 ?_
  refine rf_iload_n X rfl dX11_doOne_119 ?_
  refine rf_bind (fun v24 hv24 => ?_)
  refine rf_iald X hv24 dX11_doOne_120 ?_
  refine rf_bipush X (16 : Int32) rfl dX11_doOne_121 ?_
  refine rf_irem X (by decide) dX11_doOne_123 ?_
  refine rf_iadd X dX11_doOne_124 ?_
  refine rf_iload_n X rfl dX11_doOne_125 ?_
  refine rf_bind (fun A25 hA25 => ?_)
  refine rf_iast X hA25 dX11_doOne_126 ?_
  exact rf_go (hj15 A25) True.intro

theorem dX11_doPending_0 : decode cX11_doPending 0 = .ok (.aload_n 0, 1) := by decide +kernel
theorem dX11_doPending_1 : decode cX11_doPending 1 = .ok (.getfield 133, 3) := by decide +kernel
theorem dX11_doPending_4 : decode cX11_doPending 4 = .ok (.aload_n 0, 1) := by decide +kernel
theorem dX11_doPending_5 : decode cX11_doPending 5 = .ok (.getfield 159, 3) := by decide +kernel
theorem dX11_doPending_8 : decode cX11_doPending 8 = .ok (.if_icmp .le 4, 3) := by decide +kernel
theorem dX11_doPending_11 : decode cX11_doPending 11 = .ok (.return_, 1) := by decide +kernel
theorem dX11_doPending_12 : decode cX11_doPending 12 = .ok (.iconst 0, 1) := by decide +kernel
theorem dX11_doPending_13 : decode cX11_doPending 13 = .ok (.istore_n 1, 1) := by decide +kernel
theorem dX11_doPending_14 : decode cX11_doPending 14 = .ok (.aload_n 0, 1) := by decide +kernel
theorem dX11_doPending_15 : decode cX11_doPending 15 = .ok (.ldc 132, 2) := by decide +kernel
theorem dX11_doPending_17 : decode cX11_doPending 17 = .ok (.putfield 133, 3) := by decide +kernel
theorem dX11_doPending_20 : decode cX11_doPending 20 = .ok (.iconst 0, 1) := by decide +kernel
theorem dX11_doPending_21 : decode cX11_doPending 21 = .ok (.istore_n 2, 1) := by decide +kernel
theorem dX11_doPending_22 : decode cX11_doPending 22 = .ok (.iload_n 2, 1) := by decide +kernel
theorem dX11_doPending_23 : decode cX11_doPending 23 = .ok (.aload_n 0, 1) := by decide +kernel
theorem dX11_doPending_24 : decode cX11_doPending 24 = .ok (.getfield 129, 3) := by decide +kernel
theorem dX11_doPending_27 : decode cX11_doPending 27 = .ok (.if_icmp .ge 135, 3) := by decide +kernel
theorem dX11_doPending_30 : decode cX11_doPending 30 = .ok (.aload_n 0, 1) := by decide +kernel
theorem dX11_doPending_31 : decode cX11_doPending 31 = .ok (.getfield 87, 3) := by decide +kernel
theorem dX11_doPending_34 : decode cX11_doPending 34 = .ok (.iload_n 2, 1) := by decide +kernel
theorem dX11_doPending_35 : decode cX11_doPending 35 = .ok (.iaload, 1) := by decide +kernel
theorem dX11_doPending_36 : decode cX11_doPending 36 = .ok (.aload_n 0, 1) := by decide +kernel
theorem dX11_doPending_37 : decode cX11_doPending 37 = .ok (.getfield 159, 3) := by decide +kernel
theorem dX11_doPending_40 : decode cX11_doPending 40 = .ok (.if_icmp .gt 11, 3) := by decide +kernel
theorem dX11_doPending_43 : decode cX11_doPending 43 = .ok (.aload_n 0, 1) := by decide +kernel
theorem dX11_doPending_44 : decode cX11_doPending 44 = .ok (.iload_n 2, 1) := by decide +kernel
theorem dX11_doPending_45 : decode cX11_doPending 45 = .ok (.invokevirtual 356, 3) := by decide +kernel
theorem dX11_doPending_48 : decode cX11_doPending 48 = .ok (.goto 108, 3) := by decide +kernel
theorem dX11_doPending_51 : decode cX11_doPending 51 = .ok (.aload_n 0, 1) := by decide +kernel
theorem dX11_doPending_52 : decode cX11_doPending 52 = .ok (.aload_n 0, 1) := by decide +kernel
theorem dX11_doPending_53 : decode cX11_doPending 53 = .ok (.getfield 87, 3) := by decide +kernel
theorem dX11_doPending_56 : decode cX11_doPending 56 = .ok (.iload_n 2, 1) := by decide +kernel
theorem dX11_doPending_57 : decode cX11_doPending 57 = .ok (.iaload, 1) := by decide +kernel
theorem dX11_doPending_58 : decode cX11_doPending 58 = .ok (.aload_n 0, 1) := by decide +kernel
theorem dX11_doPending_59 : decode cX11_doPending 59 = .ok (.getfield 133, 3) := by decide +kernel
theorem dX11_doPending_62 : decode cX11_doPending 62 = .ok (.if_icmp .ge 12, 3) := by decide +kernel
theorem dX11_doPending_65 : decode cX11_doPending 65 = .ok (.aload_n 0, 1) := by decide +kernel
theorem dX11_doPending_66 : decode cX11_doPending 66 = .ok (.getfield 87, 3) := by decide +kernel
theorem dX11_doPending_69 : decode cX11_doPending 69 = .ok (.iload_n 2, 1) := by decide +kernel
theorem dX11_doPending_70 : decode cX11_doPending 70 = .ok (.iaload, 1) := by decide +kernel
theorem dX11_doPending_71 : decode cX11_doPending 71 = .ok (.goto 7, 3) := by decide +kernel
theorem dX11_doPending_74 : decode cX11_doPending 74 = .ok (.aload_n 0, 1) := by decide +kernel
theorem dX11_doPending_75 : decode cX11_doPending 75 = .ok (.getfield 133, 3) := by decide +kernel
theorem dX11_doPending_78 : decode cX11_doPending 78 = .ok (.putfield 133, 3) := by decide +kernel
theorem dX11_doPending_81 : decode cX11_doPending 81 = .ok (.aload_n 0, 1) := by decide +kernel
theorem dX11_doPending_82 : decode cX11_doPending 82 = .ok (.getfield 87, 3) := by decide +kernel
theorem dX11_doPending_85 : decode cX11_doPending 85 = .ok (.iload_n 1, 1) := by decide +kernel
theorem dX11_doPending_86 : decode cX11_doPending 86 = .ok (.aload_n 0, 1) := by decide +kernel
theorem dX11_doPending_87 : decode cX11_doPending 87 = .ok (.getfield 87, 3) := by decide +kernel
theorem dX11_doPending_90 : decode cX11_doPending 90 = .ok (.iload_n 2, 1) := by decide +kernel
theorem dX11_doPending_91 : decode cX11_doPending 91 = .ok (.iaload, 1) := by decide +kernel
theorem dX11_doPending_92 : decode cX11_doPending 92 = .ok (.iastore, 1) := by decide +kernel
theorem dX11_doPending_93 : decode cX11_doPending 93 = .ok (.aload_n 0, 1) := by decide +kernel
theorem dX11_doPending_94 : decode cX11_doPending 94 = .ok (.getfield 90, 3) := by decide +kernel
theorem dX11_doPending_97 : decode cX11_doPending 97 = .ok (.iload_n 1, 1) := by decide +kernel
theorem dX11_doPending_98 : decode cX11_doPending 98 = .ok (.aload_n 0, 1) := by decide +kernel
theorem dX11_doPending_99 : decode cX11_doPending 99 = .ok (.getfield 90, 3) := by decide +kernel
theorem dX11_doPending_102 : decode cX11_doPending 102 = .ok (.iload_n 2, 1) := by decide +kernel
theorem dX11_doPending_103 : decode cX11_doPending 103 = .ok (.iaload, 1) := by decide +kernel
theorem dX11_doPending_104 : decode cX11_doPending 104 = .ok (.iastore, 1) := by decide +kernel
theorem dX11_doPending_105 : decode cX11_doPending 105 = .ok (.aload_n 0, 1) := by decide +kernel
theorem dX11_doPending_106 : decode cX11_doPending 106 = .ok (.getfield 93, 3) := by decide +kernel
theorem dX11_doPending_109 : decode cX11_doPending 109 = .ok (.iload_n 1, 1) := by decide +kernel
theorem dX11_doPending_110 : decode cX11_doPending 110 = .ok (.aload_n 0, 1) := by decide +kernel
theorem dX11_doPending_111 : decode cX11_doPending 111 = .ok (.getfield 93, 3) := by decide +kernel
theorem dX11_doPending_114 : decode cX11_doPending 114 = .ok (.iload_n 2, 1) := by decide +kernel
theorem dX11_doPending_115 : decode cX11_doPending 115 = .ok (.iaload, 1) := by decide +kernel
theorem dX11_doPending_116 : decode cX11_doPending 116 = .ok (.iastore, 1) := by decide +kernel
theorem dX11_doPending_117 : decode cX11_doPending 117 = .ok (.aload_n 0, 1) := by decide +kernel
theorem dX11_doPending_118 : decode cX11_doPending 118 = .ok (.getfield 96, 3) := by decide +kernel
theorem dX11_doPending_121 : decode cX11_doPending 121 = .ok (.iload_n 1, 1) := by decide +kernel
theorem dX11_doPending_122 : decode cX11_doPending 122 = .ok (.aload_n 0, 1) := by decide +kernel
theorem dX11_doPending_123 : decode cX11_doPending 123 = .ok (.getfield 96, 3) := by decide +kernel
theorem dX11_doPending_126 : decode cX11_doPending 126 = .ok (.iload_n 2, 1) := by decide +kernel
theorem dX11_doPending_127 : decode cX11_doPending 127 = .ok (.iaload, 1) := by decide +kernel
theorem dX11_doPending_128 : decode cX11_doPending 128 = .ok (.iastore, 1) := by decide +kernel
theorem dX11_doPending_129 : decode cX11_doPending 129 = .ok (.aload_n 0, 1) := by decide +kernel
theorem dX11_doPending_130 : decode cX11_doPending 130 = .ok (.getfield 99, 3) := by decide +kernel
theorem dX11_doPending_133 : decode cX11_doPending 133 = .ok (.iload_n 1, 1) := by decide +kernel
theorem dX11_doPending_134 : decode cX11_doPending 134 = .ok (.aload_n 0, 1) := by decide +kernel
theorem dX11_doPending_135 : decode cX11_doPending 135 = .ok (.getfield 99, 3) := by decide +kernel
theorem dX11_doPending_138 : decode cX11_doPending 138 = .ok (.iload_n 2, 1) := by decide +kernel
theorem dX11_doPending_139 : decode cX11_doPending 139 = .ok (.iaload, 1) := by decide +kernel
theorem dX11_doPending_140 : decode cX11_doPending 140 = .ok (.iastore, 1) := by decide +kernel
theorem dX11_doPending_141 : decode cX11_doPending 141 = .ok (.aload_n 0, 1) := by decide +kernel
theorem dX11_doPending_142 : decode cX11_doPending 142 = .ok (.getfield 102, 3) := by decide +kernel
theorem dX11_doPending_145 : decode cX11_doPending 145 = .ok (.iload_n 1, 1) := by decide +kernel
theorem dX11_doPending_146 : decode cX11_doPending 146 = .ok (.aload_n 0, 1) := by decide +kernel
theorem dX11_doPending_147 : decode cX11_doPending 147 = .ok (.getfield 102, 3) := by decide +kernel
theorem dX11_doPending_150 : decode cX11_doPending 150 = .ok (.iload_n 2, 1) := by decide +kernel
theorem dX11_doPending_151 : decode cX11_doPending 151 = .ok (.iaload, 1) := by decide +kernel
theorem dX11_doPending_152 : decode cX11_doPending 152 = .ok (.iastore, 1) := by decide +kernel
theorem dX11_doPending_153 : decode cX11_doPending 153 = .ok (.iinc 1 1, 3) := by decide +kernel
theorem dX11_doPending_156 : decode cX11_doPending 156 = .ok (.iinc 2 1, 3) := by decide +kernel
theorem dX11_doPending_159 : decode cX11_doPending 159 = .ok (.goto (-137), 3) := by decide +kernel
theorem dX11_doPending_162 : decode cX11_doPending 162 = .ok (.aload_n 0, 1) := by decide +kernel
theorem dX11_doPending_163 : decode cX11_doPending 163 = .ok (.iload_n 1, 1) := by decide +kernel
theorem dX11_doPending_164 : decode cX11_doPending 164 = .ok (.putfield 129, 3) := by decide +kernel
theorem dX11_doPending_167 : decode cX11_doPending 167 = .ok (.return_, 1) := by decide +kernel
def fX11_doPending (n : Nat) (a0 : Nat) (A : AH) : Option (AH) :=
(gI A (some a0) 11 42).bind fun v1 =>
(gI A (some a0) 11 15).bind fun v2 =>
if v1 ≤ v2 then ((pI A (some a0) 11 42 (2147483647 : Int32)).bind fun A4 =>
jl (fixG (fun _ _ _ => none) (fun (rc9 : (Int32) → (Int32) → (AH) → Option (AH)) (x6 : Int32) (x7 : Int32) (A8 : AH) =>
(gI A8 (some a0) 11 41).bind fun v10 =>
if v10 ≤ x7 then ((pI A8 (some a0) 11 41 x6).bind fun A12 =>
some A12) else
(gR A8 (some a0) 11 43).bind fun v13 =>
(aI A8 v13 x7).bind fun v14 =>
(gI A8 (some a0) 11 15).bind fun v15 =>
jn (fun (x17 : Int32) (A18 : AH) =>
rc9 x17 (x7 + (1 : Int32)) A18) fun j16 =>
if v15 < v14 then ((gI A8 (some a0) 11 42).bind fun v20 =>
jn (fun (y22 : Int32) =>
(pI A8 (some a0) 11 42 y22).bind fun A23 =>
(gR A23 (some a0) 11 43).bind fun v24 =>
(aI A23 v24 x7).bind fun v25 =>
(sI A23 v24 x6 v25).bind fun A26 =>
(gR A26 (some a0) 11 44).bind fun v27 =>
(aI A26 v27 x7).bind fun v28 =>
(sI A26 v27 x6 v28).bind fun A29 =>
(gR A29 (some a0) 11 45).bind fun v30 =>
(aI A29 v30 x7).bind fun v31 =>
(sI A29 v30 x6 v31).bind fun A32 =>
(gR A32 (some a0) 11 46).bind fun v33 =>
(aI A32 v33 x7).bind fun v34 =>
(sI A32 v33 x6 v34).bind fun A35 =>
(gR A35 (some a0) 11 47).bind fun v36 =>
(aI A35 v36 x7).bind fun v37 =>
(sI A35 v36 x6 v37).bind fun A38 =>
(gR A38 (some a0) 11 48).bind fun v39 =>
(aI A38 v39 x7).bind fun v40 =>
(sI A38 v39 x6 v40).bind fun A41 =>
j16 (x6 + (1 : Int32)) A41) fun j21 =>
if v20 ≤ v14 then (j21 v20) else
j21 v14) else
(rcv A8 (some a0) 11).bind fun v43 =>
(fX11_doOne v43 x7 A8).bind fun g44 =>
j16 x6 g44) n) fun j5 =>
j5 (0 : Int32) (0 : Int32) A4) else
some A

set_option maxHeartbeats 4000000 in
set_option maxRecDepth 100000 in
theorem sX11_doPending (l : Launch) (D : DE) (n : Nat) (a0 : Nat) (A : AH) (g : AH) (hg : fX11_doPending n a0 A = some g) : Sm l D yX11_doPending cX11_doPending 3 none 2 47 [tR (some a0)] A (wU g).1 (wU g).2 := by
  refine Sm.of (ω := wU) (fX11_doPending n a0 A) [some (tR (some a0)), none, none] (by decide) (Nat.le_of_ble_eq_true rfl) rfl hg ?_
  intro p e R s m args below meth c X hin
  have X : Cx D cX11_doPending RX11 3 2 47 none p R s m args meth c := X
  unfold fX11_doPending
  refine rf_aload_n X rfl dX11_doPending_0 ?_
  refine rf_bind (fun v1 hv1 => ?_)
  refine rf_getI X fl_X11_133 hv1 dX11_doPending_1 ?_
  refine rf_aload_n X rfl dX11_doPending_4 ?_
  refine rf_bind (fun v2 hv2 => ?_)
  refine rf_getI X fl_X11_159 hv2 dX11_doPending_5 ?_
  refine rf_icmp_le X (tgt := 12) rfl dX11_doPending_8 (fun c3 => rf_pos c3 ?_) (fun c3 => rf_neg c3 ?_)
  · refine rf_iconst X (0 : Int32) rfl dX11_doPending_12 ?_
    refine rf_istore_n X (ls' := [some (tR (some a0)), some (tI (0 : Int32)), none]) rfl (by decide) dX11_doPending_13 ?_
    refine rf_aload_n X rfl dX11_doPending_14 ?_
    refine rf_ldc X (v := (2147483647 : Int32)) q1556 dX11_doPending_15 ?_
    refine rf_bind (fun A4 hA4 => ?_)
    refine rf_putI X fp_X11_133 (fun h => by cases h) hA4 dX11_doPending_17 ?_
    refine rf_iconst X (0 : Int32) rfl dX11_doPending_20 ?_
    refine rf_istore_n X (ls' := [some (tR (some a0)), some (tI (0 : Int32)), some (tI (0 : Int32))]) rfl (by decide) dX11_doPending_21 ?_
    refine rf_fix (fun i => ∀ (x6 : Int32) (x7 : Int32) (A8 : AH), RfX X l e below wU (i x6 x7 A8) 22 [some (tR (some a0)), some (tI x6), some (tI x7)] [] A8) (fun _ _ _ => rf_none) (fun rc9 hrc9 => ?_) (fun j5 hj5 => ?_)
    · intro x6 x7 A8
      refine rf_iload_n X rfl dX11_doPending_22 ?_
      refine rf_aload_n X rfl dX11_doPending_23 ?_
      refine rf_bind (fun v10 hv10 => ?_)
      refine rf_getI X fl_X11_129 hv10 dX11_doPending_24 ?_
      refine rf_icmp_ge X (tgt := 162) rfl dX11_doPending_27 (fun c11 => rf_pos c11 ?_) (fun c11 => rf_neg c11 ?_)
      · refine rf_aload_n X rfl dX11_doPending_162 ?_
        refine rf_iload_n X rfl dX11_doPending_163 ?_
        refine rf_bind (fun A12 hA12 => ?_)
        refine rf_putI X fp_X11_129 (fun h => by cases h) hA12 dX11_doPending_164 ?_
        exact rf_vret X rfl dX11_doPending_167
      refine rf_aload_n X rfl dX11_doPending_30 ?_
      refine rf_bind (fun v13 hv13 => ?_)
      refine rf_getR X fl_X11_87 hv13 dX11_doPending_31 ?_
      refine rf_iload_n X rfl dX11_doPending_34 ?_
      refine rf_bind (fun v14 hv14 => ?_)
      refine rf_iald X hv14 dX11_doPending_35 ?_
      refine rf_aload_n X rfl dX11_doPending_36 ?_
      refine rf_bind (fun v15 hv15 => ?_)
      refine rf_getI X fl_X11_159 hv15 dX11_doPending_37 ?_
      refine rf_jn2 (fun i => ∀ (x17 : Int32) (A18 : AH), RfX X l e below wU (i x17 A18) 156 [some (tR (some a0)), some (tI x17), some (tI x7)] [] A18) ?_ (fun j16 hj16 => ?_)
      · intro x17 A18
        refine rf_iinc X (x7 + (1 : Int32)) rfl rfl (ls' := [some (tR (some a0)), some (tI x17), some (tI (x7 + (1 : Int32)))]) rfl (by decide) dX11_doPending_156 ?_
        refine rf_goto X (tgt := 22) rfl dX11_doPending_159 ?_
        exact rf_go (hrc9 x17 (x7 + (1 : Int32)) A18) (And.intro rfl (And.intro rfl (And.intro rfl True.intro)))
      refine rf_icmp_gt X (tgt := 51) rfl dX11_doPending_40 (fun c19 => rf_pos c19 ?_) (fun c19 => rf_neg c19 ?_)
      · refine rf_aload_n X rfl dX11_doPending_51 ?_
        refine rf_aload_n X rfl dX11_doPending_52 ?_
        refine rf_getR X fl_X11_87 hv13 dX11_doPending_53 ?_
        refine rf_iload_n X rfl dX11_doPending_56 ?_
        refine rf_iald X hv14 dX11_doPending_57 ?_
        refine rf_aload_n X rfl dX11_doPending_58 ?_
        refine rf_bind (fun v20 hv20 => ?_)
        refine rf_getI X fl_X11_133 hv20 dX11_doPending_59 ?_
        refine rf_jn2 (fun i => ∀ (y22 : Int32), RfX X l e below wU (i y22) 78 [some (tR (some a0)), some (tI x6), some (tI x7)] [tI y22, tR (some a0)] A8) ?_ (fun j21 hj21 => ?_)
        · intro y22
          refine rf_bind (fun A23 hA23 => ?_)
          refine rf_putI X fp_X11_133 (fun h => by cases h) hA23 dX11_doPending_78 ?_
          refine rf_aload_n X rfl dX11_doPending_81 ?_
          refine rf_bind (fun v24 hv24 => ?_)
          refine rf_getR X fl_X11_87 hv24 dX11_doPending_82 ?_
          refine rf_iload_n X rfl dX11_doPending_85 ?_
          refine rf_aload_n X rfl dX11_doPending_86 ?_
          refine rf_getR X fl_X11_87 hv24 dX11_doPending_87 ?_
          refine rf_iload_n X rfl dX11_doPending_90 ?_
          refine rf_bind (fun v25 hv25 => ?_)
          refine rf_iald X hv25 dX11_doPending_91 ?_
          refine rf_bind (fun A26 hA26 => ?_)
          refine rf_iast X hA26 dX11_doPending_92 ?_
          refine rf_aload_n X rfl dX11_doPending_93 ?_
          refine rf_bind (fun v27 hv27 => ?_)
          refine rf_getR X fl_X11_90 hv27 dX11_doPending_94 ?_
          refine rf_iload_n X rfl dX11_doPending_97 ?_
          refine rf_aload_n X rfl dX11_doPending_98 ?_
          refine rf_getR X fl_X11_90 hv27 dX11_doPending_99 ?_
          refine rf_iload_n X rfl dX11_doPending_102 ?_
          refine rf_bind (fun v28 hv28 => ?_)
          refine rf_iald X hv28 dX11_doPending_103 ?_
          refine rf_bind (fun A29 hA29 => ?_)
          refine rf_iast X hA29 dX11_doPending_104 ?_
          refine rf_aload_n X rfl dX11_doPending_105 ?_
          refine rf_bind (fun v30 hv30 => ?_)
          refine rf_getR X fl_X11_93 hv30 dX11_doPending_106 ?_
          refine rf_iload_n X rfl dX11_doPending_109 ?_
          refine rf_aload_n X rfl dX11_doPending_110 ?_
          refine rf_getR X fl_X11_93 hv30 dX11_doPending_111 ?_
          refine rf_iload_n X rfl dX11_doPending_114 ?_
          refine rf_bind (fun v31 hv31 => ?_)
          refine rf_iald X hv31 dX11_doPending_115 ?_
          refine rf_bind (fun A32 hA32 => ?_)
          refine rf_iast X hA32 dX11_doPending_116 ?_
          refine rf_aload_n X rfl dX11_doPending_117 ?_
          refine rf_bind (fun v33 hv33 => ?_)
          refine rf_getR X fl_X11_96 hv33 dX11_doPending_118 ?_
          refine rf_iload_n X rfl dX11_doPending_121 ?_
          refine rf_aload_n X rfl dX11_doPending_122 ?_
          refine rf_getR X fl_X11_96 hv33 dX11_doPending_123 ?_
          refine rf_iload_n X rfl dX11_doPending_126 ?_
          refine rf_bind (fun v34 hv34 => ?_)
          refine rf_iald X hv34 dX11_doPending_127 ?_
          refine rf_bind (fun A35 hA35 => ?_)
          refine rf_iast X hA35 dX11_doPending_128 ?_
          refine rf_aload_n X rfl dX11_doPending_129 ?_
          refine rf_bind (fun v36 hv36 => ?_)
          refine rf_getR X fl_X11_99 hv36 dX11_doPending_130 ?_
          refine rf_iload_n X rfl dX11_doPending_133 ?_
          refine rf_aload_n X rfl dX11_doPending_134 ?_
          refine rf_getR X fl_X11_99 hv36 dX11_doPending_135 ?_
          refine rf_iload_n X rfl dX11_doPending_138 ?_
          refine rf_bind (fun v37 hv37 => ?_)
          refine rf_iald X hv37 dX11_doPending_139 ?_
          refine rf_bind (fun A38 hA38 => ?_)
          refine rf_iast X hA38 dX11_doPending_140 ?_
          refine rf_aload_n X rfl dX11_doPending_141 ?_
          refine rf_bind (fun v39 hv39 => ?_)
          refine rf_getR X fl_X11_102 hv39 dX11_doPending_142 ?_
          refine rf_iload_n X rfl dX11_doPending_145 ?_
          refine rf_aload_n X rfl dX11_doPending_146 ?_
          refine rf_getR X fl_X11_102 hv39 dX11_doPending_147 ?_
          refine rf_iload_n X rfl dX11_doPending_150 ?_
          refine rf_bind (fun v40 hv40 => ?_)
          refine rf_iald X hv40 dX11_doPending_151 ?_
          refine rf_bind (fun A41 hA41 => ?_)
          refine rf_iast X hA41 dX11_doPending_152 ?_
          refine rf_iinc X (x6 + (1 : Int32)) rfl rfl (ls' := [some (tR (some a0)), some (tI (x6 + (1 : Int32))), some (tI x7)]) rfl (by decide) dX11_doPending_153 ?_
          exact rf_go (hj16 (x6 + (1 : Int32)) A41) (And.intro rfl (And.intro rfl (And.intro rfl True.intro)))
        refine rf_icmp_ge X (tgt := 74) rfl dX11_doPending_62 (fun c42 => rf_pos c42 ?_) (fun c42 => rf_neg c42 ?_)
        · refine rf_aload_n X rfl dX11_doPending_74 ?_
          refine rf_getI X fl_X11_133 hv20 dX11_doPending_75 ?_
          exact rf_go (hj21 v20) (And.intro rfl (And.intro rfl (And.intro rfl True.intro)))
        refine rf_aload_n X rfl dX11_doPending_65 ?_
        refine rf_getR X fl_X11_87 hv13 dX11_doPending_66 ?_
        refine rf_iload_n X rfl dX11_doPending_69 ?_
        refine rf_iald X hv14 dX11_doPending_70 ?_
        refine rf_goto X (tgt := 78) rfl dX11_doPending_71 ?_
        exact rf_go (hj21 v14) (And.intro rfl (And.intro rfl (And.intro rfl True.intro)))
      refine rf_aload_n X rfl dX11_doPending_43 ?_
      refine rf_iload_n X rfl dX11_doPending_44 ?_
      refine rf_bind (fun v43 hv43 => ?_)
      refine rf_bind (fun g44 hg44 => ?_)
      refine rf_callVU X c_X11_356 ⟨Nat.le_of_ble_eq_true rfl, Nat.le_of_ble_eq_true rfl⟩ [tI x7] rfl (Nat.le_of_ble_eq_true rfl) hv43 (sX11_doOne l D v43 x7 A8 g44 hg44) dX11_doPending_45 ?_
      refine rf_goto X (tgt := 156) rfl dX11_doPending_48 ?_
      exact rf_go (hj16 x6 g44) (And.intro rfl (And.intro rfl (And.intro rfl True.intro)))
    exact rf_go (hj5 (0 : Int32) (0 : Int32) A4) (And.intro rfl (And.intro rfl (And.intro rfl True.intro)))
  exact rf_vret X rfl dX11_doPending_11

theorem dX11_freeSlots_0 : decode cX11_freeSlots 0 = .ok (.iconst 0, 1) := by decide +kernel
theorem dX11_freeSlots_1 : decode cX11_freeSlots 1 = .ok (.istore_n 2, 1) := by decide +kernel
theorem dX11_freeSlots_2 : decode cX11_freeSlots 2 = .ok (.bipush 16, 2) := by decide +kernel
theorem dX11_freeSlots_4 : decode cX11_freeSlots 4 = .ok (.iload_n 1, 1) := by decide +kernel
theorem dX11_freeSlots_5 : decode cX11_freeSlots 5 = .ok (.imul, 1) := by decide +kernel
theorem dX11_freeSlots_6 : decode cX11_freeSlots 6 = .ok (.istore_n 3, 1) := by decide +kernel
theorem dX11_freeSlots_7 : decode cX11_freeSlots 7 = .ok (.iload_n 3, 1) := by decide +kernel
theorem dX11_freeSlots_8 : decode cX11_freeSlots 8 = .ok (.bipush 16, 2) := by decide +kernel
theorem dX11_freeSlots_10 : decode cX11_freeSlots 10 = .ok (.iload_n 1, 1) := by decide +kernel
theorem dX11_freeSlots_11 : decode cX11_freeSlots 11 = .ok (.imul, 1) := by decide +kernel
theorem dX11_freeSlots_12 : decode cX11_freeSlots 12 = .ok (.aload_n 0, 1) := by decide +kernel
theorem dX11_freeSlots_13 : decode cX11_freeSlots 13 = .ok (.getfield 13, 3) := by decide +kernel
theorem dX11_freeSlots_16 : decode cX11_freeSlots 16 = .ok (.iadd, 1) := by decide +kernel
theorem dX11_freeSlots_17 : decode cX11_freeSlots 17 = .ok (.if_icmp .ge 27, 3) := by decide +kernel
theorem dX11_freeSlots_20 : decode cX11_freeSlots 20 = .ok (.iload_n 2, 1) := by decide +kernel
theorem dX11_freeSlots_21 : decode cX11_freeSlots 21 = .ok (.aload_n 0, 1) := by decide +kernel
theorem dX11_freeSlots_22 : decode cX11_freeSlots 22 = .ok (.getfield 54, 3) := by decide +kernel
theorem dX11_freeSlots_25 : decode cX11_freeSlots 25 = .ok (.iload_n 3, 1) := by decide +kernel
theorem dX11_freeSlots_26 : decode cX11_freeSlots 26 = .ok (.iaload, 1) := by decide +kernel
theorem dX11_freeSlots_27 : decode cX11_freeSlots 27 = .ok (.iconst (-1), 1) := by decide +kernel
theorem dX11_freeSlots_28 : decode cX11_freeSlots 28 = .ok (.if_icmp .ne 7, 3) := by decide +kernel
theorem dX11_freeSlots_31 : decode cX11_freeSlots 31 = .ok (.iconst 1, 1) := by decide +kernel
theorem dX11_freeSlots_32 : decode cX11_freeSlots 32 = .ok (.goto 4, 3) := by decide +kernel
theorem dX11_freeSlots_35 : decode cX11_freeSlots 35 = .ok (.iconst 0, 1) := by decide +kernel
theorem dX11_freeSlots_36 : decode cX11_freeSlots 36 = .ok (.iadd, 1) := by decide +kernel
theorem dX11_freeSlots_37 : decode cX11_freeSlots 37 = .ok (.istore_n 2, 1) := by decide +kernel
theorem dX11_freeSlots_38 : decode cX11_freeSlots 38 = .ok (.iinc 3 1, 3) := by decide +kernel
theorem dX11_freeSlots_41 : decode cX11_freeSlots 41 = .ok (.goto (-34), 3) := by decide +kernel
theorem dX11_freeSlots_44 : decode cX11_freeSlots 44 = .ok (.iload_n 2, 1) := by decide +kernel
theorem dX11_freeSlots_45 : decode cX11_freeSlots 45 = .ok (.ireturn, 1) := by decide +kernel
def fX11_freeSlots (n : Nat) (a0 : Nat) (p1 : Int32) (A : AH) : Option (Int32) :=
jl (fixG (fun _ _ => none) (fun (rc4 : (Int32) → (Int32) → Option (Int32)) (x2 : Int32) (x3 : Int32) =>
(gI A (some a0) 11 2).bind fun v5 =>
if (((16 : Int32) * p1) + v5) ≤ x3 then (some x2) else
(gR A (some a0) 11 31).bind fun v7 =>
(aI A v7 x3).bind fun v8 =>
jn (fun (y10 : Int32) =>
rc4 (x2 + y10) (x3 + (1 : Int32))) fun j9 =>
if v8 = (-1 : Int32) then (j9 (1 : Int32)) else
j9 (0 : Int32)) n) fun j1 =>
j1 (0 : Int32) ((16 : Int32) * p1)

set_option maxHeartbeats 4000000 in
set_option maxRecDepth 100000 in
theorem sX11_freeSlots (l : Launch) (D : DE) (n : Nat) (a0 : Nat) (p1 : Int32) (A : AH) (g : Int32) (hg : fX11_freeSlots n a0 p1 A = some g) : Sm l D yX11_freeSlots cX11_freeSlots 4 (some Jvm.ClassFile.FieldType.int) 0 0 [tR (some a0), tI p1] A (qI A g).1 (qI A g).2 := by
  refine Sm.of (ω := qI A) (fX11_freeSlots n a0 p1 A) [some (tR (some a0)), some (tI p1), none, none] (by decide) (Nat.le_of_ble_eq_true rfl) rfl hg ?_
  intro p e R s m args below meth c X hin
  have X : Cx D cX11_freeSlots RX11 4 0 0 (some Jvm.ClassFile.FieldType.int) p R s m args meth c := X
  unfold fX11_freeSlots
  refine rf_iconst X (0 : Int32) rfl dX11_freeSlots_0 ?_
  refine rf_istore_n X (ls' := [some (tR (some a0)), some (tI p1), some (tI (0 : Int32)), none]) rfl (by decide) dX11_freeSlots_1 ?_
  refine rf_bipush X (16 : Int32) rfl dX11_freeSlots_2 ?_
  refine rf_iload_n X rfl dX11_freeSlots_4 ?_
  refine rf_imul X dX11_freeSlots_5 ?_
  refine rf_istore_n X (ls' := [some (tR (some a0)), some (tI p1), some (tI (0 : Int32)), some (tI ((16 : Int32) * p1))]) rfl (by decide) dX11_freeSlots_6 ?_
  refine rf_fix (fun i => ∀ (x2 : Int32) (x3 : Int32), RfX X l e below (qI A) (i x2 x3) 7 [some (tR (some a0)), some (tI p1), some (tI x2), some (tI x3)] [] A) (fun _ _ => rf_none) (fun rc4 hrc4 => ?_) (fun j1 hj1 => ?_)
  · intro x2 x3
    refine rf_iload_n X rfl dX11_freeSlots_7 ?_
    refine rf_bipush X (16 : Int32) rfl dX11_freeSlots_8 ?_
    refine rf_iload_n X rfl dX11_freeSlots_10 ?_
    refine rf_imul X dX11_freeSlots_11 ?_
    refine rf_aload_n X rfl dX11_freeSlots_12 ?_
    refine rf_bind (fun v5 hv5 => ?_)
    refine rf_getI X fl_X11_13 hv5 dX11_freeSlots_13 ?_
    refine rf_iadd X dX11_freeSlots_16 ?_
    refine rf_icmp_ge X (tgt := 44) rfl dX11_freeSlots_17 (fun c6 => rf_pos c6 ?_) (fun c6 => rf_neg c6 ?_)
    · refine rf_iload_n X rfl dX11_freeSlots_44 ?_
      exact rf_iret X rfl dX11_freeSlots_45
    refine rf_iload_n X rfl dX11_freeSlots_20 ?_
    refine rf_aload_n X rfl dX11_freeSlots_21 ?_
    refine rf_bind (fun v7 hv7 => ?_)
    refine rf_getR X fl_X11_54 hv7 dX11_freeSlots_22 ?_
    refine rf_iload_n X rfl dX11_freeSlots_25 ?_
    refine rf_bind (fun v8 hv8 => ?_)
    refine rf_iald X hv8 dX11_freeSlots_26 ?_
    refine rf_iconst X (-1 : Int32) rfl dX11_freeSlots_27 ?_
    refine rf_jn2 (fun i => ∀ (y10 : Int32), RfX X l e below (qI A) (i y10) 36 [some (tR (some a0)), some (tI p1), none, some (tI x3)] [tI y10, tI x2] A) ?_ (fun j9 hj9 => ?_)
    · intro y10
      refine rf_iadd X dX11_freeSlots_36 ?_
      refine rf_istore_n X (ls' := [some (tR (some a0)), some (tI p1), some (tI (x2 + y10)), some (tI x3)]) rfl (by decide) dX11_freeSlots_37 ?_
      refine rf_iinc X (x3 + (1 : Int32)) rfl rfl (ls' := [some (tR (some a0)), some (tI p1), some (tI (x2 + y10)), some (tI (x3 + (1 : Int32)))]) rfl (by decide) dX11_freeSlots_38 ?_
      refine rf_goto X (tgt := 7) rfl dX11_freeSlots_41 ?_
      exact rf_go (hrc4 (x2 + y10) (x3 + (1 : Int32))) (And.intro rfl (And.intro rfl (And.intro rfl (And.intro rfl True.intro))))
    refine rf_icmp_ne X (tgt := 35) rfl dX11_freeSlots_28 (fun c11 => rf_neg c11 ?_) (fun c11 => rf_pos c11 ?_)
    · refine rf_iconst X (0 : Int32) rfl dX11_freeSlots_35 ?_
      exact rf_go (hj9 (0 : Int32)) (And.intro rfl (And.intro rfl (And.intro rfl True.intro)))
    refine rf_iconst X (1 : Int32) rfl dX11_freeSlots_31 ?_
    refine rf_goto X (tgt := 36) rfl dX11_freeSlots_32 ?_
    exact rf_go (hj9 (1 : Int32)) (And.intro rfl (And.intro rfl (And.intro rfl True.intro)))
  exact rf_go (hj1 (0 : Int32) ((16 : Int32) * p1)) (And.intro rfl (And.intro rfl (And.intro rfl (And.intro rfl True.intro))))

theorem dX11_warps_0 : decode cX11_warps 0 = .ok (.aload_n 0, 1) := by decide +kernel
theorem dX11_warps_1 : decode cX11_warps 1 = .ok (.getfield 153, 3) := by decide +kernel
theorem dX11_warps_4 : decode cX11_warps 4 = .ok (.aload_n 0, 1) := by decide +kernel
theorem dX11_warps_5 : decode cX11_warps 5 = .ok (.getfield 7, 3) := by decide +kernel
theorem dX11_warps_8 : decode cX11_warps 8 = .ok (.iadd, 1) := by decide +kernel
theorem dX11_warps_9 : decode cX11_warps 9 = .ok (.iconst 1, 1) := by decide +kernel
theorem dX11_warps_10 : decode cX11_warps 10 = .ok (.isub, 1) := by decide +kernel
theorem dX11_warps_11 : decode cX11_warps 11 = .ok (.aload_n 0, 1) := by decide +kernel
theorem dX11_warps_12 : decode cX11_warps 12 = .ok (.getfield 7, 3) := by decide +kernel
theorem dX11_warps_15 : decode cX11_warps 15 = .ok (.idiv, 1) := by decide +kernel
theorem dX11_warps_16 : decode cX11_warps 16 = .ok (.ireturn, 1) := by decide +kernel
def fX11_warps (a0 : Nat) (A : AH) : Option (Int32) :=
(gI A (some a0) 11 13).bind fun v1 =>
(gI A (some a0) 11 1).bind fun v2 =>
(dz v2).bind fun v3 =>
some (((v1 + v2) - (1 : Int32)) / v2)

set_option maxHeartbeats 4000000 in
set_option maxRecDepth 100000 in
theorem sX11_warps (l : Launch) (D : DE) (a0 : Nat) (A : AH) (g : Int32) (hg : fX11_warps a0 A = some g) : Sm l D yX11_warps cX11_warps 1 (some Jvm.ClassFile.FieldType.int) 0 0 [tR (some a0)] A (qI A g).1 (qI A g).2 := by
  refine Sm.of (ω := qI A) (fX11_warps a0 A) [some (tR (some a0))] (by decide) (Nat.le_of_ble_eq_true rfl) rfl hg ?_
  intro p e R s m args below meth c X hin
  have X : Cx D cX11_warps RX11 1 0 0 (some Jvm.ClassFile.FieldType.int) p R s m args meth c := X
  unfold fX11_warps
  refine rf_aload_n X rfl dX11_warps_0 ?_
  refine rf_bind (fun v1 hv1 => ?_)
  refine rf_getI X fl_X11_153 hv1 dX11_warps_1 ?_
  refine rf_aload_n X rfl dX11_warps_4 ?_
  refine rf_bind (fun v2 hv2 => ?_)
  refine rf_getI X fl_X11_7 hv2 dX11_warps_5 ?_
  refine rf_iadd X dX11_warps_8 ?_
  refine rf_iconst X (1 : Int32) rfl dX11_warps_9 ?_
  refine rf_isub X dX11_warps_10 ?_
  refine rf_aload_n X rfl dX11_warps_11 ?_
  refine rf_getI X fl_X11_7 hv2 dX11_warps_12 ?_
  refine rf_bind (fun v3 hv3 => ?_)
  refine rf_idiv X (dz_spec hv3) dX11_warps_15 ?_
  exact rf_iret X rfl dX11_warps_16

