/-! 20.g17: printed by gen/parts.py -/
set_option maxRecDepth 100000
theorem fl_X11_36 : FLr RX11 36 11 9 := ⟨RX11, TX11, 60, "WarpMillModel", "", rfl, by decide, in_X11, Or.inl q1566, Or.inl rfl⟩
theorem fp_X11_7 : FL RX11 7 11 1 (.int) false := ⟨RX11, TX11, 60, tyX11, "WarpMillModel", "", rfl, by decide, in_X11, tyX11_ok, nmX11, Or.inl q1558, Or.inl rfl, rfl, rfl, fun h => by cases h⟩
theorem fp_X11_13 : FL RX11 13 11 2 (.int) false := ⟨RX11, TX11, 60, tyX11, "WarpMillModel", "", rfl, by decide, in_X11, tyX11_ok, nmX11, Or.inl q1559, Or.inl rfl, rfl, rfl, fun h => by cases h⟩
theorem fp_X11_16 : FL RX11 16 11 3 (.int) false := ⟨RX11, TX11, 60, tyX11, "WarpMillModel", "", rfl, by decide, in_X11, tyX11_ok, nmX11, Or.inl q1560, Or.inl rfl, rfl, rfl, fun h => by cases h⟩
theorem fp_X11_19 : FL RX11 19 11 4 (.int) false := ⟨RX11, TX11, 60, tyX11, "WarpMillModel", "", rfl, by decide, in_X11, tyX11_ok, nmX11, Or.inl q1561, Or.inl rfl, rfl, rfl, fun h => by cases h⟩
theorem fp_X11_22 : FL RX11 22 11 5 (.int) false := ⟨RX11, TX11, 60, tyX11, "WarpMillModel", "", rfl, by decide, in_X11, tyX11_ok, nmX11, Or.inl q1562, Or.inl rfl, rfl, rfl, fun h => by cases h⟩
theorem fp_X11_25 : FL RX11 25 11 6 (.int) false := ⟨RX11, TX11, 60, tyX11, "WarpMillModel", "", rfl, by decide, in_X11, tyX11_ok, nmX11, Or.inl q1563, Or.inl rfl, rfl, rfl, fun h => by cases h⟩
theorem fp_X11_28 : FL RX11 28 11 7 (.array .long) true := ⟨RX11, TX11, 60, tyX11, "WarpMillModel", "", rfl, by decide, in_X11, tyX11_ok, nmX11, Or.inl q1564, Or.inl rfl, rfl, rfl, fun _ => ⟨rfl, q1564⟩⟩
theorem fp_X11_32 : FL RX11 32 11 8 (.array .int) true := ⟨RX11, TX11, 60, tyX11, "WarpMillModel", "", rfl, by decide, in_X11, tyX11_ok, nmX11, Or.inl q1565, Or.inl rfl, rfl, rfl, fun _ => ⟨rfl, q1565⟩⟩
theorem fp_X11_36 : FL RX11 36 11 9 (.array .int) true := ⟨RX11, TX11, 60, tyX11, "WarpMillModel", "", rfl, by decide, in_X11, tyX11_ok, nmX11, Or.inl q1566, Or.inl rfl, rfl, rfl, fun _ => ⟨rfl, q1566⟩⟩
theorem fp_X11_39 : FL RX11 39 11 10 (.array .int) true := ⟨RX11, TX11, 60, tyX11, "WarpMillModel", "", rfl, by decide, in_X11, tyX11_ok, nmX11, Or.inl q1567, Or.inl rfl, rfl, rfl, fun _ => ⟨rfl, q1567⟩⟩
theorem fp_X11_42 : FL RX11 42 11 27 (.array .int) true := ⟨RX11, TX11, 60, tyX11, "WarpMillModel", "", rfl, by decide, in_X11, tyX11_ok, nmX11, Or.inl q1584, Or.inl rfl, rfl, rfl, fun _ => ⟨rfl, q1584⟩⟩
theorem fp_X11_45 : FL RX11 45 11 28 (.array .int) true := ⟨RX11, TX11, 60, tyX11, "WarpMillModel", "", rfl, by decide, in_X11, tyX11_ok, nmX11, Or.inl q1585, Or.inl rfl, rfl, rfl, fun _ => ⟨rfl, q1585⟩⟩
theorem fp_X11_48 : FL RX11 48 11 29 (.array .int) true := ⟨RX11, TX11, 60, tyX11, "WarpMillModel", "", rfl, by decide, in_X11, tyX11_ok, nmX11, Or.inl q1586, Or.inl rfl, rfl, rfl, fun _ => ⟨rfl, q1586⟩⟩
theorem fp_X11_51 : FL RX11 51 11 30 (.array .int) true := ⟨RX11, TX11, 60, tyX11, "WarpMillModel", "", rfl, by decide, in_X11, tyX11_ok, nmX11, Or.inl q1587, Or.inl rfl, rfl, rfl, fun _ => ⟨rfl, q1587⟩⟩
theorem fp_X11_54 : FL RX11 54 11 31 (.array .int) true := ⟨RX11, TX11, 60, tyX11, "WarpMillModel", "", rfl, by decide, in_X11, tyX11_ok, nmX11, Or.inl q1588, Or.inl rfl, rfl, rfl, fun _ => ⟨rfl, q1588⟩⟩
theorem fp_X11_57 : FL RX11 57 11 32 (.array .int) true := ⟨RX11, TX11, 60, tyX11, "WarpMillModel", "", rfl, by decide, in_X11, tyX11_ok, nmX11, Or.inl q1589, Or.inl rfl, rfl, rfl, fun _ => ⟨rfl, q1589⟩⟩
theorem fp_X11_60 : FL RX11 60 11 33 (.array .int) true := ⟨RX11, TX11, 60, tyX11, "WarpMillModel", "", rfl, by decide, in_X11, tyX11_ok, nmX11, Or.inl q1590, Or.inl rfl, rfl, rfl, fun _ => ⟨rfl, q1590⟩⟩
theorem fp_X11_63 : FL RX11 63 11 34 (.array .int) true := ⟨RX11, TX11, 60, tyX11, "WarpMillModel", "", rfl, by decide, in_X11, tyX11_ok, nmX11, Or.inl q1591, Or.inl rfl, rfl, rfl, fun _ => ⟨rfl, q1591⟩⟩
theorem fp_X11_67 : FL RX11 67 11 35 (.array .int) true := ⟨RX11, TX11, 60, tyX11, "WarpMillModel", "", rfl, by decide, in_X11, tyX11_ok, nmX11, Or.inl q1592, Or.inl rfl, rfl, rfl, fun _ => ⟨rfl, q1592⟩⟩
theorem fp_X11_70 : FL RX11 70 11 36 (.array .int) true := ⟨RX11, TX11, 60, tyX11, "WarpMillModel", "", rfl, by decide, in_X11, tyX11_ok, nmX11, Or.inl q1593, Or.inl rfl, rfl, rfl, fun _ => ⟨rfl, q1593⟩⟩
theorem fp_X11_73 : FL RX11 73 11 37 (.array .int) true := ⟨RX11, TX11, 60, tyX11, "WarpMillModel", "", rfl, by decide, in_X11, tyX11_ok, nmX11, Or.inl q1594, Or.inl rfl, rfl, rfl, fun _ => ⟨rfl, q1594⟩⟩
theorem fp_X11_76 : FL RX11 76 11 38 (.array .boolean) true := ⟨RX11, TX11, 60, tyX11, "WarpMillModel", "", rfl, by decide, in_X11, tyX11_ok, nmX11, Or.inl q1595, Or.inl rfl, rfl, rfl, fun _ => ⟨rfl, q1595⟩⟩
theorem fp_X11_80 : FL RX11 80 11 39 (.array .boolean) true := ⟨RX11, TX11, 60, tyX11, "WarpMillModel", "", rfl, by decide, in_X11, tyX11_ok, nmX11, Or.inl q1596, Or.inl rfl, rfl, rfl, fun _ => ⟨rfl, q1596⟩⟩
theorem fp_X11_83 : FL RX11 83 11 40 (.array .int) true := ⟨RX11, TX11, 60, tyX11, "WarpMillModel", "", rfl, by decide, in_X11, tyX11_ok, nmX11, Or.inl q1597, Or.inl rfl, rfl, rfl, fun _ => ⟨rfl, q1597⟩⟩
theorem fp_X11_87 : FL RX11 87 11 43 (.array .int) true := ⟨RX11, TX11, 60, tyX11, "WarpMillModel", "", rfl, by decide, in_X11, tyX11_ok, nmX11, Or.inl q1600, Or.inl rfl, rfl, rfl, fun _ => ⟨rfl, q1600⟩⟩
theorem fp_X11_90 : FL RX11 90 11 44 (.array .int) true := ⟨RX11, TX11, 60, tyX11, "WarpMillModel", "", rfl, by decide, in_X11, tyX11_ok, nmX11, Or.inl q1601, Or.inl rfl, rfl, rfl, fun _ => ⟨rfl, q1601⟩⟩
theorem fp_X11_93 : FL RX11 93 11 45 (.array .int) true := ⟨RX11, TX11, 60, tyX11, "WarpMillModel", "", rfl, by decide, in_X11, tyX11_ok, nmX11, Or.inl q1602, Or.inl rfl, rfl, rfl, fun _ => ⟨rfl, q1602⟩⟩
theorem fp_X11_96 : FL RX11 96 11 46 (.array .int) true := ⟨RX11, TX11, 60, tyX11, "WarpMillModel", "", rfl, by decide, in_X11, tyX11_ok, nmX11, Or.inl q1603, Or.inl rfl, rfl, rfl, fun _ => ⟨rfl, q1603⟩⟩
theorem fp_X11_99 : FL RX11 99 11 47 (.array .int) true := ⟨RX11, TX11, 60, tyX11, "WarpMillModel", "", rfl, by decide, in_X11, tyX11_ok, nmX11, Or.inl q1604, Or.inl rfl, rfl, rfl, fun _ => ⟨rfl, q1604⟩⟩
theorem fp_X11_102 : FL RX11 102 11 48 (.array .int) true := ⟨RX11, TX11, 60, tyX11, "WarpMillModel", "", rfl, by decide, in_X11, tyX11_ok, nmX11, Or.inl q1605, Or.inl rfl, rfl, rfl, fun _ => ⟨rfl, q1605⟩⟩
theorem fp_X11_105 : FL RX11 105 11 49 (.array .int) true := ⟨RX11, TX11, 60, tyX11, "WarpMillModel", "", rfl, by decide, in_X11, tyX11_ok, nmX11, Or.inl q1606, Or.inl rfl, rfl, rfl, fun _ => ⟨rfl, q1606⟩⟩
theorem fp_X11_108 : FL RX11 108 11 50 (.array .boolean) true := ⟨RX11, TX11, 60, tyX11, "WarpMillModel", "", rfl, by decide, in_X11, tyX11_ok, nmX11, Or.inl q1607, Or.inl rfl, rfl, rfl, fun _ => ⟨rfl, q1607⟩⟩
theorem fp_X11_111 : FL RX11 111 11 51 (.array .boolean) true := ⟨RX11, TX11, 60, tyX11, "WarpMillModel", "", rfl, by decide, in_X11, tyX11_ok, nmX11, Or.inl q1608, Or.inl rfl, rfl, rfl, fun _ => ⟨rfl, q1608⟩⟩
theorem fp_X11_114 : FL RX11 114 11 59 (.array .int) true := ⟨RX11, TX11, 60, tyX11, "WarpMillModel", "", rfl, by decide, in_X11, tyX11_ok, nmX11, Or.inl q1616, Or.inl rfl, rfl, rfl, fun _ => ⟨rfl, q1616⟩⟩
theorem fl_X11_120 : FLr RX11 120 11 0 := ⟨RX11, TX11, 60, "WarpMillModel", "", rfl, by decide, in_X11, Or.inl q1557, Or.inl rfl⟩
theorem fl_X11_136 : FLr RX11 136 11 11 := ⟨RX11, TX11, 60, "WarpMillModel", "", rfl, by decide, in_X11, Or.inl q1568, Or.inl rfl⟩
theorem fp_X11_159 : FL RX11 159 11 15 (.int) false := ⟨RX11, TX11, 60, tyX11, "WarpMillModel", "", rfl, by decide, in_X11, tyX11_ok, nmX11, Or.inl q1572, Or.inl rfl, rfl, rfl, fun h => by cases h⟩
theorem fp_X11_162 : FL RX11 162 11 16 (.int) false := ⟨RX11, TX11, 60, tyX11, "WarpMillModel", "", rfl, by decide, in_X11, tyX11_ok, nmX11, Or.inl q1573, Or.inl rfl, rfl, rfl, fun h => by cases h⟩
theorem fp_X11_165 : FL RX11 165 11 17 (.int) false := ⟨RX11, TX11, 60, tyX11, "WarpMillModel", "", rfl, by decide, in_X11, tyX11_ok, nmX11, Or.inl q1574, Or.inl rfl, rfl, rfl, fun h => by cases h⟩
theorem fp_X11_168 : FL RX11 168 11 18 (.int) false := ⟨RX11, TX11, 60, tyX11, "WarpMillModel", "", rfl, by decide, in_X11, tyX11_ok, nmX11, Or.inl q1575, Or.inl rfl, rfl, rfl, fun h => by cases h⟩
theorem fp_X11_171 : FL RX11 171 11 19 (.int) false := ⟨RX11, TX11, 60, tyX11, "WarpMillModel", "", rfl, by decide, in_X11, tyX11_ok, nmX11, Or.inl q1576, Or.inl rfl, rfl, rfl, fun h => by cases h⟩
theorem fp_X11_174 : FL RX11 174 11 20 (.int) false := ⟨RX11, TX11, 60, tyX11, "WarpMillModel", "", rfl, by decide, in_X11, tyX11_ok, nmX11, Or.inl q1577, Or.inl rfl, rfl, rfl, fun h => by cases h⟩
theorem fp_X11_177 : FL RX11 177 11 21 (.int) false := ⟨RX11, TX11, 60, tyX11, "WarpMillModel", "", rfl, by decide, in_X11, tyX11_ok, nmX11, Or.inl q1578, Or.inl rfl, rfl, rfl, fun h => by cases h⟩
theorem fp_X11_180 : FL RX11 180 11 23 (.int) false := ⟨RX11, TX11, 60, tyX11, "WarpMillModel", "", rfl, by decide, in_X11, tyX11_ok, nmX11, Or.inl q1580, Or.inl rfl, rfl, rfl, fun h => by cases h⟩
theorem fp_X11_183 : FL RX11 183 11 24 (.int) false := ⟨RX11, TX11, 60, tyX11, "WarpMillModel", "", rfl, by decide, in_X11, tyX11_ok, nmX11, Or.inl q1581, Or.inl rfl, rfl, rfl, fun h => by cases h⟩
theorem fp_X11_186 : FL RX11 186 11 25 (.int) false := ⟨RX11, TX11, 60, tyX11, "WarpMillModel", "", rfl, by decide, in_X11, tyX11_ok, nmX11, Or.inl q1582, Or.inl rfl, rfl, rfl, fun h => by cases h⟩
theorem fp_X11_189 : FL RX11 189 11 26 (.int) false := ⟨RX11, TX11, 60, tyX11, "WarpMillModel", "", rfl, by decide, in_X11, tyX11_ok, nmX11, Or.inl q1583, Or.inl rfl, rfl, rfl, fun h => by cases h⟩
theorem fp_X11_120 : FL RX11 120 11 0 (.int) false := ⟨RX11, TX11, 60, tyX11, "WarpMillModel", "", rfl, by decide, in_X11, tyX11_ok, nmX11, Or.inl q1557, Or.inl rfl, rfl, rfl, fun h => by cases h⟩
theorem fp_X11_136 : FL RX11 136 11 11 (.int) false := ⟨RX11, TX11, 60, tyX11, "WarpMillModel", "", rfl, by decide, in_X11, tyX11_ok, nmX11, Or.inl q1568, Or.inl rfl, rfl, rfl, fun h => by cases h⟩
theorem fl_X11_32 : FLr RX11 32 11 8 := ⟨RX11, TX11, 60, "WarpMillModel", "", rfl, by decide, in_X11, Or.inl q1565, Or.inl rfl⟩
theorem fl_X11_28 : FLr RX11 28 11 7 := ⟨RX11, TX11, 60, "WarpMillModel", "", rfl, by decide, in_X11, Or.inl q1564, Or.inl rfl⟩
theorem c_X11_126 : CV RX11 126 11 yX11_clearUnits cX11_clearUnits 2 none 0 := ⟨TX11, 60, rfl, q1548, q1550, qs27, q111, q1551, ⟨by decide +kernel, by decide +kernel, by decide +kernel⟩⟩
theorem c_X11_117 : CV RX11 117 11 yX11_clearHouse cX11_clearHouse 2 none 0 := ⟨TX11, 60, rfl, q1544, q1546, qs26, q111, q1547, ⟨by decide +kernel, by decide +kernel, by decide +kernel⟩⟩
theorem c_X11_139 : CS RX11 139 yX11_isPower cX11_isPower 2 (some Jvm.ClassFile.FieldType.boolean) 2 := ⟨q1746, q1747, q111, q1748, ⟨by decide +kernel, by decide +kernel, by decide +kernel⟩⟩
theorem c_X11_143 : CV RX11 143 11 yX11_isUnder cX11_isUnder 1 (some Jvm.ClassFile.FieldType.boolean) 0 := ⟨TX11, 60, rfl, q1749, q1751, qs29, q111, q1752, ⟨by decide +kernel, by decide +kernel, by decide +kernel⟩⟩
theorem c_X11_147 : CV RX11 147 11 yX11_clearCounts cX11_clearCounts 1 none 0 := ⟨TX11, 60, rfl, q1753, q1755, qs30, q111, q1756, ⟨by decide +kernel, by decide +kernel, by decide +kernel⟩⟩
theorem dX11_clearHouse_0 : decode cX11_clearHouse 0 = .ok (.aload_n 0, 1) := by decide +kernel
theorem dX11_clearHouse_1 : decode cX11_clearHouse 1 = .ok (.invokevirtual 126, 3) := by decide +kernel
theorem dX11_clearHouse_4 : decode cX11_clearHouse 4 = .ok (.iconst 0, 1) := by decide +kernel
theorem dX11_clearHouse_5 : decode cX11_clearHouse 5 = .ok (.istore_n 1, 1) := by decide +kernel
theorem dX11_clearHouse_6 : decode cX11_clearHouse 6 = .ok (.iload_n 1, 1) := by decide +kernel
theorem dX11_clearHouse_7 : decode cX11_clearHouse 7 = .ok (.bipush 32, 2) := by decide +kernel
theorem dX11_clearHouse_9 : decode cX11_clearHouse 9 = .ok (.if_icmp .ge 16, 3) := by decide +kernel
theorem dX11_clearHouse_12 : decode cX11_clearHouse 12 = .ok (.aload_n 0, 1) := by decide +kernel
theorem dX11_clearHouse_13 : decode cX11_clearHouse 13 = .ok (.getfield 36, 3) := by decide +kernel
theorem dX11_clearHouse_16 : decode cX11_clearHouse 16 = .ok (.iload_n 1, 1) := by decide +kernel
theorem dX11_clearHouse_17 : decode cX11_clearHouse 17 = .ok (.iconst (-1), 1) := by decide +kernel
theorem dX11_clearHouse_18 : decode cX11_clearHouse 18 = .ok (.iastore, 1) := by decide +kernel
theorem dX11_clearHouse_19 : decode cX11_clearHouse 19 = .ok (.iinc 1 1, 3) := by decide +kernel
theorem dX11_clearHouse_22 : decode cX11_clearHouse 22 = .ok (.goto (-16), 3) := by decide +kernel
theorem dX11_clearHouse_25 : decode cX11_clearHouse 25 = .ok (.return_, 1) := by decide +kernel
def fX11_clearHouse (n : Nat) (a0 : Nat) (A : AH) : Option (AH) :=
(rcv A (some a0) 11).bind fun v1 =>
(fX11_clearUnits n v1 A).bind fun g2 =>
jl (fixG (fun _ _ => none) (fun (rc6 : (Int32) → (AH) → Option (AH)) (x4 : Int32) (A5 : AH) =>
if (32 : Int32) ≤ x4 then (some A5) else
(gR A5 (some a0) 11 9).bind fun v8 =>
(sI A5 v8 x4 (-1 : Int32)).bind fun A9 =>
rc6 (x4 + (1 : Int32)) A9) n) fun j3 =>
j3 (0 : Int32) g2

set_option maxHeartbeats 4000000 in
set_option maxRecDepth 100000 in
theorem sX11_clearHouse (l : Launch) (D : DE) (n : Nat) (a0 : Nat) (A : AH) (g : AH) (hg : fX11_clearHouse n a0 A = some g) : Sm l D yX11_clearHouse cX11_clearHouse 2 none 2 42 [tR (some a0)] A (wU g).1 (wU g).2 := by
  refine Sm.of (ω := wU) (fX11_clearHouse n a0 A) [some (tR (some a0)), none] (by decide) (Nat.le_of_ble_eq_true rfl) rfl hg ?_
  intro p e R s m args below meth c X hin
  have X : Cx D cX11_clearHouse RX11 2 2 42 none p R s m args meth c := X
  unfold fX11_clearHouse
  refine rf_aload_n X rfl dX11_clearHouse_0 ?_
  refine rf_bind (fun v1 hv1 => ?_)
  refine rf_bind (fun g2 hg2 => ?_)
  refine rf_callVU X c_X11_126 ⟨Nat.le_of_ble_eq_true rfl, Nat.le_of_ble_eq_true rfl⟩ [] rfl (Nat.le_of_ble_eq_true rfl) hv1 (sX11_clearUnits l D n v1 A g2 hg2) dX11_clearHouse_1 ?_
  refine rf_iconst X (0 : Int32) rfl dX11_clearHouse_4 ?_
  refine rf_istore_n X (ls' := [some (tR (some a0)), some (tI (0 : Int32))]) rfl (by decide) dX11_clearHouse_5 ?_
  refine rf_fix (fun i => ∀ (x4 : Int32) (A5 : AH), RfX X l e below wU (i x4 A5) 6 [some (tR (some a0)), some (tI x4)] [] A5) (fun _ _ => rf_none) (fun rc6 hrc6 => ?_) (fun j3 hj3 => ?_)
  · intro x4 A5
    refine rf_iload_n X rfl dX11_clearHouse_6 ?_
    refine rf_bipush X (32 : Int32) rfl dX11_clearHouse_7 ?_
    refine rf_icmp_ge X (tgt := 25) rfl dX11_clearHouse_9 (fun c7 => rf_pos c7 ?_) (fun c7 => rf_neg c7 ?_)
    · exact rf_vret X rfl dX11_clearHouse_25
    refine rf_aload_n X rfl dX11_clearHouse_12 ?_
    refine rf_bind (fun v8 hv8 => ?_)
    refine rf_getR X fl_X11_36 hv8 dX11_clearHouse_13 ?_
    refine rf_iload_n X rfl dX11_clearHouse_16 ?_
    refine rf_iconst X (-1 : Int32) rfl dX11_clearHouse_17 ?_
    refine rf_bind (fun A9 hA9 => ?_)
    refine rf_iast X hA9 dX11_clearHouse_18 ?_
    refine rf_iinc X (x4 + (1 : Int32)) rfl rfl (ls' := [some (tR (some a0)), some (tI (x4 + (1 : Int32)))]) rfl (by decide) dX11_clearHouse_19 ?_
    refine rf_goto X (tgt := 6) rfl dX11_clearHouse_22 ?_
    exact rf_go (hrc6 (x4 + (1 : Int32)) A9) (And.intro rfl (And.intro rfl True.intro))
  exact rf_go (hj3 (0 : Int32) g2) (And.intro rfl (And.intro rfl True.intro))

theorem dX11_init_0 : decode cX11_init 0 = .ok (.aload_n 0, 1) := by decide +kernel
theorem dX11_init_1 : decode cX11_init 1 = .ok (.invokespecial 1, 3) := by decide +kernel
theorem dX11_init_4 : decode cX11_init 4 = .ok (.aload_n 0, 1) := by decide +kernel
theorem dX11_init_5 : decode cX11_init 5 = .ok (.iconst 4, 1) := by decide +kernel
theorem dX11_init_6 : decode cX11_init 6 = .ok (.putfield 7, 3) := by decide +kernel
theorem dX11_init_9 : decode cX11_init 9 = .ok (.aload_n 0, 1) := by decide +kernel
theorem dX11_init_10 : decode cX11_init 10 = .ok (.iconst 4, 1) := by decide +kernel
theorem dX11_init_11 : decode cX11_init 11 = .ok (.putfield 13, 3) := by decide +kernel
theorem dX11_init_14 : decode cX11_init 14 = .ok (.aload_n 0, 1) := by decide +kernel
theorem dX11_init_15 : decode cX11_init 15 = .ok (.iconst 2, 1) := by decide +kernel
theorem dX11_init_16 : decode cX11_init 16 = .ok (.putfield 16, 3) := by decide +kernel
theorem dX11_init_19 : decode cX11_init 19 = .ok (.aload_n 0, 1) := by decide +kernel
theorem dX11_init_20 : decode cX11_init 20 = .ok (.iconst 4, 1) := by decide +kernel
theorem dX11_init_21 : decode cX11_init 21 = .ok (.putfield 19, 3) := by decide +kernel
theorem dX11_init_24 : decode cX11_init 24 = .ok (.aload_n 0, 1) := by decide +kernel
theorem dX11_init_25 : decode cX11_init 25 = .ok (.iconst 2, 1) := by decide +kernel
theorem dX11_init_26 : decode cX11_init 26 = .ok (.putfield 22, 3) := by decide +kernel
theorem dX11_init_29 : decode cX11_init 29 = .ok (.aload_n 0, 1) := by decide +kernel
theorem dX11_init_30 : decode cX11_init 30 = .ok (.sipush 512, 3) := by decide +kernel
theorem dX11_init_33 : decode cX11_init 33 = .ok (.putfield 25, 3) := by decide +kernel
theorem dX11_init_36 : decode cX11_init 36 = .ok (.aload_n 0, 1) := by decide +kernel
theorem dX11_init_37 : decode cX11_init 37 = .ok (.sipush 128, 3) := by decide +kernel
theorem dX11_init_40 : decode cX11_init 40 = .ok (.newarray .long, 2) := by decide +kernel
theorem dX11_init_42 : decode cX11_init 42 = .ok (.putfield 28, 3) := by decide +kernel
theorem dX11_init_45 : decode cX11_init 45 = .ok (.aload_n 0, 1) := by decide +kernel
theorem dX11_init_46 : decode cX11_init 46 = .ok (.sipush 4096, 3) := by decide +kernel
theorem dX11_init_49 : decode cX11_init 49 = .ok (.newarray .int, 2) := by decide +kernel
theorem dX11_init_51 : decode cX11_init 51 = .ok (.putfield 32, 3) := by decide +kernel
theorem dX11_init_54 : decode cX11_init 54 = .ok (.aload_n 0, 1) := by decide +kernel
theorem dX11_init_55 : decode cX11_init 55 = .ok (.bipush 32, 2) := by decide +kernel
theorem dX11_init_57 : decode cX11_init 57 = .ok (.newarray .int, 2) := by decide +kernel
theorem dX11_init_59 : decode cX11_init 59 = .ok (.putfield 36, 3) := by decide +kernel
theorem dX11_init_62 : decode cX11_init 62 = .ok (.aload_n 0, 1) := by decide +kernel
theorem dX11_init_63 : decode cX11_init 63 = .ok (.bipush 8, 2) := by decide +kernel
theorem dX11_init_65 : decode cX11_init 65 = .ok (.newarray .int, 2) := by decide +kernel
theorem dX11_init_67 : decode cX11_init 67 = .ok (.putfield 39, 3) := by decide +kernel
theorem dX11_init_70 : decode cX11_init 70 = .ok (.aload_n 0, 1) := by decide +kernel
theorem dX11_init_71 : decode cX11_init 71 = .ok (.bipush 8, 2) := by decide +kernel
theorem dX11_init_73 : decode cX11_init 73 = .ok (.newarray .int, 2) := by decide +kernel
theorem dX11_init_75 : decode cX11_init 75 = .ok (.putfield 42, 3) := by decide +kernel
theorem dX11_init_78 : decode cX11_init 78 = .ok (.aload_n 0, 1) := by decide +kernel
theorem dX11_init_79 : decode cX11_init 79 = .ok (.bipush 8, 2) := by decide +kernel
theorem dX11_init_81 : decode cX11_init 81 = .ok (.newarray .int, 2) := by decide +kernel
theorem dX11_init_83 : decode cX11_init 83 = .ok (.putfield 45, 3) := by decide +kernel
theorem dX11_init_86 : decode cX11_init 86 = .ok (.aload_n 0, 1) := by decide +kernel
theorem dX11_init_87 : decode cX11_init 87 = .ok (.bipush 8, 2) := by decide +kernel
theorem dX11_init_89 : decode cX11_init 89 = .ok (.newarray .int, 2) := by decide +kernel
theorem dX11_init_91 : decode cX11_init 91 = .ok (.putfield 48, 3) := by decide +kernel
theorem dX11_init_94 : decode cX11_init 94 = .ok (.aload_n 0, 1) := by decide +kernel
theorem dX11_init_95 : decode cX11_init 95 = .ok (.bipush 8, 2) := by decide +kernel
theorem dX11_init_97 : decode cX11_init 97 = .ok (.newarray .int, 2) := by decide +kernel
theorem dX11_init_99 : decode cX11_init 99 = .ok (.putfield 51, 3) := by decide +kernel
theorem dX11_init_102 : decode cX11_init 102 = .ok (.aload_n 0, 1) := by decide +kernel
theorem dX11_init_103 : decode cX11_init 103 = .ok (.sipush 128, 3) := by decide +kernel
theorem dX11_init_106 : decode cX11_init 106 = .ok (.newarray .int, 2) := by decide +kernel
theorem dX11_init_108 : decode cX11_init 108 = .ok (.putfield 54, 3) := by decide +kernel
theorem dX11_init_111 : decode cX11_init 111 = .ok (.aload_n 0, 1) := by decide +kernel
theorem dX11_init_112 : decode cX11_init 112 = .ok (.sipush 128, 3) := by decide +kernel
theorem dX11_init_115 : decode cX11_init 115 = .ok (.newarray .int, 2) := by decide +kernel
theorem dX11_init_117 : decode cX11_init 117 = .ok (.putfield 57, 3) := by decide +kernel
theorem dX11_init_120 : decode cX11_init 120 = .ok (.aload_n 0, 1) := by decide +kernel
theorem dX11_init_121 : decode cX11_init 121 = .ok (.sipush 128, 3) := by decide +kernel
theorem dX11_init_124 : decode cX11_init 124 = .ok (.newarray .int, 2) := by decide +kernel
theorem dX11_init_126 : decode cX11_init 126 = .ok (.putfield 60, 3) := by decide +kernel
theorem dX11_init_129 : decode cX11_init 129 = .ok (.aload_n 0, 1) := by decide +kernel
theorem dX11_init_130 : decode cX11_init 130 = .ok (.sipush 2560, 3) := by decide +kernel
theorem dX11_init_133 : decode cX11_init 133 = .ok (.newarray .int, 2) := by decide +kernel
theorem dX11_init_135 : decode cX11_init 135 = .ok (.putfield 63, 3) := by decide +kernel
theorem dX11_init_138 : decode cX11_init 138 = .ok (.aload_n 0, 1) := by decide +kernel
theorem dX11_init_139 : decode cX11_init 139 = .ok (.ldc 66, 2) := by decide +kernel
theorem dX11_init_141 : decode cX11_init 141 = .ok (.newarray .int, 2) := by decide +kernel
theorem dX11_init_143 : decode cX11_init 143 = .ok (.putfield 67, 3) := by decide +kernel
theorem dX11_init_146 : decode cX11_init 146 = .ok (.aload_n 0, 1) := by decide +kernel
theorem dX11_init_147 : decode cX11_init 147 = .ok (.sipush 4096, 3) := by decide +kernel
theorem dX11_init_150 : decode cX11_init 150 = .ok (.newarray .int, 2) := by decide +kernel
theorem dX11_init_152 : decode cX11_init 152 = .ok (.putfield 70, 3) := by decide +kernel
theorem dX11_init_155 : decode cX11_init 155 = .ok (.aload_n 0, 1) := by decide +kernel
theorem dX11_init_156 : decode cX11_init 156 = .ok (.sipush 4096, 3) := by decide +kernel
theorem dX11_init_159 : decode cX11_init 159 = .ok (.newarray .int, 2) := by decide +kernel
theorem dX11_init_161 : decode cX11_init 161 = .ok (.putfield 73, 3) := by decide +kernel
theorem dX11_init_164 : decode cX11_init 164 = .ok (.aload_n 0, 1) := by decide +kernel
theorem dX11_init_165 : decode cX11_init 165 = .ok (.sipush 4096, 3) := by decide +kernel
theorem dX11_init_168 : decode cX11_init 168 = .ok (.newarray .boolean, 2) := by decide +kernel
theorem dX11_init_170 : decode cX11_init 170 = .ok (.putfield 76, 3) := by decide +kernel
theorem dX11_init_173 : decode cX11_init 173 = .ok (.aload_n 0, 1) := by decide +kernel
theorem dX11_init_174 : decode cX11_init 174 = .ok (.sipush 4096, 3) := by decide +kernel
theorem dX11_init_177 : decode cX11_init 177 = .ok (.newarray .boolean, 2) := by decide +kernel
theorem dX11_init_179 : decode cX11_init 179 = .ok (.putfield 80, 3) := by decide +kernel
theorem dX11_init_182 : decode cX11_init 182 = .ok (.aload_n 0, 1) := by decide +kernel
theorem dX11_init_183 : decode cX11_init 183 = .ok (.sipush 4096, 3) := by decide +kernel
theorem dX11_init_186 : decode cX11_init 186 = .ok (.newarray .int, 2) := by decide +kernel
theorem dX11_init_188 : decode cX11_init 188 = .ok (.putfield 83, 3) := by decide +kernel
theorem dX11_init_191 : decode cX11_init 191 = .ok (.aload_n 0, 1) := by decide +kernel
theorem dX11_init_192 : decode cX11_init 192 = .ok (.ldc 86, 2) := by decide +kernel
theorem dX11_init_194 : decode cX11_init 194 = .ok (.newarray .int, 2) := by decide +kernel
theorem dX11_init_196 : decode cX11_init 196 = .ok (.putfield 87, 3) := by decide +kernel
theorem dX11_init_199 : decode cX11_init 199 = .ok (.aload_n 0, 1) := by decide +kernel
theorem dX11_init_200 : decode cX11_init 200 = .ok (.ldc 86, 2) := by decide +kernel
theorem dX11_init_202 : decode cX11_init 202 = .ok (.newarray .int, 2) := by decide +kernel
theorem dX11_init_204 : decode cX11_init 204 = .ok (.putfield 90, 3) := by decide +kernel
theorem dX11_init_207 : decode cX11_init 207 = .ok (.aload_n 0, 1) := by decide +kernel
theorem dX11_init_208 : decode cX11_init 208 = .ok (.ldc 86, 2) := by decide +kernel
theorem dX11_init_210 : decode cX11_init 210 = .ok (.newarray .int, 2) := by decide +kernel
theorem dX11_init_212 : decode cX11_init 212 = .ok (.putfield 93, 3) := by decide +kernel
theorem dX11_init_215 : decode cX11_init 215 = .ok (.aload_n 0, 1) := by decide +kernel
theorem dX11_init_216 : decode cX11_init 216 = .ok (.ldc 86, 2) := by decide +kernel
theorem dX11_init_218 : decode cX11_init 218 = .ok (.newarray .int, 2) := by decide +kernel
theorem dX11_init_220 : decode cX11_init 220 = .ok (.putfield 96, 3) := by decide +kernel
theorem dX11_init_223 : decode cX11_init 223 = .ok (.aload_n 0, 1) := by decide +kernel
theorem dX11_init_224 : decode cX11_init 224 = .ok (.ldc 86, 2) := by decide +kernel
theorem dX11_init_226 : decode cX11_init 226 = .ok (.newarray .int, 2) := by decide +kernel
theorem dX11_init_228 : decode cX11_init 228 = .ok (.putfield 99, 3) := by decide +kernel
theorem dX11_init_231 : decode cX11_init 231 = .ok (.aload_n 0, 1) := by decide +kernel
theorem dX11_init_232 : decode cX11_init 232 = .ok (.ldc 86, 2) := by decide +kernel
theorem dX11_init_234 : decode cX11_init 234 = .ok (.newarray .int, 2) := by decide +kernel
theorem dX11_init_236 : decode cX11_init 236 = .ok (.putfield 102, 3) := by decide +kernel
theorem dX11_init_239 : decode cX11_init 239 = .ok (.aload_n 0, 1) := by decide +kernel
theorem dX11_init_240 : decode cX11_init 240 = .ok (.bipush 32, 2) := by decide +kernel
theorem dX11_init_242 : decode cX11_init 242 = .ok (.newarray .int, 2) := by decide +kernel
theorem dX11_init_244 : decode cX11_init 244 = .ok (.putfield 105, 3) := by decide +kernel
theorem dX11_init_247 : decode cX11_init 247 = .ok (.aload_n 0, 1) := by decide +kernel
theorem dX11_init_248 : decode cX11_init 248 = .ok (.bipush 32, 2) := by decide +kernel
theorem dX11_init_250 : decode cX11_init 250 = .ok (.newarray .boolean, 2) := by decide +kernel
theorem dX11_init_252 : decode cX11_init 252 = .ok (.putfield 108, 3) := by decide +kernel
theorem dX11_init_255 : decode cX11_init 255 = .ok (.aload_n 0, 1) := by decide +kernel
theorem dX11_init_256 : decode cX11_init 256 = .ok (.bipush 32, 2) := by decide +kernel
theorem dX11_init_258 : decode cX11_init 258 = .ok (.newarray .boolean, 2) := by decide +kernel
theorem dX11_init_260 : decode cX11_init 260 = .ok (.putfield 111, 3) := by decide +kernel
theorem dX11_init_263 : decode cX11_init 263 = .ok (.aload_n 0, 1) := by decide +kernel
theorem dX11_init_264 : decode cX11_init 264 = .ok (.bipush 32, 2) := by decide +kernel
theorem dX11_init_266 : decode cX11_init 266 = .ok (.newarray .int, 2) := by decide +kernel
theorem dX11_init_268 : decode cX11_init 268 = .ok (.putfield 114, 3) := by decide +kernel
theorem dX11_init_271 : decode cX11_init 271 = .ok (.aload_n 0, 1) := by decide +kernel
theorem dX11_init_272 : decode cX11_init 272 = .ok (.invokevirtual 117, 3) := by decide +kernel
theorem dX11_init_275 : decode cX11_init 275 = .ok (.return_, 1) := by decide +kernel
def fX11_init (n : Nat) (a0 : Nat) (A : AH) : Option (AH) :=
(pI A (some a0) 11 1 (4 : Int32)).bind fun A1 =>
(pI A1 (some a0) 11 2 (4 : Int32)).bind fun A2 =>
(pI A2 (some a0) 11 3 (2 : Int32)).bind fun A3 =>
(pI A3 (some a0) 11 4 (4 : Int32)).bind fun A4 =>
(pI A4 (some a0) 11 5 (2 : Int32)).bind fun A5 =>
(pI A5 (some a0) 11 6 (512 : Int32)).bind fun A6 =>
(nAL A6 (128 : Int32)).bind fun A7 =>
(pR A7 (some a0) 11 7 (some (hN A6))).bind fun A8 =>
(nAI A8 (4096 : Int32)).bind fun A9 =>
(pR A9 (some a0) 11 8 (some (hN A8))).bind fun A10 =>
(nAI A10 (32 : Int32)).bind fun A11 =>
(pR A11 (some a0) 11 9 (some (hN A10))).bind fun A12 =>
(nAI A12 (8 : Int32)).bind fun A13 =>
(pR A13 (some a0) 11 10 (some (hN A12))).bind fun A14 =>
(nAI A14 (8 : Int32)).bind fun A15 =>
(pR A15 (some a0) 11 27 (some (hN A14))).bind fun A16 =>
(nAI A16 (8 : Int32)).bind fun A17 =>
(pR A17 (some a0) 11 28 (some (hN A16))).bind fun A18 =>
(nAI A18 (8 : Int32)).bind fun A19 =>
(pR A19 (some a0) 11 29 (some (hN A18))).bind fun A20 =>
(nAI A20 (8 : Int32)).bind fun A21 =>
(pR A21 (some a0) 11 30 (some (hN A20))).bind fun A22 =>
(nAI A22 (128 : Int32)).bind fun A23 =>
(pR A23 (some a0) 11 31 (some (hN A22))).bind fun A24 =>
(nAI A24 (128 : Int32)).bind fun A25 =>
(pR A25 (some a0) 11 32 (some (hN A24))).bind fun A26 =>
(nAI A26 (128 : Int32)).bind fun A27 =>
(pR A27 (some a0) 11 33 (some (hN A26))).bind fun A28 =>
(nAI A28 (2560 : Int32)).bind fun A29 =>
(pR A29 (some a0) 11 34 (some (hN A28))).bind fun A30 =>
(nAI A30 (65536 : Int32)).bind fun A31 =>
(pR A31 (some a0) 11 35 (some (hN A30))).bind fun A32 =>
(nAI A32 (4096 : Int32)).bind fun A33 =>
(pR A33 (some a0) 11 36 (some (hN A32))).bind fun A34 =>
(nAI A34 (4096 : Int32)).bind fun A35 =>
(pR A35 (some a0) 11 37 (some (hN A34))).bind fun A36 =>
(nAZ A36 (4096 : Int32)).bind fun A37 =>
(pR A37 (some a0) 11 38 (some (hN A36))).bind fun A38 =>
(nAZ A38 (4096 : Int32)).bind fun A39 =>
(pR A39 (some a0) 11 39 (some (hN A38))).bind fun A40 =>
(nAI A40 (4096 : Int32)).bind fun A41 =>
(pR A41 (some a0) 11 40 (some (hN A40))).bind fun A42 =>
(nAI A42 (32768 : Int32)).bind fun A43 =>
(pR A43 (some a0) 11 43 (some (hN A42))).bind fun A44 =>
(nAI A44 (32768 : Int32)).bind fun A45 =>
(pR A45 (some a0) 11 44 (some (hN A44))).bind fun A46 =>
(nAI A46 (32768 : Int32)).bind fun A47 =>
(pR A47 (some a0) 11 45 (some (hN A46))).bind fun A48 =>
(nAI A48 (32768 : Int32)).bind fun A49 =>
(pR A49 (some a0) 11 46 (some (hN A48))).bind fun A50 =>
(nAI A50 (32768 : Int32)).bind fun A51 =>
(pR A51 (some a0) 11 47 (some (hN A50))).bind fun A52 =>
(nAI A52 (32768 : Int32)).bind fun A53 =>
(pR A53 (some a0) 11 48 (some (hN A52))).bind fun A54 =>
(nAI A54 (32 : Int32)).bind fun A55 =>
(pR A55 (some a0) 11 49 (some (hN A54))).bind fun A56 =>
(nAZ A56 (32 : Int32)).bind fun A57 =>
(pR A57 (some a0) 11 50 (some (hN A56))).bind fun A58 =>
(nAZ A58 (32 : Int32)).bind fun A59 =>
(pR A59 (some a0) 11 51 (some (hN A58))).bind fun A60 =>
(nAI A60 (32 : Int32)).bind fun A61 =>
(pR A61 (some a0) 11 59 (some (hN A60))).bind fun A62 =>
(rcv A62 (some a0) 11).bind fun v63 =>
(fX11_clearHouse n v63 A62).bind fun g64 =>
some g64

set_option maxHeartbeats 4000000 in
set_option maxRecDepth 100000 in
theorem sX11_init (l : Launch) (D : DE) (n : Nat) (a0 : Nat) (A : AH) (g : AH) (hg : fX11_init n a0 A = some g) : Sm l D yX11_init cX11_init 1 none 3 63 [tR (some a0)] A (wU g).1 (wU g).2 := by
  refine Sm.of (ω := wU) (fX11_init n a0 A) [some (tR (some a0))] (by decide) (Nat.le_of_ble_eq_true rfl) rfl hg ?_
  intro p e R s m args below meth c X hin
  have X : Cx D cX11_init RX11 1 3 63 none p R s m args meth c := X
  unfold fX11_init
  refine rf_aload_n X rfl dX11_init_0 ?_
  refine rf_objInit X q1541 ⟨by decide, by decide⟩ (Nat.le_of_ble_eq_true rfl) dX11_init_1 ?_
  refine rf_aload_n X rfl dX11_init_4 ?_
  refine rf_iconst X (4 : Int32) rfl dX11_init_5 ?_
  refine rf_bind (fun A1 hA1 => ?_)
  refine rf_putI X fp_X11_7 (fun _ => hin) hA1 dX11_init_6 ?_
  refine rf_aload_n X rfl dX11_init_9 ?_
  refine rf_iconst X (4 : Int32) rfl dX11_init_10 ?_
  refine rf_bind (fun A2 hA2 => ?_)
  refine rf_putI X fp_X11_13 (fun _ => hin) hA2 dX11_init_11 ?_
  refine rf_aload_n X rfl dX11_init_14 ?_
  refine rf_iconst X (2 : Int32) rfl dX11_init_15 ?_
  refine rf_bind (fun A3 hA3 => ?_)
  refine rf_putI X fp_X11_16 (fun _ => hin) hA3 dX11_init_16 ?_
  refine rf_aload_n X rfl dX11_init_19 ?_
  refine rf_iconst X (4 : Int32) rfl dX11_init_20 ?_
  refine rf_bind (fun A4 hA4 => ?_)
  refine rf_putI X fp_X11_19 (fun _ => hin) hA4 dX11_init_21 ?_
  refine rf_aload_n X rfl dX11_init_24 ?_
  refine rf_iconst X (2 : Int32) rfl dX11_init_25 ?_
  refine rf_bind (fun A5 hA5 => ?_)
  refine rf_putI X fp_X11_22 (fun _ => hin) hA5 dX11_init_26 ?_
  refine rf_aload_n X rfl dX11_init_29 ?_
  refine rf_sipush X (512 : Int32) rfl dX11_init_30 ?_
  refine rf_bind (fun A6 hA6 => ?_)
  refine rf_putI X fp_X11_25 (fun _ => hin) hA6 dX11_init_33 ?_
  refine rf_aload_n X rfl dX11_init_36 ?_
  refine rf_sipush X (128 : Int32) rfl dX11_init_37 ?_
  refine rf_bind (fun A7 hA7 => ?_)
  refine rf_newL X hA7 dX11_init_40 ?_
  refine rf_bind (fun A8 hA8 => ?_)
  refine rf_putR X fp_X11_28 (fun _ => hin) rfl hA8 dX11_init_42 ?_
  refine rf_aload_n X rfl dX11_init_45 ?_
  refine rf_sipush X (4096 : Int32) rfl dX11_init_46 ?_
  refine rf_bind (fun A9 hA9 => ?_)
  refine rf_newI X hA9 dX11_init_49 ?_
  refine rf_bind (fun A10 hA10 => ?_)
  refine rf_putR X fp_X11_32 (fun _ => hin) rfl hA10 dX11_init_51 ?_
  refine rf_aload_n X rfl dX11_init_54 ?_
  refine rf_bipush X (32 : Int32) rfl dX11_init_55 ?_
  refine rf_bind (fun A11 hA11 => ?_)
  refine rf_newI X hA11 dX11_init_57 ?_
  refine rf_bind (fun A12 hA12 => ?_)
  refine rf_putR X fp_X11_36 (fun _ => hin) rfl hA12 dX11_init_59 ?_
  refine rf_aload_n X rfl dX11_init_62 ?_
  refine rf_bipush X (8 : Int32) rfl dX11_init_63 ?_
  refine rf_bind (fun A13 hA13 => ?_)
  refine rf_newI X hA13 dX11_init_65 ?_
  refine rf_bind (fun A14 hA14 => ?_)
  refine rf_putR X fp_X11_39 (fun _ => hin) rfl hA14 dX11_init_67 ?_
  refine rf_aload_n X rfl dX11_init_70 ?_
  refine rf_bipush X (8 : Int32) rfl dX11_init_71 ?_
  refine rf_bind (fun A15 hA15 => ?_)
  refine rf_newI X hA15 dX11_init_73 ?_
  refine rf_bind (fun A16 hA16 => ?_)
  refine rf_putR X fp_X11_42 (fun _ => hin) rfl hA16 dX11_init_75 ?_
  refine rf_aload_n X rfl dX11_init_78 ?_
  refine rf_bipush X (8 : Int32) rfl dX11_init_79 ?_
  refine rf_bind (fun A17 hA17 => ?_)
  refine rf_newI X hA17 dX11_init_81 ?_
  refine rf_bind (fun A18 hA18 => ?_)
  refine rf_putR X fp_X11_45 (fun _ => hin) rfl hA18 dX11_init_83 ?_
  refine rf_aload_n X rfl dX11_init_86 ?_
  refine rf_bipush X (8 : Int32) rfl dX11_init_87 ?_
  refine rf_bind (fun A19 hA19 => ?_)
  refine rf_newI X hA19 dX11_init_89 ?_
  refine rf_bind (fun A20 hA20 => ?_)
  refine rf_putR X fp_X11_48 (fun _ => hin) rfl hA20 dX11_init_91 ?_
  refine rf_aload_n X rfl dX11_init_94 ?_
  refine rf_bipush X (8 : Int32) rfl dX11_init_95 ?_
  refine rf_bind (fun A21 hA21 => ?_)
  refine rf_newI X hA21 dX11_init_97 ?_
  refine rf_bind (fun A22 hA22 => ?_)
  refine rf_putR X fp_X11_51 (fun _ => hin) rfl hA22 dX11_init_99 ?_
  refine rf_aload_n X rfl dX11_init_102 ?_
  refine rf_sipush X (128 : Int32) rfl dX11_init_103 ?_
  refine rf_bind (fun A23 hA23 => ?_)
  refine rf_newI X hA23 dX11_init_106 ?_
  refine rf_bind (fun A24 hA24 => ?_)
  refine rf_putR X fp_X11_54 (fun _ => hin) rfl hA24 dX11_init_108 ?_
  refine rf_aload_n X rfl dX11_init_111 ?_
  refine rf_sipush X (128 : Int32) rfl dX11_init_112 ?_
  refine rf_bind (fun A25 hA25 => ?_)
  refine rf_newI X hA25 dX11_init_115 ?_
  refine rf_bind (fun A26 hA26 => ?_)
  refine rf_putR X fp_X11_57 (fun _ => hin) rfl hA26 dX11_init_117 ?_
  refine rf_aload_n X rfl dX11_init_120 ?_
  refine rf_sipush X (128 : Int32) rfl dX11_init_121 ?_
  refine rf_bind (fun A27 hA27 => ?_)
  refine rf_newI X hA27 dX11_init_124 ?_
  refine rf_bind (fun A28 hA28 => ?_)
  refine rf_putR X fp_X11_60 (fun _ => hin) rfl hA28 dX11_init_126 ?_
  refine rf_aload_n X rfl dX11_init_129 ?_
  refine rf_sipush X (2560 : Int32) rfl dX11_init_130 ?_
  refine rf_bind (fun A29 hA29 => ?_)
  refine rf_newI X hA29 dX11_init_133 ?_
  refine rf_bind (fun A30 hA30 => ?_)
  refine rf_putR X fp_X11_63 (fun _ => hin) rfl hA30 dX11_init_135 ?_
  refine rf_aload_n X rfl dX11_init_138 ?_
  refine rf_ldc X (v := (65536 : Int32)) q1542 dX11_init_139 ?_
  refine rf_bind (fun A31 hA31 => ?_)
  refine rf_newI X hA31 dX11_init_141 ?_
  refine rf_bind (fun A32 hA32 => ?_)
  refine rf_putR X fp_X11_67 (fun _ => hin) rfl hA32 dX11_init_143 ?_
  refine rf_aload_n X rfl dX11_init_146 ?_
  refine rf_sipush X (4096 : Int32) rfl dX11_init_147 ?_
  refine rf_bind (fun A33 hA33 => ?_)
  refine rf_newI X hA33 dX11_init_150 ?_
  refine rf_bind (fun A34 hA34 => ?_)
  refine rf_putR X fp_X11_70 (fun _ => hin) rfl hA34 dX11_init_152 ?_
  refine rf_aload_n X rfl dX11_init_155 ?_
  refine rf_sipush X (4096 : Int32) rfl dX11_init_156 ?_
  refine rf_bind (fun A35 hA35 => ?_)
  refine rf_newI X hA35 dX11_init_159 ?_
  refine rf_bind (fun A36 hA36 => ?_)
  refine rf_putR X fp_X11_73 (fun _ => hin) rfl hA36 dX11_init_161 ?_
  refine rf_aload_n X rfl dX11_init_164 ?_
  refine rf_sipush X (4096 : Int32) rfl dX11_init_165 ?_
  refine rf_bind (fun A37 hA37 => ?_)
  refine rf_newZ X hA37 dX11_init_168 ?_
  refine rf_bind (fun A38 hA38 => ?_)
  refine rf_putR X fp_X11_76 (fun _ => hin) rfl hA38 dX11_init_170 ?_
  refine rf_aload_n X rfl dX11_init_173 ?_
  refine rf_sipush X (4096 : Int32) rfl dX11_init_174 ?_
  refine rf_bind (fun A39 hA39 => ?_)
  refine rf_newZ X hA39 dX11_init_177 ?_
  refine rf_bind (fun A40 hA40 => ?_)
  refine rf_putR X fp_X11_80 (fun _ => hin) rfl hA40 dX11_init_179 ?_
  refine rf_aload_n X rfl dX11_init_182 ?_
  refine rf_sipush X (4096 : Int32) rfl dX11_init_183 ?_
  refine rf_bind (fun A41 hA41 => ?_)
  refine rf_newI X hA41 dX11_init_186 ?_
  refine rf_bind (fun A42 hA42 => ?_)
  refine rf_putR X fp_X11_83 (fun _ => hin) rfl hA42 dX11_init_188 ?_
  refine rf_aload_n X rfl dX11_init_191 ?_
  refine rf_ldc X (v := (32768 : Int32)) q1543 dX11_init_192 ?_
  refine rf_bind (fun A43 hA43 => ?_)
  refine rf_newI X hA43 dX11_init_194 ?_
  refine rf_bind (fun A44 hA44 => ?_)
  refine rf_putR X fp_X11_87 (fun _ => hin) rfl hA44 dX11_init_196 ?_
  refine rf_aload_n X rfl dX11_init_199 ?_
  refine rf_ldc X (v := (32768 : Int32)) q1543 dX11_init_200 ?_
  refine rf_bind (fun A45 hA45 => ?_)
  refine rf_newI X hA45 dX11_init_202 ?_
  refine rf_bind (fun A46 hA46 => ?_)
  refine rf_putR X fp_X11_90 (fun _ => hin) rfl hA46 dX11_init_204 ?_
  refine rf_aload_n X rfl dX11_init_207 ?_
  refine rf_ldc X (v := (32768 : Int32)) q1543 dX11_init_208 ?_
  refine rf_bind (fun A47 hA47 => ?_)
  refine rf_newI X hA47 dX11_init_210 ?_
  refine rf_bind (fun A48 hA48 => ?_)
  refine rf_putR X fp_X11_93 (fun _ => hin) rfl hA48 dX11_init_212 ?_
  refine rf_aload_n X rfl dX11_init_215 ?_
  refine rf_ldc X (v := (32768 : Int32)) q1543 dX11_init_216 ?_
  refine rf_bind (fun A49 hA49 => ?_)
  refine rf_newI X hA49 dX11_init_218 ?_
  refine rf_bind (fun A50 hA50 => ?_)
  refine rf_putR X fp_X11_96 (fun _ => hin) rfl hA50 dX11_init_220 ?_
  refine rf_aload_n X rfl dX11_init_223 ?_
  refine rf_ldc X (v := (32768 : Int32)) q1543 dX11_init_224 ?_
  refine rf_bind (fun A51 hA51 => ?_)
  refine rf_newI X hA51 dX11_init_226 ?_
  refine rf_bind (fun A52 hA52 => ?_)
  refine rf_putR X fp_X11_99 (fun _ => hin) rfl hA52 dX11_init_228 ?_
  refine rf_aload_n X rfl dX11_init_231 ?_
  refine rf_ldc X (v := (32768 : Int32)) q1543 dX11_init_232 ?_
  refine rf_bind (fun A53 hA53 => ?_)
  refine rf_newI X hA53 dX11_init_234 ?_
  refine rf_bind (fun A54 hA54 => ?_)
  refine rf_putR X fp_X11_102 (fun _ => hin) rfl hA54 dX11_init_236 ?_
  refine rf_aload_n X rfl dX11_init_239 ?_
  refine rf_bipush X (32 : Int32) rfl dX11_init_240 ?_
  refine rf_bind (fun A55 hA55 => ?_)
  refine rf_newI X hA55 dX11_init_242 ?_
  refine rf_bind (fun A56 hA56 => ?_)
  refine rf_putR X fp_X11_105 (fun _ => hin) rfl hA56 dX11_init_244 ?_
  refine rf_aload_n X rfl dX11_init_247 ?_
  refine rf_bipush X (32 : Int32) rfl dX11_init_248 ?_
  refine rf_bind (fun A57 hA57 => ?_)
  refine rf_newZ X hA57 dX11_init_250 ?_
  refine rf_bind (fun A58 hA58 => ?_)
  refine rf_putR X fp_X11_108 (fun _ => hin) rfl hA58 dX11_init_252 ?_
  refine rf_aload_n X rfl dX11_init_255 ?_
  refine rf_bipush X (32 : Int32) rfl dX11_init_256 ?_
  refine rf_bind (fun A59 hA59 => ?_)
  refine rf_newZ X hA59 dX11_init_258 ?_
  refine rf_bind (fun A60 hA60 => ?_)
  refine rf_putR X fp_X11_111 (fun _ => hin) rfl hA60 dX11_init_260 ?_
  refine rf_aload_n X rfl dX11_init_263 ?_
  refine rf_bipush X (32 : Int32) rfl dX11_init_264 ?_
  refine rf_bind (fun A61 hA61 => ?_)
  refine rf_newI X hA61 dX11_init_266 ?_
  refine rf_bind (fun A62 hA62 => ?_)
  refine rf_putR X fp_X11_114 (fun _ => hin) rfl hA62 dX11_init_268 ?_
  refine rf_aload_n X rfl dX11_init_271 ?_
  refine rf_bind (fun v63 hv63 => ?_)
  refine rf_bind (fun g64 hg64 => ?_)
  refine rf_callVU X c_X11_117 ⟨Nat.le_of_ble_eq_true rfl, Nat.le_of_ble_eq_true rfl⟩ [] rfl (Nat.le_of_ble_eq_true rfl) hv63 (sX11_clearHouse l D n v63 A62 g64 hg64) dX11_init_272 ?_
  exact rf_vret X rfl dX11_init_275

theorem dX11_thrown_0 : decode cX11_thrown 0 = .ok (.aload_n 0, 1) := by decide +kernel
theorem dX11_thrown_1 : decode cX11_thrown 1 = .ok (.getfield 120, 3) := by decide +kernel
theorem dX11_thrown_4 : decode cX11_thrown 4 = .ok (.ireturn, 1) := by decide +kernel
def fX11_thrown (a0 : Nat) (A : AH) : Option (Int32) :=
(gI A (some a0) 11 0).bind fun v1 =>
some v1

set_option maxHeartbeats 4000000 in
set_option maxRecDepth 100000 in
theorem sX11_thrown (l : Launch) (D : DE) (a0 : Nat) (A : AH) (g : Int32) (hg : fX11_thrown a0 A = some g) : Sm l D yX11_thrown cX11_thrown 1 (some Jvm.ClassFile.FieldType.int) 0 0 [tR (some a0)] A (qI A g).1 (qI A g).2 := by
  refine Sm.of (ω := qI A) (fX11_thrown a0 A) [some (tR (some a0))] (by decide) (Nat.le_of_ble_eq_true rfl) rfl hg ?_
  intro p e R s m args below meth c X hin
  have X : Cx D cX11_thrown RX11 1 0 0 (some Jvm.ClassFile.FieldType.int) p R s m args meth c := X
  unfold fX11_thrown
  refine rf_aload_n X rfl dX11_thrown_0 ?_
  refine rf_bind (fun v1 hv1 => ?_)
  refine rf_getI X fl_X11_120 hv1 dX11_thrown_1 ?_
  exact rf_iret X rfl dX11_thrown_4

theorem dX11_isPower_0 : decode cX11_isPower 0 = .ok (.iload_n 0, 1) := by decide +kernel
theorem dX11_isPower_1 : decode cX11_isPower 1 = .ok (.iconst 1, 1) := by decide +kernel
theorem dX11_isPower_2 : decode cX11_isPower 2 = .ok (.if_icmp .lt 20, 3) := by decide +kernel
theorem dX11_isPower_5 : decode cX11_isPower 5 = .ok (.iload_n 0, 1) := by decide +kernel
theorem dX11_isPower_6 : decode cX11_isPower 6 = .ok (.iload_n 1, 1) := by decide +kernel
theorem dX11_isPower_7 : decode cX11_isPower 7 = .ok (.if_icmp .gt 15, 3) := by decide +kernel
theorem dX11_isPower_10 : decode cX11_isPower 10 = .ok (.iload_n 0, 1) := by decide +kernel
theorem dX11_isPower_11 : decode cX11_isPower 11 = .ok (.iload_n 0, 1) := by decide +kernel
theorem dX11_isPower_12 : decode cX11_isPower 12 = .ok (.iconst 1, 1) := by decide +kernel
theorem dX11_isPower_13 : decode cX11_isPower 13 = .ok (.isub, 1) := by decide +kernel
theorem dX11_isPower_14 : decode cX11_isPower 14 = .ok (.iand, 1) := by decide +kernel
theorem dX11_isPower_15 : decode cX11_isPower 15 = .ok (.ifCond .ne 7, 3) := by decide +kernel
theorem dX11_isPower_18 : decode cX11_isPower 18 = .ok (.iconst 1, 1) := by decide +kernel
theorem dX11_isPower_19 : decode cX11_isPower 19 = .ok (.goto 4, 3) := by decide +kernel
theorem dX11_isPower_22 : decode cX11_isPower 22 = .ok (.iconst 0, 1) := by decide +kernel
theorem dX11_isPower_23 : decode cX11_isPower 23 = .ok (.ireturn, 1) := by decide +kernel
def fX11_isPower (p1 : Int32) (p2 : Int32) (A : AH) : Option (Int32) :=
jn (fun (y2 : Int32) =>
some (nb y2)) fun j1 =>
if (((p1 < (1 : Int32)) ∨ (p2 < p1)) ∨ (¬ ((p1 &&& (p1 - (1 : Int32))) = 0))) then (j1 (0 : Int32)) else
j1 (1 : Int32)

set_option maxHeartbeats 4000000 in
set_option maxRecDepth 100000 in
theorem sX11_isPower (l : Launch) (D : DE) (p1 : Int32) (p2 : Int32) (A : AH) (g : Int32) (hg : fX11_isPower p1 p2 A = some g) : Sm l D yX11_isPower cX11_isPower 2 (some Jvm.ClassFile.FieldType.boolean) 0 0 [tI p1, tI p2] A (qI A g).1 (qI A g).2 := by
  refine Sm.of (ω := qI A) (fX11_isPower p1 p2 A) [some (tI p1), some (tI p2)] (by decide) (Nat.le_of_ble_eq_true rfl) rfl hg ?_
  intro p e R s m args below meth c X hin
  have X : Cx D cX11_isPower RX11 2 0 0 (some Jvm.ClassFile.FieldType.boolean) p R s m args meth c := X
  unfold fX11_isPower
  refine rf_iload_n X rfl dX11_isPower_0 ?_
  refine rf_iconst X (1 : Int32) rfl dX11_isPower_1 ?_
  refine rf_jn2 (fun i => ∀ (y2 : Int32), RfX X l e below (qI A) (i y2) 23 [none, none] [tI y2] A) ?_ (fun j1 hj1 => ?_)
  · intro y2
    exact rf_zret X rfl dX11_isPower_23
  refine rf_br 22 18 [some (tI p1), some (tI p2)] [some (tI p1), some (tI p2)] [] [] (fun _ => ?_) (fun _ => ?_) (fun _ jT jF => ?_)
  · refine rf_iconst X (0 : Int32) rfl dX11_isPower_22 ?_
    exact rf_go (hj1 (0 : Int32)) True.intro
  · refine rf_iconst X (1 : Int32) rfl dX11_isPower_18 ?_
    refine rf_goto X (tgt := 23) rfl dX11_isPower_19 ?_
    exact rf_go (hj1 (1 : Int32)) True.intro
  refine rf_icmp_lt X (tgt := 22) rfl dX11_isPower_2 (fun c3 => ?_) (fun c3 => ?_)
  · exact jT (Or.inl (Or.inl c3))
  refine rf_iload_n X rfl dX11_isPower_5 ?_
  refine rf_iload_n X rfl dX11_isPower_6 ?_
  refine rf_icmp_gt X (tgt := 22) rfl dX11_isPower_7 (fun c4 => ?_) (fun c4 => ?_)
  · exact jT (Or.inl (Or.inr c4))
  refine rf_iload_n X rfl dX11_isPower_10 ?_
  refine rf_iload_n X rfl dX11_isPower_11 ?_
  refine rf_iconst X (1 : Int32) rfl dX11_isPower_12 ?_
  refine rf_isub X dX11_isPower_13 ?_
  refine rf_iand X dX11_isPower_14 ?_
  refine rf_if_ne X (tgt := 22) rfl dX11_isPower_15 (fun c5 => ?_) (fun c5 => ?_)
  · exact jT (Or.inr c5)
  exact jF (fun z => z.elim (fun z => z.elim c3 c4) (fun z => z c5))

theorem dX11_isUnder_0 : decode cX11_isUnder 0 = .ok (.aload_n 0, 1) := by decide +kernel
theorem dX11_isUnder_1 : decode cX11_isUnder 1 = .ok (.getfield 136, 3) := by decide +kernel
theorem dX11_isUnder_4 : decode cX11_isUnder 4 = .ok (.iconst 1, 1) := by decide +kernel
theorem dX11_isUnder_5 : decode cX11_isUnder 5 = .ok (.if_icmp .eq 11, 3) := by decide +kernel
theorem dX11_isUnder_8 : decode cX11_isUnder 8 = .ok (.aload_n 0, 1) := by decide +kernel
theorem dX11_isUnder_9 : decode cX11_isUnder 9 = .ok (.getfield 136, 3) := by decide +kernel
theorem dX11_isUnder_12 : decode cX11_isUnder 12 = .ok (.iconst 4, 1) := by decide +kernel
theorem dX11_isUnder_13 : decode cX11_isUnder 13 = .ok (.if_icmp .ne 7, 3) := by decide +kernel
theorem dX11_isUnder_16 : decode cX11_isUnder 16 = .ok (.iconst 1, 1) := by decide +kernel
theorem dX11_isUnder_17 : decode cX11_isUnder 17 = .ok (.goto 4, 3) := by decide +kernel
theorem dX11_isUnder_20 : decode cX11_isUnder 20 = .ok (.iconst 0, 1) := by decide +kernel
theorem dX11_isUnder_21 : decode cX11_isUnder 21 = .ok (.ireturn, 1) := by decide +kernel
def fX11_isUnder (a0 : Nat) (A : AH) : Option (Int32) :=
(gI A (some a0) 11 11).bind fun v1 =>
jn (fun (y3 : Int32) =>
some (nb y3)) fun j2 =>
if ((v1 = (1 : Int32)) ∨ (v1 = (4 : Int32))) then (j2 (1 : Int32)) else
j2 (0 : Int32)

set_option maxHeartbeats 4000000 in
set_option maxRecDepth 100000 in
theorem sX11_isUnder (l : Launch) (D : DE) (a0 : Nat) (A : AH) (g : Int32) (hg : fX11_isUnder a0 A = some g) : Sm l D yX11_isUnder cX11_isUnder 1 (some Jvm.ClassFile.FieldType.boolean) 0 0 [tR (some a0)] A (qI A g).1 (qI A g).2 := by
  refine Sm.of (ω := qI A) (fX11_isUnder a0 A) [some (tR (some a0))] (by decide) (Nat.le_of_ble_eq_true rfl) rfl hg ?_
  intro p e R s m args below meth c X hin
  have X : Cx D cX11_isUnder RX11 1 0 0 (some Jvm.ClassFile.FieldType.boolean) p R s m args meth c := X
  unfold fX11_isUnder
  refine rf_aload_n X rfl dX11_isUnder_0 ?_
  refine rf_bind (fun v1 hv1 => ?_)
  refine rf_getI X fl_X11_136 hv1 dX11_isUnder_1 ?_
  refine rf_iconst X (1 : Int32) rfl dX11_isUnder_4 ?_
  refine rf_jn2 (fun i => ∀ (y3 : Int32), RfX X l e below (qI A) (i y3) 21 [none] [tI y3] A) ?_ (fun j2 hj2 => ?_)
  · intro y3
    exact rf_zret X rfl dX11_isUnder_21
  refine rf_br 16 20 [some (tR (some a0))] [some (tR (some a0))] [] [] (fun _ => ?_) (fun _ => ?_) (fun _ jT jF => ?_)
  · refine rf_iconst X (1 : Int32) rfl dX11_isUnder_16 ?_
    refine rf_goto X (tgt := 21) rfl dX11_isUnder_17 ?_
    exact rf_go (hj2 (1 : Int32)) True.intro
  · refine rf_iconst X (0 : Int32) rfl dX11_isUnder_20 ?_
    exact rf_go (hj2 (0 : Int32)) True.intro
  refine rf_icmp_eq X (tgt := 16) rfl dX11_isUnder_5 (fun c4 => ?_) (fun c4 => ?_)
  · exact jT (Or.inl c4)
  refine rf_aload_n X rfl dX11_isUnder_8 ?_
  refine rf_getI X fl_X11_136 hv1 dX11_isUnder_9 ?_
  refine rf_iconst X (4 : Int32) rfl dX11_isUnder_12 ?_
  refine rf_icmp_ne X (tgt := 20) rfl dX11_isUnder_13 (fun c5 => ?_) (fun c5 => ?_)
  · exact jF (fun z => z.elim c4 c5)
  exact jT (Or.inr c5)

theorem dX11_clearCounts_0 : decode cX11_clearCounts 0 = .ok (.aload_n 0, 1) := by decide +kernel
theorem dX11_clearCounts_1 : decode cX11_clearCounts 1 = .ok (.iconst 0, 1) := by decide +kernel
theorem dX11_clearCounts_2 : decode cX11_clearCounts 2 = .ok (.putfield 159, 3) := by decide +kernel
theorem dX11_clearCounts_5 : decode cX11_clearCounts 5 = .ok (.aload_n 0, 1) := by decide +kernel
theorem dX11_clearCounts_6 : decode cX11_clearCounts 6 = .ok (.iconst 0, 1) := by decide +kernel
theorem dX11_clearCounts_7 : decode cX11_clearCounts 7 = .ok (.putfield 162, 3) := by decide +kernel
theorem dX11_clearCounts_10 : decode cX11_clearCounts 10 = .ok (.aload_n 0, 1) := by decide +kernel
theorem dX11_clearCounts_11 : decode cX11_clearCounts 11 = .ok (.iconst 0, 1) := by decide +kernel
theorem dX11_clearCounts_12 : decode cX11_clearCounts 12 = .ok (.putfield 165, 3) := by decide +kernel
theorem dX11_clearCounts_15 : decode cX11_clearCounts 15 = .ok (.aload_n 0, 1) := by decide +kernel
theorem dX11_clearCounts_16 : decode cX11_clearCounts 16 = .ok (.iconst 0, 1) := by decide +kernel
theorem dX11_clearCounts_17 : decode cX11_clearCounts 17 = .ok (.putfield 168, 3) := by decide +kernel
theorem dX11_clearCounts_20 : decode cX11_clearCounts 20 = .ok (.aload_n 0, 1) := by decide +kernel
theorem dX11_clearCounts_21 : decode cX11_clearCounts 21 = .ok (.iconst 0, 1) := by decide +kernel
theorem dX11_clearCounts_22 : decode cX11_clearCounts 22 = .ok (.putfield 171, 3) := by decide +kernel
theorem dX11_clearCounts_25 : decode cX11_clearCounts 25 = .ok (.aload_n 0, 1) := by decide +kernel
theorem dX11_clearCounts_26 : decode cX11_clearCounts 26 = .ok (.iconst 0, 1) := by decide +kernel
theorem dX11_clearCounts_27 : decode cX11_clearCounts 27 = .ok (.putfield 174, 3) := by decide +kernel
theorem dX11_clearCounts_30 : decode cX11_clearCounts 30 = .ok (.aload_n 0, 1) := by decide +kernel
theorem dX11_clearCounts_31 : decode cX11_clearCounts 31 = .ok (.iconst 0, 1) := by decide +kernel
theorem dX11_clearCounts_32 : decode cX11_clearCounts 32 = .ok (.putfield 177, 3) := by decide +kernel
theorem dX11_clearCounts_35 : decode cX11_clearCounts 35 = .ok (.aload_n 0, 1) := by decide +kernel
theorem dX11_clearCounts_36 : decode cX11_clearCounts 36 = .ok (.iconst 0, 1) := by decide +kernel
theorem dX11_clearCounts_37 : decode cX11_clearCounts 37 = .ok (.putfield 180, 3) := by decide +kernel
theorem dX11_clearCounts_40 : decode cX11_clearCounts 40 = .ok (.aload_n 0, 1) := by decide +kernel
theorem dX11_clearCounts_41 : decode cX11_clearCounts 41 = .ok (.iconst 0, 1) := by decide +kernel
theorem dX11_clearCounts_42 : decode cX11_clearCounts 42 = .ok (.putfield 183, 3) := by decide +kernel
theorem dX11_clearCounts_45 : decode cX11_clearCounts 45 = .ok (.aload_n 0, 1) := by decide +kernel
theorem dX11_clearCounts_46 : decode cX11_clearCounts 46 = .ok (.iconst 0, 1) := by decide +kernel
theorem dX11_clearCounts_47 : decode cX11_clearCounts 47 = .ok (.putfield 186, 3) := by decide +kernel
theorem dX11_clearCounts_50 : decode cX11_clearCounts 50 = .ok (.aload_n 0, 1) := by decide +kernel
theorem dX11_clearCounts_51 : decode cX11_clearCounts 51 = .ok (.iconst 0, 1) := by decide +kernel
theorem dX11_clearCounts_52 : decode cX11_clearCounts 52 = .ok (.putfield 189, 3) := by decide +kernel
theorem dX11_clearCounts_55 : decode cX11_clearCounts 55 = .ok (.return_, 1) := by decide +kernel
def fX11_clearCounts (a0 : Nat) (A : AH) : Option (AH) :=
(pI A (some a0) 11 15 (0 : Int32)).bind fun A1 =>
(pI A1 (some a0) 11 16 (0 : Int32)).bind fun A2 =>
(pI A2 (some a0) 11 17 (0 : Int32)).bind fun A3 =>
(pI A3 (some a0) 11 18 (0 : Int32)).bind fun A4 =>
(pI A4 (some a0) 11 19 (0 : Int32)).bind fun A5 =>
(pI A5 (some a0) 11 20 (0 : Int32)).bind fun A6 =>
(pI A6 (some a0) 11 21 (0 : Int32)).bind fun A7 =>
(pI A7 (some a0) 11 23 (0 : Int32)).bind fun A8 =>
(pI A8 (some a0) 11 24 (0 : Int32)).bind fun A9 =>
(pI A9 (some a0) 11 25 (0 : Int32)).bind fun A10 =>
(pI A10 (some a0) 11 26 (0 : Int32)).bind fun A11 =>
some A11

set_option maxHeartbeats 4000000 in
set_option maxRecDepth 100000 in
theorem sX11_clearCounts (l : Launch) (D : DE) (a0 : Nat) (A : AH) (g : AH) (hg : fX11_clearCounts a0 A = some g) : Sm l D yX11_clearCounts cX11_clearCounts 1 none 0 0 [tR (some a0)] A (wU g).1 (wU g).2 := by
  refine Sm.of (ω := wU) (fX11_clearCounts a0 A) [some (tR (some a0))] (by decide) (Nat.le_of_ble_eq_true rfl) rfl hg ?_
  intro p e R s m args below meth c X hin
  have X : Cx D cX11_clearCounts RX11 1 0 0 none p R s m args meth c := X
  unfold fX11_clearCounts
  refine rf_aload_n X rfl dX11_clearCounts_0 ?_
  refine rf_iconst X (0 : Int32) rfl dX11_clearCounts_1 ?_
  refine rf_bind (fun A1 hA1 => ?_)
  refine rf_putI X fp_X11_159 (fun h => by cases h) hA1 dX11_clearCounts_2 ?_
  refine rf_aload_n X rfl dX11_clearCounts_5 ?_
  refine rf_iconst X (0 : Int32) rfl dX11_clearCounts_6 ?_
  refine rf_bind (fun A2 hA2 => ?_)
  refine rf_putI X fp_X11_162 (fun h => by cases h) hA2 dX11_clearCounts_7 ?_
  refine rf_aload_n X rfl dX11_clearCounts_10 ?_
  refine rf_iconst X (0 : Int32) rfl dX11_clearCounts_11 ?_
  refine rf_bind (fun A3 hA3 => ?_)
  refine rf_putI X fp_X11_165 (fun h => by cases h) hA3 dX11_clearCounts_12 ?_
  refine rf_aload_n X rfl dX11_clearCounts_15 ?_
  refine rf_iconst X (0 : Int32) rfl dX11_clearCounts_16 ?_
  refine rf_bind (fun A4 hA4 => ?_)
  refine rf_putI X fp_X11_168 (fun h => by cases h) hA4 dX11_clearCounts_17 ?_
  refine rf_aload_n X rfl dX11_clearCounts_20 ?_
  refine rf_iconst X (0 : Int32) rfl dX11_clearCounts_21 ?_
  refine rf_bind (fun A5 hA5 => ?_)
  refine rf_putI X fp_X11_171 (fun h => by cases h) hA5 dX11_clearCounts_22 ?_
  refine rf_aload_n X rfl dX11_clearCounts_25 ?_
  refine rf_iconst X (0 : Int32) rfl dX11_clearCounts_26 ?_
  refine rf_bind (fun A6 hA6 => ?_)
  refine rf_putI X fp_X11_174 (fun h => by cases h) hA6 dX11_clearCounts_27 ?_
  refine rf_aload_n X rfl dX11_clearCounts_30 ?_
  refine rf_iconst X (0 : Int32) rfl dX11_clearCounts_31 ?_
  refine rf_bind (fun A7 hA7 => ?_)
  refine rf_putI X fp_X11_177 (fun h => by cases h) hA7 dX11_clearCounts_32 ?_
  refine rf_aload_n X rfl dX11_clearCounts_35 ?_
  refine rf_iconst X (0 : Int32) rfl dX11_clearCounts_36 ?_
  refine rf_bind (fun A8 hA8 => ?_)
  refine rf_putI X fp_X11_180 (fun h => by cases h) hA8 dX11_clearCounts_37 ?_
  refine rf_aload_n X rfl dX11_clearCounts_40 ?_
  refine rf_iconst X (0 : Int32) rfl dX11_clearCounts_41 ?_
  refine rf_bind (fun A9 hA9 => ?_)
  refine rf_putI X fp_X11_183 (fun h => by cases h) hA9 dX11_clearCounts_42 ?_
  refine rf_aload_n X rfl dX11_clearCounts_45 ?_
  refine rf_iconst X (0 : Int32) rfl dX11_clearCounts_46 ?_
  refine rf_bind (fun A10 hA10 => ?_)
  refine rf_putI X fp_X11_186 (fun h => by cases h) hA10 dX11_clearCounts_47 ?_
  refine rf_aload_n X rfl dX11_clearCounts_50 ?_
  refine rf_iconst X (0 : Int32) rfl dX11_clearCounts_51 ?_
  refine rf_bind (fun A11 hA11 => ?_)
  refine rf_putI X fp_X11_189 (fun h => by cases h) hA11 dX11_clearCounts_52 ?_
  exact rf_vret X rfl dX11_clearCounts_55

theorem dX11_sizes_0 : decode cX11_sizes 0 = .ok (.aload_n 0, 1) := by decide +kernel
theorem dX11_sizes_1 : decode cX11_sizes 1 = .ok (.iconst 0, 1) := by decide +kernel
theorem dX11_sizes_2 : decode cX11_sizes 2 = .ok (.putfield 120, 3) := by decide +kernel
theorem dX11_sizes_5 : decode cX11_sizes 5 = .ok (.iload_n 1, 1) := by decide +kernel
theorem dX11_sizes_6 : decode cX11_sizes 6 = .ok (.bipush 32, 2) := by decide +kernel
theorem dX11_sizes_8 : decode cX11_sizes 8 = .ok (.invokestatic 139, 3) := by decide +kernel
theorem dX11_sizes_11 : decode cX11_sizes 11 = .ok (.ifCond .eq 68, 3) := by decide +kernel
theorem dX11_sizes_14 : decode cX11_sizes 14 = .ok (.iload_n 2, 1) := by decide +kernel
theorem dX11_sizes_15 : decode cX11_sizes 15 = .ok (.iconst 1, 1) := by decide +kernel
theorem dX11_sizes_16 : decode cX11_sizes 16 = .ok (.if_icmp .lt 63, 3) := by decide +kernel
theorem dX11_sizes_19 : decode cX11_sizes 19 = .ok (.iload_n 2, 1) := by decide +kernel
theorem dX11_sizes_20 : decode cX11_sizes 20 = .ok (.bipush 16, 2) := by decide +kernel
theorem dX11_sizes_22 : decode cX11_sizes 22 = .ok (.if_icmp .gt 57, 3) := by decide +kernel
theorem dX11_sizes_25 : decode cX11_sizes 25 = .ok (.iload_n 3, 1) := by decide +kernel
theorem dX11_sizes_26 : decode cX11_sizes 26 = .ok (.iconst 1, 1) := by decide +kernel
theorem dX11_sizes_27 : decode cX11_sizes 27 = .ok (.if_icmp .lt 52, 3) := by decide +kernel
theorem dX11_sizes_30 : decode cX11_sizes 30 = .ok (.iload_n 3, 1) := by decide +kernel
theorem dX11_sizes_31 : decode cX11_sizes 31 = .ok (.bipush 8, 2) := by decide +kernel
theorem dX11_sizes_33 : decode cX11_sizes 33 = .ok (.if_icmp .gt 46, 3) := by decide +kernel
theorem dX11_sizes_36 : decode cX11_sizes 36 = .ok (.iload 4, 2) := by decide +kernel
theorem dX11_sizes_38 : decode cX11_sizes 38 = .ok (.bipush 32, 2) := by decide +kernel
theorem dX11_sizes_40 : decode cX11_sizes 40 = .ok (.invokestatic 139, 3) := by decide +kernel
theorem dX11_sizes_43 : decode cX11_sizes 43 = .ok (.ifCond .eq 36, 3) := by decide +kernel
theorem dX11_sizes_46 : decode cX11_sizes 46 = .ok (.iload 5, 2) := by decide +kernel
theorem dX11_sizes_48 : decode cX11_sizes 48 = .ok (.bipush 8, 2) := by decide +kernel
theorem dX11_sizes_50 : decode cX11_sizes 50 = .ok (.invokestatic 139, 3) := by decide +kernel
theorem dX11_sizes_53 : decode cX11_sizes 53 = .ok (.ifCond .eq 26, 3) := by decide +kernel
theorem dX11_sizes_56 : decode cX11_sizes 56 = .ok (.iload 6, 2) := by decide +kernel
theorem dX11_sizes_58 : decode cX11_sizes 58 = .ok (.sipush 512, 3) := by decide +kernel
theorem dX11_sizes_61 : decode cX11_sizes 61 = .ok (.if_icmp .lt 18, 3) := by decide +kernel
theorem dX11_sizes_64 : decode cX11_sizes 64 = .ok (.iload 6, 2) := by decide +kernel
theorem dX11_sizes_66 : decode cX11_sizes 66 = .ok (.sipush 4096, 3) := by decide +kernel
theorem dX11_sizes_69 : decode cX11_sizes 69 = .ok (.invokestatic 139, 3) := by decide +kernel
theorem dX11_sizes_72 : decode cX11_sizes 72 = .ok (.ifCond .eq 7, 3) := by decide +kernel
theorem dX11_sizes_75 : decode cX11_sizes 75 = .ok (.iconst 1, 1) := by decide +kernel
theorem dX11_sizes_76 : decode cX11_sizes 76 = .ok (.goto 4, 3) := by decide +kernel
theorem dX11_sizes_79 : decode cX11_sizes 79 = .ok (.iconst 0, 1) := by decide +kernel
theorem dX11_sizes_80 : decode cX11_sizes 80 = .ok (.istore 7, 2) := by decide +kernel
theorem dX11_sizes_82 : decode cX11_sizes 82 = .ok (.iload 7, 2) := by decide +kernel
theorem dX11_sizes_84 : decode cX11_sizes 84 = .ok (.ifCond .eq 10, 3) := by decide +kernel
theorem dX11_sizes_87 : decode cX11_sizes 87 = .ok (.aload_n 0, 1) := by decide +kernel
theorem dX11_sizes_88 : decode cX11_sizes 88 = .ok (.invokevirtual 143, 3) := by decide +kernel
theorem dX11_sizes_91 : decode cX11_sizes 91 = .ok (.ifCond .eq 5, 3) := by decide +kernel
theorem dX11_sizes_94 : decode cX11_sizes 94 = .ok (.iconst 0, 1) := by decide +kernel
theorem dX11_sizes_95 : decode cX11_sizes 95 = .ok (.ireturn, 1) := by decide +kernel
theorem dX11_sizes_96 : decode cX11_sizes 96 = .ok (.aload_n 0, 1) := by decide +kernel
theorem dX11_sizes_97 : decode cX11_sizes 97 = .ok (.iload_n 1, 1) := by decide +kernel
theorem dX11_sizes_98 : decode cX11_sizes 98 = .ok (.putfield 7, 3) := by decide +kernel
theorem dX11_sizes_101 : decode cX11_sizes 101 = .ok (.aload_n 0, 1) := by decide +kernel
theorem dX11_sizes_102 : decode cX11_sizes 102 = .ok (.iload_n 2, 1) := by decide +kernel
theorem dX11_sizes_103 : decode cX11_sizes 103 = .ok (.putfield 13, 3) := by decide +kernel
theorem dX11_sizes_106 : decode cX11_sizes 106 = .ok (.aload_n 0, 1) := by decide +kernel
theorem dX11_sizes_107 : decode cX11_sizes 107 = .ok (.iload_n 3, 1) := by decide +kernel
theorem dX11_sizes_108 : decode cX11_sizes 108 = .ok (.putfield 16, 3) := by decide +kernel
theorem dX11_sizes_111 : decode cX11_sizes 111 = .ok (.aload_n 0, 1) := by decide +kernel
theorem dX11_sizes_112 : decode cX11_sizes 112 = .ok (.iload 4, 2) := by decide +kernel
theorem dX11_sizes_114 : decode cX11_sizes 114 = .ok (.putfield 19, 3) := by decide +kernel
theorem dX11_sizes_117 : decode cX11_sizes 117 = .ok (.aload_n 0, 1) := by decide +kernel
theorem dX11_sizes_118 : decode cX11_sizes 118 = .ok (.iload 5, 2) := by decide +kernel
theorem dX11_sizes_120 : decode cX11_sizes 120 = .ok (.putfield 22, 3) := by decide +kernel
theorem dX11_sizes_123 : decode cX11_sizes 123 = .ok (.iload 6, 2) := by decide +kernel
theorem dX11_sizes_125 : decode cX11_sizes 125 = .ok (.istore 8, 2) := by decide +kernel
theorem dX11_sizes_127 : decode cX11_sizes 127 = .ok (.iload 8, 2) := by decide +kernel
theorem dX11_sizes_129 : decode cX11_sizes 129 = .ok (.sipush 4096, 3) := by decide +kernel
theorem dX11_sizes_132 : decode cX11_sizes 132 = .ok (.if_icmp .ge 17, 3) := by decide +kernel
theorem dX11_sizes_135 : decode cX11_sizes 135 = .ok (.aload_n 0, 1) := by decide +kernel
theorem dX11_sizes_136 : decode cX11_sizes 136 = .ok (.getfield 32, 3) := by decide +kernel
theorem dX11_sizes_139 : decode cX11_sizes 139 = .ok (.iload 8, 2) := by decide +kernel
theorem dX11_sizes_141 : decode cX11_sizes 141 = .ok (.iconst 0, 1) := by decide +kernel
theorem dX11_sizes_142 : decode cX11_sizes 142 = .ok (.iastore, 1) := by decide +kernel
theorem dX11_sizes_143 : decode cX11_sizes 143 = .ok (.iinc 8 1, 3) := by decide +kernel
theorem dX11_sizes_146 : decode cX11_sizes 146 = .ok (.goto (-19), 3) := by decide +kernel
theorem dX11_sizes_149 : decode cX11_sizes 149 = .ok (.aload_n 0, 1) := by decide +kernel
theorem dX11_sizes_150 : decode cX11_sizes 150 = .ok (.iload 6, 2) := by decide +kernel
theorem dX11_sizes_152 : decode cX11_sizes 152 = .ok (.putfield 25, 3) := by decide +kernel
theorem dX11_sizes_155 : decode cX11_sizes 155 = .ok (.aload_n 0, 1) := by decide +kernel
theorem dX11_sizes_156 : decode cX11_sizes 156 = .ok (.iconst 0, 1) := by decide +kernel
theorem dX11_sizes_157 : decode cX11_sizes 157 = .ok (.putfield 136, 3) := by decide +kernel
theorem dX11_sizes_160 : decode cX11_sizes 160 = .ok (.aload_n 0, 1) := by decide +kernel
theorem dX11_sizes_161 : decode cX11_sizes 161 = .ok (.invokevirtual 147, 3) := by decide +kernel
theorem dX11_sizes_164 : decode cX11_sizes 164 = .ok (.aload_n 0, 1) := by decide +kernel
theorem dX11_sizes_165 : decode cX11_sizes 165 = .ok (.invokevirtual 117, 3) := by decide +kernel
theorem dX11_sizes_168 : decode cX11_sizes 168 = .ok (.iconst 1, 1) := by decide +kernel
theorem dX11_sizes_169 : decode cX11_sizes 169 = .ok (.ireturn, 1) := by decide +kernel
def fX11_sizes (n : Nat) (a0 : Nat) (p1 : Int32) (p2 : Int32) (p3 : Int32) (p4 : Int32) (p5 : Int32) (p6 : Int32) (A : AH) : Option (Int32 × AH) :=
(pI A (some a0) 11 0 (0 : Int32)).bind fun A1 =>
(fX11_isPower p1 (32 : Int32) A1).bind fun g2 =>
jn (fun (y4 : Int32) =>
jn (some ((nb (0 : Int32)), A1)) fun j5 =>
if y4 = 0 then (j5) else
(rcv A1 (some a0) 11).bind fun v7 =>
(fX11_isUnder v7 A1).bind fun g8 =>
if g8 = 0 then ((pI A1 (some a0) 11 1 p1).bind fun A10 =>
(pI A10 (some a0) 11 2 p2).bind fun A11 =>
(pI A11 (some a0) 11 3 p3).bind fun A12 =>
(pI A12 (some a0) 11 4 p4).bind fun A13 =>
(pI A13 (some a0) 11 5 p5).bind fun A14 =>
jl (fixG (fun _ _ => none) (fun (rc18 : (Int32) → (AH) → Option (Int32 × AH)) (x16 : Int32) (A17 : AH) =>
if (4096 : Int32) ≤ x16 then ((pI A17 (some a0) 11 6 p6).bind fun A20 =>
(pI A20 (some a0) 11 11 (0 : Int32)).bind fun A21 =>
(rcv A21 (some a0) 11).bind fun v22 =>
(fX11_clearCounts v22 A21).bind fun g23 =>
(rcv g23 (some a0) 11).bind fun v24 =>
(fX11_clearHouse n v24 g23).bind fun g25 =>
some ((nb (1 : Int32)), g25)) else
(gR A17 (some a0) 11 8).bind fun v26 =>
(sI A17 v26 x16 (0 : Int32)).bind fun A27 =>
rc18 (x16 + (1 : Int32)) A27) n) fun j15 =>
j15 p6 A14) else
j5) fun j3 =>
jn (j3 (0 : Int32)) fun j28 =>
if (((((g2 = 0) ∨ (p2 < (1 : Int32))) ∨ ((16 : Int32) < p2)) ∨ (p3 < (1 : Int32))) ∨ ((8 : Int32) < p3)) then (j28) else
(fX11_isPower p4 (32 : Int32) A1).bind fun g29 =>
if g29 = 0 then (j28) else
(fX11_isPower p5 (8 : Int32) A1).bind fun g31 =>
if ((g31 = 0) ∨ (p6 < (512 : Int32))) then (j28) else
(fX11_isPower p6 (4096 : Int32) A1).bind fun g32 =>
if g32 = 0 then (j28) else
j3 (1 : Int32)

set_option maxHeartbeats 4000000 in
set_option maxRecDepth 100000 in
theorem sX11_sizes (l : Launch) (D : DE) (n : Nat) (a0 : Nat) (p1 : Int32) (p2 : Int32) (p3 : Int32) (p4 : Int32) (p5 : Int32) (p6 : Int32) (A : AH) (g : Int32 × AH) (hg : fX11_sizes n a0 p1 p2 p3 p4 p5 p6 A = some g) : Sm l D yX11_sizes cX11_sizes 9 (some Jvm.ClassFile.FieldType.boolean) 3 63 [tR (some a0), tI p1, tI p2, tI p3, tI p4, tI p5, tI p6] A (wI g).1 (wI g).2 := by
  refine Sm.of (ω := wI) (fX11_sizes n a0 p1 p2 p3 p4 p5 p6 A) [some (tR (some a0)), some (tI p1), some (tI p2), some (tI p3), some (tI p4), some (tI p5), some (tI p6), none, none] (by decide) (Nat.le_of_ble_eq_true rfl) rfl hg ?_
  intro p e R s m args below meth c X hin
  have X : Cx D cX11_sizes RX11 9 3 63 (some Jvm.ClassFile.FieldType.boolean) p R s m args meth c := X
  unfold fX11_sizes
  refine rf_aload_n X rfl dX11_sizes_0 ?_
  refine rf_iconst X (0 : Int32) rfl dX11_sizes_1 ?_
  refine rf_bind (fun A1 hA1 => ?_)
  refine rf_putI X fp_X11_120 (fun h => by cases h) hA1 dX11_sizes_2 ?_
  refine rf_iload_n X rfl dX11_sizes_5 ?_
  refine rf_bipush X (32 : Int32) rfl dX11_sizes_6 ?_
  refine rf_bind (fun g2 hg2 => ?_)
  refine rf_callSI X c_X11_139 ⟨Nat.le_of_ble_eq_true rfl, Nat.le_of_ble_eq_true rfl⟩ [tI p1, tI (32 : Int32)] rfl (Nat.le_of_ble_eq_true rfl) (sX11_isPower l D p1 (32 : Int32) A1 g2 hg2) dX11_sizes_8 ?_
  refine rf_jn2 (fun i => ∀ (y4 : Int32), RfX X l e below wI (i y4) 80 [some (tR (some a0)), some (tI p1), some (tI p2), some (tI p3), some (tI p4), some (tI p5), some (tI p6), none, none] [tI y4] A1) ?_ (fun j3 hj3 => ?_)
  · intro y4
    refine rf_istore X (ls' := [some (tR (some a0)), some (tI p1), some (tI p2), some (tI p3), some (tI p4), some (tI p5), some (tI p6), some (tI y4), none]) rfl (by decide) dX11_sizes_80 ?_
    refine rf_iload X rfl dX11_sizes_82 ?_
    refine rf_jn2 (fun i => RfX X l e below wI i 94 [none, none, none, none, none, none, none, none, none] [] A1) ?_ (fun j5 hj5 => ?_)
    · show RfX X l e below _ _ _ _ _ _
      refine rf_iconst X (0 : Int32) rfl dX11_sizes_94 ?_
      exact rf_zret X rfl dX11_sizes_95
    refine rf_if_eq X (tgt := 94) rfl dX11_sizes_84 (fun c6 => rf_pos c6 ?_) (fun c6 => rf_neg c6 ?_)
    · exact rf_go hj5 True.intro
    refine rf_aload_n X rfl dX11_sizes_87 ?_
    refine rf_bind (fun v7 hv7 => ?_)
    refine rf_bind (fun g8 hg8 => ?_)
    refine rf_callVI X c_X11_143 ⟨Nat.le_of_ble_eq_true rfl, Nat.le_of_ble_eq_true rfl⟩ [] rfl (Nat.le_of_ble_eq_true rfl) hv7 (sX11_isUnder l D v7 A1 g8 hg8) dX11_sizes_88 ?_
    refine rf_if_eq X (tgt := 96) rfl dX11_sizes_91 (fun c9 => rf_pos c9 ?_) (fun c9 => rf_neg c9 ?_)
    · refine rf_aload_n X rfl dX11_sizes_96 ?_
      refine rf_iload_n X rfl dX11_sizes_97 ?_
      refine rf_bind (fun A10 hA10 => ?_)
      refine rf_putI X fp_X11_7 (fun h => by cases h) hA10 dX11_sizes_98 ?_
      refine rf_aload_n X rfl dX11_sizes_101 ?_
      refine rf_iload_n X rfl dX11_sizes_102 ?_
      refine rf_bind (fun A11 hA11 => ?_)
      refine rf_putI X fp_X11_13 (fun h => by cases h) hA11 dX11_sizes_103 ?_
      refine rf_aload_n X rfl dX11_sizes_106 ?_
      refine rf_iload_n X rfl dX11_sizes_107 ?_
      refine rf_bind (fun A12 hA12 => ?_)
      refine rf_putI X fp_X11_16 (fun h => by cases h) hA12 dX11_sizes_108 ?_
      refine rf_aload_n X rfl dX11_sizes_111 ?_
      refine rf_iload X rfl dX11_sizes_112 ?_
      refine rf_bind (fun A13 hA13 => ?_)
      refine rf_putI X fp_X11_19 (fun h => by cases h) hA13 dX11_sizes_114 ?_
      refine rf_aload_n X rfl dX11_sizes_117 ?_
      refine rf_iload X rfl dX11_sizes_118 ?_
      refine rf_bind (fun A14 hA14 => ?_)
      refine rf_putI X fp_X11_22 (fun h => by cases h) hA14 dX11_sizes_120 ?_
      refine rf_iload X rfl dX11_sizes_123 ?_
      refine rf_istore X (ls' := [some (tR (some a0)), some (tI p1), some (tI p2), some (tI p3), some (tI p4), some (tI p5), some (tI p6), some (tI y4), some (tI p6)]) rfl (by decide) dX11_sizes_125 ?_
      refine rf_fix (fun i => ∀ (x16 : Int32) (A17 : AH), RfX X l e below wI (i x16 A17) 127 [some (tR (some a0)), none, none, none, none, none, some (tI p6), none, some (tI x16)] [] A17) (fun _ _ => rf_none) (fun rc18 hrc18 => ?_) (fun j15 hj15 => ?_)
      · intro x16 A17
        refine rf_iload X rfl dX11_sizes_127 ?_
        refine rf_sipush X (4096 : Int32) rfl dX11_sizes_129 ?_
        refine rf_icmp_ge X (tgt := 149) rfl dX11_sizes_132 (fun c19 => rf_pos c19 ?_) (fun c19 => rf_neg c19 ?_)
        · refine rf_aload_n X rfl dX11_sizes_149 ?_
          refine rf_iload X rfl dX11_sizes_150 ?_
          refine rf_bind (fun A20 hA20 => ?_)
          refine rf_putI X fp_X11_25 (fun h => by cases h) hA20 dX11_sizes_152 ?_
          refine rf_aload_n X rfl dX11_sizes_155 ?_
          refine rf_iconst X (0 : Int32) rfl dX11_sizes_156 ?_
          refine rf_bind (fun A21 hA21 => ?_)
          refine rf_putI X fp_X11_136 (fun h => by cases h) hA21 dX11_sizes_157 ?_
          refine rf_aload_n X rfl dX11_sizes_160 ?_
          refine rf_bind (fun v22 hv22 => ?_)
          refine rf_bind (fun g23 hg23 => ?_)
          refine rf_callVU X c_X11_147 ⟨Nat.le_of_ble_eq_true rfl, Nat.le_of_ble_eq_true rfl⟩ [] rfl (Nat.le_of_ble_eq_true rfl) hv22 (sX11_clearCounts l D v22 A21 g23 hg23) dX11_sizes_161 ?_
          refine rf_aload_n X rfl dX11_sizes_164 ?_
          refine rf_bind (fun v24 hv24 => ?_)
          refine rf_bind (fun g25 hg25 => ?_)
          refine rf_callVU X c_X11_117 ⟨Nat.le_of_ble_eq_true rfl, Nat.le_of_ble_eq_true rfl⟩ [] rfl (Nat.le_of_ble_eq_true rfl) hv24 (sX11_clearHouse l D n v24 g23 g25 hg25) dX11_sizes_165 ?_
          refine rf_iconst X (1 : Int32) rfl dX11_sizes_168 ?_
          exact rf_zret X rfl dX11_sizes_169
        refine rf_aload_n X rfl dX11_sizes_135 ?_
        refine rf_bind (fun v26 hv26 => ?_)
        refine rf_getR X fl_X11_32 hv26 dX11_sizes_136 ?_
        refine rf_iload X rfl dX11_sizes_139 ?_
        refine rf_iconst X (0 : Int32) rfl dX11_sizes_141 ?_
        refine rf_bind (fun A27 hA27 => ?_)
        refine rf_iast X hA27 dX11_sizes_142 ?_
        refine rf_iinc X (x16 + (1 : Int32)) rfl rfl (ls' := [some (tR (some a0)), none, none, none, none, none, some (tI p6), none, some (tI (x16 + (1 : Int32)))]) rfl (by decide) dX11_sizes_143 ?_
        refine rf_goto X (tgt := 127) rfl dX11_sizes_146 ?_
        exact rf_go (hrc18 (x16 + (1 : Int32)) A27) (And.intro rfl (And.intro rfl (And.intro rfl True.intro)))
      exact rf_go (hj15 p6 A14) (And.intro rfl (And.intro rfl (And.intro rfl True.intro)))
    exact rf_go hj5 True.intro
  refine rf_jn2 (fun i => RfX X l e below wI i 79 [some (tR (some a0)), some (tI p1), some (tI p2), some (tI p3), some (tI p4), some (tI p5), some (tI p6), none, none] [] A1) ?_ (fun j28 hj28 => ?_)
  · show RfX X l e below _ _ _ _ _ _
    refine rf_iconst X (0 : Int32) rfl dX11_sizes_79 ?_
    exact rf_go (hj3 (0 : Int32)) (And.intro rfl (And.intro rfl (And.intro rfl (And.intro rfl (And.intro rfl (And.intro rfl (And.intro rfl True.intro)))))))
  refine rf_br 79 36 [some (tR (some a0)), some (tI p1), some (tI p2), some (tI p3), some (tI p4), some (tI p5), some (tI p6), none, none] [some (tR (some a0)), some (tI p1), some (tI p2), some (tI p3), some (tI p4), some (tI p5), some (tI p6), none, none] [] [] (fun _ => ?_) (fun _ => ?_) (fun _ jT jF => ?_)
  · exact rf_go hj28 (And.intro rfl (And.intro rfl (And.intro rfl (And.intro rfl (And.intro rfl (And.intro rfl (And.intro rfl True.intro)))))))
  · refine rf_iload X rfl dX11_sizes_36 ?_
    refine rf_bipush X (32 : Int32) rfl dX11_sizes_38 ?_
    refine rf_bind (fun g29 hg29 => ?_)
    refine rf_callSI X c_X11_139 ⟨Nat.le_of_ble_eq_true rfl, Nat.le_of_ble_eq_true rfl⟩ [tI p4, tI (32 : Int32)] rfl (Nat.le_of_ble_eq_true rfl) (sX11_isPower l D p4 (32 : Int32) A1 g29 hg29) dX11_sizes_40 ?_
    refine rf_if_eq X (tgt := 79) rfl dX11_sizes_43 (fun c30 => rf_pos c30 ?_) (fun c30 => rf_neg c30 ?_)
    · exact rf_go hj28 (And.intro rfl (And.intro rfl (And.intro rfl (And.intro rfl (And.intro rfl (And.intro rfl (And.intro rfl True.intro)))))))
    refine rf_iload X rfl dX11_sizes_46 ?_
    refine rf_bipush X (8 : Int32) rfl dX11_sizes_48 ?_
    refine rf_bind (fun g31 hg31 => ?_)
    refine rf_callSI X c_X11_139 ⟨Nat.le_of_ble_eq_true rfl, Nat.le_of_ble_eq_true rfl⟩ [tI p5, tI (8 : Int32)] rfl (Nat.le_of_ble_eq_true rfl) (sX11_isPower l D p5 (8 : Int32) A1 g31 hg31) dX11_sizes_50 ?_
    refine rf_br 79 64 [some (tR (some a0)), some (tI p1), some (tI p2), some (tI p3), some (tI p4), some (tI p5), some (tI p6), none, none] [some (tR (some a0)), some (tI p1), some (tI p2), some (tI p3), some (tI p4), some (tI p5), some (tI p6), none, none] [] [] (fun _ => ?_) (fun _ => ?_) (fun _ jT jF => ?_)
    · exact rf_go hj28 (And.intro rfl (And.intro rfl (And.intro rfl (And.intro rfl (And.intro rfl (And.intro rfl (And.intro rfl True.intro)))))))
    · refine rf_iload X rfl dX11_sizes_64 ?_
      refine rf_sipush X (4096 : Int32) rfl dX11_sizes_66 ?_
      refine rf_bind (fun g32 hg32 => ?_)
      refine rf_callSI X c_X11_139 ⟨Nat.le_of_ble_eq_true rfl, Nat.le_of_ble_eq_true rfl⟩ [tI p6, tI (4096 : Int32)] rfl (Nat.le_of_ble_eq_true rfl) (sX11_isPower l D p6 (4096 : Int32) A1 g32 hg32) dX11_sizes_69 ?_
      refine rf_if_eq X (tgt := 79) rfl dX11_sizes_72 (fun c33 => rf_pos c33 ?_) (fun c33 => rf_neg c33 ?_)
      · exact rf_go hj28 (And.intro rfl (And.intro rfl (And.intro rfl (And.intro rfl (And.intro rfl (And.intro rfl (And.intro rfl True.intro)))))))
      refine rf_iconst X (1 : Int32) rfl dX11_sizes_75 ?_
      refine rf_goto X (tgt := 80) rfl dX11_sizes_76 ?_
      exact rf_go (hj3 (1 : Int32)) (And.intro rfl (And.intro rfl (And.intro rfl (And.intro rfl (And.intro rfl (And.intro rfl (And.intro rfl True.intro)))))))
    refine rf_if_eq X (tgt := 79) rfl dX11_sizes_53 (fun c34 => ?_) (fun c34 => ?_)
    · exact jT (Or.inl c34)
    refine rf_iload X rfl dX11_sizes_56 ?_
    refine rf_sipush X (512 : Int32) rfl dX11_sizes_58 ?_
    refine rf_icmp_lt X (tgt := 79) rfl dX11_sizes_61 (fun c35 => ?_) (fun c35 => ?_)
    · exact jT (Or.inr c35)
    exact jF (fun z => z.elim c34 c35)
  refine rf_if_eq X (tgt := 79) rfl dX11_sizes_11 (fun c36 => ?_) (fun c36 => ?_)
  · exact jT (Or.inl (Or.inl (Or.inl (Or.inl c36))))
  refine rf_iload_n X rfl dX11_sizes_14 ?_
  refine rf_iconst X (1 : Int32) rfl dX11_sizes_15 ?_
  refine rf_icmp_lt X (tgt := 79) rfl dX11_sizes_16 (fun c37 => ?_) (fun c37 => ?_)
  · exact jT (Or.inl (Or.inl (Or.inl (Or.inr c37))))
  refine rf_iload_n X rfl dX11_sizes_19 ?_
  refine rf_bipush X (16 : Int32) rfl dX11_sizes_20 ?_
  refine rf_icmp_gt X (tgt := 79) rfl dX11_sizes_22 (fun c38 => ?_) (fun c38 => ?_)
  · exact jT (Or.inl (Or.inl (Or.inr c38)))
  refine rf_iload_n X rfl dX11_sizes_25 ?_
  refine rf_iconst X (1 : Int32) rfl dX11_sizes_26 ?_
  refine rf_icmp_lt X (tgt := 79) rfl dX11_sizes_27 (fun c39 => ?_) (fun c39 => ?_)
  · exact jT (Or.inl (Or.inr c39))
  refine rf_iload_n X rfl dX11_sizes_30 ?_
  refine rf_bipush X (8 : Int32) rfl dX11_sizes_31 ?_
  refine rf_icmp_gt X (tgt := 79) rfl dX11_sizes_33 (fun c40 => ?_) (fun c40 => ?_)
  · exact jT (Or.inr c40)
  exact jF (fun z => z.elim (fun z => z.elim (fun z => z.elim (fun z => z.elim c36 c37) c38) c39) c40)

theorem dX11_word_0 : decode cX11_word 0 = .ok (.aload_n 0, 1) := by decide +kernel
theorem dX11_word_1 : decode cX11_word 1 = .ok (.iconst 0, 1) := by decide +kernel
theorem dX11_word_2 : decode cX11_word 2 = .ok (.putfield 120, 3) := by decide +kernel
theorem dX11_word_5 : decode cX11_word 5 = .ok (.iload_n 1, 1) := by decide +kernel
theorem dX11_word_6 : decode cX11_word 6 = .ok (.ifCond .lt 17, 3) := by decide +kernel
theorem dX11_word_9 : decode cX11_word 9 = .ok (.iload_n 1, 1) := by decide +kernel
theorem dX11_word_10 : decode cX11_word 10 = .ok (.sipush 128, 3) := by decide +kernel
theorem dX11_word_13 : decode cX11_word 13 = .ok (.if_icmp .ge 10, 3) := by decide +kernel
theorem dX11_word_16 : decode cX11_word 16 = .ok (.aload_n 0, 1) := by decide +kernel
theorem dX11_word_17 : decode cX11_word 17 = .ok (.invokevirtual 143, 3) := by decide +kernel
theorem dX11_word_20 : decode cX11_word 20 = .ok (.ifCond .eq 5, 3) := by decide +kernel
theorem dX11_word_23 : decode cX11_word 23 = .ok (.iconst 0, 1) := by decide +kernel
theorem dX11_word_24 : decode cX11_word 24 = .ok (.ireturn, 1) := by decide +kernel
theorem dX11_word_25 : decode cX11_word 25 = .ok (.aload_n 0, 1) := by decide +kernel
theorem dX11_word_26 : decode cX11_word 26 = .ok (.getfield 28, 3) := by decide +kernel
theorem dX11_word_29 : decode cX11_word 29 = .ok (.iload_n 1, 1) := by decide +kernel
theorem dX11_word_30 : decode cX11_word 30 = .ok (.lload_n 2, 1) := by decide +kernel
theorem dX11_word_31 : decode cX11_word 31 = .ok (.lastore, 1) := by decide +kernel
theorem dX11_word_32 : decode cX11_word 32 = .ok (.iconst 1, 1) := by decide +kernel
theorem dX11_word_33 : decode cX11_word 33 = .ok (.ireturn, 1) := by decide +kernel
def fX11_word (a0 : Nat) (p1 : Int32) (p2 : Int64) (A : AH) : Option (Int32 × AH) :=
(pI A (some a0) 11 0 (0 : Int32)).bind fun A1 =>
jn (some ((nb (0 : Int32)), A1)) fun j2 =>
if ((p1 < 0) ∨ ((128 : Int32) ≤ p1)) then (j2) else
(rcv A1 (some a0) 11).bind fun v3 =>
(fX11_isUnder v3 A1).bind fun g4 =>
if g4 = 0 then ((gR A1 (some a0) 11 7).bind fun v6 =>
(sL A1 v6 p1 p2).bind fun A7 =>
some ((nb (1 : Int32)), A7)) else
j2

set_option maxHeartbeats 4000000 in
set_option maxRecDepth 100000 in
theorem sX11_word (l : Launch) (D : DE) (a0 : Nat) (p1 : Int32) (p2 : Int64) (A : AH) (g : Int32 × AH) (hg : fX11_word a0 p1 p2 A = some g) : Sm l D yX11_word cX11_word 4 (some Jvm.ClassFile.FieldType.boolean) 1 20 [tR (some a0), tI p1, tL p2] A (wI g).1 (wI g).2 := by
  refine Sm.of (ω := wI) (fX11_word a0 p1 p2 A) [some (tR (some a0)), some (tI p1), some (tL p2), none] (by decide) (Nat.le_of_ble_eq_true rfl) rfl hg ?_
  intro p e R s m args below meth c X hin
  have X : Cx D cX11_word RX11 4 1 20 (some Jvm.ClassFile.FieldType.boolean) p R s m args meth c := X
  unfold fX11_word
  refine rf_aload_n X rfl dX11_word_0 ?_
  refine rf_iconst X (0 : Int32) rfl dX11_word_1 ?_
  refine rf_bind (fun A1 hA1 => ?_)
  refine rf_putI X fp_X11_120 (fun h => by cases h) hA1 dX11_word_2 ?_
  refine rf_iload_n X rfl dX11_word_5 ?_
  refine rf_jn2 (fun i => RfX X l e below wI i 23 [none, none, none, none] [] A1) ?_ (fun j2 hj2 => ?_)
  · show RfX X l e below _ _ _ _ _ _
    refine rf_iconst X (0 : Int32) rfl dX11_word_23 ?_
    exact rf_zret X rfl dX11_word_24
  refine rf_br 23 16 [some (tR (some a0)), some (tI p1), some (tL p2), none] [some (tR (some a0)), some (tI p1), some (tL p2), none] [] [] (fun _ => ?_) (fun _ => ?_) (fun _ jT jF => ?_)
  · exact rf_go hj2 True.intro
  · refine rf_aload_n X rfl dX11_word_16 ?_
    refine rf_bind (fun v3 hv3 => ?_)
    refine rf_bind (fun g4 hg4 => ?_)
    refine rf_callVI X c_X11_143 ⟨Nat.le_of_ble_eq_true rfl, Nat.le_of_ble_eq_true rfl⟩ [] rfl (Nat.le_of_ble_eq_true rfl) hv3 (sX11_isUnder l D v3 A1 g4 hg4) dX11_word_17 ?_
    refine rf_if_eq X (tgt := 25) rfl dX11_word_20 (fun c5 => rf_pos c5 ?_) (fun c5 => rf_neg c5 ?_)
    · refine rf_aload_n X rfl dX11_word_25 ?_
      refine rf_bind (fun v6 hv6 => ?_)
      refine rf_getR X fl_X11_28 hv6 dX11_word_26 ?_
      refine rf_iload_n X rfl dX11_word_29 ?_
      refine rf_lload_n X rfl dX11_word_30 ?_
      refine rf_bind (fun A7 hA7 => ?_)
      refine rf_last X hA7 dX11_word_31 ?_
      refine rf_iconst X (1 : Int32) rfl dX11_word_32 ?_
      exact rf_zret X rfl dX11_word_33
    exact rf_go hj2 True.intro
  refine rf_if_lt X (tgt := 23) rfl dX11_word_6 (fun c8 => ?_) (fun c8 => ?_)
  · exact jT (Or.inl c8)
  refine rf_iload_n X rfl dX11_word_9 ?_
  refine rf_sipush X (128 : Int32) rfl dX11_word_10 ?_
  refine rf_icmp_ge X (tgt := 23) rfl dX11_word_13 (fun c9 => ?_) (fun c9 => ?_)
  · exact jT (Or.inr c9)
  exact jF (fun z => z.elim c8 c9)

