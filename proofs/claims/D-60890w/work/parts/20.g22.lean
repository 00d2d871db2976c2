/-! 20.g22: printed by gen/parts.py -/
set_option maxRecDepth 100000
theorem fl_X11_111 : FLr RX11 111 11 51 := ⟨RX11, TX11, 60, "WarpMillModel", "", rfl, by decide, in_X11, Or.inl q1608, Or.inl rfl⟩
theorem fl_X11_19 : FLr RX11 19 11 4 := ⟨RX11, TX11, 60, "WarpMillModel", "", rfl, by decide, in_X11, Or.inl q1561, Or.inl rfl⟩
theorem fl_X11_22 : FLr RX11 22 11 5 := ⟨RX11, TX11, 60, "WarpMillModel", "", rfl, by decide, in_X11, Or.inl q1562, Or.inl rfl⟩
theorem fl_X11_171 : FLr RX11 171 11 19 := ⟨RX11, TX11, 60, "WarpMillModel", "", rfl, by decide, in_X11, Or.inl q1576, Or.inl rfl⟩
theorem fl_X11_174 : FLr RX11 174 11 20 := ⟨RX11, TX11, 60, "WarpMillModel", "", rfl, by decide, in_X11, Or.inl q1577, Or.inl rfl⟩
theorem fl_X11_105 : FLr RX11 105 11 49 := ⟨RX11, TX11, 60, "WarpMillModel", "", rfl, by decide, in_X11, Or.inl q1606, Or.inl rfl⟩
theorem c_X11_316 : CV RX11 316 11 yX11_asked cX11_asked 3 (some Jvm.ClassFile.FieldType.int) 2 := ⟨TX11, 60, rfl, q1909, q1911, qs63, q111, q1912, ⟨by decide +kernel, by decide +kernel, by decide +kernel⟩⟩
theorem c_X11_319 : CV RX11 319 11 yX11_isAgain cX11_isAgain 4 (some Jvm.ClassFile.FieldType.boolean) 2 := ⟨TX11, 60, rfl, q1913, q1915, qs64, q111, q1916, ⟨by decide +kernel, by decide +kernel, by decide +kernel⟩⟩
theorem c_X11_322 : CV RX11 322 11 yX11_isLineAgain cX11_isLineAgain 4 (some Jvm.ClassFile.FieldType.boolean) 2 := ⟨TX11, 60, rfl, q1921, q1923, qs66, q111, q1924, ⟨by decide +kernel, by decide +kernel, by decide +kernel⟩⟩
theorem dX11_isAgain_0 : decode cX11_isAgain 0 = .ok (.iconst 0, 1) := by decide +kernel
theorem dX11_isAgain_1 : decode cX11_isAgain 1 = .ok (.istore_n 3, 1) := by decide +kernel
theorem dX11_isAgain_2 : decode cX11_isAgain 2 = .ok (.iload_n 3, 1) := by decide +kernel
theorem dX11_isAgain_3 : decode cX11_isAgain 3 = .ok (.iload_n 2, 1) := by decide +kernel
theorem dX11_isAgain_4 : decode cX11_isAgain 4 = .ok (.if_icmp .ge 35, 3) := by decide +kernel
theorem dX11_isAgain_7 : decode cX11_isAgain 7 = .ok (.aload_n 0, 1) := by decide +kernel
theorem dX11_isAgain_8 : decode cX11_isAgain 8 = .ok (.getfield 111, 3) := by decide +kernel
theorem dX11_isAgain_11 : decode cX11_isAgain 11 = .ok (.iload_n 3, 1) := by decide +kernel
theorem dX11_isAgain_12 : decode cX11_isAgain 12 = .ok (.baload, 1) := by decide +kernel
theorem dX11_isAgain_13 : decode cX11_isAgain 13 = .ok (.ifCond .eq 20, 3) := by decide +kernel
theorem dX11_isAgain_16 : decode cX11_isAgain 16 = .ok (.aload_n 0, 1) := by decide +kernel
theorem dX11_isAgain_17 : decode cX11_isAgain 17 = .ok (.iload_n 1, 1) := by decide +kernel
theorem dX11_isAgain_18 : decode cX11_isAgain 18 = .ok (.iload_n 3, 1) := by decide +kernel
theorem dX11_isAgain_19 : decode cX11_isAgain 19 = .ok (.invokevirtual 316, 3) := by decide +kernel
theorem dX11_isAgain_22 : decode cX11_isAgain 22 = .ok (.aload_n 0, 1) := by decide +kernel
theorem dX11_isAgain_23 : decode cX11_isAgain 23 = .ok (.iload_n 1, 1) := by decide +kernel
theorem dX11_isAgain_24 : decode cX11_isAgain 24 = .ok (.iload_n 2, 1) := by decide +kernel
theorem dX11_isAgain_25 : decode cX11_isAgain 25 = .ok (.invokevirtual 316, 3) := by decide +kernel
theorem dX11_isAgain_28 : decode cX11_isAgain 28 = .ok (.if_icmp .ne 5, 3) := by decide +kernel
theorem dX11_isAgain_31 : decode cX11_isAgain 31 = .ok (.iconst 1, 1) := by decide +kernel
theorem dX11_isAgain_32 : decode cX11_isAgain 32 = .ok (.ireturn, 1) := by decide +kernel
theorem dX11_isAgain_33 : decode cX11_isAgain 33 = .ok (.iinc 3 1, 3) := by decide +kernel
theorem dX11_isAgain_36 : decode cX11_isAgain 36 = .ok (.goto (-34), 3) := by decide +kernel
theorem dX11_isAgain_39 : decode cX11_isAgain 39 = .ok (.iconst 0, 1) := by decide +kernel
theorem dX11_isAgain_40 : decode cX11_isAgain 40 = .ok (.ireturn, 1) := by decide +kernel
def fX11_isAgain (n : Nat) (a0 : Nat) (p1 : Int32) (p2 : Int32) (A : AH) : Option (Int32) :=
jl (fixG (fun _ => none) (fun (rc3 : (Int32) → Option (Int32)) (x2 : Int32) =>
if p2 ≤ x2 then (some (nb (0 : Int32))) else
(gR A (some a0) 11 51).bind fun v5 =>
(aZ A v5 x2).bind fun v6 =>
jn (rc3 (x2 + (1 : Int32))) fun j7 =>
if v6 = 0 then (j7) else
(rcv A (some a0) 11).bind fun v9 =>
(fX11_asked v9 p1 x2 A).bind fun g10 =>
(fX11_asked v9 p1 p2 A).bind fun g11 =>
if g10 = g11 then (some (nb (1 : Int32))) else
j7) n) fun j1 =>
j1 (0 : Int32)

set_option maxHeartbeats 4000000 in
set_option maxRecDepth 100000 in
theorem sX11_isAgain (l : Launch) (D : DE) (n : Nat) (a0 : Nat) (p1 : Int32) (p2 : Int32) (A : AH) (g : Int32) (hg : fX11_isAgain n a0 p1 p2 A = some g) : Sm l D yX11_isAgain cX11_isAgain 4 (some Jvm.ClassFile.FieldType.boolean) 2 44 [tR (some a0), tI p1, tI p2] A (qI A g).1 (qI A g).2 := by
  refine Sm.of (ω := qI A) (fX11_isAgain n a0 p1 p2 A) [some (tR (some a0)), some (tI p1), some (tI p2), none] (by decide) (Nat.le_of_ble_eq_true rfl) rfl hg ?_
  intro p e R s m args below meth c X hin
  have X : Cx D cX11_isAgain RX11 4 2 44 (some Jvm.ClassFile.FieldType.boolean) p R s m args meth c := X
  unfold fX11_isAgain
  refine rf_iconst X (0 : Int32) rfl dX11_isAgain_0 ?_
  refine rf_istore_n X (ls' := [some (tR (some a0)), some (tI p1), some (tI p2), some (tI (0 : Int32))]) rfl (by decide) dX11_isAgain_1 ?_
  refine rf_fix (fun i => ∀ (x2 : Int32), RfX X l e below (qI A) (i x2) 2 [some (tR (some a0)), some (tI p1), some (tI p2), some (tI x2)] [] A) (fun _ => rf_none) (fun rc3 hrc3 => ?_) (fun j1 hj1 => ?_)
  · intro x2
    refine rf_iload_n X rfl dX11_isAgain_2 ?_
    refine rf_iload_n X rfl dX11_isAgain_3 ?_
    refine rf_icmp_ge X (tgt := 39) rfl dX11_isAgain_4 (fun c4 => rf_pos c4 ?_) (fun c4 => rf_neg c4 ?_)
    · refine rf_iconst X (0 : Int32) rfl dX11_isAgain_39 ?_
      exact rf_zret X rfl dX11_isAgain_40
    refine rf_aload_n X rfl dX11_isAgain_7 ?_
    refine rf_bind (fun v5 hv5 => ?_)
    refine rf_getR X fl_X11_111 hv5 dX11_isAgain_8 ?_
    refine rf_iload_n X rfl dX11_isAgain_11 ?_
    refine rf_bind (fun v6 hv6 => ?_)
    refine rf_zald X hv6 dX11_isAgain_12 ?_
    refine rf_jn2 (fun i => RfX X l e below (qI A) i 33 [some (tR (some a0)), some (tI p1), some (tI p2), some (tI x2)] [] A) ?_ (fun j7 hj7 => ?_)
    · show RfX X l e below _ _ _ _ _ _
      refine rf_iinc X (x2 + (1 : Int32)) rfl rfl (ls' := [some (tR (some a0)), some (tI p1), some (tI p2), some (tI (x2 + (1 : Int32)))]) rfl (by decide) dX11_isAgain_33 ?_
      refine rf_goto X (tgt := 2) rfl dX11_isAgain_36 ?_
      exact rf_go (hrc3 (x2 + (1 : Int32))) (And.intro rfl (And.intro rfl (And.intro rfl (And.intro rfl True.intro))))
    refine rf_if_eq X (tgt := 33) rfl dX11_isAgain_13 (fun c8 => rf_pos c8 ?_) (fun c8 => rf_neg c8 ?_)
    · exact rf_go hj7 (And.intro rfl (And.intro rfl (And.intro rfl (And.intro rfl True.intro))))
    refine rf_aload_n X rfl dX11_isAgain_16 ?_
    refine rf_iload_n X rfl dX11_isAgain_17 ?_
    refine rf_iload_n X rfl dX11_isAgain_18 ?_
    refine rf_bind (fun v9 hv9 => ?_)
    refine rf_bind (fun g10 hg10 => ?_)
    refine rf_callVI X c_X11_316 ⟨Nat.le_of_ble_eq_true rfl, Nat.le_of_ble_eq_true rfl⟩ [tI p1, tI x2] rfl (Nat.le_of_ble_eq_true rfl) hv9 (sX11_asked l D v9 p1 x2 A g10 hg10) dX11_isAgain_19 ?_
    refine rf_aload_n X rfl dX11_isAgain_22 ?_
    refine rf_iload_n X rfl dX11_isAgain_23 ?_
    refine rf_iload_n X rfl dX11_isAgain_24 ?_
    refine rf_bind (fun g11 hg11 => ?_)
    refine rf_callVI X c_X11_316 ⟨Nat.le_of_ble_eq_true rfl, Nat.le_of_ble_eq_true rfl⟩ [tI p1, tI p2] rfl (Nat.le_of_ble_eq_true rfl) hv9 (sX11_asked l D v9 p1 p2 A g11 hg11) dX11_isAgain_25 ?_
    refine rf_icmp_ne X (tgt := 33) rfl dX11_isAgain_28 (fun c12 => rf_neg c12 ?_) (fun c12 => rf_pos c12 ?_)
    · exact rf_go hj7 (And.intro rfl (And.intro rfl (And.intro rfl (And.intro rfl True.intro))))
    refine rf_iconst X (1 : Int32) rfl dX11_isAgain_31 ?_
    exact rf_zret X rfl dX11_isAgain_32
  exact rf_go (hj1 (0 : Int32)) (And.intro rfl (And.intro rfl (And.intro rfl (And.intro rfl True.intro))))

theorem dX11_timeOfShared_0 : decode cX11_timeOfShared 0 = .ok (.iconst 0, 1) := by decide +kernel
theorem dX11_timeOfShared_1 : decode cX11_timeOfShared 1 = .ok (.istore_n 3, 1) := by decide +kernel
theorem dX11_timeOfShared_2 : decode cX11_timeOfShared 2 = .ok (.iconst 0, 1) := by decide +kernel
theorem dX11_timeOfShared_3 : decode cX11_timeOfShared 3 = .ok (.istore 4, 2) := by decide +kernel
theorem dX11_timeOfShared_5 : decode cX11_timeOfShared 5 = .ok (.iload 4, 2) := by decide +kernel
theorem dX11_timeOfShared_7 : decode cX11_timeOfShared 7 = .ok (.aload_n 0, 1) := by decide +kernel
theorem dX11_timeOfShared_8 : decode cX11_timeOfShared 8 = .ok (.getfield 19, 3) := by decide +kernel
theorem dX11_timeOfShared_11 : decode cX11_timeOfShared 11 = .ok (.if_icmp .ge 102, 3) := by decide +kernel
theorem dX11_timeOfShared_14 : decode cX11_timeOfShared 14 = .ok (.iconst 0, 1) := by decide +kernel
theorem dX11_timeOfShared_15 : decode cX11_timeOfShared 15 = .ok (.istore 5, 2) := by decide +kernel
theorem dX11_timeOfShared_17 : decode cX11_timeOfShared 17 = .ok (.iconst 0, 1) := by decide +kernel
theorem dX11_timeOfShared_18 : decode cX11_timeOfShared 18 = .ok (.istore 6, 2) := by decide +kernel
theorem dX11_timeOfShared_20 : decode cX11_timeOfShared 20 = .ok (.iload 6, 2) := by decide +kernel
theorem dX11_timeOfShared_22 : decode cX11_timeOfShared 22 = .ok (.aload_n 0, 1) := by decide +kernel
theorem dX11_timeOfShared_23 : decode cX11_timeOfShared 23 = .ok (.getfield 7, 3) := by decide +kernel
theorem dX11_timeOfShared_26 : decode cX11_timeOfShared 26 = .ok (.if_icmp .ge 68, 3) := by decide +kernel
theorem dX11_timeOfShared_29 : decode cX11_timeOfShared 29 = .ok (.aload_n 0, 1) := by decide +kernel
theorem dX11_timeOfShared_30 : decode cX11_timeOfShared 30 = .ok (.getfield 111, 3) := by decide +kernel
theorem dX11_timeOfShared_33 : decode cX11_timeOfShared 33 = .ok (.iload 6, 2) := by decide +kernel
theorem dX11_timeOfShared_35 : decode cX11_timeOfShared 35 = .ok (.baload, 1) := by decide +kernel
theorem dX11_timeOfShared_36 : decode cX11_timeOfShared 36 = .ok (.ifCond .eq 52, 3) := by decide +kernel
theorem dX11_timeOfShared_39 : decode cX11_timeOfShared 39 = .ok (.aload_n 0, 1) := by decide +kernel
theorem dX11_timeOfShared_40 : decode cX11_timeOfShared 40 = .ok (.iload_n 2, 1) := by decide +kernel
theorem dX11_timeOfShared_41 : decode cX11_timeOfShared 41 = .ok (.iload 6, 2) := by decide +kernel
theorem dX11_timeOfShared_43 : decode cX11_timeOfShared 43 = .ok (.invokevirtual 316, 3) := by decide +kernel
theorem dX11_timeOfShared_46 : decode cX11_timeOfShared 46 = .ok (.aload_n 0, 1) := by decide +kernel
theorem dX11_timeOfShared_47 : decode cX11_timeOfShared 47 = .ok (.getfield 19, 3) := by decide +kernel
theorem dX11_timeOfShared_50 : decode cX11_timeOfShared 50 = .ok (.irem, 1) := by decide +kernel
theorem dX11_timeOfShared_51 : decode cX11_timeOfShared 51 = .ok (.iload 4, 2) := by decide +kernel
theorem dX11_timeOfShared_53 : decode cX11_timeOfShared 53 = .ok (.if_icmp .eq 6, 3) := by decide +kernel
theorem dX11_timeOfShared_56 : decode cX11_timeOfShared 56 = .ok (.goto 32, 3) := by decide +kernel
theorem dX11_timeOfShared_59 : decode cX11_timeOfShared 59 = .ok (.iload 5, 2) := by decide +kernel
theorem dX11_timeOfShared_61 : decode cX11_timeOfShared 61 = .ok (.aload_n 0, 1) := by decide +kernel
theorem dX11_timeOfShared_62 : decode cX11_timeOfShared 62 = .ok (.getfield 220, 3) := by decide +kernel
theorem dX11_timeOfShared_65 : decode cX11_timeOfShared 65 = .ok (.bipush 53, 2) := by decide +kernel
theorem dX11_timeOfShared_67 : decode cX11_timeOfShared 67 = .ok (.if_icmp .gt 13, 3) := by decide +kernel
theorem dX11_timeOfShared_70 : decode cX11_timeOfShared 70 = .ok (.aload_n 0, 1) := by decide +kernel
theorem dX11_timeOfShared_71 : decode cX11_timeOfShared 71 = .ok (.iload_n 2, 1) := by decide +kernel
theorem dX11_timeOfShared_72 : decode cX11_timeOfShared 72 = .ok (.iload 6, 2) := by decide +kernel
theorem dX11_timeOfShared_74 : decode cX11_timeOfShared 74 = .ok (.invokevirtual 319, 3) := by decide +kernel
theorem dX11_timeOfShared_77 : decode cX11_timeOfShared 77 = .ok (.ifCond .ne 7, 3) := by decide +kernel
theorem dX11_timeOfShared_80 : decode cX11_timeOfShared 80 = .ok (.iconst 1, 1) := by decide +kernel
theorem dX11_timeOfShared_81 : decode cX11_timeOfShared 81 = .ok (.goto 4, 3) := by decide +kernel
theorem dX11_timeOfShared_84 : decode cX11_timeOfShared 84 = .ok (.iconst 0, 1) := by decide +kernel
theorem dX11_timeOfShared_85 : decode cX11_timeOfShared 85 = .ok (.iadd, 1) := by decide +kernel
theorem dX11_timeOfShared_86 : decode cX11_timeOfShared 86 = .ok (.istore 5, 2) := by decide +kernel
theorem dX11_timeOfShared_88 : decode cX11_timeOfShared 88 = .ok (.iinc 6 1, 3) := by decide +kernel
theorem dX11_timeOfShared_91 : decode cX11_timeOfShared 91 = .ok (.goto (-71), 3) := by decide +kernel
theorem dX11_timeOfShared_94 : decode cX11_timeOfShared 94 = .ok (.iload 5, 2) := by decide +kernel
theorem dX11_timeOfShared_96 : decode cX11_timeOfShared 96 = .ok (.iload_n 3, 1) := by decide +kernel
theorem dX11_timeOfShared_97 : decode cX11_timeOfShared 97 = .ok (.if_icmp .le 8, 3) := by decide +kernel
theorem dX11_timeOfShared_100 : decode cX11_timeOfShared 100 = .ok (.iload 5, 2) := by decide +kernel
theorem dX11_timeOfShared_102 : decode cX11_timeOfShared 102 = .ok (.goto 4, 3) := by decide +kernel
theorem dX11_timeOfShared_105 : decode cX11_timeOfShared 105 = .ok (.iload_n 3, 1) := by decide +kernel
theorem dX11_timeOfShared_106 : decode cX11_timeOfShared 106 = .ok (.istore_n 3, 1) := by decide +kernel
theorem dX11_timeOfShared_107 : decode cX11_timeOfShared 107 = .ok (.iinc 4 1, 3) := by decide +kernel
theorem dX11_timeOfShared_110 : decode cX11_timeOfShared 110 = .ok (.goto (-105), 3) := by decide +kernel
theorem dX11_timeOfShared_113 : decode cX11_timeOfShared 113 = .ok (.aload_n 0, 1) := by decide +kernel
theorem dX11_timeOfShared_114 : decode cX11_timeOfShared 114 = .ok (.getfield 45, 3) := by decide +kernel
theorem dX11_timeOfShared_117 : decode cX11_timeOfShared 117 = .ok (.iload_n 1, 1) := by decide +kernel
theorem dX11_timeOfShared_118 : decode cX11_timeOfShared 118 = .ok (.aload_n 0, 1) := by decide +kernel
theorem dX11_timeOfShared_119 : decode cX11_timeOfShared 119 = .ok (.getfield 159, 3) := by decide +kernel
theorem dX11_timeOfShared_122 : decode cX11_timeOfShared 122 = .ok (.iload_n 3, 1) := by decide +kernel
theorem dX11_timeOfShared_123 : decode cX11_timeOfShared 123 = .ok (.ifCond .ne 7, 3) := by decide +kernel
theorem dX11_timeOfShared_126 : decode cX11_timeOfShared 126 = .ok (.iconst 1, 1) := by decide +kernel
theorem dX11_timeOfShared_127 : decode cX11_timeOfShared 127 = .ok (.goto 4, 3) := by decide +kernel
theorem dX11_timeOfShared_130 : decode cX11_timeOfShared 130 = .ok (.iload_n 3, 1) := by decide +kernel
theorem dX11_timeOfShared_131 : decode cX11_timeOfShared 131 = .ok (.iadd, 1) := by decide +kernel
theorem dX11_timeOfShared_132 : decode cX11_timeOfShared 132 = .ok (.iastore, 1) := by decide +kernel
theorem dX11_timeOfShared_133 : decode cX11_timeOfShared 133 = .ok (.iconst 2, 1) := by decide +kernel
theorem dX11_timeOfShared_134 : decode cX11_timeOfShared 134 = .ok (.iload_n 3, 1) := by decide +kernel
theorem dX11_timeOfShared_135 : decode cX11_timeOfShared 135 = .ok (.iadd, 1) := by decide +kernel
theorem dX11_timeOfShared_136 : decode cX11_timeOfShared 136 = .ok (.ireturn, 1) := by decide +kernel
def fX11_timeOfShared (n : Nat) (a0 : Nat) (p1 : Int32) (p2 : Int32) (A : AH) : Option (Int32 × AH) :=
jl (fixG (fun _ _ => none) (fun (rc4 : (Int32) → (Int32) → Option (Int32 × AH)) (x2 : Int32) (x3 : Int32) =>
(gI A (some a0) 11 4).bind fun v5 =>
if v5 ≤ x3 then ((gR A (some a0) 11 28).bind fun v7 =>
(gI A (some a0) 11 15).bind fun v8 =>
jn (fun (y10 : Int32) =>
(sI A v7 p1 (v8 + y10)).bind fun A11 =>
some (((2 : Int32) + x2), A11)) fun j9 =>
if x2 = 0 then (j9 (1 : Int32)) else
j9 x2) else
jl (fixG (fun _ _ => none) (fun (rc16 : (Int32) → (Int32) → Option (Int32 × AH)) (x14 : Int32) (x15 : Int32) =>
(gI A (some a0) 11 1).bind fun v17 =>
if v17 ≤ x15 then (jn (fun (y20 : Int32) =>
rc4 y20 (x3 + (1 : Int32))) fun j19 =>
if x14 ≤ x2 then (j19 x2) else
j19 x14) else
(gR A (some a0) 11 51).bind fun v22 =>
(aZ A v22 x15).bind fun v23 =>
jn (fun (x25 : Int32) =>
rc16 x25 (x15 + (1 : Int32))) fun j24 =>
if v23 = 0 then (j24 x14) else
(rcv A (some a0) 11).bind fun v27 =>
(fX11_asked v27 p2 x15 A).bind fun g28 =>
(dz v5).bind fun v29 =>
if (g28 - g28 / v5 * v5) = x3 then ((gI A (some a0) 11 52).bind fun v31 =>
jn (fun (y33 : Int32) =>
j24 (x14 + y33)) fun j32 =>
jn (j32 (1 : Int32)) fun j34 =>
if (53 : Int32) < v31 then (j34) else
(fX11_isAgain n v27 p2 x15 A).bind fun g36 =>
if g36 = 0 then (j34) else
j32 (0 : Int32)) else
j24 x14) n) fun j13 =>
j13 (0 : Int32) (0 : Int32)) n) fun j1 =>
j1 (0 : Int32) (0 : Int32)

set_option maxHeartbeats 4000000 in
set_option maxRecDepth 100000 in
theorem sX11_timeOfShared (l : Launch) (D : DE) (n : Nat) (a0 : Nat) (p1 : Int32) (p2 : Int32) (A : AH) (g : Int32 × AH) (hg : fX11_timeOfShared n a0 p1 p2 A = some g) : Sm l D yX11_timeOfShared cX11_timeOfShared 7 (some Jvm.ClassFile.FieldType.int) 3 67 [tR (some a0), tI p1, tI p2] A (wI g).1 (wI g).2 := by
  refine Sm.of (ω := wI) (fX11_timeOfShared n a0 p1 p2 A) [some (tR (some a0)), some (tI p1), some (tI p2), none, none, none, none] (by decide) (Nat.le_of_ble_eq_true rfl) rfl hg ?_
  intro p e R s m args below meth c X hin
  have X : Cx D cX11_timeOfShared RX11 7 3 67 (some Jvm.ClassFile.FieldType.int) p R s m args meth c := X
  unfold fX11_timeOfShared
  refine rf_iconst X (0 : Int32) rfl dX11_timeOfShared_0 ?_
  refine rf_istore_n X (ls' := [some (tR (some a0)), some (tI p1), some (tI p2), some (tI (0 : Int32)), none, none, none]) rfl (by decide) dX11_timeOfShared_1 ?_
  refine rf_iconst X (0 : Int32) rfl dX11_timeOfShared_2 ?_
  refine rf_istore X (ls' := [some (tR (some a0)), some (tI p1), some (tI p2), some (tI (0 : Int32)), some (tI (0 : Int32)), none, none]) rfl (by decide) dX11_timeOfShared_3 ?_
  refine rf_fix (fun i => ∀ (x2 : Int32) (x3 : Int32), RfX X l e below wI (i x2 x3) 5 [some (tR (some a0)), some (tI p1), some (tI p2), some (tI x2), some (tI x3), none, none] [] A) (fun _ _ => rf_none) (fun rc4 hrc4 => ?_) (fun j1 hj1 => ?_)
  · intro x2 x3
    refine rf_iload X rfl dX11_timeOfShared_5 ?_
    refine rf_aload_n X rfl dX11_timeOfShared_7 ?_
    refine rf_bind (fun v5 hv5 => ?_)
    refine rf_getI X fl_X11_19 hv5 dX11_timeOfShared_8 ?_
    refine rf_icmp_ge X (tgt := 113) rfl dX11_timeOfShared_11 (fun c6 => rf_pos c6 ?_) (fun c6 => rf_neg c6 ?_)
    · refine rf_aload_n X rfl dX11_timeOfShared_113 ?_
      refine rf_bind (fun v7 hv7 => ?_)
      refine rf_getR X fl_X11_45 hv7 dX11_timeOfShared_114 ?_
      refine rf_iload_n X rfl dX11_timeOfShared_117 ?_
      refine rf_aload_n X rfl dX11_timeOfShared_118 ?_
      refine rf_bind (fun v8 hv8 => ?_)
      refine rf_getI X fl_X11_159 hv8 dX11_timeOfShared_119 ?_
      refine rf_iload_n X rfl dX11_timeOfShared_122 ?_
      refine rf_jn2 (fun i => ∀ (y10 : Int32), RfX X l e below wI (i y10) 131 [none, none, none, some (tI x2), none, none, none] [tI y10, tI v8, tI p1, tR v7] A) ?_ (fun j9 hj9 => ?_)
      · intro y10
        refine rf_iadd X dX11_timeOfShared_131 ?_
        refine rf_bind (fun A11 hA11 => ?_)
        refine rf_iast X hA11 dX11_timeOfShared_132 ?_
        refine rf_iconst X (2 : Int32) rfl dX11_timeOfShared_133 ?_
        refine rf_iload_n X rfl dX11_timeOfShared_134 ?_
        refine rf_iadd X dX11_timeOfShared_135 ?_
        exact rf_iret X rfl dX11_timeOfShared_136
      refine rf_if_ne X (tgt := 130) rfl dX11_timeOfShared_123 (fun c12 => rf_neg c12 ?_) (fun c12 => rf_pos c12 ?_)
      · refine rf_iload_n X rfl dX11_timeOfShared_130 ?_
        exact rf_go (hj9 x2) (And.intro rfl True.intro)
      refine rf_iconst X (1 : Int32) rfl dX11_timeOfShared_126 ?_
      refine rf_goto X (tgt := 131) rfl dX11_timeOfShared_127 ?_
      exact rf_go (hj9 (1 : Int32)) (And.intro rfl True.intro)
    refine rf_iconst X (0 : Int32) rfl dX11_timeOfShared_14 ?_
    refine rf_istore X (ls' := [some (tR (some a0)), some (tI p1), some (tI p2), some (tI x2), some (tI x3), some (tI (0 : Int32)), none]) rfl (by decide) dX11_timeOfShared_15 ?_
    refine rf_iconst X (0 : Int32) rfl dX11_timeOfShared_17 ?_
    refine rf_istore X (ls' := [some (tR (some a0)), some (tI p1), some (tI p2), some (tI x2), some (tI x3), some (tI (0 : Int32)), some (tI (0 : Int32))]) rfl (by decide) dX11_timeOfShared_18 ?_
    refine rf_fix (fun i => ∀ (x14 : Int32) (x15 : Int32), RfX X l e below wI (i x14 x15) 20 [some (tR (some a0)), some (tI p1), some (tI p2), some (tI x2), some (tI x3), some (tI x14), some (tI x15)] [] A) (fun _ _ => rf_none) (fun rc16 hrc16 => ?_) (fun j13 hj13 => ?_)
    · intro x14 x15
      refine rf_iload X rfl dX11_timeOfShared_20 ?_
      refine rf_aload_n X rfl dX11_timeOfShared_22 ?_
      refine rf_bind (fun v17 hv17 => ?_)
      refine rf_getI X fl_X11_7 hv17 dX11_timeOfShared_23 ?_
      refine rf_icmp_ge X (tgt := 94) rfl dX11_timeOfShared_26 (fun c18 => rf_pos c18 ?_) (fun c18 => rf_neg c18 ?_)
      · refine rf_iload X rfl dX11_timeOfShared_94 ?_
        refine rf_iload_n X rfl dX11_timeOfShared_96 ?_
        refine rf_jn2 (fun i => ∀ (y20 : Int32), RfX X l e below wI (i y20) 106 [some (tR (some a0)), some (tI p1), some (tI p2), none, some (tI x3), none, none] [tI y20] A) ?_ (fun j19 hj19 => ?_)
        · intro y20
          refine rf_istore_n X (ls' := [some (tR (some a0)), some (tI p1), some (tI p2), some (tI y20), some (tI x3), none, none]) rfl (by decide) dX11_timeOfShared_106 ?_
          refine rf_iinc X (x3 + (1 : Int32)) rfl rfl (ls' := [some (tR (some a0)), some (tI p1), some (tI p2), some (tI y20), some (tI (x3 + (1 : Int32))), none, none]) rfl (by decide) dX11_timeOfShared_107 ?_
          refine rf_goto X (tgt := 5) rfl dX11_timeOfShared_110 ?_
          exact rf_go (hrc4 y20 (x3 + (1 : Int32))) (And.intro rfl (And.intro rfl (And.intro rfl (And.intro rfl (And.intro rfl True.intro)))))
        refine rf_icmp_le X (tgt := 105) rfl dX11_timeOfShared_97 (fun c21 => rf_pos c21 ?_) (fun c21 => rf_neg c21 ?_)
        · refine rf_iload_n X rfl dX11_timeOfShared_105 ?_
          exact rf_go (hj19 x2) (And.intro rfl (And.intro rfl (And.intro rfl (And.intro rfl True.intro))))
        refine rf_iload X rfl dX11_timeOfShared_100 ?_
        refine rf_goto X (tgt := 106) rfl dX11_timeOfShared_102 ?_
        exact rf_go (hj19 x14) (And.intro rfl (And.intro rfl (And.intro rfl (And.intro rfl True.intro))))
      refine rf_aload_n X rfl dX11_timeOfShared_29 ?_
      refine rf_bind (fun v22 hv22 => ?_)
      refine rf_getR X fl_X11_111 hv22 dX11_timeOfShared_30 ?_
      refine rf_iload X rfl dX11_timeOfShared_33 ?_
      refine rf_bind (fun v23 hv23 => ?_)
      refine rf_zald X hv23 dX11_timeOfShared_35 ?_
      refine rf_jn2 (fun i => ∀ (x25 : Int32), RfX X l e below wI (i x25) 88 [some (tR (some a0)), some (tI p1), some (tI p2), some (tI x2), some (tI x3), some (tI x25), some (tI x15)] [] A) ?_ (fun j24 hj24 => ?_)
      · intro x25
        refine rf_iinc X (x15 + (1 : Int32)) rfl rfl (ls' := [some (tR (some a0)), some (tI p1), some (tI p2), some (tI x2), some (tI x3), some (tI x25), some (tI (x15 + (1 : Int32)))]) rfl (by decide) dX11_timeOfShared_88 ?_
        refine rf_goto X (tgt := 20) rfl dX11_timeOfShared_91 ?_
        exact rf_go (hrc16 x25 (x15 + (1 : Int32))) (And.intro rfl (And.intro rfl (And.intro rfl (And.intro rfl (And.intro rfl (And.intro rfl (And.intro rfl True.intro)))))))
      refine rf_if_eq X (tgt := 88) rfl dX11_timeOfShared_36 (fun c26 => rf_pos c26 ?_) (fun c26 => rf_neg c26 ?_)
      · exact rf_go (hj24 x14) (And.intro rfl (And.intro rfl (And.intro rfl (And.intro rfl (And.intro rfl (And.intro rfl (And.intro rfl True.intro)))))))
      refine rf_aload_n X rfl dX11_timeOfShared_39 ?_
      refine rf_iload_n X rfl dX11_timeOfShared_40 ?_
      refine rf_iload X rfl dX11_timeOfShared_41 ?_
      refine rf_bind (fun v27 hv27 => ?_)
      refine rf_bind (fun g28 hg28 => ?_)
      refine rf_callVI X c_X11_316 ⟨Nat.le_of_ble_eq_true rfl, Nat.le_of_ble_eq_true rfl⟩ [tI p2, tI x15] rfl (Nat.le_of_ble_eq_true rfl) hv27 (sX11_asked l D v27 p2 x15 A g28 hg28) dX11_timeOfShared_43 ?_
      refine rf_aload_n X rfl dX11_timeOfShared_46 ?_
      refine rf_getI X fl_X11_19 hv5 dX11_timeOfShared_47 ?_
      refine rf_bind (fun v29 hv29 => ?_)
      refine rf_irem X (dz_spec hv29) dX11_timeOfShared_50 ?_
      refine rf_iload X rfl dX11_timeOfShared_51 ?_
      refine rf_icmp_eq X (tgt := 59) rfl dX11_timeOfShared_53 (fun c30 => rf_pos c30 ?_) (fun c30 => rf_neg c30 ?_)
      · refine rf_iload X rfl dX11_timeOfShared_59 ?_
        refine rf_aload_n X rfl dX11_timeOfShared_61 ?_
        refine rf_bind (fun v31 hv31 => ?_)
        refine rf_getI X fl_X11_220 hv31 dX11_timeOfShared_62 ?_
        refine rf_bipush X (53 : Int32) rfl dX11_timeOfShared_65 ?_
        refine rf_jn2 (fun i => ∀ (y33 : Int32), RfX X l e below wI (i y33) 85 [some (tR (some a0)), some (tI p1), some (tI p2), some (tI x2), some (tI x3), none, some (tI x15)] [tI y33, tI x14] A) ?_ (fun j32 hj32 => ?_)
        · intro y33
          refine rf_iadd X dX11_timeOfShared_85 ?_
          refine rf_istore X (ls' := [some (tR (some a0)), some (tI p1), some (tI p2), some (tI x2), some (tI x3), some (tI (x14 + y33)), some (tI x15)]) rfl (by decide) dX11_timeOfShared_86 ?_
          exact rf_go (hj24 (x14 + y33)) (And.intro rfl (And.intro rfl (And.intro rfl (And.intro rfl (And.intro rfl (And.intro rfl (And.intro rfl True.intro)))))))
        refine rf_jn2 (fun i => RfX X l e below wI i 80 [some (tR (some a0)), some (tI p1), some (tI p2), some (tI x2), some (tI x3), none, some (tI x15)] [tI x14] A) ?_ (fun j34 hj34 => ?_)
        · show RfX X l e below _ _ _ _ _ _
          refine rf_iconst X (1 : Int32) rfl dX11_timeOfShared_80 ?_
          refine rf_goto X (tgt := 85) rfl dX11_timeOfShared_81 ?_
          exact rf_go (hj32 (1 : Int32)) (And.intro rfl (And.intro rfl (And.intro rfl (And.intro rfl (And.intro rfl (And.intro rfl True.intro))))))
        refine rf_icmp_gt X (tgt := 80) rfl dX11_timeOfShared_67 (fun c35 => rf_pos c35 ?_) (fun c35 => rf_neg c35 ?_)
        · exact rf_go hj34 (And.intro rfl (And.intro rfl (And.intro rfl (And.intro rfl (And.intro rfl (And.intro rfl True.intro))))))
        refine rf_aload_n X rfl dX11_timeOfShared_70 ?_
        refine rf_iload_n X rfl dX11_timeOfShared_71 ?_
        refine rf_iload X rfl dX11_timeOfShared_72 ?_
        refine rf_bind (fun g36 hg36 => ?_)
        refine rf_callVI X c_X11_319 ⟨Nat.le_of_ble_eq_true rfl, Nat.le_of_ble_eq_true rfl⟩ [tI p2, tI x15] rfl (Nat.le_of_ble_eq_true rfl) hv27 (sX11_isAgain l D n v27 p2 x15 A g36 hg36) dX11_timeOfShared_74 ?_
        refine rf_if_ne X (tgt := 84) rfl dX11_timeOfShared_77 (fun c37 => rf_neg c37 ?_) (fun c37 => rf_pos c37 ?_)
        · refine rf_iconst X (0 : Int32) rfl dX11_timeOfShared_84 ?_
          exact rf_go (hj32 (0 : Int32)) (And.intro rfl (And.intro rfl (And.intro rfl (And.intro rfl (And.intro rfl (And.intro rfl True.intro))))))
        exact rf_go hj34 (And.intro rfl (And.intro rfl (And.intro rfl (And.intro rfl (And.intro rfl (And.intro rfl True.intro))))))
      refine rf_goto X (tgt := 88) rfl dX11_timeOfShared_56 ?_
      exact rf_go (hj24 x14) (And.intro rfl (And.intro rfl (And.intro rfl (And.intro rfl (And.intro rfl (And.intro rfl (And.intro rfl True.intro)))))))
    exact rf_go (hj13 (0 : Int32) (0 : Int32)) (And.intro rfl (And.intro rfl (And.intro rfl (And.intro rfl (And.intro rfl (And.intro rfl (And.intro rfl True.intro)))))))
  exact rf_go (hj1 (0 : Int32) (0 : Int32)) (And.intro rfl (And.intro rfl (And.intro rfl (And.intro rfl (And.intro rfl True.intro)))))

theorem dX11_isLineAgain_0 : decode cX11_isLineAgain 0 = .ok (.iconst 0, 1) := by decide +kernel
theorem dX11_isLineAgain_1 : decode cX11_isLineAgain 1 = .ok (.istore_n 3, 1) := by decide +kernel
theorem dX11_isLineAgain_2 : decode cX11_isLineAgain 2 = .ok (.iload_n 3, 1) := by decide +kernel
theorem dX11_isLineAgain_3 : decode cX11_isLineAgain 3 = .ok (.iload_n 2, 1) := by decide +kernel
theorem dX11_isLineAgain_4 : decode cX11_isLineAgain 4 = .ok (.if_icmp .ge 41, 3) := by decide +kernel
theorem dX11_isLineAgain_7 : decode cX11_isLineAgain 7 = .ok (.aload_n 0, 1) := by decide +kernel
theorem dX11_isLineAgain_8 : decode cX11_isLineAgain 8 = .ok (.getfield 111, 3) := by decide +kernel
theorem dX11_isLineAgain_11 : decode cX11_isLineAgain 11 = .ok (.iload_n 3, 1) := by decide +kernel
theorem dX11_isLineAgain_12 : decode cX11_isLineAgain 12 = .ok (.baload, 1) := by decide +kernel
theorem dX11_isLineAgain_13 : decode cX11_isLineAgain 13 = .ok (.ifCond .eq 26, 3) := by decide +kernel
theorem dX11_isLineAgain_16 : decode cX11_isLineAgain 16 = .ok (.aload_n 0, 1) := by decide +kernel
theorem dX11_isLineAgain_17 : decode cX11_isLineAgain 17 = .ok (.iload_n 1, 1) := by decide +kernel
theorem dX11_isLineAgain_18 : decode cX11_isLineAgain 18 = .ok (.iload_n 3, 1) := by decide +kernel
theorem dX11_isLineAgain_19 : decode cX11_isLineAgain 19 = .ok (.invokevirtual 316, 3) := by decide +kernel
theorem dX11_isLineAgain_22 : decode cX11_isLineAgain 22 = .ok (.bipush 8, 2) := by decide +kernel
theorem dX11_isLineAgain_24 : decode cX11_isLineAgain 24 = .ok (.idiv, 1) := by decide +kernel
theorem dX11_isLineAgain_25 : decode cX11_isLineAgain 25 = .ok (.aload_n 0, 1) := by decide +kernel
theorem dX11_isLineAgain_26 : decode cX11_isLineAgain 26 = .ok (.iload_n 1, 1) := by decide +kernel
theorem dX11_isLineAgain_27 : decode cX11_isLineAgain 27 = .ok (.iload_n 2, 1) := by decide +kernel
theorem dX11_isLineAgain_28 : decode cX11_isLineAgain 28 = .ok (.invokevirtual 316, 3) := by decide +kernel
theorem dX11_isLineAgain_31 : decode cX11_isLineAgain 31 = .ok (.bipush 8, 2) := by decide +kernel
theorem dX11_isLineAgain_33 : decode cX11_isLineAgain 33 = .ok (.idiv, 1) := by decide +kernel
theorem dX11_isLineAgain_34 : decode cX11_isLineAgain 34 = .ok (.if_icmp .ne 5, 3) := by decide +kernel
theorem dX11_isLineAgain_37 : decode cX11_isLineAgain 37 = .ok (.iconst 1, 1) := by decide +kernel
theorem dX11_isLineAgain_38 : decode cX11_isLineAgain 38 = .ok (.ireturn, 1) := by decide +kernel
theorem dX11_isLineAgain_39 : decode cX11_isLineAgain 39 = .ok (.iinc 3 1, 3) := by decide +kernel
theorem dX11_isLineAgain_42 : decode cX11_isLineAgain 42 = .ok (.goto (-40), 3) := by decide +kernel
theorem dX11_isLineAgain_45 : decode cX11_isLineAgain 45 = .ok (.iconst 0, 1) := by decide +kernel
theorem dX11_isLineAgain_46 : decode cX11_isLineAgain 46 = .ok (.ireturn, 1) := by decide +kernel
def fX11_isLineAgain (n : Nat) (a0 : Nat) (p1 : Int32) (p2 : Int32) (A : AH) : Option (Int32) :=
jl (fixG (fun _ => none) (fun (rc3 : (Int32) → Option (Int32)) (x2 : Int32) =>
if p2 ≤ x2 then (some (nb (0 : Int32))) else
(gR A (some a0) 11 51).bind fun v5 =>
(aZ A v5 x2).bind fun v6 =>
jn (rc3 (x2 + (1 : Int32))) fun j7 =>
if v6 = 0 then (j7) else
(rcv A (some a0) 11).bind fun v9 =>
(fX11_asked v9 p1 x2 A).bind fun g10 =>
(fX11_asked v9 p1 p2 A).bind fun g11 =>
if (g10 / (8 : Int32)) = (g11 / (8 : Int32)) then (some (nb (1 : Int32))) else
j7) n) fun j1 =>
j1 (0 : Int32)

set_option maxHeartbeats 4000000 in
set_option maxRecDepth 100000 in
theorem sX11_isLineAgain (l : Launch) (D : DE) (n : Nat) (a0 : Nat) (p1 : Int32) (p2 : Int32) (A : AH) (g : Int32) (hg : fX11_isLineAgain n a0 p1 p2 A = some g) : Sm l D yX11_isLineAgain cX11_isLineAgain 4 (some Jvm.ClassFile.FieldType.boolean) 2 44 [tR (some a0), tI p1, tI p2] A (qI A g).1 (qI A g).2 := by
  refine Sm.of (ω := qI A) (fX11_isLineAgain n a0 p1 p2 A) [some (tR (some a0)), some (tI p1), some (tI p2), none] (by decide) (Nat.le_of_ble_eq_true rfl) rfl hg ?_
  intro p e R s m args below meth c X hin
  have X : Cx D cX11_isLineAgain RX11 4 2 44 (some Jvm.ClassFile.FieldType.boolean) p R s m args meth c := X
  unfold fX11_isLineAgain
  refine rf_iconst X (0 : Int32) rfl dX11_isLineAgain_0 ?_
  refine rf_istore_n X (ls' := [some (tR (some a0)), some (tI p1), some (tI p2), some (tI (0 : Int32))]) rfl (by decide) dX11_isLineAgain_1 ?_
  refine rf_fix (fun i => ∀ (x2 : Int32), RfX X l e below (qI A) (i x2) 2 [some (tR (some a0)), some (tI p1), some (tI p2), some (tI x2)] [] A) (fun _ => rf_none) (fun rc3 hrc3 => ?_) (fun j1 hj1 => ?_)
  · intro x2
    refine rf_iload_n X rfl dX11_isLineAgain_2 ?_
    refine rf_iload_n X rfl dX11_isLineAgain_3 ?_
    refine rf_icmp_ge X (tgt := 45) rfl dX11_isLineAgain_4 (fun c4 => rf_pos c4 ?_) (fun c4 => rf_neg c4 ?_)
    · refine rf_iconst X (0 : Int32) rfl dX11_isLineAgain_45 ?_
      exact rf_zret X rfl dX11_isLineAgain_46
    refine rf_aload_n X rfl dX11_isLineAgain_7 ?_
    refine rf_bind (fun v5 hv5 => ?_)
    refine rf_getR X fl_X11_111 hv5 dX11_isLineAgain_8 ?_
    refine rf_iload_n X rfl dX11_isLineAgain_11 ?_
    refine rf_bind (fun v6 hv6 => ?_)
    refine rf_zald X hv6 dX11_isLineAgain_12 ?_
    refine rf_jn2 (fun i => RfX X l e below (qI A) i 39 [some (tR (some a0)), some (tI p1), some (tI p2), some (tI x2)] [] A) ?_ (fun j7 hj7 => ?_)
    · show RfX X l e below _ _ _ _ _ _
      refine rf_iinc X (x2 + (1 : Int32)) rfl rfl (ls' := [some (tR (some a0)), some (tI p1), some (tI p2), some (tI (x2 + (1 : Int32)))]) rfl (by decide) dX11_isLineAgain_39 ?_
      refine rf_goto X (tgt := 2) rfl dX11_isLineAgain_42 ?_
      exact rf_go (hrc3 (x2 + (1 : Int32))) (And.intro rfl (And.intro rfl (And.intro rfl (And.intro rfl True.intro))))
    refine rf_if_eq X (tgt := 39) rfl dX11_isLineAgain_13 (fun c8 => rf_pos c8 ?_) (fun c8 => rf_neg c8 ?_)
    · exact rf_go hj7 (And.intro rfl (And.intro rfl (And.intro rfl (And.intro rfl True.intro))))
    refine rf_aload_n X rfl dX11_isLineAgain_16 ?_
    refine rf_iload_n X rfl dX11_isLineAgain_17 ?_
    refine rf_iload_n X rfl dX11_isLineAgain_18 ?_
    refine rf_bind (fun v9 hv9 => ?_)
    refine rf_bind (fun g10 hg10 => ?_)
    refine rf_callVI X c_X11_316 ⟨Nat.le_of_ble_eq_true rfl, Nat.le_of_ble_eq_true rfl⟩ [tI p1, tI x2] rfl (Nat.le_of_ble_eq_true rfl) hv9 (sX11_asked l D v9 p1 x2 A g10 hg10) dX11_isLineAgain_19 ?_
    refine rf_bipush X (8 : Int32) rfl dX11_isLineAgain_22 ?_
    refine rf_idiv X (by decide) dX11_isLineAgain_24 ?_
    refine rf_aload_n X rfl dX11_isLineAgain_25 ?_
    refine rf_iload_n X rfl dX11_isLineAgain_26 ?_
    refine rf_iload_n X rfl dX11_isLineAgain_27 ?_
    refine rf_bind (fun g11 hg11 => ?_)
    refine rf_callVI X c_X11_316 ⟨Nat.le_of_ble_eq_true rfl, Nat.le_of_ble_eq_true rfl⟩ [tI p1, tI p2] rfl (Nat.le_of_ble_eq_true rfl) hv9 (sX11_asked l D v9 p1 p2 A g11 hg11) dX11_isLineAgain_28 ?_
    refine rf_bipush X (8 : Int32) rfl dX11_isLineAgain_31 ?_
    refine rf_idiv X (by decide) dX11_isLineAgain_33 ?_
    refine rf_icmp_ne X (tgt := 39) rfl dX11_isLineAgain_34 (fun c12 => rf_neg c12 ?_) (fun c12 => rf_pos c12 ?_)
    · exact rf_go hj7 (And.intro rfl (And.intro rfl (And.intro rfl (And.intro rfl True.intro))))
    refine rf_iconst X (1 : Int32) rfl dX11_isLineAgain_37 ?_
    exact rf_zret X rfl dX11_isLineAgain_38
  exact rf_go (hj1 (0 : Int32)) (And.intro rfl (And.intro rfl (And.intro rfl (And.intro rfl True.intro))))

theorem dX11_timeOfGlobal_0 : decode cX11_timeOfGlobal 0 = .ok (.aload_n 0, 1) := by decide +kernel
theorem dX11_timeOfGlobal_1 : decode cX11_timeOfGlobal 1 = .ok (.getfield 159, 3) := by decide +kernel
theorem dX11_timeOfGlobal_4 : decode cX11_timeOfGlobal 4 = .ok (.iconst 1, 1) := by decide +kernel
theorem dX11_timeOfGlobal_5 : decode cX11_timeOfGlobal 5 = .ok (.iadd, 1) := by decide +kernel
theorem dX11_timeOfGlobal_6 : decode cX11_timeOfGlobal 6 = .ok (.istore_n 2, 1) := by decide +kernel
theorem dX11_timeOfGlobal_7 : decode cX11_timeOfGlobal 7 = .ok (.iconst 0, 1) := by decide +kernel
theorem dX11_timeOfGlobal_8 : decode cX11_timeOfGlobal 8 = .ok (.istore_n 3, 1) := by decide +kernel
theorem dX11_timeOfGlobal_9 : decode cX11_timeOfGlobal 9 = .ok (.iconst 0, 1) := by decide +kernel
theorem dX11_timeOfGlobal_10 : decode cX11_timeOfGlobal 10 = .ok (.istore 4, 2) := by decide +kernel
theorem dX11_timeOfGlobal_12 : decode cX11_timeOfGlobal 12 = .ok (.iload 4, 2) := by decide +kernel
theorem dX11_timeOfGlobal_14 : decode cX11_timeOfGlobal 14 = .ok (.aload_n 0, 1) := by decide +kernel
theorem dX11_timeOfGlobal_15 : decode cX11_timeOfGlobal 15 = .ok (.getfield 7, 3) := by decide +kernel
theorem dX11_timeOfGlobal_18 : decode cX11_timeOfGlobal 18 = .ok (.if_icmp .ge 324, 3) := by decide +kernel
theorem dX11_timeOfGlobal_21 : decode cX11_timeOfGlobal 21 = .ok (.aload_n 0, 1) := by decide +kernel
theorem dX11_timeOfGlobal_22 : decode cX11_timeOfGlobal 22 = .ok (.getfield 111, 3) := by decide +kernel
theorem dX11_timeOfGlobal_25 : decode cX11_timeOfGlobal 25 = .ok (.iload 4, 2) := by decide +kernel
theorem dX11_timeOfGlobal_27 : decode cX11_timeOfGlobal 27 = .ok (.baload, 1) := by decide +kernel
theorem dX11_timeOfGlobal_28 : decode cX11_timeOfGlobal 28 = .ok (.ifCond .ne 6, 3) := by decide +kernel
theorem dX11_timeOfGlobal_31 : decode cX11_timeOfGlobal 31 = .ok (.goto 305, 3) := by decide +kernel
theorem dX11_timeOfGlobal_34 : decode cX11_timeOfGlobal 34 = .ok (.iload_n 3, 1) := by decide +kernel
theorem dX11_timeOfGlobal_35 : decode cX11_timeOfGlobal 35 = .ok (.aload_n 0, 1) := by decide +kernel
theorem dX11_timeOfGlobal_36 : decode cX11_timeOfGlobal 36 = .ok (.getfield 220, 3) := by decide +kernel
theorem dX11_timeOfGlobal_39 : decode cX11_timeOfGlobal 39 = .ok (.bipush 53, 2) := by decide +kernel
theorem dX11_timeOfGlobal_41 : decode cX11_timeOfGlobal 41 = .ok (.if_icmp .le 17, 3) := by decide +kernel
theorem dX11_timeOfGlobal_44 : decode cX11_timeOfGlobal 44 = .ok (.aload_n 0, 1) := by decide +kernel
theorem dX11_timeOfGlobal_45 : decode cX11_timeOfGlobal 45 = .ok (.iload_n 1, 1) := by decide +kernel
theorem dX11_timeOfGlobal_46 : decode cX11_timeOfGlobal 46 = .ok (.iload 4, 2) := by decide +kernel
theorem dX11_timeOfGlobal_48 : decode cX11_timeOfGlobal 48 = .ok (.invokevirtual 319, 3) := by decide +kernel
theorem dX11_timeOfGlobal_51 : decode cX11_timeOfGlobal 51 = .ok (.ifCond .eq 7, 3) := by decide +kernel
theorem dX11_timeOfGlobal_54 : decode cX11_timeOfGlobal 54 = .ok (.iconst 1, 1) := by decide +kernel
theorem dX11_timeOfGlobal_55 : decode cX11_timeOfGlobal 55 = .ok (.goto 4, 3) := by decide +kernel
theorem dX11_timeOfGlobal_58 : decode cX11_timeOfGlobal 58 = .ok (.iconst 0, 1) := by decide +kernel
theorem dX11_timeOfGlobal_59 : decode cX11_timeOfGlobal 59 = .ok (.iadd, 1) := by decide +kernel
theorem dX11_timeOfGlobal_60 : decode cX11_timeOfGlobal 60 = .ok (.istore_n 3, 1) := by decide +kernel
theorem dX11_timeOfGlobal_61 : decode cX11_timeOfGlobal 61 = .ok (.aload_n 0, 1) := by decide +kernel
theorem dX11_timeOfGlobal_62 : decode cX11_timeOfGlobal 62 = .ok (.iload_n 1, 1) := by decide +kernel
theorem dX11_timeOfGlobal_63 : decode cX11_timeOfGlobal 63 = .ok (.iload 4, 2) := by decide +kernel
theorem dX11_timeOfGlobal_65 : decode cX11_timeOfGlobal 65 = .ok (.invokevirtual 316, 3) := by decide +kernel
theorem dX11_timeOfGlobal_68 : decode cX11_timeOfGlobal 68 = .ok (.bipush 8, 2) := by decide +kernel
theorem dX11_timeOfGlobal_70 : decode cX11_timeOfGlobal 70 = .ok (.idiv, 1) := by decide +kernel
theorem dX11_timeOfGlobal_71 : decode cX11_timeOfGlobal 71 = .ok (.istore 5, 2) := by decide +kernel
theorem dX11_timeOfGlobal_73 : decode cX11_timeOfGlobal 73 = .ok (.aload_n 0, 1) := by decide +kernel
theorem dX11_timeOfGlobal_74 : decode cX11_timeOfGlobal 74 = .ok (.iload_n 1, 1) := by decide +kernel
theorem dX11_timeOfGlobal_75 : decode cX11_timeOfGlobal 75 = .ok (.iload 4, 2) := by decide +kernel
theorem dX11_timeOfGlobal_77 : decode cX11_timeOfGlobal 77 = .ok (.invokevirtual 322, 3) := by decide +kernel
theorem dX11_timeOfGlobal_80 : decode cX11_timeOfGlobal 80 = .ok (.ifCond .eq 71, 3) := by decide +kernel
theorem dX11_timeOfGlobal_83 : decode cX11_timeOfGlobal 83 = .ok (.iconst 0, 1) := by decide +kernel
theorem dX11_timeOfGlobal_84 : decode cX11_timeOfGlobal 84 = .ok (.istore 6, 2) := by decide +kernel
theorem dX11_timeOfGlobal_86 : decode cX11_timeOfGlobal 86 = .ok (.iload 6, 2) := by decide +kernel
theorem dX11_timeOfGlobal_88 : decode cX11_timeOfGlobal 88 = .ok (.iload 4, 2) := by decide +kernel
theorem dX11_timeOfGlobal_90 : decode cX11_timeOfGlobal 90 = .ok (.if_icmp .ge 58, 3) := by decide +kernel
theorem dX11_timeOfGlobal_93 : decode cX11_timeOfGlobal 93 = .ok (.aload_n 0, 1) := by decide +kernel
theorem dX11_timeOfGlobal_94 : decode cX11_timeOfGlobal 94 = .ok (.getfield 105, 3) := by decide +kernel
theorem dX11_timeOfGlobal_97 : decode cX11_timeOfGlobal 97 = .ok (.iload 4, 2) := by decide +kernel
theorem dX11_timeOfGlobal_99 : decode cX11_timeOfGlobal 99 = .ok (.aload_n 0, 1) := by decide +kernel
theorem dX11_timeOfGlobal_100 : decode cX11_timeOfGlobal 100 = .ok (.getfield 111, 3) := by decide +kernel
theorem dX11_timeOfGlobal_103 : decode cX11_timeOfGlobal 103 = .ok (.iload 6, 2) := by decide +kernel
theorem dX11_timeOfGlobal_105 : decode cX11_timeOfGlobal 105 = .ok (.baload, 1) := by decide +kernel
theorem dX11_timeOfGlobal_106 : decode cX11_timeOfGlobal 106 = .ok (.ifCond .eq 28, 3) := by decide +kernel
theorem dX11_timeOfGlobal_109 : decode cX11_timeOfGlobal 109 = .ok (.aload_n 0, 1) := by decide +kernel
theorem dX11_timeOfGlobal_110 : decode cX11_timeOfGlobal 110 = .ok (.iload_n 1, 1) := by decide +kernel
theorem dX11_timeOfGlobal_111 : decode cX11_timeOfGlobal 111 = .ok (.iload 6, 2) := by decide +kernel
theorem dX11_timeOfGlobal_113 : decode cX11_timeOfGlobal 113 = .ok (.invokevirtual 316, 3) := by decide +kernel
theorem dX11_timeOfGlobal_116 : decode cX11_timeOfGlobal 116 = .ok (.bipush 8, 2) := by decide +kernel
theorem dX11_timeOfGlobal_118 : decode cX11_timeOfGlobal 118 = .ok (.idiv, 1) := by decide +kernel
theorem dX11_timeOfGlobal_119 : decode cX11_timeOfGlobal 119 = .ok (.iload 5, 2) := by decide +kernel
theorem dX11_timeOfGlobal_121 : decode cX11_timeOfGlobal 121 = .ok (.if_icmp .ne 13, 3) := by decide +kernel
theorem dX11_timeOfGlobal_124 : decode cX11_timeOfGlobal 124 = .ok (.aload_n 0, 1) := by decide +kernel
theorem dX11_timeOfGlobal_125 : decode cX11_timeOfGlobal 125 = .ok (.getfield 105, 3) := by decide +kernel
theorem dX11_timeOfGlobal_128 : decode cX11_timeOfGlobal 128 = .ok (.iload 6, 2) := by decide +kernel
theorem dX11_timeOfGlobal_130 : decode cX11_timeOfGlobal 130 = .ok (.iaload, 1) := by decide +kernel
theorem dX11_timeOfGlobal_131 : decode cX11_timeOfGlobal 131 = .ok (.goto 10, 3) := by decide +kernel
theorem dX11_timeOfGlobal_134 : decode cX11_timeOfGlobal 134 = .ok (.aload_n 0, 1) := by decide +kernel
theorem dX11_timeOfGlobal_135 : decode cX11_timeOfGlobal 135 = .ok (.getfield 105, 3) := by decide +kernel
theorem dX11_timeOfGlobal_138 : decode cX11_timeOfGlobal 138 = .ok (.iload 4, 2) := by decide +kernel
theorem dX11_timeOfGlobal_140 : decode cX11_timeOfGlobal 140 = .ok (.iaload, 1) := by decide +kernel
theorem dX11_timeOfGlobal_141 : decode cX11_timeOfGlobal 141 = .ok (.iastore, 1) := by decide +kernel
theorem dX11_timeOfGlobal_142 : decode cX11_timeOfGlobal 142 = .ok (.iinc 6 1, 3) := by decide +kernel
theorem dX11_timeOfGlobal_145 : decode cX11_timeOfGlobal 145 = .ok (.goto (-59), 3) := by decide +kernel
theorem dX11_timeOfGlobal_148 : decode cX11_timeOfGlobal 148 = .ok (.goto 188, 3) := by decide +kernel
theorem dX11_timeOfGlobal_151 : decode cX11_timeOfGlobal 151 = .ok (.iload 5, 2) := by decide +kernel
theorem dX11_timeOfGlobal_153 : decode cX11_timeOfGlobal 153 = .ok (.aload_n 0, 1) := by decide +kernel
theorem dX11_timeOfGlobal_154 : decode cX11_timeOfGlobal 154 = .ok (.getfield 22, 3) := by decide +kernel
theorem dX11_timeOfGlobal_157 : decode cX11_timeOfGlobal 157 = .ok (.irem, 1) := by decide +kernel
theorem dX11_timeOfGlobal_158 : decode cX11_timeOfGlobal 158 = .ok (.istore 6, 2) := by decide +kernel
theorem dX11_timeOfGlobal_160 : decode cX11_timeOfGlobal 160 = .ok (.iconst 4, 1) := by decide +kernel
theorem dX11_timeOfGlobal_161 : decode cX11_timeOfGlobal 161 = .ok (.iload 6, 2) := by decide +kernel
theorem dX11_timeOfGlobal_163 : decode cX11_timeOfGlobal 163 = .ok (.imul, 1) := by decide +kernel
theorem dX11_timeOfGlobal_164 : decode cX11_timeOfGlobal 164 = .ok (.iload 5, 2) := by decide +kernel
theorem dX11_timeOfGlobal_166 : decode cX11_timeOfGlobal 166 = .ok (.aload_n 0, 1) := by decide +kernel
theorem dX11_timeOfGlobal_167 : decode cX11_timeOfGlobal 167 = .ok (.getfield 22, 3) := by decide +kernel
theorem dX11_timeOfGlobal_170 : decode cX11_timeOfGlobal 170 = .ok (.idiv, 1) := by decide +kernel
theorem dX11_timeOfGlobal_171 : decode cX11_timeOfGlobal 171 = .ok (.iconst 4, 1) := by decide +kernel
theorem dX11_timeOfGlobal_172 : decode cX11_timeOfGlobal 172 = .ok (.irem, 1) := by decide +kernel
theorem dX11_timeOfGlobal_173 : decode cX11_timeOfGlobal 173 = .ok (.iadd, 1) := by decide +kernel
theorem dX11_timeOfGlobal_174 : decode cX11_timeOfGlobal 174 = .ok (.istore 7, 2) := by decide +kernel
theorem dX11_timeOfGlobal_176 : decode cX11_timeOfGlobal 176 = .ok (.aload_n 0, 1) := by decide +kernel
theorem dX11_timeOfGlobal_177 : decode cX11_timeOfGlobal 177 = .ok (.getfield 39, 3) := by decide +kernel
theorem dX11_timeOfGlobal_180 : decode cX11_timeOfGlobal 180 = .ok (.iload 6, 2) := by decide +kernel
theorem dX11_timeOfGlobal_182 : decode cX11_timeOfGlobal 182 = .ok (.iaload, 1) := by decide +kernel
theorem dX11_timeOfGlobal_183 : decode cX11_timeOfGlobal 183 = .ok (.aload_n 0, 1) := by decide +kernel
theorem dX11_timeOfGlobal_184 : decode cX11_timeOfGlobal 184 = .ok (.getfield 159, 3) := by decide +kernel
theorem dX11_timeOfGlobal_187 : decode cX11_timeOfGlobal 187 = .ok (.if_icmp .le 13, 3) := by decide +kernel
theorem dX11_timeOfGlobal_190 : decode cX11_timeOfGlobal 190 = .ok (.aload_n 0, 1) := by decide +kernel
theorem dX11_timeOfGlobal_191 : decode cX11_timeOfGlobal 191 = .ok (.getfield 39, 3) := by decide +kernel
theorem dX11_timeOfGlobal_194 : decode cX11_timeOfGlobal 194 = .ok (.iload 6, 2) := by decide +kernel
theorem dX11_timeOfGlobal_196 : decode cX11_timeOfGlobal 196 = .ok (.iaload, 1) := by decide +kernel
theorem dX11_timeOfGlobal_197 : decode cX11_timeOfGlobal 197 = .ok (.goto 7, 3) := by decide +kernel
theorem dX11_timeOfGlobal_200 : decode cX11_timeOfGlobal 200 = .ok (.aload_n 0, 1) := by decide +kernel
theorem dX11_timeOfGlobal_201 : decode cX11_timeOfGlobal 201 = .ok (.getfield 159, 3) := by decide +kernel
theorem dX11_timeOfGlobal_204 : decode cX11_timeOfGlobal 204 = .ok (.istore 8, 2) := by decide +kernel
theorem dX11_timeOfGlobal_206 : decode cX11_timeOfGlobal 206 = .ok (.aload_n 0, 1) := by decide +kernel
theorem dX11_timeOfGlobal_207 : decode cX11_timeOfGlobal 207 = .ok (.getfield 36, 3) := by decide +kernel
theorem dX11_timeOfGlobal_210 : decode cX11_timeOfGlobal 210 = .ok (.iload 7, 2) := by decide +kernel
theorem dX11_timeOfGlobal_212 : decode cX11_timeOfGlobal 212 = .ok (.iaload, 1) := by decide +kernel
theorem dX11_timeOfGlobal_213 : decode cX11_timeOfGlobal 213 = .ok (.iload 5, 2) := by decide +kernel
theorem dX11_timeOfGlobal_215 : decode cX11_timeOfGlobal 215 = .ok (.if_icmp .ne 7, 3) := by decide +kernel
theorem dX11_timeOfGlobal_218 : decode cX11_timeOfGlobal 218 = .ok (.iconst 1, 1) := by decide +kernel
theorem dX11_timeOfGlobal_219 : decode cX11_timeOfGlobal 219 = .ok (.goto 4, 3) := by decide +kernel
theorem dX11_timeOfGlobal_222 : decode cX11_timeOfGlobal 222 = .ok (.iconst 0, 1) := by decide +kernel
theorem dX11_timeOfGlobal_223 : decode cX11_timeOfGlobal 223 = .ok (.istore 9, 2) := by decide +kernel
theorem dX11_timeOfGlobal_225 : decode cX11_timeOfGlobal 225 = .ok (.aload_n 0, 1) := by decide +kernel
theorem dX11_timeOfGlobal_226 : decode cX11_timeOfGlobal 226 = .ok (.getfield 36, 3) := by decide +kernel
theorem dX11_timeOfGlobal_229 : decode cX11_timeOfGlobal 229 = .ok (.iload 7, 2) := by decide +kernel
theorem dX11_timeOfGlobal_231 : decode cX11_timeOfGlobal 231 = .ok (.iload 5, 2) := by decide +kernel
theorem dX11_timeOfGlobal_233 : decode cX11_timeOfGlobal 233 = .ok (.iastore, 1) := by decide +kernel
theorem dX11_timeOfGlobal_234 : decode cX11_timeOfGlobal 234 = .ok (.aload_n 0, 1) := by decide +kernel
theorem dX11_timeOfGlobal_235 : decode cX11_timeOfGlobal 235 = .ok (.dup, 1) := by decide +kernel
theorem dX11_timeOfGlobal_236 : decode cX11_timeOfGlobal 236 = .ok (.getfield 171, 3) := by decide +kernel
theorem dX11_timeOfGlobal_239 : decode cX11_timeOfGlobal 239 = .ok (.iload 9, 2) := by decide +kernel
theorem dX11_timeOfGlobal_241 : decode cX11_timeOfGlobal 241 = .ok (.ifCond .eq 7, 3) := by decide +kernel
theorem dX11_timeOfGlobal_244 : decode cX11_timeOfGlobal 244 = .ok (.iconst 1, 1) := by decide +kernel
theorem dX11_timeOfGlobal_245 : decode cX11_timeOfGlobal 245 = .ok (.goto 4, 3) := by decide +kernel
theorem dX11_timeOfGlobal_248 : decode cX11_timeOfGlobal 248 = .ok (.iconst 0, 1) := by decide +kernel
theorem dX11_timeOfGlobal_249 : decode cX11_timeOfGlobal 249 = .ok (.iadd, 1) := by decide +kernel
theorem dX11_timeOfGlobal_250 : decode cX11_timeOfGlobal 250 = .ok (.putfield 171, 3) := by decide +kernel
theorem dX11_timeOfGlobal_253 : decode cX11_timeOfGlobal 253 = .ok (.aload_n 0, 1) := by decide +kernel
theorem dX11_timeOfGlobal_254 : decode cX11_timeOfGlobal 254 = .ok (.dup, 1) := by decide +kernel
theorem dX11_timeOfGlobal_255 : decode cX11_timeOfGlobal 255 = .ok (.getfield 174, 3) := by decide +kernel
theorem dX11_timeOfGlobal_258 : decode cX11_timeOfGlobal 258 = .ok (.iload 9, 2) := by decide +kernel
theorem dX11_timeOfGlobal_260 : decode cX11_timeOfGlobal 260 = .ok (.ifCond .eq 7, 3) := by decide +kernel
theorem dX11_timeOfGlobal_263 : decode cX11_timeOfGlobal 263 = .ok (.iconst 0, 1) := by decide +kernel
theorem dX11_timeOfGlobal_264 : decode cX11_timeOfGlobal 264 = .ok (.goto 4, 3) := by decide +kernel
theorem dX11_timeOfGlobal_267 : decode cX11_timeOfGlobal 267 = .ok (.iconst 1, 1) := by decide +kernel
theorem dX11_timeOfGlobal_268 : decode cX11_timeOfGlobal 268 = .ok (.iadd, 1) := by decide +kernel
theorem dX11_timeOfGlobal_269 : decode cX11_timeOfGlobal 269 = .ok (.putfield 174, 3) := by decide +kernel
theorem dX11_timeOfGlobal_272 : decode cX11_timeOfGlobal 272 = .ok (.aload_n 0, 1) := by decide +kernel
theorem dX11_timeOfGlobal_273 : decode cX11_timeOfGlobal 273 = .ok (.getfield 39, 3) := by decide +kernel
theorem dX11_timeOfGlobal_276 : decode cX11_timeOfGlobal 276 = .ok (.iload 6, 2) := by decide +kernel
theorem dX11_timeOfGlobal_278 : decode cX11_timeOfGlobal 278 = .ok (.iload 8, 2) := by decide +kernel
theorem dX11_timeOfGlobal_280 : decode cX11_timeOfGlobal 280 = .ok (.iload 9, 2) := by decide +kernel
theorem dX11_timeOfGlobal_282 : decode cX11_timeOfGlobal 282 = .ok (.ifCond .eq 7, 3) := by decide +kernel
theorem dX11_timeOfGlobal_285 : decode cX11_timeOfGlobal 285 = .ok (.iconst 1, 1) := by decide +kernel
theorem dX11_timeOfGlobal_286 : decode cX11_timeOfGlobal 286 = .ok (.goto 4, 3) := by decide +kernel
theorem dX11_timeOfGlobal_289 : decode cX11_timeOfGlobal 289 = .ok (.iconst 5, 1) := by decide +kernel
theorem dX11_timeOfGlobal_290 : decode cX11_timeOfGlobal 290 = .ok (.iadd, 1) := by decide +kernel
theorem dX11_timeOfGlobal_291 : decode cX11_timeOfGlobal 291 = .ok (.iastore, 1) := by decide +kernel
theorem dX11_timeOfGlobal_292 : decode cX11_timeOfGlobal 292 = .ok (.aload_n 0, 1) := by decide +kernel
theorem dX11_timeOfGlobal_293 : decode cX11_timeOfGlobal 293 = .ok (.getfield 105, 3) := by decide +kernel
theorem dX11_timeOfGlobal_296 : decode cX11_timeOfGlobal 296 = .ok (.iload 4, 2) := by decide +kernel
theorem dX11_timeOfGlobal_298 : decode cX11_timeOfGlobal 298 = .ok (.iload 8, 2) := by decide +kernel
theorem dX11_timeOfGlobal_300 : decode cX11_timeOfGlobal 300 = .ok (.iload 9, 2) := by decide +kernel
theorem dX11_timeOfGlobal_302 : decode cX11_timeOfGlobal 302 = .ok (.ifCond .eq 7, 3) := by decide +kernel
theorem dX11_timeOfGlobal_305 : decode cX11_timeOfGlobal 305 = .ok (.iconst 4, 1) := by decide +kernel
theorem dX11_timeOfGlobal_306 : decode cX11_timeOfGlobal 306 = .ok (.goto 5, 3) := by decide +kernel
theorem dX11_timeOfGlobal_309 : decode cX11_timeOfGlobal 309 = .ok (.bipush 12, 2) := by decide +kernel
theorem dX11_timeOfGlobal_311 : decode cX11_timeOfGlobal 311 = .ok (.iadd, 1) := by decide +kernel
theorem dX11_timeOfGlobal_312 : decode cX11_timeOfGlobal 312 = .ok (.iastore, 1) := by decide +kernel
theorem dX11_timeOfGlobal_313 : decode cX11_timeOfGlobal 313 = .ok (.aload_n 0, 1) := by decide +kernel
theorem dX11_timeOfGlobal_314 : decode cX11_timeOfGlobal 314 = .ok (.getfield 105, 3) := by decide +kernel
theorem dX11_timeOfGlobal_317 : decode cX11_timeOfGlobal 317 = .ok (.iload 4, 2) := by decide +kernel
theorem dX11_timeOfGlobal_319 : decode cX11_timeOfGlobal 319 = .ok (.iaload, 1) := by decide +kernel
theorem dX11_timeOfGlobal_320 : decode cX11_timeOfGlobal 320 = .ok (.iload_n 2, 1) := by decide +kernel
theorem dX11_timeOfGlobal_321 : decode cX11_timeOfGlobal 321 = .ok (.if_icmp .le 13, 3) := by decide +kernel
theorem dX11_timeOfGlobal_324 : decode cX11_timeOfGlobal 324 = .ok (.aload_n 0, 1) := by decide +kernel
theorem dX11_timeOfGlobal_325 : decode cX11_timeOfGlobal 325 = .ok (.getfield 105, 3) := by decide +kernel
theorem dX11_timeOfGlobal_328 : decode cX11_timeOfGlobal 328 = .ok (.iload 4, 2) := by decide +kernel
theorem dX11_timeOfGlobal_330 : decode cX11_timeOfGlobal 330 = .ok (.iaload, 1) := by decide +kernel
theorem dX11_timeOfGlobal_331 : decode cX11_timeOfGlobal 331 = .ok (.goto 4, 3) := by decide +kernel
theorem dX11_timeOfGlobal_334 : decode cX11_timeOfGlobal 334 = .ok (.iload_n 2, 1) := by decide +kernel
theorem dX11_timeOfGlobal_335 : decode cX11_timeOfGlobal 335 = .ok (.istore_n 2, 1) := by decide +kernel
theorem dX11_timeOfGlobal_336 : decode cX11_timeOfGlobal 336 = .ok (.iinc 4 1, 3) := by decide +kernel
theorem dX11_timeOfGlobal_339 : decode cX11_timeOfGlobal 339 = .ok (.goto (-327), 3) := by decide +kernel
theorem dX11_timeOfGlobal_342 : decode cX11_timeOfGlobal 342 = .ok (.iload_n 2, 1) := by decide +kernel
theorem dX11_timeOfGlobal_343 : decode cX11_timeOfGlobal 343 = .ok (.aload_n 0, 1) := by decide +kernel
theorem dX11_timeOfGlobal_344 : decode cX11_timeOfGlobal 344 = .ok (.getfield 159, 3) := by decide +kernel
theorem dX11_timeOfGlobal_347 : decode cX11_timeOfGlobal 347 = .ok (.isub, 1) := by decide +kernel
theorem dX11_timeOfGlobal_348 : decode cX11_timeOfGlobal 348 = .ok (.iload_n 3, 1) := by decide +kernel
theorem dX11_timeOfGlobal_349 : decode cX11_timeOfGlobal 349 = .ok (.iadd, 1) := by decide +kernel
theorem dX11_timeOfGlobal_350 : decode cX11_timeOfGlobal 350 = .ok (.ireturn, 1) := by decide +kernel
def fX11_timeOfGlobal (n : Nat) (a0 : Nat) (p1 : Int32) (A : AH) : Option (Int32 × AH) :=
(gI A (some a0) 11 15).bind fun v1 =>
jl (fixG (fun _ _ _ _ => none) (fun (rc7 : (Int32) → (Int32) → (Int32) → (AH) → Option (Int32 × AH)) (x3 : Int32) (x4 : Int32) (x5 : Int32) (A6 : AH) =>
(gI A6 (some a0) 11 1).bind fun v8 =>
if v8 ≤ x5 then ((gI A6 (some a0) 11 15).bind fun v10 =>
some (((x3 - v10) + x4), A6)) else
(gR A6 (some a0) 11 51).bind fun v11 =>
(aZ A6 v11 x5).bind fun v12 =>
jn (fun (x14 : Int32) (x15 : Int32) (A16 : AH) =>
rc7 x14 x15 (x5 + (1 : Int32)) A16) fun j13 =>
if v12 = 0 then (j13 x3 x4 A6) else
(gI A6 (some a0) 11 52).bind fun v18 =>
jn (fun (y20 : Int32) =>
(rcv A6 (some a0) 11).bind fun v21 =>
(fX11_asked v21 p1 x5 A6).bind fun g22 =>
(fX11_isLineAgain n v21 p1 x5 A6).bind fun g23 =>
if g23 = 0 then ((gI A6 (some a0) 11 5).bind fun v25 =>
(dz v25).bind fun v26 =>
(gR A6 (some a0) 11 10).bind fun v27 =>
(aI A6 v27 ((g22 / (8 : Int32)) - (g22 / (8 : Int32)) / v25 * v25)).bind fun v28 =>
(gI A6 (some a0) 11 15).bind fun v29 =>
jn (fun (y31 : Int32) =>
(gR A6 (some a0) 11 9).bind fun v32 =>
(aI A6 v32 (((4 : Int32) * ((g22 / (8 : Int32)) - (g22 / (8 : Int32)) / v25 * v25)) + (((g22 / (8 : Int32)) / v25) - ((g22 / (8 : Int32)) / v25) / (4 : Int32) * (4 : Int32)))).bind fun v33 =>
jn (fun (y35 : Int32) =>
(sI A6 v32 (((4 : Int32) * ((g22 / (8 : Int32)) - (g22 / (8 : Int32)) / v25 * v25)) + (((g22 / (8 : Int32)) / v25) - ((g22 / (8 : Int32)) / v25) / (4 : Int32) * (4 : Int32))) (g22 / (8 : Int32))).bind fun A36 =>
(gI A36 (some a0) 11 19).bind fun v37 =>
jn (fun (y39 : Int32) =>
(pI A36 (some a0) 11 19 (v37 + y39)).bind fun A40 =>
(gI A40 (some a0) 11 20).bind fun v41 =>
jn (fun (y43 : Int32) =>
(pI A40 (some a0) 11 20 (v41 + y43)).bind fun A44 =>
(gR A44 (some a0) 11 10).bind fun v45 =>
jn (fun (y47 : Int32) =>
(sI A44 v45 ((g22 / (8 : Int32)) - (g22 / (8 : Int32)) / v25 * v25) (y31 + y47)).bind fun A48 =>
(gR A48 (some a0) 11 49).bind fun v49 =>
jn (fun (y51 : Int32) =>
(sI A48 v49 x5 (y31 + y51)).bind fun A52 =>
(gR A52 (some a0) 11 49).bind fun v53 =>
(aI A52 v53 x5).bind fun v54 =>
jn (fun (y56 : Int32) =>
j13 y56 (x4 + y20) A52) fun j55 =>
if v54 ≤ x3 then (j55 x3) else
j55 v54) fun j50 =>
if y35 = 0 then (j50 (12 : Int32)) else
j50 (4 : Int32)) fun j46 =>
if y35 = 0 then (j46 (5 : Int32)) else
j46 (1 : Int32)) fun j42 =>
if y35 = 0 then (j42 (1 : Int32)) else
j42 (0 : Int32)) fun j38 =>
if y35 = 0 then (j38 (0 : Int32)) else
j38 (1 : Int32)) fun j34 =>
if v33 = (g22 / (8 : Int32)) then (j34 (1 : Int32)) else
j34 (0 : Int32)) fun j30 =>
if v28 ≤ v29 then (j30 v29) else
j30 v28) else
jl (fixG (fun _ _ => none) (fun (rc67 : (Int32) → (AH) → Option (Int32 × AH)) (x65 : Int32) (A66 : AH) =>
if x5 ≤ x65 then (j13 x3 (x4 + y20) A66) else
(gR A66 (some a0) 11 49).bind fun v69 =>
(gR A66 (some a0) 11 51).bind fun v70 =>
(aZ A66 v70 x65).bind fun v71 =>
jn (fun (y73 : Int32) =>
(sI A66 v69 x5 y73).bind fun A74 =>
rc67 (x65 + (1 : Int32)) A74) fun j72 =>
jn ((aI A66 v69 x5).bind fun v76 =>
j72 v76) fun j75 =>
if v71 = 0 then (j75) else
(rcv A66 (some a0) 11).bind fun v78 =>
(fX11_asked v78 p1 x65 A66).bind fun g79 =>
if (g79 / (8 : Int32)) = (g22 / (8 : Int32)) then ((aI A66 v69 x65).bind fun v81 =>
j72 v81) else
j75) n) fun j64 =>
j64 (0 : Int32) A6) fun j19 =>
jn (j19 (0 : Int32)) fun j82 =>
if v18 ≤ (53 : Int32) then (j82) else
(rcv A6 (some a0) 11).bind fun v84 =>
(fX11_isAgain n v84 p1 x5 A6).bind fun g85 =>
if g85 = 0 then (j82) else
j19 (1 : Int32)) n) fun j2 =>
j2 (v1 + (1 : Int32)) (0 : Int32) (0 : Int32) A

set_option maxHeartbeats 4000000 in
set_option maxRecDepth 100000 in
theorem sX11_timeOfGlobal (l : Launch) (D : DE) (n : Nat) (a0 : Nat) (p1 : Int32) (A : AH) (g : Int32 × AH) (hg : fX11_timeOfGlobal n a0 p1 A = some g) : Sm l D yX11_timeOfGlobal cX11_timeOfGlobal 10 (some Jvm.ClassFile.FieldType.int) 3 67 [tR (some a0), tI p1] A (wI g).1 (wI g).2 := by
  refine Sm.of (ω := wI) (fX11_timeOfGlobal n a0 p1 A) [some (tR (some a0)), some (tI p1), none, none, none, none, none, none, none, none] (by decide) (Nat.le_of_ble_eq_true rfl) rfl hg ?_
  intro p e R s m args below meth c X hin
  have X : Cx D cX11_timeOfGlobal RX11 10 3 67 (some Jvm.ClassFile.FieldType.int) p R s m args meth c := X
  unfold fX11_timeOfGlobal
  refine rf_aload_n X rfl dX11_timeOfGlobal_0 ?_
  refine rf_bind (fun v1 hv1 => ?_)
  refine rf_getI X fl_X11_159 hv1 dX11_timeOfGlobal_1 ?_
  refine rf_iconst X (1 : Int32) rfl dX11_timeOfGlobal_4 ?_
  refine rf_iadd X dX11_timeOfGlobal_5 ?_
  refine rf_istore_n X (ls' := [some (tR (some a0)), some (tI p1), some (tI (v1 + (1 : Int32))), none, none, none, none, none, none, none]) rfl (by decide) dX11_timeOfGlobal_6 ?_
  refine rf_iconst X (0 : Int32) rfl dX11_timeOfGlobal_7 ?_
  refine rf_istore_n X (ls' := [some (tR (some a0)), some (tI p1), some (tI (v1 + (1 : Int32))), some (tI (0 : Int32)), none, none, none, none, none, none]) rfl (by decide) dX11_timeOfGlobal_8 ?_
  refine rf_iconst X (0 : Int32) rfl dX11_timeOfGlobal_9 ?_
  refine rf_istore X (ls' := [some (tR (some a0)), some (tI p1), some (tI (v1 + (1 : Int32))), some (tI (0 : Int32)), some (tI (0 : Int32)), none, none, none, none, none]) rfl (by decide) dX11_timeOfGlobal_10 ?_
  refine rf_fix (fun i => ∀ (x3 : Int32) (x4 : Int32) (x5 : Int32) (A6 : AH), RfX X l e below wI (i x3 x4 x5 A6) 12 [some (tR (some a0)), some (tI p1), some (tI x3), some (tI x4), some (tI x5), none, none, none, none, none] [] A6) (fun _ _ _ _ => rf_none) (fun rc7 hrc7 => ?_) (fun j2 hj2 => ?_)
  · intro x3 x4 x5 A6
    refine rf_iload X rfl dX11_timeOfGlobal_12 ?_
    refine rf_aload_n X rfl dX11_timeOfGlobal_14 ?_
    refine rf_bind (fun v8 hv8 => ?_)
    refine rf_getI X fl_X11_7 hv8 dX11_timeOfGlobal_15 ?_
    refine rf_icmp_ge X (tgt := 342) rfl dX11_timeOfGlobal_18 (fun c9 => rf_pos c9 ?_) (fun c9 => rf_neg c9 ?_)
    · refine rf_iload_n X rfl dX11_timeOfGlobal_342 ?_
      refine rf_aload_n X rfl dX11_timeOfGlobal_343 ?_
      refine rf_bind (fun v10 hv10 => ?_)
      refine rf_getI X fl_X11_159 hv10 dX11_timeOfGlobal_344 ?_
      refine rf_isub X dX11_timeOfGlobal_347 ?_
      refine rf_iload_n X rfl dX11_timeOfGlobal_348 ?_
      refine rf_iadd X dX11_timeOfGlobal_349 ?_
      exact rf_iret X rfl dX11_timeOfGlobal_350
    refine rf_aload_n X rfl dX11_timeOfGlobal_21 ?_
    refine rf_bind (fun v11 hv11 => ?_)
    refine rf_getR X fl_X11_111 hv11 dX11_timeOfGlobal_22 ?_
    refine rf_iload X rfl dX11_timeOfGlobal_25 ?_
    refine rf_bind (fun v12 hv12 => ?_)
    refine rf_zald X hv12 dX11_timeOfGlobal_27 ?_
    refine rf_jn2 (fun i => ∀ (x14 : Int32) (x15 : Int32) (A16 : AH), RfX X l e below wI (i x14 x15 A16) 336 [some (tR (some a0)), some (tI p1), some (tI x14), some (tI x15), some (tI x5), none, none, none, none, none] [] A16) ?_ (fun j13 hj13 => ?_)
    · intro x14 x15 A16
      refine rf_iinc X (x5 + (1 : Int32)) rfl rfl (ls' := [some (tR (some a0)), some (tI p1), some (tI x14), some (tI x15), some (tI (x5 + (1 : Int32))), none, none, none, none, none]) rfl (by decide) dX11_timeOfGlobal_336 ?_
      refine rf_goto X (tgt := 12) rfl dX11_timeOfGlobal_339 ?_
      exact rf_go (hrc7 x14 x15 (x5 + (1 : Int32)) A16) (And.intro rfl (And.intro rfl (And.intro rfl (And.intro rfl (And.intro rfl True.intro)))))
    refine rf_if_ne X (tgt := 34) rfl dX11_timeOfGlobal_28 (fun c17 => rf_neg c17 ?_) (fun c17 => rf_pos c17 ?_)
    · refine rf_iload_n X rfl dX11_timeOfGlobal_34 ?_
      refine rf_aload_n X rfl dX11_timeOfGlobal_35 ?_
      refine rf_bind (fun v18 hv18 => ?_)
      refine rf_getI X fl_X11_220 hv18 dX11_timeOfGlobal_36 ?_
      refine rf_bipush X (53 : Int32) rfl dX11_timeOfGlobal_39 ?_
      refine rf_jn2 (fun i => ∀ (y20 : Int32), RfX X l e below wI (i y20) 59 [some (tR (some a0)), some (tI p1), some (tI x3), none, some (tI x5), none, none, none, none, none] [tI y20, tI x4] A6) ?_ (fun j19 hj19 => ?_)
      · intro y20
        refine rf_iadd X dX11_timeOfGlobal_59 ?_
        refine rf_istore_n X (ls' := [some (tR (some a0)), some (tI p1), some (tI x3), some (tI (x4 + y20)), some (tI x5), none, none, none, none, none]) rfl (by decide) dX11_timeOfGlobal_60 ?_
        refine rf_aload_n X rfl dX11_timeOfGlobal_61 ?_
        refine rf_iload_n X rfl dX11_timeOfGlobal_62 ?_
        refine rf_iload X rfl dX11_timeOfGlobal_63 ?_
        refine rf_bind (fun v21 hv21 => ?_)
        refine rf_bind (fun g22 hg22 => ?_)
        refine rf_callVI X c_X11_316 ⟨Nat.le_of_ble_eq_true rfl, Nat.le_of_ble_eq_true rfl⟩ [tI p1, tI x5] rfl (Nat.le_of_ble_eq_true rfl) hv21 (sX11_asked l D v21 p1 x5 A6 g22 hg22) dX11_timeOfGlobal_65 ?_
        refine rf_bipush X (8 : Int32) rfl dX11_timeOfGlobal_68 ?_
        refine rf_idiv X (by decide) dX11_timeOfGlobal_70 ?_
        refine rf_istore X (ls' := [some (tR (some a0)), some (tI p1), some (tI x3), some (tI (x4 + y20)), some (tI x5), some (tI (g22 / (8 : Int32))), none, none, none, none]) rfl (by decide) dX11_timeOfGlobal_71 ?_
        refine rf_aload_n X rfl dX11_timeOfGlobal_73 ?_
        refine rf_iload_n X rfl dX11_timeOfGlobal_74 ?_
        refine rf_iload X rfl dX11_timeOfGlobal_75 ?_
        refine rf_bind (fun g23 hg23 => ?_)
        refine rf_callVI X c_X11_322 ⟨Nat.le_of_ble_eq_true rfl, Nat.le_of_ble_eq_true rfl⟩ [tI p1, tI x5] rfl (Nat.le_of_ble_eq_true rfl) hv21 (sX11_isLineAgain l D n v21 p1 x5 A6 g23 hg23) dX11_timeOfGlobal_77 ?_
        refine rf_if_eq X (tgt := 151) rfl dX11_timeOfGlobal_80 (fun c24 => rf_pos c24 ?_) (fun c24 => rf_neg c24 ?_)
        · refine rf_iload X rfl dX11_timeOfGlobal_151 ?_
          refine rf_aload_n X rfl dX11_timeOfGlobal_153 ?_
          refine rf_bind (fun v25 hv25 => ?_)
          refine rf_getI X fl_X11_22 hv25 dX11_timeOfGlobal_154 ?_
          refine rf_bind (fun v26 hv26 => ?_)
          refine rf_irem X (dz_spec hv26) dX11_timeOfGlobal_157 ?_
          refine rf_istore X (ls' := [some (tR (some a0)), some (tI p1), some (tI x3), some (tI (x4 + y20)), some (tI x5), some (tI (g22 / (8 : Int32))), some (tI ((g22 / (8 : Int32)) - (g22 / (8 : Int32)) / v25 * v25)), none, none, none]) rfl (by decide) dX11_timeOfGlobal_158 ?_
          refine rf_iconst X (4 : Int32) rfl dX11_timeOfGlobal_160 ?_
          refine rf_iload X rfl dX11_timeOfGlobal_161 ?_
          refine rf_imul X dX11_timeOfGlobal_163 ?_
          refine rf_iload X rfl dX11_timeOfGlobal_164 ?_
          refine rf_aload_n X rfl dX11_timeOfGlobal_166 ?_
          refine rf_getI X fl_X11_22 hv25 dX11_timeOfGlobal_167 ?_
          refine rf_idiv X (dz_spec hv26) dX11_timeOfGlobal_170 ?_
          refine rf_iconst X (4 : Int32) rfl dX11_timeOfGlobal_171 ?_
          refine rf_irem X (by decide) dX11_timeOfGlobal_172 ?_
          refine rf_iadd X dX11_timeOfGlobal_173 ?_
          refine rf_istore X (ls' := [some (tR (some a0)), some (tI p1), some (tI x3), some (tI (x4 + y20)), some (tI x5), some (tI (g22 / (8 : Int32))), some (tI ((g22 / (8 : Int32)) - (g22 / (8 : Int32)) / v25 * v25)), some (tI (((4 : Int32) * ((g22 / (8 : Int32)) - (g22 / (8 : Int32)) / v25 * v25)) + (((g22 / (8 : Int32)) / v25) - ((g22 / (8 : Int32)) / v25) / (4 : Int32) * (4 : Int32)))), none, none]) rfl (by decide) dX11_timeOfGlobal_174 ?_
          refine rf_aload_n X rfl dX11_timeOfGlobal_176 ?_
          refine rf_bind (fun v27 hv27 => ?_)
          refine rf_getR X fl_X11_39 hv27 dX11_timeOfGlobal_177 ?_
          refine rf_iload X rfl dX11_timeOfGlobal_180 ?_
          refine rf_bind (fun v28 hv28 => ?_)
          refine rf_iald X hv28 dX11_timeOfGlobal_182 ?_
          refine rf_aload_n X rfl dX11_timeOfGlobal_183 ?_
          refine rf_bind (fun v29 hv29 => ?_)
          refine rf_getI X fl_X11_159 hv29 dX11_timeOfGlobal_184 ?_
          refine rf_jn2 (fun i => ∀ (y31 : Int32), RfX X l e below wI (i y31) 204 [some (tR (some a0)), some (tI p1), some (tI x3), some (tI (x4 + y20)), some (tI x5), some (tI (g22 / (8 : Int32))), some (tI ((g22 / (8 : Int32)) - (g22 / (8 : Int32)) / v25 * v25)), some (tI (((4 : Int32) * ((g22 / (8 : Int32)) - (g22 / (8 : Int32)) / v25 * v25)) + (((g22 / (8 : Int32)) / v25) - ((g22 / (8 : Int32)) / v25) / (4 : Int32) * (4 : Int32)))), none, none] [tI y31] A6) ?_ (fun j30 hj30 => ?_)
          · intro y31
            refine rf_istore X (ls' := [some (tR (some a0)), some (tI p1), some (tI x3), some (tI (x4 + y20)), some (tI x5), some (tI (g22 / (8 : Int32))), some (tI ((g22 / (8 : Int32)) - (g22 / (8 : Int32)) / v25 * v25)), some (tI (((4 : Int32) * ((g22 / (8 : Int32)) - (g22 / (8 : Int32)) / v25 * v25)) + (((g22 / (8 : Int32)) / v25) - ((g22 / (8 : Int32)) / v25) / (4 : Int32) * (4 : Int32)))), some (tI y31), none]) rfl (by decide) dX11_timeOfGlobal_204 ?_
            refine rf_aload_n X rfl dX11_timeOfGlobal_206 ?_
            refine rf_bind (fun v32 hv32 => ?_)
            refine rf_getR X fl_X11_36 hv32 dX11_timeOfGlobal_207 ?_
            refine rf_iload X rfl dX11_timeOfGlobal_210 ?_
            refine rf_bind (fun v33 hv33 => ?_)
            refine rf_iald X hv33 dX11_timeOfGlobal_212 ?_
            refine rf_iload X rfl dX11_timeOfGlobal_213 ?_
            refine rf_jn2 (fun i => ∀ (y35 : Int32), RfX X l e below wI (i y35) 223 [some (tR (some a0)), some (tI p1), some (tI x3), some (tI (x4 + y20)), some (tI x5), some (tI (g22 / (8 : Int32))), some (tI ((g22 / (8 : Int32)) - (g22 / (8 : Int32)) / v25 * v25)), some (tI (((4 : Int32) * ((g22 / (8 : Int32)) - (g22 / (8 : Int32)) / v25 * v25)) + (((g22 / (8 : Int32)) / v25) - ((g22 / (8 : Int32)) / v25) / (4 : Int32) * (4 : Int32)))), some (tI y31), none] [tI y35] A6) ?_ (fun j34 hj34 => ?_)
            · intro y35
              refine rf_istore X (ls' := [some (tR (some a0)), some (tI p1), some (tI x3), some (tI (x4 + y20)), some (tI x5), some (tI (g22 / (8 : Int32))), some (tI ((g22 / (8 : Int32)) - (g22 / (8 : Int32)) / v25 * v25)), some (tI (((4 : Int32) * ((g22 / (8 : Int32)) - (g22 / (8 : Int32)) / v25 * v25)) + (((g22 / (8 : Int32)) / v25) - ((g22 / (8 : Int32)) / v25) / (4 : Int32) * (4 : Int32)))), some (tI y31), some (tI y35)]) rfl (by decide) dX11_timeOfGlobal_223 ?_
              refine rf_aload_n X rfl dX11_timeOfGlobal_225 ?_
              refine rf_getR X fl_X11_36 hv32 dX11_timeOfGlobal_226 ?_
              refine rf_iload X rfl dX11_timeOfGlobal_229 ?_
              refine rf_iload X rfl dX11_timeOfGlobal_231 ?_
              refine rf_bind (fun A36 hA36 => ?_)
              refine rf_iast X hA36 dX11_timeOfGlobal_233 ?_
              refine rf_aload_n X rfl dX11_timeOfGlobal_234 ?_
              refine rf_dup X rfl dX11_timeOfGlobal_235 ?_
              refine rf_bind (fun v37 hv37 => ?_)
              refine rf_getI X fl_X11_171 hv37 dX11_timeOfGlobal_236 ?_
              refine rf_iload X rfl dX11_timeOfGlobal_239 ?_
              refine rf_jn2 (fun i => ∀ (y39 : Int32), RfX X l e below wI (i y39) 249 [some (tR (some a0)), some (tI p1), some (tI x3), some (tI (x4 + y20)), some (tI x5), none, some (tI ((g22 / (8 : Int32)) - (g22 / (8 : Int32)) / v25 * v25)), none, some (tI y31), some (tI y35)] [tI y39, tI v37, tR (some a0)] A36) ?_ (fun j38 hj38 => ?_)
              · intro y39
                refine rf_iadd X dX11_timeOfGlobal_249 ?_
                refine rf_bind (fun A40 hA40 => ?_)
                refine rf_putI X fp_X11_171 (fun h => by cases h) hA40 dX11_timeOfGlobal_250 ?_
                refine rf_aload_n X rfl dX11_timeOfGlobal_253 ?_
                refine rf_dup X rfl dX11_timeOfGlobal_254 ?_
                refine rf_bind (fun v41 hv41 => ?_)
                refine rf_getI X fl_X11_174 hv41 dX11_timeOfGlobal_255 ?_
                refine rf_iload X rfl dX11_timeOfGlobal_258 ?_
                refine rf_jn2 (fun i => ∀ (y43 : Int32), RfX X l e below wI (i y43) 268 [some (tR (some a0)), some (tI p1), some (tI x3), some (tI (x4 + y20)), some (tI x5), none, some (tI ((g22 / (8 : Int32)) - (g22 / (8 : Int32)) / v25 * v25)), none, some (tI y31), some (tI y35)] [tI y43, tI v41, tR (some a0)] A40) ?_ (fun j42 hj42 => ?_)
                · intro y43
                  refine rf_iadd X dX11_timeOfGlobal_268 ?_
                  refine rf_bind (fun A44 hA44 => ?_)
                  refine rf_putI X fp_X11_174 (fun h => by cases h) hA44 dX11_timeOfGlobal_269 ?_
                  refine rf_aload_n X rfl dX11_timeOfGlobal_272 ?_
                  refine rf_bind (fun v45 hv45 => ?_)
                  refine rf_getR X fl_X11_39 hv45 dX11_timeOfGlobal_273 ?_
                  refine rf_iload X rfl dX11_timeOfGlobal_276 ?_
                  refine rf_iload X rfl dX11_timeOfGlobal_278 ?_
                  refine rf_iload X rfl dX11_timeOfGlobal_280 ?_
                  refine rf_jn2 (fun i => ∀ (y47 : Int32), RfX X l e below wI (i y47) 290 [some (tR (some a0)), some (tI p1), some (tI x3), some (tI (x4 + y20)), some (tI x5), none, none, none, some (tI y31), some (tI y35)] [tI y47, tI y31, tI ((g22 / (8 : Int32)) - (g22 / (8 : Int32)) / v25 * v25), tR v45] A44) ?_ (fun j46 hj46 => ?_)
                  · intro y47
                    refine rf_iadd X dX11_timeOfGlobal_290 ?_
                    refine rf_bind (fun A48 hA48 => ?_)
                    refine rf_iast X hA48 dX11_timeOfGlobal_291 ?_
                    refine rf_aload_n X rfl dX11_timeOfGlobal_292 ?_
                    refine rf_bind (fun v49 hv49 => ?_)
                    refine rf_getR X fl_X11_105 hv49 dX11_timeOfGlobal_293 ?_
                    refine rf_iload X rfl dX11_timeOfGlobal_296 ?_
                    refine rf_iload X rfl dX11_timeOfGlobal_298 ?_
                    refine rf_iload X rfl dX11_timeOfGlobal_300 ?_
                    refine rf_jn2 (fun i => ∀ (y51 : Int32), RfX X l e below wI (i y51) 311 [some (tR (some a0)), some (tI p1), some (tI x3), some (tI (x4 + y20)), some (tI x5), none, none, none, none, none] [tI y51, tI y31, tI x5, tR v49] A48) ?_ (fun j50 hj50 => ?_)
                    · intro y51
                      refine rf_iadd X dX11_timeOfGlobal_311 ?_
                      refine rf_bind (fun A52 hA52 => ?_)
                      refine rf_iast X hA52 dX11_timeOfGlobal_312 ?_
                      refine rf_aload_n X rfl dX11_timeOfGlobal_313 ?_
                      refine rf_bind (fun v53 hv53 => ?_)
                      refine rf_getR X fl_X11_105 hv53 dX11_timeOfGlobal_314 ?_
                      refine rf_iload X rfl dX11_timeOfGlobal_317 ?_
                      refine rf_bind (fun v54 hv54 => ?_)
                      refine rf_iald X hv54 dX11_timeOfGlobal_319 ?_
                      refine rf_iload_n X rfl dX11_timeOfGlobal_320 ?_
                      refine rf_jn2 (fun i => ∀ (y56 : Int32), RfX X l e below wI (i y56) 335 [some (tR (some a0)), some (tI p1), none, some (tI (x4 + y20)), some (tI x5), none, none, none, none, none] [tI y56] A52) ?_ (fun j55 hj55 => ?_)
                      · intro y56
                        refine rf_istore_n X (ls' := [some (tR (some a0)), some (tI p1), some (tI y56), some (tI (x4 + y20)), some (tI x5), none, none, none, none, none]) rfl (by decide) dX11_timeOfGlobal_335 ?_
                        exact rf_go (hj13 y56 (x4 + y20) A52) (And.intro rfl (And.intro rfl (And.intro rfl (And.intro rfl (And.intro rfl True.intro)))))
                      refine rf_icmp_le X (tgt := 334) rfl dX11_timeOfGlobal_321 (fun c57 => rf_pos c57 ?_) (fun c57 => rf_neg c57 ?_)
                      · refine rf_iload_n X rfl dX11_timeOfGlobal_334 ?_
                        exact rf_go (hj55 x3) (And.intro rfl (And.intro rfl (And.intro rfl (And.intro rfl True.intro))))
                      refine rf_aload_n X rfl dX11_timeOfGlobal_324 ?_
                      refine rf_getR X fl_X11_105 hv53 dX11_timeOfGlobal_325 ?_
                      refine rf_iload X rfl dX11_timeOfGlobal_328 ?_
                      refine rf_iald X hv54 dX11_timeOfGlobal_330 ?_
                      refine rf_goto X (tgt := 335) rfl dX11_timeOfGlobal_331 ?_
                      exact rf_go (hj55 v54) (And.intro rfl (And.intro rfl (And.intro rfl (And.intro rfl True.intro))))
                    refine rf_if_eq X (tgt := 309) rfl dX11_timeOfGlobal_302 (fun c58 => rf_pos c58 ?_) (fun c58 => rf_neg c58 ?_)
                    · refine rf_bipush X (12 : Int32) rfl dX11_timeOfGlobal_309 ?_
                      exact rf_go (hj50 (12 : Int32)) (And.intro rfl (And.intro rfl (And.intro rfl (And.intro rfl (And.intro rfl True.intro)))))
                    refine rf_iconst X (4 : Int32) rfl dX11_timeOfGlobal_305 ?_
                    refine rf_goto X (tgt := 311) rfl dX11_timeOfGlobal_306 ?_
                    exact rf_go (hj50 (4 : Int32)) (And.intro rfl (And.intro rfl (And.intro rfl (And.intro rfl (And.intro rfl True.intro)))))
                  refine rf_if_eq X (tgt := 289) rfl dX11_timeOfGlobal_282 (fun c59 => rf_pos c59 ?_) (fun c59 => rf_neg c59 ?_)
                  · refine rf_iconst X (5 : Int32) rfl dX11_timeOfGlobal_289 ?_
                    exact rf_go (hj46 (5 : Int32)) (And.intro rfl (And.intro rfl (And.intro rfl (And.intro rfl (And.intro rfl (And.intro rfl (And.intro rfl True.intro)))))))
                  refine rf_iconst X (1 : Int32) rfl dX11_timeOfGlobal_285 ?_
                  refine rf_goto X (tgt := 290) rfl dX11_timeOfGlobal_286 ?_
                  exact rf_go (hj46 (1 : Int32)) (And.intro rfl (And.intro rfl (And.intro rfl (And.intro rfl (And.intro rfl (And.intro rfl (And.intro rfl True.intro)))))))
                refine rf_if_eq X (tgt := 267) rfl dX11_timeOfGlobal_260 (fun c60 => rf_pos c60 ?_) (fun c60 => rf_neg c60 ?_)
                · refine rf_iconst X (1 : Int32) rfl dX11_timeOfGlobal_267 ?_
                  exact rf_go (hj42 (1 : Int32)) (And.intro rfl (And.intro rfl (And.intro rfl (And.intro rfl (And.intro rfl (And.intro rfl (And.intro rfl (And.intro rfl True.intro))))))))
                refine rf_iconst X (0 : Int32) rfl dX11_timeOfGlobal_263 ?_
                refine rf_goto X (tgt := 268) rfl dX11_timeOfGlobal_264 ?_
                exact rf_go (hj42 (0 : Int32)) (And.intro rfl (And.intro rfl (And.intro rfl (And.intro rfl (And.intro rfl (And.intro rfl (And.intro rfl (And.intro rfl True.intro))))))))
              refine rf_if_eq X (tgt := 248) rfl dX11_timeOfGlobal_241 (fun c61 => rf_pos c61 ?_) (fun c61 => rf_neg c61 ?_)
              · refine rf_iconst X (0 : Int32) rfl dX11_timeOfGlobal_248 ?_
                exact rf_go (hj38 (0 : Int32)) (And.intro rfl (And.intro rfl (And.intro rfl (And.intro rfl (And.intro rfl (And.intro rfl (And.intro rfl (And.intro rfl True.intro))))))))
              refine rf_iconst X (1 : Int32) rfl dX11_timeOfGlobal_244 ?_
              refine rf_goto X (tgt := 249) rfl dX11_timeOfGlobal_245 ?_
              exact rf_go (hj38 (1 : Int32)) (And.intro rfl (And.intro rfl (And.intro rfl (And.intro rfl (And.intro rfl (And.intro rfl (And.intro rfl (And.intro rfl True.intro))))))))
            refine rf_icmp_ne X (tgt := 222) rfl dX11_timeOfGlobal_215 (fun c62 => rf_neg c62 ?_) (fun c62 => rf_pos c62 ?_)
            · refine rf_iconst X (0 : Int32) rfl dX11_timeOfGlobal_222 ?_
              exact rf_go (hj34 (0 : Int32)) (And.intro rfl (And.intro rfl (And.intro rfl (And.intro rfl (And.intro rfl (And.intro rfl (And.intro rfl (And.intro rfl (And.intro rfl True.intro)))))))))
            refine rf_iconst X (1 : Int32) rfl dX11_timeOfGlobal_218 ?_
            refine rf_goto X (tgt := 223) rfl dX11_timeOfGlobal_219 ?_
            exact rf_go (hj34 (1 : Int32)) (And.intro rfl (And.intro rfl (And.intro rfl (And.intro rfl (And.intro rfl (And.intro rfl (And.intro rfl (And.intro rfl (And.intro rfl True.intro)))))))))
          refine rf_icmp_le X (tgt := 200) rfl dX11_timeOfGlobal_187 (fun c63 => rf_pos c63 ?_) (fun c63 => rf_neg c63 ?_)
          · refine rf_aload_n X rfl dX11_timeOfGlobal_200 ?_
            refine rf_getI X fl_X11_159 hv29 dX11_timeOfGlobal_201 ?_
            exact rf_go (hj30 v29) (And.intro rfl (And.intro rfl (And.intro rfl (And.intro rfl (And.intro rfl (And.intro rfl (And.intro rfl (And.intro rfl True.intro))))))))
          refine rf_aload_n X rfl dX11_timeOfGlobal_190 ?_
          refine rf_getR X fl_X11_39 hv27 dX11_timeOfGlobal_191 ?_
          refine rf_iload X rfl dX11_timeOfGlobal_194 ?_
          refine rf_iald X hv28 dX11_timeOfGlobal_196 ?_
          refine rf_goto X (tgt := 204) rfl dX11_timeOfGlobal_197 ?_
          exact rf_go (hj30 v28) (And.intro rfl (And.intro rfl (And.intro rfl (And.intro rfl (And.intro rfl (And.intro rfl (And.intro rfl (And.intro rfl True.intro))))))))
        refine rf_iconst X (0 : Int32) rfl dX11_timeOfGlobal_83 ?_
        refine rf_istore X (ls' := [some (tR (some a0)), some (tI p1), some (tI x3), some (tI (x4 + y20)), some (tI x5), some (tI (g22 / (8 : Int32))), some (tI (0 : Int32)), none, none, none]) rfl (by decide) dX11_timeOfGlobal_84 ?_
        refine rf_fix (fun i => ∀ (x65 : Int32) (A66 : AH), RfX X l e below wI (i x65 A66) 86 [some (tR (some a0)), some (tI p1), some (tI x3), some (tI (x4 + y20)), some (tI x5), some (tI (g22 / (8 : Int32))), some (tI x65), none, none, none] [] A66) (fun _ _ => rf_none) (fun rc67 hrc67 => ?_) (fun j64 hj64 => ?_)
        · intro x65 A66
          refine rf_iload X rfl dX11_timeOfGlobal_86 ?_
          refine rf_iload X rfl dX11_timeOfGlobal_88 ?_
          refine rf_icmp_ge X (tgt := 148) rfl dX11_timeOfGlobal_90 (fun c68 => rf_pos c68 ?_) (fun c68 => rf_neg c68 ?_)
          · refine rf_goto X (tgt := 336) rfl dX11_timeOfGlobal_148 ?_
            exact rf_go (hj13 x3 (x4 + y20) A66) (And.intro rfl (And.intro rfl (And.intro rfl (And.intro rfl (And.intro rfl True.intro)))))
          refine rf_aload_n X rfl dX11_timeOfGlobal_93 ?_
          refine rf_bind (fun v69 hv69 => ?_)
          refine rf_getR X fl_X11_105 hv69 dX11_timeOfGlobal_94 ?_
          refine rf_iload X rfl dX11_timeOfGlobal_97 ?_
          refine rf_aload_n X rfl dX11_timeOfGlobal_99 ?_
          refine rf_bind (fun v70 hv70 => ?_)
          refine rf_getR X fl_X11_111 hv70 dX11_timeOfGlobal_100 ?_
          refine rf_iload X rfl dX11_timeOfGlobal_103 ?_
          refine rf_bind (fun v71 hv71 => ?_)
          refine rf_zald X hv71 dX11_timeOfGlobal_105 ?_
          refine rf_jn2 (fun i => ∀ (y73 : Int32), RfX X l e below wI (i y73) 141 [some (tR (some a0)), some (tI p1), some (tI x3), some (tI (x4 + y20)), some (tI x5), some (tI (g22 / (8 : Int32))), some (tI x65), none, none, none] [tI y73, tI x5, tR v69] A66) ?_ (fun j72 hj72 => ?_)
          · intro y73
            refine rf_bind (fun A74 hA74 => ?_)
            refine rf_iast X hA74 dX11_timeOfGlobal_141 ?_
            refine rf_iinc X (x65 + (1 : Int32)) rfl rfl (ls' := [some (tR (some a0)), some (tI p1), some (tI x3), some (tI (x4 + y20)), some (tI x5), some (tI (g22 / (8 : Int32))), some (tI (x65 + (1 : Int32))), none, none, none]) rfl (by decide) dX11_timeOfGlobal_142 ?_
            refine rf_goto X (tgt := 86) rfl dX11_timeOfGlobal_145 ?_
            exact rf_go (hrc67 (x65 + (1 : Int32)) A74) (And.intro rfl (And.intro rfl (And.intro rfl (And.intro rfl (And.intro rfl (And.intro rfl (And.intro rfl True.intro)))))))
          refine rf_jn2 (fun i => RfX X l e below wI i 134 [some (tR (some a0)), some (tI p1), some (tI x3), some (tI (x4 + y20)), some (tI x5), some (tI (g22 / (8 : Int32))), some (tI x65), none, none, none] [tI x5, tR v69] A66) ?_ (fun j75 hj75 => ?_)
          · show RfX X l e below _ _ _ _ _ _
            refine rf_aload_n X rfl dX11_timeOfGlobal_134 ?_
            refine rf_getR X fl_X11_105 hv69 dX11_timeOfGlobal_135 ?_
            refine rf_iload X rfl dX11_timeOfGlobal_138 ?_
            refine rf_bind (fun v76 hv76 => ?_)
            refine rf_iald X hv76 dX11_timeOfGlobal_140 ?_
            exact rf_go (hj72 v76) (And.intro rfl (And.intro rfl (And.intro rfl (And.intro rfl (And.intro rfl (And.intro rfl (And.intro rfl True.intro)))))))
          refine rf_if_eq X (tgt := 134) rfl dX11_timeOfGlobal_106 (fun c77 => rf_pos c77 ?_) (fun c77 => rf_neg c77 ?_)
          · exact rf_go hj75 (And.intro rfl (And.intro rfl (And.intro rfl (And.intro rfl (And.intro rfl (And.intro rfl (And.intro rfl True.intro)))))))
          refine rf_aload_n X rfl dX11_timeOfGlobal_109 ?_
          refine rf_iload_n X rfl dX11_timeOfGlobal_110 ?_
          refine rf_iload X rfl dX11_timeOfGlobal_111 ?_
          refine rf_bind (fun v78 hv78 => ?_)
          refine rf_bind (fun g79 hg79 => ?_)
          refine rf_callVI X c_X11_316 ⟨Nat.le_of_ble_eq_true rfl, Nat.le_of_ble_eq_true rfl⟩ [tI p1, tI x65] rfl (Nat.le_of_ble_eq_true rfl) hv78 (sX11_asked l D v78 p1 x65 A66 g79 hg79) dX11_timeOfGlobal_113 ?_
          refine rf_bipush X (8 : Int32) rfl dX11_timeOfGlobal_116 ?_
          refine rf_idiv X (by decide) dX11_timeOfGlobal_118 ?_
          refine rf_iload X rfl dX11_timeOfGlobal_119 ?_
          refine rf_icmp_ne X (tgt := 134) rfl dX11_timeOfGlobal_121 (fun c80 => rf_neg c80 ?_) (fun c80 => rf_pos c80 ?_)
          · exact rf_go hj75 (And.intro rfl (And.intro rfl (And.intro rfl (And.intro rfl (And.intro rfl (And.intro rfl (And.intro rfl True.intro)))))))
          refine rf_aload_n X rfl dX11_timeOfGlobal_124 ?_
          refine rf_getR X fl_X11_105 hv69 dX11_timeOfGlobal_125 ?_
          refine rf_iload X rfl dX11_timeOfGlobal_128 ?_
          refine rf_bind (fun v81 hv81 => ?_)
          refine rf_iald X hv81 dX11_timeOfGlobal_130 ?_
          refine rf_goto X (tgt := 141) rfl dX11_timeOfGlobal_131 ?_
          exact rf_go (hj72 v81) (And.intro rfl (And.intro rfl (And.intro rfl (And.intro rfl (And.intro rfl (And.intro rfl (And.intro rfl True.intro)))))))
        exact rf_go (hj64 (0 : Int32) A6) (And.intro rfl (And.intro rfl (And.intro rfl (And.intro rfl (And.intro rfl (And.intro rfl (And.intro rfl True.intro)))))))
      refine rf_jn2 (fun i => RfX X l e below wI i 58 [some (tR (some a0)), some (tI p1), some (tI x3), none, some (tI x5), none, none, none, none, none] [tI x4] A6) ?_ (fun j82 hj82 => ?_)
      · show RfX X l e below _ _ _ _ _ _
        refine rf_iconst X (0 : Int32) rfl dX11_timeOfGlobal_58 ?_
        exact rf_go (hj19 (0 : Int32)) (And.intro rfl (And.intro rfl (And.intro rfl (And.intro rfl True.intro))))
      refine rf_icmp_le X (tgt := 58) rfl dX11_timeOfGlobal_41 (fun c83 => rf_pos c83 ?_) (fun c83 => rf_neg c83 ?_)
      · exact rf_go hj82 (And.intro rfl (And.intro rfl (And.intro rfl (And.intro rfl True.intro))))
      refine rf_aload_n X rfl dX11_timeOfGlobal_44 ?_
      refine rf_iload_n X rfl dX11_timeOfGlobal_45 ?_
      refine rf_iload X rfl dX11_timeOfGlobal_46 ?_
      refine rf_bind (fun v84 hv84 => ?_)
      refine rf_bind (fun g85 hg85 => ?_)
      refine rf_callVI X c_X11_319 ⟨Nat.le_of_ble_eq_true rfl, Nat.le_of_ble_eq_true rfl⟩ [tI p1, tI x5] rfl (Nat.le_of_ble_eq_true rfl) hv84 (sX11_isAgain l D n v84 p1 x5 A6 g85 hg85) dX11_timeOfGlobal_48 ?_
      refine rf_if_eq X (tgt := 58) rfl dX11_timeOfGlobal_51 (fun c86 => rf_pos c86 ?_) (fun c86 => rf_neg c86 ?_)
      · exact rf_go hj82 (And.intro rfl (And.intro rfl (And.intro rfl (And.intro rfl True.intro))))
      refine rf_iconst X (1 : Int32) rfl dX11_timeOfGlobal_54 ?_
      refine rf_goto X (tgt := 59) rfl dX11_timeOfGlobal_55 ?_
      exact rf_go (hj19 (1 : Int32)) (And.intro rfl (And.intro rfl (And.intro rfl (And.intro rfl True.intro))))
    refine rf_goto X (tgt := 336) rfl dX11_timeOfGlobal_31 ?_
    exact rf_go (hj13 x3 x4 A6) (And.intro rfl (And.intro rfl (And.intro rfl (And.intro rfl (And.intro rfl True.intro)))))
  exact rf_go (hj2 (v1 + (1 : Int32)) (0 : Int32) (0 : Int32) A) (And.intro rfl (And.intro rfl (And.intro rfl (And.intro rfl (And.intro rfl True.intro)))))

