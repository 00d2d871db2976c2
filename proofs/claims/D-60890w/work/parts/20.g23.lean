/-! 20.g23: printed by gen/parts.py -/
set_option maxRecDepth 100000
theorem fp_X11_325 : FL RX11 325 11 58 (.int) false := ⟨RX11, TX11, 60, tyX11, "WarpMillModel", "", rfl, by decide, in_X11, tyX11_ok, nmX11, Or.inl q1615, Or.inl rfl, rfl, rfl, fun h => by cases h⟩
theorem fl_X11_325 : FLr RX11 325 11 58 := ⟨RX11, TX11, 60, "WarpMillModel", "", rfl, by decide, in_X11, Or.inl q1615, Or.inl rfl⟩
theorem fl_X11_114 : FLr RX11 114 11 59 := ⟨RX11, TX11, 60, "WarpMillModel", "", rfl, by decide, in_X11, Or.inl q1616, Or.inl rfl⟩
theorem c_X11_313 : CV RX11 313 11 yX11_timeOfGlobal cX11_timeOfGlobal 10 (some Jvm.ClassFile.FieldType.int) 1 := ⟨TX11, 60, rfl, q1917, q1919, qs65, q111, q1920, ⟨by decide +kernel, by decide +kernel, by decide +kernel⟩⟩
theorem c_X11_310 : CV RX11 310 11 yX11_timeOfShared cX11_timeOfShared 7 (some Jvm.ClassFile.FieldType.int) 2 := ⟨TX11, 60, rfl, q1905, q1907, qs62, q111, q1908, ⟨by decide +kernel, by decide +kernel, by decide +kernel⟩⟩
theorem c_X11_291 : CV RX11 291 11 yX11_has cX11_has 3 (some Jvm.ClassFile.FieldType.boolean) 2 := ⟨TX11, 60, rfl, q1889, q1891, qs58, q111, q1892, ⟨by decide +kernel, by decide +kernel, by decide +kernel⟩⟩
theorem dX11_time_0 : decode cX11_time 0 = .ok (.aload_n 0, 1) := by decide +kernel
theorem dX11_time_1 : decode cX11_time 1 = .ok (.invokevirtual 240, 3) := by decide +kernel
theorem dX11_time_4 : decode cX11_time 4 = .ok (.ifCond .eq 25, 3) := by decide +kernel
theorem dX11_time_7 : decode cX11_time 7 = .ok (.aload_n 0, 1) := by decide +kernel
theorem dX11_time_8 : decode cX11_time 8 = .ok (.invokevirtual 275, 3) := by decide +kernel
theorem dX11_time_11 : decode cX11_time 11 = .ok (.ifCond .eq 12, 3) := by decide +kernel
theorem dX11_time_14 : decode cX11_time 14 = .ok (.aload_n 0, 1) := by decide +kernel
theorem dX11_time_15 : decode cX11_time 15 = .ok (.iload_n 1, 1) := by decide +kernel
theorem dX11_time_16 : decode cX11_time 16 = .ok (.iload_n 2, 1) := by decide +kernel
theorem dX11_time_17 : decode cX11_time 17 = .ok (.invokevirtual 310, 3) := by decide +kernel
theorem dX11_time_20 : decode cX11_time 20 = .ok (.goto 8, 3) := by decide +kernel
theorem dX11_time_23 : decode cX11_time 23 = .ok (.aload_n 0, 1) := by decide +kernel
theorem dX11_time_24 : decode cX11_time 24 = .ok (.iload_n 2, 1) := by decide +kernel
theorem dX11_time_25 : decode cX11_time 25 = .ok (.invokevirtual 313, 3) := by decide +kernel
theorem dX11_time_28 : decode cX11_time 28 = .ok (.ireturn, 1) := by decide +kernel
theorem dX11_time_29 : decode cX11_time 29 = .ok (.aload_n 0, 1) := by decide +kernel
theorem dX11_time_30 : decode cX11_time 30 = .ok (.getfield 220, 3) := by decide +kernel
theorem dX11_time_33 : decode cX11_time 33 = .ok (.bipush 70, 2) := by decide +kernel
theorem dX11_time_35 : decode cX11_time 35 = .ok (.if_icmp .lt 5, 3) := by decide +kernel
theorem dX11_time_38 : decode cX11_time 38 = .ok (.iconst 2, 1) := by decide +kernel
theorem dX11_time_39 : decode cX11_time 39 = .ok (.ireturn, 1) := by decide +kernel
theorem dX11_time_40 : decode cX11_time 40 = .ok (.aload_n 0, 1) := by decide +kernel
theorem dX11_time_41 : decode cX11_time 41 = .ok (.getfield 220, 3) := by decide +kernel
theorem dX11_time_44 : decode cX11_time 44 = .ok (.bipush 7, 2) := by decide +kernel
theorem dX11_time_46 : decode cX11_time 46 = .ok (.if_icmp .eq 12, 3) := by decide +kernel
theorem dX11_time_49 : decode cX11_time 49 = .ok (.aload_n 0, 1) := by decide +kernel
theorem dX11_time_50 : decode cX11_time 50 = .ok (.getfield 220, 3) := by decide +kernel
theorem dX11_time_53 : decode cX11_time 53 = .ok (.bipush 8, 2) := by decide +kernel
theorem dX11_time_55 : decode cX11_time 55 = .ok (.if_icmp .ne 19, 3) := by decide +kernel
theorem dX11_time_58 : decode cX11_time 58 = .ok (.aload_n 0, 1) := by decide +kernel
theorem dX11_time_59 : decode cX11_time 59 = .ok (.getfield 42, 3) := by decide +kernel
theorem dX11_time_62 : decode cX11_time 62 = .ok (.iload_n 1, 1) := by decide +kernel
theorem dX11_time_63 : decode cX11_time 63 = .ok (.aload_n 0, 1) := by decide +kernel
theorem dX11_time_64 : decode cX11_time 64 = .ok (.getfield 159, 3) := by decide +kernel
theorem dX11_time_67 : decode cX11_time 67 = .ok (.bipush 8, 2) := by decide +kernel
theorem dX11_time_69 : decode cX11_time 69 = .ok (.iadd, 1) := by decide +kernel
theorem dX11_time_70 : decode cX11_time 70 = .ok (.iastore, 1) := by decide +kernel
theorem dX11_time_71 : decode cX11_time 71 = .ok (.bipush 8, 2) := by decide +kernel
theorem dX11_time_73 : decode cX11_time 73 = .ok (.ireturn, 1) := by decide +kernel
theorem dX11_time_74 : decode cX11_time 74 = .ok (.aload_n 0, 1) := by decide +kernel
theorem dX11_time_75 : decode cX11_time 75 = .ok (.getfield 220, 3) := by decide +kernel
theorem dX11_time_78 : decode cX11_time 78 = .ok (.bipush 6, 2) := by decide +kernel
theorem dX11_time_80 : decode cX11_time 80 = .ok (.if_icmp .eq 21, 3) := by decide +kernel
theorem dX11_time_83 : decode cX11_time 83 = .ok (.aload_n 0, 1) := by decide +kernel
theorem dX11_time_84 : decode cX11_time 84 = .ok (.getfield 220, 3) := by decide +kernel
theorem dX11_time_87 : decode cX11_time 87 = .ok (.bipush 17, 2) := by decide +kernel
theorem dX11_time_89 : decode cX11_time 89 = .ok (.if_icmp .eq 12, 3) := by decide +kernel
theorem dX11_time_92 : decode cX11_time 92 = .ok (.aload_n 0, 1) := by decide +kernel
theorem dX11_time_93 : decode cX11_time 93 = .ok (.getfield 220, 3) := by decide +kernel
theorem dX11_time_96 : decode cX11_time 96 = .ok (.bipush 19, 2) := by decide +kernel
theorem dX11_time_98 : decode cX11_time 98 = .ok (.if_icmp .ne 7, 3) := by decide +kernel
theorem dX11_time_101 : decode cX11_time 101 = .ok (.iconst 3, 1) := by decide +kernel
theorem dX11_time_102 : decode cX11_time 102 = .ok (.goto 4, 3) := by decide +kernel
theorem dX11_time_105 : decode cX11_time 105 = .ok (.iconst 1, 1) := by decide +kernel
theorem dX11_time_106 : decode cX11_time 106 = .ok (.ireturn, 1) := by decide +kernel
def fX11_time (n : Nat) (a0 : Nat) (p1 : Int32) (p2 : Int32) (A : AH) : Option (Int32 × AH) :=
(rcv A (some a0) 11).bind fun v1 =>
(fX11_isMemory v1 A).bind fun g2 =>
if g2 = 0 then ((gI A (some a0) 11 52).bind fun v4 =>
if v4 < (70 : Int32) then (if ((v4 = (7 : Int32)) ∨ (v4 = (8 : Int32))) then ((gR A (some a0) 11 27).bind fun v6 =>
(gI A (some a0) 11 15).bind fun v7 =>
(sI A v6 p1 (v7 + (8 : Int32))).bind fun A8 =>
some ((8 : Int32), A8)) else
jn (fun (y10 : Int32) =>
some (y10, A)) fun j9 =>
if (((v4 = (6 : Int32)) ∨ (v4 = (17 : Int32))) ∨ (v4 = (19 : Int32))) then (j9 (3 : Int32)) else
j9 (1 : Int32)) else
some ((2 : Int32), A)) else
(fX11_isShared v1 A).bind fun g16 =>
jn (fun (y18 : Int32) (A19 : AH) =>
some (y18, A19)) fun j17 =>
if g16 = 0 then ((fX11_timeOfGlobal n v1 p2 A).bind fun g21 =>
j17 g21.1 g21.2) else
(fX11_timeOfShared n v1 p1 p2 A).bind fun g22 =>
j17 g22.1 g22.2

set_option maxHeartbeats 4000000 in
set_option maxRecDepth 100000 in
theorem sX11_time (l : Launch) (D : DE) (n : Nat) (a0 : Nat) (p1 : Int32) (p2 : Int32) (A : AH) (g : Int32 × AH) (hg : fX11_time n a0 p1 p2 A = some g) : Sm l D yX11_time cX11_time 3 (some Jvm.ClassFile.FieldType.int) 4 96 [tR (some a0), tI p1, tI p2] A (wI g).1 (wI g).2 := by
  refine Sm.of (ω := wI) (fX11_time n a0 p1 p2 A) [some (tR (some a0)), some (tI p1), some (tI p2)] (by decide) (Nat.le_of_ble_eq_true rfl) rfl hg ?_
  intro p e R s m args below meth c X hin
  have X : Cx D cX11_time RX11 3 4 96 (some Jvm.ClassFile.FieldType.int) p R s m args meth c := X
  unfold fX11_time
  refine rf_aload_n X rfl dX11_time_0 ?_
  refine rf_bind (fun v1 hv1 => ?_)
  refine rf_bind (fun g2 hg2 => ?_)
  refine rf_callVI X c_X11_240 ⟨Nat.le_of_ble_eq_true rfl, Nat.le_of_ble_eq_true rfl⟩ [] rfl (Nat.le_of_ble_eq_true rfl) hv1 (sX11_isMemory l D v1 A g2 hg2) dX11_time_1 ?_
  refine rf_if_eq X (tgt := 29) rfl dX11_time_4 (fun c3 => rf_pos c3 ?_) (fun c3 => rf_neg c3 ?_)
  · refine rf_aload_n X rfl dX11_time_29 ?_
    refine rf_bind (fun v4 hv4 => ?_)
    refine rf_getI X fl_X11_220 hv4 dX11_time_30 ?_
    refine rf_bipush X (70 : Int32) rfl dX11_time_33 ?_
    refine rf_icmp_lt X (tgt := 40) rfl dX11_time_35 (fun c5 => rf_pos c5 ?_) (fun c5 => rf_neg c5 ?_)
    · refine rf_aload_n X rfl dX11_time_40 ?_
      refine rf_getI X fl_X11_220 hv4 dX11_time_41 ?_
      refine rf_bipush X (7 : Int32) rfl dX11_time_44 ?_
      refine rf_br 58 74 [some (tR (some a0)), some (tI p1), some (tI p2)] [some (tR (some a0)), some (tI p1), some (tI p2)] [] [] (fun _ => ?_) (fun _ => ?_) (fun _ jT jF => ?_)
      · refine rf_aload_n X rfl dX11_time_58 ?_
        refine rf_bind (fun v6 hv6 => ?_)
        refine rf_getR X fl_X11_42 hv6 dX11_time_59 ?_
        refine rf_iload_n X rfl dX11_time_62 ?_
        refine rf_aload_n X rfl dX11_time_63 ?_
        refine rf_bind (fun v7 hv7 => ?_)
        refine rf_getI X fl_X11_159 hv7 dX11_time_64 ?_
        refine rf_bipush X (8 : Int32) rfl dX11_time_67 ?_
        refine rf_iadd X dX11_time_69 ?_
        refine rf_bind (fun A8 hA8 => ?_)
        refine rf_iast X hA8 dX11_time_70 ?_
        refine rf_bipush X (8 : Int32) rfl dX11_time_71 ?_
        exact rf_iret X rfl dX11_time_73
      · refine rf_aload_n X rfl dX11_time_74 ?_
        refine rf_getI X fl_X11_220 hv4 dX11_time_75 ?_
        refine rf_bipush X (6 : Int32) rfl dX11_time_78 ?_
        refine rf_jn2 (fun i => ∀ (y10 : Int32), RfX X l e below wI (i y10) 106 [none, none, none] [tI y10] A) ?_ (fun j9 hj9 => ?_)
        · intro y10
          exact rf_iret X rfl dX11_time_106
        refine rf_br 101 105 [some (tR (some a0)), some (tI p1), some (tI p2)] [some (tR (some a0)), some (tI p1), some (tI p2)] [] [] (fun _ => ?_) (fun _ => ?_) (fun _ jT jF => ?_)
        · refine rf_iconst X (3 : Int32) rfl dX11_time_101 ?_
          refine rf_goto X (tgt := 106) rfl dX11_time_102 ?_
          exact rf_go (hj9 (3 : Int32)) True.intro
        · refine rf_iconst X (1 : Int32) rfl dX11_time_105 ?_
          exact rf_go (hj9 (1 : Int32)) True.intro
        refine rf_icmp_eq X (tgt := 101) rfl dX11_time_80 (fun c11 => ?_) (fun c11 => ?_)
        · exact jT (Or.inl (Or.inl c11))
        refine rf_aload_n X rfl dX11_time_83 ?_
        refine rf_getI X fl_X11_220 hv4 dX11_time_84 ?_
        refine rf_bipush X (17 : Int32) rfl dX11_time_87 ?_
        refine rf_icmp_eq X (tgt := 101) rfl dX11_time_89 (fun c12 => ?_) (fun c12 => ?_)
        · exact jT (Or.inl (Or.inr c12))
        refine rf_aload_n X rfl dX11_time_92 ?_
        refine rf_getI X fl_X11_220 hv4 dX11_time_93 ?_
        refine rf_bipush X (19 : Int32) rfl dX11_time_96 ?_
        refine rf_icmp_ne X (tgt := 105) rfl dX11_time_98 (fun c13 => ?_) (fun c13 => ?_)
        · exact jF (fun z => z.elim (fun z => z.elim c11 c12) c13)
        exact jT (Or.inr c13)
      refine rf_icmp_eq X (tgt := 58) rfl dX11_time_46 (fun c14 => ?_) (fun c14 => ?_)
      · exact jT (Or.inl c14)
      refine rf_aload_n X rfl dX11_time_49 ?_
      refine rf_getI X fl_X11_220 hv4 dX11_time_50 ?_
      refine rf_bipush X (8 : Int32) rfl dX11_time_53 ?_
      refine rf_icmp_ne X (tgt := 74) rfl dX11_time_55 (fun c15 => ?_) (fun c15 => ?_)
      · exact jF (fun z => z.elim c14 c15)
      exact jT (Or.inr c15)
    refine rf_iconst X (2 : Int32) rfl dX11_time_38 ?_
    exact rf_iret X rfl dX11_time_39
  refine rf_aload_n X rfl dX11_time_7 ?_
  refine rf_bind (fun g16 hg16 => ?_)
  refine rf_callVI X c_X11_275 ⟨Nat.le_of_ble_eq_true rfl, Nat.le_of_ble_eq_true rfl⟩ [] rfl (Nat.le_of_ble_eq_true rfl) hv1 (sX11_isShared l D v1 A g16 hg16) dX11_time_8 ?_
  refine rf_jn2 (fun i => ∀ (y18 : Int32) (A19 : AH), RfX X l e below wI (i y18 A19) 28 [none, none, none] [tI y18] A19) ?_ (fun j17 hj17 => ?_)
  · intro y18 A19
    exact rf_iret X rfl dX11_time_28
  refine rf_if_eq X (tgt := 23) rfl dX11_time_11 (fun c20 => rf_pos c20 ?_) (fun c20 => rf_neg c20 ?_)
  · refine rf_aload_n X rfl dX11_time_23 ?_
    refine rf_iload_n X rfl dX11_time_24 ?_
    refine rf_bind (fun g21 hg21 => ?_)
    refine rf_callVI X c_X11_313 ⟨Nat.le_of_ble_eq_true rfl, Nat.le_of_ble_eq_true rfl⟩ [tI p2] rfl (Nat.le_of_ble_eq_true rfl) hv1 (sX11_timeOfGlobal l D n v1 p2 A g21 hg21) dX11_time_25 ?_
    exact rf_go (hj17 g21.1 g21.2) True.intro
  refine rf_aload_n X rfl dX11_time_14 ?_
  refine rf_iload_n X rfl dX11_time_15 ?_
  refine rf_iload_n X rfl dX11_time_16 ?_
  refine rf_bind (fun g22 hg22 => ?_)
  refine rf_callVI X c_X11_310 ⟨Nat.le_of_ble_eq_true rfl, Nat.le_of_ble_eq_true rfl⟩ [tI p1, tI p2] rfl (Nat.le_of_ble_eq_true rfl) hv1 (sX11_timeOfShared l D n v1 p1 p2 A g22 hg22) dX11_time_17 ?_
  refine rf_goto X (tgt := 28) rfl dX11_time_20 ?_
  exact rf_go (hj17 g22.1 g22.2) True.intro

theorem dX11_together_0 : decode cX11_together 0 = .ok (.aload_n 0, 1) := by decide +kernel
theorem dX11_together_1 : decode cX11_together 1 = .ok (.iconst 0, 1) := by decide +kernel
theorem dX11_together_2 : decode cX11_together 2 = .ok (.putfield 325, 3) := by decide +kernel
theorem dX11_together_5 : decode cX11_together 5 = .ok (.iconst 0, 1) := by decide +kernel
theorem dX11_together_6 : decode cX11_together 6 = .ok (.istore_n 2, 1) := by decide +kernel
theorem dX11_together_7 : decode cX11_together 7 = .ok (.iconst 0, 1) := by decide +kernel
theorem dX11_together_8 : decode cX11_together 8 = .ok (.istore_n 3, 1) := by decide +kernel
theorem dX11_together_9 : decode cX11_together 9 = .ok (.iload_n 3, 1) := by decide +kernel
theorem dX11_together_10 : decode cX11_together 10 = .ok (.aload_n 0, 1) := by decide +kernel
theorem dX11_together_11 : decode cX11_together 11 = .ok (.getfield 7, 3) := by decide +kernel
theorem dX11_together_14 : decode cX11_together 14 = .ok (.if_icmp .ge 86, 3) := by decide +kernel
theorem dX11_together_17 : decode cX11_together 17 = .ok (.aload_n 0, 1) := by decide +kernel
theorem dX11_together_18 : decode cX11_together 18 = .ok (.getfield 114, 3) := by decide +kernel
theorem dX11_together_21 : decode cX11_together 21 = .ok (.iload_n 3, 1) := by decide +kernel
theorem dX11_together_22 : decode cX11_together 22 = .ok (.aload_n 0, 1) := by decide +kernel
theorem dX11_together_23 : decode cX11_together 23 = .ok (.iload_n 1, 1) := by decide +kernel
theorem dX11_together_24 : decode cX11_together 24 = .ok (.iload_n 3, 1) := by decide +kernel
theorem dX11_together_25 : decode cX11_together 25 = .ok (.invokevirtual 208, 3) := by decide +kernel
theorem dX11_together_28 : decode cX11_together 28 = .ok (.ifCond .eq 19, 3) := by decide +kernel
theorem dX11_together_31 : decode cX11_together 31 = .ok (.aload_n 0, 1) := by decide +kernel
theorem dX11_together_32 : decode cX11_together 32 = .ok (.iload_n 1, 1) := by decide +kernel
theorem dX11_together_33 : decode cX11_together 33 = .ok (.iload_n 3, 1) := by decide +kernel
theorem dX11_together_34 : decode cX11_together 34 = .ok (.invokestatic 211, 3) := by decide +kernel
theorem dX11_together_37 : decode cX11_together 37 = .ok (.aload_n 0, 1) := by decide +kernel
theorem dX11_together_38 : decode cX11_together 38 = .ok (.getfield 228, 3) := by decide +kernel
theorem dX11_together_41 : decode cX11_together 41 = .ok (.invokevirtual 284, 3) := by decide +kernel
theorem dX11_together_44 : decode cX11_together 44 = .ok (.goto 4, 3) := by decide +kernel
theorem dX11_together_47 : decode cX11_together 47 = .ok (.iconst 0, 1) := by decide +kernel
theorem dX11_together_48 : decode cX11_together 48 = .ok (.iastore, 1) := by decide +kernel
theorem dX11_together_49 : decode cX11_together 49 = .ok (.aload_n 0, 1) := by decide +kernel
theorem dX11_together_50 : decode cX11_together 50 = .ok (.getfield 111, 3) := by decide +kernel
theorem dX11_together_53 : decode cX11_together 53 = .ok (.iload_n 3, 1) := by decide +kernel
theorem dX11_together_54 : decode cX11_together 54 = .ok (.baload, 1) := by decide +kernel
theorem dX11_together_55 : decode cX11_together 55 = .ok (.ifCond .ne 6, 3) := by decide +kernel
theorem dX11_together_58 : decode cX11_together 58 = .ok (.goto 36, 3) := by decide +kernel
theorem dX11_together_61 : decode cX11_together 61 = .ok (.iinc 2 1, 3) := by decide +kernel
theorem dX11_together_64 : decode cX11_together 64 = .ok (.aload_n 0, 1) := by decide +kernel
theorem dX11_together_65 : decode cX11_together 65 = .ok (.dup, 1) := by decide +kernel
theorem dX11_together_66 : decode cX11_together 66 = .ok (.getfield 325, 3) := by decide +kernel
theorem dX11_together_69 : decode cX11_together 69 = .ok (.aload_n 0, 1) := by decide +kernel
theorem dX11_together_70 : decode cX11_together 70 = .ok (.iload_n 1, 1) := by decide +kernel
theorem dX11_together_71 : decode cX11_together 71 = .ok (.iload_n 3, 1) := by decide +kernel
theorem dX11_together_72 : decode cX11_together 72 = .ok (.invokestatic 211, 3) := by decide +kernel
theorem dX11_together_75 : decode cX11_together 75 = .ok (.aload_n 0, 1) := by decide +kernel
theorem dX11_together_76 : decode cX11_together 76 = .ok (.getfield 228, 3) := by decide +kernel
theorem dX11_together_79 : decode cX11_together 79 = .ok (.invokevirtual 291, 3) := by decide +kernel
theorem dX11_together_82 : decode cX11_together 82 = .ok (.ifCond .eq 7, 3) := by decide +kernel
theorem dX11_together_85 : decode cX11_together 85 = .ok (.iconst 1, 1) := by decide +kernel
theorem dX11_together_86 : decode cX11_together 86 = .ok (.goto 4, 3) := by decide +kernel
theorem dX11_together_89 : decode cX11_together 89 = .ok (.iconst 0, 1) := by decide +kernel
theorem dX11_together_90 : decode cX11_together 90 = .ok (.iadd, 1) := by decide +kernel
theorem dX11_together_91 : decode cX11_together 91 = .ok (.putfield 325, 3) := by decide +kernel
theorem dX11_together_94 : decode cX11_together 94 = .ok (.iinc 3 1, 3) := by decide +kernel
theorem dX11_together_97 : decode cX11_together 97 = .ok (.goto (-88), 3) := by decide +kernel
theorem dX11_together_100 : decode cX11_together 100 = .ok (.aload_n 0, 1) := by decide +kernel
theorem dX11_together_101 : decode cX11_together 101 = .ok (.getfield 220, 3) := by decide +kernel
theorem dX11_together_104 : decode cX11_together 104 = .ok (.bipush 70, 2) := by decide +kernel
theorem dX11_together_106 : decode cX11_together 106 = .ok (.if_icmp .ne 19, 3) := by decide +kernel
theorem dX11_together_109 : decode cX11_together 109 = .ok (.aload_n 0, 1) := by decide +kernel
theorem dX11_together_110 : decode cX11_together 110 = .ok (.aload_n 0, 1) := by decide +kernel
theorem dX11_together_111 : decode cX11_together 111 = .ok (.getfield 325, 3) := by decide +kernel
theorem dX11_together_114 : decode cX11_together 114 = .ok (.ifCond .le 7, 3) := by decide +kernel
theorem dX11_together_117 : decode cX11_together 117 = .ok (.iconst 1, 1) := by decide +kernel
theorem dX11_together_118 : decode cX11_together 118 = .ok (.goto 4, 3) := by decide +kernel
theorem dX11_together_121 : decode cX11_together 121 = .ok (.iconst 0, 1) := by decide +kernel
theorem dX11_together_122 : decode cX11_together 122 = .ok (.putfield 325, 3) := by decide +kernel
theorem dX11_together_125 : decode cX11_together 125 = .ok (.aload_n 0, 1) := by decide +kernel
theorem dX11_together_126 : decode cX11_together 126 = .ok (.getfield 220, 3) := by decide +kernel
theorem dX11_together_129 : decode cX11_together 129 = .ok (.bipush 71, 2) := by decide +kernel
theorem dX11_together_131 : decode cX11_together 131 = .ok (.if_icmp .ne 20, 3) := by decide +kernel
theorem dX11_together_134 : decode cX11_together 134 = .ok (.aload_n 0, 1) := by decide +kernel
theorem dX11_together_135 : decode cX11_together 135 = .ok (.aload_n 0, 1) := by decide +kernel
theorem dX11_together_136 : decode cX11_together 136 = .ok (.getfield 325, 3) := by decide +kernel
theorem dX11_together_139 : decode cX11_together 139 = .ok (.iload_n 2, 1) := by decide +kernel
theorem dX11_together_140 : decode cX11_together 140 = .ok (.if_icmp .ne 7, 3) := by decide +kernel
theorem dX11_together_143 : decode cX11_together 143 = .ok (.iconst 1, 1) := by decide +kernel
theorem dX11_together_144 : decode cX11_together 144 = .ok (.goto 4, 3) := by decide +kernel
theorem dX11_together_147 : decode cX11_together 147 = .ok (.iconst 0, 1) := by decide +kernel
theorem dX11_together_148 : decode cX11_together 148 = .ok (.putfield 325, 3) := by decide +kernel
theorem dX11_together_151 : decode cX11_together 151 = .ok (.return_, 1) := by decide +kernel
def fX11_together (n : Nat) (a0 : Nat) (p1 : Int32) (A : AH) : Option (AH) :=
(pI A (some a0) 11 58 (0 : Int32)).bind fun A1 =>
jl (fixG (fun _ _ _ => none) (fun (rc6 : (Int32) → (Int32) → (AH) → Option (AH)) (x3 : Int32) (x4 : Int32) (A5 : AH) =>
(gI A5 (some a0) 11 1).bind fun v7 =>
if v7 ≤ x4 then ((gI A5 (some a0) 11 52).bind fun v9 =>
jn (fun (A11 : AH) =>
(gI A11 (some a0) 11 52).bind fun v12 =>
jn (fun (A14 : AH) =>
some A14) fun j13 =>
if v12 = (71 : Int32) then ((gI A11 (some a0) 11 58).bind fun v16 =>
jn (fun (y18 : Int32) =>
(pI A11 (some a0) 11 58 y18).bind fun A19 =>
j13 A19) fun j17 =>
if v16 = x3 then (j17 (1 : Int32)) else
j17 (0 : Int32)) else
j13 A11) fun j10 =>
if v9 = (70 : Int32) then ((gI A5 (some a0) 11 58).bind fun v22 =>
jn (fun (y24 : Int32) =>
(pI A5 (some a0) 11 58 y24).bind fun A25 =>
j10 A25) fun j23 =>
if v22 ≤ 0 then (j23 (0 : Int32)) else
j23 (1 : Int32)) else
j10 A5) else
(gR A5 (some a0) 11 59).bind fun v27 =>
(rcv A5 (some a0) 11).bind fun v28 =>
(fX11_isLane v28 p1 x4 A5).bind fun g29 =>
jn (fun (y31 : Int32) =>
(sI A5 v27 x4 y31).bind fun A32 =>
(gR A32 (some a0) 11 51).bind fun v33 =>
(aZ A32 v33 x4).bind fun v34 =>
jn (fun (x36 : Int32) (A37 : AH) =>
rc6 x36 (x4 + (1 : Int32)) A37) fun j35 =>
if v34 = 0 then (j35 x3 A32) else
(gI A32 (some a0) 11 58).bind fun v39 =>
(fX11_thread p1 x4 A32).bind fun g40 =>
(gI A32 (some a0) 11 54).bind fun v41 =>
(rcv A32 (some a0) 11).bind fun v42 =>
(fX11_has v42 g40 v41 A32).bind fun g43 =>
jn (fun (y45 : Int32) =>
(pI A32 (some a0) 11 58 (v39 + y45)).bind fun A46 =>
j35 (x3 + (1 : Int32)) A46) fun j44 =>
if g43 = 0 then (j44 (0 : Int32)) else
j44 (1 : Int32)) fun j30 =>
if g29 = 0 then (j30 (0 : Int32)) else
(fX11_thread p1 x4 A5).bind fun g49 =>
(gI A5 (some a0) 11 54).bind fun v50 =>
(fX11_reg v28 g49 v50 A5).bind fun g51 =>
j30 g51) n) fun j2 =>
j2 (0 : Int32) (0 : Int32) A1

set_option maxHeartbeats 4000000 in
set_option maxRecDepth 100000 in
theorem sX11_together (l : Launch) (D : DE) (n : Nat) (a0 : Nat) (p1 : Int32) (A : AH) (g : AH) (hg : fX11_together n a0 p1 A = some g) : Sm l D yX11_together cX11_together 4 none 1 22 [tR (some a0), tI p1] A (wU g).1 (wU g).2 := by
  refine Sm.of (ω := wU) (fX11_together n a0 p1 A) [some (tR (some a0)), some (tI p1), none, none] (by decide) (Nat.le_of_ble_eq_true rfl) rfl hg ?_
  intro p e R s m args below meth c X hin
  have X : Cx D cX11_together RX11 4 1 22 none p R s m args meth c := X
  unfold fX11_together
  refine rf_aload_n X rfl dX11_together_0 ?_
  refine rf_iconst X (0 : Int32) rfl dX11_together_1 ?_
  refine rf_bind (fun A1 hA1 => ?_)
  refine rf_putI X fp_X11_325 (fun h => by cases h) hA1 dX11_together_2 ?_
  refine rf_iconst X (0 : Int32) rfl dX11_together_5 ?_
  refine rf_istore_n X (ls' := [some (tR (some a0)), some (tI p1), some (tI (0 : Int32)), none]) rfl (by decide) dX11_together_6 ?_
  refine rf_iconst X (0 : Int32) rfl dX11_together_7 ?_
  refine rf_istore_n X (ls' := [some (tR (some a0)), some (tI p1), some (tI (0 : Int32)), some (tI (0 : Int32))]) rfl (by decide) dX11_together_8 ?_
  refine rf_fix (fun i => ∀ (x3 : Int32) (x4 : Int32) (A5 : AH), RfX X l e below wU (i x3 x4 A5) 9 [some (tR (some a0)), some (tI p1), some (tI x3), some (tI x4)] [] A5) (fun _ _ _ => rf_none) (fun rc6 hrc6 => ?_) (fun j2 hj2 => ?_)
  · intro x3 x4 A5
    refine rf_iload_n X rfl dX11_together_9 ?_
    refine rf_aload_n X rfl dX11_together_10 ?_
    refine rf_bind (fun v7 hv7 => ?_)
    refine rf_getI X fl_X11_7 hv7 dX11_together_11 ?_
    refine rf_icmp_ge X (tgt := 100) rfl dX11_together_14 (fun c8 => rf_pos c8 ?_) (fun c8 => rf_neg c8 ?_)
    · refine rf_aload_n X rfl dX11_together_100 ?_
      refine rf_bind (fun v9 hv9 => ?_)
      refine rf_getI X fl_X11_220 hv9 dX11_together_101 ?_
      refine rf_bipush X (70 : Int32) rfl dX11_together_104 ?_
      refine rf_jn2 (fun i => ∀ (A11 : AH), RfX X l e below wU (i A11) 125 [some (tR (some a0)), none, some (tI x3), none] [] A11) ?_ (fun j10 hj10 => ?_)
      · intro A11
        refine rf_aload_n X rfl dX11_together_125 ?_
        refine rf_bind (fun v12 hv12 => ?_)
        refine rf_getI X fl_X11_220 hv12 dX11_together_126 ?_
        refine rf_bipush X (71 : Int32) rfl dX11_together_129 ?_
        refine rf_jn2 (fun i => ∀ (A14 : AH), RfX X l e below wU (i A14) 151 [none, none, none, none] [] A14) ?_ (fun j13 hj13 => ?_)
        · intro A14
          exact rf_vret X rfl dX11_together_151
        refine rf_icmp_ne X (tgt := 151) rfl dX11_together_131 (fun c15 => rf_neg c15 ?_) (fun c15 => rf_pos c15 ?_)
        · exact rf_go (hj13 A11) True.intro
        refine rf_aload_n X rfl dX11_together_134 ?_
        refine rf_aload_n X rfl dX11_together_135 ?_
        refine rf_bind (fun v16 hv16 => ?_)
        refine rf_getI X fl_X11_325 hv16 dX11_together_136 ?_
        refine rf_iload_n X rfl dX11_together_139 ?_
        refine rf_jn2 (fun i => ∀ (y18 : Int32), RfX X l e below wU (i y18) 148 [none, none, none, none] [tI y18, tR (some a0)] A11) ?_ (fun j17 hj17 => ?_)
        · intro y18
          refine rf_bind (fun A19 hA19 => ?_)
          refine rf_putI X fp_X11_325 (fun h => by cases h) hA19 dX11_together_148 ?_
          exact rf_go (hj13 A19) True.intro
        refine rf_icmp_ne X (tgt := 147) rfl dX11_together_140 (fun c20 => rf_neg c20 ?_) (fun c20 => rf_pos c20 ?_)
        · refine rf_iconst X (0 : Int32) rfl dX11_together_147 ?_
          exact rf_go (hj17 (0 : Int32)) True.intro
        refine rf_iconst X (1 : Int32) rfl dX11_together_143 ?_
        refine rf_goto X (tgt := 148) rfl dX11_together_144 ?_
        exact rf_go (hj17 (1 : Int32)) True.intro
      refine rf_icmp_ne X (tgt := 125) rfl dX11_together_106 (fun c21 => rf_neg c21 ?_) (fun c21 => rf_pos c21 ?_)
      · exact rf_go (hj10 A5) (And.intro rfl (And.intro rfl True.intro))
      refine rf_aload_n X rfl dX11_together_109 ?_
      refine rf_aload_n X rfl dX11_together_110 ?_
      refine rf_bind (fun v22 hv22 => ?_)
      refine rf_getI X fl_X11_325 hv22 dX11_together_111 ?_
      refine rf_jn2 (fun i => ∀ (y24 : Int32), RfX X l e below wU (i y24) 122 [some (tR (some a0)), none, some (tI x3), none] [tI y24, tR (some a0)] A5) ?_ (fun j23 hj23 => ?_)
      · intro y24
        refine rf_bind (fun A25 hA25 => ?_)
        refine rf_putI X fp_X11_325 (fun h => by cases h) hA25 dX11_together_122 ?_
        exact rf_go (hj10 A25) (And.intro rfl (And.intro rfl True.intro))
      refine rf_if_le X (tgt := 121) rfl dX11_together_114 (fun c26 => rf_pos c26 ?_) (fun c26 => rf_neg c26 ?_)
      · refine rf_iconst X (0 : Int32) rfl dX11_together_121 ?_
        exact rf_go (hj23 (0 : Int32)) (And.intro rfl (And.intro rfl True.intro))
      refine rf_iconst X (1 : Int32) rfl dX11_together_117 ?_
      refine rf_goto X (tgt := 122) rfl dX11_together_118 ?_
      exact rf_go (hj23 (1 : Int32)) (And.intro rfl (And.intro rfl True.intro))
    refine rf_aload_n X rfl dX11_together_17 ?_
    refine rf_bind (fun v27 hv27 => ?_)
    refine rf_getR X fl_X11_114 hv27 dX11_together_18 ?_
    refine rf_iload_n X rfl dX11_together_21 ?_
    refine rf_aload_n X rfl dX11_together_22 ?_
    refine rf_iload_n X rfl dX11_together_23 ?_
    refine rf_iload_n X rfl dX11_together_24 ?_
    refine rf_bind (fun v28 hv28 => ?_)
    refine rf_bind (fun g29 hg29 => ?_)
    refine rf_callVI X c_X11_208 ⟨Nat.le_of_ble_eq_true rfl, Nat.le_of_ble_eq_true rfl⟩ [tI p1, tI x4] rfl (Nat.le_of_ble_eq_true rfl) hv28 (sX11_isLane l D v28 p1 x4 A5 g29 hg29) dX11_together_25 ?_
    refine rf_jn2 (fun i => ∀ (y31 : Int32), RfX X l e below wU (i y31) 48 [some (tR (some a0)), some (tI p1), some (tI x3), some (tI x4)] [tI y31, tI x4, tR v27] A5) ?_ (fun j30 hj30 => ?_)
    · intro y31
      refine rf_bind (fun A32 hA32 => ?_)
      refine rf_iast X hA32 dX11_together_48 ?_
      refine rf_aload_n X rfl dX11_together_49 ?_
      refine rf_bind (fun v33 hv33 => ?_)
      refine rf_getR X fl_X11_111 hv33 dX11_together_50 ?_
      refine rf_iload_n X rfl dX11_together_53 ?_
      refine rf_bind (fun v34 hv34 => ?_)
      refine rf_zald X hv34 dX11_together_54 ?_
      refine rf_jn2 (fun i => ∀ (x36 : Int32) (A37 : AH), RfX X l e below wU (i x36 A37) 94 [some (tR (some a0)), some (tI p1), some (tI x36), some (tI x4)] [] A37) ?_ (fun j35 hj35 => ?_)
      · intro x36 A37
        refine rf_iinc X (x4 + (1 : Int32)) rfl rfl (ls' := [some (tR (some a0)), some (tI p1), some (tI x36), some (tI (x4 + (1 : Int32)))]) rfl (by decide) dX11_together_94 ?_
        refine rf_goto X (tgt := 9) rfl dX11_together_97 ?_
        exact rf_go (hrc6 x36 (x4 + (1 : Int32)) A37) (And.intro rfl (And.intro rfl (And.intro rfl (And.intro rfl True.intro))))
      refine rf_if_ne X (tgt := 61) rfl dX11_together_55 (fun c38 => rf_neg c38 ?_) (fun c38 => rf_pos c38 ?_)
      · refine rf_iinc X (x3 + (1 : Int32)) rfl rfl (ls' := [some (tR (some a0)), some (tI p1), some (tI (x3 + (1 : Int32))), some (tI x4)]) rfl (by decide) dX11_together_61 ?_
        refine rf_aload_n X rfl dX11_together_64 ?_
        refine rf_dup X rfl dX11_together_65 ?_
        refine rf_bind (fun v39 hv39 => ?_)
        refine rf_getI X fl_X11_325 hv39 dX11_together_66 ?_
        refine rf_aload_n X rfl dX11_together_69 ?_
        refine rf_iload_n X rfl dX11_together_70 ?_
        refine rf_iload_n X rfl dX11_together_71 ?_
        refine rf_bind (fun g40 hg40 => ?_)
        refine rf_callSI X c_X11_211 ⟨Nat.le_of_ble_eq_true rfl, Nat.le_of_ble_eq_true rfl⟩ [tI p1, tI x4] rfl (Nat.le_of_ble_eq_true rfl) (sX11_thread l D p1 x4 A32 g40 hg40) dX11_together_72 ?_
        refine rf_aload_n X rfl dX11_together_75 ?_
        refine rf_bind (fun v41 hv41 => ?_)
        refine rf_getI X fl_X11_228 hv41 dX11_together_76 ?_
        refine rf_bind (fun v42 hv42 => ?_)
        refine rf_bind (fun g43 hg43 => ?_)
        refine rf_callVI X c_X11_291 ⟨Nat.le_of_ble_eq_true rfl, Nat.le_of_ble_eq_true rfl⟩ [tI g40, tI v41] rfl (Nat.le_of_ble_eq_true rfl) hv42 (sX11_has l D v42 g40 v41 A32 g43 hg43) dX11_together_79 ?_
        refine rf_jn2 (fun i => ∀ (y45 : Int32), RfX X l e below wU (i y45) 90 [some (tR (some a0)), some (tI p1), some (tI (x3 + (1 : Int32))), some (tI x4)] [tI y45, tI v39, tR (some a0)] A32) ?_ (fun j44 hj44 => ?_)
        · intro y45
          refine rf_iadd X dX11_together_90 ?_
          refine rf_bind (fun A46 hA46 => ?_)
          refine rf_putI X fp_X11_325 (fun h => by cases h) hA46 dX11_together_91 ?_
          exact rf_go (hj35 (x3 + (1 : Int32)) A46) (And.intro rfl (And.intro rfl (And.intro rfl (And.intro rfl True.intro))))
        refine rf_if_eq X (tgt := 89) rfl dX11_together_82 (fun c47 => rf_pos c47 ?_) (fun c47 => rf_neg c47 ?_)
        · refine rf_iconst X (0 : Int32) rfl dX11_together_89 ?_
          exact rf_go (hj44 (0 : Int32)) (And.intro rfl (And.intro rfl (And.intro rfl (And.intro rfl True.intro))))
        refine rf_iconst X (1 : Int32) rfl dX11_together_85 ?_
        refine rf_goto X (tgt := 90) rfl dX11_together_86 ?_
        exact rf_go (hj44 (1 : Int32)) (And.intro rfl (And.intro rfl (And.intro rfl (And.intro rfl True.intro))))
      refine rf_goto X (tgt := 94) rfl dX11_together_58 ?_
      exact rf_go (hj35 x3 A32) (And.intro rfl (And.intro rfl (And.intro rfl (And.intro rfl True.intro))))
    refine rf_if_eq X (tgt := 47) rfl dX11_together_28 (fun c48 => rf_pos c48 ?_) (fun c48 => rf_neg c48 ?_)
    · refine rf_iconst X (0 : Int32) rfl dX11_together_47 ?_
      exact rf_go (hj30 (0 : Int32)) (And.intro rfl (And.intro rfl (And.intro rfl (And.intro rfl True.intro))))
    refine rf_aload_n X rfl dX11_together_31 ?_
    refine rf_iload_n X rfl dX11_together_32 ?_
    refine rf_iload_n X rfl dX11_together_33 ?_
    refine rf_bind (fun g49 hg49 => ?_)
    refine rf_callSI X c_X11_211 ⟨Nat.le_of_ble_eq_true rfl, Nat.le_of_ble_eq_true rfl⟩ [tI p1, tI x4] rfl (Nat.le_of_ble_eq_true rfl) (sX11_thread l D p1 x4 A5 g49 hg49) dX11_together_34 ?_
    refine rf_aload_n X rfl dX11_together_37 ?_
    refine rf_bind (fun v50 hv50 => ?_)
    refine rf_getI X fl_X11_228 hv50 dX11_together_38 ?_
    refine rf_bind (fun g51 hg51 => ?_)
    refine rf_callVI X c_X11_284 ⟨Nat.le_of_ble_eq_true rfl, Nat.le_of_ble_eq_true rfl⟩ [tI g49, tI v50] rfl (Nat.le_of_ble_eq_true rfl) hv28 (sX11_reg l D v28 g49 v50 A5 g51 hg51) dX11_together_41 ?_
    refine rf_goto X (tgt := 48) rfl dX11_together_44 ?_
    exact rf_go (hj30 g51) (And.intro rfl (And.intro rfl (And.intro rfl (And.intro rfl True.intro))))
  exact rf_go (hj2 (0 : Int32) (0 : Int32) A1) (And.intro rfl (And.intro rfl (And.intro rfl (And.intro rfl True.intro))))

theorem dX11_told_0 : decode cX11_told 0 = .ok (.aload_n 0, 1) := by decide +kernel
theorem dX11_told_1 : decode cX11_told 1 = .ok (.getfield 237, 3) := by decide +kernel
theorem dX11_told_4 : decode cX11_told 4 = .ok (.tableswitch 80 0 5 #[40, 54, 61, 66, 71, 73], 40) := by decide +kernel
theorem dX11_told_44 : decode cX11_told 44 = .ok (.aload_n 0, 1) := by decide +kernel
theorem dX11_told_45 : decode cX11_told 45 = .ok (.getfield 7, 3) := by decide +kernel
theorem dX11_told_48 : decode cX11_told 48 = .ok (.aload_n 0, 1) := by decide +kernel
theorem dX11_told_49 : decode cX11_told 49 = .ok (.getfield 57, 3) := by decide +kernel
theorem dX11_told_52 : decode cX11_told 52 = .ok (.iload_n 1, 1) := by decide +kernel
theorem dX11_told_53 : decode cX11_told 53 = .ok (.iaload, 1) := by decide +kernel
theorem dX11_told_54 : decode cX11_told 54 = .ok (.imul, 1) := by decide +kernel
theorem dX11_told_55 : decode cX11_told 55 = .ok (.iload_n 2, 1) := by decide +kernel
theorem dX11_told_56 : decode cX11_told 56 = .ok (.iadd, 1) := by decide +kernel
theorem dX11_told_57 : decode cX11_told 57 = .ok (.ireturn, 1) := by decide +kernel
theorem dX11_told_58 : decode cX11_told 58 = .ok (.aload_n 0, 1) := by decide +kernel
theorem dX11_told_59 : decode cX11_told 59 = .ok (.getfield 54, 3) := by decide +kernel
theorem dX11_told_62 : decode cX11_told 62 = .ok (.iload_n 1, 1) := by decide +kernel
theorem dX11_told_63 : decode cX11_told 63 = .ok (.iaload, 1) := by decide +kernel
theorem dX11_told_64 : decode cX11_told 64 = .ok (.ireturn, 1) := by decide +kernel
theorem dX11_told_65 : decode cX11_told 65 = .ok (.aload_n 0, 1) := by decide +kernel
theorem dX11_told_66 : decode cX11_told 66 = .ok (.getfield 153, 3) := by decide +kernel
theorem dX11_told_69 : decode cX11_told 69 = .ok (.ireturn, 1) := by decide +kernel
theorem dX11_told_70 : decode cX11_told 70 = .ok (.aload_n 0, 1) := by decide +kernel
theorem dX11_told_71 : decode cX11_told 71 = .ok (.getfield 150, 3) := by decide +kernel
theorem dX11_told_74 : decode cX11_told 74 = .ok (.ireturn, 1) := by decide +kernel
theorem dX11_told_75 : decode cX11_told 75 = .ok (.iload_n 2, 1) := by decide +kernel
theorem dX11_told_76 : decode cX11_told 76 = .ok (.ireturn, 1) := by decide +kernel
theorem dX11_told_77 : decode cX11_told 77 = .ok (.aload_n 0, 1) := by decide +kernel
theorem dX11_told_78 : decode cX11_told 78 = .ok (.getfield 57, 3) := by decide +kernel
theorem dX11_told_81 : decode cX11_told 81 = .ok (.iload_n 1, 1) := by decide +kernel
theorem dX11_told_82 : decode cX11_told 82 = .ok (.iaload, 1) := by decide +kernel
theorem dX11_told_83 : decode cX11_told 83 = .ok (.ireturn, 1) := by decide +kernel
theorem dX11_told_84 : decode cX11_told 84 = .ok (.aload_n 0, 1) := by decide +kernel
theorem dX11_told_85 : decode cX11_told 85 = .ok (.getfield 7, 3) := by decide +kernel
theorem dX11_told_88 : decode cX11_told 88 = .ok (.ireturn, 1) := by decide +kernel
def fX11_told (a0 : Nat) (p1 : Int32) (p2 : Int32) (A : AH) : Option (Int32) :=
(gI A (some a0) 11 57).bind fun v1 =>
if v1 = (0 : Int32) then ((gI A (some a0) 11 1).bind fun v3 =>
(gR A (some a0) 11 32).bind fun v4 =>
(aI A v4 p1).bind fun v5 =>
some ((v3 * v5) + p2)) else
if v1 = (1 : Int32) then ((gR A (some a0) 11 31).bind fun v7 =>
(aI A v7 p1).bind fun v8 =>
some v8) else
if v1 = (2 : Int32) then ((gI A (some a0) 11 13).bind fun v10 =>
some v10) else
if v1 = (3 : Int32) then ((gI A (some a0) 11 12).bind fun v12 =>
some v12) else
if v1 = (4 : Int32) then (some p2) else
if v1 = (5 : Int32) then ((gR A (some a0) 11 32).bind fun v15 =>
(aI A v15 p1).bind fun v16 =>
some v16) else
(gI A (some a0) 11 1).bind fun v17 =>
some v17

set_option maxHeartbeats 4000000 in
set_option maxRecDepth 100000 in
theorem sX11_told (l : Launch) (D : DE) (a0 : Nat) (p1 : Int32) (p2 : Int32) (A : AH) (g : Int32) (hg : fX11_told a0 p1 p2 A = some g) : Sm l D yX11_told cX11_told 3 (some Jvm.ClassFile.FieldType.int) 0 0 [tR (some a0), tI p1, tI p2] A (qI A g).1 (qI A g).2 := by
  refine Sm.of (ω := qI A) (fX11_told a0 p1 p2 A) [some (tR (some a0)), some (tI p1), some (tI p2)] (by decide) (Nat.le_of_ble_eq_true rfl) rfl hg ?_
  intro p e R s m args below meth c X hin
  have X : Cx D cX11_told RX11 3 0 0 (some Jvm.ClassFile.FieldType.int) p R s m args meth c := X
  unfold fX11_told
  refine rf_aload_n X rfl dX11_told_0 ?_
  refine rf_bind (fun v1 hv1 => ?_)
  refine rf_getI X fl_X11_237 hv1 dX11_told_1 ?_
  by_cases c2 : v1 = (0 : Int32)
  · refine rf_pos c2 ?_
    refine rf_tsIn X (0 : Int32) c2 (by decide) (by decide) (tgt := 44) rfl rfl dX11_told_4 ?_
    refine rf_aload_n X rfl dX11_told_44 ?_
    refine rf_bind (fun v3 hv3 => ?_)
    refine rf_getI X fl_X11_7 hv3 dX11_told_45 ?_
    refine rf_aload_n X rfl dX11_told_48 ?_
    refine rf_bind (fun v4 hv4 => ?_)
    refine rf_getR X fl_X11_57 hv4 dX11_told_49 ?_
    refine rf_iload_n X rfl dX11_told_52 ?_
    refine rf_bind (fun v5 hv5 => ?_)
    refine rf_iald X hv5 dX11_told_53 ?_
    refine rf_imul X dX11_told_54 ?_
    refine rf_iload_n X rfl dX11_told_55 ?_
    refine rf_iadd X dX11_told_56 ?_
    exact rf_iret X rfl dX11_told_57
  refine rf_neg c2 ?_
  by_cases c6 : v1 = (1 : Int32)
  · refine rf_pos c6 ?_
    refine rf_tsIn X (1 : Int32) c6 (by decide) (by decide) (tgt := 58) rfl rfl dX11_told_4 ?_
    refine rf_aload_n X rfl dX11_told_58 ?_
    refine rf_bind (fun v7 hv7 => ?_)
    refine rf_getR X fl_X11_54 hv7 dX11_told_59 ?_
    refine rf_iload_n X rfl dX11_told_62 ?_
    refine rf_bind (fun v8 hv8 => ?_)
    refine rf_iald X hv8 dX11_told_63 ?_
    exact rf_iret X rfl dX11_told_64
  refine rf_neg c6 ?_
  by_cases c9 : v1 = (2 : Int32)
  · refine rf_pos c9 ?_
    refine rf_tsIn X (2 : Int32) c9 (by decide) (by decide) (tgt := 65) rfl rfl dX11_told_4 ?_
    refine rf_aload_n X rfl dX11_told_65 ?_
    refine rf_bind (fun v10 hv10 => ?_)
    refine rf_getI X fl_X11_153 hv10 dX11_told_66 ?_
    exact rf_iret X rfl dX11_told_69
  refine rf_neg c9 ?_
  by_cases c11 : v1 = (3 : Int32)
  · refine rf_pos c11 ?_
    refine rf_tsIn X (3 : Int32) c11 (by decide) (by decide) (tgt := 70) rfl rfl dX11_told_4 ?_
    refine rf_aload_n X rfl dX11_told_70 ?_
    refine rf_bind (fun v12 hv12 => ?_)
    refine rf_getI X fl_X11_150 hv12 dX11_told_71 ?_
    exact rf_iret X rfl dX11_told_74
  refine rf_neg c11 ?_
  by_cases c13 : v1 = (4 : Int32)
  · refine rf_pos c13 ?_
    refine rf_tsIn X (4 : Int32) c13 (by decide) (by decide) (tgt := 75) rfl rfl dX11_told_4 ?_
    refine rf_iload_n X rfl dX11_told_75 ?_
    exact rf_iret X rfl dX11_told_76
  refine rf_neg c13 ?_
  by_cases c14 : v1 = (5 : Int32)
  · refine rf_pos c14 ?_
    refine rf_tsIn X (5 : Int32) c14 (by decide) (by decide) (tgt := 77) rfl rfl dX11_told_4 ?_
    refine rf_aload_n X rfl dX11_told_77 ?_
    refine rf_bind (fun v15 hv15 => ?_)
    refine rf_getR X fl_X11_57 hv15 dX11_told_78 ?_
    refine rf_iload_n X rfl dX11_told_81 ?_
    refine rf_bind (fun v16 hv16 => ?_)
    refine rf_iald X hv16 dX11_told_82 ?_
    exact rf_iret X rfl dX11_told_83
  refine rf_neg c14 ?_
  refine rf_tsOut X (ts_def (0) (5) [(0 : Int32), (1 : Int32), (2 : Int32), (3 : Int32), (4 : Int32), (5 : Int32)] 6 (by decide) (by decide) (List.forall_mem_cons.mpr ⟨c2, (List.forall_mem_cons.mpr ⟨c6, (List.forall_mem_cons.mpr ⟨c9, (List.forall_mem_cons.mpr ⟨c11, (List.forall_mem_cons.mpr ⟨c13, (List.forall_mem_cons.mpr ⟨c14, (fun _ h => absurd h List.not_mem_nil)⟩)⟩)⟩)⟩)⟩)⟩)) (tgt := 84) rfl dX11_told_4 ?_
  refine rf_aload_n X rfl dX11_told_84 ?_
  refine rf_bind (fun v17 hv17 => ?_)
  refine rf_getI X fl_X11_7 hv17 dX11_told_85 ?_
  exact rf_iret X rfl dX11_told_88

theorem dX11_reckon_0 : decode cX11_reckon 0 = .ok (.aload_n 0, 1) := by decide +kernel
theorem dX11_reckon_1 : decode cX11_reckon 1 = .ok (.getfield 220, 3) := by decide +kernel
theorem dX11_reckon_4 : decode cX11_reckon 4 = .ok (.tableswitch 209 4 20 #[84, 88, 92, 96, 110, 123, 127, 131, 135, 142, 149, 156, 167, 178, 188, 195, 202], 84) := by decide +kernel
theorem dX11_reckon_88 : decode cX11_reckon 88 = .ok (.iload_n 1, 1) := by decide +kernel
theorem dX11_reckon_89 : decode cX11_reckon 89 = .ok (.iload_n 2, 1) := by decide +kernel
theorem dX11_reckon_90 : decode cX11_reckon 90 = .ok (.iadd, 1) := by decide +kernel
theorem dX11_reckon_91 : decode cX11_reckon 91 = .ok (.ireturn, 1) := by decide +kernel
theorem dX11_reckon_92 : decode cX11_reckon 92 = .ok (.iload_n 1, 1) := by decide +kernel
theorem dX11_reckon_93 : decode cX11_reckon 93 = .ok (.iload_n 2, 1) := by decide +kernel
theorem dX11_reckon_94 : decode cX11_reckon 94 = .ok (.isub, 1) := by decide +kernel
theorem dX11_reckon_95 : decode cX11_reckon 95 = .ok (.ireturn, 1) := by decide +kernel
theorem dX11_reckon_96 : decode cX11_reckon 96 = .ok (.iload_n 1, 1) := by decide +kernel
theorem dX11_reckon_97 : decode cX11_reckon 97 = .ok (.iload_n 2, 1) := by decide +kernel
theorem dX11_reckon_98 : decode cX11_reckon 98 = .ok (.imul, 1) := by decide +kernel
theorem dX11_reckon_99 : decode cX11_reckon 99 = .ok (.ireturn, 1) := by decide +kernel
theorem dX11_reckon_100 : decode cX11_reckon 100 = .ok (.iload_n 2, 1) := by decide +kernel
theorem dX11_reckon_101 : decode cX11_reckon 101 = .ok (.iconst (-1), 1) := by decide +kernel
theorem dX11_reckon_102 : decode cX11_reckon 102 = .ok (.if_icmp .ne 8, 3) := by decide +kernel
theorem dX11_reckon_105 : decode cX11_reckon 105 = .ok (.iload_n 1, 1) := by decide +kernel
theorem dX11_reckon_106 : decode cX11_reckon 106 = .ok (.ineg, 1) := by decide +kernel
theorem dX11_reckon_107 : decode cX11_reckon 107 = .ok (.goto 6, 3) := by decide +kernel
theorem dX11_reckon_110 : decode cX11_reckon 110 = .ok (.iload_n 1, 1) := by decide +kernel
theorem dX11_reckon_111 : decode cX11_reckon 111 = .ok (.iload_n 2, 1) := by decide +kernel
theorem dX11_reckon_112 : decode cX11_reckon 112 = .ok (.idiv, 1) := by decide +kernel
theorem dX11_reckon_113 : decode cX11_reckon 113 = .ok (.ireturn, 1) := by decide +kernel
theorem dX11_reckon_114 : decode cX11_reckon 114 = .ok (.iload_n 2, 1) := by decide +kernel
theorem dX11_reckon_115 : decode cX11_reckon 115 = .ok (.iconst (-1), 1) := by decide +kernel
theorem dX11_reckon_116 : decode cX11_reckon 116 = .ok (.if_icmp .ne 7, 3) := by decide +kernel
theorem dX11_reckon_119 : decode cX11_reckon 119 = .ok (.iconst 0, 1) := by decide +kernel
theorem dX11_reckon_120 : decode cX11_reckon 120 = .ok (.goto 6, 3) := by decide +kernel
theorem dX11_reckon_123 : decode cX11_reckon 123 = .ok (.iload_n 1, 1) := by decide +kernel
theorem dX11_reckon_124 : decode cX11_reckon 124 = .ok (.iload_n 2, 1) := by decide +kernel
theorem dX11_reckon_125 : decode cX11_reckon 125 = .ok (.irem, 1) := by decide +kernel
theorem dX11_reckon_126 : decode cX11_reckon 126 = .ok (.ireturn, 1) := by decide +kernel
theorem dX11_reckon_127 : decode cX11_reckon 127 = .ok (.iload_n 1, 1) := by decide +kernel
theorem dX11_reckon_128 : decode cX11_reckon 128 = .ok (.iload_n 2, 1) := by decide +kernel
theorem dX11_reckon_129 : decode cX11_reckon 129 = .ok (.iand, 1) := by decide +kernel
theorem dX11_reckon_130 : decode cX11_reckon 130 = .ok (.ireturn, 1) := by decide +kernel
theorem dX11_reckon_131 : decode cX11_reckon 131 = .ok (.iload_n 1, 1) := by decide +kernel
theorem dX11_reckon_132 : decode cX11_reckon 132 = .ok (.iload_n 2, 1) := by decide +kernel
theorem dX11_reckon_133 : decode cX11_reckon 133 = .ok (.ior, 1) := by decide +kernel
theorem dX11_reckon_134 : decode cX11_reckon 134 = .ok (.ireturn, 1) := by decide +kernel
theorem dX11_reckon_135 : decode cX11_reckon 135 = .ok (.iload_n 1, 1) := by decide +kernel
theorem dX11_reckon_136 : decode cX11_reckon 136 = .ok (.iload_n 2, 1) := by decide +kernel
theorem dX11_reckon_137 : decode cX11_reckon 137 = .ok (.ixor, 1) := by decide +kernel
theorem dX11_reckon_138 : decode cX11_reckon 138 = .ok (.ireturn, 1) := by decide +kernel
theorem dX11_reckon_139 : decode cX11_reckon 139 = .ok (.iload_n 1, 1) := by decide +kernel
theorem dX11_reckon_140 : decode cX11_reckon 140 = .ok (.iload_n 2, 1) := by decide +kernel
theorem dX11_reckon_141 : decode cX11_reckon 141 = .ok (.bipush 31, 2) := by decide +kernel
theorem dX11_reckon_143 : decode cX11_reckon 143 = .ok (.iand, 1) := by decide +kernel
theorem dX11_reckon_144 : decode cX11_reckon 144 = .ok (.ishl, 1) := by decide +kernel
theorem dX11_reckon_145 : decode cX11_reckon 145 = .ok (.ireturn, 1) := by decide +kernel
theorem dX11_reckon_146 : decode cX11_reckon 146 = .ok (.iload_n 1, 1) := by decide +kernel
theorem dX11_reckon_147 : decode cX11_reckon 147 = .ok (.iload_n 2, 1) := by decide +kernel
theorem dX11_reckon_148 : decode cX11_reckon 148 = .ok (.bipush 31, 2) := by decide +kernel
theorem dX11_reckon_150 : decode cX11_reckon 150 = .ok (.iand, 1) := by decide +kernel
theorem dX11_reckon_151 : decode cX11_reckon 151 = .ok (.iushr, 1) := by decide +kernel
theorem dX11_reckon_152 : decode cX11_reckon 152 = .ok (.ireturn, 1) := by decide +kernel
theorem dX11_reckon_153 : decode cX11_reckon 153 = .ok (.iload_n 1, 1) := by decide +kernel
theorem dX11_reckon_154 : decode cX11_reckon 154 = .ok (.iload_n 2, 1) := by decide +kernel
theorem dX11_reckon_155 : decode cX11_reckon 155 = .ok (.bipush 31, 2) := by decide +kernel
theorem dX11_reckon_157 : decode cX11_reckon 157 = .ok (.iand, 1) := by decide +kernel
theorem dX11_reckon_158 : decode cX11_reckon 158 = .ok (.ishr, 1) := by decide +kernel
theorem dX11_reckon_159 : decode cX11_reckon 159 = .ok (.ireturn, 1) := by decide +kernel
theorem dX11_reckon_160 : decode cX11_reckon 160 = .ok (.iload_n 1, 1) := by decide +kernel
theorem dX11_reckon_161 : decode cX11_reckon 161 = .ok (.iload_n 2, 1) := by decide +kernel
theorem dX11_reckon_162 : decode cX11_reckon 162 = .ok (.if_icmp .ge 7, 3) := by decide +kernel
theorem dX11_reckon_165 : decode cX11_reckon 165 = .ok (.iload_n 1, 1) := by decide +kernel
theorem dX11_reckon_166 : decode cX11_reckon 166 = .ok (.goto 4, 3) := by decide +kernel
theorem dX11_reckon_169 : decode cX11_reckon 169 = .ok (.iload_n 2, 1) := by decide +kernel
theorem dX11_reckon_170 : decode cX11_reckon 170 = .ok (.ireturn, 1) := by decide +kernel
theorem dX11_reckon_171 : decode cX11_reckon 171 = .ok (.iload_n 1, 1) := by decide +kernel
theorem dX11_reckon_172 : decode cX11_reckon 172 = .ok (.iload_n 2, 1) := by decide +kernel
theorem dX11_reckon_173 : decode cX11_reckon 173 = .ok (.if_icmp .le 7, 3) := by decide +kernel
theorem dX11_reckon_176 : decode cX11_reckon 176 = .ok (.iload_n 1, 1) := by decide +kernel
theorem dX11_reckon_177 : decode cX11_reckon 177 = .ok (.goto 4, 3) := by decide +kernel
theorem dX11_reckon_180 : decode cX11_reckon 180 = .ok (.iload_n 2, 1) := by decide +kernel
theorem dX11_reckon_181 : decode cX11_reckon 181 = .ok (.ireturn, 1) := by decide +kernel
theorem dX11_reckon_182 : decode cX11_reckon 182 = .ok (.iload_n 1, 1) := by decide +kernel
theorem dX11_reckon_183 : decode cX11_reckon 183 = .ok (.i2l, 1) := by decide +kernel
theorem dX11_reckon_184 : decode cX11_reckon 184 = .ok (.iload_n 2, 1) := by decide +kernel
theorem dX11_reckon_185 : decode cX11_reckon 185 = .ok (.i2l, 1) := by decide +kernel
theorem dX11_reckon_186 : decode cX11_reckon 186 = .ok (.lmul, 1) := by decide +kernel
theorem dX11_reckon_187 : decode cX11_reckon 187 = .ok (.bipush 32, 2) := by decide +kernel
theorem dX11_reckon_189 : decode cX11_reckon 189 = .ok (.lshr, 1) := by decide +kernel
theorem dX11_reckon_190 : decode cX11_reckon 190 = .ok (.l2i, 1) := by decide +kernel
theorem dX11_reckon_191 : decode cX11_reckon 191 = .ok (.ireturn, 1) := by decide +kernel
theorem dX11_reckon_192 : decode cX11_reckon 192 = .ok (.iload_n 1, 1) := by decide +kernel
theorem dX11_reckon_193 : decode cX11_reckon 193 = .ok (.aload_n 0, 1) := by decide +kernel
theorem dX11_reckon_194 : decode cX11_reckon 194 = .ok (.getfield 237, 3) := by decide +kernel
theorem dX11_reckon_197 : decode cX11_reckon 197 = .ok (.iadd, 1) := by decide +kernel
theorem dX11_reckon_198 : decode cX11_reckon 198 = .ok (.ireturn, 1) := by decide +kernel
theorem dX11_reckon_199 : decode cX11_reckon 199 = .ok (.iload_n 1, 1) := by decide +kernel
theorem dX11_reckon_200 : decode cX11_reckon 200 = .ok (.aload_n 0, 1) := by decide +kernel
theorem dX11_reckon_201 : decode cX11_reckon 201 = .ok (.getfield 237, 3) := by decide +kernel
theorem dX11_reckon_204 : decode cX11_reckon 204 = .ok (.imul, 1) := by decide +kernel
theorem dX11_reckon_205 : decode cX11_reckon 205 = .ok (.ireturn, 1) := by decide +kernel
theorem dX11_reckon_206 : decode cX11_reckon 206 = .ok (.iload_n 1, 1) := by decide +kernel
theorem dX11_reckon_207 : decode cX11_reckon 207 = .ok (.aload_n 0, 1) := by decide +kernel
theorem dX11_reckon_208 : decode cX11_reckon 208 = .ok (.getfield 237, 3) := by decide +kernel
theorem dX11_reckon_211 : decode cX11_reckon 211 = .ok (.iand, 1) := by decide +kernel
theorem dX11_reckon_212 : decode cX11_reckon 212 = .ok (.ireturn, 1) := by decide +kernel
theorem dX11_reckon_213 : decode cX11_reckon 213 = .ok (.aload_n 0, 1) := by decide +kernel
theorem dX11_reckon_214 : decode cX11_reckon 214 = .ok (.iload_n 3, 1) := by decide +kernel
theorem dX11_reckon_215 : decode cX11_reckon 215 = .ok (.aload_n 0, 1) := by decide +kernel
theorem dX11_reckon_216 : decode cX11_reckon 216 = .ok (.getfield 237, 3) := by decide +kernel
theorem dX11_reckon_219 : decode cX11_reckon 219 = .ok (.invokevirtual 291, 3) := by decide +kernel
theorem dX11_reckon_222 : decode cX11_reckon 222 = .ok (.ifCond .eq 7, 3) := by decide +kernel
theorem dX11_reckon_225 : decode cX11_reckon 225 = .ok (.iload_n 1, 1) := by decide +kernel
theorem dX11_reckon_226 : decode cX11_reckon 226 = .ok (.goto 4, 3) := by decide +kernel
theorem dX11_reckon_229 : decode cX11_reckon 229 = .ok (.iload_n 2, 1) := by decide +kernel
theorem dX11_reckon_230 : decode cX11_reckon 230 = .ok (.ireturn, 1) := by decide +kernel
def fX11_reckon (a0 : Nat) (p1 : Int32) (p2 : Int32) (p3 : Int32) (A : AH) : Option (Int32) :=
(gI A (some a0) 11 52).bind fun v1 =>
if v1 = (4 : Int32) then (some (p1 + p2)) else
if v1 = (5 : Int32) then (some (p1 - p2)) else
if v1 = (6 : Int32) then (some (p1 * p2)) else
if v1 = (7 : Int32) then (jn (fun (y7 : Int32) =>
some y7) fun j6 =>
if p2 = (-1 : Int32) then (j6 (-p1)) else
(dz p2).bind fun v9 =>
j6 (p1 / p2)) else
if v1 = (8 : Int32) then (jn (fun (y12 : Int32) =>
some y12) fun j11 =>
if p2 = (-1 : Int32) then (j11 (0 : Int32)) else
(dz p2).bind fun v14 =>
j11 (p1 - p1 / p2 * p2)) else
if v1 = (9 : Int32) then (some (p1 &&& p2)) else
if v1 = (10 : Int32) then (some (p1 ||| p2)) else
if v1 = (11 : Int32) then (some (p1 ^^^ p2)) else
if v1 = (12 : Int32) then (some (p1 <<< ((p2 &&& (31 : Int32)) &&& 31))) else
if v1 = (13 : Int32) then (some ((Int32.toUInt32 p1 >>> (Int32.toUInt32 (p2 &&& (31 : Int32)) &&& Int32.toUInt32 31)).toInt32)) else
if v1 = (14 : Int32) then (some (p1 >>> ((p2 &&& (31 : Int32)) &&& 31))) else
if v1 = (15 : Int32) then (jn (fun (y23 : Int32) =>
some y23) fun j22 =>
if p2 ≤ p1 then (j22 p2) else
j22 p1) else
if v1 = (16 : Int32) then (jn (fun (y27 : Int32) =>
some y27) fun j26 =>
if p1 ≤ p2 then (j26 p2) else
j26 p1) else
if v1 = (17 : Int32) then (some (Int64.toInt32 (((Int32.toInt64 p1) * (Int32.toInt64 p2)) >>> (Int32.toInt64 (32 : Int32) &&& 63)))) else
if v1 = (18 : Int32) then ((gI A (some a0) 11 57).bind fun v31 =>
some (p1 + v31)) else
if v1 = (19 : Int32) then ((gI A (some a0) 11 57).bind fun v33 =>
some (p1 * v33)) else
if v1 = (20 : Int32) then ((gI A (some a0) 11 57).bind fun v35 =>
some (p1 &&& v35)) else
(gI A (some a0) 11 57).bind fun v36 =>
(rcv A (some a0) 11).bind fun v37 =>
(fX11_has v37 p3 v36 A).bind fun g38 =>
jn (fun (y40 : Int32) =>
some y40) fun j39 =>
if g38 = 0 then (j39 p2) else
j39 p1

set_option maxHeartbeats 4000000 in
set_option maxRecDepth 100000 in
theorem sX11_reckon (l : Launch) (D : DE) (a0 : Nat) (p1 : Int32) (p2 : Int32) (p3 : Int32) (A : AH) (g : Int32) (hg : fX11_reckon a0 p1 p2 p3 A = some g) : Sm l D yX11_reckon cX11_reckon 4 (some Jvm.ClassFile.FieldType.int) 1 22 [tR (some a0), tI p1, tI p2, tI p3] A (qI A g).1 (qI A g).2 := by
  refine Sm.of (ω := qI A) (fX11_reckon a0 p1 p2 p3 A) [some (tR (some a0)), some (tI p1), some (tI p2), some (tI p3)] (by decide) (Nat.le_of_ble_eq_true rfl) rfl hg ?_
  intro p e R s m args below meth c X hin
  have X : Cx D cX11_reckon RX11 4 1 22 (some Jvm.ClassFile.FieldType.int) p R s m args meth c := X
  unfold fX11_reckon
  refine rf_aload_n X rfl dX11_reckon_0 ?_
  refine rf_bind (fun v1 hv1 => ?_)
  refine rf_getI X fl_X11_220 hv1 dX11_reckon_1 ?_
  by_cases c2 : v1 = (4 : Int32)
  · refine rf_pos c2 ?_
    refine rf_tsIn X (4 : Int32) c2 (by decide) (by decide) (tgt := 88) rfl rfl dX11_reckon_4 ?_
    refine rf_iload_n X rfl dX11_reckon_88 ?_
    refine rf_iload_n X rfl dX11_reckon_89 ?_
    refine rf_iadd X dX11_reckon_90 ?_
    exact rf_iret X rfl dX11_reckon_91
  refine rf_neg c2 ?_
  by_cases c3 : v1 = (5 : Int32)
  · refine rf_pos c3 ?_
    refine rf_tsIn X (5 : Int32) c3 (by decide) (by decide) (tgt := 92) rfl rfl dX11_reckon_4 ?_
    refine rf_iload_n X rfl dX11_reckon_92 ?_
    refine rf_iload_n X rfl dX11_reckon_93 ?_
    refine rf_isub X dX11_reckon_94 ?_
    exact rf_iret X rfl dX11_reckon_95
  refine rf_neg c3 ?_
  by_cases c4 : v1 = (6 : Int32)
  · refine rf_pos c4 ?_
    refine rf_tsIn X (6 : Int32) c4 (by decide) (by decide) (tgt := 96) rfl rfl dX11_reckon_4 ?_
    refine rf_iload_n X rfl dX11_reckon_96 ?_
    refine rf_iload_n X rfl dX11_reckon_97 ?_
    refine rf_imul X dX11_reckon_98 ?_
    exact rf_iret X rfl dX11_reckon_99
  refine rf_neg c4 ?_
  by_cases c5 : v1 = (7 : Int32)
  · refine rf_pos c5 ?_
    refine rf_tsIn X (7 : Int32) c5 (by decide) (by decide) (tgt := 100) rfl rfl dX11_reckon_4 ?_
    refine rf_iload_n X rfl dX11_reckon_100 ?_
    refine rf_iconst X (-1 : Int32) rfl dX11_reckon_101 ?_
    refine rf_jn2 (fun i => ∀ (y7 : Int32), RfX X l e below (qI A) (i y7) 113 [none, none, none, none] [tI y7] A) ?_ (fun j6 hj6 => ?_)
    · intro y7
      exact rf_iret X rfl dX11_reckon_113
    refine rf_icmp_ne X (tgt := 110) rfl dX11_reckon_102 (fun c8 => rf_neg c8 ?_) (fun c8 => rf_pos c8 ?_)
    · refine rf_iload_n X rfl dX11_reckon_110 ?_
      refine rf_iload_n X rfl dX11_reckon_111 ?_
      refine rf_bind (fun v9 hv9 => ?_)
      refine rf_idiv X (dz_spec hv9) dX11_reckon_112 ?_
      exact rf_go (hj6 (p1 / p2)) True.intro
    refine rf_iload_n X rfl dX11_reckon_105 ?_
    refine rf_ineg X dX11_reckon_106 ?_
    refine rf_goto X (tgt := 113) rfl dX11_reckon_107 ?_
    exact rf_go (hj6 (-p1)) True.intro
  refine rf_neg c5 ?_
  by_cases c10 : v1 = (8 : Int32)
  · refine rf_pos c10 ?_
    refine rf_tsIn X (8 : Int32) c10 (by decide) (by decide) (tgt := 114) rfl rfl dX11_reckon_4 ?_
    refine rf_iload_n X rfl dX11_reckon_114 ?_
    refine rf_iconst X (-1 : Int32) rfl dX11_reckon_115 ?_
    refine rf_jn2 (fun i => ∀ (y12 : Int32), RfX X l e below (qI A) (i y12) 126 [none, none, none, none] [tI y12] A) ?_ (fun j11 hj11 => ?_)
    · intro y12
      exact rf_iret X rfl dX11_reckon_126
    refine rf_icmp_ne X (tgt := 123) rfl dX11_reckon_116 (fun c13 => rf_neg c13 ?_) (fun c13 => rf_pos c13 ?_)
    · refine rf_iload_n X rfl dX11_reckon_123 ?_
      refine rf_iload_n X rfl dX11_reckon_124 ?_
      refine rf_bind (fun v14 hv14 => ?_)
      refine rf_irem X (dz_spec hv14) dX11_reckon_125 ?_
      exact rf_go (hj11 (p1 - p1 / p2 * p2)) True.intro
    refine rf_iconst X (0 : Int32) rfl dX11_reckon_119 ?_
    refine rf_goto X (tgt := 126) rfl dX11_reckon_120 ?_
    exact rf_go (hj11 (0 : Int32)) True.intro
  refine rf_neg c10 ?_
  by_cases c15 : v1 = (9 : Int32)
  · refine rf_pos c15 ?_
    refine rf_tsIn X (9 : Int32) c15 (by decide) (by decide) (tgt := 127) rfl rfl dX11_reckon_4 ?_
    refine rf_iload_n X rfl dX11_reckon_127 ?_
    refine rf_iload_n X rfl dX11_reckon_128 ?_
    refine rf_iand X dX11_reckon_129 ?_
    exact rf_iret X rfl dX11_reckon_130
  refine rf_neg c15 ?_
  by_cases c16 : v1 = (10 : Int32)
  · refine rf_pos c16 ?_
    refine rf_tsIn X (10 : Int32) c16 (by decide) (by decide) (tgt := 131) rfl rfl dX11_reckon_4 ?_
    refine rf_iload_n X rfl dX11_reckon_131 ?_
    refine rf_iload_n X rfl dX11_reckon_132 ?_
    refine rf_ior X dX11_reckon_133 ?_
    exact rf_iret X rfl dX11_reckon_134
  refine rf_neg c16 ?_
  by_cases c17 : v1 = (11 : Int32)
  · refine rf_pos c17 ?_
    refine rf_tsIn X (11 : Int32) c17 (by decide) (by decide) (tgt := 135) rfl rfl dX11_reckon_4 ?_
    refine rf_iload_n X rfl dX11_reckon_135 ?_
    refine rf_iload_n X rfl dX11_reckon_136 ?_
    refine rf_ixor X dX11_reckon_137 ?_
    exact rf_iret X rfl dX11_reckon_138
  refine rf_neg c17 ?_
  by_cases c18 : v1 = (12 : Int32)
  · refine rf_pos c18 ?_
    refine rf_tsIn X (12 : Int32) c18 (by decide) (by decide) (tgt := 139) rfl rfl dX11_reckon_4 ?_
    refine rf_iload_n X rfl dX11_reckon_139 ?_
    refine rf_iload_n X rfl dX11_reckon_140 ?_
    refine rf_bipush X (31 : Int32) rfl dX11_reckon_141 ?_
    refine rf_iand X dX11_reckon_143 ?_
    refine rf_ishl X dX11_reckon_144 ?_
    exact rf_iret X rfl dX11_reckon_145
  refine rf_neg c18 ?_
  by_cases c19 : v1 = (13 : Int32)
  · refine rf_pos c19 ?_
    refine rf_tsIn X (13 : Int32) c19 (by decide) (by decide) (tgt := 146) rfl rfl dX11_reckon_4 ?_
    refine rf_iload_n X rfl dX11_reckon_146 ?_
    refine rf_iload_n X rfl dX11_reckon_147 ?_
    refine rf_bipush X (31 : Int32) rfl dX11_reckon_148 ?_
    refine rf_iand X dX11_reckon_150 ?_
    refine rf_iushr X dX11_reckon_151 ?_
    exact rf_iret X rfl dX11_reckon_152
  refine rf_neg c19 ?_
  by_cases c20 : v1 = (14 : Int32)
  · refine rf_pos c20 ?_
    refine rf_tsIn X (14 : Int32) c20 (by decide) (by decide) (tgt := 153) rfl rfl dX11_reckon_4 ?_
    refine rf_iload_n X rfl dX11_reckon_153 ?_
    refine rf_iload_n X rfl dX11_reckon_154 ?_
    refine rf_bipush X (31 : Int32) rfl dX11_reckon_155 ?_
    refine rf_iand X dX11_reckon_157 ?_
    refine rf_ishr X dX11_reckon_158 ?_
    exact rf_iret X rfl dX11_reckon_159
  refine rf_neg c20 ?_
  by_cases c21 : v1 = (15 : Int32)
  · refine rf_pos c21 ?_
    refine rf_tsIn X (15 : Int32) c21 (by decide) (by decide) (tgt := 160) rfl rfl dX11_reckon_4 ?_
    refine rf_iload_n X rfl dX11_reckon_160 ?_
    refine rf_iload_n X rfl dX11_reckon_161 ?_
    refine rf_jn2 (fun i => ∀ (y23 : Int32), RfX X l e below (qI A) (i y23) 170 [none, none, none, none] [tI y23] A) ?_ (fun j22 hj22 => ?_)
    · intro y23
      exact rf_iret X rfl dX11_reckon_170
    refine rf_icmp_ge X (tgt := 169) rfl dX11_reckon_162 (fun c24 => rf_pos c24 ?_) (fun c24 => rf_neg c24 ?_)
    · refine rf_iload_n X rfl dX11_reckon_169 ?_
      exact rf_go (hj22 p2) True.intro
    refine rf_iload_n X rfl dX11_reckon_165 ?_
    refine rf_goto X (tgt := 170) rfl dX11_reckon_166 ?_
    exact rf_go (hj22 p1) True.intro
  refine rf_neg c21 ?_
  by_cases c25 : v1 = (16 : Int32)
  · refine rf_pos c25 ?_
    refine rf_tsIn X (16 : Int32) c25 (by decide) (by decide) (tgt := 171) rfl rfl dX11_reckon_4 ?_
    refine rf_iload_n X rfl dX11_reckon_171 ?_
    refine rf_iload_n X rfl dX11_reckon_172 ?_
    refine rf_jn2 (fun i => ∀ (y27 : Int32), RfX X l e below (qI A) (i y27) 181 [none, none, none, none] [tI y27] A) ?_ (fun j26 hj26 => ?_)
    · intro y27
      exact rf_iret X rfl dX11_reckon_181
    refine rf_icmp_le X (tgt := 180) rfl dX11_reckon_173 (fun c28 => rf_pos c28 ?_) (fun c28 => rf_neg c28 ?_)
    · refine rf_iload_n X rfl dX11_reckon_180 ?_
      exact rf_go (hj26 p2) True.intro
    refine rf_iload_n X rfl dX11_reckon_176 ?_
    refine rf_goto X (tgt := 181) rfl dX11_reckon_177 ?_
    exact rf_go (hj26 p1) True.intro
  refine rf_neg c25 ?_
  by_cases c29 : v1 = (17 : Int32)
  · refine rf_pos c29 ?_
    refine rf_tsIn X (17 : Int32) c29 (by decide) (by decide) (tgt := 182) rfl rfl dX11_reckon_4 ?_
    refine rf_iload_n X rfl dX11_reckon_182 ?_
    refine rf_i2l X dX11_reckon_183 ?_
    refine rf_iload_n X rfl dX11_reckon_184 ?_
    refine rf_i2l X dX11_reckon_185 ?_
    refine rf_lmul X dX11_reckon_186 ?_
    refine rf_bipush X (32 : Int32) rfl dX11_reckon_187 ?_
    refine rf_lshr X dX11_reckon_189 ?_
    refine rf_l2i X dX11_reckon_190 ?_
    exact rf_iret X rfl dX11_reckon_191
  refine rf_neg c29 ?_
  by_cases c30 : v1 = (18 : Int32)
  · refine rf_pos c30 ?_
    refine rf_tsIn X (18 : Int32) c30 (by decide) (by decide) (tgt := 192) rfl rfl dX11_reckon_4 ?_
    refine rf_iload_n X rfl dX11_reckon_192 ?_
    refine rf_aload_n X rfl dX11_reckon_193 ?_
    refine rf_bind (fun v31 hv31 => ?_)
    refine rf_getI X fl_X11_237 hv31 dX11_reckon_194 ?_
    refine rf_iadd X dX11_reckon_197 ?_
    exact rf_iret X rfl dX11_reckon_198
  refine rf_neg c30 ?_
  by_cases c32 : v1 = (19 : Int32)
  · refine rf_pos c32 ?_
    refine rf_tsIn X (19 : Int32) c32 (by decide) (by decide) (tgt := 199) rfl rfl dX11_reckon_4 ?_
    refine rf_iload_n X rfl dX11_reckon_199 ?_
    refine rf_aload_n X rfl dX11_reckon_200 ?_
    refine rf_bind (fun v33 hv33 => ?_)
    refine rf_getI X fl_X11_237 hv33 dX11_reckon_201 ?_
    refine rf_imul X dX11_reckon_204 ?_
    exact rf_iret X rfl dX11_reckon_205
  refine rf_neg c32 ?_
  by_cases c34 : v1 = (20 : Int32)
  · refine rf_pos c34 ?_
    refine rf_tsIn X (20 : Int32) c34 (by decide) (by decide) (tgt := 206) rfl rfl dX11_reckon_4 ?_
    refine rf_iload_n X rfl dX11_reckon_206 ?_
    refine rf_aload_n X rfl dX11_reckon_207 ?_
    refine rf_bind (fun v35 hv35 => ?_)
    refine rf_getI X fl_X11_237 hv35 dX11_reckon_208 ?_
    refine rf_iand X dX11_reckon_211 ?_
    exact rf_iret X rfl dX11_reckon_212
  refine rf_neg c34 ?_
  refine rf_tsOut X (ts_def (4) (20) [(4 : Int32), (5 : Int32), (6 : Int32), (7 : Int32), (8 : Int32), (9 : Int32), (10 : Int32), (11 : Int32), (12 : Int32), (13 : Int32), (14 : Int32), (15 : Int32), (16 : Int32), (17 : Int32), (18 : Int32), (19 : Int32), (20 : Int32)] 17 (by decide) (by decide) (List.forall_mem_cons.mpr ⟨c2, (List.forall_mem_cons.mpr ⟨c3, (List.forall_mem_cons.mpr ⟨c4, (List.forall_mem_cons.mpr ⟨c5, (List.forall_mem_cons.mpr ⟨c10, (List.forall_mem_cons.mpr ⟨c15, (List.forall_mem_cons.mpr ⟨c16, (List.forall_mem_cons.mpr ⟨c17, (List.forall_mem_cons.mpr ⟨c18, (List.forall_mem_cons.mpr ⟨c19, (List.forall_mem_cons.mpr ⟨c20, (List.forall_mem_cons.mpr ⟨c21, (List.forall_mem_cons.mpr ⟨c25, (List.forall_mem_cons.mpr ⟨c29, (List.forall_mem_cons.mpr ⟨c30, (List.forall_mem_cons.mpr ⟨c32, (List.forall_mem_cons.mpr ⟨c34, (fun _ h => absurd h List.not_mem_nil)⟩)⟩)⟩)⟩)⟩)⟩)⟩)⟩)⟩)⟩)⟩)⟩)⟩)⟩)⟩)⟩)⟩)) (tgt := 213) rfl dX11_reckon_4 ?_
  refine rf_aload_n X rfl dX11_reckon_213 ?_
  refine rf_iload_n X rfl dX11_reckon_214 ?_
  refine rf_aload_n X rfl dX11_reckon_215 ?_
  refine rf_bind (fun v36 hv36 => ?_)
  refine rf_getI X fl_X11_237 hv36 dX11_reckon_216 ?_
  refine rf_bind (fun v37 hv37 => ?_)
  refine rf_bind (fun g38 hg38 => ?_)
  refine rf_callVI X c_X11_291 ⟨Nat.le_of_ble_eq_true rfl, Nat.le_of_ble_eq_true rfl⟩ [tI p3, tI v36] rfl (Nat.le_of_ble_eq_true rfl) hv37 (sX11_has l D v37 p3 v36 A g38 hg38) dX11_reckon_219 ?_
  refine rf_jn2 (fun i => ∀ (y40 : Int32), RfX X l e below (qI A) (i y40) 230 [none, none, none, none] [tI y40] A) ?_ (fun j39 hj39 => ?_)
  · intro y40
    exact rf_iret X rfl dX11_reckon_230
  refine rf_if_eq X (tgt := 229) rfl dX11_reckon_222 (fun c41 => rf_pos c41 ?_) (fun c41 => rf_neg c41 ?_)
  · refine rf_iload_n X rfl dX11_reckon_229 ?_
    exact rf_go (hj39 p2) True.intro
  refine rf_iload_n X rfl dX11_reckon_225 ?_
  refine rf_goto X (tgt := 230) rfl dX11_reckon_226 ?_
  exact rf_go (hj39 p1) True.intro

theorem dX11_say_0 : decode cX11_say 0 = .ok (.iconst 1, 1) := by decide +kernel
theorem dX11_say_1 : decode cX11_say 1 = .ok (.aload_n 0, 1) := by decide +kernel
theorem dX11_say_2 : decode cX11_say 2 = .ok (.getfield 225, 3) := by decide +kernel
theorem dX11_say_5 : decode cX11_say 5 = .ok (.iconst 3, 1) := by decide +kernel
theorem dX11_say_6 : decode cX11_say 6 = .ok (.iand, 1) := by decide +kernel
theorem dX11_say_7 : decode cX11_say 7 = .ok (.ishl, 1) := by decide +kernel
theorem dX11_say_8 : decode cX11_say 8 = .ok (.istore_n 3, 1) := by decide +kernel
theorem dX11_say_9 : decode cX11_say 9 = .ok (.aload_n 0, 1) := by decide +kernel
theorem dX11_say_10 : decode cX11_say 10 = .ok (.getfield 70, 3) := by decide +kernel
theorem dX11_say_13 : decode cX11_say 13 = .ok (.iload_n 1, 1) := by decide +kernel
theorem dX11_say_14 : decode cX11_say 14 = .ok (.iload_n 2, 1) := by decide +kernel
theorem dX11_say_15 : decode cX11_say 15 = .ok (.ifCond .eq 14, 3) := by decide +kernel
theorem dX11_say_18 : decode cX11_say 18 = .ok (.aload_n 0, 1) := by decide +kernel
theorem dX11_say_19 : decode cX11_say 19 = .ok (.getfield 70, 3) := by decide +kernel
theorem dX11_say_22 : decode cX11_say 22 = .ok (.iload_n 1, 1) := by decide +kernel
theorem dX11_say_23 : decode cX11_say 23 = .ok (.iaload, 1) := by decide +kernel
theorem dX11_say_24 : decode cX11_say 24 = .ok (.iload_n 3, 1) := by decide +kernel
theorem dX11_say_25 : decode cX11_say 25 = .ok (.ior, 1) := by decide +kernel
theorem dX11_say_26 : decode cX11_say 26 = .ok (.goto 13, 3) := by decide +kernel
theorem dX11_say_29 : decode cX11_say 29 = .ok (.aload_n 0, 1) := by decide +kernel
theorem dX11_say_30 : decode cX11_say 30 = .ok (.getfield 70, 3) := by decide +kernel
theorem dX11_say_33 : decode cX11_say 33 = .ok (.iload_n 1, 1) := by decide +kernel
theorem dX11_say_34 : decode cX11_say 34 = .ok (.iaload, 1) := by decide +kernel
theorem dX11_say_35 : decode cX11_say 35 = .ok (.iload_n 3, 1) := by decide +kernel
theorem dX11_say_36 : decode cX11_say 36 = .ok (.iconst (-1), 1) := by decide +kernel
theorem dX11_say_37 : decode cX11_say 37 = .ok (.ixor, 1) := by decide +kernel
theorem dX11_say_38 : decode cX11_say 38 = .ok (.iand, 1) := by decide +kernel
theorem dX11_say_39 : decode cX11_say 39 = .ok (.iastore, 1) := by decide +kernel
theorem dX11_say_40 : decode cX11_say 40 = .ok (.return_, 1) := by decide +kernel
def fX11_say (a0 : Nat) (p1 : Int32) (p2 : Int32) (A : AH) : Option (AH) :=
(gI A (some a0) 11 53).bind fun v1 =>
(gR A (some a0) 11 36).bind fun v2 =>
jn (fun (y4 : Int32) =>
(sI A v2 p1 y4).bind fun A5 =>
some A5) fun j3 =>
if p2 = 0 then ((aI A v2 p1).bind fun v7 =>
j3 (v7 &&& (((1 : Int32) <<< ((v1 &&& (3 : Int32)) &&& 31)) ^^^ (-1 : Int32)))) else
(aI A v2 p1).bind fun v8 =>
j3 (v8 ||| ((1 : Int32) <<< ((v1 &&& (3 : Int32)) &&& 31)))

set_option maxHeartbeats 4000000 in
set_option maxRecDepth 100000 in
theorem sX11_say (l : Launch) (D : DE) (a0 : Nat) (p1 : Int32) (p2 : Int32) (A : AH) (g : AH) (hg : fX11_say a0 p1 p2 A = some g) : Sm l D yX11_say cX11_say 4 none 0 0 [tR (some a0), tI p1, tI p2] A (wU g).1 (wU g).2 := by
  refine Sm.of (ω := wU) (fX11_say a0 p1 p2 A) [some (tR (some a0)), some (tI p1), some (tI p2), none] (by decide) (Nat.le_of_ble_eq_true rfl) rfl hg ?_
  intro p e R s m args below meth c X hin
  have X : Cx D cX11_say RX11 4 0 0 none p R s m args meth c := X
  unfold fX11_say
  refine rf_iconst X (1 : Int32) rfl dX11_say_0 ?_
  refine rf_aload_n X rfl dX11_say_1 ?_
  refine rf_bind (fun v1 hv1 => ?_)
  refine rf_getI X fl_X11_225 hv1 dX11_say_2 ?_
  refine rf_iconst X (3 : Int32) rfl dX11_say_5 ?_
  refine rf_iand X dX11_say_6 ?_
  refine rf_ishl X dX11_say_7 ?_
  refine rf_istore_n X (ls' := [some (tR (some a0)), some (tI p1), some (tI p2), some (tI ((1 : Int32) <<< ((v1 &&& (3 : Int32)) &&& 31)))]) rfl (by decide) dX11_say_8 ?_
  refine rf_aload_n X rfl dX11_say_9 ?_
  refine rf_bind (fun v2 hv2 => ?_)
  refine rf_getR X fl_X11_70 hv2 dX11_say_10 ?_
  refine rf_iload_n X rfl dX11_say_13 ?_
  refine rf_iload_n X rfl dX11_say_14 ?_
  refine rf_jn2 (fun i => ∀ (y4 : Int32), RfX X l e below wU (i y4) 39 [none, none, none, none] [tI y4, tI p1, tR v2] A) ?_ (fun j3 hj3 => ?_)
  · intro y4
    refine rf_bind (fun A5 hA5 => ?_)
    refine rf_iast X hA5 dX11_say_39 ?_
    exact rf_vret X rfl dX11_say_40
  refine rf_if_eq X (tgt := 29) rfl dX11_say_15 (fun c6 => rf_pos c6 ?_) (fun c6 => rf_neg c6 ?_)
  · refine rf_aload_n X rfl dX11_say_29 ?_
    refine rf_getR X fl_X11_70 hv2 dX11_say_30 ?_
    refine rf_iload_n X rfl dX11_say_33 ?_
    refine rf_bind (fun v7 hv7 => ?_)
    refine rf_iald X hv7 dX11_say_34 ?_
    refine rf_iload_n X rfl dX11_say_35 ?_
    refine rf_iconst X (-1 : Int32) rfl dX11_say_36 ?_
    refine rf_ixor X dX11_say_37 ?_
    refine rf_iand X dX11_say_38 ?_
    exact rf_go (hj3 (v7 &&& (((1 : Int32) <<< ((v1 &&& (3 : Int32)) &&& 31)) ^^^ (-1 : Int32)))) True.intro
  refine rf_aload_n X rfl dX11_say_18 ?_
  refine rf_getR X fl_X11_70 hv2 dX11_say_19 ?_
  refine rf_iload_n X rfl dX11_say_22 ?_
  refine rf_bind (fun v8 hv8 => ?_)
  refine rf_iald X hv8 dX11_say_23 ?_
  refine rf_iload_n X rfl dX11_say_24 ?_
  refine rf_ior X dX11_say_25 ?_
  refine rf_goto X (tgt := 39) rfl dX11_say_26 ?_
  exact rf_go (hj3 (v8 ||| ((1 : Int32) <<< ((v1 &&& (3 : Int32)) &&& 31)))) True.intro

