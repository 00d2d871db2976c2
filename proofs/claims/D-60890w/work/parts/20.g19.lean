/-! 20.g19: printed by gen/parts.py -/
set_option maxRecDepth 100000
theorem fl_X11_73 : FLr RX11 73 11 37 := ⟨RX11, TX11, 60, "WarpMillModel", "", rfl, by decide, in_X11, Or.inl q1594, Or.inl rfl⟩
theorem fl_X11_70 : FLr RX11 70 11 36 := ⟨RX11, TX11, 60, "WarpMillModel", "", rfl, by decide, in_X11, Or.inl q1593, Or.inl rfl⟩
theorem fl_X11_76 : FLr RX11 76 11 38 := ⟨RX11, TX11, 60, "WarpMillModel", "", rfl, by decide, in_X11, Or.inl q1595, Or.inl rfl⟩
theorem fl_X11_80 : FLr RX11 80 11 39 := ⟨RX11, TX11, 60, "WarpMillModel", "", rfl, by decide, in_X11, Or.inl q1596, Or.inl rfl⟩
theorem fl_X11_83 : FLr RX11 83 11 40 := ⟨RX11, TX11, 60, "WarpMillModel", "", rfl, by decide, in_X11, Or.inl q1597, Or.inl rfl⟩
theorem fl_X11_57 : FLr RX11 57 11 32 := ⟨RX11, TX11, 60, "WarpMillModel", "", rfl, by decide, in_X11, Or.inl q1589, Or.inl rfl⟩
theorem fl_X11_60 : FLr RX11 60 11 33 := ⟨RX11, TX11, 60, "WarpMillModel", "", rfl, by decide, in_X11, Or.inl q1590, Or.inl rfl⟩
theorem fl_X11_63 : FLr RX11 63 11 34 := ⟨RX11, TX11, 60, "WarpMillModel", "", rfl, by decide, in_X11, Or.inl q1591, Or.inl rfl⟩
theorem fl_X11_156 : FLr RX11 156 11 14 := ⟨RX11, TX11, 60, "WarpMillModel", "", rfl, by decide, in_X11, Or.inl q1571, Or.inl rfl⟩
theorem fl_X11_150 : FLr RX11 150 11 12 := ⟨RX11, TX11, 60, "WarpMillModel", "", rfl, by decide, in_X11, Or.inl q1569, Or.inl rfl⟩
theorem fl_X11_16 : FLr RX11 16 11 3 := ⟨RX11, TX11, 60, "WarpMillModel", "", rfl, by decide, in_X11, Or.inl q1560, Or.inl rfl⟩
theorem fl_X11_108 : FLr RX11 108 11 50 := ⟨RX11, TX11, 60, "WarpMillModel", "", rfl, by decide, in_X11, Or.inl q1607, Or.inl rfl⟩
theorem c_X11_196 : CV RX11 196 11 yX11_warps cX11_warps 1 (some Jvm.ClassFile.FieldType.int) 0 := ⟨TX11, 60, rfl, q1803, q1805, qs37, q111, q1806, ⟨by decide +kernel, by decide +kernel, by decide +kernel⟩⟩
theorem c_X11_204 : CV RX11 204 11 yX11_beginWarp cX11_beginWarp 4 none 1 := ⟨TX11, 60, rfl, q1811, q1813, qs39, q111, q1814, ⟨by decide +kernel, by decide +kernel, by decide +kernel⟩⟩
theorem c_X11_200 : CV RX11 200 11 yX11_begin cX11_begin 6 none 2 := ⟨TX11, 60, rfl, q1807, q1809, qs38, q111, q1810, ⟨by decide +kernel, by decide +kernel, by decide +kernel⟩⟩
theorem c_X11_192 : CV RX11 192 11 yX11_freeSlots cX11_freeSlots 4 (some Jvm.ClassFile.FieldType.int) 1 := ⟨TX11, 60, rfl, q1799, q1801, qs36, q111, q1802, ⟨by decide +kernel, by decide +kernel, by decide +kernel⟩⟩
theorem c_X11_208 : CV RX11 208 11 yX11_isLane cX11_isLane 3 (some Jvm.ClassFile.FieldType.boolean) 2 := ⟨TX11, 60, rfl, q1831, q1833, qs44, q111, q1834, ⟨by decide +kernel, by decide +kernel, by decide +kernel⟩⟩
theorem c_X11_215 : CV RX11 215 11 yX11_isAwake cX11_isAwake 3 (some Jvm.ClassFile.FieldType.boolean) 2 := ⟨TX11, 60, rfl, q1827, q1829, qs43, q111, q1830, ⟨by decide +kernel, by decide +kernel, by decide +kernel⟩⟩
theorem dX11_beginWarp_0 : decode cX11_beginWarp 0 = .ok (.bipush 32, 2) := by decide +kernel
theorem dX11_beginWarp_2 : decode cX11_beginWarp 2 = .ok (.iload_n 1, 1) := by decide +kernel
theorem dX11_beginWarp_3 : decode cX11_beginWarp 3 = .ok (.imul, 1) := by decide +kernel
theorem dX11_beginWarp_4 : decode cX11_beginWarp 4 = .ok (.istore_n 2, 1) := by decide +kernel
theorem dX11_beginWarp_5 : decode cX11_beginWarp 5 = .ok (.iload_n 2, 1) := by decide +kernel
theorem dX11_beginWarp_6 : decode cX11_beginWarp 6 = .ok (.bipush 32, 2) := by decide +kernel
theorem dX11_beginWarp_8 : decode cX11_beginWarp 8 = .ok (.iload_n 1, 1) := by decide +kernel
theorem dX11_beginWarp_9 : decode cX11_beginWarp 9 = .ok (.imul, 1) := by decide +kernel
theorem dX11_beginWarp_10 : decode cX11_beginWarp 10 = .ok (.bipush 32, 2) := by decide +kernel
theorem dX11_beginWarp_12 : decode cX11_beginWarp 12 = .ok (.iadd, 1) := by decide +kernel
theorem dX11_beginWarp_13 : decode cX11_beginWarp 13 = .ok (.if_icmp .ge 63, 3) := by decide +kernel
theorem dX11_beginWarp_16 : decode cX11_beginWarp 16 = .ok (.aload_n 0, 1) := by decide +kernel
theorem dX11_beginWarp_17 : decode cX11_beginWarp 17 = .ok (.getfield 73, 3) := by decide +kernel
theorem dX11_beginWarp_20 : decode cX11_beginWarp 20 = .ok (.iload_n 2, 1) := by decide +kernel
theorem dX11_beginWarp_21 : decode cX11_beginWarp 21 = .ok (.iconst 0, 1) := by decide +kernel
theorem dX11_beginWarp_22 : decode cX11_beginWarp 22 = .ok (.iastore, 1) := by decide +kernel
theorem dX11_beginWarp_23 : decode cX11_beginWarp 23 = .ok (.aload_n 0, 1) := by decide +kernel
theorem dX11_beginWarp_24 : decode cX11_beginWarp 24 = .ok (.getfield 70, 3) := by decide +kernel
theorem dX11_beginWarp_27 : decode cX11_beginWarp 27 = .ok (.iload_n 2, 1) := by decide +kernel
theorem dX11_beginWarp_28 : decode cX11_beginWarp 28 = .ok (.iconst 0, 1) := by decide +kernel
theorem dX11_beginWarp_29 : decode cX11_beginWarp 29 = .ok (.iastore, 1) := by decide +kernel
theorem dX11_beginWarp_30 : decode cX11_beginWarp 30 = .ok (.aload_n 0, 1) := by decide +kernel
theorem dX11_beginWarp_31 : decode cX11_beginWarp 31 = .ok (.getfield 76, 3) := by decide +kernel
theorem dX11_beginWarp_34 : decode cX11_beginWarp 34 = .ok (.iload_n 2, 1) := by decide +kernel
theorem dX11_beginWarp_35 : decode cX11_beginWarp 35 = .ok (.iconst 0, 1) := by decide +kernel
theorem dX11_beginWarp_36 : decode cX11_beginWarp 36 = .ok (.bastore, 1) := by decide +kernel
theorem dX11_beginWarp_37 : decode cX11_beginWarp 37 = .ok (.aload_n 0, 1) := by decide +kernel
theorem dX11_beginWarp_38 : decode cX11_beginWarp 38 = .ok (.getfield 80, 3) := by decide +kernel
theorem dX11_beginWarp_41 : decode cX11_beginWarp 41 = .ok (.iload_n 2, 1) := by decide +kernel
theorem dX11_beginWarp_42 : decode cX11_beginWarp 42 = .ok (.iconst 0, 1) := by decide +kernel
theorem dX11_beginWarp_43 : decode cX11_beginWarp 43 = .ok (.bastore, 1) := by decide +kernel
theorem dX11_beginWarp_44 : decode cX11_beginWarp 44 = .ok (.iconst 0, 1) := by decide +kernel
theorem dX11_beginWarp_45 : decode cX11_beginWarp 45 = .ok (.istore_n 3, 1) := by decide +kernel
theorem dX11_beginWarp_46 : decode cX11_beginWarp 46 = .ok (.iload_n 3, 1) := by decide +kernel
theorem dX11_beginWarp_47 : decode cX11_beginWarp 47 = .ok (.bipush 16, 2) := by decide +kernel
theorem dX11_beginWarp_49 : decode cX11_beginWarp 49 = .ok (.if_icmp .ge 21, 3) := by decide +kernel
theorem dX11_beginWarp_52 : decode cX11_beginWarp 52 = .ok (.aload_n 0, 1) := by decide +kernel
theorem dX11_beginWarp_53 : decode cX11_beginWarp 53 = .ok (.getfield 67, 3) := by decide +kernel
theorem dX11_beginWarp_56 : decode cX11_beginWarp 56 = .ok (.bipush 16, 2) := by decide +kernel
theorem dX11_beginWarp_58 : decode cX11_beginWarp 58 = .ok (.iload_n 2, 1) := by decide +kernel
theorem dX11_beginWarp_59 : decode cX11_beginWarp 59 = .ok (.imul, 1) := by decide +kernel
theorem dX11_beginWarp_60 : decode cX11_beginWarp 60 = .ok (.iload_n 3, 1) := by decide +kernel
theorem dX11_beginWarp_61 : decode cX11_beginWarp 61 = .ok (.iadd, 1) := by decide +kernel
theorem dX11_beginWarp_62 : decode cX11_beginWarp 62 = .ok (.iconst 0, 1) := by decide +kernel
theorem dX11_beginWarp_63 : decode cX11_beginWarp 63 = .ok (.iastore, 1) := by decide +kernel
theorem dX11_beginWarp_64 : decode cX11_beginWarp 64 = .ok (.iinc 3 1, 3) := by decide +kernel
theorem dX11_beginWarp_67 : decode cX11_beginWarp 67 = .ok (.goto (-21), 3) := by decide +kernel
theorem dX11_beginWarp_70 : decode cX11_beginWarp 70 = .ok (.iinc 2 1, 3) := by decide +kernel
theorem dX11_beginWarp_73 : decode cX11_beginWarp 73 = .ok (.goto (-68), 3) := by decide +kernel
theorem dX11_beginWarp_76 : decode cX11_beginWarp 76 = .ok (.return_, 1) := by decide +kernel
def fX11_beginWarp (n : Nat) (a0 : Nat) (p1 : Int32) (A : AH) : Option (AH) :=
jl (fixG (fun _ _ => none) (fun (rc4 : (Int32) → (AH) → Option (AH)) (x2 : Int32) (A3 : AH) =>
if (((32 : Int32) * p1) + (32 : Int32)) ≤ x2 then (some A3) else
(gR A3 (some a0) 11 37).bind fun v6 =>
(sI A3 v6 x2 (0 : Int32)).bind fun A7 =>
(gR A7 (some a0) 11 36).bind fun v8 =>
(sI A7 v8 x2 (0 : Int32)).bind fun A9 =>
(gR A9 (some a0) 11 38).bind fun v10 =>
(sZ A9 v10 x2 (0 : Int32)).bind fun A11 =>
(gR A11 (some a0) 11 39).bind fun v12 =>
(sZ A11 v12 x2 (0 : Int32)).bind fun A13 =>
jl (fixG (fun _ _ => none) (fun (rc17 : (Int32) → (AH) → Option (AH)) (x15 : Int32) (A16 : AH) =>
if (16 : Int32) ≤ x15 then (rc4 (x2 + (1 : Int32)) A16) else
(gR A16 (some a0) 11 35).bind fun v19 =>
(sI A16 v19 (((16 : Int32) * x2) + x15) (0 : Int32)).bind fun A20 =>
rc17 (x15 + (1 : Int32)) A20) n) fun j14 =>
j14 (0 : Int32) A13) n) fun j1 =>
j1 ((32 : Int32) * p1) A

set_option maxHeartbeats 4000000 in
set_option maxRecDepth 100000 in
theorem sX11_beginWarp (l : Launch) (D : DE) (n : Nat) (a0 : Nat) (p1 : Int32) (A : AH) (g : AH) (hg : fX11_beginWarp n a0 p1 A = some g) : Sm l D yX11_beginWarp cX11_beginWarp 4 none 0 0 [tR (some a0), tI p1] A (wU g).1 (wU g).2 := by
  refine Sm.of (ω := wU) (fX11_beginWarp n a0 p1 A) [some (tR (some a0)), some (tI p1), none, none] (by decide) (Nat.le_of_ble_eq_true rfl) rfl hg ?_
  intro p e R s m args below meth c X hin
  have X : Cx D cX11_beginWarp RX11 4 0 0 none p R s m args meth c := X
  unfold fX11_beginWarp
  refine rf_bipush X (32 : Int32) rfl dX11_beginWarp_0 ?_
  refine rf_iload_n X rfl dX11_beginWarp_2 ?_
  refine rf_imul X dX11_beginWarp_3 ?_
  refine rf_istore_n X (ls' := [some (tR (some a0)), some (tI p1), some (tI ((32 : Int32) * p1)), none]) rfl (by decide) dX11_beginWarp_4 ?_
  refine rf_fix (fun i => ∀ (x2 : Int32) (A3 : AH), RfX X l e below wU (i x2 A3) 5 [some (tR (some a0)), some (tI p1), some (tI x2), none] [] A3) (fun _ _ => rf_none) (fun rc4 hrc4 => ?_) (fun j1 hj1 => ?_)
  · intro x2 A3
    refine rf_iload_n X rfl dX11_beginWarp_5 ?_
    refine rf_bipush X (32 : Int32) rfl dX11_beginWarp_6 ?_
    refine rf_iload_n X rfl dX11_beginWarp_8 ?_
    refine rf_imul X dX11_beginWarp_9 ?_
    refine rf_bipush X (32 : Int32) rfl dX11_beginWarp_10 ?_
    refine rf_iadd X dX11_beginWarp_12 ?_
    refine rf_icmp_ge X (tgt := 76) rfl dX11_beginWarp_13 (fun c5 => rf_pos c5 ?_) (fun c5 => rf_neg c5 ?_)
    · exact rf_vret X rfl dX11_beginWarp_76
    refine rf_aload_n X rfl dX11_beginWarp_16 ?_
    refine rf_bind (fun v6 hv6 => ?_)
    refine rf_getR X fl_X11_73 hv6 dX11_beginWarp_17 ?_
    refine rf_iload_n X rfl dX11_beginWarp_20 ?_
    refine rf_iconst X (0 : Int32) rfl dX11_beginWarp_21 ?_
    refine rf_bind (fun A7 hA7 => ?_)
    refine rf_iast X hA7 dX11_beginWarp_22 ?_
    refine rf_aload_n X rfl dX11_beginWarp_23 ?_
    refine rf_bind (fun v8 hv8 => ?_)
    refine rf_getR X fl_X11_70 hv8 dX11_beginWarp_24 ?_
    refine rf_iload_n X rfl dX11_beginWarp_27 ?_
    refine rf_iconst X (0 : Int32) rfl dX11_beginWarp_28 ?_
    refine rf_bind (fun A9 hA9 => ?_)
    refine rf_iast X hA9 dX11_beginWarp_29 ?_
    refine rf_aload_n X rfl dX11_beginWarp_30 ?_
    refine rf_bind (fun v10 hv10 => ?_)
    refine rf_getR X fl_X11_76 hv10 dX11_beginWarp_31 ?_
    refine rf_iload_n X rfl dX11_beginWarp_34 ?_
    refine rf_iconst X (0 : Int32) rfl dX11_beginWarp_35 ?_
    refine rf_bind (fun A11 hA11 => ?_)
    refine rf_zast X hA11 dX11_beginWarp_36 ?_
    refine rf_aload_n X rfl dX11_beginWarp_37 ?_
    refine rf_bind (fun v12 hv12 => ?_)
    refine rf_getR X fl_X11_80 hv12 dX11_beginWarp_38 ?_
    refine rf_iload_n X rfl dX11_beginWarp_41 ?_
    refine rf_iconst X (0 : Int32) rfl dX11_beginWarp_42 ?_
    refine rf_bind (fun A13 hA13 => ?_)
    refine rf_zast X hA13 dX11_beginWarp_43 ?_
    refine rf_iconst X (0 : Int32) rfl dX11_beginWarp_44 ?_
    refine rf_istore_n X (ls' := [some (tR (some a0)), some (tI p1), some (tI x2), some (tI (0 : Int32))]) rfl (by decide) dX11_beginWarp_45 ?_
    refine rf_fix (fun i => ∀ (x15 : Int32) (A16 : AH), RfX X l e below wU (i x15 A16) 46 [some (tR (some a0)), some (tI p1), some (tI x2), some (tI x15)] [] A16) (fun _ _ => rf_none) (fun rc17 hrc17 => ?_) (fun j14 hj14 => ?_)
    · intro x15 A16
      refine rf_iload_n X rfl dX11_beginWarp_46 ?_
      refine rf_bipush X (16 : Int32) rfl dX11_beginWarp_47 ?_
      refine rf_icmp_ge X (tgt := 70) rfl dX11_beginWarp_49 (fun c18 => rf_pos c18 ?_) (fun c18 => rf_neg c18 ?_)
      · refine rf_iinc X (x2 + (1 : Int32)) rfl rfl (ls' := [some (tR (some a0)), some (tI p1), some (tI (x2 + (1 : Int32))), some (tI x15)]) rfl (by decide) dX11_beginWarp_70 ?_
        refine rf_goto X (tgt := 5) rfl dX11_beginWarp_73 ?_
        exact rf_go (hrc4 (x2 + (1 : Int32)) A16) (And.intro rfl (And.intro rfl (And.intro rfl True.intro)))
      refine rf_aload_n X rfl dX11_beginWarp_52 ?_
      refine rf_bind (fun v19 hv19 => ?_)
      refine rf_getR X fl_X11_67 hv19 dX11_beginWarp_53 ?_
      refine rf_bipush X (16 : Int32) rfl dX11_beginWarp_56 ?_
      refine rf_iload_n X rfl dX11_beginWarp_58 ?_
      refine rf_imul X dX11_beginWarp_59 ?_
      refine rf_iload_n X rfl dX11_beginWarp_60 ?_
      refine rf_iadd X dX11_beginWarp_61 ?_
      refine rf_iconst X (0 : Int32) rfl dX11_beginWarp_62 ?_
      refine rf_bind (fun A20 hA20 => ?_)
      refine rf_iast X hA20 dX11_beginWarp_63 ?_
      refine rf_iinc X (x15 + (1 : Int32)) rfl rfl (ls' := [some (tR (some a0)), some (tI p1), some (tI x2), some (tI (x15 + (1 : Int32)))]) rfl (by decide) dX11_beginWarp_64 ?_
      refine rf_goto X (tgt := 46) rfl dX11_beginWarp_67 ?_
      exact rf_go (hrc17 (x15 + (1 : Int32)) A20) (And.intro rfl (And.intro rfl (And.intro rfl (And.intro rfl True.intro))))
    exact rf_go (hj14 (0 : Int32) A13) (And.intro rfl (And.intro rfl (And.intro rfl (And.intro rfl True.intro))))
  exact rf_go (hj1 ((32 : Int32) * p1) A) (And.intro rfl (And.intro rfl (And.intro rfl True.intro)))

theorem dX11_begin_0 : decode cX11_begin 0 = .ok (.iconst 0, 1) := by decide +kernel
theorem dX11_begin_1 : decode cX11_begin 1 = .ok (.istore_n 3, 1) := by decide +kernel
theorem dX11_begin_2 : decode cX11_begin 2 = .ok (.bipush 16, 2) := by decide +kernel
theorem dX11_begin_4 : decode cX11_begin 4 = .ok (.iload_n 1, 1) := by decide +kernel
theorem dX11_begin_5 : decode cX11_begin 5 = .ok (.imul, 1) := by decide +kernel
theorem dX11_begin_6 : decode cX11_begin 6 = .ok (.istore 4, 2) := by decide +kernel
theorem dX11_begin_8 : decode cX11_begin 8 = .ok (.iload 4, 2) := by decide +kernel
theorem dX11_begin_10 : decode cX11_begin 10 = .ok (.bipush 16, 2) := by decide +kernel
theorem dX11_begin_12 : decode cX11_begin 12 = .ok (.iload_n 1, 1) := by decide +kernel
theorem dX11_begin_13 : decode cX11_begin 13 = .ok (.imul, 1) := by decide +kernel
theorem dX11_begin_14 : decode cX11_begin 14 = .ok (.aload_n 0, 1) := by decide +kernel
theorem dX11_begin_15 : decode cX11_begin 15 = .ok (.getfield 13, 3) := by decide +kernel
theorem dX11_begin_18 : decode cX11_begin 18 = .ok (.iadd, 1) := by decide +kernel
theorem dX11_begin_19 : decode cX11_begin 19 = .ok (.if_icmp .ge 94, 3) := by decide +kernel
theorem dX11_begin_22 : decode cX11_begin 22 = .ok (.iload_n 3, 1) := by decide +kernel
theorem dX11_begin_23 : decode cX11_begin 23 = .ok (.aload_n 0, 1) := by decide +kernel
theorem dX11_begin_24 : decode cX11_begin 24 = .ok (.invokevirtual 196, 3) := by decide +kernel
theorem dX11_begin_27 : decode cX11_begin 27 = .ok (.if_icmp .ge 86, 3) := by decide +kernel
theorem dX11_begin_30 : decode cX11_begin 30 = .ok (.aload_n 0, 1) := by decide +kernel
theorem dX11_begin_31 : decode cX11_begin 31 = .ok (.getfield 54, 3) := by decide +kernel
theorem dX11_begin_34 : decode cX11_begin 34 = .ok (.iload 4, 2) := by decide +kernel
theorem dX11_begin_36 : decode cX11_begin 36 = .ok (.iaload, 1) := by decide +kernel
theorem dX11_begin_37 : decode cX11_begin 37 = .ok (.iconst (-1), 1) := by decide +kernel
theorem dX11_begin_38 : decode cX11_begin 38 = .ok (.if_icmp .eq 6, 3) := by decide +kernel
theorem dX11_begin_41 : decode cX11_begin 41 = .ok (.goto 66, 3) := by decide +kernel
theorem dX11_begin_44 : decode cX11_begin 44 = .ok (.aload_n 0, 1) := by decide +kernel
theorem dX11_begin_45 : decode cX11_begin 45 = .ok (.getfield 54, 3) := by decide +kernel
theorem dX11_begin_48 : decode cX11_begin 48 = .ok (.iload 4, 2) := by decide +kernel
theorem dX11_begin_50 : decode cX11_begin 50 = .ok (.iload_n 2, 1) := by decide +kernel
theorem dX11_begin_51 : decode cX11_begin 51 = .ok (.iastore, 1) := by decide +kernel
theorem dX11_begin_52 : decode cX11_begin 52 = .ok (.aload_n 0, 1) := by decide +kernel
theorem dX11_begin_53 : decode cX11_begin 53 = .ok (.getfield 57, 3) := by decide +kernel
theorem dX11_begin_56 : decode cX11_begin 56 = .ok (.iload 4, 2) := by decide +kernel
theorem dX11_begin_58 : decode cX11_begin 58 = .ok (.iload_n 3, 1) := by decide +kernel
theorem dX11_begin_59 : decode cX11_begin 59 = .ok (.iastore, 1) := by decide +kernel
theorem dX11_begin_60 : decode cX11_begin 60 = .ok (.aload_n 0, 1) := by decide +kernel
theorem dX11_begin_61 : decode cX11_begin 61 = .ok (.getfield 60, 3) := by decide +kernel
theorem dX11_begin_64 : decode cX11_begin 64 = .ok (.iload 4, 2) := by decide +kernel
theorem dX11_begin_66 : decode cX11_begin 66 = .ok (.iconst 0, 1) := by decide +kernel
theorem dX11_begin_67 : decode cX11_begin 67 = .ok (.iastore, 1) := by decide +kernel
theorem dX11_begin_68 : decode cX11_begin 68 = .ok (.iconst 0, 1) := by decide +kernel
theorem dX11_begin_69 : decode cX11_begin 69 = .ok (.istore 5, 2) := by decide +kernel
theorem dX11_begin_71 : decode cX11_begin 71 = .ok (.iload 5, 2) := by decide +kernel
theorem dX11_begin_73 : decode cX11_begin 73 = .ok (.bipush 20, 2) := by decide +kernel
theorem dX11_begin_75 : decode cX11_begin 75 = .ok (.if_icmp .ge 23, 3) := by decide +kernel
theorem dX11_begin_78 : decode cX11_begin 78 = .ok (.aload_n 0, 1) := by decide +kernel
theorem dX11_begin_79 : decode cX11_begin 79 = .ok (.getfield 63, 3) := by decide +kernel
theorem dX11_begin_82 : decode cX11_begin 82 = .ok (.bipush 20, 2) := by decide +kernel
theorem dX11_begin_84 : decode cX11_begin 84 = .ok (.iload 4, 2) := by decide +kernel
theorem dX11_begin_86 : decode cX11_begin 86 = .ok (.imul, 1) := by decide +kernel
theorem dX11_begin_87 : decode cX11_begin 87 = .ok (.iload 5, 2) := by decide +kernel
theorem dX11_begin_89 : decode cX11_begin 89 = .ok (.iadd, 1) := by decide +kernel
theorem dX11_begin_90 : decode cX11_begin 90 = .ok (.iconst 0, 1) := by decide +kernel
theorem dX11_begin_91 : decode cX11_begin 91 = .ok (.iastore, 1) := by decide +kernel
theorem dX11_begin_92 : decode cX11_begin 92 = .ok (.iinc 5 1, 3) := by decide +kernel
theorem dX11_begin_95 : decode cX11_begin 95 = .ok (.goto (-24), 3) := by decide +kernel
theorem dX11_begin_98 : decode cX11_begin 98 = .ok (.aload_n 0, 1) := by decide +kernel
theorem dX11_begin_99 : decode cX11_begin 99 = .ok (.iload 4, 2) := by decide +kernel
theorem dX11_begin_101 : decode cX11_begin 101 = .ok (.invokevirtual 204, 3) := by decide +kernel
theorem dX11_begin_104 : decode cX11_begin 104 = .ok (.iinc 3 1, 3) := by decide +kernel
theorem dX11_begin_107 : decode cX11_begin 107 = .ok (.iinc 4 1, 3) := by decide +kernel
theorem dX11_begin_110 : decode cX11_begin 110 = .ok (.goto (-102), 3) := by decide +kernel
theorem dX11_begin_113 : decode cX11_begin 113 = .ok (.iconst 0, 1) := by decide +kernel
theorem dX11_begin_114 : decode cX11_begin 114 = .ok (.istore 4, 2) := by decide +kernel
theorem dX11_begin_116 : decode cX11_begin 116 = .ok (.iload 4, 2) := by decide +kernel
theorem dX11_begin_118 : decode cX11_begin 118 = .ok (.bipush 64, 2) := by decide +kernel
theorem dX11_begin_120 : decode cX11_begin 120 = .ok (.if_icmp .ge 22, 3) := by decide +kernel
theorem dX11_begin_123 : decode cX11_begin 123 = .ok (.aload_n 0, 1) := by decide +kernel
theorem dX11_begin_124 : decode cX11_begin 124 = .ok (.getfield 83, 3) := by decide +kernel
theorem dX11_begin_127 : decode cX11_begin 127 = .ok (.bipush 64, 2) := by decide +kernel
theorem dX11_begin_129 : decode cX11_begin 129 = .ok (.iload_n 2, 1) := by decide +kernel
theorem dX11_begin_130 : decode cX11_begin 130 = .ok (.imul, 1) := by decide +kernel
theorem dX11_begin_131 : decode cX11_begin 131 = .ok (.iload 4, 2) := by decide +kernel
theorem dX11_begin_133 : decode cX11_begin 133 = .ok (.iadd, 1) := by decide +kernel
theorem dX11_begin_134 : decode cX11_begin 134 = .ok (.iconst 0, 1) := by decide +kernel
theorem dX11_begin_135 : decode cX11_begin 135 = .ok (.iastore, 1) := by decide +kernel
theorem dX11_begin_136 : decode cX11_begin 136 = .ok (.iinc 4 1, 3) := by decide +kernel
theorem dX11_begin_139 : decode cX11_begin 139 = .ok (.goto (-23), 3) := by decide +kernel
theorem dX11_begin_142 : decode cX11_begin 142 = .ok (.return_, 1) := by decide +kernel
def fX11_begin (n : Nat) (a0 : Nat) (p1 : Int32) (p2 : Int32) (A : AH) : Option (AH) :=
jl (fixG (fun _ _ _ => none) (fun (rc5 : (Int32) → (Int32) → (AH) → Option (AH)) (x2 : Int32) (x3 : Int32) (A4 : AH) =>
(gI A4 (some a0) 11 2).bind fun v6 =>
jn (jl (fixG (fun _ _ => none) (fun (rc11 : (Int32) → (AH) → Option (AH)) (x9 : Int32) (A10 : AH) =>
if (64 : Int32) ≤ x9 then (some A10) else
(gR A10 (some a0) 11 40).bind fun v13 =>
(sI A10 v13 (((64 : Int32) * p2) + x9) (0 : Int32)).bind fun A14 =>
rc11 (x9 + (1 : Int32)) A14) n) fun j8 =>
j8 (0 : Int32) A4) fun j7 =>
if (((16 : Int32) * p1) + v6) ≤ x3 then (j7) else
(rcv A4 (some a0) 11).bind fun v16 =>
(fX11_warps v16 A4).bind fun g17 =>
if g17 ≤ x2 then (j7) else
(gR A4 (some a0) 11 31).bind fun v19 =>
(aI A4 v19 x3).bind fun v20 =>
jn (fun (x22 : Int32) (A23 : AH) =>
rc5 x22 (x3 + (1 : Int32)) A23) fun j21 =>
if v20 = (-1 : Int32) then ((sI A4 v19 x3 p2).bind fun A25 =>
(gR A25 (some a0) 11 32).bind fun v26 =>
(sI A25 v26 x3 x2).bind fun A27 =>
(gR A27 (some a0) 11 33).bind fun v28 =>
(sI A27 v28 x3 (0 : Int32)).bind fun A29 =>
jl (fixG (fun _ _ => none) (fun (rc33 : (Int32) → (AH) → Option (AH)) (x31 : Int32) (A32 : AH) =>
if (20 : Int32) ≤ x31 then ((rcv A32 (some a0) 11).bind fun v35 =>
(fX11_beginWarp n v35 x3 A32).bind fun g36 =>
j21 (x2 + (1 : Int32)) g36) else
(gR A32 (some a0) 11 34).bind fun v37 =>
(sI A32 v37 (((20 : Int32) * x3) + x31) (0 : Int32)).bind fun A38 =>
rc33 (x31 + (1 : Int32)) A38) n) fun j30 =>
j30 (0 : Int32) A29) else
j21 x2 A4) n) fun j1 =>
j1 (0 : Int32) ((16 : Int32) * p1) A

set_option maxHeartbeats 4000000 in
set_option maxRecDepth 100000 in
theorem sX11_begin (l : Launch) (D : DE) (n : Nat) (a0 : Nat) (p1 : Int32) (p2 : Int32) (A : AH) (g : AH) (hg : fX11_begin n a0 p1 p2 A = some g) : Sm l D yX11_begin cX11_begin 6 none 1 23 [tR (some a0), tI p1, tI p2] A (wU g).1 (wU g).2 := by
  refine Sm.of (ω := wU) (fX11_begin n a0 p1 p2 A) [some (tR (some a0)), some (tI p1), some (tI p2), none, none, none] (by decide) (Nat.le_of_ble_eq_true rfl) rfl hg ?_
  intro p e R s m args below meth c X hin
  have X : Cx D cX11_begin RX11 6 1 23 none p R s m args meth c := X
  unfold fX11_begin
  refine rf_iconst X (0 : Int32) rfl dX11_begin_0 ?_
  refine rf_istore_n X (ls' := [some (tR (some a0)), some (tI p1), some (tI p2), some (tI (0 : Int32)), none, none]) rfl (by decide) dX11_begin_1 ?_
  refine rf_bipush X (16 : Int32) rfl dX11_begin_2 ?_
  refine rf_iload_n X rfl dX11_begin_4 ?_
  refine rf_imul X dX11_begin_5 ?_
  refine rf_istore X (ls' := [some (tR (some a0)), some (tI p1), some (tI p2), some (tI (0 : Int32)), some (tI ((16 : Int32) * p1)), none]) rfl (by decide) dX11_begin_6 ?_
  refine rf_fix (fun i => ∀ (x2 : Int32) (x3 : Int32) (A4 : AH), RfX X l e below wU (i x2 x3 A4) 8 [some (tR (some a0)), some (tI p1), some (tI p2), some (tI x2), some (tI x3), none] [] A4) (fun _ _ _ => rf_none) (fun rc5 hrc5 => ?_) (fun j1 hj1 => ?_)
  · intro x2 x3 A4
    refine rf_iload X rfl dX11_begin_8 ?_
    refine rf_bipush X (16 : Int32) rfl dX11_begin_10 ?_
    refine rf_iload_n X rfl dX11_begin_12 ?_
    refine rf_imul X dX11_begin_13 ?_
    refine rf_aload_n X rfl dX11_begin_14 ?_
    refine rf_bind (fun v6 hv6 => ?_)
    refine rf_getI X fl_X11_13 hv6 dX11_begin_15 ?_
    refine rf_iadd X dX11_begin_18 ?_
    refine rf_jn2 (fun i => RfX X l e below wU i 113 [some (tR (some a0)), none, some (tI p2), none, none, none] [] A4) ?_ (fun j7 hj7 => ?_)
    · show RfX X l e below _ _ _ _ _ _
      refine rf_iconst X (0 : Int32) rfl dX11_begin_113 ?_
      refine rf_istore X (ls' := [some (tR (some a0)), none, some (tI p2), none, some (tI (0 : Int32)), none]) rfl (by decide) dX11_begin_114 ?_
      refine rf_fix (fun i => ∀ (x9 : Int32) (A10 : AH), RfX X l e below wU (i x9 A10) 116 [some (tR (some a0)), none, some (tI p2), none, some (tI x9), none] [] A10) (fun _ _ => rf_none) (fun rc11 hrc11 => ?_) (fun j8 hj8 => ?_)
      · intro x9 A10
        refine rf_iload X rfl dX11_begin_116 ?_
        refine rf_bipush X (64 : Int32) rfl dX11_begin_118 ?_
        refine rf_icmp_ge X (tgt := 142) rfl dX11_begin_120 (fun c12 => rf_pos c12 ?_) (fun c12 => rf_neg c12 ?_)
        · exact rf_vret X rfl dX11_begin_142
        refine rf_aload_n X rfl dX11_begin_123 ?_
        refine rf_bind (fun v13 hv13 => ?_)
        refine rf_getR X fl_X11_83 hv13 dX11_begin_124 ?_
        refine rf_bipush X (64 : Int32) rfl dX11_begin_127 ?_
        refine rf_iload_n X rfl dX11_begin_129 ?_
        refine rf_imul X dX11_begin_130 ?_
        refine rf_iload X rfl dX11_begin_131 ?_
        refine rf_iadd X dX11_begin_133 ?_
        refine rf_iconst X (0 : Int32) rfl dX11_begin_134 ?_
        refine rf_bind (fun A14 hA14 => ?_)
        refine rf_iast X hA14 dX11_begin_135 ?_
        refine rf_iinc X (x9 + (1 : Int32)) rfl rfl (ls' := [some (tR (some a0)), none, some (tI p2), none, some (tI (x9 + (1 : Int32))), none]) rfl (by decide) dX11_begin_136 ?_
        refine rf_goto X (tgt := 116) rfl dX11_begin_139 ?_
        exact rf_go (hrc11 (x9 + (1 : Int32)) A14) (And.intro rfl (And.intro rfl (And.intro rfl True.intro)))
      exact rf_go (hj8 (0 : Int32) A4) (And.intro rfl (And.intro rfl (And.intro rfl True.intro)))
    refine rf_icmp_ge X (tgt := 113) rfl dX11_begin_19 (fun c15 => rf_pos c15 ?_) (fun c15 => rf_neg c15 ?_)
    · exact rf_go hj7 (And.intro rfl (And.intro rfl True.intro))
    refine rf_iload_n X rfl dX11_begin_22 ?_
    refine rf_aload_n X rfl dX11_begin_23 ?_
    refine rf_bind (fun v16 hv16 => ?_)
    refine rf_bind (fun g17 hg17 => ?_)
    refine rf_callVI X c_X11_196 ⟨Nat.le_of_ble_eq_true rfl, Nat.le_of_ble_eq_true rfl⟩ [] rfl (Nat.le_of_ble_eq_true rfl) hv16 (sX11_warps l D v16 A4 g17 hg17) dX11_begin_24 ?_
    refine rf_icmp_ge X (tgt := 113) rfl dX11_begin_27 (fun c18 => rf_pos c18 ?_) (fun c18 => rf_neg c18 ?_)
    · exact rf_go hj7 (And.intro rfl (And.intro rfl True.intro))
    refine rf_aload_n X rfl dX11_begin_30 ?_
    refine rf_bind (fun v19 hv19 => ?_)
    refine rf_getR X fl_X11_54 hv19 dX11_begin_31 ?_
    refine rf_iload X rfl dX11_begin_34 ?_
    refine rf_bind (fun v20 hv20 => ?_)
    refine rf_iald X hv20 dX11_begin_36 ?_
    refine rf_iconst X (-1 : Int32) rfl dX11_begin_37 ?_
    refine rf_jn2 (fun i => ∀ (x22 : Int32) (A23 : AH), RfX X l e below wU (i x22 A23) 107 [some (tR (some a0)), some (tI p1), some (tI p2), some (tI x22), some (tI x3), none] [] A23) ?_ (fun j21 hj21 => ?_)
    · intro x22 A23
      refine rf_iinc X (x3 + (1 : Int32)) rfl rfl (ls' := [some (tR (some a0)), some (tI p1), some (tI p2), some (tI x22), some (tI (x3 + (1 : Int32))), none]) rfl (by decide) dX11_begin_107 ?_
      refine rf_goto X (tgt := 8) rfl dX11_begin_110 ?_
      exact rf_go (hrc5 x22 (x3 + (1 : Int32)) A23) (And.intro rfl (And.intro rfl (And.intro rfl (And.intro rfl (And.intro rfl True.intro)))))
    refine rf_icmp_eq X (tgt := 44) rfl dX11_begin_38 (fun c24 => rf_pos c24 ?_) (fun c24 => rf_neg c24 ?_)
    · refine rf_aload_n X rfl dX11_begin_44 ?_
      refine rf_getR X fl_X11_54 hv19 dX11_begin_45 ?_
      refine rf_iload X rfl dX11_begin_48 ?_
      refine rf_iload_n X rfl dX11_begin_50 ?_
      refine rf_bind (fun A25 hA25 => ?_)
      refine rf_iast X hA25 dX11_begin_51 ?_
      refine rf_aload_n X rfl dX11_begin_52 ?_
      refine rf_bind (fun v26 hv26 => ?_)
      refine rf_getR X fl_X11_57 hv26 dX11_begin_53 ?_
      refine rf_iload X rfl dX11_begin_56 ?_
      refine rf_iload_n X rfl dX11_begin_58 ?_
      refine rf_bind (fun A27 hA27 => ?_)
      refine rf_iast X hA27 dX11_begin_59 ?_
      refine rf_aload_n X rfl dX11_begin_60 ?_
      refine rf_bind (fun v28 hv28 => ?_)
      refine rf_getR X fl_X11_60 hv28 dX11_begin_61 ?_
      refine rf_iload X rfl dX11_begin_64 ?_
      refine rf_iconst X (0 : Int32) rfl dX11_begin_66 ?_
      refine rf_bind (fun A29 hA29 => ?_)
      refine rf_iast X hA29 dX11_begin_67 ?_
      refine rf_iconst X (0 : Int32) rfl dX11_begin_68 ?_
      refine rf_istore X (ls' := [some (tR (some a0)), some (tI p1), some (tI p2), some (tI x2), some (tI x3), some (tI (0 : Int32))]) rfl (by decide) dX11_begin_69 ?_
      refine rf_fix (fun i => ∀ (x31 : Int32) (A32 : AH), RfX X l e below wU (i x31 A32) 71 [some (tR (some a0)), some (tI p1), some (tI p2), some (tI x2), some (tI x3), some (tI x31)] [] A32) (fun _ _ => rf_none) (fun rc33 hrc33 => ?_) (fun j30 hj30 => ?_)
      · intro x31 A32
        refine rf_iload X rfl dX11_begin_71 ?_
        refine rf_bipush X (20 : Int32) rfl dX11_begin_73 ?_
        refine rf_icmp_ge X (tgt := 98) rfl dX11_begin_75 (fun c34 => rf_pos c34 ?_) (fun c34 => rf_neg c34 ?_)
        · refine rf_aload_n X rfl dX11_begin_98 ?_
          refine rf_iload X rfl dX11_begin_99 ?_
          refine rf_bind (fun v35 hv35 => ?_)
          refine rf_bind (fun g36 hg36 => ?_)
          refine rf_callVU X c_X11_204 ⟨Nat.le_of_ble_eq_true rfl, Nat.le_of_ble_eq_true rfl⟩ [tI x3] rfl (Nat.le_of_ble_eq_true rfl) hv35 (sX11_beginWarp l D n v35 x3 A32 g36 hg36) dX11_begin_101 ?_
          refine rf_iinc X (x2 + (1 : Int32)) rfl rfl (ls' := [some (tR (some a0)), some (tI p1), some (tI p2), some (tI (x2 + (1 : Int32))), some (tI x3), some (tI x31)]) rfl (by decide) dX11_begin_104 ?_
          exact rf_go (hj21 (x2 + (1 : Int32)) g36) (And.intro rfl (And.intro rfl (And.intro rfl (And.intro rfl (And.intro rfl True.intro)))))
        refine rf_aload_n X rfl dX11_begin_78 ?_
        refine rf_bind (fun v37 hv37 => ?_)
        refine rf_getR X fl_X11_63 hv37 dX11_begin_79 ?_
        refine rf_bipush X (20 : Int32) rfl dX11_begin_82 ?_
        refine rf_iload X rfl dX11_begin_84 ?_
        refine rf_imul X dX11_begin_86 ?_
        refine rf_iload X rfl dX11_begin_87 ?_
        refine rf_iadd X dX11_begin_89 ?_
        refine rf_iconst X (0 : Int32) rfl dX11_begin_90 ?_
        refine rf_bind (fun A38 hA38 => ?_)
        refine rf_iast X hA38 dX11_begin_91 ?_
        refine rf_iinc X (x31 + (1 : Int32)) rfl rfl (ls' := [some (tR (some a0)), some (tI p1), some (tI p2), some (tI x2), some (tI x3), some (tI (x31 + (1 : Int32)))]) rfl (by decide) dX11_begin_92 ?_
        refine rf_goto X (tgt := 71) rfl dX11_begin_95 ?_
        exact rf_go (hrc33 (x31 + (1 : Int32)) A38) (And.intro rfl (And.intro rfl (And.intro rfl (And.intro rfl (And.intro rfl (And.intro rfl True.intro))))))
      exact rf_go (hj30 (0 : Int32) A29) (And.intro rfl (And.intro rfl (And.intro rfl (And.intro rfl (And.intro rfl (And.intro rfl True.intro))))))
    refine rf_goto X (tgt := 107) rfl dX11_begin_41 ?_
    exact rf_go (hj21 x2 A4) (And.intro rfl (And.intro rfl (And.intro rfl (And.intro rfl (And.intro rfl True.intro)))))
  exact rf_go (hj1 (0 : Int32) ((16 : Int32) * p1) A) (And.intro rfl (And.intro rfl (And.intro rfl (And.intro rfl (And.intro rfl True.intro)))))

theorem dX11_dispatch_0 : decode cX11_dispatch 0 = .ok (.aload_n 0, 1) := by decide +kernel
theorem dX11_dispatch_1 : decode cX11_dispatch 1 = .ok (.getfield 156, 3) := by decide +kernel
theorem dX11_dispatch_4 : decode cX11_dispatch 4 = .ok (.aload_n 0, 1) := by decide +kernel
theorem dX11_dispatch_5 : decode cX11_dispatch 5 = .ok (.getfield 150, 3) := by decide +kernel
theorem dX11_dispatch_8 : decode cX11_dispatch 8 = .ok (.if_icmp .ge 7, 3) := by decide +kernel
theorem dX11_dispatch_11 : decode cX11_dispatch 11 = .ok (.iconst 1, 1) := by decide +kernel
theorem dX11_dispatch_12 : decode cX11_dispatch 12 = .ok (.goto 4, 3) := by decide +kernel
theorem dX11_dispatch_15 : decode cX11_dispatch 15 = .ok (.iconst 0, 1) := by decide +kernel
theorem dX11_dispatch_16 : decode cX11_dispatch 16 = .ok (.istore_n 1, 1) := by decide +kernel
theorem dX11_dispatch_17 : decode cX11_dispatch 17 = .ok (.iload_n 1, 1) := by decide +kernel
theorem dX11_dispatch_18 : decode cX11_dispatch 18 = .ok (.ifCond .eq 91, 3) := by decide +kernel
theorem dX11_dispatch_21 : decode cX11_dispatch 21 = .ok (.iconst 0, 1) := by decide +kernel
theorem dX11_dispatch_22 : decode cX11_dispatch 22 = .ok (.istore_n 2, 1) := by decide +kernel
theorem dX11_dispatch_23 : decode cX11_dispatch 23 = .ok (.iload_n 2, 1) := by decide +kernel
theorem dX11_dispatch_24 : decode cX11_dispatch 24 = .ok (.aload_n 0, 1) := by decide +kernel
theorem dX11_dispatch_25 : decode cX11_dispatch 25 = .ok (.getfield 16, 3) := by decide +kernel
theorem dX11_dispatch_28 : decode cX11_dispatch 28 = .ok (.if_icmp .ge 21, 3) := by decide +kernel
theorem dX11_dispatch_31 : decode cX11_dispatch 31 = .ok (.aload_n 0, 1) := by decide +kernel
theorem dX11_dispatch_32 : decode cX11_dispatch 32 = .ok (.iload_n 2, 1) := by decide +kernel
theorem dX11_dispatch_33 : decode cX11_dispatch 33 = .ok (.invokevirtual 192, 3) := by decide +kernel
theorem dX11_dispatch_36 : decode cX11_dispatch 36 = .ok (.aload_n 0, 1) := by decide +kernel
theorem dX11_dispatch_37 : decode cX11_dispatch 37 = .ok (.invokevirtual 196, 3) := by decide +kernel
theorem dX11_dispatch_40 : decode cX11_dispatch 40 = .ok (.if_icmp .ge 9, 3) := by decide +kernel
theorem dX11_dispatch_43 : decode cX11_dispatch 43 = .ok (.iinc 2 1, 3) := by decide +kernel
theorem dX11_dispatch_46 : decode cX11_dispatch 46 = .ok (.goto (-23), 3) := by decide +kernel
theorem dX11_dispatch_49 : decode cX11_dispatch 49 = .ok (.iload_n 2, 1) := by decide +kernel
theorem dX11_dispatch_50 : decode cX11_dispatch 50 = .ok (.aload_n 0, 1) := by decide +kernel
theorem dX11_dispatch_51 : decode cX11_dispatch 51 = .ok (.getfield 16, 3) := by decide +kernel
theorem dX11_dispatch_54 : decode cX11_dispatch 54 = .ok (.if_icmp .ge 7, 3) := by decide +kernel
theorem dX11_dispatch_57 : decode cX11_dispatch 57 = .ok (.iconst 1, 1) := by decide +kernel
theorem dX11_dispatch_58 : decode cX11_dispatch 58 = .ok (.goto 4, 3) := by decide +kernel
theorem dX11_dispatch_61 : decode cX11_dispatch 61 = .ok (.iconst 0, 1) := by decide +kernel
theorem dX11_dispatch_62 : decode cX11_dispatch 62 = .ok (.istore_n 1, 1) := by decide +kernel
theorem dX11_dispatch_63 : decode cX11_dispatch 63 = .ok (.iload_n 1, 1) := by decide +kernel
theorem dX11_dispatch_64 : decode cX11_dispatch 64 = .ok (.ifCond .ne 6, 3) := by decide +kernel
theorem dX11_dispatch_67 : decode cX11_dispatch 67 = .ok (.goto (-50), 3) := by decide +kernel
theorem dX11_dispatch_70 : decode cX11_dispatch 70 = .ok (.aload_n 0, 1) := by decide +kernel
theorem dX11_dispatch_71 : decode cX11_dispatch 71 = .ok (.iload_n 2, 1) := by decide +kernel
theorem dX11_dispatch_72 : decode cX11_dispatch 72 = .ok (.aload_n 0, 1) := by decide +kernel
theorem dX11_dispatch_73 : decode cX11_dispatch 73 = .ok (.getfield 156, 3) := by decide +kernel
theorem dX11_dispatch_76 : decode cX11_dispatch 76 = .ok (.invokevirtual 200, 3) := by decide +kernel
theorem dX11_dispatch_79 : decode cX11_dispatch 79 = .ok (.aload_n 0, 1) := by decide +kernel
theorem dX11_dispatch_80 : decode cX11_dispatch 80 = .ok (.dup, 1) := by decide +kernel
theorem dX11_dispatch_81 : decode cX11_dispatch 81 = .ok (.getfield 156, 3) := by decide +kernel
theorem dX11_dispatch_84 : decode cX11_dispatch 84 = .ok (.iconst 1, 1) := by decide +kernel
theorem dX11_dispatch_85 : decode cX11_dispatch 85 = .ok (.iadd, 1) := by decide +kernel
theorem dX11_dispatch_86 : decode cX11_dispatch 86 = .ok (.putfield 156, 3) := by decide +kernel
theorem dX11_dispatch_89 : decode cX11_dispatch 89 = .ok (.aload_n 0, 1) := by decide +kernel
theorem dX11_dispatch_90 : decode cX11_dispatch 90 = .ok (.getfield 156, 3) := by decide +kernel
theorem dX11_dispatch_93 : decode cX11_dispatch 93 = .ok (.aload_n 0, 1) := by decide +kernel
theorem dX11_dispatch_94 : decode cX11_dispatch 94 = .ok (.getfield 150, 3) := by decide +kernel
theorem dX11_dispatch_97 : decode cX11_dispatch 97 = .ok (.if_icmp .ge 7, 3) := by decide +kernel
theorem dX11_dispatch_100 : decode cX11_dispatch 100 = .ok (.iconst 1, 1) := by decide +kernel
theorem dX11_dispatch_101 : decode cX11_dispatch 101 = .ok (.goto 4, 3) := by decide +kernel
theorem dX11_dispatch_104 : decode cX11_dispatch 104 = .ok (.iconst 0, 1) := by decide +kernel
theorem dX11_dispatch_105 : decode cX11_dispatch 105 = .ok (.istore_n 1, 1) := by decide +kernel
theorem dX11_dispatch_106 : decode cX11_dispatch 106 = .ok (.goto (-89), 3) := by decide +kernel
theorem dX11_dispatch_109 : decode cX11_dispatch 109 = .ok (.return_, 1) := by decide +kernel
def fX11_dispatch (n : Nat) (a0 : Nat) (A : AH) : Option (AH) :=
(gI A (some a0) 11 14).bind fun v1 =>
(gI A (some a0) 11 12).bind fun v2 =>
jn (fun (y4 : Int32) =>
jl (fixG (fun _ _ => none) (fun (rc8 : (Int32) → (AH) → Option (AH)) (x6 : Int32) (A7 : AH) =>
if x6 = 0 then (some A7) else
jl (fixG (fun _ => none) (fun (rc12 : (Int32) → Option (AH)) (x11 : Int32) =>
(gI A7 (some a0) 11 3).bind fun v13 =>
jn (jn (fun (y16 : Int32) =>
if y16 = 0 then (rc8 y16 A7) else
(gI A7 (some a0) 11 14).bind fun v18 =>
(rcv A7 (some a0) 11).bind fun v19 =>
(fX11_begin n v19 x11 v18 A7).bind fun g20 =>
(gI g20 (some a0) 11 14).bind fun v21 =>
(pI g20 (some a0) 11 14 (v21 + (1 : Int32))).bind fun A22 =>
(gI A22 (some a0) 11 14).bind fun v23 =>
(gI A22 (some a0) 11 12).bind fun v24 =>
jn (fun (y26 : Int32) =>
rc8 y26 A22) fun j25 =>
if v24 ≤ v23 then (j25 (0 : Int32)) else
j25 (1 : Int32)) fun j15 =>
if v13 ≤ x11 then (j15 (0 : Int32)) else
j15 (1 : Int32)) fun j14 =>
if v13 ≤ x11 then (j14) else
(rcv A7 (some a0) 11).bind fun v30 =>
(fX11_freeSlots n v30 x11 A7).bind fun g31 =>
(fX11_warps v30 A7).bind fun g32 =>
if g32 ≤ g31 then (j14) else
rc12 (x11 + (1 : Int32))) n) fun j10 =>
j10 (0 : Int32)) n) fun j5 =>
j5 y4 A) fun j3 =>
if v2 ≤ v1 then (j3 (0 : Int32)) else
j3 (1 : Int32)

set_option maxHeartbeats 4000000 in
set_option maxRecDepth 100000 in
theorem sX11_dispatch (l : Launch) (D : DE) (n : Nat) (a0 : Nat) (A : AH) (g : AH) (hg : fX11_dispatch n a0 A = some g) : Sm l D yX11_dispatch cX11_dispatch 3 none 2 48 [tR (some a0)] A (wU g).1 (wU g).2 := by
  refine Sm.of (ω := wU) (fX11_dispatch n a0 A) [some (tR (some a0)), none, none] (by decide) (Nat.le_of_ble_eq_true rfl) rfl hg ?_
  intro p e R s m args below meth c X hin
  have X : Cx D cX11_dispatch RX11 3 2 48 none p R s m args meth c := X
  unfold fX11_dispatch
  refine rf_aload_n X rfl dX11_dispatch_0 ?_
  refine rf_bind (fun v1 hv1 => ?_)
  refine rf_getI X fl_X11_156 hv1 dX11_dispatch_1 ?_
  refine rf_aload_n X rfl dX11_dispatch_4 ?_
  refine rf_bind (fun v2 hv2 => ?_)
  refine rf_getI X fl_X11_150 hv2 dX11_dispatch_5 ?_
  refine rf_jn2 (fun i => ∀ (y4 : Int32), RfX X l e below wU (i y4) 16 [some (tR (some a0)), none, none] [tI y4] A) ?_ (fun j3 hj3 => ?_)
  · intro y4
    refine rf_istore_n X (ls' := [some (tR (some a0)), some (tI y4), none]) rfl (by decide) dX11_dispatch_16 ?_
    refine rf_fix (fun i => ∀ (x6 : Int32) (A7 : AH), RfX X l e below wU (i x6 A7) 17 [some (tR (some a0)), some (tI x6), none] [] A7) (fun _ _ => rf_none) (fun rc8 hrc8 => ?_) (fun j5 hj5 => ?_)
    · intro x6 A7
      refine rf_iload_n X rfl dX11_dispatch_17 ?_
      refine rf_if_eq X (tgt := 109) rfl dX11_dispatch_18 (fun c9 => rf_pos c9 ?_) (fun c9 => rf_neg c9 ?_)
      · exact rf_vret X rfl dX11_dispatch_109
      refine rf_iconst X (0 : Int32) rfl dX11_dispatch_21 ?_
      refine rf_istore_n X (ls' := [some (tR (some a0)), some (tI x6), some (tI (0 : Int32))]) rfl (by decide) dX11_dispatch_22 ?_
      refine rf_fix (fun i => ∀ (x11 : Int32), RfX X l e below wU (i x11) 23 [some (tR (some a0)), none, some (tI x11)] [] A7) (fun _ => rf_none) (fun rc12 hrc12 => ?_) (fun j10 hj10 => ?_)
      · intro x11
        refine rf_iload_n X rfl dX11_dispatch_23 ?_
        refine rf_aload_n X rfl dX11_dispatch_24 ?_
        refine rf_bind (fun v13 hv13 => ?_)
        refine rf_getI X fl_X11_16 hv13 dX11_dispatch_25 ?_
        refine rf_jn2 (fun i => RfX X l e below wU i 49 [some (tR (some a0)), none, some (tI x11)] [] A7) ?_ (fun j14 hj14 => ?_)
        · show RfX X l e below _ _ _ _ _ _
          refine rf_iload_n X rfl dX11_dispatch_49 ?_
          refine rf_aload_n X rfl dX11_dispatch_50 ?_
          refine rf_getI X fl_X11_16 hv13 dX11_dispatch_51 ?_
          refine rf_jn2 (fun i => ∀ (y16 : Int32), RfX X l e below wU (i y16) 62 [some (tR (some a0)), none, some (tI x11)] [tI y16] A7) ?_ (fun j15 hj15 => ?_)
          · intro y16
            refine rf_istore_n X (ls' := [some (tR (some a0)), some (tI y16), some (tI x11)]) rfl (by decide) dX11_dispatch_62 ?_
            refine rf_iload_n X rfl dX11_dispatch_63 ?_
            refine rf_if_ne X (tgt := 70) rfl dX11_dispatch_64 (fun c17 => rf_neg c17 ?_) (fun c17 => rf_pos c17 ?_)
            · refine rf_aload_n X rfl dX11_dispatch_70 ?_
              refine rf_iload_n X rfl dX11_dispatch_71 ?_
              refine rf_aload_n X rfl dX11_dispatch_72 ?_
              refine rf_bind (fun v18 hv18 => ?_)
              refine rf_getI X fl_X11_156 hv18 dX11_dispatch_73 ?_
              refine rf_bind (fun v19 hv19 => ?_)
              refine rf_bind (fun g20 hg20 => ?_)
              refine rf_callVU X c_X11_200 ⟨Nat.le_of_ble_eq_true rfl, Nat.le_of_ble_eq_true rfl⟩ [tI x11, tI v18] rfl (Nat.le_of_ble_eq_true rfl) hv19 (sX11_begin l D n v19 x11 v18 A7 g20 hg20) dX11_dispatch_76 ?_
              refine rf_aload_n X rfl dX11_dispatch_79 ?_
              refine rf_dup X rfl dX11_dispatch_80 ?_
              refine rf_bind (fun v21 hv21 => ?_)
              refine rf_getI X fl_X11_156 hv21 dX11_dispatch_81 ?_
              refine rf_iconst X (1 : Int32) rfl dX11_dispatch_84 ?_
              refine rf_iadd X dX11_dispatch_85 ?_
              refine rf_bind (fun A22 hA22 => ?_)
              refine rf_putI X fp_X11_156 (fun h => by cases h) hA22 dX11_dispatch_86 ?_
              refine rf_aload_n X rfl dX11_dispatch_89 ?_
              refine rf_bind (fun v23 hv23 => ?_)
              refine rf_getI X fl_X11_156 hv23 dX11_dispatch_90 ?_
              refine rf_aload_n X rfl dX11_dispatch_93 ?_
              refine rf_bind (fun v24 hv24 => ?_)
              refine rf_getI X fl_X11_150 hv24 dX11_dispatch_94 ?_
              refine rf_jn2 (fun i => ∀ (y26 : Int32), RfX X l e below wU (i y26) 105 [some (tR (some a0)), none, none] [tI y26] A22) ?_ (fun j25 hj25 => ?_)
              · intro y26
                refine rf_istore_n X (ls' := [some (tR (some a0)), some (tI y26), none]) rfl (by decide) dX11_dispatch_105 ?_
                refine rf_goto X (tgt := 17) rfl dX11_dispatch_106 ?_
                exact rf_go (hrc8 y26 A22) (And.intro rfl (And.intro rfl True.intro))
              refine rf_icmp_ge X (tgt := 104) rfl dX11_dispatch_97 (fun c27 => rf_pos c27 ?_) (fun c27 => rf_neg c27 ?_)
              · refine rf_iconst X (0 : Int32) rfl dX11_dispatch_104 ?_
                exact rf_go (hj25 (0 : Int32)) (And.intro rfl True.intro)
              refine rf_iconst X (1 : Int32) rfl dX11_dispatch_100 ?_
              refine rf_goto X (tgt := 105) rfl dX11_dispatch_101 ?_
              exact rf_go (hj25 (1 : Int32)) (And.intro rfl True.intro)
            refine rf_goto X (tgt := 17) rfl dX11_dispatch_67 ?_
            exact rf_go (hrc8 y16 A7) (And.intro rfl (And.intro rfl True.intro))
          refine rf_icmp_ge X (tgt := 61) rfl dX11_dispatch_54 (fun c28 => rf_pos c28 ?_) (fun c28 => rf_neg c28 ?_)
          · refine rf_iconst X (0 : Int32) rfl dX11_dispatch_61 ?_
            exact rf_go (hj15 (0 : Int32)) (And.intro rfl (And.intro rfl True.intro))
          refine rf_iconst X (1 : Int32) rfl dX11_dispatch_57 ?_
          refine rf_goto X (tgt := 62) rfl dX11_dispatch_58 ?_
          exact rf_go (hj15 (1 : Int32)) (And.intro rfl (And.intro rfl True.intro))
        refine rf_icmp_ge X (tgt := 49) rfl dX11_dispatch_28 (fun c29 => rf_pos c29 ?_) (fun c29 => rf_neg c29 ?_)
        · exact rf_go hj14 (And.intro rfl (And.intro rfl True.intro))
        refine rf_aload_n X rfl dX11_dispatch_31 ?_
        refine rf_iload_n X rfl dX11_dispatch_32 ?_
        refine rf_bind (fun v30 hv30 => ?_)
        refine rf_bind (fun g31 hg31 => ?_)
        refine rf_callVI X c_X11_192 ⟨Nat.le_of_ble_eq_true rfl, Nat.le_of_ble_eq_true rfl⟩ [tI x11] rfl (Nat.le_of_ble_eq_true rfl) hv30 (sX11_freeSlots l D n v30 x11 A7 g31 hg31) dX11_dispatch_33 ?_
        refine rf_aload_n X rfl dX11_dispatch_36 ?_
        refine rf_bind (fun g32 hg32 => ?_)
        refine rf_callVI X c_X11_196 ⟨Nat.le_of_ble_eq_true rfl, Nat.le_of_ble_eq_true rfl⟩ [] rfl (Nat.le_of_ble_eq_true rfl) hv30 (sX11_warps l D v30 A7 g32 hg32) dX11_dispatch_37 ?_
        refine rf_icmp_ge X (tgt := 49) rfl dX11_dispatch_40 (fun c33 => rf_pos c33 ?_) (fun c33 => rf_neg c33 ?_)
        · exact rf_go hj14 (And.intro rfl (And.intro rfl True.intro))
        refine rf_iinc X (x11 + (1 : Int32)) rfl rfl (ls' := [some (tR (some a0)), none, some (tI (x11 + (1 : Int32)))]) rfl (by decide) dX11_dispatch_43 ?_
        refine rf_goto X (tgt := 23) rfl dX11_dispatch_46 ?_
        exact rf_go (hrc12 (x11 + (1 : Int32))) (And.intro rfl (And.intro rfl True.intro))
      exact rf_go (hj10 (0 : Int32)) (And.intro rfl (And.intro rfl True.intro))
    exact rf_go (hj5 y4 A) (And.intro rfl (And.intro rfl True.intro))
  refine rf_icmp_ge X (tgt := 15) rfl dX11_dispatch_8 (fun c34 => rf_pos c34 ?_) (fun c34 => rf_neg c34 ?_)
  · refine rf_iconst X (0 : Int32) rfl dX11_dispatch_15 ?_
    exact rf_go (hj3 (0 : Int32)) (And.intro rfl True.intro)
  refine rf_iconst X (1 : Int32) rfl dX11_dispatch_11 ?_
  refine rf_goto X (tgt := 16) rfl dX11_dispatch_12 ?_
  exact rf_go (hj3 (1 : Int32)) (And.intro rfl True.intro)

theorem dX11_isLane_0 : decode cX11_isLane 0 = .ok (.iload_n 2, 1) := by decide +kernel
theorem dX11_isLane_1 : decode cX11_isLane 1 = .ok (.aload_n 0, 1) := by decide +kernel
theorem dX11_isLane_2 : decode cX11_isLane 2 = .ok (.getfield 7, 3) := by decide +kernel
theorem dX11_isLane_5 : decode cX11_isLane 5 = .ok (.if_icmp .ge 27, 3) := by decide +kernel
theorem dX11_isLane_8 : decode cX11_isLane 8 = .ok (.aload_n 0, 1) := by decide +kernel
theorem dX11_isLane_9 : decode cX11_isLane 9 = .ok (.getfield 7, 3) := by decide +kernel
theorem dX11_isLane_12 : decode cX11_isLane 12 = .ok (.aload_n 0, 1) := by decide +kernel
theorem dX11_isLane_13 : decode cX11_isLane 13 = .ok (.getfield 57, 3) := by decide +kernel
theorem dX11_isLane_16 : decode cX11_isLane 16 = .ok (.iload_n 1, 1) := by decide +kernel
theorem dX11_isLane_17 : decode cX11_isLane 17 = .ok (.iaload, 1) := by decide +kernel
theorem dX11_isLane_18 : decode cX11_isLane 18 = .ok (.imul, 1) := by decide +kernel
theorem dX11_isLane_19 : decode cX11_isLane 19 = .ok (.iload_n 2, 1) := by decide +kernel
theorem dX11_isLane_20 : decode cX11_isLane 20 = .ok (.iadd, 1) := by decide +kernel
theorem dX11_isLane_21 : decode cX11_isLane 21 = .ok (.aload_n 0, 1) := by decide +kernel
theorem dX11_isLane_22 : decode cX11_isLane 22 = .ok (.getfield 153, 3) := by decide +kernel
theorem dX11_isLane_25 : decode cX11_isLane 25 = .ok (.if_icmp .ge 7, 3) := by decide +kernel
theorem dX11_isLane_28 : decode cX11_isLane 28 = .ok (.iconst 1, 1) := by decide +kernel
theorem dX11_isLane_29 : decode cX11_isLane 29 = .ok (.goto 4, 3) := by decide +kernel
theorem dX11_isLane_32 : decode cX11_isLane 32 = .ok (.iconst 0, 1) := by decide +kernel
theorem dX11_isLane_33 : decode cX11_isLane 33 = .ok (.ireturn, 1) := by decide +kernel
def fX11_isLane (a0 : Nat) (p1 : Int32) (p2 : Int32) (A : AH) : Option (Int32) :=
(gI A (some a0) 11 1).bind fun v1 =>
jn (fun (y3 : Int32) =>
some (nb y3)) fun j2 =>
jn (j2 (0 : Int32)) fun j4 =>
if v1 ≤ p2 then (j4) else
(gR A (some a0) 11 32).bind fun v6 =>
(aI A v6 p1).bind fun v7 =>
(gI A (some a0) 11 13).bind fun v8 =>
if v8 ≤ ((v1 * v7) + p2) then (j4) else
j2 (1 : Int32)

set_option maxHeartbeats 4000000 in
set_option maxRecDepth 100000 in
theorem sX11_isLane (l : Launch) (D : DE) (a0 : Nat) (p1 : Int32) (p2 : Int32) (A : AH) (g : Int32) (hg : fX11_isLane a0 p1 p2 A = some g) : Sm l D yX11_isLane cX11_isLane 3 (some Jvm.ClassFile.FieldType.boolean) 0 0 [tR (some a0), tI p1, tI p2] A (qI A g).1 (qI A g).2 := by
  refine Sm.of (ω := qI A) (fX11_isLane a0 p1 p2 A) [some (tR (some a0)), some (tI p1), some (tI p2)] (by decide) (Nat.le_of_ble_eq_true rfl) rfl hg ?_
  intro p e R s m args below meth c X hin
  have X : Cx D cX11_isLane RX11 3 0 0 (some Jvm.ClassFile.FieldType.boolean) p R s m args meth c := X
  unfold fX11_isLane
  refine rf_iload_n X rfl dX11_isLane_0 ?_
  refine rf_aload_n X rfl dX11_isLane_1 ?_
  refine rf_bind (fun v1 hv1 => ?_)
  refine rf_getI X fl_X11_7 hv1 dX11_isLane_2 ?_
  refine rf_jn2 (fun i => ∀ (y3 : Int32), RfX X l e below (qI A) (i y3) 33 [none, none, none] [tI y3] A) ?_ (fun j2 hj2 => ?_)
  · intro y3
    exact rf_zret X rfl dX11_isLane_33
  refine rf_jn2 (fun i => RfX X l e below (qI A) i 32 [none, none, none] [] A) ?_ (fun j4 hj4 => ?_)
  · show RfX X l e below _ _ _ _ _ _
    refine rf_iconst X (0 : Int32) rfl dX11_isLane_32 ?_
    exact rf_go (hj2 (0 : Int32)) True.intro
  refine rf_icmp_ge X (tgt := 32) rfl dX11_isLane_5 (fun c5 => rf_pos c5 ?_) (fun c5 => rf_neg c5 ?_)
  · exact rf_go hj4 True.intro
  refine rf_aload_n X rfl dX11_isLane_8 ?_
  refine rf_getI X fl_X11_7 hv1 dX11_isLane_9 ?_
  refine rf_aload_n X rfl dX11_isLane_12 ?_
  refine rf_bind (fun v6 hv6 => ?_)
  refine rf_getR X fl_X11_57 hv6 dX11_isLane_13 ?_
  refine rf_iload_n X rfl dX11_isLane_16 ?_
  refine rf_bind (fun v7 hv7 => ?_)
  refine rf_iald X hv7 dX11_isLane_17 ?_
  refine rf_imul X dX11_isLane_18 ?_
  refine rf_iload_n X rfl dX11_isLane_19 ?_
  refine rf_iadd X dX11_isLane_20 ?_
  refine rf_aload_n X rfl dX11_isLane_21 ?_
  refine rf_bind (fun v8 hv8 => ?_)
  refine rf_getI X fl_X11_153 hv8 dX11_isLane_22 ?_
  refine rf_icmp_ge X (tgt := 32) rfl dX11_isLane_25 (fun c9 => rf_pos c9 ?_) (fun c9 => rf_neg c9 ?_)
  · exact rf_go hj4 True.intro
  refine rf_iconst X (1 : Int32) rfl dX11_isLane_28 ?_
  refine rf_goto X (tgt := 33) rfl dX11_isLane_29 ?_
  exact rf_go (hj2 (1 : Int32)) True.intro

theorem dX11_isAwake_0 : decode cX11_isAwake 0 = .ok (.aload_n 0, 1) := by decide +kernel
theorem dX11_isAwake_1 : decode cX11_isAwake 1 = .ok (.iload_n 1, 1) := by decide +kernel
theorem dX11_isAwake_2 : decode cX11_isAwake 2 = .ok (.iload_n 2, 1) := by decide +kernel
theorem dX11_isAwake_3 : decode cX11_isAwake 3 = .ok (.invokevirtual 208, 3) := by decide +kernel
theorem dX11_isAwake_6 : decode cX11_isAwake 6 = .ok (.ifCond .eq 33, 3) := by decide +kernel
theorem dX11_isAwake_9 : decode cX11_isAwake 9 = .ok (.aload_n 0, 1) := by decide +kernel
theorem dX11_isAwake_10 : decode cX11_isAwake 10 = .ok (.getfield 76, 3) := by decide +kernel
theorem dX11_isAwake_13 : decode cX11_isAwake 13 = .ok (.iload_n 1, 1) := by decide +kernel
theorem dX11_isAwake_14 : decode cX11_isAwake 14 = .ok (.iload_n 2, 1) := by decide +kernel
theorem dX11_isAwake_15 : decode cX11_isAwake 15 = .ok (.invokestatic 211, 3) := by decide +kernel
theorem dX11_isAwake_18 : decode cX11_isAwake 18 = .ok (.baload, 1) := by decide +kernel
theorem dX11_isAwake_19 : decode cX11_isAwake 19 = .ok (.ifCond .ne 20, 3) := by decide +kernel
theorem dX11_isAwake_22 : decode cX11_isAwake 22 = .ok (.aload_n 0, 1) := by decide +kernel
theorem dX11_isAwake_23 : decode cX11_isAwake 23 = .ok (.getfield 80, 3) := by decide +kernel
theorem dX11_isAwake_26 : decode cX11_isAwake 26 = .ok (.iload_n 1, 1) := by decide +kernel
theorem dX11_isAwake_27 : decode cX11_isAwake 27 = .ok (.iload_n 2, 1) := by decide +kernel
theorem dX11_isAwake_28 : decode cX11_isAwake 28 = .ok (.invokestatic 211, 3) := by decide +kernel
theorem dX11_isAwake_31 : decode cX11_isAwake 31 = .ok (.baload, 1) := by decide +kernel
theorem dX11_isAwake_32 : decode cX11_isAwake 32 = .ok (.ifCond .ne 7, 3) := by decide +kernel
theorem dX11_isAwake_35 : decode cX11_isAwake 35 = .ok (.iconst 1, 1) := by decide +kernel
theorem dX11_isAwake_36 : decode cX11_isAwake 36 = .ok (.goto 4, 3) := by decide +kernel
theorem dX11_isAwake_39 : decode cX11_isAwake 39 = .ok (.iconst 0, 1) := by decide +kernel
theorem dX11_isAwake_40 : decode cX11_isAwake 40 = .ok (.ireturn, 1) := by decide +kernel
def fX11_isAwake (a0 : Nat) (p1 : Int32) (p2 : Int32) (A : AH) : Option (Int32) :=
(rcv A (some a0) 11).bind fun v1 =>
(fX11_isLane v1 p1 p2 A).bind fun g2 =>
jn (fun (y4 : Int32) =>
some (nb y4)) fun j3 =>
jn (j3 (0 : Int32)) fun j5 =>
if g2 = 0 then (j5) else
(gR A (some a0) 11 38).bind fun v7 =>
(fX11_thread p1 p2 A).bind fun g8 =>
(aZ A v7 g8).bind fun v9 =>
if v9 = 0 then ((gR A (some a0) 11 39).bind fun v11 =>
(aZ A v11 g8).bind fun v12 =>
if v12 = 0 then (j3 (1 : Int32)) else
j5) else
j5

set_option maxHeartbeats 4000000 in
set_option maxRecDepth 100000 in
theorem sX11_isAwake (l : Launch) (D : DE) (a0 : Nat) (p1 : Int32) (p2 : Int32) (A : AH) (g : Int32) (hg : fX11_isAwake a0 p1 p2 A = some g) : Sm l D yX11_isAwake cX11_isAwake 3 (some Jvm.ClassFile.FieldType.boolean) 1 22 [tR (some a0), tI p1, tI p2] A (qI A g).1 (qI A g).2 := by
  refine Sm.of (ω := qI A) (fX11_isAwake a0 p1 p2 A) [some (tR (some a0)), some (tI p1), some (tI p2)] (by decide) (Nat.le_of_ble_eq_true rfl) rfl hg ?_
  intro p e R s m args below meth c X hin
  have X : Cx D cX11_isAwake RX11 3 1 22 (some Jvm.ClassFile.FieldType.boolean) p R s m args meth c := X
  unfold fX11_isAwake
  refine rf_aload_n X rfl dX11_isAwake_0 ?_
  refine rf_iload_n X rfl dX11_isAwake_1 ?_
  refine rf_iload_n X rfl dX11_isAwake_2 ?_
  refine rf_bind (fun v1 hv1 => ?_)
  refine rf_bind (fun g2 hg2 => ?_)
  refine rf_callVI X c_X11_208 ⟨Nat.le_of_ble_eq_true rfl, Nat.le_of_ble_eq_true rfl⟩ [tI p1, tI p2] rfl (Nat.le_of_ble_eq_true rfl) hv1 (sX11_isLane l D v1 p1 p2 A g2 hg2) dX11_isAwake_3 ?_
  refine rf_jn2 (fun i => ∀ (y4 : Int32), RfX X l e below (qI A) (i y4) 40 [none, none, none] [tI y4] A) ?_ (fun j3 hj3 => ?_)
  · intro y4
    exact rf_zret X rfl dX11_isAwake_40
  refine rf_jn2 (fun i => RfX X l e below (qI A) i 39 [none, none, none] [] A) ?_ (fun j5 hj5 => ?_)
  · show RfX X l e below _ _ _ _ _ _
    refine rf_iconst X (0 : Int32) rfl dX11_isAwake_39 ?_
    exact rf_go (hj3 (0 : Int32)) True.intro
  refine rf_if_eq X (tgt := 39) rfl dX11_isAwake_6 (fun c6 => rf_pos c6 ?_) (fun c6 => rf_neg c6 ?_)
  · exact rf_go hj5 True.intro
  refine rf_aload_n X rfl dX11_isAwake_9 ?_
  refine rf_bind (fun v7 hv7 => ?_)
  refine rf_getR X fl_X11_76 hv7 dX11_isAwake_10 ?_
  refine rf_iload_n X rfl dX11_isAwake_13 ?_
  refine rf_iload_n X rfl dX11_isAwake_14 ?_
  refine rf_bind (fun g8 hg8 => ?_)
  refine rf_callSI X c_X11_211 ⟨Nat.le_of_ble_eq_true rfl, Nat.le_of_ble_eq_true rfl⟩ [tI p1, tI p2] rfl (Nat.le_of_ble_eq_true rfl) (sX11_thread l D p1 p2 A g8 hg8) dX11_isAwake_15 ?_
  refine rf_bind (fun v9 hv9 => ?_)
  refine rf_zald X hv9 dX11_isAwake_18 ?_
  refine rf_if_ne X (tgt := 39) rfl dX11_isAwake_19 (fun c10 => rf_neg c10 ?_) (fun c10 => rf_pos c10 ?_)
  · exact rf_go hj5 True.intro
  refine rf_aload_n X rfl dX11_isAwake_22 ?_
  refine rf_bind (fun v11 hv11 => ?_)
  refine rf_getR X fl_X11_80 hv11 dX11_isAwake_23 ?_
  refine rf_iload_n X rfl dX11_isAwake_26 ?_
  refine rf_iload_n X rfl dX11_isAwake_27 ?_
  refine rf_callSI X c_X11_211 ⟨Nat.le_of_ble_eq_true rfl, Nat.le_of_ble_eq_true rfl⟩ [tI p1, tI p2] rfl (Nat.le_of_ble_eq_true rfl) (sX11_thread l D p1 p2 A g8 hg8) dX11_isAwake_28 ?_
  refine rf_bind (fun v12 hv12 => ?_)
  refine rf_zald X hv12 dX11_isAwake_31 ?_
  refine rf_if_ne X (tgt := 39) rfl dX11_isAwake_32 (fun c13 => rf_neg c13 ?_) (fun c13 => rf_pos c13 ?_)
  · exact rf_go hj5 True.intro
  refine rf_iconst X (1 : Int32) rfl dX11_isAwake_35 ?_
  refine rf_goto X (tgt := 40) rfl dX11_isAwake_36 ?_
  exact rf_go (hj3 (1 : Int32)) True.intro

theorem dX11_group_0 : decode cX11_group 0 = .ok (.iconst 0, 1) := by decide +kernel
theorem dX11_group_1 : decode cX11_group 1 = .ok (.istore_n 2, 1) := by decide +kernel
theorem dX11_group_2 : decode cX11_group 2 = .ok (.iconst 0, 1) := by decide +kernel
theorem dX11_group_3 : decode cX11_group 3 = .ok (.istore_n 3, 1) := by decide +kernel
theorem dX11_group_4 : decode cX11_group 4 = .ok (.iconst 0, 1) := by decide +kernel
theorem dX11_group_5 : decode cX11_group 5 = .ok (.istore 4, 2) := by decide +kernel
theorem dX11_group_7 : decode cX11_group 7 = .ok (.iload 4, 2) := by decide +kernel
theorem dX11_group_9 : decode cX11_group 9 = .ok (.aload_n 0, 1) := by decide +kernel
theorem dX11_group_10 : decode cX11_group 10 = .ok (.getfield 7, 3) := by decide +kernel
theorem dX11_group_13 : decode cX11_group 13 = .ok (.if_icmp .ge 54, 3) := by decide +kernel
theorem dX11_group_16 : decode cX11_group 16 = .ok (.aload_n 0, 1) := by decide +kernel
theorem dX11_group_17 : decode cX11_group 17 = .ok (.iload_n 1, 1) := by decide +kernel
theorem dX11_group_18 : decode cX11_group 18 = .ok (.iload 4, 2) := by decide +kernel
theorem dX11_group_20 : decode cX11_group 20 = .ok (.invokevirtual 215, 3) := by decide +kernel
theorem dX11_group_23 : decode cX11_group 23 = .ok (.ifCond .ne 6, 3) := by decide +kernel
theorem dX11_group_26 : decode cX11_group 26 = .ok (.goto 35, 3) := by decide +kernel
theorem dX11_group_29 : decode cX11_group 29 = .ok (.aload_n 0, 1) := by decide +kernel
theorem dX11_group_30 : decode cX11_group 30 = .ok (.getfield 73, 3) := by decide +kernel
theorem dX11_group_33 : decode cX11_group 33 = .ok (.iload_n 1, 1) := by decide +kernel
theorem dX11_group_34 : decode cX11_group 34 = .ok (.iload 4, 2) := by decide +kernel
theorem dX11_group_36 : decode cX11_group 36 = .ok (.invokestatic 211, 3) := by decide +kernel
theorem dX11_group_39 : decode cX11_group 39 = .ok (.iaload, 1) := by decide +kernel
theorem dX11_group_40 : decode cX11_group 40 = .ok (.istore 5, 2) := by decide +kernel
theorem dX11_group_42 : decode cX11_group 42 = .ok (.iload_n 2, 1) := by decide +kernel
theorem dX11_group_43 : decode cX11_group 43 = .ok (.ifCond .eq 13, 3) := by decide +kernel
theorem dX11_group_46 : decode cX11_group 46 = .ok (.iload_n 3, 1) := by decide +kernel
theorem dX11_group_47 : decode cX11_group 47 = .ok (.iload 5, 2) := by decide +kernel
theorem dX11_group_49 : decode cX11_group 49 = .ok (.if_icmp .gt 7, 3) := by decide +kernel
theorem dX11_group_52 : decode cX11_group 52 = .ok (.iload_n 3, 1) := by decide +kernel
theorem dX11_group_53 : decode cX11_group 53 = .ok (.goto 5, 3) := by decide +kernel
theorem dX11_group_56 : decode cX11_group 56 = .ok (.iload 5, 2) := by decide +kernel
theorem dX11_group_58 : decode cX11_group 58 = .ok (.istore_n 3, 1) := by decide +kernel
theorem dX11_group_59 : decode cX11_group 59 = .ok (.iconst 1, 1) := by decide +kernel
theorem dX11_group_60 : decode cX11_group 60 = .ok (.istore_n 2, 1) := by decide +kernel
theorem dX11_group_61 : decode cX11_group 61 = .ok (.iinc 4 1, 3) := by decide +kernel
theorem dX11_group_64 : decode cX11_group 64 = .ok (.goto (-57), 3) := by decide +kernel
theorem dX11_group_67 : decode cX11_group 67 = .ok (.iconst 0, 1) := by decide +kernel
theorem dX11_group_68 : decode cX11_group 68 = .ok (.istore 4, 2) := by decide +kernel
theorem dX11_group_70 : decode cX11_group 70 = .ok (.iload 4, 2) := by decide +kernel
theorem dX11_group_72 : decode cX11_group 72 = .ok (.bipush 32, 2) := by decide +kernel
theorem dX11_group_74 : decode cX11_group 74 = .ok (.if_icmp .ge 50, 3) := by decide +kernel
theorem dX11_group_77 : decode cX11_group 77 = .ok (.aload_n 0, 1) := by decide +kernel
theorem dX11_group_78 : decode cX11_group 78 = .ok (.getfield 108, 3) := by decide +kernel
theorem dX11_group_81 : decode cX11_group 81 = .ok (.iload 4, 2) := by decide +kernel
theorem dX11_group_83 : decode cX11_group 83 = .ok (.iload_n 2, 1) := by decide +kernel
theorem dX11_group_84 : decode cX11_group 84 = .ok (.ifCond .eq 32, 3) := by decide +kernel
theorem dX11_group_87 : decode cX11_group 87 = .ok (.aload_n 0, 1) := by decide +kernel
theorem dX11_group_88 : decode cX11_group 88 = .ok (.iload_n 1, 1) := by decide +kernel
theorem dX11_group_89 : decode cX11_group 89 = .ok (.iload 4, 2) := by decide +kernel
theorem dX11_group_91 : decode cX11_group 91 = .ok (.invokevirtual 215, 3) := by decide +kernel
theorem dX11_group_94 : decode cX11_group 94 = .ok (.ifCond .eq 22, 3) := by decide +kernel
theorem dX11_group_97 : decode cX11_group 97 = .ok (.aload_n 0, 1) := by decide +kernel
theorem dX11_group_98 : decode cX11_group 98 = .ok (.getfield 73, 3) := by decide +kernel
theorem dX11_group_101 : decode cX11_group 101 = .ok (.iload_n 1, 1) := by decide +kernel
theorem dX11_group_102 : decode cX11_group 102 = .ok (.iload 4, 2) := by decide +kernel
theorem dX11_group_104 : decode cX11_group 104 = .ok (.invokestatic 211, 3) := by decide +kernel
theorem dX11_group_107 : decode cX11_group 107 = .ok (.iaload, 1) := by decide +kernel
theorem dX11_group_108 : decode cX11_group 108 = .ok (.iload_n 3, 1) := by decide +kernel
theorem dX11_group_109 : decode cX11_group 109 = .ok (.if_icmp .ne 7, 3) := by decide +kernel
theorem dX11_group_112 : decode cX11_group 112 = .ok (.iconst 1, 1) := by decide +kernel
theorem dX11_group_113 : decode cX11_group 113 = .ok (.goto 4, 3) := by decide +kernel
theorem dX11_group_116 : decode cX11_group 116 = .ok (.iconst 0, 1) := by decide +kernel
theorem dX11_group_117 : decode cX11_group 117 = .ok (.bastore, 1) := by decide +kernel
theorem dX11_group_118 : decode cX11_group 118 = .ok (.iinc 4 1, 3) := by decide +kernel
theorem dX11_group_121 : decode cX11_group 121 = .ok (.goto (-51), 3) := by decide +kernel
theorem dX11_group_124 : decode cX11_group 124 = .ok (.iload_n 2, 1) := by decide +kernel
theorem dX11_group_125 : decode cX11_group 125 = .ok (.ireturn, 1) := by decide +kernel
def fX11_group (n : Nat) (a0 : Nat) (p1 : Int32) (A : AH) : Option (Int32 × AH) :=
jl (fixG (fun _ _ _ => none) (fun (rc5 : (Int32) → (Int32) → (Int32) → Option (Int32 × AH)) (x2 : Int32) (x3 : Int32) (x4 : Int32) =>
(gI A (some a0) 11 1).bind fun v6 =>
if v6 ≤ x4 then (jl (fixG (fun _ _ => none) (fun (rc11 : (Int32) → (AH) → Option (Int32 × AH)) (x9 : Int32) (A10 : AH) =>
if (32 : Int32) ≤ x9 then (some ((nb x2), A10)) else
(gR A10 (some a0) 11 50).bind fun v13 =>
jn (fun (y15 : Int32) =>
(sZ A10 v13 x9 y15).bind fun A16 =>
rc11 (x9 + (1 : Int32)) A16) fun j14 =>
jn (j14 (0 : Int32)) fun j17 =>
if x2 = 0 then (j17) else
(rcv A10 (some a0) 11).bind fun v19 =>
(fX11_isAwake v19 p1 x9 A10).bind fun g20 =>
if g20 = 0 then (j17) else
(gR A10 (some a0) 11 37).bind fun v22 =>
(fX11_thread p1 x9 A10).bind fun g23 =>
(aI A10 v22 g23).bind fun v24 =>
if v24 = x3 then (j14 (1 : Int32)) else
j17) n) fun j8 =>
j8 (0 : Int32) A) else
(rcv A (some a0) 11).bind fun v26 =>
(fX11_isAwake v26 p1 x4 A).bind fun g27 =>
jn (fun (x29 : Int32) (x30 : Int32) =>
rc5 x29 x30 (x4 + (1 : Int32))) fun j28 =>
if g27 = 0 then (j28 x2 x3) else
(gR A (some a0) 11 37).bind fun v32 =>
(fX11_thread p1 x4 A).bind fun g33 =>
(aI A v32 g33).bind fun v34 =>
jn (fun (y36 : Int32) =>
j28 (1 : Int32) y36) fun j35 =>
if ((x2 = 0) ∨ (v34 < x3)) then (j35 v34) else
j35 x3) n) fun j1 =>
j1 (0 : Int32) (0 : Int32) (0 : Int32)

set_option maxHeartbeats 4000000 in
set_option maxRecDepth 100000 in
theorem sX11_group (l : Launch) (D : DE) (n : Nat) (a0 : Nat) (p1 : Int32) (A : AH) (g : Int32 × AH) (hg : fX11_group n a0 p1 A = some g) : Sm l D yX11_group cX11_group 6 (some Jvm.ClassFile.FieldType.boolean) 2 44 [tR (some a0), tI p1] A (wI g).1 (wI g).2 := by
  refine Sm.of (ω := wI) (fX11_group n a0 p1 A) [some (tR (some a0)), some (tI p1), none, none, none, none] (by decide) (Nat.le_of_ble_eq_true rfl) rfl hg ?_
  intro p e R s m args below meth c X hin
  have X : Cx D cX11_group RX11 6 2 44 (some Jvm.ClassFile.FieldType.boolean) p R s m args meth c := X
  unfold fX11_group
  refine rf_iconst X (0 : Int32) rfl dX11_group_0 ?_
  refine rf_istore_n X (ls' := [some (tR (some a0)), some (tI p1), some (tI (0 : Int32)), none, none, none]) rfl (by decide) dX11_group_1 ?_
  refine rf_iconst X (0 : Int32) rfl dX11_group_2 ?_
  refine rf_istore_n X (ls' := [some (tR (some a0)), some (tI p1), some (tI (0 : Int32)), some (tI (0 : Int32)), none, none]) rfl (by decide) dX11_group_3 ?_
  refine rf_iconst X (0 : Int32) rfl dX11_group_4 ?_
  refine rf_istore X (ls' := [some (tR (some a0)), some (tI p1), some (tI (0 : Int32)), some (tI (0 : Int32)), some (tI (0 : Int32)), none]) rfl (by decide) dX11_group_5 ?_
  refine rf_fix (fun i => ∀ (x2 : Int32) (x3 : Int32) (x4 : Int32), RfX X l e below wI (i x2 x3 x4) 7 [some (tR (some a0)), some (tI p1), some (tI x2), some (tI x3), some (tI x4), none] [] A) (fun _ _ _ => rf_none) (fun rc5 hrc5 => ?_) (fun j1 hj1 => ?_)
  · intro x2 x3 x4
    refine rf_iload X rfl dX11_group_7 ?_
    refine rf_aload_n X rfl dX11_group_9 ?_
    refine rf_bind (fun v6 hv6 => ?_)
    refine rf_getI X fl_X11_7 hv6 dX11_group_10 ?_
    refine rf_icmp_ge X (tgt := 67) rfl dX11_group_13 (fun c7 => rf_pos c7 ?_) (fun c7 => rf_neg c7 ?_)
    · refine rf_iconst X (0 : Int32) rfl dX11_group_67 ?_
      refine rf_istore X (ls' := [some (tR (some a0)), some (tI p1), some (tI x2), some (tI x3), some (tI (0 : Int32)), none]) rfl (by decide) dX11_group_68 ?_
      refine rf_fix (fun i => ∀ (x9 : Int32) (A10 : AH), RfX X l e below wI (i x9 A10) 70 [some (tR (some a0)), some (tI p1), some (tI x2), some (tI x3), some (tI x9), none] [] A10) (fun _ _ => rf_none) (fun rc11 hrc11 => ?_) (fun j8 hj8 => ?_)
      · intro x9 A10
        refine rf_iload X rfl dX11_group_70 ?_
        refine rf_bipush X (32 : Int32) rfl dX11_group_72 ?_
        refine rf_icmp_ge X (tgt := 124) rfl dX11_group_74 (fun c12 => rf_pos c12 ?_) (fun c12 => rf_neg c12 ?_)
        · refine rf_iload_n X rfl dX11_group_124 ?_
          exact rf_zret X rfl dX11_group_125
        refine rf_aload_n X rfl dX11_group_77 ?_
        refine rf_bind (fun v13 hv13 => ?_)
        refine rf_getR X fl_X11_108 hv13 dX11_group_78 ?_
        refine rf_iload X rfl dX11_group_81 ?_
        refine rf_iload_n X rfl dX11_group_83 ?_
        refine rf_jn2 (fun i => ∀ (y15 : Int32), RfX X l e below wI (i y15) 117 [some (tR (some a0)), some (tI p1), some (tI x2), some (tI x3), some (tI x9), none] [tI y15, tI x9, tR v13] A10) ?_ (fun j14 hj14 => ?_)
        · intro y15
          refine rf_bind (fun A16 hA16 => ?_)
          refine rf_zast X hA16 dX11_group_117 ?_
          refine rf_iinc X (x9 + (1 : Int32)) rfl rfl (ls' := [some (tR (some a0)), some (tI p1), some (tI x2), some (tI x3), some (tI (x9 + (1 : Int32))), none]) rfl (by decide) dX11_group_118 ?_
          refine rf_goto X (tgt := 70) rfl dX11_group_121 ?_
          exact rf_go (hrc11 (x9 + (1 : Int32)) A16) (And.intro rfl (And.intro rfl (And.intro rfl (And.intro rfl (And.intro rfl True.intro)))))
        refine rf_jn2 (fun i => RfX X l e below wI i 116 [some (tR (some a0)), some (tI p1), some (tI x2), some (tI x3), some (tI x9), none] [tI x9, tR v13] A10) ?_ (fun j17 hj17 => ?_)
        · show RfX X l e below _ _ _ _ _ _
          refine rf_iconst X (0 : Int32) rfl dX11_group_116 ?_
          exact rf_go (hj14 (0 : Int32)) (And.intro rfl (And.intro rfl (And.intro rfl (And.intro rfl (And.intro rfl True.intro)))))
        refine rf_if_eq X (tgt := 116) rfl dX11_group_84 (fun c18 => rf_pos c18 ?_) (fun c18 => rf_neg c18 ?_)
        · exact rf_go hj17 (And.intro rfl (And.intro rfl (And.intro rfl (And.intro rfl (And.intro rfl True.intro)))))
        refine rf_aload_n X rfl dX11_group_87 ?_
        refine rf_iload_n X rfl dX11_group_88 ?_
        refine rf_iload X rfl dX11_group_89 ?_
        refine rf_bind (fun v19 hv19 => ?_)
        refine rf_bind (fun g20 hg20 => ?_)
        refine rf_callVI X c_X11_215 ⟨Nat.le_of_ble_eq_true rfl, Nat.le_of_ble_eq_true rfl⟩ [tI p1, tI x9] rfl (Nat.le_of_ble_eq_true rfl) hv19 (sX11_isAwake l D v19 p1 x9 A10 g20 hg20) dX11_group_91 ?_
        refine rf_if_eq X (tgt := 116) rfl dX11_group_94 (fun c21 => rf_pos c21 ?_) (fun c21 => rf_neg c21 ?_)
        · exact rf_go hj17 (And.intro rfl (And.intro rfl (And.intro rfl (And.intro rfl (And.intro rfl True.intro)))))
        refine rf_aload_n X rfl dX11_group_97 ?_
        refine rf_bind (fun v22 hv22 => ?_)
        refine rf_getR X fl_X11_73 hv22 dX11_group_98 ?_
        refine rf_iload_n X rfl dX11_group_101 ?_
        refine rf_iload X rfl dX11_group_102 ?_
        refine rf_bind (fun g23 hg23 => ?_)
        refine rf_callSI X c_X11_211 ⟨Nat.le_of_ble_eq_true rfl, Nat.le_of_ble_eq_true rfl⟩ [tI p1, tI x9] rfl (Nat.le_of_ble_eq_true rfl) (sX11_thread l D p1 x9 A10 g23 hg23) dX11_group_104 ?_
        refine rf_bind (fun v24 hv24 => ?_)
        refine rf_iald X hv24 dX11_group_107 ?_
        refine rf_iload_n X rfl dX11_group_108 ?_
        refine rf_icmp_ne X (tgt := 116) rfl dX11_group_109 (fun c25 => rf_neg c25 ?_) (fun c25 => rf_pos c25 ?_)
        · exact rf_go hj17 (And.intro rfl (And.intro rfl (And.intro rfl (And.intro rfl (And.intro rfl True.intro)))))
        refine rf_iconst X (1 : Int32) rfl dX11_group_112 ?_
        refine rf_goto X (tgt := 117) rfl dX11_group_113 ?_
        exact rf_go (hj14 (1 : Int32)) (And.intro rfl (And.intro rfl (And.intro rfl (And.intro rfl (And.intro rfl True.intro)))))
      exact rf_go (hj8 (0 : Int32) A) (And.intro rfl (And.intro rfl (And.intro rfl (And.intro rfl (And.intro rfl True.intro)))))
    refine rf_aload_n X rfl dX11_group_16 ?_
    refine rf_iload_n X rfl dX11_group_17 ?_
    refine rf_iload X rfl dX11_group_18 ?_
    refine rf_bind (fun v26 hv26 => ?_)
    refine rf_bind (fun g27 hg27 => ?_)
    refine rf_callVI X c_X11_215 ⟨Nat.le_of_ble_eq_true rfl, Nat.le_of_ble_eq_true rfl⟩ [tI p1, tI x4] rfl (Nat.le_of_ble_eq_true rfl) hv26 (sX11_isAwake l D v26 p1 x4 A g27 hg27) dX11_group_20 ?_
    refine rf_jn2 (fun i => ∀ (x29 : Int32) (x30 : Int32), RfX X l e below wI (i x29 x30) 61 [some (tR (some a0)), some (tI p1), some (tI x29), some (tI x30), some (tI x4), none] [] A) ?_ (fun j28 hj28 => ?_)
    · intro x29 x30
      refine rf_iinc X (x4 + (1 : Int32)) rfl rfl (ls' := [some (tR (some a0)), some (tI p1), some (tI x29), some (tI x30), some (tI (x4 + (1 : Int32))), none]) rfl (by decide) dX11_group_61 ?_
      refine rf_goto X (tgt := 7) rfl dX11_group_64 ?_
      exact rf_go (hrc5 x29 x30 (x4 + (1 : Int32))) (And.intro rfl (And.intro rfl (And.intro rfl (And.intro rfl (And.intro rfl True.intro)))))
    refine rf_if_ne X (tgt := 29) rfl dX11_group_23 (fun c31 => rf_neg c31 ?_) (fun c31 => rf_pos c31 ?_)
    · refine rf_aload_n X rfl dX11_group_29 ?_
      refine rf_bind (fun v32 hv32 => ?_)
      refine rf_getR X fl_X11_73 hv32 dX11_group_30 ?_
      refine rf_iload_n X rfl dX11_group_33 ?_
      refine rf_iload X rfl dX11_group_34 ?_
      refine rf_bind (fun g33 hg33 => ?_)
      refine rf_callSI X c_X11_211 ⟨Nat.le_of_ble_eq_true rfl, Nat.le_of_ble_eq_true rfl⟩ [tI p1, tI x4] rfl (Nat.le_of_ble_eq_true rfl) (sX11_thread l D p1 x4 A g33 hg33) dX11_group_36 ?_
      refine rf_bind (fun v34 hv34 => ?_)
      refine rf_iald X hv34 dX11_group_39 ?_
      refine rf_istore X (ls' := [some (tR (some a0)), some (tI p1), some (tI x2), some (tI x3), some (tI x4), some (tI v34)]) rfl (by decide) dX11_group_40 ?_
      refine rf_iload_n X rfl dX11_group_42 ?_
      refine rf_jn2 (fun i => ∀ (y36 : Int32), RfX X l e below wI (i y36) 58 [some (tR (some a0)), some (tI p1), none, none, some (tI x4), none] [tI y36] A) ?_ (fun j35 hj35 => ?_)
      · intro y36
        refine rf_istore_n X (ls' := [some (tR (some a0)), some (tI p1), none, some (tI y36), some (tI x4), none]) rfl (by decide) dX11_group_58 ?_
        refine rf_iconst X (1 : Int32) rfl dX11_group_59 ?_
        refine rf_istore_n X (ls' := [some (tR (some a0)), some (tI p1), some (tI (1 : Int32)), some (tI y36), some (tI x4), none]) rfl (by decide) dX11_group_60 ?_
        exact rf_go (hj28 (1 : Int32) y36) (And.intro rfl (And.intro rfl (And.intro rfl (And.intro rfl (And.intro rfl True.intro)))))
      refine rf_br 56 52 [some (tR (some a0)), some (tI p1), some (tI x2), some (tI x3), some (tI x4), some (tI v34)] [some (tR (some a0)), some (tI p1), some (tI x2), some (tI x3), some (tI x4), some (tI v34)] [] [] (fun _ => ?_) (fun _ => ?_) (fun _ jT jF => ?_)
      · refine rf_iload X rfl dX11_group_56 ?_
        exact rf_go (hj35 v34) (And.intro rfl (And.intro rfl (And.intro rfl True.intro)))
      · refine rf_iload_n X rfl dX11_group_52 ?_
        refine rf_goto X (tgt := 58) rfl dX11_group_53 ?_
        exact rf_go (hj35 x3) (And.intro rfl (And.intro rfl (And.intro rfl True.intro)))
      refine rf_if_eq X (tgt := 56) rfl dX11_group_43 (fun c37 => ?_) (fun c37 => ?_)
      · exact jT (Or.inl c37)
      refine rf_iload_n X rfl dX11_group_46 ?_
      refine rf_iload X rfl dX11_group_47 ?_
      refine rf_icmp_gt X (tgt := 56) rfl dX11_group_49 (fun c38 => ?_) (fun c38 => ?_)
      · exact jT (Or.inr c38)
      exact jF (fun z => z.elim c37 c38)
    refine rf_goto X (tgt := 61) rfl dX11_group_26 ?_
    exact rf_go (hj28 x2 x3) (And.intro rfl (And.intro rfl (And.intro rfl (And.intro rfl (And.intro rfl True.intro)))))
  exact rf_go (hj1 (0 : Int32) (0 : Int32) (0 : Int32)) (And.intro rfl (And.intro rfl (And.intro rfl (And.intro rfl (And.intro rfl True.intro)))))

theorem dX11_firstOfGroup_0 : decode cX11_firstOfGroup 0 = .ok (.iconst 0, 1) := by decide +kernel
theorem dX11_firstOfGroup_1 : decode cX11_firstOfGroup 1 = .ok (.istore_n 1, 1) := by decide +kernel
theorem dX11_firstOfGroup_2 : decode cX11_firstOfGroup 2 = .ok (.aload_n 0, 1) := by decide +kernel
theorem dX11_firstOfGroup_3 : decode cX11_firstOfGroup 3 = .ok (.getfield 108, 3) := by decide +kernel
theorem dX11_firstOfGroup_6 : decode cX11_firstOfGroup 6 = .ok (.iload_n 1, 1) := by decide +kernel
theorem dX11_firstOfGroup_7 : decode cX11_firstOfGroup 7 = .ok (.baload, 1) := by decide +kernel
theorem dX11_firstOfGroup_8 : decode cX11_firstOfGroup 8 = .ok (.ifCond .ne 9, 3) := by decide +kernel
theorem dX11_firstOfGroup_11 : decode cX11_firstOfGroup 11 = .ok (.iinc 1 1, 3) := by decide +kernel
theorem dX11_firstOfGroup_14 : decode cX11_firstOfGroup 14 = .ok (.goto (-12), 3) := by decide +kernel
theorem dX11_firstOfGroup_17 : decode cX11_firstOfGroup 17 = .ok (.iload_n 1, 1) := by decide +kernel
theorem dX11_firstOfGroup_18 : decode cX11_firstOfGroup 18 = .ok (.ireturn, 1) := by decide +kernel
def fX11_firstOfGroup (n : Nat) (a0 : Nat) (A : AH) : Option (Int32) :=
jl (fixG (fun _ => none) (fun (rc3 : (Int32) → Option (Int32)) (x2 : Int32) =>
(gR A (some a0) 11 50).bind fun v4 =>
(aZ A v4 x2).bind fun v5 =>
if v5 = 0 then (rc3 (x2 + (1 : Int32))) else
some x2) n) fun j1 =>
j1 (0 : Int32)

set_option maxHeartbeats 4000000 in
set_option maxRecDepth 100000 in
theorem sX11_firstOfGroup (l : Launch) (D : DE) (n : Nat) (a0 : Nat) (A : AH) (g : Int32) (hg : fX11_firstOfGroup n a0 A = some g) : Sm l D yX11_firstOfGroup cX11_firstOfGroup 2 (some Jvm.ClassFile.FieldType.int) 0 0 [tR (some a0)] A (qI A g).1 (qI A g).2 := by
  refine Sm.of (ω := qI A) (fX11_firstOfGroup n a0 A) [some (tR (some a0)), none] (by decide) (Nat.le_of_ble_eq_true rfl) rfl hg ?_
  intro p e R s m args below meth c X hin
  have X : Cx D cX11_firstOfGroup RX11 2 0 0 (some Jvm.ClassFile.FieldType.int) p R s m args meth c := X
  unfold fX11_firstOfGroup
  refine rf_iconst X (0 : Int32) rfl dX11_firstOfGroup_0 ?_
  refine rf_istore_n X (ls' := [some (tR (some a0)), some (tI (0 : Int32))]) rfl (by decide) dX11_firstOfGroup_1 ?_
  refine rf_fix (fun i => ∀ (x2 : Int32), RfX X l e below (qI A) (i x2) 2 [some (tR (some a0)), some (tI x2)] [] A) (fun _ => rf_none) (fun rc3 hrc3 => ?_) (fun j1 hj1 => ?_)
  · intro x2
    refine rf_aload_n X rfl dX11_firstOfGroup_2 ?_
    refine rf_bind (fun v4 hv4 => ?_)
    refine rf_getR X fl_X11_108 hv4 dX11_firstOfGroup_3 ?_
    refine rf_iload_n X rfl dX11_firstOfGroup_6 ?_
    refine rf_bind (fun v5 hv5 => ?_)
    refine rf_zald X hv5 dX11_firstOfGroup_7 ?_
    refine rf_if_ne X (tgt := 17) rfl dX11_firstOfGroup_8 (fun c6 => rf_neg c6 ?_) (fun c6 => rf_pos c6 ?_)
    · refine rf_iload_n X rfl dX11_firstOfGroup_17 ?_
      exact rf_iret X rfl dX11_firstOfGroup_18
    refine rf_iinc X (x2 + (1 : Int32)) rfl rfl (ls' := [some (tR (some a0)), some (tI (x2 + (1 : Int32)))]) rfl (by decide) dX11_firstOfGroup_11 ?_
    refine rf_goto X (tgt := 2) rfl dX11_firstOfGroup_14 ?_
    exact rf_go (hrc3 (x2 + (1 : Int32))) (And.intro rfl (And.intro rfl True.intro))
  exact rf_go (hj1 (0 : Int32)) (And.intro rfl (And.intro rfl True.intro))

