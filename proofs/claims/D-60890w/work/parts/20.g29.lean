/-! 20.g29: printed by gen/parts.py -/
set_option maxRecDepth 100000
theorem c_X11_377 : CV RX11 377 11 yX11_isSlot cX11_isSlot 3 (some Jvm.ClassFile.FieldType.boolean) 2 := ⟨TX11, 60, rfl, q1989, q1991, qs77, q111, q1992, ⟨by decide +kernel, by decide +kernel, by decide +kernel⟩⟩
theorem dX11_slot_0 : decode cX11_slot 0 = .ok (.aload_n 0, 1) := by decide +kernel
theorem dX11_slot_1 : decode cX11_slot 1 = .ok (.iconst 0, 1) := by decide +kernel
theorem dX11_slot_2 : decode cX11_slot 2 = .ok (.putfield 120, 3) := by decide +kernel
theorem dX11_slot_5 : decode cX11_slot 5 = .ok (.aload_n 0, 1) := by decide +kernel
theorem dX11_slot_6 : decode cX11_slot 6 = .ok (.iload_n 1, 1) := by decide +kernel
theorem dX11_slot_7 : decode cX11_slot 7 = .ok (.iload_n 2, 1) := by decide +kernel
theorem dX11_slot_8 : decode cX11_slot 8 = .ok (.invokevirtual 377, 3) := by decide +kernel
theorem dX11_slot_11 : decode cX11_slot 11 = .ok (.ifCond .eq 13, 3) := by decide +kernel
theorem dX11_slot_14 : decode cX11_slot 14 = .ok (.iload_n 3, 1) := by decide +kernel
theorem dX11_slot_15 : decode cX11_slot 15 = .ok (.ifCond .lt 9, 3) := by decide +kernel
theorem dX11_slot_18 : decode cX11_slot 18 = .ok (.iload_n 3, 1) := by decide +kernel
theorem dX11_slot_19 : decode cX11_slot 19 = .ok (.bipush 24, 2) := by decide +kernel
theorem dX11_slot_21 : decode cX11_slot 21 = .ok (.if_icmp .le 5, 3) := by decide +kernel
theorem dX11_slot_24 : decode cX11_slot 24 = .ok (.iconst (-1), 1) := by decide +kernel
theorem dX11_slot_25 : decode cX11_slot 25 = .ok (.ireturn, 1) := by decide +kernel
theorem dX11_slot_26 : decode cX11_slot 26 = .ok (.bipush 16, 2) := by decide +kernel
theorem dX11_slot_28 : decode cX11_slot 28 = .ok (.iload_n 1, 1) := by decide +kernel
theorem dX11_slot_29 : decode cX11_slot 29 = .ok (.imul, 1) := by decide +kernel
theorem dX11_slot_30 : decode cX11_slot 30 = .ok (.iload_n 2, 1) := by decide +kernel
theorem dX11_slot_31 : decode cX11_slot 31 = .ok (.iadd, 1) := by decide +kernel
theorem dX11_slot_32 : decode cX11_slot 32 = .ok (.istore 4, 2) := by decide +kernel
theorem dX11_slot_34 : decode cX11_slot 34 = .ok (.aload_n 0, 1) := by decide +kernel
theorem dX11_slot_35 : decode cX11_slot 35 = .ok (.getfield 54, 3) := by decide +kernel
theorem dX11_slot_38 : decode cX11_slot 38 = .ok (.iload 4, 2) := by decide +kernel
theorem dX11_slot_40 : decode cX11_slot 40 = .ok (.iaload, 1) := by decide +kernel
theorem dX11_slot_41 : decode cX11_slot 41 = .ok (.iconst (-1), 1) := by decide +kernel
theorem dX11_slot_42 : decode cX11_slot 42 = .ok (.if_icmp .ne 14, 3) := by decide +kernel
theorem dX11_slot_45 : decode cX11_slot 45 = .ok (.iload_n 3, 1) := by decide +kernel
theorem dX11_slot_46 : decode cX11_slot 46 = .ok (.iconst 2, 1) := by decide +kernel
theorem dX11_slot_47 : decode cX11_slot 47 = .ok (.if_icmp .ge 7, 3) := by decide +kernel
theorem dX11_slot_50 : decode cX11_slot 50 = .ok (.iconst (-1), 1) := by decide +kernel
theorem dX11_slot_51 : decode cX11_slot 51 = .ok (.goto 4, 3) := by decide +kernel
theorem dX11_slot_54 : decode cX11_slot 54 = .ok (.iconst 0, 1) := by decide +kernel
theorem dX11_slot_55 : decode cX11_slot 55 = .ok (.ireturn, 1) := by decide +kernel
theorem dX11_slot_56 : decode cX11_slot 56 = .ok (.iconst 0, 1) := by decide +kernel
theorem dX11_slot_57 : decode cX11_slot 57 = .ok (.istore 5, 2) := by decide +kernel
theorem dX11_slot_59 : decode cX11_slot 59 = .ok (.iconst 0, 1) := by decide +kernel
theorem dX11_slot_60 : decode cX11_slot 60 = .ok (.istore 6, 2) := by decide +kernel
theorem dX11_slot_62 : decode cX11_slot 62 = .ok (.iconst 0, 1) := by decide +kernel
theorem dX11_slot_63 : decode cX11_slot 63 = .ok (.istore 7, 2) := by decide +kernel
theorem dX11_slot_65 : decode cX11_slot 65 = .ok (.iload 7, 2) := by decide +kernel
theorem dX11_slot_67 : decode cX11_slot 67 = .ok (.aload_n 0, 1) := by decide +kernel
theorem dX11_slot_68 : decode cX11_slot 68 = .ok (.getfield 7, 3) := by decide +kernel
theorem dX11_slot_71 : decode cX11_slot 71 = .ok (.if_icmp .ge 73, 3) := by decide +kernel
theorem dX11_slot_74 : decode cX11_slot 74 = .ok (.aload_n 0, 1) := by decide +kernel
theorem dX11_slot_75 : decode cX11_slot 75 = .ok (.iload 4, 2) := by decide +kernel
theorem dX11_slot_77 : decode cX11_slot 77 = .ok (.iload 7, 2) := by decide +kernel
theorem dX11_slot_79 : decode cX11_slot 79 = .ok (.invokevirtual 208, 3) := by decide +kernel
theorem dX11_slot_82 : decode cX11_slot 82 = .ok (.ifCond .ne 6, 3) := by decide +kernel
theorem dX11_slot_85 : decode cX11_slot 85 = .ok (.goto 53, 3) := by decide +kernel
theorem dX11_slot_88 : decode cX11_slot 88 = .ok (.iload 5, 2) := by decide +kernel
theorem dX11_slot_90 : decode cX11_slot 90 = .ok (.aload_n 0, 1) := by decide +kernel
theorem dX11_slot_91 : decode cX11_slot 91 = .ok (.getfield 76, 3) := by decide +kernel
theorem dX11_slot_94 : decode cX11_slot 94 = .ok (.iload 4, 2) := by decide +kernel
theorem dX11_slot_96 : decode cX11_slot 96 = .ok (.iload 7, 2) := by decide +kernel
theorem dX11_slot_98 : decode cX11_slot 98 = .ok (.invokestatic 211, 3) := by decide +kernel
theorem dX11_slot_101 : decode cX11_slot 101 = .ok (.baload, 1) := by decide +kernel
theorem dX11_slot_102 : decode cX11_slot 102 = .ok (.ifCond .eq 7, 3) := by decide +kernel
theorem dX11_slot_105 : decode cX11_slot 105 = .ok (.iconst 1, 1) := by decide +kernel
theorem dX11_slot_106 : decode cX11_slot 106 = .ok (.goto 4, 3) := by decide +kernel
theorem dX11_slot_109 : decode cX11_slot 109 = .ok (.iconst 0, 1) := by decide +kernel
theorem dX11_slot_110 : decode cX11_slot 110 = .ok (.iadd, 1) := by decide +kernel
theorem dX11_slot_111 : decode cX11_slot 111 = .ok (.istore 5, 2) := by decide +kernel
theorem dX11_slot_113 : decode cX11_slot 113 = .ok (.iload 6, 2) := by decide +kernel
theorem dX11_slot_115 : decode cX11_slot 115 = .ok (.aload_n 0, 1) := by decide +kernel
theorem dX11_slot_116 : decode cX11_slot 116 = .ok (.getfield 80, 3) := by decide +kernel
theorem dX11_slot_119 : decode cX11_slot 119 = .ok (.iload 4, 2) := by decide +kernel
theorem dX11_slot_121 : decode cX11_slot 121 = .ok (.iload 7, 2) := by decide +kernel
theorem dX11_slot_123 : decode cX11_slot 123 = .ok (.invokestatic 211, 3) := by decide +kernel
theorem dX11_slot_126 : decode cX11_slot 126 = .ok (.baload, 1) := by decide +kernel
theorem dX11_slot_127 : decode cX11_slot 127 = .ok (.ifCond .eq 7, 3) := by decide +kernel
theorem dX11_slot_130 : decode cX11_slot 130 = .ok (.iconst 1, 1) := by decide +kernel
theorem dX11_slot_131 : decode cX11_slot 131 = .ok (.goto 4, 3) := by decide +kernel
theorem dX11_slot_134 : decode cX11_slot 134 = .ok (.iconst 0, 1) := by decide +kernel
theorem dX11_slot_135 : decode cX11_slot 135 = .ok (.iadd, 1) := by decide +kernel
theorem dX11_slot_136 : decode cX11_slot 136 = .ok (.istore 6, 2) := by decide +kernel
theorem dX11_slot_138 : decode cX11_slot 138 = .ok (.iinc 7 1, 3) := by decide +kernel
theorem dX11_slot_141 : decode cX11_slot 141 = .ok (.goto (-76), 3) := by decide +kernel
theorem dX11_slot_144 : decode cX11_slot 144 = .ok (.iload_n 3, 1) := by decide +kernel
theorem dX11_slot_145 : decode cX11_slot 145 = .ok (.tableswitch 65 0 4 #[35, 43, 51, 54, 57], 35) := by decide +kernel
theorem dX11_slot_180 : decode cX11_slot 180 = .ok (.aload_n 0, 1) := by decide +kernel
theorem dX11_slot_181 : decode cX11_slot 181 = .ok (.getfield 54, 3) := by decide +kernel
theorem dX11_slot_184 : decode cX11_slot 184 = .ok (.iload 4, 2) := by decide +kernel
theorem dX11_slot_186 : decode cX11_slot 186 = .ok (.iaload, 1) := by decide +kernel
theorem dX11_slot_187 : decode cX11_slot 187 = .ok (.ireturn, 1) := by decide +kernel
theorem dX11_slot_188 : decode cX11_slot 188 = .ok (.aload_n 0, 1) := by decide +kernel
theorem dX11_slot_189 : decode cX11_slot 189 = .ok (.getfield 57, 3) := by decide +kernel
theorem dX11_slot_192 : decode cX11_slot 192 = .ok (.iload 4, 2) := by decide +kernel
theorem dX11_slot_194 : decode cX11_slot 194 = .ok (.iaload, 1) := by decide +kernel
theorem dX11_slot_195 : decode cX11_slot 195 = .ok (.ireturn, 1) := by decide +kernel
theorem dX11_slot_196 : decode cX11_slot 196 = .ok (.iload 5, 2) := by decide +kernel
theorem dX11_slot_198 : decode cX11_slot 198 = .ok (.ireturn, 1) := by decide +kernel
theorem dX11_slot_199 : decode cX11_slot 199 = .ok (.iload 6, 2) := by decide +kernel
theorem dX11_slot_201 : decode cX11_slot 201 = .ok (.ireturn, 1) := by decide +kernel
theorem dX11_slot_202 : decode cX11_slot 202 = .ok (.aload_n 0, 1) := by decide +kernel
theorem dX11_slot_203 : decode cX11_slot 203 = .ok (.getfield 60, 3) := by decide +kernel
theorem dX11_slot_206 : decode cX11_slot 206 = .ok (.iload 4, 2) := by decide +kernel
theorem dX11_slot_208 : decode cX11_slot 208 = .ok (.iaload, 1) := by decide +kernel
theorem dX11_slot_209 : decode cX11_slot 209 = .ok (.ireturn, 1) := by decide +kernel
theorem dX11_slot_210 : decode cX11_slot 210 = .ok (.aload_n 0, 1) := by decide +kernel
theorem dX11_slot_211 : decode cX11_slot 211 = .ok (.getfield 63, 3) := by decide +kernel
theorem dX11_slot_214 : decode cX11_slot 214 = .ok (.bipush 20, 2) := by decide +kernel
theorem dX11_slot_216 : decode cX11_slot 216 = .ok (.iload 4, 2) := by decide +kernel
theorem dX11_slot_218 : decode cX11_slot 218 = .ok (.imul, 1) := by decide +kernel
theorem dX11_slot_219 : decode cX11_slot 219 = .ok (.iload_n 3, 1) := by decide +kernel
theorem dX11_slot_220 : decode cX11_slot 220 = .ok (.iadd, 1) := by decide +kernel
theorem dX11_slot_221 : decode cX11_slot 221 = .ok (.iconst 5, 1) := by decide +kernel
theorem dX11_slot_222 : decode cX11_slot 222 = .ok (.isub, 1) := by decide +kernel
theorem dX11_slot_223 : decode cX11_slot 223 = .ok (.iaload, 1) := by decide +kernel
theorem dX11_slot_224 : decode cX11_slot 224 = .ok (.ireturn, 1) := by decide +kernel
def fX11_slot (n : Nat) (a0 : Nat) (p1 : Int32) (p2 : Int32) (p3 : Int32) (A : AH) : Option (Int32 × AH) :=
(pI A (some a0) 11 0 (0 : Int32)).bind fun A1 =>
(rcv A1 (some a0) 11).bind fun v2 =>
(fX11_isSlot v2 p1 p2 A1).bind fun g3 =>
if (((g3 = 0) ∨ (p3 < 0)) ∨ (¬ (p3 ≤ (24 : Int32)))) then (some ((-1 : Int32), A1)) else
(gR A1 (some a0) 11 31).bind fun v4 =>
(aI A1 v4 (((16 : Int32) * p1) + p2)).bind fun v5 =>
if v5 = (-1 : Int32) then (jn (fun (y8 : Int32) =>
some (y8, A1)) fun j7 =>
if (2 : Int32) ≤ p3 then (j7 (0 : Int32)) else
j7 (-1 : Int32)) else
jl (fixG (fun _ _ _ => none) (fun (rc14 : (Int32) → (Int32) → (Int32) → Option (Int32 × AH)) (x11 : Int32) (x12 : Int32) (x13 : Int32) =>
(gI A1 (some a0) 11 1).bind fun v15 =>
if v15 ≤ x13 then (if p3 = (0 : Int32) then (some (v5, A1)) else
if p3 = (1 : Int32) then ((gR A1 (some a0) 11 32).bind fun v19 =>
(aI A1 v19 (((16 : Int32) * p1) + p2)).bind fun v20 =>
some (v20, A1)) else
if p3 = (2 : Int32) then (some (x11, A1)) else
if p3 = (3 : Int32) then (some (x12, A1)) else
if p3 = (4 : Int32) then ((gR A1 (some a0) 11 33).bind fun v24 =>
(aI A1 v24 (((16 : Int32) * p1) + p2)).bind fun v25 =>
some (v25, A1)) else
(gR A1 (some a0) 11 34).bind fun v26 =>
(aI A1 v26 ((((20 : Int32) * (((16 : Int32) * p1) + p2)) + p3) - (5 : Int32))).bind fun v27 =>
some (v27, A1)) else
(fX11_isLane v2 (((16 : Int32) * p1) + p2) x13 A1).bind fun g28 =>
jn (fun (x30 : Int32) (x31 : Int32) =>
rc14 x30 x31 (x13 + (1 : Int32))) fun j29 =>
if g28 = 0 then (j29 x11 x12) else
(gR A1 (some a0) 11 38).bind fun v33 =>
(fX11_thread (((16 : Int32) * p1) + p2) x13 A1).bind fun g34 =>
(aZ A1 v33 g34).bind fun v35 =>
jn (fun (y37 : Int32) =>
(gR A1 (some a0) 11 39).bind fun v38 =>
(aZ A1 v38 g34).bind fun v39 =>
jn (fun (y41 : Int32) =>
j29 (x11 + y37) (x12 + y41)) fun j40 =>
if v39 = 0 then (j40 (0 : Int32)) else
j40 (1 : Int32)) fun j36 =>
if v35 = 0 then (j36 (0 : Int32)) else
j36 (1 : Int32)) n) fun j10 =>
j10 (0 : Int32) (0 : Int32) (0 : Int32)

set_option maxHeartbeats 4000000 in
set_option maxRecDepth 100000 in
theorem sX11_slot (l : Launch) (D : DE) (n : Nat) (a0 : Nat) (p1 : Int32) (p2 : Int32) (p3 : Int32) (A : AH) (g : Int32 × AH) (hg : fX11_slot n a0 p1 p2 p3 A = some g) : Sm l D yX11_slot cX11_slot 8 (some Jvm.ClassFile.FieldType.int) 1 22 [tR (some a0), tI p1, tI p2, tI p3] A (wI g).1 (wI g).2 := by
  refine Sm.of (ω := wI) (fX11_slot n a0 p1 p2 p3 A) [some (tR (some a0)), some (tI p1), some (tI p2), some (tI p3), none, none, none, none] (by decide) (Nat.le_of_ble_eq_true rfl) rfl hg ?_
  intro p e R s m args below meth c X hin
  have X : Cx D cX11_slot RX11 8 1 22 (some Jvm.ClassFile.FieldType.int) p R s m args meth c := X
  unfold fX11_slot
  refine rf_aload_n X rfl dX11_slot_0 ?_
  refine rf_iconst X (0 : Int32) rfl dX11_slot_1 ?_
  refine rf_bind (fun A1 hA1 => ?_)
  refine rf_putI X fp_X11_120 (fun h => by cases h) hA1 dX11_slot_2 ?_
  refine rf_aload_n X rfl dX11_slot_5 ?_
  refine rf_iload_n X rfl dX11_slot_6 ?_
  refine rf_iload_n X rfl dX11_slot_7 ?_
  refine rf_bind (fun v2 hv2 => ?_)
  refine rf_bind (fun g3 hg3 => ?_)
  refine rf_callVI X c_X11_377 ⟨Nat.le_of_ble_eq_true rfl, Nat.le_of_ble_eq_true rfl⟩ [tI p1, tI p2] rfl (Nat.le_of_ble_eq_true rfl) hv2 (sX11_isSlot l D v2 p1 p2 A1 g3 hg3) dX11_slot_8 ?_
  refine rf_br 24 26 [some (tR (some a0)), some (tI p1), some (tI p2), some (tI p3), none, none, none, none] [some (tR (some a0)), some (tI p1), some (tI p2), some (tI p3), none, none, none, none] [] [] (fun _ => ?_) (fun _ => ?_) (fun _ jT jF => ?_)
  · refine rf_iconst X (-1 : Int32) rfl dX11_slot_24 ?_
    exact rf_iret X rfl dX11_slot_25
  · refine rf_bipush X (16 : Int32) rfl dX11_slot_26 ?_
    refine rf_iload_n X rfl dX11_slot_28 ?_
    refine rf_imul X dX11_slot_29 ?_
    refine rf_iload_n X rfl dX11_slot_30 ?_
    refine rf_iadd X dX11_slot_31 ?_
    refine rf_istore X (ls' := [some (tR (some a0)), some (tI p1), some (tI p2), some (tI p3), some (tI (((16 : Int32) * p1) + p2)), none, none, none]) rfl (by decide) dX11_slot_32 ?_
    refine rf_aload_n X rfl dX11_slot_34 ?_
    refine rf_bind (fun v4 hv4 => ?_)
    refine rf_getR X fl_X11_54 hv4 dX11_slot_35 ?_
    refine rf_iload X rfl dX11_slot_38 ?_
    refine rf_bind (fun v5 hv5 => ?_)
    refine rf_iald X hv5 dX11_slot_40 ?_
    refine rf_iconst X (-1 : Int32) rfl dX11_slot_41 ?_
    refine rf_icmp_ne X (tgt := 56) rfl dX11_slot_42 (fun c6 => rf_neg c6 ?_) (fun c6 => rf_pos c6 ?_)
    · refine rf_iconst X (0 : Int32) rfl dX11_slot_56 ?_
      refine rf_istore X (ls' := [some (tR (some a0)), some (tI p1), some (tI p2), some (tI p3), some (tI (((16 : Int32) * p1) + p2)), some (tI (0 : Int32)), none, none]) rfl (by decide) dX11_slot_57 ?_
      refine rf_iconst X (0 : Int32) rfl dX11_slot_59 ?_
      refine rf_istore X (ls' := [some (tR (some a0)), some (tI p1), some (tI p2), some (tI p3), some (tI (((16 : Int32) * p1) + p2)), some (tI (0 : Int32)), some (tI (0 : Int32)), none]) rfl (by decide) dX11_slot_60 ?_
      refine rf_iconst X (0 : Int32) rfl dX11_slot_62 ?_
      refine rf_istore X (ls' := [some (tR (some a0)), some (tI p1), some (tI p2), some (tI p3), some (tI (((16 : Int32) * p1) + p2)), some (tI (0 : Int32)), some (tI (0 : Int32)), some (tI (0 : Int32))]) rfl (by decide) dX11_slot_63 ?_
      refine rf_fix (fun i => ∀ (x11 : Int32) (x12 : Int32) (x13 : Int32), RfX X l e below wI (i x11 x12 x13) 65 [some (tR (some a0)), none, none, some (tI p3), some (tI (((16 : Int32) * p1) + p2)), some (tI x11), some (tI x12), some (tI x13)] [] A1) (fun _ _ _ => rf_none) (fun rc14 hrc14 => ?_) (fun j10 hj10 => ?_)
      · intro x11 x12 x13
        refine rf_iload X rfl dX11_slot_65 ?_
        refine rf_aload_n X rfl dX11_slot_67 ?_
        refine rf_bind (fun v15 hv15 => ?_)
        refine rf_getI X fl_X11_7 hv15 dX11_slot_68 ?_
        refine rf_icmp_ge X (tgt := 144) rfl dX11_slot_71 (fun c16 => rf_pos c16 ?_) (fun c16 => rf_neg c16 ?_)
        · refine rf_iload_n X rfl dX11_slot_144 ?_
          by_cases c17 : p3 = (0 : Int32)
          · refine rf_pos c17 ?_
            refine rf_tsIn X (0 : Int32) c17 (by decide) (by decide) (tgt := 180) rfl rfl dX11_slot_145 ?_
            refine rf_aload_n X rfl dX11_slot_180 ?_
            refine rf_getR X fl_X11_54 hv4 dX11_slot_181 ?_
            refine rf_iload X rfl dX11_slot_184 ?_
            refine rf_iald X hv5 dX11_slot_186 ?_
            exact rf_iret X rfl dX11_slot_187
          refine rf_neg c17 ?_
          by_cases c18 : p3 = (1 : Int32)
          · refine rf_pos c18 ?_
            refine rf_tsIn X (1 : Int32) c18 (by decide) (by decide) (tgt := 188) rfl rfl dX11_slot_145 ?_
            refine rf_aload_n X rfl dX11_slot_188 ?_
            refine rf_bind (fun v19 hv19 => ?_)
            refine rf_getR X fl_X11_57 hv19 dX11_slot_189 ?_
            refine rf_iload X rfl dX11_slot_192 ?_
            refine rf_bind (fun v20 hv20 => ?_)
            refine rf_iald X hv20 dX11_slot_194 ?_
            exact rf_iret X rfl dX11_slot_195
          refine rf_neg c18 ?_
          by_cases c21 : p3 = (2 : Int32)
          · refine rf_pos c21 ?_
            refine rf_tsIn X (2 : Int32) c21 (by decide) (by decide) (tgt := 196) rfl rfl dX11_slot_145 ?_
            refine rf_iload X rfl dX11_slot_196 ?_
            exact rf_iret X rfl dX11_slot_198
          refine rf_neg c21 ?_
          by_cases c22 : p3 = (3 : Int32)
          · refine rf_pos c22 ?_
            refine rf_tsIn X (3 : Int32) c22 (by decide) (by decide) (tgt := 199) rfl rfl dX11_slot_145 ?_
            refine rf_iload X rfl dX11_slot_199 ?_
            exact rf_iret X rfl dX11_slot_201
          refine rf_neg c22 ?_
          by_cases c23 : p3 = (4 : Int32)
          · refine rf_pos c23 ?_
            refine rf_tsIn X (4 : Int32) c23 (by decide) (by decide) (tgt := 202) rfl rfl dX11_slot_145 ?_
            refine rf_aload_n X rfl dX11_slot_202 ?_
            refine rf_bind (fun v24 hv24 => ?_)
            refine rf_getR X fl_X11_60 hv24 dX11_slot_203 ?_
            refine rf_iload X rfl dX11_slot_206 ?_
            refine rf_bind (fun v25 hv25 => ?_)
            refine rf_iald X hv25 dX11_slot_208 ?_
            exact rf_iret X rfl dX11_slot_209
          refine rf_neg c23 ?_
          refine rf_tsOut X (ts_def (0) (4) [(0 : Int32), (1 : Int32), (2 : Int32), (3 : Int32), (4 : Int32)] 5 (by decide) (by decide) (List.forall_mem_cons.mpr ⟨c17, (List.forall_mem_cons.mpr ⟨c18, (List.forall_mem_cons.mpr ⟨c21, (List.forall_mem_cons.mpr ⟨c22, (List.forall_mem_cons.mpr ⟨c23, (fun _ h => absurd h List.not_mem_nil)⟩)⟩)⟩)⟩)⟩)) (tgt := 210) rfl dX11_slot_145 ?_
          refine rf_aload_n X rfl dX11_slot_210 ?_
          refine rf_bind (fun v26 hv26 => ?_)
          refine rf_getR X fl_X11_63 hv26 dX11_slot_211 ?_
          refine rf_bipush X (20 : Int32) rfl dX11_slot_214 ?_
          refine rf_iload X rfl dX11_slot_216 ?_
          refine rf_imul X dX11_slot_218 ?_
          refine rf_iload_n X rfl dX11_slot_219 ?_
          refine rf_iadd X dX11_slot_220 ?_
          refine rf_iconst X (5 : Int32) rfl dX11_slot_221 ?_
          refine rf_isub X dX11_slot_222 ?_
          refine rf_bind (fun v27 hv27 => ?_)
          refine rf_iald X hv27 dX11_slot_223 ?_
          exact rf_iret X rfl dX11_slot_224
        refine rf_aload_n X rfl dX11_slot_74 ?_
        refine rf_iload X rfl dX11_slot_75 ?_
        refine rf_iload X rfl dX11_slot_77 ?_
        refine rf_bind (fun g28 hg28 => ?_)
        refine rf_callVI X c_X11_208 ⟨Nat.le_of_ble_eq_true rfl, Nat.le_of_ble_eq_true rfl⟩ [tI (((16 : Int32) * p1) + p2), tI x13] rfl (Nat.le_of_ble_eq_true rfl) hv2 (sX11_isLane l D v2 (((16 : Int32) * p1) + p2) x13 A1 g28 hg28) dX11_slot_79 ?_
        refine rf_jn2 (fun i => ∀ (x30 : Int32) (x31 : Int32), RfX X l e below wI (i x30 x31) 138 [some (tR (some a0)), none, none, some (tI p3), some (tI (((16 : Int32) * p1) + p2)), some (tI x30), some (tI x31), some (tI x13)] [] A1) ?_ (fun j29 hj29 => ?_)
        · intro x30 x31
          refine rf_iinc X (x13 + (1 : Int32)) rfl rfl (ls' := [some (tR (some a0)), none, none, some (tI p3), some (tI (((16 : Int32) * p1) + p2)), some (tI x30), some (tI x31), some (tI (x13 + (1 : Int32)))]) rfl (by decide) dX11_slot_138 ?_
          refine rf_goto X (tgt := 65) rfl dX11_slot_141 ?_
          exact rf_go (hrc14 x30 x31 (x13 + (1 : Int32))) (And.intro rfl (And.intro rfl (And.intro rfl (And.intro rfl (And.intro rfl (And.intro rfl True.intro))))))
        refine rf_if_ne X (tgt := 88) rfl dX11_slot_82 (fun c32 => rf_neg c32 ?_) (fun c32 => rf_pos c32 ?_)
        · refine rf_iload X rfl dX11_slot_88 ?_
          refine rf_aload_n X rfl dX11_slot_90 ?_
          refine rf_bind (fun v33 hv33 => ?_)
          refine rf_getR X fl_X11_76 hv33 dX11_slot_91 ?_
          refine rf_iload X rfl dX11_slot_94 ?_
          refine rf_iload X rfl dX11_slot_96 ?_
          refine rf_bind (fun g34 hg34 => ?_)
          refine rf_callSI X c_X11_211 ⟨Nat.le_of_ble_eq_true rfl, Nat.le_of_ble_eq_true rfl⟩ [tI (((16 : Int32) * p1) + p2), tI x13] rfl (Nat.le_of_ble_eq_true rfl) (sX11_thread l D (((16 : Int32) * p1) + p2) x13 A1 g34 hg34) dX11_slot_98 ?_
          refine rf_bind (fun v35 hv35 => ?_)
          refine rf_zald X hv35 dX11_slot_101 ?_
          refine rf_jn2 (fun i => ∀ (y37 : Int32), RfX X l e below wI (i y37) 110 [some (tR (some a0)), none, none, some (tI p3), some (tI (((16 : Int32) * p1) + p2)), none, some (tI x12), some (tI x13)] [tI y37, tI x11] A1) ?_ (fun j36 hj36 => ?_)
          · intro y37
            refine rf_iadd X dX11_slot_110 ?_
            refine rf_istore X (ls' := [some (tR (some a0)), none, none, some (tI p3), some (tI (((16 : Int32) * p1) + p2)), some (tI (x11 + y37)), some (tI x12), some (tI x13)]) rfl (by decide) dX11_slot_111 ?_
            refine rf_iload X rfl dX11_slot_113 ?_
            refine rf_aload_n X rfl dX11_slot_115 ?_
            refine rf_bind (fun v38 hv38 => ?_)
            refine rf_getR X fl_X11_80 hv38 dX11_slot_116 ?_
            refine rf_iload X rfl dX11_slot_119 ?_
            refine rf_iload X rfl dX11_slot_121 ?_
            refine rf_callSI X c_X11_211 ⟨Nat.le_of_ble_eq_true rfl, Nat.le_of_ble_eq_true rfl⟩ [tI (((16 : Int32) * p1) + p2), tI x13] rfl (Nat.le_of_ble_eq_true rfl) (sX11_thread l D (((16 : Int32) * p1) + p2) x13 A1 g34 hg34) dX11_slot_123 ?_
            refine rf_bind (fun v39 hv39 => ?_)
            refine rf_zald X hv39 dX11_slot_126 ?_
            refine rf_jn2 (fun i => ∀ (y41 : Int32), RfX X l e below wI (i y41) 135 [some (tR (some a0)), none, none, some (tI p3), some (tI (((16 : Int32) * p1) + p2)), some (tI (x11 + y37)), none, some (tI x13)] [tI y41, tI x12] A1) ?_ (fun j40 hj40 => ?_)
            · intro y41
              refine rf_iadd X dX11_slot_135 ?_
              refine rf_istore X (ls' := [some (tR (some a0)), none, none, some (tI p3), some (tI (((16 : Int32) * p1) + p2)), some (tI (x11 + y37)), some (tI (x12 + y41)), some (tI x13)]) rfl (by decide) dX11_slot_136 ?_
              exact rf_go (hj29 (x11 + y37) (x12 + y41)) (And.intro rfl (And.intro rfl (And.intro rfl (And.intro rfl (And.intro rfl (And.intro rfl True.intro))))))
            refine rf_if_eq X (tgt := 134) rfl dX11_slot_127 (fun c42 => rf_pos c42 ?_) (fun c42 => rf_neg c42 ?_)
            · refine rf_iconst X (0 : Int32) rfl dX11_slot_134 ?_
              exact rf_go (hj40 (0 : Int32)) (And.intro rfl (And.intro rfl (And.intro rfl (And.intro rfl (And.intro rfl True.intro)))))
            refine rf_iconst X (1 : Int32) rfl dX11_slot_130 ?_
            refine rf_goto X (tgt := 135) rfl dX11_slot_131 ?_
            exact rf_go (hj40 (1 : Int32)) (And.intro rfl (And.intro rfl (And.intro rfl (And.intro rfl (And.intro rfl True.intro)))))
          refine rf_if_eq X (tgt := 109) rfl dX11_slot_102 (fun c43 => rf_pos c43 ?_) (fun c43 => rf_neg c43 ?_)
          · refine rf_iconst X (0 : Int32) rfl dX11_slot_109 ?_
            exact rf_go (hj36 (0 : Int32)) (And.intro rfl (And.intro rfl (And.intro rfl (And.intro rfl (And.intro rfl True.intro)))))
          refine rf_iconst X (1 : Int32) rfl dX11_slot_105 ?_
          refine rf_goto X (tgt := 110) rfl dX11_slot_106 ?_
          exact rf_go (hj36 (1 : Int32)) (And.intro rfl (And.intro rfl (And.intro rfl (And.intro rfl (And.intro rfl True.intro)))))
        refine rf_goto X (tgt := 138) rfl dX11_slot_85 ?_
        exact rf_go (hj29 x11 x12) (And.intro rfl (And.intro rfl (And.intro rfl (And.intro rfl (And.intro rfl (And.intro rfl True.intro))))))
      exact rf_go (hj10 (0 : Int32) (0 : Int32) (0 : Int32)) (And.intro rfl (And.intro rfl (And.intro rfl (And.intro rfl (And.intro rfl (And.intro rfl True.intro))))))
    refine rf_iload_n X rfl dX11_slot_45 ?_
    refine rf_iconst X (2 : Int32) rfl dX11_slot_46 ?_
    refine rf_jn2 (fun i => ∀ (y8 : Int32), RfX X l e below wI (i y8) 55 [none, none, none, none, none, none, none, none] [tI y8] A1) ?_ (fun j7 hj7 => ?_)
    · intro y8
      exact rf_iret X rfl dX11_slot_55
    refine rf_icmp_ge X (tgt := 54) rfl dX11_slot_47 (fun c9 => rf_pos c9 ?_) (fun c9 => rf_neg c9 ?_)
    · refine rf_iconst X (0 : Int32) rfl dX11_slot_54 ?_
      exact rf_go (hj7 (0 : Int32)) True.intro
    refine rf_iconst X (-1 : Int32) rfl dX11_slot_50 ?_
    refine rf_goto X (tgt := 55) rfl dX11_slot_51 ?_
    exact rf_go (hj7 (-1 : Int32)) True.intro
  refine rf_if_eq X (tgt := 24) rfl dX11_slot_11 (fun c44 => ?_) (fun c44 => ?_)
  · exact jT (Or.inl (Or.inl c44))
  refine rf_iload_n X rfl dX11_slot_14 ?_
  refine rf_if_lt X (tgt := 24) rfl dX11_slot_15 (fun c45 => ?_) (fun c45 => ?_)
  · exact jT (Or.inl (Or.inr c45))
  refine rf_iload_n X rfl dX11_slot_18 ?_
  refine rf_bipush X (24 : Int32) rfl dX11_slot_19 ?_
  refine rf_icmp_le X (tgt := 26) rfl dX11_slot_21 (fun c46 => ?_) (fun c46 => ?_)
  · exact jF (fun z => z.elim (fun z => z.elim c44 c45) (fun z => z c46))
  exact jT (Or.inr c46)

theorem dX11_lane_0 : decode cX11_lane 0 = .ok (.bipush 16, 2) := by decide +kernel
theorem dX11_lane_2 : decode cX11_lane 2 = .ok (.iload_n 1, 1) := by decide +kernel
theorem dX11_lane_3 : decode cX11_lane 3 = .ok (.imul, 1) := by decide +kernel
theorem dX11_lane_4 : decode cX11_lane 4 = .ok (.iload_n 2, 1) := by decide +kernel
theorem dX11_lane_5 : decode cX11_lane 5 = .ok (.iadd, 1) := by decide +kernel
theorem dX11_lane_6 : decode cX11_lane 6 = .ok (.istore 5, 2) := by decide +kernel
theorem dX11_lane_8 : decode cX11_lane 8 = .ok (.aload_n 0, 1) := by decide +kernel
theorem dX11_lane_9 : decode cX11_lane 9 = .ok (.iload_n 1, 1) := by decide +kernel
theorem dX11_lane_10 : decode cX11_lane 10 = .ok (.iload_n 2, 1) := by decide +kernel
theorem dX11_lane_11 : decode cX11_lane 11 = .ok (.invokevirtual 377, 3) := by decide +kernel
theorem dX11_lane_14 : decode cX11_lane 14 = .ok (.ifCond .eq 44, 3) := by decide +kernel
theorem dX11_lane_17 : decode cX11_lane 17 = .ok (.aload_n 0, 1) := by decide +kernel
theorem dX11_lane_18 : decode cX11_lane 18 = .ok (.getfield 54, 3) := by decide +kernel
theorem dX11_lane_21 : decode cX11_lane 21 = .ok (.iload 5, 2) := by decide +kernel
theorem dX11_lane_23 : decode cX11_lane 23 = .ok (.iaload, 1) := by decide +kernel
theorem dX11_lane_24 : decode cX11_lane 24 = .ok (.iconst (-1), 1) := by decide +kernel
theorem dX11_lane_25 : decode cX11_lane 25 = .ok (.if_icmp .eq 33, 3) := by decide +kernel
theorem dX11_lane_28 : decode cX11_lane 28 = .ok (.iload_n 3, 1) := by decide +kernel
theorem dX11_lane_29 : decode cX11_lane 29 = .ok (.ifCond .lt 29, 3) := by decide +kernel
theorem dX11_lane_32 : decode cX11_lane 32 = .ok (.aload_n 0, 1) := by decide +kernel
theorem dX11_lane_33 : decode cX11_lane 33 = .ok (.iload 5, 2) := by decide +kernel
theorem dX11_lane_35 : decode cX11_lane 35 = .ok (.iload_n 3, 1) := by decide +kernel
theorem dX11_lane_36 : decode cX11_lane 36 = .ok (.invokevirtual 208, 3) := by decide +kernel
theorem dX11_lane_39 : decode cX11_lane 39 = .ok (.ifCond .eq 19, 3) := by decide +kernel
theorem dX11_lane_42 : decode cX11_lane 42 = .ok (.iload 4, 2) := by decide +kernel
theorem dX11_lane_44 : decode cX11_lane 44 = .ok (.ifCond .lt 14, 3) := by decide +kernel
theorem dX11_lane_47 : decode cX11_lane 47 = .ok (.iload 4, 2) := by decide +kernel
theorem dX11_lane_49 : decode cX11_lane 49 = .ok (.bipush 20, 2) := by decide +kernel
theorem dX11_lane_51 : decode cX11_lane 51 = .ok (.if_icmp .gt 7, 3) := by decide +kernel
theorem dX11_lane_54 : decode cX11_lane 54 = .ok (.iconst 1, 1) := by decide +kernel
theorem dX11_lane_55 : decode cX11_lane 55 = .ok (.goto 4, 3) := by decide +kernel
theorem dX11_lane_58 : decode cX11_lane 58 = .ok (.iconst 0, 1) := by decide +kernel
theorem dX11_lane_59 : decode cX11_lane 59 = .ok (.istore 6, 2) := by decide +kernel
theorem dX11_lane_61 : decode cX11_lane 61 = .ok (.aload_n 0, 1) := by decide +kernel
theorem dX11_lane_62 : decode cX11_lane 62 = .ok (.iload 6, 2) := by decide +kernel
theorem dX11_lane_64 : decode cX11_lane 64 = .ok (.ifCond .eq 7, 3) := by decide +kernel
theorem dX11_lane_67 : decode cX11_lane 67 = .ok (.iconst 0, 1) := by decide +kernel
theorem dX11_lane_68 : decode cX11_lane 68 = .ok (.goto 4, 3) := by decide +kernel
theorem dX11_lane_71 : decode cX11_lane 71 = .ok (.iconst 1, 1) := by decide +kernel
theorem dX11_lane_72 : decode cX11_lane 72 = .ok (.putfield 120, 3) := by decide +kernel
theorem dX11_lane_75 : decode cX11_lane 75 = .ok (.iload 6, 2) := by decide +kernel
theorem dX11_lane_77 : decode cX11_lane 77 = .ok (.ifCond .ne 5, 3) := by decide +kernel
theorem dX11_lane_80 : decode cX11_lane 80 = .ok (.iconst 0, 1) := by decide +kernel
theorem dX11_lane_81 : decode cX11_lane 81 = .ok (.ireturn, 1) := by decide +kernel
theorem dX11_lane_82 : decode cX11_lane 82 = .ok (.iload 5, 2) := by decide +kernel
theorem dX11_lane_84 : decode cX11_lane 84 = .ok (.iload_n 3, 1) := by decide +kernel
theorem dX11_lane_85 : decode cX11_lane 85 = .ok (.invokestatic 211, 3) := by decide +kernel
theorem dX11_lane_88 : decode cX11_lane 88 = .ok (.istore 7, 2) := by decide +kernel
theorem dX11_lane_90 : decode cX11_lane 90 = .ok (.iload 4, 2) := by decide +kernel
theorem dX11_lane_92 : decode cX11_lane 92 = .ok (.bipush 16, 2) := by decide +kernel
theorem dX11_lane_94 : decode cX11_lane 94 = .ok (.if_icmp .le 23, 3) := by decide +kernel
theorem dX11_lane_97 : decode cX11_lane 97 = .ok (.aload_n 0, 1) := by decide +kernel
theorem dX11_lane_98 : decode cX11_lane 98 = .ok (.iload 7, 2) := by decide +kernel
theorem dX11_lane_100 : decode cX11_lane 100 = .ok (.iload 4, 2) := by decide +kernel
theorem dX11_lane_102 : decode cX11_lane 102 = .ok (.bipush 17, 2) := by decide +kernel
theorem dX11_lane_104 : decode cX11_lane 104 = .ok (.isub, 1) := by decide +kernel
theorem dX11_lane_105 : decode cX11_lane 105 = .ok (.invokevirtual 291, 3) := by decide +kernel
theorem dX11_lane_108 : decode cX11_lane 108 = .ok (.ifCond .eq 7, 3) := by decide +kernel
theorem dX11_lane_111 : decode cX11_lane 111 = .ok (.iconst 1, 1) := by decide +kernel
theorem dX11_lane_112 : decode cX11_lane 112 = .ok (.goto 4, 3) := by decide +kernel
theorem dX11_lane_115 : decode cX11_lane 115 = .ok (.iconst 0, 1) := by decide +kernel
theorem dX11_lane_116 : decode cX11_lane 116 = .ok (.ireturn, 1) := by decide +kernel
theorem dX11_lane_117 : decode cX11_lane 117 = .ok (.iload 4, 2) := by decide +kernel
theorem dX11_lane_119 : decode cX11_lane 119 = .ok (.bipush 16, 2) := by decide +kernel
theorem dX11_lane_121 : decode cX11_lane 121 = .ok (.if_icmp .ne 13, 3) := by decide +kernel
theorem dX11_lane_124 : decode cX11_lane 124 = .ok (.aload_n 0, 1) := by decide +kernel
theorem dX11_lane_125 : decode cX11_lane 125 = .ok (.getfield 73, 3) := by decide +kernel
theorem dX11_lane_128 : decode cX11_lane 128 = .ok (.iload 7, 2) := by decide +kernel
theorem dX11_lane_130 : decode cX11_lane 130 = .ok (.iaload, 1) := by decide +kernel
theorem dX11_lane_131 : decode cX11_lane 131 = .ok (.goto 11, 3) := by decide +kernel
theorem dX11_lane_134 : decode cX11_lane 134 = .ok (.aload_n 0, 1) := by decide +kernel
theorem dX11_lane_135 : decode cX11_lane 135 = .ok (.iload 7, 2) := by decide +kernel
theorem dX11_lane_137 : decode cX11_lane 137 = .ok (.iload 4, 2) := by decide +kernel
theorem dX11_lane_139 : decode cX11_lane 139 = .ok (.invokevirtual 284, 3) := by decide +kernel
theorem dX11_lane_142 : decode cX11_lane 142 = .ok (.ireturn, 1) := by decide +kernel
def fX11_lane (a0 : Nat) (p1 : Int32) (p2 : Int32) (p3 : Int32) (p4 : Int32) (A : AH) : Option (Int32 × AH) :=
(rcv A (some a0) 11).bind fun v1 =>
(fX11_isSlot v1 p1 p2 A).bind fun g2 =>
jn (fun (y4 : Int32) =>
jn (fun (y6 : Int32) =>
(pI A (some a0) 11 0 y6).bind fun A7 =>
if y4 = 0 then (some ((0 : Int32), A7)) else
(fX11_thread (((16 : Int32) * p1) + p2) p3 A7).bind fun g9 =>
if p4 ≤ (16 : Int32) then (jn (fun (y12 : Int32) =>
some (y12, A7)) fun j11 =>
if p4 = (16 : Int32) then ((gR A7 (some a0) 11 37).bind fun v14 =>
(aI A7 v14 g9).bind fun v15 =>
j11 v15) else
(rcv A7 (some a0) 11).bind fun v16 =>
(fX11_reg v16 g9 p4 A7).bind fun g17 =>
j11 g17) else
(rcv A7 (some a0) 11).bind fun v18 =>
(fX11_has v18 g9 (p4 - (17 : Int32)) A7).bind fun g19 =>
jn (fun (y21 : Int32) =>
some (y21, A7)) fun j20 =>
if g19 = 0 then (j20 (0 : Int32)) else
j20 (1 : Int32)) fun j5 =>
if y4 = 0 then (j5 (1 : Int32)) else
j5 (0 : Int32)) fun j3 =>
jn (j3 (0 : Int32)) fun j24 =>
if g2 = 0 then (j24) else
(gR A (some a0) 11 31).bind fun v26 =>
(aI A v26 (((16 : Int32) * p1) + p2)).bind fun v27 =>
if ((v27 = (-1 : Int32)) ∨ (p3 < 0)) then (j24) else
(fX11_isLane v1 (((16 : Int32) * p1) + p2) p3 A).bind fun g28 =>
if (((g28 = 0) ∨ (p4 < 0)) ∨ ((20 : Int32) < p4)) then (j24) else
j3 (1 : Int32)

set_option maxHeartbeats 4000000 in
set_option maxRecDepth 100000 in
theorem sX11_lane (l : Launch) (D : DE) (a0 : Nat) (p1 : Int32) (p2 : Int32) (p3 : Int32) (p4 : Int32) (A : AH) (g : Int32 × AH) (hg : fX11_lane a0 p1 p2 p3 p4 A = some g) : Sm l D yX11_lane cX11_lane 8 (some Jvm.ClassFile.FieldType.int) 1 22 [tR (some a0), tI p1, tI p2, tI p3, tI p4] A (wI g).1 (wI g).2 := by
  refine Sm.of (ω := wI) (fX11_lane a0 p1 p2 p3 p4 A) [some (tR (some a0)), some (tI p1), some (tI p2), some (tI p3), some (tI p4), none, none, none] (by decide) (Nat.le_of_ble_eq_true rfl) rfl hg ?_
  intro p e R s m args below meth c X hin
  have X : Cx D cX11_lane RX11 8 1 22 (some Jvm.ClassFile.FieldType.int) p R s m args meth c := X
  unfold fX11_lane
  refine rf_bipush X (16 : Int32) rfl dX11_lane_0 ?_
  refine rf_iload_n X rfl dX11_lane_2 ?_
  refine rf_imul X dX11_lane_3 ?_
  refine rf_iload_n X rfl dX11_lane_4 ?_
  refine rf_iadd X dX11_lane_5 ?_
  refine rf_istore X (ls' := [some (tR (some a0)), some (tI p1), some (tI p2), some (tI p3), some (tI p4), some (tI (((16 : Int32) * p1) + p2)), none, none]) rfl (by decide) dX11_lane_6 ?_
  refine rf_aload_n X rfl dX11_lane_8 ?_
  refine rf_iload_n X rfl dX11_lane_9 ?_
  refine rf_iload_n X rfl dX11_lane_10 ?_
  refine rf_bind (fun v1 hv1 => ?_)
  refine rf_bind (fun g2 hg2 => ?_)
  refine rf_callVI X c_X11_377 ⟨Nat.le_of_ble_eq_true rfl, Nat.le_of_ble_eq_true rfl⟩ [tI p1, tI p2] rfl (Nat.le_of_ble_eq_true rfl) hv1 (sX11_isSlot l D v1 p1 p2 A g2 hg2) dX11_lane_11 ?_
  refine rf_jn2 (fun i => ∀ (y4 : Int32), RfX X l e below wI (i y4) 59 [some (tR (some a0)), none, none, some (tI p3), some (tI p4), some (tI (((16 : Int32) * p1) + p2)), none, none] [tI y4] A) ?_ (fun j3 hj3 => ?_)
  · intro y4
    refine rf_istore X (ls' := [some (tR (some a0)), none, none, some (tI p3), some (tI p4), some (tI (((16 : Int32) * p1) + p2)), some (tI y4), none]) rfl (by decide) dX11_lane_59 ?_
    refine rf_aload_n X rfl dX11_lane_61 ?_
    refine rf_iload X rfl dX11_lane_62 ?_
    refine rf_jn2 (fun i => ∀ (y6 : Int32), RfX X l e below wI (i y6) 72 [some (tR (some a0)), none, none, some (tI p3), some (tI p4), some (tI (((16 : Int32) * p1) + p2)), some (tI y4), none] [tI y6, tR (some a0)] A) ?_ (fun j5 hj5 => ?_)
    · intro y6
      refine rf_bind (fun A7 hA7 => ?_)
      refine rf_putI X fp_X11_120 (fun h => by cases h) hA7 dX11_lane_72 ?_
      refine rf_iload X rfl dX11_lane_75 ?_
      refine rf_if_ne X (tgt := 82) rfl dX11_lane_77 (fun c8 => rf_neg c8 ?_) (fun c8 => rf_pos c8 ?_)
      · refine rf_iload X rfl dX11_lane_82 ?_
        refine rf_iload_n X rfl dX11_lane_84 ?_
        refine rf_bind (fun g9 hg9 => ?_)
        refine rf_callSI X c_X11_211 ⟨Nat.le_of_ble_eq_true rfl, Nat.le_of_ble_eq_true rfl⟩ [tI (((16 : Int32) * p1) + p2), tI p3] rfl (Nat.le_of_ble_eq_true rfl) (sX11_thread l D (((16 : Int32) * p1) + p2) p3 A7 g9 hg9) dX11_lane_85 ?_
        refine rf_istore X (ls' := [some (tR (some a0)), none, none, some (tI p3), some (tI p4), some (tI (((16 : Int32) * p1) + p2)), some (tI y4), some (tI g9)]) rfl (by decide) dX11_lane_88 ?_
        refine rf_iload X rfl dX11_lane_90 ?_
        refine rf_bipush X (16 : Int32) rfl dX11_lane_92 ?_
        refine rf_icmp_le X (tgt := 117) rfl dX11_lane_94 (fun c10 => rf_pos c10 ?_) (fun c10 => rf_neg c10 ?_)
        · refine rf_iload X rfl dX11_lane_117 ?_
          refine rf_bipush X (16 : Int32) rfl dX11_lane_119 ?_
          refine rf_jn2 (fun i => ∀ (y12 : Int32), RfX X l e below wI (i y12) 142 [none, none, none, none, none, none, none, none] [tI y12] A7) ?_ (fun j11 hj11 => ?_)
          · intro y12
            exact rf_iret X rfl dX11_lane_142
          refine rf_icmp_ne X (tgt := 134) rfl dX11_lane_121 (fun c13 => rf_neg c13 ?_) (fun c13 => rf_pos c13 ?_)
          · refine rf_aload_n X rfl dX11_lane_134 ?_
            refine rf_iload X rfl dX11_lane_135 ?_
            refine rf_iload X rfl dX11_lane_137 ?_
            refine rf_bind (fun v16 hv16 => ?_)
            refine rf_bind (fun g17 hg17 => ?_)
            refine rf_callVI X c_X11_284 ⟨Nat.le_of_ble_eq_true rfl, Nat.le_of_ble_eq_true rfl⟩ [tI g9, tI p4] rfl (Nat.le_of_ble_eq_true rfl) hv16 (sX11_reg l D v16 g9 p4 A7 g17 hg17) dX11_lane_139 ?_
            exact rf_go (hj11 g17) True.intro
          refine rf_aload_n X rfl dX11_lane_124 ?_
          refine rf_bind (fun v14 hv14 => ?_)
          refine rf_getR X fl_X11_73 hv14 dX11_lane_125 ?_
          refine rf_iload X rfl dX11_lane_128 ?_
          refine rf_bind (fun v15 hv15 => ?_)
          refine rf_iald X hv15 dX11_lane_130 ?_
          refine rf_goto X (tgt := 142) rfl dX11_lane_131 ?_
          exact rf_go (hj11 v15) True.intro
        refine rf_aload_n X rfl dX11_lane_97 ?_
        refine rf_iload X rfl dX11_lane_98 ?_
        refine rf_iload X rfl dX11_lane_100 ?_
        refine rf_bipush X (17 : Int32) rfl dX11_lane_102 ?_
        refine rf_isub X dX11_lane_104 ?_
        refine rf_bind (fun v18 hv18 => ?_)
        refine rf_bind (fun g19 hg19 => ?_)
        refine rf_callVI X c_X11_291 ⟨Nat.le_of_ble_eq_true rfl, Nat.le_of_ble_eq_true rfl⟩ [tI g9, tI (p4 - (17 : Int32))] rfl (Nat.le_of_ble_eq_true rfl) hv18 (sX11_has l D v18 g9 (p4 - (17 : Int32)) A7 g19 hg19) dX11_lane_105 ?_
        refine rf_jn2 (fun i => ∀ (y21 : Int32), RfX X l e below wI (i y21) 116 [none, none, none, none, none, none, none, none] [tI y21] A7) ?_ (fun j20 hj20 => ?_)
        · intro y21
          exact rf_iret X rfl dX11_lane_116
        refine rf_if_eq X (tgt := 115) rfl dX11_lane_108 (fun c22 => rf_pos c22 ?_) (fun c22 => rf_neg c22 ?_)
        · refine rf_iconst X (0 : Int32) rfl dX11_lane_115 ?_
          exact rf_go (hj20 (0 : Int32)) True.intro
        refine rf_iconst X (1 : Int32) rfl dX11_lane_111 ?_
        refine rf_goto X (tgt := 116) rfl dX11_lane_112 ?_
        exact rf_go (hj20 (1 : Int32)) True.intro
      refine rf_iconst X (0 : Int32) rfl dX11_lane_80 ?_
      exact rf_iret X rfl dX11_lane_81
    refine rf_if_eq X (tgt := 71) rfl dX11_lane_64 (fun c23 => rf_pos c23 ?_) (fun c23 => rf_neg c23 ?_)
    · refine rf_iconst X (1 : Int32) rfl dX11_lane_71 ?_
      exact rf_go (hj5 (1 : Int32)) (And.intro rfl (And.intro rfl (And.intro rfl (And.intro rfl (And.intro rfl True.intro)))))
    refine rf_iconst X (0 : Int32) rfl dX11_lane_67 ?_
    refine rf_goto X (tgt := 72) rfl dX11_lane_68 ?_
    exact rf_go (hj5 (0 : Int32)) (And.intro rfl (And.intro rfl (And.intro rfl (And.intro rfl (And.intro rfl True.intro)))))
  refine rf_jn2 (fun i => RfX X l e below wI i 58 [some (tR (some a0)), none, none, some (tI p3), some (tI p4), some (tI (((16 : Int32) * p1) + p2)), none, none] [] A) ?_ (fun j24 hj24 => ?_)
  · show RfX X l e below _ _ _ _ _ _
    refine rf_iconst X (0 : Int32) rfl dX11_lane_58 ?_
    exact rf_go (hj3 (0 : Int32)) (And.intro rfl (And.intro rfl (And.intro rfl (And.intro rfl True.intro))))
  refine rf_if_eq X (tgt := 58) rfl dX11_lane_14 (fun c25 => rf_pos c25 ?_) (fun c25 => rf_neg c25 ?_)
  · exact rf_go hj24 (And.intro rfl (And.intro rfl (And.intro rfl (And.intro rfl True.intro))))
  refine rf_aload_n X rfl dX11_lane_17 ?_
  refine rf_bind (fun v26 hv26 => ?_)
  refine rf_getR X fl_X11_54 hv26 dX11_lane_18 ?_
  refine rf_iload X rfl dX11_lane_21 ?_
  refine rf_bind (fun v27 hv27 => ?_)
  refine rf_iald X hv27 dX11_lane_23 ?_
  refine rf_iconst X (-1 : Int32) rfl dX11_lane_24 ?_
  refine rf_br 58 32 [some (tR (some a0)), some (tI p1), some (tI p2), some (tI p3), some (tI p4), some (tI (((16 : Int32) * p1) + p2)), none, none] [some (tR (some a0)), some (tI p1), some (tI p2), some (tI p3), some (tI p4), some (tI (((16 : Int32) * p1) + p2)), none, none] [] [] (fun _ => ?_) (fun _ => ?_) (fun _ jT jF => ?_)
  · exact rf_go hj24 (And.intro rfl (And.intro rfl (And.intro rfl (And.intro rfl True.intro))))
  · refine rf_aload_n X rfl dX11_lane_32 ?_
    refine rf_iload X rfl dX11_lane_33 ?_
    refine rf_iload_n X rfl dX11_lane_35 ?_
    refine rf_bind (fun g28 hg28 => ?_)
    refine rf_callVI X c_X11_208 ⟨Nat.le_of_ble_eq_true rfl, Nat.le_of_ble_eq_true rfl⟩ [tI (((16 : Int32) * p1) + p2), tI p3] rfl (Nat.le_of_ble_eq_true rfl) hv1 (sX11_isLane l D v1 (((16 : Int32) * p1) + p2) p3 A g28 hg28) dX11_lane_36 ?_
    refine rf_br 58 54 [some (tR (some a0)), some (tI p1), some (tI p2), some (tI p3), some (tI p4), some (tI (((16 : Int32) * p1) + p2)), none, none] [some (tR (some a0)), some (tI p1), some (tI p2), some (tI p3), some (tI p4), some (tI (((16 : Int32) * p1) + p2)), none, none] [] [] (fun _ => ?_) (fun _ => ?_) (fun _ jT jF => ?_)
    · exact rf_go hj24 (And.intro rfl (And.intro rfl (And.intro rfl (And.intro rfl True.intro))))
    · refine rf_iconst X (1 : Int32) rfl dX11_lane_54 ?_
      refine rf_goto X (tgt := 59) rfl dX11_lane_55 ?_
      exact rf_go (hj3 (1 : Int32)) (And.intro rfl (And.intro rfl (And.intro rfl (And.intro rfl True.intro))))
    refine rf_if_eq X (tgt := 58) rfl dX11_lane_39 (fun c29 => ?_) (fun c29 => ?_)
    · exact jT (Or.inl (Or.inl c29))
    refine rf_iload X rfl dX11_lane_42 ?_
    refine rf_if_lt X (tgt := 58) rfl dX11_lane_44 (fun c30 => ?_) (fun c30 => ?_)
    · exact jT (Or.inl (Or.inr c30))
    refine rf_iload X rfl dX11_lane_47 ?_
    refine rf_bipush X (20 : Int32) rfl dX11_lane_49 ?_
    refine rf_icmp_gt X (tgt := 58) rfl dX11_lane_51 (fun c31 => ?_) (fun c31 => ?_)
    · exact jT (Or.inr c31)
    exact jF (fun z => z.elim (fun z => z.elim c29 c30) c31)
  refine rf_icmp_eq X (tgt := 58) rfl dX11_lane_25 (fun c32 => ?_) (fun c32 => ?_)
  · exact jT (Or.inl c32)
  refine rf_iload_n X rfl dX11_lane_28 ?_
  refine rf_if_lt X (tgt := 58) rfl dX11_lane_29 (fun c33 => ?_) (fun c33 => ?_)
  · exact jT (Or.inr c33)
  exact jF (fun z => z.elim c32 c33)

theorem dX11_shared_0 : decode cX11_shared 0 = .ok (.iconst 0, 1) := by decide +kernel
theorem dX11_shared_1 : decode cX11_shared 1 = .ok (.istore_n 3, 1) := by decide +kernel
theorem dX11_shared_2 : decode cX11_shared 2 = .ok (.iconst 0, 1) := by decide +kernel
theorem dX11_shared_3 : decode cX11_shared 3 = .ok (.istore 4, 2) := by decide +kernel
theorem dX11_shared_5 : decode cX11_shared 5 = .ok (.iload 4, 2) := by decide +kernel
theorem dX11_shared_7 : decode cX11_shared 7 = .ok (.sipush 128, 3) := by decide +kernel
theorem dX11_shared_10 : decode cX11_shared 10 = .ok (.if_icmp .ge 34, 3) := by decide +kernel
theorem dX11_shared_13 : decode cX11_shared 13 = .ok (.iload_n 3, 1) := by decide +kernel
theorem dX11_shared_14 : decode cX11_shared 14 = .ok (.ifCond .ne 18, 3) := by decide +kernel
theorem dX11_shared_17 : decode cX11_shared 17 = .ok (.iload_n 1, 1) := by decide +kernel
theorem dX11_shared_18 : decode cX11_shared 18 = .ok (.ifCond .lt 18, 3) := by decide +kernel
theorem dX11_shared_21 : decode cX11_shared 21 = .ok (.aload_n 0, 1) := by decide +kernel
theorem dX11_shared_22 : decode cX11_shared 22 = .ok (.getfield 54, 3) := by decide +kernel
theorem dX11_shared_25 : decode cX11_shared 25 = .ok (.iload 4, 2) := by decide +kernel
theorem dX11_shared_27 : decode cX11_shared 27 = .ok (.iaload, 1) := by decide +kernel
theorem dX11_shared_28 : decode cX11_shared 28 = .ok (.iload_n 1, 1) := by decide +kernel
theorem dX11_shared_29 : decode cX11_shared 29 = .ok (.if_icmp .ne 7, 3) := by decide +kernel
theorem dX11_shared_32 : decode cX11_shared 32 = .ok (.iconst 1, 1) := by decide +kernel
theorem dX11_shared_33 : decode cX11_shared 33 = .ok (.goto 4, 3) := by decide +kernel
theorem dX11_shared_36 : decode cX11_shared 36 = .ok (.iconst 0, 1) := by decide +kernel
theorem dX11_shared_37 : decode cX11_shared 37 = .ok (.istore_n 3, 1) := by decide +kernel
theorem dX11_shared_38 : decode cX11_shared 38 = .ok (.iinc 4 1, 3) := by decide +kernel
theorem dX11_shared_41 : decode cX11_shared 41 = .ok (.goto (-36), 3) := by decide +kernel
theorem dX11_shared_44 : decode cX11_shared 44 = .ok (.aload_n 0, 1) := by decide +kernel
theorem dX11_shared_45 : decode cX11_shared 45 = .ok (.iload_n 3, 1) := by decide +kernel
theorem dX11_shared_46 : decode cX11_shared 46 = .ok (.ifCond .eq 17, 3) := by decide +kernel
theorem dX11_shared_49 : decode cX11_shared 49 = .ok (.iload_n 2, 1) := by decide +kernel
theorem dX11_shared_50 : decode cX11_shared 50 = .ok (.ifCond .lt 13, 3) := by decide +kernel
theorem dX11_shared_53 : decode cX11_shared 53 = .ok (.iload_n 2, 1) := by decide +kernel
theorem dX11_shared_54 : decode cX11_shared 54 = .ok (.bipush 64, 2) := by decide +kernel
theorem dX11_shared_56 : decode cX11_shared 56 = .ok (.if_icmp .ge 7, 3) := by decide +kernel
theorem dX11_shared_59 : decode cX11_shared 59 = .ok (.iconst 0, 1) := by decide +kernel
theorem dX11_shared_60 : decode cX11_shared 60 = .ok (.goto 4, 3) := by decide +kernel
theorem dX11_shared_63 : decode cX11_shared 63 = .ok (.iconst 1, 1) := by decide +kernel
theorem dX11_shared_64 : decode cX11_shared 64 = .ok (.putfield 120, 3) := by decide +kernel
theorem dX11_shared_67 : decode cX11_shared 67 = .ok (.aload_n 0, 1) := by decide +kernel
theorem dX11_shared_68 : decode cX11_shared 68 = .ok (.getfield 120, 3) := by decide +kernel
theorem dX11_shared_71 : decode cX11_shared 71 = .ok (.ifCond .ne 17, 3) := by decide +kernel
theorem dX11_shared_74 : decode cX11_shared 74 = .ok (.aload_n 0, 1) := by decide +kernel
theorem dX11_shared_75 : decode cX11_shared 75 = .ok (.getfield 83, 3) := by decide +kernel
theorem dX11_shared_78 : decode cX11_shared 78 = .ok (.bipush 64, 2) := by decide +kernel
theorem dX11_shared_80 : decode cX11_shared 80 = .ok (.iload_n 1, 1) := by decide +kernel
theorem dX11_shared_81 : decode cX11_shared 81 = .ok (.imul, 1) := by decide +kernel
theorem dX11_shared_82 : decode cX11_shared 82 = .ok (.iload_n 2, 1) := by decide +kernel
theorem dX11_shared_83 : decode cX11_shared 83 = .ok (.iadd, 1) := by decide +kernel
theorem dX11_shared_84 : decode cX11_shared 84 = .ok (.iaload, 1) := by decide +kernel
theorem dX11_shared_85 : decode cX11_shared 85 = .ok (.goto 4, 3) := by decide +kernel
theorem dX11_shared_88 : decode cX11_shared 88 = .ok (.iconst 0, 1) := by decide +kernel
theorem dX11_shared_89 : decode cX11_shared 89 = .ok (.ireturn, 1) := by decide +kernel
def fX11_shared (n : Nat) (a0 : Nat) (p1 : Int32) (p2 : Int32) (A : AH) : Option (Int32 × AH) :=
jl (fixG (fun _ _ => none) (fun (rc4 : (Int32) → (Int32) → Option (Int32 × AH)) (x2 : Int32) (x3 : Int32) =>
if (128 : Int32) ≤ x3 then (jn (fun (y7 : Int32) =>
(pI A (some a0) 11 0 y7).bind fun A8 =>
(gI A8 (some a0) 11 0).bind fun v9 =>
jn (fun (y11 : Int32) =>
some (y11, A8)) fun j10 =>
if v9 = 0 then ((gR A8 (some a0) 11 40).bind fun v13 =>
(aI A8 v13 (((64 : Int32) * p1) + p2)).bind fun v14 =>
j10 v14) else
j10 (0 : Int32)) fun j6 =>
if (((x2 = 0) ∨ (p2 < 0)) ∨ ((64 : Int32) ≤ p2)) then (j6 (1 : Int32)) else
j6 (0 : Int32)) else
jn (fun (y19 : Int32) =>
rc4 y19 (x3 + (1 : Int32))) fun j18 =>
jn (j18 (1 : Int32)) fun j20 =>
if x2 = 0 then (jn (j18 (0 : Int32)) fun j22 =>
if p1 < 0 then (j22) else
(gR A (some a0) 11 31).bind fun v24 =>
(aI A v24 x3).bind fun v25 =>
if v25 = p1 then (j20) else
j22) else
j20) n) fun j1 =>
j1 (0 : Int32) (0 : Int32)

set_option maxHeartbeats 4000000 in
set_option maxRecDepth 100000 in
theorem sX11_shared (l : Launch) (D : DE) (n : Nat) (a0 : Nat) (p1 : Int32) (p2 : Int32) (A : AH) (g : Int32 × AH) (hg : fX11_shared n a0 p1 p2 A = some g) : Sm l D yX11_shared cX11_shared 5 (some Jvm.ClassFile.FieldType.int) 0 0 [tR (some a0), tI p1, tI p2] A (wI g).1 (wI g).2 := by
  refine Sm.of (ω := wI) (fX11_shared n a0 p1 p2 A) [some (tR (some a0)), some (tI p1), some (tI p2), none, none] (by decide) (Nat.le_of_ble_eq_true rfl) rfl hg ?_
  intro p e R s m args below meth c X hin
  have X : Cx D cX11_shared RX11 5 0 0 (some Jvm.ClassFile.FieldType.int) p R s m args meth c := X
  unfold fX11_shared
  refine rf_iconst X (0 : Int32) rfl dX11_shared_0 ?_
  refine rf_istore_n X (ls' := [some (tR (some a0)), some (tI p1), some (tI p2), some (tI (0 : Int32)), none]) rfl (by decide) dX11_shared_1 ?_
  refine rf_iconst X (0 : Int32) rfl dX11_shared_2 ?_
  refine rf_istore X (ls' := [some (tR (some a0)), some (tI p1), some (tI p2), some (tI (0 : Int32)), some (tI (0 : Int32))]) rfl (by decide) dX11_shared_3 ?_
  refine rf_fix (fun i => ∀ (x2 : Int32) (x3 : Int32), RfX X l e below wI (i x2 x3) 5 [some (tR (some a0)), some (tI p1), some (tI p2), some (tI x2), some (tI x3)] [] A) (fun _ _ => rf_none) (fun rc4 hrc4 => ?_) (fun j1 hj1 => ?_)
  · intro x2 x3
    refine rf_iload X rfl dX11_shared_5 ?_
    refine rf_sipush X (128 : Int32) rfl dX11_shared_7 ?_
    refine rf_icmp_ge X (tgt := 44) rfl dX11_shared_10 (fun c5 => rf_pos c5 ?_) (fun c5 => rf_neg c5 ?_)
    · refine rf_aload_n X rfl dX11_shared_44 ?_
      refine rf_iload_n X rfl dX11_shared_45 ?_
      refine rf_jn2 (fun i => ∀ (y7 : Int32), RfX X l e below wI (i y7) 64 [some (tR (some a0)), some (tI p1), some (tI p2), none, none] [tI y7, tR (some a0)] A) ?_ (fun j6 hj6 => ?_)
      · intro y7
        refine rf_bind (fun A8 hA8 => ?_)
        refine rf_putI X fp_X11_120 (fun h => by cases h) hA8 dX11_shared_64 ?_
        refine rf_aload_n X rfl dX11_shared_67 ?_
        refine rf_bind (fun v9 hv9 => ?_)
        refine rf_getI X fl_X11_120 hv9 dX11_shared_68 ?_
        refine rf_jn2 (fun i => ∀ (y11 : Int32), RfX X l e below wI (i y11) 89 [none, none, none, none, none] [tI y11] A8) ?_ (fun j10 hj10 => ?_)
        · intro y11
          exact rf_iret X rfl dX11_shared_89
        refine rf_if_ne X (tgt := 88) rfl dX11_shared_71 (fun c12 => rf_neg c12 ?_) (fun c12 => rf_pos c12 ?_)
        · refine rf_iconst X (0 : Int32) rfl dX11_shared_88 ?_
          exact rf_go (hj10 (0 : Int32)) True.intro
        refine rf_aload_n X rfl dX11_shared_74 ?_
        refine rf_bind (fun v13 hv13 => ?_)
        refine rf_getR X fl_X11_83 hv13 dX11_shared_75 ?_
        refine rf_bipush X (64 : Int32) rfl dX11_shared_78 ?_
        refine rf_iload_n X rfl dX11_shared_80 ?_
        refine rf_imul X dX11_shared_81 ?_
        refine rf_iload_n X rfl dX11_shared_82 ?_
        refine rf_iadd X dX11_shared_83 ?_
        refine rf_bind (fun v14 hv14 => ?_)
        refine rf_iald X hv14 dX11_shared_84 ?_
        refine rf_goto X (tgt := 89) rfl dX11_shared_85 ?_
        exact rf_go (hj10 v14) True.intro
      refine rf_br 63 59 [some (tR (some a0)), some (tI p1), some (tI p2), some (tI x2), some (tI x3)] [some (tR (some a0)), some (tI p1), some (tI p2), some (tI x2), some (tI x3)] [tR (some a0)] [tR (some a0)] (fun _ => ?_) (fun _ => ?_) (fun _ jT jF => ?_)
      · refine rf_iconst X (1 : Int32) rfl dX11_shared_63 ?_
        exact rf_go (hj6 (1 : Int32)) (And.intro rfl (And.intro rfl (And.intro rfl True.intro)))
      · refine rf_iconst X (0 : Int32) rfl dX11_shared_59 ?_
        refine rf_goto X (tgt := 64) rfl dX11_shared_60 ?_
        exact rf_go (hj6 (0 : Int32)) (And.intro rfl (And.intro rfl (And.intro rfl True.intro)))
      refine rf_if_eq X (tgt := 63) rfl dX11_shared_46 (fun c15 => ?_) (fun c15 => ?_)
      · exact jT (Or.inl (Or.inl c15))
      refine rf_iload_n X rfl dX11_shared_49 ?_
      refine rf_if_lt X (tgt := 63) rfl dX11_shared_50 (fun c16 => ?_) (fun c16 => ?_)
      · exact jT (Or.inl (Or.inr c16))
      refine rf_iload_n X rfl dX11_shared_53 ?_
      refine rf_bipush X (64 : Int32) rfl dX11_shared_54 ?_
      refine rf_icmp_ge X (tgt := 63) rfl dX11_shared_56 (fun c17 => ?_) (fun c17 => ?_)
      · exact jT (Or.inr c17)
      exact jF (fun z => z.elim (fun z => z.elim c15 c16) c17)
    refine rf_iload_n X rfl dX11_shared_13 ?_
    refine rf_jn2 (fun i => ∀ (y19 : Int32), RfX X l e below wI (i y19) 37 [some (tR (some a0)), some (tI p1), some (tI p2), none, some (tI x3)] [tI y19] A) ?_ (fun j18 hj18 => ?_)
    · intro y19
      refine rf_istore_n X (ls' := [some (tR (some a0)), some (tI p1), some (tI p2), some (tI y19), some (tI x3)]) rfl (by decide) dX11_shared_37 ?_
      refine rf_iinc X (x3 + (1 : Int32)) rfl rfl (ls' := [some (tR (some a0)), some (tI p1), some (tI p2), some (tI y19), some (tI (x3 + (1 : Int32)))]) rfl (by decide) dX11_shared_38 ?_
      refine rf_goto X (tgt := 5) rfl dX11_shared_41 ?_
      exact rf_go (hrc4 y19 (x3 + (1 : Int32))) (And.intro rfl (And.intro rfl (And.intro rfl (And.intro rfl (And.intro rfl True.intro)))))
    refine rf_jn2 (fun i => RfX X l e below wI i 32 [some (tR (some a0)), some (tI p1), some (tI p2), none, some (tI x3)] [] A) ?_ (fun j20 hj20 => ?_)
    · show RfX X l e below _ _ _ _ _ _
      refine rf_iconst X (1 : Int32) rfl dX11_shared_32 ?_
      refine rf_goto X (tgt := 37) rfl dX11_shared_33 ?_
      exact rf_go (hj18 (1 : Int32)) (And.intro rfl (And.intro rfl (And.intro rfl (And.intro rfl True.intro))))
    refine rf_if_ne X (tgt := 32) rfl dX11_shared_14 (fun c21 => rf_neg c21 ?_) (fun c21 => rf_pos c21 ?_)
    · exact rf_go hj20 (And.intro rfl (And.intro rfl (And.intro rfl (And.intro rfl True.intro))))
    refine rf_iload_n X rfl dX11_shared_17 ?_
    refine rf_jn2 (fun i => RfX X l e below wI i 36 [some (tR (some a0)), some (tI p1), some (tI p2), none, some (tI x3)] [] A) ?_ (fun j22 hj22 => ?_)
    · show RfX X l e below _ _ _ _ _ _
      refine rf_iconst X (0 : Int32) rfl dX11_shared_36 ?_
      exact rf_go (hj18 (0 : Int32)) (And.intro rfl (And.intro rfl (And.intro rfl (And.intro rfl True.intro))))
    refine rf_if_lt X (tgt := 36) rfl dX11_shared_18 (fun c23 => rf_pos c23 ?_) (fun c23 => rf_neg c23 ?_)
    · exact rf_go hj22 (And.intro rfl (And.intro rfl (And.intro rfl (And.intro rfl True.intro))))
    refine rf_aload_n X rfl dX11_shared_21 ?_
    refine rf_bind (fun v24 hv24 => ?_)
    refine rf_getR X fl_X11_54 hv24 dX11_shared_22 ?_
    refine rf_iload X rfl dX11_shared_25 ?_
    refine rf_bind (fun v25 hv25 => ?_)
    refine rf_iald X hv25 dX11_shared_27 ?_
    refine rf_iload_n X rfl dX11_shared_28 ?_
    refine rf_icmp_ne X (tgt := 36) rfl dX11_shared_29 (fun c26 => rf_neg c26 ?_) (fun c26 => rf_pos c26 ?_)
    · exact rf_go hj22 (And.intro rfl (And.intro rfl (And.intro rfl (And.intro rfl True.intro))))
    exact rf_go hj20 (And.intro rfl (And.intro rfl (And.intro rfl (And.intro rfl True.intro))))
  exact rf_go (hj1 (0 : Int32) (0 : Int32)) (And.intro rfl (And.intro rfl (And.intro rfl (And.intro rfl (And.intro rfl True.intro)))))

