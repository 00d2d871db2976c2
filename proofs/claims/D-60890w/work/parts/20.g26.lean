/-! 20.g26: printed by gen/parts.py -/
set_option maxRecDepth 100000
theorem fl_X11_177 : FLr RX11 177 11 21 := ⟨RX11, TX11, 60, "WarpMillModel", "", rfl, by decide, in_X11, Or.inl q1578, Or.inl rfl⟩
theorem dX11_settle_0 : decode cX11_settle 0 = .ok (.iconst 1, 1) := by decide +kernel
theorem dX11_settle_1 : decode cX11_settle 1 = .ok (.istore_n 2, 1) := by decide +kernel
theorem dX11_settle_2 : decode cX11_settle 2 = .ok (.iconst 1, 1) := by decide +kernel
theorem dX11_settle_3 : decode cX11_settle 3 = .ok (.istore_n 3, 1) := by decide +kernel
theorem dX11_settle_4 : decode cX11_settle 4 = .ok (.iconst 0, 1) := by decide +kernel
theorem dX11_settle_5 : decode cX11_settle 5 = .ok (.istore 4, 2) := by decide +kernel
theorem dX11_settle_7 : decode cX11_settle 7 = .ok (.iload 4, 2) := by decide +kernel
theorem dX11_settle_9 : decode cX11_settle 9 = .ok (.sipush 128, 3) := by decide +kernel
theorem dX11_settle_12 : decode cX11_settle 12 = .ok (.if_icmp .ge 119, 3) := by decide +kernel
theorem dX11_settle_15 : decode cX11_settle 15 = .ok (.iconst 0, 1) := by decide +kernel
theorem dX11_settle_16 : decode cX11_settle 16 = .ok (.istore 5, 2) := by decide +kernel
theorem dX11_settle_18 : decode cX11_settle 18 = .ok (.aload_n 0, 1) := by decide +kernel
theorem dX11_settle_19 : decode cX11_settle 19 = .ok (.getfield 54, 3) := by decide +kernel
theorem dX11_settle_22 : decode cX11_settle 22 = .ok (.iload 4, 2) := by decide +kernel
theorem dX11_settle_24 : decode cX11_settle 24 = .ok (.iaload, 1) := by decide +kernel
theorem dX11_settle_25 : decode cX11_settle 25 = .ok (.iload_n 1, 1) := by decide +kernel
theorem dX11_settle_26 : decode cX11_settle 26 = .ok (.if_icmp .ne 99, 3) := by decide +kernel
theorem dX11_settle_29 : decode cX11_settle 29 = .ok (.iload 5, 2) := by decide +kernel
theorem dX11_settle_31 : decode cX11_settle 31 = .ok (.aload_n 0, 1) := by decide +kernel
theorem dX11_settle_32 : decode cX11_settle 32 = .ok (.getfield 7, 3) := by decide +kernel
theorem dX11_settle_35 : decode cX11_settle 35 = .ok (.if_icmp .ge 90, 3) := by decide +kernel
theorem dX11_settle_38 : decode cX11_settle 38 = .ok (.iload 4, 2) := by decide +kernel
theorem dX11_settle_40 : decode cX11_settle 40 = .ok (.iload 5, 2) := by decide +kernel
theorem dX11_settle_42 : decode cX11_settle 42 = .ok (.invokestatic 211, 3) := by decide +kernel
theorem dX11_settle_45 : decode cX11_settle 45 = .ok (.istore 6, 2) := by decide +kernel
theorem dX11_settle_47 : decode cX11_settle 47 = .ok (.iload_n 2, 1) := by decide +kernel
theorem dX11_settle_48 : decode cX11_settle 48 = .ok (.ifCond .eq 38, 3) := by decide +kernel
theorem dX11_settle_51 : decode cX11_settle 51 = .ok (.aload_n 0, 1) := by decide +kernel
theorem dX11_settle_52 : decode cX11_settle 52 = .ok (.getfield 76, 3) := by decide +kernel
theorem dX11_settle_55 : decode cX11_settle 55 = .ok (.iload 6, 2) := by decide +kernel
theorem dX11_settle_57 : decode cX11_settle 57 = .ok (.baload, 1) := by decide +kernel
theorem dX11_settle_58 : decode cX11_settle 58 = .ok (.ifCond .ne 24, 3) := by decide +kernel
theorem dX11_settle_61 : decode cX11_settle 61 = .ok (.aload_n 0, 1) := by decide +kernel
theorem dX11_settle_62 : decode cX11_settle 62 = .ok (.getfield 80, 3) := by decide +kernel
theorem dX11_settle_65 : decode cX11_settle 65 = .ok (.iload 6, 2) := by decide +kernel
theorem dX11_settle_67 : decode cX11_settle 67 = .ok (.baload, 1) := by decide +kernel
theorem dX11_settle_68 : decode cX11_settle 68 = .ok (.ifCond .ne 14, 3) := by decide +kernel
theorem dX11_settle_71 : decode cX11_settle 71 = .ok (.aload_n 0, 1) := by decide +kernel
theorem dX11_settle_72 : decode cX11_settle 72 = .ok (.iload 4, 2) := by decide +kernel
theorem dX11_settle_74 : decode cX11_settle 74 = .ok (.iload 5, 2) := by decide +kernel
theorem dX11_settle_76 : decode cX11_settle 76 = .ok (.invokevirtual 208, 3) := by decide +kernel
theorem dX11_settle_79 : decode cX11_settle 79 = .ok (.ifCond .ne 7, 3) := by decide +kernel
theorem dX11_settle_82 : decode cX11_settle 82 = .ok (.iconst 1, 1) := by decide +kernel
theorem dX11_settle_83 : decode cX11_settle 83 = .ok (.goto 4, 3) := by decide +kernel
theorem dX11_settle_86 : decode cX11_settle 86 = .ok (.iconst 0, 1) := by decide +kernel
theorem dX11_settle_87 : decode cX11_settle 87 = .ok (.istore_n 2, 1) := by decide +kernel
theorem dX11_settle_88 : decode cX11_settle 88 = .ok (.iload_n 3, 1) := by decide +kernel
theorem dX11_settle_89 : decode cX11_settle 89 = .ok (.ifCond .eq 28, 3) := by decide +kernel
theorem dX11_settle_92 : decode cX11_settle 92 = .ok (.aload_n 0, 1) := by decide +kernel
theorem dX11_settle_93 : decode cX11_settle 93 = .ok (.getfield 76, 3) := by decide +kernel
theorem dX11_settle_96 : decode cX11_settle 96 = .ok (.iload 6, 2) := by decide +kernel
theorem dX11_settle_98 : decode cX11_settle 98 = .ok (.baload, 1) := by decide +kernel
theorem dX11_settle_99 : decode cX11_settle 99 = .ok (.ifCond .ne 14, 3) := by decide +kernel
theorem dX11_settle_102 : decode cX11_settle 102 = .ok (.aload_n 0, 1) := by decide +kernel
theorem dX11_settle_103 : decode cX11_settle 103 = .ok (.iload 4, 2) := by decide +kernel
theorem dX11_settle_105 : decode cX11_settle 105 = .ok (.iload 5, 2) := by decide +kernel
theorem dX11_settle_107 : decode cX11_settle 107 = .ok (.invokevirtual 208, 3) := by decide +kernel
theorem dX11_settle_110 : decode cX11_settle 110 = .ok (.ifCond .ne 7, 3) := by decide +kernel
theorem dX11_settle_113 : decode cX11_settle 113 = .ok (.iconst 1, 1) := by decide +kernel
theorem dX11_settle_114 : decode cX11_settle 114 = .ok (.goto 4, 3) := by decide +kernel
theorem dX11_settle_117 : decode cX11_settle 117 = .ok (.iconst 0, 1) := by decide +kernel
theorem dX11_settle_118 : decode cX11_settle 118 = .ok (.istore_n 3, 1) := by decide +kernel
theorem dX11_settle_119 : decode cX11_settle 119 = .ok (.iinc 5 1, 3) := by decide +kernel
theorem dX11_settle_122 : decode cX11_settle 122 = .ok (.goto (-104), 3) := by decide +kernel
theorem dX11_settle_125 : decode cX11_settle 125 = .ok (.iinc 4 1, 3) := by decide +kernel
theorem dX11_settle_128 : decode cX11_settle 128 = .ok (.goto (-121), 3) := by decide +kernel
theorem dX11_settle_131 : decode cX11_settle 131 = .ok (.iconst 0, 1) := by decide +kernel
theorem dX11_settle_132 : decode cX11_settle 132 = .ok (.istore 4, 2) := by decide +kernel
theorem dX11_settle_134 : decode cX11_settle 134 = .ok (.iload 4, 2) := by decide +kernel
theorem dX11_settle_136 : decode cX11_settle 136 = .ok (.sipush 128, 3) := by decide +kernel
theorem dX11_settle_139 : decode cX11_settle 139 = .ok (.if_icmp .ge 78, 3) := by decide +kernel
theorem dX11_settle_142 : decode cX11_settle 142 = .ok (.iconst 0, 1) := by decide +kernel
theorem dX11_settle_143 : decode cX11_settle 143 = .ok (.istore 5, 2) := by decide +kernel
theorem dX11_settle_145 : decode cX11_settle 145 = .ok (.iload_n 2, 1) := by decide +kernel
theorem dX11_settle_146 : decode cX11_settle 146 = .ok (.ifCond .eq 42, 3) := by decide +kernel
theorem dX11_settle_149 : decode cX11_settle 149 = .ok (.aload_n 0, 1) := by decide +kernel
theorem dX11_settle_150 : decode cX11_settle 150 = .ok (.getfield 54, 3) := by decide +kernel
theorem dX11_settle_153 : decode cX11_settle 153 = .ok (.iload 4, 2) := by decide +kernel
theorem dX11_settle_155 : decode cX11_settle 155 = .ok (.iaload, 1) := by decide +kernel
theorem dX11_settle_156 : decode cX11_settle 156 = .ok (.iload_n 1, 1) := by decide +kernel
theorem dX11_settle_157 : decode cX11_settle 157 = .ok (.if_icmp .ne 31, 3) := by decide +kernel
theorem dX11_settle_160 : decode cX11_settle 160 = .ok (.iload 5, 2) := by decide +kernel
theorem dX11_settle_162 : decode cX11_settle 162 = .ok (.aload_n 0, 1) := by decide +kernel
theorem dX11_settle_163 : decode cX11_settle 163 = .ok (.getfield 7, 3) := by decide +kernel
theorem dX11_settle_166 : decode cX11_settle 166 = .ok (.if_icmp .ge 22, 3) := by decide +kernel
theorem dX11_settle_169 : decode cX11_settle 169 = .ok (.aload_n 0, 1) := by decide +kernel
theorem dX11_settle_170 : decode cX11_settle 170 = .ok (.getfield 80, 3) := by decide +kernel
theorem dX11_settle_173 : decode cX11_settle 173 = .ok (.iload 4, 2) := by decide +kernel
theorem dX11_settle_175 : decode cX11_settle 175 = .ok (.iload 5, 2) := by decide +kernel
theorem dX11_settle_177 : decode cX11_settle 177 = .ok (.invokestatic 211, 3) := by decide +kernel
theorem dX11_settle_180 : decode cX11_settle 180 = .ok (.iconst 0, 1) := by decide +kernel
theorem dX11_settle_181 : decode cX11_settle 181 = .ok (.bastore, 1) := by decide +kernel
theorem dX11_settle_182 : decode cX11_settle 182 = .ok (.iinc 5 1, 3) := by decide +kernel
theorem dX11_settle_185 : decode cX11_settle 185 = .ok (.goto (-40), 3) := by decide +kernel
theorem dX11_settle_188 : decode cX11_settle 188 = .ok (.iload_n 3, 1) := by decide +kernel
theorem dX11_settle_189 : decode cX11_settle 189 = .ok (.ifCond .eq 22, 3) := by decide +kernel
theorem dX11_settle_192 : decode cX11_settle 192 = .ok (.aload_n 0, 1) := by decide +kernel
theorem dX11_settle_193 : decode cX11_settle 193 = .ok (.getfield 54, 3) := by decide +kernel
theorem dX11_settle_196 : decode cX11_settle 196 = .ok (.iload 4, 2) := by decide +kernel
theorem dX11_settle_198 : decode cX11_settle 198 = .ok (.iaload, 1) := by decide +kernel
theorem dX11_settle_199 : decode cX11_settle 199 = .ok (.iload_n 1, 1) := by decide +kernel
theorem dX11_settle_200 : decode cX11_settle 200 = .ok (.if_icmp .ne 11, 3) := by decide +kernel
theorem dX11_settle_203 : decode cX11_settle 203 = .ok (.aload_n 0, 1) := by decide +kernel
theorem dX11_settle_204 : decode cX11_settle 204 = .ok (.getfield 54, 3) := by decide +kernel
theorem dX11_settle_207 : decode cX11_settle 207 = .ok (.iload 4, 2) := by decide +kernel
theorem dX11_settle_209 : decode cX11_settle 209 = .ok (.iconst (-1), 1) := by decide +kernel
theorem dX11_settle_210 : decode cX11_settle 210 = .ok (.iastore, 1) := by decide +kernel
theorem dX11_settle_211 : decode cX11_settle 211 = .ok (.iinc 4 1, 3) := by decide +kernel
theorem dX11_settle_214 : decode cX11_settle 214 = .ok (.goto (-80), 3) := by decide +kernel
theorem dX11_settle_217 : decode cX11_settle 217 = .ok (.aload_n 0, 1) := by decide +kernel
theorem dX11_settle_218 : decode cX11_settle 218 = .ok (.dup, 1) := by decide +kernel
theorem dX11_settle_219 : decode cX11_settle 219 = .ok (.getfield 177, 3) := by decide +kernel
theorem dX11_settle_222 : decode cX11_settle 222 = .ok (.iload_n 3, 1) := by decide +kernel
theorem dX11_settle_223 : decode cX11_settle 223 = .ok (.ifCond .eq 7, 3) := by decide +kernel
theorem dX11_settle_226 : decode cX11_settle 226 = .ok (.iconst 1, 1) := by decide +kernel
theorem dX11_settle_227 : decode cX11_settle 227 = .ok (.goto 4, 3) := by decide +kernel
theorem dX11_settle_230 : decode cX11_settle 230 = .ok (.iconst 0, 1) := by decide +kernel
theorem dX11_settle_231 : decode cX11_settle 231 = .ok (.iadd, 1) := by decide +kernel
theorem dX11_settle_232 : decode cX11_settle 232 = .ok (.putfield 177, 3) := by decide +kernel
theorem dX11_settle_235 : decode cX11_settle 235 = .ok (.return_, 1) := by decide +kernel
def fX11_settle (n : Nat) (a0 : Nat) (p1 : Int32) (A : AH) : Option (AH) :=
jl (fixG (fun _ _ _ => none) (fun (rc5 : (Int32) → (Int32) → (Int32) → Option (AH)) (x2 : Int32) (x3 : Int32) (x4 : Int32) =>
if (128 : Int32) ≤ x4 then (jl (fixG (fun _ _ => none) (fun (rc10 : (Int32) → (AH) → Option (AH)) (x8 : Int32) (A9 : AH) =>
if (128 : Int32) ≤ x8 then ((gI A9 (some a0) 11 21).bind fun v12 =>
jn (fun (y14 : Int32) =>
(pI A9 (some a0) 11 21 (v12 + y14)).bind fun A15 =>
some A15) fun j13 =>
if x3 = 0 then (j13 (0 : Int32)) else
j13 (1 : Int32)) else
jl (fixG (fun _ _ => none) (fun (rc20 : (Int32) → (AH) → Option (AH)) (x18 : Int32) (A19 : AH) =>
jn (jn (fun (A23 : AH) =>
rc10 (x8 + (1 : Int32)) A23) fun j22 =>
if x3 = 0 then (j22 A19) else
(gR A19 (some a0) 11 31).bind fun v25 =>
(aI A19 v25 x8).bind fun v26 =>
if v26 = p1 then ((sI A19 v25 x8 (-1 : Int32)).bind fun A28 =>
j22 A28) else
j22 A19) fun j21 =>
if x2 = 0 then (j21) else
(gR A19 (some a0) 11 31).bind fun v30 =>
(aI A19 v30 x8).bind fun v31 =>
(gI A19 (some a0) 11 1).bind fun v32 =>
if ((v31 = p1) ∧ (¬ (v32 ≤ x18))) then ((gR A19 (some a0) 11 39).bind fun v33 =>
(fX11_thread x8 x18 A19).bind fun g34 =>
(sZ A19 v33 g34 (0 : Int32)).bind fun A35 =>
rc20 (x18 + (1 : Int32)) A35) else
j21) n) fun j17 =>
j17 (0 : Int32) A9) n) fun j7 =>
j7 (0 : Int32) A) else
jl (fixG (fun _ _ _ => none) (fun (rc42 : (Int32) → (Int32) → (Int32) → Option (AH)) (x39 : Int32) (x40 : Int32) (x41 : Int32) =>
(gR A (some a0) 11 31).bind fun v43 =>
(aI A v43 x4).bind fun v44 =>
(gI A (some a0) 11 1).bind fun v45 =>
if ((v44 = p1) ∧ (¬ (v45 ≤ x41))) then ((fX11_thread x4 x41 A).bind fun g46 =>
jn (fun (y48 : Int32) =>
jn (fun (y50 : Int32) =>
rc42 y48 y50 (x41 + (1 : Int32))) fun j49 =>
jn (j49 (0 : Int32)) fun j51 =>
if x40 = 0 then (j51) else
(gR A (some a0) 11 38).bind fun v53 =>
(aZ A v53 g46).bind fun v54 =>
jn (j49 (1 : Int32)) fun j55 =>
if v54 = 0 then ((rcv A (some a0) 11).bind fun v57 =>
(fX11_isLane v57 x4 x41 A).bind fun g58 =>
if g58 = 0 then (j55) else
j51) else
j55) fun j47 =>
jn (j47 (0 : Int32)) fun j60 =>
if x39 = 0 then (j60) else
(gR A (some a0) 11 38).bind fun v62 =>
(aZ A v62 g46).bind fun v63 =>
jn (j47 (1 : Int32)) fun j64 =>
if v63 = 0 then ((gR A (some a0) 11 39).bind fun v66 =>
(aZ A v66 g46).bind fun v67 =>
if v67 = 0 then ((rcv A (some a0) 11).bind fun v69 =>
(fX11_isLane v69 x4 x41 A).bind fun g70 =>
if g70 = 0 then (j64) else
j60) else
j64) else
j64) else
rc5 x39 x40 (x4 + (1 : Int32))) n) fun j38 =>
j38 x2 x3 (0 : Int32)) n) fun j1 =>
j1 (1 : Int32) (1 : Int32) (0 : Int32)

set_option maxHeartbeats 4000000 in
set_option maxRecDepth 100000 in
theorem sX11_settle (l : Launch) (D : DE) (n : Nat) (a0 : Nat) (p1 : Int32) (A : AH) (g : AH) (hg : fX11_settle n a0 p1 A = some g) : Sm l D yX11_settle cX11_settle 7 none 1 22 [tR (some a0), tI p1] A (wU g).1 (wU g).2 := by
  refine Sm.of (ω := wU) (fX11_settle n a0 p1 A) [some (tR (some a0)), some (tI p1), none, none, none, none, none] (by decide) (Nat.le_of_ble_eq_true rfl) rfl hg ?_
  intro p e R s m args below meth c X hin
  have X : Cx D cX11_settle RX11 7 1 22 none p R s m args meth c := X
  unfold fX11_settle
  refine rf_iconst X (1 : Int32) rfl dX11_settle_0 ?_
  refine rf_istore_n X (ls' := [some (tR (some a0)), some (tI p1), some (tI (1 : Int32)), none, none, none, none]) rfl (by decide) dX11_settle_1 ?_
  refine rf_iconst X (1 : Int32) rfl dX11_settle_2 ?_
  refine rf_istore_n X (ls' := [some (tR (some a0)), some (tI p1), some (tI (1 : Int32)), some (tI (1 : Int32)), none, none, none]) rfl (by decide) dX11_settle_3 ?_
  refine rf_iconst X (0 : Int32) rfl dX11_settle_4 ?_
  refine rf_istore X (ls' := [some (tR (some a0)), some (tI p1), some (tI (1 : Int32)), some (tI (1 : Int32)), some (tI (0 : Int32)), none, none]) rfl (by decide) dX11_settle_5 ?_
  refine rf_fix (fun i => ∀ (x2 : Int32) (x3 : Int32) (x4 : Int32), RfX X l e below wU (i x2 x3 x4) 7 [some (tR (some a0)), some (tI p1), some (tI x2), some (tI x3), some (tI x4), none, none] [] A) (fun _ _ _ => rf_none) (fun rc5 hrc5 => ?_) (fun j1 hj1 => ?_)
  · intro x2 x3 x4
    refine rf_iload X rfl dX11_settle_7 ?_
    refine rf_sipush X (128 : Int32) rfl dX11_settle_9 ?_
    refine rf_icmp_ge X (tgt := 131) rfl dX11_settle_12 (fun c6 => rf_pos c6 ?_) (fun c6 => rf_neg c6 ?_)
    · refine rf_iconst X (0 : Int32) rfl dX11_settle_131 ?_
      refine rf_istore X (ls' := [some (tR (some a0)), some (tI p1), some (tI x2), some (tI x3), some (tI (0 : Int32)), none, none]) rfl (by decide) dX11_settle_132 ?_
      refine rf_fix (fun i => ∀ (x8 : Int32) (A9 : AH), RfX X l e below wU (i x8 A9) 134 [some (tR (some a0)), some (tI p1), some (tI x2), some (tI x3), some (tI x8), none, none] [] A9) (fun _ _ => rf_none) (fun rc10 hrc10 => ?_) (fun j7 hj7 => ?_)
      · intro x8 A9
        refine rf_iload X rfl dX11_settle_134 ?_
        refine rf_sipush X (128 : Int32) rfl dX11_settle_136 ?_
        refine rf_icmp_ge X (tgt := 217) rfl dX11_settle_139 (fun c11 => rf_pos c11 ?_) (fun c11 => rf_neg c11 ?_)
        · refine rf_aload_n X rfl dX11_settle_217 ?_
          refine rf_dup X rfl dX11_settle_218 ?_
          refine rf_bind (fun v12 hv12 => ?_)
          refine rf_getI X fl_X11_177 hv12 dX11_settle_219 ?_
          refine rf_iload_n X rfl dX11_settle_222 ?_
          refine rf_jn2 (fun i => ∀ (y14 : Int32), RfX X l e below wU (i y14) 231 [none, none, none, none, none, none, none] [tI y14, tI v12, tR (some a0)] A9) ?_ (fun j13 hj13 => ?_)
          · intro y14
            refine rf_iadd X dX11_settle_231 ?_
            refine rf_bind (fun A15 hA15 => ?_)
            refine rf_putI X fp_X11_177 (fun h => by cases h) hA15 dX11_settle_232 ?_
            exact rf_vret X rfl dX11_settle_235
          refine rf_if_eq X (tgt := 230) rfl dX11_settle_223 (fun c16 => rf_pos c16 ?_) (fun c16 => rf_neg c16 ?_)
          · refine rf_iconst X (0 : Int32) rfl dX11_settle_230 ?_
            exact rf_go (hj13 (0 : Int32)) True.intro
          refine rf_iconst X (1 : Int32) rfl dX11_settle_226 ?_
          refine rf_goto X (tgt := 231) rfl dX11_settle_227 ?_
          exact rf_go (hj13 (1 : Int32)) True.intro
        refine rf_iconst X (0 : Int32) rfl dX11_settle_142 ?_
        refine rf_istore X (ls' := [some (tR (some a0)), some (tI p1), some (tI x2), some (tI x3), some (tI x8), some (tI (0 : Int32)), none]) rfl (by decide) dX11_settle_143 ?_
        refine rf_fix (fun i => ∀ (x18 : Int32) (A19 : AH), RfX X l e below wU (i x18 A19) 145 [some (tR (some a0)), some (tI p1), some (tI x2), some (tI x3), some (tI x8), some (tI x18), none] [] A19) (fun _ _ => rf_none) (fun rc20 hrc20 => ?_) (fun j17 hj17 => ?_)
        · intro x18 A19
          refine rf_iload_n X rfl dX11_settle_145 ?_
          refine rf_jn2 (fun i => RfX X l e below wU i 188 [some (tR (some a0)), some (tI p1), some (tI x2), some (tI x3), some (tI x8), none, none] [] A19) ?_ (fun j21 hj21 => ?_)
          · show RfX X l e below _ _ _ _ _ _
            refine rf_iload_n X rfl dX11_settle_188 ?_
            refine rf_jn2 (fun i => ∀ (A23 : AH), RfX X l e below wU (i A23) 211 [some (tR (some a0)), some (tI p1), some (tI x2), some (tI x3), some (tI x8), none, none] [] A23) ?_ (fun j22 hj22 => ?_)
            · intro A23
              refine rf_iinc X (x8 + (1 : Int32)) rfl rfl (ls' := [some (tR (some a0)), some (tI p1), some (tI x2), some (tI x3), some (tI (x8 + (1 : Int32))), none, none]) rfl (by decide) dX11_settle_211 ?_
              refine rf_goto X (tgt := 134) rfl dX11_settle_214 ?_
              exact rf_go (hrc10 (x8 + (1 : Int32)) A23) (And.intro rfl (And.intro rfl (And.intro rfl (And.intro rfl (And.intro rfl True.intro)))))
            refine rf_if_eq X (tgt := 211) rfl dX11_settle_189 (fun c24 => rf_pos c24 ?_) (fun c24 => rf_neg c24 ?_)
            · exact rf_go (hj22 A19) (And.intro rfl (And.intro rfl (And.intro rfl (And.intro rfl (And.intro rfl True.intro)))))
            refine rf_aload_n X rfl dX11_settle_192 ?_
            refine rf_bind (fun v25 hv25 => ?_)
            refine rf_getR X fl_X11_54 hv25 dX11_settle_193 ?_
            refine rf_iload X rfl dX11_settle_196 ?_
            refine rf_bind (fun v26 hv26 => ?_)
            refine rf_iald X hv26 dX11_settle_198 ?_
            refine rf_iload_n X rfl dX11_settle_199 ?_
            refine rf_icmp_ne X (tgt := 211) rfl dX11_settle_200 (fun c27 => rf_neg c27 ?_) (fun c27 => rf_pos c27 ?_)
            · exact rf_go (hj22 A19) (And.intro rfl (And.intro rfl (And.intro rfl (And.intro rfl (And.intro rfl True.intro)))))
            refine rf_aload_n X rfl dX11_settle_203 ?_
            refine rf_getR X fl_X11_54 hv25 dX11_settle_204 ?_
            refine rf_iload X rfl dX11_settle_207 ?_
            refine rf_iconst X (-1 : Int32) rfl dX11_settle_209 ?_
            refine rf_bind (fun A28 hA28 => ?_)
            refine rf_iast X hA28 dX11_settle_210 ?_
            exact rf_go (hj22 A28) (And.intro rfl (And.intro rfl (And.intro rfl (And.intro rfl (And.intro rfl True.intro)))))
          refine rf_if_eq X (tgt := 188) rfl dX11_settle_146 (fun c29 => rf_pos c29 ?_) (fun c29 => rf_neg c29 ?_)
          · exact rf_go hj21 (And.intro rfl (And.intro rfl (And.intro rfl (And.intro rfl (And.intro rfl True.intro)))))
          refine rf_aload_n X rfl dX11_settle_149 ?_
          refine rf_bind (fun v30 hv30 => ?_)
          refine rf_getR X fl_X11_54 hv30 dX11_settle_150 ?_
          refine rf_iload X rfl dX11_settle_153 ?_
          refine rf_bind (fun v31 hv31 => ?_)
          refine rf_iald X hv31 dX11_settle_155 ?_
          refine rf_iload_n X rfl dX11_settle_156 ?_
          refine rf_bind (fun v32 hv32 => ?_)
          refine rf_br 169 188 [some (tR (some a0)), some (tI p1), some (tI x2), some (tI x3), some (tI x8), some (tI x18), none] [some (tR (some a0)), some (tI p1), some (tI x2), some (tI x3), some (tI x8), some (tI x18), none] [] [] (fun _ => ?_) (fun _ => ?_) (fun _ jT jF => ?_)
          · refine rf_aload_n X rfl dX11_settle_169 ?_
            refine rf_bind (fun v33 hv33 => ?_)
            refine rf_getR X fl_X11_80 hv33 dX11_settle_170 ?_
            refine rf_iload X rfl dX11_settle_173 ?_
            refine rf_iload X rfl dX11_settle_175 ?_
            refine rf_bind (fun g34 hg34 => ?_)
            refine rf_callSI X c_X11_211 ⟨Nat.le_of_ble_eq_true rfl, Nat.le_of_ble_eq_true rfl⟩ [tI x8, tI x18] rfl (Nat.le_of_ble_eq_true rfl) (sX11_thread l D x8 x18 A19 g34 hg34) dX11_settle_177 ?_
            refine rf_iconst X (0 : Int32) rfl dX11_settle_180 ?_
            refine rf_bind (fun A35 hA35 => ?_)
            refine rf_zast X hA35 dX11_settle_181 ?_
            refine rf_iinc X (x18 + (1 : Int32)) rfl rfl (ls' := [some (tR (some a0)), some (tI p1), some (tI x2), some (tI x3), some (tI x8), some (tI (x18 + (1 : Int32))), none]) rfl (by decide) dX11_settle_182 ?_
            refine rf_goto X (tgt := 145) rfl dX11_settle_185 ?_
            exact rf_go (hrc20 (x18 + (1 : Int32)) A35) (And.intro rfl (And.intro rfl (And.intro rfl (And.intro rfl (And.intro rfl (And.intro rfl True.intro))))))
          · exact rf_go hj21 (And.intro rfl (And.intro rfl (And.intro rfl (And.intro rfl (And.intro rfl True.intro)))))
          refine rf_icmp_ne X (tgt := 188) rfl dX11_settle_157 (fun c36 => ?_) (fun c36 => ?_)
          · exact jF (fun z => c36 z.1)
          refine rf_iload X rfl dX11_settle_160 ?_
          refine rf_aload_n X rfl dX11_settle_162 ?_
          refine rf_getI X fl_X11_7 hv32 dX11_settle_163 ?_
          refine rf_icmp_ge X (tgt := 188) rfl dX11_settle_166 (fun c37 => ?_) (fun c37 => ?_)
          · exact jF (fun z => (fun z => z c37) z.2)
          exact jT ⟨c36, c37⟩
        exact rf_go (hj17 (0 : Int32) A9) (And.intro rfl (And.intro rfl (And.intro rfl (And.intro rfl (And.intro rfl (And.intro rfl True.intro))))))
      exact rf_go (hj7 (0 : Int32) A) (And.intro rfl (And.intro rfl (And.intro rfl (And.intro rfl (And.intro rfl True.intro)))))
    refine rf_iconst X (0 : Int32) rfl dX11_settle_15 ?_
    refine rf_istore X (ls' := [some (tR (some a0)), some (tI p1), some (tI x2), some (tI x3), some (tI x4), some (tI (0 : Int32)), none]) rfl (by decide) dX11_settle_16 ?_
    refine rf_fix (fun i => ∀ (x39 : Int32) (x40 : Int32) (x41 : Int32), RfX X l e below wU (i x39 x40 x41) 18 [some (tR (some a0)), some (tI p1), some (tI x39), some (tI x40), some (tI x4), some (tI x41), none] [] A) (fun _ _ _ => rf_none) (fun rc42 hrc42 => ?_) (fun j38 hj38 => ?_)
    · intro x39 x40 x41
      refine rf_aload_n X rfl dX11_settle_18 ?_
      refine rf_bind (fun v43 hv43 => ?_)
      refine rf_getR X fl_X11_54 hv43 dX11_settle_19 ?_
      refine rf_iload X rfl dX11_settle_22 ?_
      refine rf_bind (fun v44 hv44 => ?_)
      refine rf_iald X hv44 dX11_settle_24 ?_
      refine rf_iload_n X rfl dX11_settle_25 ?_
      refine rf_bind (fun v45 hv45 => ?_)
      refine rf_br 38 125 [some (tR (some a0)), some (tI p1), some (tI x39), some (tI x40), some (tI x4), some (tI x41), none] [some (tR (some a0)), some (tI p1), some (tI x39), some (tI x40), some (tI x4), some (tI x41), none] [] [] (fun _ => ?_) (fun _ => ?_) (fun _ jT jF => ?_)
      · refine rf_iload X rfl dX11_settle_38 ?_
        refine rf_iload X rfl dX11_settle_40 ?_
        refine rf_bind (fun g46 hg46 => ?_)
        refine rf_callSI X c_X11_211 ⟨Nat.le_of_ble_eq_true rfl, Nat.le_of_ble_eq_true rfl⟩ [tI x4, tI x41] rfl (Nat.le_of_ble_eq_true rfl) (sX11_thread l D x4 x41 A g46 hg46) dX11_settle_42 ?_
        refine rf_istore X (ls' := [some (tR (some a0)), some (tI p1), some (tI x39), some (tI x40), some (tI x4), some (tI x41), some (tI g46)]) rfl (by decide) dX11_settle_45 ?_
        refine rf_iload_n X rfl dX11_settle_47 ?_
        refine rf_jn2 (fun i => ∀ (y48 : Int32), RfX X l e below wU (i y48) 87 [some (tR (some a0)), some (tI p1), none, some (tI x40), some (tI x4), some (tI x41), some (tI g46)] [tI y48] A) ?_ (fun j47 hj47 => ?_)
        · intro y48
          refine rf_istore_n X (ls' := [some (tR (some a0)), some (tI p1), some (tI y48), some (tI x40), some (tI x4), some (tI x41), some (tI g46)]) rfl (by decide) dX11_settle_87 ?_
          refine rf_iload_n X rfl dX11_settle_88 ?_
          refine rf_jn2 (fun i => ∀ (y50 : Int32), RfX X l e below wU (i y50) 118 [some (tR (some a0)), some (tI p1), some (tI y48), none, some (tI x4), some (tI x41), none] [tI y50] A) ?_ (fun j49 hj49 => ?_)
          · intro y50
            refine rf_istore_n X (ls' := [some (tR (some a0)), some (tI p1), some (tI y48), some (tI y50), some (tI x4), some (tI x41), none]) rfl (by decide) dX11_settle_118 ?_
            refine rf_iinc X (x41 + (1 : Int32)) rfl rfl (ls' := [some (tR (some a0)), some (tI p1), some (tI y48), some (tI y50), some (tI x4), some (tI (x41 + (1 : Int32))), none]) rfl (by decide) dX11_settle_119 ?_
            refine rf_goto X (tgt := 18) rfl dX11_settle_122 ?_
            exact rf_go (hrc42 y48 y50 (x41 + (1 : Int32))) (And.intro rfl (And.intro rfl (And.intro rfl (And.intro rfl (And.intro rfl (And.intro rfl True.intro))))))
          refine rf_jn2 (fun i => RfX X l e below wU i 117 [some (tR (some a0)), some (tI p1), some (tI y48), none, some (tI x4), some (tI x41), none] [] A) ?_ (fun j51 hj51 => ?_)
          · show RfX X l e below _ _ _ _ _ _
            refine rf_iconst X (0 : Int32) rfl dX11_settle_117 ?_
            exact rf_go (hj49 (0 : Int32)) (And.intro rfl (And.intro rfl (And.intro rfl (And.intro rfl (And.intro rfl True.intro)))))
          refine rf_if_eq X (tgt := 117) rfl dX11_settle_89 (fun c52 => rf_pos c52 ?_) (fun c52 => rf_neg c52 ?_)
          · exact rf_go hj51 (And.intro rfl (And.intro rfl (And.intro rfl (And.intro rfl (And.intro rfl True.intro)))))
          refine rf_aload_n X rfl dX11_settle_92 ?_
          refine rf_bind (fun v53 hv53 => ?_)
          refine rf_getR X fl_X11_76 hv53 dX11_settle_93 ?_
          refine rf_iload X rfl dX11_settle_96 ?_
          refine rf_bind (fun v54 hv54 => ?_)
          refine rf_zald X hv54 dX11_settle_98 ?_
          refine rf_jn2 (fun i => RfX X l e below wU i 113 [some (tR (some a0)), some (tI p1), some (tI y48), none, some (tI x4), some (tI x41), none] [] A) ?_ (fun j55 hj55 => ?_)
          · show RfX X l e below _ _ _ _ _ _
            refine rf_iconst X (1 : Int32) rfl dX11_settle_113 ?_
            refine rf_goto X (tgt := 118) rfl dX11_settle_114 ?_
            exact rf_go (hj49 (1 : Int32)) (And.intro rfl (And.intro rfl (And.intro rfl (And.intro rfl (And.intro rfl True.intro)))))
          refine rf_if_ne X (tgt := 113) rfl dX11_settle_99 (fun c56 => rf_neg c56 ?_) (fun c56 => rf_pos c56 ?_)
          · exact rf_go hj55 (And.intro rfl (And.intro rfl (And.intro rfl (And.intro rfl (And.intro rfl True.intro)))))
          refine rf_aload_n X rfl dX11_settle_102 ?_
          refine rf_iload X rfl dX11_settle_103 ?_
          refine rf_iload X rfl dX11_settle_105 ?_
          refine rf_bind (fun v57 hv57 => ?_)
          refine rf_bind (fun g58 hg58 => ?_)
          refine rf_callVI X c_X11_208 ⟨Nat.le_of_ble_eq_true rfl, Nat.le_of_ble_eq_true rfl⟩ [tI x4, tI x41] rfl (Nat.le_of_ble_eq_true rfl) hv57 (sX11_isLane l D v57 x4 x41 A g58 hg58) dX11_settle_107 ?_
          refine rf_if_ne X (tgt := 117) rfl dX11_settle_110 (fun c59 => rf_neg c59 ?_) (fun c59 => rf_pos c59 ?_)
          · exact rf_go hj51 (And.intro rfl (And.intro rfl (And.intro rfl (And.intro rfl (And.intro rfl True.intro)))))
          exact rf_go hj55 (And.intro rfl (And.intro rfl (And.intro rfl (And.intro rfl (And.intro rfl True.intro)))))
        refine rf_jn2 (fun i => RfX X l e below wU i 86 [some (tR (some a0)), some (tI p1), none, some (tI x40), some (tI x4), some (tI x41), some (tI g46)] [] A) ?_ (fun j60 hj60 => ?_)
        · show RfX X l e below _ _ _ _ _ _
          refine rf_iconst X (0 : Int32) rfl dX11_settle_86 ?_
          exact rf_go (hj47 (0 : Int32)) (And.intro rfl (And.intro rfl (And.intro rfl (And.intro rfl (And.intro rfl (And.intro rfl True.intro))))))
        refine rf_if_eq X (tgt := 86) rfl dX11_settle_48 (fun c61 => rf_pos c61 ?_) (fun c61 => rf_neg c61 ?_)
        · exact rf_go hj60 (And.intro rfl (And.intro rfl (And.intro rfl (And.intro rfl (And.intro rfl (And.intro rfl True.intro))))))
        refine rf_aload_n X rfl dX11_settle_51 ?_
        refine rf_bind (fun v62 hv62 => ?_)
        refine rf_getR X fl_X11_76 hv62 dX11_settle_52 ?_
        refine rf_iload X rfl dX11_settle_55 ?_
        refine rf_bind (fun v63 hv63 => ?_)
        refine rf_zald X hv63 dX11_settle_57 ?_
        refine rf_jn2 (fun i => RfX X l e below wU i 82 [some (tR (some a0)), some (tI p1), none, some (tI x40), some (tI x4), some (tI x41), some (tI g46)] [] A) ?_ (fun j64 hj64 => ?_)
        · show RfX X l e below _ _ _ _ _ _
          refine rf_iconst X (1 : Int32) rfl dX11_settle_82 ?_
          refine rf_goto X (tgt := 87) rfl dX11_settle_83 ?_
          exact rf_go (hj47 (1 : Int32)) (And.intro rfl (And.intro rfl (And.intro rfl (And.intro rfl (And.intro rfl (And.intro rfl True.intro))))))
        refine rf_if_ne X (tgt := 82) rfl dX11_settle_58 (fun c65 => rf_neg c65 ?_) (fun c65 => rf_pos c65 ?_)
        · exact rf_go hj64 (And.intro rfl (And.intro rfl (And.intro rfl (And.intro rfl (And.intro rfl (And.intro rfl True.intro))))))
        refine rf_aload_n X rfl dX11_settle_61 ?_
        refine rf_bind (fun v66 hv66 => ?_)
        refine rf_getR X fl_X11_80 hv66 dX11_settle_62 ?_
        refine rf_iload X rfl dX11_settle_65 ?_
        refine rf_bind (fun v67 hv67 => ?_)
        refine rf_zald X hv67 dX11_settle_67 ?_
        refine rf_if_ne X (tgt := 82) rfl dX11_settle_68 (fun c68 => rf_neg c68 ?_) (fun c68 => rf_pos c68 ?_)
        · exact rf_go hj64 (And.intro rfl (And.intro rfl (And.intro rfl (And.intro rfl (And.intro rfl (And.intro rfl True.intro))))))
        refine rf_aload_n X rfl dX11_settle_71 ?_
        refine rf_iload X rfl dX11_settle_72 ?_
        refine rf_iload X rfl dX11_settle_74 ?_
        refine rf_bind (fun v69 hv69 => ?_)
        refine rf_bind (fun g70 hg70 => ?_)
        refine rf_callVI X c_X11_208 ⟨Nat.le_of_ble_eq_true rfl, Nat.le_of_ble_eq_true rfl⟩ [tI x4, tI x41] rfl (Nat.le_of_ble_eq_true rfl) hv69 (sX11_isLane l D v69 x4 x41 A g70 hg70) dX11_settle_76 ?_
        refine rf_if_ne X (tgt := 86) rfl dX11_settle_79 (fun c71 => rf_neg c71 ?_) (fun c71 => rf_pos c71 ?_)
        · exact rf_go hj60 (And.intro rfl (And.intro rfl (And.intro rfl (And.intro rfl (And.intro rfl (And.intro rfl True.intro))))))
        exact rf_go hj64 (And.intro rfl (And.intro rfl (And.intro rfl (And.intro rfl (And.intro rfl (And.intro rfl True.intro))))))
      · refine rf_iinc X (x4 + (1 : Int32)) rfl rfl (ls' := [some (tR (some a0)), some (tI p1), some (tI x39), some (tI x40), some (tI (x4 + (1 : Int32))), some (tI x41), none]) rfl (by decide) dX11_settle_125 ?_
        refine rf_goto X (tgt := 7) rfl dX11_settle_128 ?_
        exact rf_go (hrc5 x39 x40 (x4 + (1 : Int32))) (And.intro rfl (And.intro rfl (And.intro rfl (And.intro rfl (And.intro rfl True.intro)))))
      refine rf_icmp_ne X (tgt := 125) rfl dX11_settle_26 (fun c72 => ?_) (fun c72 => ?_)
      · exact jF (fun z => c72 z.1)
      refine rf_iload X rfl dX11_settle_29 ?_
      refine rf_aload_n X rfl dX11_settle_31 ?_
      refine rf_getI X fl_X11_7 hv45 dX11_settle_32 ?_
      refine rf_icmp_ge X (tgt := 125) rfl dX11_settle_35 (fun c73 => ?_) (fun c73 => ?_)
      · exact jF (fun z => (fun z => z c73) z.2)
      exact jT ⟨c72, c73⟩
    exact rf_go (hj38 x2 x3 (0 : Int32)) (And.intro rfl (And.intro rfl (And.intro rfl (And.intro rfl (And.intro rfl (And.intro rfl True.intro))))))
  exact rf_go (hj1 (1 : Int32) (1 : Int32) (0 : Int32)) (And.intro rfl (And.intro rfl (And.intro rfl (And.intro rfl (And.intro rfl True.intro)))))

