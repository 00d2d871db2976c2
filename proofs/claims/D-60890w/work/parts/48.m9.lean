/-! M9: how long words take -/
/-- what is kept: fields but ks, arrays but js -/
def frm (ks js : List Nat) (M M' : MS) : Prop := (∀ k, k ∉ ks → M'.1 k = M.1 k) ∧ (∀ j, j ∉ js → M'.2.1 j = M.2.1 j) ∧ M'.2.2 = M.2.2
theorem frm.rf {ks js : List Nat} {M : MS} : frm ks js M M := ⟨fun _ _ => rfl, fun _ _ => rfl, rfl⟩
theorem frm.tr {ks js : List Nat} {M M' M'' : MS} (h : frm ks js M M') (h2 : frm ks js M' M'') : frm ks js M M'' := ⟨fun k hk => (h2.1 k hk).trans (h.1 k hk), fun j hj => (h2.2.1 j hj).trans (h.2.1 j hj), h2.2.2.trans h.2.2⟩
theorem frm.up {ks js ks' js' : List Nat} {M M' : MS} (h : frm ks js M M') (h1 : ∀ k, k ∈ ks → k ∈ ks') (h2 : ∀ k, k ∈ js → k ∈ js') : frm ks' js' M M' := ⟨fun k hk => h.1 k (fun z => hk (h1 k z)), fun k hk => h.2.1 k (fun z => hk (h2 k z)), h.2.2⟩
theorem frm.mI {ks js : List Nat} {M M' : MS} (h : frm ks js M M') {k : Nat} {v : Int32} (hk : k ∈ ks) : frm ks js M (mI M' k v) := by
  refine ⟨fun j hj => ?_, h.2.1, h.2.2⟩
  rw [mI_g, if_neg (fun z : j = k => hj (by rw [z]; exact hk))]
  exact h.1 j hj
theorem frm.mA {ks js : List Nat} {M M' : MS} (h : frm ks js M M') {k i : Nat} {v : Int32} (hk : k ∈ js) : frm ks js M (mA M' k i v) := by
  refine ⟨h.1, fun j hj => ?_, h.2.2⟩
  rw [mA_a, if_neg (fun z : j = k => hj (by rw [z]; exact hk))]
  exact h.2.1 j hj
theorem frm.iter {ks js : List Nat} {f : Nat → MS → MS} (hf : ∀ i M, frm ks js M (f i M)) : ∀ (d a : Nat) (M : MS), frm ks js M (iter f a d M)
  | 0, a, M => frm.rf
  | d + 1, a, M => (hf a M).tr (frm.iter hf d (a + 1) (f a M))
def shmS (M : MS) (s a k : Nat) (i : Nat) (c : Int32) : Int32 := if (¬ M.2.1 27 i = 0 ∧ askV M s a i - askV M s a i / M.1 4 * M.1 4 = nI k) then c + (if (53 < M.1 52 ∨ ¬ agB M s a i = true) then 1 else 0) else c
def shkS (M : MS) (s a L : Nat) (k : Nat) (c : Int32) : Int32 := if iter (shmS M s a k) 0 L 0 ≤ c then c else iter (shmS M s a k) 0 L 0
def z_tsh (M : MS) (u : Nat) (c : Int32) : MS := mA M 6 u (M.1 15 + (if c = 0 then 1 else c))
/-- the number that a lane asks for -/
def askN (M : MS) (s a i : Nat) : Nat := (askV M s a i).toNatClampNeg
def cpyS (s a i : Nat) (k : Nat) (M : MS) : MS := mA M 25 i (if (¬ M.2.1 27 k = 0 ∧ askV M s a k / 8 = askV M s a i / 8) then M.2.1 25 k else M.2.1 25 i)
def hitM (M : MS) (gt at_ ln i : Nat) : MS := if M.2.1 3 at_ = nI ln then mA (mA (mI (mI (mA M 3 at_ (nI ln)) 19 (M.1 19 + 1)) 20 (M.1 20 + 0)) 4 gt ((if M.2.1 4 gt ≤ M.1 15 then M.1 15 else M.2.1 4 gt) + 1)) 25 i ((if M.2.1 4 gt ≤ M.1 15 then M.1 15 else M.2.1 4 gt) + 4) else mA (mA (mI (mI (mA M 3 at_ (nI ln)) 19 (M.1 19 + 0)) 20 (M.1 20 + 1)) 4 gt ((if M.2.1 4 gt ≤ M.1 15 then M.1 15 else M.2.1 4 gt) + 5)) 25 i ((if M.2.1 4 gt ≤ M.1 15 then M.1 15 else M.2.1 4 gt) + 12)
def tgS (s a G : Nat) (i : Nat) (c : Int32 × Int32 × MS) : Int32 × Int32 × MS :=
  if c.2.2.2.1 27 i = 0 then c else
  if lgB c.2.2 s a i = true then (c.1, c.2.1 + (if (53 < c.2.2.1 52 ∧ agB c.2.2 s a i = true) then 1 else 0), iter (cpyS s a i) 0 i c.2.2) else
  let M' := hitM c.2.2 (askN c.2.2 s a i / 8 % G) (4 * (askN c.2.2 s a i / 8 % G) + askN c.2.2 s a i / 8 / G % 4) (askN c.2.2 s a i / 8) i
  (if M'.2.1 25 i ≤ c.1 then c.1 else M'.2.1 25 i, c.2.1 + (if (53 < c.2.2.1 52 ∧ agB c.2.2 s a i = true) then 1 else 0), M')
theorem hit_frm (M : MS) (gt at_ ln i : Nat) : frm [19, 20] [3, 4, 25] M (hitM M gt at_ ln i) := by
  unfold hitM
  split
  · exact ((((frm.rf.mA (by decide)).mI (by decide)).mI (by decide)).mA (by decide)).mA (by decide)
  · exact ((((frm.rf.mA (by decide)).mI (by decide)).mI (by decide)).mA (by decide)).mA (by decide)
theorem tgS_frm (s a G i : Nat) (c : Int32 × Int32 × MS) : frm [19, 20] [3, 4, 25] c.2.2 (tgS s a G i c).2.2 := by
  unfold tgS
  split
  · exact frm.rf
  · split
    · exact frm.iter (fun k M => frm.rf.mA (by decide)) _ _ _
    · exact hit_frm _ _ _ _ _
theorem jn_max {β : Type} {x y : Int32} {k : Int32 → β} : (jn k (fun j => if x ≤ y then j y else j x)) = k (if x ≤ y then y else x) := by
  unfold jn
  split <;> rfl
section M9
variable {B : AH} {ao : Nat} {M : MS} {n : Nat}
theorem e_timeOfShared (u s a L Bk : Nat) (hu : u < 8) (hs : s < 128) (ha : a < 16) (hL : L ≤ 32) (hB : 1 ≤ Bk) (hB2 : Bk ≤ 32) (h1 : M.1 1 = nI L) (h4 : M.1 4 = nI Bk) (h54 : M.1 54 = nI a) (hn : 32 < n) : fX11_timeOfShared n ao (nI u) (nI s) (mk B ao M) = some (2 + iter (shkS M s a L) 0 Bk 0, mk B ao (z_tsh M u (iter (shkS M s a L) 0 Bk 0))) := by
  have hb0 : ¬ nI Bk = 0 := nI_ne0 (by omega) (by omega)
  unfold fX11_timeOfShared
  refine jl_fix (fun d g => ∀ (k : Nat) (c : Int32), k + d = Bk → g c (nI k) = some (2 + iter (shkS M s a L) k d c, mk B ao (z_tsh M u (iter (shkS M s a L) k d c)))) Bk (by omega) ?_ ?_ ?_
  · intro g k c hk
    obtain rfl : k = Bk := by omega
    refine ob mg4 ?_
    rw [h4, if_pos (c_le (Nat.le_refl _) (by omega))]
    refine ob mg28 (ob mg15 ?_)
    refine Eq.trans ?_ (show some (2 + c, mk B ao (z_tsh M u c)) = _ from rfl)
    by_cases hc : c = 0
    · simp only [jn, iter_0, z_tsh, ms6 u hu, Option.bind_some, if_pos hc]
    · simp only [jn, iter_0, z_tsh, ms6 u hu, Option.bind_some, if_neg hc]
  · intro d g hg k c hk
    refine ob mg4 ?_
    rw [h4, if_neg (c_nle (by omega) (by omega))]
    refine jl_fix (fun d' g' => ∀ (i : Nat) (m : Int32), i + d' = L → g' m (nI i) = g (if iter (shmS M s a k) i d' m ≤ c then c else iter (shmS M s a k) i d' m) (nI (k + 1))) L (by omega) ?_ ?_ ?_
    · intro g' i m hi
      obtain rfl : i = L := by omega
      refine ob mg1 ?_
      rw [h1, if_pos (c_le (Nat.le_refl _) (by omega))]
      refine Eq.trans jn_max ?_
      rw [nI_1]
      rfl
    · intro d' g' hg' i m hi
      refine Eq.trans ?_ (hg' (i + 1) (shmS M s a k i m) (by omega))
      refine ob mg1 ?_
      rw [h1, if_neg (c_nle (by omega) (by omega))]
      refine ob mg51 (ob (ma27 i (by omega)) ?_)
      simp only [jn, shmS, mrcv, Option.bind_some, e_asked s i a hs (by omega) ha h54, dz, hb0, if_false, mg52, e_isAgain s a i hs ha (by omega) (by omega) h54 hn, b2i_0, nI_1, h4, askV]
      repeat' split
      all_goals first | rfl | (exfalso; grind)
    · intro g' hg'
      refine (hg' 0 0 (by omega)).trans ?_
      exact hg (k + 1) _ (by omega)
  · intro g hg
    exact hg 0 0 (by omega)
theorem frm.f {ks js : List Nat} {M M' : MS} (h : frm ks js M M') (k : Nat) (hk : k ∉ ks := by decide) : M'.1 k = M.1 k := h.1 k hk
theorem frm.a {ks js : List Nat} {M M' : MS} (h : frm ks js M M') (k : Nat) (hk : k ∉ js := by decide) : M'.2.1 k = M.2.1 k := h.2.1 k hk
theorem askV_frm {M M' : MS} (h : frm [19, 20] [3, 4, 25] M M') (s a i : Nat) : askV M' s a i = askV M s a i := by
  unfold askV
  rw [h.a 13, h.f 57]
set_option maxHeartbeats 4000000 in
theorem e_timeOfGlobal (s a L G : Nat) (hs : s < 128) (ha : a < 16) (hL : L ≤ 32) (hG : 1 ≤ G) (hG2 : G ≤ 8) (h1 : M.1 1 = nI L) (h5 : M.1 5 = nI G) (h54 : M.1 54 = nI a) (hn : 32 < n) (hq : ∀ i, i < L → ¬ M.2.1 27 i = 0 → ∃ q, q < 4096 ∧ askV M s a i = nI q) : fX11_timeOfGlobal n ao (nI s) (mk B ao M) = some ((iter (tgS s a G) 0 L (M.1 15 + 1, 0, M)).1 - M.1 15 + (iter (tgS s a G) 0 L (M.1 15 + 1, 0, M)).2.1, mk B ao (iter (tgS s a G) 0 L (M.1 15 + 1, 0, M)).2.2) := by
  have hg0 : ¬ nI G = 0 := nI_ne0 (by omega) (by omega)
  unfold fX11_timeOfGlobal
  refine ob mg15 ?_
  refine jl_fix (fun d g => ∀ (i : Nat) (c : Int32 × Int32 × MS), i + d = L → frm [19, 20] [3, 4, 25] M c.2.2 → g c.1 c.2.1 (nI i) (mk B ao c.2.2) = some ((iter (tgS s a G) i d c).1 - M.1 15 + (iter (tgS s a G) i d c).2.1, mk B ao (iter (tgS s a G) i d c).2.2)) L (by omega) ?_ ?_ ?_
  · intro g i c hi hf
    obtain rfl : i = L := by omega
    refine ob mg1 ?_
    rw [hf.f 1, h1, if_pos (c_le (Nat.le_refl _) (by omega))]
    refine ob mg15 ?_
    rw [hf.f 15]
    rfl
  · intro d g hg i c hi hf
    have hf2 := hf.tr (tgS_frm s a G i c)
    refine Eq.trans ?_ (hg (i + 1) (tgS s a G i c) (by omega) hf2)
    obtain ⟨la, ag, M'⟩ := c
    have hf' : frm [19, 20] [3, 4, 25] M M' := hf
    have h54' : M'.1 54 = nI a := (hf'.f 54).trans h54
    refine ob mg1 ?_
    rw [hf'.f 1, h1, if_neg (c_nle (by omega) (by omega))]
    refine ob mg51 (ob (ma27 i (by omega)) ?_)
    rw [jn_eq]
    unfold tgS
    by_cases d0 : M'.2.1 27 i = 0
    · rw [if_pos d0, if_pos d0, nI_1]
    rw [if_neg d0, if_neg d0]
    obtain ⟨q, hq1, hq2⟩ := hq i (by omega) (by rw [← hf'.a 27]; exact d0)
    have hav : askV M' s a i = nI q := (askV_frm hf' s a i).trans hq2
    have hN : askN M' s a i = q := by unfold askN; rw [hav]; exact nI_clamp (by omega)
    refine ob mg52 ?_
    refine jn_v (if (53 < M'.1 52 ∧ agB M' s a i = true) then 1 else 0) (fun j => ?_) ?_
    · simp only [jn, mrcv, Option.bind_some, e_isAgain s a i hs ha (by omega) (by omega) h54' hn, b2i_0]
      repeat' split
      all_goals first | rfl | (exfalso; grind)
    refine ob mrcv (ob (e_asked s i a hs (by omega) ha h54') (ob (e_isLineAgain s a i hs ha (by omega) h54' hn) ?_))
    have hav2 : M'.2.1 13 (16 * (32 * s + i) + a) + M'.1 57 = nI q := hav
    have hln : nI q / (8 : Int32) = nI (q / 8) := by rw [l8]; exact pk_div (by omega) (by omega) (by omega)
    by_cases lg : lgB M' s a i = true
    · rw [if_neg (by rw [b2i_0]; exact not_not_intro lg), if_pos lg]
      refine jl_fix (fun d' g' => ∀ (k : Nat) (M1 : MS), k + d' = i → frm [19, 20] [3, 4, 25] M M1 → g' (nI k) (mk B ao M1) = g la (ag + (if (53 < M'.1 52 ∧ agB M' s a i = true) then 1 else 0)) (nI (i + 1)) (mk B ao (iter (cpyS s a i) k d' M1))) i (by omega) ?_ ?_ ?_
      · intro g' k M1 hk hf1
        obtain rfl : k = i := by omega
        rw [if_pos (c_le (Nat.le_refl _) (by omega)), nI_1]
        rfl
      · intro d' g' hg' k M1 hk hf1
        have h54'' : M1.1 54 = nI a := (hf1.f 54).trans h54
        refine Eq.trans ?_ (hg' (k + 1) (cpyS s a i k M1) (by omega) (hf1.mA (by decide)))
        rw [if_neg (c_nle (by omega) (by omega))]
        refine ob mg49 (ob mg51 (ob (ma27 k (by omega)) ?_))
        have e1 : M1.2.1 13 (16 * (32 * s + k) + a) + M1.1 57 = askV M1 s a k := rfl
        have e2 : askV M1 s a i = nI q := (askV_frm hf1 s a i).trans hq2
        refine jn_v (if (¬ M1.2.1 27 k = 0 ∧ askV M1 s a k / 8 = askV M1 s a i / 8) then M1.2.1 25 k else M1.2.1 25 i) (fun j => ?_) ?_
        · simp only [jn, mrcv, ma25 i (show i < 32 by omega), ma25 k (show k < 32 by omega), e_asked s k a hs (show k < 32 by omega) ha h54'', Option.bind_some, hav2, e1, e2]
          repeat' split
          all_goals first | rfl | (exfalso; grind)
        · refine ob (ms25 i (by omega)) ?_
          rw [nI_1]
          rfl
      · intro g' hg'
        exact hg' 0 M' (by omega) hf'
    · rw [if_pos (by rw [b2i_0]; exact lg), if_neg lg, hN]
      have hrem : nI (q / 8) - nI (q / 8) / nI G * nI G = nI (q / 8 % G) := pk_rem (by omega) (by omega) (by omega)
      have hdiv : nI (q / 8) / nI G = nI (q / 8 / G) := pk_div (by omega) (by omega) (by omega)
      have hdv4 : q / 8 / G ≤ q / 8 := Nat.div_le_self _ _
      have hrem4 : nI (q / 8 / G) - nI (q / 8 / G) / (4 : Int32) * (4 : Int32) = nI (q / 8 / G % 4) := by rw [l4]; exact pk_rem (by omega) (by omega) (by omega)
      have hgt : q / 8 % G < 8 := Nat.lt_of_lt_of_le (Nat.mod_lt _ (by omega)) hG2
      have hat : 4 * (q / 8 % G) + q / 8 / G % 4 < 32 := by have := Nat.mod_lt (q / 8 / G) (show 0 < 4 by omega); omega
      have hix : (4 : Int32) * nI (q / 8 % G) + nI (q / 8 / G % 4) = nI (4 * (q / 8 % G) + q / 8 / G % 4) := by rw [l4, pk_mul, nI_add]
      refine ob (mg5.trans (by rw [hf'.f 5, h5])) ?_
      refine ob (v := ()) (by simp only [dz, hg0, if_false]) ?_
      rw [hav2, hln, hrem, hdiv, hrem4, hix]
      refine ob mg10 (ob (ma4 _ hgt) (ob mg15 ?_))
      refine jn_v (if M'.2.1 4 (q / 8 % G) ≤ M'.1 15 then M'.1 15 else M'.2.1 4 (q / 8 % G)) (fun j => ?_) ?_
      · split <;> rfl
      refine ob mg9 (ob (ma3 _ hat) ?_)
      by_cases hit : M'.2.1 3 (4 * (q / 8 % G) + q / 8 / G % 4) = nI (q / 8)
      · refine jn_v 1 (fun j => if_pos hit) ?_
        refine ob (ms3 _ hat) (ob mg19 ?_)
        refine jn_v 1 (fun j => if_neg (by decide)) ?_
        refine ob mp19 (ob mg20 ?_)
        refine jn_v 0 (fun j => if_neg (by decide)) ?_
        refine ob mp20 (ob mg10 ?_)
        refine jn_v 1 (fun j => if_neg (by decide)) ?_
        refine ob (ms4 _ hgt) (ob mg49 ?_)
        refine jn_v 4 (fun j => if_neg (by decide)) ?_
        refine ob (ms25 i (by omega)) (ob mg49 (ob (ma25 i (by omega)) ?_))
        refine Eq.trans jn_max ?_
        rw [nI_1]
        exact congrArg (fun W : MS => g (if W.2.1 25 i ≤ la then la else W.2.1 25 i) (ag + (if (53 < M'.1 52 ∧ agB M' s a i = true) then 1 else 0)) (nI (i + 1)) (mk B ao W)) (show _ = hitM M' (q / 8 % G) (4 * (q / 8 % G) + q / 8 / G % 4) (q / 8) i from (if_pos hit).symm)
      · refine jn_v 0 (fun j => if_neg hit) ?_
        refine ob (ms3 _ hat) (ob mg19 ?_)
        refine jn_v 0 (fun j => if_pos rfl) ?_
        refine ob mp19 (ob mg20 ?_)
        refine jn_v 1 (fun j => if_pos rfl) ?_
        refine ob mp20 (ob mg10 ?_)
        refine jn_v 5 (fun j => if_pos rfl) ?_
        refine ob (ms4 _ hgt) (ob mg49 ?_)
        refine jn_v 12 (fun j => if_pos rfl) ?_
        refine ob (ms25 i (by omega)) (ob mg49 (ob (ma25 i (by omega)) ?_))
        refine Eq.trans jn_max ?_
        rw [nI_1]
        exact congrArg (fun W : MS => g (if W.2.1 25 i ≤ la then la else W.2.1 25 i) (ag + (if (53 < M'.1 52 ∧ agB M' s a i = true) then 1 else 0)) (nI (i + 1)) (mk B ao W)) (show _ = hitM M' (q / 8 % G) (4 * (q / 8 % G) + q / 8 / G % 4) (q / 8) i from (if_neg hit).symm)
  · intro g hg
    exact hg 0 (M.1 15 + 1, 0, M) (by omega) frm.rf
end M9
