/-! M2: small rows; loops; the model's leaves -/
theorem fix_cnt {τ : Type} {bot : τ} {F : τ → τ} (Q : Nat → τ → Prop) (h0 : ∀ g, Q 0 (F g)) (hs : ∀ d g, Q d g → Q (d + 1) (F g)) : ∀ d n, d < n → Q d (fixG bot F n)
  | 0, n + 1, _ => h0 _
  | d + 1, n + 1, h => hs d _ (fix_cnt Q h0 hs d n (by omega))
theorem jl_fix {τ β : Type} {bot : τ} {F : τ → τ} {n : Nat} {f : τ → β} {r : β} (Q : Nat → τ → Prop) (d : Nat) (hd : d < n) (h0 : ∀ g, Q 0 (F g)) (hs : ∀ d g, Q d g → Q (d + 1) (F g)) (k : ∀ g, Q d g → f g = r) : jl (fixG bot F n) f = r := k _ (fix_cnt Q h0 hs d n hd)
def iter {σ : Type} (f : Nat → σ → σ) : Nat → Nat → σ → σ
  | _, 0, s => s
  | a, d + 1, s => iter f (a + 1) d (f a s)
theorem iter_0 {σ : Type} (f : Nat → σ → σ) (a : Nat) (s : σ) : iter f a 0 s = s := rfl
theorem iter_s {σ : Type} (f : Nat → σ → σ) (a d : Nat) (s : σ) : iter f a (d + 1) s = iter f (a + 1) d (f a s) := rfl
theorem iter_last {σ : Type} (f : Nat → σ → σ) : ∀ (d a : Nat) (s : σ), iter f a (d + 1) s = f (a + d) (iter f a d s)
  | 0, a, s => rfl
  | d + 1, a, s => by
    rw [iter_s, iter_last f d (a + 1), iter_s, show a + 1 + d = a + (d + 1) by omega]
/-- an invariant of a loop -/
theorem iter_ind {σ : Type} {f : Nat → σ → σ} (P : Nat → σ → Prop) {a d : Nat} {s : σ} (h0 : P a s) (hs : ∀ i s, a ≤ i → i < a + d → P i s → P (i + 1) (f i s)) : P (a + d) (iter f a d s) := by
  induction d generalizing a s with
  | zero => exact h0
  | succ d ih =>
    rw [iter_s, show a + (d + 1) = a + 1 + d by omega]
    exact ih (hs a s (Nat.le_refl _) (by omega) h0) (fun i s h1 h2 h3 => hs i s (by omega) (by omega) h3)
theorem c_le {a b : Nat} (h : a ≤ b) (hb : b < 2 ^ 31) : nI a ≤ nI b := nI_le h hb
theorem c_nle {a b : Nat} (h : b < a) (ha : a < 2 ^ 31) : ¬ nI a ≤ nI b := nI_ge h ha
def b2i (p : Prop) [Decidable p] : Int32 := if p then 1 else 0
theorem nb_0 : nb 0 = 0 := rfl
theorem nb_1 : nb 1 = 1 := rfl
theorem nb_b (p : Prop) [Decidable p] : nb (b2i p) = b2i p := by unfold b2i; split <;> rfl
theorem b2i_0 (p : Prop) [Decidable p] : (b2i p = 0) = ¬ p := by
  unfold b2i
  by_cases h : p
  · simp [h]
  · simp [h]
theorem b2i_t {p : Prop} [Decidable p] (h : p) : b2i p = 1 := if_pos h
theorem b2i_f {p : Prop} [Decidable p] (h : ¬ p) : b2i p = 0 := if_neg h
theorem l0 : (0 : Int32) = nI 0 := rfl
theorem l1 : (1 : Int32) = nI 1 := rfl
theorem l4 : (4 : Int32) = nI 4 := rfl
theorem l8 : (8 : Int32) = nI 8 := rfl
theorem l16 : (16 : Int32) = nI 16 := rfl
theorem l20 : (20 : Int32) = nI 20 := rfl
theorem l32 : (32 : Int32) = nI 32 := rfl
theorem l64 : (64 : Int32) = nI 64 := rfl
theorem l128 : (128 : Int32) = nI 128 := rfl
theorem l512 : (512 : Int32) = nI 512 := rfl
theorem l4096 : (4096 : Int32) = nI 4096 := rfl
theorem nI_sub1 {n : Nat} (h : 0 < n) : nI n - 1 = nI (n - 1) := by
  obtain ⟨k, rfl⟩ : ∃ k, n = k + 1 := ⟨n - 1, by omega⟩
  rw [nI_pred]
  rfl
section M2
variable {B : AH} {ao : Nat} {M : MS} {n : Nat}
theorem mI_g (M : MS) (k j : Nat) (v : Int32) : (mI M k v).1 j = if j = k then v else M.1 j := rfl
theorem mI_a (M : MS) (k : Nat) (v : Int32) : (mI M k v).2 = M.2 := rfl
theorem mA_g (M : MS) (a i : Nat) (v : Int32) : (mA M a i v).1 = M.1 := rfl
theorem mA_a (M : MS) (a i b : Nat) (v : Int32) : (mA M a i v).2.1 b = if b = a then upd (M.2.1 a) i v else M.2.1 b := rfl
theorem mA_k (M : MS) (a i : Nat) (v : Int32) : (mA M a i v).2.2 = M.2.2 := rfl
theorem e_thread (s i : Nat) : fX11_thread (nI s) (nI i) (mk B ao M) = some (nI (32 * s + i)) := by
  simp only [fX11_thread, l32, pk_mul, nI_add]
abbrev lnI (M : MS) (s i : Nat) : Prop := ¬ M.1 1 ≤ nI i ∧ ¬ M.1 13 ≤ M.1 1 * M.2.1 10 s + nI i
theorem e_isLane (s i : Nat) (hs : s < 128) : fX11_isLane ao (nI s) (nI i) (mk B ao M) = some (b2i (lnI M s i)) := by
  simp only [fX11_isLane, mg1, mg32, mg13, Option.bind_some, ma10 s hs, jn, lnI, b2i]
  repeat' split
  all_goals first | rfl | (exfalso; grind)
abbrev awk (M : MS) (s i : Nat) : Prop := lnI M s i ∧ M.2.1 16 (32 * s + i) = 0 ∧ M.2.1 17 (32 * s + i) = 0
theorem e_isAwake (s i : Nat) (hs : s < 128) (hi : i < 32) : fX11_isAwake ao (nI s) (nI i) (mk B ao M) = some (b2i (awk M s i)) := by
  simp only [fX11_isAwake, mrcv, e_isLane s i hs, mg38, mg39, e_thread, Option.bind_some, ma16 (32 * s + i) (by omega), ma17 (32 * s + i) (by omega), jn, awk, b2i_0]
  simp only [b2i]
  repeat' split
  all_goals first | rfl | (exfalso; grind)
abbrev undP (M : MS) : Prop := M.1 11 = 1 ∨ M.1 11 = 4
theorem e_isUnder : fX11_isUnder ao (mk B ao M) = some (b2i (undP M)) := by
  simp only [fX11_isUnder, mg11, Option.bind_some, jn, b2i, undP]
  repeat' split
  all_goals first | rfl | (exfalso; grind)
abbrev pw2 (v m : Int32) : Prop := ¬ v < 1 ∧ ¬ m < v ∧ v &&& (v - 1) = 0
theorem e_isPower (v m : Int32) (A : AH) : fX11_isPower v m A = some (b2i (pw2 v m)) := by
  simp only [fX11_isPower, jn, b2i, pw2]
  repeat' split
  all_goals first | rfl | (exfalso; grind)
theorem e_thrown : fX11_thrown ao (mk B ao M) = some (M.1 0) := by
  simp only [fX11_thrown, mg0, Option.bind_some]
theorem e_raise (c : Int32) : fX11_raise ao c (mk B ao M) = some (0, mk B ao (mI M 0 c)) := by
  simp only [fX11_raise, mp0, Option.bind_some]
theorem e_reg (t r : Nat) (h : 16 * t + r < 65536) : fX11_reg ao (nI t) (nI r) (mk B ao M) = some (M.2.1 13 (16 * t + r)) := by
  simp only [fX11_reg, mg35, Option.bind_some, l16, pk_mul, nI_add, ma13 (16 * t + r) h]
abbrev memP (M : MS) : Prop := ¬ (M.1 52 < 50 ∨ 59 < M.1 52)
theorem e_isMemory : fX11_isMemory ao (mk B ao M) = some (b2i (memP M)) := by
  simp only [fX11_isMemory, mg52, Option.bind_some, jn, b2i, memP]
  repeat' split
  all_goals first | rfl | (exfalso; grind)
abbrev shP (M : MS) : Prop := M.1 52 = 52 ∨ M.1 52 = 53 ∨ M.1 52 = 58 ∨ M.1 52 = 59
theorem e_isShared : fX11_isShared ao (mk B ao M) = some (b2i (shP M)) := by
  simp only [fX11_isShared, mg52, Option.bind_some, jn, b2i, shP]
  repeat' split
  all_goals first | rfl | (exfalso; grind)
abbrev wrdP (M : MS) : Prop := M.1 52 ≤ 21 ∧ (M.1 52 ≠ 3 ∨ 0 ≤ M.1 57 ∧ M.1 57 ≤ 6) ∨ 30 ≤ M.1 52 ∧ M.1 52 ≤ 36 ∨ 40 ≤ M.1 52 ∧ M.1 52 ≤ 42 ∨ 50 ≤ M.1 52 ∧ M.1 52 ≤ 59 ∨ 70 ≤ M.1 52 ∧ M.1 52 ≤ 73
theorem e_isWord : fX11_isWord ao (mk B ao M) = some (b2i (wrdP M)) := by
  simp only [fX11_isWord, mg52, mg57, Option.bind_some, jn, b2i, wrdP]
  repeat' split
  all_goals first | rfl | (exfalso; grind)
abbrev rdA (M : MS) : Prop := 4 ≤ M.1 52 ∧ M.1 52 ≤ 21 ∨ 30 ≤ M.1 52 ∧ M.1 52 ≤ 33 ∨ M.1 52 = 42 ∨ memP M ∨ M.1 52 = 73
theorem e_readsA : fX11_readsA ao (mk B ao M) = some (b2i (rdA M)) := by
  simp only [fX11_readsA, mg52, mrcv, e_isMemory, b2i_0, Option.bind_some, jn, rdA]
  simp only [b2i]
  repeat' split
  all_goals first | rfl | (exfalso; grind)
abbrev rdB (M : MS) : Prop := 4 ≤ M.1 52 ∧ M.1 52 ≤ 17 ∨ M.1 52 = 21 ∨ M.1 52 = 30 ∨ M.1 52 = 31 ∨ M.1 52 = 51 ∨ 53 ≤ M.1 52 ∧ M.1 52 ≤ 59
theorem e_readsB : fX11_readsB ao (mk B ao M) = some (b2i (rdB M)) := by
  simp only [fX11_readsB, mg52, Option.bind_some, jn, b2i, rdB]
  repeat' split
  all_goals first | rfl | (exfalso; grind)
abbrev wrD (M : MS) : Prop := 2 ≤ M.1 52 ∧ M.1 52 ≤ 21 ∨ M.1 52 = 41 ∨ M.1 52 = 50 ∨ M.1 52 = 52 ∨ 54 ≤ M.1 52 ∧ M.1 52 ≤ 59 ∨ M.1 52 = 72 ∨ M.1 52 = 73
theorem e_writesD : fX11_writesD ao (mk B ao M) = some (b2i (wrD M)) := by
  simp only [fX11_writesD, mg52, Option.bind_some, jn, b2i, wrD]
  repeat' split
  all_goals first | rfl | (exfalso; grind)
abbrev wrP (M : MS) : Prop := 30 ≤ M.1 52 ∧ M.1 52 ≤ 36 ∨ M.1 52 = 70 ∨ M.1 52 = 71
theorem e_writesPredicate : fX11_writesPredicate ao (mk B ao M) = some (b2i (wrP M)) := by
  simp only [fX11_writesPredicate, mg52, Option.bind_some, jn, b2i, wrP]
  repeat' split
  all_goals first | rfl | (exfalso; grind)
theorem e_isThere (s r : Nat) (h : 20 * s + r < 2560) : fX11_isThere ao (nI s) (nI r) (mk B ao M) = some (b2i (M.2.1 12 (20 * s + r) ≤ M.1 15)) := by
  simp only [fX11_isThere, mg34, mg15, Option.bind_some, l20, pk_mul, nI_add, ma12 (20 * s + r) h, jn, b2i]
  repeat' split
  all_goals first | rfl | (exfalso; grind)
end M2
