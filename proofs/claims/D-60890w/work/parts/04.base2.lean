/-! BASE 2: the abstract heap and its operations (plain Lean) -/
abbrev AH : Type := Nat × Nat × Nat × (Nat → Nat) × (Nat → Option va_E)
abbrev hN (A : AH) : Nat := A.1
abbrev hC (A : AH) : Nat := A.2.1
abbrev hS (A : AH) : Nat := A.2.2.1
abbrev hA (A : AH) : Nat → Nat := A.2.2.2.1
abbrev hM (A : AH) : Nat → Option va_E := A.2.2.2.2
def hSet (A : AH) (a : Nat) (e : va_E) : AH := (A.1, A.2.1, A.2.2.1, A.2.2.2.1, fun q => if q = a then some e else A.2.2.2.2 q)
def hNew (A : AH) (n : Nat) (e : va_E) : AH := (A.1 + 1, A.2.1 - 1, A.2.2.1 - n, A.2.2.2.1, fun q => if q = A.1 then some e else A.2.2.2.2 q)
def obj? (A : AH) (x : Option Nat) (ci : Nat) : Option (List Value) := match x with
  | none => none
  | some a => match hM A a with
    | some (.inr o) => if o.1 = ci then some o.2 else none
    | _ => none
def vI : Option Value → Option Int32
  | some (.int v) => some v
  | _ => none
def vR : Option Value → Option (Option Nat)
  | some .null => some none
  | some (.ref a) => some (some a)
  | _ => none
/-- an int field, a reference field -/
def gI (A : AH) (x : Option Nat) (ci k : Nat) : Option Int32 := (obj? A x ci).bind fun fs => vI fs[k]?
def gR (A : AH) (x : Option Nat) (ci k : Nat) : Option (Option Nat) := (obj? A x ci).bind fun fs => vR fs[k]?
def pV (A : AH) (x : Option Nat) (ci k : Nat) (v : Value) : Option AH := (obj? A x ci).bind fun fs => if k < fs.length then some (hSet A (x.getD 0) (.inr (ci, fs.set k v))) else none
def pI (A : AH) (x : Option Nat) (ci k : Nat) (v : Int32) : Option AH := pV A x ci k (.int v)
def pR (A : AH) (x : Option Nat) (ci k : Nat) (v : Option Nat) : Option AH := pV A x ci k (va_rf v)
/-- arrays: code of the kind, length, contents -/
def arr? (A : AH) (x : Option Nat) : Option (Nat × vp_A) := match x with
  | none => none
  | some a => match hM A a with
    | some (.inl o) => some o
    | _ => none
def ixok (i : Int32) (n : Nat) : Option Unit := if i < 0 ∨ n ≤ i.toNatClampNeg then none else some ()
def aLen (A : AH) (x : Option Nat) : Option Int32 := (arr? A x).bind fun o => if o.1 < 7 then some (nI o.2.1) else none
def aI (A : AH) (x : Option Nat) (i : Int32) : Option Int32 := (arr? A x).bind fun o => match o with
  | (t, n, .inl f) => if t = 0 ∨ t = 5 then (ixok i n).bind fun _ => some (f i.toNatClampNeg) else none
  | _ => none
def aZ (A : AH) (x : Option Nat) (i : Int32) : Option Int32 := (arr? A x).bind fun o => match o with
  | (t, n, .inl f) => if t = 1 then (ixok i n).bind fun _ => some (f i.toNatClampNeg) else none
  | _ => none
def aL (A : AH) (x : Option Nat) (i : Int32) : Option Int64 := (arr? A x).bind fun o => match o with
  | (t, n, .inr (.inl f)) => if t = 2 then (ixok i n).bind fun _ => some (f i.toNatClampNeg) else none
  | _ => none
def aR (A : AH) (x : Option Nat) (i : Int32) : Option (Option Nat) := (arr? A x).bind fun o => match o with
  | (t, n, .inr (.inr (.inr (.inr f)))) => if t = 3 ∨ t = 4 ∨ t = 6 then (ixok i n).bind fun _ => some (f i.toNatClampNeg) else none
  | _ => none
def nb (x : Int32) : Int32 := vp_nar .boolean x
def sI (A : AH) (x : Option Nat) (i v : Int32) : Option AH := (arr? A x).bind fun o => match o with
  | (t, n, .inl f) => if t = 0 then (ixok i n).bind fun _ => some (hSet A (x.getD 0) (.inl (0, n, .inl (upd f i.toNatClampNeg v)))) else none
  | _ => none
def sZ (A : AH) (x : Option Nat) (i v : Int32) : Option AH := (arr? A x).bind fun o => match o with
  | (t, n, .inl f) => if t = 1 then (ixok i n).bind fun _ => some (hSet A (x.getD 0) (.inl (1, n, .inl (upd f i.toNatClampNeg (nb v))))) else none
  | _ => none
def sL (A : AH) (x : Option Nat) (i : Int32) (v : Int64) : Option AH := (arr? A x).bind fun o => match o with
  | (t, n, .inr (.inl f)) => if t = 2 then (ixok i n).bind fun _ => some (hSet A (x.getD 0) (.inl (2, n, .inr (.inl (vp_updL f i.toNatClampNeg v))))) else none
  | _ => none
/-- which kind of object lies there -/
def kd (A : AH) (x : Option Nat) : Option Nat := match x with
  | none => none
  | some a => match hM A a with
    | some (.inr o) => some o.1
    | _ => none
/-- may it be put into an array of references of this kind? -/
def stok (A : AH) (t : Nat) (v : Option Nat) : Option Unit := match v with
  | none => some ()
  | some _ => match kd A v with
    | some k => if t = 4 then (if k = 13 then some () else none) else if k = 5 ∨ k = 8 ∨ k = 10 ∨ k = 12 ∨ k = 13 ∨ k = 14 ∨ k = 15 then some () else none
    | none => none
def sR (A : AH) (x : Option Nat) (i : Int32) (v : Option Nat) : Option AH := (arr? A x).bind fun o => match o with
  | (t, n, .inr (.inr (.inr (.inr f)))) => if t = 3 ∨ t = 4 then (ixok i n).bind fun _ => (stok A t v).bind fun _ => some (hSet A (x.getD 0) (.inl (t, n, .inr (.inr (.inr (.inr (va_up f i.toNatClampNeg v))))))) else none
  | _ => none
/-- a receiver, a cast -/
def rcv (A : AH) (x : Option Nat) (ci : Nat) : Option Nat := match x with
  | none => none
  | some a => if kd A x = some ci then some a else none
def cst (A : AH) (x : Option Nat) (ci : Nat) : Option Unit := match x with
  | none => some ()
  | some _ => if kd A x = some ci then some () else none
/-- something new -/
def nO (A : AH) (ci : Nat) (fs : List Value) : Option AH := if 1 ≤ hC A ∧ fs.length ≤ hS A then some (hNew A fs.length (.inr (ci, fs))) else none
def nA (A : AH) (t : Nat) (w : Nat) (n : Int32) (f : (Nat → Int32) ⊕ (Nat → Int64) ⊕ (Nat → UInt32) ⊕ (Nat → UInt64) ⊕ (Nat → Option Nat)) : Option AH :=
  if ¬ n < 0 ∧ n.toNatClampNeg * w ≤ 536870912 ∧ 1 ≤ hC A ∧ n.toNatClampNeg ≤ hS A then some (hNew A n.toNatClampNeg (.inl (t, n.toNatClampNeg, f))) else none
def nAI (A : AH) (n : Int32) : Option AH := nA A 0 4 n (.inl fun _ => 0)
def nAZ (A : AH) (n : Int32) : Option AH := nA A 1 1 n (.inl fun _ => 0)
def nAL (A : AH) (n : Int32) : Option AH := nA A 2 8 n (.inr (.inl fun _ => 0))
def nAR (A : AH) (t : Nat) (n : Int32) : Option AH := nA A t 4 n (.inr (.inr (.inr (.inr fun _ => none))))
/-- the constants of Sort: how long each takes; is it one of them? -/
def tk8 (k : Nat) : Int32 := if k = 0 then 1 else if k = 1 then 1 else if k = 2 then 3 else if k = 3 then 2 else if k = 4 then 8 else if k = 5 then 0 else if k = 6 then 0 else 1
def ix8 (A : AH) (x : Option Nat) : Option Nat := (List.range 8).find? fun k => decide (x = some (hA A k))
def gT (A : AH) (x : Option Nat) : Option Int32 := (ix8 A x).map tk8
def rcS (A : AH) (x : Option Nat) : Option Nat := (ix8 A x).bind fun _ => x
/-- loops, joins -/
def fixG {τ : Type} (bot : τ) (F : τ → τ) : Nat → τ
  | 0 => bot
  | n + 1 => F (fixG bot F n)
def jn {α β : Type} (j : α) (f : α → β) : β := f j
def jl {α β : Type} (j : α) (f : α → β) : β := f j
/-- copying between arrays of references; an array of Objects; its mirror -/
def cpA (A : AH) (x : Option Nat) (sp : Int32) (y : Option Nat) (dp n : Int32) : Option AH := (arr? A x).bind fun o0 => (arr? A y).bind fun o1 => match o0, o1 with
  | (t0, n0, .inr (.inr (.inr (.inr f)))), (t1, n1, .inr (.inr (.inr (.inr g)))) =>
    if (t0 = 3 ∨ t0 = 6) ∧ t1 = 3 ∧ ¬ sp < 0 ∧ ¬ dp < 0 ∧ ¬ n < 0 ∧ sp.toNatClampNeg + n.toNatClampNeg ≤ n0 ∧ dp.toNatClampNeg + n.toNatClampNeg ≤ n1 ∧ ((List.range n.toNatClampNeg).all fun i => (stok A 3 (f (sp.toNatClampNeg + i))).isSome) = true
    then some (hSet A (y.getD 0) (.inl (3, n1, .inr (.inr (.inr (.inr (va_cpy f g sp.toNatClampNeg dp.toNatClampNeg n.toNatClampNeg))))))) else none
  | _, _ => none
def gC (A : AH) (x : Option Nat) : Option Unit := (arr? A x).bind fun o => if o.1 = 3 ∨ o.1 = 6 then some () else none
