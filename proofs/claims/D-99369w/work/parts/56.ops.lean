/-! WHAT IS ANSWERED, plainly: the calls that only look -/
abbrev ixS (x : Int32) : Nat := x.toNatClampNeg
def isB (a : Int32) (n : Nat) : Bool := !decide (a < 0) && decide (a < nI n)
def fndT (τ : Tx_) (t n : Nat) (l : Int32) : Int32 := fnd (fun k => decide (τ t k = l)) 0 n
/-- the bits of those of n that are so -/
def bitS (p : Nat → Bool) (n : Nat) : Int32 := itr (fun k b => b ||| (bif p k then (1 : Int32) <<< (nI k &&& 31) else 0)) n 0
/-- the first day of n on which it is so -/
def nxtS (τ : Tx_) (Λ : La_) (is : Bool) : Nat → Nat → St_ × Nat → Int32
  | 0, _, _ => -2
  | n + 1, k, s => bif (lvlS τ s.1 == is) then nI k else nxtS τ Λ is n (k + 1) (dayS τ Λ om0 false s)
/-- the nearest of n days: which, how far apart, the state -/
def nrS (τ : Tx_) (Λ : La_) (s : St_ × Nat) : Nat → Int32 × Int32 × (St_ × Nat)
  | 0 => (0, aptS τ Λ om0 s.1, s)
  | n + 1 =>
    let r := nrS τ Λ s n
    let s2 := dayS τ Λ om0 false r.2.2
    let a := aptS τ Λ om0 s2.1
    if a < r.2.1 then (nI (n + 1), a, s2) else (r.1, r.2.1, s2)
/-- the sign that tells most -/
def sgS (τ : Tx_) (σ : St_) (n : Nat) : Int32 × Int32 := itr (fun k r => if r.2 < gapS σ k * τ 1005 k then (nI k, gapS σ k * τ 1005 k) else r) n (-2, 0)
/-- the best deed of a twin, and how far apart they'd be -/
def btS (τ : Tx_) (Λ : La_) (t : Nat) (s : St_ × Nat) : Nat → Option (Nat × Int32)
  | 0 => none
  | n + 1 =>
    let a := aptS τ Λ om0 (offS τ t n s.1)
    match btS τ Λ t s n with
    | none => some (n, a)
    | some (b, l) => if l < a then some (b, l) else if a = l then (if τ 1011 n < τ 1011 b then some (n, a) else some (b, l)) else some (n, a)
def hlS (a b h : Int32) : Int32 :=
  let m := if b < a then a else b
  if m = 0 then 0 else if h = 0 then -2 else (m + h - 1) / h
/-- what each has by what both do -/
def hsS (τ : Tx_) (Λ : La_) (σ : St_) (t : Nat) (own theirs : Int32) : Int32 :=
  if own = 0 then (if theirs = 1 then -(aptS τ Λ om0 σ / 10) else if 10 < aptS τ Λ om0 σ then 0 else 10 - aptS τ Λ om0 σ)
  else (if theirs = 1 then hapS τ σ t / 10 else if hapS τ σ t / 5 < 5 then 5 else hapS τ σ t / 5)
def rsS (τ : Tx_) (Λ : La_) (σ : St_) (a c : Int32) : Bool := !decide (hsS τ Λ σ 0 a c < hsS τ Λ σ 0 (1 - a) c) && !decide (hsS τ Λ σ 1 c a < hsS τ Λ σ 1 (1 - c) a)
def rtS (τ : Tx_) (Λ : La_) (σ : St_) (w : Int32) : Nat → Nat → Int32 → Int32
  | 0, _, n => if w < 0 then n else -2
  | m + 1, g, n => bif rsS τ Λ σ (nI (g / 2)) (nI (g % 2)) then (if n = w then nI (10 * (g / 2) + g % 2) else rtS τ Λ σ w m (g + 1) (n + 1)) else rtS τ Λ σ w m (g + 1) n
