/-! THE PLAIN PICTURE: texts, laws, states, days -/
abbrev Nm_ : Type := Nat → Int64
abbrev Dn_ : Type := Nm_ → Option Int64
abbrev Tx_ : Type := Nat → Nat → Int32
abbrev La_ : Type := Nat → Option Dn_
/-- amounts, purses, results, level, day -/
abbrev St_ : Type := (Nat → Int32) × (Nat → Int32) × (Nat → Int32) × Int32 × Int32
abbrev sAm (σ : St_) : Nat → Int32 := σ.1
abbrev sPu (σ : St_) : Nat → Int32 := σ.2.1
abbrev sRe (σ : St_) : Nat → Int32 := σ.2.2.1
abbrev sLv (σ : St_) : Int32 := σ.2.2.2.1
abbrev sDy (σ : St_) : Int32 := σ.2.2.2.2
/-- what is tried: no healing, all off, no cost, no wage, who is idle, who heals otherwise, by what -/
abbrev Om_ : Type := Bool × Bool × Bool × Bool × Int32 × Int32 × Int32
abbrev oNH (ω : Om_) : Bool := ω.1
abbrev oAO (ω : Om_) : Bool := ω.2.1
abbrev oNC (ω : Om_) : Bool := ω.2.2.1
abbrev oNW (ω : Om_) : Bool := ω.2.2.2.1
abbrev oId (ω : Om_) : Int32 := ω.2.2.2.2.1
abbrev oHO (ω : Om_) : Int32 := ω.2.2.2.2.2.1
abbrev oHB (ω : Om_) : Int32 := ω.2.2.2.2.2.2
def om0 : Om_ := (false, false, false, false, -1, -1, 0)
def iabs (x : Int32) : Int32 := if x < 0 then -x else x
def icut (n low high : Int32) : Int32 := if n < low then low else if high < n then high else n
def jabs (x : Int64) : Int64 := if x < 0 then -x else x
def nkS (τ : Tx_) : Nat := (τ 1000 12).toNatClampNeg
def ndS (τ : Tx_) : Nat := (τ 1000 13).toNatClampNeg
def npS (τ : Tx_) : Nat := (τ 1000 14).toNatClampNeg
def dkS (τ : Tx_) (d : Nat) : Nat := (τ 1009 d).toNatClampNeg
def ttS (τ : Tx_) (i : Nat) : Nat := (τ 1013 i).toNatClampNeg
def tdS (τ : Tx_) (i : Nat) : Nat := (τ 1014 i).toNatClampNeg
/-- a text that was read -/
def TxOk (τ : Tx_) : Prop :=
  (τ 1000 12 = nI (nkS τ) ∧ nkS τ ≤ 6) ∧ (τ 1000 13 = nI (ndS τ) ∧ ndS τ ≤ 8) ∧ (τ 1000 14 = nI (npS τ) ∧ npS τ ≤ 12) ∧
  (∀ k, k < nkS τ → (0 ≤ (τ 1005 k).toInt ∧ (τ 1005 k).toInt ≤ 9) ∧ (0 ≤ (τ 1006 k).toInt ∧ (τ 1006 k).toInt ≤ 9)) ∧
  (∀ k, k < 12 → -99 ≤ (τ 1007 k).toInt ∧ (τ 1007 k).toInt ≤ 99) ∧
  (∀ d, d < ndS τ → (τ 1009 d = nI (dkS τ d) ∧ dkS τ d < nkS τ) ∧ (-9 ≤ (τ 1010 d).toInt ∧ (τ 1010 d).toInt ≤ 9) ∧ (0 ≤ (τ 1011 d).toInt ∧ (τ 1011 d).toInt ≤ 99) ∧ (0 ≤ (τ 1012 d).toInt ∧ (τ 1012 d).toInt ≤ 100)) ∧
  (∀ i, i < npS τ → (τ 1013 i = nI (ttS τ i) ∧ ttS τ i < 2) ∧ (τ 1014 i = nI (tdS τ i) ∧ tdS τ i < ndS τ) ∧ (0 ≤ (τ 1015 i).toInt ∧ (τ 1015 i).toInt ≤ 99)) ∧
  (∀ t, t < 2 → (0 ≤ (τ 1017 t).toInt ∧ (τ 1017 t).toInt ≤ 999) ∧ (0 ≤ (τ 1017 (2 + t)).toInt ∧ (τ 1017 (2 + t)).toInt ≤ 9)) ∧
  (0 ≤ (τ 1003 0).toInt ∧ (τ 1003 0).toInt ≤ 99999)
/-- the cells of a text in the twin -/
def tcell (t k : Nat) : Prop := (t = 1000 ∧ 12 ≤ k ∧ k ≤ 15) ∨ (t = 1003 ∧ k = 0) ∨ (1004 ≤ t ∧ t ≤ 1006 ∧ k < 6) ∨ (t = 1007 ∧ k < 12) ∨ (1008 ≤ t ∧ t ≤ 1012 ∧ k < 8) ∨ (1013 ≤ t ∧ t ≤ 1015 ∧ k < 12) ∨ (t = 1017 ∧ k < 4) ∨ (1018 ≤ t ∧ t ≤ 1020 ∧ k < 3) ∨ (1021 ≤ t ∧ t ≤ 1023 ∧ k < 64)
def TTx (τ : Tx_) (I : FI_) : Prop := ∀ t k, tcell t k → I t k = τ t k
/-! laws -/
def b2J (b : Bool) : Int64 := bif b then 1 else 0
def bdS (n : Int64) : Option Int64 := if 1000000000000 < n ∨ n < -1000000000000 then none else some n
def tmS (x y : Int64) : Option Int64 := if x ≠ 0 ∧ y ≠ 0 ∧ 1000000000000 / jabs x < jabs y then none else some (x * y)
def cpS (c : Nat) (x y : Int64) : Bool := if c = 5 then decide (x < y) else if c = 6 then !decide (y < x) else if c = 7 then decide (x = y) else if c = 8 then !decide (x = y) else if c = 9 then !decide (x < y) else decide (y < x)
def opS (c : Nat) (x y : Int64) : Option Int64 :=
  if c = 3 then some (b2J (!decide (x = 0) && !decide (y = 0))) else if c = 4 then some (b2J (!decide (x = 0) || !decide (y = 0)))
  else if c = 11 then bdS (x + y) else if c = 12 then bdS (x - y) else if c = 13 then tmS x y else if c = 14 then (if y = 0 then none else some (x / y)) else some (b2J (cpS c x y))
def dNum (n : Int32) : Dn_ := fun _ => some n.toInt64
def dNam (w : Nat) : Dn_ := fun nm => some (nm w)
def dNot (f : Dn_) : Dn_ := fun nm => (f nm).map fun x => b2J (decide (x = 0))
def dTwo (c : Nat) (f g : Dn_) : Dn_ := fun nm => (f nm).bind fun x => (g nm).bind fun y => opS c x y
/-- the value of a knot, by the values ahead of it -/
def kvS (τ : Tx_) (nm : Nm_) (w : Nm_) (i : Nat) : Option Int64 :=
  if τ 1021 i = 0 then some (τ 1022 i).toInt64 else if τ 1021 i = 1 then some (nm (τ 1022 i).toNatClampNeg)
  else if τ 1021 i = 2 then some (b2J (decide (w (τ 1022 i).toNatClampNeg = 0)))
  else opS (τ 1021 i).toNatClampNeg (w (τ 1022 i).toNatClampNeg) (w (τ 1023 i).toNatClampNeg)
/-- n knots from lo on -/
def rnK (τ : Tx_) (nm : Nm_) (lo : Nat) : Nat → Nm_ → Option Nm_
  | 0, w => some w
  | n + 1, w => (rnK τ nm lo n w).bind fun v => (kvS τ nm v (lo + n)).map fun x => fu v (lo + n) x
/-- a knot that is well laid: what it takes stands from lo on, ahead of it -/
def kWf (τ : Tx_) (lo j : Nat) : Prop :=
  (τ 1021 j = 0) ∨ (τ 1021 j = 1 ∧ ∃ a, a < 7 ∧ τ 1022 j = nI a) ∨ (τ 1021 j = 2 ∧ ∃ a, lo ≤ a ∧ a < j ∧ τ 1022 j = nI a) ∨
  (∃ c a b, 3 ≤ c ∧ c ≤ 14 ∧ lo ≤ a ∧ a < j ∧ lo ≤ b ∧ b < j ∧ τ 1021 j = nI c ∧ τ 1022 j = nI a ∧ τ 1023 j = nI b)
/-- the knots from lo to i compute f -/
def KnOk (τ : Tx_) (lo i : Nat) (f : Dn_) : Prop :=
  lo ≤ i ∧ (∀ j, lo ≤ j → j ≤ i → kWf τ lo j) ∧ ∀ nm w, (rnK τ nm lo (i + 1 - lo) w).map (fun v => v i) = f nm
/-- values that ints give are small -/
def Tame (f : Dn_) : Prop := ∀ nm : Nm_, (∀ k, -2147483648 ≤ (nm k).toInt ∧ (nm k).toInt < 2147483648) → ∀ v, f nm = some v → -1000000000000 ≤ v.toInt ∧ v.toInt ≤ 1000000000000
/-- the laws of a text -/
def LaOk (τ : Tx_) (Λ : La_) : Prop := ∀ w, w < 3 → (Λ w = none ∧ τ 1018 w = 0) ∨ ∃ f lo i, Λ w = some f ∧ Tame f ∧ τ 1018 w = 1 ∧ τ 1019 w = nI lo ∧ τ 1020 w = nI (i + 1) ∧ i < 64 ∧ KnOk τ lo i f
/-! states -/
def gapS (σ : St_) (k : Nat) : Int32 := iabs (sAm σ (2 * k) - sAm σ (2 * k + 1))
def hlsS (τ : Tx_) (ω : Om_) (k : Nat) : Int32 := if nI k = oHO ω then oHB ω else τ 1006 k
def nmS (τ : Tx_) (ω : Om_) (σ : St_) (k t : Nat) : Nm_ := fun i =>
  if i = 0 then (sAm σ (2 * k + t)).toInt64 else if i = 1 then (sAm σ (2 * k + 1 - t)).toInt64 else if i = 2 then (gapS σ k).toInt64
  else if i = 3 then (τ 1005 k).toInt64 else if i = 4 then (hlsS τ ω k).toInt64 else if i = 5 then (sLv σ).toInt64 else (sDy σ).toInt64
def bndS (o : Option Dn_) (nm : Nm_) (without most : Int32) : Int32 := match o.bind fun f => f nm with
  | none => without
  | some v => if v < 0 then 0 else if most.toInt64 < v then most else v.toInt32
def aptS (τ : Tx_) (Λ : La_) (ω : Om_) (σ : St_) : Int32 := itr (fun k n => n + bndS (Λ 0) (nmS τ ω σ k 0) (gapS σ k) 9999) (nkS τ) 0
def lvlS (τ : Tx_) (σ : St_) : Bool := alb (fun k => decide (gapS σ k = 0)) 0 (nkS τ)
def hapS (τ : Tx_) (σ : St_) (t : Nat) : Int32 := itr (fun k n => n + sAm σ (2 * k + t)) (nkS τ) 0
def resS (τ : Tx_) (σ : St_) (is : Int32) : Int32 := itr (fun i n => n + (if sRe σ i = is then 1 else 0)) (npS τ) 0
def offS (τ : Tx_) (t d : Nat) (σ : St_) : St_ := (fu (sAm σ) (2 * dkS τ d + t) (icut (sAm σ (2 * dkS τ d + t) + τ 1010 d) (-999) 999), sPu σ, sRe σ, sLv σ, sDy σ)
def puS (t : Nat) (x : Int32) (σ : St_) : St_ := (sAm σ, fu (sPu σ) t x, sRe σ, sLv σ, sDy σ)
def reS (i : Nat) (x : Int32) (σ : St_) : St_ := (sAm σ, sPu σ, fu (sRe σ) i x, sLv σ, sDy σ)
def amS (i : Nat) (x : Int32) (σ : St_) : St_ := (fu (sAm σ) i x, sPu σ, sRe σ, sLv σ, sDy σ)
def nxS (n : Nat) : Nat := (n * 1103515245 + 12345) % 2147483648
def drS (n : Nat) : Nat := nxS n / 65536 % 100
def lkS (ω : Om_) (by_ : Bool) (odds : Int32) (n : Nat) : Bool × Nat :=
  if oAO ω = true then (true, n) else if odds = 100 then (true, n) else if odds = 0 then (false, n) else if by_ = true then (decide (nI (drS n) < odds), nxS n) else (!decide (odds < 50), n)
def cosS (τ : Tx_) (ω : Om_) (d : Nat) : Int32 := if oNC ω = true then 0 else τ 1011 d
/-- one task -/
def tskS (τ : Tx_) (Λ : La_) (ω : Om_) (by_ : Bool) (i : Nat) (s : St_ × Nat) : St_ × Nat :=
  if sPu s.1 (ttS τ i) < cosS τ ω (tdS τ i) then (reS i 3 s.1, s.2)
  else
    let σ := puS (ttS τ i) (sPu s.1 (ttS τ i) - cosS τ ω (tdS τ i)) s.1
    let r := lkS ω by_ (bndS (Λ 2) (nmS τ ω σ (dkS τ (tdS τ i)) (ttS τ i)) (τ 1012 (tdS τ i)) 100) s.2
    if r.1 = true then (reS i 1 (offS τ (ttS τ i) (tdS τ i) σ), r.2) else (reS i 2 σ, r.2)
def healS (a n : Int32) : Int32 := if 0 < a then (if n < a then a - n else 0) else if a < -n then a + n else 0
def helS (τ : Tx_) (Λ : La_) (ω : Om_) (k t : Nat) (σ : St_) : St_ := amS (2 * k + t) (healS (sAm σ (2 * k + t)) (bndS (Λ 1) (nmS τ ω σ k t) (hlsS τ ω k) 9)) σ
def wagS (τ : Tx_) (t : Nat) (σ : St_) : St_ := puS t (icut (sPu σ t + τ 1017 (2 + t)) 0 9999) σ
def dyTS (τ : Tx_) (Λ : La_) (ω : Om_) (by_ : Bool) (n : Nat) (s : St_ × Nat) : St_ × Nat := itr (fun i s => if τ 1015 i = sDy s.1 ∧ ¬ τ 1013 i = oId ω then tskS τ Λ ω by_ i s else s) n s
def dyHS (τ : Tx_) (Λ : La_) (ω : Om_) (n : Nat) (σ : St_) : St_ := itr (fun k σ => helS τ Λ ω k 1 (helS τ Λ ω k 0 σ)) n σ
def dyH (τ : Tx_) (Λ : La_) (ω : Om_) (σ : St_) : St_ := if oNH ω = true then σ else dyHS τ Λ ω (nkS τ) σ
def dyW (τ : Tx_) (ω : Om_) (σ : St_) : St_ := if oNW ω = true then σ else wagS τ 1 (wagS τ 0 σ)
def dyE (τ : Tx_) (σ : St_) : St_ := (sAm σ, sPu σ, sRe σ, sLv σ + (bif lvlS τ σ then 1 else 0), sDy σ + 1)
/-- one day -/
def dayS (τ : Tx_) (Λ : La_) (ω : Om_) (by_ : Bool) (s : St_ × Nat) : St_ × Nat :=
  (dyE τ (dyW τ ω (dyH τ Λ ω (dyTS τ Λ ω by_ (npS τ) s).1)), (dyTS τ Λ ω by_ (npS τ) s).2)
/-- n days -/
def daysS (τ : Tx_) (Λ : La_) (ω : Om_) (by_ : Bool) : Nat → St_ × Nat → St_ × Nat
  | 0, s => s
  | n + 1, s => dayS τ Λ ω by_ (daysS τ Λ ω by_ n s)
/-- what holds of all states: the amounts and purses are small -/
def StOk (σ : St_) : Prop := (∀ k, k < 12 → -999 ≤ (sAm σ k).toInt ∧ (sAm σ k).toInt ≤ 999) ∧ (∀ t, t < 2 → 0 ≤ (sPu σ t).toInt ∧ (sPu σ t).toInt ≤ 9999)
/-- a state in the twin -/
def TSt (σ : St_) (b : Nat) (I : FI_) : Prop :=
  (∀ k, k < 12 → I 1028 (12 * b + k) = sAm σ k) ∧ (∀ t, t < 2 → I 1029 (2 * b + t) = sPu σ t) ∧ (∀ i, i < 12 → I 1030 (12 * b + i) = sRe σ i) ∧ I 1031 b = sLv σ ∧ I 1032 b = sDy σ
/-- what is tried, in the twin -/
def bI (b : Bool) : Int32 := bif b then 1 else 0
def TOm (ω : Om_) (by_ : Bool) (I : FI_) : Prop :=
  I 1000 60 = bI by_ ∧ I 1000 61 = bI (oNH ω) ∧ I 1000 62 = bI (oAO ω) ∧ I 1000 63 = bI (oNC ω) ∧ I 1000 64 = bI (oNW ω) ∧ I 1000 65 = oId ω ∧ I 1000 66 = oHO ω ∧ I 1000 67 = oHB ω
/-- what a day changes in the twin -/
def dcell (b t k : Nat) : Prop := (t = 1028 ∧ 12 * b ≤ k ∧ k < 12 * b + 12) ∨ (t = 1029 ∧ 2 * b ≤ k ∧ k < 2 * b + 2) ∨ (t = 1030 ∧ 12 * b ≤ k ∧ k < 12 * b + 12) ∨ (t = 1031 ∧ k = b) ∨ (t = 1032 ∧ k = b) ∨ (t = 1000 ∧ k = 53)
def FrI (S : Nat → Nat → Prop) (I I' : FI_) : Prop := ∀ t k, ¬ S t k → I' t k = I t k
/-- the longs but for names and values, and what is drawn -/
def FrJ (J J' : FJ_) : Prop := ∀ k, k ≠ 59 → J' 1000 k = J 1000 k
theorem FrI.rf (S : Nat → Nat → Prop) (I : FI_) : FrI S I I := fun _ _ _ => rfl
theorem FrI.tr {S : Nat → Nat → Prop} {I I1 I2 : FI_} (h : FrI S I I1) (h2 : FrI S I1 I2) : FrI S I I2 := fun t k hn => (h2 t k hn).trans (h t k hn)
theorem FrJ.rf (J : FJ_) : FrJ J J := fun _ _ => rfl
theorem FrJ.tr {J J1 J2 : FJ_} (h : FrJ J J1) (h2 : FrJ J1 J2) : FrJ J J2 := fun k hk => (h2 k hk).trans (h k hk)
theorem nI_of_clamp {x : Int32} {n : Nat} (h : x = nI n) (hn : n < 2147483648) : x.toNatClampNeg = n := by rw [h]; exact nI_clamp hn
