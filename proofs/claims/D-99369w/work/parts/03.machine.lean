/-! THE SMALL MACHINE: one step, in passing style (bad, go on, end, call). -/
abbrev MI_ : Type := Nat × Nat × Nat × List (Nat × Nat × Nat × List Nat × List Nat) × List (Nat × Nat) × List (Nat × List Bool) × List (Nat × List (Nat × Instr × Nat))
def mi_ (j : Nat) : MI_ := match lk2_ mtT j with
  | some m => m
  | none => (0, 0, 0, [], [], [], [])
def ow_ (j : Nat) : Nat := (mi_ j).1
def ml_ (j : Nat) : Nat := (mi_ j).2.1
def rg_ (j : Nat) : Nat := (mi_ j).2.2.1
def hs_ (j : Nat) : List (Nat × Nat × Nat × List Nat × List Nat) := (mi_ j).2.2.2.1
def as_ (j pc : Nat) : Option Nat := lk_ (mi_ j).2.2.2.2.1 pc
def ct_ (j pc : Nat) : Option (List Bool) := lk_ (mi_ j).2.2.2.2.2.1 pc
def fe_ (j pc : Nat) : Option (Instr × Nat) := lk2_ (mi_ j).2.2.2.2.2.2 pc
def ky_ (j idx : Nat) : Nat := ow_ j * 10000 + idx
def ak_ (t : Nat) : Nat := match lk2_ akT t with
  | some k => k
  | none => 0
def tx_ (i k : Nat) : Int32 := match lk_ txT i with
  | some l => (match lk_ l k with
    | some x => x
    | none => 0)
  | none => 0
/-- what never changes: the texts and their row -/
def oI (r : R_) (k : Nat) : Int32 := bif Nat.beq r.1 102 then tx_ r.2.2 k else 0
def oP (r : R_) (k : Nat) : Option R_ :=
  bif Nat.beq r.1 103 then some (101, 0, k) else bif Nat.beq r.1 101 then (match lk_ tlT r.2.2 with
    | some n => some (102, n, r.2.2)
    | none => none) else none
def hI (g : G_) (r : R_) (k : Nat) : Int32 := bif Nat.blt r.1 100 then g.2.2.1 r k else bif Nat.blt r.1 1000 then oI r k else g.1.2.1 r.1 k
def hJ (g : G_) (r : R_) (k : Nat) : Int64 := bif Nat.blt r.1 100 then g.2.2.2.1 r k else g.1.2.2.1 r.1 k
def hP (g : G_) (r : R_) (k : Nat) : Option R_ := bif Nat.blt r.1 100 then g.2.2.2.2 r k else bif Nat.blt r.1 1000 then oP r k else g.1.2.2.2 r.1 k
def wI (g : G_) (r : R_) (k : Nat) (x : Int32) : G_ := bif Nat.blt r.1 100 then (g.1, (g.2.1, u2 g.2.2.1 r k x, g.2.2.2.1, g.2.2.2.2)) else ((g.1.1, u2 g.1.2.1 r.1 k x, g.1.2.2.1, g.1.2.2.2), g.2)
def wJ (g : G_) (r : R_) (k : Nat) (x : Int64) : G_ := bif Nat.blt r.1 100 then (g.1, (g.2.1, g.2.2.1, u2 g.2.2.2.1 r k x, g.2.2.2.2)) else ((g.1.1, g.1.2.1, u2 g.1.2.2.1 r.1 k x, g.1.2.2.2), g.2)
def wP (g : G_) (r : R_) (k : Nat) (x : Option R_) : G_ := bif Nat.blt r.1 100 then (g.1, (g.2.1, g.2.2.1, g.2.2.2.1, u2 g.2.2.2.2 r k x)) else ((g.1.1, g.1.2.1, g.1.2.2.1, u2 g.1.2.2.2 r.1 k x), g.2)
/-- a new cell -/
def nwG (g : G_) (t n w : Nat) : G_ := bif Nat.blt t 100 then (g.1, (g.2.1 + w, z1 g.2.2.1 (t, n, g.2.1) 0, z1 g.2.2.2.1 (t, n, g.2.1) 0, z1 g.2.2.2.2 (t, n, g.2.1) none)) else ((g.1.1 + 1, z1 g.1.2.1 t 0, z1 g.1.2.2.1 t 0, z1 g.1.2.2.2 t none), (g.2.1 + w, g.2.2))
/-! ends of a step -/
abbrev K_ : Type 1 := ∀ (α : Type), α → (S_ → α) → (Z_ → α) → (S_ → (Z_ → α) → α) → α
abbrev kB : K_ := fun _ b _ _ _ => b
abbrev kG (s : S_) : K_ := fun _ _ g _ _ => g s
abbrev kF (z : Z_) : K_ := fun _ _ _ f _ => f z
abbrev kC (s : S_) (k : Z_ → K_) : K_ := fun α b g f c => c s (fun z => k z α b g f c)
abbrev kW (p : Prop) [Decidable p] (x y : K_) : K_ := fun α b g f c => if p then x α b g f c else y α b g f c
abbrev kN (x : Bool) (y z : K_) : K_ := fun α b g f c => bif x then y α b g f c else z α b g f c
/-! what a step looks at, in passing style -/
def qX {α : Type} (b : α) (i : Int32) (n : Nat) (f : Nat → α) : α := if 0 ≤ i.toInt ∧ i.toInt < n then f i.toNatClampNeg else b
def qL {α : Type} (b : α) (i : Int32) (f : Nat → α) : α := if 0 ≤ i.toInt ∧ i.toInt < 1024 then f i.toNatClampNeg else b
def qR {α : Type} (b : α) (t : Nat) (o : Option R_) (f : Nat → Nat → α) : α := match o with
  | some r => bif Nat.beq r.1 t then f r.2.1 r.2.2 else b
  | none => b
def qP {α : Type} (b : α) (ts : List Nat) (o : Option R_) (f : R_ → α) : α := match o with
  | some r => bif ts.any (Nat.beq r.1) then f r else b
  | none => b
def qA {α : Type} (b : α) (o : Option R_) (f : R_ → α) : α := match o with
  | some r => f r
  | none => b
def qN {α : Type} (o : Option R_) (a : α) (f : R_ → α) : α := match o with
  | some r => f r
  | none => a
/-- an array of a kind -/
def qK {α : Type} (b : α) (p : Nat → Bool) (o : Option R_) (f : R_ → α) : α := match o with
  | some r => bif p (ak_ r.1) then f r else b
  | none => b
/-- the callee by the receiver's tag -/
def qS {α : Type} (b : α) (l : List (Nat × Nat)) (t : Nat) (f : Nat → α) : α := match lk_ l t with
  | some j => f j
  | none => b
def rV {α : Type} (b : α) (z : Z_) (th : R_ → G_ → α) (k : G_ → α) : α := match z with
  | (.inl none, g) => k g
  | (.inr q, g) => th q g
  | _ => b
def rI {α : Type} (b : α) (z : Z_) (th : R_ → G_ → α) (k : Int32 → G_ → α) : α := match z with
  | (.inl (some (.inl x)), g) => k x g
  | (.inr q, g) => th q g
  | _ => b
def rJ {α : Type} (b : α) (z : Z_) (th : R_ → G_ → α) (k : Int64 → G_ → α) : α := match z with
  | (.inl (some (.inr (.inl x))), g) => k x g
  | (.inr q, g) => th q g
  | _ => b
def rO {α : Type} (b : α) (z : Z_) (th : R_ → G_ → α) (k : Option R_ → G_ → α) : α := match z with
  | (.inl (some (.inr (.inr x))), g) => k x g
  | (.inr q, g) => th q g
  | _ => b
/-! locals -/
def mk_ : List Bool → Lo_ → Lo_
  | [], _ => []
  | _ :: _, [] => []
  | b :: m, x :: l => (bif b then x else none) :: mk_ m l
def at_ (L : Lo_) (k : Nat) : Option V_ := match L[k]? with
  | some o => o
  | none => none
def isJ_ (o : Option V_) : Bool := match o with
  | some (.inr (.inl _)) => true
  | _ => false
def st_ (L : Lo_) (k : Nat) (v : V_) : Lo_ := match k with
  | 0 => L.set 0 (some v)
  | i + 1 => (bif isJ_ (at_ L i) then L.set i none else L).set (i + 1) (some v)
def lay_ : List V_ → Lo_
  | [] => []
  | .inr (.inl y) :: t => some (.inr (.inl y)) :: none :: lay_ t
  | .inr (.inr y) :: t => some (.inr (.inr y)) :: lay_ t
  | .inl y :: t => some (.inl y) :: lay_ t
def en_ (n : Nat) (as : List V_) : Lo_ := lay_ as ++ List.replicate (n - (lay_ as).length) none
/-- go on at pc; at a cut the dead locals are forgotten -/
def kJ (d j pc : Nat) (L : Lo_) (st : List V_) (g : G_) : K_ := match ct_ j pc with
  | some m => kG (d, j, pc, mk_ m L, st, g)
  | none => kG (d, j, pc, L, st, g)
def tg_ (pc : Nat) (o : Int) : Nat := ((pc : Int) + o).toNat
/-- where a thrown q goes -/
def hn_ (d j pc : Nat) (L : Lo_) (q : R_) (g : G_) : List (Nat × Nat × Nat × List Nat × List Nat) → K_
  | [] => kF (.inr q, g)
  | h :: t => bif Nat.ble h.1 pc && Nat.blt pc h.2.1 then kN (h.2.2.2.1.any (Nat.beq q.1)) (kJ d j h.2.2.1 L [vR q] g) (kN (h.2.2.2.2.any (Nat.beq q.1)) (hn_ d j pc L q g t) kB) else hn_ d j pc L q g t
def sw_ (f : Int → K_) (x : Int32) (dflt : Int) : Int → List Int → K_
  | _, [] => f dflt
  | i, o :: t => kW (x = Int32.ofInt i) (f o) (sw_ f x dflt (i + 1) t)
def sl_ (f : Int → K_) (x : Int32) (dflt : Int) : List (Int × Int) → K_
  | [] => f dflt
  | o :: t => kW (x = Int32.ofInt o.1) (f o.2) (sl_ f x dflt t)
/-- what came back from a callee; rt: 0 nothing, 1 int, 2 long, 3 a reference or null, 10 + t a reference of tag t -/
def rz_ (d j pc : Nat) (L : Lo_) (st : List V_) (rt : Nat) (z : Z_) : K_ := match rt with
  | 0 => fun α b g f c => rV b z (fun q h => hn_ d j pc L q h (hs_ j) α b g f c) (fun h => kJ d j (pc + 3) L st h α b g f c)
  | 1 => fun α b g f c => rI b z (fun q h => hn_ d j pc L q h (hs_ j) α b g f c) (fun x h => kJ d j (pc + 3) L (vI x :: st) h α b g f c)
  | 2 => fun α b g f c => rJ b z (fun q h => hn_ d j pc L q h (hs_ j) α b g f c) (fun x h => kJ d j (pc + 3) L (vJ x :: st) h α b g f c)
  | 3 => fun α b g f c => rO b z (fun q h => hn_ d j pc L q h (hs_ j) α b g f c) (fun x h => kJ d j (pc + 3) L (vO x :: st) h α b g f c)
  | t + 4 => fun α b g f c => rO b z (fun q h => hn_ d j pc L q h (hs_ j) α b g f c) (fun x h => qR b (t - 6) x (fun n s => kJ d j (pc + 3) L (vR (t - 6, n, s) :: st) h α b g f c))
/-- the words that a stack takes -/
def sz_ : List V_ → Nat
  | [] => 0
  | .inr (.inl _) :: t => sz_ t + 2
  | .inr (.inr _) :: t => sz_ t + 1
  | .inl _ :: t => sz_ t + 1
def ca_ (d j pc : Nat) (L : Lo_) (st : List V_) (g : G_) (rt rc j2 : Nat) (as : List V_) : K_ := kN (Nat.ble (sz_ st) 8 && Nat.ble (sz_ as) (ml_ j2)) (match rc with
  | 0 => kC (d, j2, 0, en_ (ml_ j2) as, [], g) (rz_ d j pc L st rt)
  | _ + 1 => (match d with
    | 0 => kB
    | d2 + 1 => kC (d2, j2, 0, en_ (ml_ j2) as, [], g) (rz_ (d2 + 1) j pc L st rt))) kB
/-- the tags of objects that are made -/
def objT : List Nat := [1, 2, 3, 4, 5, 6, 7, 8, 9, 10, 11, 12, 13, 14, 15, 16, 17, 1000]
/-- is a call recursive? -/
def rf_ (j idx : Nat) : Nat := match as_ j (100000 + idx) with
  | some _ => 1
  | none => 0
def iv_ (d j pc : Nat) (L : Lo_) (st : List V_) (g : G_) (idx : Nat) : K_ := match lk2_ csT (ky_ j idx) with
  | none => kB
  | some (kind, na, rt, _, sel) => (match kind, sel, st.drop na with
    | 0, e :: _, r => kN (Nat.ble na st.length) (ca_ d j pc L r g rt (rf_ j idx) e.2 (st.take na).reverse) kB
    | 1, e :: _, .inr (.inr o) :: r => fun α b g2 f c => qR b e.1 o (fun n s => ca_ d j pc L r g rt (rf_ j idx) e.2 (vR (e.1, n, s) :: (st.take na).reverse) α b g2 f c)
    | 2, sl, .inr (.inr o) :: r => fun α b g2 f c => qA b o (fun q => qS b sl q.1 (fun j2 => ca_ d j pc L r g rt (rf_ j idx) j2 (vR q :: (st.take na).reverse) α b g2 f c))
    | 4, e :: _, .inr (.inr o) :: r => fun α b g2 f c => qR b e.1 o (fun n s => ca_ d j pc L r g rt (rf_ j idx) e.2 (vR (e.1, n, s) :: (st.take na).reverse) α b g2 f c)
    | 3, e :: _, .inr (.inr o) :: r => fun α b g2 f c => qP b objT o (fun q => ca_ d j pc L r g rt (rf_ j idx) e.2 (vR q :: (st.take na).reverse) α b g2 f c)
    | _, _, _ => kB)
/-- the object that a field is read off or written to -/
def rc_ {α : Type} (b : α) (ts : List Nat) (o : Option R_) (f : R_ → α) : α := match ts with
  | [t] => qR b t o (fun n s => f (t, n, s))
  | _ => qP b ts o f
def gf_ (d j pc : Nat) (L : Lo_) (st : List V_) (g : G_) (idx : Nat) : K_ := match lk2_ fiT (ky_ j idx), st with
  | some (ts, k, ft), .inr (.inr o) :: r => (match ft with
    | 0 => fun α b g2 f c => rc_ b ts o (fun q => kJ d j (pc + 3) L (vI (hI g q k) :: r) g α b g2 f c)
    | 1 => fun α b g2 f c => rc_ b ts o (fun q => kJ d j (pc + 3) L (vI (hI g q k) :: r) g α b g2 f c)
    | 2 => fun α b g2 f c => rc_ b ts o (fun q => kJ d j (pc + 3) L (vJ (hJ g q k) :: r) g α b g2 f c)
    | 3 => fun α b g2 f c => rc_ b ts o (fun q => kJ d j (pc + 3) L (vO (hP g q k) :: r) g α b g2 f c)
    | t + 4 => fun α b g2 f c => rc_ b ts o (fun q => qR b (t - 6) (hP g q k) (fun n s => kJ d j (pc + 3) L (vR (t - 6, n, s) :: r) g α b g2 f c)))
  | _, _ => kB
/-- the two outer references of a Lawful have one name: one is written only with what the other holds, if it holds any -/
def lf_ (ts : List Nat) (g : G_) (q : R_) (k : Nat) (x : Option R_) : Bool := match ts with
  | [4] => decide (hP g q (1 - k) = none) || decide (hP g q (1 - k) = x)
  | _ => true
def pf_ (d j pc : Nat) (L : Lo_) (st : List V_) (g : G_) (idx : Nat) : K_ := match lk2_ fiT (ky_ j idx) with
  | none => kB
  | some (ts, k, ft) => (match ft, st with
    | 0, .inl x :: .inr (.inr o) :: r => fun α b g2 f c => rc_ b ts o (fun q => kJ d j (pc + 3) L r (wI g q k x) α b g2 f c)
    | 1, .inl x :: .inr (.inr o) :: r => fun α b g2 f c => rc_ b ts o (fun q => kW (x &&& 1 = x) (kJ d j (pc + 3) L r (wI g q k x)) kB α b g2 f c)
    | 2, .inr (.inl x) :: .inr (.inr o) :: r => fun α b g2 f c => rc_ b ts o (fun q => kJ d j (pc + 3) L r (wJ g q k x) α b g2 f c)
    | _ + 3, .inr (.inr x) :: .inr (.inr o) :: r => fun α b g2 f c => rc_ b ts o (fun q => kN (lf_ ts g q k x) (kJ d j (pc + 3) L r (wP g q k x)) kB α b g2 f c)
    | _, _ => kB)
def ng_ (c : Nat) (x : Int32) : Int32 := match c with
  | 0 => x
  | 1 => x &&& 1
  | 2 => x.toInt8.toInt32
  | _ => (x.toUInt32 % 65536).toInt32
def cm_ (c : Jvm.ClassFile.Cond) (x y : Int32) (t n : K_) : K_ := match c with
  | .eq => kW (x = y) t n
  | .ne => kW (x = y) n t
  | .lt => kW (x < y) t n
  | .ge => kW (x < y) n t
  | .gt => kW (y < x) t n
  | .le => kW (y < x) n t
def op_ (d j pc : Nat) (L : Lo_) (st : List V_) (g : G_) (ins : Instr) (len : Nat) : K_ := match ins with
  | .iconst i => kJ d j (pc + len) L (vI (Int32.ofInt i) :: st) g
  | .bipush i => kJ d j (pc + len) L (vI (Int8.ofInt i).toInt32 :: st) g
  | .sipush i => kJ d j (pc + len) L (vI (Int16.ofInt i).toInt32 :: st) g
  | .lconst i => kJ d j (pc + len) L (vJ (Int64.ofNat i) :: st) g
  | .aconst_null => kJ d j (pc + len) L (vO none :: st) g
  | .ldc i => (match lk2_ ldT (ky_ j i) with
    | some v => kJ d j (pc + len) L (v :: st) g
    | none => kB)
  | .ldc_w i => (match lk2_ ldT (ky_ j i) with
    | some v => kJ d j (pc + len) L (v :: st) g
    | none => kB)
  | .ldc2_w i => (match lk2_ ldT (ky_ j i) with
    | some v => kJ d j (pc + len) L (v :: st) g
    | none => kB)
  | .getstatic i => (match lk2_ gsT (ky_ j i) with
    | some v => kJ d j (pc + len) L (v :: st) g
    | none => kB)
  | .iload k => (match at_ L k with
    | some (.inl x) => kJ d j (pc + len) L (vI x :: st) g
    | _ => kB)
  | .iload_n k => (match at_ L k with
    | some (.inl x) => kJ d j (pc + len) L (vI x :: st) g
    | _ => kB)
  | .lload k => (match at_ L k with
    | some (.inr (.inl x)) => kJ d j (pc + len) L (vJ x :: st) g
    | _ => kB)
  | .lload_n k => (match at_ L k with
    | some (.inr (.inl x)) => kJ d j (pc + len) L (vJ x :: st) g
    | _ => kB)
  | .aload k => (match at_ L k with
    | some (.inr (.inr x)) => kJ d j (pc + len) L (vO x :: st) g
    | _ => kB)
  | .aload_n k => (match at_ L k with
    | some (.inr (.inr x)) => kJ d j (pc + len) L (vO x :: st) g
    | _ => kB)
  | .istore k => (match st with
    | .inl x :: r => kJ d j (pc + len) (st_ L k (vI x)) r g
    | _ => kB)
  | .istore_n k => (match st with
    | .inl x :: r => kJ d j (pc + len) (st_ L k (vI x)) r g
    | _ => kB)
  | .lstore k => (match st with
    | .inr (.inl x) :: r => kJ d j (pc + len) ((st_ L k (vJ x)).set (k + 1) none) r g
    | _ => kB)
  | .lstore_n k => (match st with
    | .inr (.inl x) :: r => kJ d j (pc + len) ((st_ L k (vJ x)).set (k + 1) none) r g
    | _ => kB)
  | .astore k => (match st with
    | .inr (.inr x) :: r => kJ d j (pc + len) (st_ L k (vO x)) r g
    | _ => kB)
  | .astore_n k => (match st with
    | .inr (.inr x) :: r => kJ d j (pc + len) (st_ L k (vO x)) r g
    | _ => kB)
  | .iinc k i => (match at_ L k with
    | some (.inl x) => kJ d j (pc + len) (L.set k (some (vI (x + Int32.ofInt i)))) st g
    | _ => kB)
  | .iadd => (match st with
    | .inl y :: .inl x :: r => kJ d j (pc + len) L (vI (x + y) :: r) g
    | _ => kB)
  | .isub => (match st with
    | .inl y :: .inl x :: r => kJ d j (pc + len) L (vI (x - y) :: r) g
    | _ => kB)
  | .imul => (match st with
    | .inl y :: .inl x :: r => kJ d j (pc + len) L (vI (x * y) :: r) g
    | _ => kB)
  | .idiv => (match st with
    | .inl y :: .inl x :: r => kW (y = 0) kB (kJ d j (pc + len) L (vI (x / y) :: r) g)
    | _ => kB)
  | .irem => (match st with
    | .inl y :: .inl x :: r => kW (y = 0) kB (kJ d j (pc + len) L (vI (x - x / y * y) :: r) g)
    | _ => kB)
  | .ineg => (match st with
    | .inl x :: r => kJ d j (pc + len) L (vI (-x) :: r) g
    | _ => kB)
  | .iand => (match st with
    | .inl y :: .inl x :: r => kJ d j (pc + len) L (vI (x &&& y) :: r) g
    | _ => kB)
  | .ior => (match st with
    | .inl y :: .inl x :: r => kJ d j (pc + len) L (vI (x ||| y) :: r) g
    | _ => kB)
  | .ishl => (match st with
    | .inl y :: .inl x :: r => kJ d j (pc + len) L (vI (x <<< (y &&& 31)) :: r) g
    | _ => kB)
  | .ishr => (match st with
    | .inl y :: .inl x :: r => kJ d j (pc + len) L (vI (x >>> (y &&& 31)) :: r) g
    | _ => kB)
  | .ladd => (match st with
    | .inr (.inl y) :: .inr (.inl x) :: r => kJ d j (pc + len) L (vJ (x + y) :: r) g
    | _ => kB)
  | .lsub => (match st with
    | .inr (.inl y) :: .inr (.inl x) :: r => kJ d j (pc + len) L (vJ (x - y) :: r) g
    | _ => kB)
  | .lmul => (match st with
    | .inr (.inl y) :: .inr (.inl x) :: r => kJ d j (pc + len) L (vJ (x * y) :: r) g
    | _ => kB)
  | .land => (match st with
    | .inr (.inl y) :: .inr (.inl x) :: r => kJ d j (pc + len) L (vJ (x &&& y) :: r) g
    | _ => kB)
  | .ldiv => (match st with
    | .inr (.inl y) :: .inr (.inl x) :: r => kW (y = 0) kB (kJ d j (pc + len) L (vJ (x / y) :: r) g)
    | _ => kB)
  | .lrem => (match st with
    | .inr (.inl y) :: .inr (.inl x) :: r => kW (y = 0) kB (kJ d j (pc + len) L (vJ (x - x / y * y) :: r) g)
    | _ => kB)
  | .lneg => (match st with
    | .inr (.inl x) :: r => kJ d j (pc + len) L (vJ (-x) :: r) g
    | _ => kB)
  | .lcmp => (match st with
    | .inr (.inl y) :: .inr (.inl x) :: r => kJ d j (pc + len) L (vI (lg_cmp x y) :: r) g
    | _ => kB)
  | .i2l => (match st with
    | .inl x :: r => kJ d j (pc + len) L (vJ x.toInt64 :: r) g
    | _ => kB)
  | .l2i => (match st with
    | .inr (.inl x) :: r => kJ d j (pc + len) L (vI x.toInt32 :: r) g
    | _ => kB)
  | .i2b => (match st with
    | .inl x :: r => kJ d j (pc + len) L (vI x.toInt8.toInt32 :: r) g
    | _ => kB)
  | .i2c => (match st with
    | .inl x :: r => kJ d j (pc + len) L (vI (x.toUInt32 % 65536).toInt32 :: r) g
    | _ => kB)
  | .dup => (match st with
    | .inl x :: r => kJ d j (pc + len) L (vI x :: vI x :: r) g
    | .inr (.inr x) :: r => kJ d j (pc + len) L (vO x :: vO x :: r) g
    | _ => kB)
  | .dup_x1 => (match st with
    | .inl x :: .inr (.inr y) :: r => kJ d j (pc + len) L (vI x :: vO y :: vI x :: r) g
    | _ => kB)
  | .dup2 => (match st with
    | .inl x :: .inr (.inr y) :: r => kJ d j (pc + len) L (vI x :: vO y :: vI x :: vO y :: r) g
    | _ => kB)
  | .pop => (match st with
    | .inl _ :: r => kJ d j (pc + len) L r g
    | .inr (.inr _) :: r => kJ d j (pc + len) L r g
    | _ => kB)
  | .goto o => kJ d j (tg_ pc o) L st g
  | .if_icmp c o => (match st with
    | .inl y :: .inl x :: r => cm_ c x y (kJ d j (tg_ pc o) L r g) (kJ d j (pc + len) L r g)
    | _ => kB)
  | .ifCond c o => (match st with
    | .inl x :: r => cm_ c x 0 (kJ d j (tg_ pc o) L r g) (kJ d j (pc + len) L r g)
    | _ => kB)
  | .ifnull o => (match st with
    | .inr (.inr x) :: r => fun α b g2 f c => qN x (kJ d j (tg_ pc o) L r g α b g2 f c) (fun q => kN (objT.any (Nat.beq q.1)) (kJ d j (pc + len) L r g) kB α b g2 f c)
    | _ => kB)
  | .ifnonnull o => (match st with
    | .inr (.inr x) :: r => fun α b g2 f c => qN x (kJ d j (pc + len) L r g α b g2 f c) (fun q => kN (objT.any (Nat.beq q.1)) (kJ d j (tg_ pc o) L r g) kB α b g2 f c)
    | _ => kB)
  | .tableswitch df lo _ offs => (match st with
    | .inl x :: r => sw_ (fun o => kJ d j (tg_ pc o) L r g) x df lo offs.toList
    | _ => kB)
  | .lookupswitch df ps => (match st with
    | .inl x :: r => sl_ (fun o => kJ d j (tg_ pc o) L r g) x df ps.toList
    | _ => kB)
  | .new i => (match lk2_ nwT (ky_ j i) with
    | some (t, w, 0) => kN (Nat.blt t 100 || Nat.beq g.1.1 0) (kJ d j (pc + len) L (vR (t, 0, bif Nat.blt t 100 then g.2.1 else 0) :: st) (nwG g t 0 w)) kB
    | some (t, w, _ + 1) => (match st with
      | [] => kF (.inr (t, 0, g.2.1), (g.1, (g.2.1 + w, g.2.2)))
      | _ => kB)
    | none => kB)
  | .newarray _ => (match as_ j pc, st with
    | some t, .inl x :: r => fun α b g2 f c => qL b x (fun n => kN (Nat.blt t 100 || Nat.beq t (1000 + g.1.1)) (kJ d j (pc + len) L (vR (t, n, bif Nat.blt t 100 then g.2.1 else 0) :: r) (nwG g t n (1 + n / 24))) kB α b g2 f c)
    | _, _ => kB)
  | .anewarray _ => (match as_ j pc, st with
    | some t, .inl x :: r => fun α b g2 f c => qL b x (fun n => kN (Nat.blt t 100) (kJ d j (pc + len) L (vR (t, n, g.2.1) :: r) (nwG g t n (1 + n / 24))) kB α b g2 f c)
    | _, _ => kB)
  | .arraylength => (match st with
    | .inr (.inr o) :: r => fun α b g2 f c => qK b (fun k => Nat.blt 0 k) o (fun q => kJ d j (pc + len) L (vI (nI q.2.1) :: r) g α b g2 f c)
    | _ => kB)
  | .iaload => (match st with
    | .inl i :: .inr (.inr o) :: r => fun α b g2 f c => qK b (fun k => Nat.beq 1 k || Nat.beq 11 k) o (fun q => qX b i q.2.1 (fun p => kJ d j (pc + len) L (vI (hI g q p) :: r) g α b g2 f c))
    | _ => kB)
  | .baload => (match st with
    | .inl i :: .inr (.inr o) :: r => fun α b g2 f c => qK b (fun k => Nat.beq 2 k || (Nat.beq 3 k || Nat.beq 13 k)) o (fun q => qX b i q.2.1 (fun p => kJ d j (pc + len) L (vI (hI g q p) :: r) g α b g2 f c))
    | _ => kB)
  | .laload => (match st with
    | .inl i :: .inr (.inr o) :: r => fun α b g2 f c => qK b (Nat.beq 4) o (fun q => qX b i q.2.1 (fun p => kJ d j (pc + len) L (vJ (hJ g q p) :: r) g α b g2 f c))
    | _ => kB)
  | .aaload => (match st with
    | .inl i :: .inr (.inr o) :: r => fun α b g2 f c => qK b (fun k => Nat.beq 5 k || Nat.beq 15 k) o (fun q => qX b i q.2.1 (fun p => kJ d j (pc + len) L (vO (hP g q p) :: r) g α b g2 f c))
    | _ => kB)
  | .iastore => (match st with
    | .inl x :: .inl i :: .inr (.inr o) :: r => fun α b g2 f c => qK b (Nat.beq 1) o (fun q => qX b i q.2.1 (fun p => kJ d j (pc + len) L r (wI g q p x) α b g2 f c))
    | _ => kB)
  | .bastore => (match st with
    | .inl x :: .inl i :: .inr (.inr o) :: r => fun α b g2 f c => qK b (fun k => Nat.beq 2 k || Nat.beq 3 k) o (fun q => qX b i q.2.1 (fun p => kJ d j (pc + len) L r (wI g q p (bif Nat.beq (ak_ q.1) 2 then x &&& 1 else x.toInt8.toInt32)) α b g2 f c))
    | _ => kB)
  | .lastore => (match st with
    | .inr (.inl x) :: .inl i :: .inr (.inr o) :: r => fun α b g2 f c => qK b (Nat.beq 4) o (fun q => qX b i q.2.1 (fun p => kJ d j (pc + len) L r (wJ g q p x) α b g2 f c))
    | _ => kB)
  | .aastore => (match st with
    | .inr (.inr x) :: .inl i :: .inr (.inr o) :: r => fun α b g2 f c => qK b (Nat.beq 5) o (fun q => qX b i q.2.1 (fun p => qN x (kJ d j (pc + len) L r (wP g q p none) α b g2 f c) (fun v => kN (match lk_ aeT q.1 with
        | some ts => ts.any (Nat.beq v.1)
        | none => false) (kJ d j (pc + len) L r (wP g q p (some v))) kB α b g2 f c)))
    | _ => kB)
  | .getfield i => gf_ d j pc L st g i
  | .putfield i => pf_ d j pc L st g i
  | .checkcast i => (match lk2_ ckT (ky_ j i), st with
    | some ts, .inr (.inr o) :: r => fun α b g2 f c => rc_ b ts o (fun q => kJ d j (pc + len) L (vR q :: r) g α b g2 f c)
    | _, _ => kB)
  | .invokestatic i => iv_ d j pc L st g i
  | .invokespecial i => iv_ d j pc L st g i
  | .invokevirtual i => iv_ d j pc L st g i
  | .ireturn => (match st with
    | [.inl x] => (match rg_ j with
      | 0 => kF (.inl (some (vI x)), g)
      | c + 1 => kW (ng_ (c + 1) x = x) (kF (.inl (some (vI x)), g)) kB)
    | _ => kB)
  | .lreturn => (match st with
    | [.inr (.inl x)] => kF (.inl (some (vJ x)), g)
    | _ => kB)
  | .areturn => (match st with
    | [.inr (.inr x)] => kF (.inl (some (vO x)), g)
    | _ => kB)
  | .return_ => (match st with
    | [] => kF (.inl none, g)
    | _ => kB)
  | .athrow => (match st with
    | .inr (.inr o) :: _ => fun α b g2 f c => qP b [6, 104] o (fun q => hn_ d j pc L q g (hs_ j) α b g2 f c)
    | _ => kB)
  | _ => kB
/-- one step -/
def F_ : S_ → K_
  | (d, j, pc, L, st, g) => (match fe_ j pc with
    | some (ins, len) => op_ d j pc L st g ins len
    | none => kB)
def ex_ : Nat → S_ → Option Z_
  | 0, _ => none
  | n + 1, s => F_ s (Option Z_) none (ex_ n) some (fun s1 k => (ex_ n s1).bind k)
