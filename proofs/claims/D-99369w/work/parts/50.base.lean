/-! THE BASE of the pure parts: small ints, stores, loops -/
abbrev FI_ : Type := Nat → Nat → Int32
abbrev FJ_ : Type := Nat → Nat → Int64
abbrev RI_ : Type := R_ → Nat → Int32
abbrev RJ_ : Type := R_ → Nat → Int64
abbrev RP_ : Type := R_ → Nat → Option R_
theorem nL_mul (n b : Nat) : (no_index (OfNat.ofNat n) : Int32) * nI b = nI (OfNat.ofNat n * b) := pk_mul n b
theorem nR_mul (n b : Nat) : nI b * (no_index (OfNat.ofNat n) : Int32) = nI (b * OfNat.ofNat n) := pk_mul b n
theorem nL_add (n b : Nat) : (no_index (OfNat.ofNat n) : Int32) + nI b = nI (OfNat.ofNat n + b) := nI_add n b
theorem nR_add (n b : Nat) : nI b + (no_index (OfNat.ofNat n) : Int32) = nI (b + OfNat.ofNat n) := nI_add b n
theorem nL_sub {n b : Nat} (h : b ≤ (OfNat.ofNat n : Nat)) : (no_index (OfNat.ofNat n) : Int32) - nI b = nI (OfNat.ofNat n - b) := pk_sub h
theorem nR_sub {n b : Nat} (h : (OfNat.ofNat n : Nat) ≤ b) : nI b - (no_index (OfNat.ofNat n) : Int32) = nI (b - OfNat.ofNat n) := pk_sub h
theorem nL_lt {n b : Nat} (h1 : (OfNat.ofNat n : Nat) < 2147483648) (h2 : b < 2147483648) : ((no_index (OfNat.ofNat n) : Int32) < nI b) = (OfNat.ofNat n < b) := propext (nI_ltI h1 h2)
theorem nR_lt {n b : Nat} (h1 : (OfNat.ofNat n : Nat) < 2147483648) (h2 : b < 2147483648) : (nI b < (no_index (OfNat.ofNat n) : Int32)) = (b < OfNat.ofNat n) := propext (nI_ltI h2 h1)
theorem nL_eq {n b : Nat} (h1 : (OfNat.ofNat n : Nat) < 2147483648) (h2 : b < 2147483648) : ((no_index (OfNat.ofNat n) : Int32) = nI b) = (OfNat.ofNat n = b) := propext (nI_eq h1 h2)
theorem nR_eq {n b : Nat} (h1 : (OfNat.ofNat n : Nat) < 2147483648) (h2 : b < 2147483648) : (nI b = (no_index (OfNat.ofNat n) : Int32)) = (b = OfNat.ofNat n) := propext (nI_eq h2 h1)
theorem nn_lt {a b : Nat} (h1 : a < 2147483648) (h2 : b < 2147483648) : (nI a < nI b) = (a < b) := propext (nI_ltI h1 h2)
theorem nn_eq {a b : Nat} (h1 : a < 2147483648) (h2 : b < 2147483648) : (nI a = nI b) = (a = b) := propext (nI_eq h1 h2)
theorem nn_sub {a b : Nat} (h : b ≤ a) : nI a - nI b = nI (a - b) := pk_sub h
theorem nI_neq {n : Nat} (h : n < 2147483648) : (nI n = -1) = False := by
  apply propext
  refine ⟨fun e => ?_, False.elim⟩
  have h1 := nI_toInt (n := n) (by omega)
  rw [e] at h1
  have : (-1 : Int32).toInt = -1 := by decide
  omega
theorem nI_lt0 {n : Nat} (h : n < 2147483648) : (nI n < 0) = False := propext ⟨fun e => nI_pos (by omega) e, False.elim⟩
theorem qX_ix {α : Type} (b : α) {i n : Nat} (f : Nat → α) (h : i < n) (hn : n < 2147483648) : qX b (nI i) n f = f i := qX_ok b f h hn
theorem qX_li {α : Type} (b : α) {i n : Nat} (f : Nat → α) (h : (OfNat.ofNat i : Nat) < n) (hn : n < 2147483648) : qX b (no_index (OfNat.ofNat i) : Int32) n f = f (OfNat.ofNat i) := qX_ok b f h hn
theorem ng1_0 : (ng_ 1 0 = 0) = True := eq_true rfl
theorem ng1_1 : (ng_ 1 1 = 1) = True := eq_true rfl
theorem an_0 : ((0 : Int32) &&& 1 = 0) = True := eq_true rfl
theorem an_1 : ((1 : Int32) &&& 1 = 1) = True := eq_true rfl
theorem i1_0 : ((1 : Int32) = 0) = False := eq_false (by decide)
theorem i0_0 : ((0 : Int32) = 0) = True := eq_true rfl
theorem ite_T {α : Sort _} {p : Prop} [Decidable p] (h : p) (a b : α) : (if p then a else b) = a := if_pos h
theorem ite_F {α : Sort _} {p : Prop} [Decidable p] (h : ¬ p) (a b : α) : (if p then a else b) = b := if_neg h
/-! stores -/
theorem u2_s {α β : Type} [DecidableEq α] (f : α → Nat → β) (a : α) (k : Nat) (x : β) : u2 f a k x a k = x := if_pos ⟨rfl, rfl⟩
theorem u2_k {α β : Type} [DecidableEq α] (f : α → Nat → β) (a a' : α) {k k' : Nat} (x : β) (h : k' ≠ k) : u2 f a k x a' k' = f a' k' := if_neg fun e => h e.2
theorem u2_t {β : Type} (f : Nat → Nat → β) {a a' : Nat} (k k' : Nat) (x : β) (h : a' ≠ a) : u2 f a k x a' k' = f a' k' := if_neg fun e => h e.1
theorem u2_e {α β : Type} [DecidableEq α] (f : α → Nat → β) (a a' : α) (k k' : Nat) (x : β) (h : a' = a) (h2 : k' = k) : u2 f a k x a' k' = x := if_pos ⟨h, h2⟩
theorem u2_r {β : Type} (f : R_ → Nat → β) {t n s t' n' s' : Nat} (k k' : Nat) (x : β) (h : t' ≠ t ∨ s' ≠ s) : u2 f (t, n, s) k x (t', n', s') k' = f (t', n', s') k' := if_neg fun e => by
  have h1 : t' = t := congrArg (·.1) e.1
  have h2 : s' = s := congrArg (·.2.2) e.1
  omega
theorem z1_s {α β : Type} [DecidableEq α] (f : α → Nat → β) (a : α) (k : Nat) (x : β) : z1 f a x a k = x := if_pos rfl
theorem z1_r {β : Type} (f : R_ → Nat → β) {t n s t' n' s' : Nat} (k : Nat) (x : β) (h : t' ≠ t ∨ s' ≠ s) : z1 f (t, n, s) x (t', n', s') k = f (t', n', s') k := if_neg fun e => by
  have h1 : t' = t := congrArg (·.1) e
  have h2 : s' = s := congrArg (·.2.2) e
  omega
theorem u2_ap {α β : Type} [DecidableEq α] (f : α → Nat → β) (a a' : α) (k k' : Nat) (x : β) : u2 f a k x a' k' = if a' = a ∧ k' = k then x else f a' k' := rfl
/-- a function changed at one place -/
def fu {α : Type} (f : Nat → α) (i : Nat) (x : α) : Nat → α := fun k => if k = i then x else f k
theorem fu_s {α : Type} (f : Nat → α) (i : Nat) (x : α) : fu f i x i = x := if_pos rfl
theorem fu_n {α : Type} (f : Nat → α) {i k : Nat} (x : α) (h : k ≠ i) : fu f i x k = f k := if_neg h
theorem fu_ap {α : Type} (f : Nat → α) (i k : Nat) (x : α) : fu f i x k = if k = i then x else f k := rfl
/-! the component's heap, laid open -/
def cg (T : T_) (n : Nat) (I : RI_) (J : RJ_) (P : RP_) : G_ := (T, (n, I, J, P))
theorem cg_n (T : T_) (n : Nat) (I : RI_) (J : RJ_) (P : RP_) : (cg T n I J P).2.1 = n := rfl
theorem hI_cg (T : T_) (n : Nat) (I : RI_) (J : RJ_) (P : RP_) {t : Nat} (a b k : Nat) (h : t < 100) : hI (cg T n I J P) (t, a, b) k = I (t, a, b) k := by
  have e : Nat.blt t 100 = true := by rw [Nat.blt_eq]; exact h
  show (bif Nat.blt t 100 then _ else _) = _
  rw [e]; rfl
theorem hJ_cg (T : T_) (n : Nat) (I : RI_) (J : RJ_) (P : RP_) {t : Nat} (a b k : Nat) (h : t < 100) : hJ (cg T n I J P) (t, a, b) k = J (t, a, b) k := by
  have e : Nat.blt t 100 = true := by rw [Nat.blt_eq]; exact h
  show (bif Nat.blt t 100 then _ else _) = _
  rw [e]; rfl
theorem hP_cg (T : T_) (n : Nat) (I : RI_) (J : RJ_) (P : RP_) {t : Nat} (a b k : Nat) (h : t < 100) : hP (cg T n I J P) (t, a, b) k = P (t, a, b) k := by
  have e : Nat.blt t 100 = true := by rw [Nat.blt_eq]; exact h
  show (bif Nat.blt t 100 then _ else _) = _
  rw [e]; rfl
theorem wI_cg (T : T_) (n : Nat) (I : RI_) (J : RJ_) (P : RP_) {t : Nat} (a b k : Nat) (x : Int32) (h : t < 100) : wI (cg T n I J P) (t, a, b) k x = cg T n (u2 I (t, a, b) k x) J P := by
  have e : Nat.blt t 100 = true := by rw [Nat.blt_eq]; exact h
  show (bif Nat.blt t 100 then _ else _) = _
  rw [e]; rfl
theorem wJ_cg (T : T_) (n : Nat) (I : RI_) (J : RJ_) (P : RP_) {t : Nat} (a b k : Nat) (x : Int64) (h : t < 100) : wJ (cg T n I J P) (t, a, b) k x = cg T n I (u2 J (t, a, b) k x) P := by
  have e : Nat.blt t 100 = true := by rw [Nat.blt_eq]; exact h
  show (bif Nat.blt t 100 then _ else _) = _
  rw [e]; rfl
theorem wP_cg (T : T_) (n : Nat) (I : RI_) (J : RJ_) (P : RP_) {t : Nat} (a b k : Nat) (x : Option R_) (h : t < 100) : wP (cg T n I J P) (t, a, b) k x = cg T n I J (u2 P (t, a, b) k x) := by
  have e : Nat.blt t 100 = true := by rw [Nat.blt_eq]; exact h
  show (bif Nat.blt t 100 then _ else _) = _
  rw [e]; rfl
theorem nw_cg (T : T_) (n : Nat) (I : RI_) (J : RJ_) (P : RP_) {t : Nat} (m w : Nat) (h : t < 100) : nwG (cg T n I J P) t m w = cg T (n + w) (z1 I (t, m, n) 0) (z1 J (t, m, n) 0) (z1 P (t, m, n) none) := by
  have e : Nat.blt t 100 = true := by rw [Nat.blt_eq]; exact h
  show (bif Nat.blt t 100 then _ else _) = _
  rw [e]; rfl
/-! loops -/
def itr {α : Type} (F : Nat → α → α) : Nat → α → α
  | 0, a => a
  | n + 1, a => F n (itr F n a)
/-- a counting loop over states -/
theorem lp {α β : Type} (H : Nat → α → β) (X : α → β) (Inv : Nat → α → Prop) (N : Nat)
    (hs : ∀ k a, k < N → Inv k a → ∃ a', H k a = H (k + 1) a' ∧ Inv (k + 1) a') (hx : ∀ a, Inv N a → H N a = X a) : ∀ k a, k ≤ N → Inv k a → ∃ a', H k a = X a' ∧ Inv N a' := by
  have key : ∀ n k a, k + n = N → Inv k a → ∃ a', H k a = X a' ∧ Inv N a' := by
    intro n
    induction n with
    | zero => intro k a h hI; have : k = N := by omega
              subst this; exact ⟨a, hx a hI, hI⟩
    | succ n ih =>
      intro k a h hI
      obtain ⟨a', e, h'⟩ := hs k a (by omega) hI
      obtain ⟨a2, e2, h2⟩ := ih (k + 1) a' (by omega) h'
      exact ⟨a2, e.trans e2, h2⟩
  intro k a hk hI
  exact key (N - k) k a (by omega) hI
/-- a counting loop that computes -/
theorem lpf {α β : Type} (H : Nat → α → β) (X : α → β) (F : Nat → α → α) (N : Nat)
    (hs : ∀ k a, k < N → H k a = H (k + 1) (F k a)) (hx : ∀ a, H N a = X a) (a : α) : H 0 a = X (itr F N a) := by
  obtain ⟨a', e, h⟩ := lp H X (fun k b => b = itr F k a) N (fun k b hk hb => ⟨F k b, hs k b hk, by rw [hb]; rfl⟩) (fun b _ => hx b) 0 a (Nat.zero_le _) rfl
  rw [e, h]
/-- all of n from k on -/
def alb (p : Nat → Bool) : Nat → Nat → Bool
  | _, 0 => true
  | k, n + 1 => p k && alb p (k + 1) n
theorem lpe {β : Type} (H : Nat → β) (X E : β) (p : Nat → Bool) (N : Nat) (hs : ∀ k, k < N → H k = bif p k then H (k + 1) else E) (hx : H N = X) : H 0 = bif alb p 0 N then X else E := by
  have key : ∀ n k, k + n = N → H k = bif alb p k n then X else E := by
    intro n
    induction n with
    | zero => intro k h; have : k = N := by omega
              subst this; exact hx
    | succ n ih =>
      intro k h
      rw [hs k (by omega), ih (k + 1) (by omega)]
      show _ = bif p k && alb p (k + 1) n then X else E
      cases p k <;> rfl
  exact key N 0 (by omega)
theorem alb_iff (p : Nat → Bool) : ∀ n k, alb p k n = true ↔ ∀ j, k ≤ j → j < k + n → p j = true := by
  intro n
  induction n with
  | zero => intro k; exact ⟨fun _ j h1 h2 => by omega, fun _ => rfl⟩
  | succ n ih =>
    intro k
    show (p k && alb p (k + 1) n) = true ↔ _
    rw [Bool.and_eq_true, ih]
    constructor
    · intro ⟨h1, h2⟩ j h3 h4
      by_cases h : j = k
      · rw [h]; exact h1
      · exact h2 j (by omega) (by omega)
    · intro h
      exact ⟨h k (by omega) (by omega), fun j h1 h2 => h j (by omega) (by omega)⟩
/-- the first of n from k on -/
def fnd (p : Nat → Bool) : Nat → Nat → Int32
  | _, 0 => -1
  | k, n + 1 => bif p k then nI k else fnd p (k + 1) n
theorem lpd {β : Type} (H : Nat → β) (X : Int32 → β) (p : Nat → Bool) (N : Nat) (hs : ∀ k, k < N → H k = bif p k then X (nI k) else H (k + 1)) (hx : H N = X (-1)) : H 0 = X (fnd p 0 N) := by
  have key : ∀ n k, k + n = N → H k = X (fnd p k n) := by
    intro n
    induction n with
    | zero => intro k h; have : k = N := by omega
              subst this; exact hx
    | succ n ih =>
      intro k h
      rw [hs k (by omega), ih (k + 1) (by omega)]
      show _ = X (bif p k then nI k else fnd p (k + 1) n)
      cases p k <;> rfl
  exact key N 0 (by omega)
/-! plain numbers -/
theorem i_lt {a b : Int32} : a < b ↔ a.toInt < b.toInt := Int32.lt_iff_toInt_lt
theorem i_le {a b : Int32} : a ≤ b ↔ a.toInt ≤ b.toInt := Int32.le_iff_toInt_le
theorem i_eq {a b : Int32} : a = b ↔ a.toInt = b.toInt := Int32.toInt_inj.symm
theorem i_add {a b : Int32} (h : -2147483648 ≤ a.toInt + b.toInt ∧ a.toInt + b.toInt < 2147483648) : (a + b).toInt = a.toInt + b.toInt := by
  rw [Int32.toInt_add]; exact Int.bmod_eq_of_le (by omega) (by omega)
theorem i_sub {a b : Int32} (h : -2147483648 ≤ a.toInt - b.toInt ∧ a.toInt - b.toInt < 2147483648) : (a - b).toInt = a.toInt - b.toInt := by
  rw [Int32.toInt_sub]; exact Int.bmod_eq_of_le (by omega) (by omega)
theorem i_neg {a : Int32} (h : -2147483648 < a.toInt) : (-a).toInt = -a.toInt := by
  have := Int32.toInt_lt a
  rw [Int32.toInt_neg]; exact Int.bmod_eq_of_le (by omega) (by omega)
theorem i_mul {a b : Int32} (h : -2147483648 ≤ a.toInt * b.toInt ∧ a.toInt * b.toInt < 2147483648) : (a * b).toInt = a.toInt * b.toInt := by
  rw [Int32.toInt_mul]; exact Int.bmod_eq_of_le (by omega) (by omega)
theorem j_lt {a b : Int64} : a < b ↔ a.toInt < b.toInt := Int64.lt_iff_toInt_lt
theorem j_le {a b : Int64} : a ≤ b ↔ a.toInt ≤ b.toInt := Int64.le_iff_toInt_le
theorem j_eq {a b : Int64} : a = b ↔ a.toInt = b.toInt := Int64.toInt_inj.symm
/-- where an index lies -/
theorem ix_or (x : Int32) {n : Nat} (hn : n < 2147483648) : (∃ j : Nat, j < n ∧ x = nI j) ∨ (x < 0 ∨ (¬ x < 0 ∧ ¬ x < nI n)) := by
  rcases pk_ix x hn with h | h | h
  · exact Or.inr (Or.inl h)
  · refine Or.inr (Or.inr ?_)
    rw [i_le, nI_toInt hn] at h
    rw [i_lt, i_lt, nI_toInt hn]
    have : (0 : Int32).toInt = 0 := by decide
    omega
  · exact Or.inl h
/-! the steps' questions as matches, so that simp asks first and goes on then -/
def ixq (i : Int32) (n : Nat) : Option Nat := if 0 ≤ i.toInt ∧ i.toInt < n then some i.toNatClampNeg else none
theorem ixq_n {p n : Nat} (h : p < n) (hn : n < 2147483648) : ixq (nI p) n = some p := by
  unfold ixq
  rw [nI_toInt (by omega), if_pos (by omega), nI_clamp (by omega)]
theorem ixq_l {p n : Nat} (h : (OfNat.ofNat p : Nat) < n) (hn : n < 2147483648) : ixq (no_index (OfNat.ofNat p) : Int32) n = some (OfNat.ofNat p) := ixq_n h hn
theorem qX_m {α : Type} (b : α) (i : Int32) (n : Nat) (f : Nat → α) : qX b i n f = match ixq i n with
    | some p => f p
    | none => b := by
  unfold qX ixq
  split <;> rfl
def tgq (t : Nat) (o : Option R_) : Option (Nat × Nat) := match o with
  | some r => bif Nat.beq r.1 t then some (r.2.1, r.2.2) else none
  | none => none
theorem tgq_ok (t n s : Nat) : tgq t (some (t, n, s)) = some (n, s) := by
  show (bif Nat.beq t t then some (n, s) else none) = some (n, s)
  rw [Nat.beq_refl]
  rfl
theorem qR_m {α : Type} (b : α) (t : Nat) (o : Option R_) (f : Nat → Nat → α) : qR b t o f = match tgq t o with
    | some (n, s) => f n s
    | none => b := by
  unfold qR tgq
  cases o with
  | none => rfl
  | some r => cases e : Nat.beq r.1 t <;> simp only [e] <;> rfl
theorem cV_m (z : Option Z_) (k : G_ → Option Z_) : cV z k = match z with
    | some (.inl none, g) => k g
    | some (.inr q, g) => some (.inr q, g)
    | _ => none := by
  rcases z with _ | ⟨(_ | (x | (x | x))) | q, g⟩ <;> rfl
theorem cI_m (z : Option Z_) (k : Int32 → G_ → Option Z_) : cI z k = match z with
    | some (.inl (some (.inl x)), g) => k x g
    | some (.inr q, g) => some (.inr q, g)
    | _ => none := by
  rcases z with _ | ⟨(_ | (x | (x | x))) | q, g⟩ <;> rfl
theorem cJ_m (z : Option Z_) (k : Int64 → G_ → Option Z_) : cJ z k = match z with
    | some (.inl (some (.inr (.inl x))), g) => k x g
    | some (.inr q, g) => some (.inr q, g)
    | _ => none := by
  rcases z with _ | ⟨(_ | (x | (x | x))) | q, g⟩ <;> rfl
theorem cO_m (z : Option Z_) (k : Option R_ → G_ → Option Z_) : cO z k = match z with
    | some (.inl (some (.inr (.inr x))), g) => k x g
    | some (.inr q, g) => some (.inr q, g)
    | _ => none := by
  rcases z with _ | ⟨(_ | (x | (x | x))) | q, g⟩ <;> rfl
theorem cR_m (t : Nat) (z : Option Z_) (k : Nat → Nat → G_ → Option Z_) : cR t z k = match z with
    | some (.inl (some (.inr (.inr x))), g) => (match tgq t x with
      | some (n, s) => k n s g
      | none => none)
    | some (.inr q, g) => some (.inr q, g)
    | _ => none := by
  rcases z with _ | ⟨(_ | (x | (x | x))) | q, g⟩
  · rfl
  · rfl
  · rfl
  · rfl
  · exact qR_m none t x (fun n s => k n s g)
  · rfl
