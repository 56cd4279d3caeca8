/-! THE SMALL MACHINE: names, values, heap. References are names (tag, length, serial). -/
abbrev R_ : Type := Nat × Nat × Nat
abbrev V_ : Type := Int32 ⊕ (Int64 ⊕ Option R_)
abbrev vI (x : Int32) : V_ := .inl x
abbrev vJ (x : Int64) : V_ := .inr (.inl x)
abbrev vO (o : Option R_) : V_ := .inr (.inr o)
abbrev vR (r : R_) : V_ := .inr (.inr (some r))
abbrev Lo_ : Type := List (Option V_)
/-- the twin's zone: how many of its cells are made; ints, longs, references by tag -/
abbrev T_ : Type := Nat × (Nat → Nat → Int32) × (Nat → Nat → Int64) × (Nat → Nat → Option R_)
/-- the other zone: the next serial; ints, longs, references by name -/
abbrev C_ : Type := Nat × (R_ → Nat → Int32) × (R_ → Nat → Int64) × (R_ → Nat → Option R_)
abbrev G_ : Type := T_ × C_
/-- depth left for recursion, method, pc, locals, stack, heap -/
abbrev S_ : Type := Nat × Nat × Nat × Lo_ × List V_ × G_
/-- how a method ended, and its heap -/
abbrev Z_ : Type := (Option V_ ⊕ R_) × G_
def lk_ {α : Type} : List (Nat × α) → Nat → Option α
  | [], _ => none
  | e :: t, n => bif Nat.beq e.1 n then some e.2 else lk_ t n
def lk2_ {α : Type} : List (Nat × List (Nat × α)) → Nat → Option α
  | [], _ => none
  | e :: t, n => bif Nat.blt n e.1 then lk_ e.2 n else lk2_ t n
theorem lk_mem {α : Type} {l : List (Nat × α)} {n : Nat} {a : α} (h : lk_ l n = some a) : (n, a) ∈ l := by
  induction l with
  | nil => cases h
  | cons e t ih =>
    unfold lk_ at h
    cases hb : Nat.beq e.1 n with
    | true =>
      rw [hb] at h
      have h1 : e.1 = n := Nat.eq_of_beq_eq_true hb
      have h2 : e.2 = a := by injection h
      rw [← h1, ← h2]
      exact List.mem_cons_self
    | false =>
      rw [hb] at h
      exact List.mem_cons_of_mem _ (ih h)
theorem lk2_mem {α : Type} {l : List (Nat × List (Nat × α))} {n : Nat} {a : α} (h : lk2_ l n = some a) : ∃ e ∈ l, (n, a) ∈ e.2 := by
  induction l with
  | nil => cases h
  | cons e t ih =>
    unfold lk2_ at h
    cases hb : Nat.blt n e.1 with
    | true =>
      rw [hb] at h
      exact ⟨e, List.mem_cons_self, lk_mem h⟩
    | false =>
      rw [hb] at h
      obtain ⟨e', h1, h2⟩ := ih h
      exact ⟨e', List.mem_cons_of_mem _ h1, h2⟩
/-- a function of two arguments, changed at one place -/
def u2 {α β : Type} [DecidableEq α] (f : α → Nat → β) (a : α) (k : Nat) (x : β) : α → Nat → β := fun a' k' => if a' = a ∧ k' = k then x else f a' k'
/-- a row cleared -/
def z1 {α β : Type} [DecidableEq α] (f : α → Nat → β) (a : α) (x : β) : α → Nat → β := fun a' k' => if a' = a then x else f a' k'
