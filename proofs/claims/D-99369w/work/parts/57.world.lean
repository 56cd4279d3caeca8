/-! THE WORLD that both hold: what is told of, in plain values; the twin's picture of it -/
/-- text and laws; the state; an image; what can be undone; what was told; the tape; the fault -/
abbrev Ab_ : Type := (Tx_ × La_) × (St_ × Nat) × Option (St_ × Nat) × (Nat × (Nat → Nat → Int32)) × (Nat × (Nat → Int32) × Int32) × (Nat × (Nat → Nat)) × (Int32 × Int32)
abbrev aT (A : Ab_) : Tx_ := A.1.1
abbrev aL (A : Ab_) : La_ := A.1.2
abbrev aS (A : Ab_) : St_ × Nat := A.2.1
abbrev aM (A : Ab_) : Option (St_ × Nat) := A.2.2.1
abbrev aUn (A : Ab_) : Nat := A.2.2.2.1.1
abbrev aUf (A : Ab_) : Nat → Nat → Int32 := A.2.2.2.1.2
abbrev aTn (A : Ab_) : Nat := A.2.2.2.2.1.1
abbrev aTf (A : Ab_) : Nat → Int32 := A.2.2.2.2.1.2.1
abbrev aKn (A : Ab_) : Int32 := A.2.2.2.2.1.2.2
abbrev aPn (A : Ab_) : Nat := A.2.2.2.2.2.1.1
abbrev aPb (A : Ab_) : Nat → Nat := A.2.2.2.2.2.1.2
abbrev aFk (A : Ab_) : Int32 := A.2.2.2.2.2.2.1
abbrev aFp (A : Ab_) : Int32 := A.2.2.2.2.2.2.2
/-- a state that days have made: what is done lies ahead of today -/
def SOk (τ : Tx_) (s : St_ × Nat) : Prop := StOk s.1 ∧ s.2 < 2147483648 ∧ (∃ D : Nat, sDy s.1 = nI D ∧ D ≤ 9000) ∧ ∀ i, i < npS τ → (sRe s.1 i = 0 ↔ ¬ τ 1015 i < sDy s.1)
/-- a leaf: a note, a sight, a strike -/
def LfOk (τ : Tx_) (tf : Nat → Int32) (k : Nat) : Prop :=
  (tf (5 * k) = 0 ∧ (∃ j, j < nkS τ ∧ tf (5 * k + 2) = nI j) ∧ (tf (5 * k + 4) = 0 ∨ tf (5 * k + 4) = 1)) ∨
  (tf (5 * k) = 1 ∧ (∃ m, 1 ≤ m ∧ m ≤ 60 ∧ tf (5 * k + 1) = nI m) ∧ (∃ j, j < nkS τ ∧ tf (5 * k + 2) = nI j) ∧ (tf (5 * k + 4) = 0 ∨ tf (5 * k + 4) = 1)) ∨
  (tf (5 * k) = 2 ∧ ∃ j, j < k ∧ tf (5 * k + 1) = nI j)
/-- a state that can come back -/
def unS (A : Ab_) (k : Nat) : St_ := (fun j => aUf A k j, fun t => aUf A k (12 + t), sRe (aS A).1, sLv (aS A).1, sDy (aS A).1)
def AbOk (A : Ab_) : Prop :=
  TxOk (aT A) ∧ LaOk (aT A) (aL A) ∧ SOk (aT A) (aS A) ∧ (∀ s, aM A = some s → SOk (aT A) s) ∧ (aUn A ≤ 20 ∧ ∀ k, k < aUn A → StOk (unS A k)) ∧
  (aTn A ≤ 24 ∧ ∀ k, k < aTn A → LfOk (aT A) (aTf A) k) ∧ (aKn A = -1 ∨ ∃ j, j ≤ aTn A ∧ aKn A = nI j) ∧ (aPn A ≤ 700 ∧ ∀ p, aPb A p < 256)
def TIm (o : Option (St_ × Nat)) (I : FI_) (J : FJ_) : Prop := match o with
  | none => I 1000 76 = 0
  | some s => I 1000 76 = 1 ∧ (∀ k, k < 12 → I 1038 k = sAm s.1 k) ∧ (∀ t, t < 2 → I 1038 (12 + t) = sPu s.1 t) ∧ (∀ k, k < 12 → I 1039 k = sRe s.1 k) ∧ I 1039 12 = sLv s.1 ∧ I 1039 13 = sDy s.1 ∧ J 1000 79 = lN s.2
def TUn (n : Nat) (f : Nat → Nat → Int32) (I : FI_) : Prop := I 1000 74 = nI n ∧ ∀ k j, k < n → j < 14 → I 1037 (14 * k + j) = f k j
def TTo (n : Nat) (f : Nat → Int32) (kn : Int32) (I : FI_) : Prop := I 1000 70 = nI n ∧ I 1000 71 = kn ∧ ∀ i, i < 5 * n → I 1035 i = f i
def TTp (n : Nat) (b : Nat → Nat) (I : FI_) : Prop := I 1000 1 = nI n ∧ ∀ p, p < n → I 1001 p = nI (b p)
/-- the words, each with a blank behind it -/
def wdT : List Nat := [107, 105, 110, 100, 32, 104, 97, 115, 32, 100, 101, 101, 100, 32, 100, 111, 32, 112, 117, 114, 115, 101, 32, 119, 97, 103, 101, 32, 115, 101, 101, 100, 32, 108, 97, 119, 32, 97, 112, 97, 114, 116, 32, 104, 101, 97, 108, 32, 108, 117, 99, 107, 32, 97, 110, 100, 32, 111, 114, 32, 110, 111, 116, 32, 111, 119, 110, 32, 111, 116, 104, 101, 114, 32, 103, 97, 112, 32, 115, 104, 111, 119, 115, 32, 104, 101, 97, 108, 115, 32, 108, 101, 118, 101, 108, 32, 100, 97, 121, 32]
def TWo (I : FI_) : Prop := ∀ i, i < 100 → I 1002 i = nI (wdT.getD i 0)
def TWd (A : Ab_) (I : FI_) (J : FJ_) : Prop :=
  TTx (aT A) I ∧ TOm om0 false I ∧ TSt (aS A).1 0 I ∧ J 1000 59 = lN (aS A).2 ∧ TIm (aM A) I J ∧ TUn (aUn A) (aUf A) I ∧ TTo (aTn A) (aTf A) (aKn A) I ∧ TTp (aPn A) (aPb A) I ∧ (I 1000 4 = aFk A ∧ I 1000 5 = aFp A) ∧ TWo I
/-- cells that no picture rests on -/
def zcell (t k : Nat) : Prop := (t = 1000 ∧ (k = 2 ∨ k = 53)) ∨ (1028 ≤ t ∧ t ≤ 1030 ∧ 12 ≤ k) ∨ (t = 1029 ∧ 2 ≤ k) ∨ ((t = 1031 ∨ t = 1032) ∧ 1 ≤ k) ∨ t = 1033 ∨ t = 1034 ∨ t = 1036
theorem TWd.fr {A : Ab_} {I I' : FI_} {J J' : FJ_} (h : TWd A I J) (f : FrI (fun t k => zcell t k ∨ ocell t k) I I') (o : TOm om0 false I') (j1 : J' 1000 59 = J 1000 59) (j2 : J' 1000 79 = J 1000 79) : TWd A I' J' := by
  obtain ⟨h1, -, h3, h4, h5, h6, h7, h8, h9, h10⟩ := h
  have g : ∀ t k, ¬ zcell t k → ¬ ocell t k → I' t k = I t k := fun t k a b => f t k (fun q => q.elim a b)
  refine ⟨fun t k q => ?_, o, ⟨fun k hk => ?_, fun k hk => ?_, fun k hk => ?_, ?_, ?_⟩, j1.trans h4, ?_, ⟨?_, fun k j hk hj => ?_⟩, ⟨?_, ?_, fun i hi => ?_⟩, ⟨?_, fun p hp => ?_⟩, ⟨?_, ?_⟩, fun i hi => ?_⟩
  · rw [g t k (by unfold zcell; unfold tcell at q; omega) (by unfold ocell; unfold tcell at q; omega)]; exact h1 t k q
  · rw [g _ _ (by unfold zcell; omega) (by unfold ocell; omega)]; exact h3.1 k hk
  · rw [g _ _ (by unfold zcell; omega) (by unfold ocell; omega)]; exact h3.2.1 k hk
  · rw [g _ _ (by unfold zcell; omega) (by unfold ocell; omega)]; exact h3.2.2.1 k hk
  · rw [g _ _ (by unfold zcell; omega) (by unfold ocell; omega)]; exact h3.2.2.2.1
  · rw [g _ _ (by unfold zcell; omega) (by unfold ocell; omega)]; exact h3.2.2.2.2
  · cases hm : aM A with
    | none =>
      rw [hm] at h5
      show I' 1000 76 = 0
      rw [g _ _ (by unfold zcell; omega) (by unfold ocell; omega)]; exact h5
    | some s =>
      rw [hm] at h5
      obtain ⟨a1, a2, a3, a4, a5, a6, a7⟩ := h5
      refine ⟨?_, fun k hk => ?_, fun k hk => ?_, fun k hk => ?_, ?_, ?_, j2.trans a7⟩
      · rw [g _ _ (by unfold zcell; omega) (by unfold ocell; omega)]; exact a1
      · rw [g _ _ (by unfold zcell; omega) (by unfold ocell; omega)]; exact a2 k hk
      · rw [g _ _ (by unfold zcell; omega) (by unfold ocell; omega)]; exact a3 k hk
      · rw [g _ _ (by unfold zcell; omega) (by unfold ocell; omega)]; exact a4 k hk
      · rw [g _ _ (by unfold zcell; omega) (by unfold ocell; omega)]; exact a5
      · rw [g _ _ (by unfold zcell; omega) (by unfold ocell; omega)]; exact a6
  · rw [g _ _ (by unfold zcell; omega) (by unfold ocell; omega)]; exact h6.1
  · rw [g _ _ (by unfold zcell; omega) (by unfold ocell; omega)]; exact h6.2 k j hk hj
  · rw [g _ _ (by unfold zcell; omega) (by unfold ocell; omega)]; exact h7.1
  · rw [g _ _ (by unfold zcell; omega) (by unfold ocell; omega)]; exact h7.2.1
  · rw [g _ _ (by unfold zcell; omega) (by unfold ocell; omega)]; exact h7.2.2 i hi
  · rw [g _ _ (by unfold zcell; omega) (by unfold ocell; omega)]; exact h8.1
  · rw [g _ _ (by unfold zcell; omega) (by unfold ocell; omega)]; exact h8.2 p hp
  · rw [g _ _ (by unfold zcell; omega) (by unfold ocell; omega)]; exact h9.1
  · rw [g _ _ (by unfold zcell; omega) (by unfold ocell; omega)]; exact h9.2
  · rw [g _ _ (by unfold zcell; omega) (by unfold ocell; omega)]; exact h10 i hi
/-- 'thrown' is set at a call's start -/
theorem TWd.th {A : Ab_} {I : FI_} {J : FJ_} (h : TWd A I J) (x : Int32) : TWd A (u2 I 1000 2 x) J :=
  h.fr (fun t k q => if_neg fun z => q (Or.inl (by unfold zcell; omega))) (h.2.1.fr (S := fun t k => t = 1000 ∧ k = 2) (fun t k q => if_neg q) (fun k h1 h2 => by omega)) rfl rfl
theorem TWd.td {A : Ab_} {I : FI_} {J : FJ_} (h : TWd A I J) (ok : AbOk A) : TD (aT A) om0 false 0 (aS A) I J := ⟨h.1, h.2.1, h.2.2.1, h.2.2.2.1, ok.2.2.1.2.1⟩
/-- how a call of the twin ends -/
def TOut (A : Ab_) (v : V_) (C : C_) (z : Option Z_) : Prop := ∃ (I' : FI_) (J' : FJ_), z = some (.inl (some v), (tw I' J', C)) ∧ TWd A I' J'
theorem TOut.mk {A : Ab_} {v : V_} {C : C_} {z : Option Z_} {I' : FI_} {J' : FJ_} (h : z = some (.inl (some v), (tw I' J', C))) (w : TWd A I' J') : TOut A v C z := ⟨I', J', h, w⟩
/-! is it one of n? -/
def isS (a : Int32) (n : Nat) : Bool := !decide (a < 0) && decide (a < nI n)
def tnS (a : Int32) : Bool := decide (a = 0) || decide (a = 1)
def inS (a lo hi : Int32) : Bool := !decide (a < lo) && !decide (hi < a)
theorem isS_or (a : Int32) {n : Nat} (hn : n < 2147483648) : (∃ j, j < n ∧ a = nI j ∧ isS a n = true) ∨ isS a n = false := by
  rcases ix_or a hn with ⟨j, h1, h2⟩ | h | ⟨h1, h2⟩
  · refine Or.inl ⟨j, h1, h2, ?_⟩
    unfold isS
    rw [h2]
    have q1 : ¬ nI j < 0 := by rw [nI_lt0 (by omega)]; exact id
    have q2 : nI j < nI n := by rw [nn_lt (by omega) hn]; exact h1
    rw [decide_eq_false q1, decide_eq_true q2]; rfl
  · refine Or.inr ?_
    unfold isS
    rw [decide_eq_true h]; rfl
  · refine Or.inr ?_
    unfold isS
    rw [decide_eq_false h2, Bool.and_false]
theorem tnS_or (a : Int32) : (∃ j, j < 2 ∧ a = nI j ∧ tnS a = true) ∨ tnS a = false := by
  unfold tnS
  by_cases h0 : a = 0
  · exact Or.inl ⟨0, by omega, h0, by rw [decide_eq_true h0]; rfl⟩
  · by_cases h1 : a = 1
    · exact Or.inl ⟨1, by omega, h1, by rw [decide_eq_true h1, Bool.or_true]⟩
    · exact Or.inr (by rw [decide_eq_false h0, decide_eq_false h1]; rfl)
theorem inS_or (a lo hi : Int32) : (lo.toInt ≤ a.toInt ∧ a.toInt ≤ hi.toInt ∧ inS a lo hi = true) ∨ inS a lo hi = false := by
  unfold inS
  by_cases h0 : a < lo
  · exact Or.inr (by rw [decide_eq_true h0]; rfl)
  · by_cases h1 : hi < a
    · exact Or.inr (by rw [decide_eq_true h1, Bool.not_true, Bool.and_false])
    · refine Or.inl ⟨?_, ?_, by rw [decide_eq_false h0, decide_eq_false h1]; rfl⟩
      · rw [i_lt] at h0; omega
      · rw [i_lt] at h1; omega
theorem nI_clampI {x : Int32} (h : 0 ≤ x.toInt) : nI x.toNatClampNeg = x := by
  have h1 := Int32.toInt_lt x
  have h2 : x.toNatClampNeg = x.toInt.toNat := rfl
  rw [i_eq, nI_toInt (by rw [h2]; omega), h2]
  omega
/-- a number within bounds is a small one -/
theorem inS_nat {a lo hi : Int32} {m : Nat} (h0 : lo.toInt = 0) (hm : hi.toInt = m) : (∃ j, j ≤ m ∧ a = nI j ∧ inS a lo hi = true) ∨ inS a lo hi = false := by
  rcases inS_or a lo hi with ⟨h1, h2, h3⟩ | h
  · refine Or.inl ⟨a.toNatClampNeg, ?_, (nI_clampI (by omega)).symm, h3⟩
    have : a.toNatClampNeg = a.toInt.toNat := rfl
    omega
  · exact Or.inr h
theorem tw_isKind {τ : Tx_} (d : Nat) (I : FI_) (J : FJ_) (C : C_) (a : Int32) (ho : TxOk τ) (hx : TTx τ I) : (Run_ (d, mT_isKind, 0, [some (vR (1000, 0, 0)), some (vI a)], [], (tw I J, C))) = some (.inl (some (vI (bI (isS a (nkS τ))))), (tw I J, C)) := by
  have e1 : I 1000 12 = nI (nkS τ) := (hx _ _ (by unfold tcell; omega)).trans ho.k6.1
  simp only [eT_isKind_0, eT_isKind_16, eT_isKind_17, e1, ng1_0, ng1_1, ↓reduceIte]
  unfold isS
  by_cases c1 : a < 0
  · simp only [c1, eq_self, decide_true, decide_false, cond_true, cond_false, ↓reduceIte]; rfl
  · by_cases c2 : a < nI (nkS τ)
    · simp only [c1, c2, eq_self, decide_true, decide_false, cond_true, cond_false, ↓reduceIte]; rfl
    · simp only [c1, c2, eq_self, decide_true, decide_false, cond_true, cond_false, ↓reduceIte]; rfl
theorem tw_isDeed {τ : Tx_} (d : Nat) (I : FI_) (J : FJ_) (C : C_) (a : Int32) (ho : TxOk τ) (hx : TTx τ I) : (Run_ (d, mT_isDeed, 0, [some (vR (1000, 0, 0)), some (vI a)], [], (tw I J, C))) = some (.inl (some (vI (bI (isS a (ndS τ))))), (tw I J, C)) := by
  have e1 : I 1000 13 = nI (ndS τ) := (hx _ _ (by unfold tcell; omega)).trans ho.d8.1
  simp only [eT_isDeed_0, eT_isDeed_16, eT_isDeed_17, e1, ng1_0, ng1_1, ↓reduceIte]
  unfold isS
  by_cases c1 : a < 0
  · simp only [c1, eq_self, decide_true, decide_false, cond_true, cond_false, ↓reduceIte]; rfl
  · by_cases c2 : a < nI (ndS τ)
    · simp only [c1, c2, eq_self, decide_true, decide_false, cond_true, cond_false, ↓reduceIte]; rfl
    · simp only [c1, c2, eq_self, decide_true, decide_false, cond_true, cond_false, ↓reduceIte]; rfl
theorem tw_isTwin (d : Nat) (I : FI_) (J : FJ_) (C : C_) (a : Int32) : (Run_ (d, mT_isTwin, 0, [some (vI a)], [], (tw I J, C))) = some (.inl (some (vI (bI (tnS a)))), (tw I J, C)) := by
  simp only [eT_isTwin_0, eT_isTwin_9, eT_isTwin_14, ng1_0, ng1_1, ↓reduceIte]
  unfold tnS
  by_cases c1 : a = 0
  · simp only [c1, eq_self, decide_true, decide_false, cond_true, cond_false, ↓reduceIte]; rfl
  · by_cases c2 : a = 1
    · simp only [c1, c2, eq_self, decide_true, decide_false, cond_true, cond_false, ↓reduceIte]; rfl
    · simp only [c1, c2, eq_self, decide_true, decide_false, cond_true, cond_false, ↓reduceIte]; rfl
theorem tw_isIn (d : Nat) (I : FI_) (J : FJ_) (C : C_) (a lo hi : Int32) : (Run_ (d, mT_isIn, 0, [some (vI a), some (vI lo), some (vI hi)], [], (tw I J, C))) = some (.inl (some (vI (bI (inS a lo hi)))), (tw I J, C)) := by
  simp only [eT_isIn_0, eT_isIn_14, eT_isIn_15, ng1_0, ng1_1, ↓reduceIte]
  unfold inS
  by_cases c1 : a < lo
  · simp only [c1, eq_self, decide_true, decide_false, cond_true, cond_false, ↓reduceIte]; rfl
  · by_cases c2 : hi < a
    · simp only [c1, c2, eq_self, decide_true, decide_false, cond_true, cond_false, ↓reduceIte]; rfl
    · simp only [c1, c2, eq_self, decide_true, decide_false, cond_true, cond_false, ↓reduceIte]; rfl
