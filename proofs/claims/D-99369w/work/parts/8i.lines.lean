/-! LINES, plainly; the twin's small steps -/
/-- place, knots; kinds, deeds, plans, amounts told; rows; what was told once; laws -/
abbrev Ls_ : Type := (Nat × Nat) × (Nat × Nat × Nat × Nat) × Tx_ × (Nat → Bool) × La_
abbrev lP (s : Ls_) : Nat := s.1.1
abbrev lC (s : Ls_) : Nat := s.1.2
abbrev lK (s : Ls_) : Nat := s.2.1.1
abbrev lD (s : Ls_) : Nat := s.2.1.2.1
abbrev lW (s : Ls_) : Nat := s.2.1.2.2.1
abbrev lH (s : Ls_) : Nat := s.2.1.2.2.2
abbrev lX (s : Ls_) : Tx_ := s.2.2.1
abbrev lF (s : Ls_) : Nat → Bool := s.2.2.2.1
abbrev lA (s : Ls_) : La_ := s.2.2.2.2
abbrev Ft_ : Type := Nat × Nat
def sb {α β : Type} (x : Ft_ ⊕ (α × Nat)) (k : α → Nat → Ft_ ⊕ β) : Ft_ ⊕ β := match x with
  | .inl e => .inl e
  | .inr (v, q) => k v q
def numS (b : Nat → Nat) (n p hi : Nat) : Ft_ ⊕ (Nat × Nat) := if tkK b n p = 3 then (if hi < tkW b n p then .inl (2, tkP b n p) else .inr (tkW b n p, tkN b n p)) else .inl (1, tkP b n p)
def sgnS (b : Nat → Nat) (n p hi : Nat) : Ft_ ⊕ (Int32 × Nat) := if tkK b n p = 4 ∧ tkW b n p = 45 then sb (numS b n (tkN b n p) hi) fun v q => .inr (-(nI v), q) else sb (numS b n p hi) fun v q => .inr (nI v, q)
def fdS (f : Nat → Int32) (m : Nat) (v : Int32) : Int32 := fnd (fun k => decide (f k = v)) 0 m
def newS (b : Nat → Nat) (n p : Nat) (f : Nat → Int32) (m : Nat) : Ft_ ⊕ (Int32 × Nat) := if tkK b n p = 2 then (if fdS f m (tkV b n p) = -1 then .inr (tkV b n p, tkN b n p) else .inl (3, tkP b n p)) else .inl (1, tkP b n p)
def herS (b : Nat → Nat) (n p : Nat) (f : Nat → Int32) (m : Nat) : Ft_ ⊕ (Nat × Nat) := if tkK b n p = 2 then (if fdS f m (tkV b n p) = -1 then .inl (4, tkP b n p) else .inr ((fdS f m (tkV b n p)).toNatClampNeg, tkN b n p)) else .inl (1, tkP b n p)
/-! lines -/
def kindS (b : Nat → Nat) (n : Nat) (s : Ls_) : Ft_ ⊕ Ls_ := if lK s = 6 then .inl (2, tkP b n (lP s)) else
  sb (newS b n (tkN b n (lP s)) (lX s 1004) (lK s)) fun v q1 => sb (numS b n q1 9) fun x q2 => sb (numS b n q2 9) fun y q3 =>
    .inr ((q3, lC s), (lK s + 1, lD s, lW s, lH s), u2 (u2 (u2 (lX s) 1004 (lK s) v) 1005 (lK s) (nI x)) 1006 (lK s) (nI y), lF s, lA s)
def hasS (b : Nat → Nat) (n : Nat) (s : Ls_) : Ft_ ⊕ Ls_ := if lH s = 12 then .inl (2, tkP b n (lP s)) else
  sb (numS b n (tkN b n (lP s)) 1) fun t q1 => sb (herS b n q1 (lX s 1004) (lK s)) fun k q2 => sb (sgnS b n q2 99) fun v q3 =>
    .inr ((q3, lC s), (lK s, lD s, lW s, lH s + 1), u2 (lX s) 1007 (2 * k + t) v, lF s, lA s)
def deedS (b : Nat → Nat) (n : Nat) (s : Ls_) : Ft_ ⊕ Ls_ := if lD s = 8 then .inl (2, tkP b n (lP s)) else
  sb (newS b n (tkN b n (lP s)) (lX s 1008) (lD s)) fun v q1 => sb (herS b n q1 (lX s 1004) (lK s)) fun k q2 => sb (sgnS b n q2 9) fun x q3 => sb (numS b n q3 99) fun y q4 => sb (numS b n q4 100) fun z q5 =>
    .inr ((q5, lC s), (lK s, lD s + 1, lW s, lH s), u2 (u2 (u2 (u2 (u2 (lX s) 1008 (lD s) v) 1009 (lD s) (nI k)) 1010 (lD s) x) 1011 (lD s) (nI y)) 1012 (lD s) (nI z), lF s, lA s)
def doS (b : Nat → Nat) (n : Nat) (s : Ls_) : Ft_ ⊕ Ls_ := if lW s = 12 then .inl (2, tkP b n (lP s)) else
  sb (numS b n (tkN b n (lP s)) 1) fun t q1 => sb (herS b n q1 (lX s 1008) (lD s)) fun e q2 => sb (numS b n q2 99) fun y q3 =>
    .inr ((q3, lC s), (lK s, lD s, lW s + 1, lH s), u2 (u2 (u2 (lX s) 1013 (lW s) (nI t)) 1014 (lW s) (nI e)) 1015 (lW s) (nI y), lF s, lA s)
def monS (b : Nat → Nat) (n a hi : Nat) (s : Ls_) : Ft_ ⊕ Ls_ :=
  sb (numS b n (tkN b n (lP s)) 1) fun t q1 => if lF s (a + t) = true then .inl (3, tkP b n (tkN b n (lP s))) else sb (numS b n q1 hi) fun y q2 =>
    .inr ((q2, lC s), (lK s, lD s, lW s, lH s), u2 (lX s) 1017 (a + t) (nI y), fu (lF s) (a + t) true, lA s)
def seeS (b : Nat → Nat) (n : Nat) (s : Ls_) : Ft_ ⊕ Ls_ := if lF s 4 = true then .inl (3, tkP b n (lP s)) else sb (numS b n (tkN b n (lP s)) 99999) fun y q =>
    .inr ((q, lC s), (lK s, lD s, lW s, lH s), u2 (lX s) 1003 0 (nI y), fu (lF s) 4 true, lA s)
def lawS (b : Nat → Nat) (n : Nat) (s : Ls_) : Ft_ ⊕ Ls_ :=
  if tkK b n (tkN b n (lP s)) = 1 ∧ 8 ≤ tkW b n (tkN b n (lP s)) ∧ tkW b n (tkN b n (lP s)) ≤ 10 then
    (if (lA s (tkW b n (tkN b n (lP s)) - 8)).isSome = true then .inl (3, tkP b n (tkN b n (lP s))) else match rdLaw b n (tkN b n (tkN b n (lP s))) (lC s) with
      | some (.inr (g, q, c)) => .inr ((q, c), (lK s, lD s, lW s, lH s), lX s, lF s, fu (lA s) (tkW b n (tkN b n (lP s)) - 8) (some g))
      | some (.inl e) => .inl e
      | none => .inl (0, 0))
  else .inl (1, tkP b n (tkN b n (lP s)))
def lnS (b : Nat → Nat) (n : Nat) (s : Ls_) : Ft_ ⊕ Ls_ :=
  if tkK b n (lP s) = 1 ∧ tkW b n (lP s) ≤ 7 then
    (if tkW b n (lP s) = 0 then kindS b n s else if tkW b n (lP s) = 1 then hasS b n s else if tkW b n (lP s) = 2 then deedS b n s else if tkW b n (lP s) = 3 then doS b n s else if tkW b n (lP s) = 4 then monS b n 0 999 s
      else if tkW b n (lP s) = 5 then monS b n 2 9 s else if tkW b n (lP s) = 6 then seeS b n s else lawS b n s)
  else .inl (1, tkP b n (lP s))
/-- a line and its end -/
def leS (b : Nat → Nat) (n : Nat) (s : Ls_) : Ft_ ⊕ Ls_ := match lnS b n s with
  | .inl e => .inl e
  | .inr s' => if tkK b n (lP s') = 4 ∧ tkW b n (lP s') = 59 then .inr ((tkN b n (lP s'), lC s'), s'.2) else .inl (1, tkP b n (lP s'))
/-! the twin's steps -/
variable {b : Nat → Nat} {n : Nat}
def nuF (t k : Nat) : Prop := t = 1000 ∧ (k = 4 ∨ k = 5 ∨ (7 ≤ k ∧ k ≤ 11))
/-- a block of rows at one place -/
def lnF (a c m t k : Nat) : Prop := nuF t k ∨ (a ≤ t ∧ t ≤ c ∧ k = m)
theorem sb_i {α β : Type} (v : α) (q : Nat) (k : α → Nat → Ft_ ⊕ β) : sb (.inr (v, q)) k = k v q := rfl
def TPf (S : Nat → Nat → Prop) (e : Ft_) (J : FJ_) (C : C_) (I : FI_) (z : Option Z_) : Prop := ∃ I' : FI_, z = some (.inl (some (vI 0)), (tw I' J, C)) ∧ (I' 1000 4 = nI e.1 ∧ I' 1000 5 = nI e.2) ∧ FrI S I I'
def TPg (b : Nat → Nat) (n : Nat) (x : Int32) (q : Nat) (J : FJ_) (C : C_) (I : FI_) (z : Option Z_) : Prop := ∃ I' : FI_, z = some (.inl (some (vI 1)), (tw I' J, C)) ∧ TTk b n q I' ∧ I' 1000 11 = x ∧ FrI nuF I I'
theorem wr_nu (I : FI_) (k : Nat) : FrI nuF I (wrI I k) := by
  unfold wrI
  exact ((FrI.rf _ I).u (by unfold nuF; omega)).u (by unfold nuF; omega)
theorem tk_nu (t k : Nat) (h : tk4 t k) : nuF t k := by unfold tk4 at h; unfold nuF; omega
/-- the kinds of tokens, as the twin has them -/
theorem TTk.k {p : Nat} {I : FI_} (h : TTk b n p I) (h256 : ∀ k, b k < 256) : (I 1000 8 = 3) = (tkK b n p = 3) ∧ (I 1000 8 = 2) = (tkK b n p = 2) ∧ (I 1000 8 = 1) = (tkK b n p = 1) ∧ (I 1000 8 = 0) = (tkK b n p = 0) ∧ (tkK b n p = 3 → I 1000 9 = nI (tkW b n p) ∧ tkW b n p ≤ 999999) ∧ (tkK b n p = 2 → I 1000 9 = tkV b n p) ∧ (tkK b n p = 1 → I 1000 9 = nI (swp (tkW b n p)) ∧ tkW b n p < 21) := by
  have hf := tk_f (n := n) h256 p
  rcases h.2.2.2.2 with ⟨k, e⟩ | ⟨k, e, w, w1, w2, w3⟩ | ⟨k, e, e2⟩ | ⟨k, e, e2⟩ | ⟨k, e, e2⟩ | ⟨k, e, -⟩ | ⟨k, e | ⟨e, e2⟩⟩
  · exact ⟨by rw [e, k]; decide, by rw [e, k]; decide, by rw [e, k]; decide, by rw [e, k]; decide, fun z => by omega, fun z => by omega, fun z => by omega⟩
  · have sw : tkW b n p = w := by unfold tkW; rw [w2]; exact nI_clamp (by omega)
    exact ⟨by rw [e, k]; decide, by rw [e, k]; decide, by rw [e, k]; decide, by rw [e, k]; decide, fun z => by omega, fun z => by omega, fun z => by rw [sw]; exact ⟨w3, w1⟩⟩
  · exact ⟨by rw [e, k]; decide, by rw [e, k]; decide, by rw [e, k]; decide, by rw [e, k]; decide, fun z => by omega, fun z => e2, fun z => by omega⟩
  · obtain ⟨v, v1, v2⟩ := hf.2.1 k
    have sw : tkW b n p = v := by unfold tkW; rw [v2]; exact nI_clamp (by omega)
    exact ⟨by rw [e, k]; decide, by rw [e, k]; decide, by rw [e, k]; decide, by rw [e, k]; decide, fun z => by rw [sw]; exact ⟨e2.trans v2, v1⟩, fun z => by omega, fun z => by omega⟩
  · exact ⟨by rw [e, k]; decide, by rw [e, k]; decide, by rw [e, k]; decide, by rw [e, k]; decide, fun z => by omega, fun z => by omega, fun z => by omega⟩
  · exact ⟨by rw [e, k]; decide, by rw [e, k]; decide, by rw [e, k]; decide, by rw [e, k]; decide, fun z => by omega, fun z => by omega, fun z => by omega⟩
  · exact ⟨by rw [e, k]; decide, by rw [e, k]; decide, by rw [e, k]; decide, by rw [e, k]; decide, fun z => by omega, fun z => by omega, fun z => by omega⟩
  · exact ⟨by rw [e, k]; decide, by rw [e, k]; decide, by rw [e, k]; decide, by rw [e, k]; decide, fun z => by omega, fun z => by omega, fun z => by omega⟩
theorem tw_number {p : Nat} {I : FI_} (d : Nat) (J : FJ_) (C : C_) (hn : n ≤ 700) (h256 : ∀ k, b k < 256) (h : TTk b n p I) {hi : Nat} (hh : hi < 1000000) :
    (∀ e, numS b n p hi = .inl e → TPf nuF e J C I (Run_ (d, mT_number, 0, [some (vR (1000, 0, 0)), some (vI 0), some (vI (nI hi))], [], (tw I J, C)))) ∧ (∀ v q, numS b n p hi = .inr (v, q) → TPg b n (nI v) q J C I (Run_ (d, mT_number, 0, [some (vR (1000, 0, 0)), some (vI 0), some (vI (nI hi))], [], (tw I J, C)))) := by
  obtain ⟨k3, -, -, -, e3, -, -⟩ := h.k h256
  have w1 : (Run_ (d, mT_wrong, 0, [some (vR (1000, 0, 0)), some (vI 1)], [], (tw I J, C))) = _ := tw_wrong d I J C 1
  have w2 : (Run_ (d, mT_wrong, 0, [some (vR (1000, 0, 0)), some (vI 2)], [], (tw I J, C))) = _ := tw_wrong d I J C 2
  unfold numS
  by_cases c3 : tkK b n p = 3
  · obtain ⟨e9, v9⟩ := e3 c3
    have ii := tw_isIn d I J C (I 1000 9) 0 (nI hi)
    have z0 : ((nI (tkW b n p)) < 0) = False := nI_lt0 (by omega)
    rw [e9] at ii
    unfold inS at ii
    rw [decide_eq_false (by rw [z0]; exact id)] at ii
    rw [if_pos c3]
    by_cases c : hi < tkW b n p
    · rw [if_pos c]
      refine ⟨fun e he => ?_, fun v q hq => (by cases hq)⟩
      injection he with he
      subst he
      rw [decide_eq_true (by rw [nn_lt (by omega) (by omega)]; exact c)] at ii
      refine ⟨wrI I 2, ?_, wr_ft h 2, wr_nu I 2⟩
      rw [eT_number_0]
      simp (disch := omega) only [↓reduceIte, ↓qX_m, ↓qR_m, ↓cI_m, ↓cV_m, ↓cJ_m, ↓cO_m, ↓cR_m, ixq_n, ixq_l, tgq_ok, nL_mul, nR_mul, nL_add, nR_add, nL_sub, nR_sub, nI_add, pk_mul, nn_sub, ng1_0, ng1_1, an_0, an_1, i1_0, Nat.add_zero, Nat.zero_add, Nat.mul_one, Nat.mul_zero, hI_cg, hP_cg, hJ_cg, wI_cg, wP_cg, wJ_cg, k3, eq_true c3, e9, ii, Bool.not_true, Bool.and_false, bI_0, eT_number_23, w2, eT_number_31]
    · rw [if_neg c]
      refine ⟨fun e he => (by cases he), fun v q hq => ?_⟩
      injection hq with hq
      have hv := congrArg Prod.fst hq
      have hq := congrArg Prod.snd hq
      subst hv
      subst hq
      rw [decide_eq_false (by rw [nn_lt (by omega) (by omega)]; exact c)] at ii
      obtain ⟨I', r, f, t⟩ := (h.u 11 (nI (tkW b n p)) (by omega)).next d J C hn h256
      refine ⟨I', ?_, t, ?_, ((FrI.rf _ I).u (by unfold nuF; omega)).tr (f.wk tk_nu)⟩
      · rw [eT_number_0]
        simp (disch := omega) only [↓reduceIte, ↓qX_m, ↓qR_m, ↓cI_m, ↓cV_m, ↓cJ_m, ↓cO_m, ↓cR_m, ixq_n, ixq_l, tgq_ok, nL_mul, nR_mul, nL_add, nR_add, nL_sub, nR_sub, nI_add, pk_mul, nn_sub, ng1_0, ng1_1, an_0, an_1, i1_0, Nat.add_zero, Nat.zero_add, Nat.mul_one, Nat.mul_zero, hI_cg, hP_cg, hJ_cg, wI_cg, wP_cg, wJ_cg, k3, eq_true c3, e9, ii, Bool.not_true, Bool.not_false, Bool.and_true, bI_1, eT_number_23, r, eT_number_44]
      · rw [f _ _ (by unfold tk4; omega), u2_s]
  · rw [if_neg c3]
    refine ⟨fun e he => ?_, fun v q hq => (by cases hq)⟩
    injection he with he
    subst he
    refine ⟨wrI I 1, ?_, wr_ft h 1, wr_nu I 1⟩
    rw [eT_number_0]
    simp (disch := omega) only [↓reduceIte, ↓qX_m, ↓qR_m, ↓cI_m, ↓cV_m, ↓cJ_m, ↓cO_m, ↓cR_m, ixq_n, ixq_l, tgq_ok, nL_mul, nR_mul, nL_add, nR_add, nL_sub, nR_sub, nI_add, pk_mul, nn_sub, ng1_0, ng1_1, an_0, an_1, i1_0, Nat.add_zero, Nat.zero_add, Nat.mul_one, Nat.mul_zero, hI_cg, hP_cg, hJ_cg, wI_cg, wP_cg, wJ_cg, k3, c3, w1, eT_number_13]
theorem TPf.pre {S : Nat → Nat → Prop} {e : Ft_} {J : FJ_} {C : C_} {I I1 : FI_} {z : Option Z_} (f : FrI S I I1) (h : TPf S e J C I1 z) : TPf S e J C I z := by
  obtain ⟨I', h1, h2, h3⟩ := h
  exact ⟨I', h1, h2, f.tr h3⟩
theorem TPf.wk {S S' : Nat → Nat → Prop} {e : Ft_} {J : FJ_} {C : C_} {I : FI_} {z : Option Z_} (h : TPf S e J C I z) (f : ∀ t k, S t k → S' t k) : TPf S' e J C I z := by
  obtain ⟨I', h1, h2, h3⟩ := h
  exact ⟨I', h1, h2, h3.wk f⟩
theorem sb_l {α β : Type} {x : Ft_ ⊕ (α × Nat)} {k : α → Nat → Ft_ ⊕ β} {e : Ft_} (h : sb x k = .inl e) : x = .inl e ∨ ∃ v q, x = .inr (v, q) ∧ k v q = .inl e := by
  rcases x with e' | ⟨v, q⟩
  · have h : (Sum.inl e' : Ft_ ⊕ β) = .inl e := h
    injection h with h
    exact Or.inl (congrArg _ h)
  · exact Or.inr ⟨v, q, rfl, h⟩
theorem sb_r {α β : Type} {x : Ft_ ⊕ (α × Nat)} {k : α → Nat → Ft_ ⊕ β} {y : β} (h : sb x k = .inr y) : ∃ v q, x = .inr (v, q) ∧ k v q = .inr y := by
  rcases x with e' | ⟨v, q⟩
  · cases h
  · exact ⟨v, q, rfl, h⟩
theorem tw_signed {p : Nat} {I : FI_} (d : Nat) (J : FJ_) (C : C_) (hn : n ≤ 700) (h256 : ∀ k, b k < 256) (h : TTk b n p I) {hi : Nat} (hh : hi < 1000000) :
    (∀ e, sgnS b n p hi = .inl e → TPf nuF e J C I (Run_ (d, mT_signed, 0, [some (vR (1000, 0, 0)), some (vI (nI hi)), none], [], (tw I J, C)))) ∧ (∀ v q, sgnS b n p hi = .inr (v, q) → TPg b n v q J C I (Run_ (d, mT_signed, 0, [some (vR (1000, 0, 0)), some (vI (nI hi)), none], [], (tw I J, C)))) := by
  have s45 : (Run_ (d, mT_isSign, 0, [some (vR (1000, 0, 0)), some (vI 45)], [], (tw I J, C))) = _ := tw_isSign d J C h256 h (c := 45) rfl
  have x0 : ∀ I1 : FI_, (Run_ (d, mT_number, 0, [some (vR (1000, 0, 0)), some (vI 0), some (vI (nI hi))], [], (tw I1 J, C))) = (Run_ (d, mT_number, 0, [some (vR (1000, 0, 0)), some (vI 0), some (vI (nI hi))], [], (tw I1 J, C))) := fun _ => rfl
  unfold sgnS
  by_cases c : tkK b n p = 4 ∧ tkW b n p = 45
  · rw [if_pos c]
    rw [decide_eq_true c] at s45
    obtain ⟨I1, r, f, t⟩ := h.next d J C hn h256
    have f := f.wk tk_nu
    obtain ⟨n1, n2⟩ := tw_number d J C hn h256 t hh
    have e0 : (Run_ (d, mT_signed, 0, [some (vR (1000, 0, 0)), some (vI (nI hi)), none], [], (tw I J, C))) = (Run_ (d, mT_signed, 15, [some (vR (1000, 0, 0)), some (vI (nI hi)), some (vI 1)], [], (tw I1 J, C))) := by
      rw [eT_signed_0]
      simp (disch := omega) only [↓reduceIte, ↓qX_m, ↓qR_m, ↓cI_m, ↓cV_m, ↓cJ_m, ↓cO_m, ↓cR_m, ixq_n, ixq_l, tgq_ok, nL_mul, nR_mul, nL_add, nR_add, nL_sub, nR_sub, nI_add, pk_mul, nn_sub, ng1_0, ng1_1, an_0, an_1, i1_0, Nat.add_zero, Nat.zero_add, Nat.mul_one, Nat.mul_zero, hI_cg, hP_cg, hJ_cg, wI_cg, wP_cg, wJ_cg, s45, bI_1, eT_signed_6, r]
    rw [e0, eT_signed_15]
    refine ⟨fun e he => ?_, fun v q hq => ?_⟩
    · rcases sb_l he with y | ⟨v, q, -, y⟩
      · obtain ⟨I', r1, r2, r3⟩ := n1 e y
        refine ⟨I', ?_, r2, f.tr r3⟩
        simp (disch := omega) only [↓reduceIte, ↓qX_m, ↓qR_m, ↓cI_m, ↓cV_m, ↓cJ_m, ↓cO_m, ↓cR_m, ixq_n, ixq_l, tgq_ok, nL_mul, nR_mul, nL_add, nR_add, nL_sub, nR_sub, nI_add, pk_mul, nn_sub, ng1_0, ng1_1, an_0, an_1, i1_0, Nat.add_zero, Nat.zero_add, Nat.mul_one, Nat.mul_zero, hI_cg, hP_cg, hJ_cg, wI_cg, wP_cg, wJ_cg, r1, eT_signed_21]
      · cases y
    · obtain ⟨w, q', y1, y2⟩ := sb_r hq
      injection y2 with y2
      have hv := congrArg Prod.fst y2
      have hq := congrArg Prod.snd y2
      subst hv
      subst hq
      obtain ⟨I', r1, r2, r3, r4⟩ := n2 w q' y1
      refine ⟨u2 I' 1000 11 (-(nI w)), ?_, r2.u 11 _ (by omega), u2_s .., (f.tr r4).u (by unfold nuF; omega)⟩
      simp (disch := omega) only [↓reduceIte, ↓qX_m, ↓qR_m, ↓cI_m, ↓cV_m, ↓cJ_m, ↓cO_m, ↓cR_m, ixq_n, ixq_l, tgq_ok, nL_mul, nR_mul, nL_add, nR_add, nL_sub, nR_sub, nI_add, pk_mul, nn_sub, ng1_0, ng1_1, an_0, an_1, i1_0, Nat.add_zero, Nat.zero_add, Nat.mul_one, Nat.mul_zero, hI_cg, hP_cg, hJ_cg, wI_cg, wP_cg, wJ_cg, r1, eT_signed_21, r3, eT_signed_43]
  · rw [if_neg c]
    rw [decide_eq_false c] at s45
    obtain ⟨n1, n2⟩ := tw_number d J C hn h256 h hh
    have e0 : (Run_ (d, mT_signed, 0, [some (vR (1000, 0, 0)), some (vI (nI hi)), none], [], (tw I J, C))) = (Run_ (d, mT_signed, 15, [some (vR (1000, 0, 0)), some (vI (nI hi)), some (vI 0)], [], (tw I J, C))) := by
      rw [eT_signed_0]
      simp (disch := omega) only [↓reduceIte, ↓qX_m, ↓qR_m, ↓cI_m, ↓cV_m, ↓cJ_m, ↓cO_m, ↓cR_m, ixq_n, ixq_l, tgq_ok, nL_mul, nR_mul, nL_add, nR_add, nL_sub, nR_sub, nI_add, pk_mul, nn_sub, ng1_0, ng1_1, an_0, an_1, i1_0, Nat.add_zero, Nat.zero_add, Nat.mul_one, Nat.mul_zero, hI_cg, hP_cg, hJ_cg, wI_cg, wP_cg, wJ_cg, s45, bI_0, eT_signed_6]
    rw [e0, eT_signed_15]
    refine ⟨fun e he => ?_, fun v q hq => ?_⟩
    · rcases sb_l he with y | ⟨v, q, -, y⟩
      · obtain ⟨I', r1, r2, r3⟩ := n1 e y
        refine ⟨I', ?_, r2, r3⟩
        simp (disch := omega) only [↓reduceIte, ↓qX_m, ↓qR_m, ↓cI_m, ↓cV_m, ↓cJ_m, ↓cO_m, ↓cR_m, ixq_n, ixq_l, tgq_ok, nL_mul, nR_mul, nL_add, nR_add, nL_sub, nR_sub, nI_add, pk_mul, nn_sub, ng1_0, ng1_1, an_0, an_1, i1_0, Nat.add_zero, Nat.zero_add, Nat.mul_one, Nat.mul_zero, hI_cg, hP_cg, hJ_cg, wI_cg, wP_cg, wJ_cg, r1, eT_signed_21]
      · cases y
    · obtain ⟨w, q', y1, y2⟩ := sb_r hq
      injection y2 with y2
      have hv := congrArg Prod.fst y2
      have hq := congrArg Prod.snd y2
      subst hv
      subst hq
      obtain ⟨I', r1, r2, r3, r4⟩ := n2 w q' y1
      refine ⟨u2 I' 1000 11 (nI w), ?_, r2.u 11 _ (by omega), u2_s .., r4.u (by unfold nuF; omega)⟩
      simp (disch := omega) only [↓reduceIte, ↓qX_m, ↓qR_m, ↓cI_m, ↓cV_m, ↓cJ_m, ↓cO_m, ↓cR_m, ixq_n, ixq_l, tgq_ok, nL_mul, nR_mul, nL_add, nR_add, nL_sub, nR_sub, nI_add, pk_mul, nn_sub, ng1_0, ng1_1, an_0, an_1, i1_0, Nat.add_zero, Nat.zero_add, Nat.mul_one, Nat.mul_zero, hI_cg, hP_cg, hJ_cg, wI_cg, wP_cg, wJ_cg, r1, eT_signed_21, r3, eT_signed_43]
