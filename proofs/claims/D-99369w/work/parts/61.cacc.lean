/-! THE COMPONENT's small methods -/
variable {κ : Ky_} {τ : Tx_} {Λ : La_} {ω : Om_} {s n : Nat} {I : RI_} {J : RJ_} {P : RP_}
theorem al_get (d : Nat) (T : T_) {a q m b sz k : Nat} {r : Option R_} (h1 : P (17, a, q) 1 = some (49, m, b)) (h2 : I (17, a, q) 2 = nI sz) (hk : k < sz) (hm : sz ≤ m) (hm2 : m < 1000) (h3 : P (49, m, b) k = r) :
    (Run_ (d, mArrayList_get, 0, [some (vR (17, a, q)), some (vI (nI k))], [], (cg T n I J P))) = some (.inl (some (vO r)), cg T n I J P) := by
  simp (disch := omega) only [eArrayList_get_0, eArrayList_elementData_0, eObjects_checkIndex_0, ePreconditions_checkIndex_0, ePreconditions_checkIndex_9, ↓reduceIte, ↓qX_m, ↓qR_m, ↓cI_m, ↓cV_m, ↓cJ_m, ↓cO_m, ↓cR_m, ixq_n, ixq_l, tgq_ok, nL_mul, nR_mul, nL_add, nR_add, nL_sub, nR_sub, nI_add, pk_mul, nn_sub, ng1_0, ng1_1, an_0, an_1, i1_0, Nat.add_zero, Nat.zero_add, Nat.mul_one, Nat.mul_zero, hI_cg, hP_cg, hJ_cg, wI_cg, wP_cg, wJ_cg, h1, h2, h3, nI_lt0, nn_lt, hk]
theorem ac_kinds (d : Nat) (T : T_) (h : CC κ τ Λ n I P) : (Run_ (d, mC_kinds, 0, [some (vR (1, 0, 1))], [], (cg T n I J P))) = some (.inl (some (vI (nI (nkS τ)))), cg T n I J P) := by
  obtain ⟨-, -, ⟨h3, -⟩, ⟨⟨⟨g1, -⟩, -⟩, ⟨g2, g3, g4⟩, -⟩, -⟩ := h
  simp (disch := omega) only [eC_kinds_0, eArrayList_size_0, ↓reduceIte, ↓qX_m, ↓qR_m, ↓cI_m, ↓cV_m, ↓cJ_m, ↓cO_m, ↓cR_m, ixq_n, ixq_l, tgq_ok, nL_mul, nR_mul, nL_add, nR_add, nL_sub, nR_sub, nI_add, pk_mul, nn_sub, ng1_0, ng1_1, an_0, an_1, i1_0, Nat.add_zero, Nat.zero_add, Nat.mul_one, Nat.mul_zero, hI_cg, hP_cg, hJ_cg, wI_cg, wP_cg, wJ_cg, h3, g1, g2]
theorem ac_deeds (d : Nat) (T : T_) (h : CC κ τ Λ n I P) : (Run_ (d, mC_deeds, 0, [some (vR (1, 0, 1))], [], (cg T n I J P))) = some (.inl (some (vI (nI (ndS τ)))), cg T n I J P) := by
  obtain ⟨-, -, ⟨h3, -⟩, ⟨⟨⟨-, g1, -⟩, -⟩, ⟨g2, g3, g4⟩, -⟩, -⟩ := h
  simp (disch := omega) only [eC_deeds_0, eArrayList_size_0, ↓reduceIte, ↓qX_m, ↓qR_m, ↓cI_m, ↓cV_m, ↓cJ_m, ↓cO_m, ↓cR_m, ixq_n, ixq_l, tgq_ok, nL_mul, nR_mul, nL_add, nR_add, nL_sub, nR_sub, nI_add, pk_mul, nn_sub, ng1_0, ng1_1, an_0, an_1, i1_0, Nat.add_zero, Nat.zero_add, Nat.mul_one, Nat.mul_zero, hI_cg, hP_cg, hJ_cg, wI_cg, wP_cg, wJ_cg, h3, g1, g3]
theorem ac_plans (d : Nat) (T : T_) (h : CC κ τ Λ n I P) : (Run_ (d, mC_plans, 0, [some (vR (1, 0, 1))], [], (cg T n I J P))) = some (.inl (some (vI (nI (npS τ)))), cg T n I J P) := by
  obtain ⟨-, -, ⟨h3, -⟩, ⟨⟨⟨-, -, g1, -⟩, -⟩, ⟨g2, g3, g4⟩, -⟩, -⟩ := h
  simp (disch := omega) only [eC_plans_0, eArrayList_size_0, ↓reduceIte, ↓qX_m, ↓qR_m, ↓cI_m, ↓cV_m, ↓cJ_m, ↓cO_m, ↓cR_m, ixq_n, ixq_l, tgq_ok, nL_mul, nR_mul, nL_add, nR_add, nL_sub, nR_sub, nI_add, pk_mul, nn_sub, ng1_0, ng1_1, an_0, an_1, i1_0, Nat.add_zero, Nat.zero_add, Nat.mul_one, Nat.mul_zero, hI_cg, hP_cg, hJ_cg, wI_cg, wP_cg, wJ_cg, h3, g1, g4]
theorem ac_kind (d : Nat) (T : T_) {k : Nat} (h : CC κ τ Λ n I P) (hk : k < nkS τ) : (Run_ (d, mC_kind_I, 0, [some (vR (1, 0, 1)), some (vI (nI k))], [], (cg T n I J P))) = some (.inl (some (vR (7, 0, yK κ k))), cg T n I J P) := by
  obtain ⟨ho, -, ⟨h3, -⟩, ⟨⟨⟨g1, -⟩, g0, -⟩, ⟨g2, g3, g4⟩, g5, -⟩, -⟩ := h
  have h6 := ho.k6.2
  simp (disch := omega) only [eC_kind_I_0, ↓reduceIte, ↓qX_m, ↓qR_m, ↓cI_m, ↓cV_m, ↓cJ_m, ↓cO_m, ↓cR_m, ixq_n, ixq_l, tgq_ok, nL_mul, nR_mul, nL_add, nR_add, nL_sub, nR_sub, nI_add, pk_mul, nn_sub, ng1_0, ng1_1, an_0, an_1, i1_0, Nat.add_zero, Nat.zero_add, Nat.mul_one, Nat.mul_zero, hI_cg, hP_cg, hJ_cg, wI_cg, wP_cg, wJ_cg, h3, g1, al_get d T g0 g2 hk h6 (by omega) (g5 k hk).1.1]
theorem ac_deed (d : Nat) (T : T_) {k : Nat} (h : CC κ τ Λ n I P) (hk : k < ndS τ) : (Run_ (d, mC_deed_I, 0, [some (vR (1, 0, 1)), some (vI (nI k))], [], (cg T n I J P))) = some (.inl (some (vR (8, 0, yD κ k))), cg T n I J P) := by
  obtain ⟨ho, -, ⟨h3, -⟩, ⟨⟨⟨-, g1, -⟩, -, g0, -⟩, ⟨g2, g3, g4⟩, -, g5, -⟩, -⟩ := h
  have h6 := ho.d8.2
  simp (disch := omega) only [eC_deed_I_0, ↓reduceIte, ↓qX_m, ↓qR_m, ↓cI_m, ↓cV_m, ↓cJ_m, ↓cO_m, ↓cR_m, ixq_n, ixq_l, tgq_ok, nL_mul, nR_mul, nL_add, nR_add, nL_sub, nR_sub, nI_add, pk_mul, nn_sub, ng1_0, ng1_1, an_0, an_1, i1_0, Nat.add_zero, Nat.zero_add, Nat.mul_one, Nat.mul_zero, hI_cg, hP_cg, hJ_cg, wI_cg, wP_cg, wJ_cg, h3, g1, al_get d T g0 g3 hk h6 (by omega) (g5 k hk).1]
theorem ac_plan (d : Nat) (T : T_) {k : Nat} (h : CC κ τ Λ n I P) (hk : k < npS τ) : (Run_ (d, mC_plan_I, 0, [some (vR (1, 0, 1)), some (vI (nI k))], [], (cg T n I J P))) = some (.inl (some (vR (9, 0, yP κ k))), cg T n I J P) := by
  obtain ⟨ho, -, ⟨h3, -⟩, ⟨⟨⟨-, -, g1, -⟩, -, -, g0⟩, ⟨g2, g3, g4⟩, -, -, g5, -⟩, -⟩ := h
  have h6 := ho.p12.2
  simp (disch := omega) only [eC_plan_I_0, ↓reduceIte, ↓qX_m, ↓qR_m, ↓cI_m, ↓cV_m, ↓cJ_m, ↓cO_m, ↓cR_m, ixq_n, ixq_l, tgq_ok, nL_mul, nR_mul, nL_add, nR_add, nL_sub, nR_sub, nI_add, pk_mul, nn_sub, ng1_0, ng1_1, an_0, an_1, i1_0, Nat.add_zero, Nat.zero_add, Nat.mul_one, Nat.mul_zero, hI_cg, hP_cg, hJ_cg, wI_cg, wP_cg, wJ_cg, h3, g1, al_get d T g0 g4 hk h6 (by omega) (g5 k hk).1]
theorem ac_abs (d : Nat) (G : G_) (x : Int32) : (Run_ (d, mMath_abs_I, 0, [some (vI x)], [], G)) = some (.inl (some (vI (iabs x))), G) := by
  simp only [eMath_abs_I_0, eMath_abs_I_10]
  unfold iabs
  split <;> rfl
theorem ac_absJ (d : Nat) (G : G_) (x : Int64) : (Run_ (d, mMath_abs_J, 0, [some (vJ x), none], [], G)) = some (.inl (some (vJ (jabs x))), G) := by
  simp only [eMath_abs_J_0, eMath_abs_J_12, lg_cmp_lt]
  unfold jabs
  split <;> rfl
def imin (a b : Int32) : Int32 := if b < a then b else a
def imax (a b : Int32) : Int32 := if a < b then b else a
theorem ac_min (d : Nat) (G : G_) (x y : Int32) : (Run_ (d, mMath_min_II, 0, [some (vI x), some (vI y)], [], G)) = some (.inl (some (vI (imin x y))), G) := by
  simp only [eMath_min_II_0, eMath_min_II_10]
  unfold imin
  split <;> rfl
theorem ac_max (d : Nat) (G : G_) (x y : Int32) : (Run_ (d, mMath_max_II, 0, [some (vI x), some (vI y)], [], G)) = some (.inl (some (vI (imax x y))), G) := by
  simp only [eMath_max_II_0, eMath_max_II_10]
  unfold imax
  split <;> rfl
theorem ac_bound (d : Nat) (G : G_) (x : Int32) : (Run_ (d, mC_bound, 0, [some (vI x), some (vI 999)], [], G)) = some (.inl (some (vI (icut x (-999) 999))), G) := by
  simp only [eC_bound_0, ac_min, ac_max, cI_ok]
  have : imax (-999) (imin 999 x) = icut x (-999) 999 := by
    unfold imax imin icut
    have e1 : (999 : Int32).toInt = 999 := by decide
    have e2 : (-999 : Int32).toInt = -999 := by decide
    simp only [i_lt]
    repeat' split
    all_goals first | rfl | (rw [i_eq]; omega) | omega
  rw [this]
theorem ac_more {σ : St_} {k : Nat} (d : Nat) (T : T_) (hs : StP P s) (h : CSt σ (nkS τ) (npS τ) s I) (hk : k < nkS τ) (h6 : nkS τ ≤ 6) : (Run_ (d, mState_more, 0, [some (vR (5, 0, s)), some (vI (nI k))], [], (cg T n I J P))) = some (.inl (some (vI (sAm σ (2 * k) - sAm σ (2 * k + 1)))), cg T n I J P) := by
  have e1 := h.1 (2 * k) (by omega)
  have e2 := h.1 (2 * k + 1) (by omega)
  simp (disch := omega) only [eState_more_0, ↓reduceIte, ↓qX_m, ↓qR_m, ↓cI_m, ↓cV_m, ↓cJ_m, ↓cO_m, ↓cR_m, ixq_n, ixq_l, tgq_ok, nL_mul, nR_mul, nL_add, nR_add, nL_sub, nR_sub, nI_add, pk_mul, nn_sub, ng1_0, ng1_1, an_0, an_1, i1_0, Nat.add_zero, Nat.zero_add, Nat.mul_one, Nat.mul_zero, hI_cg, hP_cg, hJ_cg, wI_cg, wP_cg, wJ_cg, hs.1, e1, e2]
theorem ac_gap {σ : St_} {k : Nat} (d : Nat) (T : T_) (hs : StP P s) (h : CSt σ (nkS τ) (npS τ) s I) (hk : k < nkS τ) (h6 : nkS τ ≤ 6) : (Run_ (d, mState_gap, 0, [some (vR (5, 0, s)), some (vI (nI k))], [], (cg T n I J P))) = some (.inl (some (vI (gapS σ k))), cg T n I J P) := by
  simp only [eState_gap_0, ac_more (τ := τ) d T hs h hk h6, ac_abs, cI_ok]
  rfl
theorem ac_heals {k : Nat} (d : Nat) (T : T_) (hs : StP P s) (h : CC κ τ Λ n I P) (ho : COm ω s I) (hk : k < nkS τ) : (Run_ (d, mState_healsOf, 0, [some (vR (5, 0, s)), some (vI (nI k))], [], (cg T n I J P))) = some (.inl (some (vI (hlsS τ ω k))), cg T n I J P) := by
  have h6 := h.1.k6.2
  have e := ho.2.2.2.2.2
  obtain ⟨-, -, -, ⟨-, -, g5, -⟩, -⟩ := id h
  have g := (g5 k hk).2.1.2.2
  simp (disch := omega) only [eState_healsOf_0, eState_healsOf_26, ↓reduceIte, ↓qX_m, ↓qR_m, ↓cI_m, ↓cV_m, ↓cJ_m, ↓cO_m, ↓cR_m, ixq_n, ixq_l, tgq_ok, nL_mul, nR_mul, nL_add, nR_add, nL_sub, nR_sub, nI_add, pk_mul, nn_sub, ng1_0, ng1_1, an_0, an_1, i1_0, Nat.add_zero, Nat.zero_add, Nat.mul_one, Nat.mul_zero, hI_cg, hP_cg, hJ_cg, wI_cg, wP_cg, wJ_cg, hs.2.2.2, ac_kind d T h hk, g, ← e.1]
  unfold hlsS
  by_cases hq : oHO ω = nI k
  · rw [if_pos hq, if_pos hq.symm]
    rcases e.2 with q | q
    · rw [q] at hq; exact absurd hq.symm (by simp (disch := omega) only [nI_neq, not_false_eq_true])
    · rw [q]
  · rw [if_neg hq, if_neg (fun z => hq z.symm)]
def lc7 (J : RJ_) (nm : Nm_) : RJ_ := u2 (u2 (u2 (u2 (u2 (u2 (u2 J (44, 7, 43) 0 (nm 0)) (44, 7, 43) 1 (nm 1)) (44, 7, 43) 2 (nm 2)) (44, 7, 43) 3 (nm 3)) (44, 7, 43) 4 (nm 4)) (44, 7, 43) 5 (nm 5)) (44, 7, 43) 6 (nm 6)
theorem lc7_nm (J : RJ_) (nm : Nm_) : ∀ k, k < 7 → lc7 J nm (44, 7, 43) k = nm k := by
  intro k hk
  have : k = 0 ∨ k = 1 ∨ k = 2 ∨ k = 3 ∨ k = 4 ∨ k = 5 ∨ k = 6 := by omega
  unfold lc7
  rcases this with h | h | h | h | h | h | h <;> subst h <;> simp (disch := omega) only [u2_s, u2_k]
theorem lc7_fr (J : RJ_) (nm : Nm_) : FrN J (lc7 J nm) := by
  intro r k h
  unfold lc7
  simp only [u2_ap, h, false_and, reduceIte]
theorem ac_name {σ : St_} {k t : Nat} (d : Nat) (T : T_) (hs : StP P s) (h : CC κ τ Λ n I P) (ho : COm ω s I) (hg : CSt σ (nkS τ) (npS τ) s I) (hk : k < nkS τ) (ht : t < 2) :
    (Run_ (d, mState_name, 0, [some (vR (5, 0, s)), some (vI (nI k)), some (vI (nI t))], [], (cg T n I J P))) = some (.inl none, cg T n I (lc7 J (nmS τ ω σ k t)) P) := by
  have h6 := h.1.k6.2
  have hx : P (1, 0, 1) 7 = some (44, 7, 43) := h.2.1.1.2.2.1
  obtain ⟨-, -, -, ⟨-, -, g5, -⟩, -⟩ := id h
  have g := (g5 k hk).2.1.2.1
  have e1 : I (31, 12, s + 1) (2 * k + t) = sAm σ (2 * k + t) := hg.1 _ (by omega)
  have e2 : I (31, 12, s + 1) (2 * k + 1 - t) = sAm σ (2 * k + 1 - t) := hg.1 _ (by omega)
  simp (disch := omega) only [eState_name_0, ↓reduceIte, ↓qX_m, ↓qR_m, ↓cI_m, ↓cV_m, ↓cJ_m, ↓cO_m, ↓cR_m, ixq_n, ixq_l, tgq_ok, nL_mul, nR_mul, nL_add, nR_add, nL_sub, nR_sub, nI_add, pk_mul, nn_sub, ng1_0, ng1_1, an_0, an_1, i1_0, Nat.add_zero, Nat.zero_add, Nat.mul_one, Nat.mul_zero, hI_cg, hP_cg, hJ_cg, wI_cg, wP_cg, wJ_cg, hs.1, hs.2.2.2, hx, e1, e2, ac_gap (τ := τ) d T hs hg hk h6, ac_kind d T h hk, ac_heals d T hs h ho hk, g, hg.2.2.2.1, hg.2.2.2.2]
  rfl
