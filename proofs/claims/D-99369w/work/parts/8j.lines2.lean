/-! THE TWIN's names -/
variable {b : Nat → Nat} {n : Nat}
theorem wI_tw (I : FI_) (J : FJ_) (C : C_) {T : Nat} (N k : Nat) (x : Int32) (hT : 1000 ≤ T) : wI (tw I J, C) (T, N, 0) k x = (tw (u2 I T k x) J, C) := by
  have e : Nat.blt T 100 = false := by rw [← Bool.not_eq_true, Nat.blt_eq]; omega
  show (bif Nat.blt T 100 then _ else _) = _
  rw [e]; rfl
theorem fd_or (f : Nat → Int32) {m : Nat} (v : Int32) (hm : m < 2147483648) : fdS f m v = -1 ∨ (∃ j, j < m ∧ fdS f m v = nI j ∧ (fdS f m v).toNatClampNeg = j ∧ fdS f m v ≠ -1 ∧ f j = v) := by
  rcases fnd_spec (fun k => decide (f k = v)) m 0 with ⟨h, -⟩ | ⟨j, -, h2, h3, h4⟩
  · exact Or.inl h
  · have h4 : fdS f m v = nI j := h4
    refine Or.inr ⟨j, by omega, h4, by rw [h4, nI_clamp (by omega)], fun z => ?_, of_decide_eq_true h3⟩
    rw [h4] at z
    have := congrArg Int32.toInt z
    rw [nI_toInt (by omega)] at this
    have m1 : (-1 : Int32).toInt = -1 := by decide
    omega
theorem tw_newName {p : Nat} {I : FI_} (d : Nat) (J : FJ_) (C : C_) (hn : n ≤ 700) (h256 : ∀ k, b k < 256) (h : TTk b n p I) {T N F m : Nat} (f : Nat → Int32) (hT : 1003 ≤ T) (hk : ak_ T = 1) (hm : F + m < N) (hN : N < 1000) (hf : ∀ k, k < m → I T (F + k) = f k) :
    (∀ e, newS b n p f m = .inl e → TPf nuF e J C I (Run_ (d, mT_newName, 0, [some (vR (1000, 0, 0)), some (vR (T, N, 0)), some (vI (nI F)), some (vI (nI m))], [], (tw I J, C)))) ∧
    (∀ v q, newS b n p f m = .inr (v, q) → ∃ I' : FI_, (Run_ (d, mT_newName, 0, [some (vR (1000, 0, 0)), some (vR (T, N, 0)), some (vI (nI F)), some (vI (nI m))], [], (tw I J, C))) = some (.inl (some (vI 1)), (tw I' J, C)) ∧ TTk b n q I' ∧ I' T (F + m) = v ∧ FrI (lnF T T (F + m)) I I') := by
  obtain ⟨-, k2, -, -, -, e2, -⟩ := h.k h256
  have w1 : (Run_ (d, mT_wrong, 0, [some (vR (1000, 0, 0)), some (vI 1)], [], (tw I J, C))) = _ := tw_wrong d I J C 1
  have w3 : (Run_ (d, mT_wrong, 0, [some (vR (1000, 0, 0)), some (vI 3)], [], (tw I J, C))) = _ := tw_wrong d I J C 3
  unfold newS
  by_cases c2 : tkK b n p = 2
  · have e9 := e2 c2
    have hfd : (Run_ (d, mT_find, 0, [some (vR (T, N, 0)), some (vI (nI F)), some (vI (nI m)), some (vI (I 1000 9)), none], [], (tw I J, C))) = _ := tw_find (I := I) (J := J) d C (I 1000 9) f (by omega) hk (by omega) hN hf
    rw [e9] at hfd
    have hfd : (Run_ (d, mT_find, 0, [some (vR (T, N, 0)), some (vI (nI F)), some (vI (nI m)), some (vI (tkV b n p)), none], [], (tw I J, C))) = some (.inl (some (vI (fdS f m (tkV b n p)))), (tw I J, C)) := hfd
    rw [if_pos c2]
    rcases fd_or f (m := m) (tkV b n p) (by omega) with c | ⟨j, j1, j2, j3, j4, -⟩
    · rw [if_pos c]
      refine ⟨fun e he => (by cases he), fun v q hq => ?_⟩
      injection hq with hq
      have hv := congrArg Prod.fst hq
      have hq := congrArg Prod.snd hq
      subst hv
      subst hq
      have m1 : ((-1 : Int32) < 0) = True := eq_true (by decide)
      have t0 : TTk b n p (u2 I T (F + m) (tkV b n p)) := h.fr (fun t k q => by rw [u2_ap, if_neg (by omega)])
      obtain ⟨I', r, f', t⟩ := t0.next d J C hn h256
      refine ⟨I', ?_, t, ?_, ((FrI.rf _ I).u (by unfold lnF; omega)).tr (f'.wk (fun t k q => Or.inl (tk_nu t k q)))⟩
      · rw [eT_newName_0]
        rw [c] at hfd
        simp (disch := omega) only [↓reduceIte, k2, eq_true c2, e9, hfd, cI_ok, eT_newName_24, m1]
        unfold qK
        dsimp only
        rw [hk]
        simp (disch := omega) only [↓reduceIte, ↓qX_m, ↓qR_m, ↓cI_m, ↓cV_m, ↓cJ_m, ↓cO_m, ↓cR_m, ixq_n, ixq_l, tgq_ok, nL_mul, nR_mul, nL_add, nR_add, nL_sub, nR_sub, nI_add, pk_mul, nn_sub, ng1_0, ng1_1, an_0, an_1, i1_0, Nat.add_zero, Nat.zero_add, Nat.mul_one, Nat.mul_zero, hI_cg, hP_cg, hJ_cg, wI_cg, wP_cg, wJ_cg, Nat.beq, wI_tw, r, eT_newName_46, cond_true]
      · rw [f' _ _ (by unfold tk4; omega), u2_s]
    · rw [if_neg j4]
      refine ⟨fun e he => ?_, fun v q hq => (by cases hq)⟩
      injection he with he
      subst he
      have z0 : (nI j < 0) = False := nI_lt0 (by omega)
      rw [j2] at hfd
      refine ⟨wrI I 3, ?_, wr_ft h 3, wr_nu I 3⟩
      rw [eT_newName_0]
      simp (disch := omega) only [↓reduceIte, k2, eq_true c2, e9, hfd, cI_ok, eT_newName_24, z0, w3, eT_newName_32, ng1_0]
  · rw [if_neg c2]
    refine ⟨fun e he => ?_, fun v q hq => (by cases hq)⟩
    injection he with he
    subst he
    refine ⟨wrI I 1, ?_, wr_ft h 1, wr_nu I 1⟩
    rw [eT_newName_0]
    simp (disch := omega) only [↓reduceIte, ↓qX_m, ↓qR_m, ↓cI_m, ↓cV_m, ↓cJ_m, ↓cO_m, ↓cR_m, ixq_n, ixq_l, tgq_ok, nL_mul, nR_mul, nL_add, nR_add, nL_sub, nR_sub, nI_add, pk_mul, nn_sub, ng1_0, ng1_1, an_0, an_1, i1_0, Nat.add_zero, Nat.zero_add, Nat.mul_one, Nat.mul_zero, hI_cg, hP_cg, hJ_cg, wI_cg, wP_cg, wJ_cg, k2, c2, w1, eT_newName_13]
theorem tw_thereIn {p : Nat} {I : FI_} (d : Nat) (J : FJ_) (C : C_) (hn : n ≤ 700) (h256 : ∀ k, b k < 256) (h : TTk b n p I) {T N F m : Nat} (f : Nat → Int32) (hT : 1003 ≤ T) (hk : ak_ T = 1) (hm : F + m ≤ N) (hN : N < 1000) (hf : ∀ k, k < m → I T (F + k) = f k) :
    (∀ e, herS b n p f m = .inl e → TPf nuF e J C I (Run_ (d, mT_thereIn, 0, [some (vR (1000, 0, 0)), some (vR (T, N, 0)), some (vI (nI F)), some (vI (nI m)), none], [], (tw I J, C)))) ∧
    (∀ v q, herS b n p f m = .inr (v, q) → v < m ∧ TPg b n (nI v) q J C I (Run_ (d, mT_thereIn, 0, [some (vR (1000, 0, 0)), some (vR (T, N, 0)), some (vI (nI F)), some (vI (nI m)), none], [], (tw I J, C)))) := by
  obtain ⟨-, k2, -, -, -, e2, -⟩ := h.k h256
  have w1 : (Run_ (d, mT_wrong, 0, [some (vR (1000, 0, 0)), some (vI 1)], [], (tw I J, C))) = _ := tw_wrong d I J C 1
  have w4 : (Run_ (d, mT_wrong, 0, [some (vR (1000, 0, 0)), some (vI 4)], [], (tw I J, C))) = _ := tw_wrong d I J C 4
  unfold herS
  by_cases c2 : tkK b n p = 2
  · have e9 := e2 c2
    have hfd : (Run_ (d, mT_find, 0, [some (vR (T, N, 0)), some (vI (nI F)), some (vI (nI m)), some (vI (I 1000 9)), none], [], (tw I J, C))) = _ := tw_find (I := I) (J := J) d C (I 1000 9) f (by omega) hk (by omega) hN hf
    rw [e9] at hfd
    have hfd : (Run_ (d, mT_find, 0, [some (vR (T, N, 0)), some (vI (nI F)), some (vI (nI m)), some (vI (tkV b n p)), none], [], (tw I J, C))) = some (.inl (some (vI (fdS f m (tkV b n p)))), (tw I J, C)) := hfd
    rw [if_pos c2]
    rcases fd_or f (m := m) (tkV b n p) (by omega) with c | ⟨j, j1, j2, j3, j4, -⟩
    · rw [if_pos c]
      refine ⟨fun e he => ?_, fun v q hq => (by cases hq)⟩
      injection he with he
      subst he
      have m1 : ((-1 : Int32) < 0) = True := eq_true (by decide)
      rw [c] at hfd
      refine ⟨wrI I 4, ?_, wr_ft h 4, wr_nu I 4⟩
      rw [eT_thereIn_0]
      simp (disch := omega) only [↓reduceIte, k2, eq_true c2, e9, hfd, cI_ok, eT_thereIn_24, m1, w4, eT_thereIn_36, ng1_0]
    · rw [if_neg j4, j3]
      refine ⟨fun e he => (by cases he), fun v q hq => ?_⟩
      injection hq with hq
      have hv := congrArg Prod.fst hq
      have hq := congrArg Prod.snd hq
      subst hv
      subst hq
      have z0 : (nI j < 0) = False := nI_lt0 (by omega)
      rw [j2] at hfd
      obtain ⟨I', r, f', t⟩ := h.next d J C hn h256
      refine ⟨j1, u2 I' 1000 11 (nI j), ?_, t.u 11 _ (by omega), u2_s .., (f'.wk tk_nu).u (by unfold nuF; omega)⟩
      rw [eT_thereIn_0]
      simp (disch := omega) only [↓reduceIte, k2, eq_true c2, e9, hfd, cI_ok, eT_thereIn_24, z0, r, cV_ok, eT_thereIn_41]
  · rw [if_neg c2]
    refine ⟨fun e he => ?_, fun v q hq => (by cases hq)⟩
    injection he with he
    subst he
    refine ⟨wrI I 1, ?_, wr_ft h 1, wr_nu I 1⟩
    rw [eT_thereIn_0]
    simp (disch := omega) only [↓reduceIte, ↓qX_m, ↓qR_m, ↓cI_m, ↓cV_m, ↓cJ_m, ↓cO_m, ↓cR_m, ixq_n, ixq_l, tgq_ok, nL_mul, nR_mul, nL_add, nR_add, nL_sub, nR_sub, nI_add, pk_mul, nn_sub, ng1_0, ng1_1, an_0, an_1, i1_0, Nat.add_zero, Nat.zero_add, Nat.mul_one, Nat.mul_zero, hI_cg, hP_cg, hJ_cg, wI_cg, wP_cg, wJ_cg, k2, c2, w1, eT_thereIn_13]
