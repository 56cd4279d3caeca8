/-! THE COMPONENT: a State begun; is it one of them? -/
variable {κ : Ky_} {τ : Tx_} {Λ : La_} {ω : Om_} {s n : Nat} {I : RI_} {J : RJ_} {P : RP_}
theorem rne {t a b t2 a2 b2 : Nat} (h : t ≠ t2 ∨ b ≠ b2) : ((t2, a2, b2) : R_) ≠ (t, a, b) := fun e => by
  have h1 : t2 = t := congrArg (·.1) e
  have h2 : b2 = b := congrArg (·.2.2) e
  omega
theorem ac_begin (d : Nat) (T : T_) (hC : CC κ τ Λ n I P) (hs : StP P s) :
    ∃ I' : RI_, (Run_ (d, mState_begin, 0, [some (vR (5, 0, s)), none, none], [], (cg T n I J P))) = some (.inl none, cg T n I' J P) ∧ CD κ τ Λ om0 s (begS τ, (τ 1003 0).toNatClampNeg) n I' P ∧ FrC (scell s) I I' := by
  have h6 := hC.1.k6.2
  have h12 := hC.1.p12.2
  have hc : ∀ {I' : RI_}, FrC (scell s) I I' → CC κ τ Λ n I' P := fun f => hC.frS f
  obtain ⟨-, -, ⟨h3, -⟩, ⟨⟨⟨-, -, -, g3, -⟩, -⟩, -, g5, -, -, g8, g9, -⟩, -⟩ := id hC
  have b1 : ((0 : Int32) < 2) = True := eq_true (by decide)
  have b2 : ((1 : Int32) < 2) = True := eq_true (by decide)
  have b3 : ((2 : Int32) < 2) = False := eq_false (by decide)
  have z1 : (0 : Int32) + 1 = 1 := rfl
  have z2 : (1 : Int32) + 1 = 2 := rfl
  -- the amounts
  obtain ⟨I1, r1, a1, f1⟩ := lp (α := RI_) (fun k a => (Run_ (d, mState_begin, 2, [some (vR (5, 0, s)), some (vI (nI k)), none], [], (cg T n a J P)))) (fun a => (Run_ (d, mState_begin, 57, [some (vR (5, 0, s)), some (vI 0), none], [], (cg T n a J P))))
    (fun k a => (∀ j, j < 2 * k → a (31, 12, s + 1) j = τ 1007 j) ∧ FrC (fun r => r = (31, 12, s + 1)) I a) (nkS τ) (fun k I1 hk ⟨q1, q2⟩ => by
      have fS : FrC (scell s) I I1 := fun r j hr => q2 r j (fun z => hr (z ▸ sc1 s))
      have hC1 := hc fS
      obtain ⟨⟨-, u1⟩, -, u3⟩ := g5 k hk
      have e0 : I1 (34, 2, yK κ k + 1) 0 = τ 1007 (2 * k) := (q2 _ _ (rne (by omega))).trans (u3 0 (by omega))
      have e1 : I1 (34, 2, yK κ k + 1) 1 = τ 1007 (2 * k + 1) := (q2 _ _ (rne (by omega))).trans (u3 1 (by omega))
      have fu1 := frc_u (S := fun r => r = (31, 12, s + 1)) I1 (31, 12, s + 1) (2 * k) (τ 1007 (2 * k)) rfl
      have fu2 := frc_u (S := fun r => r = (31, 12, s + 1)) (u2 I1 (31, 12, s + 1) (2 * k) (τ 1007 (2 * k))) (31, 12, s + 1) (2 * k + 1) (τ 1007 (2 * k + 1)) rfl
      have fS2 : FrC (scell s) I (u2 I1 (31, 12, s + 1) (2 * k) (τ 1007 (2 * k))) := fun r j hr => (fu1 r j (fun z => hr (z ▸ sc1 s))).trans (fS r j hr)
      have e2 : u2 I1 (31, 12, s + 1) (2 * k) (τ 1007 (2 * k)) (34, 2, yK κ k + 1) 1 = τ 1007 (2 * k + 1) := (u2_r _ _ _ _ (by omega)).trans e1
      have k1 := ac_kind (J := J) d T hC1 hk
      have k2 := ac_kind (J := J) d T (hc fS2) hk
      refine ⟨u2 (u2 I1 (31, 12, s + 1) (2 * k) (τ 1007 (2 * k))) (31, 12, s + 1) (2 * k + 1) (τ 1007 (2 * k + 1)), ?_, fun j hj => ?_, q2.tr (fu1.tr fu2)⟩
      · try dsimp only
        rw [eState_begin_2]
        simp (disch := omega) only [↓reduceIte, ↓qX_m, ↓qR_m, ↓cI_m, ↓cV_m, ↓cJ_m, ↓cO_m, ↓cR_m, ixq_n, ixq_l, tgq_ok, nL_mul, nR_mul, nL_add, nR_add, nL_sub, nR_sub, nI_add, pk_mul, nn_sub, ng1_0, ng1_1, an_0, an_1, i1_0, Nat.add_zero, Nat.zero_add, Nat.mul_one, Nat.mul_zero, hI_cg, hP_cg, hJ_cg, wI_cg, wP_cg, wJ_cg, hs.2.2.2, ac_kinds d T hC1, nn_lt, hk]
        rw [eState_begin_15]
        simp (disch := omega) only [↓reduceIte, ↓qX_m, ↓qR_m, ↓cI_m, ↓cV_m, ↓cJ_m, ↓cO_m, ↓cR_m, ixq_n, ixq_l, tgq_ok, nL_mul, nR_mul, nL_add, nR_add, nL_sub, nR_sub, nI_add, pk_mul, nn_sub, ng1_0, ng1_1, an_0, an_1, i1_0, Nat.add_zero, Nat.zero_add, Nat.mul_one, Nat.mul_zero, hI_cg, hP_cg, hJ_cg, wI_cg, wP_cg, wJ_cg, b1, hs.1, hs.2.2.2, k1, u1, e0, z1]
        rw [eState_begin_15]
        simp (disch := omega) only [↓reduceIte, ↓qX_m, ↓qR_m, ↓cI_m, ↓cV_m, ↓cJ_m, ↓cO_m, ↓cR_m, ixq_n, ixq_l, tgq_ok, nL_mul, nR_mul, nL_add, nR_add, nL_sub, nR_sub, nI_add, pk_mul, nn_sub, ng1_0, ng1_1, an_0, an_1, i1_0, Nat.add_zero, Nat.zero_add, Nat.mul_one, Nat.mul_zero, hI_cg, hP_cg, hJ_cg, wI_cg, wP_cg, wJ_cg, b2, hs.1, hs.2.2.2, k2, u1, e2, z2]
        rw [eState_begin_15]
        simp (disch := omega) only [↓reduceIte, ↓qX_m, ↓qR_m, ↓cI_m, ↓cV_m, ↓cJ_m, ↓cO_m, ↓cR_m, ixq_n, ixq_l, tgq_ok, nL_mul, nR_mul, nL_add, nR_add, nL_sub, nR_sub, nI_add, pk_mul, nn_sub, ng1_0, ng1_1, an_0, an_1, i1_0, Nat.add_zero, Nat.zero_add, Nat.mul_one, Nat.mul_zero, hI_cg, hP_cg, hJ_cg, wI_cg, wP_cg, wJ_cg, b3]
      · by_cases y1 : j = 2 * k + 1
        · rw [y1, u2_s]
        · rw [u2_k _ _ _ _ y1]
          by_cases y2 : j = 2 * k
          · rw [y2, u2_s]
          · rw [u2_k _ _ _ _ y2]; exact q1 j (by omega))
    (fun I1 ⟨q1, q2⟩ => by
      have fS : FrC (scell s) I I1 := fun r j hr => q2 r j (fun z => hr (z ▸ sc1 s))
      try dsimp only
      rw [eState_begin_2]
      simp (disch := omega) only [↓reduceIte, ↓qX_m, ↓qR_m, ↓cI_m, ↓cV_m, ↓cJ_m, ↓cO_m, ↓cR_m, ixq_n, ixq_l, tgq_ok, nL_mul, nR_mul, nL_add, nR_add, nL_sub, nR_sub, nI_add, pk_mul, nn_sub, ng1_0, ng1_1, an_0, an_1, i1_0, Nat.add_zero, Nat.zero_add, Nat.mul_one, Nat.mul_zero, hI_cg, hP_cg, hJ_cg, wI_cg, wP_cg, wJ_cg, hs.2.2.2, ac_kinds d T (hc fS), nn_lt, Nat.lt_irrefl, ↓reduceIte]) 0 I (Nat.zero_le _) ⟨fun j hj => by omega, FrC.rf _ _⟩
  have F1 : FrC (scell s) I I1 := fun r j hr => f1 r j (fun z => hr (z ▸ sc1 s))
  -- the purses
  obtain ⟨I2, r2, a2, f2⟩ := lay_loop (fun k I' => (Run_ (d, mState_begin, 57, [some (vR (5, 0, s)), some (vI (nI k)), none], [], (cg T n I' J P)))) (fun I' => (Run_ (d, mState_begin, 88, [some (vR (5, 0, s)), some (vI 0), none], [], (cg T n I' J P)))) (32, 2, s + 2) 0 2 (fun k => τ 1017 k) I1 (fun k I' hk hf => by
      have e : I' (35, 2, yL κ + 7) k = τ 1017 k := (hf _ _ (fun z => rne (by omega) z.1)).trans ((f1 _ _ (rne (by omega))).trans (g8 k hk).1)
      try dsimp only
      rw [eState_begin_57]
      simp (disch := omega) only [↓reduceIte, ↓qX_m, ↓qR_m, ↓cI_m, ↓cV_m, ↓cJ_m, ↓cO_m, ↓cR_m, ixq_n, ixq_l, tgq_ok, nL_mul, nR_mul, nL_add, nR_add, nL_sub, nR_sub, nI_add, pk_mul, nn_sub, ng1_0, ng1_1, an_0, an_1, i1_0, Nat.add_zero, Nat.zero_add, Nat.mul_one, Nat.mul_zero, hI_cg, hP_cg, hJ_cg, wI_cg, wP_cg, wJ_cg, hs.2.1, hs.2.2.2, h3, g3, nR_lt, hk, e])
    (fun I' => by
      try dsimp only
      rw [eState_begin_57]
      simp (disch := omega) only [↓reduceIte, ↓qX_m, ↓qR_m, ↓cI_m, ↓cV_m, ↓cJ_m, ↓cO_m, ↓cR_m, ixq_n, ixq_l, tgq_ok, nL_mul, nR_mul, nL_add, nR_add, nL_sub, nR_sub, nI_add, pk_mul, nn_sub, ng1_0, ng1_1, an_0, an_1, i1_0, Nat.add_zero, Nat.zero_add, Nat.mul_one, Nat.mul_zero, hI_cg, hP_cg, hJ_cg, wI_cg, wP_cg, wJ_cg, nR_lt, Nat.lt_irrefl, ↓reduceIte])
  have F2 : FrC (scell s) I I2 := fun r j hr => (f2 r j (fun z => hr (z.1 ▸ sc2 s))).trans (F1 r j hr)
  -- what was done
  obtain ⟨I3, r3, a3, f3⟩ := lp (α := RI_) (fun k a => (Run_ (d, mState_begin, 88, [some (vR (5, 0, s)), some (vI (nI k)), none], [], (cg T n a J P)))) (fun a => (Run_ (d, mState_begin, 88, [some (vR (5, 0, s)), some (vI (nI (npS τ))), none], [], (cg T n a J P))))
    (fun k a => (∀ j, j < k → a (33, 12, s + 3) j = 0) ∧ FrC (fun r => r = (33, 12, s + 3)) I2 a) (npS τ) (fun k I1 hk ⟨q1, q2⟩ => by
      have fS : FrC (scell s) I I1 := fun r j hr => (q2 r j (fun z => hr (z ▸ sc3 s))).trans (F2 r j hr)
      have fu1 := frc_u (S := fun r => r = (33, 12, s + 3)) I1 (33, 12, s + 3) k 0 rfl
      refine ⟨u2 I1 (33, 12, s + 3) k 0, ?_, fun j hj => ?_, q2.tr fu1⟩
      · try dsimp only
        rw [eState_begin_88]
        simp (disch := omega) only [↓reduceIte, ↓qX_m, ↓qR_m, ↓cI_m, ↓cV_m, ↓cJ_m, ↓cO_m, ↓cR_m, ixq_n, ixq_l, tgq_ok, nL_mul, nR_mul, nL_add, nR_add, nL_sub, nR_sub, nI_add, pk_mul, nn_sub, ng1_0, ng1_1, an_0, an_1, i1_0, Nat.add_zero, Nat.zero_add, Nat.mul_one, Nat.mul_zero, hI_cg, hP_cg, hJ_cg, wI_cg, wP_cg, wJ_cg, hs.2.2.1, hs.2.2.2, ac_plans d T (hc fS), nn_lt, hk]
      · by_cases y : j = k
        · rw [y, u2_s]
        · rw [u2_k _ _ _ _ y]; exact q1 j (by omega))
    (fun I1 _ => rfl) 0 I2 (Nat.zero_le _) ⟨fun j hj => by omega, FrC.rf _ _⟩
  have F3 : FrC (scell s) I I3 := fun r j hr => (f3 r j (fun z => hr (z ▸ sc3 s))).trans (F2 r j hr)
  have e9 : I3 (3, 0, yL κ) 7 = τ 1003 0 := (F3 _ _ (fun z => by have := sc_tag z; omega)).trans g9
  have r5 : (Run_ (d, mState_begin, 88, [some (vR (5, 0, s)), some (vI (nI (npS τ))), none], [], (cg T n I3 J P))) = some (.inl none, cg T n (u2 (u2 (u2 (u2 (u2 I3 (5, 0, s) 3 0) (5, 0, s) 4 0) (5, 0, s) 5 (τ 1003 0)) (5, 0, s) 6 (-1)) (5, 0, s) 8 (-1)) J P) := by
    rw [eState_begin_88]
    simp (disch := omega) only [↓reduceIte, ↓qX_m, ↓qR_m, ↓cI_m, ↓cV_m, ↓cJ_m, ↓cO_m, ↓cR_m, ixq_n, ixq_l, tgq_ok, nL_mul, nR_mul, nL_add, nR_add, nL_sub, nR_sub, nI_add, pk_mul, nn_sub, ng1_0, ng1_1, an_0, an_1, i1_0, Nat.add_zero, Nat.zero_add, Nat.mul_one, Nat.mul_zero, hI_cg, hP_cg, hJ_cg, wI_cg, wP_cg, wJ_cg, hs.2.2.2, ac_plans d T (hc F3), nn_lt, Nat.lt_irrefl, h3, u2_r, e9]
  have fa : ∀ {I' : RI_} (k : Nat) (x : Int32), FrC (scell s) I I' → FrC (scell s) I (u2 I' (5, 0, s) k x) := fun k x f => f.tr (frc_u _ _ _ _ (sc0 s))
  have F4 := fa 8 (-1) (fa 6 (-1) (fa 5 (τ 1003 0) (fa 4 0 (fa 3 0 F3))))
  have hsd := hC.1.2.2.2.2.2.2.2.2
  have g0 : ∀ t a b k, t ≠ 5 → u2 (u2 (u2 (u2 (u2 I3 (5, 0, s) 3 0) (5, 0, s) 4 0) (5, 0, s) 5 (τ 1003 0)) (5, 0, s) 6 (-1)) (5, 0, s) 8 (-1) (t, a, b) k = I3 (t, a, b) k := by
    intro t a b k ht
    simp (disch := omega) only [u2_r]
  refine ⟨_, (eState_begin_0 ..).trans (r1.trans (r2.trans (r3.trans r5))), ⟨hc F4, hs, ⟨?_, ?_, ?_, ?_, ?_, ?_, Or.inl rfl⟩, ⟨fun k hk => ?_, fun k hk => ?_, fun k hk => ?_, ?_, ?_⟩, ?_, ?_, ⟨fun k hk => ?_, fun t ht => ?_⟩, Or.inl rfl⟩, F4⟩
  · simp (disch := omega) only [u2_k, u2_s]; rfl
  · simp (disch := omega) only [u2_k, u2_s]; rfl
  · simp (disch := omega) only [u2_k, u2_s]; rfl
  · simp (disch := omega) only [u2_k, u2_s]; rfl
  · simp (disch := omega) only [u2_k, u2_s]; rfl
  · simp (disch := omega) only [u2_s]; rfl
  · rw [g0 _ _ _ _ (by omega), f3 _ _ (rne (by omega)), f2 _ _ (fun z => rne (by omega) z.1)]; exact a1 k hk
  · rw [g0 _ _ _ _ (by omega), f3 _ _ (rne (by omega)), show k = 0 + k from (Nat.zero_add k).symm]; exact (a2 k hk).trans (congrArg (τ 1017) (Nat.zero_add k).symm)
  · rw [g0 _ _ _ _ (by omega)]; exact a3 k hk
  · simp (disch := omega) only [u2_k, u2_s]; rfl
  · simp (disch := omega) only [u2_k, u2_s]; rfl
  · simp (disch := omega) only [u2_k, u2_s]; exact (nI_clampI hsd.1).symm
  · have : (τ 1003 0).toNatClampNeg = (τ 1003 0).toInt.toNat := rfl
    show (τ 1003 0).toNatClampNeg < _
    omega
  · have := hC.1.2.2.2.2.1 k hk
    show -999 ≤ (τ 1007 k).toInt ∧ (τ 1007 k).toInt ≤ 999
    omega
  · have := (hC.1.2.2.2.2.2.2.2.1 t ht).1
    show 0 ≤ (τ 1017 t).toInt ∧ (τ 1017 t).toInt ≤ 9999
    omega
/-! guards -/
theorem ac_in (d : Nat) (G : G_) (x lo hi : Int64) : (Run_ (d, mC_in, 0, [some (vJ x), none, some (vJ lo), none, some (vJ hi), none], [], G)) = some (.inl (some (vI (bI (!decide (x < lo) && !decide (hi < x))))), G) := by
  simp only [eC_in_0, eC_in_17, eC_in_18, lg_cmp_lt, lg_cmp_gt, ng1_0, ng1_1, ↓reduceIte]
  by_cases c1 : x < lo
  · simp only [c1, eq_self, decide_true, decide_false, cond_true, cond_false, ↓reduceIte]; rfl
  · by_cases c2 : hi < x
    · simp only [c1, c2, eq_self, decide_true, decide_false, cond_true, cond_false, ↓reduceIte]; rfl
    · simp only [c1, c2, eq_self, decide_true, decide_false, cond_true, cond_false, ↓reduceIte]; rfl
theorem j32 {a b : Int32} : a.toInt64 < b.toInt64 ↔ a < b := by rw [j_lt, i_lt, Int32.toInt_toInt64, Int32.toInt_toInt64]
theorem ac_inI (d : Nat) (G : G_) (a lo hi : Int32) {L H : Int64} (hL : L = lo.toInt64) (hH : H = hi.toInt64) : (Run_ (d, mC_in, 0, [some (vJ a.toInt64), none, some (vJ L), none, some (vJ H), none], [], G)) = some (.inl (some (vI (bI (inS a lo hi)))), G) := by
  rw [ac_in, hL, hH]
  unfold inS
  simp only [j32]
theorem ac_isN (d : Nat) (G : G_) (a : Int32) {m : Nat} (hm : m < 2147483648) : (Run_ (d, mC_in, 0, [some (vJ a.toInt64), none, some (vJ 0), none, some (vJ (Int32.toInt64 (nI m - 1))), none], [], G)) = some (.inl (some (vI (bI (isS a m)))), G) := by
  rw [ac_inI d G a 0 (nI m - 1) (by decide) rfl]
  have : inS a 0 (nI m - 1) = isS a m := by
    unfold inS isS
    congr 1
    have e : (nI m - 1).toInt = (m : Int) - 1 := by
      have h1 := nI_toInt (n := m) (by omega)
      have h2 : (1 : Int32).toInt = 1 := by decide
      rw [i_sub (by omega), h1, h2]
    by_cases c : a < nI m
    · rw [decide_eq_true c, decide_eq_false (by rw [i_lt] at *; rw [nI_toInt (by omega)] at c; omega)]; rfl
    · rw [decide_eq_false c, decide_eq_true (by rw [i_lt] at *; rw [nI_toInt (by omega)] at c; omega)]; rfl
  rw [this]
theorem ng_b (c : Bool) : (ng_ 1 (bI c) = bI c) = True := by cases c <;> exact eq_true rfl
theorem ac_isKind (d : Nat) (T : T_) (a : Int32) (h : CC κ τ Λ n I P) : (Run_ (d, mC_isKind, 0, [some (vR (1, 0, 1)), some (vI a)], [], (cg T n I J P))) = some (.inl (some (vI (bI (isS a (nkS τ))))), cg T n I J P) := by
  have h6 := h.1.k6.2
  simp (disch := omega) only [eC_isKind_0, ↓reduceIte, ↓qX_m, ↓qR_m, ↓cI_m, ↓cV_m, ↓cJ_m, ↓cO_m, ↓cR_m, ixq_n, ixq_l, tgq_ok, nL_mul, nR_mul, nL_add, nR_add, nL_sub, nR_sub, nI_add, pk_mul, nn_sub, ng1_0, ng1_1, an_0, an_1, i1_0, Nat.add_zero, Nat.zero_add, Nat.mul_one, Nat.mul_zero, hI_cg, hP_cg, hJ_cg, wI_cg, wP_cg, wJ_cg, ac_kinds d T h, ac_isN, ng_b]
theorem ac_isDeed (d : Nat) (T : T_) (a : Int32) (h : CC κ τ Λ n I P) : (Run_ (d, mC_isDeed, 0, [some (vR (1, 0, 1)), some (vI a)], [], (cg T n I J P))) = some (.inl (some (vI (bI (isS a (ndS τ))))), cg T n I J P) := by
  have h8 := h.1.d8.2
  simp (disch := omega) only [eC_isDeed_0, ↓reduceIte, ↓qX_m, ↓qR_m, ↓cI_m, ↓cV_m, ↓cJ_m, ↓cO_m, ↓cR_m, ixq_n, ixq_l, tgq_ok, nL_mul, nR_mul, nL_add, nR_add, nL_sub, nR_sub, nI_add, pk_mul, nn_sub, ng1_0, ng1_1, an_0, an_1, i1_0, Nat.add_zero, Nat.zero_add, Nat.mul_one, Nat.mul_zero, hI_cg, hP_cg, hJ_cg, wI_cg, wP_cg, wJ_cg, ac_deeds d T h, ac_isN, ng_b]
theorem ac_isTwin (d : Nat) (G : G_) (a : Int32) : (Run_ (d, mC_isTwin, 0, [some (vI a)], [], G)) = some (.inl (some (vI (bI (tnS a)))), G) := by
  simp only [eC_isTwin_0, eC_isTwin_9, eC_isTwin_14, ng1_0, ng1_1, ↓reduceIte]
  unfold tnS
  by_cases c1 : a = 0
  · simp only [c1, eq_self, decide_true, decide_false, cond_true, cond_false, ↓reduceIte]; rfl
  · by_cases c2 : a = 1
    · simp only [c1, c2, eq_self, decide_true, decide_false, cond_true, cond_false, ↓reduceIte]; rfl
    · simp only [c1, c2, eq_self, decide_true, decide_false, cond_true, cond_false, ↓reduceIte]; rfl
