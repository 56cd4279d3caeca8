/-! THE TWIN's lines: amounts, deeds, plans, money, seed -/
variable {b : Nat → Nat} {n : Nat}
theorem tw_hasL {s : Ls_} {I : FI_} (d : Nat) (J : FJ_) (C : C_) (hn : n ≤ 700) (h256 : ∀ k, b k < 256) (h : TLs b n s I) : TLo b n (hasS b n s) J C I (Run_ (d, mT_hasLine, 0, [some (vR (1000, 0, 0)), none, none], [], (tw I J, C))) := by
  obtain ⟨ht, ⟨h16, h17, h18, h19⟩, ⟨h20, h48⟩, hx, hf, h21, hl, hb⟩ := id h
  obtain ⟨hK, hD, hW, hH, -⟩ := id hb
  unfold hasS
  by_cases c : lH s = 12
  · rw [if_pos c]
    have w2 : (Run_ (d, mT_wrong, 0, [some (vR (1000, 0, 0)), some (vI 2)], [], (tw I J, C))) = _ := tw_wrong d I J C 2
    refine ⟨wrI I 2, ?_, wr_ft ht 2, (wr_nu I 2).wk nu_z⟩
    rw [eT_hasLine_0]
    simp (disch := omega) only [↓reduceIte, ↓qX_m, ↓qR_m, ↓cI_m, ↓cV_m, ↓cJ_m, ↓cO_m, ↓cR_m, ixq_n, ixq_l, tgq_ok, nL_mul, nR_mul, nL_add, nR_add, nL_sub, nR_sub, nI_add, pk_mul, nn_sub, ng1_0, ng1_1, an_0, an_1, i1_0, Nat.add_zero, Nat.zero_add, Nat.mul_one, Nat.mul_zero, hI_cg, hP_cg, hJ_cg, wI_cg, wP_cg, wJ_cg, h19, nR_eq, c, w2, eT_hasLine_14]
  rw [if_neg c]
  obtain ⟨I1, r1, f1, t1⟩ := ht.next d J C hn h256
  have f1 := f1.wk tk_nu
  have e0 : (Run_ (d, mT_hasLine, 0, [some (vR (1000, 0, 0)), none, none], [], (tw I J, C))) = (Run_ (d, mT_hasLine, 19, [some (vR (1000, 0, 0)), none, none], [], (tw I1 J, C))) := by
    rw [eT_hasLine_0]
    simp (disch := omega) only [↓reduceIte, ↓qX_m, ↓qR_m, ↓cI_m, ↓cV_m, ↓cJ_m, ↓cO_m, ↓cR_m, ixq_n, ixq_l, tgq_ok, nL_mul, nR_mul, nL_add, nR_add, nL_sub, nR_sub, nI_add, pk_mul, nn_sub, ng1_0, ng1_1, an_0, an_1, i1_0, Nat.add_zero, Nat.zero_add, Nat.mul_one, Nat.mul_zero, hI_cg, hP_cg, hJ_cg, wI_cg, wP_cg, wJ_cg, h19, nR_eq, c, r1]
  rw [e0, eT_hasLine_19]
  obtain ⟨M1, M2⟩ := tw_number d J C hn h256 t1 (hi := 1) (by omega)
  rcases e1 : numS b n (tkN b n (lP s)) 1 with e | ⟨u, q1⟩
  · obtain ⟨I2, r2, w2, f2⟩ := M1 e e1
    have r2 : (Run_ (d, mT_number, 0, [some (vR (1000, 0, 0)), some (vI 0), some (vI 1)], [], (tw I1 J, C))) = _ := r2
    show TPf zF e J C I _
    refine ⟨I2, ?_, w2, (f1.tr f2).wk nu_z⟩
    simp (disch := omega) only [↓reduceIte, ↓qX_m, ↓qR_m, ↓cI_m, ↓cV_m, ↓cJ_m, ↓cO_m, ↓cR_m, ixq_n, ixq_l, tgq_ok, nL_mul, nR_mul, nL_add, nR_add, nL_sub, nR_sub, nI_add, pk_mul, nn_sub, ng1_0, ng1_1, an_0, an_1, i1_0, Nat.add_zero, Nat.zero_add, Nat.mul_one, Nat.mul_zero, hI_cg, hP_cg, hJ_cg, wI_cg, wP_cg, wJ_cg, r2, eT_hasLine_25]
  rw [sb_i]
  have hu := num_le e1
  obtain ⟨I2, r2, t2, x2, f2⟩ := M2 u q1 e1
  have r2 : (Run_ (d, mT_number, 0, [some (vR (1000, 0, 0)), some (vI 0), some (vI 1)], [], (tw I1 J, C))) = _ := r2
  have f2 := f1.tr f2
  have g2 : I2 1000 16 = nI (lK s) := (f2 _ _ (by unfold nuF; omega)).trans h16
  obtain ⟨N1, N2⟩ := tw_thereIn d J C hn h256 t2 (T := 1004) (N := 12) (F := 6) (m := lK s) (lX s 1004) (by omega) rfl (by omega) (by omega) (fun k hk => (f2 _ _ (by unfold nuF; omega)).trans (hx 1004 k (by unfold lcl; omega)))
  rcases e2 : herS b n q1 (lX s 1004) (lK s) with e | ⟨k0, q2⟩
  · obtain ⟨I3, r3, w3, f3⟩ := N1 e e2
    have r3 : (Run_ (d, mT_thereIn, 0, [some (vR (1000, 0, 0)), some (vR (1004, 12, 0)), some (vI 6), some (vI (nI (lK s))), none], [], (tw I2 J, C))) = _ := r3
    show TPf zF e J C I _
    refine ⟨I3, ?_, w3, (f2.tr f3).wk nu_z⟩
    simp (disch := omega) only [↓reduceIte, ↓qX_m, ↓qR_m, ↓cI_m, ↓cV_m, ↓cJ_m, ↓cO_m, ↓cR_m, ixq_n, ixq_l, tgq_ok, nL_mul, nR_mul, nL_add, nR_add, nL_sub, nR_sub, nI_add, pk_mul, nn_sub, ng1_0, ng1_1, an_0, an_1, i1_0, Nat.add_zero, Nat.zero_add, Nat.mul_one, Nat.mul_zero, hI_cg, hP_cg, hJ_cg, wI_cg, wP_cg, wJ_cg, r2, eT_hasLine_25, x2, g2, r3, eT_hasLine_49]
  rw [sb_i]
  obtain ⟨hk0, I3, r3, t3, x3, f3⟩ := N2 k0 q2 e2
  have r3 : (Run_ (d, mT_thereIn, 0, [some (vR (1000, 0, 0)), some (vR (1004, 12, 0)), some (vI 6), some (vI (nI (lK s))), none], [], (tw I2 J, C))) = _ := r3
  have f3 := f2.tr f3
  obtain ⟨P1, P2⟩ := tw_signed d J C hn h256 t3 (hi := 99) (by omega)
  rcases e3 : sgnS b n q2 99 with e | ⟨v, q3⟩
  · obtain ⟨I4, r4, w4, f4⟩ := P1 e e3
    have r4 : (Run_ (d, mT_signed, 0, [some (vR (1000, 0, 0)), some (vI 99), none], [], (tw I3 J, C))) = _ := r4
    show TPf zF e J C I _
    refine ⟨I4, ?_, w4, (f3.tr f4).wk nu_z⟩
    simp (disch := omega) only [↓reduceIte, ↓qX_m, ↓qR_m, ↓cI_m, ↓cV_m, ↓cJ_m, ↓cO_m, ↓cR_m, ixq_n, ixq_l, tgq_ok, nL_mul, nR_mul, nL_add, nR_add, nL_sub, nR_sub, nI_add, pk_mul, nn_sub, ng1_0, ng1_1, an_0, an_1, i1_0, Nat.add_zero, Nat.zero_add, Nat.mul_one, Nat.mul_zero, hI_cg, hP_cg, hJ_cg, wI_cg, wP_cg, wJ_cg, r2, eT_hasLine_25, x2, g2, r3, eT_hasLine_49, x3, r4, eT_hasLine_65]
  rw [sb_i]
  obtain ⟨I4, r4, t4, x4, f4⟩ := P2 v q3 e3
  have r4 : (Run_ (d, mT_signed, 0, [some (vR (1000, 0, 0)), some (vI 99), none], [], (tw I3 J, C))) = _ := r4
  have f4 := f3.tr f4
  have g4 : I4 1000 19 = nI (lH s) := (f4 _ _ (by unfold nuF; omega)).trans h19
  have F : FrI (lkF 1007 1007 (12 + 2 * k0 + u) 19) I (u2 (u2 I4 1007 (12 + 2 * k0 + u) v) 1000 19 (nI (lH s + 1))) := ((f4.wk (S' := lkF 1007 1007 (12 + 2 * k0 + u) 19) (fun t k q => Or.inl (Or.inl q))).u (Or.inl (Or.inr (by omega)))).u (Or.inr (by omega))
  refine ⟨u2 (u2 I4 1007 (12 + 2 * k0 + u) v) 1000 19 (nI (lH s + 1)), ?_, h.put rfl rfl (t4.fr (fun t k q => ?_)) F (lk_s (by omega) (by omega) (by omega)) ⟨(F _ _ (lk_n (by omega) (by omega) (by omega))).trans h16, (F _ _ (lk_n (by omega) (by omega) (by omega))).trans h17, (F _ _ (lk_n (by omega) (by omega) (by omega))).trans h18, u2_s ..⟩ (fun t k q => ?_) ⟨fun t q => (F _ _ (lk_n (by omega) (by omega) (by omega))).trans (hf t q), (F _ _ (lk_n (by omega) (by omega) (by omega))).trans h21⟩ ⟨hb.1, hb.2.1, hb.2.2.1, by show lH s + 1 ≤ 12; omega⟩, F.wk (lk_z (fun t x y => zr_7 (by omega)) (by omega))⟩
  · simp (disch := omega) only [↓reduceIte, ↓qX_m, ↓qR_m, ↓cI_m, ↓cV_m, ↓cJ_m, ↓cO_m, ↓cR_m, ixq_n, ixq_l, tgq_ok, nL_mul, nR_mul, nL_add, nR_add, nL_sub, nR_sub, nI_add, pk_mul, nn_sub, ng1_0, ng1_1, an_0, an_1, i1_0, Nat.add_zero, Nat.zero_add, Nat.mul_one, Nat.mul_zero, hI_cg, hP_cg, hJ_cg, wI_cg, wP_cg, wJ_cg, r2, eT_hasLine_25, x2, g2, r3, eT_hasLine_49, x3, r4, eT_hasLine_65, x4, g4, u2_t]
  · rw [u2_o _ _ (by omega), u2_o _ _ (by omega)]
  · have zc : (t = 1003 ∧ k = 0 ∧ zo t = 1) ∨ (1004 ≤ t ∧ t ≤ 1006 ∧ k < lK s ∧ zo t = 6) ∨ (t = 1007 ∧ k < 12 ∧ zo t = 12) ∨ (1008 ≤ t ∧ t ≤ 1012 ∧ k < lD s ∧ zo t = 8) ∨ (1013 ≤ t ∧ t ≤ 1015 ∧ k < lW s ∧ zo t = 12) ∨ (t = 1017 ∧ k < 4 ∧ zo t = 4) := zo_c q
    clear M1 M2 N1 N2 P1 P2 h
    by_cases c1 : t = 1007 ∧ k = 2 * k0 + u
    · right
      have z6 : zo t = 12 := by omega
      rw [c1.2, z6, c1.1, u2_o _ _ (by omega), ← Nat.add_assoc, u2_s]
      dsimp only [lX]
      rw [u2_s]
    · left
      refine ⟨(lk_n (by omega) (by omega) (by omega)), by unfold lcl; omega, ?_⟩
      dsimp only [lX]
      rw [u2_o _ _ (by omega)]

theorem tw_doL {s : Ls_} {I : FI_} (d : Nat) (J : FJ_) (C : C_) (hn : n ≤ 700) (h256 : ∀ k, b k < 256) (h : TLs b n s I) : TLo b n (doS b n s) J C I (Run_ (d, mT_doLine, 0, [some (vR (1000, 0, 0)), none], [], (tw I J, C))) := by
  obtain ⟨ht, ⟨h16, h17, h18, h19⟩, ⟨h20, h48⟩, hx, hf, h21, hl, hb⟩ := id h
  obtain ⟨hK, hD, hW, hH, -⟩ := id hb
  unfold doS
  by_cases c : lW s = 12
  · rw [if_pos c]
    have w2 : (Run_ (d, mT_wrong, 0, [some (vR (1000, 0, 0)), some (vI 2)], [], (tw I J, C))) = _ := tw_wrong d I J C 2
    refine ⟨wrI I 2, ?_, wr_ft ht 2, (wr_nu I 2).wk nu_z⟩
    rw [eT_doLine_0]
    simp (disch := omega) only [↓reduceIte, ↓qX_m, ↓qR_m, ↓cI_m, ↓cV_m, ↓cJ_m, ↓cO_m, ↓cR_m, ixq_n, ixq_l, tgq_ok, nL_mul, nR_mul, nL_add, nR_add, nL_sub, nR_sub, nI_add, pk_mul, nn_sub, ng1_0, ng1_1, an_0, an_1, i1_0, Nat.add_zero, Nat.zero_add, Nat.mul_one, Nat.mul_zero, hI_cg, hP_cg, hJ_cg, wI_cg, wP_cg, wJ_cg, h18, nR_eq, c, w2, eT_doLine_14]
  rw [if_neg c]
  obtain ⟨I1, r1, f1, t1⟩ := ht.next d J C hn h256
  have f1 := f1.wk tk_nu
  have e0 : (Run_ (d, mT_doLine, 0, [some (vR (1000, 0, 0)), none], [], (tw I J, C))) = (Run_ (d, mT_doLine, 19, [some (vR (1000, 0, 0)), none], [], (tw I1 J, C))) := by
    rw [eT_doLine_0]
    simp (disch := omega) only [↓reduceIte, ↓qX_m, ↓qR_m, ↓cI_m, ↓cV_m, ↓cJ_m, ↓cO_m, ↓cR_m, ixq_n, ixq_l, tgq_ok, nL_mul, nR_mul, nL_add, nR_add, nL_sub, nR_sub, nI_add, pk_mul, nn_sub, ng1_0, ng1_1, an_0, an_1, i1_0, Nat.add_zero, Nat.zero_add, Nat.mul_one, Nat.mul_zero, hI_cg, hP_cg, hJ_cg, wI_cg, wP_cg, wJ_cg, h18, nR_eq, c, r1]
  rw [e0, eT_doLine_19]
  have f1 : FrI (lnF 1013 1015 (12 + lW s)) I I1 := f1.wk (nu_l _ _ _)
  have g1_16 : I1 1000 16 = nI (lK s) := (f1 _ _ (ln_n (by omega) (by omega))).trans h16
  have g1_17 : I1 1000 17 = nI (lD s) := (f1 _ _ (ln_n (by omega) (by omega))).trans h17
  have g1_18 : I1 1000 18 = nI (lW s) := (f1 _ _ (ln_n (by omega) (by omega))).trans h18
  have A2 := tw_number d J C hn h256 t1 (hi := 1) (by omega)
  rcases e2 : numS b n (tkN b n (lP s)) 1 with e | ⟨u, q1⟩
  · obtain ⟨I2, r2, w2, f2⟩ := A2.1 e e2
    have r2 : (Run_ (d, mT_number, 0, [some (vR (1000, 0, 0)), some (vI 0), some (vI 1)], [], (tw I1 J, C))) = _ := r2
    show TPf zF e J C I _
    refine ⟨I2, ?_, w2, (f1.tr (f2.wk (nu_l _ _ _))).wk (ln_z (fun t x y => zr_13 (by omega)))⟩
    simp (disch := omega) only [↓reduceIte, ↓qX_m, ↓qR_m, ↓cI_m, ↓cV_m, ↓cJ_m, ↓cO_m, ↓cR_m, ixq_n, ixq_l, tgq_ok, nL_mul, nR_mul, nL_add, nR_add, nL_sub, nR_sub, nI_add, pk_mul, nn_sub, ng1_0, ng1_1, an_0, an_1, i1_0, Nat.add_zero, Nat.zero_add, Nat.mul_one, Nat.mul_zero, hI_cg, hP_cg, hJ_cg, wI_cg, wP_cg, wJ_cg, g1_16, g1_17, g1_18, u2_t, r2, eT_doLine_33]
  rw [sb_i]
  have hh2 := num_le e2
  obtain ⟨I2, r2, t2, x2, f2⟩ := A2.2 u q1 e2
  clear A2
  have r2 : (Run_ (d, mT_number, 0, [some (vR (1000, 0, 0)), some (vI 0), some (vI 1)], [], (tw I1 J, C))) = _ := r2
  have f2 : FrI (lnF 1013 1015 (12 + lW s)) I I2 := f1.tr (f2.wk (nu_l _ _ _))
  have g2_16 : I2 1000 16 = nI (lK s) := (f2 _ _ (ln_n (by omega) (by omega))).trans h16
  have g2_17 : I2 1000 17 = nI (lD s) := (f2 _ _ (ln_n (by omega) (by omega))).trans h17
  have g2_18 : I2 1000 18 = nI (lW s) := (f2 _ _ (ln_n (by omega) (by omega))).trans h18
  have t2' : TTk b n q1 (u2 I2 1013 (12 + lW s) (nI u)) := t2.fr (fun t k q => by rw [u2_ap, if_neg (by omega)])
  have f2' : FrI (lnF 1013 1015 (12 + lW s)) I (u2 I2 1013 (12 + lW s) (nI u)) := f2.u (Or.inr (by omega))
  have A3 := tw_thereIn d J C hn h256 t2' (T := 1008) (N := 16) (F := 8) (m := lD s) (lX s 1008) (by omega) rfl (by omega) (by omega) (fun k hk => (f2' _ _ (ln_n (by omega) (by omega))).trans (hx 1008 k (by unfold lcl; omega)))
  rcases e3 : herS b n q1 (lX s 1008) (lD s) with e | ⟨e0', q2⟩
  · obtain ⟨I3, r3, w3, f3⟩ := A3.1 e e3
    have r3 : (Run_ (d, mT_thereIn, 0, [some (vR (1000, 0, 0)), some (vR (1008, 16, 0)), some (vI 8), some (vI (nI (lD s))), none], [], (tw (u2 I2 1013 (12 + lW s) (nI u)) J, C))) = _ := r3
    show TPf zF e J C I _
    refine ⟨I3, ?_, w3, (f2'.tr (f3.wk (nu_l _ _ _))).wk (ln_z (fun t x y => zr_13 (by omega)))⟩
    simp (disch := omega) only [↓reduceIte, ↓qX_m, ↓qR_m, ↓cI_m, ↓cV_m, ↓cJ_m, ↓cO_m, ↓cR_m, ixq_n, ixq_l, tgq_ok, nL_mul, nR_mul, nL_add, nR_add, nL_sub, nR_sub, nI_add, pk_mul, nn_sub, ng1_0, ng1_1, an_0, an_1, i1_0, Nat.add_zero, Nat.zero_add, Nat.mul_one, Nat.mul_zero, hI_cg, hP_cg, hJ_cg, wI_cg, wP_cg, wJ_cg, g1_16, g1_17, g1_18, r2, eT_doLine_33, x2, g2_16, g2_17, g2_18, u2_t, r3, eT_doLine_62]
  rw [sb_i]
  obtain ⟨hk3, I3, r3, t3, x3, f3⟩ := A3.2 e0' q2 e3
  clear A3
  have r3 : (Run_ (d, mT_thereIn, 0, [some (vR (1000, 0, 0)), some (vR (1008, 16, 0)), some (vI 8), some (vI (nI (lD s))), none], [], (tw (u2 I2 1013 (12 + lW s) (nI u)) J, C))) = _ := r3
  have v1013_3 : I3 1013 (12 + lW s) = (nI u) := (f3 _ _ (by unfold nuF; omega)).trans (u2_s ..)
  have f3 : FrI (lnF 1013 1015 (12 + lW s)) I I3 := f2'.tr (f3.wk (nu_l _ _ _))
  have g3_16 : I3 1000 16 = nI (lK s) := (f3 _ _ (ln_n (by omega) (by omega))).trans h16
  have g3_17 : I3 1000 17 = nI (lD s) := (f3 _ _ (ln_n (by omega) (by omega))).trans h17
  have g3_18 : I3 1000 18 = nI (lW s) := (f3 _ _ (ln_n (by omega) (by omega))).trans h18
  have t3' : TTk b n q2 (u2 I3 1014 (12 + lW s) (nI e0')) := t3.fr (fun t k q => by rw [u2_ap, if_neg (by omega)])
  have f3' : FrI (lnF 1013 1015 (12 + lW s)) I (u2 I3 1014 (12 + lW s) (nI e0')) := f3.u (Or.inr (by omega))
  have A4 := tw_number d J C hn h256 t3' (hi := 99) (by omega)
  rcases e4 : numS b n q2 99 with e | ⟨y, q3⟩
  · obtain ⟨I4, r4, w4, f4⟩ := A4.1 e e4
    have r4 : (Run_ (d, mT_number, 0, [some (vR (1000, 0, 0)), some (vI 0), some (vI 99)], [], (tw (u2 I3 1014 (12 + lW s) (nI e0')) J, C))) = _ := r4
    show TPf zF e J C I _
    refine ⟨I4, ?_, w4, (f3'.tr (f4.wk (nu_l _ _ _))).wk (ln_z (fun t x y => zr_13 (by omega)))⟩
    simp (disch := omega) only [↓reduceIte, ↓qX_m, ↓qR_m, ↓cI_m, ↓cV_m, ↓cJ_m, ↓cO_m, ↓cR_m, ixq_n, ixq_l, tgq_ok, nL_mul, nR_mul, nL_add, nR_add, nL_sub, nR_sub, nI_add, pk_mul, nn_sub, ng1_0, ng1_1, an_0, an_1, i1_0, Nat.add_zero, Nat.zero_add, Nat.mul_one, Nat.mul_zero, hI_cg, hP_cg, hJ_cg, wI_cg, wP_cg, wJ_cg, g1_16, g1_17, g1_18, r2, eT_doLine_33, x2, g2_16, g2_17, g2_18, r3, eT_doLine_62, x3, g3_16, g3_17, g3_18, u2_t, r4, eT_doLine_84]
  rw [sb_i]
  have hh4 := num_le e4
  obtain ⟨I4, r4, t4, x4, f4⟩ := A4.2 y q3 e4
  clear A4
  have r4 : (Run_ (d, mT_number, 0, [some (vR (1000, 0, 0)), some (vI 0), some (vI 99)], [], (tw (u2 I3 1014 (12 + lW s) (nI e0')) J, C))) = _ := r4
  have v1013_4 : I4 1013 (12 + lW s) = (nI u) := (f4 _ _ (by unfold nuF; omega)).trans ((u2_t _ _ _ _ (by omega)).trans v1013_3)
  have v1014_4 : I4 1014 (12 + lW s) = (nI e0') := (f4 _ _ (by unfold nuF; omega)).trans (u2_s ..)
  have f4 : FrI (lnF 1013 1015 (12 + lW s)) I I4 := f3'.tr (f4.wk (nu_l _ _ _))
  have g4_16 : I4 1000 16 = nI (lK s) := (f4 _ _ (ln_n (by omega) (by omega))).trans h16
  have g4_17 : I4 1000 17 = nI (lD s) := (f4 _ _ (ln_n (by omega) (by omega))).trans h17
  have g4_18 : I4 1000 18 = nI (lW s) := (f4 _ _ (ln_n (by omega) (by omega))).trans h18
  have F : FrI (lkF 1013 1015 (12 + lW s) 18) I (u2 (u2 I4 1015 (12 + lW s) (nI y)) 1000 18 (nI (lW s + 1))) := ((f4.wk (S' := (lkF 1013 1015 (12 + lW s) 18)) (fun t k q => Or.inl q)).u (Or.inl (Or.inr (by omega)))).u (Or.inr (by omega))
  refine ⟨(u2 (u2 I4 1015 (12 + lW s) (nI y)) 1000 18 (nI (lW s + 1))), ?_, h.put rfl rfl (t4.fr (fun t k q => ?_)) F (lk_s (by omega) (by omega) (by omega)) ⟨(F _ _ (lk_n (by omega) (by omega) (by omega))).trans h16, (F _ _ (lk_n (by omega) (by omega) (by omega))).trans h17, u2_s .., (F _ _ (lk_n (by omega) (by omega) (by omega))).trans h19⟩ (fun t k q => ?_) ⟨fun t q => (F _ _ (lk_n (by omega) (by omega) (by omega))).trans (hf t q), (F _ _ (lk_n (by omega) (by omega) (by omega))).trans h21⟩ ⟨hb.1, hb.2.1, by show lW s + 1 ≤ 12; omega, hb.2.2.2.1⟩, F.wk (lk_z (fun t x y => zr_13 (by omega)) (by omega))⟩
  · simp (disch := omega) only [↓reduceIte, ↓qX_m, ↓qR_m, ↓cI_m, ↓cV_m, ↓cJ_m, ↓cO_m, ↓cR_m, ixq_n, ixq_l, tgq_ok, nL_mul, nR_mul, nL_add, nR_add, nL_sub, nR_sub, nI_add, pk_mul, nn_sub, ng1_0, ng1_1, an_0, an_1, i1_0, Nat.add_zero, Nat.zero_add, Nat.mul_one, Nat.mul_zero, hI_cg, hP_cg, hJ_cg, wI_cg, wP_cg, wJ_cg, g1_16, g1_17, g1_18, r2, eT_doLine_33, x2, g2_16, g2_17, g2_18, r3, eT_doLine_62, x3, g3_16, g3_17, g3_18, r4, eT_doLine_84, x4, g4_16, g4_17, g4_18, u2_t]
  · rw [u2_o _ _ (by omega), u2_o _ _ (by omega)]
  · have zc : (t = 1003 ∧ k = 0 ∧ zo t = 1) ∨ (1004 ≤ t ∧ t ≤ 1006 ∧ k < lK s ∧ zo t = 6) ∨ (t = 1007 ∧ k < 12 ∧ zo t = 12) ∨ (1008 ≤ t ∧ t ≤ 1012 ∧ k < lD s ∧ zo t = 8) ∨ (1013 ≤ t ∧ t ≤ 1015 ∧ k < lW s + 1 ∧ zo t = 12) ∨ (t = 1017 ∧ k < 4 ∧ zo t = 4) := zo_c q
    clear h
    by_cases c1 : 1013 ≤ t ∧ t ≤ 1015 ∧ k = lW s
    · right
      have z6 : zo t = 12 := by omega
      rw [c1.2.2, z6]
      have c2 : t = 1013 ∨ t = 1014 ∨ t = 1015 := by omega
      rcases c2 with c2 | c2 | c2
      · rw [c2, u2_o _ _ (by omega), u2_o _ _ (by omega), v1013_4]
        dsimp only [lX]
        rw [u2_o _ _ (by omega), u2_o _ _ (by omega), u2_s]
      · rw [c2, u2_o _ _ (by omega), u2_o _ _ (by omega), v1014_4]
        dsimp only [lX]
        rw [u2_o _ _ (by omega), u2_s]
      · rw [c2, u2_o _ _ (by omega), u2_s]
        dsimp only [lX]
        rw [u2_s]
    · left
      refine ⟨(lk_n (by omega) (by omega) (by omega)), by unfold lcl; omega, ?_⟩
      dsimp only [lX]
      rw [u2_o _ _ (by omega), u2_o _ _ (by omega), u2_o _ _ (by omega)]
theorem tw_deedL {s : Ls_} {I : FI_} (d : Nat) (J : FJ_) (C : C_) (hn : n ≤ 700) (h256 : ∀ k, b k < 256) (h : TLs b n s I) : TLo b n (deedS b n s) J C I (Run_ (d, mT_deedLine, 0, [some (vR (1000, 0, 0)), none], [], (tw I J, C))) := by
  obtain ⟨ht, ⟨h16, h17, h18, h19⟩, ⟨h20, h48⟩, hx, hf, h21, hl, hb⟩ := id h
  obtain ⟨hK, hD, hW, hH, -⟩ := id hb
  unfold deedS
  by_cases c : lD s = 8
  · rw [if_pos c]
    have w2 : (Run_ (d, mT_wrong, 0, [some (vR (1000, 0, 0)), some (vI 2)], [], (tw I J, C))) = _ := tw_wrong d I J C 2
    refine ⟨wrI I 2, ?_, wr_ft ht 2, (wr_nu I 2).wk nu_z⟩
    rw [eT_deedLine_0]
    simp (disch := omega) only [↓reduceIte, ↓qX_m, ↓qR_m, ↓cI_m, ↓cV_m, ↓cJ_m, ↓cO_m, ↓cR_m, ixq_n, ixq_l, tgq_ok, nL_mul, nR_mul, nL_add, nR_add, nL_sub, nR_sub, nI_add, pk_mul, nn_sub, ng1_0, ng1_1, an_0, an_1, i1_0, Nat.add_zero, Nat.zero_add, Nat.mul_one, Nat.mul_zero, hI_cg, hP_cg, hJ_cg, wI_cg, wP_cg, wJ_cg, h17, nR_eq, c, w2, eT_deedLine_14]
  rw [if_neg c]
  obtain ⟨I1, r1, f1, t1⟩ := ht.next d J C hn h256
  have f1 := f1.wk tk_nu
  have e0 : (Run_ (d, mT_deedLine, 0, [some (vR (1000, 0, 0)), none], [], (tw I J, C))) = (Run_ (d, mT_deedLine, 19, [some (vR (1000, 0, 0)), none], [], (tw I1 J, C))) := by
    rw [eT_deedLine_0]
    simp (disch := omega) only [↓reduceIte, ↓qX_m, ↓qR_m, ↓cI_m, ↓cV_m, ↓cJ_m, ↓cO_m, ↓cR_m, ixq_n, ixq_l, tgq_ok, nL_mul, nR_mul, nL_add, nR_add, nL_sub, nR_sub, nI_add, pk_mul, nn_sub, ng1_0, ng1_1, an_0, an_1, i1_0, Nat.add_zero, Nat.zero_add, Nat.mul_one, Nat.mul_zero, hI_cg, hP_cg, hJ_cg, wI_cg, wP_cg, wJ_cg, h17, nR_eq, c, r1]
  rw [e0, eT_deedLine_19]
  have f1 : FrI (lnF 1008 1012 (8 + lD s)) I I1 := f1.wk (nu_l _ _ _)
  have g1_16 : I1 1000 16 = nI (lK s) := (f1 _ _ (ln_n (by omega) (by omega))).trans h16
  have g1_17 : I1 1000 17 = nI (lD s) := (f1 _ _ (ln_n (by omega) (by omega))).trans h17
  have g1_18 : I1 1000 18 = nI (lW s) := (f1 _ _ (ln_n (by omega) (by omega))).trans h18
  have A2 := tw_newName d J C hn h256 t1 (T := 1008) (N := 16) (F := 8) (m := lD s) (lX s 1008) (by omega) rfl (by omega) (by omega) (fun k hk => (f1 _ _ (ln_n (by omega) (by omega))).trans (hx 1008 k (by unfold lcl; omega)))
  rcases e2 : newS b n (tkN b n (lP s)) (lX s 1008) (lD s) with e | ⟨v, q1⟩
  · obtain ⟨I2, r2, w2, f2⟩ := A2.1 e e2
    have r2 : (Run_ (d, mT_newName, 0, [some (vR (1000, 0, 0)), some (vR (1008, 16, 0)), some (vI 8), some (vI (nI (lD s)))], [], (tw I1 J, C))) = _ := r2
    show TPf zF e J C I _
    refine ⟨I2, ?_, w2, (f1.tr (f2.wk (nu_l _ _ _))).wk (ln_z (fun t x y => zr_8 (by omega)))⟩
    simp (disch := omega) only [↓reduceIte, ↓qX_m, ↓qR_m, ↓cI_m, ↓cV_m, ↓cJ_m, ↓cO_m, ↓cR_m, ixq_n, ixq_l, tgq_ok, nL_mul, nR_mul, nL_add, nR_add, nL_sub, nR_sub, nI_add, pk_mul, nn_sub, ng1_0, ng1_1, an_0, an_1, i1_0, Nat.add_zero, Nat.zero_add, Nat.mul_one, Nat.mul_zero, hI_cg, hP_cg, hJ_cg, wI_cg, wP_cg, wJ_cg, g1_16, g1_17, g1_18, u2_t, r2, eT_deedLine_33]
  rw [sb_i]
  obtain ⟨I2, r2, t2, x2, f2⟩ := A2.2 v q1 e2
  clear A2
  have r2 : (Run_ (d, mT_newName, 0, [some (vR (1000, 0, 0)), some (vR (1008, 16, 0)), some (vI 8), some (vI (nI (lD s)))], [], (tw I1 J, C))) = _ := r2
  have f2 : FrI (lnF 1008 1012 (8 + lD s)) I I2 := f1.tr (f2.wk (fun t k q => q.elim Or.inl (fun z => Or.inr (by omega))))
  have g2_16 : I2 1000 16 = nI (lK s) := (f2 _ _ (ln_n (by omega) (by omega))).trans h16
  have g2_17 : I2 1000 17 = nI (lD s) := (f2 _ _ (ln_n (by omega) (by omega))).trans h17
  have g2_18 : I2 1000 18 = nI (lW s) := (f2 _ _ (ln_n (by omega) (by omega))).trans h18
  have A3 := tw_thereIn d J C hn h256 t2 (T := 1004) (N := 12) (F := 6) (m := lK s) (lX s 1004) (by omega) rfl (by omega) (by omega) (fun k hk => (f2 _ _ (ln_n (by omega) (by omega))).trans (hx 1004 k (by unfold lcl; omega)))
  rcases e3 : herS b n q1 (lX s 1004) (lK s) with e | ⟨k0, q2⟩
  · obtain ⟨I3, r3, w3, f3⟩ := A3.1 e e3
    have r3 : (Run_ (d, mT_thereIn, 0, [some (vR (1000, 0, 0)), some (vR (1004, 12, 0)), some (vI 6), some (vI (nI (lK s))), none], [], (tw I2 J, C))) = _ := r3
    show TPf zF e J C I _
    refine ⟨I3, ?_, w3, (f2.tr (f3.wk (nu_l _ _ _))).wk (ln_z (fun t x y => zr_8 (by omega)))⟩
    simp (disch := omega) only [↓reduceIte, ↓qX_m, ↓qR_m, ↓cI_m, ↓cV_m, ↓cJ_m, ↓cO_m, ↓cR_m, ixq_n, ixq_l, tgq_ok, nL_mul, nR_mul, nL_add, nR_add, nL_sub, nR_sub, nI_add, pk_mul, nn_sub, ng1_0, ng1_1, an_0, an_1, i1_0, Nat.add_zero, Nat.zero_add, Nat.mul_one, Nat.mul_zero, hI_cg, hP_cg, hJ_cg, wI_cg, wP_cg, wJ_cg, g1_16, g1_17, g1_18, r2, eT_deedLine_33, g2_16, g2_17, g2_18, u2_t, r3, eT_deedLine_60]
  rw [sb_i]
  obtain ⟨hk3, I3, r3, t3, x3, f3⟩ := A3.2 k0 q2 e3
  clear A3
  have r3 : (Run_ (d, mT_thereIn, 0, [some (vR (1000, 0, 0)), some (vR (1004, 12, 0)), some (vI 6), some (vI (nI (lK s))), none], [], (tw I2 J, C))) = _ := r3
  have v1008_3 : I3 1008 (8 + lD s) = v := (f3 _ _ (by unfold nuF; omega)).trans x2
  have f3 : FrI (lnF 1008 1012 (8 + lD s)) I I3 := f2.tr (f3.wk (nu_l _ _ _))
  have g3_16 : I3 1000 16 = nI (lK s) := (f3 _ _ (ln_n (by omega) (by omega))).trans h16
  have g3_17 : I3 1000 17 = nI (lD s) := (f3 _ _ (ln_n (by omega) (by omega))).trans h17
  have g3_18 : I3 1000 18 = nI (lW s) := (f3 _ _ (ln_n (by omega) (by omega))).trans h18
  have t3' : TTk b n q2 (u2 I3 1009 (8 + lD s) (nI k0)) := t3.fr (fun t k q => by rw [u2_ap, if_neg (by omega)])
  have f3' : FrI (lnF 1008 1012 (8 + lD s)) I (u2 I3 1009 (8 + lD s) (nI k0)) := f3.u (Or.inr (by omega))
  have A4 := tw_signed d J C hn h256 t3' (hi := 9) (by omega)
  rcases e4 : sgnS b n q2 9 with e | ⟨x, q3⟩
  · obtain ⟨I4, r4, w4, f4⟩ := A4.1 e e4
    have r4 : (Run_ (d, mT_signed, 0, [some (vR (1000, 0, 0)), some (vI 9), none], [], (tw (u2 I3 1009 (8 + lD s) (nI k0)) J, C))) = _ := r4
    show TPf zF e J C I _
    refine ⟨I4, ?_, w4, (f3'.tr (f4.wk (nu_l _ _ _))).wk (ln_z (fun t x y => zr_8 (by omega)))⟩
    simp (disch := omega) only [↓reduceIte, ↓qX_m, ↓qR_m, ↓cI_m, ↓cV_m, ↓cJ_m, ↓cO_m, ↓cR_m, ixq_n, ixq_l, tgq_ok, nL_mul, nR_mul, nL_add, nR_add, nL_sub, nR_sub, nI_add, pk_mul, nn_sub, ng1_0, ng1_1, an_0, an_1, i1_0, Nat.add_zero, Nat.zero_add, Nat.mul_one, Nat.mul_zero, hI_cg, hP_cg, hJ_cg, wI_cg, wP_cg, wJ_cg, g1_16, g1_17, g1_18, r2, eT_deedLine_33, g2_16, g2_17, g2_18, r3, eT_deedLine_60, x3, g3_16, g3_17, g3_18, u2_t, r4, eT_deedLine_81]
  rw [sb_i]
  obtain ⟨I4, r4, t4, x4, f4⟩ := A4.2 x q3 e4
  clear A4
  have r4 : (Run_ (d, mT_signed, 0, [some (vR (1000, 0, 0)), some (vI 9), none], [], (tw (u2 I3 1009 (8 + lD s) (nI k0)) J, C))) = _ := r4
  have v1008_4 : I4 1008 (8 + lD s) = v := (f4 _ _ (by unfold nuF; omega)).trans ((u2_t _ _ _ _ (by omega)).trans v1008_3)
  have v1009_4 : I4 1009 (8 + lD s) = (nI k0) := (f4 _ _ (by unfold nuF; omega)).trans (u2_s ..)
  have f4 : FrI (lnF 1008 1012 (8 + lD s)) I I4 := f3'.tr (f4.wk (nu_l _ _ _))
  have g4_16 : I4 1000 16 = nI (lK s) := (f4 _ _ (ln_n (by omega) (by omega))).trans h16
  have g4_17 : I4 1000 17 = nI (lD s) := (f4 _ _ (ln_n (by omega) (by omega))).trans h17
  have g4_18 : I4 1000 18 = nI (lW s) := (f4 _ _ (ln_n (by omega) (by omega))).trans h18
  have t4' : TTk b n q3 (u2 I4 1010 (8 + lD s) x) := t4.fr (fun t k q => by rw [u2_ap, if_neg (by omega)])
  have f4' : FrI (lnF 1008 1012 (8 + lD s)) I (u2 I4 1010 (8 + lD s) x) := f4.u (Or.inr (by omega))
  have A5 := tw_number d J C hn h256 t4' (hi := 99) (by omega)
  rcases e5 : numS b n q3 99 with e | ⟨y, q4⟩
  · obtain ⟨I5, r5, w5, f5⟩ := A5.1 e e5
    have r5 : (Run_ (d, mT_number, 0, [some (vR (1000, 0, 0)), some (vI 0), some (vI 99)], [], (tw (u2 I4 1010 (8 + lD s) x) J, C))) = _ := r5
    show TPf zF e J C I _
    refine ⟨I5, ?_, w5, (f4'.tr (f5.wk (nu_l _ _ _))).wk (ln_z (fun t x y => zr_8 (by omega)))⟩
    simp (disch := omega) only [↓reduceIte, ↓qX_m, ↓qR_m, ↓cI_m, ↓cV_m, ↓cJ_m, ↓cO_m, ↓cR_m, ixq_n, ixq_l, tgq_ok, nL_mul, nR_mul, nL_add, nR_add, nL_sub, nR_sub, nI_add, pk_mul, nn_sub, ng1_0, ng1_1, an_0, an_1, i1_0, Nat.add_zero, Nat.zero_add, Nat.mul_one, Nat.mul_zero, hI_cg, hP_cg, hJ_cg, wI_cg, wP_cg, wJ_cg, g1_16, g1_17, g1_18, r2, eT_deedLine_33, g2_16, g2_17, g2_18, r3, eT_deedLine_60, x3, g3_16, g3_17, g3_18, r4, eT_deedLine_81, x4, g4_16, g4_17, g4_18, u2_t, r5, eT_deedLine_103]
  rw [sb_i]
  have hh5 := num_le e5
  obtain ⟨I5, r5, t5, x5, f5⟩ := A5.2 y q4 e5
  clear A5
  have r5 : (Run_ (d, mT_number, 0, [some (vR (1000, 0, 0)), some (vI 0), some (vI 99)], [], (tw (u2 I4 1010 (8 + lD s) x) J, C))) = _ := r5
  have v1008_5 : I5 1008 (8 + lD s) = v := (f5 _ _ (by unfold nuF; omega)).trans ((u2_t _ _ _ _ (by omega)).trans v1008_4)
  have v1009_5 : I5 1009 (8 + lD s) = (nI k0) := (f5 _ _ (by unfold nuF; omega)).trans ((u2_t _ _ _ _ (by omega)).trans v1009_4)
  have v1010_5 : I5 1010 (8 + lD s) = x := (f5 _ _ (by unfold nuF; omega)).trans (u2_s ..)
  have f5 : FrI (lnF 1008 1012 (8 + lD s)) I I5 := f4'.tr (f5.wk (nu_l _ _ _))
  have g5_16 : I5 1000 16 = nI (lK s) := (f5 _ _ (ln_n (by omega) (by omega))).trans h16
  have g5_17 : I5 1000 17 = nI (lD s) := (f5 _ _ (ln_n (by omega) (by omega))).trans h17
  have g5_18 : I5 1000 18 = nI (lW s) := (f5 _ _ (ln_n (by omega) (by omega))).trans h18
  have t5' : TTk b n q4 (u2 I5 1011 (8 + lD s) (nI y)) := t5.fr (fun t k q => by rw [u2_ap, if_neg (by omega)])
  have f5' : FrI (lnF 1008 1012 (8 + lD s)) I (u2 I5 1011 (8 + lD s) (nI y)) := f5.u (Or.inr (by omega))
  have A6 := tw_number d J C hn h256 t5' (hi := 100) (by omega)
  rcases e6 : numS b n q4 100 with e | ⟨z, q5⟩
  · obtain ⟨I6, r6, w6, f6⟩ := A6.1 e e6
    have r6 : (Run_ (d, mT_number, 0, [some (vR (1000, 0, 0)), some (vI 0), some (vI 100)], [], (tw (u2 I5 1011 (8 + lD s) (nI y)) J, C))) = _ := r6
    show TPf zF e J C I _
    refine ⟨I6, ?_, w6, (f5'.tr (f6.wk (nu_l _ _ _))).wk (ln_z (fun t x y => zr_8 (by omega)))⟩
    simp (disch := omega) only [↓reduceIte, ↓qX_m, ↓qR_m, ↓cI_m, ↓cV_m, ↓cJ_m, ↓cO_m, ↓cR_m, ixq_n, ixq_l, tgq_ok, nL_mul, nR_mul, nL_add, nR_add, nL_sub, nR_sub, nI_add, pk_mul, nn_sub, ng1_0, ng1_1, an_0, an_1, i1_0, Nat.add_zero, Nat.zero_add, Nat.mul_one, Nat.mul_zero, hI_cg, hP_cg, hJ_cg, wI_cg, wP_cg, wJ_cg, g1_16, g1_17, g1_18, r2, eT_deedLine_33, g2_16, g2_17, g2_18, r3, eT_deedLine_60, x3, g3_16, g3_17, g3_18, r4, eT_deedLine_81, x4, g4_16, g4_17, g4_18, r5, eT_deedLine_103, x5, g5_16, g5_17, g5_18, u2_t, r6, eT_deedLine_125]
  rw [sb_i]
  have hh6 := num_le e6
  obtain ⟨I6, r6, t6, x6, f6⟩ := A6.2 z q5 e6
  clear A6
  have r6 : (Run_ (d, mT_number, 0, [some (vR (1000, 0, 0)), some (vI 0), some (vI 100)], [], (tw (u2 I5 1011 (8 + lD s) (nI y)) J, C))) = _ := r6
  have v1008_6 : I6 1008 (8 + lD s) = v := (f6 _ _ (by unfold nuF; omega)).trans ((u2_t _ _ _ _ (by omega)).trans v1008_5)
  have v1009_6 : I6 1009 (8 + lD s) = (nI k0) := (f6 _ _ (by unfold nuF; omega)).trans ((u2_t _ _ _ _ (by omega)).trans v1009_5)
  have v1010_6 : I6 1010 (8 + lD s) = x := (f6 _ _ (by unfold nuF; omega)).trans ((u2_t _ _ _ _ (by omega)).trans v1010_5)
  have v1011_6 : I6 1011 (8 + lD s) = (nI y) := (f6 _ _ (by unfold nuF; omega)).trans (u2_s ..)
  have f6 : FrI (lnF 1008 1012 (8 + lD s)) I I6 := f5'.tr (f6.wk (nu_l _ _ _))
  have g6_16 : I6 1000 16 = nI (lK s) := (f6 _ _ (ln_n (by omega) (by omega))).trans h16
  have g6_17 : I6 1000 17 = nI (lD s) := (f6 _ _ (ln_n (by omega) (by omega))).trans h17
  have g6_18 : I6 1000 18 = nI (lW s) := (f6 _ _ (ln_n (by omega) (by omega))).trans h18
  have F : FrI (lkF 1008 1012 (8 + lD s) 17) I (u2 (u2 I6 1012 (8 + lD s) (nI z)) 1000 17 (nI (lD s + 1))) := ((f6.wk (S' := (lkF 1008 1012 (8 + lD s) 17)) (fun t k q => Or.inl q)).u (Or.inl (Or.inr (by omega)))).u (Or.inr (by omega))
  refine ⟨(u2 (u2 I6 1012 (8 + lD s) (nI z)) 1000 17 (nI (lD s + 1))), ?_, h.put rfl rfl (t6.fr (fun t k q => ?_)) F (lk_s (by omega) (by omega) (by omega)) ⟨(F _ _ (lk_n (by omega) (by omega) (by omega))).trans h16, u2_s .., (F _ _ (lk_n (by omega) (by omega) (by omega))).trans h18, (F _ _ (lk_n (by omega) (by omega) (by omega))).trans h19⟩ (fun t k q => ?_) ⟨fun t q => (F _ _ (lk_n (by omega) (by omega) (by omega))).trans (hf t q), (F _ _ (lk_n (by omega) (by omega) (by omega))).trans h21⟩ ⟨hb.1, by show lD s + 1 ≤ 8; omega, hb.2.2.1, hb.2.2.2.1⟩, F.wk (lk_z (fun t x y => zr_8 (by omega)) (by omega))⟩
  · simp (disch := omega) only [↓reduceIte, ↓qX_m, ↓qR_m, ↓cI_m, ↓cV_m, ↓cJ_m, ↓cO_m, ↓cR_m, ixq_n, ixq_l, tgq_ok, nL_mul, nR_mul, nL_add, nR_add, nL_sub, nR_sub, nI_add, pk_mul, nn_sub, ng1_0, ng1_1, an_0, an_1, i1_0, Nat.add_zero, Nat.zero_add, Nat.mul_one, Nat.mul_zero, hI_cg, hP_cg, hJ_cg, wI_cg, wP_cg, wJ_cg, g1_16, g1_17, g1_18, r2, eT_deedLine_33, g2_16, g2_17, g2_18, r3, eT_deedLine_60, x3, g3_16, g3_17, g3_18, r4, eT_deedLine_81, x4, g4_16, g4_17, g4_18, r5, eT_deedLine_103, x5, g5_16, g5_17, g5_18, r6, eT_deedLine_125, x6, g6_16, g6_17, g6_18, u2_t]
  · rw [u2_o _ _ (by omega), u2_o _ _ (by omega)]
  · have zc : (t = 1003 ∧ k = 0 ∧ zo t = 1) ∨ (1004 ≤ t ∧ t ≤ 1006 ∧ k < lK s ∧ zo t = 6) ∨ (t = 1007 ∧ k < 12 ∧ zo t = 12) ∨ (1008 ≤ t ∧ t ≤ 1012 ∧ k < lD s + 1 ∧ zo t = 8) ∨ (1013 ≤ t ∧ t ≤ 1015 ∧ k < lW s ∧ zo t = 12) ∨ (t = 1017 ∧ k < 4 ∧ zo t = 4) := zo_c q
    clear h
    by_cases c1 : 1008 ≤ t ∧ t ≤ 1012 ∧ k = lD s
    · right
      have z6 : zo t = 8 := by omega
      rw [c1.2.2, z6]
      have c2 : t = 1008 ∨ t = 1009 ∨ t = 1010 ∨ t = 1011 ∨ t = 1012 := by omega
      rcases c2 with c2 | c2 | c2 | c2 | c2
      · rw [c2, u2_o _ _ (by omega), u2_o _ _ (by omega), v1008_6]
        dsimp only [lX]
        rw [u2_o _ _ (by omega), u2_o _ _ (by omega), u2_o _ _ (by omega), u2_o _ _ (by omega), u2_s]
      · rw [c2, u2_o _ _ (by omega), u2_o _ _ (by omega), v1009_6]
        dsimp only [lX]
        rw [u2_o _ _ (by omega), u2_o _ _ (by omega), u2_o _ _ (by omega), u2_s]
      · rw [c2, u2_o _ _ (by omega), u2_o _ _ (by omega), v1010_6]
        dsimp only [lX]
        rw [u2_o _ _ (by omega), u2_o _ _ (by omega), u2_s]
      · rw [c2, u2_o _ _ (by omega), u2_o _ _ (by omega), v1011_6]
        dsimp only [lX]
        rw [u2_o _ _ (by omega), u2_s]
      · rw [c2, u2_o _ _ (by omega), u2_s]
        dsimp only [lX]
        rw [u2_s]
    · left
      refine ⟨(lk_n (by omega) (by omega) (by omega)), by unfold lcl; omega, ?_⟩
      dsimp only [lX]
      rw [u2_o _ _ (by omega), u2_o _ _ (by omega), u2_o _ _ (by omega), u2_o _ _ (by omega), u2_o _ _ (by omega)]
