/-! THE TWIN's line: a kind -/
variable {b : Nat → Nat} {n : Nat}
theorem tw_kindL {s : Ls_} {I : FI_} (d : Nat) (J : FJ_) (C : C_) (hn : n ≤ 700) (h256 : ∀ k, b k < 256) (h : TLs b n s I) : TLo b n (kindS b n s) J C I (Run_ (d, mT_kindLine, 0, [some (vR (1000, 0, 0))], [], (tw I J, C))) := by
  obtain ⟨ht, ⟨h16, h17, h18, h19⟩, ⟨h20, h48⟩, hx, hf, h21, hl, hb⟩ := id h
  have hK := hb.1
  unfold kindS
  by_cases c : lK s = 6
  · rw [if_pos c]
    have w2 : (Run_ (d, mT_wrong, 0, [some (vR (1000, 0, 0)), some (vI 2)], [], (tw I J, C))) = _ := tw_wrong d I J C 2
    refine ⟨wrI I 2, ?_, wr_ft ht 2, (wr_nu I 2).wk nu_z⟩
    rw [eT_kindLine_0]
    simp (disch := omega) only [↓reduceIte, ↓qX_m, ↓qR_m, ↓cI_m, ↓cV_m, ↓cJ_m, ↓cO_m, ↓cR_m, ixq_n, ixq_l, tgq_ok, nL_mul, nR_mul, nL_add, nR_add, nL_sub, nR_sub, nI_add, pk_mul, nn_sub, ng1_0, ng1_1, an_0, an_1, i1_0, Nat.add_zero, Nat.zero_add, Nat.mul_one, Nat.mul_zero, hI_cg, hP_cg, hJ_cg, wI_cg, wP_cg, wJ_cg, h16, nR_eq, c, w2, eT_kindLine_14]
  · rw [if_neg c]
    obtain ⟨I1, r1, f1, t1⟩ := ht.next d J C hn h256
    have g1 : I1 1000 16 = nI (lK s) := (f1 _ _ (by unfold tk4; omega)).trans h16
    have f1 := f1.wk tk_nu
    obtain ⟨N1, N2⟩ := tw_newName d J C hn h256 t1 (T := 1004) (N := 12) (F := 6) (m := lK s) (lX s 1004) (by omega) rfl (by omega) (by omega) (fun k hk => (f1 _ _ (by unfold nuF; omega)).trans (hx 1004 k (by unfold lcl; omega)))
    have e0 : (Run_ (d, mT_kindLine, 0, [some (vR (1000, 0, 0))], [], (tw I J, C))) = (Run_ (d, mT_kindLine, 19, [some (vR (1000, 0, 0))], [], (tw I1 J, C))) := by
      rw [eT_kindLine_0]
      simp (disch := omega) only [↓reduceIte, ↓qX_m, ↓qR_m, ↓cI_m, ↓cV_m, ↓cJ_m, ↓cO_m, ↓cR_m, ixq_n, ixq_l, tgq_ok, nL_mul, nR_mul, nL_add, nR_add, nL_sub, nR_sub, nI_add, pk_mul, nn_sub, ng1_0, ng1_1, an_0, an_1, i1_0, Nat.add_zero, Nat.zero_add, Nat.mul_one, Nat.mul_zero, hI_cg, hP_cg, hJ_cg, wI_cg, wP_cg, wJ_cg, h16, nR_eq, c, r1]
    rw [e0, eT_kindLine_19]
    rcases e1 : newS b n (tkN b n (lP s)) (lX s 1004) (lK s) with e | ⟨v, q1⟩
    · obtain ⟨I2, r2, w2, f2⟩ := N1 e e1
      show TPf zF e J C I _
      refine ⟨I2, ?_, w2, (f1.tr f2).wk nu_z⟩
      have r2 : (Run_ (d, mT_newName, 0, [some (vR (1000, 0, 0)), some (vR (1004, 12, 0)), some (vI 6), some (vI (nI (lK s)))], [], (tw I1 J, C))) = _ := r2
      simp (disch := omega) only [↓reduceIte, ↓qX_m, ↓qR_m, ↓cI_m, ↓cV_m, ↓cJ_m, ↓cO_m, ↓cR_m, ixq_n, ixq_l, tgq_ok, nL_mul, nR_mul, nL_add, nR_add, nL_sub, nR_sub, nI_add, pk_mul, nn_sub, ng1_0, ng1_1, an_0, an_1, i1_0, Nat.add_zero, Nat.zero_add, Nat.mul_one, Nat.mul_zero, hI_cg, hP_cg, hJ_cg, wI_cg, wP_cg, wJ_cg, g1, r2, eT_kindLine_33]
    rw [sb_i]
    obtain ⟨I2, r2, t2, x2, f2⟩ := N2 v q1 e1
    have r2 : (Run_ (d, mT_newName, 0, [some (vR (1000, 0, 0)), some (vR (1004, 12, 0)), some (vI 6), some (vI (nI (lK s)))], [], (tw I1 J, C))) = _ := r2
    have f2 : FrI (lnF 1004 1006 (6 + lK s)) I I2 := (f1.wk (fun t k q => Or.inl q)).tr (f2.wk (fun t k q => q.elim Or.inl (fun z => Or.inr (by omega))))
    have g2 : I2 1000 16 = nI (lK s) := (f2 _ _ (ln_n (by omega) (by omega))).trans h16
    obtain ⟨M1, M2⟩ := tw_number d J C hn h256 t2 (hi := 9) (by omega)
    rcases e2 : numS b n q1 9 with e | ⟨x, q2⟩
    · obtain ⟨I3, r3, w3, f3⟩ := M1 e e2
      have r3 : (Run_ (d, mT_number, 0, [some (vR (1000, 0, 0)), some (vI 0), some (vI 9)], [], (tw I2 J, C))) = _ := r3
      show TPf zF e J C I _
      refine ⟨I3, ?_, w3, (f2.tr (f3.wk (fun t k q => Or.inl q))).wk (ln_z fun t x y => zr_4 (by omega))⟩
      simp (disch := omega) only [↓reduceIte, ↓qX_m, ↓qR_m, ↓cI_m, ↓cV_m, ↓cJ_m, ↓cO_m, ↓cR_m, ixq_n, ixq_l, tgq_ok, nL_mul, nR_mul, nL_add, nR_add, nL_sub, nR_sub, nI_add, pk_mul, nn_sub, ng1_0, ng1_1, an_0, an_1, i1_0, Nat.add_zero, Nat.zero_add, Nat.mul_one, Nat.mul_zero, hI_cg, hP_cg, hJ_cg, wI_cg, wP_cg, wJ_cg, g1, r2, eT_kindLine_33, r3, eT_kindLine_45]
    rw [sb_i]
    obtain ⟨I3, r3, t3, x3, f3⟩ := M2 x q2 e2
    have r3 : (Run_ (d, mT_number, 0, [some (vR (1000, 0, 0)), some (vI 0), some (vI 9)], [], (tw I2 J, C))) = _ := r3
    have y3 : I3 1004 (6 + lK s) = v := (f3 _ _ (by unfold nuF; omega)).trans x2
    have f3 := f2.tr (f3.wk (fun t k q => Or.inl q))
    have g3 : I3 1000 16 = nI (lK s) := (f3 _ _ (ln_n (by omega) (by omega))).trans h16
    have t3' : TTk b n q2 (u2 I3 1005 (6 + lK s) (nI x)) := t3.fr (fun t k q => by rw [u2_ap, if_neg (by omega)])
    obtain ⟨M3, M4⟩ := tw_number d J C hn h256 t3' (hi := 9) (by omega)
    have f3' : FrI (lnF 1004 1006 (6 + lK s)) I (u2 I3 1005 (6 + lK s) (nI x)) := f3.u (by unfold lnF; omega)
    rcases e3 : numS b n q2 9 with e | ⟨y, q3⟩
    · obtain ⟨I4, r4, w4, f4⟩ := M3 e e3
      have r4 : (Run_ (d, mT_number, 0, [some (vR (1000, 0, 0)), some (vI 0), some (vI 9)], [], (tw (u2 I3 1005 (6 + lK s) (nI x)) J, C))) = _ := r4
      show TPf zF e J C I _
      refine ⟨I4, ?_, w4, (f3'.tr (f4.wk (fun t k q => Or.inl q))).wk (ln_z fun t x y => zr_4 (by omega))⟩
      simp (disch := omega) only [↓reduceIte, ↓qX_m, ↓qR_m, ↓cI_m, ↓cV_m, ↓cJ_m, ↓cO_m, ↓cR_m, ixq_n, ixq_l, tgq_ok, nL_mul, nR_mul, nL_add, nR_add, nL_sub, nR_sub, nI_add, pk_mul, nn_sub, ng1_0, ng1_1, an_0, an_1, i1_0, Nat.add_zero, Nat.zero_add, Nat.mul_one, Nat.mul_zero, hI_cg, hP_cg, hJ_cg, wI_cg, wP_cg, wJ_cg, g1, r2, eT_kindLine_33, r3, eT_kindLine_45, g3, x3, r4, eT_kindLine_73]
    rw [sb_i]
    obtain ⟨I4, r4, t4, x4, f4⟩ := M4 y q3 e3
    have r4 : (Run_ (d, mT_number, 0, [some (vR (1000, 0, 0)), some (vI 0), some (vI 9)], [], (tw (u2 I3 1005 (6 + lK s) (nI x)) J, C))) = _ := r4
    have y4 : I4 1004 (6 + lK s) = v := (f4 _ _ (by unfold nuF; omega)).trans ((u2_t _ _ _ _ (by omega)).trans y3)
    have z4 : I4 1005 (6 + lK s) = nI x := (f4 _ _ (by unfold nuF; omega)).trans (u2_s ..)
    have f4 := f3'.tr (f4.wk (fun t k q => Or.inl q))
    have g4 : I4 1000 16 = nI (lK s) := (f4 _ _ (ln_n (by omega) (by omega))).trans h16
    have F : FrI (lkF 1004 1006 (6 + lK s) 16) I (u2 (u2 I4 1006 (6 + lK s) (nI y)) 1000 16 (nI (lK s + 1))) := ((f4.wk (S' := lkF 1004 1006 (6 + lK s) 16) (fun t k q => Or.inl q)).u (Or.inl (Or.inr (by omega)))).u (Or.inr (by omega))
    refine ⟨u2 (u2 I4 1006 (6 + lK s) (nI y)) 1000 16 (nI (lK s + 1)), ?_, h.put rfl rfl (t4.fr (fun t k q => ?_)) F (lk_s (by omega) (by omega) (by omega)) ⟨u2_s .., (F _ _ (lk_n (by omega) (by omega) (by omega))).trans h17, (F _ _ (lk_n (by omega) (by omega) (by omega))).trans h18, (F _ _ (lk_n (by omega) (by omega) (by omega))).trans h19⟩ (fun t k q => ?_) ⟨fun t q => (F _ _ (lk_n (by omega) (by omega) (by omega))).trans (hf t q), (F _ _ (lk_n (by omega) (by omega) (by omega))).trans h21⟩ ⟨by show lK s + 1 ≤ 6; omega, hb.2.1, hb.2.2.1, hb.2.2.2.1⟩, F.wk (lk_z (fun t x y => zr_4 (by omega)) (by omega))⟩
    · simp (disch := omega) only [↓reduceIte, ↓qX_m, ↓qR_m, ↓cI_m, ↓cV_m, ↓cJ_m, ↓cO_m, ↓cR_m, ixq_n, ixq_l, tgq_ok, nL_mul, nR_mul, nL_add, nR_add, nL_sub, nR_sub, nI_add, pk_mul, nn_sub, ng1_0, ng1_1, an_0, an_1, i1_0, Nat.add_zero, Nat.zero_add, Nat.mul_one, Nat.mul_zero, hI_cg, hP_cg, hJ_cg, wI_cg, wP_cg, wJ_cg, g1, r2, eT_kindLine_33, r3, eT_kindLine_45, g3, x3, r4, eT_kindLine_73, g4, x4, u2_t]
    · rw [u2_o _ _ (by omega), u2_o _ _ (by omega)]
    · have zc : (t = 1003 ∧ k = 0 ∧ zo t = 1) ∨ (1004 ≤ t ∧ t ≤ 1006 ∧ k < lK s + 1 ∧ zo t = 6) ∨ (t = 1007 ∧ k < 12 ∧ zo t = 12) ∨ (1008 ≤ t ∧ t ≤ 1012 ∧ k < lD s ∧ zo t = 8) ∨ (1013 ≤ t ∧ t ≤ 1015 ∧ k < lW s ∧ zo t = 12) ∨ (t = 1017 ∧ k < 4 ∧ zo t = 4) := zo_c q
      clear M1 M2 M3 M4 N1 N2 h
      by_cases c1 : 1004 ≤ t ∧ t ≤ 1006 ∧ k = lK s
      · right
        have z6 : zo t = 6 := by omega
        rw [c1.2.2, z6]
        have c2 : t = 1004 ∨ t = 1005 ∨ t = 1006 := by omega
        rcases c2 with c2 | c2 | c2
        · rw [c2, u2_o _ _ (by omega), u2_o _ _ (by omega), y4]
          dsimp only [lX]
          rw [u2_o _ _ (by omega), u2_o _ _ (by omega), u2_s]
        · rw [c2, u2_o _ _ (by omega), u2_o _ _ (by omega), z4]
          dsimp only [lX]
          rw [u2_o _ _ (by omega), u2_s]
        · rw [c2, u2_o _ _ (by omega), u2_s]
          dsimp only [lX]
          rw [u2_s]
      · left
        refine ⟨lk_n (by omega) (by omega) (by omega), by unfold lcl; omega, ?_⟩
        dsimp only [lX]
        rw [u2_o _ _ (by omega), u2_o _ _ (by omega), u2_o _ _ (by omega)]
