/-! THE TWIN's lines: money, seed, laws -/
variable {b : Nat → Nat} {n : Nat}
def mnF (a c m j t k : Nat) : Prop := lnF a c m t k ∨ (t = 1016 ∧ k = j)
theorem tw_moneyL {s : Ls_} {I : FI_} (d : Nat) (J : FJ_) (C : C_) (hn : n ≤ 700) (h256 : ∀ k, b k < 256) (h : TLs b n s I) {a hi : Nat} (ha : a = 0 ∨ a = 2) (hh : hi ≤ 999) : TLo b n (monS b n a hi s) J C I (Run_ (d, mT_moneyLine, 0, [some (vR (1000, 0, 0)), some (vI (nI a)), some (vI (nI hi)), none, none], [], (tw I J, C))) := by
  obtain ⟨ht, ⟨h16, h17, h18, h19⟩, ⟨h20, h48⟩, hx, hf, h21, hl, hb⟩ := id h
  unfold monS
  obtain ⟨I1, r1, f1, t1⟩ := ht.next d J C hn h256
  have f1 := f1.wk tk_nu
  have p10 : I1 1000 10 = nI (tkP b n (tkN b n (lP s))) := t1.2.2.2.1
  have M1 := tw_number d J C hn h256 t1 (hi := 1) (by omega)
  rw [eT_moneyLine_0]
  rcases e1 : numS b n (tkN b n (lP s)) 1 with e | ⟨u, q1⟩
  · obtain ⟨I2, r2, w2, f2⟩ := M1.1 e e1
    have r2 : (Run_ (d, mT_number, 0, [some (vR (1000, 0, 0)), some (vI 0), some (vI 1)], [], (tw I1 J, C))) = _ := r2
    show TPf zF e J C I _
    refine ⟨I2, ?_, w2, (f1.tr f2).wk nu_z⟩
    simp (disch := omega) only [↓reduceIte, ↓qX_m, ↓qR_m, ↓cI_m, ↓cV_m, ↓cJ_m, ↓cO_m, ↓cR_m, ixq_n, ixq_l, tgq_ok, nL_mul, nR_mul, nL_add, nR_add, nL_sub, nR_sub, nI_add, pk_mul, nn_sub, ng1_0, ng1_1, an_0, an_1, i1_0, Nat.add_zero, Nat.zero_add, Nat.mul_one, Nat.mul_zero, hI_cg, hP_cg, hJ_cg, wI_cg, wP_cg, wJ_cg, r1, eT_moneyLine_4, r2, eT_moneyLine_15]
  rw [sb_i]
  have hu := num_le e1
  obtain ⟨I2, r2, t2, x2, f2⟩ := M1.2 u q1 e1
  have r2 : (Run_ (d, mT_number, 0, [some (vR (1000, 0, 0)), some (vI 0), some (vI 1)], [], (tw I1 J, C))) = _ := r2
  clear M1
  have f2 := f1.tr f2
  have g2 : I2 1016 (a + u) = bI (lF s (a + u)) := (f2 _ _ (by unfold nuF; omega)).trans (hf _ (by omega))
  cases c : lF s (a + u) with
  | true =>
    rw [if_pos rfl]
    rw [c] at g2
    have g2 : I2 1016 (a + u) = 1 := g2
    have w3 : (Run_ (d, mT_wrong, 0, [some (vR (1000, 0, 0)), some (vI 3)], [], (tw (u2 I2 1000 10 (nI (tkP b n (tkN b n (lP s))))) J, C))) = _ := tw_wrong d (u2 I2 1000 10 (nI (tkP b n (tkN b n (lP s))))) J C 3
    show TPf zF (3, tkP b n (tkN b n (lP s))) J C I _
    refine ⟨wrI (u2 I2 1000 10 (nI (tkP b n (tkN b n (lP s))))) 3, ?_, ⟨?_, ?_⟩, ((f2.u (by unfold nuF; omega)).tr (wr_nu _ 3)).wk nu_z⟩
    · simp (disch := omega) only [↓reduceIte, ↓qX_m, ↓qR_m, ↓cI_m, ↓cV_m, ↓cJ_m, ↓cO_m, ↓cR_m, ixq_n, ixq_l, tgq_ok, nL_mul, nR_mul, nL_add, nR_add, nL_sub, nR_sub, nI_add, pk_mul, nn_sub, ng1_0, ng1_1, an_0, an_1, i1_0, Nat.add_zero, Nat.zero_add, Nat.mul_one, Nat.mul_zero, hI_cg, hP_cg, hJ_cg, wI_cg, wP_cg, wJ_cg, r1, eT_moneyLine_4, r2, eT_moneyLine_15, x2, g2, p10, w3, eT_moneyLine_48]
    · unfold wrI; rw [u2_k _ _ _ _ (by omega), u2_s]
    · unfold wrI; rw [u2_s, u2_s]
  | false =>
    rw [if_neg (fun z => Bool.noConfusion z)]
    rw [c] at g2
    have g2 : I2 1016 (a + u) = 0 := g2
    have o1 : ((1 : Int32) &&& 1) = 1 := by decide
    have t2' : TTk b n q1 (u2 I2 1016 (a + u) 1) := t2.fr (fun t k q => by rw [u2_ap, if_neg (by omega)])
    have f2' : FrI (mnF 1017 1017 (4 + a + u) (a + u)) I (u2 I2 1016 (a + u) 1) := (f2.wk (S' := mnF 1017 1017 (4 + a + u) (a + u)) (fun t k q => Or.inl (Or.inl q))).u (Or.inr (by omega))
    have zz : ∀ t k, mnF 1017 1017 (4 + a + u) (a + u) t k → zF t k := fun t k q => q.elim (ln_z (fun t x y => zr_17 (by omega)) t k) (fun z => by rw [z.1]; exact zr_16)
    have M2 := tw_number d J C hn h256 t2' (hi := hi) (by omega)
    rcases e2 : numS b n q1 hi with e | ⟨y, q2⟩
    · obtain ⟨I3, r3, w3, f3⟩ := M2.1 e e2
      show TPf zF e J C I _
      refine ⟨I3, ?_, w3, (f2'.tr (f3.wk (fun t k q => Or.inl (Or.inl q)))).wk zz⟩
      simp (disch := omega) only [↓reduceIte, ↓qX_m, ↓qR_m, ↓cI_m, ↓cV_m, ↓cJ_m, ↓cO_m, ↓cR_m, ixq_n, ixq_l, tgq_ok, nL_mul, nR_mul, nL_add, nR_add, nL_sub, nR_sub, nI_add, pk_mul, nn_sub, ng1_0, ng1_1, an_0, an_1, i1_0, Nat.add_zero, Nat.zero_add, Nat.mul_one, Nat.mul_zero, hI_cg, hP_cg, hJ_cg, wI_cg, wP_cg, wJ_cg, r1, eT_moneyLine_4, r2, eT_moneyLine_15, x2, g2, o1, r3, eT_moneyLine_65]
    rw [sb_i]
    obtain ⟨I3, r3, t3, x3, f3⟩ := M2.2 y q2 e2
    clear M2
    have g3 : I3 1016 (a + u) = 1 := (f3 _ _ (by unfold nuF; omega)).trans (u2_s ..)
    have F : FrI (mnF 1017 1017 (4 + a + u) (a + u)) I (u2 I3 1017 (4 + a + u) (nI y)) := (f2'.tr (f3.wk (fun t k q => Or.inl (Or.inl q)))).u (Or.inl (Or.inr (by omega)))
    have nm : ∀ {t k}, ¬ (t = 1000 ∧ k < 12) → ¬ (t = 1017 ∧ k = 4 + a + u) → ¬ (t = 1016 ∧ k = a + u) → ¬ mnF 1017 1017 (4 + a + u) (a + u) t k := fun a1 a2 a3 z => z.elim (ln_n a1 (by omega)) a3
    refine ⟨u2 I3 1017 (4 + a + u) (nI y), ?_, h.put rfl rfl (t3.fr (fun t k q => ?_)) F (fun t k q => ?_) ⟨(F _ _ (nm (by omega) (by omega) (by omega))).trans h16, (F _ _ (nm (by omega) (by omega) (by omega))).trans h17, (F _ _ (nm (by omega) (by omega) (by omega))).trans h18, (F _ _ (nm (by omega) (by omega) (by omega))).trans h19⟩ (fun t k q => ?_) ⟨fun t q => ?_, ?_⟩ ⟨hb.1, hb.2.1, hb.2.2.1, hb.2.2.2.1⟩, F.wk zz⟩
    · simp (disch := omega) only [↓reduceIte, ↓qX_m, ↓qR_m, ↓cI_m, ↓cV_m, ↓cJ_m, ↓cO_m, ↓cR_m, ixq_n, ixq_l, tgq_ok, nL_mul, nR_mul, nL_add, nR_add, nL_sub, nR_sub, nI_add, pk_mul, nn_sub, ng1_0, ng1_1, an_0, an_1, i1_0, Nat.add_zero, Nat.zero_add, Nat.mul_one, Nat.mul_zero, hI_cg, hP_cg, hJ_cg, wI_cg, wP_cg, wJ_cg, r1, eT_moneyLine_4, r2, eT_moneyLine_15, x2, g2, o1, r3, eT_moneyLine_65, x3]
    · rw [u2_o _ _ (by omega)]
    · rcases q with (q | q) | q
      · unfold nuF at q; omega
      · omega
      · omega
    · have zc : (t = 1003 ∧ k = 0 ∧ zo t = 1) ∨ (1004 ≤ t ∧ t ≤ 1006 ∧ k < lK s ∧ zo t = 6) ∨ (t = 1007 ∧ k < 12 ∧ zo t = 12) ∨ (1008 ≤ t ∧ t ≤ 1012 ∧ k < lD s ∧ zo t = 8) ∨ (1013 ≤ t ∧ t ≤ 1015 ∧ k < lW s ∧ zo t = 12) ∨ (t = 1017 ∧ k < 4 ∧ zo t = 4) := zo_c q
      by_cases c1 : t = 1017 ∧ k = a + u
      · right
        have z6 : zo t = 4 := by omega
        rw [c1.2, z6, c1.1, ← Nat.add_assoc, u2_s]
        dsimp only [lX]
        rw [u2_s]
      · left
        refine ⟨nm (by omega) (by omega) (by omega), by unfold lcl; omega, ?_⟩
        dsimp only [lX]
        rw [u2_o _ _ (by omega)]
    · dsimp only [lF]
      rw [fu_ap]
      by_cases z : t = a + u
      · rw [if_pos z, u2_o _ _ (by omega), z, g3]; rfl
      · rw [if_neg z, F _ _ (nm (by omega) (by omega) (by omega))]
        exact hf t q
    · dsimp only [lF]
      rw [fu_n _ _ (by omega), F _ _ (nm (by omega) (by omega) (by omega))]
      exact h21
theorem tw_seedL {s : Ls_} {I : FI_} (d : Nat) (J : FJ_) (C : C_) (hn : n ≤ 700) (h256 : ∀ k, b k < 256) (h : TLs b n s I) : TLo b n (seeS b n s) J C I (Run_ (d, mT_seedLine, 0, [some (vR (1000, 0, 0))], [], (tw I J, C))) := by
  obtain ⟨ht, ⟨h16, h17, h18, h19⟩, ⟨h20, h48⟩, hx, hf, h21, hl, hb⟩ := id h
  unfold seeS
  rw [eT_seedLine_0]
  cases c : lF s 4 with
  | true =>
    rw [if_pos rfl]
    rw [c] at h21
    have h21 : I 1000 21 = 1 := h21
    have w3 : (Run_ (d, mT_wrong, 0, [some (vR (1000, 0, 0)), some (vI 3)], [], (tw I J, C))) = _ := tw_wrong d I J C 3
    refine ⟨wrI I 3, ?_, wr_ft ht 3, (wr_nu I 3).wk nu_z⟩
    simp (disch := omega) only [↓reduceIte, ↓qX_m, ↓qR_m, ↓cI_m, ↓cV_m, ↓cJ_m, ↓cO_m, ↓cR_m, ixq_n, ixq_l, tgq_ok, nL_mul, nR_mul, nL_add, nR_add, nL_sub, nR_sub, nI_add, pk_mul, nn_sub, ng1_0, ng1_1, an_0, an_1, i1_0, Nat.add_zero, Nat.zero_add, Nat.mul_one, Nat.mul_zero, hI_cg, hP_cg, hJ_cg, wI_cg, wP_cg, wJ_cg, h21, w3, eT_seedLine_12]
  | false =>
    rw [if_neg (fun z => Bool.noConfusion z)]
    rw [c] at h21
    have h21 : I 1000 21 = 0 := h21
    obtain ⟨I1, r1, f1, t1⟩ := (ht.u 21 1 (by omega)).next d J C hn h256
    have y1 : I1 1000 21 = 1 := (f1 _ _ (by unfold tk4; omega)).trans (u2_s ..)
    have f1 : FrI (lkF 1003 1003 1 21) I I1 := ((FrI.rf _ I).u (Or.inr (by omega))).tr (f1.wk (fun t k q => Or.inl (Or.inl (tk_nu t k q))))
    have M1 := tw_number d J C hn h256 t1 (hi := 99999) (by omega)
    have zz : ∀ t k, lkF 1003 1003 1 21 t k → zF t k := lk_z (fun t x y => zr_3 (by omega)) (by omega)
    rcases e1 : numS b n (tkN b n (lP s)) 99999 with e | ⟨y, q1⟩
    · obtain ⟨I2, r2, w2, f2⟩ := M1.1 e e1
      have r2 : (Run_ (d, mT_number, 0, [some (vR (1000, 0, 0)), some (vI 0), some (vI 99999)], [], (tw I1 J, C))) = _ := r2
      show TPf zF e J C I _
      refine ⟨I2, ?_, w2, (f1.tr (f2.wk (fun t k q => Or.inl (Or.inl q)))).wk zz⟩
      simp (disch := omega) only [↓reduceIte, ↓qX_m, ↓qR_m, ↓cI_m, ↓cV_m, ↓cJ_m, ↓cO_m, ↓cR_m, ixq_n, ixq_l, tgq_ok, nL_mul, nR_mul, nL_add, nR_add, nL_sub, nR_sub, nI_add, pk_mul, nn_sub, ng1_0, ng1_1, an_0, an_1, i1_0, Nat.add_zero, Nat.zero_add, Nat.mul_one, Nat.mul_zero, hI_cg, hP_cg, hJ_cg, wI_cg, wP_cg, wJ_cg, h21, r1, eT_seedLine_22, r2, eT_seedLine_29]
    rw [sb_i]
    obtain ⟨I2, r2, t2, x2, f2⟩ := M1.2 y q1 e1
    have r2 : (Run_ (d, mT_number, 0, [some (vR (1000, 0, 0)), some (vI 0), some (vI 99999)], [], (tw I1 J, C))) = _ := r2
    clear M1
    have y2 : I2 1000 21 = 1 := (f2 _ _ (by unfold nuF; omega)).trans y1
    have F : FrI (lkF 1003 1003 1 21) I (u2 I2 1003 1 (nI y)) := (f1.tr (f2.wk (fun t k q => Or.inl (Or.inl q)))).u (Or.inl (Or.inr (by omega)))
    refine ⟨u2 I2 1003 1 (nI y), ?_, h.put rfl rfl (t2.fr (fun t k q => ?_)) F (lk_s (by omega) (by omega) (by omega)) ⟨(F _ _ (lk_n (by omega) (by omega) (by omega))).trans h16, (F _ _ (lk_n (by omega) (by omega) (by omega))).trans h17, (F _ _ (lk_n (by omega) (by omega) (by omega))).trans h18, (F _ _ (lk_n (by omega) (by omega) (by omega))).trans h19⟩ (fun t k q => ?_) ⟨fun t q => ?_, ?_⟩ ⟨hb.1, hb.2.1, hb.2.2.1, hb.2.2.2.1⟩, F.wk zz⟩
    · simp (disch := omega) only [↓reduceIte, ↓qX_m, ↓qR_m, ↓cI_m, ↓cV_m, ↓cJ_m, ↓cO_m, ↓cR_m, ixq_n, ixq_l, tgq_ok, nL_mul, nR_mul, nL_add, nR_add, nL_sub, nR_sub, nI_add, pk_mul, nn_sub, ng1_0, ng1_1, an_0, an_1, i1_0, Nat.add_zero, Nat.zero_add, Nat.mul_one, Nat.mul_zero, hI_cg, hP_cg, hJ_cg, wI_cg, wP_cg, wJ_cg, h21, r1, eT_seedLine_22, r2, eT_seedLine_29, x2]
    · rw [u2_o _ _ (by omega)]
    · have zc : (t = 1003 ∧ k = 0 ∧ zo t = 1) ∨ (1004 ≤ t ∧ t ≤ 1006 ∧ k < lK s ∧ zo t = 6) ∨ (t = 1007 ∧ k < 12 ∧ zo t = 12) ∨ (1008 ≤ t ∧ t ≤ 1012 ∧ k < lD s ∧ zo t = 8) ∨ (1013 ≤ t ∧ t ≤ 1015 ∧ k < lW s ∧ zo t = 12) ∨ (t = 1017 ∧ k < 4 ∧ zo t = 4) := zo_c q
      by_cases c1 : t = 1003
      · right
        have z6 : zo t = 1 ∧ k = 0 := by omega
        rw [z6.1, z6.2, c1]
        dsimp only [lX]
        rw [u2_s, u2_s]
      · left
        refine ⟨lk_n (by omega) (by omega) (by omega), by unfold lcl; omega, ?_⟩
        dsimp only [lX]
        rw [u2_o _ _ (by omega)]
    · dsimp only [lF]
      rw [fu_n _ _ (by omega), F _ _ (lk_n (by omega) (by omega) (by omega))]
      exact hf t q
    · dsimp only [lF]
      rw [fu_s, u2_o _ _ (by omega), y2]; rfl
