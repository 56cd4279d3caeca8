section
set_option maxHeartbeats 200000
/-! THE TWIN's lines: money, seed, laws -/
variable {b : Nat → Nat} {n : Nat}
def mnF (a c m j t k : Nat) : Prop := lnF a c m t k ∨ (t = 1016 ∧ k = j)
theorem tw_moneyL {s : Ls_} {I : FI_} (d : Nat) (J : FJ_) (C : C_) (hn : n ≤ 700) (h256 : ∀ k, b k < 256) (h : TLs b n s I) {a hi : Nat} (ha : a = 0 ∨ a = 2) (hh : hi ≤ 999) : TLo b n (monS b n a hi s) J C I (Run_ (d, mT_moneyLine, 0, [some (vR (1000, 0, 0)), some (vI (nI a)), some (vI (nI hi)), none, none], [], (tw I J, C))) := by
  obtain ⟨ht, ⟨h16, h17, h18, h19⟩, ⟨h20, h48⟩, hx, hf, h21, hl, hb⟩ := id h
  unfold monS
  obtain ⟨I1, r1, f1, t1⟩ := ht.next d J C hn h256
  have f1 := f1.wk tk_nu
  have p10 : I1 1000 10 = nI (tkP b n (tkN b n (lP s))) := t1.2.2.2.1
  have M1 := tw_number d J C hn h256 t1 (hi := 1) (by omega)
  rw [eT_moneyLine_0]
  rcases e1 : numS b n (tkN b n (lP s)) 1 with e | ⟨u, q1⟩
  · obtain ⟨I2, r2, w2, f2⟩ := M1.1 e e1
    have r2 : (Run_ (d, mT_number, 0, [some (vR (1000, 0, 0)), some (vI 0), some (vI 1)], [], (tw I1 J, C))) = _ := r2
    show TPf zF e J C I _
    refine ⟨I2, ?_, w2, (f1.tr f2).wk nu_z⟩
    simp (disch := omega) only [↓reduceIte, ↓qX_m, ↓qR_m, ↓cI_m, ↓cV_m, ↓cJ_m, ↓cO_m, ↓cR_m, ixq_n, ixq_l, tgq_ok, nL_mul, nR_mul, nL_add, nR_add, nL_sub, nR_sub, nI_add, pk_mul, nn_sub, ng1_0, ng1_1, an_0, an_1, i1_0, Nat.add_zero, Nat.zero_add, Nat.mul_one, Nat.mul_zero, hI_cg, hP_cg, hJ_cg, wI_cg, wP_cg, wJ_cg, r1, eT_moneyLine_4, r2, eT_moneyLine_15]
  rw [sb_i]
  have hu := num_le e1
  obtain ⟨I2, r2, t2, x2, f2⟩ := M1.2 u q1 e1
  have r2 : (Run_ (d, mT_number, 0, [some (vR (1000, 0, 0)), some (vI 0), some (vI 1)], [], (tw I1 J, C))) = _ := r2
  clear M1
  have f2 := f1.tr f2
  have g2 : I2 1016 (a + u) = bI (lF s (a + u)) := (f2 _ _ (by unfold nuF; omega)).trans (hf _ (by omega))
  cases c : lF s (a + u) with
  | true =>
    rw [if_pos rfl]
    rw [c] at g2
    have g2 : I2 1016 (a + u) = 1 := g2
    have w3 : (Run_ (d, mT_wrong, 0, [some (vR (1000, 0, 0)), some (vI 3)], [], (tw (u2 I2 1000 10 (nI (tkP b n (tkN b n (lP s))))) J, C))) = _ := tw_wrong d (u2 I2 1000 10 (nI (tkP b n (tkN b n (lP s))))) J C 3
    show TPf zF (3, tkP b n (tkN b n (lP s))) J C I _
    refine ⟨wrI (u2 I2 1000 10 (nI (tkP b n (tkN b n (lP s))))) 3, ?_, ⟨?_, ?_⟩, ((f2.u (by unfold nuF; omega)).tr (wr_nu _ 3)).wk nu_z⟩
    · simp (disch := omega) only [↓reduceIte, ↓qX_m, ↓qR_m, ↓cI_m, ↓cV_m, ↓cJ_m, ↓cO_m, ↓cR_m, ixq_n, ixq_l, tgq_ok, nL_mul, nR_mul, nL_add, nR_add, nL_sub, nR_sub, nI_add, pk_mul, nn_sub, ng1_0, ng1_1, an_0, an_1, i1_0, Nat.add_zero, Nat.zero_add, Nat.mul_one, Nat.mul_zero, hI_cg, hP_cg, hJ_cg, wI_cg, wP_cg, wJ_cg, r1, eT_moneyLine_4, r2, eT_moneyLine_15, x2, g2, p10, w3, eT_moneyLine_48]
    · unfold wrI; rw [u2_k _ _ _ _ (by omega), u2_s]
    · unfold wrI; rw [u2_s, u2_s]
  | false =>
    rw [if_neg (fun z => Bool.noConfusion z)]
    rw [c] at g2
    have g2 : I2 1016 (a + u) = 0 := g2
    have o1 : ((1 : Int32) &&& 1) = 1 := by decide
    have t2' : TTk b n q1 (u2 I2 1016 (a + u) 1) := t2.fr (fun t k q => by rw [u2_ap, if_neg (by omega)])
    have f2' : FrI (mnF 1017 1017 (4 + a + u) (a + u)) I (u2 I2 1016 (a + u) 1) := (f2.wk (S' := mnF 1017 1017 (4 + a + u) (a + u)) (fun t k q => Or.inl (Or.inl q))).u (Or.inr (by omega))
    have zz : ∀ t k, mnF 1017 1017 (4 + a + u) (a + u) t k → zF t k := fun t k q => q.elim (ln_z (fun t x y => zr_17 (by omega)) t k) (fun z => by rw [z.1]; exact zr_16)
    have M2 := tw_number d J C hn h256 t2' (hi := hi) (by omega)
    rcases e2 : numS b n q1 hi with e | ⟨y, q2⟩
    · obtain ⟨I3, r3, w3, f3⟩ := M2.1 e e2
      show TPf zF e J C I _
      refine ⟨I3, ?_, w3, (f2'.tr (f3.wk (fun t k q => Or.inl (Or.inl q)))).wk zz⟩
      simp (disch := omega) only [↓reduceIte, ↓qX_m, ↓qR_m, ↓cI_m, ↓cV_m, ↓cJ_m, ↓cO_m, ↓cR_m, ixq_n, ixq_l, tgq_ok, nL_mul, nR_mul, nL_add, nR_add, nL_sub, nR_sub, nI_add, pk_mul, nn_sub, ng1_0, ng1_1, an_0, an_1, i1_0, Nat.add_zero, Nat.zero_add, Nat.mul_one, Nat.mul_zero, hI_cg, hP_cg, hJ_cg, wI_cg, wP_cg, wJ_cg, r1, eT_moneyLine_4, r2, eT_moneyLine_15, x2, g2, o1, r3, eT_moneyLine_65]
    rw [sb_i]
    obtain ⟨I3, r3, t3, x3, f3⟩ := M2.2 y q2 e2
    clear M2
    have g3 : I3 1016 (a + u) = 1 := (f3 _ _ (by unfold nuF; omega)).trans (u2_s ..)
    have F : FrI (mnF 1017 1017 (4 + a + u) (a + u)) I (u2 I3 1017 (4 + a + u) (nI y)) := (f2'.tr (f3.wk (fun t k q => Or.inl (Or.inl q)))).u (Or.inl (Or.inr (by omega)))
    have nm : ∀ {t k}, ¬ (t = 1000 ∧ k < 12) → ¬ (t = 1017 ∧ k = 4 + a + u) → ¬ (t = 1016 ∧ k = a + u) → ¬ mnF 1017 1017 (4 + a + u) (a + u) t k := fun a1 a2 a3 z => z.elim (ln_n a1 (by omega)) a3
    refine ⟨u2 I3 1017 (4 + a + u) (nI y), ?_, h.put rfl rfl (t3.fr (fun t k q => ?_)) F (fun t k q => ?_) ⟨(F _ _ (nm (by omega) (by omega) (by omega))).trans h16, (F _ _ (nm (by omega) (by omega) (by omega))).trans h17, (F _ _ (nm (by omega) (by omega) (by omega))).trans h18, (F _ _ (nm (by omega) (by omega) (by omega))).trans h19⟩ (fun t k q => ?_) ⟨fun t q => ?_, ?_⟩ ⟨hb.1, hb.2.1, hb.2.2.1, hb.2.2.2.1⟩, F.wk zz⟩
    · simp (disch := omega) only [↓reduceIte, ↓qX_m, ↓qR_m, ↓cI_m, ↓cV_m, ↓cJ_m, ↓cO_m, ↓cR_m, ixq_n, ixq_l, tgq_ok, nL_mul, nR_mul, nL_add, nR_add, nL_sub, nR_sub, nI_add, pk_mul, nn_sub, ng1_0, ng1_1, an_0, an_1, i1_0, Nat.add_zero, Nat.zero_add, Nat.mul_one, Nat.mul_zero, hI_cg, hP_cg, hJ_cg, wI_cg, wP_cg, wJ_cg, r1, eT_moneyLine_4, r2, eT_moneyLine_15, x2, g2, o1, r3, eT_moneyLine_65, x3]
    · rw [u2_o _ _ (by omega)]
    · rcases q with (q | q) | q
      · unfold nuF at q; omega
      · omega
      · omega
    · have zc : (t = 1003 ∧ k = 0 ∧ zo t = 1) ∨ (1004 ≤ t ∧ t ≤ 1006 ∧ k < lK s ∧ zo t = 6) ∨ (t = 1007 ∧ k < 12 ∧ zo t = 12) ∨ (1008 ≤ t ∧ t ≤ 1012 ∧ k < lD s ∧ zo t = 8) ∨ (1013 ≤ t ∧ t ≤ 1015 ∧ k < lW s ∧ zo t = 12) ∨ (t = 1017 ∧ k < 4 ∧ zo t = 4) := zo_c q
      by_cases c1 : t = 1017 ∧ k = a + u
      · right
        have z6 : zo t = 4 := by omega
        rw [c1.2, z6, c1.1, ← Nat.add_assoc, u2_s]
        dsimp only [lX]
        rw [u2_s]
      · left
        refine ⟨nm (by omega) (by omega) (by omega), by unfold lcl; omega, ?_⟩
        dsimp only [lX]
        rw [u2_o _ _ (by omega)]
    · dsimp only [lF]
      rw [fu_ap]
      by_cases z : t = a + u
      · rw [if_pos z, u2_o _ _ (by omega), z, g3]; rfl
      · rw [if_neg z, F _ _ (nm (by omega) (by omega) (by omega))]
        exact hf t q
    · dsimp only [lF]
      rw [fu_n _ _ (by omega), F _ _ (nm (by omega) (by omega) (by omega))]
      exact h21
theorem tw_seedL {s : Ls_} {I : FI_} (d : Nat) (J : FJ_) (C : C_) (hn : n ≤ 700) (h256 : ∀ k, b k < 256) (h : TLs b n s I) : TLo b n (seeS b n s) J C I (Run_ (d, mT_seedLine, 0, [some (vR (1000, 0, 0))], [], (tw I J, C))) := by
  obtain ⟨ht, ⟨h16, h17, h18, h19⟩, ⟨h20, h48⟩, hx, hf, h21, hl, hb⟩ := id h
  unfold seeS
  rw [eT_seedLine_0]
  cases c : lF s 4 with
  | true =>
    rw [if_pos rfl]
    rw [c] at h21
    have h21 : I 1000 21 = 1 := h21
    have w3 : (Run_ (d, mT_wrong, 0, [some (vR (1000, 0, 0)), some (vI 3)], [], (tw I J, C))) = _ := tw_wrong d I J C 3
    refine ⟨wrI I 3, ?_, wr_ft ht 3, (wr_nu I 3).wk nu_z⟩
    simp (disch := omega) only [↓reduceIte, ↓qX_m, ↓qR_m, ↓cI_m, ↓cV_m, ↓cJ_m, ↓cO_m, ↓cR_m, ixq_n, ixq_l, tgq_ok, nL_mul, nR_mul, nL_add, nR_add, nL_sub, nR_sub, nI_add, pk_mul, nn_sub, ng1_0, ng1_1, an_0, an_1, i1_0, Nat.add_zero, Nat.zero_add, Nat.mul_one, Nat.mul_zero, hI_cg, hP_cg, hJ_cg, wI_cg, wP_cg, wJ_cg, h21, w3, eT_seedLine_12]
  | false =>
    rw [if_neg (fun z => Bool.noConfusion z)]
    rw [c] at h21
    have h21 : I 1000 21 = 0 := h21
    obtain ⟨I1, r1, f1, t1⟩ := (ht.u 21 1 (by omega)).next d J C hn h256
    have y1 : I1 1000 21 = 1 := (f1 _ _ (by unfold tk4; omega)).trans (u2_s ..)
    have f1 : FrI (lkF 1003 1003 1 21) I I1 := ((FrI.rf _ I).u (Or.inr (by omega))).tr (f1.wk (fun t k q => Or.inl (Or.inl (tk_nu t k q))))
    have M1 := tw_number d J C hn h256 t1 (hi := 99999) (by omega)
    have zz : ∀ t k, lkF 1003 1003 1 21 t k → zF t k := lk_z (fun t x y => zr_3 (by omega)) (by omega)
    rcases e1 : numS b n (tkN b n (lP s)) 99999 with e | ⟨y, q1⟩
    · obtain ⟨I2, r2, w2, f2⟩ := M1.1 e e1
      have r2 : (Run_ (d, mT_number, 0, [some (vR (1000, 0, 0)), some (vI 0), some (vI 99999)], [], (tw I1 J, C))) = _ := r2
      show TPf zF e J C I _
      refine ⟨I2, ?_, w2, (f1.tr (f2.wk (fun t k q => Or.inl (Or.inl q)))).wk zz⟩
      simp (disch := omega) only [↓reduceIte, ↓qX_m, ↓qR_m, ↓cI_m, ↓cV_m, ↓cJ_m, ↓cO_m, ↓cR_m, ixq_n, ixq_l, tgq_ok, nL_mul, nR_mul, nL_add, nR_add, nL_sub, nR_sub, nI_add, pk_mul, nn_sub, ng1_0, ng1_1, an_0, an_1, i1_0, Nat.add_zero, Nat.zero_add, Nat.mul_one, Nat.mul_zero, hI_cg, hP_cg, hJ_cg, wI_cg, wP_cg, wJ_cg, h21, r1, eT_seedLine_22, r2, eT_seedLine_29]
    rw [sb_i]
    obtain ⟨I2, r2, t2, x2, f2⟩ := M1.2 y q1 e1
    have r2 : (Run_ (d, mT_number, 0, [some (vR (1000, 0, 0)), some (vI 0), some (vI 99999)], [], (tw I1 J, C))) = _ := r2
    clear M1
    have y2 : I2 1000 21 = 1 := (f2 _ _ (by unfold nuF; omega)).trans y1
    have F : FrI (lkF 1003 1003 1 21) I (u2 I2 1003 1 (nI y)) := (f1.tr (f2.wk (fun t k q => Or.inl (Or.inl q)))).u (Or.inl (Or.inr (by omega)))
    refine ⟨u2 I2 1003 1 (nI y), ?_, h.put rfl rfl (t2.fr (fun t k q => ?_)) F (lk_s (by omega) (by omega) (by omega)) ⟨(F _ _ (lk_n (by omega) (by omega) (by omega))).trans h16, (F _ _ (lk_n (by omega) (by omega) (by omega))).trans h17, (F _ _ (lk_n (by omega) (by omega) (by omega))).trans h18, (F _ _ (lk_n (by omega) (by omega) (by omega))).trans h19⟩ (fun t k q => ?_) ⟨fun t q => ?_, ?_⟩ ⟨hb.1, hb.2.1, hb.2.2.1, hb.2.2.2.1⟩, F.wk zz⟩
    · simp (disch := omega) only [↓reduceIte, ↓qX_m, ↓qR_m, ↓cI_m, ↓cV_m, ↓cJ_m, ↓cO_m, ↓cR_m, ixq_n, ixq_l, tgq_ok, nL_mul, nR_mul, nL_add, nR_add, nL_sub, nR_sub, nI_add, pk_mul, nn_sub, ng1_0, ng1_1, an_0, an_1, i1_0, Nat.add_zero, Nat.zero_add, Nat.mul_one, Nat.mul_zero, hI_cg, hP_cg, hJ_cg, wI_cg, wP_cg, wJ_cg, h21, r1, eT_seedLine_22, r2, eT_seedLine_29, x2]
    · rw [u2_o _ _ (by omega)]
    · have zc : (t = 1003 ∧ k = 0 ∧ zo t = 1) ∨ (1004 ≤ t ∧ t ≤ 1006 ∧ k < lK s ∧ zo t = 6) ∨ (t = 1007 ∧ k < 12 ∧ zo t = 12) ∨ (1008 ≤ t ∧ t ≤ 1012 ∧ k < lD s ∧ zo t = 8) ∨ (1013 ≤ t ∧ t ≤ 1015 ∧ k < lW s ∧ zo t = 12) ∨ (t = 1017 ∧ k < 4 ∧ zo t = 4) := zo_c q
      by_cases c1 : t = 1003
      · right
        have z6 : zo t = 1 ∧ k = 0 := by omega
        rw [z6.1, z6.2, c1]
        dsimp only [lX]
        rw [u2_s, u2_s]
      · left
        refine ⟨lk_n (by omega) (by omega) (by omega), by unfold lcl; omega, ?_⟩
        dsimp only [lX]
        rw [u2_o _ _ (by omega)]
    · dsimp only [lF]
      rw [fu_n _ _ (by omega), F _ _ (lk_n (by omega) (by omega) (by omega))]
      exact hf t q
    · dsimp only [lF]
      rw [fu_s, u2_o _ _ (by omega), y2]; rfl
end
section
set_option maxHeartbeats 200000
/-! THE TWIN's lines: laws; every line -/
variable {b : Nat → Nat} {n : Nat}
theorem su_z {lo : Nat} (t k : Nat) (h : suF lo t k) : zF t k := by
  rcases h with (⟨h1, h2⟩ | ⟨h1, h2, h3⟩ | h1 | h1) | ⟨h1, h2⟩
  · exact Or.inl ⟨h1, by omega⟩
  · exact Or.inr (Or.inr (Or.inr (Or.inr (Or.inr (Or.inr (Or.inr (Or.inr (Or.inr (Or.inl ⟨h1, h2, by omega⟩)))))))))
  · exact Or.inr (Or.inr (Or.inr (Or.inr (Or.inr (Or.inr (Or.inr (Or.inr (Or.inr (Or.inr (Or.inl h1))))))))))
  · exact Or.inr (Or.inr (Or.inr (Or.inr (Or.inr (Or.inr (Or.inr (Or.inr (Or.inr (Or.inr (Or.inr h1))))))))))
  · exact Or.inl ⟨h1, by omega⟩
/-- how a line ends, ahead of its sign -/
def TLe (b : Nat → Nat) (n : Nat) (r : Ft_ ⊕ Ls_) (J : FJ_) (C : C_) (I : FI_) (d : Nat) (z : Option Z_) : Prop := match r with
  | .inl e => TPf zF e J C I z
  | .inr s' => (TPf zF (1, tkP b n (lP s')) J C I z ∧ ¬ (tkK b n (lP s') = 4 ∧ tkW b n (lP s') = 59)) ∨ ∃ I' : FI_, z = (Run_ (d, mT_lineRead, 228, [some (vR (1000, 0, 0)), some (vI 1), none], [], (tw I' J, C))) ∧ TLs b n s' I' ∧ FrI zF I I'
theorem swp_8 : ∀ w, w < 21 → (((7 : Int32) < nI (swp w)) = (7 < w)) ∧ ((nI (swp w) < 8) = (w < 8)) ∧ (((10 : Int32) < nI (swp w)) = (10 < w)) ∧ (w ≤ 10 → swp w = w) := by
  intro w hw
  have h1 := swp_lt w hw
  have h : swp w = if w = 11 then 12 else if w = 12 then 11 else w := rfl
  have e : w ≤ 10 → swp w = w := fun z => by rw [h, if_neg (by omega), if_neg (by omega)]
  have e2 : 10 < w → 10 < swp w := fun z => by rw [h]; split <;> (try split) <;> omega
  refine ⟨?_, ?_, ?_, e⟩
  · rw [show (7 : Int32) = nI 7 from rfl, nn_lt (by omega) (by omega)]
    by_cases z : w ≤ 10
    · rw [e z]
    · have := e2 (by omega)
      exact propext ⟨fun _ => by omega, fun _ => by omega⟩
  · rw [show (8 : Int32) = nI 8 from rfl, nn_lt (by omega) (by omega)]
    by_cases z : w ≤ 10
    · rw [e z]
    · have := e2 (by omega)
      exact propext ⟨fun _ => by omega, fun _ => by omega⟩
  · rw [show (10 : Int32) = nI 10 from rfl, nn_lt (by omega) (by omega)]
    by_cases z : w ≤ 10
    · rw [e z]
    · have := e2 (by omega)
      exact propext ⟨fun _ => by omega, fun _ => by omega⟩
theorem tw_lawL {s : Ls_} {I : FI_} (d : Nat) (J : FJ_) (C : C_) (hn : n ≤ 700) (h256 : ∀ k, b k < 256) (h : TLs b n s I) : TLe b n (lawS b n s) J C I d (Run_ (d, mT_lineRead, 131, [some (vR (1000, 0, 0)), none, none], [], (tw I J, C))) := by
  obtain ⟨ht, ⟨h16, h17, h18, h19⟩, ⟨h20, h48⟩, hx, hf, h21, hl, hb⟩ := id h
  obtain ⟨I1, r1, f1, t1⟩ := ht.next d J C hn h256
  have f1 := f1.wk tk_nu
  have hpn := (tkN_le (b := b) t1.2.1).2
  obtain ⟨-, -, k1, -, -, -, e9⟩ := t1.k h256
  unfold lawS
  have w1 : (Run_ (d, mT_wrong, 0, [some (vR (1000, 0, 0)), some (vI 1)], [], (tw I1 J, C))) = _ := tw_wrong d I1 J C 1
  have wf : TPf zF (1, tkP b n (tkN b n (lP s))) J C I (Run_ (d, mT_lineRead, 161, [some (vR (1000, 0, 0)), none, none], [], (tw I1 J, C))) := by
    refine ⟨wrI I1 1, ?_, wr_ft t1 1, (f1.tr (wr_nu I1 1)).wk nu_z⟩
    rw [eT_lineRead_161]
    simp (disch := omega) only [↓reduceIte, ↓qX_m, ↓qR_m, ↓cI_m, ↓cV_m, ↓cJ_m, ↓cO_m, ↓cR_m, ixq_n, ixq_l, tgq_ok, nL_mul, nR_mul, nL_add, nR_add, nL_sub, nR_sub, nI_add, pk_mul, nn_sub, ng1_0, ng1_1, an_0, an_1, i1_0, Nat.add_zero, Nat.zero_add, Nat.mul_one, Nat.mul_zero, hI_cg, hP_cg, hJ_cg, wI_cg, wP_cg, wJ_cg, w1, eT_lineRead_166]
  generalize tkN b n (lP s) = p1 at *
  by_cases c1 : tkK b n p1 = 1
  · obtain ⟨e9, w21⟩ := e9 c1
    obtain ⟨-, s8, s10, sw⟩ := swp_8 _ w21
    by_cases c2 : 8 ≤ tkW b n p1 ∧ tkW b n p1 ≤ 10
    · rw [if_pos ⟨c1, c2⟩]
      have e9 : I1 1000 9 = nI (tkW b n p1) := by rw [e9, sw c2.2]
      rw [sw c2.2] at s8 s10
      have s8 : (nI (tkW b n p1) < 8) = False := by rw [s8]; exact eq_false (by omega)
      have s10 : ((10 : Int32) < nI (tkW b n p1)) = False := by rw [s10]; exact eq_false (by omega)
      generalize hw : tkW b n p1 - 8 = w at *
      have hw2 : 3 + tkW b n p1 - 8 = 3 + w := by omega
      have hw3 : w < 3 := by omega
      have o1 : ((1 : Int32) &&& 1) = 1 := by decide
      rcases hl w hw3 with ⟨a1, a2⟩ | ⟨f0, lo, i, a1, a2, a3, -⟩
      · rw [a1]
        have g1 : I1 1018 (3 + w) = 0 := (f1 _ _ (by unfold nuF; omega)).trans a2
        have t1' : TTk b n p1 (u2 I1 1018 (3 + w) 1) := t1.fr (fun t k q => by rw [u2_ap, if_neg (by omega)])
        obtain ⟨I2, r2, f2, t2⟩ := t1'.next d J C hn h256
        have y2 : I2 1018 (3 + w) = 1 := (f2 _ _ (by unfold tk4; omega)).trans (u2_s ..)
        have f2 : FrI (lnF 1018 1020 (3 + w)) I I2 := ((f1.wk (nu_l 1018 1020 (3 + w))).u (Or.inr (by omega))).tr (f2.wk (fun t k q => Or.inl (tk_nu t k q)))
        have g2 : I2 1000 20 = nI (lC s) := (f2 _ _ (ln_n (by omega) (by omega))).trans h20
        have t2' : TTk b n (tkN b n p1) (u2 I2 1019 (3 + w) (nI (lC s))) := t2.fr (fun t k q => by rw [u2_ap, if_neg (by omega)])
        have f2' : FrI (lnF 1018 1020 (3 + w)) I (u2 I2 1019 (3 + w) (nI (lC s))) := f2.u (Or.inr (by omega))
        have h0 : (Run_ (d, mT_lineRead, 131, [some (vR (1000, 0, 0)), none, none], [], (tw I J, C))) = cI (Run_ (d, mT_sumRead, 0, [some (vR (1000, 0, 0))], [], (tw (u2 I2 1019 (3 + w) (nI (lC s))) J, C))) fun x3 G2 => (Run_ (d, mT_lineRead, 217, [some (vR (1000, 0, 0)), none, some (vI (nI (3 + w)))], [vI x3], G2)) := by
          rw [eT_lineRead_131]
          simp (disch := omega) only [↓reduceIte, ↓qX_m, ↓qR_m, ↓cI_m, ↓cV_m, ↓cJ_m, ↓cO_m, ↓cR_m, ixq_n, ixq_l, tgq_ok, nL_mul, nR_mul, nL_add, nR_add, nL_sub, nR_sub, nI_add, pk_mul, nn_sub, ng1_0, ng1_1, an_0, an_1, i1_0, Nat.add_zero, Nat.zero_add, Nat.mul_one, Nat.mul_zero, hI_cg, hP_cg, hJ_cg, wI_cg, wP_cg, wJ_cg, r1, eT_lineRead_135, k1, eq_true c1, e9, s8, s10, hw2, g1, o1, r2, eT_lineRead_203, g2]
        rw [h0]
        have hz : ∀ {I' : FI_}, FrI (lnF 1018 1020 (3 + w)) I I' → FrI zF I I' := fun f => f.wk (ln_z fun t x y => zr_18 (by omega))
        obtain ⟨r, hr, hr2⟩ := rl_tot (b := b) (n := n) (p := tkN b n p1) (lC s) hpn
        obtain ⟨L1, L2⟩ := tw_law d J C hn h256 t2' ((f2' _ _ (ln_n (by omega) (by omega))).trans h20) ((f2' _ _ (ln_n (by omega) (by omega))).trans h48) hb.2.2.2.2 hr
        have ft : ∀ e, TLf (lC s) e J C (u2 I2 1019 (3 + w) (nI (lC s))) (Run_ (d, mT_sumRead, 0, [some (vR (1000, 0, 0))], [], (tw (u2 I2 1019 (3 + w) (nI (lC s))) J, C))) → TPf zF e J C I (cI (Run_ (d, mT_sumRead, 0, [some (vR (1000, 0, 0))], [], (tw (u2 I2 1019 (3 + w) (nI (lC s))) J, C))) fun x3 G2 => (Run_ (d, mT_lineRead, 217, [some (vR (1000, 0, 0)), none, some (vI (nI (3 + w)))], [vI x3], G2))) := by
          intro e he
          obtain ⟨I3, r3, w3, f3⟩ := he
          refine ⟨u2 I3 1020 (3 + w) (I3 1000 20), ?_, ⟨?_, ?_⟩, ((hz f2').tr (f3.wk su_z)).u (zr_18 (by omega))⟩
          · simp (disch := omega) only [↓reduceIte, ↓qX_m, ↓qR_m, ↓cI_m, ↓cV_m, ↓cJ_m, ↓cO_m, ↓cR_m, ixq_n, ixq_l, tgq_ok, nL_mul, nR_mul, nL_add, nR_add, nL_sub, nR_sub, nI_add, pk_mul, nn_sub, ng1_0, ng1_1, an_0, an_1, i1_0, Nat.add_zero, Nat.zero_add, Nat.mul_one, Nat.mul_zero, hI_cg, hP_cg, hJ_cg, wI_cg, wP_cg, wJ_cg, r3, eT_lineRead_217, eT_lineRead_228]
          · rw [u2_o _ _ (by omega)]; exact w3.1
          · rw [u2_o _ _ (by omega)]; exact w3.2
        rw [if_neg (fun z => Bool.noConfusion z), hr]
        rcases r with e | ⟨g, p2, c'⟩
        · exact ft e (L1 e rfl)
        · obtain ⟨L2, L3⟩ := L2 g p2 c' rfl
          by_cases y : tkK b n p2 = 4 ∧ tkW b n p2 = 59
          · obtain ⟨I3, r3, t3, ⟨z20, z48⟩, ⟨hc1, hc2⟩, kn, tm, f3⟩ := L2 y
            refine Or.inr ⟨u2 I3 1020 (3 + w) (nI c'), ?_, ?_, ((hz f2').tr (f3.wk su_z)).u (zr_18 (by omega))⟩
            · simp (disch := omega) only [↓reduceIte, ↓qX_m, ↓qR_m, ↓cI_m, ↓cV_m, ↓cJ_m, ↓cO_m, ↓cR_m, ixq_n, ixq_l, tgq_ok, nL_mul, nR_mul, nL_add, nR_add, nL_sub, nR_sub, nI_add, pk_mul, nn_sub, ng1_0, ng1_1, an_0, an_1, i1_0, Nat.add_zero, Nat.zero_add, Nat.mul_one, Nat.mul_zero, hI_cg, hP_cg, hJ_cg, wI_cg, wP_cg, wJ_cg, r3, eT_lineRead_217, z20]
            · have sn : ∀ {t k}, ¬ (t = 1000 ∧ (k = 4 ∨ k = 5 ∨ (7 ≤ k ∧ k ≤ 10) ∨ k = 20 ∨ (45 ≤ k ∧ k ≤ 50))) → ¬ (1021 ≤ t ∧ t ≤ 1025 ∧ (t ≤ 1023 → 64 + lC s ≤ k)) → ¬ suF (lC s) t k := by
                intro t k q1 q2 z
                rcases z with (z | z | z | z) | z
                · omega
                · exact q2 ⟨z.1, by omega, fun _ => z.2.2⟩
                · exact q2 ⟨by omega, by omega, fun _ => by omega⟩
                · exact q2 ⟨by omega, by omega, fun _ => by omega⟩
                · omega
              have G : ∀ t k, ¬ (t = 1000 ∧ (k < 12 ∨ k = 20 ∨ (45 ≤ k ∧ k ≤ 50))) → ¬ (1018 ≤ t ∧ t ≤ 1020 ∧ k = 3 + w) → ¬ (1021 ≤ t ∧ t ≤ 1025 ∧ (t ≤ 1023 → 64 + lC s ≤ k)) → u2 I3 1020 (3 + w) (nI c') t k = I t k := fun t k q1 q2 q3 => by
                rw [u2_o _ _ (by omega), f3 _ _ (sn (by omega) q3), f2' _ _ (ln_n (by omega) q2)]
              refine ⟨t3.fr (fun t k q => by rw [u2_o _ _ (by omega)]), ⟨(G _ _ (by omega) (by omega) (by omega)).trans h16, (G _ _ (by omega) (by omega) (by omega)).trans h17, (G _ _ (by omega) (by omega) (by omega)).trans h18, (G _ _ (by omega) (by omega) (by omega)).trans h19⟩, ⟨(u2_o _ _ (by omega)).trans z20, (u2_o _ _ (by omega)).trans z48⟩, fun t k q => ?_, fun t q => (G _ _ (by omega) (by omega) (by omega)).trans (hf t q), (G _ _ (by omega) (by omega) (by omega)).trans h21, fun v hv => ?_, ⟨hb.1, hb.2.1, hb.2.2.1, hb.2.2.2.1, hc2⟩⟩
              · have zc : (t = 1003 ∧ k = 0 ∧ zo t = 1) ∨ (1004 ≤ t ∧ t ≤ 1006 ∧ k < lK s ∧ zo t = 6) ∨ (t = 1007 ∧ k < 12 ∧ zo t = 12) ∨ (1008 ≤ t ∧ t ≤ 1012 ∧ k < lD s ∧ zo t = 8) ∨ (1013 ≤ t ∧ t ≤ 1015 ∧ k < lW s ∧ zo t = 12) ∨ (t = 1017 ∧ k < 4 ∧ zo t = 4) := zo_c q
                rw [G _ _ (by omega) (by omega) (by omega)]
                exact hx t k (by unfold lcl; omega)
              · dsimp only [lA, lC]
                by_cases vw : v = w
                · subst vw
                  have e19 : u2 I3 1020 (3 + v) (nI c') 1019 (3 + v) = nI (lC s) := by
                    rw [u2_o _ _ (by omega), f3 _ _ (sn (by omega) (by omega)), u2_s]
                  have e18 : u2 I3 1020 (3 + v) (nI c') 1018 (3 + v) = 1 := by
                    rw [u2_o _ _ (by omega), f3 _ _ (sn (by omega) (by omega)), u2_o _ _ (by omega)]; exact y2
                  refine Or.inr ⟨g, lC s, c' - 1, fu_s .., tm, e18, e19, ?_, by omega, kn.cg (fun t k x y z u => ?_)⟩
                  · rw [u2_s, show c' - 1 + 1 = c' by omega]
                  · unfold rz; rw [u2_o _ _ (by omega)]
                · rw [fu_n _ _ vw]
                  rcases hl v hv with ⟨b1, b2⟩ | ⟨f1, lo1, i1, b1, b2, b3, b4, b5, b6, b7⟩
                  · exact Or.inl ⟨b1, (G _ _ (by omega) (by omega) (by omega)).trans b2⟩
                  · refine Or.inr ⟨f1, lo1, i1, b1, b2, (G _ _ (by omega) (by omega) (by omega)).trans b3, (G _ _ (by omega) (by omega) (by omega)).trans b4, (G _ _ (by omega) (by omega) (by omega)).trans b5, by omega, b7.cg (fun t k x y z u => ?_)⟩
                    unfold rz
                    exact G _ _ (by omega) (by omega) (by omega)
          · exact Or.inl ⟨ft _ (L3 y), y⟩
      · rw [a1, if_pos (show (some f0).isSome = true from rfl)]
        have g1 : I1 1018 (3 + w) = 1 := (f1 _ _ (by unfold nuF; omega)).trans a3
        have w3 : (Run_ (d, mT_wrong, 0, [some (vR (1000, 0, 0)), some (vI 3)], [], (tw I1 J, C))) = _ := tw_wrong d I1 J C 3
        refine ⟨wrI I1 3, ?_, wr_ft t1 3, (f1.tr (wr_nu I1 3)).wk nu_z⟩
        rw [eT_lineRead_131]
        simp (disch := omega) only [↓reduceIte, ↓qX_m, ↓qR_m, ↓cI_m, ↓cV_m, ↓cJ_m, ↓cO_m, ↓cR_m, ixq_n, ixq_l, tgq_ok, nL_mul, nR_mul, nL_add, nR_add, nL_sub, nR_sub, nI_add, pk_mul, nn_sub, ng1_0, ng1_1, an_0, an_1, i1_0, Nat.add_zero, Nat.zero_add, Nat.mul_one, Nat.mul_zero, hI_cg, hP_cg, hJ_cg, wI_cg, wP_cg, wJ_cg, r1, eT_lineRead_135, k1, eq_true c1, e9, s8, s10, hw2, g1, w3, eT_lineRead_191]
    · rw [if_neg (fun z => c2 z.2)]
      have hh : (Run_ (d, mT_lineRead, 131, [some (vR (1000, 0, 0)), none, none], [], (tw I J, C))) = (Run_ (d, mT_lineRead, 161, [some (vR (1000, 0, 0)), none, none], [], (tw I1 J, C))) := by
        rw [eT_lineRead_131]
        by_cases c3 : tkW b n p1 < 8
        · simp (disch := omega) only [↓reduceIte, ↓qX_m, ↓qR_m, ↓cI_m, ↓cV_m, ↓cJ_m, ↓cO_m, ↓cR_m, ixq_n, ixq_l, tgq_ok, nL_mul, nR_mul, nL_add, nR_add, nL_sub, nR_sub, nI_add, pk_mul, nn_sub, ng1_0, ng1_1, an_0, an_1, i1_0, Nat.add_zero, Nat.zero_add, Nat.mul_one, Nat.mul_zero, hI_cg, hP_cg, hJ_cg, wI_cg, wP_cg, wJ_cg, r1, eT_lineRead_135, k1, eq_true c1, e9, s8, eq_true c3]
        · have c4 : 10 < tkW b n p1 := by omega
          simp (disch := omega) only [↓reduceIte, ↓qX_m, ↓qR_m, ↓cI_m, ↓cV_m, ↓cJ_m, ↓cO_m, ↓cR_m, ixq_n, ixq_l, tgq_ok, nL_mul, nR_mul, nL_add, nR_add, nL_sub, nR_sub, nI_add, pk_mul, nn_sub, ng1_0, ng1_1, an_0, an_1, i1_0, Nat.add_zero, Nat.zero_add, Nat.mul_one, Nat.mul_zero, hI_cg, hP_cg, hJ_cg, wI_cg, wP_cg, wJ_cg, r1, eT_lineRead_135, k1, eq_true c1, e9, s8, c3, s10, eq_true c4]
      rw [hh]
      exact wf
  · rw [if_neg (fun z => c1 z.1)]
    have hh : (Run_ (d, mT_lineRead, 131, [some (vR (1000, 0, 0)), none, none], [], (tw I J, C))) = (Run_ (d, mT_lineRead, 161, [some (vR (1000, 0, 0)), none, none], [], (tw I1 J, C))) := by
      rw [eT_lineRead_131]
      simp (disch := omega) only [↓reduceIte, ↓qX_m, ↓qR_m, ↓cI_m, ↓cV_m, ↓cJ_m, ↓cO_m, ↓cR_m, ixq_n, ixq_l, tgq_ok, nL_mul, nR_mul, nL_add, nR_add, nL_sub, nR_sub, nI_add, pk_mul, nn_sub, ng1_0, ng1_1, an_0, an_1, i1_0, Nat.add_zero, Nat.zero_add, Nat.mul_one, Nat.mul_zero, hI_cg, hP_cg, hJ_cg, wI_cg, wP_cg, wJ_cg, r1, eT_lineRead_135, k1, c1]
    rw [hh]
    exact wf
end
section
set_option maxHeartbeats 200000
/-! THE TWIN's lines: each, with its end -/
variable {b : Nat → Nat} {n : Nat}
def enS (b : Nat → Nat) (n : Nat) (r : Ft_ ⊕ Ls_) : Ft_ ⊕ Ls_ := match r with
  | .inl e => .inl e
  | .inr s' => if tkK b n (lP s') = 4 ∧ tkW b n (lP s') = 59 then .inr ((tkN b n (lP s'), lC s'), s'.2) else .inl (1, tkP b n (lP s'))
theorem le_en (s : Ls_) : leS b n s = enS b n (lnS b n s) := rfl
theorem TLs.at {s : Ls_} {I I' : FI_} {p : Nat} (h : TLs b n s I) (f : FrI nuF I I') (t : TTk b n p I') : TLs b n ((p, lC s), s.2) I' := by
  obtain ⟨ht, ⟨h16, h17, h18, h19⟩, ⟨h20, h48⟩, hx, hf, h21, hl, hb⟩ := id h
  refine h.put (S := nuF) rfl rfl t f (fun t k q => by unfold nuF at q; omega) ⟨(f _ _ (by unfold nuF; omega)).trans h16, (f _ _ (by unfold nuF; omega)).trans h17, (f _ _ (by unfold nuF; omega)).trans h18, (f _ _ (by unfold nuF; omega)).trans h19⟩ (fun t k q => ?_) ⟨fun t q => (f _ _ (by unfold nuF; omega)).trans (hf t q), (f _ _ (by unfold nuF; omega)).trans h21⟩ ⟨hb.1, hb.2.1, hb.2.2.1, hb.2.2.2.1⟩
  have zc : (t = 1003 ∧ k = 0 ∧ zo t = 1) ∨ (1004 ≤ t ∧ t ≤ 1006 ∧ k < lK s ∧ zo t = 6) ∨ (t = 1007 ∧ k < 12 ∧ zo t = 12) ∨ (1008 ≤ t ∧ t ≤ 1012 ∧ k < lD s ∧ zo t = 8) ∨ (1013 ≤ t ∧ t ≤ 1015 ∧ k < lW s ∧ zo t = 12) ∨ (t = 1017 ∧ k < 4 ∧ zo t = 4) := zo_c q
  exact Or.inl ⟨by unfold nuF; omega, by unfold lcl; omega, rfl⟩
theorem tw_end {s : Ls_} {I : FI_} (d : Nat) (J : FJ_) (C : C_) (hn : n ≤ 700) (h256 : ∀ k, b k < 256) (h : TLs b n s I) : TLo b n (enS b n (.inr s)) J C I (Run_ (d, mT_lineRead, 228, [some (vR (1000, 0, 0)), some (vI 1), none], [], (tw I J, C))) := by
  have s59 : (Run_ (d, mT_isSign, 0, [some (vR (1000, 0, 0)), some (vI 59)], [], (tw I J, C))) = _ := tw_isSign d J C h256 h.1 (c := 59) rfl
  unfold enS
  dsimp only
  by_cases c : tkK b n (lP s) = 4 ∧ tkW b n (lP s) = 59
  · rw [if_pos c]
    rw [decide_eq_true c] at s59
    obtain ⟨I1, r1, f1, t1⟩ := h.1.next d J C hn h256
    have f1 := f1.wk tk_nu
    refine ⟨I1, ?_, h.at f1 t1, f1.wk nu_z⟩
    rw [eT_lineRead_228]
    simp (disch := omega) only [↓reduceIte, ↓qX_m, ↓qR_m, ↓cI_m, ↓cV_m, ↓cJ_m, ↓cO_m, ↓cR_m, ixq_n, ixq_l, tgq_ok, nL_mul, nR_mul, nL_add, nR_add, nL_sub, nR_sub, nI_add, pk_mul, nn_sub, ng1_0, ng1_1, an_0, an_1, i1_0, Nat.add_zero, Nat.zero_add, Nat.mul_one, Nat.mul_zero, hI_cg, hP_cg, hJ_cg, wI_cg, wP_cg, wJ_cg, s59, bI_1, eT_lineRead_240, r1, eT_lineRead_253]
  · rw [if_neg c]
    rw [decide_eq_false c] at s59
    have w1 : (Run_ (d, mT_wrong, 0, [some (vR (1000, 0, 0)), some (vI 1)], [], (tw I J, C))) = _ := tw_wrong d I J C 1
    refine ⟨wrI I 1, ?_, wr_ft h.1 1, (wr_nu I 1).wk nu_z⟩
    rw [eT_lineRead_228]
    simp (disch := omega) only [↓reduceIte, ↓qX_m, ↓qR_m, ↓cI_m, ↓cV_m, ↓cJ_m, ↓cO_m, ↓cR_m, ixq_n, ixq_l, tgq_ok, nL_mul, nR_mul, nL_add, nR_add, nL_sub, nR_sub, nI_add, pk_mul, nn_sub, ng1_0, ng1_1, an_0, an_1, i1_0, Nat.add_zero, Nat.zero_add, Nat.mul_one, Nat.mul_zero, hI_cg, hP_cg, hJ_cg, wI_cg, wP_cg, wJ_cg, s59, bI_0, eT_lineRead_240, w1, eT_lineRead_248]
theorem TLo.pre {r : Ft_ ⊕ Ls_} {J : FJ_} {C : C_} {I I1 : FI_} {z : Option Z_} (f : FrI zF I I1) (h : TLo b n r J C I1 z) : TLo b n r J C I z := by
  rcases r with e | s'
  · exact TPf.pre f h
  · obtain ⟨I', h1, h2, h3⟩ := h
    exact ⟨I', h1, h2, f.tr h3⟩
theorem tw_fin {r : Ft_ ⊕ Ls_} {I : FI_} {z : Option Z_} (d : Nat) (J : FJ_) (C : C_) (hn : n ≤ 700) (h256 : ∀ k, b k < 256) {k : Int32 → G_ → Option Z_} (hk : ∀ x I', k x (tw I' J, C) = (Run_ (d, mT_lineRead, 228, [some (vR (1000, 0, 0)), some (vI x), none], [], (tw I' J, C)))) (h : TLo b n r J C I z) : TLo b n (enS b n r) J C I (cI z k) := by
  rcases r with e | s'
  · obtain ⟨I', h1, h2, h3⟩ := h
    refine ⟨I', ?_, h2, h3⟩
    rw [h1, cI_ok, hk, eT_lineRead_228, if_pos rfl]
  · obtain ⟨I', h1, h2, h3⟩ := h
    rw [h1, cI_ok, hk]
    exact TLo.pre h3 (tw_end d J C hn h256 h2)
theorem tw_line {s : Ls_} {I : FI_} (d : Nat) (J : FJ_) (C : C_) (hn : n ≤ 700) (h256 : ∀ k, b k < 256) (h : TLs b n s I) : TLo b n (leS b n s) J C I (Run_ (d, mT_lineRead, 0, [some (vR (1000, 0, 0)), none, none], [], (tw I J, C))) := by
  rw [le_en]
  obtain ⟨-, -, k1, -, -, -, e9⟩ := h.1.k h256
  have w1 : (Run_ (d, mT_wrong, 0, [some (vR (1000, 0, 0)), some (vI 1)], [], (tw I J, C))) = _ := tw_wrong d I J C 1
  have wf : TLo b n (enS b n (.inl (1, tkP b n (lP s)))) J C I (Run_ (d, mT_lineRead, 17, [some (vR (1000, 0, 0)), none, none], [], (tw I J, C))) := by
    refine ⟨wrI I 1, ?_, wr_ft h.1 1, (wr_nu I 1).wk nu_z⟩
    rw [eT_lineRead_17]
    simp (disch := omega) only [↓reduceIte, ↓qX_m, ↓qR_m, ↓cI_m, ↓cV_m, ↓cJ_m, ↓cO_m, ↓cR_m, ixq_n, ixq_l, tgq_ok, nL_mul, nR_mul, nL_add, nR_add, nL_sub, nR_sub, nI_add, pk_mul, nn_sub, ng1_0, ng1_1, an_0, an_1, i1_0, Nat.add_zero, Nat.zero_add, Nat.mul_one, Nat.mul_zero, hI_cg, hP_cg, hJ_cg, wI_cg, wP_cg, wJ_cg, w1, eT_lineRead_22]
  unfold lnS
  by_cases c1 : tkK b n (lP s) = 1
  · obtain ⟨e9, w21⟩ := e9 c1
    obtain ⟨s7, -, -, sw⟩ := swp_8 _ w21
    by_cases c2 : tkW b n (lP s) ≤ 7
    · rw [if_pos ⟨c1, c2⟩]
      rw [sw (by omega)] at e9 s7
      have s7 : ((7 : Int32) < nI (tkW b n (lP s))) = False := by rw [s7]; exact eq_false (by omega)
      have K0 := tw_kindL d J C hn h256 h
      have K1 := tw_hasL d J C hn h256 h
      have K2 := tw_deedL d J C hn h256 h
      have K3 := tw_doL d J C hn h256 h
      have K4 : TLo b n (monS b n 0 999 s) J C I (Run_ (d, mT_moneyLine, 0, [some (vR (1000, 0, 0)), some (vI 0), some (vI 999), none, none], [], (tw I J, C))) := tw_moneyL d J C hn h256 h (a := 0) (hi := 999) (by omega) (by omega)
      have K5 : TLo b n (monS b n 2 9 s) J C I (Run_ (d, mT_moneyLine, 0, [some (vR (1000, 0, 0)), some (vI 2), some (vI 9), none, none], [], (tw I J, C))) := tw_moneyL d J C hn h256 h (a := 2) (hi := 9) (by omega) (by omega)
      have K6 := tw_seedL d J C hn h256 h
      have K7 := tw_lawL d J C hn h256 h
      generalize tkW b n (lP s) = w at *
      by_cases w0 : w = 0
      · have hh : (Run_ (d, mT_lineRead, 0, [some (vR (1000, 0, 0)), none, none], [], (tw I J, C))) = (Run_ (d, mT_lineRead, 68, [some (vR (1000, 0, 0)), none, none], [], (tw I J, C))) := by
          rw [eT_lineRead_0]
          simp (disch := omega) only [↓reduceIte, k1, eq_true c1, e9, s7, nR_eq, eq_true w0]
        rw [if_pos w0, hh, eT_lineRead_68]
        exact tw_fin d J C hn h256 (fun x I' => eT_lineRead_72 d x I' J C) K0
      rw [if_neg w0]
      by_cases w1 : w = 1
      · have hh : (Run_ (d, mT_lineRead, 0, [some (vR (1000, 0, 0)), none, none], [], (tw I J, C))) = (Run_ (d, mT_lineRead, 76, [some (vR (1000, 0, 0)), none, none], [], (tw I J, C))) := by
          rw [eT_lineRead_0]
          simp (disch := omega) only [↓reduceIte, k1, eq_true c1, e9, s7, nR_eq, w0, eq_true w1]
        rw [if_pos w1, hh, eT_lineRead_76]
        exact tw_fin d J C hn h256 (fun x I' => eT_lineRead_80 d x I' J C) K1
      rw [if_neg w1]
      by_cases w2 : w = 2
      · have hh : (Run_ (d, mT_lineRead, 0, [some (vR (1000, 0, 0)), none, none], [], (tw I J, C))) = (Run_ (d, mT_lineRead, 84, [some (vR (1000, 0, 0)), none, none], [], (tw I J, C))) := by
          rw [eT_lineRead_0]
          simp (disch := omega) only [↓reduceIte, k1, eq_true c1, e9, s7, nR_eq, w0, w1, eq_true w2]
        rw [if_pos w2, hh, eT_lineRead_84]
        exact tw_fin d J C hn h256 (fun x I' => eT_lineRead_88 d x I' J C) K2
      rw [if_neg w2]
      by_cases w3 : w = 3
      · have hh : (Run_ (d, mT_lineRead, 0, [some (vR (1000, 0, 0)), none, none], [], (tw I J, C))) = (Run_ (d, mT_lineRead, 92, [some (vR (1000, 0, 0)), none, none], [], (tw I J, C))) := by
          rw [eT_lineRead_0]
          simp (disch := omega) only [↓reduceIte, k1, eq_true c1, e9, s7, nR_eq, w0, w1, w2, eq_true w3]
        rw [if_pos w3, hh, eT_lineRead_92]
        exact tw_fin d J C hn h256 (fun x I' => eT_lineRead_96 d x I' J C) K3
      rw [if_neg w3]
      by_cases w4 : w = 4
      · have hh : (Run_ (d, mT_lineRead, 0, [some (vR (1000, 0, 0)), none, none], [], (tw I J, C))) = (Run_ (d, mT_lineRead, 100, [some (vR (1000, 0, 0)), none, none], [], (tw I J, C))) := by
          rw [eT_lineRead_0]
          simp (disch := omega) only [↓reduceIte, k1, eq_true c1, e9, s7, nR_eq, w0, w1, w2, w3, eq_true w4]
        rw [if_pos w4, hh, eT_lineRead_100]
        exact tw_fin d J C hn h256 (fun x I' => eT_lineRead_108 d x I' J C) K4
      rw [if_neg w4]
      by_cases w5 : w = 5
      · have hh : (Run_ (d, mT_lineRead, 0, [some (vR (1000, 0, 0)), none, none], [], (tw I J, C))) = (Run_ (d, mT_lineRead, 112, [some (vR (1000, 0, 0)), none, none], [], (tw I J, C))) := by
          rw [eT_lineRead_0]
          simp (disch := omega) only [↓reduceIte, k1, eq_true c1, e9, s7, nR_eq, w0, w1, w2, w3, w4, eq_true w5]
        rw [if_pos w5, hh, eT_lineRead_112]
        exact tw_fin d J C hn h256 (fun x I' => eT_lineRead_119 d x I' J C) K5
      rw [if_neg w5]
      by_cases w6 : w = 6
      · have hh : (Run_ (d, mT_lineRead, 0, [some (vR (1000, 0, 0)), none, none], [], (tw I J, C))) = (Run_ (d, mT_lineRead, 123, [some (vR (1000, 0, 0)), none, none], [], (tw I J, C))) := by
          rw [eT_lineRead_0]
          simp (disch := omega) only [↓reduceIte, k1, eq_true c1, e9, s7, nR_eq, w0, w1, w2, w3, w4, w5, eq_true w6]
        rw [if_pos w6, hh, eT_lineRead_123]
        exact tw_fin d J C hn h256 (fun x I' => eT_lineRead_127 d x I' J C) K6
      rw [if_neg w6]
      have hh : (Run_ (d, mT_lineRead, 0, [some (vR (1000, 0, 0)), none, none], [], (tw I J, C))) = (Run_ (d, mT_lineRead, 131, [some (vR (1000, 0, 0)), none, none], [], (tw I J, C))) := by
        rw [eT_lineRead_0]
        simp (disch := omega) only [↓reduceIte, k1, eq_true c1, e9, s7, nR_eq, w0, w1, w2, w3, w4, w5, w6]
      rw [hh]
      generalize lawS b n s = r at K7 ⊢
      rcases r with e | s'
      · exact K7
      · rcases K7 with ⟨K7, y⟩ | ⟨I', x1, x2, x3⟩
        · have e : enS b n (.inr s') = .inl (1, tkP b n (lP s')) := if_neg y
          rw [e]
          exact K7
        · rw [x1]
          exact TLo.pre x3 (tw_end d J C hn h256 x2)
    · rw [if_neg (fun z => c2 z.2)]
      have hh : (Run_ (d, mT_lineRead, 0, [some (vR (1000, 0, 0)), none, none], [], (tw I J, C))) = (Run_ (d, mT_lineRead, 17, [some (vR (1000, 0, 0)), none, none], [], (tw I J, C))) := by
        rw [eT_lineRead_0]
        have c3 : 7 < tkW b n (lP s) := by omega
        simp (disch := omega) only [↓reduceIte, k1, eq_true c1, e9, s7, eq_true c3]
      rw [hh]
      exact wf
  · rw [if_neg (fun z => c1 z.1)]
    have hh : (Run_ (d, mT_lineRead, 0, [some (vR (1000, 0, 0)), none, none], [], (tw I J, C))) = (Run_ (d, mT_lineRead, 17, [some (vR (1000, 0, 0)), none, none], [], (tw I J, C))) := by
      rw [eT_lineRead_0]
      simp (disch := omega) only [↓reduceIte, k1, c1]
    rw [hh]
    exact wf
end
