/-! THE TWIN's days, on -/
theorem tw_heal {τ : Tx_} {Λ : La_} {ω : Om_} {by_ : Bool} {b k t : Nat} {s : St_ × Nat} (d : Nat) (I : FI_) (J : FJ_) (C : C_) (hb : b < 2) (hk : k < 6) (ht : t < 2) (hL : LaOk τ Λ) (h : TD τ ω by_ b s I J) :
    ∃ (I' : FI_) (J' : FJ_), (Run_ (d, mT_healing, 0, [some (vR (1000, 0, 0)), some (vI (nI b)), some (vI (nI k)), some (vI (nI t)), none, none], [], (tw I J, C))) = some (.inl none, (tw I' J', C)) ∧ TD τ ω by_ b (helS τ Λ ω k t s.1, s.2) I' J' ∧ FrI (dcell b) I I' ∧ FrJ J J' := by
  obtain ⟨hx, hom, hs, hj, hn⟩ := h
  obtain ⟨I2, J2, r2, f2, g2⟩ := tw_lawNm (ω := ω) (σ := s.1) (k := k) (t := t) (w := 1) d I J C (hlsS τ ω k) 9 (by omega) hL hx
  have hx2 := hx.fr f2 e53_t
  have hom2 := hom.fr f2 (fun k h1 h2 => by omega)
  have hs2 := hs.fr f2 (fun t k q => by omega)
  have r2' : (Run_ (d, mT_boundLaw, 0, [some (vR (1000, 0, 0)), some (vI 1), some (vI (hlsS τ ω k)), some (vI 9), none, none], [], (tw I (ln7 J (nmS τ ω s.1 k t)), C))) = _ := r2
  have e1 : I2 1028 (12 * b + 2 * k + t) = sAm s.1 (2 * k + t) := hs2.a (by omega)
  unfold helS
  generalize bndS (Λ 1) (nmS τ ω s.1 k t) (hlsS τ ω k) 9 = n at r2 r2' ⊢
  have f3 := fr_am b (2 * k + t) I2 (healS (sAm s.1 (2 * k + t)) n) (by omega)
  refine ⟨_, J2, ?_, ⟨hx2.fr f3 (dc_t b), hom2.fr f3 (dc_o b), hs2.am _, (g2 59).trans hj, hn⟩, (f2.wk (e53_d b)).tr f3, fun k _ => g2 k⟩
  rw [eT_healing_0, tw_names (τ := τ) (ω := ω) (σ := s.1) d I J C hb hk ht hx hs hom.2.2.2.2.2.2.1 hom.2.2.2.2.2.2.2, cV_ok, eT_healing_7, tw_heals (τ := τ) (ω := ω) d I _ C hk hx hom.2.2.2.2.2.2.1 hom.2.2.2.2.2.2.2, cI_ok, eT_healing_14, r2', cI_ok, eT_healing_19]
  simp (disch := omega) only [↓reduceIte, ↓qX_m, ↓qR_m, ↓cI_m, ↓cV_m, ↓cJ_m, ↓cO_m, ↓cR_m, ixq_n, ixq_l, tgq_ok, nL_mul, nR_mul, nL_add, nR_add, nL_sub, nR_sub, nI_add, pk_mul, nn_sub, ng1_0, ng1_1, an_0, an_1, i1_0, Nat.add_zero, Nat.zero_add, Nat.mul_one, Nat.mul_zero, e1, eT_healing_105]
  rw [Nat.add_assoc]
  unfold healS
  split
  · split <;> rfl
  · split <;> rfl
theorem tw_level {τ : Tx_} {σ : St_} {b : Nat} (d : Nat) (I : FI_) (J : FJ_) (C : C_) (hb : b < 2) (ho : TxOk τ) (hx : TTx τ I) (hs : TSt σ b I) : (Run_ (d, mT_isLevel, 0, [some (vR (1000, 0, 0)), some (vI (nI b)), none], [], (tw I J, C))) = some (.inl (some (vI (bI (lvlS τ σ)))), (tw I J, C)) := by
  have h6 := ho.k6
  have e1 : I 1000 12 = nI (nkS τ) := (hx _ _ (by unfold tcell; omega)).trans h6.1
  rw [eT_isLevel_0]
  have := lpe (fun k => (Run_ (d, mT_isLevel, 2, [some (vR (1000, 0, 0)), some (vI (nI b)), some (vI (nI k))], [], (tw I J, C)))) (some (.inl (some (vI 1)), (tw I J, C))) (some (.inl (some (vI 0)), (tw I J, C))) (fun k => decide (gapS σ k = 0)) (nkS τ) (fun k hk => ?_) ?_
  · refine this.trans ?_
    unfold lvlS
    cases alb _ 0 (nkS τ) <;> rfl
  · try dsimp only
    rw [eT_isLevel_2]
    simp (disch := omega) only [↓reduceIte, ↓qX_m, ↓qR_m, ↓cI_m, ↓cV_m, ↓cJ_m, ↓cO_m, ↓cR_m, ixq_n, ixq_l, tgq_ok, nL_mul, nR_mul, nL_add, nR_add, nL_sub, nR_sub, nI_add, pk_mul, nn_sub, ng1_0, ng1_1, an_0, an_1, i1_0, Nat.add_zero, Nat.zero_add, Nat.mul_one, Nat.mul_zero, e1, nn_lt, hk, tw_gap (σ := σ) d I J C hb (by omega : k < 6) hs, eT_isLevel_16]
    by_cases hg : gapS σ k = 0
    · simp only [hg, eq_self, decide_true, decide_false, cond_true, cond_false, ↓reduceIte]
    · simp only [hg, eq_self, decide_true, decide_false, cond_true, cond_false, ↓reduceIte]
  · try dsimp only
    rw [eT_isLevel_2]
    simp (disch := omega) only [e1, nn_lt, Nat.lt_irrefl, ↓reduceIte]
/-- a day in the twin -/
theorem tw_day {τ : Tx_} {Λ : La_} {ω : Om_} {by_ : Bool} {b : Nat} {s : St_ × Nat} (d : Nat) (I : FI_) (J : FJ_) (C : C_) (hb : b < 2) (ho : TxOk τ) (hL : LaOk τ Λ) (h : TD τ ω by_ b s I J) :
    ∃ (I' : FI_) (J' : FJ_), (Run_ (d, mT_dayGoes, 0, [some (vR (1000, 0, 0)), some (vI (nI b)), none], [], (tw I J, C))) = some (.inl none, (tw I' J', C)) ∧ TD τ ω by_ b (dayS τ Λ ω by_ s) I' J' ∧ FrI (dcell b) I I' ∧ FrJ J J' := by
  have h6 := ho.k6
  have h12 := ho.p12
  -- the tasks
  obtain ⟨⟨I1, J1⟩, r1, d1, f1, g1⟩ := lp (α := FI_ × FJ_) (fun k a => (Run_ (d, mT_dayGoes, 2, [some (vR (1000, 0, 0)), some (vI (nI b)), some (vI (nI k))], [], (tw a.1 a.2, C)))) (fun a => (Run_ (d, mT_dayGoes, 52, [some (vR (1000, 0, 0)), some (vI (nI b)), some (vI 0)], [], (tw a.1 a.2, C))))
    (fun k a => TD τ ω by_ b (dyTS τ Λ ω by_ k s) a.1 a.2 ∧ FrI (dcell b) I a.1 ∧ FrJ J a.2) (npS τ) (fun k ⟨I1, J1⟩ hk ⟨q, q2, q3⟩ => by
      have e1 : I1 1000 14 = nI (npS τ) := (q.1 _ _ (by unfold tcell; omega)).trans h12.1
      have e2 : I1 1015 k = τ 1015 k := q.1 _ _ (by unfold tcell; omega)
      have e3 : I1 1013 k = τ 1013 k := q.1 _ _ (by unfold tcell; omega)
      have e4 : I1 1032 b = sDy (dyTS τ Λ ω by_ k s).1 := q.2.2.1.2.2.2.2
      have e5 : I1 1000 65 = oId ω := q.2.1.2.2.2.2.2.1
      by_cases c1 : τ 1015 k = sDy (dyTS τ Λ ω by_ k s).1
      · by_cases c2 : τ 1013 k = oId ω
        · refine ⟨(I1, J1), ?_, ?_, q2, q3⟩
          · try dsimp only
            rw [eT_dayGoes_2]
            simp (disch := omega) only [↓reduceIte, ↓qX_m, ↓qR_m, ↓cI_m, ↓cV_m, ↓cJ_m, ↓cO_m, ↓cR_m, ixq_n, ixq_l, tgq_ok, nL_mul, nR_mul, nL_add, nR_add, nL_sub, nR_sub, nI_add, pk_mul, nn_sub, ng1_0, ng1_1, an_0, an_1, i1_0, Nat.add_zero, Nat.zero_add, Nat.mul_one, Nat.mul_zero, e1, nn_lt, hk, e2, e3, e4, e5, c1, c2, eT_dayGoes_44]
          · show TD _ _ _ _ (if _ then _ else _) _ _
            rw [if_neg (fun z => z.2 c2)]
            exact q
        · obtain ⟨I', J', r, p1, p2, p3⟩ := tw_task (Λ := Λ) (i := k) d I1 J1 C hb hk ho hL q
          refine ⟨(I', J'), ?_, ?_, q2.tr p2, q3.tr p3⟩
          · try dsimp only
            rw [eT_dayGoes_2]
            simp (disch := omega) only [↓reduceIte, ↓qX_m, ↓qR_m, ↓cI_m, ↓cV_m, ↓cJ_m, ↓cO_m, ↓cR_m, ixq_n, ixq_l, tgq_ok, nL_mul, nR_mul, nL_add, nR_add, nL_sub, nR_sub, nI_add, pk_mul, nn_sub, ng1_0, ng1_1, an_0, an_1, i1_0, Nat.add_zero, Nat.zero_add, Nat.mul_one, Nat.mul_zero, e1, nn_lt, hk, e2, e3, e4, e5, c1, c2, r, eT_dayGoes_44]
          · show TD _ _ _ _ (if _ then _ else _) _ _
            rw [if_pos ⟨c1, c2⟩]
            exact p1
      · refine ⟨(I1, J1), ?_, ?_, q2, q3⟩
        · try dsimp only
          rw [eT_dayGoes_2]
          simp (disch := omega) only [↓reduceIte, ↓qX_m, ↓qR_m, ↓cI_m, ↓cV_m, ↓cJ_m, ↓cO_m, ↓cR_m, ixq_n, ixq_l, tgq_ok, nL_mul, nR_mul, nL_add, nR_add, nL_sub, nR_sub, nI_add, pk_mul, nn_sub, ng1_0, ng1_1, an_0, an_1, i1_0, Nat.add_zero, Nat.zero_add, Nat.mul_one, Nat.mul_zero, e1, nn_lt, hk, e2, e3, e4, e5, c1, eT_dayGoes_44]
        · show TD _ _ _ _ (if _ then _ else _) _ _
          rw [if_neg (fun z => c1 z.1)]
          exact q)
    (fun ⟨I1, J1⟩ ⟨q, q2, q3⟩ => by
      have e1 : I1 1000 14 = nI (npS τ) := (q.1 _ _ (by unfold tcell; omega)).trans h12.1
      try dsimp only
      rw [eT_dayGoes_2]
      simp (disch := omega) only [e1, nn_lt, Nat.lt_irrefl, ↓reduceIte]) 0 (I, J) (Nat.zero_le _) ⟨h, FrI.rf _ _, FrJ.rf _⟩
  -- the healing
  have k2 : ∃ (I2 : FI_) (J2 : FJ_), (Run_ (d, mT_dayGoes, 52, [some (vR (1000, 0, 0)), some (vI (nI b)), some (vI 0)], [], (tw I1 J1, C))) = (Run_ (d, mT_dayGoes, 87, [some (vR (1000, 0, 0)), some (vI (nI b)), none], [], (tw I2 J2, C))) ∧ TD τ ω by_ b (dyH τ Λ ω (dyTS τ Λ ω by_ (npS τ) s).1, (dyTS τ Λ ω by_ (npS τ) s).2) I2 J2 ∧ FrI (dcell b) I I2 ∧ FrJ J J2 := by
    cases hh : oNH ω with
    | true =>
      refine ⟨I1, J1, ?_, ?_, f1, g1⟩
      · have e2 : I1 1000 61 = 1 := by have := d1.2.1.2.1; rw [hh] at this; exact this
        rw [eT_dayGoes_52]
        simp only [e2, i1_0, ↓reduceIte]
        split <;> rfl
      · unfold dyH; rw [if_pos hh]; exact d1
    | false =>
      obtain ⟨⟨I2, J2⟩, r2, d2, f2, g2⟩ := lp (α := FI_ × FJ_) (fun k a => (Run_ (d, mT_dayGoes, 52, [some (vR (1000, 0, 0)), some (vI (nI b)), some (vI (nI k))], [], (tw a.1 a.2, C)))) (fun a => (Run_ (d, mT_dayGoes, 87, [some (vR (1000, 0, 0)), some (vI (nI b)), none], [], (tw a.1 a.2, C))))
        (fun k a => TD τ ω by_ b (dyHS τ Λ ω k (dyTS τ Λ ω by_ (npS τ) s).1, (dyTS τ Λ ω by_ (npS τ) s).2) a.1 a.2 ∧ FrI (dcell b) I a.1 ∧ FrJ J a.2) (nkS τ) (fun k ⟨I3, J3⟩ hk ⟨q, q2, q3⟩ => by
          have e1 : I3 1000 12 = nI (nkS τ) := (q.1 _ _ (by unfold tcell; omega)).trans h6.1
          have e2 : I3 1000 61 = 0 := by have := q.2.1.2.1; rw [hh] at this; exact this
          obtain ⟨I4, J4, r, p1, p2, p3⟩ := tw_heal (Λ := Λ) (k := k) (t := 0) d I3 J3 C hb (by omega) (by omega) hL q
          obtain ⟨I5, J5, r', p1', p2', p3'⟩ := tw_heal (Λ := Λ) (k := k) (t := 1) d I4 J4 C hb (by omega) (by omega) hL p1
          refine ⟨(I5, J5), ?_, p1', q2.tr (p2.tr p2'), q3.tr (p3.tr p3')⟩
          have r0 : (Run_ (d, mT_healing, 0, [some (vR (1000, 0, 0)), some (vI (nI b)), some (vI (nI k)), some (vI 0), none, none], [], (tw I3 J3, C))) = _ := r
          have r1 : (Run_ (d, mT_healing, 0, [some (vR (1000, 0, 0)), some (vI (nI b)), some (vI (nI k)), some (vI 1), none, none], [], (tw I4 J4, C))) = _ := r'
          try dsimp only
          rw [eT_dayGoes_52]
          simp (disch := omega) only [↓reduceIte, ↓qX_m, ↓qR_m, ↓cI_m, ↓cV_m, ↓cJ_m, ↓cO_m, ↓cR_m, ixq_n, ixq_l, tgq_ok, nL_mul, nR_mul, nL_add, nR_add, nL_sub, nR_sub, nI_add, pk_mul, nn_sub, ng1_0, ng1_1, an_0, an_1, i1_0, Nat.add_zero, Nat.zero_add, Nat.mul_one, Nat.mul_zero, e1, e2, nn_lt, hk, r0, eT_dayGoes_74, r1, eT_dayGoes_81])
        (fun ⟨I3, J3⟩ ⟨q, q2, q3⟩ => by
          have e1 : I3 1000 12 = nI (nkS τ) := (q.1 _ _ (by unfold tcell; omega)).trans h6.1
          try dsimp only
          rw [eT_dayGoes_52]
          simp (disch := omega) only [e1, nn_lt, Nat.lt_irrefl, ↓reduceIte]) 0 (I1, J1) (Nat.zero_le _) ⟨d1, f1, g1⟩
      exact ⟨I2, J2, r2, by unfold dyH; rw [if_neg (fun z => by rw [hh] at z; cases z)]; exact d2, f2, g2⟩
  obtain ⟨I2, J2, r2, d2, f2, g2⟩ := k2
  generalize hσ2 : dyH τ Λ ω (dyTS τ Λ ω by_ (npS τ) s).1 = σ2 at d2
  generalize hn2 : (dyTS τ Λ ω by_ (npS τ) s).2 = n2 at d2
  -- the wages
  have k3 : ∃ (I3 : FI_), (Run_ (d, mT_dayGoes, 87, [some (vR (1000, 0, 0)), some (vI (nI b)), none], [], (tw I2 J2, C))) = (Run_ (d, mT_dayGoes, 143, [some (vR (1000, 0, 0)), some (vI (nI b)), none], [], (tw I3 J2, C))) ∧ TD τ ω by_ b (dyW τ ω σ2, n2) I3 J2 ∧ FrI (dcell b) I I3 := by
    obtain ⟨hx, hom, hs, hj, hn⟩ := d2
    cases hh : oNW ω with
    | true =>
      refine ⟨I2, ?_, by unfold dyW; rw [if_pos hh]; exact ⟨hx, hom, hs, hj, hn⟩, f2⟩
      have e2 : I2 1000 64 = 1 := by have := hom.2.2.2.2.1; rw [hh] at this; exact this
      rw [eT_dayGoes_87, eT_dayGoes_89]
      simp only [e2, i1_0, reduceIte]
      split <;> rfl
    | false =>
      have e2 : I2 1000 64 = 0 := by have := hom.2.2.2.2.1; rw [hh] at this; exact this
      have e3 : I2 1029 (2 * b) = sPu σ2 0 := hs.2.1 0 (by omega)
      have e4 : I2 1017 2 = τ 1017 2 := hx _ _ (by unfold tcell; omega)
      have a1 := fr_pu b 0 I2 (icut (sPu σ2 0 + τ 1017 2) 0 9999) (by omega)
      have hs1 := hs.pu (i := 0) (icut (sPu σ2 0 + τ 1017 2) 0 9999)
      have hx1 := hx.fr a1 (dc_t b)
      have hom1 := hom.fr a1 (dc_o b)
      rw [Nat.add_zero] at a1 hs1 hx1 hom1
      generalize hI3 : u2 I2 1029 (2 * b) (icut (sPu σ2 0 + τ 1017 2) 0 9999) = I3 at a1 hs1 hx1 hom1
      have e5 : I3 1000 64 = 0 := by have := hom1.2.2.2.2.1; rw [hh] at this; exact this
      have e6 : I3 1029 (2 * b + 1) = sPu (wagS τ 0 σ2) 1 := hs1.2.1 1 (by omega)
      have e7 : I3 1017 3 = τ 1017 3 := hx1 _ _ (by unfold tcell; omega)
      have a2 := fr_pu b 1 I3 (icut (sPu (wagS τ 0 σ2) 1 + τ 1017 3) 0 9999) (by omega)
      have hs3 := hs1.pu (i := 1) (icut (sPu (wagS τ 0 σ2) 1 + τ 1017 3) 0 9999)
      refine ⟨u2 I3 1029 (2 * b + 1) (icut (sPu (wagS τ 0 σ2) 1 + τ 1017 3) 0 9999), ?_, ⟨hx1.fr a2 (dc_t b), hom1.fr a2 (dc_o b), ?_, hj, hn⟩, f2.tr (a1.tr a2)⟩
      · have b1 : ((0 : Int32) < 2) = True := eq_true (by decide)
        have b2 : ((1 : Int32) < 2) = True := eq_true (by decide)
        have b3 : ((2 : Int32) < 2) = False := eq_false (by decide)
        have c1 : (2 : Int32) + 0 = nI 2 := rfl
        have c2 : (2 : Int32) + 1 = nI 3 := rfl
        have c3 : (0 : Int32) + 1 = 1 := rfl
        have c4 : (1 : Int32) + 1 = 2 := rfl
        rw [eT_dayGoes_87, eT_dayGoes_89]
        simp (disch := omega) only [↓reduceIte, ↓qX_m, ↓qR_m, ↓cI_m, ↓cV_m, ↓cJ_m, ↓cO_m, ↓cR_m, ixq_n, ixq_l, tgq_ok, nL_mul, nR_mul, nL_add, nR_add, nL_sub, nR_sub, nI_add, pk_mul, nn_sub, ng1_0, ng1_1, an_0, an_1, i1_0, Nat.add_zero, Nat.zero_add, Nat.mul_one, Nat.mul_zero, b1, e2, c1, e3, e4, tw_cut, eT_dayGoes_136, hI3, c3]
        rw [eT_dayGoes_89]
        simp (disch := omega) only [↓reduceIte, ↓qX_m, ↓qR_m, ↓cI_m, ↓cV_m, ↓cJ_m, ↓cO_m, ↓cR_m, ixq_n, ixq_l, tgq_ok, nL_mul, nR_mul, nL_add, nR_add, nL_sub, nR_sub, nI_add, pk_mul, nn_sub, ng1_0, ng1_1, an_0, an_1, i1_0, Nat.add_zero, Nat.zero_add, Nat.mul_one, Nat.mul_zero, b2, e5, c2, e6, e7, tw_cut, eT_dayGoes_136, c4]
        rw [eT_dayGoes_89]
        simp only [b3, reduceIte]
      · show TSt (if _ then _ else _) _ _
        rw [if_neg (by simp [hh])]
        exact hs3
  obtain ⟨I3, r3, d3, f3⟩ := k3
  obtain ⟨hx, hom, hs, hj, hn⟩ := d3
  have hσ : (dayS τ Λ ω by_ s) = (dyE τ (dyW τ ω σ2), n2) := by unfold dayS; rw [hσ2, hn2]
  have hlv := hs.2.2.2.1
  have hdy := hs.2.2.2.2
  generalize dyW τ ω σ2 = σ3 at hσ hs hlv hdy
  rw [hσ]
  refine ⟨u2 (u2 I3 1031 b (sLv σ3 + (bif lvlS τ σ3 then 1 else 0))) 1032 b (sDy σ3 + 1), J2, ?_, ⟨fun t k q => ?_, hom.fr (S := dcell b) (fun t k q => ?_) (dc_o b), ?_, hj, hn⟩, f3.tr (fun t k q => ?_), g2⟩
  · rw [eT_dayGoes_0]
    refine r1.trans (r2.trans (r3.trans ?_))
    rw [eT_dayGoes_143]
    simp (disch := omega) only [qX_ix, tw_level (τ := τ) (σ := σ3) d I3 J2 C hb ho hx hs, cI_ok, eT_dayGoes_155, bI_z]
    cases lvlS τ σ3 <;> simp (disch := omega) only [reduceIte, eT_dayGoes_163, qX_ix, u2_t, hlv, hdy, cond_true, cond_false, Bool.true_eq_false]
  · rw [u2_t _ _ _ _ (by unfold tcell at q; omega), u2_t _ _ _ _ (by unfold tcell at q; omega)]; exact hx t k q
  · rw [u2_ap, u2_ap, if_neg (fun z => q (by unfold dcell; omega)), if_neg (fun z => q (by unfold dcell; omega))]
  · refine ⟨fun k hk => ?_, fun k hk => ?_, fun k hk => ?_, ?_, u2_s ..⟩
    · simp (disch := omega) only [u2_t]; exact hs.1 k hk
    · simp (disch := omega) only [u2_t]; exact hs.2.1 k hk
    · simp (disch := omega) only [u2_t]; exact hs.2.2.1 k hk
    · simp (disch := omega) only [u2_t, u2_s]; rfl
  · rw [u2_ap, u2_ap, if_neg (fun z => q (by unfold dcell; omega)), if_neg (fun z => q (by unfold dcell; omega))]
