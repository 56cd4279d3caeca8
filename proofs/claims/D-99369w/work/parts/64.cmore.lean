/-! THE COMPONENT: a whole day, many days, states copied and begun -/
variable {κ : Ky_} {τ : Tx_} {Λ : La_} {ω : Om_} {s n : Nat} {I : RI_} {J : RJ_} {P : RP_}
theorem hls_in {k : Nat} (h : TxOk τ) (ho : OmOk ω) (hk : k < nkS τ) : 0 ≤ (hlsS τ ω k).toInt ∧ (hlsS τ ω k).toInt ≤ 9 := by
  have h6 := h.k6.2
  unfold hlsS
  by_cases c : nI k = oHO ω
  · rw [if_pos c]
    rcases ho with q | q
    · rw [q] at c
      have := nI_neq (n := k) (by omega)
      rw [this] at c
      exact c.elim
    · exact q
  · rw [if_neg c]
    exact (h.kd k hk).2
theorem heal_eq {a n : Int32} (ha : -999 ≤ a.toInt ∧ a.toInt ≤ 999) (hn : 0 ≤ n.toInt ∧ n.toInt ≤ 9) : healS a n = if 0 < a then imax 0 (a - n) else imin 0 (a + n) := by
  have e1 : (a - n).toInt = a.toInt - n.toInt := i_sub (by omega)
  have e2 : (a + n).toInt = a.toInt + n.toInt := i_add (by omega)
  have e3 : (-n).toInt = -n.toInt := i_neg (by omega)
  have h00 : (0 : Int32).toInt = 0 := by decide
  unfold healS imax imin
  simp only [i_lt, e1, e2, e3, h00]
  repeat' split
  all_goals first | rfl | omega | (rw [i_eq]; omega)
theorem heal_in {a n : Int32} (ha : -999 ≤ a.toInt ∧ a.toInt ≤ 999) (hn : 0 ≤ n.toInt ∧ n.toInt ≤ 9) : -999 ≤ (healS a n).toInt ∧ (healS a n).toInt ≤ 999 := by
  have e1 : (a - n).toInt = a.toInt - n.toInt := i_sub (by omega)
  have e2 : (a + n).toInt = a.toInt + n.toInt := i_add (by omega)
  have e3 : (-n).toInt = -n.toInt := i_neg (by omega)
  have h00 : (0 : Int32).toInt = 0 := by decide
  unfold healS
  simp only [i_lt, e3, h00]
  repeat' split
  all_goals omega
theorem ac_heal {σ : St_ × Nat} {k t : Nat} (d : Nat) (T : T_) (h : CD κ τ Λ ω s σ n I P) (hd : 64 ≤ d) (hk : k < nkS τ) (ht : t < 2) :
    ∃ (I' : RI_) (J' : RJ_), (Run_ (d, mState_heal, 0, [some (vR (5, 0, s)), some (vI (nI k)), some (vI (nI t)), none, none], [], (cg T n I J P))) = some (.inl none, cg T n I' J' P) ∧ CD κ τ Λ ω s (helS τ Λ ω k t σ.1, σ.2) n I' P ∧ FrC (scell s) I I' ∧ FrN J J' := by
  obtain ⟨hC, hs, ho, hg, hn, hn2, hok, hom⟩ := id h
  have h6 := hC.1.k6.2
  have hT := hC.2.2.2.2.2
  have hin := hls_in hC.1 hom hk
  have hw := ac_within (o := Λ 1) (nm := nmS τ ω σ.1 k t) d (cg T n I (lc7 J (nmS τ ω σ.1 k t)) P) 9 (hlsS τ ω k) (by decide) (fun f v hf hv => hT 1 f (by omega) hf _ (nm_small _ _ _) v hv)
  have hwk : (Run_ (d, mC_work, 0, [some (vR (1, 0, 1)), some (vI 1), none], [], (cg T n I (lc7 J (nmS τ ω σ.1 k t)) P))) = _ := ac_work (w := 1) (nm := nmS τ ω σ.1 k t) d T hC (by omega) hd (lc7_nm _ _)
  have hb := bnd_in (o := Λ 1) (nm := nmS τ ω σ.1 k t) (a := hlsS τ ω k) (m := 9) hin
  have h9 : (9 : Int32).toInt = 9 := by decide
  rw [h9] at hb
  have ha := hok.1 (2 * k + t) (by omega)
  have e1 : I (31, 12, s + 1) (2 * k + t) = sAm σ.1 (2 * k + t) := hg.1 _ (by omega)
  have hv := heal_eq ha hb
  have hr := heal_in ha hb
  unfold helS
  generalize bndS (Λ 1) (nmS τ ω σ.1 k t) (hlsS τ ω k) 9 = its at hw hb hv hr ⊢
  have f1 := frc_u I (31, 12, s + 1) (2 * k + t) (healS (sAm σ.1 (2 * k + t)) its) (sc1 s)
  refine ⟨_, lc7 J (nmS τ ω σ.1 k t), ?_, h.mk' f1 (fun k h1 h2 => u2_r _ _ _ _ (by omega)) (hg.am _) (by rw [u2_r _ _ _ _ (by omega)]; exact hn) hn2 (hok.am _ hr), f1, lc7_fr _ _⟩
  rw [eState_heal_0]
  simp (disch := omega) only [↓reduceIte, ↓qX_m, ↓qR_m, ↓cI_m, ↓cV_m, ↓cJ_m, ↓cO_m, ↓cR_m, ixq_n, ixq_l, tgq_ok, nL_mul, nR_mul, nL_add, nR_add, nL_sub, nR_sub, nI_add, pk_mul, nn_sub, ng1_0, ng1_1, an_0, an_1, i1_0, Nat.add_zero, Nat.zero_add, Nat.mul_one, Nat.mul_zero, hI_cg, hP_cg, hJ_cg, wI_cg, wP_cg, wJ_cg, hs.1, hs.2.2.2, ac_name d T hs hC ho hg hk ht, hwk, ac_heals d T hs hC ho hk, hw, e1, ac_max, ac_min, eState_heal_78]
  rw [hv]
  by_cases c : 0 < sAm σ.1 (2 * k + t)
  · rw [if_pos c, if_pos c]
  · rw [if_neg c, if_neg c]
theorem ac_level {σ : St_} (d : Nat) (T : T_) (hs : StP P s) (h : CC κ τ Λ n I P) (hg : CSt σ (nkS τ) (npS τ) s I) : (Run_ (d, mState_isLevel, 0, [some (vR (5, 0, s)), none], [], (cg T n I J P))) = some (.inl (some (vI (bI (lvlS τ σ)))), cg T n I J P) := by
  have h6 := h.1.k6.2
  rw [eState_isLevel_0]
  have := lpe (fun k => (Run_ (d, mState_isLevel, 2, [some (vR (5, 0, s)), some (vI (nI k))], [], (cg T n I J P)))) (some (.inl (some (vI 1)), cg T n I J P)) (some (.inl (some (vI 0)), cg T n I J P)) (fun k => decide (gapS σ k = 0)) (nkS τ) (fun k hk => ?_) ?_
  · refine this.trans ?_
    unfold lvlS
    cases alb _ 0 (nkS τ) <;> rfl
  · try dsimp only
    rw [eState_isLevel_2]
    simp (disch := omega) only [↓reduceIte, ↓qX_m, ↓qR_m, ↓cI_m, ↓cV_m, ↓cJ_m, ↓cO_m, ↓cR_m, ixq_n, ixq_l, tgq_ok, nL_mul, nR_mul, nL_add, nR_add, nL_sub, nR_sub, nI_add, pk_mul, nn_sub, ng1_0, ng1_1, an_0, an_1, i1_0, Nat.add_zero, Nat.zero_add, Nat.mul_one, Nat.mul_zero, hI_cg, hP_cg, hJ_cg, wI_cg, wP_cg, wJ_cg, hs.2.2.2, ac_kinds d T h, nn_lt, hk, ac_gap (τ := τ) d T hs hg hk h6]
    by_cases hq : gapS σ k = 0
    · simp only [hq, eq_self, decide_true, decide_false, cond_true, cond_false, ↓reduceIte]
    · simp only [hq, eq_self, decide_true, decide_false, cond_true, cond_false, ↓reduceIte]
  · try dsimp only
    rw [eState_isLevel_2]
    simp (disch := omega) only [↓reduceIte, ↓qX_m, ↓qR_m, ↓cI_m, ↓cV_m, ↓cJ_m, ↓cO_m, ↓cR_m, ixq_n, ixq_l, tgq_ok, nL_mul, nR_mul, nL_add, nR_add, nL_sub, nR_sub, nI_add, pk_mul, nn_sub, ng1_0, ng1_1, an_0, an_1, i1_0, Nat.add_zero, Nat.zero_add, Nat.mul_one, Nat.mul_zero, hI_cg, hP_cg, hJ_cg, wI_cg, wP_cg, wJ_cg, hs.2.2.2, ac_kinds d T h, nn_lt, Nat.lt_irrefl, ↓reduceIte]
theorem ac_happy {σ : St_} {t : Nat} (d : Nat) (T : T_) (hs : StP P s) (h : CC κ τ Λ n I P) (hg : CSt σ (nkS τ) (npS τ) s I) (ht : t < 2) : (Run_ (d, mState_happy, 0, [some (vR (5, 0, s)), some (vI (nI t)), none, none], [], (cg T n I J P))) = some (.inl (some (vI (hapS τ σ t))), cg T n I J P) := by
  have h6 := h.1.k6.2
  rw [eState_happy_0]
  refine lpf (fun k a => (Run_ (d, mState_happy, 4, [some (vR (5, 0, s)), some (vI (nI t)), some (vI a), some (vI (nI k))], [], (cg T n I J P)))) (fun a => some (.inl (some (vI a)), cg T n I J P)) (fun k n => n + sAm σ (2 * k + t)) (nkS τ) (fun k a hk => ?_) (fun a => ?_) 0
  · have e2 : I (31, 12, s + 1) (2 * k + t) = sAm σ (2 * k + t) := hg.1 _ (by omega)
    try dsimp only
    rw [eState_happy_4]
    simp (disch := omega) only [↓reduceIte, ↓qX_m, ↓qR_m, ↓cI_m, ↓cV_m, ↓cJ_m, ↓cO_m, ↓cR_m, ixq_n, ixq_l, tgq_ok, nL_mul, nR_mul, nL_add, nR_add, nL_sub, nR_sub, nI_add, pk_mul, nn_sub, ng1_0, ng1_1, an_0, an_1, i1_0, Nat.add_zero, Nat.zero_add, Nat.mul_one, Nat.mul_zero, hI_cg, hP_cg, hJ_cg, wI_cg, wP_cg, wJ_cg, hs.1, hs.2.2.2, ac_kinds d T h, nn_lt, hk, e2]
  · try dsimp only
    rw [eState_happy_4]
    simp (disch := omega) only [↓reduceIte, ↓qX_m, ↓qR_m, ↓cI_m, ↓cV_m, ↓cJ_m, ↓cO_m, ↓cR_m, ixq_n, ixq_l, tgq_ok, nL_mul, nR_mul, nL_add, nR_add, nL_sub, nR_sub, nI_add, pk_mul, nn_sub, ng1_0, ng1_1, an_0, an_1, i1_0, Nat.add_zero, Nat.zero_add, Nat.mul_one, Nat.mul_zero, hI_cg, hP_cg, hJ_cg, wI_cg, wP_cg, wJ_cg, hs.2.2.2, ac_kinds d T h, nn_lt, Nat.lt_irrefl, ↓reduceIte]
theorem ac_results {σ : St_} (d : Nat) (T : T_) (is : Int32) (hs : StP P s) (h : CC κ τ Λ n I P) (hg : CSt σ (nkS τ) (npS τ) s I) : (Run_ (d, mState_results, 0, [some (vR (5, 0, s)), some (vI is), none, none], [], (cg T n I J P))) = some (.inl (some (vI (resS τ σ is))), cg T n I J P) := by
  have h12 := h.1.p12.2
  rw [eState_results_0]
  refine lpf (fun k a => (Run_ (d, mState_results, 4, [some (vR (5, 0, s)), some (vI is), some (vI a), some (vI (nI k))], [], (cg T n I J P)))) (fun a => some (.inl (some (vI a)), cg T n I J P)) (fun k n => n + (if sRe σ k = is then 1 else 0)) (npS τ) (fun k a hk => ?_) (fun a => ?_) 0
  · have e2 : I (33, 12, s + 3) k = sRe σ k := hg.2.2.1 _ hk
    try dsimp only
    rw [eState_results_4]
    simp (disch := omega) only [↓reduceIte, ↓qX_m, ↓qR_m, ↓cI_m, ↓cV_m, ↓cJ_m, ↓cO_m, ↓cR_m, ixq_n, ixq_l, tgq_ok, nL_mul, nR_mul, nL_add, nR_add, nL_sub, nR_sub, nI_add, pk_mul, nn_sub, ng1_0, ng1_1, an_0, an_1, i1_0, Nat.add_zero, Nat.zero_add, Nat.mul_one, Nat.mul_zero, hI_cg, hP_cg, hJ_cg, wI_cg, wP_cg, wJ_cg, hs.2.2.1, hs.2.2.2, ac_plans d T h, nn_lt, hk, e2, eState_results_31]
    by_cases c : sRe σ k = is
    · rw [if_pos c, if_pos c]
    · rw [if_neg c, if_neg c]
  · try dsimp only
    rw [eState_results_4]
    simp (disch := omega) only [↓reduceIte, ↓qX_m, ↓qR_m, ↓cI_m, ↓cV_m, ↓cJ_m, ↓cO_m, ↓cR_m, ixq_n, ixq_l, tgq_ok, nL_mul, nR_mul, nL_add, nR_add, nL_sub, nR_sub, nI_add, pk_mul, nn_sub, ng1_0, ng1_1, an_0, an_1, i1_0, Nat.add_zero, Nat.zero_add, Nat.mul_one, Nat.mul_zero, hI_cg, hP_cg, hJ_cg, wI_cg, wP_cg, wJ_cg, hs.2.2.2, ac_plans d T h, nn_lt, Nat.lt_irrefl, ↓reduceIte]
/-- how far apart, in the component -/
theorem ac_apart {σ : St_ × Nat} (d : Nat) (T : T_) (h : CD κ τ Λ ω s σ n I P) (hd : 64 ≤ d) :
    ∃ J' : RJ_, (Run_ (d, mMeasure_all, 0, [some (vR (4, 0, 44)), some (vR (5, 0, s)), none, none], [], (cg T n I J P))) = some (.inl (some (vI (aptS τ Λ ω σ.1))), cg T n I J' P) ∧ FrN J J' := by
  obtain ⟨hC, hs, ho, hg, -⟩ := id h
  have h6 := hC.1.k6.2
  have hT := hC.2.2.2.2.2
  have x1 : P (4, 0, 44) 0 = some (1, 0, 1) := hC.2.1.2.2.1.2.1
  have x2 : P (4, 0, 44) 1 = some (1, 0, 1) := hC.2.1.2.2.1.2.2.1
  rw [eMeasure_all_0]
  obtain ⟨⟨J', a⟩, r, f1, f2⟩ := lp (α := RJ_ × Int32) (fun k a => (Run_ (d, mMeasure_all, 4, [some (vR (4, 0, 44)), some (vR (5, 0, s)), some (vI a.2), some (vI (nI k))], [], (cg T n I a.1 P)))) (fun a => some (.inl (some (vI a.2)), cg T n I a.1 P))
    (fun k a => FrN J a.1 ∧ a.2 = itr (fun k n => n + bndS (Λ 0) (nmS τ ω σ.1 k 0) (gapS σ.1 k) 9999) k 0) (nkS τ)
    (fun k ⟨J1, a⟩ hk ⟨q1, q2⟩ => by
      have hw := ac_within (o := Λ 0) (nm := nmS τ ω σ.1 k 0) d (cg T n I (lc7 J1 (nmS τ ω σ.1 k 0)) P) 9999 (gapS σ.1 k) (by decide) (fun f v hf hv => hT 0 f (by omega) hf _ (nm_small _ _ _) v hv)
      have hwk : (Run_ (d, mC_work, 0, [some (vR (1, 0, 1)), some (vI 0), none], [], (cg T n I (lc7 J1 (nmS τ ω σ.1 k 0)) P))) = _ := ac_work (w := 0) (nm := nmS τ ω σ.1 k 0) d T hC (by omega) hd (lc7_nm _ _)
      have hnm : (Run_ (d, mState_name, 0, [some (vR (5, 0, s)), some (vI (nI k)), some (vI 0)], [], (cg T n I J1 P))) = _ := ac_name (t := 0) d T hs hC ho hg hk (by omega)
      refine ⟨(lc7 J1 (nmS τ ω σ.1 k 0), a + bndS (Λ 0) (nmS τ ω σ.1 k 0) (gapS σ.1 k) 9999), ?_, q1.tr (lc7_fr _ _), by show _ = _ + _; rw [← q2]⟩
      try dsimp only
      rw [eMeasure_all_4]
      simp (disch := omega) only [↓reduceIte, ↓qX_m, ↓qR_m, ↓cI_m, ↓cV_m, ↓cJ_m, ↓cO_m, ↓cR_m, ixq_n, ixq_l, tgq_ok, nL_mul, nR_mul, nL_add, nR_add, nL_sub, nR_sub, nI_add, pk_mul, nn_sub, ng1_0, ng1_1, an_0, an_1, i1_0, Nat.add_zero, Nat.zero_add, Nat.mul_one, Nat.mul_zero, hI_cg, hP_cg, hJ_cg, wI_cg, wP_cg, wJ_cg, x1, x2, ac_kinds d T hC, nn_lt, hk, eLawful_of_0, eMeasure_of_0, hnm, hwk, ac_gap (τ := τ) d T hs hg hk h6, hw])
    (fun ⟨J1, a⟩ _ => by
      try dsimp only
      rw [eMeasure_all_4]
      simp (disch := omega) only [↓reduceIte, ↓qX_m, ↓qR_m, ↓cI_m, ↓cV_m, ↓cJ_m, ↓cO_m, ↓cR_m, ixq_n, ixq_l, tgq_ok, nL_mul, nR_mul, nL_add, nR_add, nL_sub, nR_sub, nI_add, pk_mul, nn_sub, ng1_0, ng1_1, an_0, an_1, i1_0, Nat.add_zero, Nat.zero_add, Nat.mul_one, Nat.mul_zero, hI_cg, hP_cg, hJ_cg, wI_cg, wP_cg, wJ_cg, x1, ac_kinds d T hC, nn_lt, Nat.lt_irrefl, ↓reduceIte]) 0 (J, 0) (Nat.zero_le _) ⟨FrN.rf _, rfl⟩
  refine ⟨J', ?_, f1⟩
  rw [show aptS τ Λ ω σ.1 = a from f2.symm]
  exact r
theorem wag_eq {p w : Int32} (hp : 0 ≤ p.toInt ∧ p.toInt ≤ 9999) (hw : 0 ≤ w.toInt ∧ w.toInt ≤ 9) : imin 9999 (p + w) = icut (p + w) 0 9999 := by
  have e2 : (p + w).toInt = p.toInt + w.toInt := i_add (by omega)
  have h00 : (0 : Int32).toInt = 0 := by decide
  have h99 : (9999 : Int32).toInt = 9999 := by decide
  unfold icut imin
  simp only [i_lt, e2, h00, h99]
  repeat' split
  all_goals first | rfl | omega | (rw [i_eq]; omega)
/-- one wage -/
theorem ac_wage {σ : St_ × Nat} {t : Nat} (d : Nat) (T : T_) (h : CD κ τ Λ ω s σ n I P) (ht : t < 2) (hw : ¬ I (5, 0, s) 6 = 4) :
    ∃ I' : RI_, (Run_ (d, mState_pass_Z, 116, [some (vR (5, 0, s)), none, some (vI (nI t)), none], [], (cg T n I J P))) = (Run_ (d, mState_pass_Z, 116, [some (vR (5, 0, s)), none, some (vI (nI (t + 1))), none], [], (cg T n I' J P))) ∧ CD κ τ Λ ω s (wagS τ t σ.1, σ.2) n I' P ∧ FrC (scell s) I I' ∧ I' (5, 0, s) 6 = I (5, 0, s) 6 := by
  obtain ⟨hC, hs, ho, hg, hn, hn2, hok, hom⟩ := id h
  have hp := hok.2 t ht
  have hwg := (hC.1.2.2.2.2.2.2.2.1 t ht).2
  have e1 : I (32, 2, s + 2) t = sPu σ.1 t := hg.2.1 t ht
  obtain ⟨-, -, ⟨h3, -⟩, ⟨⟨⟨-, -, -, -, g1, -⟩, -⟩, -, -, -, -, g8, -⟩, -⟩ := id hC
  have e2 : I (36, 2, yL κ + 8) t = τ 1017 (2 + t) := (g8 t ht).2
  have f1 := frc_u I (32, 2, s + 2) t (icut (sPu σ.1 t + τ 1017 (2 + t)) 0 9999) (sc2 s)
  have hr := icut_in (x := sPu σ.1 t + τ 1017 (2 + t)) (a := 0) (b := 9999) (by decide)
  rw [show (0 : Int32).toInt = 0 from by decide, show (9999 : Int32).toInt = 9999 from by decide] at hr
  refine ⟨_, ?_, h.mk' f1 (fun k h1 h2 => u2_r _ _ _ _ (by omega)) (hg.pu _) (by rw [u2_r _ _ _ _ (by omega)]; exact hn) hn2 (hok.pu _ hr), f1, u2_r _ _ _ _ (by omega)⟩
  have b1 : (nI t < 2) = True := eq_true (by
    have : t = 0 ∨ t = 1 := by omega
    rcases this with q | q <;> subst q <;> decide)
  rw [eState_pass_Z_116]
  simp (disch := omega) only [↓reduceIte, ↓qX_m, ↓qR_m, ↓cI_m, ↓cV_m, ↓cJ_m, ↓cO_m, ↓cR_m, ixq_n, ixq_l, tgq_ok, nL_mul, nR_mul, nL_add, nR_add, nL_sub, nR_sub, nI_add, pk_mul, nn_sub, ng1_0, ng1_1, an_0, an_1, i1_0, Nat.add_zero, Nat.zero_add, Nat.mul_one, Nat.mul_zero, hI_cg, hP_cg, hJ_cg, wI_cg, wP_cg, wJ_cg, b1, hw, hs.2.1, hs.2.2.2, h3, g1, e1, e2, ac_min, wag_eq hp hwg]
/-- a day in the component -/
theorem ac_day {σ : St_ × Nat} {by_ : Bool} (d : Nat) (T : T_) (h : CD κ τ Λ ω s σ n I P) (hd : 64 ≤ d) :
    ∃ (I' : RI_) (J' : RJ_), (Run_ (d, mState_pass_Z, 0, [some (vR (5, 0, s)), some (vI (bI by_)), none, none], [], (cg T n I J P))) = some (.inl none, cg T n I' J' P) ∧ CD κ τ Λ ω s (dayS τ Λ ω by_ σ) n I' P ∧ FrC (scell s) I I' ∧ FrN J J' := by
  have hs := h.2.1
  have h6 := h.1.1.k6.2
  have h12 := h.1.1.p12.2
  -- the tasks
  obtain ⟨⟨I1, J1⟩, r1, d1, f1, g1⟩ := lp (α := RI_ × RJ_) (fun k a => (Run_ (d, mState_pass_Z, 2, [some (vR (5, 0, s)), some (vI (bI by_)), some (vI (nI k)), none], [], (cg T n a.1 a.2 P)))) (fun a => (Run_ (d, mState_pass_Z, 71, [some (vR (5, 0, s)), none, some (vI 0), none], [], (cg T n a.1 a.2 P))))
    (fun k a => CD κ τ Λ ω s (dyTS τ Λ ω by_ k σ) n a.1 P ∧ FrC (scell s) I a.1 ∧ FrN J a.2) (npS τ) (fun k ⟨I1, J1⟩ hk ⟨q, q2, q3⟩ => by
      obtain ⟨hC, -, ho, hg, -⟩ := id q
      obtain ⟨⟨t1, t2⟩, -⟩ := hC.1.td k hk
      have g := (hC.2.2.2.1.2.2.2.2.1 k hk).2
      have e2 : I1 (9, 0, yP κ k) 2 = τ 1015 k := g.2.2
      have e3 : I1 (9, 0, yP κ k) 0 = τ 1013 k := g.1
      have e4 : I1 (5, 0, s) 3 = sDy (dyTS τ Λ ω by_ k σ).1 := hg.2.2.2.2
      have e5 := ho.2.2.2.2.1
      have hpl := ac_plan (J := J1) d T hC hk
      have hps := ac_plans (J := J1) d T hC
      by_cases c1 : τ 1015 k = sDy (dyTS τ Λ ω by_ k σ).1
      · by_cases c2 : τ 1013 k = oId ω
        · refine ⟨(I1, J1), ?_, ?_, q2, q3⟩
          · by_cases c3 : I1 (5, 0, s) 6 = 2
            · rw [if_pos c3] at e5
              have c4 : I1 (5, 0, s) 7 = τ 1013 k := e5.symm.trans c2.symm
              try dsimp only
              rw [eState_pass_Z_2]
              simp (disch := omega) only [↓reduceIte, ↓qX_m, ↓qR_m, ↓cI_m, ↓cV_m, ↓cJ_m, ↓cO_m, ↓cR_m, ixq_n, ixq_l, tgq_ok, nL_mul, nR_mul, nL_add, nR_add, nL_sub, nR_sub, nI_add, pk_mul, nn_sub, ng1_0, ng1_1, an_0, an_1, i1_0, Nat.add_zero, Nat.zero_add, Nat.mul_one, Nat.mul_zero, hI_cg, hP_cg, hJ_cg, wI_cg, wP_cg, wJ_cg, hs.2.2.2, hps, hpl, nn_lt, hk, e2, e3, e4, c1, c3, c4, eState_pass_Z_63]
            · rw [if_neg c3] at e5
              rw [e5, t1] at c2
              have := nI_neq (n := ttS τ k) (by omega)
              rw [this] at c2
              exact c2.elim
          · show CD _ _ _ _ _ (if _ then _ else _) _ _ _
            rw [if_neg (fun z => z.2 c2)]
            exact q
        · obtain ⟨I', J', r, p1, p2, p3⟩ := ac_task (by_ := by_) (i := k) (J := J1) d T q hd hk
          refine ⟨(I', J'), ?_, ?_, q2.tr p2, q3.tr p3⟩
          · by_cases c3 : I1 (5, 0, s) 6 = 2
            · rw [if_pos c3] at e5
              have c4 : ¬ I1 (5, 0, s) 7 = τ 1013 k := fun z => c2 (z.symm.trans e5.symm)
              try dsimp only
              rw [eState_pass_Z_2]
              simp (disch := omega) only [↓reduceIte, ↓qX_m, ↓qR_m, ↓cI_m, ↓cV_m, ↓cJ_m, ↓cO_m, ↓cR_m, ixq_n, ixq_l, tgq_ok, nL_mul, nR_mul, nL_add, nR_add, nL_sub, nR_sub, nI_add, pk_mul, nn_sub, ng1_0, ng1_1, an_0, an_1, i1_0, Nat.add_zero, Nat.zero_add, Nat.mul_one, Nat.mul_zero, hI_cg, hP_cg, hJ_cg, wI_cg, wP_cg, wJ_cg, hs.2.2.2, hps, hpl, nn_lt, hk, e2, e3, e4, c1, c3, c4, eState_pass_Z_57, r, eState_pass_Z_63]
            · try dsimp only
              rw [eState_pass_Z_2]
              simp (disch := omega) only [↓reduceIte, ↓qX_m, ↓qR_m, ↓cI_m, ↓cV_m, ↓cJ_m, ↓cO_m, ↓cR_m, ixq_n, ixq_l, tgq_ok, nL_mul, nR_mul, nL_add, nR_add, nL_sub, nR_sub, nI_add, pk_mul, nn_sub, ng1_0, ng1_1, an_0, an_1, i1_0, Nat.add_zero, Nat.zero_add, Nat.mul_one, Nat.mul_zero, hI_cg, hP_cg, hJ_cg, wI_cg, wP_cg, wJ_cg, hs.2.2.2, hps, hpl, nn_lt, hk, e2, e3, e4, c1, c3, eState_pass_Z_57, r, eState_pass_Z_63]
          · show CD _ _ _ _ _ (if _ then _ else _) _ _ _
            rw [if_pos ⟨c1, c2⟩]
            exact p1
      · refine ⟨(I1, J1), ?_, ?_, q2, q3⟩
        · try dsimp only
          rw [eState_pass_Z_2]
          simp (disch := omega) only [↓reduceIte, ↓qX_m, ↓qR_m, ↓cI_m, ↓cV_m, ↓cJ_m, ↓cO_m, ↓cR_m, ixq_n, ixq_l, tgq_ok, nL_mul, nR_mul, nL_add, nR_add, nL_sub, nR_sub, nI_add, pk_mul, nn_sub, ng1_0, ng1_1, an_0, an_1, i1_0, Nat.add_zero, Nat.zero_add, Nat.mul_one, Nat.mul_zero, hI_cg, hP_cg, hJ_cg, wI_cg, wP_cg, wJ_cg, hs.2.2.2, hps, hpl, nn_lt, hk, e2, e3, e4, c1, eState_pass_Z_63]
        · show CD _ _ _ _ _ (if _ then _ else _) _ _ _
          rw [if_neg (fun z => c1 z.1)]
          exact q)
    (fun ⟨I1, J1⟩ ⟨q, q2, q3⟩ => by
      have hps := ac_plans (J := J1) d T q.1
      try dsimp only
      rw [eState_pass_Z_2]
      simp (disch := omega) only [↓reduceIte, ↓qX_m, ↓qR_m, ↓cI_m, ↓cV_m, ↓cJ_m, ↓cO_m, ↓cR_m, ixq_n, ixq_l, tgq_ok, nL_mul, nR_mul, nL_add, nR_add, nL_sub, nR_sub, nI_add, pk_mul, nn_sub, ng1_0, ng1_1, an_0, an_1, i1_0, Nat.add_zero, Nat.zero_add, Nat.mul_one, Nat.mul_zero, hI_cg, hP_cg, hJ_cg, wI_cg, wP_cg, wJ_cg, hs.2.2.2, hps, nn_lt, Nat.lt_irrefl, ↓reduceIte]) 0 (I, J) (Nat.zero_le _) ⟨h, FrC.rf _ _, FrN.rf _⟩
  -- the healing
  have k2 : ∃ (I2 : RI_) (J2 : RJ_), (Run_ (d, mState_pass_Z, 71, [some (vR (5, 0, s)), none, some (vI 0), none], [], (cg T n I1 J1 P))) = (Run_ (d, mState_pass_Z, 114, [some (vR (5, 0, s)), none, none, none], [], (cg T n I2 J2 P))) ∧ CD κ τ Λ ω s (dyH τ Λ ω (dyTS τ Λ ω by_ (npS τ) σ).1, (dyTS τ Λ ω by_ (npS τ) σ).2) n I2 P ∧ FrC (scell s) I I2 ∧ FrN J J2 := by
    cases hh : oNH ω with
    | true =>
      refine ⟨I1, J1, ?_, ?_, f1, g1⟩
      · have e2 : I1 (5, 0, s) 6 = 0 := by have := d1.2.2.1.1; rw [hh] at this; exact of_decide_eq_true this.symm
        have hks := ac_kinds (J := J1) d T d1.1
        rw [eState_pass_Z_71]
        simp (disch := omega) only [↓reduceIte, ↓qX_m, ↓qR_m, ↓cI_m, ↓cV_m, ↓cJ_m, ↓cO_m, ↓cR_m, ixq_n, ixq_l, tgq_ok, nL_mul, nR_mul, nL_add, nR_add, nL_sub, nR_sub, nI_add, pk_mul, nn_sub, ng1_0, ng1_1, an_0, an_1, i1_0, Nat.add_zero, Nat.zero_add, Nat.mul_one, Nat.mul_zero, hI_cg, hP_cg, hJ_cg, wI_cg, wP_cg, wJ_cg, hs.2.2.2, hks, e2]
        split <;> rfl
      · unfold dyH; rw [if_pos hh]; exact d1
    | false =>
      obtain ⟨⟨I2, J2⟩, r2, d2, f2, g2⟩ := lp (α := RI_ × RJ_) (fun k a => (Run_ (d, mState_pass_Z, 71, [some (vR (5, 0, s)), none, some (vI (nI k)), none], [], (cg T n a.1 a.2 P)))) (fun a => (Run_ (d, mState_pass_Z, 114, [some (vR (5, 0, s)), none, none, none], [], (cg T n a.1 a.2 P))))
        (fun k a => CD κ τ Λ ω s (dyHS τ Λ ω k (dyTS τ Λ ω by_ (npS τ) σ).1, (dyTS τ Λ ω by_ (npS τ) σ).2) n a.1 P ∧ FrC (scell s) I a.1 ∧ FrN J a.2) (nkS τ) (fun k ⟨I3, J3⟩ hk ⟨q, q2, q3⟩ => by
          have e2 : ¬ I3 (5, 0, s) 6 = 0 := by have := q.2.2.1.1; rw [hh] at this; exact of_decide_eq_false this.symm
          have hks := ac_kinds (J := J3) d T q.1
          obtain ⟨I4, J4, r, p1, p2, p3⟩ := ac_heal (k := k) (t := 0) (J := J3) d T q hd hk (by omega)
          obtain ⟨I5, J5, r', p1', p2', p3'⟩ := ac_heal (k := k) (t := 1) (J := J4) d T p1 hd hk (by omega)
          have r0 : (Run_ (d, mState_heal, 0, [some (vR (5, 0, s)), some (vI (nI k)), some (vI 0), none, none], [], (cg T n I3 J3 P))) = _ := r
          have r1 : (Run_ (d, mState_heal, 0, [some (vR (5, 0, s)), some (vI (nI k)), some (vI 1), none, none], [], (cg T n I4 J4 P))) = _ := r'
          have b1 : ((0 : Int32) < 2) = True := eq_true (by decide)
          have b2 : ((1 : Int32) < 2) = True := eq_true (by decide)
          have b3 : ((2 : Int32) < 2) = False := eq_false (by decide)
          have c3 : (0 : Int32) + 1 = 1 := rfl
          have c4 : (1 : Int32) + 1 = 2 := rfl
          refine ⟨(I5, J5), ?_, p1', q2.tr (p2.tr p2'), q3.tr (p3.tr p3')⟩
          try dsimp only
          rw [eState_pass_Z_71]
          simp (disch := omega) only [↓reduceIte, ↓qX_m, ↓qR_m, ↓cI_m, ↓cV_m, ↓cJ_m, ↓cO_m, ↓cR_m, ixq_n, ixq_l, tgq_ok, nL_mul, nR_mul, nL_add, nR_add, nL_sub, nR_sub, nI_add, pk_mul, nn_sub, ng1_0, ng1_1, an_0, an_1, i1_0, Nat.add_zero, Nat.zero_add, Nat.mul_one, Nat.mul_zero, hI_cg, hP_cg, hJ_cg, wI_cg, wP_cg, wJ_cg, hs.2.2.2, hks, nn_lt, hk, e2]
          rw [eState_pass_Z_91]
          simp (disch := omega) only [↓reduceIte, ↓qX_m, ↓qR_m, ↓cI_m, ↓cV_m, ↓cJ_m, ↓cO_m, ↓cR_m, ixq_n, ixq_l, tgq_ok, nL_mul, nR_mul, nL_add, nR_add, nL_sub, nR_sub, nI_add, pk_mul, nn_sub, ng1_0, ng1_1, an_0, an_1, i1_0, Nat.add_zero, Nat.zero_add, Nat.mul_one, Nat.mul_zero, hI_cg, hP_cg, hJ_cg, wI_cg, wP_cg, wJ_cg, b1, r0, c3]
          rw [eState_pass_Z_91]
          simp (disch := omega) only [↓reduceIte, ↓qX_m, ↓qR_m, ↓cI_m, ↓cV_m, ↓cJ_m, ↓cO_m, ↓cR_m, ixq_n, ixq_l, tgq_ok, nL_mul, nR_mul, nL_add, nR_add, nL_sub, nR_sub, nI_add, pk_mul, nn_sub, ng1_0, ng1_1, an_0, an_1, i1_0, Nat.add_zero, Nat.zero_add, Nat.mul_one, Nat.mul_zero, hI_cg, hP_cg, hJ_cg, wI_cg, wP_cg, wJ_cg, b2, r1, c4]
          rw [eState_pass_Z_91]
          simp (disch := omega) only [↓reduceIte, ↓qX_m, ↓qR_m, ↓cI_m, ↓cV_m, ↓cJ_m, ↓cO_m, ↓cR_m, ixq_n, ixq_l, tgq_ok, nL_mul, nR_mul, nL_add, nR_add, nL_sub, nR_sub, nI_add, pk_mul, nn_sub, ng1_0, ng1_1, an_0, an_1, i1_0, Nat.add_zero, Nat.zero_add, Nat.mul_one, Nat.mul_zero, hI_cg, hP_cg, hJ_cg, wI_cg, wP_cg, wJ_cg, b3])
        (fun ⟨I3, J3⟩ ⟨q, q2, q3⟩ => by
          have hks := ac_kinds (J := J3) d T q.1
          try dsimp only
          rw [eState_pass_Z_71]
          simp (disch := omega) only [↓reduceIte, ↓qX_m, ↓qR_m, ↓cI_m, ↓cV_m, ↓cJ_m, ↓cO_m, ↓cR_m, ixq_n, ixq_l, tgq_ok, nL_mul, nR_mul, nL_add, nR_add, nL_sub, nR_sub, nI_add, pk_mul, nn_sub, ng1_0, ng1_1, an_0, an_1, i1_0, Nat.add_zero, Nat.zero_add, Nat.mul_one, Nat.mul_zero, hI_cg, hP_cg, hJ_cg, wI_cg, wP_cg, wJ_cg, hs.2.2.2, hks, nn_lt, Nat.lt_irrefl, ↓reduceIte]) 0 (I1, J1) (Nat.zero_le _) ⟨d1, f1, g1⟩
      exact ⟨I2, J2, r2, by unfold dyH; rw [if_neg (fun z => by rw [hh] at z; cases z)]; exact d2, f2, g2⟩
  obtain ⟨I2, J2, r2, d2, f2, g2⟩ := k2
  generalize hσ2 : dyH τ Λ ω (dyTS τ Λ ω by_ (npS τ) σ).1 = σ2 at d2
  generalize hn2 : (dyTS τ Λ ω by_ (npS τ) σ).2 = n2 at d2
  -- the wages
  have k3 : ∃ I3 : RI_, (Run_ (d, mState_pass_Z, 114, [some (vR (5, 0, s)), none, none, none], [], (cg T n I2 J2 P))) = (Run_ (d, mState_pass_Z, 166, [some (vR (5, 0, s)), none, none, none], [], (cg T n I3 J2 P))) ∧ CD κ τ Λ ω s (dyW τ ω σ2, n2) n I3 P ∧ FrC (scell s) I I3 := by
    rw [eState_pass_Z_114]
    cases hh : oNW ω with
    | true =>
      refine ⟨I2, ?_, by unfold dyW; rw [if_pos hh]; exact d2, f2⟩
      have e2 : I2 (5, 0, s) 6 = 4 := by have := d2.2.2.1.2.2.2.1; rw [hh] at this; exact of_decide_eq_true this.symm
      rw [eState_pass_Z_116]
      simp (disch := omega) only [↓reduceIte, ↓qX_m, ↓qR_m, ↓cI_m, ↓cV_m, ↓cJ_m, ↓cO_m, ↓cR_m, ixq_n, ixq_l, tgq_ok, nL_mul, nR_mul, nL_add, nR_add, nL_sub, nR_sub, nI_add, pk_mul, nn_sub, ng1_0, ng1_1, an_0, an_1, i1_0, Nat.add_zero, Nat.zero_add, Nat.mul_one, Nat.mul_zero, hI_cg, hP_cg, hJ_cg, wI_cg, wP_cg, wJ_cg, e2]
      split <;> rfl
    | false =>
      have e2 : ¬ I2 (5, 0, s) 6 = 4 := by have := d2.2.2.1.2.2.2.1; rw [hh] at this; exact of_decide_eq_false this.symm
      obtain ⟨I3, r3, d3, f3, e3⟩ := ac_wage (t := 0) (J := J2) d T d2 (by omega) e2
      obtain ⟨I4, r4, d4, f4, e4⟩ := ac_wage (t := 1) (J := J2) d T d3 (by omega) (by rw [e3]; exact e2)
      have b3 : ((2 : Int32) < 2) = False := eq_false (by decide)
      refine ⟨I4, ?_, by unfold dyW; rw [if_neg (fun z => by rw [hh] at z; cases z)]; exact d4, f2.tr (f3.tr f4)⟩
      refine (show (Run_ (d, mState_pass_Z, 116, [some (vR (5, 0, s)), none, some (vI 0), none], [], (cg T n I2 J2 P))) = _ from r3).trans (r4.trans ?_)
      show (Run_ (d, mState_pass_Z, 116, [some (vR (5, 0, s)), none, some (vI 2), none], [], (cg T n I4 J2 P))) = _
      rw [eState_pass_Z_116]
      simp (disch := omega) only [b3, ↓reduceIte]
  obtain ⟨I3, r3, d3, f3⟩ := k3
  obtain ⟨hC, -, ho, hg, hn, hn3, hok, -⟩ := id d3
  have hσ : (dayS τ Λ ω by_ σ) = (dyE τ (dyW τ ω σ2), n2) := by unfold dayS; rw [hσ2, hn2]
  have hlv := hg.2.2.2.1
  have hdy := hg.2.2.2.2
  have hlev := ac_level (J := J2) d T hs hC hg
  rw [hσ]
  generalize dyW τ ω σ2 = σ3 at hσ hg hlv hdy hlev hok d3
  have f4 := frc_u I3 (5, 0, s) 4 (sLv σ3 + (bif lvlS τ σ3 then 1 else 0)) (sc0 s)
  have f5 := frc_u (u2 I3 (5, 0, s) 4 (sLv σ3 + (bif lvlS τ σ3 then 1 else 0))) (5, 0, s) 3 (sDy σ3 + 1) (sc0 s)
  refine ⟨u2 (u2 I3 (5, 0, s) 4 (sLv σ3 + (bif lvlS τ σ3 then 1 else 0))) (5, 0, s) 3 (sDy σ3 + 1), J2, ?_, d3.mk' (f4.tr f5) (fun k h1 h2 => ?_) ?_ ?_ hn3 hok, f3.tr (f4.tr f5), g2⟩
  · rw [eState_pass_Z_0]
    refine r1.trans (r2.trans (r3.trans ?_))
    rw [eState_pass_Z_166]
    simp (disch := omega) only [↓reduceIte, ↓qX_m, ↓qR_m, ↓cI_m, ↓cV_m, ↓cJ_m, ↓cO_m, ↓cR_m, ixq_n, ixq_l, tgq_ok, nL_mul, nR_mul, nL_add, nR_add, nL_sub, nR_sub, nI_add, pk_mul, nn_sub, ng1_0, ng1_1, an_0, an_1, i1_0, Nat.add_zero, Nat.zero_add, Nat.mul_one, Nat.mul_zero, hI_cg, hP_cg, hJ_cg, wI_cg, wP_cg, wJ_cg, hlev, bI_z, eState_pass_Z_183, u2_k, hlv, hdy]
    cases lvlS τ σ3 <;> simp only [eq_self, decide_true, decide_false, cond_true, cond_false, ↓reduceIte, Bool.true_eq_false]
  · rw [u2_k _ _ _ _ (by omega), u2_k _ _ _ _ (by omega)]
  · refine ⟨fun k hk => ?_, fun k hk => ?_, fun k hk => ?_, ?_, u2_s ..⟩
    · rw [u2_r _ _ _ _ (by omega), u2_r _ _ _ _ (by omega)]; exact hg.1 k hk
    · rw [u2_r _ _ _ _ (by omega), u2_r _ _ _ _ (by omega)]; exact hg.2.1 k hk
    · rw [u2_r _ _ _ _ (by omega), u2_r _ _ _ _ (by omega)]; exact hg.2.2.1 k hk
    · rw [u2_k _ _ _ _ (by omega), u2_s]; rfl
  · rw [u2_k _ _ _ _ (by omega), u2_k _ _ _ _ (by omega)]; exact hn
/-- many days -/
theorem ac_many {σ : St_ × Nat} {m : Nat} (d : Nat) (T : T_) (h : CD κ τ Λ ω s σ n I P) (hd : 64 ≤ d) (hm : m < 2147483648) :
    ∃ (I' : RI_) (J' : RJ_), (Run_ (d, mState_goesOn, 0, [some (vR (5, 0, s)), some (vI (nI m)), none], [], (cg T n I J P))) = some (.inl none, cg T n I' J' P) ∧ CD κ τ Λ ω s (daysS τ Λ ω false m σ) n I' P ∧ FrC (scell s) I I' ∧ FrN J J' := by
  rw [eState_goesOn_0]
  obtain ⟨⟨I', J'⟩, r, f1, f2, f3⟩ := lp (α := RI_ × RJ_) (fun k a => (Run_ (d, mState_goesOn, 2, [some (vR (5, 0, s)), some (vI (nI m)), some (vI (nI k))], [], (cg T n a.1 a.2 P)))) (fun a => some (.inl none, cg T n a.1 a.2 P))
    (fun k a => CD κ τ Λ ω s (daysS τ Λ ω false k σ) n a.1 P ∧ FrC (scell s) I a.1 ∧ FrN J a.2) m
    (fun k ⟨I1, J1⟩ hk ⟨q1, q2, q3⟩ => by
      obtain ⟨I2, J2, r2, d2, f2, g2⟩ := ac_day (by_ := false) (J := J1) d T q1 hd
      have r2' : (Run_ (d, mState_pass_Z, 0, [some (vR (5, 0, s)), some (vI 0), none, none], [], (cg T n I1 J1 P))) = _ := r2
      refine ⟨(I2, J2), ?_, d2, q2.tr f2, q3.tr g2⟩
      try dsimp only
      rw [eState_goesOn_2]
      simp (disch := omega) only [↓reduceIte, ↓qX_m, ↓qR_m, ↓cI_m, ↓cV_m, ↓cJ_m, ↓cO_m, ↓cR_m, ixq_n, ixq_l, tgq_ok, nL_mul, nR_mul, nL_add, nR_add, nL_sub, nR_sub, nI_add, pk_mul, nn_sub, ng1_0, ng1_1, an_0, an_1, i1_0, Nat.add_zero, Nat.zero_add, Nat.mul_one, Nat.mul_zero, hI_cg, hP_cg, hJ_cg, wI_cg, wP_cg, wJ_cg, nn_lt, hk, r2'])
    (fun ⟨I1, J1⟩ _ => by
      try dsimp only
      rw [eState_goesOn_2]
      simp (disch := omega) only [nn_lt, Nat.lt_irrefl, ↓reduceIte]) 0 (I, J) (Nat.zero_le _) ⟨h, FrC.rf _ _, FrN.rf _⟩
  exact ⟨I', J', r, f1, f2, f3⟩
/-! a State copied -/
theorem sc_ne {s q : Nat} {r : R_} (h : s ≠ q) (h1 : scell s r) : ¬ scell q r := by
  obtain ⟨t, a, b⟩ := r
  intro h2
  have := sc_tag h1
  have := sc_tag h2
  omega
/-- a State that isn't touched -/
theorem CD.fr {σ : St_ × Nat} {q : Nat} {I' : RI_} (h : CD κ τ Λ ω s σ n I P) (hq : q ≠ s) (f : FrC (scell q) I I') : CD κ τ Λ ω s σ n I' P := by
  have g : ∀ r k, scell s r → I' r k = I r k := fun r k hr => f r k (fun z => sc_ne hq z hr)
  obtain ⟨hC, hs, ho, hg, hn, hn2, hok, hom⟩ := h
  refine ⟨hC.frS f, hs, ho.fr (fun k _ _ => g _ _ (sc0 s)), ⟨fun k hk => ?_, fun k hk => ?_, fun k hk => ?_, ?_, ?_⟩, ?_, hn2, hok, hom⟩
  · rw [g _ _ (sc1 s)]; exact hg.1 k hk
  · rw [g _ _ (sc2 s)]; exact hg.2.1 k hk
  · rw [g _ _ (sc3 s)]; exact hg.2.2.1 k hk
  · rw [g _ _ (sc0 s)]; exact hg.2.2.2.1
  · rw [g _ _ (sc0 s)]; exact hg.2.2.2.2
  · rw [g _ _ (sc0 s)]; exact hn
theorem ac_become {q : Nat} (d : Nat) (T : T_) (hq : s ≠ q) (hs : StP P s) (hs2 : StP P q) :
    ∃ I' : RI_, (Run_ (d, mState_become, 0, [some (vR (5, 0, s)), some (vR (5, 0, q)), none], [], (cg T n I J P))) = some (.inl none, cg T n I' J P) ∧ FrC (scell s) I I' ∧ (∀ k, k < 12 → I' (31, 12, s + 1) k = I (31, 12, q + 1) k) ∧ (∀ k, k < 2 → I' (32, 2, s + 2) k = I (32, 2, q + 2) k) ∧ (∀ k, k < 12 → I' (33, 12, s + 3) k = I (33, 12, q + 3) k) ∧ (∀ k, 3 ≤ k → k ≤ 9 → I' (5, 0, s) k = I (5, 0, q) k) := by
  have ne : ∀ (t a b b2 : Nat) (k k2 : Nat) (N : Nat), b ≠ b2 → ¬ (((t, a, b2) : R_) = (t, a, b) ∧ k ≤ k2 ∧ k2 < N) := fun t a b b2 k k2 N h e => h (congrArg (·.2.2) e.1).symm
  have nt : ∀ (t t2 a a2 b b2 k k2 N : Nat), t ≠ t2 → ¬ (((t2, a2, b2) : R_) = (t, a, b) ∧ k ≤ k2 ∧ k2 < N) := fun t t2 a a2 b b2 k k2 N h e => h (congrArg (·.1) e.1).symm
  obtain ⟨I1, r1, a1, b1⟩ := lay_loop (fun k I' => (Run_ (d, mState_become, 2, [some (vR (5, 0, s)), some (vR (5, 0, q)), some (vI (nI k))], [], (cg T n I' J P)))) (fun I' => (Run_ (d, mState_become, 31, [some (vR (5, 0, s)), some (vR (5, 0, q)), some (vI 0)], [], (cg T n I' J P)))) (31, 12, s + 1) 0 12 (fun k => I (31, 12, q + 1) k) I (fun k I' hk hf => by
      have e : I' (31, 12, q + 1) k = I (31, 12, q + 1) k := hf _ _ (ne _ _ _ _ _ _ _ (by omega))
      try dsimp only
      rw [eState_become_2]
      simp (disch := omega) only [↓reduceIte, ↓qX_m, ↓qR_m, ↓cI_m, ↓cV_m, ↓cJ_m, ↓cO_m, ↓cR_m, ixq_n, ixq_l, tgq_ok, nL_mul, nR_mul, nL_add, nR_add, nL_sub, nR_sub, nI_add, pk_mul, nn_sub, ng1_0, ng1_1, an_0, an_1, i1_0, Nat.add_zero, Nat.zero_add, Nat.mul_one, Nat.mul_zero, hI_cg, hP_cg, hJ_cg, wI_cg, wP_cg, wJ_cg, hs.1, hs2.1, nn_lt, hk, e])
    (fun I' => by
      try dsimp only
      rw [eState_become_2]
      simp (disch := omega) only [↓reduceIte, ↓qX_m, ↓qR_m, ↓cI_m, ↓cV_m, ↓cJ_m, ↓cO_m, ↓cR_m, ixq_n, ixq_l, tgq_ok, nL_mul, nR_mul, nL_add, nR_add, nL_sub, nR_sub, nI_add, pk_mul, nn_sub, ng1_0, ng1_1, an_0, an_1, i1_0, Nat.add_zero, Nat.zero_add, Nat.mul_one, Nat.mul_zero, hI_cg, hP_cg, hJ_cg, wI_cg, wP_cg, wJ_cg, hs.1, nn_lt, Nat.lt_irrefl, ↓reduceIte])
  obtain ⟨I2, r2, a2, b2⟩ := lay_loop (fun k I' => (Run_ (d, mState_become, 31, [some (vR (5, 0, s)), some (vR (5, 0, q)), some (vI (nI k))], [], (cg T n I' J P)))) (fun I' => (Run_ (d, mState_become, 56, [some (vR (5, 0, s)), some (vR (5, 0, q)), some (vI 0)], [], (cg T n I' J P)))) (32, 2, s + 2) 0 2 (fun k => I (32, 2, q + 2) k) I1 (fun k I' hk hf => by
      have e : I' (32, 2, q + 2) k = I (32, 2, q + 2) k := (hf _ _ (ne _ _ _ _ _ _ _ (by omega))).trans (b1 _ _ (nt _ _ _ _ _ _ _ _ _ (by omega)))
      try dsimp only
      rw [eState_become_31]
      simp (disch := omega) only [↓reduceIte, ↓qX_m, ↓qR_m, ↓cI_m, ↓cV_m, ↓cJ_m, ↓cO_m, ↓cR_m, ixq_n, ixq_l, tgq_ok, nL_mul, nR_mul, nL_add, nR_add, nL_sub, nR_sub, nI_add, pk_mul, nn_sub, ng1_0, ng1_1, an_0, an_1, i1_0, Nat.add_zero, Nat.zero_add, Nat.mul_one, Nat.mul_zero, hI_cg, hP_cg, hJ_cg, wI_cg, wP_cg, wJ_cg, hs.2.1, hs2.2.1, nR_lt, hk, e])
    (fun I' => by
      try dsimp only
      rw [eState_become_31]
      simp (disch := omega) only [↓reduceIte, ↓qX_m, ↓qR_m, ↓cI_m, ↓cV_m, ↓cJ_m, ↓cO_m, ↓cR_m, ixq_n, ixq_l, tgq_ok, nL_mul, nR_mul, nL_add, nR_add, nL_sub, nR_sub, nI_add, pk_mul, nn_sub, ng1_0, ng1_1, an_0, an_1, i1_0, Nat.add_zero, Nat.zero_add, Nat.mul_one, Nat.mul_zero, hI_cg, hP_cg, hJ_cg, wI_cg, wP_cg, wJ_cg, nR_lt, Nat.lt_irrefl, ↓reduceIte])
  obtain ⟨I3, r3, a3, b3⟩ := lay_loop (fun k I' => (Run_ (d, mState_become, 56, [some (vR (5, 0, s)), some (vR (5, 0, q)), some (vI (nI k))], [], (cg T n I' J P)))) (fun I' => (Run_ (d, mState_become, 56, [some (vR (5, 0, s)), some (vR (5, 0, q)), some (vI (nI 12))], [], (cg T n I' J P)))) (33, 12, s + 3) 0 12 (fun k => I (33, 12, q + 3) k) I2 (fun k I' hk hf => by
      have e : I' (33, 12, q + 3) k = I (33, 12, q + 3) k := (hf _ _ (ne _ _ _ _ _ _ _ (by omega))).trans ((b2 _ _ (nt _ _ _ _ _ _ _ _ _ (by omega))).trans (b1 _ _ (nt _ _ _ _ _ _ _ _ _ (by omega))))
      try dsimp only
      rw [eState_become_56]
      simp (disch := omega) only [↓reduceIte, ↓qX_m, ↓qR_m, ↓cI_m, ↓cV_m, ↓cJ_m, ↓cO_m, ↓cR_m, ixq_n, ixq_l, tgq_ok, nL_mul, nR_mul, nL_add, nR_add, nL_sub, nR_sub, nI_add, pk_mul, nn_sub, ng1_0, ng1_1, an_0, an_1, i1_0, Nat.add_zero, Nat.zero_add, Nat.mul_one, Nat.mul_zero, hI_cg, hP_cg, hJ_cg, wI_cg, wP_cg, wJ_cg, hs.2.2.1, hs2.2.2.1, nR_lt, hk, e])
    (fun I' => rfl)
  have e12 : ((12 : Int32) < 12) = False := eq_false (by decide)
  have e5 : ∀ k, I3 (5, 0, q) k = I (5, 0, q) k := fun k => (b3 _ _ (nt _ _ _ _ _ _ _ _ _ (by omega))).trans ((b2 _ _ (nt _ _ _ _ _ _ _ _ _ (by omega))).trans (b1 _ _ (nt _ _ _ _ _ _ _ _ _ (by omega))))
  have r5 : (Run_ (d, mState_become, 56, [some (vR (5, 0, s)), some (vR (5, 0, q)), some (vI (nI 12))], [], (cg T n I3 J P))) = some (.inl none, cg T n (u2 (u2 (u2 (u2 (u2 (u2 (u2 I3 (5, 0, s) 3 (I (5, 0, q) 3)) (5, 0, s) 4 (I (5, 0, q) 4)) (5, 0, s) 5 (I (5, 0, q) 5)) (5, 0, s) 6 (I (5, 0, q) 6)) (5, 0, s) 7 (I (5, 0, q) 7)) (5, 0, s) 8 (I (5, 0, q) 8)) (5, 0, s) 9 (I (5, 0, q) 9)) J P) := by
    show (Run_ (d, mState_become, 56, [some (vR (5, 0, s)), some (vR (5, 0, q)), some (vI 12)], [], (cg T n I3 J P))) = _
    rw [eState_become_56]
    simp (disch := omega) only [↓reduceIte, ↓qX_m, ↓qR_m, ↓cI_m, ↓cV_m, ↓cJ_m, ↓cO_m, ↓cR_m, ixq_n, ixq_l, tgq_ok, nL_mul, nR_mul, nL_add, nR_add, nL_sub, nR_sub, nI_add, pk_mul, nn_sub, ng1_0, ng1_1, an_0, an_1, i1_0, Nat.add_zero, Nat.zero_add, Nat.mul_one, Nat.mul_zero, hI_cg, hP_cg, hJ_cg, wI_cg, wP_cg, wJ_cg, e12, u2_k, e5]
  have g0 : ∀ t a b k, t ≠ 5 → u2 (u2 (u2 (u2 (u2 (u2 (u2 I3 (5, 0, s) 3 (I (5, 0, q) 3)) (5, 0, s) 4 (I (5, 0, q) 4)) (5, 0, s) 5 (I (5, 0, q) 5)) (5, 0, s) 6 (I (5, 0, q) 6)) (5, 0, s) 7 (I (5, 0, q) 7)) (5, 0, s) 8 (I (5, 0, q) 8)) (5, 0, s) 9 (I (5, 0, q) 9) (t, a, b) k = I3 (t, a, b) k := by
    intro t a b k ht
    simp (disch := omega) only [u2_r]
  refine ⟨_, (eState_become_0 ..).trans (r1.trans (r2.trans (r3.trans r5))), fun r k hr => ?_, fun k hk => ?_, fun k hk => ?_, fun k hk => ?_, fun k h1 h2 => ?_⟩
  · have n0 : ¬ r = (5, 0, s) := fun z => hr (z ▸ sc0 s)
    have n1 : ¬ r = (31, 12, s + 1) := fun z => hr (z ▸ sc1 s)
    have n2 : ¬ r = (32, 2, s + 2) := fun z => hr (z ▸ sc2 s)
    have n3 : ¬ r = (33, 12, s + 3) := fun z => hr (z ▸ sc3 s)
    simp only [u2_ap, n0, false_and, ↓reduceIte]
    rw [b3 _ _ (fun z => n3 z.1), b2 _ _ (fun z => n2 z.1), b1 _ _ (fun z => n1 z.1)]
  · rw [g0 _ _ _ _ (by omega), b3 _ _ (nt _ _ _ _ _ _ _ _ _ (by omega)), b2 _ _ (nt _ _ _ _ _ _ _ _ _ (by omega)), show k = 0 + k from (Nat.zero_add k).symm]
    exact (a1 k hk).trans (congrArg (I (31, 12, q + 1)) (Nat.zero_add k).symm)
  · rw [g0 _ _ _ _ (by omega), b3 _ _ (nt _ _ _ _ _ _ _ _ _ (by omega)), show k = 0 + k from (Nat.zero_add k).symm]
    exact (a2 k hk).trans (congrArg (I (32, 2, q + 2)) (Nat.zero_add k).symm)
  · rw [g0 _ _ _ _ (by omega), show k = 0 + k from (Nat.zero_add k).symm]
    exact (a3 k hk).trans (congrArg (I (33, 12, q + 3)) (Nat.zero_add k).symm)
  · have : k = 3 ∨ k = 4 ∨ k = 5 ∨ k = 6 ∨ k = 7 ∨ k = 8 ∨ k = 9 := by omega
    rcases this with z | z | z | z | z | z | z <;> subst z <;> simp (disch := omega) only [u2_k, u2_s]
/-- a State that became another -/
theorem CD.cp {σ : St_ × Nat} {q : Nat} {I' : RI_} (h : CD κ τ Λ ω q σ n I P) (hs : StP P s) (f : FrC (scell s) I I') (c1 : ∀ k, k < 12 → I' (31, 12, s + 1) k = I (31, 12, q + 1) k) (c2 : ∀ k, k < 2 → I' (32, 2, s + 2) k = I (32, 2, q + 2) k) (c3 : ∀ k, k < 12 → I' (33, 12, s + 3) k = I (33, 12, q + 3) k) (c4 : ∀ k, 3 ≤ k → k ≤ 9 → I' (5, 0, s) k = I (5, 0, q) k) : CD κ τ Λ ω s σ n I' P := by
  obtain ⟨hC, -, ho, hg, hn, hn2, hok, hom⟩ := h
  have h6 := hC.1.k6.2
  have h12 := hC.1.p12.2
  refine ⟨hC.frS f, hs, ?_, ⟨fun k hk => ?_, fun k hk => ?_, fun k hk => ?_, ?_, ?_⟩, ?_, hn2, hok, hom⟩
  · unfold COm at *
    rw [c4 6 (by omega) (by omega), c4 7 (by omega) (by omega), c4 8 (by omega) (by omega), c4 9 (by omega) (by omega)]
    exact ho
  · rw [c1 k (by omega)]; exact hg.1 k hk
  · rw [c2 k hk]; exact hg.2.1 k hk
  · rw [c3 k (by omega)]; exact hg.2.2.1 k hk
  · rw [c4 4 (by omega) (by omega)]; exact hg.2.2.2.1
  · rw [c4 3 (by omega) (by omega)]; exact hg.2.2.2.2
  · rw [c4 5 (by omega) (by omega)]; exact hn
theorem ac_copy {σ : St_ × Nat} {q : Nat} (d : Nat) (T : T_) (hq : s ≠ q) (hs : StP P s) (h : CD κ τ Λ ω q σ n I P) :
    ∃ I' : RI_, (Run_ (d, mState_become, 0, [some (vR (5, 0, s)), some (vR (5, 0, q)), none], [], (cg T n I J P))) = some (.inl none, cg T n I' J P) ∧ CD κ τ Λ ω s σ n I' P ∧ CD κ τ Λ ω q σ n I' P ∧ FrC (scell s) I I' := by
  obtain ⟨I', r, f, c1, c2, c3, c4⟩ := ac_become (n := n) (I := I) (J := J) d T hq hs h.2.1
  exact ⟨I', r, h.cp hs f c1 c2 c3 c4, h.fr hq f, f⟩
