/-! THE TWIN: sums over a state, states laid and copied, many days -/
theorem u2_u2 {α β : Type} [DecidableEq α] (f : α → Nat → β) (a : α) (k : Nat) (x y : β) : u2 (u2 f a k x) a k y = u2 f a k y := by
  funext a' k'
  unfold u2
  by_cases h : a' = a ∧ k' = k
  · rw [if_pos h, if_pos h]
  · rw [if_neg h, if_neg h, if_neg h]
/-- a loop that lays a row -/
theorem lay_loop {α β γ : Type} [DecidableEq α] (H : Nat → (α → Nat → β) → γ) (X : (α → Nat → β) → γ) (T : α) (B N : Nat) (v : Nat → β) (I : α → Nat → β)
    (hs : ∀ k I', k < N → (∀ t i, ¬ (t = T ∧ B ≤ i ∧ i < B + k) → I' t i = I t i) → H k I' = H (k + 1) (u2 I' T (B + k) (v k))) (hx : ∀ I', H N I' = X I') :
    ∃ I', H 0 I = X I' ∧ (∀ i, i < N → I' T (B + i) = v i) ∧ (∀ t i, ¬ (t = T ∧ B ≤ i ∧ i < B + N) → I' t i = I t i) := by
  obtain ⟨I', e, h1, h2⟩ := lp H X (fun k I' => (∀ i, i < k → I' T (B + i) = v i) ∧ (∀ t i, ¬ (t = T ∧ B ≤ i ∧ i < B + k) → I' t i = I t i)) N
    (fun k a hk ⟨h1, h2⟩ => ⟨u2 a T (B + k) (v k), hs k a hk h2, fun i hi => by
      by_cases e : i = k
      · subst e; exact u2_s ..
      · rw [u2_k _ _ _ _ (by omega)]; exact h1 i (by omega), fun t i hn => by
      rw [u2_ap, if_neg (fun ⟨q1, q2⟩ => hn ⟨q1, by omega, by omega⟩)]
      exact h2 t i (fun ⟨q1, q2, q3⟩ => hn ⟨q1, by omega, by omega⟩)⟩)
    (fun a _ => hx a) 0 I (Nat.zero_le _) ⟨fun i hi => absurd hi (Nat.not_lt_zero i), fun _ _ _ => rfl⟩
  exact ⟨I', e, h1, h2⟩
theorem tw_happy {τ : Tx_} {σ : St_} {b t : Nat} (d : Nat) (I : FI_) (J : FJ_) (C : C_) (hb : b < 2) (ht : t < 2) (ho : TxOk τ) (hx : TTx τ I) (hs : TSt σ b I) : (Run_ (d, mT_happyOf, 0, [some (vR (1000, 0, 0)), some (vI (nI b)), some (vI (nI t)), none, none], [], (tw I J, C))) = some (.inl (some (vI (hapS τ σ t))), (tw I J, C)) := by
  have h6 := ho.k6
  have e1 : I 1000 12 = nI (nkS τ) := (hx _ _ (by unfold tcell; omega)).trans h6.1
  rw [eT_happyOf_0]
  refine lpf (fun k a => (Run_ (d, mT_happyOf, 5, [some (vR (1000, 0, 0)), some (vI (nI b)), some (vI (nI t)), some (vI a), some (vI (nI k))], [], (tw I J, C)))) (fun a => some (.inl (some (vI a)), (tw I J, C))) (fun k n => n + sAm σ (2 * k + t)) (nkS τ) (fun k a hk => ?_) (fun a => ?_) 0
  · have e2 : I 1028 (12 * b + 2 * k + t) = sAm σ (2 * k + t) := hs.a (by omega)
    try dsimp only
    rw [eT_happyOf_5]
    simp (disch := omega) only [↓reduceIte, ↓qX_m, ↓qR_m, ↓cI_m, ↓cV_m, ↓cJ_m, ↓cO_m, ↓cR_m, ixq_n, ixq_l, tgq_ok, nL_mul, nR_mul, nL_add, nR_add, nL_sub, nR_sub, nI_add, pk_mul, nn_sub, ng1_0, ng1_1, an_0, an_1, i1_0, Nat.add_zero, Nat.zero_add, Nat.mul_one, Nat.mul_zero, e1, nn_lt, hk, eT_amountOf_0, e2, eT_happyOf_23]
  · try dsimp only
    rw [eT_happyOf_5]
    simp (disch := omega) only [e1, nn_lt, Nat.lt_irrefl, ↓reduceIte]
theorem tw_tasks {τ : Tx_} {σ : St_} {b : Nat} (d : Nat) (I : FI_) (J : FJ_) (C : C_) (is : Int32) (hb : b < 2) (ho : TxOk τ) (hx : TTx τ I) (hs : TSt σ b I) : (Run_ (d, mT_areTasks, 0, [some (vR (1000, 0, 0)), some (vI (nI b)), some (vI is), none, none], [], (tw I J, C))) = some (.inl (some (vI (resS τ σ is))), (tw I J, C)) := by
  have h12 := ho.p12
  have e1 : I 1000 14 = nI (npS τ) := (hx _ _ (by unfold tcell; omega)).trans h12.1
  rw [eT_areTasks_0]
  refine lpf (fun k a => (Run_ (d, mT_areTasks, 5, [some (vR (1000, 0, 0)), some (vI (nI b)), some (vI is), some (vI a), some (vI (nI k))], [], (tw I J, C)))) (fun a => some (.inl (some (vI a)), (tw I J, C))) (fun k n => n + (if sRe σ k = is then 1 else 0)) (npS τ) (fun k a hk => ?_) (fun a => ?_) 0
  · have e2 : I 1030 (12 * b + k) = sRe σ k := hs.2.2.1 _ (by omega)
    try dsimp only
    rw [eT_areTasks_5]
    simp (disch := omega) only [↓reduceIte, ↓qX_m, ↓qR_m, ↓cI_m, ↓cV_m, ↓cJ_m, ↓cO_m, ↓cR_m, ixq_n, ixq_l, tgq_ok, nL_mul, nR_mul, nL_add, nR_add, nL_sub, nR_sub, nI_add, pk_mul, nn_sub, ng1_0, ng1_1, an_0, an_1, i1_0, Nat.add_zero, Nat.zero_add, Nat.mul_one, Nat.mul_zero, e1, nn_lt, hk, e2, eT_areTasks_36]
    by_cases c : sRe σ k = is
    · rw [if_pos c, if_pos c]
    · rw [if_neg c, if_neg c]
  · try dsimp only
    rw [eT_areTasks_5]
    simp (disch := omega) only [e1, nn_lt, Nat.lt_irrefl, ↓reduceIte]
/-- how far apart, in the twin -/
theorem tw_apart {τ : Tx_} {Λ : La_} {ω : Om_} {by_ : Bool} {b : Nat} {s : St_ × Nat} (d : Nat) (I : FI_) (J : FJ_) (C : C_) (hb : b < 2) (ho : TxOk τ) (hL : LaOk τ Λ) (h : TD τ ω by_ b s I J) :
    ∃ (I' : FI_) (J' : FJ_), (Run_ (d, mT_apartOf, 0, [some (vR (1000, 0, 0)), some (vI (nI b)), none, none], [], (tw I J, C))) = some (.inl (some (vI (aptS τ Λ ω s.1))), (tw I' J', C)) ∧ FrI (fun t k => t = 1000 ∧ k = 53) I I' ∧ (∀ k, J' 1000 k = J 1000 k) := by
  have h6 := ho.k6
  rw [eT_apartOf_0]
  obtain ⟨⟨I', J', a⟩, r, f1, f2, f3⟩ := lp (α := FI_ × FJ_ × Int32) (fun k a => (Run_ (d, mT_apartOf, 4, [some (vR (1000, 0, 0)), some (vI (nI b)), some (vI a.2.2), some (vI (nI k))], [], (tw a.1 a.2.1, C)))) (fun a => some (.inl (some (vI a.2.2)), (tw a.1 a.2.1, C)))
    (fun k a => FrI (fun t k => t = 1000 ∧ k = 53) I a.1 ∧ (∀ k, a.2.1 1000 k = J 1000 k) ∧ a.2.2 = itr (fun k n => n + bndS (Λ 0) (nmS τ ω s.1 k 0) (gapS s.1 k) 9999) k 0) (nkS τ)
    (fun k ⟨I1, J1, a⟩ hk ⟨q1, q2, q3⟩ => by
      have hx1 := h.1.fr q1 e53_t
      have hom1 := h.2.1.fr q1 (fun k h1 h2 => by omega)
      have hs1 := h.2.2.1.fr q1 (fun t k q => by omega)
      have e1 : I1 1000 12 = nI (nkS τ) := (hx1 _ _ (by unfold tcell; omega)).trans h6.1
      obtain ⟨I2, J2, r2, f2, g2⟩ := tw_lawNm (ω := ω) (σ := s.1) (k := k) (t := 0) (w := 0) d I1 J1 C (gapS s.1 k) 9999 (by omega) hL hx1
      have r2' : (Run_ (d, mT_boundLaw, 0, [some (vR (1000, 0, 0)), some (vI 0), some (vI (gapS s.1 k)), some (vI 9999), none, none], [], (tw I1 (ln7 J1 (nmS τ ω s.1 k 0)), C))) = _ := r2
      have r3 : (Run_ (d, mT_layNames, 0, [some (vR (1000, 0, 0)), some (vI (nI b)), some (vI (nI k)), some (vI 0)], [], (tw I1 J1, C))) = _ := tw_names (τ := τ) (ω := ω) (σ := s.1) (t := 0) d I1 J1 C hb (by omega : k < 6) (by omega) hx1 hs1 hom1.2.2.2.2.2.2.1 hom1.2.2.2.2.2.2.2
      refine ⟨(I2, J2, a + bndS (Λ 0) (nmS τ ω s.1 k 0) (gapS s.1 k) 9999), ?_, q1.tr f2, fun k => (g2 k).trans (q2 k), by show _ = _ + _; rw [← q3]⟩
      try dsimp only
      rw [eT_apartOf_4]
      simp (disch := omega) only [↓reduceIte, ↓qX_m, ↓qR_m, ↓cI_m, ↓cV_m, ↓cJ_m, ↓cO_m, ↓cR_m, ixq_n, ixq_l, tgq_ok, nL_mul, nR_mul, nL_add, nR_add, nL_sub, nR_sub, nI_add, pk_mul, nn_sub, ng1_0, ng1_1, an_0, an_1, i1_0, Nat.add_zero, Nat.zero_add, Nat.mul_one, Nat.mul_zero, e1, nn_lt, hk, r3, eT_apartOf_19, tw_gap (σ := s.1) d I1 _ C hb (by omega : k < 6) hs1, eT_apartOf_28, r2', eT_apartOf_34])
    (fun ⟨I1, J1, a⟩ ⟨q1, q2, q3⟩ => by
      have hx1 := h.1.fr q1 e53_t
      have e1 : I1 1000 12 = nI (nkS τ) := (hx1 _ _ (by unfold tcell; omega)).trans h6.1
      try dsimp only
      rw [eT_apartOf_4]
      simp (disch := omega) only [e1, nn_lt, Nat.lt_irrefl, ↓reduceIte]) 0 (I, J, 0) (Nat.zero_le _) ⟨FrI.rf _ _, fun _ => rfl, rfl⟩
  refine ⟨I', J', ?_, f1, f2⟩
  rw [show aptS τ Λ ω s.1 = a from f3.symm]
  exact r
/-! what is tried, laid plain -/
def ocell (t k : Nat) : Prop := t = 1000 ∧ 60 ≤ k ∧ k ≤ 67
theorem tw_plain (d : Nat) (I : FI_) (J : FJ_) (C : C_) : ∃ I' : FI_, (Run_ (d, mT_plainTried, 0, [some (vR (1000, 0, 0))], [], (tw I J, C))) = some (.inl none, (tw I' J, C)) ∧ TOm om0 false I' ∧ FrI ocell I I' := by
  refine ⟨_, eT_plainTried_0 d I J C, ⟨?_, ?_, ?_, ?_, ?_, ?_, ?_, ?_⟩, fun t k h => ?_⟩
  · simp (disch := omega) only [u2_k, u2_s]; rfl
  · simp (disch := omega) only [u2_k, u2_s]; rfl
  · simp (disch := omega) only [u2_k, u2_s]; rfl
  · simp (disch := omega) only [u2_k, u2_s]; rfl
  · simp (disch := omega) only [u2_k, u2_s]; rfl
  · simp (disch := omega) only [u2_k, u2_s]; rfl
  · simp (disch := omega) only [u2_k, u2_s]; rfl
  · simp (disch := omega) only [u2_s]; rfl
  · unfold ocell at h
    simp only [u2_ap]
    rw [if_neg (by omega), if_neg (by omega), if_neg (by omega), if_neg (by omega), if_neg (by omega), if_neg (by omega), if_neg (by omega), if_neg (by omega)]
/-- the cells of the tried state, and of what is tried -/
def ycell (t k : Nat) : Prop := dcell 1 t k ∨ ocell t k
theorem ty_t (t k : Nat) (h : ycell t k) : ¬ tcell t k := by unfold ycell dcell ocell at h; unfold tcell; omega
theorem oc_t (t k : Nat) (h : ocell t k) : ¬ tcell t k := by unfold ocell at h; unfold tcell; omega
/-- the state is laid aside, to be tried -/
theorem tw_lay {σ : St_} (d : Nat) (I : FI_) (J : FJ_) (C : C_) (hs : TSt σ 0 I) : ∃ I' : FI_, (Run_ (d, mT_layTried, 0, [some (vR (1000, 0, 0)), none], [], (tw I J, C))) = some (.inl none, (tw I' J, C)) ∧ TSt σ 1 I' ∧ TOm om0 false I' ∧ FrI ycell I I' := by
  obtain ⟨I1, r1, a1, b1⟩ := lay_loop (fun k I' => (Run_ (d, mT_layTried, 2, [some (vR (1000, 0, 0)), some (vI (nI k))], [], (tw I' J, C)))) (fun I' => (Run_ (d, mT_layTried, 31, [some (vR (1000, 0, 0)), some (vI 0)], [], (tw I' J, C)))) 1028 12 12 (sAm σ) I (fun k I' hk hf => by
      have e : I' 1028 k = sAm σ k := (hf _ _ (by omega)).trans ((congrArg (I 1028) (by omega)).trans (hs.1 k hk))
      try dsimp only
      rw [eT_layTried_2]
      simp (disch := omega) only [↓reduceIte, ↓qX_m, ↓qR_m, ↓cI_m, ↓cV_m, ↓cJ_m, ↓cO_m, ↓cR_m, ixq_n, ixq_l, tgq_ok, nL_mul, nR_mul, nL_add, nR_add, nL_sub, nR_sub, nI_add, pk_mul, nn_sub, ng1_0, ng1_1, an_0, an_1, i1_0, Nat.add_zero, Nat.zero_add, Nat.mul_one, Nat.mul_zero, nR_lt, hk, e])
    (fun I' => by
      try dsimp only
      rw [eT_layTried_2]
      rfl)
  obtain ⟨I2, r2, a2, b2⟩ := lay_loop (fun k I' => (Run_ (d, mT_layTried, 31, [some (vR (1000, 0, 0)), some (vI (nI k))], [], (tw I' J, C)))) (fun I' => (Run_ (d, mT_layTried, 58, [some (vR (1000, 0, 0)), some (vI 0)], [], (tw I' J, C)))) 1029 2 2 (sPu σ) I1 (fun k I' hk hf => by
      have e : I' 1029 k = sPu σ k := (hf _ _ (by omega)).trans ((b1 _ _ (by omega)).trans ((congrArg (I 1029) (by omega)).trans (hs.2.1 k hk)))
      try dsimp only
      rw [eT_layTried_31]
      simp (disch := omega) only [↓reduceIte, ↓qX_m, ↓qR_m, ↓cI_m, ↓cV_m, ↓cJ_m, ↓cO_m, ↓cR_m, ixq_n, ixq_l, tgq_ok, nL_mul, nR_mul, nL_add, nR_add, nL_sub, nR_sub, nI_add, pk_mul, nn_sub, ng1_0, ng1_1, an_0, an_1, i1_0, Nat.add_zero, Nat.zero_add, Nat.mul_one, Nat.mul_zero, nR_lt, hk, e])
    (fun I' => by
      try dsimp only
      rw [eT_layTried_31]
      rfl)
  obtain ⟨I3, r3, a3, b3⟩ := lay_loop (fun k I' => (Run_ (d, mT_layTried, 58, [some (vR (1000, 0, 0)), some (vI (nI k))], [], (tw I' J, C)))) (fun I' => (Run_ (d, mT_layTried, 58, [some (vR (1000, 0, 0)), some (vI (nI 12))], [], (tw I' J, C)))) 1030 12 12 (sRe σ) I2 (fun k I' hk hf => by
      have e : I' 1030 k = sRe σ k := (hf _ _ (by omega)).trans ((b2 _ _ (by omega)).trans ((b1 _ _ (by omega)).trans ((congrArg (I 1030) (by omega)).trans (hs.2.2.1 k hk))))
      try dsimp only
      rw [eT_layTried_58]
      simp (disch := omega) only [↓reduceIte, ↓qX_m, ↓qR_m, ↓cI_m, ↓cV_m, ↓cJ_m, ↓cO_m, ↓cR_m, ixq_n, ixq_l, tgq_ok, nL_mul, nR_mul, nL_add, nR_add, nL_sub, nR_sub, nI_add, pk_mul, nn_sub, ng1_0, ng1_1, an_0, an_1, i1_0, Nat.add_zero, Nat.zero_add, Nat.mul_one, Nat.mul_zero, nR_lt, hk, e])
    (fun I' => rfl)
  have c1 : I3 1031 0 = sLv σ := (b3 _ _ (by omega)).trans ((b2 _ _ (by omega)).trans ((b1 _ _ (by omega)).trans hs.2.2.2.1))
  have c2 : I3 1032 0 = sDy σ := (b3 _ _ (by omega)).trans ((b2 _ _ (by omega)).trans ((b1 _ _ (by omega)).trans hs.2.2.2.2))
  obtain ⟨I4, r4, o4, f4⟩ := tw_plain d (u2 (u2 I3 1031 1 (sLv σ)) 1032 1 (sDy σ)) J C
  have e12 : ((12 : Int32) < 12) = False := eq_false (by decide)
  have r5 : (Run_ (d, mT_layTried, 58, [some (vR (1000, 0, 0)), some (vI (nI 12))], [], (tw I3 J, C))) = some (.inl none, (tw I4 J, C)) := by
    show (Run_ (d, mT_layTried, 58, [some (vR (1000, 0, 0)), some (vI 12)], [], (tw I3 J, C))) = _
    rw [eT_layTried_58]
    simp (disch := omega) only [↓reduceIte, ↓qX_m, ↓qR_m, ↓cI_m, ↓cV_m, ↓cJ_m, ↓cO_m, ↓cR_m, ixq_n, ixq_l, tgq_ok, nL_mul, nR_mul, nL_add, nR_add, nL_sub, nR_sub, nI_add, pk_mul, nn_sub, ng1_0, ng1_1, an_0, an_1, i1_0, Nat.add_zero, Nat.zero_add, Nat.mul_one, Nat.mul_zero, e12, u2_t, c1, c2, r4, eT_layTried_113]
  refine ⟨I4, (eT_layTried_0 d I J C).trans (r1.trans (r2.trans (r3.trans r5))), ?_, o4, fun t k h => ?_⟩
  · have g : ∀ t k, t ≠ 1000 → I4 t k = u2 (u2 I3 1031 1 (sLv σ)) 1032 1 (sDy σ) t k := fun t k h => f4 t k (fun q => h q.1)
    refine ⟨fun k hk => ?_, fun k hk => ?_, fun k hk => ?_, ?_, ?_⟩
    · rw [g _ _ (by omega), u2_t _ _ _ _ (by omega), u2_t _ _ _ _ (by omega), b3 _ _ (by omega), b2 _ _ (by omega)]; exact a1 k hk
    · rw [g _ _ (by omega), u2_t _ _ _ _ (by omega), u2_t _ _ _ _ (by omega), b3 _ _ (by omega)]; exact a2 k hk
    · rw [g _ _ (by omega), u2_t _ _ _ _ (by omega), u2_t _ _ _ _ (by omega)]; exact a3 k hk
    · rw [g _ _ (by omega), u2_t _ _ _ _ (by omega), u2_s]
    · rw [g _ _ (by omega), u2_s]
  · have h1 : ¬ dcell 1 t k := fun q => h (Or.inl q)
    have h2 : ¬ ocell t k := fun q => h (Or.inr q)
    unfold dcell at h1
    rw [f4 t k h2, u2_ap, u2_ap, if_neg (by omega), if_neg (by omega), b3 _ _ (by omega), b2 _ _ (by omega), b1 _ _ (by omega)]
/-- the first state of a text -/
def begS (τ : Tx_) : St_ := (fun k => τ 1007 k, fun t => τ 1017 t, fun _ => 0, 0, 0)
theorem tw_first {τ : Tx_} {b : Nat} (d : Nat) (I : FI_) (J : FJ_) (C : C_) (hb : b < 2) (hx : TTx τ I) : ∃ I' : FI_, (Run_ (d, mT_atFirst, 0, [some (vR (1000, 0, 0)), some (vI (nI b)), none], [], (tw I J, C))) = some (.inl none, (tw I' J, C)) ∧ TSt (begS τ) b I' ∧ FrI (dcell b) I I' := by
  obtain ⟨I1, r1, a1, b1⟩ := lay_loop (fun k I' => (Run_ (d, mT_atFirst, 2, [some (vR (1000, 0, 0)), some (vI (nI b)), some (vI (nI k))], [], (tw I' J, C)))) (fun I' => (Run_ (d, mT_atFirst, 33, [some (vR (1000, 0, 0)), some (vI (nI b)), some (vI 0)], [], (tw I' J, C)))) 1028 (12 * b) 12 (fun k => τ 1007 k) I (fun k I' hk hf => by
      have e : I' 1007 k = τ 1007 k := (hf _ _ (by omega)).trans (hx _ _ (by unfold tcell; omega))
      try dsimp only
      rw [eT_atFirst_2]
      simp (disch := omega) only [↓reduceIte, ↓qX_m, ↓qR_m, ↓cI_m, ↓cV_m, ↓cJ_m, ↓cO_m, ↓cR_m, ixq_n, ixq_l, tgq_ok, nL_mul, nR_mul, nL_add, nR_add, nL_sub, nR_sub, nI_add, pk_mul, nn_sub, ng1_0, ng1_1, an_0, an_1, i1_0, Nat.add_zero, Nat.zero_add, Nat.mul_one, Nat.mul_zero, nR_lt, hk, e])
    (fun I' => by
      try dsimp only
      rw [eT_atFirst_2]
      rfl)
  obtain ⟨I2, r2, a2, b2⟩ := lay_loop (fun k I' => (Run_ (d, mT_atFirst, 33, [some (vR (1000, 0, 0)), some (vI (nI b)), some (vI (nI k))], [], (tw I' J, C)))) (fun I' => (Run_ (d, mT_atFirst, 62, [some (vR (1000, 0, 0)), some (vI (nI b)), some (vI 0)], [], (tw I' J, C)))) 1029 (2 * b) 2 (fun k => τ 1017 k) I1 (fun k I' hk hf => by
      have e : I' 1017 k = τ 1017 k := (hf _ _ (by omega)).trans ((b1 _ _ (by omega)).trans (hx _ _ (by unfold tcell; omega)))
      try dsimp only
      rw [eT_atFirst_33]
      simp (disch := omega) only [↓reduceIte, ↓qX_m, ↓qR_m, ↓cI_m, ↓cV_m, ↓cJ_m, ↓cO_m, ↓cR_m, ixq_n, ixq_l, tgq_ok, nL_mul, nR_mul, nL_add, nR_add, nL_sub, nR_sub, nI_add, pk_mul, nn_sub, ng1_0, ng1_1, an_0, an_1, i1_0, Nat.add_zero, Nat.zero_add, Nat.mul_one, Nat.mul_zero, nR_lt, hk, e])
    (fun I' => by
      try dsimp only
      rw [eT_atFirst_33]
      rfl)
  obtain ⟨I3, r3, a3, b3⟩ := lay_loop (fun k I' => (Run_ (d, mT_atFirst, 62, [some (vR (1000, 0, 0)), some (vI (nI b)), some (vI (nI k))], [], (tw I' J, C)))) (fun I' => (Run_ (d, mT_atFirst, 62, [some (vR (1000, 0, 0)), some (vI (nI b)), some (vI (nI 12))], [], (tw I' J, C)))) 1030 (12 * b) 12 (fun _ => 0) I2 (fun k I' hk hf => by
      try dsimp only
      rw [eT_atFirst_62]
      simp (disch := omega) only [↓reduceIte, ↓qX_m, ↓qR_m, ↓cI_m, ↓cV_m, ↓cJ_m, ↓cO_m, ↓cR_m, ixq_n, ixq_l, tgq_ok, nL_mul, nR_mul, nL_add, nR_add, nL_sub, nR_sub, nI_add, pk_mul, nn_sub, ng1_0, ng1_1, an_0, an_1, i1_0, Nat.add_zero, Nat.zero_add, Nat.mul_one, Nat.mul_zero, nR_lt, hk])
    (fun I' => rfl)
  have e12 : ((12 : Int32) < 12) = False := eq_false (by decide)
  have r5 : (Run_ (d, mT_atFirst, 62, [some (vR (1000, 0, 0)), some (vI (nI b)), some (vI (nI 12))], [], (tw I3 J, C))) = some (.inl none, (tw (u2 (u2 I3 1031 b 0) 1032 b 0) J, C)) := by
    show (Run_ (d, mT_atFirst, 62, [some (vR (1000, 0, 0)), some (vI (nI b)), some (vI 12)], [], (tw I3 J, C))) = _
    rw [eT_atFirst_62]
    simp (disch := omega) only [↓reduceIte, ↓qX_m, ↓qR_m, ↓cI_m, ↓cV_m, ↓cJ_m, ↓cO_m, ↓cR_m, ixq_n, ixq_l, tgq_ok, nL_mul, nR_mul, nL_add, nR_add, nL_sub, nR_sub, nI_add, pk_mul, nn_sub, ng1_0, ng1_1, an_0, an_1, i1_0, Nat.add_zero, Nat.zero_add, Nat.mul_one, Nat.mul_zero, e12]
  refine ⟨_, (eT_atFirst_0 d _ I J C).trans (r1.trans (r2.trans (r3.trans r5))), ⟨fun k hk => ?_, fun k hk => ?_, fun k hk => ?_, ?_, ?_⟩, fun t k h => ?_⟩
  · rw [u2_t _ _ _ _ (by omega), u2_t _ _ _ _ (by omega), b3 _ _ (by omega), b2 _ _ (by omega)]; exact a1 k hk
  · rw [u2_t _ _ _ _ (by omega), u2_t _ _ _ _ (by omega), b3 _ _ (by omega)]; exact a2 k hk
  · rw [u2_t _ _ _ _ (by omega), u2_t _ _ _ _ (by omega)]; exact a3 k hk
  · rw [u2_t _ _ _ _ (by omega), u2_s]; rfl
  · rw [u2_s]; rfl
  · unfold dcell at h
    rw [u2_ap, u2_ap, if_neg (by omega), if_neg (by omega), b3 _ _ (by omega), b2 _ _ (by omega), b1 _ _ (by omega)]
/-- many days -/
theorem tw_many {τ : Tx_} {Λ : La_} {ω : Om_} {by_ : Bool} {n : Nat} {s : St_ × Nat} (d : Nat) (I : FI_) (J : FJ_) (C : C_) (hn : n < 2147483648) (ho : TxOk τ) (hL : LaOk τ Λ) (h : TD τ ω by_ 1 s I J) :
    ∃ (I' : FI_) (J' : FJ_), (Run_ (d, mT_goMany, 0, [some (vR (1000, 0, 0)), some (vI (nI n)), none], [], (tw I J, C))) = some (.inl none, (tw I' J', C)) ∧ TD τ ω by_ 1 (daysS τ Λ ω by_ n s) I' J' ∧ FrI (dcell 1) I I' ∧ FrJ J J' := by
  rw [eT_goMany_0]
  obtain ⟨⟨I', J'⟩, r, f1, f2, f3⟩ := lp (α := FI_ × FJ_) (fun k a => (Run_ (d, mT_goMany, 2, [some (vR (1000, 0, 0)), some (vI (nI n)), some (vI (nI k))], [], (tw a.1 a.2, C)))) (fun a => some (.inl none, (tw a.1 a.2, C)))
    (fun k a => TD τ ω by_ 1 (daysS τ Λ ω by_ k s) a.1 a.2 ∧ FrI (dcell 1) I a.1 ∧ FrJ J a.2) n
    (fun k ⟨I1, J1⟩ hk ⟨q1, q2, q3⟩ => by
      obtain ⟨I2, J2, r2, d2, f2, g2⟩ := tw_day (Λ := Λ) (b := 1) d I1 J1 C (by omega) ho hL q1
      have r2' : (Run_ (d, mT_dayGoes, 0, [some (vR (1000, 0, 0)), some (vI 1), none], [], (tw I1 J1, C))) = _ := r2
      refine ⟨(I2, J2), ?_, d2, q2.tr f2, q3.tr g2⟩
      try dsimp only
      rw [eT_goMany_2]
      simp (disch := omega) only [↓reduceIte, ↓qX_m, ↓qR_m, ↓cI_m, ↓cV_m, ↓cJ_m, ↓cO_m, ↓cR_m, ixq_n, ixq_l, tgq_ok, nL_mul, nR_mul, nL_add, nR_add, nL_sub, nR_sub, nI_add, pk_mul, nn_sub, ng1_0, ng1_1, an_0, an_1, i1_0, Nat.add_zero, Nat.zero_add, Nat.mul_one, Nat.mul_zero, nn_lt, hk, r2', eT_goMany_12])
    (fun ⟨I1, J1⟩ _ => by
      try dsimp only
      rw [eT_goMany_2]
      simp (disch := omega) only [nn_lt, Nat.lt_irrefl, ↓reduceIte]) 0 (I, J) (Nat.zero_le _) ⟨h, FrI.rf _ _, FrJ.rf _⟩
  exact ⟨I', J', r, f1, f2, f3⟩
