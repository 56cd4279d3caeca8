/-! THE TWIN's calls that only look, on -/
def opHappier (A : Ab_) : Int32 := if hapS (aT A) (aS A).1 1 < hapS (aT A) (aS A).1 0 then 0 else if hapS (aT A) (aS A).1 0 < hapS (aT A) (aS A).1 1 then 1 else -2
def opPayers (A : Ab_) (k : Int32) : Int32 := if isS k (ndS (aT A)) = true then (if sPu (aS A).1 0 < aT A 1011 (ixS k) then 0 else 1) + (if sPu (aS A).1 1 < aT A 1011 (ixS k) then 0 else 2) else -1
def opHealed (A : Ab_) (k : Int32) : Int32 := if isS k (nkS (aT A)) = true then hlS (iabs (sAm (aS A).1 (2 * ixS k))) (iabs (sAm (aS A).1 (2 * ixS k + 1))) (aT A 1006 (ixS k)) else -1
def opSign (A : Ab_) : Int32 := if nkS (aT A) = 0 then -1 else (sgS (aT A) (aS A).1 (nkS (aT A))).1
def opTells (A : Ab_) : Int32 := bitS (fun k => !decide (gapS (aS A).1 k * aT A 1005 k < 10)) (nkS (aT A))
def opWanted (A : Ab_) (t : Int32) : Int32 := if tnS t = true then bitS (fun k => decide (sAm (aS A).1 (2 * k + ixS t) < sAm (aS A).1 (2 * k + 1 - ixS t))) (nkS (aT A)) else -1
variable {A : Ab_} {I : FI_} {J : FJ_}
theorem TWd.am {A : Ab_} {I : FI_} {J : FJ_} (h : TWd A I J) {k : Nat} (hk : k < 12) : I 1028 k = sAm (aS A).1 k := by have := h.2.2.1.1 k hk; rw [Nat.mul_zero, Nat.zero_add] at this; exact this
theorem TWd.pu {A : Ab_} {I : FI_} {J : FJ_} (h : TWd A I J) {k : Nat} (hk : k < 2) : I 1029 k = sPu (aS A).1 k := by have := h.2.2.1.2.1 k hk; rw [Nat.mul_zero, Nat.zero_add] at this; exact this
theorem TWd.re {A : Ab_} {I : FI_} {J : FJ_} (h : TWd A I J) {k : Nat} (hk : k < 12) : I 1030 k = sRe (aS A).1 k := by have := h.2.2.1.2.2.1 k hk; rw [Nat.mul_zero, Nat.zero_add] at this; exact this
theorem to_done (d : Nat) (C : C_) (k w : Int32) (ok : AbOk A) (h : TWd A I J) : TOut A (vI (opDone A k w)) C (Run_ (d, mT_done, 0, [some (vR (1000, 0, 0)), some (vI k), some (vI w)], [], (tw I J, C))) := by
  have h2 := h.th 0
  have h12 := ok.1.p12
  rw [eT_done_0]
  generalize u2 I 1000 2 0 = I1 at h2 ⊢
  refine TOut.mk ?_ h2
  unfold opDone
  have e0 : I1 1000 14 = nI (npS (aT A)) := (h2.1 _ _ (by unfold tcell; omega)).trans h12.1
  rcases isS_or k (n := npS (aT A)) (by omega) with ⟨j, hj, hk, hi⟩ | hi
  · have e : ∀ t, 1013 ≤ t → t ≤ 1015 → I1 t j = aT A t j := fun t a b => h2.1 _ _ (by unfold tcell; omega)
    have er := h2.re (by omega : j < 12)
    subst hk
    simp (disch := omega) only [↓reduceIte, ↓qX_m, ↓qR_m, ↓cI_m, ↓cV_m, ↓cJ_m, ↓cO_m, ↓cR_m, ixq_n, ixq_l, tgq_ok, nL_mul, nR_mul, nL_add, nR_add, nL_sub, nR_sub, nI_add, pk_mul, nn_sub, ng1_0, ng1_1, an_0, an_1, i1_0, Nat.add_zero, Nat.zero_add, Nat.mul_one, Nat.mul_zero, bI_z, Bool.true_eq_false, Bool.false_eq_true, e0, hi, nI_lt0, nn_lt, hj, nI_clamp]
    by_cases y0 : w = 0
    · simp (disch := omega) only [eq_true y0, ↓reduceIte, ↓qX_m, ↓qR_m, ↓cI_m, ↓cV_m, ↓cJ_m, ↓cO_m, ↓cR_m, ixq_n, ixq_l, tgq_ok, nL_mul, nR_mul, nL_add, nR_add, nL_sub, nR_sub, nI_add, pk_mul, nn_sub, ng1_0, ng1_1, an_0, an_1, i1_0, Nat.add_zero, Nat.zero_add, Nat.mul_one, Nat.mul_zero, e, er, eT_done_52, eT_done_59, eT_done_66, eT_done_73, eT_done_80]
    by_cases y1 : w = 1
    · simp (disch := omega) only [y0, eq_true y1, ↓reduceIte, ↓qX_m, ↓qR_m, ↓cI_m, ↓cV_m, ↓cJ_m, ↓cO_m, ↓cR_m, ixq_n, ixq_l, tgq_ok, nL_mul, nR_mul, nL_add, nR_add, nL_sub, nR_sub, nI_add, pk_mul, nn_sub, ng1_0, ng1_1, an_0, an_1, i1_0, Nat.add_zero, Nat.zero_add, Nat.mul_one, Nat.mul_zero, e, er, eT_done_52, eT_done_59, eT_done_66, eT_done_73, eT_done_80]
    by_cases y2 : w = 2
    · simp (disch := omega) only [y0, y1, eq_true y2, ↓reduceIte, ↓qX_m, ↓qR_m, ↓cI_m, ↓cV_m, ↓cJ_m, ↓cO_m, ↓cR_m, ixq_n, ixq_l, tgq_ok, nL_mul, nR_mul, nL_add, nR_add, nL_sub, nR_sub, nI_add, pk_mul, nn_sub, ng1_0, ng1_1, an_0, an_1, i1_0, Nat.add_zero, Nat.zero_add, Nat.mul_one, Nat.mul_zero, e, er, eT_done_52, eT_done_59, eT_done_66, eT_done_73, eT_done_80]
    by_cases y3 : w = 3
    · simp (disch := omega) only [y0, y1, y2, eq_true y3, ↓reduceIte, ↓qX_m, ↓qR_m, ↓cI_m, ↓cV_m, ↓cJ_m, ↓cO_m, ↓cR_m, ixq_n, ixq_l, tgq_ok, nL_mul, nR_mul, nL_add, nR_add, nL_sub, nR_sub, nI_add, pk_mul, nn_sub, ng1_0, ng1_1, an_0, an_1, i1_0, Nat.add_zero, Nat.zero_add, Nat.mul_one, Nat.mul_zero, e, er, eT_done_52, eT_done_59, eT_done_66, eT_done_73, eT_done_80]
    simp (disch := omega) only [y0, y1, y2, y3, ↓reduceIte, ↓qX_m, ↓qR_m, ↓cI_m, ↓cV_m, ↓cJ_m, ↓cO_m, ↓cR_m, ixq_n, ixq_l, tgq_ok, nL_mul, nR_mul, nL_add, nR_add, nL_sub, nR_sub, nI_add, pk_mul, nn_sub, ng1_0, ng1_1, an_0, an_1, i1_0, Nat.add_zero, Nat.zero_add, Nat.mul_one, Nat.mul_zero, e, er, eT_done_52, eT_done_59, eT_done_66, eT_done_73, eT_done_80]
  · have hh := hi
    unfold isS at hh
    simp only [hi, e0, Bool.false_eq_true, ↓reduceIte]
    by_cases c1 : k < 0
    · simp only [eq_true c1, ↓reduceIte, eT_done_17]
    · by_cases c2 : k < nI (npS (aT A))
      · rw [decide_eq_false c1, decide_eq_true c2] at hh; cases hh
      · simp only [c1, c2, ↓reduceIte, eT_done_17]
theorem to_happier (d : Nat) (C : C_) (ok : AbOk A) (h : TWd A I J) : TOut A (vI (opHappier A)) C (Run_ (d, mT_happier, 0, [some (vR (1000, 0, 0)), none, none], [], (tw I J, C))) := by
  have h2 := h.th 0
  rw [eT_happier_0]
  generalize u2 I 1000 2 0 = I1 at h2 ⊢
  refine TOut.mk ?_ h2
  have e0 : (Run_ (d, mT_happyOf, 0, [some (vR (1000, 0, 0)), some (vI 0), some (vI 0), none, none], [], (tw I1 J, C))) = _ := tw_happy (b := 0) (t := 0) d I1 J C (by omega) (by omega) ok.1 h2.1 h2.2.2.1
  have e1 : (Run_ (d, mT_happyOf, 0, [some (vR (1000, 0, 0)), some (vI 0), some (vI 1), none, none], [], (tw I1 J, C))) = _ := tw_happy (b := 0) (t := 1) d I1 J C (by omega) (by omega) ok.1 h2.1 h2.2.2.1
  unfold opHappier
  simp (disch := omega) only [↓reduceIte, ↓qX_m, ↓qR_m, ↓cI_m, ↓cV_m, ↓cJ_m, ↓cO_m, ↓cR_m, ixq_n, ixq_l, tgq_ok, nL_mul, nR_mul, nL_add, nR_add, nL_sub, nR_sub, nI_add, pk_mul, nn_sub, ng1_0, ng1_1, an_0, an_1, i1_0, Nat.add_zero, Nat.zero_add, Nat.mul_one, Nat.mul_zero, e0, e1, eT_happier_11, eT_happier_18, eT_happier_39]
  by_cases c1 : hapS (aT A) (aS A).1 1 < hapS (aT A) (aS A).1 0
  · simp only [eq_true c1, ↓reduceIte]
  · by_cases c2 : hapS (aT A) (aS A).1 0 < hapS (aT A) (aS A).1 1
    · simp only [c1, eq_true c2, ↓reduceIte]
    · simp only [c1, c2, ↓reduceIte]
theorem to_payers (d : Nat) (C : C_) (k : Int32) (ok : AbOk A) (h : TWd A I J) : TOut A (vI (opPayers A k)) C (Run_ (d, mT_payers, 0, [some (vR (1000, 0, 0)), some (vI k)], [], (tw I J, C))) := by
  have h2 := h.th 0
  have h8 := ok.1.d8.2
  rw [eT_payers_0]
  generalize u2 I 1000 2 0 = I1 at h2 ⊢
  refine TOut.mk ?_ h2
  unfold opPayers
  rcases isS_or k (n := ndS (aT A)) (by omega) with ⟨j, hj, hk, hi⟩ | hi
  · have e : I1 1011 j = aT A 1011 j := h2.1 _ _ (by unfold tcell; omega)
    have p0 := h2.pu (by omega : 0 < 2)
    have p1 := h2.pu (by omega : 1 < 2)
    subst hk
    simp (disch := omega) only [↓reduceIte, ↓qX_m, ↓qR_m, ↓cI_m, ↓cV_m, ↓cJ_m, ↓cO_m, ↓cR_m, ixq_n, ixq_l, tgq_ok, nL_mul, nR_mul, nL_add, nR_add, nL_sub, nR_sub, nI_add, pk_mul, nn_sub, ng1_0, ng1_1, an_0, an_1, i1_0, Nat.add_zero, Nat.zero_add, Nat.mul_one, Nat.mul_zero, bI_z, Bool.true_eq_false, Bool.false_eq_true, tw_isDeed d I1 J C _ ok.1 h2.1, hi, eT_payers_10, eT_payers_35, eT_payers_55, nI_clamp, e, p0, p1]
    by_cases c1 : sPu (aS A).1 0 < aT A 1011 j
    · by_cases c2 : sPu (aS A).1 1 < aT A 1011 j
      · simp only [eq_true c1, eq_true c2, ↓reduceIte]
      · simp only [eq_true c1, c2, ↓reduceIte]
    · by_cases c2 : sPu (aS A).1 1 < aT A 1011 j
      · simp only [c1, eq_true c2, ↓reduceIte]
      · simp only [c1, c2, ↓reduceIte]
  · simp (disch := omega) only [↓reduceIte, ↓qX_m, ↓qR_m, ↓cI_m, ↓cV_m, ↓cJ_m, ↓cO_m, ↓cR_m, ixq_n, ixq_l, tgq_ok, nL_mul, nR_mul, nL_add, nR_add, nL_sub, nR_sub, nI_add, pk_mul, nn_sub, ng1_0, ng1_1, an_0, an_1, i1_0, Nat.add_zero, Nat.zero_add, Nat.mul_one, Nat.mul_zero, bI_z, Bool.true_eq_false, Bool.false_eq_true, tw_isDeed d I1 J C _ ok.1 h2.1, hi, eT_payers_10]
theorem to_healed (d : Nat) (C : C_) (k : Int32) (ok : AbOk A) (h : TWd A I J) : TOut A (vI (opHealed A k)) C (Run_ (d, mT_healed, 0, [some (vR (1000, 0, 0)), some (vI k), none, none, none], [], (tw I J, C))) := by
  have h2 := h.th 0
  have h6 := ok.1.k6.2
  rw [eT_healed_0]
  generalize u2 I 1000 2 0 = I1 at h2 ⊢
  refine TOut.mk ?_ h2
  unfold opHealed
  rcases isS_or k (n := nkS (aT A)) (by omega) with ⟨j, hj, hk, hi⟩ | hi
  · have e : I1 1006 j = aT A 1006 j := h2.1 _ _ (by unfold tcell; omega)
    have p0 := h2.am (by omega : 2 * j < 12)
    have p1 := h2.am (by omega : 2 * j + 1 < 12)
    subst hk
    simp (disch := omega) only [↓reduceIte, ↓qX_m, ↓qR_m, ↓cI_m, ↓cV_m, ↓cJ_m, ↓cO_m, ↓cR_m, ixq_n, ixq_l, tgq_ok, nL_mul, nR_mul, nL_add, nR_add, nL_sub, nR_sub, nI_add, pk_mul, nn_sub, ng1_0, ng1_1, an_0, an_1, i1_0, Nat.add_zero, Nat.zero_add, Nat.mul_one, Nat.mul_zero, bI_z, Bool.true_eq_false, Bool.false_eq_true, tw_isKind d I1 J C _ ok.1 h2.1, hi, eT_healed_10, eT_healed_26, eT_healed_40, eT_healed_51, eT_healed_94, nI_clamp, e, p0, p1, tw_size]
    unfold hlS
    generalize iabs (sAm (aS A).1 (2 * j)) = a
    generalize iabs (sAm (aS A).1 (2 * j + 1)) = c
    generalize aT A 1006 j = g
    have key : ∀ m : Int32, (if m = 0 then some ((Sum.inl (some (vI 0)), (tw I1 J, C)) : Z_) else if g = 0 then some (.inl (some (vI (-2))), (tw I1 J, C)) else if g = 0 then none else some (.inl (some (vI ((m + g - 1) / g))), (tw I1 J, C))) = some (.inl (some (vI (if m = 0 then 0 else if g = 0 then -2 else (m + g - 1) / g))), (tw I1 J, C)) := by
      intro m
      by_cases z1 : m = 0
      · simp only [eq_true z1, ↓reduceIte]
      · by_cases z2 : g = 0
        · simp only [z1, eq_true z2, ↓reduceIte]
        · simp only [z1, z2, ↓reduceIte]
    by_cases c1 : c < a
    · simp only [eq_true c1, ↓reduceIte]; exact key a
    · simp only [c1, ↓reduceIte]; exact key c
  · simp (disch := omega) only [↓reduceIte, ↓qX_m, ↓qR_m, ↓cI_m, ↓cV_m, ↓cJ_m, ↓cO_m, ↓cR_m, ixq_n, ixq_l, tgq_ok, nL_mul, nR_mul, nL_add, nR_add, nL_sub, nR_sub, nI_add, pk_mul, nn_sub, ng1_0, ng1_1, an_0, an_1, i1_0, Nat.add_zero, Nat.zero_add, Nat.mul_one, Nat.mul_zero, bI_z, Bool.true_eq_false, Bool.false_eq_true, tw_isKind d I1 J C _ ok.1 h2.1, hi, eT_healed_10]
theorem to_sign (d : Nat) (C : C_) (ok : AbOk A) (h : TWd A I J) : TOut A (vI (opSign A)) C (Run_ (d, mT_sign, 0, [some (vR (1000, 0, 0)), none, none, none, none], [], (tw I J, C))) := by
  have h2 := h.th 0
  have h6 := ok.1.k6
  rw [eT_sign_0]
  generalize u2 I 1000 2 0 = I1 at h2 ⊢
  refine TOut.mk ?_ h2
  have e0 : I1 1000 12 = nI (nkS (aT A)) := (h2.1 _ _ (by unfold tcell; omega)).trans h6.1
  unfold opSign
  simp (disch := omega) only [e0, nR_eq]
  by_cases c : nkS (aT A) = 0
  · simp only [eq_true c, ↓reduceIte]
  · simp only [c, ↓reduceIte]
    refine lpf (fun k (a : Int32 × Int32) => (Run_ (d, mT_sign, 21, [some (vR (1000, 0, 0)), some (vI a.1), some (vI a.2), some (vI (nI k)), none], [], (tw I1 J, C)))) (fun a => some (.inl (some (vI a.1)), (tw I1 J, C))) (fun k r => if r.2 < gapS (aS A).1 k * aT A 1005 k then (nI k, gapS (aS A).1 k * aT A 1005 k) else r) (nkS (aT A)) (fun k a hk => ?_) (fun a => ?_) (-2, 0)
    · try dsimp only
      have eg : (Run_ (d, mT_gapOf, 0, [some (vR (1000, 0, 0)), some (vI 0), some (vI (nI k))], [], (tw I1 J, C))) = _ := tw_gap (b := 0) d I1 J C (by omega) (by omega : k < 6) h2.2.2.1
      have e1 : I1 1005 k = aT A 1005 k := h2.1 _ _ (by unfold tcell; omega)
      rw [eT_sign_21]
      simp (disch := omega) only [↓reduceIte, ↓qX_m, ↓qR_m, ↓cI_m, ↓cV_m, ↓cJ_m, ↓cO_m, ↓cR_m, ixq_n, ixq_l, tgq_ok, nL_mul, nR_mul, nL_add, nR_add, nL_sub, nR_sub, nI_add, pk_mul, nn_sub, ng1_0, ng1_1, an_0, an_1, i1_0, Nat.add_zero, Nat.zero_add, Nat.mul_one, Nat.mul_zero, e0, nn_lt, hk, eg, eT_sign_35, e1, eT_sign_58]
      by_cases c1 : a.2 < gapS (aS A).1 k * aT A 1005 k
      · simp only [eq_true c1, ↓reduceIte]
      · simp only [c1, ↓reduceIte]
    · try dsimp only
      rw [eT_sign_21]
      simp (disch := omega) only [↓reduceIte, ↓qX_m, ↓qR_m, ↓cI_m, ↓cV_m, ↓cJ_m, ↓cO_m, ↓cR_m, ixq_n, ixq_l, tgq_ok, nL_mul, nR_mul, nL_add, nR_add, nL_sub, nR_sub, nI_add, pk_mul, nn_sub, ng1_0, ng1_1, an_0, an_1, i1_0, Nat.add_zero, Nat.zero_add, Nat.mul_one, Nat.mul_zero, e0, nn_lt, Nat.lt_irrefl, ↓reduceIte]
theorem to_tells (d : Nat) (C : C_) (ok : AbOk A) (h : TWd A I J) : TOut A (vI (opTells A)) C (Run_ (d, mT_tells, 0, [some (vR (1000, 0, 0)), none, none], [], (tw I J, C))) := by
  have h2 := h.th 0
  have h6 := ok.1.k6
  rw [eT_tells_0]
  generalize u2 I 1000 2 0 = I1 at h2 ⊢
  refine TOut.mk ?_ h2
  have e0 : I1 1000 12 = nI (nkS (aT A)) := (h2.1 _ _ (by unfold tcell; omega)).trans h6.1
  refine lpf (fun k (a : Int32) => (Run_ (d, mT_tells, 9, [some (vR (1000, 0, 0)), some (vI a), some (vI (nI k))], [], (tw I1 J, C)))) (fun a => some (.inl (some (vI a)), (tw I1 J, C))) _ (nkS (aT A)) (fun k a hk => ?_) (fun a => ?_) 0
  · try dsimp only
    have eg : (Run_ (d, mT_gapOf, 0, [some (vR (1000, 0, 0)), some (vI 0), some (vI (nI k))], [], (tw I1 J, C))) = _ := tw_gap (b := 0) d I1 J C (by omega) (by omega : k < 6) h2.2.2.1
    have e1 : I1 1005 k = aT A 1005 k := h2.1 _ _ (by unfold tcell; omega)
    rw [eT_tells_9]
    simp (disch := omega) only [↓reduceIte, ↓qX_m, ↓qR_m, ↓cI_m, ↓cV_m, ↓cJ_m, ↓cO_m, ↓cR_m, ixq_n, ixq_l, tgq_ok, nL_mul, nR_mul, nL_add, nR_add, nL_sub, nR_sub, nI_add, pk_mul, nn_sub, ng1_0, ng1_1, an_0, an_1, i1_0, Nat.add_zero, Nat.zero_add, Nat.mul_one, Nat.mul_zero, e0, nn_lt, hk, eg, eT_tells_24, e1, eT_tells_43]
    by_cases c1 : gapS (aS A).1 k * aT A 1005 k < 10
    · simp only [eq_true c1, eq_self, decide_true, decide_false, cond_true, cond_false, ↓reduceIte, Bool.not_true]
    · simp only [c1, eq_self, decide_true, decide_false, cond_true, cond_false, ↓reduceIte, Bool.not_false]
  · try dsimp only
    rw [eT_tells_9]
    simp (disch := omega) only [↓reduceIte, ↓qX_m, ↓qR_m, ↓cI_m, ↓cV_m, ↓cJ_m, ↓cO_m, ↓cR_m, ixq_n, ixq_l, tgq_ok, nL_mul, nR_mul, nL_add, nR_add, nL_sub, nR_sub, nI_add, pk_mul, nn_sub, ng1_0, ng1_1, an_0, an_1, i1_0, Nat.add_zero, Nat.zero_add, Nat.mul_one, Nat.mul_zero, e0, nn_lt, Nat.lt_irrefl, ↓reduceIte]
theorem to_wanted (d : Nat) (C : C_) (t : Int32) (ok : AbOk A) (h : TWd A I J) : TOut A (vI (opWanted A t)) C (Run_ (d, mT_wanted, 0, [some (vR (1000, 0, 0)), some (vI t), none, none], [], (tw I J, C))) := by
  have h2 := h.th 0
  have h6 := ok.1.k6
  rw [eT_wanted_0]
  generalize u2 I 1000 2 0 = I1 at h2 ⊢
  refine TOut.mk ?_ h2
  have e0 : I1 1000 12 = nI (nkS (aT A)) := (h2.1 _ _ (by unfold tcell; omega)).trans h6.1
  unfold opWanted
  rcases tnS_or t with ⟨j, hj, hk, hi⟩ | hi
  · subst hk
    simp (disch := omega) only [↓reduceIte, ↓qX_m, ↓qR_m, ↓cI_m, ↓cV_m, ↓cJ_m, ↓cO_m, ↓cR_m, ixq_n, ixq_l, tgq_ok, nL_mul, nR_mul, nL_add, nR_add, nL_sub, nR_sub, nI_add, pk_mul, nn_sub, ng1_0, ng1_1, an_0, an_1, i1_0, Nat.add_zero, Nat.zero_add, Nat.mul_one, Nat.mul_zero, bI_z, Bool.true_eq_false, Bool.false_eq_true, tw_isTwin d I1 J C, hi, eT_wanted_9, nI_clamp]
    refine lpf (fun k (a : Int32) => (Run_ (d, mT_wanted, 18, [some (vR (1000, 0, 0)), some (vI (nI j)), some (vI a), some (vI (nI k))], [], (tw I1 J, C)))) (fun a => some (.inl (some (vI a)), (tw I1 J, C))) _ (nkS (aT A)) (fun k a hk => ?_) (fun a => ?_) 0
    · try dsimp only
      have p0 := h2.am (by omega : 2 * k + j < 12)
      have p1 := h2.am (by omega : 2 * k + 1 - j < 12)
      rw [eT_wanted_18]
      simp (disch := omega) only [↓reduceIte, ↓qX_m, ↓qR_m, ↓cI_m, ↓cV_m, ↓cJ_m, ↓cO_m, ↓cR_m, ixq_n, ixq_l, tgq_ok, nL_mul, nR_mul, nL_add, nR_add, nL_sub, nR_sub, nI_add, pk_mul, nn_sub, ng1_0, ng1_1, an_0, an_1, i1_0, Nat.add_zero, Nat.zero_add, Nat.mul_one, Nat.mul_zero, e0, nn_lt, hk, p0, p1, eT_wanted_59]
      by_cases c1 : sAm (aS A).1 (2 * k + j) < sAm (aS A).1 (2 * k + 1 - j)
      · simp only [eq_true c1, eq_self, decide_true, decide_false, cond_true, cond_false, ↓reduceIte]
      · simp only [c1, eq_self, decide_true, decide_false, cond_true, cond_false, ↓reduceIte]
    · try dsimp only
      rw [eT_wanted_18]
      simp (disch := omega) only [↓reduceIte, ↓qX_m, ↓qR_m, ↓cI_m, ↓cV_m, ↓cJ_m, ↓cO_m, ↓cR_m, ixq_n, ixq_l, tgq_ok, nL_mul, nR_mul, nL_add, nR_add, nL_sub, nR_sub, nI_add, pk_mul, nn_sub, ng1_0, ng1_1, an_0, an_1, i1_0, Nat.add_zero, Nat.zero_add, Nat.mul_one, Nat.mul_zero, e0, nn_lt, Nat.lt_irrefl, ↓reduceIte]
  · simp (disch := omega) only [↓reduceIte, ↓qX_m, ↓qR_m, ↓cI_m, ↓cV_m, ↓cJ_m, ↓cO_m, ↓cR_m, ixq_n, ixq_l, tgq_ok, nL_mul, nR_mul, nL_add, nR_add, nL_sub, nR_sub, nI_add, pk_mul, nn_sub, ng1_0, ng1_1, an_0, an_1, i1_0, Nat.add_zero, Nat.zero_add, Nat.mul_one, Nat.mul_zero, bI_z, Bool.true_eq_false, Bool.false_eq_true, tw_isTwin d I1 J C, hi, eT_wanted_9]
