/-! THE TWIN's calls that only look -/
def opFault (A : Ab_) (w : Int32) : Int32 := if w = 0 then aFk A else if w = 1 then aFp A else -1
def opNamed (A : Ab_) (w l : Int32) : Int32 := if w = 0 then fndT (aT A) 1004 (nkS (aT A)) l else if w = 1 then fndT (aT A) 1008 (ndS (aT A)) l else -1
def opKind (A : Ab_) (k w : Int32) : Int32 := if isS k (nkS (aT A)) = true then (if w = 0 then aT A 1005 (ixS k) else if w = 1 then aT A 1006 (ixS k) else if w = 2 then gapS (aS A).1 (ixS k) else -1) else -1
def opDeed (A : Ab_) (k w : Int32) : Int32 := if isS k (ndS (aT A)) = true then (if w = 0 then aT A 1009 (ixS k) else if w = 1 then aT A 1010 (ixS k) else if w = 2 then aT A 1011 (ixS k) else if w = 3 then aT A 1012 (ixS k) else -2147483648) else -2147483648
def opDone (A : Ab_) (k w : Int32) : Int32 := if isS k (npS (aT A)) = true then (if w = 0 then aT A 1013 (ixS k) else if w = 1 then aT A 1014 (ixS k) else if w = 2 then aT A 1015 (ixS k) else if w = 3 then sRe (aS A).1 (ixS k) else -1) else -1
def opTwin (A : Ab_) (t w : Int32) : Int32 := if tnS t = true then (if w = 0 then sPu (aS A).1 (ixS t) else if w = 1 then aT A 1017 (2 + ixS t) else if w = 2 then hapS (aT A) (aS A).1 (ixS t) else -2147483648) else -2147483648
def opApart (A : Ab_) : Int32 := aptS (aT A) (aL A) om0 (aS A).1
def knM (A : Ab_) : Nat := if aKn A < 0 then aTn A else ixS (aKn A)
def opCount (A : Ab_) (w : Int32) : Int32 := if w = 0 then aT A 1000 12 else if w = 1 then aT A 1000 13 else if w = 2 then aT A 1000 14 else if w = 3 then aT A 1000 15 else if w = 4 then sDy (aS A).1 else if w = 5 then sLv (aS A).1 else if w = 6 then resS (aT A) (aS A).1 1 else if w = 7 then resS (aT A) (aS A).1 2 else if w = 8 then resS (aT A) (aS A).1 3 else if w = 9 then nI (aTn A) else if w = 10 then nI (knM A) else if w = 11 then nI (aUn A) else -1
variable {A : Ab_} {I : FI_} {J : FJ_}
theorem to_fault (d : Nat) (C : C_) (w : Int32) (h : TWd A I J) : TOut A (vI (opFault A w)) C (Run_ (d, mT_fault, 0, [some (vR (1000, 0, 0)), some (vI w)], [], (tw I J, C))) := by
  refine TOut.mk (I' := u2 I 1000 2 0) (J' := J) ?_ (h.th 0)
  obtain ⟨e1, e2⟩ := h.2.2.2.2.2.2.2.2.1
  simp (disch := omega) only [eT_fault_0, eT_fault_29, u2_k, e1, e2]
  unfold opFault
  by_cases y0 : w = 0
  · simp (disch := omega) only [eq_true y0, eq_self, decide_true, decide_false, cond_true, cond_false, ↓reduceIte]
  by_cases y1 : w = 1
  · simp (disch := omega) only [y0, eq_true y1, eq_self, decide_true, decide_false, cond_true, cond_false, ↓reduceIte]
  simp (disch := omega) only [y0, y1, eq_self, decide_true, decide_false, cond_true, cond_false, ↓reduceIte]
theorem tw_find (d : Nat) (C : C_) {T from_ m N : Nat} (l : Int32) (f : Nat → Int32) (hT : 1000 ≤ T) (hk : ak_ T = 1) (hm : from_ + m ≤ N) (hN : N < 1000) (hf : ∀ k, k < m → I T (from_ + k) = f k) : (Run_ (d, mT_find, 0, [some (vR (T, N, 0)), some (vI (nI from_)), some (vI (nI m)), some (vI l), none], [], (tw I J, C))) = some (.inl (some (vI (fnd (fun k => decide (f k = l)) 0 m))), (tw I J, C)) := by
  rw [eT_find_0]
  refine lpd (fun k => (Run_ (d, mT_find, 3, [some (vR (T, N, 0)), some (vI (nI from_)), some (vI (nI m)), some (vI l), some (vI (nI k))], [], (tw I J, C)))) (fun x => some (.inl (some (vI x)), (tw I J, C))) (fun k => decide (f k = l)) m (fun k hk2 => ?_) ?_
  · try dsimp only
    have e0 : hI (tw I J, C) (T, N, 0) (from_ + k) = f k := by
      have c1 : Nat.blt T 100 = false := by rw [← Bool.not_eq_true, Nat.blt_eq]; omega
      have c2 : Nat.blt T 1000 = false := by rw [← Bool.not_eq_true, Nat.blt_eq]; omega
      show (bif Nat.blt T 100 then _ else bif Nat.blt T 1000 then _ else I T (from_ + k)) = _
      rw [c1, c2]
      exact hf k hk2
    rw [eT_find_3]
    unfold qK
    simp (disch := omega) only [↓reduceIte, ↓qX_m, ↓qR_m, ↓cI_m, ↓cV_m, ↓cJ_m, ↓cO_m, ↓cR_m, ixq_n, ixq_l, tgq_ok, nL_mul, nR_mul, nL_add, nR_add, nL_sub, nR_sub, nI_add, pk_mul, nn_sub, ng1_0, ng1_1, an_0, an_1, i1_0, Nat.add_zero, Nat.zero_add, Nat.mul_one, Nat.mul_zero, nn_lt, hk2, hk, e0]
    by_cases c : f k = l
    · simp only [c, eq_self, decide_true, decide_false, cond_true, cond_false, ↓reduceIte, Nat.beq, Bool.true_or]
    · simp only [c, eq_self, decide_true, decide_false, cond_true, cond_false, ↓reduceIte, Nat.beq, Bool.true_or]
  · try dsimp only
    rw [eT_find_3]
    simp (disch := omega) only [↓reduceIte, ↓qX_m, ↓qR_m, ↓cI_m, ↓cV_m, ↓cJ_m, ↓cO_m, ↓cR_m, ixq_n, ixq_l, tgq_ok, nL_mul, nR_mul, nL_add, nR_add, nL_sub, nR_sub, nI_add, pk_mul, nn_sub, ng1_0, ng1_1, an_0, an_1, i1_0, Nat.add_zero, Nat.zero_add, Nat.mul_one, Nat.mul_zero, nn_lt, Nat.lt_irrefl, ↓reduceIte]
theorem to_kind (d : Nat) (C : C_) (k w : Int32) (ok : AbOk A) (h : TWd A I J) : TOut A (vI (opKind A k w)) C (Run_ (d, mT_kind, 0, [some (vR (1000, 0, 0)), some (vI k), some (vI w)], [], (tw I J, C))) := by
  have h2 := h.th 0
  have h6 := ok.1.k6.2
  rw [eT_kind_0]
  generalize u2 I 1000 2 0 = I1 at h2 ⊢
  refine TOut.mk ?_ h2
  unfold opKind
  rcases isS_or k (n := nkS (aT A)) (by omega) with ⟨j, hj, hk, hi⟩ | hi
  · have e1 : I1 1005 j = aT A 1005 j := h2.1 _ _ (by unfold tcell; omega)
    have e2 : I1 1006 j = aT A 1006 j := h2.1 _ _ (by unfold tcell; omega)
    have eg : (Run_ (d, mT_gapOf, 0, [some (vR (1000, 0, 0)), some (vI 0), some (vI (nI j))], [], (tw I1 J, C))) = _ := tw_gap (b := 0) d I1 J C (by omega) (by omega : j < 6) h2.2.2.1
    subst hk
    simp (disch := omega) only [↓reduceIte, ↓qX_m, ↓qR_m, ↓cI_m, ↓cV_m, ↓cJ_m, ↓cO_m, ↓cR_m, ixq_n, ixq_l, tgq_ok, nL_mul, nR_mul, nL_add, nR_add, nL_sub, nR_sub, nI_add, pk_mul, nn_sub, ng1_0, ng1_1, an_0, an_1, i1_0, Nat.add_zero, Nat.zero_add, Nat.mul_one, Nat.mul_zero, bI_z, Bool.true_eq_false, Bool.false_eq_true, tw_isKind d I1 J C _ ok.1 h2.1, hi, eT_kind_10, nI_clamp]
    by_cases y0 : w = 0
    · simp (disch := omega) only [eq_true y0, ↓reduceIte, ↓qX_m, ↓qR_m, ↓cI_m, ↓cV_m, ↓cJ_m, ↓cO_m, ↓cR_m, ixq_n, ixq_l, tgq_ok, nL_mul, nR_mul, nL_add, nR_add, nL_sub, nR_sub, nI_add, pk_mul, nn_sub, ng1_0, ng1_1, an_0, an_1, i1_0, Nat.add_zero, Nat.zero_add, Nat.mul_one, Nat.mul_zero, e1, e2, eg, eT_kind_53, eT_kind_57]
    by_cases y1 : w = 1
    · simp (disch := omega) only [y0, eq_true y1, ↓reduceIte, ↓qX_m, ↓qR_m, ↓cI_m, ↓cV_m, ↓cJ_m, ↓cO_m, ↓cR_m, ixq_n, ixq_l, tgq_ok, nL_mul, nR_mul, nL_add, nR_add, nL_sub, nR_sub, nI_add, pk_mul, nn_sub, ng1_0, ng1_1, an_0, an_1, i1_0, Nat.add_zero, Nat.zero_add, Nat.mul_one, Nat.mul_zero, e1, e2, eg, eT_kind_53, eT_kind_57]
    by_cases y2 : w = 2
    · simp (disch := omega) only [y0, y1, eq_true y2, ↓reduceIte, ↓qX_m, ↓qR_m, ↓cI_m, ↓cV_m, ↓cJ_m, ↓cO_m, ↓cR_m, ixq_n, ixq_l, tgq_ok, nL_mul, nR_mul, nL_add, nR_add, nL_sub, nR_sub, nI_add, pk_mul, nn_sub, ng1_0, ng1_1, an_0, an_1, i1_0, Nat.add_zero, Nat.zero_add, Nat.mul_one, Nat.mul_zero, e1, e2, eg, eT_kind_53, eT_kind_57]
    simp (disch := omega) only [y0, y1, y2, ↓reduceIte, ↓qX_m, ↓qR_m, ↓cI_m, ↓cV_m, ↓cJ_m, ↓cO_m, ↓cR_m, ixq_n, ixq_l, tgq_ok, nL_mul, nR_mul, nL_add, nR_add, nL_sub, nR_sub, nI_add, pk_mul, nn_sub, ng1_0, ng1_1, an_0, an_1, i1_0, Nat.add_zero, Nat.zero_add, Nat.mul_one, Nat.mul_zero, e1, e2, eg, eT_kind_53, eT_kind_57]
  · simp (disch := omega) only [↓reduceIte, ↓qX_m, ↓qR_m, ↓cI_m, ↓cV_m, ↓cJ_m, ↓cO_m, ↓cR_m, ixq_n, ixq_l, tgq_ok, nL_mul, nR_mul, nL_add, nR_add, nL_sub, nR_sub, nI_add, pk_mul, nn_sub, ng1_0, ng1_1, an_0, an_1, i1_0, Nat.add_zero, Nat.zero_add, Nat.mul_one, Nat.mul_zero, bI_z, Bool.true_eq_false, Bool.false_eq_true, tw_isKind d I1 J C _ ok.1 h2.1, hi, eT_kind_10]
theorem to_deed (d : Nat) (C : C_) (k w : Int32) (ok : AbOk A) (h : TWd A I J) : TOut A (vI (opDeed A k w)) C (Run_ (d, mT_deed, 0, [some (vR (1000, 0, 0)), some (vI k), some (vI w)], [], (tw I J, C))) := by
  have h2 := h.th 0
  have h8 := ok.1.d8.2
  rw [eT_deed_0]
  generalize u2 I 1000 2 0 = I1 at h2 ⊢
  refine TOut.mk ?_ h2
  unfold opDeed
  rcases isS_or k (n := ndS (aT A)) (by omega) with ⟨j, hj, hk, hi⟩ | hi
  · have e : ∀ t, 1009 ≤ t → t ≤ 1012 → I1 t j = aT A t j := fun t a b => h2.1 _ _ (by unfold tcell; omega)
    subst hk
    simp (disch := omega) only [↓reduceIte, ↓qX_m, ↓qR_m, ↓cI_m, ↓cV_m, ↓cJ_m, ↓cO_m, ↓cR_m, ixq_n, ixq_l, tgq_ok, nL_mul, nR_mul, nL_add, nR_add, nL_sub, nR_sub, nI_add, pk_mul, nn_sub, ng1_0, ng1_1, an_0, an_1, i1_0, Nat.add_zero, Nat.zero_add, Nat.mul_one, Nat.mul_zero, bI_z, Bool.true_eq_false, Bool.false_eq_true, tw_isDeed d I1 J C _ ok.1 h2.1, hi, eT_deed_10, nI_clamp]
    by_cases y0 : w = 0
    · simp (disch := omega) only [eq_true y0, ↓reduceIte, ↓qX_m, ↓qR_m, ↓cI_m, ↓cV_m, ↓cJ_m, ↓cO_m, ↓cR_m, ixq_n, ixq_l, tgq_ok, nL_mul, nR_mul, nL_add, nR_add, nL_sub, nR_sub, nI_add, pk_mul, nn_sub, ng1_0, ng1_1, an_0, an_1, i1_0, Nat.add_zero, Nat.zero_add, Nat.mul_one, Nat.mul_zero, e, eT_deed_48, eT_deed_55, eT_deed_62, eT_deed_69, eT_deed_76]
    by_cases y1 : w = 1
    · simp (disch := omega) only [y0, eq_true y1, ↓reduceIte, ↓qX_m, ↓qR_m, ↓cI_m, ↓cV_m, ↓cJ_m, ↓cO_m, ↓cR_m, ixq_n, ixq_l, tgq_ok, nL_mul, nR_mul, nL_add, nR_add, nL_sub, nR_sub, nI_add, pk_mul, nn_sub, ng1_0, ng1_1, an_0, an_1, i1_0, Nat.add_zero, Nat.zero_add, Nat.mul_one, Nat.mul_zero, e, eT_deed_48, eT_deed_55, eT_deed_62, eT_deed_69, eT_deed_76]
    by_cases y2 : w = 2
    · simp (disch := omega) only [y0, y1, eq_true y2, ↓reduceIte, ↓qX_m, ↓qR_m, ↓cI_m, ↓cV_m, ↓cJ_m, ↓cO_m, ↓cR_m, ixq_n, ixq_l, tgq_ok, nL_mul, nR_mul, nL_add, nR_add, nL_sub, nR_sub, nI_add, pk_mul, nn_sub, ng1_0, ng1_1, an_0, an_1, i1_0, Nat.add_zero, Nat.zero_add, Nat.mul_one, Nat.mul_zero, e, eT_deed_48, eT_deed_55, eT_deed_62, eT_deed_69, eT_deed_76]
    by_cases y3 : w = 3
    · simp (disch := omega) only [y0, y1, y2, eq_true y3, ↓reduceIte, ↓qX_m, ↓qR_m, ↓cI_m, ↓cV_m, ↓cJ_m, ↓cO_m, ↓cR_m, ixq_n, ixq_l, tgq_ok, nL_mul, nR_mul, nL_add, nR_add, nL_sub, nR_sub, nI_add, pk_mul, nn_sub, ng1_0, ng1_1, an_0, an_1, i1_0, Nat.add_zero, Nat.zero_add, Nat.mul_one, Nat.mul_zero, e, eT_deed_48, eT_deed_55, eT_deed_62, eT_deed_69, eT_deed_76]
    simp (disch := omega) only [y0, y1, y2, y3, ↓reduceIte, ↓qX_m, ↓qR_m, ↓cI_m, ↓cV_m, ↓cJ_m, ↓cO_m, ↓cR_m, ixq_n, ixq_l, tgq_ok, nL_mul, nR_mul, nL_add, nR_add, nL_sub, nR_sub, nI_add, pk_mul, nn_sub, ng1_0, ng1_1, an_0, an_1, i1_0, Nat.add_zero, Nat.zero_add, Nat.mul_one, Nat.mul_zero, e, eT_deed_48, eT_deed_55, eT_deed_62, eT_deed_69, eT_deed_76]
  · simp (disch := omega) only [↓reduceIte, ↓qX_m, ↓qR_m, ↓cI_m, ↓cV_m, ↓cJ_m, ↓cO_m, ↓cR_m, ixq_n, ixq_l, tgq_ok, nL_mul, nR_mul, nL_add, nR_add, nL_sub, nR_sub, nI_add, pk_mul, nn_sub, ng1_0, ng1_1, an_0, an_1, i1_0, Nat.add_zero, Nat.zero_add, Nat.mul_one, Nat.mul_zero, bI_z, Bool.true_eq_false, Bool.false_eq_true, tw_isDeed d I1 J C _ ok.1 h2.1, hi, eT_deed_10]
theorem to_twin (d : Nat) (C : C_) (k w : Int32) (ok : AbOk A) (h : TWd A I J) : TOut A (vI (opTwin A k w)) C (Run_ (d, mT_twin, 0, [some (vR (1000, 0, 0)), some (vI k), some (vI w)], [], (tw I J, C))) := by
  have h2 := h.th 0
  rw [eT_twin_0]
  generalize u2 I 1000 2 0 = I1 at h2 ⊢
  refine TOut.mk ?_ h2
  unfold opTwin
  rcases tnS_or k with ⟨j, hj, hk, hi⟩ | hi
  · have e1 : I1 1029 j = sPu (aS A).1 j := by have := h2.2.2.1.2.1 j hj; rw [Nat.mul_zero, Nat.zero_add] at this; exact this
    have e2 : I1 1017 (2 + j) = aT A 1017 (2 + j) := h2.1 _ _ (by unfold tcell; omega)
    have e3 : (Run_ (d, mT_happyOf, 0, [some (vR (1000, 0, 0)), some (vI 0), some (vI (nI j)), none, none], [], (tw I1 J, C))) = _ := tw_happy (b := 0) d I1 J C (by omega) hj ok.1 h2.1 h2.2.2.1
    subst hk
    simp (disch := omega) only [↓reduceIte, ↓qX_m, ↓qR_m, ↓cI_m, ↓cV_m, ↓cJ_m, ↓cO_m, ↓cR_m, ixq_n, ixq_l, tgq_ok, nL_mul, nR_mul, nL_add, nR_add, nL_sub, nR_sub, nI_add, pk_mul, nn_sub, ng1_0, ng1_1, an_0, an_1, i1_0, Nat.add_zero, Nat.zero_add, Nat.mul_one, Nat.mul_zero, bI_z, Bool.true_eq_false, Bool.false_eq_true, tw_isTwin d I1 J C, hi, eT_twin_9, nI_clamp]
    by_cases y0 : w = 0
    · simp (disch := omega) only [eq_true y0, ↓reduceIte, ↓qX_m, ↓qR_m, ↓cI_m, ↓cV_m, ↓cJ_m, ↓cO_m, ↓cR_m, ixq_n, ixq_l, tgq_ok, nL_mul, nR_mul, nL_add, nR_add, nL_sub, nR_sub, nI_add, pk_mul, nn_sub, ng1_0, ng1_1, an_0, an_1, i1_0, Nat.add_zero, Nat.zero_add, Nat.mul_one, Nat.mul_zero, e1, e2, e3, eT_twin_56, eT_twin_62]
    by_cases y1 : w = 1
    · simp (disch := omega) only [y0, eq_true y1, ↓reduceIte, ↓qX_m, ↓qR_m, ↓cI_m, ↓cV_m, ↓cJ_m, ↓cO_m, ↓cR_m, ixq_n, ixq_l, tgq_ok, nL_mul, nR_mul, nL_add, nR_add, nL_sub, nR_sub, nI_add, pk_mul, nn_sub, ng1_0, ng1_1, an_0, an_1, i1_0, Nat.add_zero, Nat.zero_add, Nat.mul_one, Nat.mul_zero, e1, e2, e3, eT_twin_56, eT_twin_62]
    by_cases y2 : w = 2
    · simp (disch := omega) only [y0, y1, eq_true y2, ↓reduceIte, ↓qX_m, ↓qR_m, ↓cI_m, ↓cV_m, ↓cJ_m, ↓cO_m, ↓cR_m, ixq_n, ixq_l, tgq_ok, nL_mul, nR_mul, nL_add, nR_add, nL_sub, nR_sub, nI_add, pk_mul, nn_sub, ng1_0, ng1_1, an_0, an_1, i1_0, Nat.add_zero, Nat.zero_add, Nat.mul_one, Nat.mul_zero, e1, e2, e3, eT_twin_56, eT_twin_62]
    simp (disch := omega) only [y0, y1, y2, ↓reduceIte, ↓qX_m, ↓qR_m, ↓cI_m, ↓cV_m, ↓cJ_m, ↓cO_m, ↓cR_m, ixq_n, ixq_l, tgq_ok, nL_mul, nR_mul, nL_add, nR_add, nL_sub, nR_sub, nI_add, pk_mul, nn_sub, ng1_0, ng1_1, an_0, an_1, i1_0, Nat.add_zero, Nat.zero_add, Nat.mul_one, Nat.mul_zero, e1, e2, e3, eT_twin_56, eT_twin_62]
  · simp (disch := omega) only [↓reduceIte, ↓qX_m, ↓qR_m, ↓cI_m, ↓cV_m, ↓cJ_m, ↓cO_m, ↓cR_m, ixq_n, ixq_l, tgq_ok, nL_mul, nR_mul, nL_add, nR_add, nL_sub, nR_sub, nI_add, pk_mul, nn_sub, ng1_0, ng1_1, an_0, an_1, i1_0, Nat.add_zero, Nat.zero_add, Nat.mul_one, Nat.mul_zero, bI_z, Bool.true_eq_false, Bool.false_eq_true, tw_isTwin d I1 J C, hi, eT_twin_9]
theorem to_apart (d : Nat) (C : C_) (ok : AbOk A) (h : TWd A I J) : TOut A (vI (opApart A)) C (Run_ (d, mT_apart, 0, [some (vR (1000, 0, 0))], [], (tw I J, C))) := by
  have h2 := h.th 0
  rw [eT_apart_0]
  generalize u2 I 1000 2 0 = I1 at h2 ⊢
  obtain ⟨I2, r2, o2, f2⟩ := tw_plain d I1 J C
  have h3 := h2.fr (J' := J) (f2.wk fun t k q => Or.inr q) o2 rfl rfl
  obtain ⟨I3, J3, r3, f3, g3⟩ := tw_apart (b := 0) d I2 J C (by omega) ok.1 ok.2.1 (h3.td ok)
  have r3' : (Run_ (d, mT_apartOf, 0, [some (vR (1000, 0, 0)), some (vI 0), none, none], [], (tw I2 J, C))) = _ := r3
  refine TOut.mk ?_ (h3.fr (f3.wk fun t k q => Or.inl (by unfold zcell; omega)) (o2.fr f3 (fun k a b => by omega)) (g3 _) (g3 _))
  simp (disch := omega) only [↓reduceIte, ↓qX_m, ↓qR_m, ↓cI_m, ↓cV_m, ↓cJ_m, ↓cO_m, ↓cR_m, ixq_n, ixq_l, tgq_ok, nL_mul, nR_mul, nL_add, nR_add, nL_sub, nR_sub, nI_add, pk_mul, nn_sub, ng1_0, ng1_1, an_0, an_1, i1_0, Nat.add_zero, Nat.zero_add, Nat.mul_one, Nat.mul_zero, r2, r3', eT_apart_9, eT_apart_14]
  rfl
