/-! THE TWIN's tokens -/
theorem u2_id {α β : Type} [DecidableEq α] (f : α → Nat → β) (a : α) (k : Nat) (x : β) (h : f a k = x) : u2 f a k x = f := by
  funext a' k'
  unfold u2
  by_cases q : a' = a ∧ k' = k
  · rw [if_pos q, q.1, q.2]; exact h.symm
  · rw [if_neg q]
/-- the tape, as it is read -/
def TRd (b : Nat → Nat) (n : Nat) (I : FI_) : Prop := I 1000 6 = nI n ∧ (∀ k, k < n → I 1001 k = nI (b k)) ∧ TWo I
variable {b : Nat → Nat} {n : Nat}
theorem TRd.u {I : FI_} (h : TRd b n I) (k : Nat) (x : Int32) (hk : 6 ≠ k) : TRd b n (u2 I 1000 k x) :=
  ⟨by rw [u2_k _ _ _ _ hk]; exact h.1, fun j hj => by rw [u2_t _ _ _ _ (by omega)]; exact h.2.1 j hj, fun i hi => by rw [u2_t _ _ _ _ (by omega)]; exact h.2.2 i hi⟩
theorem tw_small (d : Nat) (I : FI_) (J : FJ_) (C : C_) {p : Nat} (hn : n ≤ 700) (hp : p ≤ n) (h256 : ∀ k, b k < 256) (h : TRd b n I) : (Run_ (d, mT_isSmall, 0, [some (vR (1000, 0, 0)), some (vI (nI p))], [], (tw I J, C))) = some (.inl (some (vI (bI (sml b n p)))), (tw I J, C)) := by
  unfold sml
  by_cases c : p < n
  · have e := h.2.1 p c
    have h2 := h256 p
    simp (disch := omega) only [eT_isSmall_0, eT_isSmall_34, eT_isSmall_35, ↓reduceIte, ↓qX_m, ↓qR_m, ↓cI_m, ↓cV_m, ↓cJ_m, ↓cO_m, ↓cR_m, ixq_n, ixq_l, tgq_ok, nL_mul, nR_mul, nL_add, nR_add, nL_sub, nR_sub, nI_add, pk_mul, nn_sub, ng1_0, ng1_1, an_0, an_1, i1_0, Nat.add_zero, Nat.zero_add, Nat.mul_one, Nat.mul_zero, hI_cg, hP_cg, hJ_cg, wI_cg, wP_cg, wJ_cg, h.1, nn_lt, c, e, nR_lt, nL_lt]
    by_cases c1 : b p < 97
    · simp only [c1, eq_self, decide_true, decide_false, cond_true, cond_false, ↓reduceIte, decide_true]; rfl
    · by_cases c2 : 122 < b p
      · simp only [c1, c2, eq_self, decide_true, decide_false, cond_true, cond_false, ↓reduceIte]; rfl
      · simp only [c1, c2, eq_self, decide_true, decide_false, cond_true, cond_false, ↓reduceIte]; rfl
  · simp (disch := omega) only [eT_isSmall_0, eT_isSmall_34, eT_isSmall_35, ↓reduceIte, ↓qX_m, ↓qR_m, ↓cI_m, ↓cV_m, ↓cJ_m, ↓cO_m, ↓cR_m, ixq_n, ixq_l, tgq_ok, nL_mul, nR_mul, nL_add, nR_add, nL_sub, nR_sub, nI_add, pk_mul, nn_sub, ng1_0, ng1_1, an_0, an_1, i1_0, Nat.add_zero, Nat.zero_add, Nat.mul_one, Nat.mul_zero, hI_cg, hP_cg, hJ_cg, wI_cg, wP_cg, wJ_cg, h.1, nn_lt, c]
    rfl
theorem tw_digit (d : Nat) (I : FI_) (J : FJ_) (C : C_) {p : Nat} (hn : n ≤ 700) (hp : p ≤ n) (h256 : ∀ k, b k < 256) (h : TRd b n I) : (Run_ (d, mT_isDigit, 0, [some (vR (1000, 0, 0)), some (vI (nI p))], [], (tw I J, C))) = some (.inl (some (vI (bI (dgt b n p)))), (tw I J, C)) := by
  unfold dgt
  by_cases c : p < n
  · have e := h.2.1 p c
    have h2 := h256 p
    simp (disch := omega) only [eT_isDigit_0, eT_isDigit_34, eT_isDigit_35, ↓reduceIte, ↓qX_m, ↓qR_m, ↓cI_m, ↓cV_m, ↓cJ_m, ↓cO_m, ↓cR_m, ixq_n, ixq_l, tgq_ok, nL_mul, nR_mul, nL_add, nR_add, nL_sub, nR_sub, nI_add, pk_mul, nn_sub, ng1_0, ng1_1, an_0, an_1, i1_0, Nat.add_zero, Nat.zero_add, Nat.mul_one, Nat.mul_zero, hI_cg, hP_cg, hJ_cg, wI_cg, wP_cg, wJ_cg, h.1, nn_lt, c, e, nR_lt, nL_lt]
    by_cases c1 : b p < 48
    · simp only [c1, eq_self, decide_true, decide_false, cond_true, cond_false, ↓reduceIte, decide_true]; rfl
    · by_cases c2 : 57 < b p
      · simp only [c1, c2, eq_self, decide_true, decide_false, cond_true, cond_false, ↓reduceIte]; rfl
      · simp only [c1, c2, eq_self, decide_true, decide_false, cond_true, cond_false, ↓reduceIte]; rfl
  · simp (disch := omega) only [eT_isDigit_0, eT_isDigit_34, eT_isDigit_35, ↓reduceIte, ↓qX_m, ↓qR_m, ↓cI_m, ↓cV_m, ↓cJ_m, ↓cO_m, ↓cR_m, ixq_n, ixq_l, tgq_ok, nL_mul, nR_mul, nL_add, nR_add, nL_sub, nR_sub, nI_add, pk_mul, nn_sub, ng1_0, ng1_1, an_0, an_1, i1_0, Nat.add_zero, Nat.zero_add, Nat.mul_one, Nat.mul_zero, hI_cg, hP_cg, hJ_cg, wI_cg, wP_cg, wJ_cg, h.1, nn_lt, c]
    rfl
/-- a word sought -/
theorem tw_word (d : Nat) (I : FI_) (J : FJ_) (C : C_) {q e : Nat} (hn : n ≤ 700) (hq : q ≤ e) (he : e ≤ n) (h256 : ∀ k, b k < 256) (h : TRd b n I) : (Run_ (d, mT_wordAt, 0, [some (vR (1000, 0, 0)), some (vI (nI q)), some (vI (nI e)), none, none, none, none, none], [], (tw I J, C))) = some (.inl (some (vI (fnd (fun k => wmt b q e (swp k)) 0 21))), (tw I J, C)) := by
  rw [eT_wordAt_0]
  -- the letters of one word against the tape
  have cmp : ∀ k, k < 21 → wlen (swp k) ≤ e - q → ∀ (m j : Nat), j + m = wlen (swp k) → (Run_ (d, mT_wordAt, 57, [some (vR (1000, 0, 0)), some (vI (nI q)), some (vI (nI e)), some (vI (nI k)), some (vI (nI (wof k))), some (vI (nI (wlen (swp k)))), some (vI 1), some (vI (nI j))], [], (tw I J, C))) = (Run_ (d, mT_wordAt, 104, [some (vR (1000, 0, 0)), some (vI (nI q)), some (vI (nI e)), some (vI (nI k)), some (vI (nI (wof k))), some (vI (nI (wlen (swp k)))), some (vI (bI (alb (fun i => decide (wch (swp k) i = b (q + i))) j m))), none], [], (tw I J, C))) := by
    intro k hk hle m
    obtain ⟨s1, s2, s3, s4⟩ := wof_s k hk
    induction m with
    | zero =>
      intro j hj
      have e0 : j = wlen (swp k) := by omega
      rw [eT_wordAt_57]
      simp (disch := omega) only [↓reduceIte, ↓qX_m, ↓qR_m, ↓cI_m, ↓cV_m, ↓cJ_m, ↓cO_m, ↓cR_m, ixq_n, ixq_l, tgq_ok, nL_mul, nR_mul, nL_add, nR_add, nL_sub, nR_sub, nI_add, pk_mul, nn_sub, ng1_0, ng1_1, an_0, an_1, i1_0, Nat.add_zero, Nat.zero_add, Nat.mul_one, Nat.mul_zero, hI_cg, hP_cg, hJ_cg, wI_cg, wP_cg, wJ_cg, e0, nn_lt, Nat.lt_irrefl, ↓reduceIte]
      rfl
    | succ m ih =>
      intro j hj
      obtain ⟨w1, w2⟩ := wof_c k hk j (by omega)
      have e1 : I 1002 (wof k + j) = nI (wch (swp k) j) := by rw [h.2.2 _ (by omega), w1]
      have e2 : I 1001 (q + j) = nI (b (q + j)) := h.2.1 _ (by omega)
      have h3 := h256 (q + j)
      have hj2 : j < wlen (swp k) := by omega
      have hw : wch (swp k) j < 2147483648 := by
        have : ∀ k, k < 21 → ∀ j, j < wlen (swp k) → wch (swp k) j < 256 := by decide
        have := this k hk j hj2
        omega
      rw [eT_wordAt_57]
      simp (disch := omega) only [↓reduceIte, ↓qX_m, ↓qR_m, ↓cI_m, ↓cV_m, ↓cJ_m, ↓cO_m, ↓cR_m, ixq_n, ixq_l, tgq_ok, nL_mul, nR_mul, nL_add, nR_add, nL_sub, nR_sub, nI_add, pk_mul, nn_sub, ng1_0, ng1_1, an_0, an_1, i1_0, Nat.add_zero, Nat.zero_add, Nat.mul_one, Nat.mul_zero, hI_cg, hP_cg, hJ_cg, wI_cg, wP_cg, wJ_cg, nn_lt, hj2, e1, e2, nn_eq, eT_wordAt_96]
      show _ = (Run_ (d, mT_wordAt, 104, [some (vR (1000, 0, 0)), some (vI (nI q)), some (vI (nI e)), some (vI (nI k)), some (vI (nI (wof k))), some (vI (nI (wlen (swp k)))), some (vI (bI (decide (wch (swp k) j = b (q + j)) && alb (fun i => decide (wch (swp k) i = b (q + i))) (j + 1) m))), none], [], (tw I J, C)))
      by_cases c : wch (swp k) j = b (q + j)
      · simp only [c, eq_self, decide_true, decide_false, cond_true, cond_false, ↓reduceIte, Bool.true_and]
        exact ih (j + 1) (by omega)
      · simp only [c, eq_self, decide_true, decide_false, cond_true, cond_false, ↓reduceIte, Bool.false_and]
        rw [eT_wordAt_57]
        simp only [↓reduceIte]
        split <;> rfl
  -- one word's length
  have len : ∀ k, k < 21 → ∀ (m j : Nat), j + m = wlen (swp k) → (Run_ (d, mT_wordAt, 18, [some (vR (1000, 0, 0)), some (vI (nI q)), some (vI (nI e)), some (vI (nI k)), some (vI (nI (wof k))), some (vI (nI j)), none, none], [], (tw I J, C))) = (Run_ (d, mT_wordAt, 18, [some (vR (1000, 0, 0)), some (vI (nI q)), some (vI (nI e)), some (vI (nI k)), some (vI (nI (wof k))), some (vI (nI (wlen (swp k)))), none, none], [], (tw I J, C))) := by
    intro k hk m
    obtain ⟨s1, s2, s3, s4⟩ := wof_s k hk
    induction m with
    | zero => intro j hj; rw [show j = wlen (swp k) from by omega]
    | succ m ih =>
      intro j hj
      obtain ⟨w1, w2⟩ := wof_c k hk j (by omega)
      have e1 : I 1002 (wof k + j) = nI (wdT.getD (wof k + j) 0) := h.2.2 _ (by omega)
      have hlt : wdT.getD (wof k + j) 0 < 256 := by
        have : ∀ i, i < 100 → wdT.getD i 0 < 256 := by decide
        exact this _ (by omega)
      rw [← ih (j + 1) (by omega), eT_wordAt_18]
      simp (disch := omega) only [↓reduceIte, ↓qX_m, ↓qR_m, ↓cI_m, ↓cV_m, ↓cJ_m, ↓cO_m, ↓cR_m, ixq_n, ixq_l, tgq_ok, nL_mul, nR_mul, nL_add, nR_add, nL_sub, nR_sub, nI_add, pk_mul, nn_sub, ng1_0, ng1_1, an_0, an_1, i1_0, Nat.add_zero, Nat.zero_add, Nat.mul_one, Nat.mul_zero, hI_cg, hP_cg, hJ_cg, wI_cg, wP_cg, wJ_cg, e1, nR_eq, w2]
  have := lpd (fun k => (Run_ (d, mT_wordAt, 5, [some (vR (1000, 0, 0)), some (vI (nI q)), some (vI (nI e)), some (vI (nI k)), some (vI (nI (wof k))), none, none, none], [], (tw I J, C)))) (fun x => some (.inl (some (vI x)), (tw I J, C))) (fun k => wmt b q e (swp k)) 21 (fun k hk => ?_) ?_
  · exact this
  · try dsimp only
    obtain ⟨s1, s2, s3, s4⟩ := wof_s k hk
    have e1 : I 1002 (wof k + wlen (swp k)) = 32 := by rw [h.2.2 _ (by omega), s1]; rfl
    have hlt : wof k < 100 := by omega
    have i100 : (nI (wof k) < nI 100) = True := by rw [nn_lt (by omega) (by omega)]; exact eq_true hlt
    have ee : nI e - nI q = nI (e - q) := nn_sub hq
    rw [eT_wordAt_5]
    simp only [i100, ↓reduceIte]
    rw [show ((Run_ (d, mT_wordAt, 18, [some (vR (1000, 0, 0)), some (vI (nI q)), some (vI (nI e)), some (vI (nI k)), some (vI (nI (wof k))), some (vI 0), none, none], [], (tw I J, C))) = _) from len k hk (wlen (swp k)) 0 (by omega), eT_wordAt_18]
    simp (disch := omega) only [↓reduceIte, ↓qX_m, ↓qR_m, ↓cI_m, ↓cV_m, ↓cJ_m, ↓cO_m, ↓cR_m, ixq_n, ixq_l, tgq_ok, nL_mul, nR_mul, nL_add, nR_add, nL_sub, nR_sub, nI_add, pk_mul, nn_sub, ng1_0, ng1_1, an_0, an_1, i1_0, Nat.add_zero, Nat.zero_add, Nat.mul_one, Nat.mul_zero, hI_cg, hP_cg, hJ_cg, wI_cg, wP_cg, wJ_cg, e1, ee, nn_eq, eT_wordAt_52]
    unfold wmt
    by_cases c : wlen (swp k) = e - q
    · simp only [c, eq_self, decide_true, decide_false, cond_true, cond_false, ↓reduceIte, Bool.true_and]
      have c2 := cmp k hk (by omega) (wlen (swp k)) 0 (by omega)
      rw [c] at c2
      rw [show ((Run_ (d, mT_wordAt, 57, [some (vR (1000, 0, 0)), some (vI (nI q)), some (vI (nI e)), some (vI (nI k)), some (vI (nI (wof k))), some (vI (nI (e - q))), some (vI 1), some (vI 0)], [], (tw I J, C))) = _) from c2, eT_wordAt_104]
      simp (disch := omega) only [↓reduceIte, ↓qX_m, ↓qR_m, ↓cI_m, ↓cV_m, ↓cJ_m, ↓cO_m, ↓cR_m, ixq_n, ixq_l, tgq_ok, nL_mul, nR_mul, nL_add, nR_add, nL_sub, nR_sub, nI_add, pk_mul, nn_sub, ng1_0, ng1_1, an_0, an_1, i1_0, Nat.add_zero, Nat.zero_add, Nat.mul_one, Nat.mul_zero, hI_cg, hP_cg, hJ_cg, wI_cg, wP_cg, wJ_cg, bI_z]
      rw [s2, c]
      cases alb (fun i => decide (wch (swp k) i = b (q + i))) 0 (e - q) <;> rfl
    · simp only [c, eq_self, decide_true, decide_false, cond_true, cond_false, ↓reduceIte, Bool.false_and]
      rw [eT_wordAt_57]
      simp only [↓reduceIte]
      have c2 : ∀ X : Option Z_, (if (0 : Int32) < nI (wlen (swp k)) then X else X) = X := fun X => by split <;> rfl
      rw [c2, eT_wordAt_104]
      simp (disch := omega) only [↓reduceIte, ↓qX_m, ↓qR_m, ↓cI_m, ↓cV_m, ↓cJ_m, ↓cO_m, ↓cR_m, ixq_n, ixq_l, tgq_ok, nL_mul, nR_mul, nL_add, nR_add, nL_sub, nR_sub, nI_add, pk_mul, nn_sub, ng1_0, ng1_1, an_0, an_1, i1_0, Nat.add_zero, Nat.zero_add, Nat.mul_one, Nat.mul_zero, hI_cg, hP_cg, hJ_cg, wI_cg, wP_cg, wJ_cg]
      rw [s2]
  · try dsimp only
    rw [eT_wordAt_5]
    rfl
theorem tw_packed (d : Nat) (I : FI_) (J : FJ_) (C : C_) {q e : Nat} (hn : n ≤ 700) (hq : q ≤ e) (he : e ≤ n) (h : TRd b n I) : (Run_ (d, mT_packed, 0, [some (vR (1000, 0, 0)), some (vI (nI q)), some (vI (nI e)), none, none], [], (tw I J, C))) = some (.inl (some (vI (pkS b q e))), (tw I J, C)) := by
  rw [eT_packed_0]
  refine lpf (fun k a => (Run_ (d, mT_packed, 5, [some (vR (1000, 0, 0)), some (vI (nI q)), some (vI (nI e)), some (vI a), some (vI (nI (q + k)))], [], (tw I J, C)))) (fun a => some (.inl (some (vI a)), (tw I J, C))) (fun k v => (v <<< (5 &&& 31)) ||| (if q + k < e then nI (b (q + k)) - 96 else 0)) 6 (fun k a hk => ?_) (fun a => ?_) 0
  · try dsimp only
    have hk2 : q + k < q + 6 := by omega
    rw [eT_packed_5]
    by_cases c : q + k < e
    · have e1 : I 1001 (q + k) = nI (b (q + k)) := h.2.1 _ (by omega)
      simp (disch := omega) only [↓reduceIte, ↓qX_m, ↓qR_m, ↓cI_m, ↓cV_m, ↓cJ_m, ↓cO_m, ↓cR_m, ixq_n, ixq_l, tgq_ok, nL_mul, nR_mul, nL_add, nR_add, nL_sub, nR_sub, nI_add, pk_mul, nn_sub, ng1_0, ng1_1, an_0, an_1, i1_0, Nat.add_zero, Nat.zero_add, Nat.mul_one, Nat.mul_zero, hI_cg, hP_cg, hJ_cg, wI_cg, wP_cg, wJ_cg, nn_lt, hk2, c, e1, eT_packed_37, Nat.add_assoc]
    · simp (disch := omega) only [↓reduceIte, ↓qX_m, ↓qR_m, ↓cI_m, ↓cV_m, ↓cJ_m, ↓cO_m, ↓cR_m, ixq_n, ixq_l, tgq_ok, nL_mul, nR_mul, nL_add, nR_add, nL_sub, nR_sub, nI_add, pk_mul, nn_sub, ng1_0, ng1_1, an_0, an_1, i1_0, Nat.add_zero, Nat.zero_add, Nat.mul_one, Nat.mul_zero, hI_cg, hP_cg, hJ_cg, wI_cg, wP_cg, wJ_cg, nn_lt, hk2, c, eT_packed_37, Nat.add_assoc]
  · try dsimp only
    rw [eT_packed_5]
    simp (disch := omega) only [↓reduceIte, ↓qX_m, ↓qR_m, ↓cI_m, ↓cV_m, ↓cJ_m, ↓cO_m, ↓cR_m, ixq_n, ixq_l, tgq_ok, nL_mul, nR_mul, nL_add, nR_add, nL_sub, nR_sub, nI_add, pk_mul, nn_sub, ng1_0, ng1_1, an_0, an_1, i1_0, Nat.add_zero, Nat.zero_add, Nat.mul_one, Nat.mul_zero, hI_cg, hP_cg, hJ_cg, wI_cg, wP_cg, wJ_cg, nn_lt, Nat.lt_irrefl, ↓reduceIte]
theorem FrI.u {S : Nat → Nat → Prop} {I I' : FI_} {a k : Nat} {x : Int32} (h : FrI S I I') (hs : S a k) : FrI S I (u2 I' a k x) := fun t j hn => by
  rw [u2_ap, if_neg (fun q => hn (by rw [q.1, q.2]; exact hs))]
  exact h t j hn
/-- what a token is, in the twin -/
def TTv (K : Nat) (V : Int32) (I : FI_) : Prop :=
  (K = 0 ∧ I 1000 8 = 0) ∨ (K = 1 ∧ I 1000 8 = 1 ∧ ∃ w, w < 21 ∧ V = nI w ∧ I 1000 9 = nI (swp w)) ∨ (K = 2 ∧ I 1000 8 = 2 ∧ I 1000 9 = V) ∨ (K = 3 ∧ I 1000 8 = 3 ∧ I 1000 9 = V) ∨
  (K = 4 ∧ I 1000 8 = 4 ∧ I 1000 9 = V) ∨ (K = 5 ∧ I 1000 8 = 5 ∧ I 1000 9 = V) ∨ (K = 6 ∧ (I 1000 8 = 6 ∨ (I 1000 8 = 4 ∧ I 1000 9 = 37)))
def tk4 (t k : Nat) : Prop := t = 1000 ∧ 7 ≤ k ∧ k ≤ 10
theorem TTv.k4 {V : Int32} {I : FI_} (h1 : I 1000 8 = 4) (h2 : I 1000 9 = V) : TTv 4 V I := Or.inr (Or.inr (Or.inr (Or.inr (Or.inl ⟨rfl, h1, h2⟩))))
theorem TTv.k5 {V : Int32} {I : FI_} (h1 : I 1000 8 = 5) (h2 : I 1000 9 = V) : TTv 5 V I := Or.inr (Or.inr (Or.inr (Or.inr (Or.inr (Or.inl ⟨rfl, h1, h2⟩)))))
theorem TTv.k6 {V : Int32} {I : FI_} (h : I 1000 8 = 6 ∨ (I 1000 8 = 4 ∧ I 1000 9 = 37)) : TTv 6 V I := Or.inr (Or.inr (Or.inr (Or.inr (Or.inr (Or.inr ⟨rfl, h⟩)))))
theorem tw_sign (d : Nat) (I : FI_) (J : FJ_) (C : C_) {q : Nat} (hn : n ≤ 700) (hq : q < n) (h256 : ∀ k, b k < 256) (h : TRd b n I) (h7 : I 1000 7 = nI q) :
    ∃ I' : FI_, (Run_ (d, mT_signToken, 0, [some (vR (1000, 0, 0)), none, none, none], [], (tw I J, C))) = some (.inl none, (tw I' J, C)) ∧ FrI tk4 I I' ∧ I' 1000 7 = nI (q + sgN (b q) (nxB b n q)) ∧ I' 1000 10 = I 1000 10 ∧ TTv (sgK (b q)) (nI (sgV (b q) (nxB b n q))) I' := by
  have e := h.2.1 q hq
  have h1 := h256 q
  have f7 : ∀ I' x, FrI tk4 I I' → FrI tk4 I (u2 I' 1000 7 x) := fun I' x f => f.u (by unfold tk4; omega)
  have f8 : ∀ I' x, FrI tk4 I I' → FrI tk4 I (u2 I' 1000 8 x) := fun I' x f => f.u (by unfold tk4; omega)
  have f9 : ∀ I' x, FrI tk4 I I' → FrI tk4 I (u2 I' 1000 9 x) := fun I' x f => f.u (by unfold tk4; omega)
  have f0 := FrI.rf tk4 I
  rw [eT_signToken_0]
  have hX := (h.u 9 (nI (b q)) (by omega)).u 7 (nI (q + 1)) (by omega)
  have k50 : (Run_ (d, mT_signToken, 50, [some (vR (1000, 0, 0)), none, none, none], [], (tw (u2 (u2 I 1000 9 (nI (b q))) 1000 7 (nI (q + 1))) J, C))) = (Run_ (d, mT_signToken, 74, [some (vR (1000, 0, 0)), none, none, none], [vI (nI (nxB b n q))], (tw (u2 (u2 I 1000 9 (nI (b q))) 1000 7 (nI (q + 1))) J, C))) := by
    rw [eT_signToken_50]
    unfold nxB
    by_cases c : q + 1 < n
    · have e2 := hX.2.1 _ c
      simp (disch := omega) only [↓reduceIte, ↓qX_m, ↓qR_m, ↓cI_m, ↓cV_m, ↓cJ_m, ↓cO_m, ↓cR_m, ixq_n, ixq_l, tgq_ok, nL_mul, nR_mul, nL_add, nR_add, nL_sub, nR_sub, nI_add, pk_mul, nn_sub, ng1_0, ng1_1, an_0, an_1, i1_0, Nat.add_zero, Nat.zero_add, Nat.mul_one, Nat.mul_zero, hI_cg, hP_cg, hJ_cg, wI_cg, wP_cg, wJ_cg, u2_s, hX.1, nn_lt, c, e2]
    · simp (disch := omega) only [↓reduceIte, ↓qX_m, ↓qR_m, ↓cI_m, ↓cV_m, ↓cJ_m, ↓cO_m, ↓cR_m, ixq_n, ixq_l, tgq_ok, nL_mul, nR_mul, nL_add, nR_add, nL_sub, nR_sub, nI_add, pk_mul, nn_sub, ng1_0, ng1_1, an_0, an_1, i1_0, Nat.add_zero, Nat.zero_add, Nat.mul_one, Nat.mul_zero, hI_cg, hP_cg, hJ_cg, wI_cg, wP_cg, wJ_cg, u2_s, hX.1, nn_lt, c]
      rfl
  have h2 : nxB b n q < 256 := by
    unfold nxB
    split
    · exact h256 _
    · omega
  have fin : ∀ (I' : FI_) (N K V : Nat), sgN (b q) (nxB b n q) = N → sgK (b q) = K → sgV (b q) (nxB b n q) = V → FrI tk4 I I' → I' 1000 7 = nI (q + N) → I' 1000 10 = I 1000 10 → TTv K (nI V) I' →
      FrI tk4 I I' ∧ I' 1000 7 = nI (q + sgN (b q) (nxB b n q)) ∧ I' 1000 10 = I 1000 10 ∧ TTv (sgK (b q)) (nI (sgV (b q) (nxB b n q))) I' := by
    intro I' N K V a1 a2 a3 a4 a5 a6 a7
    rw [a1, a2, a3]
    exact ⟨a4, a5, a6, a7⟩
  by_cases z : b q = 60
  · have nn : ∀ m, m ≠ 60 → (b q = m) = False := fun m hm => eq_false (by omega)
    simp (disch := omega) only [↓reduceIte, ↓qX_m, ↓qR_m, ↓cI_m, ↓cV_m, ↓cJ_m, ↓cO_m, ↓cR_m, ixq_n, ixq_l, tgq_ok, nL_mul, nR_mul, nL_add, nR_add, nL_sub, nR_sub, nI_add, pk_mul, nn_sub, ng1_0, ng1_1, an_0, an_1, i1_0, Nat.add_zero, Nat.zero_add, Nat.mul_one, Nat.mul_zero, hI_cg, hP_cg, hJ_cg, wI_cg, wP_cg, wJ_cg, h7, e, u2_s, u2_k, nR_eq, eq_true z, nn, k50]
    generalize nxB b n q = c2 at h2 fin ⊢
    by_cases w61 : c2 = 61
    · have mm : ∀ m, m ≠ 61 → (c2 = m) = False := fun m hm => eq_false (by omega)
      simp (disch := omega) only [eT_signToken_74, eT_signToken_94, eT_signToken_95, eT_signToken_115, eT_signToken_116, eT_signToken_125, eT_signToken_135, eT_signToken_192, eT_signToken_290, ↓reduceIte, ↓qX_m, ↓qR_m, ↓cI_m, ↓cV_m, ↓cJ_m, ↓cO_m, ↓cR_m, ixq_n, ixq_l, tgq_ok, nL_mul, nR_mul, nL_add, nR_add, nL_sub, nR_sub, nI_add, pk_mul, nn_sub, ng1_0, ng1_1, an_0, an_1, i1_0, Nat.add_zero, Nat.zero_add, Nat.mul_one, Nat.mul_zero, hI_cg, hP_cg, hJ_cg, wI_cg, wP_cg, wJ_cg, u2_s, u2_k, nR_eq, eq_true z, nn, eq_true w61, mm, u2_u2]
      refine ⟨_, rfl, fin _ 2 5 1 (by unfold sgN; rw [if_pos z, if_pos w61]) (by unfold sgK; rw [if_pos (by omega)]) (by unfold sgV; rw [if_neg (by omega), if_pos z, if_pos w61]) ?_ ?_ ?_ ?_⟩
      · repeat (first | exact f0 | refine FrI.u ?_ (by unfold tk4; omega))
      · simp (disch := omega) only [u2_k, u2_s]
      · simp (disch := omega) only [u2_k]
      · exact TTv.k5 (by simp (disch := omega) only [u2_k, u2_s]) (by simp (disch := omega) only [u2_k, u2_s]; rfl)
    by_cases w62 : c2 = 62
    · have mm : ∀ m, m ≠ 62 → (c2 = m) = False := fun m hm => eq_false (by omega)
      simp (disch := omega) only [eT_signToken_74, eT_signToken_94, eT_signToken_95, eT_signToken_115, eT_signToken_116, eT_signToken_125, eT_signToken_135, eT_signToken_192, eT_signToken_290, ↓reduceIte, ↓qX_m, ↓qR_m, ↓cI_m, ↓cV_m, ↓cJ_m, ↓cO_m, ↓cR_m, ixq_n, ixq_l, tgq_ok, nL_mul, nR_mul, nL_add, nR_add, nL_sub, nR_sub, nI_add, pk_mul, nn_sub, ng1_0, ng1_1, an_0, an_1, i1_0, Nat.add_zero, Nat.zero_add, Nat.mul_one, Nat.mul_zero, hI_cg, hP_cg, hJ_cg, wI_cg, wP_cg, wJ_cg, u2_s, u2_k, nR_eq, eq_true z, nn, eq_true w62, mm, u2_u2]
      refine ⟨_, rfl, fin _ 2 5 3 (by unfold sgN; rw [if_pos z, if_neg w61, if_pos w62]) (by unfold sgK; rw [if_pos (by omega)]) (by unfold sgV; rw [if_neg (by omega), if_pos z, if_neg w61, if_pos w62]) ?_ ?_ ?_ ?_⟩
      · repeat (first | exact f0 | refine FrI.u ?_ (by unfold tk4; omega))
      · simp (disch := omega) only [u2_k, u2_s]
      · simp (disch := omega) only [u2_k]
      · exact TTv.k5 (by simp (disch := omega) only [u2_k, u2_s]) (by simp (disch := omega) only [u2_k, u2_s]; rfl)
    simp (disch := omega) only [eT_signToken_74, eT_signToken_94, eT_signToken_95, eT_signToken_115, eT_signToken_116, eT_signToken_125, eT_signToken_135, eT_signToken_192, eT_signToken_290, ↓reduceIte, ↓qX_m, ↓qR_m, ↓cI_m, ↓cV_m, ↓cJ_m, ↓cO_m, ↓cR_m, ixq_n, ixq_l, tgq_ok, nL_mul, nR_mul, nL_add, nR_add, nL_sub, nR_sub, nI_add, pk_mul, nn_sub, ng1_0, ng1_1, an_0, an_1, i1_0, Nat.add_zero, Nat.zero_add, Nat.mul_one, Nat.mul_zero, hI_cg, hP_cg, hJ_cg, wI_cg, wP_cg, wJ_cg, u2_s, u2_k, nR_eq, eq_true z, nn, w61, w62, u2_u2]
    refine ⟨_, rfl, fin _ 1 5 0 (by unfold sgN; rw [if_pos z, if_neg w61, if_neg w62]) (by unfold sgK; rw [if_pos (by omega)]) (by unfold sgV; rw [if_neg (by omega), if_pos z, if_neg w61, if_neg w62]) ?_ ?_ ?_ ?_⟩
    · repeat (first | exact f0 | refine FrI.u ?_ (by unfold tk4; omega))
    · simp (disch := omega) only [u2_k, u2_s]
    · simp (disch := omega) only [u2_k]
    · exact TTv.k5 (by simp (disch := omega) only [u2_k, u2_s]) (by simp (disch := omega) only [u2_k, u2_s]; rfl)
  have no60 := z; clear z
  by_cases z : b q = 62
  · have nn : ∀ m, m ≠ 62 → (b q = m) = False := fun m hm => eq_false (by omega)
    simp (disch := omega) only [↓reduceIte, ↓qX_m, ↓qR_m, ↓cI_m, ↓cV_m, ↓cJ_m, ↓cO_m, ↓cR_m, ixq_n, ixq_l, tgq_ok, nL_mul, nR_mul, nL_add, nR_add, nL_sub, nR_sub, nI_add, pk_mul, nn_sub, ng1_0, ng1_1, an_0, an_1, i1_0, Nat.add_zero, Nat.zero_add, Nat.mul_one, Nat.mul_zero, hI_cg, hP_cg, hJ_cg, wI_cg, wP_cg, wJ_cg, h7, e, u2_s, u2_k, nR_eq, eq_true z, nn, k50]
    generalize nxB b n q = c2 at h2 fin ⊢
    by_cases w61 : c2 = 61
    · have mm : ∀ m, m ≠ 61 → (c2 = m) = False := fun m hm => eq_false (by omega)
      simp (disch := omega) only [eT_signToken_74, eT_signToken_94, eT_signToken_95, eT_signToken_115, eT_signToken_116, eT_signToken_125, eT_signToken_135, eT_signToken_192, eT_signToken_290, ↓reduceIte, ↓qX_m, ↓qR_m, ↓cI_m, ↓cV_m, ↓cJ_m, ↓cO_m, ↓cR_m, ixq_n, ixq_l, tgq_ok, nL_mul, nR_mul, nL_add, nR_add, nL_sub, nR_sub, nI_add, pk_mul, nn_sub, ng1_0, ng1_1, an_0, an_1, i1_0, Nat.add_zero, Nat.zero_add, Nat.mul_one, Nat.mul_zero, hI_cg, hP_cg, hJ_cg, wI_cg, wP_cg, wJ_cg, u2_s, u2_k, nR_eq, eq_true z, nn, eq_true w61, mm, u2_u2]
      refine ⟨_, rfl, fin _ 2 5 4 (by unfold sgN; rw [if_neg (by omega), if_pos z, if_pos w61]) (by unfold sgK; rw [if_pos (by omega)]) (by unfold sgV; rw [if_neg (by omega), if_neg (by omega), if_pos z, if_pos w61]) ?_ ?_ ?_ ?_⟩
      · repeat (first | exact f0 | refine FrI.u ?_ (by unfold tk4; omega))
      · simp (disch := omega) only [u2_k, u2_s]
      · simp (disch := omega) only [u2_k]
      · exact TTv.k5 (by simp (disch := omega) only [u2_k, u2_s]) (by simp (disch := omega) only [u2_k, u2_s]; rfl)
    simp (disch := omega) only [eT_signToken_74, eT_signToken_94, eT_signToken_95, eT_signToken_115, eT_signToken_116, eT_signToken_125, eT_signToken_135, eT_signToken_192, eT_signToken_290, ↓reduceIte, ↓qX_m, ↓qR_m, ↓cI_m, ↓cV_m, ↓cJ_m, ↓cO_m, ↓cR_m, ixq_n, ixq_l, tgq_ok, nL_mul, nR_mul, nL_add, nR_add, nL_sub, nR_sub, nI_add, pk_mul, nn_sub, ng1_0, ng1_1, an_0, an_1, i1_0, Nat.add_zero, Nat.zero_add, Nat.mul_one, Nat.mul_zero, hI_cg, hP_cg, hJ_cg, wI_cg, wP_cg, wJ_cg, u2_s, u2_k, nR_eq, eq_true z, nn, w61, u2_u2]
    refine ⟨_, rfl, fin _ 1 5 5 (by unfold sgN; rw [if_neg (by omega), if_pos z, if_neg w61]) (by unfold sgK; rw [if_pos (by omega)]) (by unfold sgV; rw [if_neg (by omega), if_neg (by omega), if_pos z, if_neg w61]) ?_ ?_ ?_ ?_⟩
    · repeat (first | exact f0 | refine FrI.u ?_ (by unfold tk4; omega))
    · simp (disch := omega) only [u2_k, u2_s]
    · simp (disch := omega) only [u2_k]
    · exact TTv.k5 (by simp (disch := omega) only [u2_k, u2_s]) (by simp (disch := omega) only [u2_k, u2_s]; rfl)
  have no62 := z; clear z
  by_cases z : b q = 61
  · have nn : ∀ m, m ≠ 61 → (b q = m) = False := fun m hm => eq_false (by omega)
    simp (disch := omega) only [↓reduceIte, ↓qX_m, ↓qR_m, ↓cI_m, ↓cV_m, ↓cJ_m, ↓cO_m, ↓cR_m, ixq_n, ixq_l, tgq_ok, nL_mul, nR_mul, nL_add, nR_add, nL_sub, nR_sub, nI_add, pk_mul, nn_sub, ng1_0, ng1_1, an_0, an_1, i1_0, Nat.add_zero, Nat.zero_add, Nat.mul_one, Nat.mul_zero, hI_cg, hP_cg, hJ_cg, wI_cg, wP_cg, wJ_cg, h7, e, u2_s, u2_k, nR_eq, eq_true z, nn, k50]
    generalize nxB b n q = c2 at h2 fin ⊢
    simp (disch := omega) only [eT_signToken_74, eT_signToken_94, eT_signToken_95, eT_signToken_115, eT_signToken_116, eT_signToken_125, eT_signToken_135, eT_signToken_192, eT_signToken_290, ↓reduceIte, ↓qX_m, ↓qR_m, ↓cI_m, ↓cV_m, ↓cJ_m, ↓cO_m, ↓cR_m, ixq_n, ixq_l, tgq_ok, nL_mul, nR_mul, nL_add, nR_add, nL_sub, nR_sub, nI_add, pk_mul, nn_sub, ng1_0, ng1_1, an_0, an_1, i1_0, Nat.add_zero, Nat.zero_add, Nat.mul_one, Nat.mul_zero, hI_cg, hP_cg, hJ_cg, wI_cg, wP_cg, wJ_cg, u2_s, u2_k, nR_eq, eq_true z, nn, ↓reduceIte]
    refine ⟨_, rfl, fin _ 1 5 2 (by unfold sgN; rw [if_neg (by omega), if_neg (by omega)]) (by unfold sgK; rw [if_pos (by omega)]) (by unfold sgV; rw [if_pos z]) ?_ ?_ ?_ ?_⟩
    · repeat (first | exact f0 | refine FrI.u ?_ (by unfold tk4; omega))
    · simp (disch := omega) only [u2_k, u2_s]
    · simp (disch := omega) only [u2_k]
    · exact TTv.k5 (by simp (disch := omega) only [u2_k, u2_s]) (by simp (disch := omega) only [u2_k, u2_s]; rfl)
  have no61 := z; clear z
  by_cases z : b q = 59
  · have nn : ∀ m, m ≠ 59 → (b q = m) = False := fun m hm => eq_false (by omega)
    simp (disch := omega) only [eT_signToken_270, eT_signToken_275, eT_signToken_287, eT_signToken_290, ↓reduceIte, ↓qX_m, ↓qR_m, ↓cI_m, ↓cV_m, ↓cJ_m, ↓cO_m, ↓cR_m, ixq_n, ixq_l, tgq_ok, nL_mul, nR_mul, nL_add, nR_add, nL_sub, nR_sub, nI_add, pk_mul, nn_sub, ng1_0, ng1_1, an_0, an_1, i1_0, Nat.add_zero, Nat.zero_add, Nat.mul_one, Nat.mul_zero, hI_cg, hP_cg, hJ_cg, wI_cg, wP_cg, wJ_cg, h7, e, u2_s, u2_k, nR_eq, eq_true z, nn]
    refine ⟨_, rfl, fin _ 1 4 59 (by unfold sgN; rw [if_neg (by omega), if_neg (by omega)]) (by unfold sgK; rw [if_neg (by omega), if_pos (by omega)]) (by unfold sgV; rw [if_neg (by omega), if_neg (by omega), if_neg (by omega)]; exact z) ?_ ?_ ?_ ?_⟩
    · repeat (first | exact f0 | refine FrI.u ?_ (by unfold tk4; omega))
    · simp (disch := omega) only [u2_k, u2_s]
    · simp (disch := omega) only [u2_k]
    · exact TTv.k4 (by simp (disch := omega) only [u2_k, u2_s]) (by simp (disch := omega) only [u2_k, u2_s]; rw [z])
  have no59 := z; clear z
  by_cases z : b q = 40
  · have nn : ∀ m, m ≠ 40 → (b q = m) = False := fun m hm => eq_false (by omega)
    simp (disch := omega) only [eT_signToken_270, eT_signToken_275, eT_signToken_287, eT_signToken_290, ↓reduceIte, ↓qX_m, ↓qR_m, ↓cI_m, ↓cV_m, ↓cJ_m, ↓cO_m, ↓cR_m, ixq_n, ixq_l, tgq_ok, nL_mul, nR_mul, nL_add, nR_add, nL_sub, nR_sub, nI_add, pk_mul, nn_sub, ng1_0, ng1_1, an_0, an_1, i1_0, Nat.add_zero, Nat.zero_add, Nat.mul_one, Nat.mul_zero, hI_cg, hP_cg, hJ_cg, wI_cg, wP_cg, wJ_cg, h7, e, u2_s, u2_k, nR_eq, eq_true z, nn]
    refine ⟨_, rfl, fin _ 1 4 40 (by unfold sgN; rw [if_neg (by omega), if_neg (by omega)]) (by unfold sgK; rw [if_neg (by omega), if_pos (by omega)]) (by unfold sgV; rw [if_neg (by omega), if_neg (by omega), if_neg (by omega)]; exact z) ?_ ?_ ?_ ?_⟩
    · repeat (first | exact f0 | refine FrI.u ?_ (by unfold tk4; omega))
    · simp (disch := omega) only [u2_k, u2_s]
    · simp (disch := omega) only [u2_k]
    · exact TTv.k4 (by simp (disch := omega) only [u2_k, u2_s]) (by simp (disch := omega) only [u2_k, u2_s]; rw [z])
  have no40 := z; clear z
  by_cases z : b q = 41
  · have nn : ∀ m, m ≠ 41 → (b q = m) = False := fun m hm => eq_false (by omega)
    simp (disch := omega) only [eT_signToken_270, eT_signToken_275, eT_signToken_287, eT_signToken_290, ↓reduceIte, ↓qX_m, ↓qR_m, ↓cI_m, ↓cV_m, ↓cJ_m, ↓cO_m, ↓cR_m, ixq_n, ixq_l, tgq_ok, nL_mul, nR_mul, nL_add, nR_add, nL_sub, nR_sub, nI_add, pk_mul, nn_sub, ng1_0, ng1_1, an_0, an_1, i1_0, Nat.add_zero, Nat.zero_add, Nat.mul_one, Nat.mul_zero, hI_cg, hP_cg, hJ_cg, wI_cg, wP_cg, wJ_cg, h7, e, u2_s, u2_k, nR_eq, eq_true z, nn]
    refine ⟨_, rfl, fin _ 1 4 41 (by unfold sgN; rw [if_neg (by omega), if_neg (by omega)]) (by unfold sgK; rw [if_neg (by omega), if_pos (by omega)]) (by unfold sgV; rw [if_neg (by omega), if_neg (by omega), if_neg (by omega)]; exact z) ?_ ?_ ?_ ?_⟩
    · repeat (first | exact f0 | refine FrI.u ?_ (by unfold tk4; omega))
    · simp (disch := omega) only [u2_k, u2_s]
    · simp (disch := omega) only [u2_k]
    · exact TTv.k4 (by simp (disch := omega) only [u2_k, u2_s]) (by simp (disch := omega) only [u2_k, u2_s]; rw [z])
  have no41 := z; clear z
  by_cases z : b q = 43
  · have nn : ∀ m, m ≠ 43 → (b q = m) = False := fun m hm => eq_false (by omega)
    simp (disch := omega) only [eT_signToken_270, eT_signToken_275, eT_signToken_287, eT_signToken_290, ↓reduceIte, ↓qX_m, ↓qR_m, ↓cI_m, ↓cV_m, ↓cJ_m, ↓cO_m, ↓cR_m, ixq_n, ixq_l, tgq_ok, nL_mul, nR_mul, nL_add, nR_add, nL_sub, nR_sub, nI_add, pk_mul, nn_sub, ng1_0, ng1_1, an_0, an_1, i1_0, Nat.add_zero, Nat.zero_add, Nat.mul_one, Nat.mul_zero, hI_cg, hP_cg, hJ_cg, wI_cg, wP_cg, wJ_cg, h7, e, u2_s, u2_k, nR_eq, eq_true z, nn]
    refine ⟨_, rfl, fin _ 1 4 43 (by unfold sgN; rw [if_neg (by omega), if_neg (by omega)]) (by unfold sgK; rw [if_neg (by omega), if_pos (by omega)]) (by unfold sgV; rw [if_neg (by omega), if_neg (by omega), if_neg (by omega)]; exact z) ?_ ?_ ?_ ?_⟩
    · repeat (first | exact f0 | refine FrI.u ?_ (by unfold tk4; omega))
    · simp (disch := omega) only [u2_k, u2_s]
    · simp (disch := omega) only [u2_k]
    · exact TTv.k4 (by simp (disch := omega) only [u2_k, u2_s]) (by simp (disch := omega) only [u2_k, u2_s]; rw [z])
  have no43 := z; clear z
  by_cases z : b q = 45
  · have nn : ∀ m, m ≠ 45 → (b q = m) = False := fun m hm => eq_false (by omega)
    simp (disch := omega) only [eT_signToken_270, eT_signToken_275, eT_signToken_287, eT_signToken_290, ↓reduceIte, ↓qX_m, ↓qR_m, ↓cI_m, ↓cV_m, ↓cJ_m, ↓cO_m, ↓cR_m, ixq_n, ixq_l, tgq_ok, nL_mul, nR_mul, nL_add, nR_add, nL_sub, nR_sub, nI_add, pk_mul, nn_sub, ng1_0, ng1_1, an_0, an_1, i1_0, Nat.add_zero, Nat.zero_add, Nat.mul_one, Nat.mul_zero, hI_cg, hP_cg, hJ_cg, wI_cg, wP_cg, wJ_cg, h7, e, u2_s, u2_k, nR_eq, eq_true z, nn]
    refine ⟨_, rfl, fin _ 1 4 45 (by unfold sgN; rw [if_neg (by omega), if_neg (by omega)]) (by unfold sgK; rw [if_neg (by omega), if_pos (by omega)]) (by unfold sgV; rw [if_neg (by omega), if_neg (by omega), if_neg (by omega)]; exact z) ?_ ?_ ?_ ?_⟩
    · repeat (first | exact f0 | refine FrI.u ?_ (by unfold tk4; omega))
    · simp (disch := omega) only [u2_k, u2_s]
    · simp (disch := omega) only [u2_k]
    · exact TTv.k4 (by simp (disch := omega) only [u2_k, u2_s]) (by simp (disch := omega) only [u2_k, u2_s]; rw [z])
  have no45 := z; clear z
  by_cases z : b q = 42
  · have nn : ∀ m, m ≠ 42 → (b q = m) = False := fun m hm => eq_false (by omega)
    simp (disch := omega) only [eT_signToken_270, eT_signToken_275, eT_signToken_287, eT_signToken_290, ↓reduceIte, ↓qX_m, ↓qR_m, ↓cI_m, ↓cV_m, ↓cJ_m, ↓cO_m, ↓cR_m, ixq_n, ixq_l, tgq_ok, nL_mul, nR_mul, nL_add, nR_add, nL_sub, nR_sub, nI_add, pk_mul, nn_sub, ng1_0, ng1_1, an_0, an_1, i1_0, Nat.add_zero, Nat.zero_add, Nat.mul_one, Nat.mul_zero, hI_cg, hP_cg, hJ_cg, wI_cg, wP_cg, wJ_cg, h7, e, u2_s, u2_k, nR_eq, eq_true z, nn]
    refine ⟨_, rfl, fin _ 1 4 42 (by unfold sgN; rw [if_neg (by omega), if_neg (by omega)]) (by unfold sgK; rw [if_neg (by omega), if_pos (by omega)]) (by unfold sgV; rw [if_neg (by omega), if_neg (by omega), if_neg (by omega)]; exact z) ?_ ?_ ?_ ?_⟩
    · repeat (first | exact f0 | refine FrI.u ?_ (by unfold tk4; omega))
    · simp (disch := omega) only [u2_k, u2_s]
    · simp (disch := omega) only [u2_k]
    · exact TTv.k4 (by simp (disch := omega) only [u2_k, u2_s]) (by simp (disch := omega) only [u2_k, u2_s]; rw [z])
  have no42 := z; clear z
  by_cases z : b q = 47
  · have nn : ∀ m, m ≠ 47 → (b q = m) = False := fun m hm => eq_false (by omega)
    simp (disch := omega) only [eT_signToken_270, eT_signToken_275, eT_signToken_287, eT_signToken_290, ↓reduceIte, ↓qX_m, ↓qR_m, ↓cI_m, ↓cV_m, ↓cJ_m, ↓cO_m, ↓cR_m, ixq_n, ixq_l, tgq_ok, nL_mul, nR_mul, nL_add, nR_add, nL_sub, nR_sub, nI_add, pk_mul, nn_sub, ng1_0, ng1_1, an_0, an_1, i1_0, Nat.add_zero, Nat.zero_add, Nat.mul_one, Nat.mul_zero, hI_cg, hP_cg, hJ_cg, wI_cg, wP_cg, wJ_cg, h7, e, u2_s, u2_k, nR_eq, eq_true z, nn]
    refine ⟨_, rfl, fin _ 1 4 47 (by unfold sgN; rw [if_neg (by omega), if_neg (by omega)]) (by unfold sgK; rw [if_neg (by omega), if_pos (by omega)]) (by unfold sgV; rw [if_neg (by omega), if_neg (by omega), if_neg (by omega)]; exact z) ?_ ?_ ?_ ?_⟩
    · repeat (first | exact f0 | refine FrI.u ?_ (by unfold tk4; omega))
    · simp (disch := omega) only [u2_k, u2_s]
    · simp (disch := omega) only [u2_k]
    · exact TTv.k4 (by simp (disch := omega) only [u2_k, u2_s]) (by simp (disch := omega) only [u2_k, u2_s]; rw [z])
  have no47 := z; clear z
  by_cases z : b q = 37
  · have nn : ∀ m, m ≠ 37 → (b q = m) = False := fun m hm => eq_false (by omega)
    simp (disch := omega) only [eT_signToken_270, eT_signToken_275, eT_signToken_287, eT_signToken_290, ↓reduceIte, ↓qX_m, ↓qR_m, ↓cI_m, ↓cV_m, ↓cJ_m, ↓cO_m, ↓cR_m, ixq_n, ixq_l, tgq_ok, nL_mul, nR_mul, nL_add, nR_add, nL_sub, nR_sub, nI_add, pk_mul, nn_sub, ng1_0, ng1_1, an_0, an_1, i1_0, Nat.add_zero, Nat.zero_add, Nat.mul_one, Nat.mul_zero, hI_cg, hP_cg, hJ_cg, wI_cg, wP_cg, wJ_cg, h7, e, u2_s, u2_k, nR_eq, eq_true z, nn]
    refine ⟨_, rfl, fin _ 1 6 37 (by unfold sgN; rw [if_neg (by omega), if_neg (by omega)]) (by unfold sgK; rw [if_neg (by omega), if_neg (by omega)]) (by unfold sgV; rw [if_neg (by omega), if_neg (by omega), if_neg (by omega)]; exact z) ?_ ?_ ?_ ?_⟩
    · repeat (first | exact f0 | refine FrI.u ?_ (by unfold tk4; omega))
    · simp (disch := omega) only [u2_k, u2_s]
    · simp (disch := omega) only [u2_k]
    · exact TTv.k6 (Or.inr ⟨(by simp (disch := omega) only [u2_k, u2_s]), by simp (disch := omega) only [u2_k, u2_s]; rw [z]; rfl⟩)
  have no37 := z; clear z
  simp (disch := omega) only [eT_signToken_275, eT_signToken_287, eT_signToken_290, ↓reduceIte, ↓qX_m, ↓qR_m, ↓cI_m, ↓cV_m, ↓cJ_m, ↓cO_m, ↓cR_m, ixq_n, ixq_l, tgq_ok, nL_mul, nR_mul, nL_add, nR_add, nL_sub, nR_sub, nI_add, pk_mul, nn_sub, ng1_0, ng1_1, an_0, an_1, i1_0, Nat.add_zero, Nat.zero_add, Nat.mul_one, Nat.mul_zero, hI_cg, hP_cg, hJ_cg, wI_cg, wP_cg, wJ_cg, h7, e, u2_s, u2_k, nR_eq, no60, no61, no62, no59, no40, no41, no43, no45, no42, no47, no37]
  refine ⟨_, rfl, fin _ 1 6 (b q) (by unfold sgN; rw [if_neg (by omega), if_neg (by omega)]) (by unfold sgK; rw [if_neg (by omega), if_neg (by omega)]) (by unfold sgV; rw [if_neg (by omega), if_neg (by omega), if_neg (by omega)]) ?_ ?_ ?_ ?_⟩
  · repeat (first | exact f0 | refine FrI.u ?_ (by unfold tk4; omega))
  · simp (disch := omega) only [u2_k, u2_s]
  · simp (disch := omega) only [u2_k]
  · exact TTv.k6 (Or.inl (by simp (disch := omega) only [u2_k, u2_s]))
/-- the next token of the twin -/
theorem tw_token (d : Nat) (I : FI_) (J : FJ_) (C : C_) {p : Nat} (hn : n ≤ 700) (hp : p ≤ n) (h256 : ∀ k, b k < 256) (h : TRd b n I) (h7 : I 1000 7 = nI p) :
    ∃ I' : FI_, (Run_ (d, mT_token, 0, [some (vR (1000, 0, 0))], [], (tw I J, C))) = some (.inl none, (tw I' J, C)) ∧ FrI tk4 I I' ∧ I' 1000 7 = nI (tkN b n p) ∧ I' 1000 10 = nI (tkP b n p) ∧ TTv (tkK b n p) (tkV b n p) I' := by
  have s1 : (Run_ (d, mT_token, 0, [some (vR (1000, 0, 0))], [], (tw I J, C))) = (Run_ (d, mT_token, 52, [some (vR (1000, 0, 0))], [], (tw (u2 I 1000 7 (nI (tkP b n p))) J, C))) := by
    have := lps (fun p => (Run_ (d, mT_token, 0, [some (vR (1000, 0, 0))], [], (tw (u2 I 1000 7 (nI p)) J, C)))) (fun p => (Run_ (d, mT_token, 52, [some (vR (1000, 0, 0))], [], (tw (u2 I 1000 7 (nI p)) J, C)))) (blk b n) n (blk_n b n) (fun p hp => ?_) p hp
    · have h3 := u2_id I 1000 7 (nI p) h7
      try dsimp only at this
      rw [h3] at this
      exact this
    · try dsimp only
      have r := h.u 7 (nI p) (by omega)
      have h2 := h256 p
      rw [eT_token_0]
      unfold blk
      by_cases c : p < n
      · have e := r.2.1 p c
        simp (disch := omega) only [↓reduceIte, ↓qX_m, ↓qR_m, ↓cI_m, ↓cV_m, ↓cJ_m, ↓cO_m, ↓cR_m, ixq_n, ixq_l, tgq_ok, nL_mul, nR_mul, nL_add, nR_add, nL_sub, nR_sub, nI_add, pk_mul, nn_sub, ng1_0, ng1_1, an_0, an_1, i1_0, Nat.add_zero, Nat.zero_add, Nat.mul_one, Nat.mul_zero, hI_cg, hP_cg, hJ_cg, wI_cg, wP_cg, wJ_cg, u2_s, r.1, nn_lt, c, e, nR_eq, eT_token_39, u2_u2]
        by_cases c1 : b p = 10
        · simp only [eq_true c1, eq_self, decide_true, decide_false, cond_true, cond_false, ↓reduceIte, Bool.true_or, Bool.true_and]
        · by_cases c2 : b p = 32
          · simp only [c1, eq_true c2, eq_self, decide_true, decide_false, cond_true, cond_false, ↓reduceIte, Bool.or_true, Bool.true_and]
          · simp only [c1, c2, eq_self, decide_true, decide_false, cond_true, cond_false, ↓reduceIte, Bool.or_false, Bool.and_false]
      · simp (disch := omega) only [↓reduceIte, ↓qX_m, ↓qR_m, ↓cI_m, ↓cV_m, ↓cJ_m, ↓cO_m, ↓cR_m, ixq_n, ixq_l, tgq_ok, nL_mul, nR_mul, nL_add, nR_add, nL_sub, nR_sub, nI_add, pk_mul, nn_sub, ng1_0, ng1_1, an_0, an_1, i1_0, Nat.add_zero, Nat.zero_add, Nat.mul_one, Nat.mul_zero, hI_cg, hP_cg, hJ_cg, wI_cg, wP_cg, wJ_cg, u2_s, r.1, nn_lt, c, eq_self, decide_true, decide_false, cond_true, cond_false, ↓reduceIte, Bool.false_and]
  have hq := tkP_in (b := b) hp
  rw [s1]
  unfold tkN tkK tkV
  generalize tkP b n p = q at hq ⊢
  have r1 := (h.u 7 (nI q) (by omega)).u 10 (nI q) (by omega)
  have f2 : FrI tk4 I (u2 (u2 I 1000 7 (nI q)) 1000 10 (nI q)) := ((FrI.rf tk4 I).u (by unfold tk4; omega)).u (by unfold tk4; omega)
  have e7 : u2 (u2 I 1000 7 (nI q)) 1000 10 (nI q) 1000 7 = nI q := by rw [u2_k _ _ _ _ (by omega), u2_s]
  have e10 : u2 (u2 I 1000 7 (nI q)) 1000 10 (nI q) 1000 10 = nI q := u2_s ..
  rw [eT_token_52]
  simp only [u2_s]
  generalize u2 (u2 I 1000 7 (nI q)) 1000 10 (nI q) = I2 at r1 f2 e7 e10 ⊢
  simp (disch := omega) only [↓reduceIte, ↓qX_m, ↓qR_m, ↓cI_m, ↓cV_m, ↓cJ_m, ↓cO_m, ↓cR_m, ixq_n, ixq_l, tgq_ok, nL_mul, nR_mul, nL_add, nR_add, nL_sub, nR_sub, nI_add, pk_mul, nn_sub, ng1_0, ng1_1, an_0, an_1, i1_0, Nat.add_zero, Nat.zero_add, Nat.mul_one, Nat.mul_zero, hI_cg, hP_cg, hJ_cg, wI_cg, wP_cg, wJ_cg, e7, r1.1, nn_eq]
  by_cases c : n ≤ q
  · have c' : q = n := by omega
    simp (disch := omega) only [eq_true c', eq_true c, ↓reduceIte, ↓qX_m, ↓qR_m, ↓cI_m, ↓cV_m, ↓cJ_m, ↓cO_m, ↓cR_m, ixq_n, ixq_l, tgq_ok, nL_mul, nR_mul, nL_add, nR_add, nL_sub, nR_sub, nI_add, pk_mul, nn_sub, ng1_0, ng1_1, an_0, an_1, i1_0, Nat.add_zero, Nat.zero_add, Nat.mul_one, Nat.mul_zero, hI_cg, hP_cg, hJ_cg, wI_cg, wP_cg, wJ_cg, eT_token_281]
    exact ⟨_, rfl, f2.u (by unfold tk4; omega), by rw [u2_k _ _ _ _ (by omega)]; exact e7, by rw [u2_k _ _ _ _ (by omega)]; exact e10, Or.inl ⟨rfl, u2_s ..⟩⟩
  have c' : ¬ q = n := by omega
  simp (disch := omega) only [c', c, ↓reduceIte, ↓qX_m, ↓qR_m, ↓cI_m, ↓cV_m, ↓cJ_m, ↓cO_m, ↓cR_m, ixq_n, ixq_l, tgq_ok, nL_mul, nR_mul, nL_add, nR_add, nL_sub, nR_sub, nI_add, pk_mul, nn_sub, ng1_0, ng1_1, an_0, an_1, i1_0, Nat.add_zero, Nat.zero_add, Nat.mul_one, Nat.mul_zero, hI_cg, hP_cg, hJ_cg, wI_cg, wP_cg, wJ_cg, tw_small d I2 J C hn (by omega : q ≤ n) h256 r1, eT_token_87, bI_z, Bool.true_eq_false, Bool.false_eq_true]
  unfold tqE tqK tqV
  cases hs : sml b n q with
  | true =>
    simp only [eq_self, decide_true, decide_false, cond_true, cond_false, ↓reduceIte, Bool.true_eq_false]
    -- letters
    have s2 := lps (fun e => (Run_ (d, mT_token, 90, [some (vR (1000, 0, 0))], [], (tw (u2 I2 1000 7 (nI e)) J, C)))) (fun e => cI (Run_ (d, mT_wordAt, 0, [some (vR (1000, 0, 0)), some (vI (nI q)), some (vI (nI e)), none, none, none, none, none], [], (tw (u2 I2 1000 7 (nI e)) J, C))) fun x G => (Run_ (d, mT_token, 127, [some (vR (1000, 0, 0))], [vI x, vR (1000, 0, 0)], G))) (sml b n) n (sml_n b n) (fun e he => by
      try dsimp only
      have r := r1.u 7 (nI e) (by omega)
      rw [eT_token_90]
      simp (disch := omega) only [↓reduceIte, ↓qX_m, ↓qR_m, ↓cI_m, ↓cV_m, ↓cJ_m, ↓cO_m, ↓cR_m, ixq_n, ixq_l, tgq_ok, nL_mul, nR_mul, nL_add, nR_add, nL_sub, nR_sub, nI_add, pk_mul, nn_sub, ng1_0, ng1_1, an_0, an_1, i1_0, Nat.add_zero, Nat.zero_add, Nat.mul_one, Nat.mul_zero, hI_cg, hP_cg, hJ_cg, wI_cg, wP_cg, wJ_cg, u2_s, tw_small d _ J C hn he h256 r, eT_token_98, bI_z, Bool.true_eq_false, Bool.false_eq_true, u2_k, e10, u2_u2]
      cases sml b n e <;> simp only [eq_self, decide_true, decide_false, cond_true, cond_false, ↓reduceIte, Bool.true_eq_false]) q (by omega)
    try dsimp only at s2
    rw [u2_id I2 1000 7 (nI q) e7] at s2
    rw [s2]
    have he := scn_le (sml b n) (n - q) q
    generalize scn (sml b n) (n - q) q = e at he ⊢
    have r := r1.u 7 (nI e) (by omega)
    have f3 : FrI tk4 I (u2 I2 1000 7 (nI e)) := f2.u (by unfold tk4; omega)
    have g7 : u2 I2 1000 7 (nI e) 1000 7 = nI e := u2_s ..
    have g10 : u2 I2 1000 7 (nI e) 1000 10 = nI q := by rw [u2_k _ _ _ _ (by omega)]; exact e10
    generalize u2 I2 1000 7 (nI e) = I3 at r f3 g7 g10 ⊢
    simp (disch := omega) only [↓reduceIte, ↓qX_m, ↓qR_m, ↓cI_m, ↓cV_m, ↓cJ_m, ↓cO_m, ↓cR_m, ixq_n, ixq_l, tgq_ok, nL_mul, nR_mul, nL_add, nR_add, nL_sub, nR_sub, nI_add, pk_mul, nn_sub, ng1_0, ng1_1, an_0, an_1, i1_0, Nat.add_zero, Nat.zero_add, Nat.mul_one, Nat.mul_zero, hI_cg, hP_cg, hJ_cg, wI_cg, wP_cg, wJ_cg, tw_word d I3 J C hn (by omega : q ≤ e) (by omega : e ≤ n) h256 r, eT_token_127, u2_s, u2_k, g7, g10, nL_lt]
    rcases wd_t b q e with ⟨w1, w2⟩ | ⟨w1, w2⟩
    · have w3 : ¬ wdx b q e < 21 := by omega
      have m1 : ((-1 : Int32) < 0) = True := eq_true (by decide)
      simp (disch := omega) only [↓reduceIte, ↓qX_m, ↓qR_m, ↓cI_m, ↓cV_m, ↓cJ_m, ↓cO_m, ↓cR_m, ixq_n, ixq_l, tgq_ok, nL_mul, nR_mul, nL_add, nR_add, nL_sub, nR_sub, nI_add, pk_mul, nn_sub, ng1_0, ng1_1, an_0, an_1, i1_0, Nat.add_zero, Nat.zero_add, Nat.mul_one, Nat.mul_zero, hI_cg, hP_cg, hJ_cg, wI_cg, wP_cg, wJ_cg, w2, w3, m1, eT_token_162, u2_s, u2_k, eT_token_281]
      by_cases c6 : 6 < e - q
      · have m2 : ((6 : Int32) = 2) = False := eq_false (by decide)
        simp (disch := omega) only [eq_true c6, m2, ↓reduceIte, ↓qX_m, ↓qR_m, ↓cI_m, ↓cV_m, ↓cJ_m, ↓cO_m, ↓cR_m, ixq_n, ixq_l, tgq_ok, nL_mul, nR_mul, nL_add, nR_add, nL_sub, nR_sub, nI_add, pk_mul, nn_sub, ng1_0, ng1_1, an_0, an_1, i1_0, Nat.add_zero, Nat.zero_add, Nat.mul_one, Nat.mul_zero, hI_cg, hP_cg, hJ_cg, wI_cg, wP_cg, wJ_cg]
        refine ⟨_, rfl, (f3.u (by unfold tk4; omega)).u (by unfold tk4; omega), ?_, ?_, TTv.k6 (Or.inl (u2_s ..))⟩
        · simp (disch := omega) only [u2_k, g7]
        · simp (disch := omega) only [u2_k, g10]
      · simp (disch := omega) only [c6, ↓reduceIte, ↓qX_m, ↓qR_m, ↓cI_m, ↓cV_m, ↓cJ_m, ↓cO_m, ↓cR_m, ixq_n, ixq_l, tgq_ok, nL_mul, nR_mul, nL_add, nR_add, nL_sub, nR_sub, nI_add, pk_mul, nn_sub, ng1_0, ng1_1, an_0, an_1, i1_0, Nat.add_zero, Nat.zero_add, Nat.mul_one, Nat.mul_zero, hI_cg, hP_cg, hJ_cg, wI_cg, wP_cg, wJ_cg, g7, g10, tw_packed d _ J C hn (by omega : q ≤ e) (by omega : e ≤ n) ((r.u 9 (-1) (by omega)).u 8 2 (by omega)), eT_token_186, eT_token_281]
        refine ⟨_, rfl, ((f3.u (by unfold tk4; omega)).u (by unfold tk4; omega)).u (by unfold tk4; omega), ?_, ?_, Or.inr (Or.inr (Or.inl ⟨rfl, ?_, u2_s ..⟩))⟩
        · simp (disch := omega) only [u2_k, g7]
        · simp (disch := omega) only [u2_k, g10]
        · simp (disch := omega) only [u2_k, u2_s]
    · have sw := (swp_lt _ w1).1
      have m1 : (nI (swp (wdx b q e)) < 0) = False := nI_lt0 (by omega)
      have m2 : ((1 : Int32) = 2) = False := eq_false (by decide)
      simp (disch := omega) only [↓reduceIte, ↓qX_m, ↓qR_m, ↓cI_m, ↓cV_m, ↓cJ_m, ↓cO_m, ↓cR_m, ixq_n, ixq_l, tgq_ok, nL_mul, nR_mul, nL_add, nR_add, nL_sub, nR_sub, nI_add, pk_mul, nn_sub, ng1_0, ng1_1, an_0, an_1, i1_0, Nat.add_zero, Nat.zero_add, Nat.mul_one, Nat.mul_zero, hI_cg, hP_cg, hJ_cg, wI_cg, wP_cg, wJ_cg, w2, eq_true w1, m1, m2, eT_token_162, u2_s, u2_k, eT_token_281]
      refine ⟨_, rfl, (f3.u (by unfold tk4; omega)).u (by unfold tk4; omega), ?_, ?_, Or.inr (Or.inl ⟨rfl, u2_s .., wdx b q e, w1, rfl, ?_⟩)⟩
      · simp (disch := omega) only [u2_k, g7]
      · simp (disch := omega) only [u2_k, g10]
      · simp (disch := omega) only [u2_k, u2_s]
  | false =>
    simp (disch := omega) only [eq_self, decide_true, decide_false, cond_true, cond_false, ↓reduceIte, ↓reduceIte, ↓qX_m, ↓qR_m, ↓cI_m, ↓cV_m, ↓cJ_m, ↓cO_m, ↓cR_m, ixq_n, ixq_l, tgq_ok, nL_mul, nR_mul, nL_add, nR_add, nL_sub, nR_sub, nI_add, pk_mul, nn_sub, ng1_0, ng1_1, an_0, an_1, i1_0, Nat.add_zero, Nat.zero_add, Nat.mul_one, Nat.mul_zero, hI_cg, hP_cg, hJ_cg, wI_cg, wP_cg, wJ_cg, e7, tw_digit d I2 J C hn (by omega : q ≤ n) h256 r1, eT_token_200, bI_z, Bool.true_eq_false, Bool.false_eq_true]
    cases hd : dgt b n q with
    | true =>
      simp only [eq_self, decide_true, decide_false, cond_true, cond_false, ↓reduceIte, Bool.true_eq_false]
      obtain ⟨s2, s3⟩ := lps2 (fun e v => (Run_ (d, mT_token, 213, [some (vR (1000, 0, 0))], [], (tw (u2 (u2 (u2 I2 1000 8 3) 1000 9 (nI v)) 1000 7 (nI e)) J, C)))) (fun e v => some (.inl none, (tw (u2 (u2 (u2 I2 1000 8 3) 1000 9 (nI v)) 1000 7 (nI e)) J, C))) (nmF b) (fun v => v ≤ 999999) (dgt b n) n (dgt_n b n) (fun p v hq hv => nmF_in hq hv) (fun e v he hv => by
        try dsimp only
        have r := ((r1.u 8 3 (by omega)).u 9 (nI v) (by omega)).u 7 (nI e) (by omega)
        rw [eT_token_213]
        simp (disch := omega) only [↓reduceIte, ↓qX_m, ↓qR_m, ↓cI_m, ↓cV_m, ↓cJ_m, ↓cO_m, ↓cR_m, ixq_n, ixq_l, tgq_ok, nL_mul, nR_mul, nL_add, nR_add, nL_sub, nR_sub, nI_add, pk_mul, nn_sub, ng1_0, ng1_1, an_0, an_1, i1_0, Nat.add_zero, Nat.zero_add, Nat.mul_one, Nat.mul_zero, hI_cg, hP_cg, hJ_cg, wI_cg, wP_cg, wJ_cg, u2_s, tw_digit d _ J C hn he h256 r, eT_token_221, bI_z, Bool.true_eq_false, Bool.false_eq_true, u2_k, eT_token_281]
        cases hde : dgt b n e with
        | false => simp only [eq_self, decide_true, decide_false, cond_true, cond_false, ↓reduceIte]
        | true =>
          have hen : e < n := by
            rcases Nat.lt_or_ge e n with z | z
            · exact z
            · have : e = n := by omega
              rw [this, dgt_n] at hde
              cases hde
          have e3 := r.2.1 e hen
          have h2 := h256 e
          have hb : ¬ b e < 48 := by
            unfold dgt at hde
            rw [Bool.and_eq_true, Bool.and_eq_true] at hde
            intro z
            have := hde.2.1
            rw [decide_eq_true z] at this
            cases this
          have hw : ∀ x y : Int32, u2 (u2 (u2 (u2 (u2 I2 1000 8 3) 1000 9 (nI v)) 1000 7 (nI e)) 1000 9 x) 1000 7 y = u2 (u2 (u2 I2 1000 8 3) 1000 9 x) 1000 7 y := by
            intro x y
            funext t k
            by_cases z1 : t = 1000 ∧ k = 7
            · simp only [u2_ap, eq_true z1, ↓reduceIte]
            · by_cases z2 : t = 1000 ∧ k = 9
              · simp only [u2_ap, z1, eq_true z2, ↓reduceIte]
              · simp only [u2_ap, z1, z2, ↓reduceIte]
          simp (disch := omega) only [eq_self, decide_true, decide_false, cond_true, cond_false, ↓reduceIte, Bool.true_eq_false, nL_lt]
          unfold nmF
          by_cases c9 : 99999 < v
          · simp (disch := omega) only [eq_true c9, ↓reduceIte, ↓qX_m, ↓qR_m, ↓cI_m, ↓cV_m, ↓cJ_m, ↓cO_m, ↓cR_m, ixq_n, ixq_l, tgq_ok, nL_mul, nR_mul, nL_add, nR_add, nL_sub, nR_sub, nI_add, pk_mul, nn_sub, ng1_0, ng1_1, an_0, an_1, i1_0, Nat.add_zero, Nat.zero_add, Nat.mul_one, Nat.mul_zero, hI_cg, hP_cg, hJ_cg, wI_cg, wP_cg, wJ_cg, eT_token_261, u2_s, u2_k, hw]
          · simp (disch := omega) only [c9, ↓reduceIte, ↓qX_m, ↓qR_m, ↓cI_m, ↓cV_m, ↓cJ_m, ↓cO_m, ↓cR_m, ixq_n, ixq_l, tgq_ok, nL_mul, nR_mul, nL_add, nR_add, nL_sub, nR_sub, nI_add, pk_mul, nn_sub, ng1_0, ng1_1, an_0, an_1, i1_0, Nat.add_zero, Nat.zero_add, Nat.mul_one, Nat.mul_zero, hI_cg, hP_cg, hJ_cg, wI_cg, wP_cg, wJ_cg, e3, eT_token_261, u2_s, u2_k, hw]) q 0 (by omega) (by omega)
      try dsimp only at s2
      have s4 : u2 (u2 (u2 I2 1000 8 3) 1000 9 (nI 0)) 1000 7 (nI q) = u2 (u2 I2 1000 8 3) 1000 9 0 := u2_id _ _ _ _ (by rw [u2_k _ _ _ _ (by omega), u2_k _ _ _ _ (by omega)]; exact e7)
      rw [s4] at s2
      rw [s2]
      refine ⟨_, rfl, ((f2.u (by unfold tk4; omega)).u (by unfold tk4; omega)).u (by unfold tk4; omega), u2_s .., ?_, Or.inr (Or.inr (Or.inr (Or.inl ⟨rfl, ?_, ?_⟩)))⟩
      · simp (disch := omega) only [u2_k, e10]
      · simp (disch := omega) only [u2_k, u2_s]
      · simp (disch := omega) only [u2_k, u2_s]
    | false =>
      simp only [eq_self, decide_true, decide_false, cond_true, cond_false, ↓reduceIte]
      obtain ⟨I3, r3, f3, g1, g2, g3⟩ := tw_sign (b := b) (n := n) (q := q) d I2 J C hn (by omega) h256 r1 e7
      simp (disch := omega) only [↓reduceIte, ↓qX_m, ↓qR_m, ↓cI_m, ↓cV_m, ↓cJ_m, ↓cO_m, ↓cR_m, ixq_n, ixq_l, tgq_ok, nL_mul, nR_mul, nL_add, nR_add, nL_sub, nR_sub, nI_add, pk_mul, nn_sub, ng1_0, ng1_1, an_0, an_1, i1_0, Nat.add_zero, Nat.zero_add, Nat.mul_one, Nat.mul_zero, hI_cg, hP_cg, hJ_cg, wI_cg, wP_cg, wJ_cg, r3, eT_token_281]
      exact ⟨_, rfl, f2.tr f3, g1, g2.trans e10, g3⟩
