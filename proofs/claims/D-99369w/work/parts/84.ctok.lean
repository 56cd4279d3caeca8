/-! THE COMPONENT's tokens -/
theorem scn_stop (q : Nat → Bool) (n : Nat) (hq : q n = false) : ∀ p, p ≤ n → q (scn q (n - p) p) = false := by
  have key : ∀ m p, p + m = n → q (scn q m p) = false := by
    intro m
    induction m with
    | zero => intro p hp; rw [show p = n from by omega]; exact hq
    | succ m ih =>
      intro p hp
      show q (bif q p then scn q m (p + 1) else p) = false
      cases h : q p with
      | true => exact ih (p + 1) (by omega)
      | false => exact h
  intro p hp
  exact key (n - p) p (by omega)
theorem scn_all (q : Nat → Bool) : ∀ f p j, p ≤ j → j < scn q f p → q j = true := by
  intro f
  induction f with
  | zero => intro p j h1 h2; have h2 : j < p := h2; omega
  | succ f ih =>
    intro p j h1 h2
    have h2 : j < (bif q p then scn q f (p + 1) else p) := h2
    cases h : q p with
    | true =>
      rw [h] at h2
      by_cases e : j = p
      · rw [e]; exact h
      · exact ih (p + 1) j (by omega) h2
    | false => rw [h] at h2; have h2 : j < p := h2; omega
theorem b8 : ∀ c, c < 256 → ((nI c).toInt8.toInt32 &&& 255) = nI c := by decide +kernel
theorem b7 : ∀ c, c < 128 → (nI c).toInt8.toInt32 = nI c := by decide +kernel
theorem b97 : ∀ c, c < 256 → ∀ w, w < 21 → ∀ k, k < wlen w → ((nI (wch w k) = (nI c).toInt8.toInt32) ↔ wch w k = c) := by decide +kernel
def sgT (k : Nat) : Nat := ([59, 40, 41, 43, 45, 42, 47, 60, 61, 62] : List Nat).getD k 0
theorem tx_p : ∀ w, w < 21 → oP (101, 0, w) 0 = some (102, wlen w, w) := by decide +kernel
theorem tx_c : ∀ w, w < 21 → ∀ k, k < wlen w → tx_ w k = nI (wch w k) := by decide +kernel
theorem tx_s : ∀ k, k < 10 → tx_ 21 k = nI (sgT k) := by decide +kernel
theorem tx_l : ∀ w, w < 21 → wlen w < 6 := by decide
theorem sg_b : ∀ c, c < 256 → ∀ k, k < 10 → (nI (sgT k) = (nI c).toInt8.toInt32 ↔ sgT k = c) := by decide +kernel
theorem sg_k : ∀ c, c < 256 → ((∃ k, k < 10 ∧ sgT k = c) ↔ sgK c ≠ 6) := by decide +kernel
theorem ch_c : ∀ c, c < 256 → UInt32.toInt32 (Int32.toUInt32 ((nI c) &&& 255) % 65536) = nI c ∧ ng_ 3 (nI c) = nI c := by decide +kernel
theorem wch_lt : ∀ w, w < 21 → ∀ k, k < wlen w → wch w k < 128 := by decide
theorem hP_t (G : G_) (w k : Nat) : hP G (101, 0, w) k = oP (101, 0, w) k := rfl
theorem hP_n (G : G_) (w : Nat) : hP G (103, 21, 0) w = some (101, 0, w) := rfl
theorem hI_t (G : G_) (m w k : Nat) : hI G (102, m, w) k = tx_ w k := rfl
theorem hI_o (G : G_) (w k : Nat) : hI G (101, 0, w) k = 0 := rfl
theorem n1_0 : ((1 : Nat) = 0) = False := eq_false (by decide)
theorem ac_slen (d : Nat) (G : G_) {w : Nat} (hw : w < 21) : (Run_ (d, mString_length, 0, [some (vR (101, 0, w))], [], G)) = some (.inl (some (vI (nI (wlen w)))), G) := by
  have h1 := tx_p w hw
  have h2 : nI (wlen w) >>> ((0 : Int32) &&& 31) = nI (wlen w) := by
    have : ∀ w, w < 21 → nI (wlen w) >>> ((0 : Int32) &&& 31) = nI (wlen w) := by decide +kernel
    exact this w hw
  have h3 : (ng_ 2 0 = 0) = True := eq_true rfl
  simp (disch := omega) only [eString_length_0, eString_coder_0, eString_coder_14, ↓reduceIte, ↓qX_m, ↓qR_m, ↓cI_m, ↓cV_m, ↓cJ_m, ↓cO_m, ↓cR_m, ixq_n, ixq_l, tgq_ok, nL_mul, nR_mul, nL_add, nR_add, nL_sub, nR_sub, nI_add, pk_mul, nn_sub, ng1_0, ng1_1, an_0, an_1, i1_0, Nat.add_zero, Nat.zero_add, Nat.mul_one, Nat.mul_zero, hI_cg, hP_cg, hJ_cg, wI_cg, wP_cg, wJ_cg, n1_0, hP_t, hI_o, h1, h2, h3]
theorem ac_schar (d : Nat) (G : G_) {w k : Nat} (hw : w < 21) (hk : k < wlen w) : (Run_ (d, mString_charAt, 0, [some (vR (101, 0, w)), some (vI (nI k))], [], G)) = some (.inl (some (vI (nI (wch w k)))), G) := by
  have h1 := tx_p w hw
  have h2 := tx_c w hw k hk
  have h3 := wch_lt w hw k hk
  obtain ⟨h4, h5⟩ := ch_c (wch w k) (by omega)
  have h6 := tx_l w hw
  simp (disch := omega) only [eString_charAt_0, eString_isLatin1_0, eString_isLatin1_17, eString_isLatin1_18, eStringLatin1_charAt_0, eString_checkIndex_0, ePreconditions_checkIndex_0, ↓reduceIte, ↓qX_m, ↓qR_m, ↓cI_m, ↓cV_m, ↓cJ_m, ↓cO_m, ↓cR_m, ixq_n, ixq_l, tgq_ok, nL_mul, nR_mul, nL_add, nR_add, nL_sub, nR_sub, nI_add, pk_mul, nn_sub, ng1_0, ng1_1, an_0, an_1, i1_0, Nat.add_zero, Nat.zero_add, Nat.mul_one, Nat.mul_zero, hI_cg, hP_cg, hJ_cg, wI_cg, wP_cg, wJ_cg, n1_0, hP_t, hI_o, hI_t, h1, h2, h4, h5, nI_lt0, nn_lt, hk]
theorem ac_sidx (d : Nat) (G : G_) {c : Nat} (hc : c < 256) : ∃ x : Int32, (Run_ (d, mString_indexOf_I, 0, [some (vR (101, 0, 21)), some (vI (nI c))], [], G)) = some (.inl (some (vI x)), G) ∧ (x < 0 ↔ sgK c = 6) := by
  have h1 : oP (101, 0, 21) 0 = some (102, 10, 21) := by decide +kernel
  have h2 : nI 10 >>> ((0 : Int32) &&& 31) = nI 10 := by decide +kernel
  have h3 : (ng_ 2 0 = 0) = True := eq_true rfl
  have h4 : imax 0 0 = 0 := by decide
  have h5 : imin (nI 10) (nI 10) = nI 10 := by decide
  have h6 : ((0 : Int32) < nI 10) = True := eq_true (by decide)
  have hl := lpd (fun k => (Run_ (d, mStringLatin1_indexOfChar, 7, [some (vR (102, 10, 21)), none, none, some (vI (nI 10)), some (vI ((nI c).toInt8.toInt32)), some (vI (nI k))], [], G))) (fun x => some (.inl (some (vI x)), G)) (fun k => decide (sgT k = c)) 10 (fun k hk => by
      try dsimp only
      have e1 := tx_s k hk
      have e2 := sg_b c hc k hk
      rw [eStringLatin1_indexOfChar_7]
      simp (disch := omega) only [↓reduceIte, ↓qX_m, ↓qR_m, ↓cI_m, ↓cV_m, ↓cJ_m, ↓cO_m, ↓cR_m, ixq_n, ixq_l, tgq_ok, nL_mul, nR_mul, nL_add, nR_add, nL_sub, nR_sub, nI_add, pk_mul, nn_sub, ng1_0, ng1_1, an_0, an_1, i1_0, Nat.add_zero, Nat.zero_add, Nat.mul_one, Nat.mul_zero, hI_cg, hP_cg, hJ_cg, wI_cg, wP_cg, wJ_cg, nn_lt, hk, hI_t, e1, e2]
      by_cases z : sgT k = c
      · simp only [eq_true z, eq_self, decide_true, decide_false, cond_true, cond_false, ↓reduceIte]
      · simp only [z, eq_self, decide_true, decide_false, cond_true, cond_false, ↓reduceIte]) (by
      try dsimp only
      rw [eStringLatin1_indexOfChar_7]
      simp (disch := omega) only [↓reduceIte, ↓qX_m, ↓qR_m, ↓cI_m, ↓cV_m, ↓cJ_m, ↓cO_m, ↓cR_m, ixq_n, ixq_l, tgq_ok, nL_mul, nR_mul, nL_add, nR_add, nL_sub, nR_sub, nI_add, pk_mul, nn_sub, ng1_0, ng1_1, an_0, an_1, i1_0, Nat.add_zero, Nat.zero_add, Nat.mul_one, Nat.mul_zero, hI_cg, hP_cg, hJ_cg, wI_cg, wP_cg, wJ_cg, nn_lt, Nat.lt_irrefl])
  have hl : (Run_ (d, mStringLatin1_indexOfChar, 7, [some (vR (102, 10, 21)), none, none, some (vI (nI 10)), some (vI ((nI c).toInt8.toInt32)), some (vI 0)], [], G)) = _ := hl
  refine ⟨fnd (fun k => decide (sgT k = c)) 0 10, ?_, ?_⟩
  · simp (disch := omega) only [eString_indexOf_I_0, eString_indexOf_II_0, eString_indexOf_II_36, eString_isLatin1_0, eString_isLatin1_17, eString_isLatin1_18, eString_length_0, eString_coder_0, eString_coder_14, eStringLatin1_indexOf_0, eStringLatin1_canEncode_0, eStringLatin1_canEncode_15, eStringLatin1_canEncode_16, eStringLatin1_indexOfChar_0, ↓reduceIte, ↓qX_m, ↓qR_m, ↓cI_m, ↓cV_m, ↓cJ_m, ↓cO_m, ↓cR_m, ixq_n, ixq_l, tgq_ok, nL_mul, nR_mul, nL_add, nR_add, nL_sub, nR_sub, nI_add, pk_mul, nn_sub, ng1_0, ng1_1, an_0, an_1, i1_0, Nat.add_zero, Nat.zero_add, Nat.mul_one, Nat.mul_zero, hI_cg, hP_cg, hJ_cg, wI_cg, wP_cg, wJ_cg, n1_0, hP_t, hI_o, h1, h2, h3, nI_lt0, nL_lt, ac_max, ac_min, h4, h5, h6, hl]
    have h7 : ¬ 255 < c := by omega
    simp only [h7, ↓reduceIte, ↓reduceIte, ↓qX_m, ↓qR_m, ↓cI_m, ↓cV_m, ↓cJ_m, ↓cO_m, ↓cR_m, ixq_n, ixq_l, tgq_ok, nL_mul, nR_mul, nL_add, nR_add, nL_sub, nR_sub, nI_add, pk_mul, nn_sub, ng1_0, ng1_1, an_0, an_1, i1_0, Nat.add_zero, Nat.zero_add, Nat.mul_one, Nat.mul_zero, hI_cg, hP_cg, hJ_cg, wI_cg, wP_cg, wJ_cg, hl]
  · rcases fnd_spec (fun k => decide (sgT k = c)) 10 0 with ⟨g1, g2⟩ | ⟨j, g1, g2, g3, g4⟩
    · rw [g1]
      refine ⟨fun _ => ?_, fun _ => by decide⟩
      by_cases z : sgK c = 6
      · exact z
      · obtain ⟨k, k1, k2⟩ := (sg_k c hc).mpr z
        have := g2 k (Nat.zero_le _) (by omega)
        rw [decide_eq_true k2] at this
        cases this
    · rw [g4]
      refine ⟨fun z => ?_, fun z => ?_⟩
      · rw [nI_lt0 (by omega)] at z; exact z.elim
      · exact absurd z ((sg_k c hc).mp ⟨j, by omega, of_decide_eq_true g3⟩)
/-- the tape, as it is read -/
def CRd (b : Nat → Nat) (n : Nat) (I : RI_) (P : RP_) : Prop := I (2, 0, 32) 1 = nI n ∧ (∀ k, k < n → I (42, 700, 2) k = (nI (b k)).toInt8.toInt32) ∧ P (2, 0, 32) 8 = some (1, 0, 1) ∧ P (1, 0, 1) 0 = some (42, 700, 2)
variable {b : Nat → Nat} {n : Nat} {P : RP_}
theorem CRd.u {I : RI_} (h : CRd b n I P) (k : Nat) (x : Int32) (hk : 1 ≠ k) : CRd b n (u2 I (2, 0, 32) k x) P :=
  ⟨by rw [u2_k _ _ _ _ hk]; exact h.1, fun j hj => by rw [u2_r _ _ _ _ (by omega)]; exact h.2.1 j hj, h.2.2⟩
def hrS (b : Nat → Nat) (n p : Nat) : Int32 := if p < n then nI (b p) else -1
theorem ac_here (d : Nat) (T : T_) (m : Nat) (I : RI_) (J : RJ_) {p : Nat} (hn : n ≤ 700) (hp : p ≤ n) (h256 : ∀ k, b k < 256) (h : CRd b n I P) (h0 : I (2, 0, 32) 0 = nI p) : (Run_ (d, mReader_here, 0, [some (vR (2, 0, 32))], [], (cg T m I J P))) = some (.inl (some (vI (hrS b n p))), cg T m I J P) := by
  unfold hrS
  by_cases c : p < n
  · have e := h.2.1 p c
    have e2 := b8 (b p) (h256 p)
    simp (disch := omega) only [eReader_here_0, eReader_here_31, ↓reduceIte, ↓qX_m, ↓qR_m, ↓cI_m, ↓cV_m, ↓cJ_m, ↓cO_m, ↓cR_m, ixq_n, ixq_l, tgq_ok, nL_mul, nR_mul, nL_add, nR_add, nL_sub, nR_sub, nI_add, pk_mul, nn_sub, ng1_0, ng1_1, an_0, an_1, i1_0, Nat.add_zero, Nat.zero_add, Nat.mul_one, Nat.mul_zero, hI_cg, hP_cg, hJ_cg, wI_cg, wP_cg, wJ_cg, h0, h.1, nn_lt, c, h.2.2.1, h.2.2.2, e, e2]
  · simp (disch := omega) only [eReader_here_0, eReader_here_31, ↓reduceIte, ↓qX_m, ↓qR_m, ↓cI_m, ↓cV_m, ↓cJ_m, ↓cO_m, ↓cR_m, ixq_n, ixq_l, tgq_ok, nL_mul, nR_mul, nL_add, nR_add, nL_sub, nR_sub, nI_add, pk_mul, nn_sub, ng1_0, ng1_1, an_0, an_1, i1_0, Nat.add_zero, Nat.zero_add, Nat.mul_one, Nat.mul_zero, hI_cg, hP_cg, hJ_cg, wI_cg, wP_cg, wJ_cg, h0, h.1, nn_lt, c]
theorem hr_in (b : Nat → Nat) (n p lo hi : Nat) (hlo : lo < 256) (hhi : hi < 256) (h256 : ∀ k, b k < 256) : inS (hrS b n p) (nI lo) (nI hi) = (decide (p < n) && (!decide (b p < lo) && !decide (hi < b p))) := by
  have h2 := h256 p
  unfold inS hrS
  by_cases c : p < n
  · rw [if_pos c, decide_eq_true c]
    by_cases c1 : b p < lo
    · rw [decide_eq_true c1, decide_eq_true (by rw [nn_lt (by omega) (by omega)]; exact c1)]; rfl
    · rw [decide_eq_false c1, decide_eq_false (by rw [nn_lt (by omega) (by omega)]; exact c1)]
      by_cases c2 : hi < b p
      · rw [decide_eq_true c2, decide_eq_true (by rw [nn_lt (by omega) (by omega)]; exact c2)]; rfl
      · rw [decide_eq_false c2, decide_eq_false (by rw [nn_lt (by omega) (by omega)]; exact c2)]; rfl
  · rw [if_neg c, decide_eq_false c]
    have : (-1 : Int32) < nI lo := by rw [i_lt, nI_toInt (by omega)]; have : (-1 : Int32).toInt = -1 := by decide
                                      omega
    rw [decide_eq_true this]; rfl
theorem ac_sm (d : Nat) (G : G_) (p : Nat) (h256 : ∀ k, b k < 256) : (Run_ (d, mC_in, 0, [some (vJ (Int32.toInt64 (hrS b n p))), none, some (vJ 97), none, some (vJ 122), none], [], G)) = some (.inl (some (vI (bI (sml b n p)))), G) := by
  rw [ac_inI d G (hrS b n p) (nI 97) (nI 122) (by decide) (by decide), hr_in b n p 97 122 (by omega) (by omega) h256]; rfl
theorem ac_dg (d : Nat) (G : G_) (p : Nat) (h256 : ∀ k, b k < 256) : (Run_ (d, mC_in, 0, [some (vJ (Int32.toInt64 (hrS b n p))), none, some (vJ 48), none, some (vJ 57), none], [], G)) = some (.inl (some (vI (bI (dgt b n p)))), G) := by
  rw [ac_inI d G (hrS b n p) (nI 48) (nI 57) (by decide) (by decide), hr_in b n p 48 57 (by omega) (by omega) h256]; rfl
theorem hr_eq {p c : Nat} (hc : c < 256) (h256 : ∀ k, b k < 256) : (hrS b n p = nI c) = (p < n ∧ b p = c) := by
  have h2 := h256 p
  unfold hrS
  by_cases z : p < n
  · rw [if_pos z, nn_eq (by omega) (by omega)]
    exact propext ⟨fun q => ⟨z, q⟩, fun q => q.2⟩
  · rw [if_neg z]
    apply propext
    refine ⟨fun q => ?_, fun q => absurd q.1 z⟩
    have := nI_neq (n := c) (by omega)
    have q2 : nI c = -1 := q.symm
    rw [this] at q2
    exact q2.elim
/-- a word sought -/
theorem ac_word (d : Nat) (T : T_) (m : Nat) (I : RI_) (J : RJ_) {q e : Nat} (hn : n ≤ 700) (hq : q ≤ e) (he : e ≤ n) (h256 : ∀ k, b k < 256) (h : CRd b n I P) (h0 : I (2, 0, 32) 0 = nI e) (h2 : I (2, 0, 32) 2 = nI q) : (Run_ (d, mReader_word, 0, [some (vR (2, 0, 32)), none, none], [], (cg T m I J P))) = some (.inl (some (vI (fnd (wmt b q e) 0 21))), cg T m I J P) := by
  rw [eReader_word_0]
  have cmp : ∀ w, w < 21 → wlen w = e - q → ∀ (r j : Nat), j + r = wlen w → (Run_ (d, mReader_word, 35, [some (vR (2, 0, 32)), some (vI (nI w)), some (vI (nI j))], [], (cg T m I J P))) = bif alb (fun i => decide (wch w i = b (q + i))) j r then some (.inl (some (vI (nI w))), cg T m I J P) else (Run_ (d, mReader_word, 2, [some (vR (2, 0, 32)), some (vI (nI (w + 1))), none], [], (cg T m I J P))) := by
    intro w hw hle r
    have hl := tx_l w hw
    induction r with
    | zero =>
      intro j hj
      have hj2 : ¬ q + j < e := by omega
      have hj3 : q + j = e := by omega
      rw [eReader_word_35]
      simp (disch := omega) only [↓reduceIte, ↓qX_m, ↓qR_m, ↓cI_m, ↓cV_m, ↓cJ_m, ↓cO_m, ↓cR_m, ixq_n, ixq_l, tgq_ok, nL_mul, nR_mul, nL_add, nR_add, nL_sub, nR_sub, nI_add, pk_mul, nn_sub, ng1_0, ng1_1, an_0, an_1, i1_0, Nat.add_zero, Nat.zero_add, Nat.mul_one, Nat.mul_zero, hI_cg, hP_cg, hJ_cg, wI_cg, wP_cg, wJ_cg, h0, h2, nn_lt, hj2, eReader_word_80, nn_eq, eq_true hj3]
      rfl
    | succ r ih =>
      intro j hj
      have hj2 : q + j < e := by omega
      have hj3 : ¬ q + j = e := by omega
      have e1 := h.2.1 (q + j) (by omega)
      have e2 := b97 (b (q + j)) (h256 _) w hw j (by omega)
      rw [eReader_word_35]
      simp (disch := omega) only [↓reduceIte, ↓qX_m, ↓qR_m, ↓cI_m, ↓cV_m, ↓cJ_m, ↓cO_m, ↓cR_m, ixq_n, ixq_l, tgq_ok, nL_mul, nR_mul, nL_add, nR_add, nL_sub, nR_sub, nI_add, pk_mul, nn_sub, ng1_0, ng1_1, an_0, an_1, i1_0, Nat.add_zero, Nat.zero_add, Nat.mul_one, Nat.mul_zero, hI_cg, hP_cg, hJ_cg, wI_cg, wP_cg, wJ_cg, h0, h2, nn_lt, hj2, hP_n, ac_schar d _ hw (by omega : j < wlen w), h.2.2.1, h.2.2.2, e1, e2, nR_add]
      show _ = bif (decide (wch w j = b (q + j)) && alb (fun i => decide (wch w i = b (q + i))) (j + 1) r) then _ else _
      by_cases c : wch w j = b (q + j)
      · simp only [eq_true c, eq_self, decide_true, decide_false, cond_true, cond_false, ↓reduceIte, Bool.true_and]
        exact ih (j + 1) (by omega)
      · simp (disch := omega) only [c, eq_self, decide_true, decide_false, cond_true, cond_false, ↓reduceIte, Bool.false_and, eReader_word_80, ↓reduceIte, ↓qX_m, ↓qR_m, ↓cI_m, ↓cV_m, ↓cJ_m, ↓cO_m, ↓cR_m, ixq_n, ixq_l, tgq_ok, nL_mul, nR_mul, nL_add, nR_add, nL_sub, nR_sub, nI_add, pk_mul, nn_sub, ng1_0, ng1_1, an_0, an_1, i1_0, Nat.add_zero, Nat.zero_add, Nat.mul_one, Nat.mul_zero, hI_cg, hP_cg, hJ_cg, wI_cg, wP_cg, wJ_cg, h0, h2, nn_eq, hj3, eReader_word_95]
  have := lpd (fun w => (Run_ (d, mReader_word, 2, [some (vR (2, 0, 32)), some (vI (nI w)), none], [], (cg T m I J P)))) (fun x => some (.inl (some (vI x)), cg T m I J P)) (wmt b q e) 21 (fun w hw => ?_) ?_
  · exact this
  · try dsimp only
    have ee : nI e - nI q = nI (e - q) := nn_sub hq
    have hl := tx_l w hw
    have i21 : (nI w < nI 21) = True := by rw [nn_lt (by omega) (by omega)]; exact eq_true hw
    rw [eReader_word_2]
    simp (disch := omega) only [↓reduceIte, ↓qX_m, ↓qR_m, ↓cI_m, ↓cV_m, ↓cJ_m, ↓cO_m, ↓cR_m, ixq_n, ixq_l, tgq_ok, nL_mul, nR_mul, nL_add, nR_add, nL_sub, nR_sub, nI_add, pk_mul, nn_sub, ng1_0, ng1_1, an_0, an_1, i1_0, Nat.add_zero, Nat.zero_add, Nat.mul_one, Nat.mul_zero, hI_cg, hP_cg, hJ_cg, wI_cg, wP_cg, wJ_cg, i21, hP_n, ac_slen d _ hw, h0, h2, ee, nn_eq]
    unfold wmt
    by_cases c : wlen w = e - q
    · simp only [eq_true c, eq_self, decide_true, decide_false, cond_true, cond_false, ↓reduceIte, Bool.true_and]
      exact cmp w hw c (wlen w) 0 (by omega)
    · simp (disch := omega) only [c, eq_self, decide_true, decide_false, cond_true, cond_false, ↓reduceIte, Bool.false_and, eReader_word_95, ↓reduceIte, ↓qX_m, ↓qR_m, ↓cI_m, ↓cV_m, ↓cJ_m, ↓cO_m, ↓cR_m, ixq_n, ixq_l, tgq_ok, nL_mul, nR_mul, nL_add, nR_add, nL_sub, nR_sub, nI_add, pk_mul, nn_sub, ng1_0, ng1_1, an_0, an_1, i1_0, Nat.add_zero, Nat.zero_add, Nat.mul_one, Nat.mul_zero, hI_cg, hP_cg, hJ_cg, wI_cg, wP_cg, wJ_cg]
  · try dsimp only
    rw [eReader_word_2]
    simp (disch := omega) only [↓reduceIte, ↓qX_m, ↓qR_m, ↓cI_m, ↓cV_m, ↓cJ_m, ↓cO_m, ↓cR_m, ixq_n, ixq_l, tgq_ok, nL_mul, nR_mul, nL_add, nR_add, nL_sub, nR_sub, nI_add, pk_mul, nn_sub, ng1_0, ng1_1, an_0, an_1, i1_0, Nat.add_zero, Nat.zero_add, Nat.mul_one, Nat.mul_zero, hI_cg, hP_cg, hJ_cg, wI_cg, wP_cg, wJ_cg, nn_lt, Nat.lt_irrefl]
