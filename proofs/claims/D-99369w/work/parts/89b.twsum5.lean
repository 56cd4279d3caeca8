/-! THE TWIN's sums: signs, and a whole sum -/
variable {b : Nat → Nat} {n : Nat}
theorem Cor.pop {lo kr k : Nat} {W : List Nat} {L : List (Nat × Dn_)} {I : FI_} (h : Cor lo (k :: W) L kr I) : Cor lo W L kr (u2 I 1000 45 (nI W.length)) := by
  obtain ⟨⟨h45, hst, hW⟩, ⟨h46, hhs⟩, h20, ⟨hlo, ho, hz⟩, hb, hwf, hk2⟩ := h
  have ho : kr + ((if k = 0 then 0 else 1) + opsN W) ≤ 64 := ho
  have hz : (if k = 0 then 1 else 0) + zerN W ≤ 8 := hz
  refine ⟨⟨u2_s .., stk_fr W hst.2 (fun i hi => ?_), fun x hx => hW x (List.mem_cons_of_mem _ hx)⟩, ⟨?_, hsk_fr L hhs (fun i hi => ?_)⟩, ?_, ⟨hlo, by omega, by omega⟩, hb, fun j a c => kWf_cg (fun t x y => ?_) (hwf j a c), HK.cg hk2 hlo (fun t k x y z _ => ?_)⟩
  · simp (disch := omega) only [u2_t]
  · rw [u2_k _ _ _ _ (by omega)]; exact h46
  · simp (disch := omega) only [u2_t]
  · rw [u2_k _ _ _ _ (by omega)]; exact h20
  · unfold rz; simp (disch := omega) only [u2_t]
  · unfold rz; simp (disch := omega) only [u2_t]
/-- which sign, in the twin -/
theorem tw_op {p : Nat} {I : FI_} (d : Nat) (J : FJ_) (C : C_) (h256 : ∀ k, b k < 256) (h : TTk b n p I) : (Run_ (d, mT_signs, 47, [some (vR (1000, 0, 0)), none], [], (tw I J, C))) = (Run_ (d, mT_signs, 147, [some (vR (1000, 0, 0)), none], [vI (nI (kOp (tkK b n) (tkW b n) p))], (tw I J, C))) := by
  have k11 : (Run_ (d, mT_isKey, 0, [some (vR (1000, 0, 0)), some (vI 11)], [], (tw I J, C))) = _ := tw_isKey d J C h256 h (x := 11) (by omega)
  have k12 : (Run_ (d, mT_isKey, 0, [some (vR (1000, 0, 0)), some (vI 12)], [], (tw I J, C))) = _ := tw_isKey d J C h256 h (x := 12) (by omega)
  have s43 : (Run_ (d, mT_isSign, 0, [some (vR (1000, 0, 0)), some (vI 43)], [], (tw I J, C))) = _ := tw_isSign d J C h256 h (c := 43) rfl
  have s45 : (Run_ (d, mT_isSign, 0, [some (vR (1000, 0, 0)), some (vI 45)], [], (tw I J, C))) = _ := tw_isSign d J C h256 h (c := 45) rfl
  have s42 : (Run_ (d, mT_isSign, 0, [some (vR (1000, 0, 0)), some (vI 42)], [], (tw I J, C))) = _ := tw_isSign d J C h256 h (c := 42) rfl
  have s47 : (Run_ (d, mT_isSign, 0, [some (vR (1000, 0, 0)), some (vI 47)], [], (tw I J, C))) = _ := tw_isSign d J C h256 h (c := 47) rfl
  have hf := tk_f (n := n) h256 p
  have e5 : (I 1000 8 = 5) = (tkK b n p = 5) ∧ (tkK b n p = 5 → I 1000 9 = nI (tkW b n p)) := by
    rcases h.2.2.2.2 with ⟨k, e⟩ | ⟨k, e, -⟩ | ⟨k, e, -⟩ | ⟨k, e, -⟩ | ⟨k, e, e2⟩ | ⟨k, e, e2⟩ | ⟨k, e | ⟨e, -⟩⟩
    · exact ⟨by rw [e, k]; decide, fun z => by omega⟩
    · exact ⟨by rw [e, k]; decide, fun z => by omega⟩
    · exact ⟨by rw [e, k]; decide, fun z => by omega⟩
    · exact ⟨by rw [e, k]; decide, fun z => by omega⟩
    · exact ⟨by rw [e, k]; decide, fun z => by omega⟩
    · obtain ⟨w, w1, w2⟩ := hf.2.2.2 k
      refine ⟨propext ⟨fun _ => k, fun _ => e⟩, fun z => ?_⟩
      unfold tkW
      rw [e2, w2, nI_clamp (by omega)]
    · exact ⟨by rw [e, k]; decide, fun z => by omega⟩
    · exact ⟨by rw [e, k]; decide, fun z => by omega⟩
  have hc := fun z => tk_cmp (b := b) (n := n) p z
  have w11 : swp 11 = 12 := rfl
  have w12 : swp 12 = 11 := rfl
  rw [w11] at k11
  rw [w12] at k12
  unfold kOp
  rw [eT_signs_47]
  by_cases c1 : tkK b n p = 1 ∧ tkW b n p = 12
  · rw [decide_eq_true c1] at k11
    rw [if_pos c1]
    simp (disch := omega) only [↓reduceIte, ↓qX_m, ↓qR_m, ↓cI_m, ↓cV_m, ↓cJ_m, ↓cO_m, ↓cR_m, ixq_n, ixq_l, tgq_ok, nL_mul, nR_mul, nL_add, nR_add, nL_sub, nR_sub, nI_add, pk_mul, nn_sub, ng1_0, ng1_1, an_0, an_1, i1_0, Nat.add_zero, Nat.zero_add, Nat.mul_one, Nat.mul_zero, hI_cg, hP_cg, hJ_cg, wI_cg, wP_cg, wJ_cg, k11, bI_1, eT_signs_53]; rfl
  rw [if_neg c1]
  rw [decide_eq_false c1] at k11
  by_cases c2 : tkK b n p = 1 ∧ tkW b n p = 11
  · rw [decide_eq_true c2] at k12
    rw [if_pos c2]
    simp (disch := omega) only [↓reduceIte, ↓qX_m, ↓qR_m, ↓cI_m, ↓cV_m, ↓cJ_m, ↓cO_m, ↓cR_m, ixq_n, ixq_l, tgq_ok, nL_mul, nR_mul, nL_add, nR_add, nL_sub, nR_sub, nI_add, pk_mul, nn_sub, ng1_0, ng1_1, an_0, an_1, i1_0, Nat.add_zero, Nat.zero_add, Nat.mul_one, Nat.mul_zero, hI_cg, hP_cg, hJ_cg, wI_cg, wP_cg, wJ_cg, k11, k12, bI_0, bI_1, eT_signs_53, eT_signs_66]; rfl
  rw [if_neg c2]
  rw [decide_eq_false c2] at k12
  by_cases c3 : tkK b n p = 5
  · rw [if_pos c3]
    have hc := hc c3
    simp (disch := omega) only [↓reduceIte, ↓qX_m, ↓qR_m, ↓cI_m, ↓cV_m, ↓cJ_m, ↓cO_m, ↓cR_m, ixq_n, ixq_l, tgq_ok, nL_mul, nR_mul, nL_add, nR_add, nL_sub, nR_sub, nI_add, pk_mul, nn_sub, ng1_0, ng1_1, an_0, an_1, i1_0, Nat.add_zero, Nat.zero_add, Nat.mul_one, Nat.mul_zero, hI_cg, hP_cg, hJ_cg, wI_cg, wP_cg, wJ_cg, k11, k12, bI_0, bI_1, eT_signs_53, eT_signs_66, e5.1, eq_true c3, e5.2 c3]
  rw [if_neg c3]
  by_cases c4 : tkK b n p = 4 ∧ tkW b n p = 43
  · rw [decide_eq_true c4] at s43
    rw [if_pos c4]
    simp (disch := omega) only [↓reduceIte, ↓qX_m, ↓qR_m, ↓cI_m, ↓cV_m, ↓cJ_m, ↓cO_m, ↓cR_m, ixq_n, ixq_l, tgq_ok, nL_mul, nR_mul, nL_add, nR_add, nL_sub, nR_sub, nI_add, pk_mul, nn_sub, ng1_0, ng1_1, an_0, an_1, i1_0, Nat.add_zero, Nat.zero_add, Nat.mul_one, Nat.mul_zero, hI_cg, hP_cg, hJ_cg, wI_cg, wP_cg, wJ_cg, k11, k12, bI_0, bI_1, eT_signs_53, eT_signs_66, e5.1, c3, s43, eT_signs_96]; rfl
  rw [if_neg c4]
  rw [decide_eq_false c4] at s43
  by_cases c5 : tkK b n p = 4 ∧ tkW b n p = 45
  · rw [decide_eq_true c5] at s45
    rw [if_pos c5]
    simp (disch := omega) only [↓reduceIte, ↓qX_m, ↓qR_m, ↓cI_m, ↓cV_m, ↓cJ_m, ↓cO_m, ↓cR_m, ixq_n, ixq_l, tgq_ok, nL_mul, nR_mul, nL_add, nR_add, nL_sub, nR_sub, nI_add, pk_mul, nn_sub, ng1_0, ng1_1, an_0, an_1, i1_0, Nat.add_zero, Nat.zero_add, Nat.mul_one, Nat.mul_zero, hI_cg, hP_cg, hJ_cg, wI_cg, wP_cg, wJ_cg, k11, k12, bI_0, bI_1, eT_signs_53, eT_signs_66, e5.1, c3, s43, eT_signs_96, s45, eT_signs_110]; rfl
  rw [if_neg c5]
  rw [decide_eq_false c5] at s45
  by_cases c6 : tkK b n p = 4 ∧ tkW b n p = 42
  · rw [decide_eq_true c6] at s42
    rw [if_pos c6]
    simp (disch := omega) only [↓reduceIte, ↓qX_m, ↓qR_m, ↓cI_m, ↓cV_m, ↓cJ_m, ↓cO_m, ↓cR_m, ixq_n, ixq_l, tgq_ok, nL_mul, nR_mul, nL_add, nR_add, nL_sub, nR_sub, nI_add, pk_mul, nn_sub, ng1_0, ng1_1, an_0, an_1, i1_0, Nat.add_zero, Nat.zero_add, Nat.mul_one, Nat.mul_zero, hI_cg, hP_cg, hJ_cg, wI_cg, wP_cg, wJ_cg, k11, k12, bI_0, bI_1, eT_signs_53, eT_signs_66, e5.1, c3, s43, eT_signs_96, s45, eT_signs_110, s42, eT_signs_124]; rfl
  rw [if_neg c6]
  rw [decide_eq_false c6] at s42
  by_cases c7 : tkK b n p = 4 ∧ tkW b n p = 47
  · rw [decide_eq_true c7] at s47
    rw [if_pos c7]
    simp (disch := omega) only [↓reduceIte, ↓qX_m, ↓qR_m, ↓cI_m, ↓cV_m, ↓cJ_m, ↓cO_m, ↓cR_m, ixq_n, ixq_l, tgq_ok, nL_mul, nR_mul, nL_add, nR_add, nL_sub, nR_sub, nI_add, pk_mul, nn_sub, ng1_0, ng1_1, an_0, an_1, i1_0, Nat.add_zero, Nat.zero_add, Nat.mul_one, Nat.mul_zero, hI_cg, hP_cg, hJ_cg, wI_cg, wP_cg, wJ_cg, k11, k12, bI_0, bI_1, eT_signs_53, eT_signs_66, e5.1, c3, s43, eT_signs_96, s45, eT_signs_110, s42, eT_signs_124, s47, eT_signs_138]; rfl
  rw [if_neg c7]
  rw [decide_eq_false c7] at s47
  simp (disch := omega) only [↓reduceIte, ↓qX_m, ↓qR_m, ↓cI_m, ↓cV_m, ↓cJ_m, ↓cO_m, ↓cR_m, ixq_n, ixq_l, tgq_ok, nL_mul, nR_mul, nL_add, nR_add, nL_sub, nR_sub, nI_add, pk_mul, nn_sub, ng1_0, ng1_1, an_0, an_1, i1_0, Nat.add_zero, Nat.zero_add, Nat.mul_one, Nat.mul_zero, hI_cg, hP_cg, hJ_cg, wI_cg, wP_cg, wJ_cg, k11, k12, bI_0, bI_1, eT_signs_53, eT_signs_66, e5.1, c3, s43, eT_signs_96, s45, eT_signs_110, s42, eT_signs_124, s47, eT_signs_138]; rfl
theorem kop_14 (hc : ∀ p, tkK b n p = 5 → tkW b n p ≤ 5) (p : Nat) : kOp (tkK b n) (tkW b n) p ≤ 14 ∧ kOp (tkK b n) (tkW b n) p ≠ 1 := by
  have := hc p
  unfold kOp
  repeat' split
  all_goals omega
theorem tw_signs {lo p br c : Nat} {mn : Bool} {W : List Nat} {H : List Dn_} {I : FI_} (d : Nat) (J : FJ_) (C : C_) (hn : n ≤ 700) (h256 : ∀ k, b k < 256) (h : TSy b n lo p false mn br c W H I) : TStp b n lo (sySign (tkK b n) (tkW b n) (tkN b n) (tkP b n) p mn br c W H) J C I (Run_ (d, mT_signs, 0, [some (vR (1000, 0, 0)), none], [], (tw I J, C))) := by
  obtain ⟨ht, L, kr, hH, hC, ⟨h47, hz, hbr⟩, ⟨h48, hc, hc64⟩, h49, h50, hl, hw⟩ := h
  have hl : L.length = binN W + 1 := hl
  have htop := hw rfl
  have hcmp := fun p z => tk_cmp (b := b) (n := n) p z
  have s41 : (Run_ (d, mT_isSign, 0, [some (vR (1000, 0, 0)), some (vI 41)], [], (tw I J, C))) = _ := tw_isSign d J C h256 ht (c := 41) rfl
  -- after binding: what is still there
  have keep : ∀ {I' : FI_}, FrI (suC lo) I I' → TTk b n p I' ∧ (∀ k, 47 ≤ k → k ≤ 50 → I' 1000 k = I 1000 k) := fun f => ⟨ht.fr (fun t k q => f _ _ (by unfold suC; omega)), fun k a b => f _ _ (by unfold suC; omega)⟩
  unfold sySign
  by_cases c1 : (tkK b n p = 4 ∧ tkW b n p = 41) ∧ 0 < br
  · rw [if_pos c1]
    rw [decide_eq_true c1.1] at s41
    obtain ⟨I1, W1, L1, kr1, r1, q1, q2, q3, q4, q5, q6, q7, q8⟩ := tw_bind d J C (lo := lo) (e := 1) (by omega) (by omega) W L kr I hC hl htop
    have r1 : (Run_ (d, mT_bind, 0, [some (vR (1000, 0, 0)), some (vI 1), none, none, none], [], (tw I J, C))) = _ := r1
    obtain ⟨t1, g1⟩ := keep q8
    rw [hH] at q4
    rw [q4]
    cases W1 with
    | nil => have q6 : 0 = zerN W := q6; omega
    | cons k W2 =>
      have k0 : k = 0 := by
        have hk := q1.1.2.2 k List.mem_cons_self
        have q7 : rnk k < 1 := q7
        have hc14 : k = 0 ∨ k = 2 ∨ k = 3 ∨ k = 4 ∨ k = 5 ∨ k = 6 ∨ k = 7 ∨ k = 8 ∨ k = 9 ∨ k = 10 ∨ k = 11 ∨ k = 12 ∨ k = 13 ∨ k = 14 := by omega
        rcases hc14 with z | z | z | z | z | z | z | z | z | z | z | z | z | z <;> first | exact z | (subst z; exact absurd q7 (by decide))
      subst k0
      have q6 : 1 + zerN W2 = zerN W := q6
      have q5 : kr1 + (0 + opsN W2) = kr + opsN W := q5
      have q2 : L1.length = (0 + binN W2) + 1 := q2
      have p45 : I1 1000 45 = nI (W2.length + 1) := q1.1.1
      have hlen := len_oz W2
      have ho1 := q1.2.2.2.1.2.1
      have ho1 : kr1 + (0 + opsN W2) ≤ 64 := ho1
      have cp := (q1.pop).u 47 (nI (br - 1)) (by omega)
      have sy : TSy b n lo p false mn (br - 1) c W2 (L1.map (·.2)) (u2 (u2 I1 1000 45 (nI W2.length)) 1000 47 (nI (br - 1))) := by
        refine ⟨(t1.u 45 _ (by omega)).u 47 _ (by omega), L1, kr1, rfl, cp, ⟨u2_s .., by omega, by omega⟩, ⟨?_, by omega, hc64⟩, ?_, ?_, by show L1.length = binN W2 + 1; omega, fun _ => q3⟩
        · rw [u2_k _ _ _ _ (by omega), u2_k _ _ _ _ (by omega), g1 _ (by omega) (by omega)]; exact h48
        · rw [u2_k _ _ _ _ (by omega), u2_k _ _ _ _ (by omega), g1 _ (by omega) (by omega)]; exact h49
        · rw [u2_k _ _ _ _ (by omega), u2_k _ _ _ _ (by omega), g1 _ (by omega) (by omega)]; exact h50
      obtain ⟨I', r, sy', f⟩ := sy.tok d J C hn h256
      refine ⟨I', ?_, sy', (q8.wk (S' := suF lo) (fun t k q => Or.inl q)).tr ((((FrI.rf (suF lo) _).u (by unfold suF suC; omega)).u (by unfold suF; omega)).tr f)⟩
      have b0 : ((0 : Int32) < nI br) = True := by
        have : ((0 : Int32) < nI br) = (0 < br) := nL_lt (n := 0) (by show 0 < 2147483648; omega) (by omega)
        rw [this]; exact eq_true c1.2
      have e47 : I1 1000 47 = nI br := (g1 _ (by omega) (by omega)).trans h47
      rw [eT_signs_0]
      simp (disch := omega) only [↓reduceIte, ↓qX_m, ↓qR_m, ↓cI_m, ↓cV_m, ↓cJ_m, ↓cO_m, ↓cR_m, ixq_n, ixq_l, tgq_ok, nL_mul, nR_mul, nL_add, nR_add, nL_sub, nR_sub, nI_add, pk_mul, nn_sub, ng1_0, ng1_1, an_0, an_1, i1_0, Nat.add_zero, Nat.zero_add, Nat.mul_one, Nat.mul_zero, hI_cg, hP_cg, hJ_cg, wI_cg, wP_cg, wJ_cg, s41, bI_1, eT_signs_6, h47, b0, r1, eT_signs_21, p45, u2_k, e47, Nat.add_sub_cancel, r, eT_signs_45]
  · rw [if_neg c1]
    have h0 : (Run_ (d, mT_signs, 0, [some (vR (1000, 0, 0)), none], [], (tw I J, C))) = (Run_ (d, mT_signs, 147, [some (vR (1000, 0, 0)), none], [vI (nI (kOp (tkK b n) (tkW b n) p))], (tw I J, C))) := by
      rw [← tw_op d J C h256 ht, eT_signs_0]
      simp (disch := omega) only [↓reduceIte, ↓qX_m, ↓qR_m, ↓cI_m, ↓cV_m, ↓cJ_m, ↓cO_m, ↓cR_m, ixq_n, ixq_l, tgq_ok, nL_mul, nR_mul, nL_add, nR_add, nL_sub, nR_sub, nI_add, pk_mul, nn_sub, ng1_0, ng1_1, an_0, an_1, i1_0, Nat.add_zero, Nat.zero_add, Nat.mul_one, Nat.mul_zero, hI_cg, hP_cg, hJ_cg, wI_cg, wP_cg, wJ_cg, s41, eT_signs_6]
      by_cases z : tkK b n p = 4 ∧ tkW b n p = 41
      · have z0 : br = 0 := by
          rcases Nat.eq_zero_or_pos br with y | y
          · exact y
          · exact absurd ⟨z, y⟩ c1
        have h47 : I 1000 47 = 0 := by rw [h47, z0]; rfl
        have m0 : ((0 : Int32) < 0) = False := eq_false (by decide)
        rw [decide_eq_true z]
        simp only [bI_1, i1_0, h47, m0, ↓reduceIte]
      · rw [decide_eq_false z]
        simp only [bI_0, ↓reduceIte]
    rw [h0]
    have k14 := kop_14 hcmp p
    have kc := kop_c hcmp p
    generalize kOp (tkK b n) (tkW b n) p = k at k14 kc ⊢
    by_cases k0 : k = 0
    · rw [if_pos k0]
      have w1 : (Run_ (d, mT_wrong, 0, [some (vR (1000, 0, 0)), some (vI 1)], [], (tw I J, C))) = _ := tw_wrong d I J C 1
      refine ⟨wrI I 1, ?_, wr_ft ht 1, wr_fr lo I 1⟩
      rw [k0, eT_signs_147]
      have z0 : (nI 0 = 0) = True := eq_true rfl
      simp (disch := omega) only [z0, ↓reduceIte, ↓qX_m, ↓qR_m, ↓cI_m, ↓cV_m, ↓cJ_m, ↓cO_m, ↓cR_m, ixq_n, ixq_l, tgq_ok, nL_mul, nR_mul, nL_add, nR_add, nL_sub, nR_sub, nI_add, pk_mul, nn_sub, ng1_0, ng1_1, an_0, an_1, i1_0, Nat.add_zero, Nat.zero_add, Nat.mul_one, Nat.mul_zero, hI_cg, hP_cg, hJ_cg, wI_cg, wP_cg, wJ_cg, w1, eT_signs_157]
    · rw [if_neg k0]
      have n0 : (nI k = 0) = False := by
        rw [show (0 : Int32) = nI 0 from rfl, nn_eq (by omega) (by omega)]; exact eq_false k0
      have rk := rnk_le k
      have hr : 1 ≤ rnk k := by
        rcases kc with ⟨z, -⟩ | ⟨-, -, -, -, z⟩
        · exact absurd z k0
        · omega
      have ls : 1 ≤ lsR k ∧ lsR k ≤ 6 := by unfold lsR; split <;> omega
      have h175 : (Run_ (d, mT_signs, 147, [some (vR (1000, 0, 0)), none], [vI (nI k)], (tw I J, C))) = (Run_ (d, mT_signs, 175, [some (vR (1000, 0, 0)), some (vI (nI k))], [vI (nI (lsR k)), vR (1000, 0, 0)], (tw I J, C))) := by
        rw [eT_signs_147]
        simp (disch := omega) only [↓reduceIte, ↓qX_m, ↓qR_m, ↓cI_m, ↓cV_m, ↓cJ_m, ↓cO_m, ↓cR_m, ixq_n, ixq_l, tgq_ok, nL_mul, nR_mul, nL_add, nR_add, nL_sub, nR_sub, nI_add, pk_mul, nn_sub, ng1_0, ng1_1, an_0, an_1, i1_0, Nat.add_zero, Nat.zero_add, Nat.mul_one, Nat.mul_zero, hI_cg, hP_cg, hJ_cg, wI_cg, wP_cg, wJ_cg, n0, tw_rank d I J C k14.1, eT_signs_163, nR_eq]
        unfold lsR
        by_cases z : rnk k = 4
        · rw [if_pos z, if_pos z]; rfl
        · rw [if_neg z, if_neg z]
      obtain ⟨I1, W1, L1, kr1, r1, q1, q2, q3, q4, q5, q6, q7, q8⟩ := tw_bind d J C (lo := lo) (e := lsR k) ls.1 ls.2 W L kr I hC hl htop
      obtain ⟨t1, g1⟩ := keep q8
      rw [hH] at q4
      rw [q4, h175]
      have p45 := q1.1.1
      have ho1 := q1.2.2.2.1.2.1
      have hlen := len_oz W1
      have hz1 := q1.2.2.2.1.2.2
      have e48 : I1 1000 48 = nI c := (g1 _ (by omega) (by omega)).trans h48
      have f1 := q8.wk (S' := suF lo) (fun t k q => Or.inl q)
      have h217 : ∀ r : So_, (¬ (rnk k = 4 ∧ tpR W1 = 4) → TStp b n lo r J C I (Run_ (d, mT_signs, 217, [some (vR (1000, 0, 0)), some (vI (nI k))], [], (tw I1 J, C)))) → ((rnk k = 4 ∧ tpR W1 = 4) → r = .inl (1, tkP b n p)) → TStp b n lo r J C I (Run_ (d, mT_signs, 175, [some (vR (1000, 0, 0)), some (vI (nI k))], [vI (nI (lsR k)), vR (1000, 0, 0)], (tw I J, C))) := by
        intro r ha hb
        have h178 : (Run_ (d, mT_signs, 175, [some (vR (1000, 0, 0)), some (vI (nI k))], [vI (nI (lsR k)), vR (1000, 0, 0)], (tw I J, C))) = (Run_ (d, mT_signs, 182, [some (vR (1000, 0, 0)), some (vI (nI k))], [vI (nI (rnk k))], (tw I1 J, C))) := by
          rw [eT_signs_175]
          simp (disch := omega) only [↓reduceIte, ↓qX_m, ↓qR_m, ↓cI_m, ↓cV_m, ↓cJ_m, ↓cO_m, ↓cR_m, ixq_n, ixq_l, tgq_ok, nL_mul, nR_mul, nL_add, nR_add, nL_sub, nR_sub, nI_add, pk_mul, nn_sub, ng1_0, ng1_1, an_0, an_1, i1_0, Nat.add_zero, Nat.zero_add, Nat.mul_one, Nat.mul_zero, hI_cg, hP_cg, hJ_cg, wI_cg, wP_cg, wJ_cg, r1, eT_signs_178, tw_rank d I1 J C k14.1]
        rw [h178, eT_signs_182]
        simp (disch := omega) only [nR_eq]
        by_cases z : rnk k = 4
        · rw [if_pos z]
          cases W1 with
          | nil =>
            have p45 : I1 1000 45 = 0 := p45
            have m0 : ((0 : Int32) < 0) = False := eq_false (by decide)
            simp only [p45, m0, ↓reduceIte]
            exact ha (fun y => by have := y.2; exact absurd (show 0 = 4 from this) (by omega))
          | cons x W2 =>
            have p45 : I1 1000 45 = nI (W2.length + 1) := p45
            have hx := q1.1.2.2 x List.mem_cons_self
            have sx : I1 1024 W2.length = nI x := q1.1.2.1.1
            have hlen : W2.length + 1 = opsN (x :: W2) + zerN (x :: W2) := hlen
            have p0 : ((0 : Int32) < nI (W2.length + 1)) = True := by
              have : ((0 : Int32) < nI (W2.length + 1)) = (0 < W2.length + 1) := nL_lt (n := 0) (by show 0 < 2147483648; omega) (by omega)
              rw [this]; exact eq_true (by omega)
            have rx := rnk_le x
            simp (disch := omega) only [↓reduceIte, ↓qX_m, ↓qR_m, ↓cI_m, ↓cV_m, ↓cJ_m, ↓cO_m, ↓cR_m, ixq_n, ixq_l, tgq_ok, nL_mul, nR_mul, nL_add, nR_add, nL_sub, nR_sub, nI_add, pk_mul, nn_sub, ng1_0, ng1_1, an_0, an_1, i1_0, Nat.add_zero, Nat.zero_add, Nat.mul_one, Nat.mul_zero, hI_cg, hP_cg, hJ_cg, wI_cg, wP_cg, wJ_cg, p45, p0, Nat.add_sub_cancel, sx, tw_rank d I1 J C hx.1, eT_signs_207, nR_eq]
            by_cases y : rnk x = 4
            · rw [if_pos y]
              have w1 : (Run_ (d, mT_wrong, 0, [some (vR (1000, 0, 0)), some (vI 1)], [], (tw I1 J, C))) = _ := tw_wrong d I1 J C 1
              rw [hb ⟨z, y⟩]
              refine ⟨wrI I1 1, ?_, wr_ft t1 1, f1.tr (wr_fr lo I1 1)⟩
              simp (disch := omega) only [↓reduceIte, ↓qX_m, ↓qR_m, ↓cI_m, ↓cV_m, ↓cJ_m, ↓cO_m, ↓cR_m, ixq_n, ixq_l, tgq_ok, nL_mul, nR_mul, nL_add, nR_add, nL_sub, nR_sub, nI_add, pk_mul, nn_sub, ng1_0, ng1_1, an_0, an_1, i1_0, Nat.add_zero, Nat.zero_add, Nat.mul_one, Nat.mul_zero, hI_cg, hP_cg, hJ_cg, wI_cg, wP_cg, wJ_cg, w1, eT_signs_216]
            · rw [if_neg y]
              exact ha (fun w => y w.2)
        · rw [if_neg z]
          exact ha (fun w => z w.1)
      refine h217 _ (fun hno => ?_) (fun hy => if_pos hy)
      rw [if_neg hno, eT_signs_217]
      by_cases c64 : c = 64
      · rw [if_pos c64]
        have ct := tw_countN d I1 J C (by rw [e48, c64])
        refine ⟨wrI I1 2, ?_, wr_ft t1 2, f1.tr (wr_fr lo I1 2)⟩
        simp (disch := omega) only [↓reduceIte, ↓qX_m, ↓qR_m, ↓cI_m, ↓cV_m, ↓cJ_m, ↓cO_m, ↓cR_m, ixq_n, ixq_l, tgq_ok, nL_mul, nR_mul, nL_add, nR_add, nL_sub, nR_sub, nI_add, pk_mul, nn_sub, ng1_0, ng1_1, an_0, an_1, i1_0, Nat.add_zero, Nat.zero_add, Nat.mul_one, Nat.mul_zero, hI_cg, hP_cg, hJ_cg, wI_cg, wP_cg, wJ_cg, ct, eT_signs_221]
      · rw [if_neg c64]
        have ct := tw_countY d I1 J C e48 (by omega)
        have y1 : Cor lo W1 L1 kr1 (u2 I1 1000 48 (nI (c + 1))) := q1.u _ _ (by omega)
        have ok1 : opsN (k :: W1) = 1 + opsN W1 := by show (if k = 0 then 0 else 1) + opsN W1 = _; rw [if_neg k0]
        have zk1 : zerN (k :: W1) = zerN W1 := by show (if k = 0 then 1 else 0) + zerN W1 = _; rw [if_neg k0, Nat.zero_add]
        have k2 : k ≠ 2 := by
          rcases kc with ⟨z, -⟩ | ⟨-, z, -⟩
          · omega
          · exact z
        have bk1 : binN (k :: W1) = 1 + binN W1 := by show (if k = 0 ∨ k = 2 then 0 else 1) + binN W1 = _; rw [if_neg (by omega)]
        have y2 := y1.wait (k := k) k14 (by omega) (by omega)
        have wt := tw_waits d (u2 I1 1000 48 (nI (c + 1))) J C (W := W1) k y1.1.1 (by omega)
        have sy : TSy b n lo p true (decide (rnk k < 3)) br (c + 1) (k :: W1) (L1.map (·.2)) (u2 (u2 (wtI (u2 I1 1000 48 (nI (c + 1))) W1 k) 1000 49 1) 1000 50 (bI (decide (rnk k < 3)))) := by
          refine ⟨(((t1.u 48 _ (by omega)).wt W1 k).u 49 _ (by omega)).u 50 _ (by omega), L1, kr1, rfl, (y2.u _ _ (by omega)).u _ _ (by omega), ⟨?_, by omega, hbr⟩, ⟨?_, by omega, by omega⟩, ?_, u2_s .., by show L1.length = binN (k :: W1) + 0; omega, fun z => Bool.noConfusion z⟩
          · rw [u2_k _ _ _ _ (by omega), u2_k _ _ _ _ (by omega), wt_k _ _ _ _ (by omega), u2_k _ _ _ _ (by omega), g1 _ (by omega) (by omega)]; exact h47
          · rw [u2_k _ _ _ _ (by omega), u2_k _ _ _ _ (by omega), wt_k _ _ _ _ (by omega), u2_s]
          · rw [u2_k _ _ _ _ (by omega), u2_s]; rfl
        obtain ⟨I', r, sy', f⟩ := sy.tok d J C hn h256
        refine ⟨I', ?_, sy', f1.tr (((FrI.rf _ I1).u (by unfold suF; omega)).tr ((wt_fr lo _ W1 k).tr ((((FrI.rf (suF lo) _).u (by unfold suF; omega)).u (by unfold suF; omega)).tr f)))⟩
        simp (disch := omega) only [↓reduceIte, ↓qX_m, ↓qR_m, ↓cI_m, ↓cV_m, ↓cJ_m, ↓cO_m, ↓cR_m, ixq_n, ixq_l, tgq_ok, nL_mul, nR_mul, nL_add, nR_add, nL_sub, nR_sub, nI_add, pk_mul, nn_sub, ng1_0, ng1_1, an_0, an_1, i1_0, Nat.add_zero, Nat.zero_add, Nat.mul_one, Nat.mul_zero, hI_cg, hP_cg, hJ_cg, wI_cg, wP_cg, wJ_cg, ct, eT_signs_221, wt, eT_signs_231, tw_rank d _ J C k14.1, eT_signs_241, nR_lt, eT_signs_250]
        by_cases z : rnk k < 3
        · rw [decide_eq_true z] at r
          have r : (Run_ (d, mT_token, 0, [some (vR (1000, 0, 0))], [], (tw (u2 (u2 (wtI (u2 I1 1000 48 (nI (c + 1))) W1 k) 1000 49 1) 1000 50 1) J, C))) = _ := r
          simp (disch := omega) only [eq_true z, ↓reduceIte, ↓qX_m, ↓qR_m, ↓cI_m, ↓cV_m, ↓cJ_m, ↓cO_m, ↓cR_m, ixq_n, ixq_l, tgq_ok, nL_mul, nR_mul, nL_add, nR_add, nL_sub, nR_sub, nI_add, pk_mul, nn_sub, ng1_0, ng1_1, an_0, an_1, i1_0, Nat.add_zero, Nat.zero_add, Nat.mul_one, Nat.mul_zero, hI_cg, hP_cg, hJ_cg, wI_cg, wP_cg, wJ_cg, r, eT_signs_257]
        · rw [decide_eq_false z] at r
          have r : (Run_ (d, mT_token, 0, [some (vR (1000, 0, 0))], [], (tw (u2 (u2 (wtI (u2 I1 1000 48 (nI (c + 1))) W1 k) 1000 49 1) 1000 50 0) J, C))) = _ := r
          simp (disch := omega) only [z, ↓reduceIte, ↓qX_m, ↓qR_m, ↓cI_m, ↓cV_m, ↓cJ_m, ↓cO_m, ↓cR_m, ixq_n, ixq_l, tgq_ok, nL_mul, nR_mul, nL_add, nR_add, nL_sub, nR_sub, nI_add, pk_mul, nn_sub, ng1_0, ng1_1, an_0, an_1, i1_0, Nat.add_zero, Nat.zero_add, Nat.mul_one, Nat.mul_zero, hI_cg, hP_cg, hJ_cg, wI_cg, wP_cg, wJ_cg, r, eT_signs_257]
def TRs (b : Nat → Nat) (n lo d : Nat) (r : So_) (J : FJ_) (C : C_) (I : FI_) : Prop := match r with
  | .inl e => ∃ I' : FI_, (Run_ (d, mT_sumRead, 25, [some (vR (1000, 0, 0))], [], (tw I J, C))) = some (.inl (some (vI 0)), (tw I' J, C)) ∧ (I' 1000 4 = nI e.1 ∧ I' 1000 5 = nI e.2) ∧ FrI (suF lo) I I'
  | .inr (p', w', mn', br', c', W', H') => ∃ I' : FI_, (Run_ (d, mT_sumRead, 25, [some (vR (1000, 0, 0))], [], (tw I J, C))) = (Run_ (d, mT_sumRead, 25, [some (vR (1000, 0, 0))], [], (tw I' J, C))) ∧ TSy b n lo p' w' mn' br' c' W' H' I' ∧ FrI (suF lo) I I'
/-- many steps of a sum -/
theorem tw_steps {lo : Nat} (d : Nat) (J : FJ_) (C : C_) (hn : n ≤ 700) (h256 : ∀ k, b k < 256) : ∀ (m p : Nat) (w mn : Bool) (br c : Nat) (W : List Nat) (H : List Dn_) (I : FI_) (r : So_), TSy b n lo p w mn br c W H I → syN (tkK b n) (tkW b n) (tkN b n) (tkP b n) m (p, w, mn, br, c, W, H) = r → TRs b n lo d r J C I := by
  intro m
  induction m with
  | zero =>
    intro p w mn br c W H I r h hr
    have hr : (Sum.inr (p, w, mn, br, c, W, H) : So_) = r := hr
    subst hr
    exact ⟨I, rfl, h, FrI.rf _ _⟩
  | succ m ih =>
    intro p w mn br c W H I r h hr
    have hr : (match syS (tkK b n) (tkW b n) (tkN b n) (tkP b n) p w mn br c W H with
      | .inl e => (.inl e : So_)
      | .inr B => syN (tkK b n) (tkW b n) (tkN b n) (tkP b n) m B) = r := hr
    have s59 : (Run_ (d, mT_isSign, 0, [some (vR (1000, 0, 0)), some (vI 59)], [], (tw I J, C))) = _ := tw_isSign d J C h256 h.1 (c := 59) rfl
    obtain ⟨-, L, kr, -, hC, ⟨h47, hz, hbr⟩, -, h49, -, -, -⟩ := id h
    unfold syS at hr
    by_cases hx : (tkK b n p = 4 ∧ tkW b n p = 59) ∧ w = false ∧ br = 0
    · rw [if_pos hx] at hr
      exact ih p w mn br c W H I r h hr
    · rw [if_neg hx] at hr
      have h48 : (Run_ (d, mT_sumRead, 25, [some (vR (1000, 0, 0))], [], (tw I J, C))) = (Run_ (d, mT_sumRead, 48, [some (vR (1000, 0, 0))], [], (tw I J, C))) := by
        rw [eT_sumRead_25]
        simp (disch := omega) only [↓reduceIte, ↓qX_m, ↓qR_m, ↓cI_m, ↓cV_m, ↓cJ_m, ↓cO_m, ↓cR_m, ixq_n, ixq_l, tgq_ok, nL_mul, nR_mul, nL_add, nR_add, nL_sub, nR_sub, nI_add, pk_mul, nn_sub, ng1_0, ng1_1, an_0, an_1, i1_0, Nat.add_zero, Nat.zero_add, Nat.mul_one, Nat.mul_zero, hI_cg, hP_cg, hJ_cg, wI_cg, wP_cg, wJ_cg, s59, eT_sumRead_31]
        by_cases z : tkK b n p = 4 ∧ tkW b n p = 59
        · rw [decide_eq_true z]
          cases w with
          | true =>
            have h49 : I 1000 49 = 1 := h49
            simp only [bI_1, i1_0, h49, ↓reduceIte]
          | false =>
            have h49 : I 1000 49 = 0 := h49
            have b0 : ((0 : Int32) < nI br) = True := by
              have : ((0 : Int32) < nI br) = (0 < br) := nL_lt (n := 0) (by show 0 < 2147483648; omega) (by omega)
              rw [this]
              exact eq_true (by
                rcases Nat.eq_zero_or_pos br with y | y
                · exact absurd ⟨z, rfl, y⟩ hx
                · exact y)
            simp only [bI_1, i1_0, h49, h47, b0, ↓reduceIte]
        · rw [decide_eq_false z]
          simp only [bI_0, ↓reduceIte]
      have go : ∀ (s : So_) (z : Option Z_), TStp b n lo s J C I z → (match s with
            | .inl e => (.inl e : So_)
            | .inr B => syN (tkK b n) (tkW b n) (tkN b n) (tkP b n) m B) = r → (∀ x (I' : FI_), z = some (.inl (some (vI x)), (tw I' J, C)) → (Run_ (d, mT_sumRead, 48, [some (vR (1000, 0, 0))], [], (tw I J, C))) = if x = 0 then some (.inl (some (vI 0)), (tw I' J, C)) else (Run_ (d, mT_sumRead, 25, [some (vR (1000, 0, 0))], [], (tw I' J, C)))) →
          TRs b n lo d r J C I := by
        intro s z hs hr hz
        rcases s with e | ⟨p', w', mn', br', c', W', H'⟩
        · have hr : (Sum.inl e : So_) = r := hr
          subst hr
          obtain ⟨I', a1, a2, a3⟩ := hs
          exact ⟨I', h48.trans ((hz 0 I' a1).trans (if_pos rfl)), a2, a3⟩
        · obtain ⟨I', a1, a2, a3⟩ := hs
          have e1 : (Run_ (d, mT_sumRead, 25, [some (vR (1000, 0, 0))], [], (tw I J, C))) = (Run_ (d, mT_sumRead, 25, [some (vR (1000, 0, 0))], [], (tw I' J, C))) := h48.trans ((hz 1 I' a1).trans (if_neg (by decide)))
          have := ih p' w' mn' br' c' W' H' I' r a2 hr
          rcases r with e | ⟨p2, w2, mn2, br2, c2, W2, H2⟩
          · obtain ⟨I2, x1, x2, x3⟩ := this
            exact ⟨I2, e1.trans x1, x2, a3.tr x3⟩
          · obtain ⟨I2, x1, x2, x3⟩ := this
            exact ⟨I2, e1.trans x1, x2, a3.tr x3⟩
      cases w with
      | true =>
        rw [if_pos rfl] at hr
        have h49 : I 1000 49 = 1 := h49
        refine go _ _ (tw_leaf d J C hn h256 h) hr (fun x I' hz => ?_)
        rw [eT_sumRead_48]
        simp (disch := omega) only [↓reduceIte, ↓qX_m, ↓qR_m, ↓cI_m, ↓cV_m, ↓cJ_m, ↓cO_m, ↓cR_m, ixq_n, ixq_l, tgq_ok, nL_mul, nR_mul, nL_add, nR_add, nL_sub, nR_sub, nI_add, pk_mul, nn_sub, ng1_0, ng1_1, an_0, an_1, i1_0, Nat.add_zero, Nat.zero_add, Nat.mul_one, Nat.mul_zero, hI_cg, hP_cg, hJ_cg, wI_cg, wP_cg, wJ_cg, h49, hz, eT_sumRead_59, eT_sumRead_72]
      | false =>
        rw [if_neg (fun z => Bool.noConfusion z)] at hr
        have h49 : I 1000 49 = 0 := h49
        refine go _ _ (tw_signs d J C hn h256 h) hr (fun x I' hz => ?_)
        rw [eT_sumRead_48]
        simp (disch := omega) only [↓reduceIte, ↓qX_m, ↓qR_m, ↓cI_m, ↓cV_m, ↓cJ_m, ↓cO_m, ↓cR_m, ixq_n, ixq_l, tgq_ok, nL_mul, nR_mul, nL_add, nR_add, nL_sub, nR_sub, nI_add, pk_mul, nn_sub, ng1_0, ng1_1, an_0, an_1, i1_0, Nat.add_zero, Nat.zero_add, Nat.mul_one, Nat.mul_zero, hI_cg, hP_cg, hJ_cg, wI_cg, wP_cg, wJ_cg, h49, hz, eT_sumRead_69, eT_sumRead_72]
