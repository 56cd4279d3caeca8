/-! THE COMPONENT's sums are the descent, on -/
variable {b : Nat → Nat} {n : Nat}
theorem CRs.pre {L o c c1 c0 a m m1 : Nat} {T : T_} {r : Rs_} {I I1 : RI_} {J J1 : RJ_} {P P1 : RP_} {z : Option Z_} (f : FrP m L I J P I1 J1 P1) (hm : m ≤ m1) (hm2 : m1 ≤ m + (c1 - c)) (hc : c ≤ c1) (h64 : c1 ≤ 64) (h : CRs b n L o c1 c0 a m1 T r I1 J1 P1 z) : CRs b n L o c c0 a m T r I J P z := by
  rcases r with e | ⟨g, p', c'⟩
  · obtain ⟨s, m', I', J', P', h1, h2, h3, h4, h5, h6⟩ := h
    exact ⟨s, m', I', J', P', h1, h2, f.tr h3 hm, by omega, by omega, h6⟩
  · obtain ⟨ρ, m', I', J', P', h1, h2, h3, h4, h5, h6, h7⟩ := h
    exact ⟨ρ, m', I', J', P', h1, h2, h3, f.tr h4 hm, by omega, by omega, by omega⟩
theorem CFt.cO {l m mx : Nat} {T : T_} {e : Nat × Nat} {I : RI_} {J : RJ_} {P : RP_} {z : Option Z_} (k : Option R_ → G_ → Option Z_) (h : CFt l m mx T e I J P z) : CFt l m mx T e I J P (cO z k) := by
  obtain ⟨s, m', I', J', P', h1, h2⟩ := h
  exact ⟨s, m', I', J', P', by rw [h1, cO_th], h2⟩
theorem CFt.cI {l m mx : Nat} {T : T_} {e : Nat × Nat} {I : RI_} {J : RJ_} {P : RP_} {z : Option Z_} (k : Int32 → G_ → Option Z_) (h : CFt l m mx T e I J P z) : CFt l m mx T e I J P (cI z k) := by
  obtain ⟨s, m', I', J', P', h1, h2⟩ := h
  exact ⟨s, m', I', J', P', by rw [h1, cI_th], h2⟩
theorem CFt.up {l m mx mx' : Nat} {T : T_} {e : Nat × Nat} {I : RI_} {J : RJ_} {P : RP_} {z : Option Z_} (h : CFt l m mx T e I J P z) (hx : mx ≤ mx') : CFt l m mx' T e I J P z := by
  obtain ⟨s, m', I', J', P', h1, h2, h3, h4, h5, h6⟩ := h
  exact ⟨s, m', I', J', P', h1, h2, h3, h4, by omega, h6⟩
theorem lv_start (d l : Nat) (x : Option R_) (G : G_) (hl : l = 1 ∨ l = 2 ∨ l = 5 ∨ l = 6) : cRn (d + 1) false l x G = cO (cRn d false (l + 1) x G) fun o2 G1 => cRn (d + 1) true l o2 G1 := by
  rcases hl with h | h | h | h <;> subst h
  · exact eReader_or_0 d 0 32 G
  · exact eReader_and_0 d 0 32 G
  · exact eReader_sum_0 d 0 32 G
  · exact eReader_product_0 d 0 32 G
theorem kop_1 {kd wh : Nat → Nat} (hc : ∀ p, kd p = 5 → wh p ≤ 5) (p : Nat) : (rnk (kOp kd wh p) = 1 ↔ kd p = 1 ∧ wh p = 11) ∧ (rnk (kOp kd wh p) = 2 ↔ kd p = 1 ∧ wh p = 12) ∧ (rnk (kOp kd wh p) = 5 ↔ kd p = 4 ∧ (wh p = 43 ∨ wh p = 45)) ∧ (rnk (kOp kd wh p) = 6 ↔ kd p = 4 ∧ (wh p = 42 ∨ wh p = 47)) ∧ (rnk (kOp kd wh p) = 4 ↔ kd p = 5) := by
  have r3 : rnk 3 = 2 := rfl
  have r4 : rnk 4 = 1 := rfl
  have r11 : rnk 11 = 5 := rfl
  have r12 : rnk 12 = 5 := rfl
  have r13 : rnk 13 = 6 := rfl
  have r14 : rnk 14 = 6 := rfl
  have r0 : rnk 0 = 0 := rfl
  unfold kOp
  by_cases h1 : kd p = 1 ∧ wh p = 12
  · rw [if_pos h1, r3]; omega
  rw [if_neg h1]
  by_cases h2 : kd p = 1 ∧ wh p = 11
  · rw [if_pos h2, r4]; omega
  rw [if_neg h2]
  by_cases h3 : kd p = 5
  · rw [if_pos h3]
    have h4 := hc p h3
    have h5 : rnk (5 + wh p) = 4 := by unfold rnk; rw [if_neg (by omega), if_neg (by omega), if_pos (by omega)]
    rw [h5]; omega
  rw [if_neg h3]
  by_cases h4 : kd p = 4 ∧ wh p = 43
  · rw [if_pos h4, r11]; omega
  rw [if_neg h4]
  by_cases h5 : kd p = 4 ∧ wh p = 45
  · rw [if_pos h5, r12]; omega
  rw [if_neg h5]
  by_cases h6 : kd p = 4 ∧ wh p = 42
  · rw [if_pos h6, r13]; omega
  rw [if_neg h6]
  by_cases h7 : kd p = 4 ∧ wh p = 47
  · rw [if_pos h7, r14]; omega
  rw [if_neg h7, r0]; omega
/-- a sign's number, as the component has it -/
theorem cv_op {p : Nat} {I : RI_} {P : RP_} (h256 : ∀ k, b k < 256) (h : CTk b n p I P) (hk : kOp (tkK b n) (tkW b n) p ≠ 0) : I (2, 0, 32) 4 = cdC (kOp (tkK b n) (tkW b n) p) := by
  have hf := tk_f (n := n) h256 p
  have key : ∀ c, tkK b n p = 4 → tkW b n p = c → I (2, 0, 32) 4 = nI c := by
    intro c k w
    rcases h.2.2.2.2 with ⟨y, e⟩ | ⟨y, -⟩ | ⟨y, -⟩ | ⟨y, -⟩ | ⟨y, e, e2⟩ | ⟨y, -⟩ | ⟨y, -⟩
    · omega
    · omega
    · omega
    · omega
    · obtain ⟨s, s1, s2, s3⟩ := hf.2.2.1 k
      have sw : tkW b n p = s := by unfold tkW; rw [s2]; exact nI_clamp (by omega)
      rw [e2, s2, ← sw, w]
    · omega
    · omega
  have key1 : ∀ c, tkK b n p = 1 → tkW b n p = c → I (2, 0, 32) 4 = nI c := by
    intro c k w
    rcases h.2.2.2.2 with ⟨y, e⟩ | ⟨y, e, e2⟩ | ⟨y, -⟩ | ⟨y, -⟩ | ⟨y, -⟩ | ⟨y, -⟩ | ⟨y, -⟩
    · omega
    · obtain ⟨s, s1, s2⟩ := hf.1 k
      have sw : tkW b n p = s := by unfold tkW; rw [s2]; exact nI_clamp (by omega)
      rw [e2, s2, ← sw, w]
    · omega
    · omega
    · omega
    · omega
    · omega
  unfold kOp at hk ⊢
  by_cases h1 : tkK b n p = 1 ∧ tkW b n p = 12
  · rw [if_pos h1]; exact key1 12 h1.1 h1.2
  rw [if_neg h1] at hk ⊢
  by_cases h2 : tkK b n p = 1 ∧ tkW b n p = 11
  · rw [if_pos h2]; exact key1 11 h2.1 h2.2
  rw [if_neg h2] at hk ⊢
  by_cases h3 : tkK b n p = 5
  · rw [if_pos h3]
    rcases h.2.2.2.2 with ⟨y, e⟩ | ⟨y, -⟩ | ⟨y, -⟩ | ⟨y, -⟩ | ⟨y, -⟩ | ⟨y, e, w, w1, w2, w3⟩ | ⟨y, -⟩
    · omega
    · omega
    · omega
    · omega
    · omega
    · have sw : tkW b n p = w := by unfold tkW; rw [w2]; exact nI_clamp (by omega)
      rw [w3, sw]
      unfold cdC
      rw [if_neg (by omega), if_neg (by omega), if_neg (by omega), if_neg (by omega), if_neg (by omega), if_neg (by omega), Nat.add_sub_cancel_left]
    · omega
  rw [if_neg h3] at hk ⊢
  by_cases h4 : tkK b n p = 4 ∧ tkW b n p = 43
  · rw [if_pos h4]; exact key 43 h4.1 h4.2
  rw [if_neg h4] at hk ⊢
  by_cases h5 : tkK b n p = 4 ∧ tkW b n p = 45
  · rw [if_pos h5]; exact key 45 h5.1 h5.2
  rw [if_neg h5] at hk ⊢
  by_cases h6 : tkK b n p = 4 ∧ tkW b n p = 42
  · rw [if_pos h6]; exact key 42 h6.1 h6.2
  rw [if_neg h6] at hk ⊢
  by_cases h7 : tkK b n p = 4 ∧ tkW b n p = 47
  · rw [if_pos h7]; exact key 47 h7.1 h7.2
  rw [if_neg h7] at hk
  exact absurd rfl hk
/-- a loop goes on, or ends -/
theorem lv_loop {p l m : Nat} {I : RI_} {P : RP_} (d : Nat) (T : T_) (J : RJ_) (ρ : R_) (h256 : ∀ k, b k < 256) (h : CTk b n p I P) (hl : l = 1 ∨ l = 2 ∨ l = 5 ∨ l = 6) : cRn (d + 1) true l (some ρ) (cg T m I J P) =
    if rnk (kOp (tkK b n) (tkW b n) p) = l then cI (Run_ ((d+1), mReader_knot, 0, [some (vR (2, 0, 32)), none], [], (cg T m I J P))) fun x4 G3 => cO (cRn d false (l + 1) none (nwG G3 13 0 1)) fun o6 G5 => cV (Run_ ((d+1), mTwo_init, 0, [some (vR (13, 0, G3.2.1)), some (vI x4), some (vO (some ρ)), some (vO o6)], [], G5)) fun G7 => cRn (d + 1) true l (some (13, 0, G3.2.1)) G7
    else some (.inl (some (vR ρ)), cg T m I J P) := by
  obtain ⟨k1, k2, k5, k6, -⟩ := kop_1 (fun p z => tk_cmp (b := b) (n := n) p z) p
  rcases hl with e | e | e | e <;> subst e
  · have w : (Run_ ((d+1), mReader_isWord, 0, [some (vR (2, 0, 32)), some (vI 11), some (vI 11)], [], (cg T m I J P))) = _ := ac_isWord (d + 1) T m J h256 h 11 11 (by omega) (by omega)
    refine (eReader_or_5 d 0 32 (some ρ) _).trans ?_
    rw [w, cI_ok]
    by_cases z : tkK b n p = 1 ∧ tkW b n p = 11
    · rw [decide_eq_true (by omega : tkK b n p = 1 ∧ 11 ≤ tkW b n p ∧ tkW b n p ≤ 11), if_pos (k1.mpr z)]; rfl
    · rw [decide_eq_false (by omega : ¬ (tkK b n p = 1 ∧ 11 ≤ tkW b n p ∧ tkW b n p ≤ 11)), if_neg (fun y => z (k1.mp y))]; rfl
  · have w : (Run_ ((d+1), mReader_isWord, 0, [some (vR (2, 0, 32)), some (vI 12), some (vI 12)], [], (cg T m I J P))) = _ := ac_isWord (d + 1) T m J h256 h 12 12 (by omega) (by omega)
    refine (eReader_and_5 d 0 32 (some ρ) _).trans ?_
    rw [w, cI_ok]
    by_cases z : tkK b n p = 1 ∧ tkW b n p = 12
    · rw [decide_eq_true (by omega : tkK b n p = 1 ∧ 12 ≤ tkW b n p ∧ tkW b n p ≤ 12), if_pos (k2.mpr z)]; rfl
    · rw [decide_eq_false (by omega : ¬ (tkK b n p = 1 ∧ 12 ≤ tkW b n p ∧ tkW b n p ≤ 12)), if_neg (fun y => z (k2.mp y))]; rfl
  · have s1 : (Run_ ((d+1), mReader_isSign, 0, [some (vR (2, 0, 32)), some (vI 43)], [], (cg T m I J P))) = _ := ac_isSgn (d + 1) T m J h256 h (c := 43) rfl
    have s2 : (Run_ ((d+1), mReader_isSign, 0, [some (vR (2, 0, 32)), some (vI 45)], [], (cg T m I J P))) = _ := ac_isSgn (d + 1) T m J h256 h (c := 45) rfl
    refine (eReader_sum_5 (d + 1) 0 32 (some ρ) _).trans ?_
    rw [s1, cI_ok]
    by_cases z1 : tkK b n p = 4 ∧ tkW b n p = 43
    · rw [decide_eq_true z1, if_pos (k5.mpr (by omega))]
      exact (if_neg (by decide)).trans (eReader_sum_23 d 0 32 (some ρ) _)
    · rw [decide_eq_false z1, bI_0, if_pos rfl, s2, cI_ok]
      by_cases z2 : tkK b n p = 4 ∧ tkW b n p = 45
      · rw [decide_eq_true z2, if_pos (k5.mpr (by omega))]
        exact (if_neg (by decide)).trans (eReader_sum_23 d 0 32 (some ρ) _)
      · rw [decide_eq_false z2, if_pos (show bI false = 0 from rfl), if_neg (fun y => by have := k5.mp y; omega)]
  · have s1 : (Run_ ((d+1), mReader_isSign, 0, [some (vR (2, 0, 32)), some (vI 42)], [], (cg T m I J P))) = _ := ac_isSgn (d + 1) T m J h256 h (c := 42) rfl
    have s2 : (Run_ ((d+1), mReader_isSign, 0, [some (vR (2, 0, 32)), some (vI 47)], [], (cg T m I J P))) = _ := ac_isSgn (d + 1) T m J h256 h (c := 47) rfl
    refine (eReader_product_5 (d + 1) 0 32 (some ρ) _).trans ?_
    rw [s1, cI_ok]
    by_cases z1 : tkK b n p = 4 ∧ tkW b n p = 42
    · rw [decide_eq_true z1, if_pos (k6.mpr (by omega))]
      exact (if_neg (by decide)).trans (eReader_product_23 d 0 32 (some ρ) _)
    · rw [decide_eq_false z1, bI_0, if_pos rfl, s2, cI_ok]
      by_cases z2 : tkK b n p = 4 ∧ tkW b n p = 47
      · rw [decide_eq_true z2, if_pos (k6.mpr (by omega))]
        exact (if_neg (by decide)).trans (eReader_product_23 d 0 32 (some ρ) _)
      · rw [decide_eq_false z2, if_pos (show bI false = 0 from rfl), if_neg (fun y => by have := k6.mp y; omega)]
theorem isg (d : Nat) (T : T_) (m : Nat) (I : RI_) (J : RJ_) (P : RP_) (c : Int32) : (Run_ (d, mReader_isSign, 0, [some (vR (2, 0, 32)), some (vI c)], [], (cg T m I J P))) = some (.inl (some (vI (if I (2, 0, 32) 3 = 3 then (if I (2, 0, 32) 4 = c then 1 else 0) else 0))), cg T m I J P) := by
  rw [eReader_isSign_0]
  by_cases z1 : I (2, 0, 32) 3 = 3
  · by_cases z2 : I (2, 0, 32) 4 = c
    · simp (disch := omega) only [↓reduceIte, ↓qX_m, ↓qR_m, ↓cI_m, ↓cV_m, ↓cJ_m, ↓cO_m, ↓cR_m, ixq_n, ixq_l, tgq_ok, nL_mul, nR_mul, nL_add, nR_add, nL_sub, nR_sub, nI_add, pk_mul, nn_sub, ng1_0, ng1_1, an_0, an_1, i1_0, Nat.add_zero, Nat.zero_add, Nat.mul_one, Nat.mul_zero, hI_cg, hP_cg, hJ_cg, wI_cg, wP_cg, wJ_cg, eq_true z1, eq_true z2, eReader_isSign_20, eReader_isSign_21]
    · simp (disch := omega) only [↓reduceIte, ↓qX_m, ↓qR_m, ↓cI_m, ↓cV_m, ↓cJ_m, ↓cO_m, ↓cR_m, ixq_n, ixq_l, tgq_ok, nL_mul, nR_mul, nL_add, nR_add, nL_sub, nR_sub, nI_add, pk_mul, nn_sub, ng1_0, ng1_1, an_0, an_1, i1_0, Nat.add_zero, Nat.zero_add, Nat.mul_one, Nat.mul_zero, hI_cg, hP_cg, hJ_cg, wI_cg, wP_cg, wJ_cg, eq_true z1, z2, eReader_isSign_20, eReader_isSign_21]
  · simp (disch := omega) only [↓reduceIte, ↓qX_m, ↓qR_m, ↓cI_m, ↓cV_m, ↓cJ_m, ↓cO_m, ↓cR_m, ixq_n, ixq_l, tgq_ok, nL_mul, nR_mul, nL_add, nR_add, nL_sub, nR_sub, nI_add, pk_mul, nn_sub, ng1_0, ng1_1, an_0, an_1, i1_0, Nat.add_zero, Nat.zero_add, Nat.mul_one, Nat.mul_zero, hI_cg, hP_cg, hJ_cg, wI_cg, wP_cg, wJ_cg, z1, eReader_isSign_20, eReader_isSign_21]
/-- is it a comparison? -/
theorem lv_cmp {p m : Nat} {I : RI_} {P : RP_} (d : Nat) (T : T_) (J : RJ_) (ρ : R_) (h256 : ∀ k, b k < 256) (h : CTk b n p I P) :
    (cI (Run_ ((d+1), mReader_isSign, 0, [some (vR (2, 0, 32)), some (vI 60)], [], (cg T m I J P))) fun x4 G3 => if x4 = 0 then cI (Run_ ((d+1), mReader_isSign, 0, [some (vR (2, 0, 32)), some (vI 62)], [], G3)) fun x6 G5 => if x6 = 0 then cI (Run_ ((d+1), mReader_isSign, 0, [some (vR (2, 0, 32)), some (vI 61)], [], G5)) fun x8 G7 => if x8 = 0 then if (hI G7 (2, 0, 32) 3) = 3 then if (hI G7 (2, 0, 32) 4) < 256 then (Run_ ((d+1), mReader_compare, 50, [none, some (vO (some ρ)), none], [], G7)) else (Run_ ((d+1), mReader_compare, 52, [some (vR (2, 0, 32)), some (vO (some ρ)), none], [], G7)) else (Run_ ((d+1), mReader_compare, 50, [none, some (vO (some ρ)), none], [], G7)) else (Run_ ((d+1), mReader_compare, 52, [some (vR (2, 0, 32)), some (vO (some ρ)), none], [], G7)) else (Run_ ((d+1), mReader_compare, 52, [some (vR (2, 0, 32)), some (vO (some ρ)), none], [], G5)) else (Run_ ((d+1), mReader_compare, 52, [some (vR (2, 0, 32)), some (vO (some ρ)), none], [], G3))) =
    if tkK b n p = 5 then (Run_ ((d+1), mReader_compare, 52, [some (vR (2, 0, 32)), some (vO (some ρ)), none], [], (cg T m I J P))) else some (.inl (some (vR ρ)), cg T m I J P) := by
  have hf := tk_f (n := n) h256 p
  have no : ∀ x : Int32, I (2, 0, 32) 3 = x → ¬ x = 3 → ∀ X : Option Z_, X = some (.inl (some (vR ρ)), cg T m I J P) → (cI (Run_ ((d+1), mReader_isSign, 0, [some (vR (2, 0, 32)), some (vI 60)], [], (cg T m I J P))) fun x4 G3 => if x4 = 0 then cI (Run_ ((d+1), mReader_isSign, 0, [some (vR (2, 0, 32)), some (vI 62)], [], G3)) fun x6 G5 => if x6 = 0 then cI (Run_ ((d+1), mReader_isSign, 0, [some (vR (2, 0, 32)), some (vI 61)], [], G5)) fun x8 G7 => if x8 = 0 then if (hI G7 (2, 0, 32) 3) = 3 then if (hI G7 (2, 0, 32) 4) < 256 then (Run_ ((d+1), mReader_compare, 50, [none, some (vO (some ρ)), none], [], G7)) else (Run_ ((d+1), mReader_compare, 52, [some (vR (2, 0, 32)), some (vO (some ρ)), none], [], G7)) else (Run_ ((d+1), mReader_compare, 50, [none, some (vO (some ρ)), none], [], G7)) else (Run_ ((d+1), mReader_compare, 52, [some (vR (2, 0, 32)), some (vO (some ρ)), none], [], G7)) else (Run_ ((d+1), mReader_compare, 52, [some (vR (2, 0, 32)), some (vO (some ρ)), none], [], G5)) else (Run_ ((d+1), mReader_compare, 52, [some (vR (2, 0, 32)), some (vO (some ρ)), none], [], G3))) = X := by
    intro x hx hx3 X hX
    have h3 : ¬ I (2, 0, 32) 3 = 3 := by rw [hx]; exact hx3
    rw [hX]
    simp (disch := omega) only [↓reduceIte, ↓qX_m, ↓qR_m, ↓cI_m, ↓cV_m, ↓cJ_m, ↓cO_m, ↓cR_m, ixq_n, ixq_l, tgq_ok, nL_mul, nR_mul, nL_add, nR_add, nL_sub, nR_sub, nI_add, pk_mul, nn_sub, ng1_0, ng1_1, an_0, an_1, i1_0, Nat.add_zero, Nat.zero_add, Nat.mul_one, Nat.mul_zero, hI_cg, hP_cg, hJ_cg, wI_cg, wP_cg, wJ_cg, isg, h3, eReader_compare_50]
  rcases h.2.2.2.2 with ⟨k, e⟩ | ⟨k, e, -⟩ | ⟨k, e, -⟩ | ⟨k, e, -⟩ | ⟨k, e, e2⟩ | ⟨k, e, w, w1, w2, w3⟩ | ⟨k, e⟩
  · rw [if_neg (by omega)]; exact no _ e (by decide) _ rfl
  · rw [if_neg (by omega)]; exact no _ e (by decide) _ rfl
  · rw [if_neg (by omega)]; exact no _ e (by decide) _ rfl
  · rw [if_neg (by omega)]; exact no _ e (by decide) _ rfl
  · rw [if_neg (by omega)]
    obtain ⟨s, s1, s2, s3⟩ := hf.2.2.1 k
    have hs := sgK4 s3
    have a1 : ¬ I (2, 0, 32) 4 = 60 := by rw [e2, s2, show (60 : Int32) = nI 60 from rfl, nn_eq (by omega) (by omega)]; omega
    have a2 : ¬ I (2, 0, 32) 4 = 62 := by rw [e2, s2, show (62 : Int32) = nI 62 from rfl, nn_eq (by omega) (by omega)]; omega
    have a3 : ¬ I (2, 0, 32) 4 = 61 := by rw [e2, s2, show (61 : Int32) = nI 61 from rfl, nn_eq (by omega) (by omega)]; omega
    have a4 : I (2, 0, 32) 4 < 256 := by rw [e2, s2, show (256 : Int32) = nI 256 from rfl, nn_lt (by omega) (by omega)]; omega
    simp (disch := omega) only [↓reduceIte, ↓qX_m, ↓qR_m, ↓cI_m, ↓cV_m, ↓cJ_m, ↓cO_m, ↓cR_m, ixq_n, ixq_l, tgq_ok, nL_mul, nR_mul, nL_add, nR_add, nL_sub, nR_sub, nI_add, pk_mul, nn_sub, ng1_0, ng1_1, an_0, an_1, i1_0, Nat.add_zero, Nat.zero_add, Nat.mul_one, Nat.mul_zero, hI_cg, hP_cg, hJ_cg, wI_cg, wP_cg, wJ_cg, isg, eq_true e, a1, a2, a3, eq_true a4, eReader_compare_50]
  · rw [if_pos k]
    have hw : w = 0 ∨ w = 1 ∨ w = 2 ∨ w = 3 ∨ w = 4 ∨ w = 5 := by omega
    rcases hw with z | z | z | z | z | z <;> subst z
    · have a1 : I (2, 0, 32) 4 = 60 := w3
      simp (disch := omega) only [↓reduceIte, ↓qX_m, ↓qR_m, ↓cI_m, ↓cV_m, ↓cJ_m, ↓cO_m, ↓cR_m, ixq_n, ixq_l, tgq_ok, nL_mul, nR_mul, nL_add, nR_add, nL_sub, nR_sub, nI_add, pk_mul, nn_sub, ng1_0, ng1_1, an_0, an_1, i1_0, Nat.add_zero, Nat.zero_add, Nat.mul_one, Nat.mul_zero, hI_cg, hP_cg, hJ_cg, wI_cg, wP_cg, wJ_cg, isg, eq_true e, eq_true a1]
    · have a1 : I (2, 0, 32) 4 = 256 := w3
      have b1 : ((256 : Int32) = 60) = False := eq_false (by decide)
      have b2 : ((256 : Int32) = 62) = False := eq_false (by decide)
      have b3 : ((256 : Int32) = 61) = False := eq_false (by decide)
      have b4 : ((256 : Int32) < 256) = False := eq_false (by decide)
      simp (disch := omega) only [↓reduceIte, ↓qX_m, ↓qR_m, ↓cI_m, ↓cV_m, ↓cJ_m, ↓cO_m, ↓cR_m, ixq_n, ixq_l, tgq_ok, nL_mul, nR_mul, nL_add, nR_add, nL_sub, nR_sub, nI_add, pk_mul, nn_sub, ng1_0, ng1_1, an_0, an_1, i1_0, Nat.add_zero, Nat.zero_add, Nat.mul_one, Nat.mul_zero, hI_cg, hP_cg, hJ_cg, wI_cg, wP_cg, wJ_cg, isg, eq_true e, a1, b1, b2, b3, b4]
    · have a1 : I (2, 0, 32) 4 = 61 := w3
      have b1 : ((61 : Int32) = 60) = False := eq_false (by decide)
      have b2 : ((61 : Int32) = 62) = False := eq_false (by decide)
      simp (disch := omega) only [↓reduceIte, ↓qX_m, ↓qR_m, ↓cI_m, ↓cV_m, ↓cJ_m, ↓cO_m, ↓cR_m, ixq_n, ixq_l, tgq_ok, nL_mul, nR_mul, nL_add, nR_add, nL_sub, nR_sub, nI_add, pk_mul, nn_sub, ng1_0, ng1_1, an_0, an_1, i1_0, Nat.add_zero, Nat.zero_add, Nat.mul_one, Nat.mul_zero, hI_cg, hP_cg, hJ_cg, wI_cg, wP_cg, wJ_cg, isg, eq_true e, a1, b1, b2]
    · have a1 : I (2, 0, 32) 4 = 258 := w3
      have b1 : ((258 : Int32) = 60) = False := eq_false (by decide)
      have b2 : ((258 : Int32) = 62) = False := eq_false (by decide)
      have b3 : ((258 : Int32) = 61) = False := eq_false (by decide)
      have b4 : ((258 : Int32) < 256) = False := eq_false (by decide)
      simp (disch := omega) only [↓reduceIte, ↓qX_m, ↓qR_m, ↓cI_m, ↓cV_m, ↓cJ_m, ↓cO_m, ↓cR_m, ixq_n, ixq_l, tgq_ok, nL_mul, nR_mul, nL_add, nR_add, nL_sub, nR_sub, nI_add, pk_mul, nn_sub, ng1_0, ng1_1, an_0, an_1, i1_0, Nat.add_zero, Nat.zero_add, Nat.mul_one, Nat.mul_zero, hI_cg, hP_cg, hJ_cg, wI_cg, wP_cg, wJ_cg, isg, eq_true e, a1, b1, b2, b3, b4]
    · have a1 : I (2, 0, 32) 4 = 257 := w3
      have b1 : ((257 : Int32) = 60) = False := eq_false (by decide)
      have b2 : ((257 : Int32) = 62) = False := eq_false (by decide)
      have b3 : ((257 : Int32) = 61) = False := eq_false (by decide)
      have b4 : ((257 : Int32) < 256) = False := eq_false (by decide)
      simp (disch := omega) only [↓reduceIte, ↓qX_m, ↓qR_m, ↓cI_m, ↓cV_m, ↓cJ_m, ↓cO_m, ↓cR_m, ixq_n, ixq_l, tgq_ok, nL_mul, nR_mul, nL_add, nR_add, nL_sub, nR_sub, nI_add, pk_mul, nn_sub, ng1_0, ng1_1, an_0, an_1, i1_0, Nat.add_zero, Nat.zero_add, Nat.mul_one, Nat.mul_zero, hI_cg, hP_cg, hJ_cg, wI_cg, wP_cg, wJ_cg, isg, eq_true e, a1, b1, b2, b3, b4]
    · have a1 : I (2, 0, 32) 4 = 62 := w3
      have b1 : ((62 : Int32) = 60) = False := eq_false (by decide)
      simp (disch := omega) only [↓reduceIte, ↓qX_m, ↓qR_m, ↓cI_m, ↓cV_m, ↓cJ_m, ↓cO_m, ↓cR_m, ixq_n, ixq_l, tgq_ok, nL_mul, nR_mul, nL_add, nR_add, nL_sub, nR_sub, nI_add, pk_mul, nn_sub, ng1_0, ng1_1, an_0, an_1, i1_0, Nat.add_zero, Nat.zero_add, Nat.mul_one, Nat.mul_zero, hI_cg, hP_cg, hJ_cg, wI_cg, wP_cg, wJ_cg, isg, eq_true e, a1, b1]
  · rw [if_neg (by omega)]; exact no _ e (by decide) _ rfl
