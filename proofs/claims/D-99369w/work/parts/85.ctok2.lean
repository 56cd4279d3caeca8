/-! THE COMPONENT's tokens, on -/
variable {b : Nat → Nat} {n : Nat} {P : RP_}
def rd5 (r : R_) (k : Nat) : Prop := r = (2, 0, 32) ∧ k ≤ 4 ∧ k ≠ 1
def FrK (I I' : RI_) : Prop := ∀ r k, ¬ rd5 r k → I' r k = I r k
theorem FrK.rf (I : RI_) : FrK I I := fun _ _ _ => rfl
theorem FrK.tr {I I1 I2 : RI_} (h : FrK I I1) (h2 : FrK I1 I2) : FrK I I2 := fun r k q => (h2 r k q).trans (h r k q)
theorem FrK.u {I I' : RI_} (h : FrK I I') (k : Nat) (x : Int32) (hk : k ≤ 4 ∧ k ≠ 1) : FrK I (u2 I' (2, 0, 32) k x) := fun r j q => by
  rw [u2_ap, if_neg (fun z => q ⟨z.1, by rw [z.2]; exact hk⟩)]
  exact h r j q
theorem pk_c : ∀ c, c < 128 → (nI c).toInt8.toInt32 - 97 + 1 = nI c - 96 := by decide +kernel
theorem ac_name6 (d : Nat) (T : T_) (m : Nat) (I : RI_) (J : RJ_) {q e : Nat} (hn : n ≤ 700) (hq : q ≤ e) (he : e ≤ n) (hl : ∀ k, q ≤ k → k < e → b k < 128) (h : CRd b n I P) (h0 : I (2, 0, 32) 0 = nI e) (h2 : I (2, 0, 32) 2 = nI q) : (Run_ (d, mReader_name, 0, [some (vR (2, 0, 32)), none], [], (cg T m I J P))) = some (.inl none, cg T m (u2 I (2, 0, 32) 4 (pkS b q e)) J P) := by
  rw [eReader_name_0, wI_cg _ _ _ _ _ _ _ _ _ (by omega)]
  refine lpf (fun k v => (Run_ (d, mReader_name, 7, [some (vR (2, 0, 32)), some (vI (nI k))], [], (cg T m (u2 I (2, 0, 32) 4 v) J P)))) (fun v => some (.inl none, cg T m (u2 I (2, 0, 32) 4 v) J P)) (fun k v => (v <<< (5 &&& 31)) ||| (if q + k < e then nI (b (q + k)) - 96 else 0)) 6 (fun k v hk => ?_) (fun v => ?_) 0
  · try dsimp only
    have r := h.u 4 v (by omega)
    rw [eReader_name_7]
    by_cases c : q + k < e
    · have e1 := r.2.1 (q + k) (by omega)
      have e2 := pk_c (b (q + k)) (hl _ (by omega) c)
      simp (disch := omega) only [↓reduceIte, ↓qX_m, ↓qR_m, ↓cI_m, ↓cV_m, ↓cJ_m, ↓cO_m, ↓cR_m, ixq_n, ixq_l, tgq_ok, nL_mul, nR_mul, nL_add, nR_add, nL_sub, nR_sub, nI_add, pk_mul, nn_sub, ng1_0, ng1_1, an_0, an_1, i1_0, Nat.add_zero, Nat.zero_add, Nat.mul_one, Nat.mul_zero, hI_cg, hP_cg, hJ_cg, wI_cg, wP_cg, wJ_cg, nR_lt, hk, u2_k, u2_s, h0, h2, nn_lt, eq_true c, r.2.2.1, r.2.2.2, e1, e2, eReader_name_56, u2_u2]
    · simp (disch := omega) only [↓reduceIte, ↓qX_m, ↓qR_m, ↓cI_m, ↓cV_m, ↓cJ_m, ↓cO_m, ↓cR_m, ixq_n, ixq_l, tgq_ok, nL_mul, nR_mul, nL_add, nR_add, nL_sub, nR_sub, nI_add, pk_mul, nn_sub, ng1_0, ng1_1, an_0, an_1, i1_0, Nat.add_zero, Nat.zero_add, Nat.mul_one, Nat.mul_zero, hI_cg, hP_cg, hJ_cg, wI_cg, wP_cg, wJ_cg, nR_lt, hk, u2_k, u2_s, h0, h2, nn_lt, c, eReader_name_56, u2_u2]
  · try dsimp only
    rw [eReader_name_7]
    simp (disch := omega) only [↓reduceIte, ↓qX_m, ↓qR_m, ↓cI_m, ↓cV_m, ↓cJ_m, ↓cO_m, ↓cR_m, ixq_n, ixq_l, tgq_ok, nL_mul, nR_mul, nL_add, nR_add, nL_sub, nR_sub, nI_add, pk_mul, nn_sub, ng1_0, ng1_1, an_0, an_1, i1_0, Nat.add_zero, Nat.zero_add, Nat.mul_one, Nat.mul_zero, hI_cg, hP_cg, hJ_cg, wI_cg, wP_cg, wJ_cg, nR_lt, Nat.lt_irrefl]
/-- a comparison's number in the component -/
def cmC (w : Nat) : Int32 := if w = 0 then 60 else if w = 1 then 256 else if w = 2 then 61 else if w = 3 then 258 else if w = 4 then 257 else 62
/-- what a token is, in the component -/
def CTv (K : Nat) (V : Int32) (I : RI_) : Prop :=
  (K = 0 ∧ I (2, 0, 32) 3 = 4) ∨ (K = 1 ∧ I (2, 0, 32) 3 = 0 ∧ I (2, 0, 32) 4 = V) ∨ (K = 2 ∧ I (2, 0, 32) 3 = 1 ∧ I (2, 0, 32) 4 = V) ∨ (K = 3 ∧ I (2, 0, 32) 3 = 2 ∧ I (2, 0, 32) 4 = V) ∨
  (K = 4 ∧ I (2, 0, 32) 3 = 3 ∧ I (2, 0, 32) 4 = V) ∨ (K = 5 ∧ I (2, 0, 32) 3 = 3 ∧ ∃ w, w ≤ 5 ∧ V = nI w ∧ I (2, 0, 32) 4 = cmC w) ∨ (K = 6 ∧ I (2, 0, 32) 3 = 5)
theorem CTv.k4 {V : Int32} {I : RI_} (h1 : I (2, 0, 32) 3 = 3) (h2 : I (2, 0, 32) 4 = V) : CTv 4 V I := Or.inr (Or.inr (Or.inr (Or.inr (Or.inl ⟨rfl, h1, h2⟩))))
theorem CTv.k5 {w : Nat} {I : RI_} (hw : w ≤ 5) (h1 : I (2, 0, 32) 3 = 3) (h2 : I (2, 0, 32) 4 = cmC w) : CTv 5 (nI w) I := Or.inr (Or.inr (Or.inr (Or.inr (Or.inr (Or.inl ⟨rfl, h1, w, hw, rfl, h2⟩)))))
theorem CTv.k6 {V : Int32} {I : RI_} (h : I (2, 0, 32) 3 = 5) : CTv 6 V I := Or.inr (Or.inr (Or.inr (Or.inr (Or.inr (Or.inr ⟨rfl, h⟩)))))
theorem ac_sgn (d : Nat) (T : T_) (m : Nat) (I : RI_) (J : RJ_) {q : Nat} (hn : n ≤ 700) (hq : q < n) (h256 : ∀ k, b k < 256) (h : CRd b n I P) (h0 : I (2, 0, 32) 0 = nI q) :
    ∃ I' : RI_, (Run_ (d, mReader_sign, 0, [some (vR (2, 0, 32)), none], [], (cg T m I J P))) = some (.inl none, cg T m I' J P) ∧ FrK I I' ∧ I' (2, 0, 32) 0 = nI (q + sgN (b q) (nxB b n q)) ∧ I' (2, 0, 32) 2 = I (2, 0, 32) 2 ∧ CTv (sgK (b q)) (nI (sgV (b q) (nxB b n q))) I' := by
  have h1 := h256 q
  have f0 := FrK.rf I
  have hx : ∀ c, c ≠ 0 → c < 256 → (hrS b n (q + 1) = nI c) = (nxB b n q = c) := by
    intro c c0 c1
    rw [hr_eq c1 h256]
    unfold nxB
    by_cases z : q + 1 < n
    · rw [if_pos z]; exact propext ⟨fun y => y.2, fun y => ⟨z, y⟩⟩
    · rw [if_neg z]; exact propext ⟨fun y => absurd y.1 z, fun y => absurd y.symm c0⟩
  have hx61 : (hrS b n (q + 1) = 61) = (nxB b n q = 61) := hx 61 (by omega) (by omega)
  have hx62 : (hrS b n (q + 1) = 62) = (nxB b n q = 62) := hx 62 (by omega) (by omega)
  have hr0 : hrS b n q = nI (b q) := if_pos hq
  have hH := fun (s v : Int32) => ac_here (P := P) d T m (u2 (u2 (u2 I (2, 0, 32) 0 (nI (q + 1))) (2, 0, 32) 3 s) (2, 0, 32) 4 v) J hn (by omega : q + 1 ≤ n) h256 (((h.u 0 _ (by omega)).u 3 s (by omega)).u 4 v (by omega)) (by simp (disch := omega) only [u2_k, u2_s])
  obtain ⟨x, i1, i2⟩ := ac_sidx d (cg T m (u2 I (2, 0, 32) 0 (nI (q + 1))) J P) h1
  have s1 : (Run_ (d, mReader_sign, 0, [some (vR (2, 0, 32)), none], [], (cg T m I J P))) = (Run_ (d, mReader_sign, 30, [some (vR (2, 0, 32)), some (vI (nI (b q)))], [vI (if sgK (b q) = 6 then 5 else 3), vR (2, 0, 32)], (cg T m (u2 I (2, 0, 32) 0 (nI (q + 1))) J P))) := by
    rw [eReader_sign_0]
    simp (disch := omega) only [↓reduceIte, ↓qX_m, ↓qR_m, ↓cI_m, ↓cV_m, ↓cJ_m, ↓cO_m, ↓cR_m, ixq_n, ixq_l, tgq_ok, nL_mul, nR_mul, nL_add, nR_add, nL_sub, nR_sub, nI_add, pk_mul, nn_sub, ng1_0, ng1_1, an_0, an_1, i1_0, Nat.add_zero, Nat.zero_add, Nat.mul_one, Nat.mul_zero, hI_cg, hP_cg, hJ_cg, wI_cg, wP_cg, wJ_cg, ac_here d T m I J hn (by omega : q ≤ n) h256 h h0, hr0, h0, i1]
    by_cases z : sgK (b q) = 6
    · rw [if_pos (i2.mpr z), if_pos z]
    · rw [if_neg (fun y => z (i2.mp y)), if_neg z]
  rw [s1]
  have fin : ∀ (I' : RI_) (N K V : Nat), sgN (b q) (nxB b n q) = N → sgK (b q) = K → sgV (b q) (nxB b n q) = V → FrK I I' → I' (2, 0, 32) 0 = nI (q + N) → I' (2, 0, 32) 2 = I (2, 0, 32) 2 → CTv K (nI V) I' →
      FrK I I' ∧ I' (2, 0, 32) 0 = nI (q + sgN (b q) (nxB b n q)) ∧ I' (2, 0, 32) 2 = I (2, 0, 32) 2 ∧ CTv (sgK (b q)) (nI (sgV (b q) (nxB b n q))) I' := by
    intro I' N K V a1 a2 a3 a4 a5 a6 a7
    rw [a1, a2, a3]
    exact ⟨a4, a5, a6, a7⟩
  have l1 : ((256 : Int32) < 256) = False := eq_false (by decide)
  have l2 : ((257 : Int32) < 256) = False := eq_false (by decide)
  have l3 : ((258 : Int32) < 256) = False := eq_false (by decide)
  have l4 : nI (b q) < 256 := by rw [i_lt, nI_toInt (by omega)]; have : (256 : Int32).toInt = 256 := by decide
                                 omega
  generalize nxB b n q = c2 at hx61 hx62 fin ⊢
  by_cases z : b q = 60
  · have nn : ∀ k, k ≠ 60 → (b q = k) = False := fun k hk => eq_false (by omega)
    have k5 : sgK (b q) = 5 := by unfold sgK; rw [if_pos (by omega)]
    have k6 : ¬ sgK (b q) = 6 := by omega
    rw [if_neg k6]
    by_cases w61 : c2 = 61
    · have mm : ∀ k, k ≠ 61 → (c2 = k) = False := fun k hk => eq_false (by omega)
      simp (disch := omega) only [eReader_sign_30, eReader_sign_63, eReader_sign_88, eReader_sign_110, eReader_sign_130, ↓reduceIte, ↓qX_m, ↓qR_m, ↓cI_m, ↓cV_m, ↓cJ_m, ↓cO_m, ↓cR_m, ixq_n, ixq_l, tgq_ok, nL_mul, nR_mul, nL_add, nR_add, nL_sub, nR_sub, nI_add, pk_mul, nn_sub, ng1_0, ng1_1, an_0, an_1, i1_0, Nat.add_zero, Nat.zero_add, Nat.mul_one, Nat.mul_zero, hI_cg, hP_cg, hJ_cg, wI_cg, wP_cg, wJ_cg, u2_s, u2_k, u2_u2, nR_eq, eq_true z, nn, hH, hx61, hx62, l1, l2, l3, l4, eq_true w61, mm, ↓reduceIte]
      refine ⟨_, rfl, fin _ 2 5 1 (by unfold sgN; rw [if_pos z, if_pos w61]) (k5) (by unfold sgV; rw [if_neg (by omega), if_pos z, if_pos w61]) ?_ ?_ ?_ ?_⟩
      · repeat (first | exact f0 | refine FrK.u ?_ _ _ (by omega))
      · simp (disch := omega) only [u2_k, u2_s]
      · simp (disch := omega) only [u2_k]
      · exact CTv.k5 (by omega) (by simp (disch := omega) only [u2_k, u2_s]) (by simp (disch := omega) only [u2_k, u2_s]; rfl)
    by_cases w62 : c2 = 62
    · have mm : ∀ k, k ≠ 62 → (c2 = k) = False := fun k hk => eq_false (by omega)
      simp (disch := omega) only [eReader_sign_30, eReader_sign_63, eReader_sign_88, eReader_sign_110, eReader_sign_130, ↓reduceIte, ↓qX_m, ↓qR_m, ↓cI_m, ↓cV_m, ↓cJ_m, ↓cO_m, ↓cR_m, ixq_n, ixq_l, tgq_ok, nL_mul, nR_mul, nL_add, nR_add, nL_sub, nR_sub, nI_add, pk_mul, nn_sub, ng1_0, ng1_1, an_0, an_1, i1_0, Nat.add_zero, Nat.zero_add, Nat.mul_one, Nat.mul_zero, hI_cg, hP_cg, hJ_cg, wI_cg, wP_cg, wJ_cg, u2_s, u2_k, u2_u2, nR_eq, eq_true z, nn, hH, hx61, hx62, l1, l2, l3, l4, eq_true w62, mm, ↓reduceIte]
      refine ⟨_, rfl, fin _ 2 5 3 (by unfold sgN; rw [if_pos z, if_neg w61, if_pos w62]) (k5) (by unfold sgV; rw [if_neg (by omega), if_pos z, if_neg w61, if_pos w62]) ?_ ?_ ?_ ?_⟩
      · repeat (first | exact f0 | refine FrK.u ?_ _ _ (by omega))
      · simp (disch := omega) only [u2_k, u2_s]
      · simp (disch := omega) only [u2_k]
      · exact CTv.k5 (by omega) (by simp (disch := omega) only [u2_k, u2_s]) (by simp (disch := omega) only [u2_k, u2_s]; rfl)
    simp (disch := omega) only [eReader_sign_30, eReader_sign_63, eReader_sign_88, eReader_sign_110, eReader_sign_130, ↓reduceIte, ↓qX_m, ↓qR_m, ↓cI_m, ↓cV_m, ↓cJ_m, ↓cO_m, ↓cR_m, ixq_n, ixq_l, tgq_ok, nL_mul, nR_mul, nL_add, nR_add, nL_sub, nR_sub, nI_add, pk_mul, nn_sub, ng1_0, ng1_1, an_0, an_1, i1_0, Nat.add_zero, Nat.zero_add, Nat.mul_one, Nat.mul_zero, hI_cg, hP_cg, hJ_cg, wI_cg, wP_cg, wJ_cg, u2_s, u2_k, u2_u2, nR_eq, eq_true z, nn, hH, hx61, hx62, l1, l2, l3, l4, w61, w62, ↓reduceIte]
    refine ⟨_, rfl, fin _ 1 5 0 (by unfold sgN; rw [if_pos z, if_neg w61, if_neg w62]) (k5) (by unfold sgV; rw [if_neg (by omega), if_pos z, if_neg w61, if_neg w62]) ?_ ?_ ?_ ?_⟩
    · repeat (first | exact f0 | refine FrK.u ?_ _ _ (by omega))
    · simp (disch := omega) only [u2_k, u2_s]
    · simp (disch := omega) only [u2_k]
    · exact CTv.k5 (by omega) (by simp (disch := omega) only [u2_k, u2_s]) (by simp (disch := omega) only [u2_k, u2_s]; rw [z]; rfl)
  have no60 := z; clear z
  by_cases z : b q = 62
  · have nn : ∀ k, k ≠ 62 → (b q = k) = False := fun k hk => eq_false (by omega)
    have k5 : sgK (b q) = 5 := by unfold sgK; rw [if_pos (by omega)]
    have k6 : ¬ sgK (b q) = 6 := by omega
    rw [if_neg k6]
    by_cases w61 : c2 = 61
    · have mm : ∀ k, k ≠ 61 → (c2 = k) = False := fun k hk => eq_false (by omega)
      simp (disch := omega) only [eReader_sign_30, eReader_sign_63, eReader_sign_88, eReader_sign_110, eReader_sign_130, ↓reduceIte, ↓qX_m, ↓qR_m, ↓cI_m, ↓cV_m, ↓cJ_m, ↓cO_m, ↓cR_m, ixq_n, ixq_l, tgq_ok, nL_mul, nR_mul, nL_add, nR_add, nL_sub, nR_sub, nI_add, pk_mul, nn_sub, ng1_0, ng1_1, an_0, an_1, i1_0, Nat.add_zero, Nat.zero_add, Nat.mul_one, Nat.mul_zero, hI_cg, hP_cg, hJ_cg, wI_cg, wP_cg, wJ_cg, u2_s, u2_k, u2_u2, nR_eq, eq_true z, nn, hH, hx61, hx62, l1, l2, l3, l4, eq_true w61, mm, ↓reduceIte]
      refine ⟨_, rfl, fin _ 2 5 4 (by unfold sgN; rw [if_neg (by omega), if_pos z, if_pos w61]) (k5) (by unfold sgV; rw [if_neg (by omega), if_neg (by omega), if_pos z, if_pos w61]) ?_ ?_ ?_ ?_⟩
      · repeat (first | exact f0 | refine FrK.u ?_ _ _ (by omega))
      · simp (disch := omega) only [u2_k, u2_s]
      · simp (disch := omega) only [u2_k]
      · exact CTv.k5 (by omega) (by simp (disch := omega) only [u2_k, u2_s]) (by simp (disch := omega) only [u2_k, u2_s]; rfl)
    simp (disch := omega) only [eReader_sign_30, eReader_sign_63, eReader_sign_88, eReader_sign_110, eReader_sign_130, ↓reduceIte, ↓qX_m, ↓qR_m, ↓cI_m, ↓cV_m, ↓cJ_m, ↓cO_m, ↓cR_m, ixq_n, ixq_l, tgq_ok, nL_mul, nR_mul, nL_add, nR_add, nL_sub, nR_sub, nI_add, pk_mul, nn_sub, ng1_0, ng1_1, an_0, an_1, i1_0, Nat.add_zero, Nat.zero_add, Nat.mul_one, Nat.mul_zero, hI_cg, hP_cg, hJ_cg, wI_cg, wP_cg, wJ_cg, u2_s, u2_k, u2_u2, nR_eq, eq_true z, nn, hH, hx61, hx62, l1, l2, l3, l4, w61, ↓reduceIte]
    refine ⟨_, rfl, fin _ 1 5 5 (by unfold sgN; rw [if_neg (by omega), if_pos z, if_neg w61]) (k5) (by unfold sgV; rw [if_neg (by omega), if_neg (by omega), if_pos z, if_neg w61]) ?_ ?_ ?_ ?_⟩
    · repeat (first | exact f0 | refine FrK.u ?_ _ _ (by omega))
    · simp (disch := omega) only [u2_k, u2_s]
    · simp (disch := omega) only [u2_k]
    · exact CTv.k5 (by omega) (by simp (disch := omega) only [u2_k, u2_s]) (by simp (disch := omega) only [u2_k, u2_s]; rw [z]; rfl)
  have no62 := z; clear z
  by_cases z : b q = 61
  · have nn : ∀ k, k ≠ 61 → (b q = k) = False := fun k hk => eq_false (by omega)
    have k5 : sgK (b q) = 5 := by unfold sgK; rw [if_pos (by omega)]
    have k6 : ¬ sgK (b q) = 6 := by omega
    rw [if_neg k6]
    simp (disch := omega) only [eReader_sign_30, eReader_sign_63, eReader_sign_88, eReader_sign_110, eReader_sign_130, ↓reduceIte, ↓qX_m, ↓qR_m, ↓cI_m, ↓cV_m, ↓cJ_m, ↓cO_m, ↓cR_m, ixq_n, ixq_l, tgq_ok, nL_mul, nR_mul, nL_add, nR_add, nL_sub, nR_sub, nI_add, pk_mul, nn_sub, ng1_0, ng1_1, an_0, an_1, i1_0, Nat.add_zero, Nat.zero_add, Nat.mul_one, Nat.mul_zero, hI_cg, hP_cg, hJ_cg, wI_cg, wP_cg, wJ_cg, u2_s, u2_k, u2_u2, nR_eq, eq_true z, nn, hH, hx61, hx62, l1, l2, l3, l4, ↓reduceIte]
    refine ⟨_, rfl, fin _ 1 5 2 (by unfold sgN; rw [if_neg (by omega), if_neg (by omega)]) (k5) (by unfold sgV; rw [if_pos z]) ?_ ?_ ?_ ?_⟩
    · repeat (first | exact f0 | refine FrK.u ?_ _ _ (by omega))
    · simp (disch := omega) only [u2_k, u2_s]
    · simp (disch := omega) only [u2_k]
    · exact CTv.k5 (by omega) (by simp (disch := omega) only [u2_k, u2_s]) (by simp (disch := omega) only [u2_k, u2_s]; rw [z]; rfl)
  have no61 := z; clear z
  have sN : sgN (b q) c2 = 1 := by unfold sgN; rw [if_neg (by omega), if_neg (by omega)]
  have sV : sgV (b q) c2 = b q := by unfold sgV; rw [if_neg (by omega), if_neg (by omega), if_neg (by omega)]
  simp (disch := omega) only [eReader_sign_30, eReader_sign_63, eReader_sign_88, eReader_sign_110, eReader_sign_130, ↓reduceIte, ↓qX_m, ↓qR_m, ↓cI_m, ↓cV_m, ↓cJ_m, ↓cO_m, ↓cR_m, ixq_n, ixq_l, tgq_ok, nL_mul, nR_mul, nL_add, nR_add, nL_sub, nR_sub, nI_add, pk_mul, nn_sub, ng1_0, ng1_1, an_0, an_1, i1_0, Nat.add_zero, Nat.zero_add, Nat.mul_one, Nat.mul_zero, hI_cg, hP_cg, hJ_cg, wI_cg, wP_cg, wJ_cg, u2_s, u2_k, nR_eq, no60, no61, no62, l4, ↓reduceIte]
  by_cases k6 : sgK (b q) = 6
  · rw [if_pos k6]
    refine ⟨_, rfl, fin _ 1 6 (b q) (sN) (k6) (sV) ?_ ?_ ?_ ?_⟩
    · repeat (first | exact f0 | refine FrK.u ?_ _ _ (by omega))
    · simp (disch := omega) only [u2_k, u2_s]
    · simp (disch := omega) only [u2_k]
    · exact CTv.k6 (by simp (disch := omega) only [u2_k, u2_s])
  · rw [if_neg k6]
    have k4 : sgK (b q) = 4 := by unfold sgK at k6 ⊢; rw [if_neg (by omega)] at k6 ⊢; split <;> simp_all
    refine ⟨_, rfl, fin _ 1 4 (b q) (sN) (k4) (sV) ?_ ?_ ?_ ?_⟩
    · repeat (first | exact f0 | refine FrK.u ?_ _ _ (by omega))
    · simp (disch := omega) only [u2_k, u2_s]
    · simp (disch := omega) only [u2_k]
    · exact CTv.k4 (by simp (disch := omega) only [u2_k, u2_s]) (by simp (disch := omega) only [u2_k, u2_s])
/-- the next token of the component -/
theorem ac_next (d : Nat) (T : T_) (m : Nat) (I : RI_) (J : RJ_) {p : Nat} (hn : n ≤ 700) (hp : p ≤ n) (h256 : ∀ k, b k < 256) (h : CRd b n I P) (h0 : I (2, 0, 32) 0 = nI p) :
    ∃ I' : RI_, (Run_ (d, mReader_next, 0, [some (vR (2, 0, 32))], [], (cg T m I J P))) = some (.inl none, cg T m I' J P) ∧ FrK I I' ∧ I' (2, 0, 32) 0 = nI (tkN b n p) ∧ I' (2, 0, 32) 2 = nI (tkP b n p) ∧ CTv (tkK b n p) (tkV b n p) I' := by
  have e10 : ∀ p, (hrS b n p = 10) = (p < n ∧ b p = 10) := fun p => hr_eq (c := 10) (by omega) h256
  have e32 : ∀ p, (hrS b n p = 32) = (p < n ∧ b p = 32) := fun p => hr_eq (c := 32) (by omega) h256
  have bk : ∀ p, blk b n p = decide ((p < n ∧ b p = 10) ∨ (p < n ∧ b p = 32)) := by
    intro p
    unfold blk
    by_cases z : p < n
    · by_cases z1 : b p = 10
      · simp [z, z1]
      · by_cases z2 : b p = 32
        · simp [z, z2]
        · simp [z, z1, z2]
    · simp [z]
  have s1 : (Run_ (d, mReader_next, 0, [some (vR (2, 0, 32))], [], (cg T m I J P))) = (Run_ (d, mReader_next, 0, [some (vR (2, 0, 32))], [], (cg T m (u2 I (2, 0, 32) 0 (nI (tkP b n p))) J P))) := by
    have := lps (fun p => (Run_ (d, mReader_next, 0, [some (vR (2, 0, 32))], [], (cg T m (u2 I (2, 0, 32) 0 (nI p)) J P)))) (fun p => (Run_ (d, mReader_next, 0, [some (vR (2, 0, 32))], [], (cg T m (u2 I (2, 0, 32) 0 (nI p)) J P)))) (blk b n) n (blk_n b n) (fun p hp => ?_) p hp
    · have h3 := u2_id I (2, 0, 32) 0 (nI p) h0
      try dsimp only at this
      rw [h3] at this
      exact this
    · try dsimp only
      have r := h.u 0 (nI p) (by omega)
      have hh := ac_here (P := P) d T m _ J hn hp h256 r (u2_s ..)
      rw [bk]
      by_cases z1 : p < n ∧ b p = 10
      · rw [decide_eq_true (Or.inl z1), eReader_next_0]
        simp (disch := omega) only [↓reduceIte, ↓qX_m, ↓qR_m, ↓cI_m, ↓cV_m, ↓cJ_m, ↓cO_m, ↓cR_m, ixq_n, ixq_l, tgq_ok, nL_mul, nR_mul, nL_add, nR_add, nL_sub, nR_sub, nI_add, pk_mul, nn_sub, ng1_0, ng1_1, an_0, an_1, i1_0, Nat.add_zero, Nat.zero_add, Nat.mul_one, Nat.mul_zero, hI_cg, hP_cg, hJ_cg, wI_cg, wP_cg, wJ_cg, hh, e10, eq_true z1, eReader_next_18, u2_s, u2_u2, cond_true]
      · by_cases z2 : p < n ∧ b p = 32
        · rw [decide_eq_true (Or.inr z2), eReader_next_0]
          simp (disch := omega) only [↓reduceIte, ↓qX_m, ↓qR_m, ↓cI_m, ↓cV_m, ↓cJ_m, ↓cO_m, ↓cR_m, ixq_n, ixq_l, tgq_ok, nL_mul, nR_mul, nL_add, nR_add, nL_sub, nR_sub, nI_add, pk_mul, nn_sub, ng1_0, ng1_1, an_0, an_1, i1_0, Nat.add_zero, Nat.zero_add, Nat.mul_one, Nat.mul_zero, hI_cg, hP_cg, hJ_cg, wI_cg, wP_cg, wJ_cg, hh, e10, z1, e32, eq_true z2, eReader_next_18, u2_s, u2_u2, cond_true]
        · rw [decide_eq_false (fun y => y.elim z1 z2)]
          rfl
  have hq := tkP_in (b := b) hp
  have hbl : blk b n (tkP b n p) = false := scn_stop (blk b n) n (blk_n b n) p hp
  rw [s1]
  unfold tkN tkK tkV
  generalize tkP b n p = q at hq hbl ⊢
  rw [bk] at hbl
  have hbl := of_decide_eq_false hbl
  have z1 : ¬ (q < n ∧ b q = 10) := fun y => hbl (Or.inl y)
  have z2 : ¬ (q < n ∧ b q = 32) := fun y => hbl (Or.inr y)
  have r0 := h.u 0 (nI q) (by omega)
  have hh := ac_here (P := P) d T m _ J hn hq.2 h256 r0 (u2_s ..)
  have r1 := r0.u 2 (nI q) (by omega)
  have f2 : FrK I (u2 (u2 I (2, 0, 32) 0 (nI q)) (2, 0, 32) 2 (nI q)) := ((FrK.rf I).u _ _ (by omega)).u _ _ (by omega)
  have e0 : u2 (u2 I (2, 0, 32) 0 (nI q)) (2, 0, 32) 2 (nI q) (2, 0, 32) 0 = nI q := by rw [u2_k _ _ _ _ (by omega), u2_s]
  have e2 : u2 (u2 I (2, 0, 32) 0 (nI q)) (2, 0, 32) 2 (nI q) (2, 0, 32) 2 = nI q := u2_s ..
  have hh2 := ac_here (P := P) d T m _ J hn hq.2 h256 r1 e0
  rw [eReader_next_0]
  simp (disch := omega) only [↓reduceIte, ↓qX_m, ↓qR_m, ↓cI_m, ↓cV_m, ↓cJ_m, ↓cO_m, ↓cR_m, ixq_n, ixq_l, tgq_ok, nL_mul, nR_mul, nL_add, nR_add, nL_sub, nR_sub, nI_add, pk_mul, nn_sub, ng1_0, ng1_1, an_0, an_1, i1_0, Nat.add_zero, Nat.zero_add, Nat.mul_one, Nat.mul_zero, hI_cg, hP_cg, hJ_cg, wI_cg, wP_cg, wJ_cg, hh, e10, e32, z1, z2, u2_s]
  generalize u2 (u2 I (2, 0, 32) 0 (nI q)) (2, 0, 32) 2 (nI q) = I2 at r1 f2 e0 e2 hh2 ⊢
  simp (disch := omega) only [↓reduceIte, ↓qX_m, ↓qR_m, ↓cI_m, ↓cV_m, ↓cJ_m, ↓cO_m, ↓cR_m, ixq_n, ixq_l, tgq_ok, nL_mul, nR_mul, nL_add, nR_add, nL_sub, nR_sub, nI_add, pk_mul, nn_sub, ng1_0, ng1_1, an_0, an_1, i1_0, Nat.add_zero, Nat.zero_add, Nat.mul_one, Nat.mul_zero, hI_cg, hP_cg, hJ_cg, wI_cg, wP_cg, wJ_cg, e0, r1.1, nn_eq]
  by_cases c : n ≤ q
  · have c' : q = n := by omega
    simp (disch := omega) only [eq_true c', eq_true c, ↓reduceIte, ↓qX_m, ↓qR_m, ↓cI_m, ↓cV_m, ↓cJ_m, ↓cO_m, ↓cR_m, ixq_n, ixq_l, tgq_ok, nL_mul, nR_mul, nL_add, nR_add, nL_sub, nR_sub, nI_add, pk_mul, nn_sub, ng1_0, ng1_1, an_0, an_1, i1_0, Nat.add_zero, Nat.zero_add, Nat.mul_one, Nat.mul_zero, hI_cg, hP_cg, hJ_cg, wI_cg, wP_cg, wJ_cg, eReader_next_259]
    exact ⟨_, rfl, f2.u _ _ (by omega), by rw [u2_k _ _ _ _ (by omega)]; exact e0, by rw [u2_k _ _ _ _ (by omega)]; exact e2, Or.inl ⟨rfl, u2_s ..⟩⟩
  have c' : ¬ q = n := by omega
  simp (disch := omega) only [c', c, ↓reduceIte, ↓qX_m, ↓qR_m, ↓cI_m, ↓cV_m, ↓cJ_m, ↓cO_m, ↓cR_m, ixq_n, ixq_l, tgq_ok, nL_mul, nR_mul, nL_add, nR_add, nL_sub, nR_sub, nI_add, pk_mul, nn_sub, ng1_0, ng1_1, an_0, an_1, i1_0, Nat.add_zero, Nat.zero_add, Nat.mul_one, Nat.mul_zero, hI_cg, hP_cg, hJ_cg, wI_cg, wP_cg, wJ_cg, hh2, ac_sm d _ q h256, bI_z, Bool.true_eq_false, Bool.false_eq_true]
  unfold tqE tqK tqV
  cases hs : sml b n q with
  | true =>
    simp only [eq_self, decide_true, decide_false, cond_true, cond_false, ↓reduceIte, Bool.true_eq_false]
    have s2 := lps (fun e => (Run_ (d, mReader_next, 75, [some (vR (2, 0, 32))], [], (cg T m (u2 I2 (2, 0, 32) 0 (nI e)) J P)))) (fun e => (Run_ (d, mReader_next, 75, [some (vR (2, 0, 32))], [], (cg T m (u2 I2 (2, 0, 32) 0 (nI e)) J P)))) (sml b n) n (sml_n b n) (fun e he => by
      try dsimp only
      have r := r1.u 0 (nI e) (by omega)
      have hh := ac_here (P := P) d T m _ J hn he h256 r (u2_s ..)
      cases hse : sml b n e with
      | false => rfl
      | true =>
        rw [eReader_next_75]
        simp (disch := omega) only [↓reduceIte, ↓qX_m, ↓qR_m, ↓cI_m, ↓cV_m, ↓cJ_m, ↓cO_m, ↓cR_m, ixq_n, ixq_l, tgq_ok, nL_mul, nR_mul, nL_add, nR_add, nL_sub, nR_sub, nI_add, pk_mul, nn_sub, ng1_0, ng1_1, an_0, an_1, i1_0, Nat.add_zero, Nat.zero_add, Nat.mul_one, Nat.mul_zero, hI_cg, hP_cg, hJ_cg, wI_cg, wP_cg, wJ_cg, hh, ac_sm d _ e h256, hse, bI_z, Bool.true_eq_false, Bool.false_eq_true, u2_s, u2_u2, cond_true]) q (by omega)
    try dsimp only at s2
    rw [u2_id I2 (2, 0, 32) 0 (nI q) e0] at s2
    rw [s2]
    have he := scn_le (sml b n) (n - q) q
    have hst := scn_stop (sml b n) n (sml_n b n) q (by omega)
    have hal := fun j (a : q ≤ j) (b2 : j < scn (sml b n) (n - q) q) => scn_all (sml b n) (n - q) q j a b2
    generalize scn (sml b n) (n - q) q = e at he hst hal ⊢
    have r := r1.u 0 (nI e) (by omega)
    have f3 : FrK I (u2 I2 (2, 0, 32) 0 (nI e)) := f2.u _ _ (by omega)
    have g0 : u2 I2 (2, 0, 32) 0 (nI e) (2, 0, 32) 0 = nI e := u2_s ..
    have g2 : u2 I2 (2, 0, 32) 0 (nI e) (2, 0, 32) 2 = nI q := by rw [u2_k _ _ _ _ (by omega)]; exact e2
    generalize u2 I2 (2, 0, 32) 0 (nI e) = I3 at r f3 g0 g2 ⊢
    have hh3 := ac_here (P := P) d T m I3 J hn (by omega : e ≤ n) h256 r g0
    have ee : nI e - nI q = nI (e - q) := nn_sub (by omega)
    rw [eReader_next_75]
    simp (disch := omega) only [↓reduceIte, ↓qX_m, ↓qR_m, ↓cI_m, ↓cV_m, ↓cJ_m, ↓cO_m, ↓cR_m, ixq_n, ixq_l, tgq_ok, nL_mul, nR_mul, nL_add, nR_add, nL_sub, nR_sub, nI_add, pk_mul, nn_sub, ng1_0, ng1_1, an_0, an_1, i1_0, Nat.add_zero, Nat.zero_add, Nat.mul_one, Nat.mul_zero, hI_cg, hP_cg, hJ_cg, wI_cg, wP_cg, wJ_cg, hh3, ac_sm d _ e h256, hst, bI_z, Bool.true_eq_false, Bool.false_eq_true, ac_word d T m I3 J hn (by omega : q ≤ e) (by omega : e ≤ n) h256 r g0 g2, u2_s, u2_k, g0, g2, nL_lt]
    rcases wd_c b q e with ⟨w1, w2⟩ | ⟨w1, w2⟩
    · have w3 : ¬ wdx b q e < 21 := by omega
      simp (disch := omega) only [↓reduceIte, ↓qX_m, ↓qR_m, ↓cI_m, ↓cV_m, ↓cJ_m, ↓cO_m, ↓cR_m, ixq_n, ixq_l, tgq_ok, nL_mul, nR_mul, nL_add, nR_add, nL_sub, nR_sub, nI_add, pk_mul, nn_sub, ng1_0, ng1_1, an_0, an_1, i1_0, Nat.add_zero, Nat.zero_add, Nat.mul_one, Nat.mul_zero, hI_cg, hP_cg, hJ_cg, wI_cg, wP_cg, wJ_cg, w2, w3]
      by_cases c6 : 6 < e - q
      · have m2 : ((5 : Int32) = 1) = False := eq_false (by decide)
        simp (disch := omega) only [eq_true c6, m2, ↓reduceIte, ↓qX_m, ↓qR_m, ↓cI_m, ↓cV_m, ↓cJ_m, ↓cO_m, ↓cR_m, ixq_n, ixq_l, tgq_ok, nL_mul, nR_mul, nL_add, nR_add, nL_sub, nR_sub, nI_add, pk_mul, nn_sub, ng1_0, ng1_1, an_0, an_1, i1_0, Nat.add_zero, Nat.zero_add, Nat.mul_one, Nat.mul_zero, hI_cg, hP_cg, hJ_cg, wI_cg, wP_cg, wJ_cg, eReader_next_145, u2_s, eReader_next_259]
        refine ⟨_, rfl, (f3.u _ _ (by omega)).u _ _ (by omega), ?_, ?_, CTv.k6 (u2_s ..)⟩
        · simp (disch := omega) only [u2_k, g0]
        · simp (disch := omega) only [u2_k, g2]
      · have hlt : ∀ k, q ≤ k → k < e → b k < 128 := by
          intro k a1 a2
          have := hal k a1 a2
          unfold sml at this
          rw [Bool.and_eq_true, Bool.and_eq_true] at this
          have a3 : ¬ 122 < b k := fun y => by rw [decide_eq_true y] at this; exact Bool.noConfusion this.2.2
          omega
        have rr := (r.u 4 (-1) (by omega)).u 3 1 (by omega)
        have hnm := ac_name6 (P := P) d T m _ J hn (by omega : q ≤ e) (by omega : e ≤ n) hlt rr (by simp (disch := omega) only [u2_k, g0]) (by simp (disch := omega) only [u2_k, g2])
        simp (disch := omega) only [c6, ↓reduceIte, ↓qX_m, ↓qR_m, ↓cI_m, ↓cV_m, ↓cJ_m, ↓cO_m, ↓cR_m, ixq_n, ixq_l, tgq_ok, nL_mul, nR_mul, nL_add, nR_add, nL_sub, nR_sub, nI_add, pk_mul, nn_sub, ng1_0, ng1_1, an_0, an_1, i1_0, Nat.add_zero, Nat.zero_add, Nat.mul_one, Nat.mul_zero, hI_cg, hP_cg, hJ_cg, wI_cg, wP_cg, wJ_cg, eReader_next_145, u2_s, hnm, eReader_next_259]
        refine ⟨_, rfl, ((f3.u _ _ (by omega)).u _ _ (by omega)).u _ _ (by omega), ?_, ?_, Or.inr (Or.inr (Or.inl ⟨rfl, ?_, u2_s ..⟩))⟩
        · simp (disch := omega) only [u2_k, g0]
        · simp (disch := omega) only [u2_k, g2]
        · simp (disch := omega) only [u2_k, u2_s]
    · have m1 : (nI (wdx b q e) = -1) = False := nI_neq (by omega)
      have m2 : ((0 : Int32) = 1) = False := eq_false (by decide)
      simp (disch := omega) only [↓reduceIte, ↓qX_m, ↓qR_m, ↓cI_m, ↓cV_m, ↓cJ_m, ↓cO_m, ↓cR_m, ixq_n, ixq_l, tgq_ok, nL_mul, nR_mul, nL_add, nR_add, nL_sub, nR_sub, nI_add, pk_mul, nn_sub, ng1_0, ng1_1, an_0, an_1, i1_0, Nat.add_zero, Nat.zero_add, Nat.mul_one, Nat.mul_zero, hI_cg, hP_cg, hJ_cg, wI_cg, wP_cg, wJ_cg, w2, eq_true w1, m1, m2, eReader_next_145, u2_s, eReader_next_259]
      refine ⟨_, rfl, (f3.u _ _ (by omega)).u _ _ (by omega), ?_, ?_, Or.inr (Or.inl ⟨rfl, u2_s .., ?_⟩)⟩
      · simp (disch := omega) only [u2_k, g0]
      · simp (disch := omega) only [u2_k, g2]
      · simp (disch := omega) only [u2_k, u2_s]
  | false =>
    simp (disch := omega) only [eq_self, decide_true, decide_false, cond_true, cond_false, ↓reduceIte, ↓reduceIte, ↓qX_m, ↓qR_m, ↓cI_m, ↓cV_m, ↓cJ_m, ↓cO_m, ↓cR_m, ixq_n, ixq_l, tgq_ok, nL_mul, nR_mul, nL_add, nR_add, nL_sub, nR_sub, nI_add, pk_mul, nn_sub, ng1_0, ng1_1, an_0, an_1, i1_0, Nat.add_zero, Nat.zero_add, Nat.mul_one, Nat.mul_zero, hI_cg, hP_cg, hJ_cg, wI_cg, wP_cg, wJ_cg, hh2, ac_dg d _ q h256, bI_z, Bool.true_eq_false, Bool.false_eq_true]
    cases hd : dgt b n q with
    | true =>
      simp (disch := omega) only [eq_self, decide_true, decide_false, cond_true, cond_false, ↓reduceIte, Bool.true_eq_false, ↓reduceIte, ↓qX_m, ↓qR_m, ↓cI_m, ↓cV_m, ↓cJ_m, ↓cO_m, ↓cR_m, ixq_n, ixq_l, tgq_ok, nL_mul, nR_mul, nL_add, nR_add, nL_sub, nR_sub, nI_add, pk_mul, nn_sub, ng1_0, ng1_1, an_0, an_1, i1_0, Nat.add_zero, Nat.zero_add, Nat.mul_one, Nat.mul_zero, hI_cg, hP_cg, hJ_cg, wI_cg, wP_cg, wJ_cg]
      obtain ⟨s2, s3⟩ := lps2 (fun e v => (Run_ (d, mReader_next, 190, [some (vR (2, 0, 32))], [], (cg T m (u2 (u2 (u2 I2 (2, 0, 32) 3 2) (2, 0, 32) 4 (nI v)) (2, 0, 32) 0 (nI e)) J P)))) (fun e v => some (.inl none, cg T m (u2 (u2 (u2 I2 (2, 0, 32) 3 2) (2, 0, 32) 4 (nI v)) (2, 0, 32) 0 (nI e)) J P)) (nmF b) (fun v => v ≤ 999999) (dgt b n) n (dgt_n b n) (fun p v hq hv => nmF_in hq hv) (fun e v he hv => by
        try dsimp only
        have r := ((r1.u 3 2 (by omega)).u 4 (nI v) (by omega)).u 0 (nI e) (by omega)
        have hh := ac_here (P := P) d T m _ J hn he h256 r (u2_s ..)
        rw [eReader_next_190]
        cases hde : dgt b n e with
        | false => simp (disch := omega) only [↓reduceIte, ↓qX_m, ↓qR_m, ↓cI_m, ↓cV_m, ↓cJ_m, ↓cO_m, ↓cR_m, ixq_n, ixq_l, tgq_ok, nL_mul, nR_mul, nL_add, nR_add, nL_sub, nR_sub, nI_add, pk_mul, nn_sub, ng1_0, ng1_1, an_0, an_1, i1_0, Nat.add_zero, Nat.zero_add, Nat.mul_one, Nat.mul_zero, hI_cg, hP_cg, hJ_cg, wI_cg, wP_cg, wJ_cg, hh, ac_dg d _ e h256, hde, bI_z, Bool.true_eq_false, Bool.false_eq_true, eReader_next_259, cond_false]
        | true =>
          have hen : e < n := by
            rcases Nat.lt_or_ge e n with z | z
            · exact z
            · have : e = n := by omega
              rw [this, dgt_n] at hde
              cases hde
          have h2 := h256 e
          have hre : hrS b n e = nI (b e) := if_pos hen
          have hb : ¬ b e < 48 := by
            unfold dgt at hde
            rw [Bool.and_eq_true, Bool.and_eq_true] at hde
            intro z
            have := hde.2.1
            rw [decide_eq_true z] at this
            cases this
          have hw : ∀ x y : Int32, u2 (u2 (u2 (u2 (u2 I2 (2, 0, 32) 3 2) (2, 0, 32) 4 (nI v)) (2, 0, 32) 0 (nI e)) (2, 0, 32) 4 x) (2, 0, 32) 0 y = u2 (u2 (u2 I2 (2, 0, 32) 3 2) (2, 0, 32) 4 x) (2, 0, 32) 0 y := by
            intro x y
            funext t k
            by_cases z1 : t = (2, 0, 32) ∧ k = 0
            · simp only [u2_ap, eq_true z1, ↓reduceIte]
            · by_cases z2 : t = (2, 0, 32) ∧ k = 4
              · simp only [u2_ap, z1, eq_true z2, ↓reduceIte]
              · simp only [u2_ap, z1, z2, ↓reduceIte]
          unfold nmF
          by_cases c9 : 99999 < v
          · simp (disch := omega) only [↓reduceIte, ↓qX_m, ↓qR_m, ↓cI_m, ↓cV_m, ↓cJ_m, ↓cO_m, ↓cR_m, ixq_n, ixq_l, tgq_ok, nL_mul, nR_mul, nL_add, nR_add, nL_sub, nR_sub, nI_add, pk_mul, nn_sub, ng1_0, ng1_1, an_0, an_1, i1_0, Nat.add_zero, Nat.zero_add, Nat.mul_one, Nat.mul_zero, hI_cg, hP_cg, hJ_cg, wI_cg, wP_cg, wJ_cg, hh, ac_dg d _ e h256, hde, bI_z, Bool.true_eq_false, Bool.false_eq_true, cond_true, u2_k, u2_s, nL_lt, eq_true c9, eReader_next_239, hw]
          · simp (disch := omega) only [↓reduceIte, ↓qX_m, ↓qR_m, ↓cI_m, ↓cV_m, ↓cJ_m, ↓cO_m, ↓cR_m, ixq_n, ixq_l, tgq_ok, nL_mul, nR_mul, nL_add, nR_add, nL_sub, nR_sub, nI_add, pk_mul, nn_sub, ng1_0, ng1_1, an_0, an_1, i1_0, Nat.add_zero, Nat.zero_add, Nat.mul_one, Nat.mul_zero, hI_cg, hP_cg, hJ_cg, wI_cg, wP_cg, wJ_cg, hh, ac_dg d _ e h256, hde, bI_z, Bool.true_eq_false, Bool.false_eq_true, cond_true, u2_k, u2_s, nL_lt, c9, eReader_next_239, hw]
            simp (disch := omega) only [hre, ↓reduceIte, ↓qX_m, ↓qR_m, ↓cI_m, ↓cV_m, ↓cJ_m, ↓cO_m, ↓cR_m, ixq_n, ixq_l, tgq_ok, nL_mul, nR_mul, nL_add, nR_add, nL_sub, nR_sub, nI_add, pk_mul, nn_sub, ng1_0, ng1_1, an_0, an_1, i1_0, Nat.add_zero, Nat.zero_add, Nat.mul_one, Nat.mul_zero, hI_cg, hP_cg, hJ_cg, wI_cg, wP_cg, wJ_cg]) q 0 (by omega) (by omega)
      try dsimp only at s2
      have s4 : u2 (u2 (u2 I2 (2, 0, 32) 3 2) (2, 0, 32) 4 (nI 0)) (2, 0, 32) 0 (nI q) = u2 (u2 I2 (2, 0, 32) 3 2) (2, 0, 32) 4 0 := u2_id _ _ _ _ (by rw [u2_k _ _ _ _ (by omega), u2_k _ _ _ _ (by omega)]; exact e0)
      rw [s4] at s2
      rw [s2]
      refine ⟨_, rfl, ((f2.u _ _ (by omega)).u _ _ (by omega)).u _ _ (by omega), u2_s .., ?_, Or.inr (Or.inr (Or.inr (Or.inl ⟨rfl, ?_, ?_⟩)))⟩
      · simp (disch := omega) only [u2_k, e2]
      · simp (disch := omega) only [u2_k, u2_s]
      · simp (disch := omega) only [u2_k, u2_s]
    | false =>
      simp only [eq_self, decide_true, decide_false, cond_true, cond_false, ↓reduceIte]
      obtain ⟨I3, r3, f3, g1, g2, g3⟩ := ac_sgn (b := b) (n := n) (q := q) (P := P) d T m I2 J hn (by omega) h256 r1 e0
      simp (disch := omega) only [↓reduceIte, ↓qX_m, ↓qR_m, ↓cI_m, ↓cV_m, ↓cJ_m, ↓cO_m, ↓cR_m, ixq_n, ixq_l, tgq_ok, nL_mul, nR_mul, nL_add, nR_add, nL_sub, nR_sub, nI_add, pk_mul, nn_sub, ng1_0, ng1_1, an_0, an_1, i1_0, Nat.add_zero, Nat.zero_add, Nat.mul_one, Nat.mul_zero, hI_cg, hP_cg, hJ_cg, wI_cg, wP_cg, wJ_cg, r3, eReader_next_259]
      exact ⟨_, rfl, f2.tr f3, g1, g2.trans e2, g3⟩
