/-! THE COMPONENT's sums: small steps -/
variable {b : Nat → Nat} {n : Nat}
/-- where the component stands in the tape -/
def CTk (b : Nat → Nat) (n p : Nat) (I : RI_) (P : RP_) : Prop := CRd b n I P ∧ p ≤ n ∧ I (2, 0, 32) 0 = nI (tkN b n p) ∧ I (2, 0, 32) 2 = nI (tkP b n p) ∧ CTv (tkK b n p) (tkV b n p) I
theorem CTk.next {p m : Nat} {I : RI_} {P : RP_} (d : Nat) (T : T_) (J : RJ_) (hn : n ≤ 700) (h256 : ∀ k, b k < 256) (h : CTk b n p I P) : ∃ I' : RI_, (Run_ (d, mReader_next, 0, [some (vR (2, 0, 32))], [], (cg T m I J P))) = some (.inl none, cg T m I' J P) ∧ FrK I I' ∧ CTk b n (tkN b n p) I' P := by
  obtain ⟨h1, h2, h3, h4, h5⟩ := h
  have hp := (tkN_le (b := b) h2).2
  obtain ⟨I', r, f, a1, a2, a3⟩ := ac_next d T m I J hn hp h256 h1 h3
  refine ⟨I', r, f, ⟨?_, fun k hk => ?_, h1.2.2⟩, hp, a1, a2, a3⟩
  · rw [f _ _ (fun z => by have := z.2; omega)]; exact h1.1
  · rw [f _ _ (fun z => by have := congrArg (·.1) z.1; simp only at this; omega)]; exact h1.2.1 k hk
theorem CTk.fr {p : Nat} {I I' : RI_} {P P' : RP_} (h : CTk b n p I P) (f : ∀ k, k ≤ 4 → I' (2, 0, 32) k = I (2, 0, 32) k) (f2 : ∀ k, I' (42, 700, 2) k = I (42, 700, 2) k) (f3 : P' (2, 0, 32) 8 = P (2, 0, 32) 8) (f4 : P' (1, 0, 1) 0 = P (1, 0, 1) 0) : CTk b n p I' P' := by
  obtain ⟨h1, h2, h3, h4, h5⟩ := h
  refine ⟨⟨(f _ (by omega)).trans h1.1, fun k hk => (f2 k).trans (h1.2.1 k hk), f3.trans h1.2.2.1, f4.trans h1.2.2.2⟩, h2, (f _ (by omega)).trans h3, (f _ (by omega)).trans h4, ?_⟩
  unfold CTv at *
  rw [f 3 (by omega), f 4 (by omega)]
  exact h5
theorem ac_isWord {p : Nat} {I : RI_} {P : RP_} (d : Nat) (T : T_) (m : Nat) (J : RJ_) (h256 : ∀ k, b k < 256) (h : CTk b n p I P) (lo hi : Nat) (hlo : lo < 256) (hhi : hi < 256) : (Run_ (d, mReader_isWord, 0, [some (vR (2, 0, 32)), some (vI (nI lo)), some (vI (nI hi))], [], (cg T m I J P))) = some (.inl (some (vI (bI (decide (tkK b n p = 1 ∧ lo ≤ tkW b n p ∧ tkW b n p ≤ hi))))), cg T m I J P) := by
  have c4 : ∀ x : Int32, ¬ x = 0 → ∀ X Y : Option Z_, (if x = 0 then X else Y) = Y := fun x hx X Y => if_neg hx
  have hf := tk_f (n := n) h256 p
  simp (disch := omega) only [eReader_isWord_0, eReader_isWord_26, eReader_isWord_27, ↓reduceIte, ↓qX_m, ↓qR_m, ↓cI_m, ↓cV_m, ↓cJ_m, ↓cO_m, ↓cR_m, ixq_n, ixq_l, tgq_ok, nL_mul, nR_mul, nL_add, nR_add, nL_sub, nR_sub, nI_add, pk_mul, nn_sub, ng1_0, ng1_1, an_0, an_1, i1_0, Nat.add_zero, Nat.zero_add, Nat.mul_one, Nat.mul_zero, hI_cg, hP_cg, hJ_cg, wI_cg, wP_cg, wJ_cg]
  rcases h.2.2.2.2 with ⟨k, e⟩ | ⟨k, e, e2⟩ | ⟨k, e, -⟩ | ⟨k, e, -⟩ | ⟨k, e, e2⟩ | ⟨k, e, -⟩ | ⟨k, e⟩
  · rw [e, c4 _ (by decide), decide_eq_false (by omega)]; rfl
  · obtain ⟨w, w1, w2⟩ := hf.1 k
    have sw : tkW b n p = w := by unfold tkW; rw [w2]; exact nI_clamp (by omega)
    rw [e, if_pos rfl, e2, w2, sw, ac_inI d _ (nI w) (nI lo) (nI hi) rfl rfl]
    have hi2 : inS (nI w) (nI lo) (nI hi) = decide (tkK b n p = 1 ∧ lo ≤ w ∧ w ≤ hi) := by
      unfold inS
      by_cases z1 : w < lo
      · have y : ¬ (tkK b n p = 1 ∧ lo ≤ w ∧ w ≤ hi) := by omega
        rw [decide_eq_true (by rw [nn_lt (by omega) (by omega)]; exact z1), decide_eq_false y]; rfl
      · rw [decide_eq_false (by rw [nn_lt (by omega) (by omega)]; exact z1)]
        by_cases z2 : hi < w
        · have y : ¬ (tkK b n p = 1 ∧ lo ≤ w ∧ w ≤ hi) := by omega
          rw [decide_eq_true (by rw [nn_lt (by omega) (by omega)]; exact z2), decide_eq_false y]; rfl
        · have y : tkK b n p = 1 ∧ lo ≤ w ∧ w ≤ hi := by omega
          rw [decide_eq_false (by rw [nn_lt (by omega) (by omega)]; exact z2), decide_eq_true y]; rfl
    rw [hi2]
    cases decide (tkK b n p = 1 ∧ lo ≤ w ∧ w ≤ hi) <;> simp (disch := omega) only [↓reduceIte, ↓qX_m, ↓qR_m, ↓cI_m, ↓cV_m, ↓cJ_m, ↓cO_m, ↓cR_m, ixq_n, ixq_l, tgq_ok, nL_mul, nR_mul, nL_add, nR_add, nL_sub, nR_sub, nI_add, pk_mul, nn_sub, ng1_0, ng1_1, an_0, an_1, i1_0, Nat.add_zero, Nat.zero_add, Nat.mul_one, Nat.mul_zero, hI_cg, hP_cg, hJ_cg, wI_cg, wP_cg, wJ_cg, bI_0, bI_1]
  · rw [e, c4 _ (by decide), decide_eq_false (by omega)]; rfl
  · rw [e, c4 _ (by decide), decide_eq_false (by omega)]; rfl
  · rw [e, c4 _ (by decide), decide_eq_false (by omega)]; rfl
  · rw [e, c4 _ (by decide), decide_eq_false (by omega)]; rfl
  · rw [e, c4 _ (by decide), decide_eq_false (by omega)]; rfl
theorem cmC_ne : ∀ w, w ≤ 5 → ∀ c, c < 256 → sgK c = 4 → ¬ cmC w = nI c := by decide +kernel
theorem ac_isSgn {p : Nat} {I : RI_} {P : RP_} (d : Nat) (T : T_) (m : Nat) (J : RJ_) (h256 : ∀ k, b k < 256) (h : CTk b n p I P) {c : Nat} (hc : sgK c = 4) : (Run_ (d, mReader_isSign, 0, [some (vR (2, 0, 32)), some (vI (nI c))], [], (cg T m I J P))) = some (.inl (some (vI (bI (decide (tkK b n p = 4 ∧ tkW b n p = c))))), cg T m I J P) := by
  have hcc := sgK4 hc
  have c4 : ∀ x : Int32, ¬ x = 3 → ∀ X Y : Option Z_, (if x = 3 then X else Y) = Y := fun x hx X Y => if_neg hx
  have hf := tk_f (n := n) h256 p
  simp (disch := omega) only [eReader_isSign_0, eReader_isSign_20, eReader_isSign_21, ↓reduceIte, ↓qX_m, ↓qR_m, ↓cI_m, ↓cV_m, ↓cJ_m, ↓cO_m, ↓cR_m, ixq_n, ixq_l, tgq_ok, nL_mul, nR_mul, nL_add, nR_add, nL_sub, nR_sub, nI_add, pk_mul, nn_sub, ng1_0, ng1_1, an_0, an_1, i1_0, Nat.add_zero, Nat.zero_add, Nat.mul_one, Nat.mul_zero, hI_cg, hP_cg, hJ_cg, wI_cg, wP_cg, wJ_cg]
  rcases h.2.2.2.2 with ⟨k, e⟩ | ⟨k, e, -⟩ | ⟨k, e, -⟩ | ⟨k, e, -⟩ | ⟨k, e, e2⟩ | ⟨k, e, w, w1, -, w3⟩ | ⟨k, e⟩
  · rw [e, c4 _ (by decide), decide_eq_false (by omega)]; rfl
  · rw [e, c4 _ (by decide), decide_eq_false (by omega)]; rfl
  · rw [e, c4 _ (by decide), decide_eq_false (by omega)]; rfl
  · rw [e, c4 _ (by decide), decide_eq_false (by omega)]; rfl
  · obtain ⟨s, s1, s2, s3⟩ := hf.2.2.1 k
    have sw : tkW b n p = s := by unfold tkW; rw [s2]; exact nI_clamp (by omega)
    rw [e, if_pos rfl, e2, s2, sw]
    by_cases z : s = c
    · rw [decide_eq_true ⟨k, z⟩, z, if_pos rfl]; rfl
    · rw [decide_eq_false (fun y => z y.2), if_neg (by rw [nn_eq (by omega) (by omega)]; exact z)]; rfl
  · rw [e, if_pos rfl, w3, if_neg (cmC_ne w w1 c (by omega) hc), decide_eq_false (by omega)]; rfl
  · rw [e, c4 _ (by decide), decide_eq_false (by omega)]; rfl
/-- what reading leaves as it was -/
def FrP (m l : Nat) (I : RI_) (J : RJ_) (P : RP_) (I' : RI_) (J' : RJ_) (P' : RP_) : Prop :=
  (∀ t a s k, s < m → ¬ (t = 2 ∧ s = 32 ∧ k ≤ 5 ∧ k ≠ 1) → ¬ (t = 3 ∧ s = l ∧ k = 8) → I' (t, a, s) k = I (t, a, s) k) ∧ (∀ t a s k, s < m → J' (t, a, s) k = J (t, a, s) k) ∧ (∀ t a s k, s < m → P' (t, a, s) k = P (t, a, s) k)
theorem FrP.rf (m l : Nat) (I : RI_) (J : RJ_) (P : RP_) : FrP m l I J P I J P := ⟨fun _ _ _ _ _ _ _ => rfl, fun _ _ _ _ _ => rfl, fun _ _ _ _ _ => rfl⟩
theorem FrP.tr {m m1 l : Nat} {I I1 I2 : RI_} {J J1 J2 : RJ_} {P P1 P2 : RP_} (h : FrP m l I J P I1 J1 P1) (h2 : FrP m1 l I1 J1 P1 I2 J2 P2) (hm : m ≤ m1) : FrP m l I J P I2 J2 P2 :=
  ⟨fun t a s k hs q1 q2 => (h2.1 t a s k (by omega) q1 q2).trans (h.1 t a s k hs q1 q2), fun t a s k hs => (h2.2.1 t a s k (by omega)).trans (h.2.1 t a s k hs), fun t a s k hs => (h2.2.2 t a s k (by omega)).trans (h.2.2 t a s k hs)⟩
theorem FrP.ag {m l a : Nat} {I I' : RI_} {J J' : RJ_} {P P' : RP_} (h : FrP m l I J P I' J' P') : AgR a m I P I' P' := fun t x s k h1 h2 _ h4 => ⟨h.1 t x s k h4 (by omega) (by omega), h.2.2 t x s k h4⟩
theorem FrK.fp {m l : Nat} {I I' : RI_} (J : RJ_) (P : RP_) (h : FrK I I') : FrP m l I J P I' J P :=
  ⟨fun t a s k _ q1 _ => h _ _ (fun z => q1 ⟨congrArg (·.1) z.1, congrArg (·.2.2) z.1, by have := z.2; omega, z.2.2⟩), fun _ _ _ _ _ => rfl, fun _ _ _ _ _ => rfl⟩
/-- the component in the midst of a sum -/
def CSu (b : Nat → Nat) (n l p o c m : Nat) (I : RI_) (P : RP_) : Prop :=
  CTk b n p I P ∧ (P (2, 0, 32) 7 = some (3, 0, l) ∧ (l = 33 ∨ 99 ≤ l) ∧ l < m ∧ 99 ≤ m) ∧ I (3, 0, l) 8 = nI c ∧ I (2, 0, 32) 5 = nI o ∧ c ≤ 64 ∧ o ≤ 8
/-- a fault made -/
theorem ac_wrong {p m l : Nat} {I : RI_} {P : RP_} (d : Nat) (T : T_) (J : RJ_) (k : Nat) (h : CTk b n p I P) (hm : 99 ≤ m) :
    ∃ (I' : RI_) (J' : RJ_) (P' : RP_), (Run_ (d, mReader_wrong, 0, [some (vR (2, 0, 32)), some (vI (nI k))], [], (cg T m I J P))) = some (.inl (some (vR (6, 0, m))), cg T (m + 1) I' J' P') ∧ (I' (6, 0, m) 6 = nI k ∧ I' (6, 0, m) 7 = nI (tkP b n p)) ∧ FrP m l I J P I' J' P' := by
  have e2 : I (2, 0, 32) 2 = nI (tkP b n p) := h.2.2.2.1
  have g : ∀ (x : Int32) (k : Nat), z1 I (6, 0, m) x (2, 0, 32) k = I (2, 0, 32) k := fun x k => z1_r _ _ _ (by omega)
  rw [eReader_wrong_0]
  simp (disch := omega) only [eFault_init_0, eException_init_0, eThrowable_init_0, eThrowable_init_41, eThrowable_init_60, eObject_init_0, ↓reduceIte, ↓qX_m, ↓qR_m, ↓cI_m, ↓cV_m, ↓cJ_m, ↓cO_m, ↓cR_m, ixq_n, ixq_l, tgq_ok, nL_mul, nR_mul, nL_add, nR_add, nL_sub, nR_sub, nI_add, pk_mul, nn_sub, ng1_0, ng1_1, an_0, an_1, i1_0, Nat.add_zero, Nat.zero_add, Nat.mul_one, Nat.mul_zero, hI_cg, hP_cg, hJ_cg, wI_cg, wP_cg, wJ_cg, cg_n, nw_cg, g, e2]
  refine ⟨_, _, _, rfl, ⟨?_, ?_⟩, fun t a s k hs q1 q2 => ?_, fun t a s k hs => ?_, fun t a s k hs => ?_⟩
  · simp (disch := omega) only [u2_k, u2_s]
  · simp (disch := omega) only [u2_s]
  · simp (disch := omega) only [u2_r, z1_r]
  · simp (disch := omega) only [z1_r]
  · simp (disch := omega) only [u2_r, z1_r]
