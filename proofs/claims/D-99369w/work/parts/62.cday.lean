/-! THE COMPONENT's days -/
variable {κ : Ky_} {τ : Tx_} {Λ : La_} {ω : Om_} {s n : Nat} {I : RI_} {J : RJ_} {P : RP_}
theorem qS_bind (l : List (Nat × Nat)) (t : Nat) (c : Nat → Bool) (X : Nat → Option Z_) (F : Z_ → Option Z_) : (qS none l t fun j => bif c j then (X j).bind F else none) = (qS none l t fun j => bif c j then X j else none).bind F := by
  unfold qS
  cases lk_ l t with
  | none => rfl
  | some j =>
    show (bif c j then (X j).bind F else none) = (bif c j then X j else none : Option Z_).bind F
    cases c j <;> rfl
def wkS (o : Option Dn_) (nm : Nm_) : Int64 := match o.bind fun f => f nm with
  | some v => v
  | none => -9223372036854775808
theorem ac_work {nm : Nm_} {w : Nat} (d : Nat) (T : T_) (h : CC κ τ Λ n I P) (hw : w < 3) (hd : 64 ≤ d) (hn : ∀ k, k < 7 → J (44, 7, 43) k = nm k) : (Run_ (d, mC_work, 0, [some (vR (1, 0, 1)), some (vI (nI w)), none], [], (cg T n I J P))) = some (.inl (some (vJ (wkS (Λ w) nm))), cg T n I J P) := by
  have hx : P (1, 0, 1) 7 = some (44, 7, 43) := h.2.1.1.2.2.1
  obtain ⟨-, -, ⟨h3, -⟩, ⟨⟨⟨-, -, -, -, -, g1⟩, -⟩, -⟩, hl, -⟩ := id h
  rw [eC_work_0]
  simp (disch := omega) only [↓reduceIte, ↓qX_m, ↓qR_m, ↓cI_m, ↓cV_m, ↓cJ_m, ↓cO_m, ↓cR_m, ixq_n, ixq_l, tgq_ok, nL_mul, nR_mul, nL_add, nR_add, nL_sub, nR_sub, nI_add, pk_mul, nn_sub, ng1_0, ng1_1, an_0, an_1, i1_0, Nat.add_zero, Nat.zero_add, Nat.mul_one, Nat.mul_zero, hI_cg, hP_cg, hJ_cg, wI_cg, wP_cg, wJ_cg, h3, g1, hx]
  rcases hl w hw with ⟨q1, q2⟩ | ⟨f, ⟨t, a, b⟩, q1, q2, q3⟩
  · rw [q2, qN_no, q1]; rfl
  · rw [q2, qN_ok, q1]
    have ha : List.any objT (Nat.beq t) = true := by
      have ht := q3.1
      simp only at ht
      have : t = 10 ∨ t = 11 ∨ t = 12 ∨ t = 13 := by omega
      rcases this with z | z | z | z <;> subst z <;> rfl
    simp only [ha, cond_true, qA_ok]
    have := q3.2.2 I P (AgP.rf _ _ _) d T n J nm hd hn
    unfold ofR at this
    rw [qS_bind, this]
    unfold wkS
    simp only [Option.bind_some]
    cases f nm with
    | none => simp only [outJ, Option.bind_some, rJ, List.any, Nat.beq, Bool.or_false, cond_true, eC_work_33]
    | some v => rfl
theorem nm_small (k t : Nat) (σ : St_) : ∀ i, -2147483648 ≤ (nmS τ ω σ k t i).toInt ∧ (nmS τ ω σ k t i).toInt < 2147483648 := by
  have key : ∀ x : Int32, -2147483648 ≤ (x.toInt64).toInt ∧ (x.toInt64).toInt < 2147483648 := by
    intro x
    rw [Int32.toInt_toInt64]
    have h1 := Int32.toInt_lt x
    have h2 := Int32.le_toInt x
    omega
  intro i
  unfold nmS
  repeat' split
  all_goals exact key _
theorem ac_within {o : Option Dn_} {nm : Nm_} (d : Nat) (G : G_) (m a : Int32) (hm : 0 ≤ m.toInt) (ht : ∀ f v, o = some f → f nm = some v → -1000000000000 ≤ v.toInt ∧ v.toInt ≤ 1000000000000) :
    (Run_ (d, mC_within, 0, [some (vJ (wkS o nm)), none, some (vI 0), some (vI m), some (vI a)], [], G)) = some (.inl (some (vI (bndS o nm a m))), G) := by
  have hM : (-9223372036854775808 : Int64).toInt = -9223372036854775808 := by decide
  have h0 : (0 : Int64).toInt = 0 := by decide
  have h00 : Int32.toInt64 0 = 0 := by decide
  unfold wkS bndS
  cases ho : o.bind fun f => f nm with
  | none => simp only [eC_within_0, eC_within_25, lg_cmp_eq, reduceIte]
  | some v =>
    have hv : -1000000000000 ≤ v.toInt ∧ v.toInt ≤ 1000000000000 := by
      cases o with
      | none => cases ho
      | some f => exact ht f v rfl ho
    have hne : ¬ v = -9223372036854775808 := by rw [j_eq, hM]; omega
    simp only [eC_within_0, eC_within_25, eMath_min_JJ_0, eMath_min_JJ_11, eMath_max_JJ_0, eMath_max_JJ_11, lg_cmp_eq, lg_cmp_gt, lg_cmp_lt, hne, reduceIte, h00]
    have hm64 : (m.toInt64).toInt = m.toInt := Int32.toInt_toInt64 ..
    have hm2 := Int32.toInt_lt m
    by_cases c1 : v < m.toInt64
    · rw [if_pos c1, cJ_ok]
      by_cases c2 : (0 : Int64) < v
      · rw [if_pos c2, cJ_ok, if_neg (by rw [j_lt] at *; omega), if_neg (by rw [j_lt] at *; omega)]
      · rw [if_neg c2, cJ_ok]
        by_cases c3 : v < 0
        · rw [if_pos c3]; rfl
        · rw [if_neg c3, if_neg (by rw [j_lt] at *; omega)]
          have : v = 0 := by rw [j_eq]; rw [j_lt] at c2 c3; omega
          rw [this]
    · rw [if_neg c1, cJ_ok]
      have c4 : ¬ v < 0 := by rw [j_lt] at *; omega
      rw [if_neg c4]
      by_cases c2 : (0 : Int64) < m.toInt64
      · rw [if_pos c2, cJ_ok]
        by_cases c5 : m.toInt64 < v
        · rw [if_pos c5]
          have : (m.toInt64).toInt32 = m := by simp
          rw [this]
        · rw [if_neg c5]
          have : v = m.toInt64 := by rw [j_eq]; rw [j_lt] at c1 c5; omega
          rw [this]
      · rw [if_neg c2, cJ_ok]
        have hm0 : m = 0 := by rw [i_eq]; have : (0 : Int32).toInt = 0 := by decide
                               rw [j_lt] at c2; omega
        subst hm0
        rw [h00] at c1 c2 ⊢
        by_cases c5 : (0 : Int64) < v
        · rw [if_pos c5]; rfl
        · rw [if_neg c5]
          have : v = 0 := by rw [j_eq]; rw [j_lt] at c5 c4; omega
          rw [this]
/-- what a law within bounds gives is within them -/
theorem bnd_in {o : Option Dn_} {nm : Nm_} {a m : Int32} (h : 0 ≤ a.toInt ∧ a.toInt ≤ m.toInt) : 0 ≤ (bndS o nm a m).toInt ∧ (bndS o nm a m).toInt ≤ m.toInt := by
  unfold bndS
  split
  · exact h
  · rename_i v _
    have h0 : (0 : Int64).toInt = 0 := by decide
    have h00 : (0 : Int32).toInt = 0 := by decide
    have hm64 : (m.toInt64).toInt = m.toInt := Int32.toInt_toInt64 ..
    have hm2 := Int32.toInt_lt m
    split
    · omega
    · split
      · omega
      · rename_i c1 c2
        rw [j_lt] at c1 c2
        have : (v.toInt32).toInt = v.toInt := by
          rw [Int64.toInt_toInt32]; exact Int.bmod_eq_of_le (by omega) (by omega)
        omega
theorem ac_off {σ : St_} {t e : Nat} (d : Nat) (T : T_) (hs : StP P s) (h : CC κ τ Λ n I P) (hg : CSt σ (nkS τ) (npS τ) s I) (ht : t < 2) (he : e < ndS τ) :
    (Run_ (d, mState_comesOff, 0, [some (vR (5, 0, s)), some (vI (nI t)), some (vI (nI e)), none], [], (cg T n I J P))) = some (.inl none, cg T n (u2 I (31, 12, s + 1) (2 * dkS τ e + t) (icut (sAm σ (2 * dkS τ e + t) + τ 1010 e) (-999) 999)) J P) := by
  have h6 := h.1.k6.2
  obtain ⟨⟨q1, q2⟩, -⟩ := h.1.dd e he
  obtain ⟨-, -, -, ⟨-, -, -, g6, -⟩, -⟩ := id h
  have g := (g6 e he).2
  have e1 : I (31, 12, s + 1) (2 * dkS τ e + t) = sAm σ (2 * dkS τ e + t) := hg.1 _ (by omega)
  simp (disch := omega) only [eState_comesOff_0, ↓reduceIte, ↓qX_m, ↓qR_m, ↓cI_m, ↓cV_m, ↓cJ_m, ↓cO_m, ↓cR_m, ixq_n, ixq_l, tgq_ok, nL_mul, nR_mul, nL_add, nR_add, nL_sub, nR_sub, nI_add, pk_mul, nn_sub, ng1_0, ng1_1, an_0, an_1, i1_0, Nat.add_zero, Nat.zero_add, Nat.mul_one, Nat.mul_zero, hI_cg, hP_cg, hJ_cg, wI_cg, wP_cg, wJ_cg, hs.1, hs.2.2.2, ac_deed d T h he, g.2.1, g.2.2.1, q1, e1, ac_bound]
/-! a State changed at one place -/
theorem CSt.am {σ : St_} {nk np i : Nat} (h : CSt σ nk np s I) (x : Int32) : CSt (amS i x σ) nk np s (u2 I (31, 12, s + 1) i x) := by
  refine ⟨fun k hk => ?_, fun k hk => ?_, fun k hk => ?_, ?_, ?_⟩
  · by_cases e : k = i
    · subst e; rw [u2_s]; exact (fu_s _ _ _).symm
    · rw [u2_k _ _ _ _ e, h.1 k hk]; exact (fu_n _ _ e).symm
  · rw [u2_r _ _ _ _ (by omega)]; exact h.2.1 k hk
  · rw [u2_r _ _ _ _ (by omega)]; exact h.2.2.1 k hk
  · rw [u2_r _ _ _ _ (by omega)]; exact h.2.2.2.1
  · rw [u2_r _ _ _ _ (by omega)]; exact h.2.2.2.2
theorem CSt.pu {σ : St_} {nk np i : Nat} (h : CSt σ nk np s I) (x : Int32) : CSt (puS i x σ) nk np s (u2 I (32, 2, s + 2) i x) := by
  refine ⟨fun k hk => ?_, fun k hk => ?_, fun k hk => ?_, ?_, ?_⟩
  · rw [u2_r _ _ _ _ (by omega)]; exact h.1 k hk
  · by_cases e : k = i
    · subst e; rw [u2_s]; exact (fu_s _ _ _).symm
    · rw [u2_k _ _ _ _ e, h.2.1 k hk]; exact (fu_n _ _ e).symm
  · rw [u2_r _ _ _ _ (by omega)]; exact h.2.2.1 k hk
  · rw [u2_r _ _ _ _ (by omega)]; exact h.2.2.2.1
  · rw [u2_r _ _ _ _ (by omega)]; exact h.2.2.2.2
theorem CSt.re {σ : St_} {nk np i : Nat} (h : CSt σ nk np s I) (x : Int32) : CSt (reS i x σ) nk np s (u2 I (33, 12, s + 3) i x) := by
  refine ⟨fun k hk => ?_, fun k hk => ?_, fun k hk => ?_, ?_, ?_⟩
  · rw [u2_r _ _ _ _ (by omega)]; exact h.1 k hk
  · rw [u2_r _ _ _ _ (by omega)]; exact h.2.1 k hk
  · by_cases e : k = i
    · subst e; rw [u2_s]; exact (fu_s _ _ _).symm
    · rw [u2_k _ _ _ _ e, h.2.2.1 k hk]; exact (fu_n _ _ e).symm
  · rw [u2_r _ _ _ _ (by omega)]; exact h.2.2.2.1
  · rw [u2_r _ _ _ _ (by omega)]; exact h.2.2.2.2
theorem frc_u {S : R_ → Prop} (I : RI_) (r : R_) (k : Nat) (x : Int32) (h : S r) : FrC S I (u2 I r k x) := fun r' k' hn => if_neg (fun q : r' = r ∧ k' = k => hn (by rw [q.1]; exact h))
theorem sc0 (s : Nat) : scell s (5, 0, s) := Or.inl rfl
theorem sc1 (s : Nat) : scell s (31, 12, s + 1) := Or.inr (Or.inl rfl)
theorem sc2 (s : Nat) : scell s (32, 2, s + 2) := Or.inr (Or.inr (Or.inl rfl))
theorem sc3 (s : Nat) : scell s (33, 12, s + 3) := Or.inr (Or.inr (Or.inr rfl))
/-- what is tried stays while its fields do -/
theorem COm.fr {I' : RI_} (h : COm ω s I) (f : ∀ k, 6 ≤ k → k ≤ 9 → I' (5, 0, s) k = I (5, 0, s) k) : COm ω s I' := by
  unfold COm at *
  rw [f 6 (by omega) (by omega), f 7 (by omega) (by omega), f 8 (by omega) (by omega), f 9 (by omega) (by omega)]
  exact h
theorem draw_i (n : Nat) : nI (n * 1103515245 + 12345) &&& 2147483647 = nI (nxS n) := by
  unfold nxS
  generalize n * 1103515245 + 12345 = m
  show nI m &&& nI 2147483647 = nI (m % 2147483648)
  apply Int32.toBitVec_inj.mp
  rw [Int32.toBitVec_and]
  show BitVec.ofNat 32 m &&& BitVec.ofNat 32 2147483647 = BitVec.ofNat 32 (m % 2147483648)
  apply BitVec.eq_of_toNat_eq
  rw [BitVec.toNat_and, BitVec.toNat_ofNat, BitVec.toNat_ofNat, BitVec.toNat_ofNat, Nat.mod_eq_of_lt (by decide : 2147483647 < 2 ^ 32), Nat.mod_eq_of_lt (by omega : m % 2147483648 < 2 ^ 32)]
  exact (Nat.and_two_pow_sub_one_eq_mod (m % 2 ^ 32) 31).trans (Nat.mod_mod_of_dvd m (by decide))
theorem draw_e {n : Nat} (h : n < 2147483648) : nI n >>> (16 &&& 31) - nI n >>> (16 &&& 31) / 100 * 100 = nI (n / 65536 % 100) := by
  rw [pk_shrN (by omega) _ 16 (by decide), show (100 : Int32) = nI 100 from rfl, pk_rem (by omega) (by omega) (by omega)]
