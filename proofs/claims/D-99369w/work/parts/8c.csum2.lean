/-! THE COMPONENT's sums are the descent -/
variable {b : Nat → Nat} {n : Nat}
theorem CSu.mv {l p o c m m' : Nat} {I I' : RI_} {J J' : RJ_} {P P' : RP_} (h : CSu b n l p o c m I P) (f : FrP m l I J P I' J' P') (f1 : ∀ k, k ≤ 5 → I' (2, 0, 32) k = I (2, 0, 32) k) (f2 : I' (3, 0, l) 8 = I (3, 0, l) 8) (hm : m ≤ m') : CSu b n l p o c m' I' P' := by
  obtain ⟨h1, ⟨h2, h3, h4, h5⟩, h6, h7, h8⟩ := h
  refine ⟨h1.fr (fun k hk => f1 k (by omega)) (fun k => f.1 _ _ _ _ (by omega) (by omega) (by omega)) (f.2.2 _ _ _ _ (by omega)) (f.2.2 _ _ _ _ (by omega)), ⟨(f.2.2 _ _ _ _ (by omega)).trans h2, h3, by omega, by omega⟩, f2.trans h6, (f1 _ (by omega)).trans h7, h8⟩
theorem CSu.next {l p o c m : Nat} {I : RI_} {P : RP_} (d : Nat) (T : T_) (J : RJ_) (hn : n ≤ 700) (h256 : ∀ k, b k < 256) (h : CSu b n l p o c m I P) : ∃ I' : RI_, (Run_ (d, mReader_next, 0, [some (vR (2, 0, 32))], [], (cg T m I J P))) = some (.inl none, cg T m I' J P) ∧ CSu b n l (tkN b n p) o c m I' P ∧ FrP m l I J P I' J P := by
  obtain ⟨h1, h2, h6, h7, h8⟩ := h
  obtain ⟨I', r, f, t⟩ := h1.next (m := m) d T J hn h256
  exact ⟨I', r, ⟨t, h2, (f _ _ (fun z => by have := congrArg (·.1) z.1; simp only at this; omega)).trans h6, (f _ _ (fun z => by have := z.2; omega)).trans h7, h8⟩, f.fp J P⟩
theorem FrP.u5 {m l : Nat} (I : RI_) (J : RJ_) (P : RP_) (x : Int32) : FrP m l I J P (u2 I (2, 0, 32) 5 x) J P := ⟨fun t a s k _ q1 _ => by rw [u2_ap, if_neg (fun z => q1 ⟨congrArg (·.1) z.1, congrArg (·.2.2) z.1, by omega, by omega⟩)], fun _ _ _ _ _ => rfl, fun _ _ _ _ _ => rfl⟩
theorem FrP.u8 {m l : Nat} (I : RI_) (J : RJ_) (P : RP_) (x : Int32) : FrP m l I J P (u2 I (3, 0, l) 8 x) J P := ⟨fun t a s k _ _ q2 => by rw [u2_ap, if_neg (fun z => q2 ⟨congrArg (·.1) z.1, congrArg (·.2.2) z.1, z.2⟩)], fun _ _ _ _ _ => rfl, fun _ _ _ _ _ => rfl⟩
/-- how reading ends with a fault -/
def CFt (l m mx : Nat) (T : T_) (e : Nat × Nat) (I : RI_) (J : RJ_) (P : RP_) (z : Option Z_) : Prop := ∃ (s m' : Nat) (I' : RI_) (J' : RJ_) (P' : RP_), z = some (.inr (6, 0, s), cg T m' I' J' P') ∧ (I' (6, 0, s) 6 = nI e.1 ∧ I' (6, 0, s) 7 = nI e.2) ∧ FrP m l I J P I' J' P' ∧ m ≤ m' ∧ m' ≤ mx ∧ s < m'
theorem CFt.pre {l m m1 mx : Nat} {T : T_} {e : Nat × Nat} {I I1 : RI_} {J J1 : RJ_} {P P1 : RP_} {z : Option Z_} (f : FrP m l I J P I1 J1 P1) (hm : m ≤ m1) (h : CFt l m1 mx T e I1 J1 P1 z) : CFt l m mx T e I J P z := by
  obtain ⟨s, m', I', J', P', h1, h2, h3, h4, h5, h6⟩ := h
  exact ⟨s, m', I', J', P', h1, h2, f.tr h3 hm, by omega, h5, h6⟩
/-- a fault is thrown -/
theorem ac_throw {l p o c m : Nat} {I : RI_} {P : RP_} (d : Nat) (T : T_) (J : RJ_) (k : Nat) (h : CSu b n l p o c m I P) : CFt l m (m + 1) T (k, tkP b n p) I J P (cR 6 (Run_ (d, mReader_wrong, 0, [some (vR (2, 0, 32)), some (vI (nI k))], [], (cg T m I J P))) fun a s G => some (.inr (6, a, s), G)) := by
  obtain ⟨I', J', P', r, a, f⟩ := ac_wrong (l := l) d T J k h.1 h.2.1.2.2.2
  exact ⟨m, m + 1, I', J', P', by rw [r, cR_ok], a, f, by omega, by omega, by omega⟩
/-- the value of a token as the component has it -/
def cvC (b : Nat → Nat) (n p : Nat) (I : RI_) : Prop := True
theorem ac_knotN {l p o m : Nat} {I : RI_} {P : RP_} (d : Nat) (T : T_) (J : RJ_) (h : CSu b n l p o 64 m I P) : CFt l m (m + 1) T (2, tkP b n p) I J P (Run_ (d, mReader_knot, 0, [some (vR (2, 0, 32)), none], [], (cg T m I J P))) := by
  have h8 : I (3, 0, l) 8 = 64 := h.2.2.1
  have t : CFt l m (m + 1) T (2, tkP b n p) I J P (cR 6 (Run_ (d, mReader_wrong, 0, [some (vR (2, 0, 32)), some (vI 2)], [], (cg T m I J P))) fun a s G => some (.inr (6, a, s), G)) := ac_throw d T J 2 h
  rw [eReader_knot_0]
  simp (disch := omega) only [↓reduceIte, ↓qR_m, tgq_ok, hP_cg, hI_cg, h.2.1.1, h8]
  exact t
theorem ac_knotY {l p o c m : Nat} {I : RI_} {P : RP_} (d : Nat) (T : T_) (J : RJ_) (hn : n ≤ 700) (h256 : ∀ k, b k < 256) (h : CSu b n l p o c m I P) (hc : c < 64) : ∃ I' : RI_, (Run_ (d, mReader_knot, 0, [some (vR (2, 0, 32)), none], [], (cg T m I J P))) = some (.inl (some (vI (I (2, 0, 32) 4))), cg T m I' J P) ∧ CSu b n l (tkN b n p) o (c + 1) m I' P ∧ FrP m l I J P I' J P := by
  have c' : ¬ c = 64 := by omega
  obtain ⟨h1, h2, h6, h7, h8⟩ := id h
  have hl3 : ∀ (x : Int32) (k : Nat), u2 I (3, 0, l) 8 x (2, 0, 32) k = I (2, 0, 32) k := fun x k => u2_r _ _ _ _ (by omega)
  have s1 : CSu b n l p o (c + 1) m (u2 I (3, 0, l) 8 (nI (c + 1))) P := by
    refine ⟨h1.fr (fun k hk => hl3 _ k) (fun k => u2_r _ _ _ _ (by omega)) rfl rfl, h2, u2_s .., (hl3 _ _).trans h7, by omega, h8.2⟩
  obtain ⟨I', r, s2, f⟩ := s1.next d T J hn h256
  refine ⟨I', ?_, s2, (FrP.u8 I J P _).tr f (Nat.le_refl _)⟩
  rw [eReader_knot_0]
  simp (disch := omega) only [↓reduceIte, ↓qX_m, ↓qR_m, ↓cI_m, ↓cV_m, ↓cJ_m, ↓cO_m, ↓cR_m, ixq_n, ixq_l, tgq_ok, nL_mul, nR_mul, nL_add, nR_add, nL_sub, nR_sub, nI_add, pk_mul, nn_sub, ng1_0, ng1_1, an_0, an_1, i1_0, Nat.add_zero, Nat.zero_add, Nat.mul_one, Nat.mul_zero, hI_cg, hP_cg, hJ_cg, wI_cg, wP_cg, wJ_cg, h2.1, h6, nR_eq, c', r, hl3]
/-- a Two made whole -/
theorem ac_two (d : Nat) (T : T_) (m s : Nat) (I : RI_) (J : RJ_) (P : RP_) (x : Int32) (r1 r2 : R_) : (Run_ (d, mTwo_init, 0, [some (vR (13, 0, s)), some (vI x), some (vO (some r1)), some (vO (some r2))], [], (cg T m I J P))) = some (.inl none, cg T m (u2 I (13, 0, s) 1 x) J (u2 (u2 P (13, 0, s) 0 (some r1)) (13, 0, s) 2 (some r2))) := by
  have q1 : ∀ (X : R_ → Option Z_), qP none objT (some (13, 0, s)) X = X (13, 0, s) := fun X => rfl
  have q2 : ∀ (X : R_ → Option Z_), qP none [12, 13] (some (13, 0, s)) X = X (13, 0, s) := fun X => rfl
  simp (disch := omega) only [eTwo_init_0, eNot_init_0, ePart_init_0, eObject_init_0, ↓reduceIte, ↓qX_m, ↓qR_m, ↓cI_m, ↓cV_m, ↓cJ_m, ↓cO_m, ↓cR_m, ixq_n, ixq_l, tgq_ok, nL_mul, nR_mul, nL_add, nR_add, nL_sub, nR_sub, nI_add, pk_mul, nn_sub, ng1_0, ng1_1, an_0, an_1, i1_0, Nat.add_zero, Nat.zero_add, Nat.mul_one, Nat.mul_zero, hI_cg, hP_cg, hJ_cg, wI_cg, wP_cg, wJ_cg, q1, q2]
theorem ac_notI (d : Nat) (T : T_) (m s : Nat) (I : RI_) (J : RJ_) (P : RP_) (r1 : R_) : (Run_ (d, mNot_init, 0, [some (vR (12, 0, s)), some (vO (some r1))], [], (cg T m I J P))) = some (.inl none, cg T m I J (u2 P (12, 0, s) 0 (some r1))) := by
  have q1 : ∀ (X : R_ → Option Z_), qP none objT (some (12, 0, s)) X = X (12, 0, s) := fun X => rfl
  have q2 : ∀ (X : R_ → Option Z_), qP none [12, 13] (some (12, 0, s)) X = X (12, 0, s) := fun X => rfl
  simp (disch := omega) only [eNot_init_0, ePart_init_0, eObject_init_0, ↓reduceIte, ↓qX_m, ↓qR_m, ↓cI_m, ↓cV_m, ↓cJ_m, ↓cO_m, ↓cR_m, ixq_n, ixq_l, tgq_ok, nL_mul, nR_mul, nL_add, nR_add, nL_sub, nR_sub, nI_add, pk_mul, nn_sub, ng1_0, ng1_1, an_0, an_1, i1_0, Nat.add_zero, Nat.zero_add, Nat.mul_one, Nat.mul_zero, hI_cg, hP_cg, hJ_cg, wI_cg, wP_cg, wJ_cg, q1, q2]
theorem ac_numI (d : Nat) (T : T_) (m s : Nat) (I : RI_) (J : RJ_) (P : RP_) (x : Int32) : (Run_ (d, mNumber_init, 0, [some (vR (10, 0, s)), some (vI x)], [], (cg T m I J P))) = some (.inl none, cg T m (u2 I (10, 0, s) 0 x) J P) := by
  have q1 : ∀ (X : R_ → Option Z_), qP none objT (some (10, 0, s)) X = X (10, 0, s) := fun X => rfl
  simp (disch := omega) only [eNumber_init_0, ePart_init_0, eObject_init_0, ↓reduceIte, ↓qX_m, ↓qR_m, ↓cI_m, ↓cV_m, ↓cJ_m, ↓cO_m, ↓cR_m, ixq_n, ixq_l, tgq_ok, nL_mul, nR_mul, nL_add, nR_add, nL_sub, nR_sub, nI_add, pk_mul, nn_sub, ng1_0, ng1_1, an_0, an_1, i1_0, Nat.add_zero, Nat.zero_add, Nat.mul_one, Nat.mul_zero, hI_cg, hP_cg, hJ_cg, wI_cg, wP_cg, wJ_cg, q1]
theorem ac_namI (d : Nat) (T : T_) (m s : Nat) (I : RI_) (J : RJ_) (P : RP_) (x : Int32) : (Run_ (d, mName_init, 0, [some (vR (11, 0, s)), some (vI x)], [], (cg T m I J P))) = some (.inl none, cg T m (u2 I (11, 0, s) 0 x) J P) := by
  have q1 : ∀ (X : R_ → Option Z_), qP none objT (some (11, 0, s)) X = X (11, 0, s) := fun X => rfl
  simp (disch := omega) only [eName_init_0, ePart_init_0, eObject_init_0, ↓reduceIte, ↓qX_m, ↓qR_m, ↓cI_m, ↓cV_m, ↓cJ_m, ↓cO_m, ↓cR_m, ixq_n, ixq_l, tgq_ok, nL_mul, nR_mul, nL_add, nR_add, nL_sub, nR_sub, nI_add, pk_mul, nn_sub, ng1_0, ng1_1, an_0, an_1, i1_0, Nat.add_zero, Nat.zero_add, Nat.mul_one, Nat.mul_zero, hI_cg, hP_cg, hJ_cg, wI_cg, wP_cg, wJ_cg, q1]
/-- the method of a level, and of its loop -/
noncomputable def cRn (d : Nat) (lp : Bool) (l : Nat) (o : Option R_) (G : G_) : Option Z_ :=
  if lp = true then (if l = 1 then (Run_ (d, mReader_or, 5, [some (vR (2, 0, 32)), some (vO o), none], [], G)) else if l = 2 then (Run_ (d, mReader_and, 5, [some (vR (2, 0, 32)), some (vO o), none], [], G)) else if l = 5 then (Run_ (d, mReader_sum, 5, [some (vR (2, 0, 32)), some (vO o), none], [], G)) else (Run_ (d, mReader_product, 5, [some (vR (2, 0, 32)), some (vO o), none], [], G)))
  else (if l = 1 then (Run_ (d, mReader_or, 0, [some (vR (2, 0, 32)), none, none], [], G)) else if l = 2 then (Run_ (d, mReader_and, 0, [some (vR (2, 0, 32)), none, none], [], G)) else if l = 3 then (Run_ (d, mReader_not, 0, [some (vR (2, 0, 32))], [], G)) else if l = 4 then (Run_ (d, mReader_compare, 0, [some (vR (2, 0, 32)), none, none], [], G)) else if l = 5 then (Run_ (d, mReader_sum, 0, [some (vR (2, 0, 32)), none, none], [], G)) else if l = 6 then (Run_ (d, mReader_product, 0, [some (vR (2, 0, 32)), none, none], [], G)) else (Run_ (d, mReader_one, 0, [some (vR (2, 0, 32)), none], [], G)))
/-- a new cell -/
theorem CSu.nw {l p o c m t : Nat} {I : RI_} {P : RP_} (J : RJ_) (h : CSu b n l p o c m I P) (ht : 10 ≤ t ∧ t ≤ 13) : CSu b n l p o c (m + 1) (z1 I (t, 0, m) 0) (z1 P (t, 0, m) none) ∧ FrP m l I J P (z1 I (t, 0, m) 0) (z1 J (t, 0, m) 0) (z1 P (t, 0, m) none) := by
  have f : FrP m l I J P (z1 I (t, 0, m) 0) (z1 J (t, 0, m) 0) (z1 P (t, 0, m) none) := ⟨fun t a s k hs _ _ => z1_r _ _ _ (by omega), fun t a s k hs => z1_r _ _ _ (by omega), fun t a s k hs => z1_r _ _ _ (by omega)⟩
  exact ⟨h.mv f (fun k _ => z1_r _ _ _ (by have := h.2.1; omega)) (z1_r _ _ _ (by have := h.2.1; omega)) (by omega), f⟩
/-- how a level ends well -/
def CRs (b : Nat → Nat) (n l o c c0 a m : Nat) (T : T_) (r : Rs_) (I : RI_) (J : RJ_) (P : RP_) (z : Option Z_) : Prop := match r with
  | .inl e => CFt l m (m + (64 - c) + 2) T e I J P z
  | .inr (f, p', c') => ∃ (ρ : R_) (m' : Nat) (I' : RI_) (J' : RJ_) (P' : RP_), z = some (.inl (some (vR ρ)), cg T m' I' J' P') ∧ CSu b n l p' o c' m' I' P' ∧ PrR (c' - c0) a m' I' P' ρ f ∧ FrP m l I J P I' J' P' ∧ m ≤ m' ∧ m' ≤ m + (c' - c) ∧ c ≤ c'
