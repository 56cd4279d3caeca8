/-! THE TWIN's sums: leaves and signs -/
variable {b : Nat → Nat} {n : Nat}
/-- what the numbers of tokens may be -/
def TkF (K : Nat) (V : Int32) : Prop := (K = 1 → ∃ w, w < 21 ∧ V = nI w) ∧ (K = 3 → ∃ v, v ≤ 999999 ∧ V = nI v) ∧ (K = 4 → ∃ c, c < 256 ∧ V = nI c ∧ sgK c = 4) ∧ (K = 5 → ∃ w, w ≤ 5 ∧ V = nI w)
theorem fls_in (b : Nat → Nat) (n : Nat) : ∀ (m p v : Nat), (∀ j, p ≤ j → j < p + m → dgt b n j = true) → v ≤ 999999 → fls (nmF b) m p v ≤ 999999 := by
  intro m
  induction m with
  | zero => intro p v _ hv; exact hv
  | succ m ih =>
    intro p v h hv
    exact ih (p + 1) (nmF b p v) (fun j a c => h j (by omega) (by omega)) (nmF_in (h p (by omega) (by omega)) hv)
theorem tk_f (h256 : ∀ k, b k < 256) (p : Nat) : TkF (tkK b n p) (tkV b n p) := by
  unfold tkK tkV
  by_cases c : n ≤ tkP b n p
  · rw [if_pos c]; exact ⟨fun z => (by cases z), fun z => (by cases z), fun z => (by cases z), fun z => (by cases z)⟩
  rw [if_neg c]
  generalize tkP b n p = q at c ⊢
  unfold tqK tqV
  cases h1 : sml b n q with
  | true =>
    simp only [cond_true]
    by_cases w : wdx b q (scn (sml b n) (n - q) q) < 21
    · rw [if_pos w, if_pos w]; exact ⟨fun _ => ⟨_, w, rfl⟩, fun z => (by cases z), fun z => (by cases z), fun z => (by cases z)⟩
    · rw [if_neg w, if_neg w]
      split
      · exact ⟨fun z => (by cases z), fun z => (by cases z), fun z => (by cases z), fun z => (by cases z)⟩
      · exact ⟨fun z => (by cases z), fun z => (by cases z), fun z => (by cases z), fun z => (by cases z)⟩
  | false =>
    cases h2 : dgt b n q with
    | true =>
      simp only [cond_true, cond_false]
      refine ⟨fun z => (by cases z), fun _ => ⟨_, ?_, rfl⟩, fun z => (by cases z), fun z => (by cases z)⟩
      have hl := scn_le (dgt b n) (n - q) q
      exact fls_in b n _ q 0 (fun j a d => scn_all (dgt b n) (n - q) q j a (by omega)) (by omega)
    | false =>
      simp only [cond_false]
      refine ⟨fun z => ?_, fun z => ?_, fun z => ?_, fun z => ?_⟩
      · unfold sgK at z; split at z <;> (try split at z) <;> cases z
      · unfold sgK at z; split at z <;> (try split at z) <;> cases z
      · refine ⟨b q, h256 q, ?_, z⟩
        have n1 : ¬ (b q = 60 ∨ b q = 62 ∨ b q = 61) := fun y => by unfold sgK at z; rw [if_pos y] at z; cases z
        unfold sgV
        rw [if_neg (by omega), if_neg (by omega), if_neg (by omega)]
      · have n1 : b q = 60 ∨ b q = 62 ∨ b q = 61 := by
          by_cases y : b q = 60 ∨ b q = 62 ∨ b q = 61
          · exact y
          · unfold sgK at z; rw [if_neg y] at z; split at z <;> cases z
        refine ⟨sgV (b q) (nxB b n q), ?_, rfl⟩
        unfold sgV
        repeat' split
        all_goals omega
theorem sgK4 {c : Nat} (h : sgK c = 4) : c = 59 ∨ c = 40 ∨ c = 41 ∨ c = 43 ∨ c = 45 ∨ c = 42 ∨ c = 47 := by
  unfold sgK at h
  split at h
  · cases h
  · split at h
    · assumption
    · cases h
/-- where the twin stands in the tape -/
def TTk (b : Nat → Nat) (n p : Nat) (I : FI_) : Prop := TRd b n I ∧ p ≤ n ∧ I 1000 7 = nI (tkN b n p) ∧ I 1000 10 = nI (tkP b n p) ∧ TTv (tkK b n p) (tkV b n p) I
theorem TTk.next {p : Nat} {I : FI_} (d : Nat) (J : FJ_) (C : C_) (hn : n ≤ 700) (h256 : ∀ k, b k < 256) (h : TTk b n p I) : ∃ I' : FI_, (Run_ (d, mT_token, 0, [some (vR (1000, 0, 0))], [], (tw I J, C))) = some (.inl none, (tw I' J, C)) ∧ FrI tk4 I I' ∧ TTk b n (tkN b n p) I' := by
  obtain ⟨h1, h2, h3, h4, h5⟩ := h
  have hp := (tkN_le (b := b) h2).2
  obtain ⟨I', r, f, a1, a2, a3⟩ := tw_token d I J C hn hp h256 h1 h3
  refine ⟨I', r, f, ⟨?_, fun k hk => ?_, fun i hi => ?_⟩, hp, a1, a2, a3⟩
  · rw [f _ _ (by unfold tk4; omega)]; exact h1.1
  · rw [f _ _ (by unfold tk4; omega)]; exact h1.2.1 k hk
  · rw [f _ _ (by unfold tk4; omega)]; exact h1.2.2 i hi
theorem TTk.fr {p : Nat} {I I' : FI_} (h : TTk b n p I) (f : ∀ t k, (t = 1001 ∨ t = 1002 ∨ (t = 1000 ∧ 6 ≤ k ∧ k ≤ 10)) → I' t k = I t k) : TTk b n p I' := by
  obtain ⟨h1, h2, h3, h4, h5⟩ := h
  refine ⟨⟨(f _ _ (by omega)).trans h1.1, fun k hk => (f _ _ (by omega)).trans (h1.2.1 k hk), fun i hi => (f _ _ (by omega)).trans (h1.2.2 i hi)⟩, h2, (f _ _ (by omega)).trans h3, (f _ _ (by omega)).trans h4, ?_⟩
  unfold TTv at *
  rw [f 1000 8 (by omega), f 1000 9 (by omega)]
  exact h5
theorem tw_isSign {p : Nat} {I : FI_} (d : Nat) (J : FJ_) (C : C_) (h256 : ∀ k, b k < 256) (h : TTk b n p I) {c : Nat} (hc : sgK c = 4) : (Run_ (d, mT_isSign, 0, [some (vR (1000, 0, 0)), some (vI (nI c))], [], (tw I J, C))) = some (.inl (some (vI (bI (decide (tkK b n p = 4 ∧ tkW b n p = c))))), (tw I J, C)) := by
  have hcc := sgK4 hc
  have hf := tk_f (n := n) h256 p
  have c4 : ∀ x : Int32, ¬ x = 4 → ∀ X Y : Option Z_, (if x = 4 then X else Y) = Y := fun x hx X Y => if_neg hx
  simp (disch := omega) only [eT_isSign_0, eT_isSign_20, eT_isSign_21, ng1_0, ng1_1, ↓reduceIte]
  rcases h.2.2.2.2 with ⟨k, e⟩ | ⟨k, e, -⟩ | ⟨k, e, -⟩ | ⟨k, e, -⟩ | ⟨k, e, e2⟩ | ⟨k, e, -⟩ | ⟨k, e | ⟨e, e2⟩⟩
  · rw [e, c4 _ (by decide), decide_eq_false (by omega)]; rfl
  · rw [e, c4 _ (by decide), decide_eq_false (by omega)]; rfl
  · rw [e, c4 _ (by decide), decide_eq_false (by omega)]; rfl
  · rw [e, c4 _ (by decide), decide_eq_false (by omega)]; rfl
  · obtain ⟨s, s1, s2, s3⟩ := hf.2.2.1 k
    have sw : tkW b n p = s := by unfold tkW; rw [s2]; exact nI_clamp (by omega)
    rw [e, if_pos rfl, e2, s2, sw]
    by_cases z : s = c
    · rw [decide_eq_true ⟨k, z⟩, z, if_pos rfl]; rfl
    · rw [decide_eq_false (fun y => z y.2), if_neg (by rw [nn_eq (by omega) (by omega)]; exact z)]; rfl
  · rw [e, c4 _ (by decide), decide_eq_false (by omega)]; rfl
  · rw [e, c4 _ (by decide), decide_eq_false (by omega)]; rfl
  · rw [e, if_pos rfl, e2, decide_eq_false (by omega), if_neg (by
      rw [show (37 : Int32) = nI 37 from rfl, nn_eq (by omega) (by omega)]; omega)]; rfl
theorem tw_isKey {p : Nat} {I : FI_} (d : Nat) (J : FJ_) (C : C_) (h256 : ∀ k, b k < 256) (h : TTk b n p I) {x : Nat} (hx : x < 21) : (Run_ (d, mT_isKey, 0, [some (vR (1000, 0, 0)), some (vI (nI x))], [], (tw I J, C))) = some (.inl (some (vI (bI (decide (tkK b n p = 1 ∧ tkW b n p = swp x))))), (tw I J, C)) := by
  have c4 : ∀ x : Int32, ¬ x = 1 → ∀ X Y : Option Z_, (if x = 1 then X else Y) = Y := fun x hx X Y => if_neg hx
  simp (disch := omega) only [eT_isKey_0, eT_isKey_20, eT_isKey_21, ng1_0, ng1_1, ↓reduceIte]
  rcases h.2.2.2.2 with ⟨k, e⟩ | ⟨k, e, w, w1, w2, w3⟩ | ⟨k, e, -⟩ | ⟨k, e, -⟩ | ⟨k, e, e2⟩ | ⟨k, e, -⟩ | ⟨k, e | ⟨e, e2⟩⟩
  · rw [e, c4 _ (by decide), decide_eq_false (by omega)]; rfl
  · have sw : tkW b n p = w := by unfold tkW; rw [w2]; exact nI_clamp (by omega)
    have l1 := swp_lt w w1
    have l2 := swp_lt x hx
    rw [e, if_pos rfl, w3, sw]
    by_cases z : w = swp x
    · rw [decide_eq_true ⟨k, z⟩, if_pos (by rw [z, l2.2])]; rfl
    · rw [decide_eq_false (fun y => z y.2), if_neg (by
        rw [nn_eq (by omega) (by omega)]
        intro y
        apply z
        rw [← y, l1.2])]; rfl
  · rw [e, c4 _ (by decide), decide_eq_false (by omega)]; rfl
  · rw [e, c4 _ (by decide), decide_eq_false (by omega)]; rfl
  · rw [e, c4 _ (by decide), decide_eq_false (by omega)]; rfl
  · rw [e, c4 _ (by decide), decide_eq_false (by omega)]; rfl
  · rw [e, c4 _ (by decide), decide_eq_false (by omega)]; rfl
  · rw [e, c4 _ (by decide), decide_eq_false (by omega)]; rfl
/-- what a fault leaves -/
def wrI (I : FI_) (k : Nat) : FI_ := u2 (u2 I 1000 4 (nI k)) 1000 5 (I 1000 10)
theorem tw_wrong (d : Nat) (I : FI_) (J : FJ_) (C : C_) (k : Nat) : (Run_ (d, mT_wrong, 0, [some (vR (1000, 0, 0)), some (vI (nI k))], [], (tw I J, C))) = some (.inl (some (vI 0)), (tw (wrI I k) J, C)) := by
  rw [eT_wrong_0]
  unfold wrI
  simp (disch := omega) only [u2_k]
/-- the cells of sums, all of them -/
def suF (lo t k : Nat) : Prop := suC lo t k ∨ (t = 1000 ∧ (k = 4 ∨ k = 5 ∨ (7 ≤ k ∧ k ≤ 10) ∨ (47 ≤ k ∧ k ≤ 50)))
theorem tk_su (lo t k : Nat) (h : tk4 t k) : suF lo t k := by unfold tk4 at h; unfold suF; omega
theorem wr_fr (lo : Nat) (I : FI_) (k : Nat) : FrI (suF lo) I (wrI I k) := by
  unfold wrI
  exact ((FrI.rf _ I).u (by unfold suF; omega)).u (by unfold suF; omega)
theorem wr_ft {p : Nat} {I : FI_} (h : TTk b n p I) (k : Nat) : wrI I k 1000 4 = nI k ∧ wrI I k 1000 5 = nI (tkP b n p) := by
  unfold wrI
  refine ⟨by rw [u2_k _ _ _ _ (by omega), u2_s], by rw [u2_s]; exact h.2.2.2.1⟩
theorem Cor.fr {lo kr : Nat} {W : List Nat} {L : List (Nat × Dn_)} {I I' : FI_} (h : Cor lo W L kr I) (f : ∀ t k, suC lo t k → I' t k = I t k) : Cor lo W L kr I' := by
  obtain ⟨⟨h45, hst, hW⟩, ⟨h46, hhs⟩, h20, hlo, hb, hwf, hk⟩ := h
  refine ⟨⟨(f _ _ (by unfold suC; omega)).trans h45, stk_fr W hst (fun i _ => f _ _ (by unfold suC; omega)), hW⟩, ⟨(f _ _ (by unfold suC; omega)).trans h46, hsk_fr L hhs (fun i _ => f _ _ (by unfold suC; omega))⟩, (f _ _ (by unfold suC; omega)).trans h20, hlo, hb, fun j a c => kWf_cg (fun t x y => ?_) (hwf j a c), HK.cg hk hlo.1 (fun t k x y z _ => ?_)⟩
  · exact f _ _ (by unfold suC; omega)
  · exact f _ _ (by unfold suC; omega)
def wtI (I : FI_) (W : List Nat) (k : Nat) : FI_ := u2 (u2 I 1024 W.length (nI k)) 1000 45 (nI (W.length + 1))
theorem tw_waits (d : Nat) (I : FI_) (J : FJ_) (C : C_) {W : List Nat} (k : Nat) (h45 : I 1000 45 = nI W.length) (hl : W.length < 96) : (Run_ (d, mT_waitsFor, 0, [some (vR (1000, 0, 0)), some (vI (nI k))], [], (tw I J, C))) = some (.inl none, (tw (wtI I W k) J, C)) := by
  rw [eT_waitsFor_0]
  simp (disch := omega) only [↓reduceIte, ↓qX_m, ↓qR_m, ↓cI_m, ↓cV_m, ↓cJ_m, ↓cO_m, ↓cR_m, ixq_n, ixq_l, tgq_ok, nL_mul, nR_mul, nL_add, nR_add, nL_sub, nR_sub, nI_add, pk_mul, nn_sub, ng1_0, ng1_1, an_0, an_1, i1_0, Nat.add_zero, Nat.zero_add, Nat.mul_one, Nat.mul_zero, hI_cg, hP_cg, hJ_cg, wI_cg, wP_cg, wJ_cg, h45, u2_t]
  rfl
theorem Cor.wait {lo kr k : Nat} {W : List Nat} {L : List (Nat × Dn_)} {I : FI_} (h : Cor lo W L kr I) (hk : k ≤ 14 ∧ k ≠ 1) (ho : kr + opsN (k :: W) ≤ 64) (hz : zerN (k :: W) ≤ 8) : Cor lo (k :: W) L kr (wtI I W k) := by
  obtain ⟨⟨h45, hst, hW⟩, ⟨h46, hhs⟩, h20, hlo, hb, hwf, hk2⟩ := h
  unfold wtI
  refine ⟨⟨u2_s .., ⟨?_, stk_fr W hst (fun i hi => ?_)⟩, fun x hx => ?_⟩, ⟨?_, hsk_fr L hhs (fun i hi => ?_)⟩, ?_, ⟨hlo.1, ho, hz⟩, hb, fun j a c => kWf_cg (fun t x y => ?_) (hwf j a c), HK.cg hk2 hlo.1 (fun t k x y z _ => ?_)⟩
  · rw [u2_t _ _ _ _ (by omega), u2_s]
  · rw [u2_t _ _ _ _ (by omega), u2_k _ _ _ _ (by omega)]
  · rcases List.mem_cons.mp hx with z | z
    · subst z; exact hk
    · exact hW x z
  · rw [u2_k _ _ _ _ (by omega), u2_t _ _ _ _ (by omega)]; exact h46
  · simp (disch := omega) only [u2_t]
  · rw [u2_k _ _ _ _ (by omega), u2_t _ _ _ _ (by omega)]; exact h20
  · unfold rz; simp (disch := omega) only [u2_t]
  · unfold rz; simp (disch := omega) only [u2_t]
theorem wt_fr (lo : Nat) (I : FI_) (W : List Nat) (k : Nat) : FrI (suF lo) I (wtI I W k) := by
  unfold wtI
  exact ((FrI.rf _ I).u (by unfold suF suC; omega)).u (by unfold suF suC; omega)
/-- the twin in the midst of a sum -/
def TSy (b : Nat → Nat) (n lo p : Nat) (w mn : Bool) (br c : Nat) (W : List Nat) (H : List Dn_) (I : FI_) : Prop :=
  TTk b n p I ∧ ∃ (L : List (Nat × Dn_)) (kr : Nat), L.map (·.2) = H ∧ Cor lo W L kr I ∧ (I 1000 47 = nI br ∧ zerN W = br ∧ br ≤ 8) ∧ (I 1000 48 = nI c ∧ kr + opsN W = c ∧ c ≤ 64) ∧ I 1000 49 = bI w ∧ I 1000 50 = bI mn ∧
    L.length = binN W + (if w = true then 0 else 1) ∧ (w = false → ∃ f L', L = (kr - 1, f) :: L' ∧ lo < kr)
