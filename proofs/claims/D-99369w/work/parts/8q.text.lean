/-! A TEXT, plainly: lines go ahead; the twin's loop -/
variable {b : Nat → Nat} {n : Nat}
theorem num_gt {p hi v q : Nat} (hp : p ≤ n) (h : numS b n p hi = .inr (v, q)) : p ≤ q ∧ q ≤ n := by
  unfold numS at h
  by_cases c : tkK b n p = 3
  · rw [if_pos c] at h
    by_cases c2 : hi < tkW b n p
    · rw [if_pos c2] at h; cases h
    · rw [if_neg c2] at h
      injection h with h
      have h := congrArg Prod.snd h
      have h : _ = q := h
      subst h
      exact tkN_le hp
  · rw [if_neg c] at h; cases h
theorem sgn_gt {p hi q : Nat} {v : Int32} (hp : p ≤ n) (h : sgnS b n p hi = .inr (v, q)) : p ≤ q ∧ q ≤ n := by
  unfold sgnS at h
  by_cases c : tkK b n p = 4 ∧ tkW b n p = 45
  · rw [if_pos c] at h
    obtain ⟨w, q', h1, h2⟩ := sb_r h
    injection h2 with h2
    have h2 := congrArg Prod.snd h2
    have h2 : q' = q := h2
    subst h2
    have := tkN_le (b := b) hp
    have := num_gt (b := b) this.2 h1
    omega
  · rw [if_neg c] at h
    obtain ⟨w, q', h1, h2⟩ := sb_r h
    injection h2 with h2
    have h2 := congrArg Prod.snd h2
    have h2 : q' = q := h2
    subst h2
    exact num_gt hp h1
theorem new_gt {p m q : Nat} {f : Nat → Int32} {v : Int32} (hp : p ≤ n) (h : newS b n p f m = .inr (v, q)) : p ≤ q ∧ q ≤ n := by
  unfold newS at h
  by_cases c : tkK b n p = 2
  · rw [if_pos c] at h
    by_cases c2 : fdS f m (tkV b n p) = -1
    · rw [if_pos c2] at h
      injection h with h
      have h := congrArg Prod.snd h
      have h : _ = q := h
      subst h
      exact tkN_le hp
    · rw [if_neg c2] at h; cases h
  · rw [if_neg c] at h; cases h
theorem her_gt {p m q v : Nat} {f : Nat → Int32} (hp : p ≤ n) (h : herS b n p f m = .inr (v, q)) : p ≤ q ∧ q ≤ n := by
  unfold herS at h
  by_cases c : tkK b n p = 2
  · rw [if_pos c] at h
    by_cases c2 : fdS f m (tkV b n p) = -1
    · rw [if_pos c2] at h; cases h
    · rw [if_neg c2] at h
      injection h with h
      have h := congrArg Prod.snd h
      have h : _ = q := h
      subst h
      exact tkN_le hp
  · rw [if_neg c] at h; cases h
theorem inr_P {s s' : Ls_} (h : (Sum.inr s : Ft_ ⊕ Ls_) = .inr s') : lP s' = lP s := by
  injection h with h
  rw [h]
theorem ln_gt {s s' : Ls_} (hp : lP s ≤ n) (h : lnS b n s = .inr s') : lP s < lP s' ∧ lP s' ≤ n := by
  unfold lnS at h
  by_cases c : tkK b n (lP s) = 1 ∧ tkW b n (lP s) ≤ 7
  · rw [if_pos c] at h
    have g0 := tk_gt (b := b) (n := n) (lP s) (by omega)
    have g1 := (tkN_le (b := b) hp).2
    by_cases w0 : tkW b n (lP s) = 0
    · rw [if_pos w0] at h
      unfold kindS at h
      by_cases y : lK s = 6
      · rw [if_pos y] at h; cases h
      rw [if_neg y] at h
      obtain ⟨v1, q1, a1, h⟩ := sb_r h
      obtain ⟨v2, q2, a2, h⟩ := sb_r h
      obtain ⟨v3, q3, a3, h⟩ := sb_r h
      have b1 := new_gt (b := b) g1 a1
      have b2 := num_gt (b := b) b1.2 a2
      have b3 := num_gt (b := b) b2.2 a3
      rw [inr_P h]
      dsimp only [lP] at *
      omega
    rw [if_neg w0] at h
    by_cases w1 : tkW b n (lP s) = 1
    · rw [if_pos w1] at h
      unfold hasS at h
      by_cases y : lH s = 12
      · rw [if_pos y] at h; cases h
      rw [if_neg y] at h
      obtain ⟨v1, q1, a1, h⟩ := sb_r h
      obtain ⟨v2, q2, a2, h⟩ := sb_r h
      obtain ⟨v3, q3, a3, h⟩ := sb_r h
      have b1 := num_gt (b := b) g1 a1
      have b2 := her_gt (b := b) b1.2 a2
      have b3 := sgn_gt (b := b) b2.2 a3
      rw [inr_P h]
      dsimp only [lP] at *
      omega
    rw [if_neg w1] at h
    by_cases w2 : tkW b n (lP s) = 2
    · rw [if_pos w2] at h
      unfold deedS at h
      by_cases y : lD s = 8
      · rw [if_pos y] at h; cases h
      rw [if_neg y] at h
      obtain ⟨v1, q1, a1, h⟩ := sb_r h
      obtain ⟨v2, q2, a2, h⟩ := sb_r h
      obtain ⟨v3, q3, a3, h⟩ := sb_r h
      obtain ⟨v4, q4, a4, h⟩ := sb_r h
      obtain ⟨v5, q5, a5, h⟩ := sb_r h
      have b1 := new_gt (b := b) g1 a1
      have b2 := her_gt (b := b) b1.2 a2
      have b3 := sgn_gt (b := b) b2.2 a3
      have b4 := num_gt (b := b) b3.2 a4
      have b5 := num_gt (b := b) b4.2 a5
      rw [inr_P h]
      dsimp only [lP] at *
      omega
    rw [if_neg w2] at h
    by_cases w3 : tkW b n (lP s) = 3
    · rw [if_pos w3] at h
      unfold doS at h
      by_cases y : lW s = 12
      · rw [if_pos y] at h; cases h
      rw [if_neg y] at h
      obtain ⟨v1, q1, a1, h⟩ := sb_r h
      obtain ⟨v2, q2, a2, h⟩ := sb_r h
      obtain ⟨v3, q3, a3, h⟩ := sb_r h
      have b1 := num_gt (b := b) g1 a1
      have b2 := her_gt (b := b) b1.2 a2
      have b3 := num_gt (b := b) b2.2 a3
      rw [inr_P h]
      dsimp only [lP] at *
      omega
    rw [if_neg w3] at h
    have mon : ∀ a hi, monS b n a hi s = .inr s' → lP s < lP s' ∧ lP s' ≤ n := by
      intro a hi h
      unfold monS at h
      obtain ⟨v1, q1, a1, h⟩ := sb_r h
      by_cases y : lF s (a + v1) = true
      · rw [if_pos y] at h; cases h
      rw [if_neg y] at h
      obtain ⟨v2, q2, a2, h⟩ := sb_r h
      have b1 := num_gt (b := b) g1 a1
      have b2 := num_gt (b := b) b1.2 a2
      rw [inr_P h]
      dsimp only [lP] at *
      omega
    by_cases w4 : tkW b n (lP s) = 4
    · rw [if_pos w4] at h; exact mon _ _ h
    rw [if_neg w4] at h
    by_cases w5 : tkW b n (lP s) = 5
    · rw [if_pos w5] at h; exact mon _ _ h
    rw [if_neg w5] at h
    by_cases w6 : tkW b n (lP s) = 6
    · rw [if_pos w6] at h
      unfold seeS at h
      by_cases y : lF s 4 = true
      · rw [if_pos y] at h; cases h
      rw [if_neg y] at h
      obtain ⟨v1, q1, a1, h⟩ := sb_r h
      have b1 := num_gt (b := b) g1 a1
      rw [inr_P h]
      dsimp only [lP] at *
      omega
    rw [if_neg w6] at h
    unfold lawS at h
    by_cases y : tkK b n (tkN b n (lP s)) = 1 ∧ 8 ≤ tkW b n (tkN b n (lP s)) ∧ tkW b n (tkN b n (lP s)) ≤ 10
    · rw [if_pos y] at h
      by_cases y2 : (lA s (tkW b n (tkN b n (lP s)) - 8)).isSome = true
      · rw [if_pos y2] at h; cases h
      rw [if_neg y2] at h
      have g2 := tkN_le (b := b) g1
      obtain ⟨r, h1, h2⟩ := rl_tot (b := b) (lC s) g2.2
      rw [h1] at h
      rcases r with e | ⟨g, q, c'⟩
      · cases h
      · have := h2 g q c' rfl
        rw [inr_P h]
        dsimp only [lP] at *
        omega
    · rw [if_neg y] at h; cases h
  · rw [if_neg c] at h; cases h
theorem le_gt {s s' : Ls_} (hp : lP s ≤ n) (h : leS b n s = .inr s') : lP s < lP s' ∧ lP s' ≤ n := by
  rw [le_en] at h
  cases h1 : lnS b n s with
  | inl e => rw [h1] at h; cases h
  | inr s1 =>
    rw [h1] at h
    have g := ln_gt hp h1
    have h : (if tkK b n (lP s1) = 4 ∧ tkW b n (lP s1) = 59 then (.inr ((tkN b n (lP s1), lC s1), s1.2) : Ft_ ⊕ Ls_) else .inl (1, tkP b n (lP s1))) = .inr s' := h
    by_cases y : tkK b n (lP s1) = 4 ∧ tkW b n (lP s1) = 59
    · rw [if_pos y] at h
      rw [inr_P h]
      have := tkN_le (b := b) g.2
      dsimp only [lP] at *
      omega
    · rw [if_neg y] at h; cases h
/-- lines, as many as there are -/
def txS (b : Nat → Nat) (n : Nat) : Nat → Ls_ → Nat → Ft_ ⊕ (Ls_ × Nat)
  | 0, s, k => .inr (s, k)
  | m + 1, s, k => if tkK b n (lP s) = 0 then .inr (s, k) else match leS b n s with
    | .inl e => .inl e
    | .inr s' => txS b n m s' (k + 1)
def TTo2 (b : Nat → Nat) (n : Nat) (r : Ft_ ⊕ (Ls_ × Nat)) (J : FJ_) (C : C_) (I : FI_) (d : Nat) (z : Option Z_) : Prop := match r with
  | .inl e => ∃ I' : FI_, z = some (.inl (some (vI (-1))), (tw I' J, C)) ∧ (I' 1000 4 = nI e.1 ∧ I' 1000 5 = nI e.2) ∧ FrI zF I I'
  | .inr (s', k') => ∃ I' : FI_, z = (cV (Run_ (d, mT_keepText, 0, [some (vR (1000, 0, 0)), none], [], (tw I' J, C))) fun G1 => (Run_ (d, mT_text, 81, [none, none, some (vI (nI k'))], [], G1))) ∧ TLs b n s' I' ∧ FrI zF I I' ∧ k' ≤ n
theorem tw_loop (d : Nat) (J : FJ_) (C : C_) (hn : n ≤ 700) (h256 : ∀ k, b k < 256) : ∀ (m : Nat) (s : Ls_) (k : Nat) (I : FI_), TLs b n s I → lP s ≤ n → n - lP s < m → k ≤ lP s → TTo2 b n (txS b n m s k) J C I d (Run_ (d, mT_text, 55, [some (vR (1000, 0, 0)), none, some (vI (nI k))], [], (tw I J, C))) := by
  intro m
  induction m with
  | zero => intro s k I _ _ h; omega
  | succ m ih =>
    intro s k I h hp hm hk
    obtain ⟨-, -, -, k0, -⟩ := h.1.k h256
    show TTo2 b n (if tkK b n (lP s) = 0 then .inr (s, k) else match leS b n s with
      | .inl e => .inl e
      | .inr s' => txS b n m s' (k + 1)) J C I d _
    rw [eT_text_55]
    by_cases c : tkK b n (lP s) = 0
    · rw [if_pos c]
      refine ⟨I, ?_, h, FrI.rf _ _, by omega⟩
      simp only [↓reduceIte, k0, eq_true c]
    · rw [if_neg c]
      have L := tw_line d J C hn h256 h
      cases e : leS b n s with
      | inl e' =>
        rw [e] at L
        obtain ⟨I', r1, r2, r3⟩ := L
        refine ⟨I', ?_, r2, r3⟩
        simp (disch := omega) only [↓reduceIte, ↓qX_m, ↓qR_m, ↓cI_m, ↓cV_m, ↓cJ_m, ↓cO_m, ↓cR_m, ixq_n, ixq_l, tgq_ok, nL_mul, nR_mul, nL_add, nR_add, nL_sub, nR_sub, nI_add, pk_mul, nn_sub, ng1_0, ng1_1, an_0, an_1, i1_0, Nat.add_zero, Nat.zero_add, Nat.mul_one, Nat.mul_zero, hI_cg, hP_cg, hJ_cg, wI_cg, wP_cg, wJ_cg, k0, c, r1, eT_text_66]
      | inr s' =>
        rw [e] at L
        obtain ⟨I', r1, r2, r3⟩ := L
        have g := le_gt hp e
        have := ih s' (k + 1) I' r2 g.2 (by omega) (by omega)
        have e1 : (if I 1000 8 = 0 then (cV (Run_ (d, mT_keepText, 0, [some (vR (1000, 0, 0)), none], [], (tw I J, C))) fun G1 => (Run_ (d, mT_text, 81, [none, none, some (vI (nI k))], [], G1))) else cI (Run_ (d, mT_lineRead, 0, [some (vR (1000, 0, 0)), none, none], [], (tw I J, C))) fun x3 G2 => (Run_ (d, mT_text, 66, [some (vR (1000, 0, 0)), none, some (vI (nI k))], [vI x3], G2))) = (Run_ (d, mT_text, 55, [some (vR (1000, 0, 0)), none, some (vI (nI (k + 1)))], [], (tw I' J, C))) := by
          simp (disch := omega) only [↓reduceIte, ↓qX_m, ↓qR_m, ↓cI_m, ↓cV_m, ↓cJ_m, ↓cO_m, ↓cR_m, ixq_n, ixq_l, tgq_ok, nL_mul, nR_mul, nL_add, nR_add, nL_sub, nR_sub, nI_add, pk_mul, nn_sub, ng1_0, ng1_1, an_0, an_1, i1_0, Nat.add_zero, Nat.zero_add, Nat.mul_one, Nat.mul_zero, hI_cg, hP_cg, hJ_cg, wI_cg, wP_cg, wJ_cg, k0, c, r1, eT_text_66]
        rw [e1]
        dsimp only
        generalize txS b n m s' (k + 1) = r at this ⊢
        rcases r with e2 | ⟨s2, k2⟩
        · obtain ⟨I2, x1, x2, x3⟩ := this
          exact ⟨I2, x1, x2, r3.tr x3⟩
        · obtain ⟨I2, x1, x2, x3, x4⟩ := this
          exact ⟨I2, x1, x2, r3.tr x3, x4⟩
