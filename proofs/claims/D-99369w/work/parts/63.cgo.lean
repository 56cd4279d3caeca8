/-! THE COMPONENT's days, on -/
variable {κ : Ky_} {τ : Tx_} {Λ : La_} {ω : Om_} {s n : Nat} {I : RI_} {J : RJ_} {P : RP_}
theorem ac_draw {m : Nat} (d : Nat) (T : T_) (hm : m < 2147483648) (h : I (5, 0, s) 5 = nI m) : (Run_ (d, mState_draw, 0, [some (vR (5, 0, s)), some (vI 100)], [], (cg T n I J P))) = some (.inl (some (vI (nI (drS m)))), cg T n (u2 I (5, 0, s) 5 (nI (nxS m))) J P) := by
  have e : ((100 : Int32) = 0) = False := eq_false (by decide)
  simp (disch := omega) only [eState_draw_0, ↓reduceIte, ↓qX_m, ↓qR_m, ↓cI_m, ↓cV_m, ↓cJ_m, ↓cO_m, ↓cR_m, ixq_n, ixq_l, tgq_ok, nL_mul, nR_mul, nL_add, nR_add, nL_sub, nR_sub, nI_add, pk_mul, nn_sub, ng1_0, ng1_1, an_0, an_1, i1_0, Nat.add_zero, Nat.zero_add, Nat.mul_one, Nat.mul_zero, hI_cg, hP_cg, hJ_cg, wI_cg, wP_cg, wJ_cg, h, draw_i, u2_s, draw_e (nxS_lt m), e]
  rfl
theorem ac_lucky {σ : St_ × Nat} {by_ : Bool} {t e : Nat} (d : Nat) (T : T_) (h : CD κ τ Λ ω s σ n I P) (hd : 64 ≤ d) (ht : t < 2) (he : e < ndS τ) (odds : Int32) (hodds : odds = bndS (Λ 2) (nmS τ ω σ.1 (dkS τ e) t) (τ 1012 e) 100) :
    ∃ (I' : RI_) (J' : RJ_), (Run_ (d, mState_isLucky, 0, [some (vR (5, 0, s)), some (vI (nI t)), some (vI (nI e)), some (vI (bI by_)), none], [], (cg T n I J P))) = some (.inl (some (vI (bI (lkS ω by_ odds σ.2).1))), cg T n I' J' P) ∧ I' (5, 0, s) 5 = nI (lkS ω by_ odds σ.2).2 ∧ (lkS ω by_ odds σ.2).2 < 2147483648 ∧
      (∀ r k, ¬ (r = (5, 0, s) ∧ k = 5) → I' r k = I r k) ∧ FrN J J' := by
  obtain ⟨hC, hs, ho, hg, hn, hn2, hok, -⟩ := h
  have hx : P (5, 0, s) 10 = some (1, 0, 1) := hs.2.2.2
  obtain ⟨⟨q1, q2⟩, -, -, q5⟩ := hC.1.dd e he
  obtain ⟨-, -, -, ⟨-, -, -, g6, -⟩, -, hT⟩ := id hC
  have g := (g6 e he).2
  have h100 : (100 : Int32).toInt = 100 := by decide
  have h50 : (50 : Int32).toInt = 50 := by decide
  have h00 : (0 : Int32).toInt = 0 := by decide
  have hin : 0 ≤ odds.toInt ∧ odds.toInt ≤ 100 := by rw [hodds, ← h100]; exact bnd_in (by rw [h100]; exact q5)
  rw [eState_isLucky_0]
  unfold lkS
  cases ha : oAO ω with
  | true =>
    have e6 : I (5, 0, s) 6 = 1 := by have := ho.2.1; rw [ha] at this; exact of_decide_eq_true this.symm
    refine ⟨I, J, ?_, by simp [hn], by simp [hn2], fun _ _ _ => rfl, FrN.rf _⟩
    simp (disch := omega) only [↓reduceIte, ↓qX_m, ↓qR_m, ↓cI_m, ↓cV_m, ↓cJ_m, ↓cO_m, ↓cR_m, ixq_n, ixq_l, tgq_ok, nL_mul, nR_mul, nL_add, nR_add, nL_sub, nR_sub, nI_add, pk_mul, nn_sub, ng1_0, ng1_1, an_0, an_1, i1_0, Nat.add_zero, Nat.zero_add, Nat.mul_one, Nat.mul_zero, hI_cg, hP_cg, hJ_cg, wI_cg, wP_cg, wJ_cg, e6]
    rfl
  | false =>
    have e6 : ¬ I (5, 0, s) 6 = 1 := by have := ho.2.1; rw [ha] at this; exact of_decide_eq_false this.symm
    have hw := ac_within (o := Λ 2) (nm := nmS τ ω σ.1 (dkS τ e) t) d (cg T n I (lc7 J (nmS τ ω σ.1 (dkS τ e) t)) P) 100 (τ 1012 e) (by decide) (fun f v hf hv => hT 2 f (by omega) hf _ (nm_small _ _ _) v hv)
    rw [← hodds] at hw
    have hwk : (Run_ (d, mC_work, 0, [some (vR (1, 0, 1)), some (vI 2), none], [], (cg T n I (lc7 J (nmS τ ω σ.1 (dkS τ e) t)) P))) = _ := ac_work (w := 2) (nm := nmS τ ω σ.1 (dkS τ e) t) d T hC (by omega) hd (lc7_nm _ _)
    simp (disch := omega) only [↓reduceIte, ↓qX_m, ↓qR_m, ↓cI_m, ↓cV_m, ↓cJ_m, ↓cO_m, ↓cR_m, ixq_n, ixq_l, tgq_ok, nL_mul, nR_mul, nL_add, nR_add, nL_sub, nR_sub, nI_add, pk_mul, nn_sub, ng1_0, ng1_1, an_0, an_1, i1_0, Nat.add_zero, Nat.zero_add, Nat.mul_one, Nat.mul_zero, hI_cg, hP_cg, hJ_cg, wI_cg, wP_cg, wJ_cg, e6, hx, ac_deed d T hC he, g.2.1, q1, ac_name d T hs hC ho hg q2 ht, hwk, g.2.2.2.2, hw, bI_z]
    have k88 : ∀ G : G_, (Run_ (d, mState_isLucky, 88, [none, none, none, none, some (vI odds)], [], G)) = some (.inl (some (vI (bI (!decide (odds < 50))))), G) := by
      intro G
      simp only [eState_isLucky_88, eState_isLucky_100, ng1_0, ng1_1, reduceIte]
      by_cases c : odds < 50
      · simp [c, bI]
      · simp [c, bI]
    by_cases c100 : odds = 100
    · refine ⟨I, lc7 J (nmS τ ω σ.1 (dkS τ e) t), ?_, by simp [c100, hn], by simp [c100, hn2], fun _ _ _ => rfl, lc7_fr _ _⟩
      rw [k88]
      have c1 : ¬ odds < 50 := by rw [i_lt, c100]; decide
      have c2 : ¬ odds < 100 := by rw [i_lt, c100]; decide
      simp [c1, c2, c100]
    · by_cases c0 : odds = 0
      · refine ⟨I, lc7 J (nmS τ ω σ.1 (dkS τ e) t), ?_, by simp [c0, hn], by simp [c0, hn2], fun _ _ _ => rfl, lc7_fr _ _⟩
        rw [k88]
        have c1 : odds < 50 := by rw [i_lt, c0]; decide
        have c2 : ¬ 0 < odds := by rw [i_lt, c0]; decide
        simp [c1, c2, c0]
      · have c1 : 0 < odds := by
          rw [i_eq] at c0
          rw [i_lt]; omega
        have c2 : odds < 100 := by
          rw [i_eq] at c100
          rw [i_lt]; omega
        cases by_ with
        | false =>
          refine ⟨I, lc7 J (nmS τ ω σ.1 (dkS τ e) t), ?_, by simp [c100, c0, hn], by simp [c100, c0, hn2], fun _ _ _ => rfl, lc7_fr _ _⟩
          rw [k88]
          simp [c100, c0]
        | true =>
          refine ⟨u2 I (5, 0, s) 5 (nI (nxS σ.2)), lc7 J (nmS τ ω σ.1 (dkS τ e) t), ?_, by simp [c100, c0, u2_s], by simp [c100, c0, nxS_lt], fun r k q => if_neg q, lc7_fr _ _⟩
          simp (disch := omega) only [c1, c2, ↓reduceIte, ↓qX_m, ↓qR_m, ↓cI_m, ↓cV_m, ↓cJ_m, ↓cO_m, ↓cR_m, ixq_n, ixq_l, tgq_ok, nL_mul, nR_mul, nL_add, nR_add, nL_sub, nR_sub, nI_add, pk_mul, nn_sub, ng1_0, ng1_1, an_0, an_1, i1_0, Nat.add_zero, Nat.zero_add, Nat.mul_one, Nat.mul_zero, hI_cg, hP_cg, hJ_cg, wI_cg, wP_cg, wJ_cg, ac_draw d T hn2 hn, eState_isLucky_100, Bool.true_eq_false]
          by_cases c5 : nI (drS σ.2) < odds
          · simp [c100, c0, c5, bI]
          · simp [c100, c0, c5, bI]
theorem fu_fu {α : Type} (f : Nat → α) (i : Nat) (x y : α) : fu (fu f i x) i y = fu f i y := by
  funext k
  unfold fu
  split <;> rfl
theorem re_re (i : Nat) (x y : Int32) (σ : St_) : reS i y (reS i x σ) = reS i y σ := by
  unfold reS
  rw [fu_fu]
theorem re_pu (i t : Nat) (x y : Int32) (σ : St_) : reS i y (puS t x σ) = puS t x (reS i y σ) := rfl
theorem re_off (i t e : Nat) (y : Int32) (σ : St_) : reS i y (offS τ t e σ) = offS τ t e (reS i y σ) := rfl
theorem StOk.re {σ : St_} (h : StOk σ) (i : Nat) (x : Int32) : StOk (reS i x σ) := h
theorem StOk.pu {σ : St_} (h : StOk σ) (i : Nat) {x : Int32} (hx : 0 ≤ x.toInt ∧ x.toInt ≤ 9999) : StOk (puS i x σ) := by
  refine ⟨h.1, fun t ht => ?_⟩
  show 0 ≤ (fu (sPu σ) i x t).toInt ∧ _
  by_cases e : t = i
  · subst e; rw [show sPu (puS t x σ) = fu (sPu σ) t x from rfl, fu_s]; exact hx
  · rw [show sPu (puS i x σ) = fu (sPu σ) i x from rfl, fu_n _ _ e]; exact h.2 t ht
theorem StOk.am {σ : St_} (h : StOk σ) (i : Nat) {x : Int32} (hx : -999 ≤ x.toInt ∧ x.toInt ≤ 999) : StOk (amS i x σ) := by
  refine ⟨fun t ht => ?_, h.2⟩
  by_cases e : t = i
  · subst e; rw [show sAm (amS t x σ) = fu (sAm σ) t x from rfl, fu_s]; exact hx
  · rw [show sAm (amS i x σ) = fu (sAm σ) i x from rfl, fu_n _ _ e]; exact h.1 t ht
theorem icut_in {x a b : Int32} (h : a.toInt ≤ b.toInt) : a.toInt ≤ (icut x a b).toInt ∧ (icut x a b).toInt ≤ b.toInt := by
  unfold icut
  simp only [i_lt]
  repeat' split
  all_goals omega
theorem StOk.off {σ : St_} (h : StOk σ) (t e : Nat) : StOk (offS τ t e σ) := h.am _ (by
  have := icut_in (x := sAm σ (2 * dkS τ e + t) + τ 1010 e) (a := -999) (b := 999) (by decide)
  rw [show (-999 : Int32).toInt = -999 from by decide, show (999 : Int32).toInt = 999 from by decide] at this
  exact this)
theorem ac_cost {e : Nat} (d : Nat) (T : T_) (hs : StP P s) (h : CC κ τ Λ n I P) (ho : COm ω s I) (he : e < ndS τ) : (Run_ (d, mState_costOf, 0, [some (vR (5, 0, s)), some (vI (nI e))], [], (cg T n I J P))) = some (.inl (some (vI (cosS τ ω e))), cg T n I J P) := by
  obtain ⟨-, -, -, ⟨-, -, -, g6, -⟩, -⟩ := id h
  have g := (g6 e he).2.2.2.2.1
  simp (disch := omega) only [eState_costOf_0, eState_costOf_23, ↓reduceIte, ↓qX_m, ↓qR_m, ↓cI_m, ↓cV_m, ↓cJ_m, ↓cO_m, ↓cR_m, ixq_n, ixq_l, tgq_ok, nL_mul, nR_mul, nL_add, nR_add, nL_sub, nR_sub, nI_add, pk_mul, nn_sub, ng1_0, ng1_1, an_0, an_1, i1_0, Nat.add_zero, Nat.zero_add, Nat.mul_one, Nat.mul_zero, hI_cg, hP_cg, hJ_cg, wI_cg, wP_cg, wJ_cg, hs.2.2.2, ac_deed d T h he, g]
  have e3 := ho.2.2.1
  unfold cosS
  by_cases c : I (5, 0, s) 6 = 3
  · rw [if_pos c, if_pos (by rw [e3]; exact decide_eq_true c)]
  · rw [if_neg c, if_neg (by rw [e3]; simp [c])]
theorem cos_in {e : Nat} (h : TxOk τ) (he : e < ndS τ) : 0 ≤ (cosS τ ω e).toInt ∧ (cosS τ ω e).toInt ≤ 99 := by
  unfold cosS
  split
  · decide
  · exact (h.dd e he).2.2.1
/-- the cells of a State, and CD -/
theorem CD.mk' {σ : St_ × Nat} {σ' : St_} {m : Nat} {I' : RI_} (h : CD κ τ Λ ω s σ n I P) (f : FrC (scell s) I I') (fo : ∀ k, 6 ≤ k → k ≤ 9 → I' (5, 0, s) k = I (5, 0, s) k) (h1 : CSt σ' (nkS τ) (npS τ) s I') (h2 : I' (5, 0, s) 5 = nI m) (h3 : m < 2147483648) (h4 : StOk σ') : CD κ τ Λ ω s (σ', m) n I' P :=
  ⟨h.1.frS f, h.2.1, h.2.2.1.fr fo, h1, h2, h3, h4, h.2.2.2.2.2.2.2⟩
/-- one task in the component -/
theorem ac_task {σ : St_ × Nat} {by_ : Bool} {i : Nat} (d : Nat) (T : T_) (h : CD κ τ Λ ω s σ n I P) (hd : 64 ≤ d) (hi : i < npS τ) :
    ∃ (I' : RI_) (J' : RJ_), (Run_ (d, mState_pass_IZ, 0, [some (vR (5, 0, s)), some (vI (nI i)), some (vI (bI by_)), none, none], [], (cg T n I J P))) = some (.inl none, cg T n I' J' P) ∧ CD κ τ Λ ω s (tskS τ Λ ω by_ i σ) n I' P ∧ FrC (scell s) I I' ∧ FrN J J' := by
  obtain ⟨hC, hs, ho, hg, hn, hn2, hok, hom⟩ := id h
  have h12 := hC.1.p12.2
  obtain ⟨⟨t1, t2⟩, ⟨t3, t4⟩, -⟩ := hC.1.td i hi
  obtain ⟨-, -, -, ⟨-, -, -, -, g7, -⟩, -⟩ := id hC
  have g := (g7 i hi).2
  have hx : P (5, 0, s) 10 = some (1, 0, 1) := hs.2.2.2
  have e1 : I (9, 0, yP κ i) 0 = nI (ttS τ i) := g.1.trans t1
  have e2 : I (9, 0, yP κ i) 1 = nI (tdS τ i) := g.2.1.trans t3
  have e3 : I (32, 2, s + 2) (ttS τ i) = sPu σ.1 (ttS τ i) := hg.2.1 _ t2
  have hc := cos_in (ω := ω) hC.1 t4
  have f1 := frc_u I (33, 12, s + 3) i 3 (sc3 s)
  have hC1 := hC.frS f1
  have ho1 : COm ω s (u2 I (33, 12, s + 3) i 3) := ho.fr fun k _ _ => u2_r _ _ _ _ (by omega)
  have hg1 := hg.re (i := i) 3
  have k1 : ∀ I1 : RI_, CC κ τ Λ n I1 P → COm ω s I1 → ∀ J, (Run_ (d, mState_costOf, 0, [some (vR (5, 0, s)), some (vI (nI (tdS τ i)))], [], (cg T n I1 J P))) = some (.inl (some (vI (cosS τ ω (tdS τ i)))), cg T n I1 J P) := fun I1 a b J => ac_cost d T hs a b t4
  rw [eState_pass_IZ_0]
  simp (disch := omega) only [↓reduceIte, ↓qX_m, ↓qR_m, ↓cI_m, ↓cV_m, ↓cJ_m, ↓cO_m, ↓cR_m, ixq_n, ixq_l, tgq_ok, nL_mul, nR_mul, nL_add, nR_add, nL_sub, nR_sub, nI_add, pk_mul, nn_sub, ng1_0, ng1_1, an_0, an_1, i1_0, Nat.add_zero, Nat.zero_add, Nat.mul_one, Nat.mul_zero, hI_cg, hP_cg, hJ_cg, wI_cg, wP_cg, wJ_cg, hx, hs.2.1, hs.2.2.1, ac_plan d T hC hi, e1, e2, k1 _ hC1 ho1, u2_r, e3]
  unfold tskS
  by_cases cc : sPu σ.1 (ttS τ i) < cosS τ ω (tdS τ i)
  · rw [if_pos cc, if_pos cc]
    exact ⟨_, _, rfl, h.mk' f1 (fun k _ _ => u2_r _ _ _ _ (by omega)) hg1 (by rw [u2_r _ _ _ _ (by omega)]; exact hn) hn2 (hok.re _ _), f1, FrN.rf _⟩
  · rw [if_neg cc, if_neg cc]
    dsimp only
    have hp := hok.2 _ t2
    have hpx : (sPu σ.1 (ttS τ i) - cosS τ ω (tdS τ i)).toInt = (sPu σ.1 (ttS τ i)).toInt - (cosS τ ω (tdS τ i)).toInt := i_sub (by omega)
    rw [i_lt] at cc
    have hg2 := (hg1.pu (i := ttS τ i) (sPu σ.1 (ttS τ i) - cosS τ ω (tdS τ i))).re (i := i) 2
    have hσ : reS i 2 (puS (ttS τ i) (sPu σ.1 (ttS τ i) - cosS τ ω (tdS τ i)) (reS i 3 σ.1)) = reS i 2 (puS (ttS τ i) (sPu σ.1 (ttS τ i) - cosS τ ω (tdS τ i)) σ.1) := by
      rw [re_pu, re_pu, re_re]
    rw [hσ] at hg2
    have hok1 : StOk (puS (ttS τ i) (sPu σ.1 (ttS τ i) - cosS τ ω (tdS τ i)) σ.1) := hok.pu _ (by omega)
    generalize puS (ttS τ i) (sPu σ.1 (ttS τ i) - cosS τ ω (tdS τ i)) σ.1 = σ1 at hg2 hok1 ⊢
    have f2 := frc_u (u2 I (33, 12, s + 3) i 3) (32, 2, s + 2) (ttS τ i) (sPu σ.1 (ttS τ i) - cosS τ ω (tdS τ i)) (sc2 s)
    have f3 := frc_u (u2 (u2 I (33, 12, s + 3) i 3) (32, 2, s + 2) (ttS τ i) (sPu σ.1 (ttS τ i) - cosS τ ω (tdS τ i))) (33, 12, s + 3) i 2 (sc3 s)
    have f4 := f1.tr (f2.tr f3)
    have fo : ∀ k, (u2 (u2 (u2 I (33, 12, s + 3) i 3) (32, 2, s + 2) (ttS τ i) (sPu σ.1 (ttS τ i) - cosS τ ω (tdS τ i))) (33, 12, s + 3) i 2) (5, 0, s) k = I (5, 0, s) k := by
      intro k
      simp (disch := omega) only [u2_r]
    generalize u2 (u2 (u2 I (33, 12, s + 3) i 3) (32, 2, s + 2) (ttS τ i) (sPu σ.1 (ttS τ i) - cosS τ ω (tdS τ i))) (33, 12, s + 3) i 2 = I1 at hg2 f4 fo ⊢
    have hD := h.mk' f4 (fun k _ _ => fo k) hg2 ((fo 5).trans hn) hn2 (hok1.re i 2)
    obtain ⟨I2, J2, r2, p1, p2, p3, p4⟩ := ac_lucky (by_ := by_) (J := J) d T hD hd t2 t4 (bndS (Λ 2) (nmS τ ω σ1 (dkS τ (tdS τ i)) (ttS τ i)) (τ 1012 (tdS τ i)) 100) rfl
    generalize bndS (Λ 2) (nmS τ ω σ1 (dkS τ (tdS τ i)) (ttS τ i)) (τ 1012 (tdS τ i)) 100 = odds at r2 p1 p2 ⊢
    have f5 : FrC (scell s) I1 I2 := fun r k q => p3 r k fun z => q (z.1 ▸ sc0 s)
    have hg3 : CSt (reS i 2 σ1) (nkS τ) (npS τ) s I2 := by
      obtain ⟨a1, a2, a3, a4, a5⟩ := hg2
      refine ⟨fun k hk => ?_, fun k hk => ?_, fun k hk => ?_, ?_, ?_⟩
      · rw [p3 _ _ (fun z => by have := congrArg (·.1) z.1; simp only at this; omega)]; exact a1 k hk
      · rw [p3 _ _ (fun z => by have := congrArg (·.1) z.1; simp only at this; omega)]; exact a2 k hk
      · rw [p3 _ _ (fun z => by have := congrArg (·.1) z.1; simp only at this; omega)]; exact a3 k hk
      · rw [p3 _ _ (fun z => by omega)]; exact a4
      · rw [p3 _ _ (fun z => by omega)]; exact a5
    have hD2 := hD.mk' f5 (fun k h1 h2 => p3 _ _ (fun z => by omega)) hg3 p1 p2 (hok1.re i 2)
    rw [r2]
    simp (disch := omega) only [cI_ok, bI_z]
    cases hl : (lkS ω by_ odds σ.2).1 with
    | false =>
      simp only [reduceIte]
      exact ⟨_, _, rfl, hD2, f4.tr f5, p4⟩
    | true =>
      have f6 := frc_u I2 (33, 12, s + 3) i 1 (sc3 s)
      have hD3 := hD2.mk' f6 (fun k h1 h2 => u2_r _ _ _ _ (by omega)) (hg3.re (i := i) 1) (by rw [u2_r _ _ _ _ (by omega)]; exact p1) p2 ((hok1.re i 2).re i 1)
      rw [re_re] at hD3
      have f7 := frc_u (u2 I2 (33, 12, s + 3) i 1) (31, 12, s + 1) (2 * dkS τ (tdS τ i) + ttS τ i) (icut (sAm σ1 (2 * dkS τ (tdS τ i) + ttS τ i) + τ 1010 (tdS τ i)) (-999) 999) (sc1 s)
      simp (disch := omega) only [↓reduceIte, ↓qX_m, ↓qR_m, ↓cI_m, ↓cV_m, ↓cJ_m, ↓cO_m, ↓cR_m, ixq_n, ixq_l, tgq_ok, nL_mul, nR_mul, nL_add, nR_add, nL_sub, nR_sub, nI_add, pk_mul, nn_sub, ng1_0, ng1_1, an_0, an_1, i1_0, Nat.add_zero, Nat.zero_add, Nat.mul_one, Nat.mul_zero, hI_cg, hP_cg, hJ_cg, wI_cg, wP_cg, wJ_cg, Bool.true_eq_false, hs.2.2.1, ac_off d T hs hD3.1 hD3.2.2.2.1 t2 t4]
      refine ⟨_, _, rfl, ?_, f4.tr (f5.tr (f6.tr f7)), p4⟩
      exact hD3.mk' f7 (fun k h1 h2 => u2_r _ _ _ _ (by omega)) (hD3.2.2.2.1.am _) (by rw [u2_r _ _ _ _ (by omega)]; exact hD3.2.2.2.2.1) p2 (hD3.2.2.2.2.2.2.1.off _ _)
