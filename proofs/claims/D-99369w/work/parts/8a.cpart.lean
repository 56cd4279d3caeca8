/-! THE COMPONENT's parts: what they compute -/
theorem of_num (d s : Nat) (G : G_) : ofR d (10, 0, s) G = (Run_ (d, mNumber_of, 0, [some (vR (10, 0, s)), some (vR (44, 7, 43))], [], G)) := rfl
theorem of_nam (d s : Nat) (G : G_) : ofR d (11, 0, s) G = (Run_ (d, mName_of, 0, [some (vR (11, 0, s)), some (vR (44, 7, 43))], [], G)) := rfl
theorem of_not (d s : Nat) (G : G_) : ofR (d + 1) (12, 0, s) G = (Run_ ((d + 1), mNot_of, 0, [some (vR (12, 0, s)), some (vR (44, 7, 43))], [], G)) := rfl
theorem of_two (d s : Nat) (G : G_) : ofR (d + 1) (13, 0, s) G = (Run_ ((d + 1), mTwo_of, 0, [some (vR (13, 0, s)), some (vR (44, 7, 43)), none, none, none, none], [], G)) := rfl
theorem cJ_of (d : Nat) (r : R_) (G : G_) (K : Int64 → G_ → Option Z_) : (qA none (some r) fun r2 => qS none [(10, 272), (11, 274), (12, 276), (13, 279)] r2.1 fun j => bif Nat.ble 2 (ml_ j) then cJ (Run_ (d, j, 0, en_ (ml_ j) [vR r2, vR (44, 7, 43)], [], G)) K else none) = cJ (ofR d r G) K := by
  unfold cJ ofR
  exact qS_bind _ _ _ _ _
/-- a comparison, a sign, a word: its number in the component -/
def cdC (k : Nat) : Int32 := if k = 3 then 12 else if k = 4 then 11 else if k = 11 then 43 else if k = 12 then 45 else if k = 13 then 42 else if k = 14 then 47 else cmC (k - 5)
variable {a m : Nat} {I : RI_} {P : RP_}
/-- parts that were made from a on, ahead of m, are as they were -/
def AgR (a m : Nat) (I : RI_) (P : RP_) (I' : RI_) (P' : RP_) : Prop := ∀ t x s k, 10 ≤ t → t ≤ 13 → a ≤ s → s < m → I' (t, x, s) k = I (t, x, s) k ∧ P' (t, x, s) k = P (t, x, s) k
/-- a part whose own parts were made from a on, ahead of m -/
def PrR (h a m : Nat) (I : RI_) (P : RP_) (r : R_) (f : Dn_) : Prop :=
  (10 ≤ r.1 ∧ r.1 ≤ 13) ∧ (a ≤ r.2.2 ∧ r.2.2 < m) ∧ ∀ I' P', AgR a m I P I' P' → ∀ (d : Nat) (T : T_) (n : Nat) (J : RJ_) (nm : Nm_), h ≤ d → (∀ k, k < 7 → J (44, 7, 43) k = nm k) → ofR d r (cg T n I' J P') = outJ (f nm) (cg T n I' J P')
theorem AgR.tr {I1 I2 : RI_} {P1 P2 : RP_} (h : AgR a m I P I1 P1) (h2 : AgR a m I1 P1 I2 P2) : AgR a m I P I2 P2 := fun t x s k h3 h4 h5 h6 => ⟨(h2 t x s k h3 h4 h5 h6).1.trans (h t x s k h3 h4 h5 h6).1, (h2 t x s k h3 h4 h5 h6).2.trans (h t x s k h3 h4 h5 h6).2⟩
theorem PrR.mv {h : Nat} {I1 : RI_} {P1 : RP_} {r : R_} {f : Dn_} (p : PrR h a m I P r f) (ag : AgR a m I P I1 P1) : PrR h a m I1 P1 r f := ⟨p.1, p.2.1, fun I' P' q => p.2.2 I' P' (ag.tr q)⟩
theorem PrR.up {h h' a' m' : Nat} {r : R_} {f : Dn_} (p : PrR h a m I P r f) (hh : h ≤ h') (ha : a' ≤ a) (hm : m ≤ m') : PrR h' a' m' I P r f :=
  ⟨p.1, ⟨Nat.le_trans ha p.2.1.1, Nat.lt_of_lt_of_le p.2.1.2 hm⟩, fun I' P' q d T n J nm hd hn => p.2.2 I' P' (fun t x s k h3 h4 h5 h6 => q t x s k h3 h4 (by omega) (by omega)) d T n J nm (by omega) hn⟩
theorem PrR.ok {h : Nat} {r : R_} {f : Dn_} (p : PrR h a m I P r f) : PrOk h m I P r f := ⟨p.1, p.2.1.2, fun I' P' q => p.2.2 I' P' (fun t x s k h3 h4 _ h6 => q t x s k h3 h4 h6)⟩
theorem pr_num {s : Nat} {x : Int32} (ha : a ≤ s) (hs : s < m) (h : I (10, 0, s) 0 = x) : PrR 0 a m I P (10, 0, s) (dNum x) := by
  refine ⟨by show 10 ≤ 10 ∧ 10 ≤ 13; omega, ⟨ha, hs⟩, fun I' P' ag d T n J nm _ hn => ?_⟩
  have e : I' (10, 0, s) 0 = x := ((ag 10 0 s 0 (by omega) (by omega) ha hs).1).trans h
  rw [of_num, eNumber_of_0]
  simp (disch := omega) only [hI_cg, e]
  rfl
theorem pr_nam {s w : Nat} (hw : w < 7) (ha : a ≤ s) (hs : s < m) (h : I (11, 0, s) 0 = nI w) : PrR 0 a m I P (11, 0, s) (dNam w) := by
  refine ⟨by show 10 ≤ 11 ∧ 11 ≤ 13; omega, ⟨ha, hs⟩, fun I' P' ag d T n J nm _ hn => ?_⟩
  have e : I' (11, 0, s) 0 = nI w := ((ag 11 0 s 0 (by omega) (by omega) ha hs).1).trans h
  rw [of_nam, eName_of_0]
  simp (disch := omega) only [↓reduceIte, ↓qX_m, ↓qR_m, ↓cI_m, ↓cV_m, ↓cJ_m, ↓cO_m, ↓cR_m, ixq_n, ixq_l, tgq_ok, nL_mul, nR_mul, nL_add, nR_add, nL_sub, nR_sub, nI_add, pk_mul, nn_sub, ng1_0, ng1_1, an_0, an_1, i1_0, Nat.add_zero, Nat.zero_add, Nat.mul_one, Nat.mul_zero, hI_cg, hP_cg, hJ_cg, wI_cg, wP_cg, wJ_cg, e, hn]
  rfl
theorem pr_not {s h : Nat} {r : R_} {f : Dn_} (ha : a ≤ s) (hs : s < m) (p : PrR h a m I P r f) (hp : P (12, 0, s) 0 = some r) : PrR (h + 1) a m I P (12, 0, s) (dNot f) := by
  refine ⟨by show 10 ≤ 12 ∧ 12 ≤ 13; omega, ⟨ha, hs⟩, fun I' P' ag d T n J nm hd hn => ?_⟩
  have e : P' (12, 0, s) 0 = some r := ((ag 12 0 s 0 (by omega) (by omega) ha hs).2).trans hp
  cases d with
  | zero => omega
  | succ d =>
    rw [of_not, eNot_of_0]
    simp (disch := omega) only [hP_cg, e]
    rw [cJ_of, p.2.2 I' P' ag d T n J nm (by omega) hn]
    unfold dNot
    cases f nm with
    | none => rfl
    | some v =>
      show cJ (some (.inl (some (vJ v)), _)) _ = _
      rw [cJ_ok]
      simp only [lg_cmp_eq, eNot_of_18]
      by_cases z : v = 0
      · rw [if_pos z]
        show _ = outJ (some (b2J (decide (v = 0)))) _
        rw [decide_eq_true z]; rfl
      · rw [if_neg z]
        show _ = outJ (some (b2J (decide (v = 0)))) _
        rw [decide_eq_false z]; rfl
theorem two_is (d : Nat) (G : G_) (c : Bool) : (Run_ (d, mTwo_is, 0, [some (vI (bI c))], [], G)) = some (.inl (some (vJ (b2J c))), G) := by
  cases c <;> simp only [eTwo_is_0, eTwo_is_9, bI_0, bI_1, i1_0, ↓reduceIte] <;> rfl
theorem ac_sure (d : Nat) (G : G_) (x : Int64) : (Run_ (d, mC_sure_J, 0, [some (vJ x), none], [], G)) = outJ (bdS x) G := by
  simp only [eC_sure_J_0, eC_sure_J_16, lg_cmp_gt, lg_cmp_lt]
  unfold bdS
  by_cases c1 : (1000000000000 : Int64) < x
  · rw [if_pos c1, if_pos (Or.inl c1)]; rfl
  · by_cases c2 : x < -1000000000000
    · rw [if_neg c1, if_pos c2, if_pos (Or.inr c2)]; rfl
    · rw [if_neg c1, if_neg c2, if_neg (fun z => z.elim c1 c2)]; rfl
theorem jabs_0 {x : Int64} (h : ¬ x = 0) : ¬ jabs x = 0 := by
  intro z
  apply h
  unfold jabs at z
  split at z
  · rw [← Int64.neg_neg (a := x), z]; rfl
  · exact z
theorem ac_times (d : Nat) (G : G_) (x y : Int64) : (Run_ (d, mTwo_times, 0, [some (vJ x), none, some (vJ y), none], [], G)) = outJ (tmS x y) G := by
  simp only [eTwo_times_0, eTwo_times_26, lg_cmp_eq, lg_cmp_gt, ac_absJ, cJ_ok]
  unfold tmS
  by_cases x0 : x = 0
  · rw [if_pos x0, if_neg (fun z => z.1 x0)]; rfl
  · rw [if_neg x0, if_neg (jabs_0 x0)]
    by_cases y0 : y = 0
    · have : ¬ 1000000000000 / jabs x < jabs y := by
        rw [y0]
        have j0 : jabs 0 = 0 := rfl
        rw [j0, j_lt, Int64.toInt_div_of_ne_left _ _ (by rw [ne_eq, j_eq]; decide)]
        have L : (1000000000000 : Int64).toInt = 1000000000000 := by decide
        have h0 : (0 : Int64).toInt = 0 := by decide
        rw [L, h0]
        unfold jabs
        split
        · rename_i c
          by_cases mn : -9223372036854775808 < x.toInt
          · rw [j_lt, h0] at c
            rw [Int64.toInt_neg, Int.bmod_eq_of_le (by omega) (by have := Int64.le_toInt x; omega), Int.tdiv_eq_ediv_of_nonneg (by omega)]
            have := Int.ediv_nonneg (a := 1000000000000) (b := -x.toInt) (by omega) (by omega)
            omega
          · have hx : x = Int64.minValue := by
              rw [j_eq]
              have := Int64.le_toInt x
              have m0 : (Int64.minValue).toInt = -9223372036854775808 := by decide
              omega
            rw [hx]
            decide
        · rename_i c
          rw [j_lt, h0] at c
          rw [Int.tdiv_eq_ediv_of_nonneg (by omega)]
          have := Int.ediv_nonneg (a := 1000000000000) (b := x.toInt) (by omega) (by omega)
          omega
      rw [if_neg this, if_neg (fun z => z.2.1 y0)]; rfl
    · by_cases c : 1000000000000 / jabs x < jabs y
      · rw [if_pos c, if_pos ⟨x0, y0, c⟩]; rfl
      · rw [if_neg c, if_neg (fun z => c z.2.2)]; rfl
theorem i32n {a c : Int32} (h : a ≠ c) : (a = c) = False := eq_false h
theorem pr_two {s h1 h2 k : Nat} {r1 r2 : R_} {f g : Dn_} (ha : a ≤ s) (hs : s < m) (hk : 3 ≤ k ∧ k ≤ 14) (p1 : PrR h1 a m I P r1 f) (p2 : PrR h2 a m I P r2 g) (q1 : P (13, 0, s) 0 = some r1) (q2 : P (13, 0, s) 2 = some r2) (q3 : I (13, 0, s) 1 = cdC k) : PrR (max h1 h2 + 1) a m I P (13, 0, s) (dTwo k f g) := by
  refine ⟨by show 10 ≤ 13 ∧ 13 ≤ 13; omega, ⟨ha, hs⟩, fun I' P' ag d T n J nm hd hn => ?_⟩
  have e1 : P' (13, 0, s) 0 = some r1 := ((ag 13 0 s 0 (by omega) (by omega) ha hs).2).trans q1
  have e2 : P' (13, 0, s) 2 = some r2 := ((ag 13 0 s 2 (by omega) (by omega) ha hs).2).trans q2
  have e3 : I' (13, 0, s) 1 = cdC k := ((ag 13 0 s 1 (by omega) (by omega) ha hs).1).trans q3
  have l1 := Nat.le_max_left h1 h2
  have l2 := Nat.le_max_right h1 h2
  cases d with
  | zero => omega
  | succ d =>
    rw [of_two, eTwo_of_0]
    rw [hP_cg T n I' J P' 0 s 0 (by omega : 13 < 100), e1]
    rw [cJ_of, p1.2.2 I' P' ag d T n J nm (by omega) hn]
    unfold dTwo
    cases f nm with
    | none => rfl
    | some x =>
      show cJ (some (.inl (some (vJ x)), _)) _ = _
      rw [cJ_ok]
      rw [hP_cg T n I' J P' 0 s 2 (by omega : 13 < 100), e2]
      rw [cJ_of, p2.2.2 I' P' ag d T n J nm (by omega) hn]
      cases g nm with
      | none => rfl
      | some y =>
        show cJ (some (.inl (some (vJ y)), _)) _ = outJ (opS k x y) _
        rw [cJ_ok]
        rw [hI_cg T n I' J P' 0 s 1 (by omega : 13 < 100), e3]
        generalize cg T n I' J P' = G
        have t1 : (Run_ ((d+1), mTwo_is, 0, [some (vI 1)], [], G)) = _ := two_is (d + 1) G true
        have t0 : (Run_ ((d+1), mTwo_is, 0, [some (vI 0)], [], G)) = _ := two_is (d + 1) G false
        have hk12 : k = 3 ∨ k = 4 ∨ k = 5 ∨ k = 6 ∨ k = 7 ∨ k = 8 ∨ k = 9 ∨ k = 10 ∨ k = 11 ∨ k = 12 ∨ k = 13 ∨ k = 14 := by omega
        rcases hk12 with z | z | z | z | z | z | z | z | z | z | z | z
        · subst z
          have hv : cdC 3 = 12 := rfl
          simp (disch := decide) only [hv, i32n, ↓reduceIte, eTwo_of_255, eTwo_of_272, eTwo_of_273, lg_cmp_eq, t0, t1, cJ_ok]
          show _ = outJ (some (b2J (!decide (x = 0) && !decide (y = 0)))) G
          by_cases aa : x = 0 <;> by_cases c : y = 0 <;> simp [aa, c, outJ]
        · subst z
          have hv : cdC 4 = 11 := rfl
          simp (disch := decide) only [hv, i32n, ↓reduceIte, eTwo_of_277, eTwo_of_290, eTwo_of_295, lg_cmp_eq, t0, t1, cJ_ok]
          show _ = outJ (some (b2J (!decide (x = 0) || !decide (y = 0)))) G
          by_cases aa : x = 0 <;> by_cases c : y = 0 <;> simp [aa, c, outJ]
        · subst z
          have hv : cdC 5 = 60 := rfl
          simp (disch := decide) only [hv, i32n, ↓reduceIte, eTwo_of_159, eTwo_of_171, lg_cmp_lt, t0, t1, cJ_ok]
          show _ = outJ (some (b2J (decide (x < y)))) G
          by_cases aa : x < y <;> simp [aa, outJ]
        · subst z
          have hv : cdC 6 = 256 := rfl
          simp (disch := decide) only [hv, i32n, ↓reduceIte, eTwo_of_207, eTwo_of_219, lg_cmp_gt, t0, t1, cJ_ok]
          show _ = outJ (some (b2J (!decide (y < x)))) G
          by_cases aa : y < x <;> simp [aa, outJ]
        · subst z
          have hv : cdC 7 = 61 := rfl
          simp (disch := decide) only [hv, i32n, ↓reduceIte, eTwo_of_191, eTwo_of_203, lg_cmp_eq, t0, t1, cJ_ok]
          show _ = outJ (some (b2J (decide (x = y)))) G
          by_cases aa : x = y <;> simp [aa, outJ]
        · subst z
          have hv : cdC 8 = 258 := rfl
          simp (disch := decide) only [hv, i32n, ↓reduceIte, eTwo_of_239, eTwo_of_251, lg_cmp_eq, t0, t1, cJ_ok]
          show _ = outJ (some (b2J (!decide (x = y)))) G
          by_cases aa : x = y <;> simp [aa, outJ]
        · subst z
          have hv : cdC 9 = 257 := rfl
          simp (disch := decide) only [hv, i32n, ↓reduceIte, eTwo_of_223, eTwo_of_235, lg_cmp_lt, t0, t1, cJ_ok]
          show _ = outJ (some (b2J (!decide (x < y)))) G
          by_cases aa : x < y <;> simp [aa, outJ]
        · subst z
          have hv : cdC 10 = 62 := rfl
          simp (disch := decide) only [hv, i32n, ↓reduceIte, eTwo_of_175, eTwo_of_187, lg_cmp_gt, t0, t1, cJ_ok]
          show _ = outJ (some (b2J (decide (y < x)))) G
          by_cases aa : y < x <;> simp [aa, outJ]
        · subst z
          have hv : cdC 11 = 43 := rfl
          simp (disch := decide) only [hv, i32n, ↓reduceIte, eTwo_of_120, ac_sure]
          show _ = outJ (bdS (x + y)) G
          cases bdS (x + y) <;> rfl
        · subst z
          have hv : cdC 12 = 45 := rfl
          simp (disch := decide) only [hv, i32n, ↓reduceIte, eTwo_of_128, ac_sure]
          show _ = outJ (bdS (x - y)) G
          cases bdS (x - y) <;> rfl
        · subst z
          have hv : cdC 13 = 42 := rfl
          simp (disch := decide) only [hv, i32n, ↓reduceIte, eTwo_of_136, ac_times]
          show _ = outJ (tmS x y) G
          cases tmS x y <;> rfl
        · subst z
          have hv : cdC 14 = 47 := rfl
          simp (disch := decide) only [hv, i32n, ↓reduceIte, eTwo_of_143, lg_cmp_eq]
          show _ = outJ (if y = 0 then none else some (x / y)) G
          by_cases aa : y = 0
          · rw [if_pos aa, if_pos aa]; rfl
          · rw [if_neg aa, if_neg aa, if_neg aa]; rfl
