/-! THE TWIN's laws: what lawOf and boundLaw compute -/
theorem bI_0 : bI false = 0 := rfl
theorem bI_1 : bI true = 1 := rfl
theorem bI_z (b : Bool) : (bI b = 0) = (b = false) := by cases b <;> simp [bI]
theorem bdS_some {x v : Int64} (h : bdS x = some v) : v = x := by
  unfold bdS at h
  split at h
  · cases h
  · exact (Option.some.inj h).symm
theorem tmS_some {x y v : Int64} (h : tmS x y = some v) : v = x * y := by
  unfold tmS at h
  split at h
  · cases h
  · exact (Option.some.inj h).symm
theorem tw_bounded (d : Nat) (I : FI_) (J : FJ_) (C : C_) (x : Int64) (e : Bool) (h : I 1000 53 = bI e) :
    (Run_ (d, mT_bounded, 0, [some (vR (1000, 0, 0)), some (vJ x), none], [], (tw I J, C))) = some (.inl (some (vJ (bif (e || (bdS x).isNone) then 0 else x))), (tw (u2 I 1000 53 (bI (e || (bdS x).isNone))) J, C)) := by
  simp only [eT_bounded_0, eT_bounded_24, eT_bounded_29, eT_bounded_44, h, lg_cmp_gt, lg_cmp_lt, u2_s, an_0, an_1, i1_0, reduceIte]
  cases e
  · by_cases h1 : (1000000000000 : Int64) < x
    · simp [bdS, bI, h1]
    · by_cases h2 : x < -1000000000000
      · simp [bdS, bI, h1, h2]
      · simp [bdS, bI, h1, h2]
  · simp [bI]
theorem tw_times (d : Nat) (I : FI_) (J : FJ_) (C : C_) (x y : Int64) (e : Bool) (h : I 1000 53 = bI e) :
    (Run_ (d, mT_times, 0, [some (vR (1000, 0, 0)), some (vJ x), none, some (vJ y), none, none], [], (tw I J, C))) = some (.inl (some (vJ (bif (e || (tmS x y).isNone) then 0 else x * y))), (tw (u2 I 1000 53 (bI (e || (tmS x y).isNone))) J, C)) := by
  have hz : ∀ z : Int64, jabs z = 0 → z = 0 := by
    intro z hz
    unfold jabs at hz
    split at hz
    · rw [← Int64.neg_neg (a := z), hz]; rfl
    · exact hz
  have key : ∀ b : Bool, (Run_ (d, mT_times, 49, [some (vR (1000, 0, 0)), some (vJ x), none, some (vJ y), none, none], [vI (bI b)], (tw I J, C))) = some (.inl (some (vJ (bif (e || b) then 0 else x * y))), (tw (u2 I 1000 53 (bI (e || b))) J, C)) := by
    intro b
    simp only [eT_times_49, eT_times_64, eT_times_69, eT_times_86, h, u2_s, an_0, an_1, i1_0, reduceIte]
    cases e <;> cases b <;> simp [bI]
  have k24 : ∀ b : Int64, (Run_ (d, mT_times, 24, [some (vR (1000, 0, 0)), some (vJ x), none, some (vJ y), none, none], [vJ b], (tw I J, C))) = if jabs x = 0 then none else if 1000000000000 / jabs x < b then (Run_ (d, mT_times, 49, [some (vR (1000, 0, 0)), some (vJ x), none, some (vJ y), none, none], [vI (bI true)], (tw I J, C))) else (Run_ (d, mT_times, 49, [some (vR (1000, 0, 0)), some (vJ x), none, some (vJ y), none, none], [vI (bI false)], (tw I J, C))) := by
    intro b
    simp only [eT_times_24, eT_times_39, eT_times_48, lg_cmp_lt, lg_cmp_gt]
    unfold jabs
    split <;> rfl
  rw [eT_times_0]
  simp only [lg_cmp_eq, lg_cmp_lt, k24, eT_times_48]
  by_cases hx : x = 0
  · rw [if_pos hx, show (0 : Int32) = bI false from rfl, key]
    simp [tmS, hx]
  · rw [if_neg hx]
    by_cases hy : y = 0
    · rw [if_pos hy, show (0 : Int32) = bI false from rfl, key]
      simp [tmS, hy]
    · rw [if_neg hy, if_neg (fun q => hx (hz x q)), if_neg (fun q => hx (hz x q))]
      have hj : (if y < 0 then (if 1000000000000 / jabs x < -y then (Run_ (d, mT_times, 49, [some (vR (1000, 0, 0)), some (vJ x), none, some (vJ y), none, none], [vI (bI true)], (tw I J, C))) else (Run_ (d, mT_times, 49, [some (vR (1000, 0, 0)), some (vJ x), none, some (vJ y), none, none], [vI (bI false)], (tw I J, C)))) else (if 1000000000000 / jabs x < y then (Run_ (d, mT_times, 49, [some (vR (1000, 0, 0)), some (vJ x), none, some (vJ y), none, none], [vI (bI true)], (tw I J, C))) else (Run_ (d, mT_times, 49, [some (vR (1000, 0, 0)), some (vJ x), none, some (vJ y), none, none], [vI (bI false)], (tw I J, C))))) = if 1000000000000 / jabs x < jabs y then (Run_ (d, mT_times, 49, [some (vR (1000, 0, 0)), some (vJ x), none, some (vJ y), none, none], [vI (bI true)], (tw I J, C))) else (Run_ (d, mT_times, 49, [some (vR (1000, 0, 0)), some (vJ x), none, some (vJ y), none, none], [vI (bI false)], (tw I J, C))) := by
        unfold jabs
        split <;> rfl
      rw [hj]
      by_cases hc : 1000000000000 / jabs x < jabs y
      · rw [if_pos hc, key]
        simp [tmS, hx, hy, hc]
      · rw [if_neg hc, key]
        simp [tmS, hc]
theorem tw_compares (d : Nat) (I : FI_) (J : FJ_) (C : C_) (c : Nat) (x y : Int64) (h1 : 5 ≤ c) (h2 : c ≤ 10) :
    (Run_ (d, mT_compares, 0, [some (vI (nI c)), some (vJ x), none, some (vJ y), none], [], (tw I J, C))) = some (.inl (some (vI (bI (cpS c x y)))), (tw I J, C)) := by
  have hc : c = 5 ∨ c = 6 ∨ c = 7 ∨ c = 8 ∨ c = 9 ∨ c = 10 := by omega
  simp (disch := omega) only [eT_compares_0, eT_compares_36, eT_compares_47, eT_compares_48, eT_compares_59, eT_compares_60, eT_compares_71, eT_compares_72, eT_compares_83, eT_compares_84, eT_compares_95, eT_compares_96, eT_compares_107, nR_eq, lg_cmp_lt, lg_cmp_gt, lg_cmp_eq, ng1_0, ng1_1, reduceIte]
  rcases hc with h | h | h | h | h | h <;> subst h
  · by_cases h : x < y <;> simp [cpS, bI, h]
  · by_cases h : y < x <;> simp [cpS, bI, h]
  · by_cases h : x = y <;> simp [cpS, bI, h]
  · by_cases h : x = y <;> simp [cpS, bI, h]
  · by_cases h : x < y <;> simp [cpS, bI, h]
  · by_cases h : y < x <;> simp [cpS, bI, h]
theorem tw_valueOf {τ : Tx_} {nm : Nm_} {lo i : Nat} (d : Nat) (I : FI_) (J : FJ_) (C : C_) (e : Bool) (hw : kWf τ lo i) (hi : i < 64) (h1 : I 1021 i = τ 1021 i) (h2 : I 1022 i = τ 1022 i) (h3 : I 1023 i = τ 1023 i) (hn : ∀ k, k < 7 → J 1026 k = nm k) (he : I 1000 53 = bI e) :
    ∃ (x : Int64) (e' : Bool) (I' : FI_), (Run_ (d, mT_valueOf, 0, [some (vR (1000, 0, 0)), some (vI (nI i)), none, none, none, none], [], (tw I J, C))) = some (.inl (some (vJ x)), (tw I' J, C)) ∧ FrI (fun t k => t = 1000 ∧ k = 53) I I' ∧ I' 1000 53 = bI e' ∧
      (e = true → e' = true) ∧ (e = false → (kvS τ nm (J 1027) i = none ∧ e' = true) ∨ (kvS τ nm (J 1027) i = some x ∧ e' = false)) := by
  have hfr : ∀ b : Bool, FrI (fun t k => t = 1000 ∧ k = 53) I (u2 I 1000 53 (bI b)) := fun b t k hn => if_neg hn
  rcases hw with h | ⟨h, a, ha, hb⟩ | ⟨h, a, ha1, ha2, hb⟩ | ⟨c, a, b, hc1, hc2, ha1, ha2, hb1, hb2, h, hA, hB⟩
  · refine ⟨(τ 1022 i).toInt64, e, I, ?_, FrI.rf _ _, he, id, fun q => Or.inr ⟨?_, q⟩⟩
    · rw [eT_valueOf_0]
      simp (disch := omega) only [↓reduceIte, ↓qX_m, ↓qR_m, ↓cI_m, ↓cV_m, ↓cJ_m, ↓cO_m, ↓cR_m, ixq_n, ixq_l, tgq_ok, nL_mul, nR_mul, nL_add, nR_add, nL_sub, nR_sub, nI_add, pk_mul, nn_sub, ng1_0, ng1_1, an_0, an_1, i1_0, Nat.add_zero, Nat.zero_add, Nat.mul_one, Nat.mul_zero, h1, h2, h]
    · simp only [kvS, h, reduceIte]
  · refine ⟨nm a, e, I, ?_, FrI.rf _ _, he, id, fun q => Or.inr ⟨?_, q⟩⟩
    · rw [eT_valueOf_0]
      simp (disch := omega) only [↓reduceIte, ↓qX_m, ↓qR_m, ↓cI_m, ↓cV_m, ↓cJ_m, ↓cO_m, ↓cR_m, ixq_n, ixq_l, tgq_ok, nL_mul, nR_mul, nL_add, nR_add, nL_sub, nR_sub, nI_add, pk_mul, nn_sub, ng1_0, ng1_1, an_0, an_1, i1_0, Nat.add_zero, Nat.zero_add, Nat.mul_one, Nat.mul_zero, h1, h2, h, hb, hn]
    · simp (disch := omega) only [kvS, h, hb, i1_0, nI_clamp, reduceIte]
  · refine ⟨b2J (decide (J 1027 a = 0)), e, I, ?_, FrI.rf _ _, he, id, fun q => Or.inr ⟨?_, q⟩⟩
    · rw [eT_valueOf_0]
      have e20 : ((2 : Int32) = 0) = False := eq_false (by decide)
      have e21 : ((2 : Int32) = 1) = False := eq_false (by decide)
      simp (disch := omega) only [↓reduceIte, ↓qX_m, ↓qR_m, ↓cI_m, ↓cV_m, ↓cJ_m, ↓cO_m, ↓cR_m, ixq_n, ixq_l, tgq_ok, nL_mul, nR_mul, nL_add, nR_add, nL_sub, nR_sub, nI_add, pk_mul, nn_sub, ng1_0, ng1_1, an_0, an_1, i1_0, Nat.add_zero, Nat.zero_add, Nat.mul_one, Nat.mul_zero, h1, h2, h, hb, lg_cmp_eq, eT_valueOf_72, e20, e21]
      by_cases hz : J 1027 a = 0
      · simp [hz, b2J]
      · simp [hz, b2J]
    · simp (disch := omega) only [kvS, h, hb, nI_clamp]
      simp
  · have hkv : kvS τ nm (J 1027) i = opS c (J 1027 a) (J 1027 b) := by
      simp (disch := omega) only [kvS, h, hA, hB, nI_clamp, nR_eq]
      rw [if_neg (by omega), if_neg (by omega), if_neg (by omega)]
    have hcs : c = 3 ∨ c = 4 ∨ (5 ≤ c ∧ c ≤ 10) ∨ c = 11 ∨ c = 12 ∨ c = 13 ∨ c = 14 := by omega
    have hrun : (Run_ (d, mT_valueOf, 0, [some (vR (1000, 0, 0)), some (vI (nI i)), none, none, none, none], [], (tw I J, C))) = if c = 3 then (Run_ (d, mT_valueOf, 156, [none, none, some (vJ (J 1027 a)), none, some (vJ (J 1027 b)), none], [], (tw I J, C))) else if c = 4 then (Run_ (d, mT_valueOf, 175, [none, none, some (vJ (J 1027 a)), none, some (vJ (J 1027 b)), none], [], (tw I J, C))) else if c = 11 then (Run_ (d, mT_valueOf, 194, [some (vR (1000, 0, 0)), none, some (vJ (J 1027 a)), none, some (vJ (J 1027 b)), none], [], (tw I J, C))) else if c = 12 then (Run_ (d, mT_valueOf, 203, [some (vR (1000, 0, 0)), none, some (vJ (J 1027 a)), none, some (vJ (J 1027 b)), none], [], (tw I J, C))) else if c = 13 then (Run_ (d, mT_valueOf, 212, [some (vR (1000, 0, 0)), none, some (vJ (J 1027 a)), none, some (vJ (J 1027 b)), none], [], (tw I J, C))) else if c = 14 then (Run_ (d, mT_valueOf, 220, [some (vR (1000, 0, 0)), none, some (vJ (J 1027 a)), none, some (vJ (J 1027 b)), none], [], (tw I J, C))) else (Run_ (d, mT_valueOf, 259, [some (vR (1000, 0, 0)), some (vI (nI i)), some (vJ (J 1027 a)), none, some (vJ (J 1027 b)), none], [], (tw I J, C))) := by
      rw [eT_valueOf_0]
      have hc12 : c = 3 ∨ c = 4 ∨ c = 5 ∨ c = 6 ∨ c = 7 ∨ c = 8 ∨ c = 9 ∨ c = 10 ∨ c = 11 ∨ c = 12 ∨ c = 13 ∨ c = 14 := by omega
      have nn : ∀ m, c ≠ m → (c = m) = False := fun m hm => eq_false hm
      clear hcs hkv hfr
      rcases hc12 with q | q | q | q | q | q | q | q | q | q | q | q <;> simp (disch := omega) only [↓reduceIte, ↓qX_m, ↓qR_m, ↓cI_m, ↓cV_m, ↓cJ_m, ↓cO_m, ↓cR_m, ixq_n, ixq_l, tgq_ok, nL_mul, nR_mul, nL_add, nR_add, nL_sub, nR_sub, nI_add, pk_mul, nn_sub, ng1_0, ng1_1, an_0, an_1, i1_0, Nat.add_zero, Nat.zero_add, Nat.mul_one, Nat.mul_zero, h1, h2, h3, h, hA, hB, nR_eq, eq_true q, nn]
    rw [hrun, hkv]
    clear hrun hkv hA hB
    rcases hcs with q | q | ⟨q, q2⟩ | q | q | q | q
    · subst q
      refine ⟨b2J (!decide (J 1027 a = 0) && !decide (J 1027 b = 0)), e, I, ?_, FrI.rf _ _, he, id, fun q => Or.inr ⟨rfl, q⟩⟩
      simp only [eT_valueOf_156, eT_valueOf_173, eT_valueOf_174, lg_cmp_eq, reduceIte]
      by_cases hz : J 1027 a = 0 <;> by_cases hz2 : J 1027 b = 0 <;> simp [hz, hz2, b2J]
    · subst q
      refine ⟨b2J (!decide (J 1027 a = 0) || !decide (J 1027 b = 0)), e, I, ?_, FrI.rf _ _, he, id, fun q => Or.inr ⟨rfl, q⟩⟩
      rw [if_neg (by omega), if_pos rfl]
      simp only [eT_valueOf_175, eT_valueOf_188, eT_valueOf_193, lg_cmp_eq, reduceIte]
      by_cases hz : J 1027 a = 0 <;> by_cases hz2 : J 1027 b = 0 <;> simp [hz, hz2, b2J]
    · refine ⟨b2J (cpS c (J 1027 a) (J 1027 b)), e, I, ?_, FrI.rf _ _, he, id, fun q => Or.inr ⟨?_, q⟩⟩
      · rw [if_neg (by omega), if_neg (by omega), if_neg (by omega), if_neg (by omega), if_neg (by omega), if_neg (by omega)]
        simp (disch := omega) only [eT_valueOf_259, eT_valueOf_271, eT_valueOf_279, ↓reduceIte, ↓qX_m, ↓qR_m, ↓cI_m, ↓cV_m, ↓cJ_m, ↓cO_m, ↓cR_m, ixq_n, ixq_l, tgq_ok, nL_mul, nR_mul, nL_add, nR_add, nL_sub, nR_sub, nI_add, pk_mul, nn_sub, ng1_0, ng1_1, an_0, an_1, i1_0, Nat.add_zero, Nat.zero_add, Nat.mul_one, Nat.mul_zero, h1, h, tw_compares d I J C c _ _ q q2, cI_ok]
        cases cpS c (J 1027 a) (J 1027 b) <;> simp [bI, b2J]
      · unfold opS
        rw [if_neg (by omega), if_neg (by omega), if_neg (by omega), if_neg (by omega), if_neg (by omega), if_neg (by omega)]
    · subst q
      refine ⟨bif (e || (bdS (J 1027 a + J 1027 b)).isNone) then 0 else J 1027 a + J 1027 b, e || (bdS (J 1027 a + J 1027 b)).isNone, _, ?_, hfr _, u2_s .., fun q => by rw [q]; rfl, fun q => ?_⟩
      · rw [if_neg (by omega), if_neg (by omega), if_pos rfl]
        simp only [eT_valueOf_194, eT_valueOf_202, tw_bounded d I J C _ e he, cJ_ok]
      · subst q
        show (bdS _ = none ∧ _) ∨ (bdS _ = some _ ∧ _)
        cases hb : bdS (J 1027 a + J 1027 b) with
        | none => exact Or.inl ⟨rfl, rfl⟩
        | some v => exact Or.inr ⟨by rw [bdS_some hb]; rfl, rfl⟩
    · subst q
      refine ⟨bif (e || (bdS (J 1027 a - J 1027 b)).isNone) then 0 else J 1027 a - J 1027 b, e || (bdS (J 1027 a - J 1027 b)).isNone, _, ?_, hfr _, u2_s .., fun q => by rw [q]; rfl, fun q => ?_⟩
      · rw [if_neg (by omega), if_neg (by omega), if_neg (by omega), if_pos rfl]
        simp only [eT_valueOf_203, eT_valueOf_211, tw_bounded d I J C _ e he, cJ_ok]
      · subst q
        show (bdS _ = none ∧ _) ∨ (bdS _ = some _ ∧ _)
        cases hb : bdS (J 1027 a - J 1027 b) with
        | none => exact Or.inl ⟨rfl, rfl⟩
        | some v => exact Or.inr ⟨by rw [bdS_some hb]; rfl, rfl⟩
    · subst q
      refine ⟨bif (e || (tmS (J 1027 a) (J 1027 b)).isNone) then 0 else J 1027 a * J 1027 b, e || (tmS (J 1027 a) (J 1027 b)).isNone, _, ?_, hfr _, u2_s .., fun q => by rw [q]; rfl, fun q => ?_⟩
      · rw [if_neg (by omega), if_neg (by omega), if_neg (by omega), if_neg (by omega), if_pos rfl]
        simp only [eT_valueOf_212, eT_valueOf_219, tw_times d I J C _ _ e he, cJ_ok]
      · subst q
        show (tmS _ _ = none ∧ _) ∨ (tmS _ _ = some _ ∧ _)
        cases hb : tmS (J 1027 a) (J 1027 b) with
        | none => exact Or.inl ⟨rfl, rfl⟩
        | some v => exact Or.inr ⟨by rw [tmS_some hb]; rfl, rfl⟩
    · subst q
      have hr : (Run_ (d, mT_valueOf, 220, [some (vR (1000, 0, 0)), none, some (vJ (J 1027 a)), none, some (vJ (J 1027 b)), none], [], (tw I J, C))) = some (.inl (some (vJ (bif (e || decide (J 1027 b = 0)) then 0 else J 1027 a / J 1027 b))), (tw (u2 I 1000 53 (bI (e || decide (J 1027 b = 0)))) J, C)) := by
        simp only [eT_valueOf_220, eT_valueOf_235, eT_valueOf_240, eT_valueOf_258, he, lg_cmp_eq, u2_s, an_0, an_1, i1_0, reduceIte]
        cases e
        · by_cases hz : J 1027 b = 0
          · simp [hz, bI]
          · simp [hz, bI]
        · simp [bI]
      refine ⟨bif (e || decide (J 1027 b = 0)) then 0 else J 1027 a / J 1027 b, e || decide (J 1027 b = 0), _, ?_, hfr _, u2_s .., fun q => by rw [q]; rfl, fun q => ?_⟩
      · rw [if_neg (by omega), if_neg (by omega), if_neg (by omega), if_neg (by omega), if_neg (by omega), if_pos rfl]
        exact hr
      · subst q
        by_cases hz : J 1027 b = 0
        · exact Or.inl ⟨by simp [opS, hz], by simp [hz]⟩
        · exact Or.inr ⟨by simp [opS, hz], by simp [hz]⟩
/-- the loop of lawOf: from lo on, n knots -/
theorem tw_lawLoop {τ : Tx_} {nm : Nm_} {lo i w : Nat} (d : Nat) (C : C_) (hw : w < 3) (hi : i < 64) (hlo : lo ≤ i) (hwf : ∀ j, lo ≤ j → j ≤ i → kWf τ lo j) (I0 : FI_) (J0 : FJ_)
    (hK : ∀ t k, 1021 ≤ t → t ≤ 1023 → k < 64 → I0 t k = τ t k) (hl : I0 1020 w = nI (i + 1)) (hn : ∀ k, k < 7 → J0 1026 k = nm k) (he : I0 1000 53 = 0) :
    ∀ m, m ≤ i + 1 - lo → ∃ (I' : FI_) (J' : FJ_) (e : Bool), (Run_ (d, mT_lawOf, 12, [some (vR (1000, 0, 0)), some (vI (nI w)), some (vI (nI lo))], [], (tw I0 J0, C))) = (Run_ (d, mT_lawOf, 12, [some (vR (1000, 0, 0)), some (vI (nI w)), some (vI (nI (lo + m)))], [], (tw I' J', C))) ∧
      FrI (fun t k => t = 1000 ∧ k = 53) I0 I' ∧ (∀ t k, t ≠ 1027 → J' t k = J0 t k) ∧ I' 1000 53 = bI e ∧ ((rnK τ nm lo m (J0 1027) = none ∧ e = true) ∨ (rnK τ nm lo m (J0 1027) = some (J' 1027) ∧ e = false)) := by
  intro m
  induction m with
  | zero => intro _; exact ⟨I0, J0, false, rfl, FrI.rf _ _, fun _ _ _ => rfl, he, Or.inr ⟨rfl, rfl⟩⟩
  | succ m ih =>
    intro hm
    obtain ⟨I1, J1, e, r, f1, f2, f3, f4⟩ := ih (by omega)
    have g : ∀ t k, t ≠ 1000 → I1 t k = I0 t k := fun t k h => f1 t k (fun q => h q.1)
    obtain ⟨x, e', I2, v1, v2, v3, v4, v5⟩ := tw_valueOf (τ := τ) (nm := nm) (lo := lo) (i := lo + m) d I1 J1 C e (hwf _ (by omega) (by omega)) (by omega)
      ((g _ _ (by omega)).trans (hK _ _ (by omega) (by omega) (by omega))) ((g _ _ (by omega)).trans (hK _ _ (by omega) (by omega) (by omega))) ((g _ _ (by omega)).trans (hK _ _ (by omega) (by omega) (by omega)))
      (fun k hk => (f2 _ _ (by omega)).trans (hn k hk)) f3
    refine ⟨I2, u2 J1 1027 (lo + m) x, e', ?_, f1.tr v2, fun t k h => ?_, v3, ?_⟩
    · have hk : lo + m < i + 1 := by omega
      rw [r, eT_lawOf_12]
      simp (disch := omega) only [↓reduceIte, ↓qX_m, ↓qR_m, ↓cI_m, ↓cV_m, ↓cJ_m, ↓cO_m, ↓cR_m, ixq_n, ixq_l, tgq_ok, nL_mul, nR_mul, nL_add, nR_add, nL_sub, nR_sub, nI_add, pk_mul, nn_sub, ng1_0, ng1_1, an_0, an_1, i1_0, Nat.add_zero, Nat.zero_add, Nat.mul_one, Nat.mul_zero, g, hl, nn_lt, hk, v1, cJ_ok, eT_lawOf_32, nR_add, Nat.add_assoc]
    · rw [u2_t _ _ _ _ h]; exact f2 t k h
    · rcases f4 with ⟨q1, q2⟩ | ⟨q1, q2⟩
      · exact Or.inl ⟨by show (rnK τ nm lo m _).bind _ = none; rw [q1]; rfl, v4 q2⟩
      · rcases v5 q2 with ⟨p1, p2⟩ | ⟨p1, p2⟩
        · exact Or.inl ⟨by show (rnK τ nm lo m _).bind _ = none; rw [q1]; show (kvS τ nm (J1 1027) (lo + m)).map _ = none; rw [p1]; rfl, p2⟩
        · refine Or.inr ⟨?_, p2⟩
          show (rnK τ nm lo m _).bind _ = _
          rw [q1]
          show (kvS τ nm (J1 1027) (lo + m)).map _ = _
          rw [p1]
          show some _ = some _
          congr 1
          funext k
          by_cases hk : k = lo + m
          · show fu (J1 1027) (lo + m) x k = _; rw [hk, fu_s, u2_s]
          · show fu (J1 1027) (lo + m) x k = _; rw [fu_n _ _ hk, u2_k _ _ _ _ hk]
/-- a law of the twin, by names that are laid -/
theorem tw_lawOf {τ : Tx_} {Λ : La_} {nm : Nm_} {w : Nat} {f : Dn_} (d : Nat) (I : FI_) (J : FJ_) (C : C_) (hw : w < 3) (hL : LaOk τ Λ) (hx : TTx τ I) (hf : Λ w = some f) (hn : ∀ k, k < 7 → J 1026 k = nm k) :
    ∃ (I' : FI_) (J' : FJ_), FrI (fun t k => t = 1000 ∧ k = 53) I I' ∧ (∀ t k, t ≠ 1027 → J' t k = J t k) ∧
      ((f nm = none ∧ I' 1000 53 = 1 ∧ (Run_ (d, mT_lawOf, 0, [some (vR (1000, 0, 0)), some (vI (nI w)), none], [], (tw I J, C))) = some (.inl (some (vJ 0)), (tw I' J', C))) ∨ (∃ v, f nm = some v ∧ I' 1000 53 = 0 ∧ (Run_ (d, mT_lawOf, 0, [some (vR (1000, 0, 0)), some (vI (nI w)), none], [], (tw I J, C))) = some (.inl (some (vJ v)), (tw I' J', C)))) := by
  rcases hL w hw with ⟨h, -⟩ | ⟨f', lo, i, h, -, h1, h2, h3, h4, h5, h6, h7⟩
  · rw [h] at hf; cases hf
  rw [h] at hf
  have hff : f' = f := Option.some.inj hf
  subst hff
  have c1 : I 1019 w = nI lo := (hx 1019 w (by unfold tcell; omega)).trans h2
  have c2 : I 1020 w = nI (i + 1) := (hx 1020 w (by unfold tcell; omega)).trans h3
  obtain ⟨I', J', e, r, f1, f2, f3, f4⟩ := tw_lawLoop (τ := τ) (nm := nm) (lo := lo) (i := i) (w := w) d C hw h4 h5 h6 (u2 I 1000 53 0) J
    (fun t k ht ht2 hk => by rw [u2_t _ _ _ _ (by omega)]; exact hx t k (by unfold tcell; omega)) (by rw [u2_t _ _ _ _ (by omega)]; exact c2) hn (u2_s ..) (i + 1 - lo) (Nat.le_refl _)
  have e1 : lo + (i + 1 - lo) = i + 1 := by omega
  rw [e1] at r
  have g : I' 1020 w = nI (i + 1) := by rw [f1 _ _ (by omega), u2_t _ _ _ _ (by omega)]; exact c2
  have hr : (Run_ (d, mT_lawOf, 0, [some (vR (1000, 0, 0)), some (vI (nI w)), none], [], (tw I J, C))) = (Run_ (d, mT_lawOf, 12, [some (vR (1000, 0, 0)), some (vI (nI w)), some (vI (nI (i + 1)))], [], (tw I' J', C))) := by
    rw [eT_lawOf_0]
    simp (disch := omega) only [↓reduceIte, ↓qX_m, ↓qR_m, ↓cI_m, ↓cV_m, ↓cJ_m, ↓cO_m, ↓cR_m, ixq_n, ixq_l, tgq_ok, nL_mul, nR_mul, nL_add, nR_add, nL_sub, nR_sub, nI_add, pk_mul, nn_sub, ng1_0, ng1_1, an_0, an_1, i1_0, Nat.add_zero, Nat.zero_add, Nat.mul_one, Nat.mul_zero, u2_t, c1]
    exact r
  refine ⟨I', J', fun t k hn => ?_, f2, ?_⟩
  · rw [f1 t k hn]; exact if_neg hn
  · rw [hr, eT_lawOf_12]
    simp (disch := omega) only [↓reduceIte, ↓qX_m, ↓qR_m, ↓cI_m, ↓cV_m, ↓cJ_m, ↓cO_m, ↓cR_m, ixq_n, ixq_l, tgq_ok, nL_mul, nR_mul, nL_add, nR_add, nL_sub, nR_sub, nI_add, pk_mul, nn_sub, ng1_0, ng1_1, an_0, an_1, i1_0, Nat.add_zero, Nat.zero_add, Nat.mul_one, Nat.mul_zero, g, nn_lt, Nat.lt_irrefl, f3, bI_z, nR_sub, Nat.add_sub_cancel, eT_lawOf_63]
    have h8 := h7 nm (J 1027)
    rcases f4 with ⟨q1, q2⟩ | ⟨q1, q2⟩
    · rw [q1] at h8
      subst q2
      exact Or.inl ⟨h8.symm, rfl, by simp⟩
    · rw [q1] at h8
      subst q2
      exact Or.inr ⟨J' 1027 i, h8.symm, rfl, by simp⟩
/-- .. within bounds -/
theorem tw_bound {τ : Tx_} {Λ : La_} {nm : Nm_} {w : Nat} (d : Nat) (I : FI_) (J : FJ_) (C : C_) (a m : Int32) (hw : w < 3) (hL : LaOk τ Λ) (hx : TTx τ I) (hn : ∀ k, k < 7 → J 1026 k = nm k) :
    ∃ (I' : FI_) (J' : FJ_), (Run_ (d, mT_boundLaw, 0, [some (vR (1000, 0, 0)), some (vI (nI w)), some (vI a), some (vI m), none, none], [], (tw I J, C))) = some (.inl (some (vI (bndS (Λ w) nm a m))), (tw I' J', C)) ∧ FrI (fun t k => t = 1000 ∧ k = 53) I I' ∧ (∀ t k, t ≠ 1027 → J' t k = J t k) := by
  have c0 : I 1018 w = τ 1018 w := hx 1018 w (by unfold tcell; omega)
  cases hf : Λ w with
  | none =>
    refine ⟨I, J, ?_, FrI.rf _ _, fun _ _ _ => rfl⟩
    rcases hL w hw with ⟨-, h⟩ | ⟨f', lo, i, h, -⟩
    · rw [eT_boundLaw_0]
      simp (disch := omega) only [↓reduceIte, ↓qX_m, ↓qR_m, ↓cI_m, ↓cV_m, ↓cJ_m, ↓cO_m, ↓cR_m, ixq_n, ixq_l, tgq_ok, nL_mul, nR_mul, nL_add, nR_add, nL_sub, nR_sub, nI_add, pk_mul, nn_sub, ng1_0, ng1_1, an_0, an_1, i1_0, Nat.add_zero, Nat.zero_add, Nat.mul_one, Nat.mul_zero, c0, h, reduceIte]
      rfl
    · rw [h] at hf; cases hf
  | some f =>
    have h1 : τ 1018 w = 1 := by
      rcases hL w hw with ⟨h, -⟩ | ⟨f', lo, i, h, -, h1, -⟩
      · rw [h] at hf; cases hf
      · exact h1
    obtain ⟨I', J', f1, f2, f3⟩ := tw_lawOf (nm := nm) d I J C hw hL hx hf hn
    refine ⟨I', J', ?_, f1, f2⟩
    rw [eT_boundLaw_0]
    simp (disch := omega) only [↓reduceIte, ↓qX_m, ↓qR_m, ↓cI_m, ↓cV_m, ↓cJ_m, ↓cO_m, ↓cR_m, ixq_n, ixq_l, tgq_ok, nL_mul, nR_mul, nL_add, nR_add, nL_sub, nR_sub, nI_add, pk_mul, nn_sub, ng1_0, ng1_1, an_0, an_1, i1_0, Nat.add_zero, Nat.zero_add, Nat.mul_one, Nat.mul_zero, c0, h1, i1_0, reduceIte]
    rcases f3 with ⟨q1, q2, q3⟩ | ⟨v, q1, q2, q3⟩
    · simp only [q3, eT_boundLaw_16, q2, i1_0, ↓reduceIte, bndS, Option.bind_some, q1]
    · simp only [q3, eT_boundLaw_16, q2, ↓reduceIte, lg_cmp_lt, lg_cmp_gt, bndS, Option.bind_some, q1, eT_boundLaw_53]
      split
      · rfl
      · split <;> rfl
