/-! THE TWIN's sums: its rows are the waiting signs' lists -/
def stk (f : Nat → Int32) : List Nat → Prop
  | [] => True
  | k :: W => f W.length = nI k ∧ stk f W
def hsk (f : Nat → Int32) : List (Nat × Dn_) → Prop
  | [] => True
  | e :: L => f L.length = nI e.1 ∧ hsk f L
def opsN : List Nat → Nat
  | [] => 0
  | k :: W => (if k = 0 then 0 else 1) + opsN W
def zerN : List Nat → Nat
  | [] => 0
  | k :: W => (if k = 0 then 1 else 0) + zerN W
def binN : List Nat → Nat
  | [] => 0
  | k :: W => (if k = 0 ∨ k = 2 then 0 else 1) + binN W
theorem len_oz (W : List Nat) : W.length = opsN W + zerN W := by
  induction W with
  | nil => rfl
  | cons k W ih =>
    show W.length + 1 = ((if k = 0 then 0 else 1) + opsN W) + ((if k = 0 then 1 else 0) + zerN W)
    split <;> omega
theorem bin_ops (W : List Nat) : binN W ≤ opsN W := by
  induction W with
  | nil => exact Nat.le_refl _
  | cons k W ih =>
    show (if k = 0 ∨ k = 2 then 0 else 1) + binN W ≤ (if k = 0 then 0 else 1) + opsN W
    by_cases h : k = 0
    · rw [if_pos (Or.inl h), if_pos h]; omega
    · rw [if_neg h]; split <;> omega
theorem stk_fr {f g : Nat → Int32} : ∀ (W : List Nat), stk f W → (∀ i, i < W.length → g i = f i) → stk g W := by
  intro W
  induction W with
  | nil => intro _ _; trivial
  | cons k W ih =>
    intro h hg
    have hg : ∀ i, i < W.length + 1 → g i = f i := hg
    exact ⟨(hg _ (by omega)).trans h.1, ih h.2 (fun i hi => hg i (by omega))⟩
theorem hsk_fr {f g : Nat → Int32} : ∀ (L : List (Nat × Dn_)), hsk f L → (∀ i, i < L.length → g i = f i) → hsk g L := by
  intro W
  induction W with
  | nil => intro _ _; trivial
  | cons k W ih =>
    intro h hg
    have hg : ∀ i, i < W.length + 1 → g i = f i := hg
    exact ⟨(hg _ (by omega)).trans h.1, ih h.2 (fun i hi => hg i (by omega))⟩
/-- the knots that are read -/
def rz (I : FI_) : Tx_ := fun t k => I t (64 + k)
/-- what the knots from lo to kr compute, by what is held -/
def HK (τ : Tx_) (lo kr : Nat) (L : List (Nat × Dn_)) : Prop := ∀ nm w, (∃ v, rnK τ nm lo (kr - lo) w = some v ∧ ∀ e ∈ L, e.2 nm = some (v e.1)) ∨ (rnK τ nm lo (kr - lo) w = none ∧ ∃ e ∈ L, e.2 nm = none)
theorem rnK_cg {τ τ' : Tx_} {lo : Nat} (nm : Nm_) : ∀ (m : Nat) (w : Nm_), (∀ t k, 1021 ≤ t → t ≤ 1023 → lo ≤ k → k < lo + m → τ' t k = τ t k) → rnK τ' nm lo m w = rnK τ nm lo m w := by
  intro m
  induction m with
  | zero => intro w _; rfl
  | succ m ih =>
    intro w h
    show (rnK τ' nm lo m w).bind _ = (rnK τ nm lo m w).bind _
    rw [ih w (fun t k a b c d => h t k a b c (by omega))]
    congr 1
    funext v
    have e : kvS τ' nm v (lo + m) = kvS τ nm v (lo + m) := by
      unfold kvS
      rw [h 1021 (lo + m) (by omega) (by omega) (by omega) (by omega), h 1022 (lo + m) (by omega) (by omega) (by omega) (by omega), h 1023 (lo + m) (by omega) (by omega) (by omega) (by omega)]
    rw [e]
theorem kWf_cg {τ τ' : Tx_} {lo j : Nat} (h : ∀ t, 1021 ≤ t → t ≤ 1023 → τ' t j = τ t j) (hw : kWf τ lo j) : kWf τ' lo j := by
  unfold kWf at *
  rw [h 1021 (by omega) (by omega), h 1022 (by omega) (by omega), h 1023 (by omega) (by omega)]
  exact hw
/-- one more knot -/
theorem HK.push {τ : Tx_} {lo kr : Nat} {L L' : List (Nat × Dn_)} {g : Dn_} (h : HK τ lo kr (L' ++ L)) (hlo : lo ≤ kr) (hb : ∀ e ∈ L, e.1 < kr)
    (hg : ∀ nm v, (∀ e ∈ L', e.2 nm = some (v e.1)) → kvS τ nm v kr = g nm) (hn : ∀ nm, (∃ e ∈ L', e.2 nm = none) → g nm = none) : HK τ lo (kr + 1) ((kr, g) :: L) := by
  intro nm w
  have e1 : kr + 1 - lo = (kr - lo) + 1 := by omega
  have e2 : lo + (kr - lo) = kr := by omega
  rw [e1]
  have hr : rnK τ nm lo ((kr - lo) + 1) w = (rnK τ nm lo (kr - lo) w).bind fun v => (kvS τ nm v kr).map fun x => fu v kr x := by
    show (rnK τ nm lo (kr - lo) w).bind (fun v => (kvS τ nm v (lo + (kr - lo))).map fun x => fu v (lo + (kr - lo)) x) = _
    rw [e2]
  rw [hr]
  rcases h nm w with ⟨v, h1, h2⟩ | ⟨h1, e, h2, h3⟩
  · rw [h1]
    have hk := hg nm v (fun e he => h2 e (List.mem_append_left _ he))
    show (∃ v', (kvS τ nm v kr).map (fun x => fu v kr x) = some v' ∧ _) ∨ ((kvS τ nm v kr).map (fun x => fu v kr x) = none ∧ _)
    rw [hk]
    cases hx : g nm with
    | none => exact Or.inr ⟨rfl, (kr, g), List.mem_cons_self, hx⟩
    | some x =>
      refine Or.inl ⟨fu v kr x, rfl, fun e he => ?_⟩
      rcases List.mem_cons.mp he with q | q
      · subst q; exact hx.trans (congrArg some (fu_s _ _ _).symm)
      · rw [fu_n _ _ (by have := hb e q; omega)]
        exact h2 e (List.mem_append_right _ q)
  · rw [h1]
    refine Or.inr ⟨rfl, ?_⟩
    rcases List.mem_append.mp h2 with q | q
    · exact ⟨(kr, g), List.mem_cons_self, hn nm ⟨e, q, h3⟩⟩
    · exact ⟨e, List.mem_cons_of_mem _ q, h3⟩
/-! tame ones -/
theorem tame_num {v : Nat} (h : v ≤ 9999) : Tame (dNum (nI v)) := by
  intro nm _ x hx
  have : (nI v).toInt64 = x := Option.some.inj hx
  rw [← this, Int32.toInt_toInt64, nI_toInt (by omega)]
  omega
theorem tame_nam (w : Nat) : Tame (dNam w) := by
  intro nm hn x hx
  have : nm w = x := Option.some.inj hx
  rw [← this]
  have := hn w
  omega
theorem b2J_in (c : Bool) : -1000000000000 ≤ (b2J c).toInt ∧ (b2J c).toInt ≤ 1000000000000 := by cases c <;> decide
theorem tame_not {f : Dn_} : Tame (dNot f) := by
  intro nm _ x hx
  unfold dNot at hx
  cases hf : f nm with
  | none => rw [hf] at hx; cases hx
  | some y =>
    rw [hf] at hx
    have : b2J (decide (y = 0)) = x := Option.some.inj hx
    rw [← this]
    exact b2J_in _
theorem jabs_i {x : Int64} (h : -9223372036854775808 < x.toInt) : (jabs x).toInt = if x.toInt < 0 then -x.toInt else x.toInt := by
  have h0 : (0 : Int64).toInt = 0 := by decide
  have h1 := Int64.toInt_lt x
  unfold jabs
  by_cases c : x < 0
  · have c' := c
    rw [j_lt, h0] at c'
    rw [if_pos c, if_pos c', Int64.toInt_neg]
    exact Int.bmod_eq_of_le (by omega) (by omega)
  · have c' := c
    rw [j_lt, h0] at c'
    rw [if_neg c, if_neg c']
theorem tame_two {k : Nat} {f g : Dn_} (hf : Tame f) (hg : Tame g) : Tame (dTwo k f g) := by
  intro nm hn x hx
  unfold dTwo at hx
  cases h1 : f nm with
  | none => rw [h1] at hx; cases hx
  | some a =>
    rw [h1] at hx
    cases h2 : g nm with
    | none => rw [h2] at hx; cases hx
    | some c =>
      rw [h2] at hx
      have hx : opS k a c = some x := hx
      have ha := hf nm hn a h1
      have hc := hg nm hn c h2
      have L : (1000000000000 : Int64).toInt = 1000000000000 := by decide
      have L2 : (-1000000000000 : Int64).toInt = -1000000000000 := by decide
      have hbd : ∀ y, bdS y = some x → -1000000000000 ≤ x.toInt ∧ x.toInt ≤ 1000000000000 := by
        intro y hy
        unfold bdS at hy
        by_cases q : 1000000000000 < y ∨ y < -1000000000000
        · rw [if_pos q] at hy; cases hy
        · rw [if_neg q] at hy
          have : y = x := Option.some.inj hy
          rw [← this]
          rw [j_lt, j_lt, L, L2] at q
          omega
      unfold opS at hx
      by_cases k3 : k = 3
      · rw [if_pos k3] at hx; rw [← Option.some.inj hx]; exact b2J_in _
      rw [if_neg k3] at hx
      by_cases k4 : k = 4
      · rw [if_pos k4] at hx; rw [← Option.some.inj hx]; exact b2J_in _
      rw [if_neg k4] at hx
      by_cases k11 : k = 11
      · rw [if_pos k11] at hx; exact hbd _ hx
      rw [if_neg k11] at hx
      by_cases k12 : k = 12
      · rw [if_pos k12] at hx; exact hbd _ hx
      rw [if_neg k12] at hx
      by_cases k13 : k = 13
      · rw [if_pos k13] at hx
        unfold tmS at hx
        by_cases q : a ≠ 0 ∧ c ≠ 0 ∧ 1000000000000 / jabs a < jabs c
        · rw [if_pos q] at hx; cases hx
        · rw [if_neg q] at hx
          have : a * c = x := Option.some.inj hx
          rw [← this]
          have h0 : (0 : Int64).toInt = 0 := by decide
          by_cases a0 : a = 0
          · rw [a0, Int64.zero_mul, h0]; omega
          by_cases c0 : c = 0
          · rw [c0, Int64.mul_zero, h0]; omega
          have q2 : ¬ 1000000000000 / jabs a < jabs c := fun z => q ⟨a0, c0, z⟩
          have ja := jabs_i (x := a) (by omega)
          have jc := jabs_i (x := c) (by omega)
          rw [j_eq, h0] at a0 c0
          have jd : (1000000000000 / jabs a).toInt = (1000000000000 : Int).tdiv (jabs a).toInt := by
            rw [Int64.toInt_div_of_ne_left _ _ (by rw [ne_eq, j_eq]; decide), L]
          rw [j_lt, jd] at q2
          have pa : 0 < (jabs a).toInt := by rw [ja]; split <;> omega
          have pc : 0 < (jabs c).toInt := by rw [jc]; split <;> omega
          rw [Int.tdiv_eq_ediv_of_nonneg (by omega)] at q2
          have q3 : (jabs c).toInt ≤ 1000000000000 / (jabs a).toInt := by omega
          have q4 : (jabs c).toInt * (jabs a).toInt ≤ 1000000000000 := by
            have := (Int.le_ediv_iff_mul_le pa).mp q3
            exact this
          have q5 : -1000000000000 ≤ a.toInt * c.toInt ∧ a.toInt * c.toInt ≤ 1000000000000 := by
            rw [ja, jc] at q4
            by_cases sa : a.toInt < 0
            · by_cases sc : c.toInt < 0
              · rw [if_pos sa, if_pos sc] at q4
                have e1 : -c.toInt * -a.toInt = a.toInt * c.toInt := by rw [Int.neg_mul_neg, Int.mul_comm]
                rw [e1] at q4
                have := Int.mul_pos_of_neg_of_neg sa sc
                omega
              · rw [if_pos sa, if_neg sc] at q4
                have e1 : c.toInt * -a.toInt = -(a.toInt * c.toInt) := by rw [Int.mul_neg, Int.mul_comm]
                rw [e1] at q4
                have := Int.mul_nonpos_of_nonpos_of_nonneg (Int.le_of_lt sa) (show 0 ≤ c.toInt by omega)
                omega
            · by_cases sc : c.toInt < 0
              · rw [if_neg sa, if_pos sc] at q4
                have e1 : -c.toInt * a.toInt = -(a.toInt * c.toInt) := by rw [Int.neg_mul, Int.mul_comm]
                rw [e1] at q4
                have := Int.mul_nonpos_of_nonneg_of_nonpos (show 0 ≤ a.toInt by omega) (Int.le_of_lt sc)
                omega
              · rw [if_neg sa, if_neg sc, Int.mul_comm] at q4
                have := Int.mul_nonneg (show 0 ≤ a.toInt by omega) (show 0 ≤ c.toInt by omega)
                omega
          rw [Int64.toInt_mul, Int.bmod_eq_of_le (by omega) (by omega)]
          exact q5
      rw [if_neg k13] at hx
      by_cases k14 : k = 14
      · rw [if_pos k14] at hx
        by_cases c0 : c = 0
        · rw [if_pos c0] at hx; cases hx
        · rw [if_neg c0] at hx
          rw [← Option.some.inj hx, Int64.toInt_div_of_ne_left _ _ (by rw [ne_eq, j_eq]; have : (Int64.minValue).toInt = -9223372036854775808 := by decide
                                                                       omega)]
          have t1 : (a.toInt.tdiv c.toInt).natAbs ≤ a.toInt.natAbs := by rw [Int.natAbs_tdiv]; exact Nat.div_le_self _ _
          omega
      rw [if_neg k14] at hx
      rw [← Option.some.inj hx]; exact b2J_in _
