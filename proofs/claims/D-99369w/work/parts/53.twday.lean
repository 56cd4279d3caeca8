/-! THE TWIN's days -/
theorem TSt.a {σ : St_} {b : Nat} {I : FI_} (h : TSt σ b I) {k t : Nat} (hk : 2 * k + t < 12) : I 1028 (12 * b + 2 * k + t) = sAm σ (2 * k + t) := by
  rw [Nat.add_assoc]; exact h.1 _ hk
theorem TSt.a0 {σ : St_} {b : Nat} {I : FI_} (h : TSt σ b I) {k : Nat} (hk : 2 * k < 12) : I 1028 (12 * b + 2 * k) = sAm σ (2 * k) := h.1 _ hk
theorem tw_size (d : Nat) (I : FI_) (J : FJ_) (C : C_) (x : Int32) : (Run_ (d, mT_sizeOf, 0, [some (vI x)], [], (tw I J, C))) = some (.inl (some (vI (iabs x))), (tw I J, C)) := by
  simp only [eT_sizeOf_0, eT_sizeOf_10]
  unfold iabs
  split <;> rfl
theorem tw_cut (d : Nat) (I : FI_) (J : FJ_) (C : C_) (x l h : Int32) : (Run_ (d, mT_cut, 0, [some (vI x), some (vI l), some (vI h)], [], (tw I J, C))) = some (.inl (some (vI (icut x l h))), (tw I J, C)) := by
  simp only [eT_cut_0, eT_cut_19]
  unfold icut
  split
  · rfl
  · split <;> rfl
theorem tw_gap {σ : St_} {b k : Nat} (d : Nat) (I : FI_) (J : FJ_) (C : C_) (hb : b < 2) (hk : k < 6) (hs : TSt σ b I) : (Run_ (d, mT_gapOf, 0, [some (vR (1000, 0, 0)), some (vI (nI b)), some (vI (nI k))], [], (tw I J, C))) = some (.inl (some (vI (gapS σ k))), (tw I J, C)) := by
  have e1 : I 1028 (12 * b + 2 * k) = sAm σ (2 * k) := hs.a0 (by omega)
  have e2 : I 1028 (12 * b + 2 * k + 1) = sAm σ (2 * k + 1) := hs.a (by omega)
  simp (disch := omega) only [eT_gapOf_0, eT_gapOf_7, eT_gapOf_14, eT_gapOf_18, eT_amountOf_0, ↓reduceIte, ↓qX_m, ↓qR_m, ↓cI_m, ↓cV_m, ↓cJ_m, ↓cO_m, ↓cR_m, ixq_n, ixq_l, tgq_ok, nL_mul, nR_mul, nL_add, nR_add, nL_sub, nR_sub, nI_add, pk_mul, nn_sub, ng1_0, ng1_1, an_0, an_1, i1_0, Nat.add_zero, Nat.zero_add, Nat.mul_one, Nat.mul_zero, e1, e2, tw_size]
  rfl
theorem tw_heals {τ : Tx_} {ω : Om_} {k : Nat} (d : Nat) (I : FI_) (J : FJ_) (C : C_) (hk : k < 6) (hx : TTx τ I) (h1 : I 1000 66 = oHO ω) (h2 : I 1000 67 = oHB ω) : (Run_ (d, mT_healsIn, 0, [some (vR (1000, 0, 0)), some (vI (nI k))], [], (tw I J, C))) = some (.inl (some (vI (hlsS τ ω k))), (tw I J, C)) := by
  have e1 : I 1006 k = τ 1006 k := hx _ _ (by unfold tcell; omega)
  simp (disch := omega) only [eT_healsIn_0, eT_healsIn_21, ↓reduceIte, ↓qX_m, ↓qR_m, ↓cI_m, ↓cV_m, ↓cJ_m, ↓cO_m, ↓cR_m, ixq_n, ixq_l, tgq_ok, nL_mul, nR_mul, nL_add, nR_add, nL_sub, nR_sub, nI_add, pk_mul, nn_sub, ng1_0, ng1_1, an_0, an_1, i1_0, Nat.add_zero, Nat.zero_add, Nat.mul_one, Nat.mul_zero, e1, h1, h2]
  unfold hlsS
  split <;> rfl
def ln7 (J : FJ_) (nm : Nm_) : FJ_ := u2 (u2 (u2 (u2 (u2 (u2 (u2 J 1026 0 (nm 0)) 1026 1 (nm 1)) 1026 2 (nm 2)) 1026 3 (nm 3)) 1026 4 (nm 4)) 1026 5 (nm 5)) 1026 6 (nm 6)
theorem ln7_nm (J : FJ_) (nm : Nm_) : ∀ k, k < 7 → ln7 J nm 1026 k = nm k := by
  intro k hk
  have : k = 0 ∨ k = 1 ∨ k = 2 ∨ k = 3 ∨ k = 4 ∨ k = 5 ∨ k = 6 := by omega
  rcases this with h | h | h | h | h | h | h <;> subst h <;> rfl
theorem ln7_ot (J : FJ_) (nm : Nm_) : ∀ t k, t ≠ 1026 → ln7 J nm t k = J t k := by
  intro t k h
  unfold ln7
  simp (disch := omega) only [u2_t]
theorem tw_names {τ : Tx_} {ω : Om_} {σ : St_} {b k t : Nat} (d : Nat) (I : FI_) (J : FJ_) (C : C_) (hb : b < 2) (hk : k < 6) (ht : t < 2) (hx : TTx τ I) (hs : TSt σ b I) (h1 : I 1000 66 = oHO ω) (h2 : I 1000 67 = oHB ω) :
    (Run_ (d, mT_layNames, 0, [some (vR (1000, 0, 0)), some (vI (nI b)), some (vI (nI k)), some (vI (nI t))], [], (tw I J, C))) = some (.inl none, (tw I (ln7 J (nmS τ ω σ k t)), C)) := by
  have e1 : I 1028 (12 * b + 2 * k + t) = sAm σ (2 * k + t) := hs.a (by omega)
  have e2 : I 1028 (12 * b + 2 * k + (1 - t)) = sAm σ (2 * k + 1 - t) := by rw [hs.a (by omega)]; congr 1; omega
  have e3 : I 1005 k = τ 1005 k := hx _ _ (by unfold tcell; omega)
  simp (disch := omega) only [eT_layNames_0, eT_layNames_12, eT_layNames_28, eT_layNames_41, eT_layNames_66, eT_amountOf_0, ↓reduceIte, ↓qX_m, ↓qR_m, ↓cI_m, ↓cV_m, ↓cJ_m, ↓cO_m, ↓cR_m, ixq_n, ixq_l, tgq_ok, nL_mul, nR_mul, nL_add, nR_add, nL_sub, nR_sub, nI_add, pk_mul, nn_sub, ng1_0, ng1_1, an_0, an_1, i1_0, Nat.add_zero, Nat.zero_add, Nat.mul_one, Nat.mul_zero, e1, e2, e3, tw_gap (σ := σ) d I _ C hb hk hs, tw_heals (τ := τ) (ω := ω) d I _ C hk hx h1 h2, hs.2.2.2.1, hs.2.2.2.2]
  rfl
/-- the twin with a text, what is tried, and a state -/
def TD (τ : Tx_) (ω : Om_) (by_ : Bool) (b : Nat) (s : St_ × Nat) (I : FI_) (J : FJ_) : Prop := TTx τ I ∧ TOm ω by_ I ∧ TSt s.1 b I ∧ J 1000 59 = lN s.2 ∧ s.2 < 2147483648
/-- names laid, then a law within bounds -/
theorem tw_lawNm {τ : Tx_} {Λ : La_} {ω : Om_} {σ : St_} {k t w : Nat} (d : Nat) (I : FI_) (J : FJ_) (C : C_) (a m : Int32) (hw : w < 3) (hL : LaOk τ Λ) (hx : TTx τ I) :
    ∃ (I' : FI_) (J' : FJ_), (Run_ (d, mT_boundLaw, 0, [some (vR (1000, 0, 0)), some (vI (nI w)), some (vI a), some (vI m), none, none], [], (tw I (ln7 J (nmS τ ω σ k t)), C))) = some (.inl (some (vI (bndS (Λ w) (nmS τ ω σ k t) a m))), (tw I' J', C)) ∧ FrI (fun t k => t = 1000 ∧ k = 53) I I' ∧ (∀ k, J' 1000 k = J 1000 k) := by
  obtain ⟨I', J', h1, h2, h3⟩ := tw_bound (nm := nmS τ ω σ k t) d I (ln7 J (nmS τ ω σ k t)) C a m hw hL hx (ln7_nm _ _)
  exact ⟨I', J', h1, h2, fun k => (h3 _ _ (by omega)).trans (ln7_ot _ _ _ _ (by omega))⟩
theorem TTx.fr {τ : Tx_} {I I' : FI_} {S : Nat → Nat → Prop} (h : TTx τ I) (f : FrI S I I') (hS : ∀ t k, S t k → ¬ tcell t k) : TTx τ I' := fun t k ht => (f t k (fun q => hS t k q ht)).trans (h t k ht)
theorem TSt.fr {σ : St_} {b : Nat} {I I' : FI_} {S : Nat → Nat → Prop} (h : TSt σ b I) (f : FrI S I I') (hS : ∀ t k, S t k → t < 1028 ∨ 1032 < t) : TSt σ b I' :=
  ⟨fun k hk => (f _ _ (fun q => by have := hS _ _ q; omega)).trans (h.1 k hk), fun k hk => (f _ _ (fun q => by have := hS _ _ q; omega)).trans (h.2.1 k hk), fun k hk => (f _ _ (fun q => by have := hS _ _ q; omega)).trans (h.2.2.1 k hk), (f _ _ (fun q => by have := hS _ _ q; omega)).trans h.2.2.2.1, (f _ _ (fun q => by have := hS _ _ q; omega)).trans h.2.2.2.2⟩
theorem TOm.fr {ω : Om_} {by_ : Bool} {I I' : FI_} {S : Nat → Nat → Prop} (h : TOm ω by_ I) (f : FrI S I I') (hS : ∀ k, 60 ≤ k → k ≤ 67 → ¬ S 1000 k) : TOm ω by_ I' :=
  ⟨(f _ _ (hS _ (by omega) (by omega))).trans h.1, (f _ _ (hS _ (by omega) (by omega))).trans h.2.1, (f _ _ (hS _ (by omega) (by omega))).trans h.2.2.1, (f _ _ (hS _ (by omega) (by omega))).trans h.2.2.2.1, (f _ _ (hS _ (by omega) (by omega))).trans h.2.2.2.2.1, (f _ _ (hS _ (by omega) (by omega))).trans h.2.2.2.2.2.1, (f _ _ (hS _ (by omega) (by omega))).trans h.2.2.2.2.2.2.1, (f _ _ (hS _ (by omega) (by omega))).trans h.2.2.2.2.2.2.2⟩
theorem FrI.wk {S S' : Nat → Nat → Prop} {I I' : FI_} (h : FrI S I I') (hs : ∀ t k, S t k → S' t k) : FrI S' I I' := fun t k hn => h t k (fun q => hn (hs t k q))
theorem e53_t (t k : Nat) (h : t = 1000 ∧ k = 53) : ¬ tcell t k := by unfold tcell; omega
theorem e53_d (b t k : Nat) (h : t = 1000 ∧ k = 53) : dcell b t k := by unfold dcell; omega
theorem dc_t (b t k : Nat) (h : dcell b t k) : ¬ tcell t k := by unfold dcell at h; unfold tcell; omega
theorem dc_o (b : Nat) : ∀ k, 60 ≤ k → k ≤ 67 → ¬ dcell b 1000 k := by intro k h1 h2; unfold dcell; omega
/-- what a draw gives -/
theorem draw_j {n : Nat} (h : n < 2147483648) : (lN n * 1103515245 + 12345) &&& 2147483647 = lN (nxS n) := by
  have e : (lN n * 1103515245 + 12345) = lN (n * 1103515245 + 12345) := by
    show lN n * lN 1103515245 + lN 12345 = _
    rw [lN_mul, lN_add]
  rw [e]
  unfold nxS
  generalize hm : n * 1103515245 + 12345 = m
  have hm2 : m < 2 ^ 64 := by omega
  show lN m &&& lN 2147483647 = lN (m % 2147483648)
  apply Int64.toBitVec_inj.mp
  rw [Int64.toBitVec_and]
  show BitVec.ofNat 64 m &&& BitVec.ofNat 64 2147483647 = BitVec.ofNat 64 (m % 2147483648)
  apply BitVec.eq_of_toNat_eq
  rw [BitVec.toNat_and, BitVec.toNat_ofNat, BitVec.toNat_ofNat, BitVec.toNat_ofNat, Nat.mod_eq_of_lt hm2, Nat.mod_eq_of_lt (by decide : 2147483647 < 2 ^ 64), Nat.mod_eq_of_lt (by omega : m % 2147483648 < 2 ^ 64)]
  exact Nat.and_two_pow_sub_one_eq_mod m 31
theorem draw_d {n : Nat} (h : n < 2147483648) : lN n / 65536 - lN n / 65536 / (Int32.toInt64 100) * (Int32.toInt64 100) = lN (n / 65536 % 100) := by
  rw [show (65536 : Int64) = lN 65536 from rfl, show Int32.toInt64 100 = lN 100 from by decide, pk_lDiv (by omega) (by omega) (by omega), pk_lRem (by omega) (by omega) (by omega)]
theorem nxS_lt (n : Nat) : nxS n < 2147483648 := Nat.mod_lt _ (by decide)
theorem tw_lucky {ω : Om_} {by_ : Bool} {n : Nat} (d : Nat) (I : FI_) (J : FJ_) (C : C_) (o : Int32) (hn : n < 2147483648) (h0 : I 1000 60 = bI by_) (h2 : I 1000 62 = bI (oAO ω)) (hj : J 1000 59 = lN n) :
    ∃ J' : FJ_, (Run_ (d, mT_isLucky, 0, [some (vR (1000, 0, 0)), some (vI o)], [], (tw I J, C))) = some (.inl (some (vI (bI (lkS ω by_ o n).1))), (tw I J', C)) ∧ J' 1000 59 = lN (lkS ω by_ o n).2 ∧ FrJ J J' ∧ (lkS ω by_ o n).2 < 2147483648 := by
  rw [eT_isLucky_0]
  simp only [h0, h2, bI_z, eT_isLucky_13, eT_isLucky_57, ng1_0, ng1_1, reduceIte]
  unfold lkS
  cases ha : oAO ω with
  | true => exact ⟨J, by simp [bI], by simp [hj], FrJ.rf _, by simp [hn]⟩
  | false =>
    by_cases h100 : o = 100
    · exact ⟨J, by simp [bI, h100], by simp [h100, hj], FrJ.rf _, by simp [h100, hn]⟩
    · by_cases hz : o = 0
      · exact ⟨J, by simp [bI, hz], by simp [hz, hj], FrJ.rf _, by simp [hz, hn]⟩
      · cases by_ with
        | false =>
          refine ⟨J, ?_, by simp [h100, hz, hj], FrJ.rf _, by simp [h100, hz, hn]⟩
          by_cases h5 : o < 50
          · simp [h100, hz, h5, bI]
          · simp [h100, hz, h5, bI]
        | true =>
          refine ⟨u2 J 1000 59 (lN (nxS n)), ?_, by simp [h100, hz, u2_s], fun k hk => u2_k _ _ _ _ hk, by simp [h100, hz, nxS_lt]⟩
          have e1 : (Int32.toInt64 100 = 0) = False := eq_false (by decide)
          have hd : (Run_ (d, mT_number1, 0, [some (vR (1000, 0, 0)), some (vI 100)], [], (tw I J, C))) = some (.inl (some (vI (nI (drS n)))), (tw I (u2 J 1000 59 (lN (nxS n))), C)) := by
            simp only [eT_number1_0, e1, u2_s, hj, draw_j hn, draw_d (nxS_lt n), lN_i, reduceIte]
            rfl
          rw [hd]
          simp only [cI_ok, eT_isLucky_34, eT_isLucky_57, ng1_0, ng1_1, reduceIte]
          by_cases h5 : nI (drS n) < o
          · simp [h100, hz, h5, bI]
          · simp [h100, hz, h5, bI]
/-! a state changed at one place -/
theorem TSt.am {σ : St_} {b i : Nat} {I : FI_} (h : TSt σ b I) (x : Int32) : TSt (amS i x σ) b (u2 I 1028 (12 * b + i) x) := by
  refine ⟨fun k hk => ?_, fun k hk => ?_, fun k hk => ?_, ?_, ?_⟩
  · by_cases e : k = i
    · subst e; rw [u2_s]; exact (fu_s _ _ _).symm
    · rw [u2_k _ _ _ _ (by omega), h.1 k hk]; exact (fu_n _ _ e).symm
  · rw [u2_t _ _ _ _ (by omega)]; exact h.2.1 k hk
  · rw [u2_t _ _ _ _ (by omega)]; exact h.2.2.1 k hk
  · rw [u2_t _ _ _ _ (by omega)]; exact h.2.2.2.1
  · rw [u2_t _ _ _ _ (by omega)]; exact h.2.2.2.2
theorem TSt.pu {σ : St_} {b i : Nat} {I : FI_} (h : TSt σ b I) (x : Int32) : TSt (puS i x σ) b (u2 I 1029 (2 * b + i) x) := by
  refine ⟨fun k hk => ?_, fun k hk => ?_, fun k hk => ?_, ?_, ?_⟩
  · rw [u2_t _ _ _ _ (by omega)]; exact h.1 k hk
  · by_cases e : k = i
    · subst e; rw [u2_s]; exact (fu_s _ _ _).symm
    · rw [u2_k _ _ _ _ (by omega), h.2.1 k hk]; exact (fu_n _ _ e).symm
  · rw [u2_t _ _ _ _ (by omega)]; exact h.2.2.1 k hk
  · rw [u2_t _ _ _ _ (by omega)]; exact h.2.2.2.1
  · rw [u2_t _ _ _ _ (by omega)]; exact h.2.2.2.2
theorem TSt.re {σ : St_} {b i : Nat} {I : FI_} (h : TSt σ b I) (x : Int32) : TSt (reS i x σ) b (u2 I 1030 (12 * b + i) x) := by
  refine ⟨fun k hk => ?_, fun k hk => ?_, fun k hk => ?_, ?_, ?_⟩
  · rw [u2_t _ _ _ _ (by omega)]; exact h.1 k hk
  · rw [u2_t _ _ _ _ (by omega)]; exact h.2.1 k hk
  · by_cases e : k = i
    · subst e; rw [u2_s]; exact (fu_s _ _ _).symm
    · rw [u2_k _ _ _ _ (by omega), h.2.2.1 k hk]; exact (fu_n _ _ e).symm
  · rw [u2_t _ _ _ _ (by omega)]; exact h.2.2.2.1
  · rw [u2_t _ _ _ _ (by omega)]; exact h.2.2.2.2
theorem fr_am (b i : Nat) (I : FI_) (x : Int32) (hi : i < 12) : FrI (dcell b) I (u2 I 1028 (12 * b + i) x) := fun t k hn => if_neg fun q => hn (by unfold dcell; omega)
theorem fr_pu (b i : Nat) (I : FI_) (x : Int32) (hi : i < 2) : FrI (dcell b) I (u2 I 1029 (2 * b + i) x) := fun t k hn => if_neg fun q => hn (by unfold dcell; omega)
theorem fr_re (b i : Nat) (I : FI_) (x : Int32) (hi : i < 12) : FrI (dcell b) I (u2 I 1030 (12 * b + i) x) := fun t k hn => if_neg fun q => hn (by unfold dcell; omega)
theorem TxOk.k6 {τ : Tx_} (h : TxOk τ) : τ 1000 12 = nI (nkS τ) ∧ nkS τ ≤ 6 := h.1
theorem TxOk.d8 {τ : Tx_} (h : TxOk τ) : τ 1000 13 = nI (ndS τ) ∧ ndS τ ≤ 8 := h.2.1
theorem TxOk.p12 {τ : Tx_} (h : TxOk τ) : τ 1000 14 = nI (npS τ) ∧ npS τ ≤ 12 := h.2.2.1
theorem TxOk.kd {τ : Tx_} (h : TxOk τ) : ∀ k, k < nkS τ → (0 ≤ (τ 1005 k).toInt ∧ (τ 1005 k).toInt ≤ 9) ∧ (0 ≤ (τ 1006 k).toInt ∧ (τ 1006 k).toInt ≤ 9) := h.2.2.2.1
theorem TxOk.dd {τ : Tx_} (h : TxOk τ) : ∀ d, d < ndS τ → (τ 1009 d = nI (dkS τ d) ∧ dkS τ d < nkS τ) ∧ (-9 ≤ (τ 1010 d).toInt ∧ (τ 1010 d).toInt ≤ 9) ∧ (0 ≤ (τ 1011 d).toInt ∧ (τ 1011 d).toInt ≤ 99) ∧ (0 ≤ (τ 1012 d).toInt ∧ (τ 1012 d).toInt ≤ 100) := h.2.2.2.2.2.1
theorem TxOk.td {τ : Tx_} (h : TxOk τ) : ∀ i, i < npS τ → (τ 1013 i = nI (ttS τ i) ∧ ttS τ i < 2) ∧ (τ 1014 i = nI (tdS τ i) ∧ tdS τ i < ndS τ) ∧ (0 ≤ (τ 1015 i).toInt ∧ (τ 1015 i).toInt ≤ 99) := h.2.2.2.2.2.2.1
theorem tw_off {τ : Tx_} {σ : St_} {b t e : Nat} (d : Nat) (I : FI_) (J : FJ_) (C : C_) (hb : b < 2) (ht : t < 2) (he : e < ndS τ) (ho : TxOk τ) (hx : TTx τ I) (hs : TSt σ b I) :
    (Run_ (d, mT_comesOff, 0, [some (vR (1000, 0, 0)), some (vI (nI b)), some (vI (nI t)), some (vI (nI e)), none], [], (tw I J, C))) = some (.inl none, (tw (u2 I 1028 (12 * b + (2 * dkS τ e + t)) (icut (sAm σ (2 * dkS τ e + t) + τ 1010 e) (-999) 999)) J, C)) := by
  have h8 := ho.d8.2
  have h6 := ho.k6.2
  obtain ⟨⟨q1, q2⟩, -⟩ := ho.dd e he
  have e1 : I 1009 e = nI (dkS τ e) := (hx _ _ (by unfold tcell; omega)).trans q1
  have e2 : I 1010 e = τ 1010 e := hx _ _ (by unfold tcell; omega)
  have e3 : I 1028 (12 * b + 2 * dkS τ e + t) = sAm σ (2 * dkS τ e + t) := hs.a (by omega)
  simp (disch := omega) only [eT_comesOff_0, eT_comesOff_46, ↓reduceIte, ↓qX_m, ↓qR_m, ↓cI_m, ↓cV_m, ↓cJ_m, ↓cO_m, ↓cR_m, ixq_n, ixq_l, tgq_ok, nL_mul, nR_mul, nL_add, nR_add, nL_sub, nR_sub, nI_add, pk_mul, nn_sub, ng1_0, ng1_1, an_0, an_1, i1_0, Nat.add_zero, Nat.zero_add, Nat.mul_one, Nat.mul_zero, e1, e2, e3, tw_cut]
  rw [Nat.add_assoc]
/-- one task in the twin -/
theorem tw_task {τ : Tx_} {Λ : La_} {ω : Om_} {by_ : Bool} {b i : Nat} {s : St_ × Nat} (d : Nat) (I : FI_) (J : FJ_) (C : C_) (hb : b < 2) (hi : i < npS τ) (ho : TxOk τ) (hL : LaOk τ Λ) (h : TD τ ω by_ b s I J) :
    ∃ (I' : FI_) (J' : FJ_), (Run_ (d, mT_does1, 0, [some (vR (1000, 0, 0)), some (vI (nI b)), some (vI (nI i)), none, none, none], [], (tw I J, C))) = some (.inl none, (tw I' J', C)) ∧ TD τ ω by_ b (tskS τ Λ ω by_ i s) I' J' ∧ FrI (dcell b) I I' ∧ FrJ J J' := by
  obtain ⟨hx, hom, hs, hj, hn⟩ := h
  have h8 := ho.d8.2
  have h6 := ho.k6.2
  have h12 := ho.p12.2
  obtain ⟨⟨t1, t2⟩, ⟨t3, t4⟩, -⟩ := ho.td i hi
  obtain ⟨⟨q1, q2⟩, -⟩ := ho.dd _ t4
  have e1 : I 1013 i = nI (ttS τ i) := (hx _ _ (by unfold tcell; omega)).trans t1
  have e2 : I 1014 i = nI (tdS τ i) := (hx _ _ (by unfold tcell; omega)).trans t3
  have e3 : I 1011 (tdS τ i) = τ 1011 (tdS τ i) := hx _ _ (by unfold tcell; omega)
  have e4 : I 1029 (2 * b + ttS τ i) = sPu s.1 (ttS τ i) := hs.2.1 _ t2
  have r0 : (Run_ (d, mT_does1, 0, [some (vR (1000, 0, 0)), some (vI (nI b)), some (vI (nI i)), none, none, none], [], (tw I J, C))) = (Run_ (d, mT_does1, 33, [some (vR (1000, 0, 0)), some (vI (nI b)), some (vI (nI i)), some (vI (nI (ttS τ i))), some (vI (nI (tdS τ i))), none], [vI (cosS τ ω (tdS τ i))], (tw I J, C))) := by
    rw [eT_does1_0]
    simp (disch := omega) only [↓reduceIte, ↓qX_m, ↓qR_m, ↓cI_m, ↓cV_m, ↓cJ_m, ↓cO_m, ↓cR_m, ixq_n, ixq_l, tgq_ok, nL_mul, nR_mul, nL_add, nR_add, nL_sub, nR_sub, nI_add, pk_mul, nn_sub, ng1_0, ng1_1, an_0, an_1, i1_0, Nat.add_zero, Nat.zero_add, Nat.mul_one, Nat.mul_zero, e1, e2, e3, hom.2.2.2.1, bI_z]
    unfold cosS
    cases oNC ω <;> simp
  rw [r0, eT_does1_33]
  simp (disch := omega) only [↓reduceIte, ↓qX_m, ↓qR_m, ↓cI_m, ↓cV_m, ↓cJ_m, ↓cO_m, ↓cR_m, ixq_n, ixq_l, tgq_ok, nL_mul, nR_mul, nL_add, nR_add, nL_sub, nR_sub, nI_add, pk_mul, nn_sub, ng1_0, ng1_1, an_0, an_1, i1_0, Nat.add_zero, Nat.zero_add, Nat.mul_one, Nat.mul_zero, e4]
  unfold tskS
  by_cases hc : sPu s.1 (ttS τ i) < cosS τ ω (tdS τ i)
  · rw [if_pos hc, if_pos hc]
    exact ⟨_, _, rfl, ⟨hx.fr (fr_re b i I 3 (by omega)) (dc_t b), hom.fr (fr_re b i I 3 (by omega)) (dc_o b), hs.re 3, hj, hn⟩, fr_re b i I 3 (by omega), FrJ.rf _⟩
  · rw [if_neg hc, if_neg hc]
    dsimp only
    have f1 := fr_pu b (ttS τ i) I (sPu s.1 (ttS τ i) - cosS τ ω (tdS τ i)) t2
    have hs1 := hs.pu (i := ttS τ i) (sPu s.1 (ttS τ i) - cosS τ ω (tdS τ i))
    have hx1 := hx.fr f1 (dc_t b)
    have hom1 := hom.fr f1 (dc_o b)
    generalize hI1 : u2 I 1029 (2 * b + ttS τ i) (sPu s.1 (ttS τ i) - cosS τ ω (tdS τ i)) = I1 at f1 hs1 hx1 hom1 ⊢
    generalize hσ1 : puS (ttS τ i) (sPu s.1 (ttS τ i) - cosS τ ω (tdS τ i)) s.1 = σ1 at hs1 ⊢
    have e5 : I1 1009 (tdS τ i) = nI (dkS τ (tdS τ i)) := (hx1 _ _ (by unfold tcell; omega)).trans q1
    have e6 : I1 1012 (tdS τ i) = τ 1012 (tdS τ i) := hx1 _ _ (by unfold tcell; omega)
    obtain ⟨I2, J2, r2, f2, g2⟩ := tw_lawNm (ω := ω) (σ := σ1) (k := dkS τ (tdS τ i)) (t := ttS τ i) (w := 2) d I1 J C (τ 1012 (tdS τ i)) 100 (by omega) hL hx1
    have hx2 := hx1.fr f2 e53_t
    have hom2 := hom1.fr f2 (fun k h1 h2 => by omega)
    have hs2 := hs1.fr f2 (fun t k q => by omega)
    have r2 : (Run_ (d, mT_boundLaw, 0, [some (vR (1000, 0, 0)), some (vI 2), some (vI (τ 1012 (tdS τ i))), some (vI 100), none, none], [], (tw I1 (ln7 J (nmS τ ω σ1 (dkS τ (tdS τ i)) (ttS τ i))), C))) = _ := r2
    generalize bndS (Λ 2) (nmS τ ω σ1 (dkS τ (tdS τ i)) (ttS τ i)) (τ 1012 (tdS τ i)) 100 = odds at r2 ⊢
    obtain ⟨J3, r3, g3, g4, g5⟩ := tw_lucky (ω := ω) (by_ := by_) (n := s.2) d I2 J2 C odds hn hom2.1 hom2.2.2.1 ((g2 59).trans hj)
    have hfJ : FrJ J J3 := fun k hk => (g4 k hk).trans (g2 k)
    simp (disch := omega) only [e5, tw_names (τ := τ) (ω := ω) (σ := σ1) d I1 J C hb (by omega : dkS τ (tdS τ i) < 6) t2 hx1 hs1 hom1.2.2.2.2.2.2.1 hom1.2.2.2.2.2.2.2, cV_ok, eT_does1_91, qX_ix, e6, r2, cI_ok, eT_does1_106, r3, eT_does1_109, bI_z]
    cases hl : (lkS ω by_ odds s.2).1 with
    | false =>
      simp (disch := omega) only [↓reduceIte, ↓qX_m, ↓qR_m, ↓cI_m, ↓cV_m, ↓cJ_m, ↓cO_m, ↓cR_m, ixq_n, ixq_l, tgq_ok, nL_mul, nR_mul, nL_add, nR_add, nL_sub, nR_sub, nI_add, pk_mul, nn_sub, ng1_0, ng1_1, an_0, an_1, i1_0, Nat.add_zero, Nat.zero_add, Nat.mul_one, Nat.mul_zero, bI_z, Bool.true_eq_false, Bool.false_eq_true, eT_does1_147]
      have f3 := fr_re b i I2 2 (by omega)
      exact ⟨_, _, rfl, ⟨hx2.fr f3 (dc_t b), hom2.fr f3 (dc_o b), hs2.re 2, g3, g5⟩, f1.tr ((f2.wk (e53_d b)).tr f3), hfJ⟩
    | true =>
      simp (disch := omega) only [↓reduceIte, ↓qX_m, ↓qR_m, ↓cI_m, ↓cV_m, ↓cJ_m, ↓cO_m, ↓cR_m, ixq_n, ixq_l, tgq_ok, nL_mul, nR_mul, nL_add, nR_add, nL_sub, nR_sub, nI_add, pk_mul, nn_sub, ng1_0, ng1_1, an_0, an_1, i1_0, Nat.add_zero, Nat.zero_add, Nat.mul_one, Nat.mul_zero, bI_z, Bool.true_eq_false, Bool.false_eq_true, tw_off (τ := τ) (σ := σ1) d I2 J3 C hb t2 t4 ho hx2 hs2, eT_does1_120, eT_does1_147]
      have f3 := fr_am b (2 * dkS τ (tdS τ i) + ttS τ i) I2 (icut (sAm σ1 (2 * dkS τ (tdS τ i) + ttS τ i) + τ 1010 (tdS τ i)) (-999) 999) (by omega)
      have f4 := fr_re b i (u2 I2 1028 (12 * b + (2 * dkS τ (tdS τ i) + ttS τ i)) (icut (sAm σ1 (2 * dkS τ (tdS τ i) + ttS τ i) + τ 1010 (tdS τ i)) (-999) 999)) 1 (by omega)
      have f5 := f3.tr f4
      exact ⟨_, _, rfl, ⟨hx2.fr f5 (dc_t b), hom2.fr f5 (dc_o b), (hs2.am _).re 1, g3, g5⟩, f1.tr ((f2.wk (e53_d b)).tr f5), hfJ⟩
