/-! THE TWIN's sums, on: binding -/
theorem HK.cg {τ τ' : Tx_} {lo kr : Nat} {L : List (Nat × Dn_)} (h : HK τ lo kr L) (hlo : lo ≤ kr) (hc : ∀ t k, 1021 ≤ t → t ≤ 1023 → lo ≤ k → k < kr → τ' t k = τ t k) : HK τ' lo kr L := by
  intro nm w
  rw [rnK_cg (τ := τ) (τ' := τ') nm (kr - lo) w (fun t k a b c d => hc t k a b c (by omega))]
  exact h nm w
def Cor (lo : Nat) (W : List Nat) (L : List (Nat × Dn_)) (kr : Nat) (I : FI_) : Prop :=
  (I 1000 45 = nI W.length ∧ stk (I 1024) W ∧ ∀ k ∈ W, k ≤ 14 ∧ k ≠ 1) ∧ (I 1000 46 = nI L.length ∧ hsk (I 1025) L) ∧ I 1000 20 = nI kr ∧ (lo ≤ kr ∧ kr + opsN W ≤ 64 ∧ zerN W ≤ 8) ∧
  (∀ e ∈ L, lo ≤ e.1 ∧ e.1 < kr ∧ Tame e.2) ∧ (∀ j, lo ≤ j → j < kr → kWf (rz I) lo j) ∧ HK (rz I) lo kr L
/-- the cells of sums: rows and knots -/
def suC (lo t k : Nat) : Prop := (t = 1000 ∧ (k = 20 ∨ k = 45 ∨ k = 46)) ∨ (1021 ≤ t ∧ t ≤ 1023 ∧ 64 + lo ≤ k) ∨ t = 1024 ∨ t = 1025
def grI (I : FI_) (kr m : Nat) (a1 a2 a3 : Int32) : FI_ := u2 (u2 (u2 (u2 (u2 (u2 I 1021 (64 + kr) a1) 1022 (64 + kr) a2) 1023 (64 + kr) a3) 1025 m (nI kr)) 1000 46 (nI (m + 1))) 1000 20 (nI (kr + 1))
theorem tw_grown (d : Nat) (I : FI_) (J : FJ_) (C : C_) {kr m : Nat} (a1 a2 a3 : Int32) (hkr : kr < 64) (hm : m < 96) (h20 : I 1000 20 = nI kr) (h46 : I 1000 46 = nI m) : (Run_ (d, mT_grown, 0, [some (vR (1000, 0, 0)), some (vI a1), some (vI a2), some (vI a3)], [], (tw I J, C))) = some (.inl none, (tw (grI I kr m a1 a2 a3) J, C)) := by
  rw [eT_grown_0]
  simp (disch := omega) only [↓reduceIte, ↓qX_m, ↓qR_m, ↓cI_m, ↓cV_m, ↓cJ_m, ↓cO_m, ↓cR_m, ixq_n, ixq_l, tgq_ok, nL_mul, nR_mul, nL_add, nR_add, nL_sub, nR_sub, nI_add, pk_mul, nn_sub, ng1_0, ng1_1, an_0, an_1, i1_0, Nat.add_zero, Nat.zero_add, Nat.mul_one, Nat.mul_zero, hI_cg, hP_cg, hJ_cg, wI_cg, wP_cg, wJ_cg, h20, h46, u2_t, u2_k, u2_s]
  rfl
theorem gr_fr {lo kr : Nat} (I : FI_) (m : Nat) (a1 a2 a3 : Int32) (h : lo ≤ kr) : FrI (suC lo) I (grI I kr m a1 a2 a3) := by
  unfold grI
  refine ((((((FrI.rf _ I).u ?_).u ?_).u ?_).u ?_).u ?_).u ?_ <;> (unfold suC; omega)
/-- a knot grown -/
theorem Cor.grow {I : FI_} {lo kr : Nat} {W : List Nat} {L L' : List (Nat × Dn_)} {g : Dn_} {a1 a2 a3 : Int32} (h1 : I 1000 45 = nI W.length ∧ stk (I 1024) W ∧ ∀ k ∈ W, k ≤ 14 ∧ k ≠ 1) (h2 : hsk (I 1025) L) (hlo : lo ≤ kr) (hop : kr + 1 + opsN W ≤ 64) (hz : zerN W ≤ 8)
    (hb : ∀ e ∈ L, lo ≤ e.1 ∧ e.1 < kr ∧ Tame e.2) (hwf : ∀ j, lo ≤ j → j < kr → kWf (rz I) lo j) (hk : HK (rz I) lo kr (L' ++ L))
    (hkw : ∀ τ : Tx_, τ 1021 kr = a1 → τ 1022 kr = a2 → τ 1023 kr = a3 → kWf τ lo kr) (hg : ∀ τ : Tx_, τ 1021 kr = a1 → τ 1022 kr = a2 → τ 1023 kr = a3 → ∀ nm v, (∀ e ∈ L', e.2 nm = some (v e.1)) → kvS τ nm v kr = g nm)
    (hn : ∀ nm, (∃ e ∈ L', e.2 nm = none) → g nm = none) (hT : Tame g) : Cor lo W ((kr, g) :: L) (kr + 1) (grI I kr L.length a1 a2 a3) := by
  have c1 : rz (grI I kr L.length a1 a2 a3) 1021 kr = a1 := by unfold rz grI; simp (disch := omega) only [u2_t, u2_s]
  have c2 : rz (grI I kr L.length a1 a2 a3) 1022 kr = a2 := by unfold rz grI; simp (disch := omega) only [u2_t, u2_s]
  have c3 : rz (grI I kr L.length a1 a2 a3) 1023 kr = a3 := by unfold rz grI; simp (disch := omega) only [u2_t, u2_s]
  have cc : ∀ t k, 1021 ≤ t → t ≤ 1023 → k < kr → rz (grI I kr L.length a1 a2 a3) t k = rz I t k := by
    intro t k q1 q2 q3
    unfold rz grI
    simp only [u2_ap]
    rw [if_neg (by omega), if_neg (by omega), if_neg (by omega), if_neg (by omega), if_neg (by omega), if_neg (by omega)]
  refine ⟨⟨?_, stk_fr W h1.2.1 (fun i hi => ?_), h1.2.2⟩, ⟨?_, ?_, hsk_fr L h2 (fun i hi => ?_)⟩, ?_, ⟨by omega, by omega, hz⟩, fun e he => ?_, fun j q1 q2 => ?_, ?_⟩
  · unfold grI; simp (disch := omega) only [u2_t, u2_k]; exact h1.1
  · unfold grI; simp (disch := omega) only [u2_t]
  · unfold grI; simp (disch := omega) only [u2_t, u2_k, u2_s]; rfl
  · show grI I kr L.length a1 a2 a3 1025 L.length = nI kr
    unfold grI; simp (disch := omega) only [u2_t, u2_s]
  · unfold grI; simp (disch := omega) only [u2_t, u2_k]
  · unfold grI; simp (disch := omega) only [u2_s]
  · rcases List.mem_cons.mp he with q | q
    · subst q; exact ⟨hlo, Nat.lt_succ_self kr, hT⟩
    · have := hb e q; exact ⟨this.1, by omega, this.2.2⟩
  · by_cases z : j = kr
    · subst z; exact hkw _ c1 c2 c3
    · exact kWf_cg (fun t a b => cc t j a b (by omega)) (hwf j q1 (by omega))
  · exact HK.push (HK.cg hk hlo (fun t k a b _ d => cc t k a b d)) hlo (fun e he => (hb e he).2.1) (hg _ c1 c2 c3) hn
theorem tw_rank (d : Nat) (I : FI_) (J : FJ_) (C : C_) {k : Nat} (hk : k ≤ 14) : (Run_ (d, mT_rank, 0, [some (vI (nI k))], [], (tw I J, C))) = some (.inl (some (vI (nI (rnk k)))), (tw I J, C)) := by
  simp (disch := omega) only [eT_rank_0, eT_rank_58, nR_lt, nR_eq]
  unfold rnk
  by_cases c1 : k < 13
  · rw [if_pos c1, if_neg (by omega : ¬ 13 ≤ k)]
    by_cases c2 : k < 11
    · rw [if_pos c2, if_neg (by omega : ¬ 11 ≤ k)]
      by_cases c3 : k < 5
      · rw [if_pos c3, if_neg (by omega : ¬ 5 ≤ k)]
        by_cases c4 : k = 2
        · rw [if_pos c4, if_pos c4]; rfl
        · rw [if_neg c4, if_neg c4]
          by_cases c5 : k = 3
          · rw [if_pos c5, if_pos c5]; rfl
          · rw [if_neg c5, if_neg c5]
            by_cases c6 : k = 4
            · rw [if_pos c6, if_pos c6]; rfl
            · rw [if_neg c6, if_neg c6]; rfl
      · rw [if_neg c3, if_pos (by omega : 5 ≤ k)]; rfl
    · rw [if_neg c2, if_pos (by omega : 11 ≤ k)]; rfl
  · rw [if_neg c1, if_pos (by omega : 13 ≤ k)]; rfl
/-- signs are bound -/
theorem tw_bind (d : Nat) (J : FJ_) (C : C_) {lo e : Nat} (he1 : 1 ≤ e) (he2 : e ≤ 6) : ∀ (W : List Nat) (L : List (Nat × Dn_)) (kr : Nat) (I : FI_), Cor lo W L kr I → L.length = binN W + 1 → (∃ f L', L = (kr - 1, f) :: L' ∧ lo < kr) →
    ∃ (I' : FI_) (W' : List Nat) (L' : List (Nat × Dn_)) (kr' : Nat), (Run_ (d, mT_bind, 0, [some (vR (1000, 0, 0)), some (vI (nI e)), none, none, none], [], (tw I J, C))) = some (.inl none, (tw I' J, C)) ∧ Cor lo W' L' kr' I' ∧ L'.length = binN W' + 1 ∧ (∃ f L2, L' = (kr' - 1, f) :: L2 ∧ lo < kr') ∧ bnd e W (L.map (·.2)) = (W', L'.map (·.2)) ∧ kr' + opsN W' = kr + opsN W ∧ zerN W' = zerN W ∧ tpR W' < e ∧ FrI (suC lo) I I' := by
  intro W
  induction W with
  | nil =>
    intro L kr I h hl ht
    refine ⟨I, [], L, kr, ?_, h, hl, ht, rfl, rfl, rfl, he1, FrI.rf _ _⟩
    have e1 : I 1000 45 = 0 := h.1.1
    have z : ((0 : Int32) < 0) = False := eq_false (by decide)
    rw [eT_bind_0]
    simp only [e1, z, ↓reduceIte, eT_bind_76]
  | cons k W ih =>
    intro L kr I h hl ht
    obtain ⟨⟨h45, hst, hW⟩, ⟨h46, hhs⟩, h20, ⟨hlo, hop, hz⟩, hb, hwf, hk⟩ := id h
    have hk14 := hW k List.mem_cons_self
    have hlen := len_oz (k :: W)
    have h45 : I 1000 45 = nI (W.length + 1) := h45
    have hlen : W.length + 1 = opsN (k :: W) + zerN (k :: W) := hlen
    have s1 : I 1024 W.length = nI k := hst.1
    have p0 : ((0 : Int32) < nI (W.length + 1)) = True := by
      have : ((0 : Int32) < nI (W.length + 1)) = (0 < W.length + 1) := nL_lt (n := 0) (by show 0 < 2147483648; omega) (by omega)
      rw [this]; exact eq_true (by omega)
    have hr0 : (Run_ (d, mT_bind, 0, [some (vR (1000, 0, 0)), some (vI (nI e)), none, none, none], [], (tw I J, C))) = (Run_ (d, mT_bind, 21, [some (vR (1000, 0, 0)), some (vI (nI e)), none, none, none], [vI (nI (rnk k))], (tw I J, C))) := by
      rw [eT_bind_0]
      simp (disch := omega) only [↓reduceIte, ↓qX_m, ↓qR_m, ↓cI_m, ↓cV_m, ↓cJ_m, ↓cO_m, ↓cR_m, ixq_n, ixq_l, tgq_ok, nL_mul, nR_mul, nL_add, nR_add, nL_sub, nR_sub, nI_add, pk_mul, nn_sub, ng1_0, ng1_1, an_0, an_1, i1_0, Nat.add_zero, Nat.zero_add, Nat.mul_one, Nat.mul_zero, hI_cg, hP_cg, hJ_cg, wI_cg, wP_cg, wJ_cg, h45, p0, Nat.add_sub_cancel, s1, tw_rank d I J C hk14.1]
    have hrk := rnk_le k
    by_cases c : rnk k < e
    · refine ⟨I, k :: W, L, kr, ?_, h, hl, ht, bnd_stop _ c, rfl, rfl, c, FrI.rf _ _⟩
      rw [hr0, eT_bind_21]
      simp (disch := omega) only [nn_lt, eq_true c, ↓reduceIte, eT_bind_76]
    · have k0 : k ≠ 0 := by
        intro z; subst z
        have : rnk 0 = 0 := rfl
        omega
      have hops : opsN (k :: W) = 1 + opsN W := by show (if k = 0 then 0 else 1) + opsN W = _; rw [if_neg k0]
      have hzer : zerN (k :: W) = zerN W := by show (if k = 0 then 1 else 0) + zerN W = _; rw [if_neg k0, Nat.zero_add]
      have hkr : kr < 64 := by omega
      have hWs : ∀ x ∈ W, x ≤ 14 ∧ x ≠ 1 := fun x hx => hW x (List.mem_cons_of_mem _ hx)
      have h96 : W.length < 96 := by omega
      have hbo := bin_ops W
      -- the heap with the sign taken off
      have g1 : ∀ x : Int32, stk (u2 (u2 I 1000 45 (nI W.length)) 1000 46 x 1024) W := fun x => stk_fr W hst.2 (fun i hi => by simp (disch := omega) only [u2_t])
      have g2 : ∀ x : Int32, rz (u2 (u2 I 1000 45 (nI W.length)) 1000 46 x) = fun t k => u2 (u2 I 1000 45 (nI W.length)) 1000 46 x t (64 + k) := fun x => rfl
      have g3 : ∀ (x : Int32) (t k : Nat), 1021 ≤ t → t ≤ 1023 → rz (u2 (u2 I 1000 45 (nI W.length)) 1000 46 x) t k = rz I t k := by
        intro x t k a b
        unfold rz
        simp (disch := omega) only [u2_t]
      have g4 : ∀ x : Int32, FrI (suC lo) I (u2 (u2 I 1000 45 (nI W.length)) 1000 46 x) := fun x => ((FrI.rf _ I).u (by unfold suC; omega)).u (by unfold suC; omega)
      by_cases k2 : k = 2
      · -- not
        have hbin : binN (k :: W) = binN W := by show (if k = 0 ∨ k = 2 then 0 else 1) + binN W = _; rw [if_pos (Or.inr k2), Nat.zero_add]
        obtain ⟨f, L0, hL, hlk⟩ := ht
        subst hL
        have h46 : I 1000 46 = nI (L0.length + 1) := h46
        have q1 : I 1025 L0.length = nI (kr - 1) := hhs.1
        have hll : L0.length + 1 = binN (k :: W) + 1 := hl
        have gr := Cor.grow (I := u2 (u2 I 1000 45 (nI W.length)) 1000 46 (nI L0.length)) (lo := lo) (kr := kr) (W := W) (L := L0) (L' := [(kr - 1, f)]) (g := dNot f) (a1 := nI 2) (a2 := nI (kr - 1)) (a3 := -1)
          ⟨by simp (disch := omega) only [u2_k, u2_s], g1 _, hWs⟩ (hsk_fr L0 hhs.2 (fun i hi => by simp (disch := omega) only [u2_t])) hlo (by omega) (by omega) (fun e he => hb e (List.mem_cons_of_mem _ he)) (fun j a b => kWf_cg (fun t a b => g3 _ t j a b) (hwf j a b))
          (HK.cg hk hlo (fun t k a b _ _ => g3 _ t k a b))
          (fun τ y1 y2 y3 => Or.inr (Or.inr (Or.inl ⟨y1, kr - 1, by omega, by omega, y2⟩)))
          (fun τ y1 y2 y3 nm v hv => by
            have hv : f nm = some (v (kr - 1)) := hv (kr - 1, f) List.mem_cons_self
            unfold kvS dNot
            rw [y1, y2, hv, nI_clamp (by omega)]
            rfl)
          (fun nm ⟨e, he, hn⟩ => by
            rcases List.mem_singleton.mp he with z
            subst z
            unfold dNot
            have hn : f nm = none := hn
            rw [hn]; rfl)
          tame_not
        obtain ⟨I', W', L', kr', r, a1, a2, a3, a4, a5, a6, a8, a7⟩ := ih _ _ _ gr (by show L0.length + 1 = _; omega) ⟨dNot f, L0, rfl, by omega⟩
        refine ⟨I', W', L', kr', ?_, a1, a2, a3, ?_, by omega, by omega, a8, (g4 _).tr ((gr_fr _ _ _ _ _ hlo).tr a7)⟩
        · rw [hr0, eT_bind_21]
          have k2' : (nI k = 2) = True := by rw [k2]; exact eq_true rfl
          have e20 : u2 (u2 I 1000 45 (nI W.length)) 1000 46 (nI L0.length) 1000 20 = nI kr := by simp (disch := omega) only [u2_k, h20]
          have gw := tw_grown d (u2 (u2 I 1000 45 (nI W.length)) 1000 46 (nI L0.length)) J C (nI 2) (nI (kr - 1)) (-1) hkr (by omega : L0.length < 96) e20 (u2_s ..)
          have gw : (Run_ (d, mT_grown, 0, [some (vR (1000, 0, 0)), some (vI 2), some (vI (nI (kr - 1))), some (vI (-1))], [], (tw (u2 (u2 I 1000 45 (nI W.length)) 1000 46 (nI L0.length)) J, C))) = _ := gw
          have k2n : nI k = 2 := by rw [k2]; rfl
          simp (disch := omega) only [nn_lt, c, ↓reduceIte, ↓qX_m, ↓qR_m, ↓cI_m, ↓cV_m, ↓cJ_m, ↓cO_m, ↓cR_m, ixq_n, ixq_l, tgq_ok, nL_mul, nR_mul, nL_add, nR_add, nL_sub, nR_sub, nI_add, pk_mul, nn_sub, ng1_0, ng1_1, an_0, an_1, i1_0, Nat.add_zero, Nat.zero_add, Nat.mul_one, Nat.mul_zero, hI_cg, hP_cg, hJ_cg, wI_cg, wP_cg, wJ_cg, h45, Nat.add_sub_cancel, u2_s, u2_t, s1, k2n, eT_bind_58, eT_dropHeld_0, u2_k, h46, q1, eT_bind_63, gw, eT_bind_73]
          exact r
        · rw [k2]
          show bnd e (2 :: W) (f :: L0.map (·.2)) = _
          rw [bnd_not _ _ _ (by have : rnk 2 = 3 := rfl
                                rw [k2] at c; omega)]
          exact a4
      · -- two
        have hbin : binN (k :: W) = 1 + binN W := by show (if k = 0 ∨ k = 2 then 0 else 1) + binN W = _; rw [if_neg (by omega)]
        obtain ⟨f2, L1, hL, hlk⟩ := ht
        subst hL
        have hll : L1.length + 1 = binN (k :: W) + 1 := hl
        cases L1 with
        | nil => have hll : 0 + 1 = binN (k :: W) + 1 := hll; omega
        | cons e1 L0 =>
          have hll : L0.length + 1 + 1 = binN (k :: W) + 1 := hll
          have h46 : I 1000 46 = nI (L0.length + 1 + 1) := h46
          have q2 : I 1025 (L0.length + 1) = nI (kr - 1) := hhs.1
          have q1 : I 1025 L0.length = nI e1.1 := hhs.2.1
          have b1 := hb e1 (List.mem_cons_of_mem _ List.mem_cons_self)
          have b2 := hb (kr - 1, f2) List.mem_cons_self
          have gr := Cor.grow (I := u2 (u2 I 1000 45 (nI W.length)) 1000 46 (nI L0.length)) (lo := lo) (kr := kr) (W := W) (L := L0) (L' := [(kr - 1, f2), e1]) (g := dTwo k e1.2 f2) (a1 := nI k) (a2 := nI e1.1) (a3 := nI (kr - 1))
            ⟨by simp (disch := omega) only [u2_k, u2_s], g1 _, hWs⟩ (hsk_fr L0 hhs.2.2 (fun i hi => by simp (disch := omega) only [u2_t])) hlo (by omega) (by omega) (fun e he => hb e (List.mem_cons_of_mem _ (List.mem_cons_of_mem _ he))) (fun j a b => kWf_cg (fun t a b => g3 _ t j a b) (hwf j a b))
            (HK.cg hk hlo (fun t k a b _ _ => g3 _ t k a b))
            (fun τ y1 y2 y3 => Or.inr (Or.inr (Or.inr ⟨k, e1.1, kr - 1, by omega, hk14.1, b1.1, b1.2.1, by omega, by omega, y1, y2, y3⟩)))
            (fun τ y1 y2 y3 nm v hv => by
              have hv2 := hv (kr - 1, f2) List.mem_cons_self
              have hv1 := hv e1 (List.mem_cons_of_mem _ List.mem_cons_self)
              have hv2 : f2 nm = some (v (kr - 1)) := hv2
              have b11 := b1.2.1
              unfold kvS dTwo
              rw [y1, y2, y3, hv1, hv2, nI_clamp (by omega), nI_clamp (by omega), nI_clamp (by omega)]
              have z0 : ¬ nI k = 0 := by rw [show (0 : Int32) = nI 0 from rfl, nn_eq (by omega) (by omega)]; exact k0
              have z1 : ¬ nI k = 1 := by rw [show (1 : Int32) = nI 1 from rfl, nn_eq (by omega) (by omega)]; exact hk14.2
              have z2 : ¬ nI k = 2 := by rw [show (2 : Int32) = nI 2 from rfl, nn_eq (by omega) (by omega)]; exact k2
              rw [if_neg z0, if_neg z1, if_neg z2]
              rfl)
            (fun nm ⟨e, he, hn⟩ => by
              unfold dTwo
              rcases List.mem_cons.mp he with z | z
              · subst z
                have hn : f2 nm = none := hn
                rw [hn]
                cases e1.2 nm <;> rfl
              · rcases List.mem_singleton.mp z with z
                subst z
                rw [hn]; rfl)
            (tame_two b1.2.2 b2.2.2)
          obtain ⟨I', W', L', kr', r, a1, a2, a3, a4, a5, a6, a8, a7⟩ := ih _ _ _ gr (by show L0.length + 1 = _; omega) ⟨dTwo k e1.2 f2, L0, rfl, by omega⟩
          refine ⟨I', W', L', kr', ?_, a1, a2, a3, ?_, by omega, by omega, a8, (g4 _).tr ((gr_fr _ _ _ _ _ hlo).tr a7)⟩
          · rw [hr0, eT_bind_21]
            have k2' : ¬ nI k = 2 := by rw [show (2 : Int32) = nI 2 from rfl, nn_eq (by omega) (by omega)]; exact k2
            have e20 : u2 (u2 I 1000 45 (nI W.length)) 1000 46 (nI L0.length) 1000 20 = nI kr := by simp (disch := omega) only [u2_k, h20]
            have gw := tw_grown d (u2 (u2 I 1000 45 (nI W.length)) 1000 46 (nI L0.length)) J C (nI k) (nI e1.1) (nI (kr - 1)) hkr (by omega : L0.length < 96) e20 (u2_s ..)
            simp (disch := omega) only [nn_lt, c, ↓reduceIte, ↓qX_m, ↓qR_m, ↓cI_m, ↓cV_m, ↓cJ_m, ↓cO_m, ↓cR_m, ixq_n, ixq_l, tgq_ok, nL_mul, nR_mul, nL_add, nR_add, nL_sub, nR_sub, nI_add, pk_mul, nn_sub, ng1_0, ng1_1, an_0, an_1, i1_0, Nat.add_zero, Nat.zero_add, Nat.mul_one, Nat.mul_zero, hI_cg, hP_cg, hJ_cg, wI_cg, wP_cg, wJ_cg, h45, Nat.add_sub_cancel, u2_s, u2_t, s1, k2', eT_bind_58, eT_dropHeld_0, u2_k, h46, q1, q2, u2_u2, eT_bind_63, gw, eT_bind_73]
            exact r
          · show bnd e (k :: W) (f2 :: e1.2 :: L0.map (·.2)) = _
            rw [bnd_two _ _ _ _ (by omega) k2]
            exact a4
