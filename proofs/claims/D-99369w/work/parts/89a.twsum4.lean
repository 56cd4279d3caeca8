/-! THE TWIN's sums: every step -/
variable {b : Nat → Nat} {n : Nat}
theorem TSy.tok {lo p br c : Nat} {w mn : Bool} {W : List Nat} {H : List Dn_} {I : FI_} (d : Nat) (J : FJ_) (C : C_) (hn : n ≤ 700) (h256 : ∀ k, b k < 256) (h : TSy b n lo p w mn br c W H I) : ∃ I' : FI_, (Run_ (d, mT_token, 0, [some (vR (1000, 0, 0))], [], (tw I J, C))) = some (.inl none, (tw I' J, C)) ∧ TSy b n lo (tkN b n p) w mn br c W H I' ∧ FrI (suF lo) I I' := by
  obtain ⟨ht, L, kr, hH, hC, ⟨h47, hz⟩, ⟨h48, hc⟩, h49, h50, hl, hw⟩ := h
  obtain ⟨I', r, f, ht'⟩ := ht.next d J C hn h256
  have g : ∀ k, (k = 47 ∨ k = 48 ∨ k = 49 ∨ k = 50) → I' 1000 k = I 1000 k := fun k q => f _ _ (by unfold tk4; omega)
  exact ⟨I', r, ⟨ht', L, kr, hH, hC.fr (fun t k q => f _ _ (by unfold suC at q; unfold tk4; omega)), ⟨(g _ (by omega)).trans h47, hz⟩, ⟨(g _ (by omega)).trans h48, hc⟩, (g _ (by omega)).trans h49, (g _ (by omega)).trans h50, hl, hw⟩, f.wk (tk_su lo)⟩
/-- how a step of the twin ends -/
def TStp (b : Nat → Nat) (n lo : Nat) (r : So_) (J : FJ_) (C : C_) (I : FI_) (z : Option Z_) : Prop := match r with
  | .inl e => ∃ I' : FI_, z = some (.inl (some (vI 0)), (tw I' J, C)) ∧ (I' 1000 4 = nI e.1 ∧ I' 1000 5 = nI e.2) ∧ FrI (suF lo) I I'
  | .inr (p, w, mn, br, c, W, H) => ∃ I' : FI_, z = some (.inl (some (vI 1)), (tw I' J, C)) ∧ TSy b n lo p w mn br c W H I' ∧ FrI (suF lo) I I'
theorem tw_countN (d : Nat) (I : FI_) (J : FJ_) (C : C_) (h : I 1000 48 = nI 64) : (Run_ (d, mT_isCounted, 0, [some (vR (1000, 0, 0))], [], (tw I J, C))) = some (.inl (some (vI 0)), (tw (wrI I 2) J, C)) := by
  have h : I 1000 48 = 64 := h
  have r : (Run_ (d, mT_wrong, 0, [some (vR (1000, 0, 0)), some (vI 2)], [], (tw I J, C))) = _ := tw_wrong d I J C 2
  rw [eT_isCounted_0]
  simp (disch := omega) only [↓reduceIte, ↓qX_m, ↓qR_m, ↓cI_m, ↓cV_m, ↓cJ_m, ↓cO_m, ↓cR_m, ixq_n, ixq_l, tgq_ok, nL_mul, nR_mul, nL_add, nR_add, nL_sub, nR_sub, nI_add, pk_mul, nn_sub, ng1_0, ng1_1, an_0, an_1, i1_0, Nat.add_zero, Nat.zero_add, Nat.mul_one, Nat.mul_zero, hI_cg, hP_cg, hJ_cg, wI_cg, wP_cg, wJ_cg, h, r, eT_isCounted_14]
theorem tw_countY (d : Nat) (I : FI_) (J : FJ_) (C : C_) {c : Nat} (h : I 1000 48 = nI c) (hc : c < 64) : (Run_ (d, mT_isCounted, 0, [some (vR (1000, 0, 0))], [], (tw I J, C))) = some (.inl (some (vI 1)), (tw (u2 I 1000 48 (nI (c + 1))) J, C)) := by
  have c' : ¬ c = 64 := by omega
  rw [eT_isCounted_0]
  simp (disch := omega) only [↓reduceIte, ↓qX_m, ↓qR_m, ↓cI_m, ↓cV_m, ↓cJ_m, ↓cO_m, ↓cR_m, ixq_n, ixq_l, tgq_ok, nL_mul, nR_mul, nL_add, nR_add, nL_sub, nR_sub, nI_add, pk_mul, nn_sub, ng1_0, ng1_1, an_0, an_1, i1_0, Nat.add_zero, Nat.zero_add, Nat.mul_one, Nat.mul_zero, hI_cg, hP_cg, hJ_cg, wI_cg, wP_cg, wJ_cg, h, nR_eq, c']
theorem tw_nameMet {p : Nat} {I : FI_} (d : Nat) (J : FJ_) (C : C_) (h : TTk b n p I) : (Run_ (d, mT_nameMet, 0, [some (vR (1000, 0, 0))], [], (tw I J, C))) = some (.inl (some (vI (if tkK b n p = 1 ∧ 14 ≤ tkW b n p then nI (tkW b n p - 14) else -1))), (tw I J, C)) := by
  have c4 : ∀ x : Int32, ¬ x = 1 → ∀ X Y : Option Z_, (if x = 1 then X else Y) = Y := fun x hx X Y => if_neg hx
  simp (disch := omega) only [eT_nameMet_0, eT_nameMet_27, eT_nameMet_28]
  rcases h.2.2.2.2 with ⟨k, e⟩ | ⟨k, e, w, w1, w2, w3⟩ | ⟨k, e, -⟩ | ⟨k, e, -⟩ | ⟨k, e, e2⟩ | ⟨k, e, -⟩ | ⟨k, e | ⟨e, e2⟩⟩
  · rw [e, c4 _ (by decide), if_neg (by omega)]
  · have sw : tkW b n p = w := by unfold tkW; rw [w2]; exact nI_clamp (by omega)
    have l1 := swp_lt w w1
    have hs : swp w = if w = 11 then 12 else if w = 12 then 11 else w := rfl
    rw [e, if_pos rfl, w3, sw]
    simp (disch := omega) only [nR_lt]
    by_cases z : 14 ≤ w
    · have hs2 : swp w = w := by rw [hs, if_neg (by omega), if_neg (by omega)]
      rw [hs2, if_neg (by omega), if_pos ⟨k, z⟩]
      simp (disch := omega) only [nR_sub]
    · have hs2 : swp w < 14 := by rw [hs]; split <;> (try split) <;> omega
      rw [if_pos hs2, if_neg (fun y => z y.2)]
  · rw [e, c4 _ (by decide), if_neg (by omega)]
  · rw [e, c4 _ (by decide), if_neg (by omega)]
  · rw [e, c4 _ (by decide), if_neg (by omega)]
  · rw [e, c4 _ (by decide), if_neg (by omega)]
  · rw [e, c4 _ (by decide), if_neg (by omega)]
  · rw [e, c4 _ (by decide), if_neg (by omega)]
theorem TTk.u {p : Nat} {I : FI_} (h : TTk b n p I) (k : Nat) (x : Int32) (hk : k < 6 ∨ 10 < k) : TTk b n p (u2 I 1000 k x) := h.fr (fun t j q => by rw [u2_ap, if_neg (by omega)])
theorem Cor.u {lo kr : Nat} {W : List Nat} {L : List (Nat × Dn_)} {I : FI_} (h : Cor lo W L kr I) (k : Nat) (x : Int32) (hk : k ≠ 20 ∧ k ≠ 45 ∧ k ≠ 46) : Cor lo W L kr (u2 I 1000 k x) := h.fr (fun t j q => by rw [u2_ap, if_neg (by unfold suC at q; omega)])
theorem TTk.wt {p : Nat} {I : FI_} (h : TTk b n p I) (W : List Nat) (k : Nat) : TTk b n p (wtI I W k) := h.fr (fun t j q => by unfold wtI; rw [u2_ap, u2_ap, if_neg (by omega), if_neg (by omega)])
theorem wt_k (I : FI_) (W : List Nat) (k j : Nat) (hj : j ≠ 45) : wtI I W k 1000 j = I 1000 j := by unfold wtI; rw [u2_k _ _ _ _ hj, u2_t _ _ _ _ (by omega)]
theorem TTk.gr {p : Nat} {I : FI_} (h : TTk b n p I) (kr m : Nat) (a1 a2 a3 : Int32) : TTk b n p (grI I kr m a1 a2 a3) := h.fr (fun t j q => by
  unfold grI
  simp only [u2_ap]
  rw [if_neg (by omega), if_neg (by omega), if_neg (by omega), if_neg (by omega), if_neg (by omega), if_neg (by omega)])
theorem gr_k (I : FI_) (kr m : Nat) (a1 a2 a3 : Int32) (j : Nat) (hj : j ≠ 46 ∧ j ≠ 20) : grI I kr m a1 a2 a3 1000 j = I 1000 j := by
  unfold grI
  simp (disch := omega) only [u2_k, u2_t]
theorem tw_leaf {lo p br c : Nat} {mn : Bool} {W : List Nat} {H : List Dn_} {I : FI_} (d : Nat) (J : FJ_) (C : C_) (hn : n ≤ 700) (h256 : ∀ k, b k < 256) (h : TSy b n lo p true mn br c W H I) : TStp b n lo (syLeaf (tkK b n) (tkW b n) (tkN b n) (tkP b n) p mn br c W H) J C I (Run_ (d, mT_leafRead, 0, [some (vR (1000, 0, 0)), none], [], (tw I J, C))) := by
  obtain ⟨ht, L, kr, hH, hC, ⟨h47, hz, hbr⟩, ⟨h48, hc, hc64⟩, h49, h50, hl, -⟩ := h
  have hlen := len_oz W
  have hbo := bin_ops W
  have hl : L.length = binN W := hl
  have h45 := hC.1.1
  have hW72 : W.length < 96 := by omega
  have s40 : (Run_ (d, mT_isSign, 0, [some (vR (1000, 0, 0)), some (vI 40)], [], (tw I J, C))) = _ := tw_isSign d J C h256 ht (c := 40) rfl
  have k13 : (Run_ (d, mT_isKey, 0, [some (vR (1000, 0, 0)), some (vI 13)], [], (tw I J, C))) = _ := tw_isKey d J C h256 ht (x := 13) (by omega)
  unfold syLeaf
  by_cases c1 : tkK b n p = 4 ∧ tkW b n p = 40
  · rw [if_pos c1]
    rw [decide_eq_true c1] at s40
    by_cases c8 : br = 8
    · rw [if_pos c8]
      have w2 : (Run_ (d, mT_wrong, 0, [some (vR (1000, 0, 0)), some (vI 2)], [], (tw I J, C))) = _ := tw_wrong d I J C 2
      have h47 : I 1000 47 = 8 := by rw [h47, c8]; rfl
      refine ⟨wrI I 2, ?_, wr_ft ht 2, wr_fr lo I 2⟩
      rw [eT_leafRead_0]
      simp (disch := omega) only [↓reduceIte, ↓qX_m, ↓qR_m, ↓cI_m, ↓cV_m, ↓cJ_m, ↓cO_m, ↓cR_m, ixq_n, ixq_l, tgq_ok, nL_mul, nR_mul, nL_add, nR_add, nL_sub, nR_sub, nI_add, pk_mul, nn_sub, ng1_0, ng1_1, an_0, an_1, i1_0, Nat.add_zero, Nat.zero_add, Nat.mul_one, Nat.mul_zero, hI_cg, hP_cg, hJ_cg, wI_cg, wP_cg, wJ_cg, s40, bI_1, eT_leafRead_6, h47, w2, eT_leafRead_23]
    · rw [if_neg c8]
      have q1 : Cor lo W L kr (u2 I 1000 47 (nI (br + 1))) := hC.u _ _ (by omega)
      have q2 := q1.wait (k := 0) (by omega) (by show kr + (0 + opsN W) ≤ 64; omega) (by show 1 + zerN W ≤ 8; omega)
      have q3 := q2.u 50 1 (by omega)
      have t3 := ((ht.u 47 (nI (br + 1)) (by omega)).wt W 0).u 50 1 (by omega)
      have wt : (Run_ (d, mT_waitsFor, 0, [some (vR (1000, 0, 0)), some (vI 0)], [], (tw (u2 I 1000 47 (nI (br + 1))) J, C))) = _ := tw_waits d (u2 I 1000 47 (nI (br + 1))) J C (W := W) 0 q1.1.1 hW72
      have sy : TSy b n lo p true true (br + 1) c (0 :: W) H (u2 (wtI (u2 I 1000 47 (nI (br + 1))) W 0) 1000 50 1) := by
        refine ⟨t3, L, kr, hH, q3, ⟨?_, by show 1 + zerN W = _; omega, by omega⟩, ⟨?_, by show kr + (0 + opsN W) = _; omega, hc64⟩, ?_, u2_s .., by show L.length = (0 + binN W) + 0; omega, fun z => Bool.noConfusion z⟩
        · rw [u2_k _ _ _ _ (by omega), wt_k _ _ _ _ (by omega), u2_s]
        · rw [u2_k _ _ _ _ (by omega), wt_k _ _ _ _ (by omega), u2_k _ _ _ _ (by omega)]; exact h48
        · rw [u2_k _ _ _ _ (by omega), wt_k _ _ _ _ (by omega), u2_k _ _ _ _ (by omega)]; exact h49
      obtain ⟨I', r, sy', f⟩ := sy.tok d J C hn h256
      refine ⟨I', ?_, sy', ((FrI.rf _ I).u (by unfold suF; omega)).tr ((wt_fr lo _ W 0).tr (((FrI.rf _ _).u (by unfold suF; omega)).tr f))⟩
      have n8 : ¬ br = 8 := c8
      rw [eT_leafRead_0]
      simp (disch := omega) only [↓reduceIte, ↓qX_m, ↓qR_m, ↓cI_m, ↓cV_m, ↓cJ_m, ↓cO_m, ↓cR_m, ixq_n, ixq_l, tgq_ok, nL_mul, nR_mul, nL_add, nR_add, nL_sub, nR_sub, nI_add, pk_mul, nn_sub, ng1_0, ng1_1, an_0, an_1, i1_0, Nat.add_zero, Nat.zero_add, Nat.mul_one, Nat.mul_zero, hI_cg, hP_cg, hJ_cg, wI_cg, wP_cg, wJ_cg, s40, bI_1, eT_leafRead_6, h47, nR_eq, n8, wt, eT_leafRead_39, r, eT_leafRead_48]
  · rw [if_neg c1]
    rw [decide_eq_false c1] at s40
    by_cases c2 : tkK b n p = 1 ∧ tkW b n p = 13 ∧ mn = true
    · rw [if_pos c2]
      obtain ⟨c2a, c2b, c2c⟩ := c2
      subst c2c
      have k13 := k13
      rw [decide_eq_true (⟨c2a, c2b⟩ : tkK b n p = 1 ∧ tkW b n p = swp 13)] at k13
      have h50 : I 1000 50 = 1 := h50
      by_cases c64 : c = 64
      · rw [if_pos c64]
        have ct := tw_countN d I J C (by rw [h48, c64])
        refine ⟨wrI I 2, ?_, wr_ft ht 2, wr_fr lo I 2⟩
        rw [eT_leafRead_0]
        simp (disch := omega) only [↓reduceIte, ↓qX_m, ↓qR_m, ↓cI_m, ↓cV_m, ↓cJ_m, ↓cO_m, ↓cR_m, ixq_n, ixq_l, tgq_ok, nL_mul, nR_mul, nL_add, nR_add, nL_sub, nR_sub, nI_add, pk_mul, nn_sub, ng1_0, ng1_1, an_0, an_1, i1_0, Nat.add_zero, Nat.zero_add, Nat.mul_one, Nat.mul_zero, hI_cg, hP_cg, hJ_cg, wI_cg, wP_cg, wJ_cg, s40, bI_0, bI_1, eT_leafRead_6, k13, eT_leafRead_56, h50, ct, eT_leafRead_70]
      · rw [if_neg c64]
        have ct := tw_countY d I J C h48 (by omega)
        have q1 : Cor lo W L kr (u2 I 1000 48 (nI (c + 1))) := hC.u _ _ (by omega)
        have q2 := q1.wait (k := 2) (by omega) (by show kr + (1 + opsN W) ≤ 64; omega) (by show 0 + zerN W ≤ 8; omega)
        have t3 := (ht.u 48 (nI (c + 1)) (by omega)).wt W 2
        have wt : (Run_ (d, mT_waitsFor, 0, [some (vR (1000, 0, 0)), some (vI 2)], [], (tw (u2 I 1000 48 (nI (c + 1))) J, C))) = _ := tw_waits d (u2 I 1000 48 (nI (c + 1))) J C (W := W) 2 q1.1.1 hW72
        have sy : TSy b n lo p true true br (c + 1) (2 :: W) H (wtI (u2 I 1000 48 (nI (c + 1))) W 2) := by
          refine ⟨t3, L, kr, hH, q2, ⟨?_, by show 0 + zerN W = _; omega, by omega⟩, ⟨?_, by show kr + (1 + opsN W) = _; omega, by omega⟩, ?_, ?_, by show L.length = (0 + binN W) + 0; omega, fun z => Bool.noConfusion z⟩
          · rw [wt_k _ _ _ _ (by omega), u2_k _ _ _ _ (by omega)]; exact h47
          · rw [wt_k _ _ _ _ (by omega), u2_s]
          · rw [wt_k _ _ _ _ (by omega), u2_k _ _ _ _ (by omega)]; exact h49
          · rw [wt_k _ _ _ _ (by omega), u2_k _ _ _ _ (by omega)]; exact h50
        obtain ⟨I', r, sy', f⟩ := sy.tok d J C hn h256
        refine ⟨I', ?_, sy', ((FrI.rf _ I).u (by unfold suF; omega)).tr ((wt_fr lo _ W 2).tr f)⟩
        rw [eT_leafRead_0]
        simp (disch := omega) only [↓reduceIte, ↓qX_m, ↓qR_m, ↓cI_m, ↓cV_m, ↓cJ_m, ↓cO_m, ↓cR_m, ixq_n, ixq_l, tgq_ok, nL_mul, nR_mul, nL_add, nR_add, nL_sub, nR_sub, nI_add, pk_mul, nn_sub, ng1_0, ng1_1, an_0, an_1, i1_0, Nat.add_zero, Nat.zero_add, Nat.mul_one, Nat.mul_zero, hI_cg, hP_cg, hJ_cg, wI_cg, wP_cg, wJ_cg, s40, bI_0, bI_1, eT_leafRead_6, k13, eT_leafRead_56, h50, ct, eT_leafRead_70, wt, eT_leafRead_80, r, eT_leafRead_84]
    · rw [if_neg c2]
      have h86 : (Run_ (d, mT_leafRead, 0, [some (vR (1000, 0, 0)), none], [], (tw I J, C))) = (Run_ (d, mT_leafRead, 86, [some (vR (1000, 0, 0)), none], [], (tw I J, C))) := by
        rw [eT_leafRead_0]
        simp (disch := omega) only [↓reduceIte, ↓qX_m, ↓qR_m, ↓cI_m, ↓cV_m, ↓cJ_m, ↓cO_m, ↓cR_m, ixq_n, ixq_l, tgq_ok, nL_mul, nR_mul, nL_add, nR_add, nL_sub, nR_sub, nI_add, pk_mul, nn_sub, ng1_0, ng1_1, an_0, an_1, i1_0, Nat.add_zero, Nat.zero_add, Nat.mul_one, Nat.mul_zero, hI_cg, hP_cg, hJ_cg, wI_cg, wP_cg, wJ_cg, s40, bI_0, eT_leafRead_6, k13, eT_leafRead_56]
        by_cases z : tkK b n p = 1 ∧ tkW b n p = swp 13
        · have z3 : mn = false := by
            cases mn with
            | false => rfl
            | true => exact absurd ⟨z.1, z.2, rfl⟩ c2
          subst z3
          have h50 : I 1000 50 = 0 := h50
          rw [decide_eq_true z]
          simp only [bI_1, i1_0, h50, ↓reduceIte]
        · rw [decide_eq_false z]
          simp only [bI_0, ↓reduceIte]
      have nm := tw_nameMet d J C ht
      have hf := tk_f (n := n) h256 p
      have m1 : ((-1 : Int32) < 0) = True := eq_true (by decide)
      -- a leaf that is counted
      have leaf : ∀ (a1 a2 : Int32) (g : Dn_), c < 64 → (∀ τ : Tx_, τ 1021 kr = a1 → τ 1022 kr = a2 → τ 1023 kr = 0 → kWf τ lo kr) → (∀ τ : Tx_, τ 1021 kr = a1 → τ 1022 kr = a2 → τ 1023 kr = 0 → ∀ nm v, kvS τ nm v kr = g nm) → Tame g →
          ∃ I' : FI_, (Run_ (d, mT_leafRead, 160, [some (vR (1000, 0, 0)), none], [vI a2, vI a1, vR (1000, 0, 0)], (tw (u2 I 1000 48 (nI (c + 1))) J, C))) = some (.inl (some (vI 1)), (tw I' J, C)) ∧ TSy b n lo (tkN b n p) false mn br (c + 1) W (g :: H) I' ∧ FrI (suF lo) I I' := by
        intro a1 a2 g hc2 hkw hg hT
        have q1 : Cor lo W L kr (u2 I 1000 48 (nI (c + 1))) := hC.u _ _ (by omega)
        obtain ⟨y1, ⟨y2, y3⟩, y4, ⟨y5, y6, y7⟩, y8, y9, y10⟩ := id q1
        have gr := Cor.grow (L' := []) (g := g) (a1 := a1) (a2 := a2) (a3 := 0) y1 y3 y5 (by omega) y7 y8 y9 y10 hkw (fun τ x1 x2 x3 nm v _ => hg τ x1 x2 x3 nm v) (fun nm ⟨e, he, _⟩ => by cases he) hT
        have gw := tw_grown d (u2 I 1000 48 (nI (c + 1))) J C (kr := kr) (m := L.length) a1 a2 0 (by omega) (by omega) y4 y2
        have sy : TSy b n lo p false mn br (c + 1) W (g :: H) (u2 (grI (u2 I 1000 48 (nI (c + 1))) kr L.length a1 a2 0) 1000 49 0) := by
          refine ⟨((ht.u 48 (nI (c + 1)) (by omega)).gr kr L.length a1 a2 0).u 49 0 (by omega), (kr, g) :: L, kr + 1, by show g :: L.map (·.2) = _; rw [hH], gr.u _ _ (by omega), ⟨?_, hz, hbr⟩, ⟨?_, by omega, by omega⟩, u2_s .., ?_, by show L.length + 1 = binN W + 1; omega, fun _ => ⟨g, L, rfl, by omega⟩⟩
          · rw [u2_k _ _ _ _ (by omega), gr_k _ _ _ _ _ _ _ (by omega), u2_k _ _ _ _ (by omega)]; exact h47
          · rw [u2_k _ _ _ _ (by omega), gr_k _ _ _ _ _ _ _ (by omega), u2_s]
          · rw [u2_k _ _ _ _ (by omega), gr_k _ _ _ _ _ _ _ (by omega), u2_k _ _ _ _ (by omega)]; exact h50
        obtain ⟨I', r, sy', f⟩ := sy.tok d J C hn h256
        refine ⟨I', ?_, sy', ((FrI.rf _ I).u (by unfold suF; omega)).tr (((gr_fr _ _ _ _ _ y5).wk (S' := suF lo) (fun t k q => Or.inl q)).tr (((FrI.rf _ _).u (by unfold suF; omega)).tr f))⟩
        rw [eT_leafRead_160]
        simp (disch := omega) only [↓reduceIte, ↓qX_m, ↓qR_m, ↓cI_m, ↓cV_m, ↓cJ_m, ↓cO_m, ↓cR_m, ixq_n, ixq_l, tgq_ok, nL_mul, nR_mul, nL_add, nR_add, nL_sub, nR_sub, nI_add, pk_mul, nn_sub, ng1_0, ng1_1, an_0, an_1, i1_0, Nat.add_zero, Nat.zero_add, Nat.mul_one, Nat.mul_zero, hI_cg, hP_cg, hJ_cg, wI_cg, wP_cg, wJ_cg, gw, eT_leafRead_164, r, eT_leafRead_173]
      rw [h86, eT_leafRead_86]
      by_cases c3 : tkK b n p = 3
      · rw [if_pos c3]
        obtain ⟨v, v1, v2⟩ := hf.2.1 c3
        have sw : tkW b n p = v := by unfold tkW; rw [v2]; exact nI_clamp (by omega)
        have e8 : I 1000 8 = 3 ∧ I 1000 9 = nI v := by
          rcases ht.2.2.2.2 with ⟨k, e⟩ | ⟨k, -⟩ | ⟨k, -⟩ | ⟨k, e, e2⟩ | ⟨k, -⟩ | ⟨k, -⟩ | ⟨k, -⟩
          · omega
          · omega
          · omega
          · exact ⟨e, e2.trans v2⟩
          · omega
          · omega
          · omega
        rw [if_neg (by omega)] at nm
        rw [sw]
        by_cases c9 : 9999 < v
        · rw [if_pos c9]
          have w2 : (Run_ (d, mT_wrong, 0, [some (vR (1000, 0, 0)), some (vI 2)], [], (tw I J, C))) = _ := tw_wrong d I J C 2
          refine ⟨wrI I 2, ?_, wr_ft ht 2, wr_fr lo I 2⟩
          simp (disch := omega) only [↓reduceIte, ↓qX_m, ↓qR_m, ↓cI_m, ↓cV_m, ↓cJ_m, ↓cO_m, ↓cR_m, ixq_n, ixq_l, tgq_ok, nL_mul, nR_mul, nL_add, nR_add, nL_sub, nR_sub, nI_add, pk_mul, nn_sub, ng1_0, ng1_1, an_0, an_1, i1_0, Nat.add_zero, Nat.zero_add, Nat.mul_one, Nat.mul_zero, hI_cg, hP_cg, hJ_cg, wI_cg, wP_cg, wJ_cg, nm, eT_leafRead_90, m1, e8.1, eT_leafRead_109, e8.2, nL_lt, eq_true c9, w2, eT_leafRead_128]
        · rw [if_neg c9]
          by_cases c64 : c = 64
          · rw [if_pos c64]
            have ct := tw_countN d I J C (by rw [h48, c64])
            refine ⟨wrI I 2, ?_, wr_ft ht 2, wr_fr lo I 2⟩
            simp (disch := omega) only [↓reduceIte, ↓qX_m, ↓qR_m, ↓cI_m, ↓cV_m, ↓cJ_m, ↓cO_m, ↓cR_m, ixq_n, ixq_l, tgq_ok, nL_mul, nR_mul, nL_add, nR_add, nL_sub, nR_sub, nI_add, pk_mul, nn_sub, ng1_0, ng1_1, an_0, an_1, i1_0, Nat.add_zero, Nat.zero_add, Nat.mul_one, Nat.mul_zero, hI_cg, hP_cg, hJ_cg, wI_cg, wP_cg, wJ_cg, nm, eT_leafRead_90, m1, e8.1, eT_leafRead_109, e8.2, nL_lt, c9, eT_leafRead_129, ct, eT_leafRead_133]
          · rw [if_neg c64]
            have ct := tw_countY d I J C h48 (by omega)
            obtain ⟨I', r, sy', f⟩ := leaf 0 (nI v) (dNum (nI v)) (by omega) (fun τ x1 x2 x3 => Or.inl x1) (fun τ x1 x2 x3 nm v => by unfold kvS dNum; rw [x1, x2, if_pos rfl]) (tame_num (by omega))
            refine ⟨I', ?_, sy', f⟩
            have e9 : u2 I 1000 48 (nI (c + 1)) 1000 9 = nI v := by rw [u2_k _ _ _ _ (by omega)]; exact e8.2
            simp (disch := omega) only [↓reduceIte, ↓qX_m, ↓qR_m, ↓cI_m, ↓cV_m, ↓cJ_m, ↓cO_m, ↓cR_m, ixq_n, ixq_l, tgq_ok, nL_mul, nR_mul, nL_add, nR_add, nL_sub, nR_sub, nI_add, pk_mul, nn_sub, ng1_0, ng1_1, an_0, an_1, i1_0, Nat.add_zero, Nat.zero_add, Nat.mul_one, Nat.mul_zero, hI_cg, hP_cg, hJ_cg, wI_cg, wP_cg, wJ_cg, nm, eT_leafRead_90, m1, e8.1, eT_leafRead_109, e8.2, nL_lt, c9, eT_leafRead_129, ct, eT_leafRead_133, eT_leafRead_148, e9]
            exact r
      · rw [if_neg c3]
        by_cases c4 : tkK b n p = 1 ∧ 14 ≤ tkW b n p
        · rw [if_pos c4]
          rw [if_pos c4] at nm
          obtain ⟨w, w1, w2⟩ := hf.1 c4.1
          have sw : tkW b n p = w := by unfold tkW; rw [w2]; exact nI_clamp (by omega)
          have c4' := c4.2
          rw [sw] at nm c4' ⊢
          have m2 : (nI (w - 14) < 0) = False := nI_lt0 (by omega)
          by_cases c64 : c = 64
          · rw [if_pos c64]
            have ct := tw_countN d I J C (by rw [h48, c64])
            refine ⟨wrI I 2, ?_, wr_ft ht 2, wr_fr lo I 2⟩
            simp (disch := omega) only [↓reduceIte, ↓qX_m, ↓qR_m, ↓cI_m, ↓cV_m, ↓cJ_m, ↓cO_m, ↓cR_m, ixq_n, ixq_l, tgq_ok, nL_mul, nR_mul, nL_add, nR_add, nL_sub, nR_sub, nI_add, pk_mul, nn_sub, ng1_0, ng1_1, an_0, an_1, i1_0, Nat.add_zero, Nat.zero_add, Nat.mul_one, Nat.mul_zero, hI_cg, hP_cg, hJ_cg, wI_cg, wP_cg, wJ_cg, nm, eT_leafRead_90, m2, eT_leafRead_109, eT_leafRead_129, ct, eT_leafRead_133]
          · rw [if_neg c64]
            have ct := tw_countY d I J C h48 (by omega)
            obtain ⟨I', r, sy', f⟩ := leaf 1 (nI (w - 14)) (dNam (w - 14)) (by omega) (fun τ x1 x2 x3 => Or.inr (Or.inl ⟨x1, w - 14, by omega, x2⟩)) (fun τ x1 x2 x3 nm v => by unfold kvS dNam; rw [x1, x2, nI_clamp (by omega)]; rfl) (tame_nam _)
            refine ⟨I', ?_, sy', f⟩
            simp (disch := omega) only [↓reduceIte, ↓qX_m, ↓qR_m, ↓cI_m, ↓cV_m, ↓cJ_m, ↓cO_m, ↓cR_m, ixq_n, ixq_l, tgq_ok, nL_mul, nR_mul, nL_add, nR_add, nL_sub, nR_sub, nI_add, pk_mul, nn_sub, ng1_0, ng1_1, an_0, an_1, i1_0, Nat.add_zero, Nat.zero_add, Nat.mul_one, Nat.mul_zero, hI_cg, hP_cg, hJ_cg, wI_cg, wP_cg, wJ_cg, nm, eT_leafRead_90, m2, eT_leafRead_109, eT_leafRead_129, ct, eT_leafRead_133, eT_leafRead_148]
            exact r
        · rw [if_neg c4]
          rw [if_neg c4] at nm
          have e8 : ¬ I 1000 8 = 3 := by
            rcases ht.2.2.2.2 with ⟨k, e⟩ | ⟨k, e, -⟩ | ⟨k, e, -⟩ | ⟨k, e, e2⟩ | ⟨k, e, -⟩ | ⟨k, e, -⟩ | ⟨k, e | ⟨e, -⟩⟩
            · rw [e]; decide
            · rw [e]; decide
            · rw [e]; decide
            · omega
            · rw [e]; decide
            · rw [e]; decide
            · rw [e]; decide
            · rw [e]; decide
          have w2 : (Run_ (d, mT_wrong, 0, [some (vR (1000, 0, 0)), some (vI 1)], [], (tw I J, C))) = _ := tw_wrong d I J C 1
          refine ⟨wrI I 1, ?_, wr_ft ht 1, wr_fr lo I 1⟩
          simp (disch := omega) only [↓reduceIte, ↓qX_m, ↓qR_m, ↓cI_m, ↓cV_m, ↓cJ_m, ↓cO_m, ↓cR_m, ixq_n, ixq_l, tgq_ok, nL_mul, nR_mul, nL_add, nR_add, nL_sub, nR_sub, nI_add, pk_mul, nn_sub, ng1_0, ng1_1, an_0, an_1, i1_0, Nat.add_zero, Nat.zero_add, Nat.mul_one, Nat.mul_zero, hI_cg, hP_cg, hJ_cg, wI_cg, wP_cg, wJ_cg, nm, eT_leafRead_90, m1, e8, w2, eT_leafRead_108]
