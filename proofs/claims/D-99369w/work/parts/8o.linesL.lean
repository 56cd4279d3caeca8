/-! THE TWIN's lines: laws; every line -/
variable {b : Nat → Nat} {n : Nat}
theorem su_z {lo : Nat} (t k : Nat) (h : suF lo t k) : zF t k := by
  rcases h with (⟨h1, h2⟩ | ⟨h1, h2, h3⟩ | h1 | h1) | ⟨h1, h2⟩
  · exact Or.inl ⟨h1, by omega⟩
  · exact Or.inr (Or.inr (Or.inr (Or.inr (Or.inr (Or.inr (Or.inr (Or.inr (Or.inr (Or.inl ⟨h1, h2, by omega⟩)))))))))
  · exact Or.inr (Or.inr (Or.inr (Or.inr (Or.inr (Or.inr (Or.inr (Or.inr (Or.inr (Or.inr (Or.inl h1))))))))))
  · exact Or.inr (Or.inr (Or.inr (Or.inr (Or.inr (Or.inr (Or.inr (Or.inr (Or.inr (Or.inr (Or.inr h1))))))))))
  · exact Or.inl ⟨h1, by omega⟩
/-- how a line ends, ahead of its sign -/
def TLe (b : Nat → Nat) (n : Nat) (r : Ft_ ⊕ Ls_) (J : FJ_) (C : C_) (I : FI_) (d : Nat) (z : Option Z_) : Prop := match r with
  | .inl e => TPf zF e J C I z
  | .inr s' => (TPf zF (1, tkP b n (lP s')) J C I z ∧ ¬ (tkK b n (lP s') = 4 ∧ tkW b n (lP s') = 59)) ∨ ∃ I' : FI_, z = (Run_ (d, mT_lineRead, 228, [some (vR (1000, 0, 0)), some (vI 1), none], [], (tw I' J, C))) ∧ TLs b n s' I' ∧ FrI zF I I'
theorem swp_8 : ∀ w, w < 21 → (((7 : Int32) < nI (swp w)) = (7 < w)) ∧ ((nI (swp w) < 8) = (w < 8)) ∧ (((10 : Int32) < nI (swp w)) = (10 < w)) ∧ (w ≤ 10 → swp w = w) := by
  intro w hw
  have h1 := swp_lt w hw
  have h : swp w = if w = 11 then 12 else if w = 12 then 11 else w := rfl
  have e : w ≤ 10 → swp w = w := fun z => by rw [h, if_neg (by omega), if_neg (by omega)]
  have e2 : 10 < w → 10 < swp w := fun z => by rw [h]; split <;> (try split) <;> omega
  refine ⟨?_, ?_, ?_, e⟩
  · rw [show (7 : Int32) = nI 7 from rfl, nn_lt (by omega) (by omega)]
    by_cases z : w ≤ 10
    · rw [e z]
    · have := e2 (by omega)
      exact propext ⟨fun _ => by omega, fun _ => by omega⟩
  · rw [show (8 : Int32) = nI 8 from rfl, nn_lt (by omega) (by omega)]
    by_cases z : w ≤ 10
    · rw [e z]
    · have := e2 (by omega)
      exact propext ⟨fun _ => by omega, fun _ => by omega⟩
  · rw [show (10 : Int32) = nI 10 from rfl, nn_lt (by omega) (by omega)]
    by_cases z : w ≤ 10
    · rw [e z]
    · have := e2 (by omega)
      exact propext ⟨fun _ => by omega, fun _ => by omega⟩
theorem tw_lawL {s : Ls_} {I : FI_} (d : Nat) (J : FJ_) (C : C_) (hn : n ≤ 700) (h256 : ∀ k, b k < 256) (h : TLs b n s I) : TLe b n (lawS b n s) J C I d (Run_ (d, mT_lineRead, 131, [some (vR (1000, 0, 0)), none, none], [], (tw I J, C))) := by
  obtain ⟨ht, ⟨h16, h17, h18, h19⟩, ⟨h20, h48⟩, hx, hf, h21, hl, hb⟩ := id h
  obtain ⟨I1, r1, f1, t1⟩ := ht.next d J C hn h256
  have f1 := f1.wk tk_nu
  have hpn := (tkN_le (b := b) t1.2.1).2
  obtain ⟨-, -, k1, -, -, -, e9⟩ := t1.k h256
  unfold lawS
  have w1 : (Run_ (d, mT_wrong, 0, [some (vR (1000, 0, 0)), some (vI 1)], [], (tw I1 J, C))) = _ := tw_wrong d I1 J C 1
  have wf : TPf zF (1, tkP b n (tkN b n (lP s))) J C I (Run_ (d, mT_lineRead, 161, [some (vR (1000, 0, 0)), none, none], [], (tw I1 J, C))) := by
    refine ⟨wrI I1 1, ?_, wr_ft t1 1, (f1.tr (wr_nu I1 1)).wk nu_z⟩
    rw [eT_lineRead_161]
    simp (disch := omega) only [↓reduceIte, ↓qX_m, ↓qR_m, ↓cI_m, ↓cV_m, ↓cJ_m, ↓cO_m, ↓cR_m, ixq_n, ixq_l, tgq_ok, nL_mul, nR_mul, nL_add, nR_add, nL_sub, nR_sub, nI_add, pk_mul, nn_sub, ng1_0, ng1_1, an_0, an_1, i1_0, Nat.add_zero, Nat.zero_add, Nat.mul_one, Nat.mul_zero, hI_cg, hP_cg, hJ_cg, wI_cg, wP_cg, wJ_cg, w1, eT_lineRead_166]
  generalize tkN b n (lP s) = p1 at *
  by_cases c1 : tkK b n p1 = 1
  · obtain ⟨e9, w21⟩ := e9 c1
    obtain ⟨-, s8, s10, sw⟩ := swp_8 _ w21
    by_cases c2 : 8 ≤ tkW b n p1 ∧ tkW b n p1 ≤ 10
    · rw [if_pos ⟨c1, c2⟩]
      have e9 : I1 1000 9 = nI (tkW b n p1) := by rw [e9, sw c2.2]
      rw [sw c2.2] at s8 s10
      have s8 : (nI (tkW b n p1) < 8) = False := by rw [s8]; exact eq_false (by omega)
      have s10 : ((10 : Int32) < nI (tkW b n p1)) = False := by rw [s10]; exact eq_false (by omega)
      generalize hw : tkW b n p1 - 8 = w at *
      have hw2 : 3 + tkW b n p1 - 8 = 3 + w := by omega
      have hw3 : w < 3 := by omega
      have o1 : ((1 : Int32) &&& 1) = 1 := by decide
      rcases hl w hw3 with ⟨a1, a2⟩ | ⟨f0, lo, i, a1, a2, a3, -⟩
      · rw [a1]
        have g1 : I1 1018 (3 + w) = 0 := (f1 _ _ (by unfold nuF; omega)).trans a2
        have t1' : TTk b n p1 (u2 I1 1018 (3 + w) 1) := t1.fr (fun t k q => by rw [u2_ap, if_neg (by omega)])
        obtain ⟨I2, r2, f2, t2⟩ := t1'.next d J C hn h256
        have y2 : I2 1018 (3 + w) = 1 := (f2 _ _ (by unfold tk4; omega)).trans (u2_s ..)
        have f2 : FrI (lnF 1018 1020 (3 + w)) I I2 := ((f1.wk (nu_l 1018 1020 (3 + w))).u (Or.inr (by omega))).tr (f2.wk (fun t k q => Or.inl (tk_nu t k q)))
        have g2 : I2 1000 20 = nI (lC s) := (f2 _ _ (ln_n (by omega) (by omega))).trans h20
        have t2' : TTk b n (tkN b n p1) (u2 I2 1019 (3 + w) (nI (lC s))) := t2.fr (fun t k q => by rw [u2_ap, if_neg (by omega)])
        have f2' : FrI (lnF 1018 1020 (3 + w)) I (u2 I2 1019 (3 + w) (nI (lC s))) := f2.u (Or.inr (by omega))
        have h0 : (Run_ (d, mT_lineRead, 131, [some (vR (1000, 0, 0)), none, none], [], (tw I J, C))) = cI (Run_ (d, mT_sumRead, 0, [some (vR (1000, 0, 0))], [], (tw (u2 I2 1019 (3 + w) (nI (lC s))) J, C))) fun x3 G2 => (Run_ (d, mT_lineRead, 217, [some (vR (1000, 0, 0)), none, some (vI (nI (3 + w)))], [vI x3], G2)) := by
          rw [eT_lineRead_131]
          simp (disch := omega) only [↓reduceIte, ↓qX_m, ↓qR_m, ↓cI_m, ↓cV_m, ↓cJ_m, ↓cO_m, ↓cR_m, ixq_n, ixq_l, tgq_ok, nL_mul, nR_mul, nL_add, nR_add, nL_sub, nR_sub, nI_add, pk_mul, nn_sub, ng1_0, ng1_1, an_0, an_1, i1_0, Nat.add_zero, Nat.zero_add, Nat.mul_one, Nat.mul_zero, hI_cg, hP_cg, hJ_cg, wI_cg, wP_cg, wJ_cg, r1, eT_lineRead_135, k1, eq_true c1, e9, s8, s10, hw2, g1, o1, r2, eT_lineRead_203, g2]
        rw [h0]
        have hz : ∀ {I' : FI_}, FrI (lnF 1018 1020 (3 + w)) I I' → FrI zF I I' := fun f => f.wk (ln_z fun t x y => zr_18 (by omega))
        obtain ⟨r, hr, hr2⟩ := rl_tot (b := b) (n := n) (p := tkN b n p1) (lC s) hpn
        obtain ⟨L1, L2⟩ := tw_law d J C hn h256 t2' ((f2' _ _ (ln_n (by omega) (by omega))).trans h20) ((f2' _ _ (ln_n (by omega) (by omega))).trans h48) hb.2.2.2.2 hr
        have ft : ∀ e, TLf (lC s) e J C (u2 I2 1019 (3 + w) (nI (lC s))) (Run_ (d, mT_sumRead, 0, [some (vR (1000, 0, 0))], [], (tw (u2 I2 1019 (3 + w) (nI (lC s))) J, C))) → TPf zF e J C I (cI (Run_ (d, mT_sumRead, 0, [some (vR (1000, 0, 0))], [], (tw (u2 I2 1019 (3 + w) (nI (lC s))) J, C))) fun x3 G2 => (Run_ (d, mT_lineRead, 217, [some (vR (1000, 0, 0)), none, some (vI (nI (3 + w)))], [vI x3], G2))) := by
          intro e he
          obtain ⟨I3, r3, w3, f3⟩ := he
          refine ⟨u2 I3 1020 (3 + w) (I3 1000 20), ?_, ⟨?_, ?_⟩, ((hz f2').tr (f3.wk su_z)).u (zr_18 (by omega))⟩
          · simp (disch := omega) only [↓reduceIte, ↓qX_m, ↓qR_m, ↓cI_m, ↓cV_m, ↓cJ_m, ↓cO_m, ↓cR_m, ixq_n, ixq_l, tgq_ok, nL_mul, nR_mul, nL_add, nR_add, nL_sub, nR_sub, nI_add, pk_mul, nn_sub, ng1_0, ng1_1, an_0, an_1, i1_0, Nat.add_zero, Nat.zero_add, Nat.mul_one, Nat.mul_zero, hI_cg, hP_cg, hJ_cg, wI_cg, wP_cg, wJ_cg, r3, eT_lineRead_217, eT_lineRead_228]
          · rw [u2_o _ _ (by omega)]; exact w3.1
          · rw [u2_o _ _ (by omega)]; exact w3.2
        rw [if_neg (fun z => Bool.noConfusion z), hr]
        rcases r with e | ⟨g, p2, c'⟩
        · exact ft e (L1 e rfl)
        · obtain ⟨L2, L3⟩ := L2 g p2 c' rfl
          by_cases y : tkK b n p2 = 4 ∧ tkW b n p2 = 59
          · obtain ⟨I3, r3, t3, ⟨z20, z48⟩, ⟨hc1, hc2⟩, kn, tm, f3⟩ := L2 y
            refine Or.inr ⟨u2 I3 1020 (3 + w) (nI c'), ?_, ?_, ((hz f2').tr (f3.wk su_z)).u (zr_18 (by omega))⟩
            · simp (disch := omega) only [↓reduceIte, ↓qX_m, ↓qR_m, ↓cI_m, ↓cV_m, ↓cJ_m, ↓cO_m, ↓cR_m, ixq_n, ixq_l, tgq_ok, nL_mul, nR_mul, nL_add, nR_add, nL_sub, nR_sub, nI_add, pk_mul, nn_sub, ng1_0, ng1_1, an_0, an_1, i1_0, Nat.add_zero, Nat.zero_add, Nat.mul_one, Nat.mul_zero, hI_cg, hP_cg, hJ_cg, wI_cg, wP_cg, wJ_cg, r3, eT_lineRead_217, z20]
            · have sn : ∀ {t k}, ¬ (t = 1000 ∧ (k = 4 ∨ k = 5 ∨ (7 ≤ k ∧ k ≤ 10) ∨ k = 20 ∨ (45 ≤ k ∧ k ≤ 50))) → ¬ (1021 ≤ t ∧ t ≤ 1025 ∧ (t ≤ 1023 → 64 + lC s ≤ k)) → ¬ suF (lC s) t k := by
                intro t k q1 q2 z
                rcases z with (z | z | z | z) | z
                · omega
                · exact q2 ⟨z.1, by omega, fun _ => z.2.2⟩
                · exact q2 ⟨by omega, by omega, fun _ => by omega⟩
                · exact q2 ⟨by omega, by omega, fun _ => by omega⟩
                · omega
              have G : ∀ t k, ¬ (t = 1000 ∧ (k < 12 ∨ k = 20 ∨ (45 ≤ k ∧ k ≤ 50))) → ¬ (1018 ≤ t ∧ t ≤ 1020 ∧ k = 3 + w) → ¬ (1021 ≤ t ∧ t ≤ 1025 ∧ (t ≤ 1023 → 64 + lC s ≤ k)) → u2 I3 1020 (3 + w) (nI c') t k = I t k := fun t k q1 q2 q3 => by
                rw [u2_o _ _ (by omega), f3 _ _ (sn (by omega) q3), f2' _ _ (ln_n (by omega) q2)]
              refine ⟨t3.fr (fun t k q => by rw [u2_o _ _ (by omega)]), ⟨(G _ _ (by omega) (by omega) (by omega)).trans h16, (G _ _ (by omega) (by omega) (by omega)).trans h17, (G _ _ (by omega) (by omega) (by omega)).trans h18, (G _ _ (by omega) (by omega) (by omega)).trans h19⟩, ⟨(u2_o _ _ (by omega)).trans z20, (u2_o _ _ (by omega)).trans z48⟩, fun t k q => ?_, fun t q => (G _ _ (by omega) (by omega) (by omega)).trans (hf t q), (G _ _ (by omega) (by omega) (by omega)).trans h21, fun v hv => ?_, ⟨hb.1, hb.2.1, hb.2.2.1, hb.2.2.2.1, hc2⟩⟩
              · have zc : (t = 1003 ∧ k = 0 ∧ zo t = 1) ∨ (1004 ≤ t ∧ t ≤ 1006 ∧ k < lK s ∧ zo t = 6) ∨ (t = 1007 ∧ k < 12 ∧ zo t = 12) ∨ (1008 ≤ t ∧ t ≤ 1012 ∧ k < lD s ∧ zo t = 8) ∨ (1013 ≤ t ∧ t ≤ 1015 ∧ k < lW s ∧ zo t = 12) ∨ (t = 1017 ∧ k < 4 ∧ zo t = 4) := zo_c q
                rw [G _ _ (by omega) (by omega) (by omega)]
                exact hx t k (by unfold lcl; omega)
              · dsimp only [lA, lC]
                by_cases vw : v = w
                · subst vw
                  have e19 : u2 I3 1020 (3 + v) (nI c') 1019 (3 + v) = nI (lC s) := by
                    rw [u2_o _ _ (by omega), f3 _ _ (sn (by omega) (by omega)), u2_s]
                  have e18 : u2 I3 1020 (3 + v) (nI c') 1018 (3 + v) = 1 := by
                    rw [u2_o _ _ (by omega), f3 _ _ (sn (by omega) (by omega)), u2_o _ _ (by omega)]; exact y2
                  refine Or.inr ⟨g, lC s, c' - 1, fu_s .., tm, e18, e19, ?_, by omega, kn.cg (fun t k x y z u => ?_)⟩
                  · rw [u2_s, show c' - 1 + 1 = c' by omega]
                  · unfold rz; rw [u2_o _ _ (by omega)]
                · rw [fu_n _ _ vw]
                  rcases hl v hv with ⟨b1, b2⟩ | ⟨f1, lo1, i1, b1, b2, b3, b4, b5, b6, b7⟩
                  · exact Or.inl ⟨b1, (G _ _ (by omega) (by omega) (by omega)).trans b2⟩
                  · refine Or.inr ⟨f1, lo1, i1, b1, b2, (G _ _ (by omega) (by omega) (by omega)).trans b3, (G _ _ (by omega) (by omega) (by omega)).trans b4, (G _ _ (by omega) (by omega) (by omega)).trans b5, by omega, b7.cg (fun t k x y z u => ?_)⟩
                    unfold rz
                    exact G _ _ (by omega) (by omega) (by omega)
          · exact Or.inl ⟨ft _ (L3 y), y⟩
      · rw [a1, if_pos (show (some f0).isSome = true from rfl)]
        have g1 : I1 1018 (3 + w) = 1 := (f1 _ _ (by unfold nuF; omega)).trans a3
        have w3 : (Run_ (d, mT_wrong, 0, [some (vR (1000, 0, 0)), some (vI 3)], [], (tw I1 J, C))) = _ := tw_wrong d I1 J C 3
        refine ⟨wrI I1 3, ?_, wr_ft t1 3, (f1.tr (wr_nu I1 3)).wk nu_z⟩
        rw [eT_lineRead_131]
        simp (disch := omega) only [↓reduceIte, ↓qX_m, ↓qR_m, ↓cI_m, ↓cV_m, ↓cJ_m, ↓cO_m, ↓cR_m, ixq_n, ixq_l, tgq_ok, nL_mul, nR_mul, nL_add, nR_add, nL_sub, nR_sub, nI_add, pk_mul, nn_sub, ng1_0, ng1_1, an_0, an_1, i1_0, Nat.add_zero, Nat.zero_add, Nat.mul_one, Nat.mul_zero, hI_cg, hP_cg, hJ_cg, wI_cg, wP_cg, wJ_cg, r1, eT_lineRead_135, k1, eq_true c1, e9, s8, s10, hw2, g1, w3, eT_lineRead_191]
    · rw [if_neg (fun z => c2 z.2)]
      have hh : (Run_ (d, mT_lineRead, 131, [some (vR (1000, 0, 0)), none, none], [], (tw I J, C))) = (Run_ (d, mT_lineRead, 161, [some (vR (1000, 0, 0)), none, none], [], (tw I1 J, C))) := by
        rw [eT_lineRead_131]
        by_cases c3 : tkW b n p1 < 8
        · simp (disch := omega) only [↓reduceIte, ↓qX_m, ↓qR_m, ↓cI_m, ↓cV_m, ↓cJ_m, ↓cO_m, ↓cR_m, ixq_n, ixq_l, tgq_ok, nL_mul, nR_mul, nL_add, nR_add, nL_sub, nR_sub, nI_add, pk_mul, nn_sub, ng1_0, ng1_1, an_0, an_1, i1_0, Nat.add_zero, Nat.zero_add, Nat.mul_one, Nat.mul_zero, hI_cg, hP_cg, hJ_cg, wI_cg, wP_cg, wJ_cg, r1, eT_lineRead_135, k1, eq_true c1, e9, s8, eq_true c3]
        · have c4 : 10 < tkW b n p1 := by omega
          simp (disch := omega) only [↓reduceIte, ↓qX_m, ↓qR_m, ↓cI_m, ↓cV_m, ↓cJ_m, ↓cO_m, ↓cR_m, ixq_n, ixq_l, tgq_ok, nL_mul, nR_mul, nL_add, nR_add, nL_sub, nR_sub, nI_add, pk_mul, nn_sub, ng1_0, ng1_1, an_0, an_1, i1_0, Nat.add_zero, Nat.zero_add, Nat.mul_one, Nat.mul_zero, hI_cg, hP_cg, hJ_cg, wI_cg, wP_cg, wJ_cg, r1, eT_lineRead_135, k1, eq_true c1, e9, s8, c3, s10, eq_true c4]
      rw [hh]
      exact wf
  · rw [if_neg (fun z => c1 z.1)]
    have hh : (Run_ (d, mT_lineRead, 131, [some (vR (1000, 0, 0)), none, none], [], (tw I J, C))) = (Run_ (d, mT_lineRead, 161, [some (vR (1000, 0, 0)), none, none], [], (tw I1 J, C))) := by
      rw [eT_lineRead_131]
      simp (disch := omega) only [↓reduceIte, ↓qX_m, ↓qR_m, ↓cI_m, ↓cV_m, ↓cJ_m, ↓cO_m, ↓cR_m, ixq_n, ixq_l, tgq_ok, nL_mul, nR_mul, nL_add, nR_add, nL_sub, nR_sub, nI_add, pk_mul, nn_sub, ng1_0, ng1_1, an_0, an_1, i1_0, Nat.add_zero, Nat.zero_add, Nat.mul_one, Nat.mul_zero, hI_cg, hP_cg, hJ_cg, wI_cg, wP_cg, wJ_cg, r1, eT_lineRead_135, k1, c1]
    rw [hh]
    exact wf
