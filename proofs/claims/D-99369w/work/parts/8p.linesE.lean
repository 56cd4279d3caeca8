/-! THE TWIN's lines: each, with its end -/
variable {b : Nat → Nat} {n : Nat}
def enS (b : Nat → Nat) (n : Nat) (r : Ft_ ⊕ Ls_) : Ft_ ⊕ Ls_ := match r with
  | .inl e => .inl e
  | .inr s' => if tkK b n (lP s') = 4 ∧ tkW b n (lP s') = 59 then .inr ((tkN b n (lP s'), lC s'), s'.2) else .inl (1, tkP b n (lP s'))
theorem le_en (s : Ls_) : leS b n s = enS b n (lnS b n s) := rfl
theorem TLs.at {s : Ls_} {I I' : FI_} {p : Nat} (h : TLs b n s I) (f : FrI nuF I I') (t : TTk b n p I') : TLs b n ((p, lC s), s.2) I' := by
  obtain ⟨ht, ⟨h16, h17, h18, h19⟩, ⟨h20, h48⟩, hx, hf, h21, hl, hb⟩ := id h
  refine h.put (S := nuF) rfl rfl t f (fun t k q => by unfold nuF at q; omega) ⟨(f _ _ (by unfold nuF; omega)).trans h16, (f _ _ (by unfold nuF; omega)).trans h17, (f _ _ (by unfold nuF; omega)).trans h18, (f _ _ (by unfold nuF; omega)).trans h19⟩ (fun t k q => ?_) ⟨fun t q => (f _ _ (by unfold nuF; omega)).trans (hf t q), (f _ _ (by unfold nuF; omega)).trans h21⟩ ⟨hb.1, hb.2.1, hb.2.2.1, hb.2.2.2.1⟩
  have zc : (t = 1003 ∧ k = 0 ∧ zo t = 1) ∨ (1004 ≤ t ∧ t ≤ 1006 ∧ k < lK s ∧ zo t = 6) ∨ (t = 1007 ∧ k < 12 ∧ zo t = 12) ∨ (1008 ≤ t ∧ t ≤ 1012 ∧ k < lD s ∧ zo t = 8) ∨ (1013 ≤ t ∧ t ≤ 1015 ∧ k < lW s ∧ zo t = 12) ∨ (t = 1017 ∧ k < 4 ∧ zo t = 4) := zo_c q
  exact Or.inl ⟨by unfold nuF; omega, by unfold lcl; omega, rfl⟩
theorem tw_end {s : Ls_} {I : FI_} (d : Nat) (J : FJ_) (C : C_) (hn : n ≤ 700) (h256 : ∀ k, b k < 256) (h : TLs b n s I) : TLo b n (enS b n (.inr s)) J C I (Run_ (d, mT_lineRead, 228, [some (vR (1000, 0, 0)), some (vI 1), none], [], (tw I J, C))) := by
  have s59 : (Run_ (d, mT_isSign, 0, [some (vR (1000, 0, 0)), some (vI 59)], [], (tw I J, C))) = _ := tw_isSign d J C h256 h.1 (c := 59) rfl
  unfold enS
  dsimp only
  by_cases c : tkK b n (lP s) = 4 ∧ tkW b n (lP s) = 59
  · rw [if_pos c]
    rw [decide_eq_true c] at s59
    obtain ⟨I1, r1, f1, t1⟩ := h.1.next d J C hn h256
    have f1 := f1.wk tk_nu
    refine ⟨I1, ?_, h.at f1 t1, f1.wk nu_z⟩
    rw [eT_lineRead_228]
    simp (disch := omega) only [↓reduceIte, ↓qX_m, ↓qR_m, ↓cI_m, ↓cV_m, ↓cJ_m, ↓cO_m, ↓cR_m, ixq_n, ixq_l, tgq_ok, nL_mul, nR_mul, nL_add, nR_add, nL_sub, nR_sub, nI_add, pk_mul, nn_sub, ng1_0, ng1_1, an_0, an_1, i1_0, Nat.add_zero, Nat.zero_add, Nat.mul_one, Nat.mul_zero, hI_cg, hP_cg, hJ_cg, wI_cg, wP_cg, wJ_cg, s59, bI_1, eT_lineRead_240, r1, eT_lineRead_253]
  · rw [if_neg c]
    rw [decide_eq_false c] at s59
    have w1 : (Run_ (d, mT_wrong, 0, [some (vR (1000, 0, 0)), some (vI 1)], [], (tw I J, C))) = _ := tw_wrong d I J C 1
    refine ⟨wrI I 1, ?_, wr_ft h.1 1, (wr_nu I 1).wk nu_z⟩
    rw [eT_lineRead_228]
    simp (disch := omega) only [↓reduceIte, ↓qX_m, ↓qR_m, ↓cI_m, ↓cV_m, ↓cJ_m, ↓cO_m, ↓cR_m, ixq_n, ixq_l, tgq_ok, nL_mul, nR_mul, nL_add, nR_add, nL_sub, nR_sub, nI_add, pk_mul, nn_sub, ng1_0, ng1_1, an_0, an_1, i1_0, Nat.add_zero, Nat.zero_add, Nat.mul_one, Nat.mul_zero, hI_cg, hP_cg, hJ_cg, wI_cg, wP_cg, wJ_cg, s59, bI_0, eT_lineRead_240, w1, eT_lineRead_248]
theorem TLo.pre {r : Ft_ ⊕ Ls_} {J : FJ_} {C : C_} {I I1 : FI_} {z : Option Z_} (f : FrI zF I I1) (h : TLo b n r J C I1 z) : TLo b n r J C I z := by
  rcases r with e | s'
  · exact TPf.pre f h
  · obtain ⟨I', h1, h2, h3⟩ := h
    exact ⟨I', h1, h2, f.tr h3⟩
theorem tw_fin {r : Ft_ ⊕ Ls_} {I : FI_} {z : Option Z_} (d : Nat) (J : FJ_) (C : C_) (hn : n ≤ 700) (h256 : ∀ k, b k < 256) {k : Int32 → G_ → Option Z_} (hk : ∀ x I', k x (tw I' J, C) = (Run_ (d, mT_lineRead, 228, [some (vR (1000, 0, 0)), some (vI x), none], [], (tw I' J, C)))) (h : TLo b n r J C I z) : TLo b n (enS b n r) J C I (cI z k) := by
  rcases r with e | s'
  · obtain ⟨I', h1, h2, h3⟩ := h
    refine ⟨I', ?_, h2, h3⟩
    rw [h1, cI_ok, hk, eT_lineRead_228, if_pos rfl]
  · obtain ⟨I', h1, h2, h3⟩ := h
    rw [h1, cI_ok, hk]
    exact TLo.pre h3 (tw_end d J C hn h256 h2)
theorem tw_line {s : Ls_} {I : FI_} (d : Nat) (J : FJ_) (C : C_) (hn : n ≤ 700) (h256 : ∀ k, b k < 256) (h : TLs b n s I) : TLo b n (leS b n s) J C I (Run_ (d, mT_lineRead, 0, [some (vR (1000, 0, 0)), none, none], [], (tw I J, C))) := by
  rw [le_en]
  obtain ⟨-, -, k1, -, -, -, e9⟩ := h.1.k h256
  have w1 : (Run_ (d, mT_wrong, 0, [some (vR (1000, 0, 0)), some (vI 1)], [], (tw I J, C))) = _ := tw_wrong d I J C 1
  have wf : TLo b n (enS b n (.inl (1, tkP b n (lP s)))) J C I (Run_ (d, mT_lineRead, 17, [some (vR (1000, 0, 0)), none, none], [], (tw I J, C))) := by
    refine ⟨wrI I 1, ?_, wr_ft h.1 1, (wr_nu I 1).wk nu_z⟩
    rw [eT_lineRead_17]
    simp (disch := omega) only [↓reduceIte, ↓qX_m, ↓qR_m, ↓cI_m, ↓cV_m, ↓cJ_m, ↓cO_m, ↓cR_m, ixq_n, ixq_l, tgq_ok, nL_mul, nR_mul, nL_add, nR_add, nL_sub, nR_sub, nI_add, pk_mul, nn_sub, ng1_0, ng1_1, an_0, an_1, i1_0, Nat.add_zero, Nat.zero_add, Nat.mul_one, Nat.mul_zero, hI_cg, hP_cg, hJ_cg, wI_cg, wP_cg, wJ_cg, w1, eT_lineRead_22]
  unfold lnS
  by_cases c1 : tkK b n (lP s) = 1
  · obtain ⟨e9, w21⟩ := e9 c1
    obtain ⟨s7, -, -, sw⟩ := swp_8 _ w21
    by_cases c2 : tkW b n (lP s) ≤ 7
    · rw [if_pos ⟨c1, c2⟩]
      rw [sw (by omega)] at e9 s7
      have s7 : ((7 : Int32) < nI (tkW b n (lP s))) = False := by rw [s7]; exact eq_false (by omega)
      have K0 := tw_kindL d J C hn h256 h
      have K1 := tw_hasL d J C hn h256 h
      have K2 := tw_deedL d J C hn h256 h
      have K3 := tw_doL d J C hn h256 h
      have K4 : TLo b n (monS b n 0 999 s) J C I (Run_ (d, mT_moneyLine, 0, [some (vR (1000, 0, 0)), some (vI 0), some (vI 999), none, none], [], (tw I J, C))) := tw_moneyL d J C hn h256 h (a := 0) (hi := 999) (by omega) (by omega)
      have K5 : TLo b n (monS b n 2 9 s) J C I (Run_ (d, mT_moneyLine, 0, [some (vR (1000, 0, 0)), some (vI 2), some (vI 9), none, none], [], (tw I J, C))) := tw_moneyL d J C hn h256 h (a := 2) (hi := 9) (by omega) (by omega)
      have K6 := tw_seedL d J C hn h256 h
      have K7 := tw_lawL d J C hn h256 h
      generalize tkW b n (lP s) = w at *
      by_cases w0 : w = 0
      · have hh : (Run_ (d, mT_lineRead, 0, [some (vR (1000, 0, 0)), none, none], [], (tw I J, C))) = (Run_ (d, mT_lineRead, 68, [some (vR (1000, 0, 0)), none, none], [], (tw I J, C))) := by
          rw [eT_lineRead_0]
          simp (disch := omega) only [↓reduceIte, k1, eq_true c1, e9, s7, nR_eq, eq_true w0]
        rw [if_pos w0, hh, eT_lineRead_68]
        exact tw_fin d J C hn h256 (fun x I' => eT_lineRead_72 d x I' J C) K0
      rw [if_neg w0]
      by_cases w1 : w = 1
      · have hh : (Run_ (d, mT_lineRead, 0, [some (vR (1000, 0, 0)), none, none], [], (tw I J, C))) = (Run_ (d, mT_lineRead, 76, [some (vR (1000, 0, 0)), none, none], [], (tw I J, C))) := by
          rw [eT_lineRead_0]
          simp (disch := omega) only [↓reduceIte, k1, eq_true c1, e9, s7, nR_eq, w0, eq_true w1]
        rw [if_pos w1, hh, eT_lineRead_76]
        exact tw_fin d J C hn h256 (fun x I' => eT_lineRead_80 d x I' J C) K1
      rw [if_neg w1]
      by_cases w2 : w = 2
      · have hh : (Run_ (d, mT_lineRead, 0, [some (vR (1000, 0, 0)), none, none], [], (tw I J, C))) = (Run_ (d, mT_lineRead, 84, [some (vR (1000, 0, 0)), none, none], [], (tw I J, C))) := by
          rw [eT_lineRead_0]
          simp (disch := omega) only [↓reduceIte, k1, eq_true c1, e9, s7, nR_eq, w0, w1, eq_true w2]
        rw [if_pos w2, hh, eT_lineRead_84]
        exact tw_fin d J C hn h256 (fun x I' => eT_lineRead_88 d x I' J C) K2
      rw [if_neg w2]
      by_cases w3 : w = 3
      · have hh : (Run_ (d, mT_lineRead, 0, [some (vR (1000, 0, 0)), none, none], [], (tw I J, C))) = (Run_ (d, mT_lineRead, 92, [some (vR (1000, 0, 0)), none, none], [], (tw I J, C))) := by
          rw [eT_lineRead_0]
          simp (disch := omega) only [↓reduceIte, k1, eq_true c1, e9, s7, nR_eq, w0, w1, w2, eq_true w3]
        rw [if_pos w3, hh, eT_lineRead_92]
        exact tw_fin d J C hn h256 (fun x I' => eT_lineRead_96 d x I' J C) K3
      rw [if_neg w3]
      by_cases w4 : w = 4
      · have hh : (Run_ (d, mT_lineRead, 0, [some (vR (1000, 0, 0)), none, none], [], (tw I J, C))) = (Run_ (d, mT_lineRead, 100, [some (vR (1000, 0, 0)), none, none], [], (tw I J, C))) := by
          rw [eT_lineRead_0]
          simp (disch := omega) only [↓reduceIte, k1, eq_true c1, e9, s7, nR_eq, w0, w1, w2, w3, eq_true w4]
        rw [if_pos w4, hh, eT_lineRead_100]
        exact tw_fin d J C hn h256 (fun x I' => eT_lineRead_108 d x I' J C) K4
      rw [if_neg w4]
      by_cases w5 : w = 5
      · have hh : (Run_ (d, mT_lineRead, 0, [some (vR (1000, 0, 0)), none, none], [], (tw I J, C))) = (Run_ (d, mT_lineRead, 112, [some (vR (1000, 0, 0)), none, none], [], (tw I J, C))) := by
          rw [eT_lineRead_0]
          simp (disch := omega) only [↓reduceIte, k1, eq_true c1, e9, s7, nR_eq, w0, w1, w2, w3, w4, eq_true w5]
        rw [if_pos w5, hh, eT_lineRead_112]
        exact tw_fin d J C hn h256 (fun x I' => eT_lineRead_119 d x I' J C) K5
      rw [if_neg w5]
      by_cases w6 : w = 6
      · have hh : (Run_ (d, mT_lineRead, 0, [some (vR (1000, 0, 0)), none, none], [], (tw I J, C))) = (Run_ (d, mT_lineRead, 123, [some (vR (1000, 0, 0)), none, none], [], (tw I J, C))) := by
          rw [eT_lineRead_0]
          simp (disch := omega) only [↓reduceIte, k1, eq_true c1, e9, s7, nR_eq, w0, w1, w2, w3, w4, w5, eq_true w6]
        rw [if_pos w6, hh, eT_lineRead_123]
        exact tw_fin d J C hn h256 (fun x I' => eT_lineRead_127 d x I' J C) K6
      rw [if_neg w6]
      have hh : (Run_ (d, mT_lineRead, 0, [some (vR (1000, 0, 0)), none, none], [], (tw I J, C))) = (Run_ (d, mT_lineRead, 131, [some (vR (1000, 0, 0)), none, none], [], (tw I J, C))) := by
        rw [eT_lineRead_0]
        simp (disch := omega) only [↓reduceIte, k1, eq_true c1, e9, s7, nR_eq, w0, w1, w2, w3, w4, w5, w6]
      rw [hh]
      generalize lawS b n s = r at K7 ⊢
      rcases r with e | s'
      · exact K7
      · rcases K7 with ⟨K7, y⟩ | ⟨I', x1, x2, x3⟩
        · have e : enS b n (.inr s') = .inl (1, tkP b n (lP s')) := if_neg y
          rw [e]
          exact K7
        · rw [x1]
          exact TLo.pre x3 (tw_end d J C hn h256 x2)
    · rw [if_neg (fun z => c2 z.2)]
      have hh : (Run_ (d, mT_lineRead, 0, [some (vR (1000, 0, 0)), none, none], [], (tw I J, C))) = (Run_ (d, mT_lineRead, 17, [some (vR (1000, 0, 0)), none, none], [], (tw I J, C))) := by
        rw [eT_lineRead_0]
        have c3 : 7 < tkW b n (lP s) := by omega
        simp (disch := omega) only [↓reduceIte, k1, eq_true c1, e9, s7, eq_true c3]
      rw [hh]
      exact wf
  · rw [if_neg (fun z => c1 z.1)]
    have hh : (Run_ (d, mT_lineRead, 0, [some (vR (1000, 0, 0)), none, none], [], (tw I J, C))) = (Run_ (d, mT_lineRead, 17, [some (vR (1000, 0, 0)), none, none], [], (tw I J, C))) := by
      rw [eT_lineRead_0]
      simp (disch := omega) only [↓reduceIte, k1, c1]
    rw [hh]
    exact wf
