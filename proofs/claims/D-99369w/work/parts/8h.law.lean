/-! A LAW: what both read -/
variable {b : Nat → Nat} {n : Nat}
theorem tk_gt {b : Nat → Nat} {n : Nat} (p : Nat) (h : tkK b n p ≠ 0) : p < tkN b n p := by
  by_cases hp : p ≤ n
  · exact tkN_gt hp h
  · exfalso
    apply h
    unfold tkK
    have := (scn_le (blk b n) (n - p) p).1
    rw [if_pos (by unfold tkP; omega)]
def rdLaw (b : Nat → Nat) (n p c : Nat) : Option Rs_ := rd (tkK b n) (tkW b n) (tkN b n) (tkP b n) (16 * (n - p) + 8) false 1 (fun _ => none) p 0 c
theorem rl_tot {p : Nat} (c : Nat) (hp : p ≤ n) : ∃ r, rdLaw b n p c = some r ∧ ∀ g p' c', r = .inr (g, p', c') → p < p' ∧ p' ≤ n ∧ c ≤ c' := by
  obtain ⟨r, h1, h2⟩ := rd_tot (kd := tkK b n) (wh := tkW b n) (nx := tkN b n) (pl := tkP b n) n (fun p h => tk_gt p h) (fun p h => (tkN_le h).2) (16 * (n - p) + 8) false 1 (fun _ => none) p 0 c (by omega) (by omega) hp (by
    rw [if_neg (fun q => Bool.noConfusion q)]; omega)
  exact ⟨r, h1, fun g p' c' hr => by
    have := h2 g p' c' hr
    exact ⟨this.2.2.1 rfl, this.2.1, this.2.2.2⟩⟩
/-- how the twin's law ends -/
def TLf (c : Nat) (e : Nat × Nat) (J : FJ_) (C : C_) (I : FI_) (z : Option Z_) : Prop := ∃ I' : FI_, z = some (.inl (some (vI 0)), (tw I' J, C)) ∧ (I' 1000 4 = nI e.1 ∧ I' 1000 5 = nI e.2) ∧ FrI (suF c) I I'
def TLg (b : Nat → Nat) (n c : Nat) (g : Dn_) (p' c' : Nat) (J : FJ_) (C : C_) (I : FI_) (z : Option Z_) : Prop := ∃ I' : FI_, z = some (.inl (some (vI 1)), (tw I' J, C)) ∧ TTk b n p' I' ∧ (I' 1000 20 = nI c' ∧ I' 1000 48 = nI c') ∧ (c < c' ∧ c' ≤ 64) ∧ KnOk (rz I') c (c' - 1) g ∧ Tame g ∧ FrI (suF c) I I'
theorem tw_law {p c : Nat} {I : FI_} {r : Rs_} (d : Nat) (J : FJ_) (C : C_) (hn : n ≤ 700) (h256 : ∀ k, b k < 256) (ht : TTk b n p I) (h20 : I 1000 20 = nI c) (h48 : I 1000 48 = nI c) (hc : c ≤ 64) (hr : rdLaw b n p c = some r) :
    (∀ e, r = .inl e → TLf c e J C I (Run_ (d, mT_sumRead, 0, [some (vR (1000, 0, 0))], [], (tw I J, C)))) ∧ (∀ g p' c', r = .inr (g, p', c') → (tkK b n p' = 4 ∧ tkW b n p' = 59 → TLg b n c g p' c' J C I (Run_ (d, mT_sumRead, 0, [some (vR (1000, 0, 0))], [], (tw I J, C)))) ∧ (¬ (tkK b n p' = 4 ∧ tkW b n p' = 59) → TLf c (1, tkP b n p') J C I (Run_ (d, mT_sumRead, 0, [some (vR (1000, 0, 0))], [], (tw I J, C))))) := by
  have hcmp := fun p z => tk_cmp (b := b) (n := n) p z
  generalize hI0 : u2 (u2 (u2 (u2 (u2 I 1000 45 0) 1000 46 0) 1000 47 0) 1000 49 1) 1000 50 1 = I0
  have e0 : (Run_ (d, mT_sumRead, 0, [some (vR (1000, 0, 0))], [], (tw I J, C))) = (Run_ (d, mT_sumRead, 25, [some (vR (1000, 0, 0))], [], (tw I0 J, C))) := by
    rw [eT_sumRead_0, ← hI0]
  have f0 : FrI (suF c) I I0 := by
    rw [← hI0]
    exact (((((FrI.rf _ I).u (by unfold suF suC; omega)).u (by unfold suF suC; omega)).u (by unfold suF suC; omega)).u (by unfold suF suC; omega)).u (by unfold suF suC; omega)
  have sy0 : TSy b n c p true true 0 c [] [] I0 := by
    subst hI0
    refine ⟨((((ht.u 45 _ (by omega)).u 46 _ (by omega)).u 47 _ (by omega)).u 49 _ (by omega)).u 50 _ (by omega), [], c, rfl, ⟨⟨?_, trivial, fun k hk => (by cases hk)⟩, ⟨?_, trivial⟩, ?_, ⟨Nat.le_refl _, by show c + 0 ≤ 64; omega, by show 0 ≤ 8; omega⟩, fun e he => (by cases he), fun j a b => by omega, ?_⟩, ⟨?_, rfl, by omega⟩, ⟨?_, by show c + 0 = c; omega, hc⟩, ?_, ?_, rfl, fun z => Bool.noConfusion z⟩
    · simp (disch := omega) only [u2_k, u2_s]; rfl
    · simp (disch := omega) only [u2_k, u2_s]; rfl
    · simp (disch := omega) only [u2_k, u2_s]; exact h20
    · intro nm w
      rw [Nat.sub_self]
      exact Or.inl ⟨w, rfl, fun e he => (by cases he)⟩
    · simp (disch := omega) only [u2_k, u2_s]; rfl
    · simp (disch := omega) only [u2_k, u2_s]; exact h48
    · simp (disch := omega) only [u2_k, u2_s]; rfl
    · simp (disch := omega) only [u2_k, u2_s]; rfl
  have ft : ∀ e, Rch (tkK b n) (tkW b n) (tkN b n) (tkP b n) (p, true, true, 0, c, [], []) (.inl e) → TLf c e J C I (Run_ (d, mT_sumRead, 0, [some (vR (1000, 0, 0))], [], (tw I J, C))) := by
    intro e he
    obtain ⟨m, hm⟩ := he
    obtain ⟨I', r1, r2, r3⟩ : TRs b n c d (.inl e) J C I0 := tw_steps d J C hn h256 m p true true 0 c [] [] I0 _ sy0 hm
    exact ⟨I', e0.trans r1, r2, f0.tr r3⟩
  have sl := sim_law (nx := tkN b n) (pl := tkP b n) hcmp hr
  refine ⟨fun e q => ?_, fun g p' c' q => ?_⟩
  · subst q
    exact ft e sl
  · subst q
    have sl : if tkK b n p' = 4 ∧ tkW b n p' = 59 then ∃ mn W' H', Rch (tkK b n) (tkW b n) (tkN b n) (tkP b n) (p, true, true, 0, c, [], []) (.inr (p', false, mn, 0, c', W', H')) ∧ bnd 1 W' H' = ([], [g]) else Rch (tkK b n) (tkW b n) (tkN b n) (tkP b n) (p, true, true, 0, c, [], []) (.inl (1, tkP b n p')) := sl
    refine ⟨fun y => ?_, fun y => ?_⟩
    · rw [if_pos y] at sl
      obtain ⟨mn, W', H', ⟨m, hm⟩, hb⟩ := sl
      obtain ⟨I1, r1, r2, r3⟩ : TRs b n c d (.inr (p', false, mn, 0, c', W', H')) J C I0 := tw_steps d J C hn h256 m p true true 0 c [] [] I0 _ sy0 hm
      obtain ⟨ht1, L, kr, hH, hC, ⟨h47, hz, -⟩, ⟨h48', hcc, hc64⟩, h49, -, hl, hw⟩ := r2
      have h47 : I1 1000 47 = 0 := h47
      have h49 : I1 1000 49 = 0 := h49
      have hl : L.length = binN W' + 1 := hl
      obtain ⟨I2, W2, L2, kr2, q1, q2, q3, ⟨f2, L3, q4, q4'⟩, q5, q6, q7, q8, q9⟩ := tw_bind d J C (lo := c) (e := 1) (by omega) (by omega) W' L kr I1 hC hl (hw rfl)
      have q1 : (Run_ (d, mT_bind, 0, [some (vR (1000, 0, 0)), some (vI 1), none, none, none], [], (tw I1 J, C))) = _ := q1
      rw [hH, hb] at q5
      have w2 : W2 = [] := (congrArg Prod.fst q5).symm
      have l2 : L2.map (·.2) = [g] := (congrArg Prod.snd q5).symm
      subst w2
      rw [q4] at l2
      have l2 : f2 :: L3.map (·.2) = [g] := l2
      injection l2 with l2 l3
      have l3 : L3 = [] := List.map_eq_nil_iff.mp l3
      subst l2
      subst l3
      subst q4
      obtain ⟨-, -, p20, ⟨p1, -, -⟩, pb, pw, ph⟩ := q2
      have q6 : kr2 + 0 = kr + opsN W' := q6
      have kc : kr2 = c' := by omega
      subst kc
      have s59 : (Run_ (d, mT_isSign, 0, [some (vR (1000, 0, 0)), some (vI 59)], [], (tw I1 J, C))) = _ := tw_isSign d J C h256 ht1 (c := 59) rfl
      rw [decide_eq_true y] at s59
      have m0 : ((0 : Int32) < 0) = False := eq_false (by decide)
      refine ⟨I2, ?_, ht1.fr (fun t k z => q9 _ _ (by unfold suC; omega)), ⟨p20, (q9 _ _ (by unfold suC; omega)).trans h48'⟩, ⟨q4', hc64⟩, ⟨by omega, fun j a e => pw j a (by omega), fun nm w => ?_⟩, (pb _ List.mem_cons_self).2.2, f0.tr (r3.tr (q9.wk (fun t k z => Or.inl z)))⟩
      · rw [e0, r1, eT_sumRead_25]
        simp (disch := omega) only [↓reduceIte, ↓qX_m, ↓qR_m, ↓cI_m, ↓cV_m, ↓cJ_m, ↓cO_m, ↓cR_m, ixq_n, ixq_l, tgq_ok, nL_mul, nR_mul, nL_add, nR_add, nL_sub, nR_sub, nI_add, pk_mul, nn_sub, ng1_0, ng1_1, an_0, an_1, i1_0, Nat.add_zero, Nat.zero_add, Nat.mul_one, Nat.mul_zero, hI_cg, hP_cg, hJ_cg, wI_cg, wP_cg, wJ_cg, s59, bI_1, eT_sumRead_31, h49, h47, m0, q1, eT_sumRead_79]
      · rw [show kr2 - 1 + 1 - c = kr2 - c by omega]
        rcases ph nm w with ⟨v, v1, v2⟩ | ⟨v1, e, v2, v3⟩
        · rw [v1]
          exact (v2 _ List.mem_cons_self).symm
        · rw [v1]
          rcases List.mem_cons.mp v2 with z | z
          · subst z; exact v3.symm
          · cases z
    · rw [if_neg y] at sl
      exact ft _ sl
