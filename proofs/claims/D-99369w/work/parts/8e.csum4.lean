/-! THE COMPONENT's sums are the descent: all levels -/
variable {b : Nat → Nat} {n : Nat}
/-- the two behind a sign: the knot, the right one, the Two -/
theorem ac_right {L l p o c c0 a m k : Nat} {I : RI_} {P : RP_} {ρ : R_} {f : Dn_} {rr : Rs_} (d : Nat) (T : T_) (J : RJ_) (hn : n ≤ 700) (h256 : ∀ k, b k < 256) (h : CSu b n L p o c m I P) (hk : k = kOp (tkK b n) (tkW b n) p) (hk0 : 3 ≤ k ∧ k ≤ 14) (hc0 : c0 ≤ c) (ha : a ≤ m) (pr : PrR (c - c0) a m I P ρ f)
    (hr : c < 64 → ∀ (m1 : Nat) (I1 : RI_) (J1 : RJ_) (P1 : RP_), CSu b n L (tkN b n p) o (c + 1) m1 I1 P1 → CRs b n L o (c + 1) (c + 1) m1 m1 T rr I1 J1 P1 (cRn d false l none (cg T m1 I1 J1 P1))) (K : Option R_ → G_ → Option Z_) :
    (c = 64 → CFt L m (m + 1) T (2, tkP b n p) I J P (cI (Run_ ((d+1), mReader_knot, 0, [some (vR (2, 0, 32)), none], [], (cg T m I J P))) fun x4 G3 => cO (cRn d false l none (nwG G3 13 0 1)) fun o6 G5 => cV (Run_ ((d+1), mTwo_init, 0, [some (vR (13, 0, G3.2.1)), some (vI x4), some (vO (some ρ)), some (vO o6)], [], G5)) fun G7 => K (some (13, 0, G3.2.1)) G7)) ∧
    (c < 64 → match rr with
      | .inl e => CFt L m (m + (64 - c) + 2) T e I J P (cI (Run_ ((d+1), mReader_knot, 0, [some (vR (2, 0, 32)), none], [], (cg T m I J P))) fun x4 G3 => cO (cRn d false l none (nwG G3 13 0 1)) fun o6 G5 => cV (Run_ ((d+1), mTwo_init, 0, [some (vR (13, 0, G3.2.1)), some (vI x4), some (vO (some ρ)), some (vO o6)], [], G5)) fun G7 => K (some (13, 0, G3.2.1)) G7)
      | .inr (g, p', c') => ∃ (m' : Nat) (I' : RI_) (J' : RJ_) (P' : RP_), (cI (Run_ ((d+1), mReader_knot, 0, [some (vR (2, 0, 32)), none], [], (cg T m I J P))) fun x4 G3 => cO (cRn d false l none (nwG G3 13 0 1)) fun o6 G5 => cV (Run_ ((d+1), mTwo_init, 0, [some (vR (13, 0, G3.2.1)), some (vI x4), some (vO (some ρ)), some (vO o6)], [], G5)) fun G7 => K (some (13, 0, G3.2.1)) G7) = K (some (13, 0, m)) (cg T m' I' J' P') ∧
          CSu b n L p' o c' m' I' P' ∧ PrR (c' - c0) a m' I' P' (13, 0, m) (dTwo k f g) ∧ FrP m L I J P I' J' P' ∧ m ≤ m' ∧ m' ≤ m + (c' - c) ∧ c + 1 ≤ c' ∧ c' ≤ 64) := by
  have hv : I (2, 0, 32) 4 = cdC k := by rw [hk]; exact cv_op h256 h.1 (by omega)
  refine ⟨fun c64 => ?_, fun clt => ?_⟩
  · subst c64
    exact (ac_knotN (d + 1) T J h).cI _
  · obtain ⟨I1, r1, s1, f1⟩ := ac_knotY (d + 1) T J hn h256 h clt
    obtain ⟨s2, f2⟩ := s1.nw (t := 13) J (by omega)
    have hr2 := hr clt (m + 1) (z1 I1 (13, 0, m) 0) (z1 J (13, 0, m) 0) (z1 P (13, 0, m) none) s2
    have e1 : (cI (Run_ ((d+1), mReader_knot, 0, [some (vR (2, 0, 32)), none], [], (cg T m I J P))) fun x4 G3 => cO (cRn d false l none (nwG G3 13 0 1)) fun o6 G5 => cV (Run_ ((d+1), mTwo_init, 0, [some (vR (13, 0, G3.2.1)), some (vI x4), some (vO (some ρ)), some (vO o6)], [], G5)) fun G7 => K (some (13, 0, G3.2.1)) G7) = cO (cRn d false l none (cg T (m + 1) (z1 I1 (13, 0, m) 0) (z1 J (13, 0, m) 0) (z1 P (13, 0, m) none))) fun o6 G5 => cV (Run_ ((d+1), mTwo_init, 0, [some (vR (13, 0, m)), some (vI (cdC k)), some (vO (some ρ)), some (vO o6)], [], G5)) fun G7 => K (some (13, 0, m)) G7 := by
      rw [r1, cI_ok, hv]
      show cO (cRn d false l none (nwG (cg T m I1 J P) 13 0 1)) _ = _
      rw [nw_cg T m I1 J P 0 1 (by omega : 13 < 100)]
      rfl
    rw [e1]
    rcases rr with e | ⟨g, p', c'⟩
    · have hr2 : CFt L (m + 1) (m + 1 + (64 - (c + 1)) + 2) T e (z1 I1 (13, 0, m) 0) (z1 J (13, 0, m) 0) (z1 P (13, 0, m) none) (cRn d false l none (cg T (m + 1) (z1 I1 (13, 0, m) 0) (z1 J (13, 0, m) 0) (z1 P (13, 0, m) none))) := hr2
      exact ((CFt.pre (f1.tr f2 (Nat.le_refl _)) (by omega) hr2).cO _).up (by omega)
    · obtain ⟨ρ2, m2, I2, J2, P2, y1, y2, y3, y4, y5, y6, y7⟩ := hr2
      have c64 : c' ≤ 64 := y2.2.2.2.2.1
      -- the Two is laid
      have g0 : ∀ t x s j, ¬ (t = 13 ∧ s = m) → u2 I2 (13, 0, m) 1 (cdC k) (t, x, s) j = I2 (t, x, s) j := fun t x s j q => u2_r _ _ _ _ (by omega)
      have g1 : ∀ t x s j, ¬ (t = 13 ∧ s = m) → u2 (u2 P2 (13, 0, m) 0 (some ρ)) (13, 0, m) 2 (some ρ2) (t, x, s) j = P2 (t, x, s) j := fun t x s j q => by rw [u2_r _ _ _ _ (by omega), u2_r _ _ _ _ (by omega)]
      have f3 : FrP m L I J P (u2 I2 (13, 0, m) 1 (cdC k)) J2 (u2 (u2 P2 (13, 0, m) 0 (some ρ)) (13, 0, m) 2 (some ρ2)) := by
        have ff := (f1.tr f2 (Nat.le_refl _)).tr y4 (by omega)
        exact ⟨fun t x s j hs q1 q2 => (g0 _ _ _ _ (by omega)).trans (ff.1 t x s j hs q1 q2), ff.2.1, fun t x s j hs => (g1 _ _ _ _ (by omega)).trans (ff.2.2 t x s j hs)⟩
      have hL := y2.2.1
      have f4 : FrP m L I2 J2 P2 (u2 I2 (13, 0, m) 1 (cdC k)) J2 (u2 (u2 P2 (13, 0, m) 0 (some ρ)) (13, 0, m) 2 (some ρ2)) := ⟨fun t x s j hs q1 q2 => g0 _ _ _ _ (by omega), fun _ _ _ _ _ => rfl, fun t x s j hs => g1 _ _ _ _ (by omega)⟩
      have su : CSu b n L p' o c' m2 (u2 I2 (13, 0, m) 1 (cdC k)) (u2 (u2 P2 (13, 0, m) 0 (some ρ)) (13, 0, m) 2 (some ρ2)) := by
        obtain ⟨x1, ⟨x2, x3, x4, x5⟩, x6, x7, x8⟩ := y2
        have h99 := h.2.1.2.2.2
        exact ⟨x1.fr (fun j _ => g0 _ _ _ _ (by omega)) (fun j => g0 _ _ _ _ (by omega)) (g1 _ _ _ _ (by omega)) (g1 _ _ _ _ (by omega)), ⟨(g1 _ _ _ _ (by omega)).trans x2, x3, x4, x5⟩, (g0 _ _ _ _ (by omega)).trans x6, (g0 _ _ _ _ (by omega)).trans x7, x8⟩
      have pr1 : PrR (c - c0) a m (u2 I2 (13, 0, m) 1 (cdC k)) (u2 (u2 P2 (13, 0, m) 0 (some ρ)) (13, 0, m) 2 (some ρ2)) ρ f := pr.mv f3.ag
      have pr2 : PrR (c' - (c + 1)) (m + 1) m2 (u2 I2 (13, 0, m) 1 (cdC k)) (u2 (u2 P2 (13, 0, m) 0 (some ρ)) (13, 0, m) 2 (some ρ2)) ρ2 g := y3.mv (fun t x s j h1 h2 h3 h4 => ⟨g0 _ _ _ _ (by omega), g1 _ _ _ _ (by omega)⟩)
      have pt := pr_two (a := a) (m := m2) (s := m) (k := k) ha (by omega) hk0 (pr1.up (Nat.le_refl _) (Nat.le_refl _) (by omega : m ≤ m2)) (pr2.up (Nat.le_refl _) (by omega : a ≤ m + 1) (Nat.le_refl _)) (by rw [u2_k _ _ _ _ (by omega), u2_s]) (u2_s ..) (u2_s ..)
      refine ⟨m2, _, J2, _, ?_, su, pt.up (by omega) (Nat.le_refl _) (Nat.le_refl _), f3, by omega, by omega, by omega, c64⟩
      rw [y1, cO_ok, ac_two, cV_ok]
