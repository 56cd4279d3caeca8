/-! THE COMPONENT's sums are the descent: the induction -/
variable {b : Nat → Nat} {n : Nat}
theorem lv_one {d l : Nat} {x : Option R_} {G : G_} (h7 : l = 7) : cRn d false l x G = (Run_ (d, mReader_one, 0, [some (vR (2, 0, 32)), none], [], G)) := by subst h7; rfl
theorem CSu.num {L p o c m : Nat} {I : RI_} {P : RP_} (h256 : ∀ k, b k < 256) (h : CSu b n L p o c m I P) (k : tkK b n p = 3) : ∃ v, v ≤ 999999 ∧ tkW b n p = v ∧ I (2, 0, 32) 3 = 2 ∧ I (2, 0, 32) 4 = nI v := by
  obtain ⟨v, v1, v2⟩ := (tk_f (n := n) h256 p).2.1 k
  have sw : tkW b n p = v := by unfold tkW; rw [v2]; exact nI_clamp (by omega)
  rcases h.1.2.2.2.2 with ⟨y, e⟩ | ⟨y, -⟩ | ⟨y, -⟩ | ⟨y, e, e2⟩ | ⟨y, -⟩ | ⟨y, -⟩ | ⟨y, -⟩
  · omega
  · omega
  · omega
  · exact ⟨v, v1, sw, e, e2.trans v2⟩
  · omega
  · omega
  · omega
theorem CSu.key {L p o c m : Nat} {I : RI_} {P : RP_} (h256 : ∀ k, b k < 256) (h : CSu b n L p o c m I P) (k : tkK b n p = 1) : ∃ w, w < 21 ∧ tkW b n p = w ∧ I (2, 0, 32) 3 = 0 ∧ I (2, 0, 32) 4 = nI w := by
  obtain ⟨v, v1, v2⟩ := (tk_f (n := n) h256 p).1 k
  have sw : tkW b n p = v := by unfold tkW; rw [v2]; exact nI_clamp (by omega)
  rcases h.1.2.2.2.2 with ⟨y, e⟩ | ⟨y, e, e2⟩ | ⟨y, -⟩ | ⟨y, -⟩ | ⟨y, -⟩ | ⟨y, -⟩ | ⟨y, -⟩
  · omega
  · exact ⟨v, v1, sw, e, e2.trans v2⟩
  · omega
  · omega
  · omega
  · omega
  · omega
theorem CSu.oth {L p o c m : Nat} {I : RI_} {P : RP_} (h : CSu b n L p o c m I P) : (tkK b n p ≠ 3 → ¬ I (2, 0, 32) 3 = 2) ∧ (tkK b n p ≠ 1 → ¬ I (2, 0, 32) 3 = 0) := by
  rcases h.1.2.2.2.2 with ⟨y, e⟩ | ⟨y, e, -⟩ | ⟨y, e, -⟩ | ⟨y, e, -⟩ | ⟨y, e, -⟩ | ⟨y, e, -⟩ | ⟨y, e⟩ <;> rw [e] <;> exact ⟨fun z => (by first | decide | omega), fun z => (by first | decide | omega)⟩
/-- one: a bracket, a number, a name -/
theorem ac_one {L p o c m : Nat} {I : RI_} {P : RP_} {R : Bool → Nat → Dn_ → Nat → Nat → Nat → Option Rs_} {f : Dn_} {r : Rs_} (d : Nat) (T : T_) (J : RJ_) (hn : n ≤ 700) (h256 : ∀ k, b k < 256) (h : CSu b n L p o c m I P) (h0 : rd7 (tkK b n) (tkW b n) (tkN b n) (tkP b n) R f p o c = some r)
    (ih : ∀ r', R false 1 f (tkN b n p) (o + 1) c = some r' → o < 8 → ∀ (m1 : Nat) (I1 : RI_) (J1 : RJ_) (P1 : RP_), CSu b n L (tkN b n p) (o + 1) c m1 I1 P1 → CRs b n L (o + 1) c c m1 m1 T r' I1 J1 P1 (Run_ (d, mReader_or, 0, [some (vR (2, 0, 32)), none, none], [], (cg T m1 I1 J1 P1)))) :
    CRs b n L o c c m m T r I J P (Run_ ((d+1), mReader_one, 0, [some (vR (2, 0, 32)), none], [], (cg T m I J P))) := by
  have s40 : (Run_ ((d+1), mReader_isSign, 0, [some (vR (2, 0, 32)), some (vI 40)], [], (cg T m I J P))) = _ := ac_isSgn (d + 1) T m J h256 h.1 (c := 40) rfl
  have ho : o ≤ 8 := h.2.2.2.2.2
  have h5 : I (2, 0, 32) 5 = nI o := h.2.2.2.1
  have t2 : CFt L m (m + 1) T (2, tkP b n p) I J P (cR 6 (Run_ ((d+1), mReader_wrong, 0, [some (vR (2, 0, 32)), some (vI 2)], [], (cg T m I J P))) fun a s G => some (.inr (6, a, s), G)) := ac_throw (d + 1) T J 2 h
  have t1 : CFt L m (m + 1) T (1, tkP b n p) I J P (cR 6 (Run_ ((d+1), mReader_wrong, 0, [some (vR (2, 0, 32)), some (vI 1)], [], (cg T m I J P))) fun a s G => some (.inr (6, a, s), G)) := ac_throw (d + 1) T J 1 h
  unfold rd7 at h0
  rw [eReader_one_0, s40, cI_ok]
  by_cases hb : tkK b n p = 4 ∧ tkW b n p = 40
  · rw [if_pos hb] at h0
    rw [decide_eq_true hb, if_neg (by decide : ¬ bI true = 0), hI_cg _ _ _ _ _ _ _ _ (by omega : 2 < 100), h5]
    by_cases h8 : o = 8
    · rw [if_pos h8] at h0
      have : r = .inl (2, tkP b n p) := (Option.some.inj h0).symm
      subst this
      rw [if_pos (by rw [h8]; rfl)]
      exact t2.up (by omega)
    · rw [if_neg h8] at h0
      rw [if_neg (by rw [show (8 : Int32) = nI 8 from rfl, nn_eq (by omega) (by omega)]; exact h8)]
      have s1 : CSu b n L p (o + 1) c m (u2 I (2, 0, 32) 5 (nI (o + 1))) P := by
        obtain ⟨x1, x2, x6, x7, x8⟩ := id h
        exact ⟨x1.fr (fun k hk => u2_k _ _ _ _ (by omega)) (fun k => u2_r _ _ _ _ (by omega)) rfl rfl, x2, by rw [u2_r _ _ _ _ (by omega)]; exact x6, u2_s .., x8.1, by omega⟩
      obtain ⟨I1, r1, s2, f2⟩ := s1.next (d + 1) T J hn h256
      have hw : wI (cg T m I J P) (2, 0, 32) 5 (nI o + 1) = cg T m (u2 I (2, 0, 32) 5 (nI (o + 1))) J P := by
        rw [wI_cg _ _ _ _ _ _ _ _ _ (by omega : 2 < 100)]
        simp (disch := omega) only [nR_add]
      rw [hw, r1, cV_ok]
      have fA : FrP m L I J P I1 J P := (FrP.u5 I J P _).tr f2 (Nat.le_refl _)
      rcases rb_some h0 with ⟨e, z1, z2⟩ | ⟨g, p', c', z1, z2⟩
      · subst z2
        have hz : CFt L m (m + (64 - c) + 2) T e I1 J P (Run_ (d, mReader_or, 0, [some (vR (2, 0, 32)), none, none], [], (cg T m I1 J P))) := ih _ z1 (by omega) m I1 J P s2
        exact (CFt.pre fA (Nat.le_refl _) hz).cO _
      · obtain ⟨ρ, m2, I2, J2, P2, y1, y2, y3, y4, y5, y6, y7⟩ := ih _ z1 (by omega) m I1 J P s2
        rw [y1, cO_ok]
        have s41 : (Run_ ((d+1), mReader_isSign, 0, [some (vR (2, 0, 32)), some (vI 41)], [], (cg T m2 I2 J2 P2))) = _ := ac_isSgn (d + 1) T m2 J2 h256 y2.1 (c := 41) rfl
        have c64 : c' ≤ 64 := y2.2.2.2.2.1
        have fB := fA.tr y4 (Nat.le_refl _)
        rw [s41, cI_ok]
        by_cases hcl : tkK b n p' = 4 ∧ tkW b n p' = 41
        · rw [if_pos hcl] at z2
          have : r = .inr (g, tkN b n p', c') := (Option.some.inj z2).symm
          subst this
          rw [decide_eq_true hcl, if_neg (by decide : ¬ bI true = 0)]
          have q5 : I2 (2, 0, 32) 5 = nI (o + 1) := y2.2.2.2.1
          have s3 : CSu b n L p' o c' m2 (u2 I2 (2, 0, 32) 5 (nI o)) P2 := by
            obtain ⟨x1, x2, x6, x7, x8⟩ := id y2
            exact ⟨x1.fr (fun k hk => u2_k _ _ _ _ (by omega)) (fun k => u2_r _ _ _ _ (by omega)) rfl rfl, x2, by rw [u2_r _ _ _ _ (by omega)]; exact x6, u2_s .., x8.1, by omega⟩
          obtain ⟨I3, r3, s4, f4⟩ := s3.next (d + 1) T J2 hn h256
          have hw2 : wI (cg T m2 I2 J2 P2) (2, 0, 32) 5 (hI (cg T m2 I2 J2 P2) (2, 0, 32) 5 - 1) = cg T m2 (u2 I2 (2, 0, 32) 5 (nI o)) J2 P2 := by
            rw [wI_cg _ _ _ _ _ _ _ _ _ (by omega : 2 < 100), hI_cg _ _ _ _ _ _ _ _ (by omega : 2 < 100), q5]
            simp (disch := omega) only [nR_sub, Nat.add_sub_cancel]
          rw [hw2, r3, cV_ok]
          have f5 : FrP m2 L I2 J2 P2 I3 J2 P2 := (FrP.u5 I2 J2 P2 _).tr f4 (Nat.le_refl _)
          exact ⟨ρ, m2, I3, J2, P2, rfl, s4, y3.mv f5.ag, fB.tr f5 y5, y5, y6, y7⟩
        · rw [if_neg hcl] at z2
          have : r = .inl (1, tkP b n p') := (Option.some.inj z2).symm
          subst this
          rw [decide_eq_false hcl, if_pos (show bI false = 0 from rfl)]
          have t3 : CFt L m2 (m2 + 1) T (1, tkP b n p') I2 J2 P2 (cR 6 (Run_ ((d+1), mReader_wrong, 0, [some (vR (2, 0, 32)), some (vI 1)], [], (cg T m2 I2 J2 P2))) fun a s G => some (.inr (6, a, s), G)) := ac_throw (d + 1) T J2 1 y2
          exact (CFt.pre fB y5 t3).up (by omega)
  · rw [if_neg hb] at h0
    rw [decide_eq_false hb, if_pos (show bI false = 0 from rfl), hI_cg _ _ _ _ _ _ _ _ (by omega : 2 < 100)]
    obtain ⟨n3, n1⟩ := h.oth
    by_cases c3 : tkK b n p = 3
    · rw [if_pos c3] at h0
      obtain ⟨v, v1, v2, v3, v4⟩ := h.num h256 c3
      rw [v2] at h0
      rw [if_pos v3, hI_cg _ _ _ _ _ _ _ _ (by omega : 2 < 100), v4]
      by_cases c9 : 9999 < v
      · rw [if_pos c9] at h0
        have : r = .inl (2, tkP b n p) := (Option.some.inj h0).symm
        subst this
        rw [if_pos (by rw [show (9999 : Int32) = nI 9999 from rfl, nn_lt (by omega) (by omega)]; exact c9)]
        exact t2.up (by omega)
      · rw [if_neg c9] at h0
        rw [if_neg (by rw [show (9999 : Int32) = nI 9999 from rfl, nn_lt (by omega) (by omega)]; exact c9), cg_n, nw_cg T m I J P 0 1 (by omega : 10 < 100)]
        obtain ⟨s1, f1⟩ := h.nw (t := 10) J (by omega)
        by_cases c64 : c = 64
        · rw [if_pos c64] at h0
          have : r = .inl (2, tkP b n p) := (Option.some.inj h0).symm
          subst this
          subst c64
          exact ((CFt.pre f1 (by omega) (ac_knotN (d + 1) T _ s1)).cI _).up (by omega)
        · rw [if_neg c64] at h0
          have : r = .inr (dNum (nI v), tkN b n p, c + 1) := (Option.some.inj h0).symm
          subst this
          have hc := h.2.2.2.2.1
          obtain ⟨I2, r2, s2, f2⟩ := ac_knotY (d + 1) T (z1 J (10, 0, m) 0) hn h256 s1 (by omega)
          have v5 : z1 I (10, 0, m) 0 (2, 0, 32) 4 = nI v := (z1_r _ _ _ (by omega)).trans v4
          rw [r2, cI_ok, v5, ac_numI, cV_ok]
          have g0 : ∀ t x s j, ¬ (t = 10 ∧ s = m) → u2 I2 (10, 0, m) 0 (nI v) (t, x, s) j = I2 (t, x, s) j := fun t x s j q => u2_r _ _ _ _ (by omega)
          have fx : FrP (m + 1) L I2 (z1 J (10, 0, m) 0) (z1 P (10, 0, m) none) I2 (z1 J (10, 0, m) 0) (z1 P (10, 0, m) none) := FrP.rf _ _ _ _ _
          have su : CSu b n L (tkN b n p) o (c + 1) (m + 1) (u2 I2 (10, 0, m) 0 (nI v)) (z1 P (10, 0, m) none) := by
            obtain ⟨x1, x2, x6, x7, x8⟩ := s2
            exact ⟨x1.fr (fun j _ => g0 _ _ _ _ (by omega)) (fun j => g0 _ _ _ _ (by omega)) rfl rfl, x2, (g0 _ _ _ _ (by omega)).trans x6, (g0 _ _ _ _ (by omega)).trans x7, x8⟩
          have ff := f1.tr f2 (by omega : m ≤ m + 1)
          exact ⟨(10, 0, m), m + 1, _, _, _, rfl, su, (pr_num (Nat.le_refl m) (by omega) (u2_s ..)).up (by omega) (Nat.le_refl _) (Nat.le_refl _), ⟨fun t x s j hs q1 q2 => (g0 _ _ _ _ (by omega)).trans (ff.1 t x s j hs q1 q2), ff.2.1, ff.2.2⟩, by omega, by omega, by omega⟩
    · rw [if_neg c3] at h0
      rw [if_neg (n3 c3), hI_cg _ _ _ _ _ _ _ _ (by omega : 2 < 100)]
      have e126 : (Run_ ((d+1), mReader_one, 126, [some (vR (2, 0, 32)), none], [], (cg T m I J P))) = (cR 6 (Run_ ((d+1), mReader_wrong, 0, [some (vR (2, 0, 32)), some (vI 1)], [], (cg T m I J P))) fun a s G => some (.inr (6, a, s), G)) := eReader_one_126 (d + 1) 0 32 _
      by_cases c1 : tkK b n p = 1
      · obtain ⟨w, w1, w2, w3, w4⟩ := h.key h256 c1
        rw [if_pos w3, w4]
        rw [w2] at h0
        by_cases c14 : 14 ≤ w
        · rw [if_pos ⟨c1, c14⟩] at h0
          rw [if_neg (by rw [show (14 : Int32) = nI 14 from rfl, nn_lt (by omega) (by omega)]; omega), cg_n, nw_cg T m I J P 0 1 (by omega : 11 < 100)]
          obtain ⟨s1, f1⟩ := h.nw (t := 11) J (by omega)
          by_cases c64 : c = 64
          · rw [if_pos c64] at h0
            have : r = .inl (2, tkP b n p) := (Option.some.inj h0).symm
            subst this
            subst c64
            exact ((CFt.pre f1 (by omega) (ac_knotN (d + 1) T _ s1)).cI _).up (by omega)
          · rw [if_neg c64] at h0
            have : r = .inr (dNam (w - 14), tkN b n p, c + 1) := (Option.some.inj h0).symm
            subst this
            have hc := h.2.2.2.2.1
            obtain ⟨I2, r2, s2, f2⟩ := ac_knotY (d + 1) T (z1 J (11, 0, m) 0) hn h256 s1 (by omega)
            have v5 : z1 I (11, 0, m) 0 (2, 0, 32) 4 = nI w := (z1_r _ _ _ (by omega)).trans w4
            have v6 : nI w - 14 = nI (w - 14) := nR_sub (n := 14) c14
            rw [r2, cI_ok, v5, v6, ac_namI, cV_ok]
            have g0 : ∀ t x s j, ¬ (t = 11 ∧ s = m) → u2 I2 (11, 0, m) 0 (nI (w - 14)) (t, x, s) j = I2 (t, x, s) j := fun t x s j q => u2_r _ _ _ _ (by omega)
            have su : CSu b n L (tkN b n p) o (c + 1) (m + 1) (u2 I2 (11, 0, m) 0 (nI (w - 14))) (z1 P (11, 0, m) none) := by
              obtain ⟨x1, x2, x6, x7, x8⟩ := s2
              exact ⟨x1.fr (fun j _ => g0 _ _ _ _ (by omega)) (fun j => g0 _ _ _ _ (by omega)) rfl rfl, x2, (g0 _ _ _ _ (by omega)).trans x6, (g0 _ _ _ _ (by omega)).trans x7, x8⟩
            have ff := f1.tr f2 (by omega : m ≤ m + 1)
            exact ⟨(11, 0, m), m + 1, _, _, _, rfl, su, (pr_nam (by omega) (Nat.le_refl m) (by omega) (u2_s ..)).up (by omega) (Nat.le_refl _) (Nat.le_refl _), ⟨fun t x s j hs q1 q2 => (g0 _ _ _ _ (by omega)).trans (ff.1 t x s j hs q1 q2), ff.2.1, ff.2.2⟩, by omega, by omega, by omega⟩
        · rw [if_neg (fun z => c14 z.2)] at h0
          have : r = .inl (1, tkP b n p) := (Option.some.inj h0).symm
          subst this
          rw [if_pos (by rw [show (14 : Int32) = nI 14 from rfl, nn_lt (by omega) (by omega)]; omega), e126]
          exact t1.up (by omega)
      · rw [if_neg (fun z => c1 z.1)] at h0
        have : r = .inl (1, tkP b n p) := (Option.some.inj h0).symm
        subst this
        rw [if_neg (n1 c1), e126]
        exact t1.up (by omega)
