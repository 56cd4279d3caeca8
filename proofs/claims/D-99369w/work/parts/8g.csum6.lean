/-! THE COMPONENT's sums are the descent: the whole -/
variable {b : Nat → Nat} {n : Nat}
theorem CRs.up {L o c c0 a m : Nat} {T : T_} {r : Rs_} {I : RI_} {J : RJ_} {P : RP_} {z : Option Z_} (h : CRs b n L o c c a m T r I J P z) (hc : c0 ≤ c) : CRs b n L o c c0 a m T r I J P z := by
  rcases r with e | ⟨g, p', c'⟩
  · exact h
  · obtain ⟨ρ, m', I', J', P', h1, h2, h3, h4, h5, h6, h7⟩ := h
    exact ⟨ρ, m', I', J', P', h1, h2, h3.up (by omega) (Nat.le_refl _) (Nat.le_refl _), h4, h5, h6, h7⟩
theorem ac_sum {L : Nat} (T : T_) (hn : n ≤ 700) (h256 : ∀ k, b k < 256) : ∀ (N : Nat) (lp : Bool) (l : Nat) (f : Dn_) (p o c : Nat) (r : Rs_), rd (tkK b n) (tkW b n) (tkN b n) (tkP b n) N lp l f p o c = some r → 1 ≤ l → l ≤ 7 →
    ∀ (d m : Nat) (I : RI_) (J : RJ_) (P : RP_), (8 - o) * 8 + (8 - l) + (64 - c) ≤ d → CSu b n L p o c m I P →
    (lp = false → ∀ x, CRs b n L o c c m m T r I J P (cRn d false l x (cg T m I J P))) ∧
    (lp = true → (l = 1 ∨ l = 2 ∨ l = 5 ∨ l = 6) → ∀ (ρ : R_) (c0 a : Nat), c0 ≤ c → a ≤ m → PrR (c - c0) a m I P ρ f → CRs b n L o c c0 a m T r I J P (cRn d true l (some ρ) (cg T m I J P))) := by
  have hcmp := fun p z => tk_cmp (b := b) (n := n) p z
  have k314 : ∀ p, rnk (kOp (tkK b n) (tkW b n) p) ≠ 0 → 3 ≤ kOp (tkK b n) (tkW b n) p ∧ kOp (tkK b n) (tkW b n) p ≤ 14 := by
    intro p h
    have h1 := kop_14 hcmp p
    rcases kop_c hcmp p with ⟨-, z⟩ | ⟨z1, z2, -⟩
    · exact absurd z h
    · omega
  intro N
  induction N with
  | zero => intro lp l f p o c r h; cases h
  | succ N ih =>
    intro lp l f p o c r h hl1 hl7 d m I J P hd hS
    have h0 : (if lp = true then rdL (tkK b n) (tkW b n) (tkN b n) (tkP b n) (rd (tkK b n) (tkW b n) (tkN b n) (tkP b n) N) l f p o c else if l = 7 then rd7 (tkK b n) (tkW b n) (tkN b n) (tkP b n) (rd (tkK b n) (tkW b n) (tkN b n) (tkP b n) N) f p o c else if l = 3 then rd3 (tkK b n) (tkW b n) (tkN b n) (tkP b n) (rd (tkK b n) (tkW b n) (tkN b n) (tkP b n) N) f p o c else if l = 4 then rd4 (tkK b n) (tkW b n) (tkN b n) (tkP b n) (rd (tkK b n) (tkW b n) (tkN b n) (tkP b n) N) f p o c
      else rb (rd (tkK b n) (tkW b n) (tkN b n) (tkP b n) N false (l + 1) f p o c) fun g p' c' => rd (tkK b n) (tkW b n) (tkN b n) (tkP b n) N true l g p' o c') = some r := h
    clear h
    have hc64 : c ≤ 64 := hS.2.2.2.2.1
    cases lp with
    | true =>
      refine ⟨fun q => Bool.noConfusion q, fun _ hl ρ c0 a hc0 ha pr => ?_⟩
      rw [if_pos rfl] at h0
      unfold rdL at h0
      cases d with
      | zero => omega
      | succ d =>
        rw [lv_loop d T J ρ h256 hS.1 hl]
        by_cases hk : rnk (kOp (tkK b n) (tkW b n) p) = l
        · rw [if_pos hk] at h0 ⊢
          have kk := k314 p (by omega)
          by_cases h64 : c = 64
          · rw [if_pos h64] at h0
            have : r = .inl (2, tkP b n p) := (Option.some.inj h0).symm
            subst this
            have := (ac_right (rr := .inl (0, 0)) (l := l + 1) d T J hn h256 hS rfl kk hc0 ha pr (fun q => by omega) (fun o G => cRn (d + 1) true l o G)).1 h64
            exact this.up (by omega)
          · rw [if_neg h64] at h0
            have sub := fun rr (hrr : rd (tkK b n) (tkW b n) (tkN b n) (tkP b n) N false (l + 1) f (tkN b n p) o (c + 1) = some rr) => (ac_right (rr := rr) (l := l + 1) d T J hn h256 hS rfl kk hc0 ha pr (fun q m1 I1 J1 P1 s1 => (ih false (l + 1) f (tkN b n p) o (c + 1) rr hrr (by omega) (by omega) d m1 I1 J1 P1 (by omega) s1).1 rfl none) (fun o G => cRn (d + 1) true l o G)).2 (by omega)
            rcases rb_some h0 with ⟨e, y1, y2⟩ | ⟨g, p', c', y1, y2⟩
            · subst y2
              exact sub _ y1
            · obtain ⟨m', I', J', P', x1, x2, x3, x4, x5, x6, x7, x8⟩ := sub _ y1
              rw [x1]
              exact CRs.pre x4 x5 x6 (by omega) x8 ((ih true l (dTwo (kOp (tkK b n) (tkW b n) p) f g) p' o c' r y2 hl1 hl7 (d + 1) m' I' J' P' (by omega) x2).2 rfl hl (13, 0, m) c0 a (by omega) (by omega) x3)
        · rw [if_neg hk] at h0 ⊢
          have : r = .inr (f, p, c) := (Option.some.inj h0).symm
          subst this
          exact ⟨ρ, m, I, J, P, rfl, hS, pr, FrP.rf _ _ _ _ _, by omega, by omega, by omega⟩
    | false =>
      refine ⟨fun _ x => ?_, fun q => Bool.noConfusion q⟩
      rw [if_neg (fun q => Bool.noConfusion q)] at h0
      cases d with
      | zero => omega
      | succ d =>
        by_cases l7 : l = 7
        · rw [if_pos l7] at h0
          rw [lv_one l7]
          exact ac_one d T J hn h256 hS h0 (fun r' hr ho m1 I1 J1 P1 s1 => (ih false 1 f (tkN b n p) (o + 1) c r' hr (by omega) (by omega) d m1 I1 J1 P1 (by omega) s1).1 rfl none)
        rw [if_neg l7] at h0
        by_cases l3 : l = 3
        · subst l3
          rw [if_pos rfl] at h0
          unfold rd3 at h0
          have w : (Run_ ((d+1), mReader_isWord, 0, [some (vR (2, 0, 32)), some (vI 13), some (vI 13)], [], (cg T m I J P))) = _ := ac_isWord (d + 1) T m J h256 hS.1 13 13 (by omega) (by omega)
          have e0 : cRn (d + 1) false 3 x (cg T m I J P) = _ := eReader_not_0 d 0 32 (cg T m I J P)
          rw [e0, w, cI_ok]
          by_cases z : tkK b n p = 1 ∧ tkW b n p = 13
          · rw [if_pos z] at h0
            rw [decide_eq_true (by omega : tkK b n p = 1 ∧ 13 ≤ tkW b n p ∧ tkW b n p ≤ 13), if_neg (by decide : ¬ bI true = 0)]
            by_cases h64 : c = 64
            · rw [if_pos h64] at h0
              have : r = .inl (2, tkP b n p) := (Option.some.inj h0).symm
              subst this
              subst h64
              exact ((ac_knotN (d + 1) T J hS).cI _).up (by omega)
            · rw [if_neg h64] at h0
              obtain ⟨I1, r1, s1, f1⟩ := ac_knotY (d + 1) T J hn h256 hS (by omega)
              obtain ⟨s2, f2⟩ := s1.nw (t := 12) J (by omega)
              have ff := f1.tr f2 (Nat.le_refl _)
              rw [r1, cI_ok, cg_n, nw_cg T m I1 J P 0 1 (by omega : 12 < 100)]
              have sub := fun rr (hrr : rd (tkK b n) (tkW b n) (tkN b n) (tkP b n) N false 3 f (tkN b n p) o (c + 1) = some rr) => (ih false 3 f (tkN b n p) o (c + 1) rr hrr (by omega) (by omega) d (m + 1) _ (z1 J (12, 0, m) 0) _ (by omega) s2).1 rfl none
              rcases rb_some h0 with ⟨e, y1, y2⟩ | ⟨g, p', c', y1, y2⟩
              · subst y2
                have hz : CFt L (m + 1) (m + 1 + (64 - (c + 1)) + 2) T e (z1 I1 (12, 0, m) 0) (z1 J (12, 0, m) 0) (z1 P (12, 0, m) none) (Run_ (d, mReader_not, 0, [some (vR (2, 0, 32))], [], (cg T (m + 1) (z1 I1 (12, 0, m) 0) (z1 J (12, 0, m) 0) (z1 P (12, 0, m) none)))) := sub _ y1
                exact ((CFt.pre ff (by omega) hz).cO _).up (by omega)
              · obtain ⟨ρ, m2, I2, J2, P2, x1, x2, x3, x4, x5, x6, x7⟩ := sub _ y1
                have : r = .inr (dNot g, p', c') := (Option.some.inj y2).symm
                subst this
                have x1 : (Run_ (d, mReader_not, 0, [some (vR (2, 0, 32))], [], (cg T (m + 1) (z1 I1 (12, 0, m) 0) (z1 J (12, 0, m) 0) (z1 P (12, 0, m) none)))) = _ := x1
                have g1 : ∀ t x s j, ¬ (t = 12 ∧ s = m) → u2 P2 (12, 0, m) 0 (some ρ) (t, x, s) j = P2 (t, x, s) j := fun t x s j q => u2_r _ _ _ _ (by omega)
                have f3 := ff.tr x4 (by omega : m ≤ m + 1)
                have f4 : FrP m L I J P I2 J2 (u2 P2 (12, 0, m) 0 (some ρ)) := ⟨f3.1, f3.2.1, fun t x s j hs => (g1 _ _ _ _ (by omega)).trans (f3.2.2 t x s j hs)⟩
                have su : CSu b n L p' o c' m2 I2 (u2 P2 (12, 0, m) 0 (some ρ)) := by
                  obtain ⟨q1, ⟨q2, q3⟩, q6⟩ := x2
                  exact ⟨q1.fr (fun _ _ => rfl) (fun _ => rfl) (g1 _ _ _ _ (by omega)) (g1 _ _ _ _ (by omega)), ⟨(g1 _ _ _ _ (by omega)).trans q2, q3⟩, q6⟩
                have pr2 : PrR (c' - (c + 1)) (m + 1) m2 I2 (u2 P2 (12, 0, m) 0 (some ρ)) ρ g := x3.mv (fun t x s j h1 h2 h3 h4 => ⟨rfl, g1 _ _ _ _ (by omega)⟩)
                refine ⟨(12, 0, m), m2, I2, J2, _, ?_, su, (pr_not (Nat.le_refl m) (by omega) (pr2.up (Nat.le_refl _) (by omega : m ≤ m + 1) (Nat.le_refl _)) (u2_s ..)).up (by omega) (Nat.le_refl _) (Nat.le_refl _), f4, by omega, by omega, by omega⟩
                rw [x1, cO_ok, ac_notI, cV_ok]
          · rw [if_neg z] at h0
            rw [decide_eq_false (by omega : ¬ (tkK b n p = 1 ∧ 13 ≤ tkW b n p ∧ tkW b n p ≤ 13)), if_pos (show bI false = 0 from rfl)]
            have hz := (ih false 4 f p o c r h0 (by omega) (by omega) d m I J P (by omega) hS).1 rfl none
            rcases r with e | ⟨g, p', c'⟩
            · exact CFt.cO _ hz
            · obtain ⟨ρ, m2, I2, J2, P2, x1, x2⟩ := hz
              have x1 : (Run_ (d, mReader_compare, 0, [some (vR (2, 0, 32)), none, none], [], (cg T m I J P))) = _ := x1
              exact ⟨ρ, m2, I2, J2, P2, by rw [x1, cO_ok], x2⟩
        rw [if_neg l3] at h0
        by_cases l4 : l = 4
        · subst l4
          rw [if_pos rfl] at h0
          unfold rd4 at h0
          have e0 : cRn (d + 1) false 4 x (cg T m I J P) = _ := eReader_compare_0 d 0 32 (cg T m I J P)
          rw [e0]
          have sub := fun rr (hrr : rd (tkK b n) (tkW b n) (tkN b n) (tkP b n) N false 5 f p o c = some rr) => (ih false 5 f p o c rr hrr (by omega) (by omega) d m I J P (by omega) hS).1 rfl none
          rcases rb_some h0 with ⟨e, y1, y2⟩ | ⟨g, p', c', y1, y2⟩
          · subst y2
            have hz : CFt L m (m + (64 - c) + 2) T e I J P (Run_ (d, mReader_sum, 0, [some (vR (2, 0, 32)), none, none], [], (cg T m I J P))) := sub _ y1
            exact hz.cO _
          · obtain ⟨ρ, m2, I2, J2, P2, x1, x2, x3, x4, x5, x6, x7⟩ := sub _ y1
            have x1 : (Run_ (d, mReader_sum, 0, [some (vR (2, 0, 32)), none, none], [], (cg T m I J P))) = _ := x1
            have c64 : c' ≤ 64 := x2.2.2.2.2.1
            rw [x1, cO_ok, lv_cmp d T J2 ρ h256 x2.1]
            have k4 := (kop_1 hcmp p').2.2.2.2
            by_cases hk : rnk (kOp (tkK b n) (tkW b n) p') = 4
            · rw [if_pos hk] at y2
              rw [if_pos (k4.mp hk)]
              have kk := k314 p' (by omega)
              have e52 : (Run_ ((d+1), mReader_compare, 52, [some (vR (2, 0, 32)), some (vO (some ρ)), none], [], (cg T m2 I2 J2 P2))) = _ := eReader_compare_52 d 0 32 (some ρ) (cg T m2 I2 J2 P2)
              rw [e52]
              refine CRs.pre x4 x5 x6 x7 c64 ?_
              by_cases h64 : c' = 64
              · rw [if_pos h64] at y2
                have : r = .inl (2, tkP b n p') := (Option.some.inj y2).symm
                subst this
                have := (ac_right (rr := .inl (0, 0)) (l := 5) d T J2 hn h256 x2 rfl kk x7 x5 x3 (fun q => by omega) (fun o G => some (.inl (some (vO o)), G))).1 h64
                exact this.up (by omega)
              · rw [if_neg h64] at y2
                have sub2 := fun rr (hrr : rd (tkK b n) (tkW b n) (tkN b n) (tkP b n) N false 5 g (tkN b n p') o (c' + 1) = some rr) => (ac_right (rr := rr) (l := 5) d T J2 hn h256 x2 rfl kk x7 x5 x3 (fun q m1 I1 J1 P1 s1 => (ih false 5 g (tkN b n p') o (c' + 1) rr hrr (by omega) (by omega) d m1 I1 J1 P1 (by omega) s1).1 rfl none) (fun o G => some (.inl (some (vO o)), G))).2 (by omega)
                rcases rb_some y2 with ⟨e, w1, w2⟩ | ⟨g2, p2, c2, w1, w2⟩
                · subst w2
                  exact sub2 _ w1
                · obtain ⟨m3, I3, J3, P3, v1, v2, v3, v4, v5, v6, v7, v8⟩ := sub2 _ w1
                  have : r = .inr (dTwo (kOp (tkK b n) (tkW b n) p') g g2, p2, c2) := (Option.some.inj w2).symm
                  subst this
                  exact ⟨(13, 0, m2), m3, I3, J3, P3, v1, v2, v3, v4, v5, v6, by omega⟩
            · rw [if_neg hk] at y2
              have : r = .inr (g, p', c') := (Option.some.inj y2).symm
              subst this
              rw [if_neg (fun q => hk (k4.mpr q))]
              exact ⟨ρ, m2, I2, J2, P2, rfl, x2, x3, x4, x5, x6, x7⟩
        rw [if_neg l4] at h0
        have hl : l = 1 ∨ l = 2 ∨ l = 5 ∨ l = 6 := by omega
        rw [lv_start d l x _ hl]
        have sub := fun rr (hrr : rd (tkK b n) (tkW b n) (tkN b n) (tkP b n) N false (l + 1) f p o c = some rr) => (ih false (l + 1) f p o c rr hrr (by omega) (by omega) d m I J P (by omega) hS).1 rfl x
        rcases rb_some h0 with ⟨e, y1, y2⟩ | ⟨g, p', c', y1, y2⟩
        · subst y2
          exact CFt.cO _ (sub _ y1)
        · obtain ⟨ρ, m2, I2, J2, P2, x1, x2, x3, x4, x5, x6, x7⟩ := sub _ y1
          rw [x1, cO_ok]
          exact CRs.pre x4 x5 x6 x7 x2.2.2.2.2.1 ((ih true l g p' o c' r y2 hl1 hl7 (d + 1) m2 I2 J2 P2 (by omega) x2).2 rfl hl ρ c m x7 x5 x3)
