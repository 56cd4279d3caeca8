/-! THE COMPONENT's small steps in lines -/
variable {b : Nat → Nat} {n : Nat}
/-- the kinds of tokens, as the component has them -/
theorem CTk.k {p : Nat} {I : RI_} {P : RP_} (h : CTk b n p I P) (h256 : ∀ k, b k < 256) : (I (2, 0, 32) 3 = 2) = (tkK b n p = 3) ∧ (I (2, 0, 32) 3 = 1) = (tkK b n p = 2) ∧ (I (2, 0, 32) 3 = 4) = (tkK b n p = 0) ∧ (tkK b n p = 3 → I (2, 0, 32) 4 = nI (tkW b n p) ∧ tkW b n p ≤ 999999) ∧ (tkK b n p = 2 → I (2, 0, 32) 4 = tkV b n p) ∧ (tkK b n p = 1 → I (2, 0, 32) 4 = nI (tkW b n p) ∧ tkW b n p < 21) := by
  have hf := tk_f (n := n) h256 p
  rcases h.2.2.2.2 with ⟨k, e⟩ | ⟨k, e, e2⟩ | ⟨k, e, e2⟩ | ⟨k, e, e2⟩ | ⟨k, e, e2⟩ | ⟨k, e, -⟩ | ⟨k, e⟩
  · exact ⟨by rw [e, k]; decide, by rw [e, k]; decide, by rw [e, k]; decide, fun z => by omega, fun z => by omega, fun z => by omega⟩
  · obtain ⟨w, w1, w2⟩ := hf.1 k
    have sw : tkW b n p = w := by unfold tkW; rw [w2]; exact nI_clamp (by omega)
    exact ⟨by rw [e, k]; decide, by rw [e, k]; decide, by rw [e, k]; decide, fun z => by omega, fun z => by omega, fun z => by rw [sw]; exact ⟨e2.trans w2, w1⟩⟩
  · exact ⟨by rw [e, k]; decide, by rw [e, k]; decide, by rw [e, k]; decide, fun z => by omega, fun z => e2, fun z => by omega⟩
  · obtain ⟨v, v1, v2⟩ := hf.2.1 k
    have sw : tkW b n p = v := by unfold tkW; rw [v2]; exact nI_clamp (by omega)
    exact ⟨by rw [e, k]; decide, by rw [e, k]; decide, by rw [e, k]; decide, fun z => by rw [sw]; exact ⟨e2.trans v2, v1⟩, fun z => by omega, fun z => by omega⟩
  · exact ⟨by rw [e, k]; decide, by rw [e, k]; decide, by rw [e, k]; decide, fun z => by omega, fun z => by omega, fun z => by omega⟩
  · exact ⟨by rw [e, k]; decide, by rw [e, k]; decide, by rw [e, k]; decide, fun z => by omega, fun z => by omega, fun z => by omega⟩
  · exact ⟨by rw [e, k]; decide, by rw [e, k]; decide, by rw [e, k]; decide, fun z => by omega, fun z => by omega, fun z => by omega⟩
/-- a fault thrown, by the token alone -/
theorem ac_thr {l p m : Nat} {I : RI_} {P : RP_} (d : Nat) (T : T_) (J : RJ_) (k : Nat) (h : CTk b n p I P) (hm : 99 ≤ m) : CFt l m (m + 1) T (k, tkP b n p) I J P (cR 6 (Run_ (d, mReader_wrong, 0, [some (vR (2, 0, 32)), some (vI (nI k))], [], (cg T m I J P))) fun a s G => some (.inr (6, a, s), G)) := by
  obtain ⟨I', J', P', r, a, f⟩ := ac_wrong (l := l) d T J k h hm
  exact ⟨m, m + 1, I', J', P', by rw [r, cR_ok], a, f, by omega, by omega, by omega⟩
theorem FrK.p {m l : Nat} {I I' : RI_} (h : FrK I I') (J : RJ_) (P : RP_) : FrP m l I J P I' J P := ⟨fun t a s k hs q1 q2 => h _ _ (fun z => by
  have z1 := congrArg (·.1) z.1
  have z2 := congrArg (·.2.2) z.1
  simp only at z1 z2
  have := z.2
  omega), fun _ _ _ _ _ => rfl, fun _ _ _ _ _ => rfl⟩
def CNg (b : Nat → Nat) (n : Nat) (x : Int32) (q m : Nat) (T : T_) (I : RI_) (J : RJ_) (P : RP_) (z : Option Z_) : Prop := ∃ I' : RI_, z = some (.inl (some (vI x)), cg T m I' J P) ∧ CTk b n q I' P ∧ FrK I I'
theorem ac_number {l p m : Nat} {I : RI_} {P : RP_} (d : Nat) (T : T_) (J : RJ_) (hn : n ≤ 700) (h256 : ∀ k, b k < 256) (h : CTk b n p I P) (hm : 99 ≤ m) {hi : Nat} (hh : hi < 1000000) :
    (∀ e, numS b n p hi = .inl e → CFt l m (m + 1) T e I J P (Run_ (d, mReader_number, 0, [some (vR (2, 0, 32)), some (vI 0), some (vI (nI hi)), none], [], (cg T m I J P)))) ∧ (∀ v q, numS b n p hi = .inr (v, q) → CNg b n (nI v) q m T I J P (Run_ (d, mReader_number, 0, [some (vR (2, 0, 32)), some (vI 0), some (vI (nI hi)), none], [], (cg T m I J P)))) := by
  obtain ⟨k3, -, -, e3, -, -⟩ := h.k h256
  have w1 : CFt l m (m + 1) T (1, tkP b n p) I J P (cR 6 (Run_ (d, mReader_wrong, 0, [some (vR (2, 0, 32)), some (vI 1)], [], (cg T m I J P))) fun a s G => some (.inr (6, a, s), G)) := ac_thr d T J 1 h hm
  have w2 : CFt l m (m + 1) T (2, tkP b n p) I J P (cR 6 (Run_ (d, mReader_wrong, 0, [some (vR (2, 0, 32)), some (vI 2)], [], (cg T m I J P))) fun a s G => some (.inr (6, a, s), G)) := ac_thr d T J 2 h hm
  unfold numS
  rw [eReader_number_0, eReader_numberAtHand_0]
  by_cases c3 : tkK b n p = 3
  · obtain ⟨e9, v9⟩ := e3 c3
    have ii := ac_inI d (cg T m I J P) (nI (tkW b n p)) 0 (nI hi) rfl rfl
    have z0 : ((nI (tkW b n p)) < 0) = False := nI_lt0 (by omega)
    unfold inS at ii
    rw [decide_eq_false (by rw [z0]; exact id)] at ii
    have ii : (Run_ (d, mC_in, 0, [some (vJ ((nI (tkW b n p)).toInt64)), none, some (vJ ((0 : Int32).toInt64)), none, some (vJ ((nI hi).toInt64)), none], [], (cg T m I J P))) = _ := ii
    rw [if_pos c3]
    by_cases c : hi < tkW b n p
    · rw [if_pos c]
      refine ⟨fun e he => ?_, fun v q hq => (by cases hq)⟩
      injection he with he
      subst he
      rw [decide_eq_true (by rw [nn_lt (by omega) (by omega)]; exact c)] at ii
      simp (disch := omega) only [↓reduceIte, hI_cg, k3, eq_true c3, e9, ii, cI_ok, Bool.not_true, Bool.and_false, bI_0]
      exact w2.cI _
    · rw [if_neg c]
      refine ⟨fun e he => (by cases he), fun v q hq => ?_⟩
      injection hq with hq
      have hv := congrArg Prod.fst hq
      have hq := congrArg Prod.snd hq
      subst hv
      subst hq
      rw [decide_eq_false (by rw [nn_lt (by omega) (by omega)]; exact c)] at ii
      obtain ⟨I', r, f, t⟩ := h.next (m := m) d T J hn h256
      refine ⟨I', ?_, t, f⟩
      simp (disch := omega) only [↓reduceIte, hI_cg, k3, eq_true c3, e9, ii, cI_ok, cV_ok, Bool.not_true, Bool.not_false, Bool.and_true, bI_1, i1_0, r]
  · rw [if_neg c3]
    refine ⟨fun e he => ?_, fun v q hq => (by cases hq)⟩
    injection he with he
    subst he
    simp (disch := omega) only [↓reduceIte, hI_cg, k3, c3]
    exact w1.cI _
theorem ac_signed {l p m : Nat} {I : RI_} {P : RP_} (d : Nat) (T : T_) (J : RJ_) (hn : n ≤ 700) (h256 : ∀ k, b k < 256) (h : CTk b n p I P) (hm : 99 ≤ m) {hi : Nat} (hh : hi < 1000000) :
    (∀ e, sgnS b n p hi = .inl e → CFt l m (m + 1) T e I J P (Run_ (d, mReader_signed, 0, [some (vR (2, 0, 32)), some (vI (nI hi)), none, none], [], (cg T m I J P)))) ∧ (∀ v q, sgnS b n p hi = .inr (v, q) → CNg b n v q m T I J P (Run_ (d, mReader_signed, 0, [some (vR (2, 0, 32)), some (vI (nI hi)), none, none], [], (cg T m I J P)))) := by
  have s45 : (Run_ (d, mReader_isSign, 0, [some (vR (2, 0, 32)), some (vI 45)], [], (cg T m I J P))) = _ := ac_isSgn d T m J h256 h (c := 45) rfl
  unfold sgnS
  by_cases c : tkK b n p = 4 ∧ tkW b n p = 45
  · rw [if_pos c]
    rw [decide_eq_true c] at s45
    obtain ⟨I1, r, f, t⟩ := h.next (m := m) d T J hn h256
    obtain ⟨n1, n2⟩ := ac_number (l := l) d T J hn h256 t hm hh
    have e0 : (Run_ (d, mReader_signed, 0, [some (vR (2, 0, 32)), some (vI (nI hi)), none, none], [], (cg T m I J P))) = (Run_ (d, mReader_signed, 15, [some (vR (2, 0, 32)), some (vI (nI hi)), some (vI 1), none], [], (cg T m I1 J P))) := by
      rw [eReader_signed_0]
      simp (disch := omega) only [↓reduceIte, s45, bI_1, i1_0, cI_ok, cV_ok, r]
    rw [e0, eReader_signed_15]
    refine ⟨fun e he => ?_, fun v q hq => ?_⟩
    · rcases sb_l he with y | ⟨v, q, -, y⟩
      · exact (CFt.pre (f.p J P) (Nat.le_refl _) (n1 e y)).cI _
      · cases y
    · obtain ⟨w, q', y1, y2⟩ := sb_r hq
      injection y2 with y2
      have hv := congrArg Prod.fst y2
      have hq := congrArg Prod.snd y2
      subst hv
      subst hq
      obtain ⟨I', r1, r2, r3⟩ := n2 w q' y1
      refine ⟨I', ?_, r2, f.tr r3⟩
      simp (disch := omega) only [↓reduceIte, r1, cI_ok, i1_0, eReader_signed_32]
  · rw [if_neg c]
    rw [decide_eq_false c] at s45
    obtain ⟨n1, n2⟩ := ac_number (l := l) d T J hn h256 h hm hh
    have e0 : (Run_ (d, mReader_signed, 0, [some (vR (2, 0, 32)), some (vI (nI hi)), none, none], [], (cg T m I J P))) = (Run_ (d, mReader_signed, 15, [some (vR (2, 0, 32)), some (vI (nI hi)), some (vI 0), none], [], (cg T m I J P))) := by
      rw [eReader_signed_0]
      simp (disch := omega) only [↓reduceIte, s45, bI_0, cI_ok]
    rw [e0, eReader_signed_15]
    refine ⟨fun e he => ?_, fun v q hq => ?_⟩
    · rcases sb_l he with y | ⟨v, q, -, y⟩
      · exact (n1 e y).cI _
      · cases y
    · obtain ⟨w, q', y1, y2⟩ := sb_r hq
      injection y2 with y2
      have hv := congrArg Prod.fst y2
      have hq := congrArg Prod.snd y2
      subst hv
      subst hq
      obtain ⟨I', r1, r2, r3⟩ := n2 w q' y1
      refine ⟨I', ?_, r2, r3⟩
      simp (disch := omega) only [↓reduceIte, r1, cI_ok, eReader_signed_32]
