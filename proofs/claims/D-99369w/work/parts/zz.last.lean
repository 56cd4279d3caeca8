section
set_option maxHeartbeats 200000
/-! THE COMPONENT's names -/
variable {b : Nat → Nat} {n : Nat}
/-- a list of named ones -/
def CNl (t q N m : Nat) (y : Nat → Nat) (f : Nat → Int32) (I : RI_) (P : RP_) : Prop := (t = 7 ∨ t = 8) ∧ m ≤ N ∧ N < 1000 ∧ P (17, 0, q) 1 = some (49, N, q + 1) ∧ I (17, 0, q) 2 = nI m ∧ ∀ k, k < m → P (49, N, q + 1) k = some (t, 0, y k) ∧ I (t, 0, y k) 0 = f k
theorem ac_find {t q N m : Nat} {y : Nat → Nat} {f : Nat → Int32} {I : RI_} {P : RP_} (d : Nat) (T : T_) (M : Nat) (J : RJ_) (v : Int32) (h : CNl t q N m y f I P) : (Run_ (d, mNamed_find, 0, [some (vR (17, 0, q)), some (vI v), none], [], (cg T M I J P))) = some (.inl (some (vI (fdS f m v))), cg T M I J P) := by
  obtain ⟨ht, hm, hN, h1, h2, h3⟩ := h
  rw [eNamed_find_0]
  refine lpd (fun k => (Run_ (d, mNamed_find, 2, [some (vR (17, 0, q)), some (vI v), some (vI (nI k))], [], (cg T M I J P)))) (fun x => some (.inl (some (vI x)), cg T M I J P)) (fun k => decide (f k = v)) m (fun k hk => ?_) ?_
  · try dsimp only
    obtain ⟨h4, h5⟩ := h3 k hk
    have g := al_get (n := M) (J := J) d T h1 h2 hk hm hN h4
    rw [eNamed_find_2]
    have q1 : ∀ (X : R_ → Option Z_), qP none [7, 8] (some (t, 0, y k)) X = X (t, 0, y k) := fun X => by
      rcases ht with z | z <;> subst z <;> rfl
    simp (disch := omega) only [eArrayList_size_0, ↓reduceIte, ↓cI_m, ↓cO_m, hI_cg, h2, nn_lt, hk, g, q1, h5, nR_add]
    by_cases c : f k = v
    · simp only [c, eq_self, decide_true, decide_false, cond_true, cond_false, ↓reduceIte]
    · simp only [c, eq_self, decide_true, decide_false, cond_true, cond_false, ↓reduceIte]
  · try dsimp only
    rw [eNamed_find_2]
    simp (disch := omega) only [eArrayList_size_0, ↓reduceIte, ↓cI_m, ↓cO_m, hI_cg, h2, nn_lt, Nat.lt_irrefl]
theorem ac_fresh {l p M t q N m : Nat} {y : Nat → Nat} {f : Nat → Int32} {I : RI_} {P : RP_} (d : Nat) (T : T_) (J : RJ_) (hn : n ≤ 700) (h256 : ∀ k, b k < 256) (h : CTk b n p I P) (hM : 99 ≤ M) (hc : CNl t q N m y f I P) :
    (∀ e, newS b n p f m = .inl e → CFt l M (M + 1) T e I J P (Run_ (d, mReader_fresh, 0, [some (vR (2, 0, 32)), some (vR (17, 0, q)), none], [], (cg T M I J P)))) ∧ (∀ v q', newS b n p f m = .inr (v, q') → CNg b n v q' M T I J P (Run_ (d, mReader_fresh, 0, [some (vR (2, 0, 32)), some (vR (17, 0, q)), none], [], (cg T M I J P)))) := by
  obtain ⟨-, k2, -, -, e2, -⟩ := h.k h256
  have w1 : CFt l M (M + 1) T (1, tkP b n p) I J P (cR 6 (Run_ (d, mReader_wrong, 0, [some (vR (2, 0, 32)), some (vI 1)], [], (cg T M I J P))) fun a s G => some (.inr (6, a, s), G)) := ac_thr d T J 1 h hM
  have w3 : CFt l M (M + 1) T (3, tkP b n p) I J P (cR 6 (Run_ (d, mReader_wrong, 0, [some (vR (2, 0, 32)), some (vI 3)], [], (cg T M I J P))) fun a s G => some (.inr (6, a, s), G)) := ac_thr d T J 3 h hM
  have fd := ac_find d T M J (tkV b n p) hc
  unfold newS
  rw [eReader_fresh_0]
  by_cases c2 : tkK b n p = 2
  · have e4 := e2 c2
    rw [if_pos c2]
    by_cases c : fdS f m (tkV b n p) = -1
    · rw [if_pos c]
      rw [c] at fd
      refine ⟨fun e he => (by cases he), fun v q hq => ?_⟩
      injection hq with hq
      have hv := congrArg Prod.fst hq
      have hq := congrArg Prod.snd hq
      subst hv
      subst hq
      obtain ⟨I', r, f', t⟩ := h.next (m := M) d T J hn h256
      refine ⟨I', ?_, t, f'⟩
      simp (disch := omega) only [↓reduceIte, hI_cg, k2, eq_true c2, e4, fd, cI_ok, cV_ok, r]
    · rw [if_neg c]
      refine ⟨fun e he => ?_, fun v q hq => (by cases hq)⟩
      injection he with he
      subst he
      simp (disch := omega) only [↓reduceIte, hI_cg, k2, eq_true c2, e4, fd, cI_ok, c]
      exact w3
  · rw [if_neg c2]
    refine ⟨fun e he => ?_, fun v q hq => (by cases hq)⟩
    injection he with he
    subst he
    simp (disch := omega) only [↓reduceIte, hI_cg, k2, c2]
    exact w1
theorem ac_ahead {l p M t q N m : Nat} {y : Nat → Nat} {f : Nat → Int32} {I : RI_} {P : RP_} (d : Nat) (T : T_) (J : RJ_) (hn : n ≤ 700) (h256 : ∀ k, b k < 256) (h : CTk b n p I P) (hM : 99 ≤ M) (hc : CNl t q N m y f I P) :
    (∀ e, herS b n p f m = .inl e → CFt l M (M + 1) T e I J P (Run_ (d, mReader_ahead, 0, [some (vR (2, 0, 32)), some (vR (17, 0, q)), none], [], (cg T M I J P)))) ∧ (∀ v q', herS b n p f m = .inr (v, q') → v < m ∧ CNg b n (nI v) q' M T I J P (Run_ (d, mReader_ahead, 0, [some (vR (2, 0, 32)), some (vR (17, 0, q)), none], [], (cg T M I J P)))) := by
  obtain ⟨-, k2, -, -, e2, -⟩ := h.k h256
  have w1 : CFt l M (M + 1) T (1, tkP b n p) I J P (cR 6 (Run_ (d, mReader_wrong, 0, [some (vR (2, 0, 32)), some (vI 1)], [], (cg T M I J P))) fun a s G => some (.inr (6, a, s), G)) := ac_thr d T J 1 h hM
  have w4 : CFt l M (M + 1) T (4, tkP b n p) I J P (cR 6 (Run_ (d, mReader_wrong, 0, [some (vR (2, 0, 32)), some (vI 4)], [], (cg T M I J P))) fun a s G => some (.inr (6, a, s), G)) := ac_thr d T J 4 h hM
  have fd := ac_find d T M J (tkV b n p) hc
  have hN := hc.2.2.1
  have hmN := hc.2.1
  unfold herS
  rw [eReader_ahead_0]
  by_cases c2 : tkK b n p = 2
  · have e4 := e2 c2
    rw [if_pos c2]
    rcases fd_or f (m := m) (tkV b n p) (by omega) with c | ⟨j, j1, j2, j3, j4, -⟩
    · rw [if_pos c]
      rw [c] at fd
      refine ⟨fun e he => ?_, fun v q hq => (by cases hq)⟩
      injection he with he
      subst he
      simp (disch := omega) only [↓reduceIte, hI_cg, k2, eq_true c2, e4, fd, cI_ok]
      exact w4
    · rw [if_neg j4, j3]
      refine ⟨fun e he => (by cases he), fun v q hq => ?_⟩
      injection hq with hq
      have hv := congrArg Prod.fst hq
      have hq := congrArg Prod.snd hq
      subst hv
      subst hq
      rw [j2] at j4 fd
      obtain ⟨I', r, f', t⟩ := h.next (m := M) d T J hn h256
      refine ⟨j1, I', ?_, t, f'⟩
      simp (disch := omega) only [↓reduceIte, hI_cg, k2, eq_true c2, e4, fd, cI_ok, cV_ok, r, j4]
  · rw [if_neg c2]
    refine ⟨fun e he => ?_, fun v q hq => (by cases hq)⟩
    injection he with he
    subst he
    simp (disch := omega) only [↓reduceIte, hI_cg, k2, c2]
    exact w1
end
