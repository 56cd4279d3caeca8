/-! LEAST COSTS, plainly: paths, and what both searches find -/
/-- a path of n edges, and what it costs -/
def pth (E : Nat → Nat → Nat → Prop) : Nat → Nat → Nat → Nat → Prop
  | 0, i, j, w => i = j ∧ w = 0
  | n + 1, i, j, w => ∃ k c v, E i k c ∧ pth E n k j v ∧ w = c + v
/-- the least cost from g to j -/
def IsD (E : Nat → Nat → Nat → Prop) (g j : Nat) (r : Option Nat) : Prop := match r with
  | none => ∀ n w, ¬ pth E n g j w
  | some v => (∃ n, pth E n g j v) ∧ ∀ n w, pth E n g j w → v ≤ w
theorem IsD.eq {E : Nat → Nat → Nat → Prop} {g j : Nat} {r r' : Option Nat} (h : IsD E g j r) (h' : IsD E g j r') : r = r' := by
  cases r with
  | none =>
    cases r' with
    | none => rfl
    | some v => obtain ⟨⟨n, p⟩, -⟩ := h'; exact absurd p (h n v)
  | some v =>
    cases r' with
    | none => obtain ⟨⟨n, p⟩, -⟩ := h; exact absurd p (h' n v)
    | some v' =>
      obtain ⟨⟨n, p⟩, q⟩ := h
      obtain ⟨⟨n', p'⟩, q'⟩ := h'
      have h1 := q n' v' p'
      have h2 := q' n v p
      have : v = v' := by omega
      rw [this]
theorem pth_snoc {E : Nat → Nat → Nat → Prop} {k c : Nat} : ∀ (n i j v : Nat), pth E n i j v → E j k c → pth E (n + 1) i k (v + c) := by
  intro n
  induction n with
  | zero =>
    intro i j v h e
    obtain ⟨h1, h2⟩ := h
    subst h1
    exact ⟨k, c, 0, e, ⟨rfl, rfl⟩, by omega⟩
  | succ n ih =>
    intro i j v h e
    obtain ⟨k', c', v', e', p, hv⟩ := h
    exact ⟨k', c', v' + c, e', ih k' j v' p e, by omega⟩
/-- backwards: costs that no edge betters are the least -/
theorem bf_min {E : Nat → Nat → Nat → Prop} {T g : Nat} {f : Nat → Option Nat} (hs : ∀ i v, f i = some v → ∃ n, pth E n i T v) (hT : f T = some 0)
    (hc : ∀ i k c v, E i k c → f k = some v → ∃ u, f i = some u ∧ u ≤ v + c) : IsD E g T (f g) := by
  have key : ∀ n i w, pth E n i T w → ∃ u, f i = some u ∧ u ≤ w := by
    intro n
    induction n with
    | zero =>
      intro i w h
      obtain ⟨h1, h2⟩ := h
      subst h1
      exact ⟨0, hT, by omega⟩
    | succ n ih =>
      intro i w h
      obtain ⟨k, c, v, e, p, hw⟩ := h
      obtain ⟨u, h1, h2⟩ := ih k v p
      obtain ⟨u', h3, h4⟩ := hc i k c u e h1
      exact ⟨u', h3, by omega⟩
  cases h : f g with
  | none =>
    intro n w p
    obtain ⟨u, h1, -⟩ := key n g w p
    rw [h] at h1
    cases h1
  | some v =>
    refine ⟨hs g v h, fun n w p => ?_⟩
    obtain ⟨u, h1, h2⟩ := key n g w p
    rw [h] at h1
    have : v = u := Option.some.inj h1
    omega
/-- forwards: what is settled, what is found -/
def DjI (E : Nat → Nat → Nat → Prop) (g : Nat) (f : Nat → Option Nat) (st : Nat → Bool) : Prop :=
  (∀ i v, f i = some v → ∃ n, pth E n g i v) ∧ f g = some 0 ∧
  (∀ i, st i = true → ∃ u, f i = some u ∧ ∀ k c, E i k c → ∃ u', f k = some u' ∧ u' ≤ u + c) ∧
  (∀ i j u v, st i = true → st j = false → f i = some u → f j = some v → u ≤ v)
/-- nothing is left that isn't settled: the goal can't be reached -/
theorem dj_none {E : Nat → Nat → Nat → Prop} {T g : Nat} {f : Nat → Option Nat} {st : Nat → Bool} (h : DjI E g f st) (hT : st T = false) (hn : ∀ i v, f i = some v → st i = true) : IsD E g T none := by
  obtain ⟨-, h2, h3, -⟩ := h
  have key : ∀ n i w, st i = true → ¬ pth E n i T w := by
    intro n
    induction n with
    | zero =>
      intro i w hi p
      obtain ⟨p1, -⟩ := p
      subst p1
      rw [hT] at hi
      cases hi
    | succ n ih =>
      intro i w hi p
      obtain ⟨k, c, v, e, p, -⟩ := p
      obtain ⟨u, -, h5⟩ := h3 i hi
      obtain ⟨u', h6, -⟩ := h5 k c e
      exact ih k v (hn k u' h6) p
  intro n w p
  exact key n g w (hn g 0 h2) p
/-- the goal is the least that isn't settled -/
theorem dj_some {E : Nat → Nat → Nat → Prop} {T g w : Nat} {f : Nat → Option Nat} {st : Nat → Bool} (h : DjI E g f st) (hT : st T = false) (hw : f T = some w) (hm : ∀ j v, st j = false → f j = some v → w ≤ v) : IsD E g T (some w) := by
  obtain ⟨h1, h2, h3, -⟩ := h
  have key : ∀ n i u v, f i = some u → pth E n i T v → w ≤ u + v := by
    intro n
    induction n with
    | zero =>
      intro i u v hu p
      obtain ⟨p1, p2⟩ := p
      subst p1
      rw [hw] at hu
      have : w = u := Option.some.inj hu
      omega
    | succ n ih =>
      intro i u v hu p
      obtain ⟨k, c, v', e, p, hv⟩ := p
      cases hst : st i with
      | false =>
        have := hm i u hst hu
        omega
      | true =>
        obtain ⟨u1, h4, h5⟩ := h3 i hst
        rw [hu] at h4
        have h4 : u = u1 := Option.some.inj h4
        obtain ⟨u', h6, h7⟩ := h5 k c e
        have := ih k u' v' h6 p
        omega
  refine ⟨h1 T w hw, fun n v p => ?_⟩
  have := key n g 0 v h2 p
  omega
/-- one more edge looked at, from the one that is settled next -/
def rlx (f : Nat → Option Nat) (k n : Nat) : Nat → Option Nat := match f k with
  | some v => if v ≤ n then f else fu f k (some n)
  | none => fu f k (some n)
theorem rlx_at (f : Nat → Option Nat) (k n : Nat) : ∃ u, rlx f k n k = some u ∧ u ≤ n := by
  unfold rlx
  cases h : f k with
  | none => exact ⟨n, fu_s _ _ _, Nat.le_refl _⟩
  | some v =>
    by_cases c : v ≤ n
    · simp only [if_pos c]; exact ⟨v, h, c⟩
    · simp only [if_neg c]; exact ⟨n, fu_s _ _ _, Nat.le_refl _⟩
theorem rlx_le (f : Nat → Option Nat) (k n i u : Nat) (h : f i = some u) : ∃ u', rlx f k n i = some u' ∧ u' ≤ u := by
  unfold rlx
  cases hk : f k with
  | none =>
    by_cases e : i = k
    · subst e; rw [hk] at h; cases h
    · exact ⟨u, (fu_n _ _ e).trans h, Nat.le_refl _⟩
  | some v =>
    by_cases c : v ≤ n
    · simp only [if_pos c]; exact ⟨u, h, Nat.le_refl _⟩
    · simp only [if_neg c]
      by_cases e : i = k
      · subst e
        rw [hk] at h
        have : v = u := Option.some.inj h
        exact ⟨n, fu_s _ _ _, by omega⟩
      · exact ⟨u, (fu_n _ _ e).trans h, Nat.le_refl _⟩
theorem rlx_or (f : Nat → Option Nat) (k n i v : Nat) (h : rlx f k n i = some v) : f i = some v ∨ (i = k ∧ v = n) := by
  unfold rlx at h
  cases hk : f k with
  | none =>
    have h : fu f k (some n) i = some v := by rw [hk] at h; exact h
    by_cases e : i = k
    · subst e; rw [show fu f i (some n) i = some n from fu_s _ _ _] at h; exact Or.inr ⟨rfl, (Option.some.inj h).symm⟩
    · rw [show fu f k (some n) i = f i from fu_n _ _ e] at h; exact Or.inl h
  | some u =>
    rw [hk] at h
    by_cases c : u ≤ n
    · simp only [if_pos c] at h; exact Or.inl h
    · simp only [if_neg c] at h
      by_cases e : i = k
      · subst e; rw [show fu f i (some n) i = some n from fu_s _ _ _] at h; exact Or.inr ⟨rfl, (Option.some.inj h).symm⟩
      · rw [show fu f k (some n) i = f i from fu_n _ _ e] at h; exact Or.inl h
/-- while the edges of b are looked at: those of D are behind -/
def DjR (E : Nat → Nat → Nat → Prop) (g b w : Nat) (D : Nat → Nat → Prop) (f : Nat → Option Nat) (st : Nat → Bool) : Prop :=
  (∀ i v, f i = some v → ∃ n, pth E n g i v) ∧ f g = some 0 ∧ st b = false ∧ f b = some w ∧
  (∀ i, st i = true → ∃ u, f i = some u ∧ u ≤ w ∧ ∀ k c, E i k c → ∃ u', f k = some u' ∧ u' ≤ u + c) ∧
  (∀ j v, st j = false → f j = some v → w ≤ v) ∧
  (∀ k c, D k c → ∃ u', f k = some u' ∧ u' ≤ w + c)
theorem DjR.of {E : Nat → Nat → Nat → Prop} {g b w : Nat} {f : Nat → Option Nat} {st : Nat → Bool} (h : DjI E g f st) (hb : st b = false) (hw : f b = some w) (hm : ∀ j v, st j = false → f j = some v → w ≤ v) : DjR E g b w (fun _ _ => False) f st := by
  obtain ⟨h1, h2, h3, h4⟩ := h
  refine ⟨h1, h2, hb, hw, fun i hi => ?_, hm, fun _ _ q => q.elim⟩
  obtain ⟨u, a1, a2⟩ := h3 i hi
  exact ⟨u, a1, h4 i b u w hi hb a1 hw, a2⟩
theorem DjR.step {E : Nat → Nat → Nat → Prop} {g b w k c : Nat} {D D' : Nat → Nat → Prop} {f : Nat → Option Nat} {st : Nat → Bool} (h : DjR E g b w D f st) (e : E b k c) (hD : ∀ k' c', D' k' c' → D k' c' ∨ (k' = k ∧ c' = c)) : DjR E g b w D' (rlx f k (w + c)) st := by
  obtain ⟨h1, h2, h3, h4, h5, h6, h7⟩ := h
  have hset : ∀ i u, f i = some u → u ≤ w + c → rlx f k (w + c) i = some u := by
    intro i u hu hle
    unfold rlx
    cases hk : f k with
    | none =>
      have : i ≠ k := by intro q; subst q; rw [hk] at hu; cases hu
      exact (fu_n _ _ this).trans hu
    | some v =>
      by_cases q : v ≤ w + c
      · simp only [if_pos q]; exact hu
      · simp only [if_neg q]
        have : i ≠ k := by
          intro z; subst z
          rw [hk] at hu
          have : v = u := Option.some.inj hu
          omega
        exact (fu_n _ _ this).trans hu
  refine ⟨fun i v hv => ?_, hset _ _ h2 (by omega), h3, hset _ _ h4 (by omega), fun i hi => ?_, fun j v hj hv => ?_, fun k' c' hd => ?_⟩
  · rcases rlx_or _ _ _ _ _ hv with q | ⟨q1, q2⟩
    · exact h1 i v q
    · subst q1; subst q2
      obtain ⟨n, p⟩ := h1 b w h4
      exact ⟨n + 1, pth_snoc n g b w p e⟩
  · obtain ⟨u, a1, a2, a3⟩ := h5 i hi
    refine ⟨u, hset i u a1 (by omega), a2, fun k' c' e' => ?_⟩
    obtain ⟨u', a4, a5⟩ := a3 k' c' e'
    obtain ⟨u2, a6, a7⟩ := rlx_le f k (w + c) k' u' a4
    exact ⟨u2, a6, by omega⟩
  · rcases rlx_or _ _ _ _ _ hv with q | ⟨q1, q2⟩
    · exact h6 j v hj q
    · omega
  · rcases hD k' c' hd with q | ⟨q1, q2⟩
    · obtain ⟨u', a4, a5⟩ := h7 k' c' q
      obtain ⟨u2, a6, a7⟩ := rlx_le f k (w + c) k' u' a4
      exact ⟨u2, a6, by omega⟩
    · subst q1; subst q2
      exact rlx_at f k' (w + c')
/-- all edges of b are behind: it is settled -/
theorem DjR.fin {E : Nat → Nat → Nat → Prop} {g b w : Nat} {D : Nat → Nat → Prop} {f : Nat → Option Nat} {st : Nat → Bool} (h : DjR E g b w D f st) (hD : ∀ k c, E b k c → D k c) : DjI E g f (fu st b true) := by
  obtain ⟨h1, h2, h3, h4, h5, h6, h7⟩ := h
  refine ⟨h1, h2, fun i hi => ?_, fun i j u v hi hj hu hv => ?_⟩
  · by_cases q : i = b
    · subst q
      exact ⟨w, h4, fun k c e => h7 k c (hD k c e)⟩
    · rw [fu_n _ _ q] at hi
      obtain ⟨u, a1, -, a3⟩ := h5 i hi
      exact ⟨u, a1, a3⟩
  · have hjb : j ≠ b := by intro q; subst q; rw [fu_s] at hj; cases hj
    rw [fu_n _ _ hjb] at hj
    have hv2 := h6 j v hj hv
    by_cases q : i = b
    · subst q
      rw [h4] at hu
      have : w = u := Option.some.inj hu
      omega
    · rw [fu_n _ _ q] at hi
      obtain ⟨u', a1, a2, -⟩ := h5 i hi
      rw [a1] at hu
      have : u' = u := Option.some.inj hu
      omega
