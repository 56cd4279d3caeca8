/-! SUMS, plainly: by signs that wait, and by descent -/
def rnk (k : Nat) : Nat := if 13 ≤ k then 6 else if 11 ≤ k then 5 else if 5 ≤ k then 4 else if k = 2 then 3 else if k = 3 then 2 else if k = 4 then 1 else 0
def tpR (W : List Nat) : Nat := match W with
  | [] => 0
  | k :: _ => rnk k
def bnd (e : Nat) : List Nat → List Dn_ → List Nat × List Dn_
  | [], H => ([], H)
  | k :: W, H => if e ≤ rnk k then (if k = 2 then (match H with
      | a :: H' => bnd e W (dNot a :: H')
      | [] => (k :: W, [])) else (match H with
      | b :: a :: H' => bnd e W (dTwo k a b :: H')
      | H' => (k :: W, H'))) else (k :: W, H)
theorem bnd_stop {e : Nat} {W : List Nat} (H : List Dn_) (h : tpR W < e) : bnd e W H = (W, H) := by
  cases W with
  | nil => rfl
  | cons k W =>
    have h : ¬ e ≤ rnk k := Nat.not_le.mpr h
    exact if_neg h
theorem bnd_two {e k : Nat} (W : List Nat) (a b : Dn_) (H : List Dn_) (h : e ≤ rnk k) (hk : k ≠ 2) : bnd e (k :: W) (b :: a :: H) = bnd e W (dTwo k a b :: H) := (if_pos h).trans (if_neg hk)
theorem bnd_not {e : Nat} (W : List Nat) (a : Dn_) (H : List Dn_) (h : e ≤ 3) : bnd e (2 :: W) (a :: H) = bnd e W (dNot a :: H) := (if_pos (show e ≤ rnk 2 from h)).trans (if_pos rfl)
theorem rnk_le (k : Nat) : rnk k ≤ 6 := by
  unfold rnk
  repeat' split
  all_goals omega
/-- which sign stands there -/
def kOp (kd wh : Nat → Nat) (p : Nat) : Nat := if kd p = 1 ∧ wh p = 12 then 3 else if kd p = 1 ∧ wh p = 11 then 4 else if kd p = 5 then 5 + wh p else if kd p = 4 ∧ wh p = 43 then 11 else if kd p = 4 ∧ wh p = 45 then 12 else if kd p = 4 ∧ wh p = 42 then 13 else if kd p = 4 ∧ wh p = 47 then 14 else 0
theorem kop_c {kd wh : Nat → Nat} (hc : ∀ p, kd p = 5 → wh p ≤ 5) (p : Nat) : (kOp kd wh p = 0 ∧ rnk (kOp kd wh p) = 0) ∨ (kOp kd wh p ≠ 0 ∧ kOp kd wh p ≠ 2 ∧ ¬ (kd p = 4 ∧ wh p = 59) ∧ ¬ (kd p = 4 ∧ wh p = 41) ∧ (rnk (kOp kd wh p) = 1 ∨ rnk (kOp kd wh p) = 2 ∨ rnk (kOp kd wh p) = 4 ∨ rnk (kOp kd wh p) = 5 ∨ rnk (kOp kd wh p) = 6)) := by
  unfold kOp
  by_cases h1 : kd p = 1 ∧ wh p = 12
  · rw [if_pos h1]; exact Or.inr ⟨by decide, by decide, by omega, by omega, by decide⟩
  rw [if_neg h1]
  by_cases h2 : kd p = 1 ∧ wh p = 11
  · rw [if_pos h2]; exact Or.inr ⟨by decide, by decide, by omega, by omega, by decide⟩
  rw [if_neg h2]
  by_cases h3 : kd p = 5
  · rw [if_pos h3]
    have h4 := hc p h3
    have h5 : rnk (5 + wh p) = 4 := by unfold rnk; rw [if_neg (by omega), if_neg (by omega), if_pos (by omega)]
    exact Or.inr ⟨by omega, by omega, by omega, by omega, by rw [h5]; decide⟩
  rw [if_neg h3]
  by_cases h4 : kd p = 4 ∧ wh p = 43
  · rw [if_pos h4]; exact Or.inr ⟨by decide, by decide, by omega, by omega, by decide⟩
  rw [if_neg h4]
  by_cases h5 : kd p = 4 ∧ wh p = 45
  · rw [if_pos h5]; exact Or.inr ⟨by decide, by decide, by omega, by omega, by decide⟩
  rw [if_neg h5]
  by_cases h6 : kd p = 4 ∧ wh p = 42
  · rw [if_pos h6]; exact Or.inr ⟨by decide, by decide, by omega, by omega, by decide⟩
  rw [if_neg h6]
  by_cases h7 : kd p = 4 ∧ wh p = 47
  · rw [if_pos h7]; exact Or.inr ⟨by decide, by decide, by omega, by omega, by decide⟩
  rw [if_neg h7]
  exact Or.inl ⟨rfl, rfl⟩
/-- where, is one wanted, may a 'not' stand, brackets, counted; what waits, what is held -/
abbrev Sy_ : Type := Nat × Bool × Bool × Nat × Nat × List Nat × List Dn_
abbrev So_ : Type := (Nat × Nat) ⊕ Sy_
def syLeaf (kd wh nx pl : Nat → Nat) (p : Nat) (mn : Bool) (br c : Nat) (W : List Nat) (H : List Dn_) : So_ :=
  if kd p = 4 ∧ wh p = 40 then (if br = 8 then .inl (2, pl p) else .inr (nx p, true, true, br + 1, c, 0 :: W, H))
  else if kd p = 1 ∧ wh p = 13 ∧ mn = true then (if c = 64 then .inl (2, pl p) else .inr (nx p, true, mn, br, c + 1, 2 :: W, H))
  else if kd p = 3 then (if 9999 < wh p then .inl (2, pl p) else if c = 64 then .inl (2, pl p) else .inr (nx p, false, mn, br, c + 1, W, dNum (nI (wh p)) :: H))
  else if kd p = 1 ∧ 14 ≤ wh p then (if c = 64 then .inl (2, pl p) else .inr (nx p, false, mn, br, c + 1, W, dNam (wh p - 14) :: H))
  else .inl (1, pl p)
def lsR (k : Nat) : Nat := if rnk k = 4 then 5 else rnk k
def sySign (kd wh nx pl : Nat → Nat) (p : Nat) (mn : Bool) (br c : Nat) (W : List Nat) (H : List Dn_) : So_ :=
  if (kd p = 4 ∧ wh p = 41) ∧ 0 < br then .inr (nx p, false, mn, br - 1, c, (bnd 1 W H).1.tail, (bnd 1 W H).2)
  else if kOp kd wh p = 0 then .inl (1, pl p)
  else if rnk (kOp kd wh p) = 4 ∧ tpR (bnd (lsR (kOp kd wh p)) W H).1 = 4 then .inl (1, pl p)
  else if c = 64 then .inl (2, pl p)
  else .inr (nx p, true, decide (rnk (kOp kd wh p) < 3), br, c + 1, kOp kd wh p :: (bnd (lsR (kOp kd wh p)) W H).1, (bnd (lsR (kOp kd wh p)) W H).2)
def syX (kd wh : Nat → Nat) (A : Sy_) : Prop := (kd A.1 = 4 ∧ wh A.1 = 59) ∧ A.2.1 = false ∧ A.2.2.2.1 = 0
def syS (kd wh nx pl : Nat → Nat) (p : Nat) (w mn : Bool) (br c : Nat) (W : List Nat) (H : List Dn_) : So_ := if (kd p = 4 ∧ wh p = 59) ∧ w = false ∧ br = 0 then .inr (p, w, mn, br, c, W, H) else if w = true then syLeaf kd wh nx pl p mn br c W H else sySign kd wh nx pl p mn br c W H
def syN (kd wh nx pl : Nat → Nat) : Nat → Sy_ → So_
  | 0, A => .inr A
  | n + 1, A => match syS kd wh nx pl A.1 A.2.1 A.2.2.1 A.2.2.2.1 A.2.2.2.2.1 A.2.2.2.2.2.1 A.2.2.2.2.2.2 with
    | .inl e => .inl e
    | .inr B => syN kd wh nx pl n B
def Rch (kd wh nx pl : Nat → Nat) (A : Sy_) (r : So_) : Prop := ∃ n, syN kd wh nx pl n A = r
variable {kd wh nx pl : Nat → Nat}
theorem syN_add : ∀ (n m : Nat) (A B : Sy_) (r : So_), syN kd wh nx pl n A = .inr B → syN kd wh nx pl m B = r → syN kd wh nx pl (n + m) A = r := by
  intro n
  induction n with
  | zero =>
    intro m A B r h1 h2
    have h3 : A = B := by
      have h4 : (Sum.inr A : So_) = .inr B := h1
      injection h4
    rw [Nat.zero_add, h3]
    exact h2
  | succ n ih =>
    intro m A B r h1 h2
    rw [Nat.succ_add]
    have h3 : (match syS kd wh nx pl A.1 A.2.1 A.2.2.1 A.2.2.2.1 A.2.2.2.2.1 A.2.2.2.2.2.1 A.2.2.2.2.2.2 with
      | .inl e => (.inl e : So_)
      | .inr B => syN kd wh nx pl n B) = .inr B := h1
    show (match syS kd wh nx pl A.1 A.2.1 A.2.2.1 A.2.2.2.1 A.2.2.2.2.1 A.2.2.2.2.2.1 A.2.2.2.2.2.2 with
      | .inl e => (.inl e : So_)
      | .inr B => syN kd wh nx pl (n + m) B) = r
    cases hs : syS kd wh nx pl A.1 A.2.1 A.2.2.1 A.2.2.2.1 A.2.2.2.2.1 A.2.2.2.2.2.1 A.2.2.2.2.2.2 with
    | inl e => rw [hs] at h3; cases h3
    | inr A' =>
      rw [hs] at h3
      exact ih m A' B r h3 h2
theorem Rch.rf (A : Sy_) : Rch kd wh nx pl A (.inr A) := ⟨0, rfl⟩
theorem Rch.tr {A B : Sy_} {r : So_} (h : Rch kd wh nx pl A (.inr B)) (h2 : Rch kd wh nx pl B r) : Rch kd wh nx pl A r := by
  obtain ⟨n, h⟩ := h
  obtain ⟨m, h2⟩ := h2
  exact ⟨n + m, syN_add n m A B r h h2⟩
theorem Rch.st {p br c : Nat} {w mn : Bool} {W : List Nat} {H : List Dn_} {r : So_} (h : syS kd wh nx pl p w mn br c W H = r) : Rch kd wh nx pl (p, w, mn, br, c, W, H) r := by
  refine ⟨1, ?_⟩
  show (match syS kd wh nx pl p w mn br c W H with
    | .inl e => (.inl e : So_)
    | .inr B => syN kd wh nx pl 0 B) = r
  rw [h]
  cases r <;> rfl
theorem syS_w {p br c : Nat} {mn : Bool} {W : List Nat} {H : List Dn_} : syS kd wh nx pl p true mn br c W H = syLeaf kd wh nx pl p mn br c W H := by
  unfold syS
  rw [if_neg (fun h => Bool.noConfusion h.2.1), if_pos rfl]
theorem syS_n {p br c : Nat} {mn : Bool} {W : List Nat} {H : List Dn_} (h : ¬ ((kd p = 4 ∧ wh p = 59) ∧ br = 0)) : syS kd wh nx pl p false mn br c W H = sySign kd wh nx pl p mn br c W H := by
  unfold syS
  rw [if_neg (fun q => h ⟨q.1, q.2.2⟩), if_neg (fun q => Bool.noConfusion q)]
/-! the descent -/
abbrev Rs_ : Type := (Nat × Nat) ⊕ (Dn_ × Nat × Nat)
def rb (x : Option Rs_) (k : Dn_ → Nat → Nat → Option Rs_) : Option Rs_ := match x with
  | some (.inr (g, p, c)) => k g p c
  | some (.inl e) => some (.inl e)
  | none => none
def rdL (kd wh nx pl : Nat → Nat) (R : Bool → Nat → Dn_ → Nat → Nat → Nat → Option Rs_) (l : Nat) (f : Dn_) (p o c : Nat) : Option Rs_ :=
  if rnk (kOp kd wh p) = l then (if c = 64 then some (.inl (2, pl p)) else rb (R false (l + 1) f (nx p) o (c + 1)) fun g p' c' => R true l (dTwo (kOp kd wh p) f g) p' o c') else some (.inr (f, p, c))
def rd7 (kd wh nx pl : Nat → Nat) (R : Bool → Nat → Dn_ → Nat → Nat → Nat → Option Rs_) (f : Dn_) (p o c : Nat) : Option Rs_ :=
  if kd p = 4 ∧ wh p = 40 then (if o = 8 then some (.inl (2, pl p)) else rb (R false 1 f (nx p) (o + 1) c) fun g p' c' => if kd p' = 4 ∧ wh p' = 41 then some (.inr (g, nx p', c')) else some (.inl (1, pl p')))
  else if kd p = 3 then (if 9999 < wh p then some (.inl (2, pl p)) else if c = 64 then some (.inl (2, pl p)) else some (.inr (dNum (nI (wh p)), nx p, c + 1)))
  else if kd p = 1 ∧ 14 ≤ wh p then (if c = 64 then some (.inl (2, pl p)) else some (.inr (dNam (wh p - 14), nx p, c + 1)))
  else some (.inl (1, pl p))
def rd3 (kd wh nx pl : Nat → Nat) (R : Bool → Nat → Dn_ → Nat → Nat → Nat → Option Rs_) (f : Dn_) (p o c : Nat) : Option Rs_ :=
  if kd p = 1 ∧ wh p = 13 then (if c = 64 then some (.inl (2, pl p)) else rb (R false 3 f (nx p) o (c + 1)) fun g p' c' => some (.inr (dNot g, p', c'))) else R false 4 f p o c
def rd4 (kd wh nx pl : Nat → Nat) (R : Bool → Nat → Dn_ → Nat → Nat → Nat → Option Rs_) (f : Dn_) (p o c : Nat) : Option Rs_ :=
  rb (R false 5 f p o c) fun g p' c' => if rnk (kOp kd wh p') = 4 then (if c' = 64 then some (.inl (2, pl p')) else rb (R false 5 g (nx p') o (c' + 1)) fun g2 p2 c2 => some (.inr (dTwo (kOp kd wh p') g g2, p2, c2))) else some (.inr (g, p', c'))
def rd (kd wh nx pl : Nat → Nat) : Nat → Bool → Nat → Dn_ → Nat → Nat → Nat → Option Rs_
  | 0, _, _, _, _, _, _ => none
  | N + 1, b, l, f, p, o, c => if b = true then rdL kd wh nx pl (rd kd wh nx pl N) l f p o c else if l = 7 then rd7 kd wh nx pl (rd kd wh nx pl N) f p o c else if l = 3 then rd3 kd wh nx pl (rd kd wh nx pl N) f p o c else if l = 4 then rd4 kd wh nx pl (rd kd wh nx pl N) f p o c
    else rb (rd kd wh nx pl N false (l + 1) f p o c) fun g p' c' => rd kd wh nx pl N true l g p' o c'
theorem rb_some {x : Option Rs_} {k : Dn_ → Nat → Nat → Option Rs_} {r : Rs_} (h : rb x k = some r) : (∃ e, x = some (.inl e) ∧ r = .inl e) ∨ ∃ g p c, x = some (.inr (g, p, c)) ∧ k g p c = some r := by
  rcases x with _ | (e | ⟨g, p, c⟩)
  · cases h
  · exact Or.inl ⟨e, rfl, (Option.some.inj h).symm⟩
  · exact Or.inr ⟨g, p, c, rfl, h⟩
/-- no sign of this rank or above goes on here, unless it is a second comparison -/
def Qd (kd wh : Nat → Nat) (l p : Nat) (W : List Nat) (H : List Dn_) : Prop := l ≤ rnk (kOp kd wh p) → rnk (kOp kd wh p) = 4 ∧ tpR (bnd 5 W H).1 = 4
def Out (kd wh nx pl : Nat → Nat) (l : Nat) (r : Rs_) (A : Sy_) (W : List Nat) (H : List Dn_) (o : Nat) : Prop := match r with
  | .inl e => Rch kd wh nx pl A (.inl e)
  | .inr (f, p, c) => ∃ mn W' H', Rch kd wh nx pl A (.inr (p, false, mn, o, c, W', H')) ∧ (∀ e, e ≤ l → bnd e W' H' = bnd e W (f :: H)) ∧ Qd kd wh l p W' H'
theorem Out.pre {l o : Nat} {r : Rs_} {A B : Sy_} {W : List Nat} {H : List Dn_} (h : Rch kd wh nx pl A (.inr B)) (h2 : Out kd wh nx pl l r B W H o) : Out kd wh nx pl l r A W H o := by
  rcases r with e | ⟨f, p, c⟩
  · exact h.tr h2
  · obtain ⟨mn, W', H', h3, h4⟩ := h2
    exact ⟨mn, W', H', h.tr h3, h4⟩
/-- a step over a sign that is taken -/
theorem sy_op (hc : ∀ p, kd p = 5 → wh p ≤ 5) {p o c l : Nat} {mn : Bool} {W W1 : List Nat} {H H1 : List Dn_} {f : Dn_} (hl : 1 ≤ l) (hk : rnk (kOp kd wh p) = l) (hW : tpR W < l) (he : bnd (lsR (kOp kd wh p)) W1 H1 = (W, f :: H)) :
    Rch kd wh nx pl (p, false, mn, o, c, W1, H1) (if c = 64 then .inl (2, pl p) else .inr (nx p, true, decide (l < 3), o, c + 1, kOp kd wh p :: W, f :: H)) := by
  rcases kop_c hc p with ⟨-, q⟩ | ⟨q1, q2, q3, q4, -⟩
  · omega
  · refine Rch.st ?_
    rw [syS_n (fun z => q3 z.1)]
    unfold sySign
    rw [if_neg (fun z => q4 z.1), if_neg q1, he, hk, if_neg (fun z => by have := z.2; simp only at this; omega)]
theorem sim (hc : ∀ p, kd p = 5 → wh p ≤ 5) : ∀ (N : Nat) (b : Bool) (l : Nat) (f : Dn_) (p o c : Nat) (r : Rs_), rd kd wh nx pl N b l f p o c = some r → 1 ≤ l → l ≤ 7 →
    ∀ (W : List Nat) (H : List Dn_), (l = 3 → tpR W ≤ 3) → (l ≠ 3 → tpR W < l) →
    (b = false → ∀ mn, (l ≤ 3 → mn = true) → (4 ≤ l → mn = false ∨ ¬ (kd p = 1 ∧ wh p = 13)) → Out kd wh nx pl l r (p, true, mn, o, c, W, H) W H o) ∧
    (b = true → (l = 1 ∨ l = 2 ∨ l = 5 ∨ l = 6) → ∀ mn W1 H1, (∀ e, e ≤ l → bnd e W1 H1 = bnd e W (f :: H)) → Qd kd wh (l + 1) p W1 H1 → Out kd wh nx pl l r (p, false, mn, o, c, W1, H1) W H o) := by
  intro N
  induction N with
  | zero => intro b l f p o c r h; cases h
  | succ N ih =>
    intro b l f p o c r h hl1 hl7 W H hW3 hWn
    have h0 : (if b = true then rdL kd wh nx pl (rd kd wh nx pl N) l f p o c else if l = 7 then rd7 kd wh nx pl (rd kd wh nx pl N) f p o c else if l = 3 then rd3 kd wh nx pl (rd kd wh nx pl N) f p o c else if l = 4 then rd4 kd wh nx pl (rd kd wh nx pl N) f p o c
      else rb (rd kd wh nx pl N false (l + 1) f p o c) fun g p' c' => rd kd wh nx pl N true l g p' o c') = some r := h
    clear h
    cases b with
    | true =>
      refine ⟨fun q => Bool.noConfusion q, fun _ hl mn W1 H1 hp hQ => ?_⟩
      rw [if_pos rfl] at h0
      have hWl : tpR W < l := hWn (by omega)
      unfold rdL at h0
      by_cases hk : rnk (kOp kd wh p) = l
      · rw [if_pos hk] at h0
        have hls : lsR (kOp kd wh p) = l := by unfold lsR; rw [hk, if_neg (by omega)]
        have hb : bnd (lsR (kOp kd wh p)) W1 H1 = (W, f :: H) := by rw [hls, hp l (Nat.le_refl _)]; exact bnd_stop _ hWl
        have hst := sy_op (nx := nx) (pl := pl) (o := o) (c := c) (mn := mn) hc hl1 hk hWl hb
        have hk2 : kOp kd wh p ≠ 2 := by
          rcases kop_c hc p with ⟨-, q⟩ | ⟨-, q2, -⟩
          · omega
          · exact q2
        by_cases h64 : c = 64
        · rw [if_pos h64] at h0 hst
          have : r = .inl (2, pl p) := (Option.some.inj h0).symm
          subst this
          exact hst
        · rw [if_neg h64] at h0 hst
          have hs := fun r' h' => (ih false (l + 1) f (nx p) o (c + 1) r' h' (by omega) (by omega) (kOp kd wh p :: W) (f :: H) (fun q => by show rnk _ ≤ 3; omega) (fun q => by show rnk _ < l + 1; omega)).1 rfl (decide (l < 3)) (fun q => decide_eq_true (by omega)) (fun q => Or.inl (decide_eq_false (by omega)))
          rcases rb_some h0 with ⟨e, h1, h2⟩ | ⟨g, p', c', h1, h2⟩
          · subst h2
            exact Out.pre hst (hs _ h1)
          · obtain ⟨mn', W2, H2, a1, a2, a3⟩ := hs _ h1
            refine Out.pre hst (Out.pre a1 ?_)
            refine (ih true l (dTwo (kOp kd wh p) f g) p' o c' r h2 hl1 hl7 W H hW3 hWn).2 rfl hl mn' W2 H2 (fun e he => ?_) a3
            rw [a2 e (by omega)]
            exact bnd_two _ _ _ _ (by omega) hk2
      · rw [if_neg hk] at h0
        have : r = .inr (f, p, c) := (Option.some.inj h0).symm
        subst this
        exact ⟨mn, W1, H1, Rch.rf _, hp, fun q => hQ (by omega)⟩
    | false =>
      refine ⟨fun _ mn hm1 hm2 => ?_, fun q => Bool.noConfusion q⟩
      rw [if_neg (fun q => Bool.noConfusion q)] at h0
      by_cases l7 : l = 7
      · subst l7
        rw [if_pos rfl] at h0
        unfold rd7 at h0
        by_cases hb : kd p = 4 ∧ wh p = 40
        · rw [if_pos hb] at h0
          have hleaf : Rch kd wh nx pl (p, true, mn, o, c, W, H) (if o = 8 then .inl (2, pl p) else .inr (nx p, true, true, o + 1, c, 0 :: W, H)) := by
            refine Rch.st ?_
            rw [syS_w]
            unfold syLeaf
            rw [if_pos hb]
          by_cases h8 : o = 8
          · rw [if_pos h8] at h0 hleaf
            have : r = .inl (2, pl p) := (Option.some.inj h0).symm
            subst this
            exact hleaf
          · rw [if_neg h8] at h0 hleaf
            have hs := fun r' h' => (ih false 1 f (nx p) (o + 1) c r' h' (by omega) (by omega) (0 :: W) H (fun q => by omega) (fun q => by show rnk 0 < 1; decide)).1 rfl true (fun q => rfl) (fun q => by omega)
            rcases rb_some h0 with ⟨e, h1, h2⟩ | ⟨g, p', c', h1, h2⟩
            · subst h2
              exact Out.pre hleaf (hs _ h1)
            · obtain ⟨mn', W2, H2, a1, a2, a3⟩ := hs _ h1
              have hb1 : bnd 1 W2 H2 = (0 :: W, g :: H) := by rw [a2 1 (Nat.le_refl _)]; exact bnd_stop _ (by show rnk 0 < 1; decide)
              refine Out.pre hleaf (Out.pre a1 ?_)
              by_cases hcl : kd p' = 4 ∧ wh p' = 41
              · rw [if_pos hcl] at h2
                have : r = .inr (g, nx p', c') := (Option.some.inj h2).symm
                subst this
                refine ⟨mn', W, g :: H, ?_, fun e he => rfl, fun q => by have := rnk_le (kOp kd wh (nx p')); omega⟩
                refine Rch.st ?_
                rw [syS_n (fun z => by omega)]
                unfold sySign
                rw [if_pos ⟨hcl, Nat.succ_pos o⟩, hb1]
                rfl
              · rw [if_neg hcl] at h2
                have : r = .inl (1, pl p') := (Option.some.inj h2).symm
                subst this
                refine Rch.st ?_
                rw [syS_n (fun z => by omega)]
                unfold sySign
                rw [if_neg (fun z => hcl z.1)]
                rcases kop_c hc p' with ⟨q1, -⟩ | ⟨q1, -, -, -, q5⟩
                · rw [if_pos q1]
                · obtain ⟨z1, z2⟩ := a3 (by omega)
                  have hls : lsR (kOp kd wh p') = 5 := by unfold lsR; rw [if_pos z1]
                  rw [if_neg q1, hls, if_pos ⟨z1, z2⟩]
        · rw [if_neg hb] at h0
          have hleaf : ∀ r', (if kd p = 3 then (if 9999 < wh p then .inl (2, pl p) else if c = 64 then .inl (2, pl p) else .inr (nx p, false, mn, o, c + 1, W, dNum (nI (wh p)) :: H))
              else if kd p = 1 ∧ 14 ≤ wh p then (if c = 64 then .inl (2, pl p) else .inr (nx p, false, mn, o, c + 1, W, dNam (wh p - 14) :: H))
              else (.inl (1, pl p) : So_)) = r' → Rch kd wh nx pl (p, true, mn, o, c, W, H) r' := by
            intro r' hr
            refine Rch.st ?_
            rw [syS_w]
            unfold syLeaf
            rw [if_neg hb, if_neg (fun z => by
              rcases hm2 (by omega) with q | q
              · rw [q] at z; exact Bool.noConfusion z.2.2
              · exact q ⟨z.1, z.2.1⟩)]
            exact hr
          by_cases h3 : kd p = 3
          · rw [if_pos h3] at h0 hleaf
            by_cases h9 : 9999 < wh p
            · rw [if_pos h9] at h0 hleaf
              have : r = .inl (2, pl p) := (Option.some.inj h0).symm
              subst this
              exact hleaf _ rfl
            · rw [if_neg h9] at h0 hleaf
              by_cases h64 : c = 64
              · rw [if_pos h64] at h0 hleaf
                have : r = .inl (2, pl p) := (Option.some.inj h0).symm
                subst this
                exact hleaf _ rfl
              · rw [if_neg h64] at h0 hleaf
                have : r = .inr (dNum (nI (wh p)), nx p, c + 1) := (Option.some.inj h0).symm
                subst this
                exact ⟨mn, W, _, hleaf _ rfl, fun e he => rfl, fun q => by have := rnk_le (kOp kd wh (nx p)); omega⟩
          · rw [if_neg h3] at h0 hleaf
            by_cases hn : kd p = 1 ∧ 14 ≤ wh p
            · rw [if_pos hn] at h0 hleaf
              by_cases h64 : c = 64
              · rw [if_pos h64] at h0 hleaf
                have : r = .inl (2, pl p) := (Option.some.inj h0).symm
                subst this
                exact hleaf _ rfl
              · rw [if_neg h64] at h0 hleaf
                have : r = .inr (dNam (wh p - 14), nx p, c + 1) := (Option.some.inj h0).symm
                subst this
                exact ⟨mn, W, _, hleaf _ rfl, fun e he => rfl, fun q => by have := rnk_le (kOp kd wh (nx p)); omega⟩
            · rw [if_neg hn] at h0 hleaf
              have : r = .inl (1, pl p) := (Option.some.inj h0).symm
              subst this
              exact hleaf _ rfl
      rw [if_neg l7] at h0
      by_cases l3 : l = 3
      · subst l3
        rw [if_pos rfl] at h0
        unfold rd3 at h0
        have hmn : mn = true := hm1 (Nat.le_refl _)
        subst hmn
        have hW : tpR W ≤ 3 := hW3 rfl
        by_cases hnot : kd p = 1 ∧ wh p = 13
        · rw [if_pos hnot] at h0
          have hleaf : Rch kd wh nx pl (p, true, true, o, c, W, H) (if c = 64 then .inl (2, pl p) else .inr (nx p, true, true, o, c + 1, 2 :: W, H)) := by
            refine Rch.st ?_
            rw [syS_w]
            unfold syLeaf
            rw [if_neg (fun z => by omega), if_pos ⟨hnot.1, hnot.2, rfl⟩]
          by_cases h64 : c = 64
          · rw [if_pos h64] at h0 hleaf
            have : r = .inl (2, pl p) := (Option.some.inj h0).symm
            subst this
            exact hleaf
          · rw [if_neg h64] at h0 hleaf
            have hs := fun r' h' => (ih false 3 f (nx p) o (c + 1) r' h' (by omega) (by omega) (2 :: W) H (fun q => by show rnk 2 ≤ 3; decide) (fun q => absurd rfl q)).1 rfl true (fun q => rfl) (fun q => by omega)
            rcases rb_some h0 with ⟨e, h1, h2⟩ | ⟨g, p', c', h1, h2⟩
            · subst h2
              exact Out.pre hleaf (hs _ h1)
            · obtain ⟨mn', W2, H2, a1, a2, a3⟩ := hs _ h1
              have : r = .inr (dNot g, p', c') := (Option.some.inj h2).symm
              subst this
              exact Out.pre hleaf ⟨mn', W2, H2, a1, fun e he => by rw [a2 e he]; exact bnd_not _ _ _ he, a3⟩
        · rw [if_neg hnot] at h0
          have hs := (ih false 4 f p o c r h0 (by omega) (by omega) W H (fun q => by omega) (fun q => by omega)).1 rfl true (fun q => by omega) (fun q => Or.inr hnot)
          rcases r with e | ⟨g, p', c'⟩
          · exact hs
          · obtain ⟨mn', W2, H2, a1, a2, a3⟩ := hs
            refine ⟨mn', W2, H2, a1, fun e he => a2 e (by omega), fun q => a3 ?_⟩
            rcases kop_c hc p' with ⟨-, z⟩ | ⟨-, -, -, -, z⟩ <;> omega
      rw [if_neg l3] at h0
      have hWl : tpR W < l := hWn l3
      by_cases l4 : l = 4
      · subst l4
        rw [if_pos rfl] at h0
        unfold rd4 at h0
        have hs := fun r' h' => (ih false 5 f p o c r' h' (by omega) (by omega) W H (fun q => by omega) (fun q => by omega)).1 rfl mn (fun q => by omega) (fun q => hm2 (by omega))
        rcases rb_some h0 with ⟨e, h1, h2⟩ | ⟨g, p', c', h1, h2⟩
        · subst h2
          exact hs _ h1
        · obtain ⟨mn', W2, H2, a1, a2, a3⟩ := hs _ h1
          by_cases hk : rnk (kOp kd wh p') = 4
          · rw [if_pos hk] at h2
            have hls : lsR (kOp kd wh p') = 5 := by unfold lsR; rw [if_pos hk]
            have hb : bnd (lsR (kOp kd wh p')) W2 H2 = (W, g :: H) := by rw [hls, a2 5 (Nat.le_refl _)]; exact bnd_stop _ (by omega)
            have hst := sy_op (nx := nx) (pl := pl) (o := o) (c := c') (mn := mn') hc (by omega) hk hWl hb
            have hk2 : kOp kd wh p' ≠ 2 := by
              rcases kop_c hc p' with ⟨-, q⟩ | ⟨-, q2, -⟩
              · omega
              · exact q2
            by_cases h64 : c' = 64
            · rw [if_pos h64] at h2 hst
              have : r = .inl (2, pl p') := (Option.some.inj h2).symm
              subst this
              exact Out.pre a1 hst
            · rw [if_neg h64] at h2 hst
              have hs2 := fun r' h' => (ih false 5 g (nx p') o (c' + 1) r' h' (by omega) (by omega) (kOp kd wh p' :: W) (g :: H) (fun q => by omega) (fun q => by show rnk _ < 5; omega)).1 rfl (decide (4 < 3)) (fun q => by omega) (fun q => Or.inl (by decide))
              refine Out.pre a1 (Out.pre hst ?_)
              rcases rb_some h2 with ⟨e, h3, h4⟩ | ⟨g2, p2, c2, h3, h4⟩
              · subst h4
                exact hs2 _ h3
              · obtain ⟨mn2, W3, H3, b1, b2, b3⟩ := hs2 _ h3
                have : r = .inr (dTwo (kOp kd wh p') g g2, p2, c2) := (Option.some.inj h4).symm
                subst this
                refine ⟨mn2, W3, H3, b1, fun e he => ?_, fun q => ?_⟩
                · rw [b2 e (by omega)]
                  exact bnd_two _ _ _ _ (by omega) hk2
                · by_cases q4 : rnk (kOp kd wh p2) = 4
                  · refine ⟨q4, ?_⟩
                    rw [b2 5 (Nat.le_refl _), bnd_stop _ (by show rnk _ < 5; omega)]
                    exact hk
                  · exact b3 (by omega)
          · rw [if_neg hk] at h2
            have : r = .inr (g, p', c') := (Option.some.inj h2).symm
            subst this
            exact ⟨mn', W2, H2, a1, fun e he => a2 e (by omega), fun q => a3 (by omega)⟩
      rw [if_neg l4] at h0
      have hs := fun r' h' => (ih false (l + 1) f p o c r' h' (by omega) (by omega) W H (fun q => by omega) (fun q => by omega)).1 rfl mn (fun q => hm1 (by omega)) (fun q => hm2 (by omega))
      rcases rb_some h0 with ⟨e, h1, h2⟩ | ⟨g, p', c', h1, h2⟩
      · subst h2
        exact hs _ h1
      · obtain ⟨mn', W2, H2, a1, a2, a3⟩ := hs _ h1
        refine Out.pre a1 ?_
        exact (ih true l g p' o c' r h2 hl1 hl7 W H hW3 hWn).2 rfl (by omega) mn' W2 H2 (fun e he => a2 e (by omega)) a3
/-- a law's sum: descent and waiting signs agree -/
theorem sim_law (hc : ∀ p, kd p = 5 → wh p ≤ 5) {N p c : Nat} {f : Dn_} {r : Rs_} (h : rd kd wh nx pl N false 1 f p 0 c = some r) : match r with
    | .inl e => Rch kd wh nx pl (p, true, true, 0, c, [], []) (.inl e)
    | .inr (g, p', c') => if kd p' = 4 ∧ wh p' = 59 then ∃ mn W' H', Rch kd wh nx pl (p, true, true, 0, c, [], []) (.inr (p', false, mn, 0, c', W', H')) ∧ bnd 1 W' H' = ([], [g]) else Rch kd wh nx pl (p, true, true, 0, c, [], []) (.inl (1, pl p')) := by
  have hs := (sim (nx := nx) (pl := pl) hc N false 1 f p 0 c r h (by omega) (by omega) [] [] (fun q => by omega) (fun q => by show 0 < 1; omega)).1 rfl true (fun q => rfl) (fun q => by omega)
  rcases r with e | ⟨g, p', c'⟩
  · exact hs
  · obtain ⟨mn', W2, H2, a1, a2, a3⟩ := hs
    show if _ then _ else _
    by_cases h59 : kd p' = 4 ∧ wh p' = 59
    · rw [if_pos h59]
      exact ⟨mn', W2, H2, a1, a2 1 (Nat.le_refl _)⟩
    · rw [if_neg h59]
      refine a1.tr (Rch.st ?_)
      rw [syS_n (fun z => h59 z.1)]
      unfold sySign
      rw [if_neg (fun z => by have := z.2; omega)]
      rcases kop_c hc p' with ⟨q1, -⟩ | ⟨q1, -, -, -, q5⟩
      · rw [if_pos q1]
      · obtain ⟨z1, z2⟩ := a3 (by omega)
        have hls : lsR (kOp kd wh p') = 5 := by unfold lsR; rw [if_pos z1]
        rw [if_neg q1, hls, if_pos ⟨z1, z2⟩]
/-- the descent ends -/
theorem rd_tot (m : Nat) (hnx : ∀ p, kd p ≠ 0 → p < nx p) (hnm : ∀ p, p ≤ m → nx p ≤ m) : ∀ (N : Nat) (b : Bool) (l : Nat) (f : Dn_) (p o c : Nat), 1 ≤ l → l ≤ 7 → p ≤ m → 16 * (m - p) + (if b = true then 0 else 8 - l) < N →
    ∃ r, rd kd wh nx pl N b l f p o c = some r ∧ ∀ g p' c', r = .inr (g, p', c') → p ≤ p' ∧ p' ≤ m ∧ (b = false → p < p') ∧ c ≤ c' := by
  intro N
  induction N with
  | zero => intro b l f p o c _ _ _ h; omega
  | succ N ih =>
    intro b l f p o c hl1 hl7 hp hN
    have hu : ∀ x, (if b = true then rdL kd wh nx pl (rd kd wh nx pl N) l f p o c else if l = 7 then rd7 kd wh nx pl (rd kd wh nx pl N) f p o c else if l = 3 then rd3 kd wh nx pl (rd kd wh nx pl N) f p o c else if l = 4 then rd4 kd wh nx pl (rd kd wh nx pl N) f p o c
      else rb (rd kd wh nx pl N false (l + 1) f p o c) fun g p' c' => rd kd wh nx pl N true l g p' o c') = x → rd kd wh nx pl N.succ b l f p o c = x := fun x h => h
    have hft : ∀ e : Nat × Nat, ∀ g p' c', (Sum.inl e : Rs_) = .inr (g, p', c') → p ≤ p' ∧ p' ≤ m ∧ (b = false → p < p') ∧ c ≤ c' := fun e g p' c' q => by cases q
    have hop : rnk (kOp kd wh p) ≠ 0 → kd p ≠ 0 := by
      intro q z
      apply q
      unfold kOp
      rw [if_neg (by omega), if_neg (by omega), if_neg (by omega), if_neg (by omega), if_neg (by omega), if_neg (by omega), if_neg (by omega)]
      rfl
    cases b with
    | true =>
      rw [if_pos rfl] at hN
      suffices hh : ∃ r, rdL kd wh nx pl (rd kd wh nx pl N) l f p o c = some r ∧ ∀ g p' c', r = .inr (g, p', c') → p ≤ p' ∧ p' ≤ m ∧ (true = false → p < p') ∧ c ≤ c' by
        obtain ⟨r, h1, h2⟩ := hh
        exact ⟨r, hu _ ((if_pos rfl).trans h1), h2⟩
      unfold rdL
      by_cases hk : rnk (kOp kd wh p) = l
      · rw [if_pos hk]
        by_cases h64 : c = 64
        · rw [if_pos h64]
          exact ⟨_, rfl, hft _⟩
        · rw [if_neg h64]
          have h1 := hnx p (hop (by omega))
          have h2 := hnm p hp
          by_cases hl : l = 7
          · have := rnk_le (kOp kd wh p); omega
          obtain ⟨r1, e1, q1⟩ := ih false (l + 1) f (nx p) o (c + 1) (by omega) (by omega) h2 (by rw [if_neg (by decide)]; omega)
          rw [e1]
          rcases r1 with e | ⟨g, p', c'⟩
          · exact ⟨_, rfl, hft _⟩
          · obtain ⟨z1, z2, z3, z4⟩ := q1 g p' c' rfl
            have z3 := z3 rfl
            obtain ⟨r2, e2, q2⟩ := ih true l (dTwo (kOp kd wh p) f g) p' o c' hl1 hl7 z2 (by rw [if_pos rfl]; omega)
            refine ⟨r2, e2, fun g' p2 c2 q => ?_⟩
            obtain ⟨y1, y2, -, y4⟩ := q2 g' p2 c2 q
            exact ⟨by omega, y2, fun z => Bool.noConfusion z, by omega⟩
      · rw [if_neg hk]
        refine ⟨_, rfl, fun g p' c' q => ?_⟩
        have q := Sum.inr.inj q
        have q1 : p = p' := congrArg (·.2.1) q
        have q2 : c = c' := congrArg (·.2.2) q
        exact ⟨by omega, by omega, fun z => Bool.noConfusion z, by omega⟩
    | false =>
      rw [if_neg (by decide)] at hN
      by_cases l7 : l = 7
      · subst l7
        suffices hh : ∃ r, rd7 kd wh nx pl (rd kd wh nx pl N) f p o c = some r ∧ ∀ g p' c', r = .inr (g, p', c') → p ≤ p' ∧ p' ≤ m ∧ (false = false → p < p') ∧ c ≤ c' by
          obtain ⟨r, h1, h2⟩ := hh
          exact ⟨r, hu _ ((if_neg (by decide)).trans ((if_pos rfl).trans h1)), h2⟩
        unfold rd7
        by_cases hb : kd p = 4 ∧ wh p = 40
        · rw [if_pos hb]
          have h1 := hnx p (by omega)
          have h2 := hnm p hp
          by_cases h8 : o = 8
          · rw [if_pos h8]
            exact ⟨_, rfl, hft _⟩
          · rw [if_neg h8]
            obtain ⟨r1, e1, q1⟩ := ih false 1 f (nx p) (o + 1) c (by omega) (by omega) h2 (by rw [if_neg (by decide)]; omega)
            rw [e1]
            rcases r1 with e | ⟨g, p', c'⟩
            · exact ⟨_, rfl, hft _⟩
            · obtain ⟨z1, z2, z3, z4⟩ := q1 g p' c' rfl
              have z3 := z3 rfl
              show ∃ r, (if kd p' = 4 ∧ wh p' = 41 then (some (.inr (g, nx p', c')) : Option Rs_) else some (.inl (1, pl p'))) = some r ∧ _
              by_cases hcl : kd p' = 4 ∧ wh p' = 41
              · rw [if_pos hcl]
                have y1 := hnx p' (by omega)
                have y2 := hnm p' z2
                refine ⟨_, rfl, fun g' p2 c2 q => ?_⟩
                have q := Sum.inr.inj q
                have q1 : nx p' = p2 := congrArg (·.2.1) q
                have q2 : c' = c2 := congrArg (·.2.2) q
                exact ⟨by omega, by omega, fun z => by omega, by omega⟩
              · rw [if_neg hcl]
                exact ⟨_, rfl, hft _⟩
        · rw [if_neg hb]
          by_cases h3 : kd p = 3
          · rw [if_pos h3]
            have h1 := hnx p (by omega)
            have h2 := hnm p hp
            by_cases h9 : 9999 < wh p
            · rw [if_pos h9]
              exact ⟨_, rfl, hft _⟩
            · rw [if_neg h9]
              by_cases h64 : c = 64
              · rw [if_pos h64]
                exact ⟨_, rfl, hft _⟩
              · rw [if_neg h64]
                refine ⟨_, rfl, fun g' p2 c2 q => ?_⟩
                have q := Sum.inr.inj q
                have q1 : nx p = p2 := congrArg (·.2.1) q
                have q2 : c + 1 = c2 := congrArg (·.2.2) q
                exact ⟨by omega, by omega, fun z => by omega, by omega⟩
          · rw [if_neg h3]
            by_cases hn : kd p = 1 ∧ 14 ≤ wh p
            · rw [if_pos hn]
              have h1 := hnx p (by omega)
              have h2 := hnm p hp
              by_cases h64 : c = 64
              · rw [if_pos h64]
                exact ⟨_, rfl, hft _⟩
              · rw [if_neg h64]
                refine ⟨_, rfl, fun g' p2 c2 q => ?_⟩
                have q := Sum.inr.inj q
                have q1 : nx p = p2 := congrArg (·.2.1) q
                have q2 : c + 1 = c2 := congrArg (·.2.2) q
                exact ⟨by omega, by omega, fun z => by omega, by omega⟩
            · rw [if_neg hn]
              exact ⟨_, rfl, hft _⟩
      by_cases l3 : l = 3
      · subst l3
        suffices hh : ∃ r, rd3 kd wh nx pl (rd kd wh nx pl N) f p o c = some r ∧ ∀ g p' c', r = .inr (g, p', c') → p ≤ p' ∧ p' ≤ m ∧ (false = false → p < p') ∧ c ≤ c' by
          obtain ⟨r, h1, h2⟩ := hh
          exact ⟨r, hu _ ((if_neg (by decide)).trans ((if_neg l7).trans ((if_pos rfl).trans h1))), h2⟩
        unfold rd3
        by_cases hnot : kd p = 1 ∧ wh p = 13
        · rw [if_pos hnot]
          have h1 := hnx p (by omega)
          have h2 := hnm p hp
          by_cases h64 : c = 64
          · rw [if_pos h64]
            exact ⟨_, rfl, hft _⟩
          · rw [if_neg h64]
            obtain ⟨r1, e1, q1⟩ := ih false 3 f (nx p) o (c + 1) (by omega) (by omega) h2 (by rw [if_neg (by decide)]; omega)
            rw [e1]
            rcases r1 with e | ⟨g, p', c'⟩
            · exact ⟨_, rfl, hft _⟩
            · obtain ⟨z1, z2, z3, z4⟩ := q1 g p' c' rfl
              have z3 := z3 rfl
              refine ⟨_, rfl, fun g' p2 c2 q => ?_⟩
              have q := Sum.inr.inj q
              have q1 : p' = p2 := congrArg (·.2.1) q
              have q2 : c' = c2 := congrArg (·.2.2) q
              exact ⟨by omega, by omega, fun z => by omega, by omega⟩
        · rw [if_neg hnot]
          obtain ⟨r1, e1, q1⟩ := ih false 4 f p o c (by omega) (by omega) hp (by rw [if_neg (by decide)]; omega)
          exact ⟨r1, e1, q1⟩
      by_cases l4 : l = 4
      · subst l4
        suffices hh : ∃ r, rd4 kd wh nx pl (rd kd wh nx pl N) f p o c = some r ∧ ∀ g p' c', r = .inr (g, p', c') → p ≤ p' ∧ p' ≤ m ∧ (false = false → p < p') ∧ c ≤ c' by
          obtain ⟨r, h1, h2⟩ := hh
          exact ⟨r, hu _ ((if_neg (by decide)).trans ((if_neg l7).trans ((if_neg l3).trans ((if_pos rfl).trans h1)))), h2⟩
        unfold rd4
        obtain ⟨r1, e1, q1⟩ := ih false 5 f p o c (by omega) (by omega) hp (by rw [if_neg (by decide)]; omega)
        rw [e1]
        rcases r1 with e | ⟨g, p', c'⟩
        · exact ⟨_, rfl, hft _⟩
        · obtain ⟨z1, z2, z3, z4⟩ := q1 g p' c' rfl
          have z3 := z3 rfl
          show ∃ r, (if rnk (kOp kd wh p') = 4 then (if c' = 64 then (some (.inl (2, pl p')) : Option Rs_) else rb (rd kd wh nx pl N false 5 g (nx p') o (c' + 1)) fun g2 p2 c2 => some (.inr (dTwo (kOp kd wh p') g g2, p2, c2))) else some (.inr (g, p', c'))) = some r ∧ _
          by_cases hk : rnk (kOp kd wh p') = 4
          · rw [if_pos hk]
            have hop' : kd p' ≠ 0 := by
              intro z
              have : rnk (kOp kd wh p') = 0 := by
                unfold kOp
                rw [if_neg (by omega), if_neg (by omega), if_neg (by omega), if_neg (by omega), if_neg (by omega), if_neg (by omega), if_neg (by omega)]
                rfl
              omega
            have y1 := hnx p' hop'
            have y2 := hnm p' z2
            by_cases h64 : c' = 64
            · rw [if_pos h64]
              exact ⟨_, rfl, hft _⟩
            · rw [if_neg h64]
              obtain ⟨r2, e2, q2⟩ := ih false 5 g (nx p') o (c' + 1) (by omega) (by omega) y2 (by rw [if_neg (by decide)]; omega)
              rw [e2]
              rcases r2 with e | ⟨g2, p2, c2⟩
              · exact ⟨_, rfl, hft _⟩
              · obtain ⟨x1, x2, x3, x4⟩ := q2 g2 p2 c2 rfl
                refine ⟨_, rfl, fun g' p3 c3 q => ?_⟩
                have q := Sum.inr.inj q
                have q1 : p2 = p3 := congrArg (·.2.1) q
                have q2 : c2 = c3 := congrArg (·.2.2) q
                exact ⟨by omega, by omega, fun z => by omega, by omega⟩
          · rw [if_neg hk]
            refine ⟨_, rfl, fun g' p2 c2 q => ?_⟩
            have q := Sum.inr.inj q
            have q1 : p' = p2 := congrArg (·.2.1) q
            have q2 : c' = c2 := congrArg (·.2.2) q
            exact ⟨by omega, by omega, fun z => by omega, by omega⟩
      suffices hh : ∃ r, (rb (rd kd wh nx pl N false (l + 1) f p o c) fun g p' c' => rd kd wh nx pl N true l g p' o c') = some r ∧ ∀ g p' c', r = .inr (g, p', c') → p ≤ p' ∧ p' ≤ m ∧ (false = false → p < p') ∧ c ≤ c' by
        obtain ⟨r, h1, h2⟩ := hh
        exact ⟨r, hu _ ((if_neg (by decide)).trans ((if_neg l7).trans ((if_neg l3).trans ((if_neg l4).trans h1)))), h2⟩
      obtain ⟨r1, e1, q1⟩ := ih false (l + 1) f p o c (by omega) (by omega) hp (by rw [if_neg (by decide)]; omega)
      rw [e1]
      rcases r1 with e | ⟨g, p', c'⟩
      · exact ⟨_, rfl, hft _⟩
      · obtain ⟨z1, z2, z3, z4⟩ := q1 g p' c' rfl
        have z3 := z3 rfl
        obtain ⟨r2, e2, q2⟩ := ih true l g p' o c' hl1 hl7 z2 (by rw [if_pos rfl]; omega)
        refine ⟨r2, e2, fun g' p2 c2 q => ?_⟩
        obtain ⟨y1, y2, -, y4⟩ := q2 g' p2 c2 q
        exact ⟨by omega, y2, fun z => by omega, by omega⟩
