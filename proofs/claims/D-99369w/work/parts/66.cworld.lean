/-! THE COMPONENT's picture of the world -/
def CIm (κ : Ky_) (τ : Tx_) (Λ : La_) (o : Option (St_ × Nat)) (n : Nat) (I : RI_) (P : RP_) : Prop := match o with
  | none => I (1, 0, 1) 13 = 0
  | some s => I (1, 0, 1) 13 = 1 ∧ CD κ τ Λ om0 53 s n I P
/-- a State that is kept: where, if any -/
def CKs (P : RP_) (n k q : Nat) : Prop := P (47, 20, 57) k = some (5, 0, q) ∧ StP P q ∧ 99 ≤ q ∧ q + 3 < n
def CKp (A : Ab_) (κ : Ky_) (n : Nat) (I : RI_) (P : RP_) : Prop :=
  (I (1, 0, 1) 4 = nI (aUn A) ∧ aUn A ≤ 20) ∧ ∃ q : Nat → Nat, (∀ k, k < 20 → (P (47, 20, 57) k = none ∧ aUn A ≤ k) ∨ CKs P n k (q k)) ∧ (∀ j k, j < 20 → k < 20 → j ≠ k → q j ≠ q k) ∧ ∀ k, k < aUn A → CD κ (aT A) (aL A) om0 (q k) (unS A k, (aS A).2) n I P
def CLf (tf : Nat → Int32) (k q : Nat) (I : RI_) (P : RP_) : Prop :=
  (tf (5 * k) = 0 ∧ P (49, 24, 95) k = some (15, 0, q) ∧ I (15, 0, q) 0 = tf (5 * k + 2) ∧ I (15, 0, q) 1 = tf (5 * k + 3) ∧ I (15, 0, q) 2 = tf (5 * k + 4)) ∨
  (tf (5 * k) = 1 ∧ P (49, 24, 95) k = some (16, 0, q) ∧ I (16, 0, q) 0 = tf (5 * k + 1) ∧ I (16, 0, q) 1 = tf (5 * k + 2) ∧ I (16, 0, q) 2 = tf (5 * k + 3) ∧ I (16, 0, q) 3 = tf (5 * k + 4)) ∨
  (tf (5 * k) = 2 ∧ P (49, 24, 95) k = some (14, 0, q) ∧ I (14, 0, q) 0 = tf (5 * k + 1))
def CTo (m : Nat) (tf : Nat → Int32) (kn : Int32) (n : Nat) (I : RI_) (P : RP_) : Prop :=
  I (17, 0, 94) 2 = nI m ∧ I (1, 0, 1) 21 = kn ∧ ∀ k, k < m → ∃ q, 99 ≤ q ∧ q < n ∧ CLf tf k q I P
def CTp (m : Nat) (b : Nat → Nat) (I : RI_) : Prop := I (1, 0, 1) 1 = nI m ∧ ∀ p, p < m → I (42, 700, 2) p = (nI (b p)).toInt8.toInt32
/-- all that a text has lies ahead of n -/
def CSr (κ : Ky_) (τ : Tx_) (n : Nat) : Prop := yL κ + 9 < n ∧ (∀ k, k < nkS τ → yK κ k + 1 < n) ∧ (∀ k, k < ndS τ → yD κ k < n) ∧ (∀ k, k < npS τ → yP κ k < n)
def CWd (A : Ab_) (κ : Ky_) (n : Nat) (I : RI_) (P : RP_) : Prop :=
  CD κ (aT A) (aL A) om0 45 (aS A) n I P ∧ CIm κ (aT A) (aL A) (aM A) n I P ∧ CKp A κ n I P ∧ CTo (aTn A) (aTf A) (aKn A) n I P ∧ CTp (aPn A) (aPb A) I ∧ (I (1, 0, 1) 2 = aFk A ∧ I (1, 0, 1) 3 = aFp A) ∧ CSr κ (aT A) n ∧ 100 ≤ n
/-- how a call of the component ends -/
def COut (A : Ab_) (v : V_) (T : T_) (n : Nat) (I : RI_) (z : Option Z_) : Prop := ∃ (κ : Ky_) (n' : Nat) (I' : RI_) (J' : RJ_) (P' : RP_), z = some (.inl (some v), cg T n' I' J' P') ∧ CWd A κ n' I' P' ∧ n' ≤ n + 4500 ∧ ∀ L k, I' (40, L, 0) k = I (40, L, 0) k
theorem COut.mk {A : Ab_} {v : V_} {T : T_} {n : Nat} {I : RI_} {z : Option Z_} {κ : Ky_} {I' : RI_} {J' : RJ_} {P : RP_} (h : z = some (.inl (some v), cg T n I' J' P)) (w : CWd A κ n I' P) (f : ∀ L k, I' (40, L, 0) k = I (40, L, 0) k) : COut A v T n I z := ⟨κ, n, I', J', P, h, w, by omega, f⟩
/-- cells that no picture rests on -/
def xcell (r : R_) : Prop := r.1 = 37 ∨ r.1 = 38 ∨ r.1 = 39 ∨ r.1 = 41 ∨ scell 49 r ∨ scell 78 r ∨ scell 82 r ∨ scell 86 r ∨ scell 90 r
theorem xc_tag {t a b : Nat} (h : xcell (t, a, b)) : (37 ≤ t ∧ t ≤ 39) ∨ t = 41 ∨ ((t = 5 ∨ (31 ≤ t ∧ t ≤ 33)) ∧ (b ≠ 45 ∧ b ≠ 46 ∧ b ≠ 47 ∧ b ≠ 48 ∧ b ≠ 53 ∧ b ≠ 54 ∧ b ≠ 55 ∧ b ≠ 56) ∧ b < 99) := by
  rcases h with h | h | h | h | h | h | h | h | h
  · simp only at h; omega
  · simp only at h; omega
  · simp only at h; omega
  · simp only at h; omega
  · have := sc_tag h; omega
  · have := sc_tag h; omega
  · have := sc_tag h; omega
  · have := sc_tag h; omega
  · have := sc_tag h; omega
variable {κ : Ky_} {τ : Tx_} {Λ : La_} {ω : Om_} {s n : Nat} {I : RI_} {J : RJ_} {P : RP_}
/-- a State that isn't touched -/
theorem CD.fr2 {σ : St_ × Nat} {I' : RI_} (h : CD κ τ Λ ω s σ n I P) (f1 : ∀ t a b k, (t = 3 ∨ (7 ≤ t ∧ t ≤ 13) ∨ (t = 17 ∧ b ≠ 94) ∨ (34 ≤ t ∧ t ≤ 36)) → I' (t, a, b) k = I (t, a, b) k) (f2 : ∀ r k, scell s r → I' r k = I r k) : CD κ τ Λ ω s σ n I' P := by
  obtain ⟨hC, hs, ho, hg, hn, hn2, hok, hom⟩ := h
  refine ⟨hC.fr f1, hs, ho.fr (fun k _ _ => f2 _ _ (sc0 s)), ⟨fun k hk => ?_, fun k hk => ?_, fun k hk => ?_, ?_, ?_⟩, ?_, hn2, hok, hom⟩
  · rw [f2 _ _ (sc1 s)]; exact hg.1 k hk
  · rw [f2 _ _ (sc2 s)]; exact hg.2.1 k hk
  · rw [f2 _ _ (sc3 s)]; exact hg.2.2.1 k hk
  · rw [f2 _ _ (sc0 s)]; exact hg.2.2.2.1
  · rw [f2 _ _ (sc0 s)]; exact hg.2.2.2.2
  · rw [f2 _ _ (sc0 s)]; exact hn
theorem CWd.fr {A : Ab_} {I' : RI_} (h : CWd A κ n I P) (f : ∀ r k, ¬ xcell r → ¬ (r = (1, 0, 1) ∧ k = 18) → I' r k = I r k) : CWd A κ n I' P := by
  have g1 : ∀ t a b k, (t = 3 ∨ (7 ≤ t ∧ t ≤ 13) ∨ (t = 17 ∧ b ≠ 94) ∨ (34 ≤ t ∧ t ≤ 36)) → I' (t, a, b) k = I (t, a, b) k := fun t a b k q => f _ _ (fun z => by have := xc_tag z; omega) (fun z => by have := congrArg (·.1) z.1; simp only at this; omega)
  have g2 : ∀ s r k, (s = 45 ∨ s = 53 ∨ 99 ≤ s) → scell s r → I' r k = I r k := fun s r k q hr => f _ _ (fun z => by
    obtain ⟨t, a, b⟩ := r
    have := xc_tag z
    have := sc_tag hr
    omega) (fun z => by
    obtain ⟨t, a, b⟩ := r
    have := sc_tag hr
    have := congrArg (·.1) z.1
    simp only at this
    omega)
  have g3 : ∀ k, k ≠ 18 → I' (1, 0, 1) k = I (1, 0, 1) k := fun k hk => f _ _ (fun z => by have := xc_tag z; omega) (fun z => hk z.2)
  have g4 : ∀ t a b k, (t = 42 ∨ (14 ≤ t ∧ t ≤ 17)) → I' (t, a, b) k = I (t, a, b) k := fun t a b k q => f _ _ (fun z => by have := xc_tag z; omega) (fun z => by have := congrArg (·.1) z.1; simp only at this; omega)
  obtain ⟨h1, h2, ⟨⟨h3, h20⟩, q, h4, h5, h6⟩, ⟨h7, h8, h9⟩, ⟨h10, h11⟩, ⟨h12, h13⟩, h14⟩ := h
  refine ⟨h1.fr2 g1 (fun r k hr => g2 45 r k (by omega) hr), ?_, ⟨⟨(g3 _ (by omega)).trans h3, h20⟩, q, h4, h5, fun k hk => ?_⟩, ⟨(g4 _ _ _ _ (by omega)).trans h7, (g3 _ (by omega)).trans h8, fun k hk => ?_⟩, ⟨(g3 _ (by omega)).trans h10, fun p hp => (g4 _ _ _ _ (by omega)).trans (h11 p hp)⟩, ⟨(g3 _ (by omega)).trans h12, (g3 _ (by omega)).trans h13⟩, h14⟩
  · cases hm : aM A with
    | none => rw [hm] at h2; exact (g3 _ (by omega)).trans h2
    | some s => rw [hm] at h2; exact ⟨(g3 _ (by omega)).trans h2.1, h2.2.fr2 g1 (fun r k hr => g2 53 r k (by omega) hr)⟩
  · refine (h6 k hk).fr2 g1 (fun r j hr => g2 (q k) r j ?_ hr)
    rcases h4 k (by omega) with ⟨-, z⟩ | z
    · omega
    · exact Or.inr (Or.inr z.2.2.1)
  · obtain ⟨q, q1, q2, q3⟩ := h9 k hk
    refine ⟨q, q1, q2, ?_⟩
    rcases q3 with ⟨a1, a2, a3, a4, a5⟩ | ⟨a1, a2, a3, a4, a5, a6⟩ | ⟨a1, a2, a3⟩
    · exact Or.inl ⟨a1, a2, (g4 _ _ _ _ (by omega)).trans a3, (g4 _ _ _ _ (by omega)).trans a4, (g4 _ _ _ _ (by omega)).trans a5⟩
    · exact Or.inr (Or.inl ⟨a1, a2, (g4 _ _ _ _ (by omega)).trans a3, (g4 _ _ _ _ (by omega)).trans a4, (g4 _ _ _ _ (by omega)).trans a5, (g4 _ _ _ _ (by omega)).trans a6⟩)
    · exact Or.inr (Or.inr ⟨a1, a2, (g4 _ _ _ _ (by omega)).trans a3⟩)
