/-! THE COMPONENT's pictures -/
/-- the serials of Lives, and of its kinds, deeds, plans -/
abbrev Ky_ : Type := Nat × (Nat → Nat) × (Nat → Nat) × (Nat → Nat)
abbrev yL (κ : Ky_) : Nat := κ.1
abbrev yK (κ : Ky_) : Nat → Nat := κ.2.1
abbrev yD (κ : Ky_) : Nat → Nat := κ.2.2.1
abbrev yP (κ : Ky_) : Nat → Nat := κ.2.2.2
/-- a State's pointers -/
def StP (P : RP_) (s : Nat) : Prop := P (5, 0, s) 0 = some (31, 12, s + 1) ∧ P (5, 0, s) 1 = some (32, 2, s + 2) ∧ P (5, 0, s) 2 = some (33, 12, s + 3) ∧ P (5, 0, s) 10 = some (1, 0, 1)
/-- the pointers that the constructor lays, for good -/
def CFx (P : RP_) : Prop :=
  (P (1, 0, 1) 0 = some (42, 700, 2) ∧ P (1, 0, 1) 5 = some (2, 0, 32) ∧ P (1, 0, 1) 7 = some (44, 7, 43) ∧ P (1, 0, 1) 8 = some (4, 0, 44) ∧ P (1, 0, 1) 9 = some (5, 0, 45) ∧ P (1, 0, 1) 10 = some (5, 0, 49) ∧ P (1, 0, 1) 11 = some (5, 0, 53)) ∧
  (P (1, 0, 1) 12 = some (47, 20, 57) ∧ P (1, 0, 1) 14 = some (37, 401, 58) ∧ P (1, 0, 1) 15 = some (38, 4, 75) ∧ P (1, 0, 1) 16 = some (39, 4, 76) ∧ P (1, 0, 1) 17 = some (48, 4, 77) ∧ P (1, 0, 1) 19 = some (17, 0, 94) ∧ P (1, 0, 1) 20 = some (41, 24, 97)) ∧
  (P (2, 0, 32) 8 = some (1, 0, 1) ∧ P (4, 0, 44) 0 = some (1, 0, 1) ∧ P (4, 0, 44) 1 = some (1, 0, 1) ∧ P (17, 0, 94) 1 = some (49, 24, 95)) ∧
  (∀ i, i < 4 → P (48, 4, 77) i = some (5, 0, 78 + 4 * i) ∧ StP P (78 + 4 * i)) ∧ (StP P 45 ∧ StP P 49 ∧ StP P 53)
/-- the pointers of Lives -/
def CLv (P : RP_) (l : Nat) : Prop :=
  (P (3, 0, l) 0 = some (17, 0, l + 1) ∧ P (3, 0, l) 1 = some (17, 0, l + 3) ∧ P (3, 0, l) 2 = some (17, 0, l + 5) ∧ P (3, 0, l) 3 = some (35, 2, l + 7) ∧ P (3, 0, l) 4 = some (36, 2, l + 8) ∧ P (3, 0, l) 5 = some (46, 3, l + 9)) ∧
  (P (17, 0, l + 1) 1 = some (49, 6, l + 2) ∧ P (17, 0, l + 3) 1 = some (49, 8, l + 4) ∧ P (17, 0, l + 5) 1 = some (49, 12, l + 6))
/-- a text in the component -/
def CTx (κ : Ky_) (τ : Tx_) (nk nd np : Nat) (I : RI_) (P : RP_) : Prop :=
  CLv P (yL κ) ∧ (I (17, 0, yL κ + 1) 2 = nI nk ∧ I (17, 0, yL κ + 3) 2 = nI nd ∧ I (17, 0, yL κ + 5) 2 = nI np) ∧
  (∀ k, k < nk → (P (49, 6, yL κ + 2) k = some (7, 0, yK κ k) ∧ P (7, 0, yK κ k) 1 = some (34, 2, yK κ k + 1)) ∧ (I (7, 0, yK κ k) 0 = τ 1004 k ∧ I (7, 0, yK κ k) 2 = τ 1005 k ∧ I (7, 0, yK κ k) 3 = τ 1006 k) ∧ ∀ t, t < 2 → I (34, 2, yK κ k + 1) t = τ 1007 (2 * k + t)) ∧
  (∀ e, e < nd → P (49, 8, yL κ + 4) e = some (8, 0, yD κ e) ∧ (I (8, 0, yD κ e) 0 = τ 1008 e ∧ I (8, 0, yD κ e) 1 = τ 1009 e ∧ I (8, 0, yD κ e) 2 = τ 1010 e ∧ I (8, 0, yD κ e) 3 = τ 1011 e ∧ I (8, 0, yD κ e) 4 = τ 1012 e)) ∧
  (∀ i, i < np → P (49, 12, yL κ + 6) i = some (9, 0, yP κ i) ∧ (I (9, 0, yP κ i) 0 = τ 1013 i ∧ I (9, 0, yP κ i) 1 = τ 1014 i ∧ I (9, 0, yP κ i) 2 = τ 1015 i)) ∧
  (∀ t, t < 2 → I (35, 2, yL κ + 7) t = τ 1017 t ∧ I (36, 2, yL κ + 8) t = τ 1017 (2 + t)) ∧
  (I (3, 0, yL κ) 7 = τ 1003 0 ∧ I (3, 0, yL κ) 8 = τ 1000 15)
/-! Parts -/
noncomputable def ofR (d : Nat) (r : R_) (G : G_) : Option Z_ := qS none [(10, 272), (11, 274), (12, 276), (13, 279)] r.1 fun j => bif Nat.ble 2 (ml_ j) then Run_ (d, j, 0, en_ (ml_ j) [vR r, vR (44, 7, 43)], [], G) else none
def outJ (o : Option Int64) (G : G_) : Option Z_ := match o with
  | some v => some (.inl (some (vJ v)), G)
  | none => some (.inr (104, 0, 0), G)
/-- parts that were made ahead of m are as they were -/
def AgP (m : Nat) (I : RI_) (P : RP_) (I' : RI_) (P' : RP_) : Prop := ∀ t a s k, 10 ≤ t → t ≤ 13 → s < m → I' (t, a, s) k = I (t, a, s) k ∧ P' (t, a, s) k = P (t, a, s) k
/-- a part that computes f, by at most h calls one within the other -/
def PrOk (h m : Nat) (I : RI_) (P : RP_) (r : R_) (f : Dn_) : Prop :=
  (10 ≤ r.1 ∧ r.1 ≤ 13) ∧ r.2.2 < m ∧ ∀ I' P', AgP m I P I' P' → ∀ (d : Nat) (T : T_) (n : Nat) (J : RJ_) (nm : Nm_), h ≤ d → (∀ k, k < 7 → J (44, 7, 43) k = nm k) → ofR d r (cg T n I' J P') = outJ (f nm) (cg T n I' J P')
theorem AgP.rf (m : Nat) (I : RI_) (P : RP_) : AgP m I P I P := fun _ _ _ _ _ _ _ => ⟨rfl, rfl⟩
theorem AgP.tr {m : Nat} {I I1 I2 : RI_} {P P1 P2 : RP_} (h : AgP m I P I1 P1) (h2 : AgP m I1 P1 I2 P2) : AgP m I P I2 P2 := fun t a s k h3 h4 h5 => ⟨(h2 t a s k h3 h4 h5).1.trans (h t a s k h3 h4 h5).1, (h2 t a s k h3 h4 h5).2.trans (h t a s k h3 h4 h5).2⟩
theorem AgP.le {m m' : Nat} {I I1 : RI_} {P P1 : RP_} (h : AgP m I P I1 P1) (hm : m' ≤ m) : AgP m' I P I1 P1 := fun t a s k h3 h4 h5 => h t a s k h3 h4 (by omega)
theorem PrOk.mv {h m : Nat} {I I1 : RI_} {P P1 : RP_} {r : R_} {f : Dn_} (p : PrOk h m I P r f) (a : AgP m I P I1 P1) : PrOk h m I1 P1 r f := ⟨p.1, p.2.1, fun I' P' q => p.2.2 I' P' (a.tr q)⟩
theorem PrOk.up {h m h' m' : Nat} {I : RI_} {P : RP_} {r : R_} {f : Dn_} (p : PrOk h m I P r f) (hh : h ≤ h') (hm : m ≤ m') : PrOk h' m' I P r f :=
  ⟨p.1, Nat.lt_of_lt_of_le p.2.1 hm, fun I' P' q d T n J nm hd hn => p.2.2 I' P' (q.le hm) d T n J nm (by omega) hn⟩
/-- the laws of a text in the component -/
def CLa (l : Nat) (Λ : La_) (n : Nat) (I : RI_) (P : RP_) : Prop := ∀ w, w < 3 → (Λ w = none ∧ P (46, 3, l + 9) w = none) ∨ ∃ f r, Λ w = some f ∧ P (46, 3, l + 9) w = some r ∧ PrOk 64 n I P r f
/-! states -/
def CSt (σ : St_) (nk np s : Nat) (I : RI_) : Prop :=
  (∀ k, k < 2 * nk → I (31, 12, s + 1) k = sAm σ k) ∧ (∀ t, t < 2 → I (32, 2, s + 2) t = sPu σ t) ∧ (∀ i, i < np → I (33, 12, s + 3) i = sRe σ i) ∧ I (5, 0, s) 4 = sLv σ ∧ I (5, 0, s) 3 = sDy σ
/-- what is tried -/
def COm (ω : Om_) (s : Nat) (I : RI_) : Prop :=
  oNH ω = decide (I (5, 0, s) 6 = 0) ∧ oAO ω = decide (I (5, 0, s) 6 = 1) ∧ oNC ω = decide (I (5, 0, s) 6 = 3) ∧ oNW ω = decide (I (5, 0, s) 6 = 4) ∧
  oId ω = (if I (5, 0, s) 6 = 2 then I (5, 0, s) 7 else -1) ∧ oHO ω = I (5, 0, s) 8 ∧ (oHO ω = -1 ∨ oHB ω = I (5, 0, s) 9)
/-- the cells of a State -/
def scell (s : Nat) (r : R_) : Prop := r = (5, 0, s) ∨ r = (31, 12, s + 1) ∨ r = (32, 2, s + 2) ∨ r = (33, 12, s + 3)
def FrC (S : R_ → Prop) (I I' : RI_) : Prop := ∀ r k, ¬ S r → I' r k = I r k
/-- names alone are written among longs -/
def FrN (J J' : RJ_) : Prop := ∀ r k, r ≠ (44, 7, 43) → J' r k = J r k
theorem FrC.rf (S : R_ → Prop) (I : RI_) : FrC S I I := fun _ _ _ => rfl
theorem FrC.tr {S : R_ → Prop} {I I1 I2 : RI_} (h : FrC S I I1) (h2 : FrC S I1 I2) : FrC S I I2 := fun r k hn => (h2 r k hn).trans (h r k hn)
theorem FrN.rf (J : RJ_) : FrN J J := fun _ _ _ => rfl
theorem FrN.tr {J J1 J2 : RJ_} (h : FrN J J1) (h2 : FrN J1 J2) : FrN J J2 := fun r k hn => (h2 r k hn).trans (h r k hn)
def OmOk (ω : Om_) : Prop := oHO ω = -1 ∨ (0 ≤ (oHB ω).toInt ∧ (oHB ω).toInt ≤ 9)
/-- the component with a text -/
def CC (κ : Ky_) (τ : Tx_) (Λ : La_) (n : Nat) (I : RI_) (P : RP_) : Prop := TxOk τ ∧ CFx P ∧ (P (1, 0, 1) 6 = some (3, 0, yL κ) ∧ (yL κ = 33 ∨ 99 ≤ yL κ)) ∧ CTx κ τ (nkS τ) (ndS τ) (npS τ) I P ∧ CLa (yL κ) Λ n I P ∧ (∀ w f, w < 3 → Λ w = some f → Tame f)
/-- .. and a State -/
def CD (κ : Ky_) (τ : Tx_) (Λ : La_) (ω : Om_) (s : Nat) (σ : St_ × Nat) (n : Nat) (I : RI_) (P : RP_) : Prop := CC κ τ Λ n I P ∧ StP P s ∧ COm ω s I ∧ CSt σ.1 (nkS τ) (npS τ) s I ∧ I (5, 0, s) 5 = nI σ.2 ∧ σ.2 < 2147483648 ∧ StOk σ.1 ∧ OmOk ω
theorem CC.fr {κ : Ky_} {τ : Tx_} {Λ : La_} {n : Nat} {I I' : RI_} {P : RP_} (h : CC κ τ Λ n I P) (f : ∀ t a s k, (t = 3 ∨ (7 ≤ t ∧ t ≤ 13) ∨ (t = 17 ∧ s ≠ 94) ∨ (34 ≤ t ∧ t ≤ 36)) → I' (t, a, s) k = I (t, a, s) k) : CC κ τ Λ n I' P := by
  obtain ⟨h1, h2, ⟨h3, h4⟩, ⟨g1, ⟨g2, g3, g4⟩, g5, g6, g7, g8, g9, g10⟩, h6, h7⟩ := h
  refine ⟨h1, h2, ⟨h3, h4⟩, ⟨g1, ⟨?_, ?_, ?_⟩, fun k hk => ?_, fun k hk => ?_, fun k hk => ?_, fun k hk => ?_, ?_, ?_⟩, fun w hw => ?_, h7⟩
  · rw [f _ _ _ _ (by omega)]; exact g2
  · rw [f _ _ _ _ (by omega)]; exact g3
  · rw [f _ _ _ _ (by omega)]; exact g4
  · obtain ⟨a1, ⟨a2, a3, a4⟩, a5⟩ := g5 k hk
    refine ⟨a1, ⟨?_, ?_, ?_⟩, fun t ht => ?_⟩
    · rw [f _ _ _ _ (by omega)]; exact a2
    · rw [f _ _ _ _ (by omega)]; exact a3
    · rw [f _ _ _ _ (by omega)]; exact a4
    · rw [f _ _ _ _ (by omega)]; exact a5 t ht
  · obtain ⟨a1, a2, a3, a4, a5, a6⟩ := g6 k hk
    refine ⟨a1, ?_, ?_, ?_, ?_, ?_⟩
    · rw [f _ _ _ _ (by omega)]; exact a2
    · rw [f _ _ _ _ (by omega)]; exact a3
    · rw [f _ _ _ _ (by omega)]; exact a4
    · rw [f _ _ _ _ (by omega)]; exact a5
    · rw [f _ _ _ _ (by omega)]; exact a6
  · obtain ⟨a1, a2, a3, a4⟩ := g7 k hk
    refine ⟨a1, ?_, ?_, ?_⟩
    · rw [f _ _ _ _ (by omega)]; exact a2
    · rw [f _ _ _ _ (by omega)]; exact a3
    · rw [f _ _ _ _ (by omega)]; exact a4
  · obtain ⟨a1, a2⟩ := g8 k hk
    refine ⟨?_, ?_⟩
    · rw [f _ _ _ _ (by omega)]; exact a1
    · rw [f _ _ _ _ (by omega)]; exact a2
  · rw [f _ _ _ _ (by omega)]; exact g9
  · rw [f _ _ _ _ (by omega)]; exact g10
  · rcases h6 w hw with a | ⟨e, r, a1, a2, a3⟩
    · exact Or.inl a
    · exact Or.inr ⟨e, r, a1, a2, a3.mv fun t a s k q1 q2 q3 => ⟨f _ _ _ _ (by omega), rfl⟩⟩
theorem sc_tag {s : Nat} {t a b : Nat} (h : scell s (t, a, b)) : (t = 5 ∧ b = s) ∨ (t = 31 ∧ b = s + 1) ∨ (t = 32 ∧ b = s + 2) ∨ (t = 33 ∧ b = s + 3) := by
  rcases h with h | h | h | h <;> (have h1 := congrArg (·.1) h; have h2 := congrArg (·.2.2) h; simp only at h1 h2; omega)
theorem CC.frS {κ : Ky_} {τ : Tx_} {Λ : La_} {n s : Nat} {I I' : RI_} {P : RP_} (h : CC κ τ Λ n I P) (f : FrC (scell s) I I') : CC κ τ Λ n I' P :=
  h.fr fun t a b k q => f _ k fun z => by have := sc_tag z; omega
