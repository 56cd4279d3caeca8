/-! THE TWIN's lines -/
variable {b : Nat → Nat} {n : Nat}
def zo (t : Nat) : Nat := if t = 1003 then 1 else if t ≤ 1006 then 6 else if t = 1007 then 12 else if t ≤ 1012 then 8 else if t ≤ 1015 then 12 else 4
def lcl (s : Ls_) (t k : Nat) : Prop := (t = 1003 ∧ k = 0) ∨ (1004 ≤ t ∧ t ≤ 1006 ∧ k < lK s) ∨ (t = 1007 ∧ k < 12) ∨ (1008 ≤ t ∧ t ≤ 1012 ∧ k < lD s) ∨ (1013 ≤ t ∧ t ≤ 1015 ∧ k < lW s) ∨ (t = 1017 ∧ k < 4)
theorem zo_c {s : Ls_} {t k : Nat} (h : lcl s t k) : (t = 1003 ∧ k = 0 ∧ zo t = 1) ∨ (1004 ≤ t ∧ t ≤ 1006 ∧ k < lK s ∧ zo t = 6) ∨ (t = 1007 ∧ k < 12 ∧ zo t = 12) ∨ (1008 ≤ t ∧ t ≤ 1012 ∧ k < lD s ∧ zo t = 8) ∨ (1013 ≤ t ∧ t ≤ 1015 ∧ k < lW s ∧ zo t = 12) ∨ (t = 1017 ∧ k < 4 ∧ zo t = 4) := by
  unfold lcl at h
  unfold zo
  rcases h with h | h | h | h | h | h
  · left; rw [if_pos (by omega)]; omega
  · right; left; rw [if_neg (by omega), if_pos (by omega)]; omega
  · right; right; left; rw [if_neg (by omega), if_neg (by omega), if_pos (by omega)]; omega
  · right; right; right; left; rw [if_neg (by omega), if_neg (by omega), if_neg (by omega), if_pos (by omega)]; omega
  · right; right; right; right; left; rw [if_neg (by omega), if_neg (by omega), if_neg (by omega), if_neg (by omega), if_pos (by omega)]; omega
  · right; right; right; right; right; rw [if_neg (by omega), if_neg (by omega), if_neg (by omega), if_neg (by omega), if_neg (by omega)]; omega
def LwOk (c : Nat) (Λ : La_) (I : FI_) : Prop := ∀ w, w < 3 → (Λ w = none ∧ I 1018 (3 + w) = 0) ∨ ∃ f lo i, Λ w = some f ∧ Tame f ∧ I 1018 (3 + w) = 1 ∧ I 1019 (3 + w) = nI lo ∧ I 1020 (3 + w) = nI (i + 1) ∧ i < c ∧ KnOk (rz I) lo i f
theorem KnOk.cg {τ τ' : Tx_} {lo i : Nat} {f : Dn_} (h : KnOk τ lo i f) (g : ∀ t k, 1021 ≤ t → t ≤ 1023 → lo ≤ k → k ≤ i → τ' t k = τ t k) : KnOk τ' lo i f := by
  obtain ⟨h1, h2, h3⟩ := h
  refine ⟨h1, fun j a c => kWf_cg (fun t x y => g t j x y a c) (h2 j a c), fun nm w => ?_⟩
  rw [rnK_cg nm _ w (fun t k x y z u => g t k x y z (by omega))]
  exact h3 nm w
theorem LwOk.fr {c c' : Nat} {Λ : La_} {I I' : FI_} (h : LwOk c Λ I) (hc : c ≤ c') (g : ∀ t k, ((1018 ≤ t ∧ t ≤ 1020 ∧ 3 ≤ k ∧ k < 6) ∨ (1021 ≤ t ∧ t ≤ 1023 ∧ 64 ≤ k ∧ k < 64 + c)) → I' t k = I t k) : LwOk c' Λ I' := by
  intro w hw
  rcases h w hw with ⟨a, e⟩ | ⟨f, lo, i, a1, a2, a3, a4, a5, a6, a7⟩
  · exact Or.inl ⟨a, (g _ _ (by omega)).trans e⟩
  · exact Or.inr ⟨f, lo, i, a1, a2, (g _ _ (by omega)).trans a3, (g _ _ (by omega)).trans a4, (g _ _ (by omega)).trans a5, by omega, a7.cg (fun t k x y z u => g _ _ (by omega))⟩
def TLs (b : Nat → Nat) (n : Nat) (s : Ls_) (I : FI_) : Prop := TTk b n (lP s) I ∧ (I 1000 16 = nI (lK s) ∧ I 1000 17 = nI (lD s) ∧ I 1000 18 = nI (lW s) ∧ I 1000 19 = nI (lH s)) ∧ (I 1000 20 = nI (lC s) ∧ I 1000 48 = nI (lC s)) ∧ (∀ t k, lcl s t k → I t (zo t + k) = lX s t k) ∧ (∀ t, t < 4 → I 1016 t = bI (lF s t)) ∧ I 1000 21 = bI (lF s 4) ∧ LwOk (lC s) (lA s) I ∧ (lK s ≤ 6 ∧ lD s ≤ 8 ∧ lW s ≤ 12 ∧ lH s ≤ 12 ∧ lC s ≤ 64)
/-- the cells that reading writes -/
def zF (t k : Nat) : Prop := (t = 1000 ∧ (k = 4 ∨ k = 5 ∨ (7 ≤ k ∧ k ≤ 11) ∨ (16 ≤ k ∧ k ≤ 21) ∨ (45 ≤ k ∧ k ≤ 50))) ∨ (t = 1003 ∧ k = 1) ∨ (1004 ≤ t ∧ t ≤ 1006 ∧ 6 ≤ k) ∨ (t = 1007 ∧ 12 ≤ k) ∨ (1008 ≤ t ∧ t ≤ 1012 ∧ 8 ≤ k) ∨ (1013 ≤ t ∧ t ≤ 1015 ∧ 12 ≤ k) ∨ t = 1016 ∨ (t = 1017 ∧ 4 ≤ k) ∨ (1018 ≤ t ∧ t ≤ 1020 ∧ 3 ≤ k) ∨ (1021 ≤ t ∧ t ≤ 1023 ∧ 64 ≤ k) ∨ t = 1024 ∨ t = 1025
theorem nu_z (t k : Nat) (h : nuF t k) : zF t k := by unfold nuF at h; unfold zF; omega
theorem zr_0 {k : Nat} (h : 16 ≤ k ∧ k ≤ 21) : zF 1000 k := Or.inl ⟨rfl, by omega⟩
theorem zr_3 {t k : Nat} (h : t = 1003 ∧ k = 1) : zF t k := Or.inr (Or.inl h)
theorem zr_4 {t k : Nat} (h : 1004 ≤ t ∧ t ≤ 1006 ∧ 6 ≤ k) : zF t k := Or.inr (Or.inr (Or.inl h))
theorem zr_7 {t k : Nat} (h : t = 1007 ∧ 12 ≤ k) : zF t k := Or.inr (Or.inr (Or.inr (Or.inl h)))
theorem zr_8 {t k : Nat} (h : 1008 ≤ t ∧ t ≤ 1012 ∧ 8 ≤ k) : zF t k := Or.inr (Or.inr (Or.inr (Or.inr (Or.inl h))))
theorem zr_13 {t k : Nat} (h : 1013 ≤ t ∧ t ≤ 1015 ∧ 12 ≤ k) : zF t k := Or.inr (Or.inr (Or.inr (Or.inr (Or.inr (Or.inl h)))))
theorem zr_16 {k : Nat} : zF 1016 k := Or.inr (Or.inr (Or.inr (Or.inr (Or.inr (Or.inr (Or.inl rfl))))))
theorem zr_17 {t k : Nat} (h : t = 1017 ∧ 4 ≤ k) : zF t k := Or.inr (Or.inr (Or.inr (Or.inr (Or.inr (Or.inr (Or.inr (Or.inl h)))))))
theorem zr_18 {t k : Nat} (h : 1018 ≤ t ∧ t ≤ 1020 ∧ 3 ≤ k) : zF t k := Or.inr (Or.inr (Or.inr (Or.inr (Or.inr (Or.inr (Or.inr (Or.inr (Or.inl h))))))))
theorem ln_z {a c m : Nat} (h : ∀ t, a ≤ t → t ≤ c → zF t m) (t k : Nat) (q : lnF a c m t k) : zF t k := by
  rcases q with q | ⟨q1, q2, q3⟩
  · exact nu_z t k q
  · rw [q3]; exact h t q1 q2
theorem nu_l (a c m t k : Nat) (h : nuF t k) : lnF a c m t k := Or.inl h
theorem ln_n {a c m t k : Nat} (h1 : ¬ (t = 1000 ∧ k < 12)) (h2 : ¬ (a ≤ t ∧ t ≤ c ∧ k = m)) : ¬ lnF a c m t k := by
  rintro (q | q)
  · unfold nuF at q; omega
  · exact h2 q
def TLh (b : Nat → Nat) (n : Nat) (s' : Ls_) (J : FJ_) (C : C_) (I : FI_) (z : Option Z_) : Prop := ∃ I' : FI_, z = some (.inl (some (vI 1)), (tw I' J, C)) ∧ TLs b n s' I' ∧ FrI zF I I'
def TLo (b : Nat → Nat) (n : Nat) (r : Ft_ ⊕ Ls_) (J : FJ_) (C : C_) (I : FI_) (z : Option Z_) : Prop := match r with
  | .inl e => TPf zF e J C I z
  | .inr s' => TLh b n s' J C I z
theorem num_le {p hi v q : Nat} (h : numS b n p hi = .inr (v, q)) : v ≤ hi := by
  unfold numS at h
  by_cases c : tkK b n p = 3
  · rw [if_pos c] at h
    by_cases c2 : hi < tkW b n p
    · rw [if_pos c2] at h; cases h
    · rw [if_neg c2] at h
      injection h with h
      have := congrArg Prod.fst h
      simp only at this
      omega
  · rw [if_neg c] at h; cases h
theorem u2_o {β : Type} (f : Nat → Nat → β) {a a' k k' : Nat} (x : β) (h : ¬ (a' = a ∧ k' = k)) : u2 f a k x a' k' = f a' k' := if_neg h
/-- a line has written -/
theorem TLs.put {s s' : Ls_} {I I' : FI_} {S : Nat → Nat → Prop} (h : TLs b n s I) (hC : lC s' = lC s) (hA : lA s' = lA s) (t' : TTk b n (lP s') I') (f : FrI S I I') (hS : ∀ t k, S t k → (t = 1000 ∧ (k < 12 ∨ (16 ≤ k ∧ k ≤ 19) ∨ k = 21)) ∨ (1003 ≤ t ∧ t ≤ 1017))
    (hc : I' 1000 16 = nI (lK s') ∧ I' 1000 17 = nI (lD s') ∧ I' 1000 18 = nI (lW s') ∧ I' 1000 19 = nI (lH s')) (hX : ∀ t k, lcl s' t k → (¬ S t (zo t + k) ∧ lcl s t k ∧ lX s' t k = lX s t k) ∨ I' t (zo t + k) = lX s' t k)
    (hF : (∀ t, t < 4 → I' 1016 t = bI (lF s' t)) ∧ I' 1000 21 = bI (lF s' 4)) (hb : lK s' ≤ 6 ∧ lD s' ≤ 8 ∧ lW s' ≤ 12 ∧ lH s' ≤ 12) : TLs b n s' I' := by
  obtain ⟨-, -, ⟨h20, h48⟩, hx, -, -, hl, ⟨-, -, -, -, hb'⟩⟩ := h
  refine ⟨t', hc, ⟨?_, ?_⟩, fun t k q => ?_, hF.1, hF.2, ?_, ⟨hb.1, hb.2.1, hb.2.2.1, hb.2.2.2, by rw [hC]; exact hb'⟩⟩
  · rw [hC, f _ _ (fun z => by have := hS _ _ z; omega)]; exact h20
  · rw [hC, f _ _ (fun z => by have := hS _ _ z; omega)]; exact h48
  · rcases hX t k q with ⟨a1, a2, a3⟩ | a
    · rw [f _ _ a1, a3]; exact hx t k a2
    · exact a
  · rw [hC, hA]
    exact hl.fr (Nat.le_refl _) (fun t k q => f _ _ (fun z => by have := hS _ _ z; omega))
/-- a line that lays kinds, deeds or plans: a block of rows, a count -/
def lkF (a c m j t k : Nat) : Prop := lnF a c m t k ∨ (t = 1000 ∧ k = j)
theorem lk_n {a c m j t k : Nat} (h1 : ¬ (t = 1000 ∧ k < 12)) (h2 : ¬ (a ≤ t ∧ t ≤ c ∧ k = m)) (h3 : ¬ (t = 1000 ∧ k = j)) : ¬ lkF a c m j t k := by
  rintro (q | q)
  · exact ln_n h1 h2 q
  · exact h3 q
theorem lk_s {a c m j : Nat} (ha : 1003 ≤ a) (hc : c ≤ 1017) (hj : (16 ≤ j ∧ j ≤ 19) ∨ j = 21) (t k : Nat) (h : lkF a c m j t k) : (t = 1000 ∧ (k < 12 ∨ (16 ≤ k ∧ k ≤ 19) ∨ k = 21)) ∨ (1003 ≤ t ∧ t ≤ 1017) := by
  rcases h with (h | h) | h
  · unfold nuF at h; omega
  · omega
  · omega
theorem lk_z {a c m j : Nat} (h : ∀ t, a ≤ t → t ≤ c → zF t m) (hj : 16 ≤ j ∧ j ≤ 21) (t k : Nat) (q : lkF a c m j t k) : zF t k := by
  rcases q with q | ⟨q1, q2⟩
  · exact ln_z h t k q
  · rw [q1, q2]; exact zr_0 hj
