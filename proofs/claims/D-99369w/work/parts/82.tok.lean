/-! TOKENS, plainly -/
def scn (q : Nat → Bool) : Nat → Nat → Nat
  | 0, p => p
  | f + 1, p => bif q p then scn q f (p + 1) else p
def fls {α : Type} (F : Nat → α → α) : Nat → Nat → α → α
  | 0, _, a => a
  | m + 1, p, a => fls F m (p + 1) (F p a)
theorem scn_le (q : Nat → Bool) : ∀ f p, p ≤ scn q f p ∧ scn q f p ≤ p + f := by
  intro f
  induction f with
  | zero => intro p; exact ⟨Nat.le_refl _, Nat.le_refl _⟩
  | succ f ih =>
    intro p
    show p ≤ (bif q p then scn q f (p + 1) else p) ∧ (bif q p then scn q f (p + 1) else p) ≤ p + (f + 1)
    cases q p with
    | true => have := ih (p + 1); simp only [cond_true]; omega
    | false => simp only [cond_false]; omega
theorem scn_gt (q : Nat → Bool) {f p : Nat} (hf : 0 < f) (h : q p = true) : p < scn q f p := by
  cases f with
  | zero => omega
  | succ f =>
    show p < (bif q p then scn q f (p + 1) else p)
    rw [h]
    exact (scn_le q f (p + 1)).1
theorem lps {β : Type} (H X : Nat → β) (q : Nat → Bool) (n : Nat) (hq : q n = false) (hs : ∀ p, p ≤ n → H p = bif q p then H (p + 1) else X p) : ∀ p, p ≤ n → H p = X (scn q (n - p) p) := by
  have key : ∀ m p, p + m = n → H p = X (scn q m p) := by
    intro m
    induction m with
    | zero =>
      intro p hp
      have hp : p = n := by omega
      subst hp
      rw [hs p (Nat.le_refl _), hq]
      rfl
    | succ m ih =>
      intro p hp
      rw [hs p (by omega), ih (p + 1) (by omega)]
      show _ = X (bif q p then scn q m (p + 1) else p)
      cases q p <;> rfl
  intro p hp
  exact key (n - p) p (by omega)
theorem lps2 {α β : Type} (H X : Nat → α → β) (F : Nat → α → α) (V : α → Prop) (q : Nat → Bool) (n : Nat) (hq : q n = false) (hV : ∀ p a, q p = true → V a → V (F p a)) (hs : ∀ p a, p ≤ n → V a → H p a = bif q p then H (p + 1) (F p a) else X p a) : ∀ p a, p ≤ n → V a → H p a = X (scn q (n - p) p) (fls F (scn q (n - p) p - p) p a) ∧ V (fls F (scn q (n - p) p - p) p a) := by
  have key : ∀ m p a, p + m = n → V a → H p a = X (scn q m p) (fls F (scn q m p - p) p a) ∧ V (fls F (scn q m p - p) p a) := by
    intro m
    induction m with
    | zero =>
      intro p a hp hv
      have hp : p = n := by omega
      subst hp
      rw [hs p a (Nat.le_refl _) hv, hq]
      show X p a = X p (fls F (p - p) p a) ∧ V (fls F (p - p) p a)
      rw [Nat.sub_self]
      exact ⟨rfl, hv⟩
    | succ m ih =>
      intro p a hp hv
      rw [hs p a (by omega) hv]
      show _ = X (bif q p then scn q m (p + 1) else p) (fls F ((bif q p then scn q m (p + 1) else p) - p) p a) ∧ V (fls F ((bif q p then scn q m (p + 1) else p) - p) p a)
      cases hqp : q p with
      | true =>
        obtain ⟨h1, h2⟩ := ih (p + 1) (F p a) (by omega) (hV p a hqp hv)
        show H (p + 1) (F p a) = X (scn q m (p + 1)) (fls F (scn q m (p + 1) - p) p a) ∧ V (fls F (scn q m (p + 1) - p) p a)
        have h3 := (scn_le q m (p + 1)).1
        have e : scn q m (p + 1) - p = (scn q m (p + 1) - (p + 1)) + 1 := by omega
        rw [e]
        exact ⟨h1, h2⟩
      | false =>
        show X p a = X p (fls F (p - p) p a) ∧ V (fls F (p - p) p a)
        rw [Nat.sub_self]
        exact ⟨rfl, hv⟩
  intro p a hp hv
  exact key (n - p) p a (by omega) hv
def blk (b : Nat → Nat) (n p : Nat) : Bool := decide (p < n) && (decide (b p = 10) || decide (b p = 32))
def sml (b : Nat → Nat) (n p : Nat) : Bool := decide (p < n) && (!decide (b p < 97) && !decide (122 < b p))
def dgt (b : Nat → Nat) (n p : Nat) : Bool := decide (p < n) && (!decide (b p < 48) && !decide (57 < b p))
theorem blk_n (b : Nat → Nat) (n : Nat) : blk b n n = false := by unfold blk; rw [decide_eq_false (Nat.lt_irrefl n)]; rfl
theorem sml_n (b : Nat → Nat) (n : Nat) : sml b n n = false := by unfold sml; rw [decide_eq_false (Nat.lt_irrefl n)]; rfl
theorem dgt_n (b : Nat → Nat) (n : Nat) : dgt b n n = false := by unfold dgt; rw [decide_eq_false (Nat.lt_irrefl n)]; rfl
/-- the words -/
def wds : List (List Nat) := [[107, 105, 110, 100], [104, 97, 115], [100, 101, 101, 100], [100, 111], [112, 117, 114, 115, 101], [119, 97, 103, 101], [115, 101, 101, 100], [108, 97, 119], [97, 112, 97, 114, 116], [104, 101, 97, 108], [108, 117, 99, 107], [111, 114], [97, 110, 100], [110, 111, 116], [111, 119, 110], [111, 116, 104, 101, 114], [103, 97, 112], [115, 104, 111, 119, 115], [104, 101, 97, 108, 115], [108, 101, 118, 101, 108], [100, 97, 121]]
def wlen (w : Nat) : Nat := (wds.getD w []).length
def wch (w k : Nat) : Nat := (wds.getD w []).getD k 0
def wmt (b : Nat → Nat) (q e w : Nat) : Bool := decide (wlen w = e - q) && alb (fun k => decide (wch w k = b (q + k))) 0 (wlen w)
def fnN (p : Nat → Bool) : Nat → Nat → Nat
  | k, 0 => k
  | k, n + 1 => bif p k then k else fnN p (k + 1) n
def wdx (b : Nat → Nat) (q e : Nat) : Nat := fnN (wmt b q e) 0 21
/-- and, or: the twin has them the other way round -/
def swp (w : Nat) : Nat := if w = 11 then 12 else if w = 12 then 11 else w
/-- where the twin's word k begins -/
def wof (k : Nat) : Nat := ([0, 5, 9, 14, 17, 23, 28, 33, 37, 43, 48, 53, 57, 60, 64, 68, 74, 78, 84, 90, 96, 100] : List Nat).getD k 100
theorem wof_c : ∀ k, k < 21 → ∀ j, j < wlen (swp k) → wdT.getD (wof k + j) 0 = wch (swp k) j ∧ wdT.getD (wof k + j) 0 ≠ 32 := by decide
theorem wof_s : ∀ k, k < 21 → wdT.getD (wof k + wlen (swp k)) 0 = 32 ∧ wof (k + 1) = wof k + (wlen (swp k) + 1) ∧ wof k + wlen (swp k) < 100 ∧ wlen (swp k) < 6 := by decide
theorem wds_ne : ∀ w, w < 21 → ∀ v, v < 21 → w ≠ v → wlen w ≠ wlen v ∨ ∃ k, k < wlen w ∧ wch w k ≠ wch v k := by decide
theorem wmt_un {b : Nat → Nat} {q e w v : Nat} (hw : w < 21) (hv : v < 21) (h1 : wmt b q e w = true) (h2 : wmt b q e v = true) : w = v := by
  unfold wmt at h1 h2
  rw [Bool.and_eq_true] at h1 h2
  obtain ⟨a1, a2⟩ := h1
  obtain ⟨b1, b2⟩ := h2
  have a1 := of_decide_eq_true a1
  have b1 := of_decide_eq_true b1
  rw [alb_iff] at a2 b2
  by_cases hne : w = v
  · exact hne
  · rcases wds_ne w hw v hv hne with h | ⟨k, hk, h⟩
    · omega
    · have c1 := of_decide_eq_true (a2 k (Nat.zero_le _) (by omega))
      have c2 := of_decide_eq_true (b2 k (Nat.zero_le _) (by omega))
      omega
theorem fnN_spec (p : Nat → Bool) : ∀ n k, (fnN p k n = k + n ∧ ∀ j, k ≤ j → j < k + n → p j = false) ∨ (k ≤ fnN p k n ∧ fnN p k n < k + n ∧ p (fnN p k n) = true) := by
  intro n
  induction n with
  | zero => intro k; exact Or.inl ⟨rfl, fun j h1 h2 => by omega⟩
  | succ n ih =>
    intro k
    show ((bif p k then k else fnN p (k + 1) n) = k + (n + 1) ∧ _) ∨ (k ≤ (bif p k then k else fnN p (k + 1) n) ∧ (bif p k then k else fnN p (k + 1) n) < k + (n + 1) ∧ p (bif p k then k else fnN p (k + 1) n) = true)
    cases h : p k with
    | true => exact Or.inr ⟨Nat.le_refl _, by simp only [cond_true]; omega, h⟩
    | false =>
      simp only [cond_false]
      rcases ih (k + 1) with ⟨h1, h2⟩ | ⟨h1, h2, h3⟩
      · refine Or.inl ⟨by omega, fun j q1 q2 => ?_⟩
        by_cases q : j = k
        · rw [q]; exact h
        · exact h2 j (by omega) (by omega)
      · exact Or.inr ⟨by omega, by omega, h3⟩
theorem fnd_spec (p : Nat → Bool) : ∀ n k, (fnd p k n = -1 ∧ ∀ j, k ≤ j → j < k + n → p j = false) ∨ (∃ j, k ≤ j ∧ j < k + n ∧ p j = true ∧ fnd p k n = nI j) := by
  intro n
  induction n with
  | zero => intro k; exact Or.inl ⟨rfl, fun j h1 h2 => by omega⟩
  | succ n ih =>
    intro k
    show ((bif p k then nI k else fnd p (k + 1) n) = -1 ∧ _) ∨ (∃ j, k ≤ j ∧ j < k + (n + 1) ∧ p j = true ∧ (bif p k then nI k else fnd p (k + 1) n) = nI j)
    cases h : p k with
    | true => exact Or.inr ⟨k, Nat.le_refl _, by omega, h, rfl⟩
    | false =>
      simp only [cond_false]
      rcases ih (k + 1) with ⟨h1, h2⟩ | ⟨j, h1, h2, h3, h4⟩
      · refine Or.inl ⟨h1, fun j q1 q2 => ?_⟩
        by_cases q : j = k
        · rw [q]; exact h
        · exact h2 j (by omega) (by omega)
      · exact Or.inr ⟨j, by omega, by omega, h3, h4⟩
theorem swp_lt : ∀ w, w < 21 → swp w < 21 ∧ swp (swp w) = w := by decide
/-- the component's search -/
theorem wd_c (b : Nat → Nat) (q e : Nat) : (wdx b q e = 21 ∧ fnd (wmt b q e) 0 21 = -1) ∨ (wdx b q e < 21 ∧ fnd (wmt b q e) 0 21 = nI (wdx b q e)) := by
  rcases fnN_spec (wmt b q e) 21 0 with ⟨h1, h2⟩ | ⟨h1, h2, h3⟩
  · rcases fnd_spec (wmt b q e) 21 0 with ⟨g1, g2⟩ | ⟨j, g1, g2, g3, g4⟩
    · exact Or.inl ⟨h1, g1⟩
    · rw [h2 j g1 g2] at g3; cases g3
  · rcases fnd_spec (wmt b q e) 21 0 with ⟨g1, g2⟩ | ⟨j, g1, g2, g3, g4⟩
    · rw [g2 _ h1 h2] at h3; cases h3
    · have : j = wdx b q e := wmt_un (by omega) (by unfold wdx; omega) g3 h3
      exact Or.inr ⟨by unfold wdx; omega, by rw [← this]; exact g4⟩
/-- the twin's search -/
theorem wd_t (b : Nat → Nat) (q e : Nat) : (wdx b q e = 21 ∧ fnd (fun k => wmt b q e (swp k)) 0 21 = -1) ∨ (wdx b q e < 21 ∧ fnd (fun k => wmt b q e (swp k)) 0 21 = nI (swp (wdx b q e))) := by
  rcases fnN_spec (wmt b q e) 21 0 with ⟨h1, h2⟩ | ⟨h1, h2, h3⟩
  · rcases fnd_spec (fun k => wmt b q e (swp k)) 21 0 with ⟨g1, g2⟩ | ⟨j, g1, g2, g3, g4⟩
    · exact Or.inl ⟨h1, g1⟩
    · have := h2 (swp j) (Nat.zero_le _) (by have := (swp_lt j (by omega)).1; omega)
      rw [this] at g3; cases g3
  · have hlt : wdx b q e < 21 := by unfold wdx; omega
    rcases fnd_spec (fun k => wmt b q e (swp k)) 21 0 with ⟨g1, g2⟩ | ⟨j, g1, g2, g3, g4⟩
    · have := g2 (swp (wdx b q e)) (Nat.zero_le _) (by have := (swp_lt _ hlt).1; omega)
      simp only [(swp_lt _ hlt).2] at this
      have h3 : wmt b q e (wdx b q e) = true := h3
      rw [this] at h3; cases h3
    · have : swp j = wdx b q e := wmt_un (swp_lt j (by omega)).1 hlt g3 h3
      refine Or.inr ⟨hlt, ?_⟩
      rw [← this, (swp_lt j (by omega)).2]
      exact g4
/-- a sign: kind, number, length -/
def sgK (c : Nat) : Nat := if c = 60 ∨ c = 62 ∨ c = 61 then 5 else if c = 59 ∨ c = 40 ∨ c = 41 ∨ c = 43 ∨ c = 45 ∨ c = 42 ∨ c = 47 then 4 else 6
def sgV (c c2 : Nat) : Nat := if c = 61 then 2 else if c = 60 then (if c2 = 61 then 1 else if c2 = 62 then 3 else 0) else if c = 62 then (if c2 = 61 then 4 else 5) else c
def sgN (c c2 : Nat) : Nat := if c = 60 then (if c2 = 61 then 2 else if c2 = 62 then 2 else 1) else if c = 62 then (if c2 = 61 then 2 else 1) else 1
def nxB (b : Nat → Nat) (n q : Nat) : Nat := if q + 1 < n then b (q + 1) else 0
/-- a numeral's number -/
def nmF (b : Nat → Nat) (p v : Nat) : Nat := if 99999 < v then v else 10 * v + b p - 48
theorem nmF_in {b : Nat → Nat} {n p v : Nat} (h : dgt b n p = true) (hv : v ≤ 999999) : nmF b p v ≤ 999999 := by
  unfold dgt at h
  rw [Bool.and_eq_true, Bool.and_eq_true] at h
  obtain ⟨-, h1, h2⟩ := h
  have h1 : ¬ b p < 48 := fun z => by rw [decide_eq_true z] at h1; cases h1
  have h2 : ¬ 57 < b p := fun z => by rw [decide_eq_true z] at h2; cases h2
  unfold nmF
  split <;> omega
def pkS (b : Nat → Nat) (q e : Nat) : Int32 := itr (fun k v => (v <<< (5 &&& 31)) ||| (if q + k < e then nI (b (q + k)) - 96 else 0)) 6 0
/-- where a token from p on stands, its kind, its number, where it ends -/
def tkP (b : Nat → Nat) (n p : Nat) : Nat := scn (blk b n) (n - p) p
def tqE (b : Nat → Nat) (n q : Nat) : Nat := bif sml b n q then scn (sml b n) (n - q) q else bif dgt b n q then scn (dgt b n) (n - q) q else q + sgN (b q) (nxB b n q)
def tqK (b : Nat → Nat) (n q : Nat) : Nat := bif sml b n q then (if wdx b q (scn (sml b n) (n - q) q) < 21 then 1 else if 6 < scn (sml b n) (n - q) q - q then 6 else 2) else bif dgt b n q then 3 else sgK (b q)
def tqV (b : Nat → Nat) (n q : Nat) : Int32 := bif sml b n q then (if wdx b q (scn (sml b n) (n - q) q) < 21 then nI (wdx b q (scn (sml b n) (n - q) q)) else pkS b q (scn (sml b n) (n - q) q)) else bif dgt b n q then nI (fls (nmF b) (scn (dgt b n) (n - q) q - q) q 0) else nI (sgV (b q) (nxB b n q))
def tkN (b : Nat → Nat) (n p : Nat) : Nat := if n ≤ tkP b n p then tkP b n p else tqE b n (tkP b n p)
def tkK (b : Nat → Nat) (n p : Nat) : Nat := if n ≤ tkP b n p then 0 else tqK b n (tkP b n p)
def tkV (b : Nat → Nat) (n p : Nat) : Int32 := tqV b n (tkP b n p)
def tkW (b : Nat → Nat) (n p : Nat) : Nat := (tkV b n p).toNatClampNeg
theorem tkP_in {b : Nat → Nat} {n p : Nat} (hp : p ≤ n) : p ≤ tkP b n p ∧ tkP b n p ≤ n := by
  have := scn_le (blk b n) (n - p) p
  unfold tkP
  omega
theorem sgN_le (c c2 : Nat) : 1 ≤ sgN c c2 ∧ (sgN c c2 = 1 ∨ (sgN c c2 = 2 ∧ c2 ≠ 0)) := by
  unfold sgN
  repeat' split
  all_goals omega
theorem tqE_in {b : Nat → Nat} {n q : Nat} (hq : q < n) : q < tqE b n q ∧ tqE b n q ≤ n := by
  unfold tqE
  cases h1 : sml b n q with
  | true =>
    have := scn_gt (sml b n) (f := n - q) (by omega) h1
    have := scn_le (sml b n) (n - q) q
    simp only [cond_true]
    omega
  | false =>
    cases h2 : dgt b n q with
    | true =>
      have := scn_gt (dgt b n) (f := n - q) (by omega) h2
      have := scn_le (dgt b n) (n - q) q
      simp only [cond_true, cond_false]
      omega
    | false =>
      simp only [cond_false]
      obtain ⟨h3, h4⟩ := sgN_le (b q) (nxB b n q)
      refine ⟨by omega, ?_⟩
      rcases h4 with h4 | ⟨h4, h5⟩
      · omega
      · unfold nxB at h5
        by_cases c : q + 1 < n
        · omega
        · rw [if_neg c] at h5; omega
theorem tkN_gt {b : Nat → Nat} {n p : Nat} (hp : p ≤ n) (h : tkK b n p ≠ 0) : p < tkN b n p := by
  have h1 := tkP_in (b := b) hp
  unfold tkK at h
  unfold tkN
  by_cases c : n ≤ tkP b n p
  · rw [if_pos c] at h; exact absurd rfl h
  · rw [if_neg c]
    have := tqE_in (b := b) (n := n) (q := tkP b n p) (by omega)
    omega
theorem tkN_le {b : Nat → Nat} {n p : Nat} (hp : p ≤ n) : p ≤ tkN b n p ∧ tkN b n p ≤ n := by
  have h1 := tkP_in (b := b) hp
  unfold tkN
  by_cases c : n ≤ tkP b n p
  · rw [if_pos c]; exact h1
  · rw [if_neg c]
    have := tqE_in (b := b) (n := n) (q := tkP b n p) (by omega)
    omega
theorem tk_cmp {b : Nat → Nat} {n : Nat} (p : Nat) (h : tkK b n p = 5) : tkW b n p ≤ 5 := by
  unfold tkK at h
  unfold tkW tkV
  by_cases c : n ≤ tkP b n p
  · rw [if_pos c] at h; cases h
  rw [if_neg c] at h
  generalize tkP b n p = q at h ⊢
  unfold tqK at h
  unfold tqV
  cases h1 : sml b n q with
  | true =>
    rw [h1] at h
    simp only [cond_true] at h
    split at h
    · cases h
    · split at h <;> cases h
  | false =>
    cases h2 : dgt b n q with
    | true => rw [h1, h2] at h; simp only [cond_true, cond_false] at h; cases h
    | false =>
      rw [h1, h2] at h
      simp only [cond_false] at h ⊢
      have hs : sgV (b q) (nxB b n q) ≤ 5 := by
        unfold sgK at h
        unfold sgV
        by_cases c61 : b q = 61
        · rw [if_pos c61]; omega
        · rw [if_neg c61]
          by_cases c60 : b q = 60
          · rw [if_pos c60]; repeat' split
            all_goals omega
          · rw [if_neg c60]
            by_cases c62 : b q = 62
            · rw [if_pos c62]; split <;> omega
            · rw [if_neg (by omega)] at h
              split at h <;> cases h
      rw [nI_clamp (by omega)]
      exact hs
