/-! THE RUN: the partial function that the steps compute; its unrolling from cut to cut. -/
/-- the forms that a step takes -/
def CF_ (k : K_) : Prop :=
  (∀ α b g f c, k α b g f c = b) ∨ (∃ s : S_, ∀ α b g f c, k α b g f c = g s) ∨ (∃ z : Z_, ∀ α b g f c, k α b g f c = f z) ∨
  (∃ (s : S_) (κ : Z_ → Option (S_ ⊕ Z_)), ∀ α b g f c, k α b g f c = c s (fun z => match κ z with
    | none => b
    | some (.inl s2) => g s2
    | some (.inr z2) => f z2))
/-- the forms of what follows a call -/
def CE_ (k : K_) : Prop :=
  (∀ α b g f c, k α b g f c = b) ∨ (∃ s : S_, ∀ α b g f c, k α b g f c = g s) ∨ (∃ z : Z_, ∀ α b g f c, k α b g f c = f z)
theorem CE_.cf {k : K_} (h : CE_ k) : CF_ k := by
  rcases h with h | h | h
  · exact Or.inl h
  · exact Or.inr (Or.inl h)
  · exact Or.inr (Or.inr (Or.inl h))
theorem ce_B : CE_ kB := Or.inl fun _ _ _ _ _ => rfl
theorem ce_G (s : S_) : CE_ (kG s) := Or.inr (Or.inl ⟨s, fun _ _ _ _ _ => rfl⟩)
theorem ce_F (z : Z_) : CE_ (kF z) := Or.inr (Or.inr ⟨z, fun _ _ _ _ _ => rfl⟩)
theorem ce_J (d j pc : Nat) (L : Lo_) (st : List V_) (g : G_) : CE_ (kJ d j pc L st g) := by
  unfold kJ
  cases ct_ j pc with
  | none => exact ce_G _
  | some m => exact ce_G _
theorem cf_J (d j pc : Nat) (L : Lo_) (st : List V_) (g : G_) : CF_ (kJ d j pc L st g) := (ce_J d j pc L st g).cf
theorem cf_B : CF_ kB := ce_B.cf
theorem cf_F (z : Z_) : CF_ (kF z) := (ce_F z).cf
theorem cf_W (p : Prop) [Decidable p] {x y : K_} (hx : CF_ x) (hy : CF_ y) : CF_ (kW p x y) := by
  by_cases h : p
  · have e : kW p x y = x := by funext α b g f c; exact if_pos h
    rw [e]; exact hx
  · have e : kW p x y = y := by funext α b g f c; exact if_neg h
    rw [e]; exact hy
theorem cf_N (p : Bool) {x y : K_} (hx : CF_ x) (hy : CF_ y) : CF_ (kN p x y) := by
  cases p with
  | true => exact hx
  | false => exact hy
theorem ce_N (p : Bool) {x y : K_} (hx : CE_ x) (hy : CE_ y) : CE_ (kN p x y) := by
  cases p with
  | true => exact hx
  | false => exact hy
theorem cf_X {i : Int32} {n : Nat} {F : Nat → K_} (h : ∀ p, CF_ (F p)) : CF_ (fun α b g f c => qX b i n (fun p => F p α b g f c)) := by
  by_cases e : 0 ≤ i.toInt ∧ i.toInt < n
  · have e2 : (fun α b g f c => qX b i n (fun p => F p α b g f c) : K_) = F i.toNatClampNeg := by funext α b g f c; exact if_pos e
    rw [e2]; exact h _
  · have e2 : (fun α b g f c => qX b i n (fun p => F p α b g f c) : K_) = kB := by funext α b g f c; exact if_neg e
    rw [e2]; exact cf_B
theorem cf_L {i : Int32} {F : Nat → K_} (h : ∀ p, CF_ (F p)) : CF_ (fun α b g f c => qL b i (fun p => F p α b g f c)) := by
  by_cases e : 0 ≤ i.toInt ∧ i.toInt < 1024
  · have e2 : (fun α b g f c => qL b i (fun p => F p α b g f c) : K_) = F i.toNatClampNeg := by funext α b g f c; exact if_pos e
    rw [e2]; exact h _
  · have e2 : (fun α b g f c => qL b i (fun p => F p α b g f c) : K_) = kB := by funext α b g f c; exact if_neg e
    rw [e2]; exact cf_B
theorem cf_R {t : Nat} {o : Option R_} {F : Nat → Nat → K_} (h : ∀ n s, CF_ (F n s)) : CF_ (fun α b g f c => qR b t o (fun n s => F n s α b g f c)) := by
  cases o with
  | none => exact cf_B
  | some r =>
    cases e : Nat.beq r.1 t with
    | true =>
      have e2 : (fun α b g f c => qR b t (some r) (fun n s => F n s α b g f c) : K_) = F r.2.1 r.2.2 := by funext α b g f c; unfold qR; simp only [e]; rfl
      rw [e2]; exact h _ _
    | false =>
      have e2 : (fun α b g f c => qR b t (some r) (fun n s => F n s α b g f c) : K_) = kB := by funext α b g f c; unfold qR; simp only [e]; rfl
      rw [e2]; exact cf_B
theorem ce_R {t : Nat} {o : Option R_} {F : Nat → Nat → K_} (h : ∀ n s, CE_ (F n s)) : CE_ (fun α b g f c => qR b t o (fun n s => F n s α b g f c)) := by
  cases o with
  | none => exact ce_B
  | some r =>
    cases e : Nat.beq r.1 t with
    | true =>
      have e2 : (fun α b g f c => qR b t (some r) (fun n s => F n s α b g f c) : K_) = F r.2.1 r.2.2 := by funext α b g f c; unfold qR; simp only [e]; rfl
      rw [e2]; exact h _ _
    | false =>
      have e2 : (fun α b g f c => qR b t (some r) (fun n s => F n s α b g f c) : K_) = kB := by funext α b g f c; unfold qR; simp only [e]; rfl
      rw [e2]; exact ce_B
theorem cf_P {ts : List Nat} {o : Option R_} {F : R_ → K_} (h : ∀ r, CF_ (F r)) : CF_ (fun α b g f c => qP b ts o (fun r => F r α b g f c)) := by
  cases o with
  | none => exact cf_B
  | some r =>
    cases e : ts.any (Nat.beq r.1) with
    | true =>
      have e2 : (fun α b g f c => qP b ts (some r) (fun r => F r α b g f c) : K_) = F r := by funext α b g f c; unfold qP; simp only [e]; rfl
      rw [e2]; exact h _
    | false =>
      have e2 : (fun α b g f c => qP b ts (some r) (fun r => F r α b g f c) : K_) = kB := by funext α b g f c; unfold qP; simp only [e]; rfl
      rw [e2]; exact cf_B
theorem cf_A {o : Option R_} {F : R_ → K_} (h : ∀ r, CF_ (F r)) : CF_ (fun α b g f c => qA b o (fun r => F r α b g f c)) := by
  cases o with
  | none => exact cf_B
  | some r => exact h r
theorem cf_Nq {o : Option R_} {x : K_} {F : R_ → K_} (hx : CF_ x) (h : ∀ r, CF_ (F r)) : CF_ (fun α b g f c => qN o (x α b g f c) (fun r => F r α b g f c)) := by
  cases o with
  | none => exact hx
  | some r => exact h r
theorem cf_K {p : Nat → Bool} {o : Option R_} {F : R_ → K_} (h : ∀ r, CF_ (F r)) : CF_ (fun α b g f c => qK b p o (fun r => F r α b g f c)) := by
  cases o with
  | none => exact cf_B
  | some r =>
    cases e : p (ak_ r.1) with
    | true =>
      have e2 : (fun α b g f c => qK b p (some r) (fun r => F r α b g f c) : K_) = F r := by funext α b g f c; unfold qK; simp only [e]; rfl
      rw [e2]; exact h _
    | false =>
      have e2 : (fun α b g f c => qK b p (some r) (fun r => F r α b g f c) : K_) = kB := by funext α b g f c; unfold qK; simp only [e]; rfl
      rw [e2]; exact cf_B
theorem cf_S {l : List (Nat × Nat)} {t : Nat} {F : Nat → K_} (h : ∀ j, CF_ (F j)) : CF_ (fun α b g f c => qS b l t (fun j => F j α b g f c)) := by
  cases e : lk_ l t with
  | none =>
    have e2 : (fun α b g f c => qS b l t (fun j => F j α b g f c) : K_) = kB := by funext α b g f c; unfold qS; rw [e]
    rw [e2]; exact cf_B
  | some j =>
    have e2 : (fun α b g f c => qS b l t (fun j => F j α b g f c) : K_) = F j := by funext α b g f c; unfold qS; rw [e]
    rw [e2]; exact h j
theorem cf_rc {ts : List Nat} {o : Option R_} {F : R_ → K_} (h : ∀ r, CF_ (F r)) : CF_ (fun α b g f c => rc_ b ts o (fun r => F r α b g f c)) := by
  match ts with
  | [] => exact cf_P h
  | [t] => exact cf_R (fun n s => h (t, n, s))
  | _ :: _ :: _ => exact cf_P h
theorem ce_hn (d j pc : Nat) (L : Lo_) (q : R_) (g : G_) (hs : List (Nat × Nat × Nat × List Nat × List Nat)) : CE_ (hn_ d j pc L q g hs) := by
  induction hs with
  | nil => exact ce_F _
  | cons h t ih =>
    unfold hn_
    cases (Nat.ble h.1 pc && Nat.blt pc h.2.1) with
    | true => exact ce_N _ (ce_J ..) (ce_N _ ih ce_B)
    | false => exact ih
theorem ce_rz (d j pc : Nat) (L : Lo_) (st : List V_) (rt : Nat) (z : Z_) : CE_ (rz_ d j pc L st rt z) := by
  have hh := fun q h => ce_hn d j pc L q h (hs_ j)
  obtain ⟨o, h⟩ := z
  match rt with
  | 0 =>
    rcases o with (_ | (x | (x | x))) | q
    · exact ce_J ..
    · exact ce_B
    · exact ce_B
    · exact ce_B
    · exact hh q h
  | 1 =>
    rcases o with (_ | (x | (x | x))) | q
    · exact ce_B
    · exact ce_J ..
    · exact ce_B
    · exact ce_B
    · exact hh q h
  | 2 =>
    rcases o with (_ | (x | (x | x))) | q
    · exact ce_B
    · exact ce_B
    · exact ce_J ..
    · exact ce_B
    · exact hh q h
  | 3 =>
    rcases o with (_ | (x | (x | x))) | q
    · exact ce_B
    · exact ce_B
    · exact ce_B
    · exact ce_J ..
    · exact hh q h
  | t + 4 =>
    rcases o with (_ | (x | (x | x))) | q
    · exact ce_B
    · exact ce_B
    · exact ce_B
    · exact ce_R (F := fun n s => kJ d j (pc + 3) L (vR (t - 6, n, s) :: st) h) fun n s => ce_J ..
    · exact hh q h
theorem cf_C {s : S_} {k : Z_ → K_} (h : ∀ z, CE_ (k z)) : CF_ (kC s k) := by
  have h1 : ∀ z, ∃ e : Option (S_ ⊕ Z_), ∀ α b g f c, k z α b g f c = (match e with
    | none => b
    | some (.inl s2) => g s2
    | some (.inr z2) => f z2) := by
    intro z
    rcases h z with h | ⟨s, h⟩ | ⟨z2, h⟩
    · exact ⟨none, h⟩
    · exact ⟨some (.inl s), h⟩
    · exact ⟨some (.inr z2), h⟩
  refine Or.inr (Or.inr (Or.inr ⟨s, fun z => Classical.choose (h1 z), fun α b g f c => ?_⟩))
  show c s (fun z => k z α b g f c) = _
  congr 1
  funext z
  exact Classical.choose_spec (h1 z) α b g f c
theorem cf_ca (d j pc : Nat) (L : Lo_) (st : List V_) (g : G_) (rt rc j2 : Nat) (as : List V_) : CF_ (ca_ d j pc L st g rt rc j2 as) := by
  unfold ca_
  refine cf_N _ ?_ cf_B
  match rc with
  | 0 => exact cf_C fun z => ce_rz ..
  | _ + 1 =>
    match d with
    | 0 => exact cf_B
    | d2 + 1 => exact cf_C fun z => ce_rz ..
theorem cf_iv (d j pc : Nat) (L : Lo_) (st : List V_) (g : G_) (idx : Nat) : CF_ (iv_ d j pc L st g idx) := by
  unfold iv_
  split
  · exact cf_B
  · split
    · exact cf_N _ (cf_ca ..) cf_B
    · exact cf_R fun n s => cf_ca ..
    · exact cf_A fun q => cf_S fun j2 => cf_ca ..
    · exact cf_R fun n s => cf_ca ..
    · exact cf_P fun q => cf_ca ..
    · exact cf_B
theorem cf_gf (d j pc : Nat) (L : Lo_) (st : List V_) (g : G_) (idx : Nat) : CF_ (gf_ d j pc L st g idx) := by
  unfold gf_
  split
  · split
    · exact cf_rc fun q => cf_J ..
    · exact cf_rc fun q => cf_J ..
    · exact cf_rc fun q => cf_J ..
    · exact cf_rc fun q => cf_J ..
    · exact cf_rc fun q => cf_R fun n s => cf_J ..
  · exact cf_B
theorem cf_pf (d j pc : Nat) (L : Lo_) (st : List V_) (g : G_) (idx : Nat) : CF_ (pf_ d j pc L st g idx) := by
  unfold pf_
  split
  · exact cf_B
  · split
    · exact cf_rc fun q => cf_J ..
    · exact cf_rc fun q => cf_W _ (cf_J ..) cf_B
    · exact cf_rc fun q => cf_J ..
    · exact cf_rc fun q => cf_N _ (cf_J ..) cf_B
    · exact cf_B
theorem cf_cm (c : Jvm.ClassFile.Cond) (x y : Int32) {t n : K_} (ht : CF_ t) (hn : CF_ n) : CF_ (cm_ c x y t n) := by
  cases c
  · exact cf_W _ ht hn
  · exact cf_W _ hn ht
  · exact cf_W _ ht hn
  · exact cf_W _ hn ht
  · exact cf_W _ ht hn
  · exact cf_W _ hn ht
theorem cf_sw {f : Int → K_} (h : ∀ o, CF_ (f o)) (x : Int32) (df : Int) (l : List Int) : ∀ i, CF_ (sw_ f x df i l) := by
  induction l with
  | nil => exact fun _ => h _
  | cons o t ih => exact fun i => cf_W _ (h o) (ih _)
theorem cf_sl {f : Int → K_} (h : ∀ o, CF_ (f o)) (x : Int32) (df : Int) (l : List (Int × Int)) : CF_ (sl_ f x df l) := by
  induction l with
  | nil => exact h _
  | cons o t ih => exact cf_W _ (h o.2) ih
set_option maxHeartbeats 4000000 in
theorem cf_op (d j pc : Nat) (L : Lo_) (st : List V_) (g : G_) (ins : Instr) (len : Nat) : CF_ (op_ d j pc L st g ins len) := by
  unfold op_
  split
  all_goals first
    | exact cf_J ..
    | exact cf_B
    | exact cf_F _
    | exact cf_gf ..
    | exact cf_pf ..
    | exact cf_iv ..
    | (split <;> first
      | (split <;> first
        | exact cf_F _
        | exact cf_B
        | exact cf_W _ (cf_F _) cf_B)
      | exact cf_J ..
      | exact cf_B
      | exact cf_F _
      | exact cf_W _ cf_B (cf_J ..)
      | exact cf_W _ (cf_F _) cf_B
      | exact cf_cm _ _ _ (cf_J ..) (cf_J ..)
      | exact cf_N _ (cf_J ..) cf_B
      | exact cf_Nq (cf_J ..) (fun _ => cf_N _ (cf_J ..) cf_B)
      | exact cf_sw (fun o => cf_J ..) _ _ _ _
      | exact cf_sl (fun o => cf_J ..) _ _ _
      | exact cf_L fun n => cf_N _ (cf_J ..) cf_B
      | exact cf_rc fun q => cf_J ..
      | exact cf_P fun q => (ce_hn ..).cf
      | exact cf_K fun q => cf_J ..
      | exact cf_K fun q => cf_X fun p => cf_J ..
      | exact cf_K fun q => cf_X fun p => cf_Nq (cf_J ..) (fun v => cf_N _ (cf_J ..) cf_B))
theorem cf_all (s : S_) : CF_ (F_ s) := by
  obtain ⟨d, j, pc, L, st, g⟩ := s
  unfold F_
  simp only
  cases fe_ j pc with
  | none => exact cf_B
  | some e => exact cf_op ..
/-- more steps change no answer -/
theorem ex_more : ∀ (n : Nat) (s : S_) (z : Z_), ex_ n s = some z → ex_ (n + 1) s = some z := by
  intro n
  induction n with
  | zero => intro s z h; cases h
  | succ n ih =>
    intro s z h
    have h1 : F_ s (Option Z_) none (ex_ n) some (fun s1 k => (ex_ n s1).bind k) = some z := h
    show F_ s (Option Z_) none (ex_ (n + 1)) some (fun s1 k => (ex_ (n + 1) s1).bind k) = some z
    rcases cf_all s with e | ⟨s2, e⟩ | ⟨z2, e⟩ | ⟨s1, κ, e⟩
    · rw [e] at h1; cases h1
    · rw [e] at h1 ⊢; exact ih _ _ h1
    · rw [e] at h1 ⊢; exact h1
    · rw [e] at h1 ⊢
      cases hz : ex_ n s1 with
      | none => rw [hz] at h1; cases h1
      | some z1 =>
        rw [ih _ _ hz]
        rw [hz] at h1
        simp only [Option.bind_some] at h1 ⊢
        cases hk : κ z1 with
        | none => rw [hk] at h1; cases h1
        | some w =>
          rw [hk] at h1
          cases w with
          | inl s2 => exact ih _ _ h1
          | inr z2 => exact h1
theorem ex_le {n m : Nat} (h : n ≤ m) {s : S_} {z : Z_} (e : ex_ n s = some z) : ex_ m s = some z := by
  induction h with
  | refl => exact e
  | step _ ih => exact ex_more _ _ _ ih
theorem ex_one {n m : Nat} {s : S_} {z z2 : Z_} (e : ex_ n s = some z) (e2 : ex_ m s = some z2) : z = z2 :=
  Option.some.inj ((ex_le (Nat.le_max_left n m) e).symm.trans (ex_le (Nat.le_max_right n m) e2))
/-- the run from a state to its end -/
noncomputable def Run_ (s : S_) : Option Z_ := by
  classical
  exact if h : ∃ z n, ex_ n s = some z then some (Classical.choose h) else none
theorem run_iff {s : S_} {z : Z_} : Run_ s = some z ↔ ∃ n, ex_ n s = some z := by
  unfold Run_
  constructor
  · intro h
    split at h
    · rename_i h1
      obtain ⟨n, hn⟩ := Classical.choose_spec h1
      have : Classical.choose h1 = z := Option.some.inj h
      rw [this] at hn
      exact ⟨n, hn⟩
    · cases h
  · intro ⟨n, hn⟩
    have h1 : ∃ z n, ex_ n s = some z := ⟨z, n, hn⟩
    rw [dif_pos h1]
    obtain ⟨m, hm⟩ := Classical.choose_spec h1
    rw [ex_one hm hn]
theorem opt_eq {α : Type} {a b : Option α} (h : ∀ z, a = some z ↔ b = some z) : a = b := by
  cases a with
  | none =>
    cases b with
    | none => rfl
    | some z => exact ((h z).mpr rfl)
  | some z => exact ((h z).mp rfl).symm
theorem run_fix (s : S_) : Run_ s = F_ s (Option Z_) none Run_ some (fun s1 k => (Run_ s1).bind k) := by
  apply opt_eq
  intro z
  rw [run_iff]
  constructor
  · intro ⟨n, hn⟩
    cases n with
    | zero => cases hn
    | succ n =>
      have h1 : F_ s (Option Z_) none (ex_ n) some (fun s1 k => (ex_ n s1).bind k) = some z := hn
      rcases cf_all s with e | ⟨s2, e⟩ | ⟨z2, e⟩ | ⟨s1, κ, e⟩
      · rw [e] at h1; cases h1
      · rw [e] at h1 ⊢; exact run_iff.mpr ⟨n, h1⟩
      · rw [e] at h1 ⊢; exact h1
      · rw [e] at h1 ⊢
        cases hz : ex_ n s1 with
        | none => rw [hz] at h1; cases h1
        | some z1 =>
          rw [run_iff.mpr ⟨n, hz⟩]
          rw [hz] at h1
          simp only [Option.bind_some] at h1 ⊢
          cases hk : κ z1 with
          | none => rw [hk] at h1; cases h1
          | some w =>
            rw [hk] at h1
            cases w with
            | inl s2 => exact run_iff.mpr ⟨n, h1⟩
            | inr z2 => exact h1
  · intro h1
    rcases cf_all s with e | ⟨s2, e⟩ | ⟨z2, e⟩ | ⟨s1, κ, e⟩
    · rw [e] at h1; cases h1
    · rw [e] at h1
      obtain ⟨n, hn⟩ := run_iff.mp h1
      refine ⟨n + 1, ?_⟩
      show F_ s (Option Z_) none (ex_ n) some (fun s1 k => (ex_ n s1).bind k) = some z
      rw [e]; exact hn
    · rw [e] at h1
      refine ⟨1, ?_⟩
      show F_ s (Option Z_) none (ex_ 0) some (fun s1 k => (ex_ 0 s1).bind k) = some z
      rw [e]; exact h1
    · rw [e] at h1
      cases hz : Run_ s1 with
      | none => rw [hz] at h1; cases h1
      | some z1 =>
        rw [hz] at h1
        obtain ⟨n, hn⟩ := run_iff.mp hz
        simp only [Option.bind_some] at h1
        cases hk : κ z1 with
        | none => rw [hk] at h1; cases h1
        | some w =>
          rw [hk] at h1
          cases w with
          | inl s2 =>
            obtain ⟨m, hm⟩ := run_iff.mp h1
            refine ⟨max n m + 1, ?_⟩
            show F_ s (Option Z_) none (ex_ (max n m)) some (fun s1 k => (ex_ (max n m) s1).bind k) = some z
            rw [e, ex_le (Nat.le_max_left n m) hn]
            simp only [Option.bind_some, hk]
            exact ex_le (Nat.le_max_right n m) hm
          | inr z2 =>
            refine ⟨n + 1, ?_⟩
            show F_ s (Option Z_) none (ex_ n) some (fun s1 k => (ex_ n s1).bind k) = some z
            rw [e, hn]
            simp only [Option.bind_some, hk]
            exact h1
/-- unrolled from cut to cut -/
def bl_ (rec : S_ → Option Z_) : Nat → S_ → Option Z_
  | 0, s => rec s
  | n + 1, s => F_ s (Option Z_) none (fun s2 => bif (ct_ s2.2.1 s2.2.2.1).isSome then rec s2 else bl_ rec n s2) some (fun s1 k => (rec s1).bind k)
theorem run_bl (n : Nat) : ∀ s : S_, Run_ s = bl_ Run_ n s := by
  induction n with
  | zero => exact fun _ => rfl
  | succ n ih =>
    intro s
    show Run_ s = F_ s (Option Z_) none (fun s2 => bif (ct_ s2.2.1 s2.2.2.1).isSome then Run_ s2 else bl_ Run_ n s2) some (fun s1 k => (Run_ s1).bind k)
    have e : (fun s2 => bif (ct_ s2.2.1 s2.2.2.1).isSome then Run_ s2 else bl_ Run_ n s2) = Run_ := by
      funext s2
      cases (ct_ s2.2.1 s2.2.2.1).isSome with
      | true => rfl
      | false => exact (ih s2).symm
    rw [e]
    exact run_fix s
/-! what the equations of the blocks are written with -/
def cV (z : Option Z_) (k : G_ → Option Z_) : Option Z_ := z.bind fun z => rV none z (fun q h => some (.inr q, h)) k
def cI (z : Option Z_) (k : Int32 → G_ → Option Z_) : Option Z_ := z.bind fun z => rI none z (fun q h => some (.inr q, h)) k
def cJ (z : Option Z_) (k : Int64 → G_ → Option Z_) : Option Z_ := z.bind fun z => rJ none z (fun q h => some (.inr q, h)) k
def cO (z : Option Z_) (k : Option R_ → G_ → Option Z_) : Option Z_ := z.bind fun z => rO none z (fun q h => some (.inr q, h)) k
def cR (t : Nat) (z : Option Z_) (k : Nat → Nat → G_ → Option Z_) : Option Z_ := z.bind fun z => rO none z (fun q h => some (.inr q, h)) (fun o h => qR none t o (fun n s => k n s h))
theorem cV_ok (g : G_) (k : G_ → Option Z_) : cV (some (.inl none, g)) k = k g := rfl
theorem cV_th (q : R_) (g : G_) (k : G_ → Option Z_) : cV (some (.inr q, g)) k = some (.inr q, g) := rfl
theorem cI_ok (x : Int32) (g : G_) (k : Int32 → G_ → Option Z_) : cI (some (.inl (some (vI x)), g)) k = k x g := rfl
theorem cI_th (q : R_) (g : G_) (k : Int32 → G_ → Option Z_) : cI (some (.inr q, g)) k = some (.inr q, g) := rfl
theorem cJ_ok (x : Int64) (g : G_) (k : Int64 → G_ → Option Z_) : cJ (some (.inl (some (vJ x)), g)) k = k x g := rfl
theorem cJ_th (q : R_) (g : G_) (k : Int64 → G_ → Option Z_) : cJ (some (.inr q, g)) k = some (.inr q, g) := rfl
theorem cO_ok (x : Option R_) (g : G_) (k : Option R_ → G_ → Option Z_) : cO (some (.inl (some (vO x)), g)) k = k x g := rfl
theorem cO_th (q : R_) (g : G_) (k : Option R_ → G_ → Option Z_) : cO (some (.inr q, g)) k = some (.inr q, g) := rfl
theorem cR_ok (t n s : Nat) (g : G_) (k : Nat → Nat → G_ → Option Z_) : cR t (some (.inl (some (vR (t, n, s))), g)) k = k n s g := by
  show (bif Nat.beq t t then k n s g else none) = k n s g
  rw [Nat.beq_refl]
  rfl
theorem cR_th (t : Nat) (q : R_) (g : G_) (k : Nat → Nat → G_ → Option Z_) : cR t (some (.inr q, g)) k = some (.inr q, g) := rfl
theorem qR_ok {α : Type} (b : α) (t n s : Nat) (f : Nat → Nat → α) : qR b t (some (t, n, s)) f = f n s := by
  show (bif Nat.beq t t then f n s else b) = f n s
  rw [Nat.beq_refl]
  rfl
theorem qA_ok {α : Type} (b : α) (r : R_) (f : R_ → α) : qA b (some r) f = f r := rfl
theorem qN_ok {α : Type} (a : α) (r : R_) (f : R_ → α) : qN (some r) a f = f r := rfl
theorem qN_no {α : Type} (a : α) (f : R_ → α) : qN none a f = a := rfl
theorem qX_ok {α : Type} (b : α) {i n : Nat} (f : Nat → α) (h : i < n) (hn : n < 2 ^ 31) : qX b (nI i) n f = f i := by
  unfold qX
  rw [nI_toInt (by omega), if_pos (by omega), nI_clamp (by omega)]
