/-! PLANS, plainly: all doings of some days, by codes -/
theorem itr_add {α : Type} (F : Nat → α → α) (n : Nat) : ∀ (m : Nat) (a : α), itr F (n + m) a = itr (fun k => F (n + k)) m (itr F n a) := by
  intro m
  induction m with
  | zero => intro a; rfl
  | succ m ih =>
    intro a
    show F (n + m) (itr F (n + m) a) = F (n + m) (itr (fun k => F (n + k)) m (itr F n a))
    rw [ih]
theorem itr_cg {α : Type} (F F' : Nat → α → α) (N : Nat) (h : ∀ k a, k < N → F k a = F' k a) (a : α) : itr F N a = itr F' N a := by
  induction N with
  | zero => rfl
  | succ N ih =>
    show F N (itr F N a) = F' N (itr F' N a)
    rw [h N _ (Nat.lt_succ_self N), ih (fun k a hk => h k a (Nat.lt_succ_of_lt hk))]
/-- the least so far, and its code -/
def bsF (F : Nat → Int32) (acc : Option (Nat × Int32)) (c : Nat) : Option (Nat × Int32) := match acc with
  | none => some (c, F c)
  | some (b, v) => if F c < v then some (c, F c) else some (b, v)
def bsR (F : Nat → Int32) (a n : Nat) (acc : Option (Nat × Int32)) : Option (Nat × Int32) := itr (fun k x => bsF F x (a + k)) n acc
theorem bsR_add (F : Nat → Int32) (a n m : Nat) (acc : Option (Nat × Int32)) : bsR F a (n + m) acc = bsR F (a + n) m (bsR F a n acc) := by
  unfold bsR
  rw [itr_add]
  apply itr_cg
  intro k x _
  rw [Nat.add_assoc]
theorem bsR_one (F : Nat → Int32) (a : Nat) (acc : Option (Nat × Int32)) : bsR F a 1 acc = bsF F acc a := rfl
/-- one stage: what is done, then a day -/
def stS (τ : Tx_) (Λ : La_) (t dg : Nat) (s : St_ × Nat) : St_ × Nat :=
  dayS τ Λ om0 false ((if dg = 0 then s.1 else if sPu s.1 t < τ 1011 (dg - 1) then s.1 else offS τ t (dg - 1) (puS t (sPu s.1 t - τ 1011 (dg - 1)) s.1)), s.2)
/-- m stages by a code -/
def plS (τ : Tx_) (Λ : La_) (t B : Nat) : Nat → Nat → St_ × Nat → St_ × Nat
  | 0, _, s => s
  | m + 1, c, s => plS τ Λ t B m (c % B ^ m) (stS τ Λ t (c / B ^ m) s)
theorem plS_at (τ : Tx_) (Λ : La_) (t : Nat) {B m dg r : Nat} (s : St_ × Nat) (h : r < B ^ m) : plS τ Λ t B (m + 1) (dg * B ^ m + r) s = plS τ Λ t B m r (stS τ Λ t dg s) := by
  have h0 : 0 < B ^ m := by omega
  show plS τ Λ t B m ((dg * B ^ m + r) % B ^ m) (stS τ Λ t ((dg * B ^ m + r) / B ^ m) s) = _
  have e1 : (dg * B ^ m + r) % B ^ m = r := by rw [Nat.mul_comm, Nat.mul_add_mod]; exact Nat.mod_eq_of_lt h
  have e2 : (dg * B ^ m + r) / B ^ m = dg := by rw [Nat.mul_comm, Nat.mul_add_div h0, Nat.div_eq_of_lt h, Nat.add_zero]
  rw [e1, e2]
/-- what a stage's state stands for: all codes that begin so -/
def PfS (τ : Tx_) (Λ : La_) (t B n m c : Nat) (s0 s : St_ × Nat) : Prop := ∀ r, r < B ^ m → plS τ Λ t B n (c * B ^ m + r) s0 = plS τ Λ t B m r s
theorem PfS.start (τ : Tx_) (Λ : La_) (t B n : Nat) (s : St_ × Nat) : PfS τ Λ t B n n 0 s s := fun r _ => by rw [Nat.zero_mul, Nat.zero_add]
theorem PfS.next {τ : Tx_} {Λ : La_} {t B n m c dg : Nat} {s0 s : St_ × Nat} (h : PfS τ Λ t B n (m + 1) c s0 s) (hd : dg < B) : PfS τ Λ t B n m (c * B + dg) s0 (stS τ Λ t dg s) := by
  intro r hr
  have hlt : dg * B ^ m + r < B ^ (m + 1) := by
    have h1 : (dg + 1) * B ^ m ≤ B * B ^ m := Nat.mul_le_mul_right _ hd
    rw [Nat.pow_succ, Nat.mul_comm (B ^ m) B]
    rw [Nat.add_mul, Nat.one_mul] at h1
    omega
  have h2 := h _ hlt
  rw [plS_at τ Λ t s hr] at h2
  rw [← h2]
  congr 1
  rw [Nat.pow_succ, Nat.add_mul, Nat.mul_assoc, Nat.mul_comm B (B ^ m)]
  omega
theorem PfS.end {τ : Tx_} {Λ : La_} {t B n c : Nat} {s0 s : St_ × Nat} (h : PfS τ Λ t B n 0 c s0 s) : plS τ Λ t B n c s0 = s := by
  have := h 0 (by rw [Nat.pow_zero]; omega)
  rw [Nat.pow_zero, Nat.mul_one, Nat.add_zero] at this
  exact this
/-- the i-th of k digits -/
def dgS (B k i c : Nat) : Nat := c / B ^ (k - 1 - i) % B
theorem dgS_old {B k i c dg : Nat} (hi : i < k) (hd : dg < B) : dgS B (k + 1) i (c * B + dg) = dgS B k i c := by
  unfold dgS
  have e : k + 1 - 1 - i = (k - 1 - i) + 1 := by omega
  have e2 : (c * B + dg) / B = c := by rw [Nat.mul_comm, Nat.mul_add_div (by omega), Nat.div_eq_of_lt hd, Nat.add_zero]
  rw [e, Nat.pow_succ, Nat.mul_comm (B ^ (k - 1 - i)) B, ← Nat.div_div_eq_div_mul, e2]
theorem dgS_new {B k c dg : Nat} (hd : dg < B) : dgS B (k + 1) k (c * B + dg) = dg := by
  unfold dgS
  have e : k + 1 - 1 - k = 0 := by omega
  rw [e, Nat.pow_zero, Nat.div_one, Nat.mul_comm, Nat.mul_add_mod]
  exact Nat.mod_eq_of_lt hd
