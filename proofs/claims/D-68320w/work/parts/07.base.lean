/-! the plain law, base: reading memory, choices, numbers -/
section Rd
variable (M : FM) (f a i f' a' i' : Nat)
theorem rI (v : Int32) : (fm_sI M f a i v).1 f' a' i' = if f' = f ∧ a' = a ∧ i' = i then v else M.1 f' a' i' := rfl
theorem rI1 (v : Int32) : (fm_sI M f a i v).2.1 = M.2.1 := rfl
theorem rI2 (v : Int32) : (fm_sI M f a i v).2.2 = M.2.2 := rfl
theorem rL (v : Int64) : (fm_sL M f a i v).2.1 f' a' i' = if f' = f ∧ a' = a ∧ i' = i then v else M.2.1 f' a' i' := rfl
theorem rL0 (v : Int64) : (fm_sL M f a i v).1 = M.1 := rfl
theorem rL2 (v : Int64) : (fm_sL M f a i v).2.2 = M.2.2 := rfl
theorem rR (v : Nat) : (fm_sR M f a i v).2.2 f' a' i' = if f' = f ∧ a' = a ∧ i' = i then v else M.2.2 f' a' i' := rfl
theorem rR0 (v : Nat) : (fm_sR M f a i v).1 = M.1 := rfl
theorem rR1 (v : Nat) : (fm_sR M f a i v).2.1 = M.2.1 := rfl
end Rd
theorem fi_self {α : Type} {c : Prop} {t : α} : fi c t t = t := by
  by_cases h : c
  · rw [fi_pos h]
  · rw [fi_neg h]
theorem fi_ap {α β : Type} (g : α → β) {c : Prop} {t e : α} : g (fi c t e) = fi c (g t) (g e) := by
  by_cases h : c
  · rw [fi_pos h, fi_pos h]
  · rw [fi_neg h, fi_neg h]
/-! jamming: numbers cut off on the right, the lowest bit telling of what was lost -/
theorem or_one (n : Nat) : n ||| 1 = 2 * (n / 2) + 1 := by
  apply Nat.eq_of_testBit_eq
  intro i
  cases i with
  | zero => simp [Nat.testBit_zero]
  | succ i => rw [Nat.testBit_or, Nat.testBit_succ, Nat.testBit_succ, Nat.testBit_succ]; simp; congr 1; omega
def jm (N k : Nat) (s : Bool) : Nat := if N % 2 ^ k ≠ 0 ∨ s = true then 2 * (N / 2 ^ k / 2) + 1 else N / 2 ^ k
theorem jm_div (N k n : Nat) (s : Bool) (hn : 1 ≤ n) : jm N k s / 2 ^ n = N / 2 ^ (n + k) := by
  have h2 : ∀ q : Nat, q / 2 ^ n = q / 2 / 2 ^ (n - 1) := by
    intro q
    rw [Nat.div_div_eq_div_mul]
    congr 1
    rw [Nat.mul_comm, ← Nat.pow_succ]
    congr 1
    omega
  have h3 : N / 2 ^ (n + k) = N / 2 ^ k / 2 ^ n := by rw [Nat.div_div_eq_div_mul, ← Nat.pow_add, Nat.add_comm n k]
  rw [h3]
  unfold jm
  split
  · rw [h2, h2]
    congr 1
    omega
  · rfl
theorem jm_rest (N k n : Nat) (s : Bool) (hn : 1 ≤ n) : jm N k s % 2 ^ n ≠ 0 ↔ (N % 2 ^ (n + k) ≠ 0 ∨ s = true) := by
  have hd : 2 ^ k ∣ 2 ^ (n + k) := Nat.pow_dvd_pow 2 (by omega)
  have h2 : 2 ∣ 2 ^ n := by
    have := Nat.pow_dvd_pow 2 hn
    simpa using this
  unfold jm
  split
  · rename_i h
    constructor
    · intro _
      rcases h with h | h
      · left
        intro e
        apply h
        exact Nat.mod_eq_zero_of_dvd (Nat.dvd_trans hd (Nat.dvd_of_mod_eq_zero e))
      · exact Or.inr h
    · intro _ e
      have := Nat.dvd_trans h2 (Nat.dvd_of_mod_eq_zero e)
      omega
  · rename_i h
    have h0 : N % 2 ^ k = 0 := by
      by_cases q : N % 2 ^ k = 0
      · exact q
      · exact absurd (Or.inl q) h
    have hs : ¬ s = true := fun e => h (Or.inr e)
    have e : N = N / 2 ^ k * 2 ^ k := (Nat.div_mul_cancel (Nat.dvd_of_mod_eq_zero h0)).symm
    have e2 : N % 2 ^ (n + k) = N / 2 ^ k % 2 ^ n * 2 ^ k := by
      conv => lhs; rw [e]
      rw [Nat.pow_add, Nat.mul_mod_mul_right]
    rw [e2]
    constructor
    · intro q
      left
      intro z
      rcases Nat.mul_eq_zero.mp z with z | z
      · exact q z
      · exact absurd z (Nat.ne_of_gt (Nat.two_pow_pos k))
    · rintro (q | q)
      · intro z
        rw [z] at q
        simp at q
      · exact absurd q hs
theorem jm_0 (N : Nat) : jm N 0 false = N := by
  unfold jm
  simp [Nat.mod_one]
