/-! floats: ints with a sign, lengths of numbers, what rounding sees of a number, rounding -/
set_option maxRecDepth 100000
theorem ite_c {α : Type} {p q : Prop} [Decidable p] [Decidable q] {x y : α} (h : p ↔ q) : (if p then x else y) = if q then x else y := by
  by_cases k : p
  · rw [if_pos k, if_pos (h.mp k)]
  · rw [if_neg k, if_neg (fun z => k (h.mpr z))]
section Iz
variable {a b : Int}
theorem iz_a : Int32.ofInt a + Int32.ofInt b = Int32.ofInt (a + b) := (Int32.ofInt_add a b).symm
theorem iz_s : Int32.ofInt a - Int32.ofInt b = Int32.ofInt (a - b) := (Int32.ofInt_sub a b).symm
theorem iz_m : Int32.ofInt a * Int32.ofInt b = Int32.ofInt (a * b) := (Int32.ofInt_mul a b).symm
theorem iz_n : -Int32.ofInt a = Int32.ofInt (-a) := (Int32.ofInt_neg a).symm
theorem iz_t (h : -1000000000 ≤ a ∧ a ≤ 1000000000) : (Int32.ofInt a).toInt = a := Int32.toInt_ofInt_of_le (by omega) (by omega)
theorem iz_le (h : -1000000000 ≤ a ∧ a ≤ 1000000000 ∧ -1000000000 ≤ b ∧ b ≤ 1000000000) : Int32.ofInt a ≤ Int32.ofInt b ↔ a ≤ b := by rw [le_ti, iz_t (by omega), iz_t (by omega)]
theorem iz_lt (h : -1000000000 ≤ a ∧ a ≤ 1000000000 ∧ -1000000000 ≤ b ∧ b ≤ 1000000000) : Int32.ofInt a < Int32.ofInt b ↔ a < b := by rw [lt_ti, iz_t (by omega), iz_t (by omega)]
theorem iz_eq (h : -1000000000 ≤ a ∧ a ≤ 1000000000 ∧ -1000000000 ≤ b ∧ b ≤ 1000000000) : Int32.ofInt a = Int32.ofInt b ↔ a = b :=
  ⟨fun e => by have := congrArg Int32.toInt e; rw [iz_t (by omega), iz_t (by omega)] at this; exact this, fun e => by rw [e]⟩
theorem iz_nI (n : Nat) : nI n = Int32.ofInt n := Int32.ofInt_eq_ofNat.symm
theorem iz_cl {n : Nat} (h : n < 2147483648) : (Int32.ofInt n).toNatClampNeg = n := by rw [← iz_nI]; exact o_cl h
theorem iz_ui (h : -1000000000 ≤ a ∧ a ≤ 1000000000) : (ui (Int32.ofInt a) : Int) = if 0 ≤ a then a else a + 4294967296 := by
  have e := iz_t h
  rw [ti] at e
  have := ui_lt (Int32.ofInt a)
  split at e <;> split <;> omega
theorem iz_ui0 {n : Nat} (h : n < 2147483648) : ui (Int32.ofInt n) = n := by rw [← iz_nI, ui_nI]; exact Nat.mod_eq_of_lt (by omega)
theorem iz_of (x : Int32) : x = Int32.ofInt x.toInt := (Int32.ofInt_toInt x).symm
end Iz
def bln (N : Nat) : Nat := if N = 0 then 0 else N.log2 + 1
theorem bln_0 : bln 0 = 0 := rfl
theorem bln_lt (N : Nat) : N < 2 ^ bln N := by
  unfold bln
  split
  · rename_i h
    rw [h]
    decide
  · exact Nat.lt_log2_self
section Bn
variable {N k j : Nat}
theorem bln_ge (h : N ≠ 0) : 2 ^ (bln N - 1) ≤ N := by
  unfold bln
  rw [if_neg h, Nat.add_sub_cancel]
  exact Nat.log2_self_le h
theorem bln_pos (h : N ≠ 0) : 0 < bln N := by
  unfold bln
  rw [if_neg h]
  omega
theorem bln_z : bln N = 0 ↔ N = 0 := ⟨fun h => Classical.byContradiction (fun q => by have := bln_pos q; omega), fun h => by rw [h]; rfl⟩
theorem bln_u (h : N < 2 ^ k) (h2 : k = 0 ∨ 2 ^ (k - 1) ≤ N) : bln N = k := by
  rcases h2 with h2 | h2
  · subst h2
    rw [Nat.pow_zero] at h
    have : N = 0 := by omega
    subst this
    rfl
  · have h0 : N ≠ 0 := by have := Nat.two_pow_pos (k - 1); omega
    have hk : k ≠ 0 := fun e => by
      subst e
      rw [Nat.pow_zero] at h
      omega
    unfold bln
    rw [if_neg h0, (Nat.log2_eq_iff h0).mpr ⟨h2, by rw [Nat.sub_add_cancel (by omega)]; exact h⟩]
    omega
theorem bln_le (h : N < 2 ^ k) : bln N ≤ k := by
  by_cases h0 : N = 0
  · subst h0
    exact Nat.zero_le _
  · unfold bln
    rw [if_neg h0]
    exact (Nat.log2_lt h0).mpr h
theorem bln_gt (h : 2 ^ k ≤ N) : k < bln N := by
  have h0 : N ≠ 0 := by have := Nat.two_pow_pos k; omega
  unfold bln
  rw [if_neg h0]
  have := (Nat.le_log2 h0).mpr h
  omega
theorem bln_mul (h : N ≠ 0) : bln (N * 2 ^ j) = bln N + j := by
  have p := bln_pos h
  refine bln_u ?_ (Or.inr ?_)
  · rw [Nat.pow_add]
    exact Nat.mul_lt_mul_of_pos_right (bln_lt N) (Nat.two_pow_pos j)
  · rw [show bln N + j - 1 = (bln N - 1) + j by omega, Nat.pow_add]
    exact Nat.mul_le_mul_right _ (bln_ge h)
theorem bln_div : bln (N / 2 ^ k) = bln N - k := by
  by_cases q : k < bln N
  · have h0 : N ≠ 0 := fun e => by rw [e, bln_0] at q; omega
    refine bln_u ?_ (Or.inr ?_)
    · rw [Nat.div_lt_iff_lt_mul (Nat.two_pow_pos k), ← Nat.pow_add, Nat.sub_add_cancel (by omega)]
      exact bln_lt N
    · rw [Nat.le_div_iff_mul_le (Nat.two_pow_pos k), ← Nat.pow_add, show bln N - k - 1 + k = bln N - 1 by omega]
      exact bln_ge h0
  · rw [Nat.div_eq_of_lt (Nat.lt_of_lt_of_le (bln_lt N) (Nat.pow_le_pow_right (by decide) (by omega))), bln_0]
    omega
theorem bln_half (h : N ≠ 0) : bln N = bln (N / 2) + 1 := by
  have e := bln_div (N := N) (k := 1)
  have p := bln_pos h
  rw [Nat.pow_one] at e
  omega
end Bn
/-- what is left of a number at a unit that is d places above its own; what is cut off: 2 for half, 1 for a rest -/
def cuU (N : Nat) (d : Int) : Nat := if d ≤ 0 then N * 2 ^ (-d).toNat else N / 2 ^ d.toNat
def cuC (N : Nat) (mo : Bool) (d : Int) : Nat :=
  if d ≤ 0 then (if mo = true then 1 else 0) else (if N.testBit (d.toNat - 1) = true then 2 else 0) + (if N % 2 ^ (d.toNat - 1) ≠ 0 ∨ mo = true then 1 else 0)
def grw (md : Nat) (sg odd : Bool) (c : Nat) : Bool := match md with
  | 0 => decide (c = 3) || (decide (c = 2) && odd)
  | 2 => sg && decide (0 < c)
  | 3 => !sg && decide (0 < c)
  | 4 => decide (1 < c)
  | _ => false
def lps (md : Nat) (sg : Bool) : Bool := decide (md = 0) || decide (md = 4) || decide (md = if sg = true then 2 else 3)
def rnU (md : Nat) (sg : Bool) (N : Nat) (mo : Bool) (d : Int) : Nat := cuU N d + (if grw md sg (decide (cuU N d % 2 = 1)) (cuC N mo d) = true then 1 else 0)
/-- the formats: single 0, double 1 -/
def fF (t : Nat) : Nat := if t = 1 then 52 else 23
def fG (t : Nat) : Nat := if t = 1 then 1023 else 127
def fS (t : Nat) : Nat := if t = 1 then 63 else 31
def pk (t : Nat) (sg : Bool) (e F : Nat) : Nat := (if sg = true then 2 ^ fS t else 0) + e * 2 ^ fF t + F
/-- a number N * 2^sc, and something less than 2^sc if mo: its bits, and the flags -/
def rnd (t md : Nat) (sg : Bool) (N : Nat) (sc : Int) (mo : Bool) : Nat × Nat :=
  let top : Int := (bln N : Int) - 1 + sc
  let u2 : Int := if 1 - (fG t : Int) - fF t ≤ top - fF t then top - fF t else 1 - (fG t : Int) - fF t
  let U2 := rnU md sg N mo (u2 - sc)
  let U3 := if U2 = 2 ^ (fF t + 1) then 2 ^ fF t else U2
  let u3 := if U2 = 2 ^ (fF t + 1) then u2 + 1 else u2
  (if (fG t : Int) < u3 + fF t then (if lps md sg = true then pk t sg (2 * fG t + 1) 0 else pk t sg (2 * fG t) (2 ^ fF t - 1))
    else (if U3 < 2 ^ fF t then pk t sg 0 U3 else pk t sg (u3 + fF t + fG t).toNat (U3 - 2 ^ fF t)),
   if (fG t : Int) < u3 + fF t then 5
    else if cuC N mo (u2 - sc) = 0 then 0 else if top < 1 - (fG t : Int) ∧ ¬ (top = -(fG t : Int) ∧ rnU md sg N mo (top - fF t - sc) = 2 ^ (fF t + 1)) then 3 else 1)
section Jm
variable {N k : Nat} {s : Bool}
theorem cuU_jm {d : Int} (h : 1 ≤ d) : cuU (jm N k s) d = cuU N (d + k) := by
  unfold cuU
  rw [if_neg (by omega), if_neg (by omega), jm_div _ _ _ _ (by omega)]
  congr 2
  omega
theorem cuC_jm {d : Int} (h : 2 ≤ d) : cuC (jm N k s) false d = cuC N s (d + k) := by
  unfold cuC
  rw [if_neg (show ¬ d ≤ 0 by omega), if_neg (show ¬ d + (k : Int) ≤ 0 by omega)]
  have e : (d + (k : Int)).toNat - 1 = (d.toNat - 1) + k := by omega
  have b : (jm N k s).testBit (d.toNat - 1) = N.testBit ((d + (k : Int)).toNat - 1) := by
    rw [Nat.testBit_eq_decide_div_mod_eq, Nat.testBit_eq_decide_div_mod_eq, jm_div _ _ _ _ (by omega), e]
  have r := jm_rest N k (d.toNat - 1) s (by omega)
  rw [b, e]
  have r2 : (jm N k s % 2 ^ (d.toNat - 1) ≠ 0 ∨ false = true) ↔ (N % 2 ^ (d.toNat - 1 + k) ≠ 0 ∨ s = true) := ⟨fun q => r.mp (q.elim id (fun z => by cases z)), fun q => Or.inl (r.mpr q)⟩
  rw [ite_c r2]
theorem bln_jm (h : k < bln N) : bln (jm N k s) = bln N - k := by
  have e : jm N k s / 2 = N / 2 ^ (1 + k) := by
    have := jm_div N k 1 s (Nat.le_refl _)
    rw [Nat.pow_one] at this
    exact this
  by_cases h0 : jm N k s = 0
  · exfalso
    unfold jm at h0
    split at h0
    · omega
    · have b : bln (N / 2 ^ k) = 0 := by rw [h0]; rfl
      rw [bln_div] at b
      omega
  · rw [bln_half h0, e, bln_div]
    omega
theorem rnU_jm {md : Nat} {sg : Bool} {d : Int} (h : 2 ≤ d) : rnU md sg (jm N k s) false d = rnU md sg N s (d + k) := by
  unfold rnU
  rw [cuU_jm (by omega), cuC_jm h]
theorem rnd_jm {t md : Nat} {sg : Bool} {sc : Int} (h : k + fF t + 3 ≤ bln N) : rnd t md sg (jm N k s) (sc + k) false = rnd t md sg N sc s := by
  have hb := bln_jm (N := N) (k := k) (s := s) (by omega)
  have et : ((bln (jm N k s) : Nat) : Int) - 1 + (sc + k) = (bln N : Int) - 1 + sc := by rw [hb]; omega
  have hu : ∀ u : Int, (bln N : Int) - 1 + sc - fF t ≤ u → rnU md sg (jm N k s) false (u - (sc + k)) = rnU md sg N s (u - sc) ∧ cuC (jm N k s) false (u - (sc + k)) = cuC N s (u - sc) := fun u q => by
    rw [rnU_jm (by omega), cuC_jm (by omega), show u - (sc + (k : Int)) + k = u - sc by omega]
    exact ⟨rfl, rfl⟩
  unfold rnd
  rw [et]
  obtain ⟨a1, -⟩ := hu ((bln N : Int) - 1 + sc - fF t) (Int.le_refl _)
  obtain ⟨b1, b2⟩ := hu (if 1 - (fG t : Int) - fF t ≤ (bln N : Int) - 1 + sc - fF t then (bln N : Int) - 1 + sc - fF t else 1 - (fG t : Int) - fF t) (by split <;> omega)
  dsimp only
  rw [a1, b1, b2]
end Jm
section Sc
variable {N j : Nat}
theorem cuU_sc {d : Int} : cuU (N * 2 ^ j) (d + j) = cuU N d := by
  unfold cuU
  by_cases h : d ≤ 0
  · rw [if_pos h]
    by_cases q : d + j ≤ 0
    · rw [if_pos q, Nat.mul_assoc, ← Nat.pow_add]
      congr 2
      omega
    · rw [if_neg q]
      have e : j = (-d).toNat + (d + (j : Int)).toNat := by omega
      conv => lhs; rw [e, Nat.pow_add, ← Nat.mul_assoc, ← e]
      exact Nat.mul_div_cancel _ (Nat.two_pow_pos _)
  · rw [if_neg h, if_neg (by omega)]
    have e : (d + (j : Int)).toNat = d.toNat + j := by omega
    rw [e, Nat.pow_add]
    exact Nat.mul_div_mul_right _ _ (Nat.two_pow_pos _)
theorem cuC_sc {d : Int} : cuC (N * 2 ^ j) false (d + j) = cuC N false d := by
  unfold cuC
  by_cases h : d ≤ 0
  · rw [if_pos h]
    by_cases q : d + j ≤ 0
    · rw [if_pos q]
    · rw [if_neg q]
      have hb : (N * 2 ^ j).testBit ((d + (j : Int)).toNat - 1) = false := by
        rw [Nat.testBit_mul_two_pow, decide_eq_false (by omega), Bool.false_and]
      have hr : N * 2 ^ j % 2 ^ ((d + (j : Int)).toNat - 1) = 0 := by
        refine Nat.mod_eq_zero_of_dvd (Nat.dvd_trans (Nat.pow_dvd_pow 2 ?_) (Nat.dvd_mul_left _ _))
        omega
      rw [hb, hr]
      simp
  · rw [if_neg h, if_neg (by omega)]
    have e : (d + (j : Int)).toNat - 1 = d.toNat - 1 + j := by omega
    have hb : (N * 2 ^ j).testBit (d.toNat - 1 + j) = N.testBit (d.toNat - 1) := by
      rw [Nat.testBit_mul_two_pow, decide_eq_true (by omega), Bool.true_and, Nat.add_sub_cancel]
    have hr : (N * 2 ^ j % 2 ^ (d.toNat - 1 + j) ≠ 0 ∨ false = true) ↔ (N % 2 ^ (d.toNat - 1) ≠ 0 ∨ false = true) := by
      rw [Nat.pow_add, Nat.mul_mod_mul_right]
      have p := Nat.two_pow_pos j
      constructor
      · intro q
        refine Or.inl (fun z => ?_)
        rcases q with q | q
        · rw [z, Nat.zero_mul] at q
          exact q rfl
        · cases q
      · intro q
        refine Or.inl (fun z => ?_)
        rcases q with q | q
        · rcases Nat.mul_eq_zero.mp z with z | z
          · exact q z
          · omega
        · cases q
    rw [e, hb, ite_c hr]
theorem rnU_sc {md : Nat} {sg : Bool} {d : Int} : rnU md sg (N * 2 ^ j) false (d + j) = rnU md sg N false d := by
  unfold rnU
  rw [cuU_sc, cuC_sc]
theorem rnd_sc {t md : Nat} {sg : Bool} {sc : Int} (h : N ≠ 0) : rnd t md sg (N * 2 ^ j) (sc - j) false = rnd t md sg N sc false := by
  have hb := bln_mul (N := N) (j := j) h
  have et : ((bln (N * 2 ^ j) : Nat) : Int) - 1 + (sc - j) = (bln N : Int) - 1 + sc := by rw [hb]; omega
  have hu : ∀ u : Int, rnU md sg (N * 2 ^ j) false (u - (sc - j)) = rnU md sg N false (u - sc) ∧ cuC (N * 2 ^ j) false (u - (sc - j)) = cuC N false (u - sc) := fun u => by
    rw [show u - (sc - (j : Int)) = (u - sc) + j by omega, rnU_sc, cuC_sc]
    exact ⟨rfl, rfl⟩
  unfold rnd
  rw [et]
  dsimp only
  rw [(hu _).1, (hu _).1, (hu _).2]
end Sc
/-- jamming a sum, and a difference -/
theorem jm_add {G L d : Nat} (hG : L % 2 ^ d ≠ 0 → G % 2 = 0) : jm (G * 2 ^ d + L) d false = G + jm L d false := by
  have p := Nat.two_pow_pos d
  have e1 : (G * 2 ^ d + L) % 2 ^ d = L % 2 ^ d := by rw [Nat.add_comm, Nat.add_mul_mod_self_right]
  have e2 : (G * 2 ^ d + L) / 2 ^ d = G + L / 2 ^ d := by rw [Nat.add_comm, Nat.add_mul_div_right _ _ p, Nat.add_comm]
  unfold jm
  rw [e1, e2]
  by_cases h : L % 2 ^ d ≠ 0
  · have g := hG h
    rw [if_pos (Or.inl h), if_pos (Or.inl h)]
    omega
  · rw [if_neg (fun q => q.elim h (fun z => by cases z)), if_neg (fun q => q.elim h (fun z => by cases z))]
theorem jm_sub {G L d : Nat} (hG : L % 2 ^ d ≠ 0 → G % 2 = 0) (hl : L ≤ G * 2 ^ d) : jm (G * 2 ^ d - L) d false = G - jm L d false := by
  have p := Nat.two_pow_pos d
  have dm := Nat.div_add_mod L (2 ^ d)
  have lt := Nat.mod_lt L p
  unfold jm
  by_cases h : L % 2 ^ d ≠ 0
  · have g := hG h
    have hq : L / 2 ^ d < G := by
      rw [Nat.div_lt_iff_lt_mul p]
      rcases Nat.lt_or_ge L (G * 2 ^ d) with z | z
      · exact z
      · have : L = G * 2 ^ d := Nat.le_antisymm hl z
        rw [this, Nat.mul_mod_left] at h
        exact absurd rfl h
    have e : G * 2 ^ d - L = (2 ^ d - L % 2 ^ d) + (G - L / 2 ^ d - 1) * 2 ^ d := by
      have e3 : (G - L / 2 ^ d - 1) * 2 ^ d + (L / 2 ^ d * 2 ^ d + 2 ^ d) = G * 2 ^ d := by
        rw [← Nat.succ_mul, ← Nat.add_mul]
        congr 1
        omega
      rw [Nat.mul_comm (2 ^ d)] at dm
      omega
    have e1 : (G * 2 ^ d - L) % 2 ^ d = 2 ^ d - L % 2 ^ d := by
      rw [e, Nat.add_mul_mod_self_right, Nat.mod_eq_of_lt (by omega)]
    have e2 : (G * 2 ^ d - L) / 2 ^ d = G - L / 2 ^ d - 1 := by
      rw [e, Nat.add_mul_div_right _ _ p, Nat.div_eq_of_lt (by omega), Nat.zero_add]
    rw [e1, e2, if_pos (Or.inl (by omega)), if_pos (Or.inl h)]
    omega
  · have h0 : L % 2 ^ d = 0 := Classical.byContradiction h
    have e0 : L = L / 2 ^ d * 2 ^ d := by rw [Nat.mul_comm]; omega
    have e : G * 2 ^ d - L = (G - L / 2 ^ d) * 2 ^ d := by rw [Nat.sub_mul, ← e0]
    rw [e, Nat.mul_mod_left, Nat.mul_div_cancel _ p, h0, if_neg (fun q => q.elim (fun z => z rfl) (fun z => by cases z)), if_neg (fun q => q.elim (fun z => z rfl) (fun z => by cases z))]
