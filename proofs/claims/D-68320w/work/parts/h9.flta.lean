/-! floats: bits taken apart; the component's formats -/
set_option maxRecDepth 100000
/-- fraction, exponent, kind, size, power of bits -/
def uF (t : Nat) (b : Int64) : Nat := ul b % 2 ^ fF t
def uE (t : Nat) (b : Int64) : Nat := ul b / 2 ^ fF t % (2 * fG t + 2)
def uK (t : Nat) (b : Int64) : Nat :=
  if uE t b = 2 * fG t + 1 then (if uF t b = 0 then 2 else if uF t b / 2 ^ (fF t - 1) = 1 then 3 else 4) else (if uE t b = 0 ∧ uF t b = 0 then 0 else 1)
def uZ (t : Nat) (b : Int64) : Nat := if uE t b = 0 then uF t b else uF t b + 2 ^ fF t
def uP (t : Nat) (b : Int64) : Int := (if uE t b = 0 then 1 else (uE t b : Int)) - fG t - fF t
def uS' (t : Nat) (b : Int64) : Bool := lb b (fS t)
/-- a quiet one -/
def qN (t : Nat) : Nat := if t = 1 then 9221120237041090560 else 2143289344
/-- the numbers of a format -/
def FmV (M : FM) (g t : Nat) : Prop := M.1 109 g 0 = Int32.ofInt (fF t) ∧ M.1 110 g 0 = Int32.ofInt (fG t) ∧ M.1 111 g 0 = Int32.ofInt (fS t)
section Fm
variable {M : FM} {g t : Nat}
theorem uK_le (t : Nat) (b : Int64) : uK t b ≤ 4 := by
  unfold uK
  split
  · split
    · omega
    · split <;> omega
  · split <;> omega
theorem uF_lt (t : Nat) (b : Int64) : uF t b < 2 ^ fF t := Nat.mod_lt _ (Nat.two_pow_pos _)
theorem uE_lt (t : Nat) (b : Int64) : uE t b < 2 * fG t + 2 := Nat.mod_lt _ (by omega)
theorem uZ_lt (t : Nat) (b : Int64) : uZ t b < 2 * 2 ^ fF t := by
  have := uF_lt t b
  unfold uZ
  split <;> omega
theorem uZ_0 (t : Nat) {b : Int64} (h : uK t b ≤ 1) : uZ t b = 0 ↔ uK t b = 0 := by
  have p := Nat.two_pow_pos (fF t)
  unfold uK at *
  unfold uZ
  by_cases q : uE t b = 2 * fG t + 1
  · rw [if_pos q] at h
    exfalso
    split at h
    · omega
    · split at h <;> omega
  · rw [if_neg q]
    by_cases q2 : uE t b = 0
    · rw [if_pos q2]
      by_cases q3 : uF t b = 0
      · rw [if_pos ⟨q2, q3⟩]
        exact ⟨fun _ => rfl, fun _ => q3⟩
      · rw [if_neg (fun z => q3 z.2)]
        exact ⟨fun z => absurd z q3, fun z => by omega⟩
    · rw [if_neg q2, if_neg (fun z => q2 z.1)]
      omega
theorem uP_b (ht : t ≤ 1) (b : Int64) : -1100 ≤ uP t b ∧ uP t b ≤ 1100 := by
  have := uE_lt t b
  obtain ⟨p, -⟩ := p2F ht
  unfold uP
  split <;> omega
theorem shl1 (ht : t ≤ 1) : Int64.ofInt 1 <<< ((Int32.ofInt (fF t : Int)).toInt64 &&& 63) = lN (2 ^ fF t) := by
  obtain ⟨b, -⟩ := p2F ht
  have := shl_n (c := 1) (n := fF t) (by omega) (by omega)
  rw [Nat.one_mul] at this
  exact this
theorem X61_top (ht : t ≤ 1) (f : FmV M g t) : GX61_top g M = (lN ((2 * fG t + 1) * 2 ^ fF t), M) := by
  obtain ⟨b, -⟩ := p2F ht
  unfold GX61_top GX61_top_0
  rw [f.1, f.2.1, iz_64 (by omega), show Int64.ofInt 2 = lN 2 from rfl, show Int64.ofInt 1 = lN 1 from rfl, l_m (by omega) (by omega) (by omega), l_a (by omega), show ((fG t : Int)).toNat = fG t from rfl]
  rw [shl_n (by omega) (by rcases b with b | b <;> rw [b.1, b.2.2.1] <;> decide)]
theorem X61_sign (ht : t ≤ 1) (f : FmV M g t) (p : Prop) : GX61_sign g (bz p) M = (lN (fi p (2 ^ fS t) 0), M) := by
  unfold GX61_sign GX61_sign_0 GX61_sign_14
  rw [fi_bz, f.2.2]
  by_cases h : p
  · rw [fi_pos h, fi_pos h]
    rcases (show t = 0 ∨ t = 1 by omega) with e | e <;> subst e <;> rfl
  · rw [fi_neg h, fi_neg h]
    rfl
theorem sg_or (ht : t ≤ 1) {sg : Bool} {x : Nat} (hx : x < 2 ^ fS t) : lN (fi (sg = true) (2 ^ fS t) 0) ||| lN x = lN ((if sg = true then 2 ^ fS t else 0) + x) := by
  have e : fi (sg = true) (2 ^ fS t) 0 = (if sg = true then 1 else 0) * 2 ^ fS t := by
    cases sg
    · rw [fi_neg (by decide), if_neg (by decide), Nat.zero_mul]
    · rw [fi_pos rfl, if_pos rfl, Nat.one_mul]
  have e2 : (if sg = true then 2 ^ fS t else 0) = (if sg = true then 1 else 0) * 2 ^ fS t := by
    cases sg
    · rw [if_neg (by decide), if_neg (by decide), Nat.zero_mul]
    · rw [if_pos rfl, if_pos rfl, Nat.one_mul]
  have hs : (if sg = true then 1 else 0) ≤ 1 := by split <;> omega
  rw [e, e2]
  generalize (if sg = true then 1 else 0) = s at *
  have b : 2 ^ fS t = 2147483648 ∨ 2 ^ fS t = 9223372036854775808 := by
    rcases (show t = 0 ∨ t = 1 by omega) with e | e <;> subst e
    · exact Or.inl rfl
    · exact Or.inr rfl
  have b2 : s * 2 ^ fS t ≤ 9223372036854775808 := by
    rcases b with b | b <;> rw [b] <;> omega
  apply ul_inj
  rw [ul_or, l_big (by omega), l_big (by omega), l_big (by omega), ← Nat.shiftLeft_eq, ← Nat.shiftLeft_add_eq_or_of_lt hx]
theorem X61_infinite (ht : t ≤ 1) (f : FmV M g t) (sg : Bool) : GX61_infinite g (bz (sg = true)) M = (lN (pk t sg (2 * fG t + 1) 0), M) := by
  unfold GX61_infinite GX61_infinite_0
  dsimp only
  rw [X61_sign ht f]
  dsimp only
  rw [X61_top ht f]
  dsimp only
  rw [sg_or ht (by rcases (show t = 0 ∨ t = 1 by omega) with e | e <;> subst e <;> decide)]
  rfl
theorem X61_quiet (ht : t ≤ 1) (f : FmV M g t) : GX61_quiet g M = (lN (qN t), M) := by
  unfold GX61_quiet GX61_quiet_0
  dsimp only
  rw [X61_top ht f]
  dsimp only
  rw [f.1]
  rcases (show t = 0 ∨ t = 1 by omega) with e | e <;> subst e <;> rfl
theorem X61_hasSign (ht : t ≤ 1) (f : FmV M g t) (b : Int64) : GX61_hasSign g b M = (bz (uS' t b = true), M) := by
  unfold GX61_hasSign GX61_hasSign_0 GX61_hasSign_18
  have e : lg_cmp ((b.toUInt64 >>> ((M.1 111 g 0).toInt64.toUInt64 &&& Int64.toUInt64 63)).toInt64 &&& Int64.ofInt 1) (Int64.ofInt 1) = 0 ↔ uS' t b = true := by
    have h : fS t < 64 := by rcases (show t = 0 ∨ t = 1 by omega) with e | e <;> subst e <;> decide
    rw [f.2.2, cl_eq, ul_and, ul_ushr, iz_ui0 (by omega), show fS t % 64 = fS t by omega, show ul (Int64.ofInt 1) = 2 ^ 1 - 1 from rfl, Nat.and_two_pow_sub_one_eq_mod]
    unfold uS' lb
    rw [Nat.testBit_eq_decide_div_mod_eq]
    exact ⟨fun q => decide_eq_true q, fun q => of_decide_eq_true q⟩
  rw [propext e, fi_pr]
theorem X61_isSmall (ht : t ≤ 1) (f : FmV M g t) (b : Int64) : GX61_isSmall g b M = (bz (uE t b = 0), M) := by
  unfold GX61_isSmall GX61_isSmall_0 GX61_isSmall_16
  dsimp only
  rw [X61_top ht f]
  dsimp only
  have e : lg_cmp (b &&& lN ((2 * fG t + 1) * 2 ^ fF t)) (Int64.ofInt 0) = 0 ↔ uE t b = 0 := by
    have key : ∀ (k m : Nat) (x : Nat), x &&& ((2 ^ m - 1) * 2 ^ k) = (x / 2 ^ k % 2 ^ m) * 2 ^ k := fun k m x => by
      apply Nat.eq_of_testBit_eq
      intro i
      rw [Nat.testBit_and, Nat.testBit_mul_two_pow, Nat.testBit_mul_two_pow, Nat.testBit_two_pow_sub_one, Nat.testBit_mod_two_pow, Nat.testBit_div_two_pow]
      by_cases q : k ≤ i
      · rw [decide_eq_true q, Bool.true_and, Bool.true_and, Nat.sub_add_cancel q, Bool.and_comm]
      · rw [decide_eq_false q, Bool.false_and, Bool.false_and, Bool.and_false]
    rw [l0, ul_and, l_big (by rcases (show t = 0 ∨ t = 1 by omega) with e | e <;> subst e <;> decide)]
    unfold uE
    rcases (show t = 0 ∨ t = 1 by omega) with e | e <;> subst e
    · have := key 23 8 (ul b)
      show ul b &&& 2139095040 = 0 ↔ ul b / 2 ^ 23 % 256 = 0
      rw [show (2139095040 : Nat) = (2 ^ 8 - 1) * 2 ^ 23 by decide, this]
      omega
    · have := key 52 11 (ul b)
      show ul b &&& 9218868437227405312 = 0 ↔ ul b / 2 ^ 52 % 2048 = 0
      rw [show (9218868437227405312 : Nat) = (2 ^ 11 - 1) * 2 ^ 52 by decide, this]
      omega
  rw [propext e, fi_pr]
/-- the parts of bits, as both sides reckon them -/
theorem uF_e (ht : t ≤ 1) (b : Int64) : b &&& (lN (2 ^ fF t) - Int64.ofInt 1) = lN (uF t b) := by
  obtain ⟨c, -⟩ := p2F ht
  have := uF_lt t b
  apply ul_inj
  rw [show Int64.ofInt 1 = lN 1 from rfl, l_s (by omega) (by omega), ul_and, l_big (by omega), Nat.and_two_pow_sub_one_eq_mod, l_big (by omega)]
  rfl
theorem uE_i (ht : t ≤ 1) (b : Int64) : ((b.toUInt64 >>> ((Int32.ofInt (fF t : Int)).toInt64.toUInt64 &&& Int64.toUInt64 63)).toInt64).toInt32 &&& (Int32.ofInt 2 * Int32.ofInt (fG t : Int) + Int32.ofInt 1) = nI (uE t b) := by
  have := uE_lt t b
  obtain ⟨c, -⟩ := p2F ht
  apply ui_inj
  rw [ui_and, ui_low, ul_ushr, iz_ui0 (by omega), iz_m, iz_a, ni_u (by omega), show fF t % 64 = fF t by omega]
  unfold uE
  rcases (show t = 0 ∨ t = 1 by omega) with e | e <;> subst e
  · rw [show ui (Int32.ofInt (2 * ((fG 0 : Nat) : Int) + 1)) = 2 ^ 8 - 1 from rfl, Nat.and_two_pow_sub_one_eq_mod]
    show ul b / 2 ^ 23 % 4294967296 % 2 ^ 8 = ul b / 2 ^ 23 % 256
    omega
  · rw [show ui (Int32.ofInt (2 * ((fG 1 : Nat) : Int) + 1)) = 2 ^ 11 - 1 from rfl, Nat.and_two_pow_sub_one_eq_mod]
    show ul b / 2 ^ 52 % 4294967296 % 2 ^ 11 = ul b / 2 ^ 52 % 2048
    omega
theorem uE_l (ht : t ≤ 1) (b : Int64) : (b.toUInt64 >>> ((Int32.ofInt (fF t : Int)).toInt64.toUInt64 &&& Int64.toUInt64 63)).toInt64 &&& (Int32.ofInt ((2 * fG t + 1 : Nat) : Int)).toInt64 = lN (uE t b) := by
  have := uE_lt t b
  obtain ⟨c, -⟩ := p2F ht
  apply ul_inj
  rw [ul_and, ul_ushr, iz_ui0 (by omega), iz_64 (by omega), l_big (by omega), l_big (by omega), show fF t % 64 = fF t by omega]
  unfold uE
  rcases (show t = 0 ∨ t = 1 by omega) with e | e <;> subst e
  · show ul b / 2 ^ 23 &&& (2 ^ 8 - 1) = ul b / 2 ^ 23 % 2 ^ 8
    rw [Nat.and_two_pow_sub_one_eq_mod]
  · show ul b / 2 ^ 52 &&& (2 ^ 11 - 1) = ul b / 2 ^ 52 % 2 ^ 11
    rw [Nat.and_two_pow_sub_one_eq_mod]
end Fm
