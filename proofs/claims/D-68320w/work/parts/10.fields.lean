/-! bits of words -/
/-- the bits from hi down to lo -/
def fd (w : Int32) (hi lo : Nat) : Nat := ui w % 2 ^ (hi + 1) / 2 ^ lo
theorem pow_pos2 (k : Nat) : 0 < 2 ^ k := Nat.two_pow_pos k
theorem pow_le32 {k : Nat} (h : k ≤ 32) : 2 ^ k ≤ 4294967296 := by
  have := Nat.pow_le_pow_right (n := 2) (by decide) h
  simpa using this
theorem fd_lt (w : Int32) {hi lo : Nat} (h : lo ≤ hi) : fd w hi lo < 2 ^ (hi + 1 - lo) := by
  unfold fd
  rw [Nat.div_lt_iff_lt_mul (pow_pos2 lo), ← Nat.pow_add, show hi + 1 - lo + lo = hi + 1 by omega]
  exact Nat.mod_lt _ (pow_pos2 _)
theorem fd_lt32 (w : Int32) {hi lo : Nat} (h : lo ≤ hi) (h2 : hi < 32) : fd w hi lo < 4294967296 := Nat.lt_of_lt_of_le (fd_lt w h) (pow_le32 (by omega))
theorem bits_c (w a1 a2 : Int32) {hi lo : Nat} (h : lo ≤ hi) (h2 : hi < 32) (e1 : ui a1 = hi) (e2 : ui a2 = lo) :
    ((w <<< (((Int32.ofInt 31) - a1) &&& 31)).toUInt32 >>> ((((Int32.ofInt 31) - a1) + a2).toUInt32 &&& Int32.toUInt32 31)).toInt32 = nI (fd w hi lo) := by
  apply ui_inj
  have e31 : ui (Int32.ofInt 31) = 31 := rfl
  have s1 : ui (Int32.ofInt 31 - a1) = 31 - hi := by rw [ui_sub, e31, e1]; omega
  have s2 : ui (Int32.ofInt 31 - a1 + a2) = 31 - hi + lo := by rw [ui_add, s1, e2]; omega
  rw [ui_ushr, ui_shl, s1, s2, ui_nI, Nat.mod_eq_of_lt (fd_lt32 w h h2), Nat.mod_eq_of_lt (show 31 - hi < 32 by omega), Nat.mod_eq_of_lt (show 31 - hi + lo < 32 by omega)]
  have e : (4294967296 : Nat) = 2 ^ (hi + 1) * 2 ^ (31 - hi) := by rw [← Nat.pow_add, show hi + 1 + (31 - hi) = 32 by omega]
  rw [e, Nat.mul_mod_mul_right, show 2 ^ (31 - hi + lo) = 2 ^ lo * 2 ^ (31 - hi) by rw [← Nat.pow_add, Nat.add_comm], Nat.mul_div_mul_right _ _ (pow_pos2 _)]
  rfl
theorem tb_and1 (x : Int32) : ui (x &&& Int32.ofInt 1) = ui x % 2 := by
  rw [ui_and]
  exact Nat.and_one_is_mod _
theorem bit_c (w a : Int32) {k : Nat} (hk : k < 32) (e : ui a = k) : ui ((w >>> (a &&& 31)) &&& Int32.ofInt 1) = ui w / 2 ^ k % 2 := by
  rw [tb_and1]
  have h1 : (w >>> (a &&& 31)).toBitVec.getLsbD 0 = w.toBitVec.getLsbD k := by
    rw [Int32.toBitVec_shiftRight, BitVec.getLsbD_sshiftRight']
    have := sh5 a
    rw [show ((a &&& 31).toBitVec.smod 32).toNat = ui a % 32 from this, e, Nat.mod_eq_of_lt hk, Nat.add_zero, if_pos hk]
    simp
  have h2 : ∀ (b : BitVec 32) (i : Nat), b.getLsbD i = decide (b.toNat / 2 ^ i % 2 = 1) := fun b i => Nat.testBit_eq_decide_div_mod_eq
  rw [h2, h2] at h1
  have h3 : ((w >>> (a &&& 31)).toBitVec.toNat / 2 ^ 0 % 2 = 1) ↔ (w.toBitVec.toNat / 2 ^ k % 2 = 1) := by
    constructor
    · intro q
      rw [decide_eq_true q] at h1
      exact of_decide_eq_true h1.symm
    · intro q
      rw [decide_eq_true q] at h1
      exact of_decide_eq_true h1
  rw [Nat.pow_zero, Nat.div_one] at h3
  show ui (w >>> (a &&& 31)) % 2 = ui w / 2 ^ k % 2
  have h4 : (ui (w >>> (a &&& 31)) % 2 = 1) ↔ (ui w / 2 ^ k % 2 = 1) := h3
  rcases Nat.mod_two_eq_zero_or_one (ui (w >>> (a &&& 31))) with q | q <;> rcases Nat.mod_two_eq_zero_or_one (ui w / 2 ^ k) with p | p <;> omega
/-- a step of reading bits from the highest on -/
theorem fd_step (w : Int32) {hi n : Nat} (h : n ≤ hi) : 2 * (ui w % 2 ^ (hi + 1) / 2 ^ (n + 1)) + ui w / 2 ^ n % 2 = ui w % 2 ^ (hi + 1) / 2 ^ n := by
  have e1 : ui w % 2 ^ (hi + 1) / 2 ^ (n + 1) = ui w % 2 ^ (hi + 1) / 2 ^ n / 2 := by rw [show 2 ^ (n + 1) = 2 ^ n * 2 from rfl, Nat.div_div_eq_div_mul]
  have e2 : ui w / 2 ^ n % 2 = ui w % 2 ^ (hi + 1) / 2 ^ n % 2 := by
    have e : 2 ^ (hi + 1) = 2 ^ n * 2 ^ (hi + 1 - n) := by rw [← Nat.pow_add]; congr 1; omega
    rw [e, Nat.mod_mul_right_div_self]
    have : 2 ∣ 2 ^ (hi + 1 - n) := by
      have := Nat.pow_dvd_pow 2 (show 1 ≤ hi + 1 - n by omega)
      simpa using this
    rw [Nat.mod_mod_of_dvd _ this]
  rw [e1, e2]
  omega
theorem bits_k {lo m : Nat} (h : lo + m ≤ 32) : nI (lo + (m + 1)) + Int32.ofInt (-1) = nI (lo + m) := by
  apply ui_inj
  rw [ui_add, ui_nI, ui_nI]
  show ((lo + (m + 1)) % 4294967296 + 4294967295) % 4294967296 = _
  omega
theorem bits_lt {lo : Nat} (h : lo < 32) : nI lo + Int32.ofInt (-1) < nI lo := by
  have em : ui (Int32.ofInt (-1)) = 4294967295 := rfl
  rw [lt_ti, ti, ti, ui_add, ui_nI, em]
  split <;> split <;> omega
theorem bits_nlt {lo m : Nat} (h : lo + m < 32) : ¬ nI (lo + m) < nI lo := nI_nlt (by omega) (by omega)
/-- the value of a loop that reads bits from the highest on -/
theorem bits_v (w : Int32) {hi lo m : Nat} (h : lo + m ≤ hi) (h2 : hi < 32) :
    (Int32.ofInt 2) * nI (ui w % 2 ^ (hi + 1) / 2 ^ (lo + (m + 1))) + ((w >>> (nI (lo + m) &&& 31)) &&& Int32.ofInt 1) = nI (ui w % 2 ^ (hi + 1) / 2 ^ (lo + m)) := by
  apply ui_inj
  have hb := bit_c w (nI (lo + m)) (k := lo + m) (by omega) (by rw [ui_nI]; omega)
  have hs := fd_step w (hi := hi) (n := lo + m) h
  have hl : ui w % 2 ^ (hi + 1) / 2 ^ (lo + m) < 4294967296 := by
    have := Nat.div_le_self (ui w % 2 ^ (hi + 1)) (2 ^ (lo + m))
    have h3 := Nat.mod_lt (ui w) (pow_pos2 (hi + 1))
    have := pow_le32 (k := hi + 1) (by omega)
    omega
  rw [ui_add, ui_mul, hb, ui_nI, ui_nI]
  show (2 * (ui w % 2 ^ (hi + 1) / 2 ^ (lo + m + 1) % 4294967296) % 4294967296 + ui w / 2 ^ (lo + m) % 2) % 4294967296 = _
  omega
/-! the twin's loops: Core.bits, Halves.bits -/
theorem X98_bits_L (c : Nat) (M : FM) (T : Ty M) (n_c : fm_is M 94 94 c = true) {hi lo : Nat} (h2 : hi < 32) : ∀ (m j : Nat), m < j → lo + m ≤ hi + 1 → lo ≤ hi →
    FX98_bits_L5 fN j c (nI lo) (nI (ui (M.1 349 c 0) % 2 ^ (hi + 1) / 2 ^ (lo + m))) (nI (lo + m) + Int32.ofInt (-1)) M = some (nI (fd (M.1 349 c 0) hi lo), M) := by
  intro m
  induction m with
  | zero =>
    intro j hj hm hlo
    obtain ⟨j, rfl⟩ : ∃ i, j = i + 1 := ⟨j - 1, by omega⟩
    show FX98_bits_5 fN (FX98_bits_L5 fN j) _ _ _ _ _ = _
    rw [(gX98_bits_5 _ _ _ _ _ M T n_c).1]
    unfold GX98_bits_5
    rw [fi_pos (show nI (lo + 0) + Int32.ofInt (-1) < nI lo from bits_lt (by omega))]
    rfl
  | succ m ih =>
    intro j hj hm hlo
    obtain ⟨j, rfl⟩ : ∃ i, j = i + 1 := ⟨j - 1, by omega⟩
    show FX98_bits_5 fN (FX98_bits_L5 fN j) _ _ _ _ _ = _
    rw [(gX98_bits_5 _ _ _ _ _ M T n_c).1]
    unfold GX98_bits_5
    rw [bits_k (by omega), fi_neg (bits_nlt (by omega))]
    show FX98_bits_L5 fN j c (nI lo) ((Int32.ofInt 2) * nI (ui (M.1 349 c 0) % 2 ^ (hi + 1) / 2 ^ (lo + (m + 1))) + (((M.1 349 c 0) >>> (nI (lo + m) &&& 31)) &&& Int32.ofInt 1)) (nI (lo + m) + Int32.ofInt (-1)) M = _
    rw [bits_v _ (by omega) h2]
    exact ih j (by omega) (by omega) hlo
theorem X98_bits (c : Nat) (a1 a2 : Int32) (M : FM) (T : Ty M) (n_c : fm_is M 94 94 c = true) {hi lo : Nat} (h2 : hi < 32) (h : lo ≤ hi) (e1 : ui a1 = hi) (e2 : ui a2 = lo) :
    HX98_bits c a1 a2 M ∧ GX98_bits c a1 a2 M = (nI (fd (M.1 349 c 0) hi lo), M) := by
  refine op_of ?_ ⟨T, ext_r _⟩
  show FX98_bits_0 fN (FX98_bits_L5 fN fN) c a1 a2 M = _
  rw [(gX98_bits_0 _ _ _ _ M T).1]
  show FX98_bits_L5 fN fN c a2 (Int32.ofInt 0) a1 M = _
  have k := X98_bits_L c M T n_c h2 (hi + 1 - lo) fN (by unfold fN; omega) (by omega) h
  have z : ui (M.1 349 c 0) % 2 ^ (hi + 1) / 2 ^ (lo + (hi + 1 - lo)) = 0 := by
    rw [show lo + (hi + 1 - lo) = hi + 1 by omega]
    exact Nat.div_eq_of_lt (Nat.mod_lt _ (pow_pos2 _))
  rw [z, show lo + (hi + 1 - lo) = hi + 1 by omega] at k
  have e3 : a1 = nI (hi + 1) + Int32.ofInt (-1) := by
    apply ui_inj
    rw [e1, ui_add, ui_nI]
    show hi = ((hi + 1) % 4294967296 + 4294967295) % 4294967296
    omega
  have e4 : a2 = nI lo := by
    apply ui_inj
    rw [e2, ui_nI]
    omega
  rw [e3, e4]
  exact k
theorem X105_bits (w a1 a2 : Int32) (M : FM) {hi lo : Nat} (h2 : hi < 32) (h : lo ≤ hi) (e1 : ui a1 = hi) (e2 : ui a2 = lo) : GX105_bits w a1 a2 M = (nI (fd w hi lo), M) := by
  unfold GX105_bits GX105_bits_0
  rw [bits_c w a1 a2 h h2 e1 e2]
theorem X103_bits (w a1 a2 : Int32) (M : FM) {hi lo : Nat} (h2 : hi < 32) (h : lo ≤ hi) (e1 : ui a1 = hi) (e2 : ui a2 = lo) : GX103_bits w a1 a2 M = (nI (fd w hi lo), M) := by
  unfold GX103_bits GX103_bits_0
  rw [bits_c w a1 a2 h h2 e1 e2]
