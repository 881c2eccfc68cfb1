/-! where memory is; frames, as they are used; both memories held against each other -/
/-- b bytes from a on are in memory -/
def inR (a : Int64) (b : Nat) : Prop := 2147483648 ≤ ul a ∧ ul a + b ≤ 2151677952
theorem bz_1 {c : Prop} (h : c) : (bz c = 0) = False := eq_false (fun q => bz_0.mp q h)
theorem X11_has {r : Nat} {M : FM} (hm : M.1 202 r 0 = Int32.ofInt 1024) {a b : Int64} (hb : ul b < 1152921504606846976) : GX11_has r a b M = (bz (inR a (ul b)), M) := by
  have ha := ul_lt a
  have e1 : ul (a - Int64.ofInt 2147483648) = (16297080259 * 0 + (18446744073709551616 - 2147483648 + ul a)) % 18446744073709551616 := by
    rw [ul_sub, show ul (Int64.ofInt 2147483648) = 2147483648 from rfl]
    omega
  have e2 : (((M.1 202 r 0).toInt64 * Int64.ofInt 4096) - b).toInt = 4194304 - (ul b : Int) := by
    rw [hm, tl, ul_sub, show ul ((Int32.ofInt 1024).toInt64 * Int64.ofInt 4096) = 4194304 from rfl]
    split <;> omega
  have e0 : (Int64.ofInt 0).toInt = 0 := rfl
  unfold GX11_has GX11_has_0 GX11_has_35 GX11_has_36
  dsimp only
  unfold inR
  by_cases h1 : lg_cmp (a - Int64.ofInt 2147483648) (Int64.ofInt 0) < 0
  · rw [fi_pos h1]
    rw [cl_lt, e0, tl, e1] at h1
    rw [bz_f (by split at h1 <;> omega)]
  · rw [fi_neg h1]
    rw [cl_lt, e0, tl, e1] at h1
    by_cases h2 : 0 < lg_cmp (a - Int64.ofInt 2147483648) (((M.1 202 r 0).toInt64 * Int64.ofInt 4096) - b)
    · rw [fi_pos h2]
      rw [cl_gt, e2, tl, e1] at h2
      rw [bz_f (by split at h1 <;> split at h2 <;> omega)]
    · rw [fi_neg h2]
      rw [cl_gt, e2, tl, e1] at h2
      rw [bz_t (by split at h1 <;> split at h2 <;> omega)]
theorem X93_isByte {a : Int64} {M : FM} : GX93_isByte a M = (bz (inR a 1), M) := by
  have ha := ul_lt a
  have e0 : (Int64.ofInt 2147483648).toInt = 2147483648 := rfl
  have e3 : (Int64.ofInt 2151677952).toInt = 2151677952 := rfl
  unfold GX93_isByte GX93_isByte_0 GX93_isByte_20 GX93_isByte_21 inR
  by_cases h1 : lg_cmp a (Int64.ofInt 2147483648) < 0
  · rw [fi_pos h1]
    rw [cl_lt, e0, tl] at h1
    rw [bz_f (by split at h1 <;> omega)]
  · rw [fi_neg h1]
    rw [cl_lt, e0, tl] at h1
    by_cases h2 : 0 ≤ lg_cmp a (Int64.ofInt 2151677952)
    · rw [fi_pos h2]
      rw [cl_ge, e3, tl] at h2
      rw [bz_f (by split at h1 <;> split at h2 <;> omega)]
    · rw [fi_neg h2]
      rw [cl_ge, e3, tl] at h2
      rw [bz_t (by split at h1 <;> split at h2 <;> omega)]
theorem X93_areBytes {a b : Int64} {M : FM} (hb : ul b < 9223372036854775808) : GX93_areBytes a b M = (bz (inR a 1 ∧ inR a (ul b)), M) := by
  have ha := ul_lt a
  unfold GX93_areBytes GX93_areBytes_0 GX93_areBytes_21 GX93_areBytes_22
  rw [X93_isByte]
  dsimp only
  by_cases h1 : inR a 1
  · rw [fi_neg (by rw [bz_1 h1]; exact id)]
    have e4 : (Int64.ofInt 2151677952 - a).toInt = 2151677952 - (ul a : Int) := by
      rw [tl, ul_sub, show ul (Int64.ofInt 2151677952) = 2151677952 from rfl]
      unfold inR at h1
      split <;> omega
    by_cases h2 : 0 < lg_cmp b (Int64.ofInt 2151677952 - a)
    · rw [fi_pos h2]
      rw [cl_gt, e4, tl, if_pos hb] at h2
      rw [bz_f (by unfold inR; omega)]
    · rw [fi_neg h2]
      rw [cl_gt, e4, tl, if_pos hb] at h2
      rw [bz_t ⟨h1, by unfold inR at *; omega⟩]
  · rw [fi_pos (bz_0.mpr h1), bz_f (fun q => h1 q.1)]
theorem wi_N {M : FM} (W : Wf M) : WI (fun _ => True) 0 (fm_nx M) M := ⟨W, fun _ _ _ _ _ _ => trivial, Nat.le_refl _, fun _ _ => trivial, fun _ _ => trivial⟩
section Kf
variable {S Z : Nat → Prop} {hx N f a s : Nat} {M0 M : FM}
theorem kf (k : Wk S Z hx N M0 M) (hf : Nat.ble 4 f = true) (hs : ¬ S f) (ha : a < N) : M.1 f a = M0.1 f a ∧ M.2.1 f a = M0.2.1 f a ∧ M.2.2 f a = M0.2.2 f a := by
  have h4 := Nat.le_of_ble_eq_true hf
  refine k.2.2.2 f a ha (by omega) (fun q => absurd q ?_)
  unfold lcn
  rw [if_neg (by omega)]
  exact hs
theorem ka (k : Wk S Z hx N M0 M) (sf : Sf M0 a s) (h0 : a ≠ 0) (hs : ¬ S (1000 + s)) (ha : a < N) : M.1 3 a = M0.1 3 a ∧ M.2.1 3 a = M0.2.1 3 a ∧ M.2.2 3 a = M0.2.2 3 a := by
  refine k.2.2.2 3 a ha (by omega) (fun q => absurd q ?_)
  unfold lcn
  rw [if_pos rfl]
  rcases sf with e | e
  · exact absurd e h0
  · rw [e.2]
    exact hs
theorem kt (k : Wk S Z hx N M0 M) (ha : a < fm_nx M0) : M.2.2 0 a = M0.2.2 0 a ∧ M.2.2 1 a = M0.2.2 1 a := k.2.2.1.1 a ha
theorem kis {lo hi : Nat} (k : Wk S Z hx N M0 M) (W : Wf M0) (hlo : Nat.ble 1 lo = true) (g : fm_is M0 lo hi a = true) : fm_is M lo hi a = true := by
  have := (kt k (wf_lt W (fm_ist hlo g))).1
  unfold fm_is at *
  rw [this]
  exact g
end Kf
/-- the twin's memory by itself -/
def TrI (c : Nat) (M : FM) : Prop := Ty M ∧ Wf M ∧ fm_is M 98 98 c = true ∧ M.2.1 393 c 0 = Int64.ofInt 0 ∧
  ∀ p, p < 4 → M.2.1 3 (M.2.2 389 c 0) p = Int64.ofInt 0 ∨ (inR (M.2.1 3 (M.2.2 389 c 0) p) 1 ∧ M.1 3 (M.2.2 391 c 0) ((ul (M.2.1 3 (M.2.2 389 c 0) p) - 2147483648) / 8) = M.1 3 (M.2.2 392 c 0) p)
def RsI (r : Nat) (M : FM) : Prop := ∀ p q, p < 4 → q < 4 → rsv M r p = rsv M r q → p = q
/-- both memories -/
def RelRam (r c : Nat) (Mc Mt : FM) : Prop := RamI r Mc ∧ TrI c Mt ∧ Mc.1 202 r 0 = Int32.ofInt 1024 ∧ RsI r Mc ∧ (∀ i, i < 33554432 → cmb Mc r i = tmb Mt c i) ∧
  ∀ p, p < 4 → (Mc.1 208 (rsv Mc r p) 0 = Int32.ofInt 0 ∧ Mt.2.1 3 (Mt.2.2 389 c 0) p = Int64.ofInt 0) ∨
    (Mc.1 208 (rsv Mc r p) 0 = Mt.1 3 (Mt.2.2 390 c 0) p ∧ Mc.1 208 (rsv Mc r p) 0 ≠ Int32.ofInt 0 ∧ Mc.2.1 207 (rsv Mc r p) 0 = Mt.2.1 3 (Mt.2.2 389 c 0) p ∧ inR (Mc.2.1 207 (rsv Mc r p) 0) 1)
section Rr
variable {r c : Nat} {Mc Mt : FM}
theorem tr_ne (T : Ty Mt) (W : Wf Mt) (n : fm_is Mt 98 98 c = true) : Mt.2.2 388 c 0 ≠ Mt.2.2 389 c 0 := sf_ne W (sS_388 W n) (sS_389 W n) (lo := 902) rfl (tN_388 T.1 n) (by decide)
theorem rel_load (R : RelRam r c Mc Mt) {a : Int64} {s : Nat} {sz : Int32} (hs : ui sz = s) (h1 : 1 ≤ s) (h8 : s ≤ 8) (hr : inR a s) :
    ∃ v, HX11_load r a sz Mc ∧ GX11_load r a sz Mc = (v, Mc) ∧ HX93_number c a sz Mt ∧ GX93_number c a sz Mt = (v, Mt) := by
  obtain ⟨⟨T, W, n, PI⟩, ⟨T2, W2, n2, -⟩, -, -, e, -⟩ := R
  obtain ⟨o, ho⟩ : ∃ o, ul a = 2147483648 + o := ⟨ul a - 2147483648, by unfold inR at hr; omega⟩
  have hb : o + s ≤ 4194304 := by unfold inR at hr; omega
  obtain ⟨a1, v, a2, a3⟩ := X11_load T n ho hs h1 h8 hb
  obtain ⟨b1, u, b2, b3⟩ := X93_number T2 n2 hs ho h8 hb
  refine ⟨v, a1, a2, b1, ?_⟩
  rw [b2]
  refine Prod.ext (lb_ext fun i hi => ?_) rfl
  rw [a3, b3]
  by_cases hi2 : i < 8 * s
  · rw [e _ (by omega)]
  · rw [decide_eq_false hi2, Bool.false_and, Bool.false_and]
/-- hits, by words of eight bytes -/
theorem and_m8 (x : Int64) : ul (x &&& Int64.ofInt (-8)) = ul x / 8 * 8 := by
  rw [ul_and, show ul (Int64.ofInt (-8)) = 2 ^ 64 - 8 from rfl]
  have hx := ul_lt x
  apply Nat.eq_of_testBit_eq
  intro i
  rw [Nat.testBit_and, show (2 : Nat) ^ 64 - 8 = (2 ^ 61 - 1) * 2 ^ 3 from rfl, Nat.testBit_mul_two_pow, Nat.testBit_two_pow_sub_one, show ul x / 8 * 8 = ul x / 2 ^ 3 * 2 ^ 3 from rfl, Nat.testBit_mul_two_pow, Nat.testBit_div_two_pow]
  by_cases h : 3 ≤ i
  · rw [decide_eq_true h, Bool.true_and, Bool.true_and, show i - 3 + 3 = i from by omega]
    by_cases h2 : i - 3 < 61
    · rw [decide_eq_true h2, Bool.and_true]
    · rw [decide_eq_false h2, Bool.and_false, tb_big (k := 64) hx (by omega)]
  · rw [decide_eq_false h]
    simp
theorem thit_i {a x : Int64} {s : Nat} (ha : inR a s) (h1 : 1 ≤ s) (h8 : s ≤ 8) (hx : inR x 1) : thit a (a + (nI s).toInt64) x ↔ ∃ j, j < s ∧ (ul a + j) / 8 = ul x / 8 := by
  unfold inR at ha hx
  have ha' := ha
  have e1 : ul (x &&& Int64.ofInt (-8)) = ul x / 8 * 8 := and_m8 x
  have e2 : ul ((x &&& Int64.ofInt (-8)) + Int64.ofInt 8) = ul x / 8 * 8 + 8 := by
    rw [ul_add, e1, show ul (Int64.ofInt 8) = 8 from rfl]
    omega
  have e3 : ul (a + (nI s).toInt64) = ul a + s := by
    rw [ul_add, ul_sext, ui_nI, if_pos (by omega)]
    omega
  unfold thit
  rw [cl_ge, cl_le, tl, tl, tl, tl, e1, e2, e3, if_pos (by omega), if_pos (by omega), if_pos (by omega), if_pos (by omega)]
  constructor
  · rintro ⟨q1, q2⟩
    by_cases c : ul a / 8 = ul x / 8
    · exact ⟨0, by omega, by omega⟩
    · exact ⟨ul x / 8 * 8 - ul a, by omega, by omega⟩
  · rintro ⟨j, q1, q2⟩
    exact ⟨by omega, by omega⟩
theorem hit_i {a x : Int64} {s j : Nat} (ha : inR a s) (hj : j < s) (hx : inR x 1) : hit (a + (nI j).toInt64) x ↔ (ul a + j) / 8 = ul x / 8 := by
  unfold inR at ha hx
  have e3 : ul (a + (nI j).toInt64) = ul a + j := by
    rw [ul_add, ul_sext, ui_nI, if_pos (by omega)]
    omega
  unfold hit
  rw [lt_tl, tl x, show (Int64.ofInt 0).toInt = 0 from rfl, eq_ul, l_div (by omega) (by decide), l_div (by omega) (by decide), e3, if_pos (by omega), show ul (Int64.ofInt 8) = 8 from rfl]
  constructor
  · rintro ⟨_, q⟩
    exact q.symm
  · intro q
    exact ⟨by omega, q.symm⟩
end Rr
