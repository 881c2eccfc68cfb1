/-! tools: choices, compares, small numbers -/
theorem bz_t {c : Prop} (h : c) : bz c = Int32.ofInt 1 := by unfold bz; rw [fi_pos h]
theorem bz_f {c : Prop} (h : ¬ c) : bz c = Int32.ofInt 0 := by unfold bz; rw [fi_neg h]
theorem fi_c {α : Type} {c d : Prop} (h : c ↔ d) {t e : α} : fi c t e = fi d t e := by rw [propext h]
theorem in_nI {M : FM} {a N k : Nat} (h : M.2.2 1 a 0 = N) (hk : k < N) (hN : N < 2147483648) : fm_in M a (nI k) = true := by
  refine fm_inl h ?_
  unfold fm_inq
  rw [nI_clamp (by omega), decide_eq_true hk, decide_eq_false (nI_pos (by omega))]
  rfl
theorem msb_l (x : Int64) : x.toBitVec.msb = decide (9223372036854775808 ≤ ul x) := by
  cases q : x.toBitVec.msb with
  | false => have := BitVec.msb_eq_false_iff_two_mul_lt.mp q; symm; rw [decide_eq_false_iff_not]; show ¬ _ ≤ x.toBitVec.toNat; omega
  | true => have := BitVec.msb_eq_true_iff_two_mul_ge.mp q; symm; rw [decide_eq_true_iff]; show _ ≤ x.toBitVec.toNat; omega
theorem l_div {x y : Int64} (hx : ul x < 9223372036854775808) (hy : ul y < 9223372036854775808) : ul (x / y) = ul x / ul y := by
  unfold ul
  rw [Int64.toBitVec_div, BitVec.sdiv_eq, msb_l, msb_l, decide_eq_false (by omega), decide_eq_false (by omega)]
  exact BitVec.toNat_udiv
theorem cl_lt {x y : Int64} : lg_cmp x y < 0 ↔ x.toInt < y.toInt := by rw [lg_cmp_lt, lt_tl]
theorem cl_le {x y : Int64} : lg_cmp x y ≤ 0 ↔ x.toInt ≤ y.toInt := by rw [lg_cmp_le, le_tl]
theorem cl_gt {x y : Int64} : 0 < lg_cmp x y ↔ y.toInt < x.toInt := by rw [lg_cmp_gt, lt_tl]
theorem cl_ge {x y : Int64} : 0 ≤ lg_cmp x y ↔ y.toInt ≤ x.toInt := by rw [lg_cmp_ge, le_tl]
theorem cl_eq {x y : Int64} : lg_cmp x y = 0 ↔ ul x = ul y := by rw [lg_cmp_eq, eq_ul]
theorem bz0 : Int32.ofInt 0 = bz False := (bz_f id).symm
theorem bz1 : Int32.ofInt 1 = bz True := (bz_t trivial).symm
theorem fi_bz {α : Type} {p : Prop} {a b : α} : fi (bz p = 0) a b = fi p b a := by
  by_cases h : p
  · rw [fi_neg (fun z => bz_0.mp z h), fi_pos h]
  · rw [fi_pos (bz_0.mpr h), fi_neg h]
theorem fi_or {α : Type} {p q : Prop} {a b : α} : fi p a (fi q a b) = fi (p ∨ q) a b := by
  by_cases h : p
  · rw [fi_pos h, fi_pos (Or.inl h)]
  · rw [fi_neg h]
    by_cases k : q
    · rw [fi_pos k, fi_pos (Or.inr k)]
    · rw [fi_neg k, fi_neg (fun z => z.elim h k)]
theorem fi_and {α : Type} {p q : Prop} {a b : α} : fi p (fi q a b) b = fi (p ∧ q) a b := by
  by_cases h : p
  · rw [fi_pos h]
    by_cases k : q
    · rw [fi_pos k, fi_pos ⟨h, k⟩]
    · rw [fi_neg k, fi_neg (fun z => k z.2)]
  · rw [fi_neg h, fi_neg (fun z => h z.1)]
theorem fi_not {α : Type} {p : Prop} {a b : α} : fi p a b = fi (¬ p) b a := by
  by_cases h : p
  · rw [fi_pos h, fi_neg (fun z => z h)]
  · rw [fi_neg h, fi_pos h]
theorem fi_pr {p : Prop} {M : FM} : fi p (Int32.ofInt 1, M) (Int32.ofInt 0, M) = (bz p, M) := by
  by_cases h : p
  · rw [fi_pos h, bz_t h]
  · rw [fi_neg h, bz_f h]
theorem fi_F {α : Type} {F : Int32 → α} {p : Prop} : fi p (F (Int32.ofInt 1)) (F (Int32.ofInt 0)) = F (bz p) := by
  by_cases h : p
  · rw [fi_pos h, bz_t h]
  · rw [fi_neg h, bz_f h]
theorem ty_eq {M X : FM} (h1 : X.1 = M.1) (h2 : X.2.2 = M.2.2) (T : Ty M) : Ty X := by
  obtain ⟨x1, x2, x3⟩ := X
  obtain ⟨m1, m2, m3⟩ := M
  dsimp only at h1 h2
  subst h1 h2
  exact ⟨T.1, T.2⟩
theorem nI_j {a b : Nat} (ha : a < 4096) (hb : b < 4096) (h : nI a = nI b) : a = b := by
  have e := congrArg ui h
  rw [ui_nI, ui_nI] at e
  omega
theorem odd_i (v : Int64) : v.toInt32 &&& Int32.ofInt 1 = bz (ul v % 2 = 1) := by
  apply ui_inj
  rw [ui_and, show ui (Int32.ofInt 1) = 2 ^ 1 - 1 from rfl, Nat.and_two_pow_sub_one_eq_mod, ui_low]
  by_cases h : ul v % 2 = 1
  · rw [bz_t h]
    show _ = 1
    omega
  · rw [bz_f h]
    show _ = 0
    omega
theorem up_1 {s : Nat} (hs : s < 4096) : nI s + Int32.ofInt 1 = nI (s + 1) := by
  apply ui_inj
  rw [ui_add, ui_nI, ui_nI, show ui (Int32.ofInt 1) = 1 from rfl]
  omega
theorem dn_1 {s : Nat} (h0 : 0 < s) (hs : s < 4096) : nI s + Int32.ofInt (-1) = nI (s - 1) := by
  apply ui_inj
  rw [ui_add, ui_nI, ui_nI, show ui (Int32.ofInt (-1)) = 4294967295 from rfl]
  omega
theorem bz_z (P : Prop) : bz P = 0 ∨ bz P = 1 := by
  by_cases h : P
  · exact Or.inr (bz_t h)
  · exact Or.inl (bz_f h)
theorem n_dn {n : Nat} (h : n < 4096) : nI (n + 1) - Int32.ofInt 1 = nI n := by
  apply ui_inj
  rw [ui_sub, ui_nI, ui_nI, show ui (Int32.ofInt 1) = 1 from rfl]
  omega
theorem nI_m {k n : Nat} : nI k * nI n = nI (k * n) := by
  apply ui_inj
  rw [ui_mul, ui_nI, ui_nI, ui_nI, ← Nat.mul_mod]
theorem nI_a {k n : Nat} : nI k + nI n = nI (k + n) := by
  apply ui_inj
  rw [ui_add, ui_nI, ui_nI, ui_nI, ← Nat.add_mod]
theorem l_big {n : Nat} (h : n < 18446744073709551616) : ul (lN n) = n := by rw [ul_lN]; exact Nat.mod_eq_of_lt h
theorem l_m {k n : Nat} (h : k * n < 18446744073709551616) (hk : k < 18446744073709551616) (hn : n < 18446744073709551616) : lN k * lN n = lN (k * n) := by
  apply ul_inj
  rw [ul_mul, l_big hk, l_big hn, l_big h]
  exact Nat.mod_eq_of_lt h
theorem l_a {k n : Nat} (h : k + n < 18446744073709551616) : lN k + lN n = lN (k + n) := by
  apply ul_inj
  rw [ul_add, l_big (by omega), l_big (by omega), l_big h]
  exact Nat.mod_eq_of_lt h
theorem l_s {k n : Nat} (h : n ≤ k) (hk : k < 18446744073709551616) : lN k - lN n = lN (k - n) := by
  apply ul_inj
  rw [ul_sub, l_big hk, l_big (by omega), l_big (by omega)]
  omega
section Ot
variable {M : FM} {f a i f' a' i' : Nat}
theorem oI {v : Int32} (h : ¬ (f' = f ∧ a' = a ∧ i' = i)) : (fm_sI M f a i v).1 f' a' i' = M.1 f' a' i' := if_neg h
theorem oL {v : Int64} (h : ¬ (f' = f ∧ a' = a ∧ i' = i)) : (fm_sL M f a i v).2.1 f' a' i' = M.2.1 f' a' i' := if_neg h
theorem oR {v : Nat} (h : ¬ (f' = f ∧ a' = a ∧ i' = i)) : (fm_sR M f a i v).2.2 f' a' i' = M.2.2 f' a' i' := if_neg h
end Ot
