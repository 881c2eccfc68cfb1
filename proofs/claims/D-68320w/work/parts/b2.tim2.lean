/-! the timer: what is written -/
set_option maxRecDepth 100000
noncomputable def tW (t p n : Nat) (z : Int32) (v : Int64) (M : FM) : FM := match wh p n with
  | some k => fi (z = Int32.ofInt 8 ∧ n % 8 = 0) (fm_sL M 3 (M.2.2 246 t 0) k v) (fi (z = Int32.ofInt 4 ∧ n % 4 = 0) (fm_sL M 3 (M.2.2 246 t 0) k (hN n (M.2.1 3 (M.2.2 246 t 0) k) v)) M)
  | none => fi (z = Int32.ofInt 4 ∧ n % 4 = 0 ∧ n < 4 * p) (fm_sI M 3 (M.2.2 245 t 0) (n / 4) (v.toInt32 &&& Int32.ofInt 1)) M
section Tm
variable {t p n : Nat} {M : FM} {z : Int32}
theorem X32_write_117 (T : Ty M) (m : fm_is M 80 80 t = true) (hp : M.1 244 t 0 = nI p) (h4 : p ≤ 4) (hn : n < 2147483648) (v : Int64) :
    HX32_write_117 t (lN n) z v M ∧ GX32_write_117 t (lN n) z v M = fi (z = Int32.ofInt 4 ∧ n % 4 = 0 ∧ n < 4 * p) (fm_sI M 3 (M.2.2 245 t 0) (n / 4) (v.toInt32 &&& Int32.ofInt 1)) M := by
  have e3 := X32_isHalf (t := t) (M := M) (z := z) hn
  have c := o_4p (p := p) hn h4
  unfold HX32_write_117 GX32_write_117 GX32_write_154
  dsimp only
  rw [e3]
  dsimp only
  rw [hp, o_q4 hn]
  by_cases h1 : z = Int32.ofInt 4 ∧ n % 4 = 0
  · rw [bz_t h1, fi_neg (show ¬ Int32.ofInt 1 = 0 by decide)]
    by_cases h2 : n < 4 * p
    · rw [fi_neg (fun q => by have := c.mp q; omega), fi_pos (show z = Int32.ofInt 4 ∧ n % 4 = 0 ∧ n < 4 * p from ⟨h1.1, h1.2, h2⟩), o_cl (by omega)]
      exact ⟨⟨fun q => absurd q (by decide), fun _ => ⟨fun q => (by have := c.mp q; omega), fun _ => ⟨in_nI (tL_245 T.1 m) (by omega) (by decide), trivial⟩⟩⟩, rfl⟩
    · rw [fi_pos (c.mpr (by omega)), fi_neg (show ¬ (z = Int32.ofInt 4 ∧ n % 4 = 0 ∧ n < 4 * p) from fun q => h2 q.2.2)]
      exact ⟨⟨fun q => absurd q (by decide), fun _ => ⟨fun _ => trivial, fun q => absurd (c.mpr (by omega)) q⟩⟩, rfl⟩
  · rw [bz_f h1, fi_pos (show Int32.ofInt 0 = 0 from rfl), fi_neg (show ¬ (z = Int32.ofInt 4 ∧ n % 4 = 0 ∧ n < 4 * p) from fun q => h1 ⟨q.1, q.2.1⟩)]
    exact ⟨⟨fun _ => trivial, fun q => absurd rfl q⟩, rfl⟩
theorem X32_write (T : Ty M) (m : fm_is M 80 80 t = true) (hp : M.1 244 t 0 = nI p) (h4 : p ≤ 4) (hn : n < 2147483648) (v : Int64) :
    HX32_write t (lN n) z v M ∧ GX32_write t (lN n) z v M = tW t p n z v M := by
  have e1 := X32_find (n := n) (M := M) hp h4 hn
  have e2 := X32_isWhole (t := t) (M := M) (z := z) hn
  have e3 := X32_isHalf (t := t) (M := M) (z := z) hn
  have q := X32_write_117 (z := z) T m hp h4 hn v
  unfold HX32_write HX32_write_0 GX32_write GX32_write_0
  rw [e1]
  dsimp only
  rw [e2]
  dsimp only
  unfold HX32_write_33 GX32_write_33 GX32_write_154 tW
  dsimp only
  rw [e3]
  dsimp only
  cases hw : wh p n with
  | none =>
    have m1 : wC none < 0 := by decide
    rw [fi_pos m1, fi_pos m1]
    exact ⟨⟨fun _ => ⟨fun _ => q.1, fun y => absurd m1 y⟩, fun y => absurd m1 y⟩, q.2⟩
  | some k =>
    have hk : k < 5 := by rcases wh_lt hw with e | e <;> omega
    have m1 : ¬ wC (some k) < 0 := nI0 (by omega)
    have inn : fm_in M (M.2.2 246 t 0) (wC (some k)) = true := in_nI (tL_246 T.1 m) hk (by decide)
    have kc : (wC (some k)).toNatClampNeg = k := o_cl (by omega)
    rw [fi_neg m1, fi_neg m1]
    dsimp only
    by_cases h8 : z = Int32.ofInt 8 ∧ n % 8 = 0
    · rw [bz_t h8, fi_neg (show ¬ Int32.ofInt 1 = 0 by decide), fi_pos h8, kc]
      exact ⟨⟨fun y => absurd y m1, fun _ => ⟨fun y => absurd y (by decide), fun _ => ⟨inn, trivial⟩⟩⟩, rfl⟩
    · rw [bz_f h8, fi_pos (show Int32.ofInt 0 = 0 from rfl), fi_neg h8]
      by_cases hh : z = Int32.ofInt 4 ∧ n % 4 = 0
      · have c := o_and4 hn hh.2
        rw [bz_t hh, fi_neg (show ¬ Int32.ofInt 1 = 0 by decide), fi_pos hh]
        unfold HX32_write_62 GX32_write_62 HX32_write_113 GX32_write_113 GX32_write_154 hN
        dsimp only
        rw [kc]
        refine ⟨⟨fun y => absurd y m1, fun _ => ⟨fun _ => ⟨fun y => absurd y m1, fun _ => ⟨fun y => absurd y (by decide), fun _ => ⟨fun _ => ⟨fun y => absurd y (by decide), fun _ => ⟨inn, inn, trivial⟩⟩, fun _ => ⟨fun _ => ⟨inn, inn, trivial⟩, fun y => absurd rfl y⟩⟩⟩⟩, fun y => absurd rfl y⟩⟩, ?_⟩
        by_cases h7 : n % 8 = 0
        · rw [fi_pos (c.mpr h7), fi_pos h7, fi_neg (show ¬ Int32.ofInt 1 = 0 by decide)]
        · rw [fi_neg (fun y => h7 (c.mp y)), fi_neg h7, fi_pos (show Int32.ofInt 0 = 0 from rfl)]
      · rw [bz_f hh, fi_pos (show Int32.ofInt 0 = 0 from rfl), fi_neg hh]
        have k1 : ¬ (z = Int32.ofInt 4 ∧ n % 4 = 0 ∧ n < 4 * p) := fun y => hh ⟨y.1, y.2.1⟩
        rw [fi_neg k1] at q
        exact ⟨⟨fun y => absurd y m1, fun _ => ⟨fun _ => ⟨fun y => absurd y m1, fun _ => ⟨fun _ => q.1, fun y => absurd rfl y⟩⟩, fun y => absurd rfl y⟩⟩, q.2⟩
end Tm
