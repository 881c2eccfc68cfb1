/-! two bytes out of the word that holds them -/
set_option maxRecDepth 100000
section Tw2
variable {r y : Nat} {M N : FM} {p : Int64}
theorem ld2_8 (R : RamI r M) (R' : RamI r N) (hy : y < 2 ^ 57) (ok : okR y) (h8 : y % 8 = 0) (h : ldC r N y = ldC r M y) (h1 : y ≤ ul p) (h2 : ul p + 2 ≤ y + 8) : ld2 r N p = ld2 r M p := by
  obtain ⟨o, o1, o2⟩ := okR_o ok
  have p57 : (2 : Nat) ^ 57 = 144115188075855872 := by decide
  have eu : ul (lN y) = y := by rw [ul_lN]; exact Nat.mod_eq_of_lt (by omega)
  rw [eu] at o1
  have ho : ul p = 2147483648 + (ul p - 2147483648) := by omega
  obtain ⟨_, v, a2, a3⟩ := X11_load R.1 R.2.2.1 ho (sz := Int32.ofInt 2) (s := 2) rfl (by decide) (by decide) (by omega)
  obtain ⟨_, v', b2, b3⟩ := X11_load R'.1 R'.2.2.1 ho (sz := Int32.ofInt 2) (s := 2) rfl (by decide) (by decide) (by omega)
  obtain ⟨_, w, c2, c3⟩ := X11_load R.1 R.2.2.1 (a := lN y) (o := o) (eu.trans o1) (sz := Int32.ofInt 8) (s := 8) rfl (by decide) (by decide) o2
  obtain ⟨_, w', d2, d3⟩ := X11_load R'.1 R'.2.2.1 (a := lN y) (o := o) (eu.trans o1) (sz := Int32.ofInt 8) (s := 8) rfl (by decide) (by decide) o2
  unfold ldC at h
  rw [c2, d2] at h
  have hw : w' = w := h
  have bits : ∀ i, i < 64 → cmb N r (8 * o + i) = cmb M r (8 * o + i) := fun i hi => by
    have q1 := c3 i
    have q2 := d3 i
    rw [hw, q1, decide_eq_true (show i < 8 * 8 by omega), Bool.true_and, Bool.true_and] at q2
    exact q2.symm
  unfold ld2
  rw [a2, b2]
  have : v' = v := lb_ext (fun i hi => by
    rw [a3, b3]
    by_cases c : i < 8 * 2
    · have := bits (8 * (ul p - y) + i) (by omega)
      rw [show 8 * o + (8 * (ul p - y) + i) = 8 * (ul p - 2147483648) + i by omega] at this
      rw [this]
    · rw [decide_eq_false c, Bool.false_and, Bool.false_and])
  rw [this]
end Tw2
section Tw3
variable {r b : Nat} {M N : FM} {p p2 ad ad2 : Int64}
theorem ld2_q (R : RamI r M) (Q : RamQ r M N) (h : inR p 2) (h2 : ul p % 2 = 0) : ld2 r N p = ld2 r M p :=
  ld2_c R Q.1 h (by omega) (fun i hi => Q.2.2.2.1 i (by
    unfold pgi at hi
    unfold inR at h
    omega))
/-- the second half's place -/
theorem pv_2 (e1 : p = lN (b + ul ad % 4096)) (e2 : p2 = lN (b + ul ad2 % 4096)) (hh : ul ad2 = ul ad + 2) (hp : ul ad % 4096 + 4 ≤ 4096) : p2 = p + Int64.ofInt 2 := by
  rw [e1, e2, show (Int64.ofInt 2 : Int64) = lN 2 from rfl, lN_a]
  exact congrArg lN (by omega)
end Tw3
