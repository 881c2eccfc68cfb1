/-! control registers: what is shown is the same -/
set_option maxRecDepth 100000
def cShH (x : Nat) (M : FM) : Prop := ((fm_is M 13 13 x = true → True) ∧ (¬ (fm_is M 13 13 x = true) → ((fm_is M 14 14 x = true → True) ∧ (¬ (fm_is M 14 14 x = true) → ((fm_is M 15 15 x = true → True) ∧ (¬ (fm_is M 15 15 x = true) → ((fm_is M 16 16 x = true → True) ∧ (¬ (fm_is M 16 16 x = true) → ((fm_is M 17 17 x = true → True) ∧ (¬ (fm_is M 17 17 x = true) → ((fm_is M 18 18 x = true → HX83_show x M) ∧ (¬ (fm_is M 18 18 x = true) → (fm_is M 19 19 x = true ∧ HX81_show x M)))))))))))))
section Sh
variable {u d n : Nat} {k : Int32} {Mc Mt : FM} {x : Nat} {M : FM}
theorem cShH_s {t : Nat} (h : M.2.2 0 x 0 = t) (h1 : 13 ≤ t) (h2 : t ≤ 17) : cShH x M := by
  have c : t = 13 ∨ t = 14 ∨ t = 15 ∨ t = 16 ∨ t = 17 := by omega
  rcases c with rfl | rfl | rfl | rfl | rfl
  · exact ⟨fun _ => trivial, fun q => absurd (isT h (by decide) (by decide)) q⟩
  · exact ⟨fun _ => trivial, fun _ => ⟨fun _ => trivial, fun q => absurd (isT h (by decide) (by decide)) q⟩⟩
  · exact ⟨fun _ => trivial, fun _ => ⟨fun _ => trivial, fun _ => ⟨fun _ => trivial, fun q => absurd (isT h (by decide) (by decide)) q⟩⟩⟩
  · exact ⟨fun _ => trivial, fun _ => ⟨fun _ => trivial, fun _ => ⟨fun _ => trivial, fun _ => ⟨fun _ => trivial, fun q => absurd (isT h (by decide) (by decide)) q⟩⟩⟩⟩
  · exact ⟨fun _ => trivial, fun _ => ⟨fun _ => trivial, fun _ => ⟨fun _ => trivial, fun _ => ⟨fun _ => trivial, fun _ => ⟨fun _ => trivial, fun q => absurd (isT h (by decide) (by decide)) q⟩⟩⟩⟩⟩
theorem cShH_18 (h : M.2.2 0 x 0 = 18) (h2 : M.2.2 0 (M.2.2 44 x 0) 0 = 14) : cShH x M :=
  ⟨fun _ => trivial, fun _ => ⟨fun _ => trivial, fun _ => ⟨fun _ => trivial, fun _ => ⟨fun _ => trivial, fun _ => ⟨fun _ => trivial, fun _ => ⟨fun _ => ⟨⟨fun _ => trivial, fun _ => ⟨fun _ => trivial, fun q => absurd (isT h2 (by decide) (by decide)) q⟩⟩, trivial⟩, fun q => absurd (isT h (by decide) (by decide)) q⟩⟩⟩⟩⟩⟩
theorem cShH_19 (h : M.2.2 0 x 0 = 19) {v : Int64} (h2 : oSh (M.2.2 45 x 0) M = (v, M)) (h3 : M.2.2 0 (M.2.2 46 x 0) 0 = 13 ∨ M.2.2 0 (M.2.2 46 x 0) 0 = 14) : cShH x M :=
  ⟨fun _ => trivial, fun _ => ⟨fun _ => trivial, fun _ => ⟨fun _ => trivial, fun _ => ⟨fun _ => trivial, fun _ => ⟨fun _ => trivial, fun _ => ⟨fun q => absurd q (isN h (by decide)), fun _ => ⟨isT h (by decide) (by decide), by
    unfold HX81_show HX81_show_0
    dsimp only
    unfold oSh at h2
    rw [h2]
    dsimp only
    rcases h3 with t | t
    · exact ⟨⟨fun _ => trivial, fun q => absurd (isT t (by decide) (by decide)) q⟩, trivial⟩
    · exact ⟨⟨fun _ => trivial, fun _ => ⟨fun _ => trivial, fun q => absurd (isT t (by decide) (by decide)) q⟩⟩, trivial⟩⟩⟩⟩⟩⟩⟩⟩
theorem tb_ne (z : M.2.2 0 0 0 = 0) {t : Nat} (h : M.2.2 0 x 0 = t) (ht : t ≠ 0) : x ≠ 0 := fun e => by
  rw [e, z] at h
  exact ht h.symm
theorem rel_there (S : StC u Mc) (z : Mc.2.2 0 0 0 = 0) (hn : n < 4096) : tbl Mc u n ≠ 0 ↔ thr n := by
  obtain ⟨s1, s2, -, -, -, -, ⟨w1, -⟩, ⟨w2, -⟩, ⟨w3, -⟩, ⟨w4, -, w5, -, w6, -⟩, s3, ⟨s4, s5, s6⟩, s7⟩ := S
  constructor
  · intro h
    refine Classical.byContradiction fun q => h (s7 n hn ?_ ?_ ?_ ?_)
    · rintro ⟨p, hp, rfl⟩
      exact q ((show ∀ p ∈ cH, thr p.1 by decide) p hp)
    · exact fun hp => q ((show ∀ p ∈ cK, thr p by decide) n hp)
    · exact fun hp => q ((show ∀ p ∈ cE, thr p by decide) n hp)
    · exact fun hp => q ((show ∀ p ∈ cV, thr p by decide) n hp)
  · intro h
    have a := an_of h
    unfold anB at a
    rw [Bool.or_eq_true, Bool.or_eq_true, Bool.or_eq_true] at a
    rcases a with ((a | a) | a) | a
    · obtain ⟨q, hq, e⟩ := List.any_eq_true.mp a
      have e := Nat.eq_of_beq_eq_true e
      have := s1 q hq
      rw [e] at this
      exact tb_ne z this ((show ∀ q ∈ cH, q.2.1 ≠ 0 by decide) q hq)
    · obtain ⟨q, hq, e⟩ := List.any_eq_true.mp a
      have e := Nat.eq_of_beq_eq_true e
      have := (s3 q hq).1
      rw [e] at this
      exact tb_ne z this (by decide)
    · obtain ⟨q, hq, e⟩ := List.any_eq_true.mp a
      have e := Nat.eq_of_beq_eq_true e
      rw [← e, s6 q hq]
      exact s5
    · obtain ⟨q, hq, e⟩ := List.any_eq_true.mp a
      have e := Nat.eq_of_beq_eq_true e
      rw [← e]
      have hq' : q = 256 ∨ q = 260 ∨ q = 324 ∨ q = 3072 ∨ q = 3073 ∨ q = 3074 := by simpa using hq
      rcases hq' with rfl | rfl | rfl | rfl | rfl | rfl
      · exact tb_ne z w1 (by decide)
      · exact tb_ne z w2 (by decide)
      · exact tb_ne z w3 (by decide)
      · exact tb_ne z w4 (by decide)
      · exact tb_ne z w5 (by decide)
      · exact tb_ne z w6 (by decide)
theorem els_there (S : StC u Mc) (hn : n < 4096) (h : thr n) : tbl Mc u n = Mc.2.2 26 u 0 ↔ els n := by
  obtain ⟨s1, s2, -, -, -, -, ⟨w1, -⟩, ⟨w2, -⟩, ⟨w3, -⟩, ⟨w4, -, w5, -, w6, -⟩, s3, ⟨s4, s5, s6⟩, s7⟩ := S
  constructor
  · intro q
    have a := an_of h
    unfold anB at a
    rw [Bool.or_eq_true, Bool.or_eq_true, Bool.or_eq_true] at a
    rcases a with ((a | a) | a) | a
    · obtain ⟨p, hp, e⟩ := List.any_eq_true.mp a
      have e := Nat.eq_of_beq_eq_true e
      have := s1 p hp
      rw [e, q, s4] at this
      exact absurd this ((show ∀ q ∈ cH, 13 ≠ q.2.1 by decide) p hp)
    · obtain ⟨p, hp, e⟩ := List.any_eq_true.mp a
      have e := Nat.eq_of_beq_eq_true e
      rw [← e] at q
      exact absurd q (s3 p hp).2
    · obtain ⟨p, hp, e⟩ := List.any_eq_true.mp a
      rw [← Nat.eq_of_beq_eq_true e]
      exact (show ∀ p ∈ cE, els p by decide) p hp
    · obtain ⟨p, hp, e⟩ := List.any_eq_true.mp a
      have e := Nat.eq_of_beq_eq_true e
      rw [← e] at q
      have hq' : p = 256 ∨ p = 260 ∨ p = 324 ∨ p = 3072 ∨ p = 3073 ∨ p = 3074 := by simpa using hp
      rcases hq' with rfl | rfl | rfl | rfl | rfl | rfl
      · rw [q, s4] at w1; cases w1
      · rw [q, s4] at w2; cases w2
      · rw [q, s4] at w3; cases w3
      · rw [q, s4] at w4; cases w4
      · rw [q, s4] at w5; cases w5
      · rw [q, s4] at w6; cases w6
  · intro q
    have a : n ∈ cE := by
      have h0 : (cE.any fun q => Nat.beq q n) = true := by
        rcases q with h | h | h | h
        · have : n = 1 ∨ n = 2 ∨ n = 3 := by omega
          rcases this with rfl | rfl | rfl <;> rfl
        · rw [h]; rfl
        · rw [h]; rfl
        · have : n = 944 ∨ n = 945 ∨ n = 946 ∨ n = 947 ∨ n = 948 ∨ n = 949 ∨ n = 950 ∨ n = 951 ∨ n = 952 ∨ n = 953 ∨ n = 954 ∨ n = 955 ∨ n = 956 ∨ n = 957 ∨ n = 958 ∨ n = 959 := by omega
          rcases this with rfl | rfl | rfl | rfl | rfl | rfl | rfl | rfl | rfl | rfl | rfl | rfl | rfl | rfl | rfl | rfl <;> rfl
      obtain ⟨p, hp, e⟩ := List.any_eq_true.mp h0
      rw [← Nat.eq_of_beq_eq_true e]
      exact hp
    exact s6 n a
theorem dty_b (x : Int64) (i : Nat) (hi : i < 64) : lb (dty x) i = (decide (i = 63) && decide (tw x 13 = Int32.ofInt 3)) := by
  unfold dty
  by_cases h : tw x 13 = Int32.ofInt 3
  · rw [fi_pos h, decide_eq_true h, Bool.and_true]
    have e : Int64.ofInt (-9223372036854775808) = Int64.ofInt (-1) ^^^ Int64.ofInt 9223372036854775807 := by decide
    rw [e, lb_xor, lb_m1 i hi, lb_mask (Int64.ofInt 9223372036854775807) (k := 63) rfl i]
    by_cases q : i = 63
    · rw [q]; rfl
    · rw [decide_eq_false q, decide_eq_true (show i < 63 by omega)]; rfl
  · rw [fi_neg h, lb_0, decide_eq_false h, Bool.and_false]
/-- the status seen from below -/
theorem st_256 {x : Int64} (h : mkS x) : ((x ||| Int64.ofInt 42949672960) ||| dty x) &&& (Int64.ofInt 811298 ||| Int64.ofInt (-9223372028264841216)) = ((x &&& Int64.ofInt 811298) ||| Int64.ofInt 8589934592) ||| dty x := by
  refine lb_ext fun i hi => ?_
  rw [lb_and, lb_or, lb_or, lb_or, lb_or, lb_or, lb_and, dty_b x i hi]
  have k1 : ∀ i, i < 64 → lb (Int64.ofInt 8288682) i = true ∨ lb (Int64.ofInt 8288682) i = false := fun i _ => by cases lb (Int64.ofInt 8288682) i <;> simp
  have k2 : ∀ i, i < 64 → (lb (Int64.ofInt 42949672960) i && (lb (Int64.ofInt 811298) i || lb (Int64.ofInt (-9223372028264841216)) i)) = lb (Int64.ofInt 8589934592) i := by decide
  have k3 : ∀ i, i < 64 → (decide (i = 63) && (lb (Int64.ofInt 811298) i || lb (Int64.ofInt (-9223372028264841216)) i)) = decide (i = 63) := by decide
  have k4 : ∀ i, i < 64 → lb (Int64.ofInt 8288682) i = true → lb (Int64.ofInt (-9223372028264841216)) i = false := by decide
  have q2 := k2 i hi
  have q3 := k3 i hi
  have q4 := k4 i hi
  have q1 := h i hi
  generalize lb x i = X at *
  generalize lb (Int64.ofInt 8288682) i = A at *
  generalize lb (Int64.ofInt 42949672960) i = B at *
  generalize lb (Int64.ofInt 811298) i = C at *
  generalize lb (Int64.ofInt (-9223372028264841216)) i = D at *
  generalize lb (Int64.ofInt 8589934592) i = E at *
  generalize decide (i = 63) = F at *
  generalize decide (tw x 13 = Int32.ofInt 3) = G at *
  clear k1 k2 k3 k4 h
  revert X A B C D E F G
  decide
end Sh
