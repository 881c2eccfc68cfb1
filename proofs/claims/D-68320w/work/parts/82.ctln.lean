/-! control registers: questions, counts -/
set_option maxRecDepth 100000
section Sm
variable {u d n x : Nat} {k : Int32} {Mc Mt M Mc' Mt' : FM}
theorem tw_le0 (x : Int64) (k : Nat) : tw x k ≤ 0 ↔ tw x k = 0 := by
  rw [tw_is]
  by_cases a : lb x k = true <;> by_cases b : lb x (k + 1) = true
  · rw [fi_pos a, fi_pos b]; decide
  · rw [fi_pos a, fi_neg b]; decide
  · rw [fi_neg a, fi_pos b]; decide
  · rw [fi_neg a, fi_neg b]; decide
theorem rel_floats (R : RelC u d k Mc Mt) : GX74_floats u Mc = (bz (¬ tw (ht Mt d 768) 13 = 0), Mc) ∧ GX100_floats d Mt = (bz (¬ tw (ht Mt d 768) 13 = 0), fm_sI Mt 358 d 0 (Int32.ofInt 0)) := by
  obtain ⟨⟨Tc, nu, S, K⟩, -, v1, -⟩ := R
  have e27 : Mc.2.2 27 u 0 = tbl Mc u 768 := S.2.2.1.1
  constructor
  · unfold GX74_floats GX74_floats_0 GX74_floats_17
    dsimp only
    rw [e27, X78_two (k := 13) rfl (by decide), v1_at v1 cn_768]
    dsimp only
    rw [fi_not]
    exact fi_pr
  · unfold GX100_floats GX100_floats_0 GX100_floats_17
    dsimp only
    rw [X100_floating]
    dsimp only
    rw [show (fm_sI Mt 358 d 0 (Int32.ofInt 0)).2.1 3 ((fm_sI Mt 358 d 0 (Int32.ofInt 0)).2.2 361 d 0) 768 = ht Mt d 768 from rfl, propext (tw_le0 _ _), fi_not]
    exact fi_pr
theorem rel_dirty (R : RelC u d k Mc Mt) (h : ¬ tw (ht Mt d 768) 13 = 0) : RelC u d k (GX78_putTwo (tbl Mc u 768) (Int32.ofInt 13) (Int32.ofInt 3) Mc) (GX100_dirty d Mt) := by
  have e : GX100_dirty d Mt = GX100_put d (Int32.ofInt 14) (Int32.ofInt 1) (GX100_put d (Int32.ofInt 13) (Int32.ofInt 1) (fm_sI Mt 358 d 0 (Int32.ofInt 0))) := by
    unfold GX100_dirty GX100_dirty_0 GX100_dirty_26
    dsimp only
    rw [X100_floating]
    dsimp only
    rw [show (fm_sI Mt 358 d 0 (Int32.ofInt 0)).2.1 3 ((fm_sI Mt 358 d 0 (Int32.ofInt 0)).2.2 361 d 0) 768 = ht Mt d 768 from rfl, fi_neg (fun z => h ((tw_le0 _ _).mp z))]
  rw [e]
  exact rel_dirty2 (rel_t358 R _)
theorem rel_allowed (R : RelC u d k Mc Mt) {a : Int32} (ha : a = 0 ∨ a = 1) : ∃ r, GX74_allowed u a Mc = (r, Mc) ∧ GX100_allowed d a Mt = (r, fm_sI Mt 358 d 0 (Int32.ofInt 0)) := by
  obtain ⟨⟨Tc, nu, S, K⟩, ⟨Tt, nd, -⟩, v1, -, ⟨vm, hm⟩, -⟩ := R
  have e27 : Mc.2.2 27 u 0 = tbl Mc u 768 := S.2.2.1.1
  have e768 : Mc.2.1 41 (tbl Mc u 768) 0 = ht Mt d 768 := v1_at v1 cn_768
  have c31 : ∀ {b : Int32} {j : Nat}, ui b = j → j < 64 → GX74_allowed_31 (tbl Mc u 768) b Mc = (bz (¬ lb (ht Mt d 768) j = true), Mc) := fun {b j} hb hj => by
    unfold GX74_allowed_31 GX74_allowed_37 GX74_allowed_41 GX74_allowed_42
    rw [X78_has hb hj, e768]
    dsimp only
    rw [fi_bz, fi_not]
    exact fi_pr
  have t53 : ∀ {b : Int32} {j : Nat}, ui b = j → j < 64 → GX100_allowed_53 d b (fm_sI Mt 358 d 0 (Int32.ofInt 0)) = (bz (¬ lb (ht Mt d 768) j = true), fm_sI Mt 358 d 0 (Int32.ofInt 0)) := fun {b j} hb hj => by
    unfold GX100_allowed_53 GX100_allowed_59 GX100_allowed_63 GX100_allowed_64
    rw [X100_status hb hj]
    dsimp only
    rw [fi_bz, fi_not]
    exact fi_pr
  have ta : GX100_allowed d a Mt = GX100_allowed_15 d a d (Int32.ofInt 0) Mt := by
    unfold GX100_allowed GX100_allowed_0 GX100_allowed_10
    rcases ha with rfl | rfl
    · rw [fi_pos rfl]
    · rw [fi_neg (by decide), fi_pos (by decide)]
  rw [ta]
  unfold GX74_allowed GX74_allowed_0 GX100_allowed_15 GX74_allowed_37 GX74_allowed_41 GX74_allowed_42 GX100_allowed_59 GX100_allowed_63 GX100_allowed_64
  dsimp only
  rw [fi_pos (show (fm_sI Mt 358 d 0 (Int32.ofInt 0)).1 358 d 0 = 0 by rw [rI, if_pos ⟨rfl, rfl, rfl⟩]; rfl), show (fm_sI Mt 358 d 0 (Int32.ofInt 0)).1 360 d 0 = Mt.1 360 d 0 from rIf (by decide), vm, e27, c31 (j := 21) rfl (by decide), c31 (j := 20) rfl (by decide), t53 (j := 21) rfl (by decide), t53 (j := 20) rfl (by decide)]
  by_cases h3 : Mt.1 360 d 0 = Int32.ofInt 3
  · rw [fi_pos h3, fi_pos h3]
    exact ⟨_, rfl, rfl⟩
  · rw [fi_neg h3, fi_neg h3]
    by_cases h1 : Mt.1 360 d 0 = Int32.ofInt 1
    · rw [fi_pos h1, fi_pos h1]
      by_cases h0 : a = 0
      · rw [fi_pos h0, fi_pos h0]
        exact ⟨_, rfl, rfl⟩
      · rw [fi_neg h0, fi_neg h0]
        exact ⟨_, rfl, rfl⟩
    · rw [fi_neg h1, fi_neg h1]
      exact ⟨_, rfl, rfl⟩
theorem add_00 (x : Int64) : x + Int64.ofInt 0 = x := Int64.add_zero x
/-- one more round, one more instruction -/
theorem rel_cycle (R : RelC u d k Mc Mt) : RelC u d k (fm_sL Mc 41 (tbl Mc u 2816) 0 (Mc.2.1 41 (tbl Mc u 2816) 0 + Int64.ofInt 1)) (GX100_count d (Int64.ofInt 1) (Int64.ofInt 0) Mt) := by
  have R1 := rel_t358 R (Int32.ofInt 0)
  have e : GX100_count d (Int64.ofInt 1) (Int64.ofInt 0) Mt = fm_sL (fm_sI Mt 358 d 0 (Int32.ofInt 0)) 3 ((fm_sI Mt 358 d 0 (Int32.ofInt 0)).2.2 361 d 0) 2816 (Mc.2.1 41 (tbl Mc u 2816) 0 + Int64.ofInt 1) := by
    rw [v1_at R.2.2.1 (n := 2816) (cn_of rfl)]
    unfold GX100_count GX100_count_0
    dsimp only
    rw [add_00]
    exact sL_self _ _ _ _
  rw [e]
  exact relC_w1 R1 (n := 2816) (cn_of rfl) _ (ok_o (by decide) (by decide) (by decide) (by decide) _) ⟨R.1.1.1, R.1.1.2⟩ ⟨R1.2.1.1.1, R1.2.1.1.2⟩
theorem rel_instr (R : RelC u d k Mc Mt) : RelC u d k (fm_sL Mc 41 (tbl Mc u 2818) 0 (Mc.2.1 41 (tbl Mc u 2818) 0 + Int64.ofInt 1)) (GX100_count d (Int64.ofInt 0) (Int64.ofInt 1) Mt) := by
  have R1 := rel_t358 R (Int32.ofInt 0)
  have e : GX100_count d (Int64.ofInt 0) (Int64.ofInt 1) Mt = fm_sL (fm_sI Mt 358 d 0 (Int32.ofInt 0)) 3 ((fm_sI Mt 358 d 0 (Int32.ofInt 0)).2.2 361 d 0) 2818 (Mc.2.1 41 (tbl Mc u 2818) 0 + Int64.ofInt 1) := by
    rw [v1_at R.2.2.1 (n := 2818) (cn_of rfl)]
    unfold GX100_count GX100_count_0
    dsimp only
    rw [add_00]
    have z : fm_sL (fm_sI Mt 358 d 0 (Int32.ofInt 0)) 3 ((fm_sI Mt 358 d 0 (Int32.ofInt 0)).2.2 361 d 0) (Int32.ofInt 2816).toNatClampNeg ((fm_sI Mt 358 d 0 (Int32.ofInt 0)).2.1 3 ((fm_sI Mt 358 d 0 (Int32.ofInt 0)).2.2 361 d 0) (Int32.ofInt 2816).toNatClampNeg) = fm_sI Mt 358 d 0 (Int32.ofInt 0) := sL_self _ _ _ _
    rw [z]
    rfl
  rw [e]
  exact relC_w1 R1 (n := 2818) (cn_of rfl) _ (ok_o (by decide) (by decide) (by decide) (by decide) _) ⟨R.1.1.1, R.1.1.2⟩ ⟨R1.2.1.1.1, R1.2.1.1.2⟩
theorem t_dataMode : GX100_dataMode d Mt = (fi (lb (ht Mt d 768) 17 = true) (tw (ht Mt d 768) 11) (Mt.1 360 d 0), fm_sI Mt 358 d 0 (Int32.ofInt 0)) := by
  unfold GX100_dataMode GX100_dataMode_0 GX100_dataMode_26
  dsimp only
  rw [X100_status (k := 17) rfl (by decide), X100_below]
  dsimp only
  rw [bz_i1]
  exact fi_fst
end Sm
