/-! control registers: looking from outside -/
set_option maxRecDepth 100000
section Pk
variable {u d n x : Nat} {k : Int32} {Mc Mt M : FM}
theorem rel_peek (R : RelC u d k Mc Mt) (z : Mc.2.2 0 0 0 = 0) (hn : n < 4096) (he : ¬ els n) :
    HX74_peek u (nI n) Mc ∧ HX100_peek d (nI n) Mt ∧ ∃ v, GX74_peek u (nI n) Mc = (v, Mc) ∧ GX100_peek d (nI n) Mt = (v, fm_sI Mt 358 d 0 (Int32.ofInt 0)) := by
  have R1 := rel_t358 R (Int32.ofInt 0)
  have S := R.1.2.2.1
  have hi : fm_in Mc (Mc.2.2 25 u 0) (nI n) = true := in_u (tL_25 R.1.1.1 R.1.2.1) (by rw [ui_nI]; omega) (by decide)
  have n0 : ¬ nI n < 0 := fun q => by have := (nlt0 hn).mp q; omega
  have n1 : ¬ Int32.ofInt 4096 ≤ nI n := fun q => by
    rw [i_le (by decide) (by rw [ui_nI]; omega), ui_nI] at q
    have : ui (Int32.ofInt 4096) = 4096 := rfl
    omega
  have n2 : nI n ≤ Int32.ofInt 4095 := (nle hn 4095 (by decide)).mpr (by omega)
  have tH : HX100_peek d (nI n) Mt := ⟨fun _ => trivial, fun _ => ⟨fun _ => ⟨t_shownH hn R1.2.1.1 R1.2.1.2.1, trivial⟩, fun _ => trivial⟩⟩
  have tE : GX100_peek d (nI n) Mt = GX100_shown d (nI n) (fm_sI Mt 358 d 0 (Int32.ofInt 0)) := by
    unfold GX100_peek GX100_peek_0 GX100_peek_25
    dsimp only
    rw [fi_neg n0, fi_pos n2]
  rw [tE]
  by_cases h : thr n
  · obtain ⟨v, s1, s2, s3⟩ := rel_shown R1 hn h he
    have ht := (rel_there S z hn).mpr h
    refine ⟨?_, tH, v, ?_, s3⟩
    · refine ⟨fun q => absurd q n0, fun _ => ⟨fun q => absurd q n1, fun _ => ⟨hi, ?_⟩⟩⟩
      rw [nI_clamp (by omega)]
      exact ⟨fun q => absurd q ht, fun _ => ⟨hi, s2, trivial⟩⟩
    · unfold GX74_peek GX74_peek_0 GX74_peek_33
      unfold cSh at s1
      dsimp only
      rw [fi_neg n0, fi_neg n1, nI_clamp (by omega), fi_neg ht, s1]
  · have h0 : tbl Mc u n = 0 := Classical.byContradiction fun q => h ((rel_there S z hn).mp q)
    have hs : n ∉ tSp := fun q => h ((show ∀ n ∈ tSp, thr n by decide) n q)
    refine ⟨?_, tH, Int64.ofInt 0, ?_, ?_⟩
    · refine ⟨fun q => absurd q n0, fun _ => ⟨fun q => absurd q n1, fun _ => ⟨hi, ?_⟩⟩⟩
      rw [nI_clamp (by omega)]
      exact ⟨fun _ => trivial, fun q => absurd h0 q⟩
    · unfold GX74_peek GX74_peek_0 GX74_peek_20 GX74_peek_33
      dsimp only
      rw [fi_neg n0, fi_neg n1, nI_clamp (by omega), fi_pos h0]
    · rw [t_shown, t_def hn hs, fi_neg (fun q => h q.1)]
theorem peek_out {a : Int32} (h : a < 0 ∨ Int32.ofInt 4096 ≤ a) : HX74_peek u a Mc ∧ HX100_peek d a Mt ∧ GX74_peek u a Mc = (Int64.ofInt 0, Mc) ∧ GX100_peek d a Mt = (Int64.ofInt 0, fm_sI Mt 358 d 0 (Int32.ofInt 0)) := by
  unfold GX74_peek GX74_peek_0 GX74_peek_20 GX74_peek_33 GX100_peek GX100_peek_0 GX100_peek_16 GX100_peek_25
  dsimp only
  by_cases q : a < 0
  · rw [fi_pos q, fi_pos q]
    exact ⟨⟨fun _ => trivial, fun z => absurd q z⟩, ⟨fun _ => trivial, fun z => absurd q z⟩, rfl, rfl⟩
  · have q1 : Int32.ofInt 4096 ≤ a := h.resolve_left q
    have q2 : ¬ a ≤ Int32.ofInt 4095 := fun z => by
      have : Int32.ofInt 4096 ≤ Int32.ofInt 4095 := Int32.le_trans q1 z
      exact absurd this (by decide)
    rw [fi_neg q, fi_neg q, fi_pos q1, fi_neg q2]
    exact ⟨⟨fun z => absurd z q, fun _ => ⟨fun _ => trivial, fun z => absurd q1 z⟩⟩, ⟨fun z => absurd z q, fun _ => ⟨fun z => absurd z q2, fun _ => trivial⟩⟩, rfl, rfl⟩
theorem c_dataMode {p : Nat} (R : RelC u d k Mc Mt) (hp : Mc.2.2 213 p 0 = u) : GX46_dataMode p Mc = (fi (lb (ht Mt d 768) 17 = true) (tw (ht Mt d 768) 11) (Mt.1 360 d 0), Mc) := by
  obtain ⟨⟨Tc, nu, S, K⟩, -, v1, -, ⟨vm, hm⟩, -⟩ := R
  have e27 : Mc.2.2 27 u 0 = tbl Mc u 768 := S.2.2.1.1
  unfold GX46_dataMode GX46_dataMode_0 GX46_dataMode_37
  dsimp only
  rw [hp, e27, X78_has (k := 17) rfl (by decide), X78_two (k := 11) rfl (by decide), v1_at v1 cn_768]
  dsimp only
  rw [hp, fi_bz, vm, e27, v1_at v1 cn_768]
  exact fi_fst
end Pk
