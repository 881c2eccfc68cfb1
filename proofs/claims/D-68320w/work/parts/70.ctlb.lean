/-! control registers: what is shown is the same, all numbers -/
set_option maxRecDepth 100000
section Sh
variable {u d n : Nat} {k : Int32} {Mc Mt : FM} {s : Int64} {M : FM}
theorem t256 (T : Ty M) : GX100_shown_15 d (nI 256) s M = (((ht M d 768 &&& Int64.ofInt 811298) ||| Int64.ofInt 8589934592) ||| s, M) := by
  unfold GX100_shown_15
  rw [fi_pos (show nI 256 = Int32.ofInt 256 from rfl)]
  dsimp only
  rw [(X100_statusSeen _ M T).2, ssv_0]
  rfl
theorem t260 : GX100_shown_15 d (nI 260) s M = (ht M d 772 &&& ht M d 771, M) := by
  unfold GX100_shown_15
  rw [fi_neg (by decide), fi_pos (show nI 260 = Int32.ofInt 260 from rfl)]
  rfl
theorem t324 {L : Int64} (hl : GX100_lineBits d M = (L, M)) : GX100_shown_15 d (nI 324) s M = ((ht M d 836 ||| L) &&& ht M d 771, M) := by
  unfold GX100_shown_15
  rw [fi_neg (by decide), fi_neg (by decide), fi_pos (show nI 324 = Int32.ofInt 324 from rfl), hl]
  rfl
theorem t768 : GX100_shown_15 d (nI 768) s M = ((ht M d 768 ||| Int64.ofInt 42949672960) ||| s, M) := by
  unfold GX100_shown_15
  rw [fi_neg (by decide), fi_neg (by decide), fi_neg (by decide), fi_pos (show nI 768 = Int32.ofInt 768 from rfl)]
  rfl
theorem t769 : GX100_shown_15 d (nI 769) s M = (Int64.ofInt (-9223372036853460691), M) := by
  unfold GX100_shown_15
  rw [fi_neg (by decide), fi_neg (by decide), fi_neg (by decide), fi_neg (by decide), fi_pos (show nI 769 = Int32.ofInt 769 from rfl)]
theorem t836 {L : Int64} (hl : GX100_lineBits d M = (L, M)) : GX100_shown_15 d (nI 836) s M = (ht M d 836 ||| L, M) := by
  unfold GX100_shown_15
  rw [fi_neg (by decide), fi_neg (by decide), fi_neg (by decide), fi_neg (by decide), fi_neg (by decide), fi_pos (show nI 836 = Int32.ofInt 836 from rfl), hl]
  rfl
theorem t3072 : GX100_shown_15 d (nI 3072) s M = (ht M d 2816, M) := by
  unfold GX100_shown_15
  rw [fi_neg (by decide), fi_neg (by decide), fi_neg (by decide), fi_neg (by decide), fi_neg (by decide), fi_neg (by decide), fi_pos (show nI 3072 = Int32.ofInt 3072 from rfl)]
  rfl
theorem t3073 : GX100_shown_15 d (nI 3073) s M = (M.2.1 363 d 0, M) := by
  unfold GX100_shown_15
  rw [fi_neg (by decide), fi_neg (by decide), fi_neg (by decide), fi_neg (by decide), fi_neg (by decide), fi_neg (by decide), fi_neg (by decide), fi_pos (show nI 3073 = Int32.ofInt 3073 from rfl)]
theorem t3074 : GX100_shown_15 d (nI 3074) s M = (ht M d 2818, M) := by
  unfold GX100_shown_15
  rw [fi_neg (by decide), fi_neg (by decide), fi_neg (by decide), fi_neg (by decide), fi_neg (by decide), fi_neg (by decide), fi_neg (by decide), fi_neg (by decide), fi_pos (show nI 3074 = Int32.ofInt 3074 from rfl)]
  rfl
theorem t3860 : GX100_shown_15 d (nI 3860) s M = ((M.1 359 d 0).toInt64, M) := by
  unfold GX100_shown_15
  rw [fi_neg (by decide), fi_neg (by decide), fi_neg (by decide), fi_neg (by decide), fi_neg (by decide), fi_neg (by decide), fi_neg (by decide), fi_neg (by decide), fi_neg (by decide), fi_pos (show nI 3860 = Int32.ofInt 3860 from rfl)]
theorem oSh_14 {x : Nat} (h : M.2.2 0 x 0 = 14) : oSh x M = (M.2.1 41 x 0, M) := fi_pos (isT h (by decide) (by decide))
theorem oSh_15 {x : Nat} (h : M.2.2 0 x 0 = 15) : oSh x M = (M.2.1 41 x 0 ||| M.2.1 43 x 0, M) := by
  unfold oSh
  rw [fi_neg (isN h (by decide)), fi_pos (isT h (by decide) (by decide))]
  rfl
theorem oSh_16 {x : Nat} (h : M.2.2 0 x 0 = 16) : oSh x M = (((M.2.1 41 x 0) ||| Int64.ofInt 42949672960) ||| dty (M.2.1 41 x 0), M) := by
  unfold oSh
  rw [fi_neg (isN h (by decide)), fi_neg (isN h (by decide)), fi_pos (isT h (by decide) (by decide))]
  exact c78_show
theorem or_00 (x : Int64) : x ||| Int64.ofInt 0 = x := lb_ext fun i _ => by rw [lb_or, lb_0, Bool.or_false]
theorem rel_shown (R : RelC u d k Mc Mt) (hn : n < 4096) (h : thr n) (he : ¬ els n) : ∃ v, cSh (tbl Mc u n) Mc = (v, Mc) ∧ cShH (tbl Mc u n) Mc ∧ GX100_shown d (nI n) Mt = (v, Mt) := by
  have R0 := R
  obtain ⟨⟨Tc, nu, S, K⟩, ⟨Tt, nd, ⟨z1, z2⟩, I1, I2, I3, I4, I5⟩, v1, vl, ⟨vm, hm⟩, vc⟩ := R
  obtain ⟨s1, s2, -, -, -, ⟨ck, -⟩, ⟨w1, w1o, w1s⟩, ⟨w2, w2o, w2s⟩, ⟨w3, w3o, w3s⟩, ⟨w4, w4o, w5, w5o, w6, w6o⟩, s3, ⟨s4, s5, s6⟩, s7⟩ := S
  obtain ⟨m1, ⟨m2, m3, m4⟩, ⟨m5, m6⟩, ⟨m7, m8⟩, m9, m10, m11, m12⟩ := K
  have hl := (rel_lineBits R0).2
  have hv : ∀ {q : Nat}, cN q → Mc.2.1 41 (tbl Mc u q) 0 = ht Mt d q := fun hq => v1_at v1 hq
  rw [t_shown]
  have a := an_of h
  unfold anB at a
  rw [Bool.or_eq_true, Bool.or_eq_true, Bool.or_eq_true] at a
  rcases a with ((a | a) | a) | a
  · obtain ⟨q, hq, e⟩ := List.any_eq_true.mp a
    have e := Nat.eq_of_beq_eq_true e
    have tg := s1 q hq
    have vq := v1 q hq
    rw [e] at tg vq
    by_cases c : q.2.1 = 14 ∨ q.2.1 = 17
    · have hs : n ∉ tSp := by
        have := (show ∀ q ∈ cH, (q.2.1 = 14 ∨ q.2.1 = 17) → q.1 ∉ tSp by decide) q hq c
        rw [e] at this
        exact this
      refine ⟨ht Mt d n, ?_, ?_, ?_⟩
      · rw [← vq]
        rcases c with c | c
        · exact cSh_14 (tg.trans c)
        · exact cSh_17 (tg.trans c)
      · rcases c with c | c
        · exact cShH_s tg (by omega) (by omega)
        · exact cShH_s tg (by omega) (by omega)
      · rw [t_def hn hs, fi_pos ⟨h, he⟩]
    · have := (show ∀ q ∈ cH, ¬ (q.2.1 = 14 ∨ q.2.1 = 17) → (q.1 = 768 ∧ q.2.1 = 16) ∨ (q.1 = 836 ∧ q.2.1 = 15) by decide) q hq c
      rw [e] at this
      rcases this with ⟨rfl, c⟩ | ⟨rfl, c⟩
      · rw [c] at tg
        exact ⟨_, by rw [cSh_16 tg, vq], cShH_s tg (by decide) (by decide), t768⟩
      · rw [c] at tg
        exact ⟨_, by rw [cSh_15 tg, vq], cShH_s tg (by decide) (by decide), t836 hl⟩
  · obtain ⟨q, hq, e⟩ := List.any_eq_true.mp a
    have e := Nat.eq_of_beq_eq_true e
    have tg := (s3 q hq).1
    rw [e] at tg hq
    have hq' : n = 769 ∨ n = 3860 ∨ n ∈ [3857, 3858, 3859, 3861] := by
      simp only [cK, List.mem_cons, List.not_mem_nil, or_false] at hq ⊢
      omega
    rcases hq' with rfl | rfl | hz
    · exact ⟨_, by rw [cSh_13 tg, m9], cShH_s tg (by decide) (by decide), t769⟩
    · exact ⟨_, by rw [cSh_13 tg, m11, ← z1], cShH_s tg (by decide) (by decide), t3860⟩
    · refine ⟨_, by rw [cSh_13 tg, m10 n hz], cShH_s tg (by decide) (by decide), ?_⟩
      rw [t_def hn ((show ∀ n ∈ [3857, 3858, 3859, 3861], n ∉ tSp by decide) n hz), fi_pos ⟨h, he⟩, z2 n hz]
  · obtain ⟨q, hq, e⟩ := List.any_eq_true.mp a
    have e := Nat.eq_of_beq_eq_true e
    rw [e] at hq
    exact absurd ((show ∀ p ∈ cE, els p by decide) n hq) he
  · obtain ⟨q, hq, e⟩ := List.any_eq_true.mp a
    have e := Nat.eq_of_beq_eq_true e
    rw [e] at hq
    have hq' : n = 256 ∨ n = 260 ∨ n = 324 ∨ n = 3072 ∨ n = 3073 ∨ n = 3074 := by simpa using hq
    rcases hq' with rfl | rfl | rfl | rfl | rfl | rfl
    · have o := (congrArg (fun x => oSh x Mc) w1o).trans (oSh_16 (tg_of s1 rfl))
      refine ⟨_, cSh_19 w1 o (Or.inl ⟨w1s, m2⟩), cShH_19 w1 o (Or.inl w1s), ?_⟩
      rw [t256 Tt, m4, hv cn_768, st_256 I5]
    · have o := (congrArg (fun x => oSh x Mc) w2o).trans (oSh_14 (tg_of s1 rfl))
      have w2t : Mc.2.2 0 (Mc.2.2 46 (tbl Mc u 260) 0) 0 = 14 := by
        rw [w2s]
        exact tg_of s1 rfl
      refine ⟨_, cSh_19 w2 o (Or.inr ⟨w2t, rfl⟩), cShH_19 w2 o (Or.inr w2t), ?_⟩
      rw [t260, m6, or_00, w2s, hv (cn_of rfl), hv (cn_of rfl)]
    · have o := (congrArg (fun x => oSh x Mc) w3o).trans (oSh_15 (tg_of s1 rfl))
      have w3t : Mc.2.2 0 (Mc.2.2 46 (tbl Mc u 324) 0) 0 = 14 := by
        rw [w3s]
        exact tg_of s1 rfl
      refine ⟨_, cSh_19 w3 o (Or.inr ⟨w3t, rfl⟩), cShH_19 w3 o (Or.inr w3t), ?_⟩
      rw [t324 hl, m8, or_00, w3s, hv (cn_of rfl), hv (cn_of rfl)]
    · have o : Mc.2.2 0 (Mc.2.2 44 (tbl Mc u 3072) 0) 0 = 14 := by
        rw [w4o]
        exact tg_of s1 rfl
      exact ⟨_, cSh_18 w4 o, cShH_18 w4 o, by rw [t3072, w4o, hv (cn_of rfl)]⟩
    · have o : Mc.2.2 0 (Mc.2.2 44 (tbl Mc u 3073) 0) 0 = 14 := by
        rw [w5o]
        exact ck
      exact ⟨_, cSh_18 w5 o, cShH_18 w5 o, by rw [t3073, w5o, vc]⟩
    · have o : Mc.2.2 0 (Mc.2.2 44 (tbl Mc u 3074) 0) 0 = 14 := by
        rw [w6o]
        exact tg_of s1 rfl
      exact ⟨_, cSh_18 w6 o, cShH_18 w6 o, by rw [t3074, w6o, hv (cn_of rfl)]⟩
end Sh
