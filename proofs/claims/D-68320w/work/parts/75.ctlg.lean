/-! control registers: writes keep the relation -/
set_option maxRecDepth 100000
section Wr
variable {u d n x : Nat} {k : Int32} {Mc Mt M : FM} {v : Int64}
theorem h34_s {t : Nat} (h : M.2.2 0 x 0 = t) (h1 : 13 ≤ t) (h2 : t ≤ 18) : HX75_access_34 x v M := by
  have c : t = 13 ∨ t = 14 ∨ t = 15 ∨ t = 16 ∨ t = 17 ∨ t = 18 := by omega
  rcases c with rfl | rfl | rfl | rfl | rfl | rfl
  · exact ⟨⟨fun _ => trivial, fun q => absurd (isT h (by decide) (by decide)) q⟩, trivial⟩
  · exact ⟨⟨fun _ => trivial, fun _ => ⟨fun _ => trivial, fun q => absurd (isT h (by decide) (by decide)) q⟩⟩, trivial⟩
  · exact ⟨⟨fun _ => trivial, fun _ => ⟨fun _ => trivial, fun _ => ⟨fun _ => trivial, fun q => absurd (isT h (by decide) (by decide)) q⟩⟩⟩, trivial⟩
  · exact ⟨⟨fun _ => trivial, fun _ => ⟨fun _ => trivial, fun _ => ⟨fun _ => trivial, fun _ => ⟨fun _ => trivial, fun q => absurd (isT h (by decide) (by decide)) q⟩⟩⟩⟩, trivial⟩
  · exact ⟨⟨fun _ => trivial, fun _ => ⟨fun _ => trivial, fun _ => ⟨fun _ => trivial, fun _ => ⟨fun _ => trivial, fun _ => ⟨fun _ => trivial, fun q => absurd (isT h (by decide) (by decide)) q⟩⟩⟩⟩⟩, trivial⟩
  · exact ⟨⟨fun _ => trivial, fun _ => ⟨fun _ => trivial, fun _ => ⟨fun _ => trivial, fun _ => ⟨fun _ => trivial, fun _ => ⟨fun _ => trivial, fun _ => ⟨fun _ => trivial, fun q => absurd (isT h (by decide) (by decide)) q⟩⟩⟩⟩⟩⟩, trivial⟩
theorem h34_19 (h3 : M.2.2 0 (M.2.2 46 x 0) 0 = 13 ∨ M.2.2 0 (M.2.2 46 x 0) 0 = 14) : HX75_access_34 x v M :=
  ⟨⟨fun _ => trivial, fun _ => ⟨fun _ => trivial, fun _ => ⟨fun _ => trivial, fun _ => ⟨fun _ => trivial, fun _ => ⟨fun _ => trivial, fun _ => ⟨fun _ => trivial, fun _ => by
    rcases h3 with t | t
    · exact ⟨⟨fun _ => trivial, fun q => absurd (isT t (by decide) (by decide)) q⟩, trivial⟩
    · exact ⟨⟨fun _ => trivial, fun _ => ⟨fun _ => trivial, fun q => absurd (isT t (by decide) (by decide)) q⟩⟩, trivial⟩⟩⟩⟩⟩⟩⟩, trivial⟩
/-- what a write leaves -/
def Lv (u d : Nat) (Mc Mt Nc Nt : FM) : Prop := Nc.2.1 38 u 0 = Mc.2.1 38 u 0 ∧ Nt.2.1 364 d 0 = Mt.2.1 364 d 0 ∧ Nc.1 = Mc.1 ∧ Nt.1 = Mt.1
/-- what a write comes to: one register on each side -/
theorem rel_one (R : RelC u d k Mc Mt) (hn : n < 4096) (hq : cN n) {x m : Nat} (hH : HX75_access_34 x v Mc) (his : fm_is Mc 13 19 x = true) (a : Int64) (ok : okW n a) (ec : GX75_access_34 x v Mc = fm_sL Mc 41 (tbl Mc u n) 0 a) (hm : m < 4096) (et : GX100_write d (nI m) v Mt = fm_sL Mt 3 (Mt.2.2 361 d 0) n a) : RelC u d k (GX75_access_34 x v Mc) (GX100_write d (nI m) v Mt) ∧ Lv u d Mc Mt (GX75_access_34 x v Mc) (GX100_write d (nI m) v Mt) := by
  have Tc := (gX75_access_34 x v Mc R.1.1 his hH).2.1
  have Tt := (gX100_write d (nI m) v Mt R.2.1.1 R.2.1.2.1 (t_writeH R.2.1.1 R.2.1.2.1 hm)).2.1
  rw [ec] at Tc ⊢
  rw [et] at Tt ⊢
  exact ⟨relC_w1 R hq a ok Tc Tt, rLf (by decide), rLf (by decide), rfl, rfl⟩
theorem ok_o (h1 : n ≠ 768) (h2 : n ≠ 833) (h3 : n ≠ 321) (h4 : n ≠ 384) (a : Int64) : okW n a := ⟨fun z => absurd z h1, fun z => z.elim (fun y => absurd y h2) (fun y => absurd y h3), fun z => absurd z h4⟩
theorem rel_write (R : RelC u d k Mc Mt) (hn : n < 4096) (h : thr n) (he : ¬ els n) (hw : ¬ n / 1024 = 3) (v : Int64) :
    HX75_access_34 (tbl Mc u n) v Mc ∧ fm_is Mc 13 19 (tbl Mc u n) = true ∧ RelC u d k (GX75_access_34 (tbl Mc u n) v Mc) (GX100_write d (nI n) v Mt) ∧ Lv u d Mc Mt (GX75_access_34 (tbl Mc u n) v Mc) (GX100_write d (nI n) v Mt) := by
  have R0 := R
  obtain ⟨⟨Tc, nu, S, K⟩, ⟨Tt, nd, ⟨z1, z2⟩, I1, I2, I3, I4, I5⟩, v1, vl, ⟨vm, hm⟩, vc⟩ := R
  obtain ⟨s1, s2, -, -, -, ⟨ck, -⟩, ⟨w1, w1o, w1s⟩, ⟨w2, w2o, w2s⟩, ⟨w3, w3o, w3s⟩, ⟨w4, w4o, w5, w5o, w6, w6o⟩, s3, ⟨s4, s5, s6⟩, s7⟩ := S
  obtain ⟨m1, ⟨m2, m3, m4⟩, ⟨m5, m6⟩, ⟨m7, m8⟩, m9, m10, m11, m12⟩ := K
  have hv : ∀ {q : Nat}, cN q → Mc.2.1 41 (tbl Mc u q) 0 = ht Mt d q := fun hq => v1_at v1 hq
  have a := an_of h
  unfold anB at a
  rw [Bool.or_eq_true, Bool.or_eq_true, Bool.or_eq_true] at a
  rcases a with ((a | a) | a) | a
  · obtain ⟨q, hq, e⟩ := List.any_eq_true.mp a
    have e := Nat.eq_of_beq_eq_true e
    have tg := s1 q hq
    have mq := m1 q hq
    have vq := v1 q hq
    have rg := (show ∀ q ∈ cH, 13 ≤ q.2.1 ∧ q.2.1 ≤ 17 by decide) q hq
    have hH : HX75_access_34 (tbl Mc u q.1) v Mc := h34_s tg rg.1 (by omega)
    have his : fm_is Mc 13 19 (tbl Mc u q.1) = true := isT tg rg.1 (by omega)
    have hc : cN q.1 := ⟨q, hq, rfl⟩
    rw [← e] at hn ⊢
    refine ⟨hH, his, ?_⟩
    by_cases c : q.2.1 = 14 ∨ q.2.1 = 15
    · refine rel_one R0 hn hc hH his (thv (ht Mt d q.1) q.2.2 v) ⟨fun z => ?_, fun z => ?_, fun z => ?_⟩ ?_ hn (t_wq hq c)
      · exact absurd c ((show ∀ q ∈ cH, q.1 = 768 → ¬ (q.2.1 = 14 ∨ q.2.1 = 15) by decide) q hq z)
      · have e2 := (show ∀ q ∈ cH, (q.1 = 833 ∨ q.1 = 321) → q.2.2 = Int64.ofInt (-2) by decide) q hq z
        rw [thv_b _ _ _ 0 (by decide), e2, if_neg (by decide)]
        rcases z with z | z
        · rw [z]; exact I2
        · rw [z]; exact I3
      · exact absurd c ((show ∀ q ∈ cH, q.1 = 384 → ¬ (q.2.1 = 14 ∨ q.2.1 = 15) by decide) q hq z)
      · rw [cW_14 (c.imp (fun y => tg.trans y) (fun y => tg.trans y)), vq, mq]
    · have := (show ∀ q ∈ cH, ¬ (q.2.1 = 14 ∨ q.2.1 = 15) → q = (768, 16, Int64.ofInt 8288682) ∨ q = (384, 17, Int64.ofInt (-1)) by decide) q hq c
      rcases this with rfl | rfl
      · refine rel_one R0 hn hc hH his (stW (ht Mt d 768) (Int64.ofInt 8288682) v) ⟨fun _ => ⟨stW_tw _ _ I1, stW_mk I5 I1 (fun i _ y => y)⟩, fun z => absurd z (by decide), fun z => absurd z (by decide)⟩ ?_ hn (t768w Tt)
        rw [cW_16 tg, c78_write (by rw [vq]; exact I1), vq, mq]
      · refine rel_one R0 hn hc hH his (fi (kndP v) v (ht Mt d 384)) ⟨fun z => absurd z (by decide), fun z => absurd z (by decide), fun _ => ?_⟩ ?_ hn t384
        · by_cases kp : kndP v
          · rw [fi_pos kp]; exact kp
          · rw [fi_neg kp]; exact I4
        · rw [cW_17 tg, c82_write mq, vq]
  · obtain ⟨q, hq, e⟩ := List.any_eq_true.mp a
    have e := Nat.eq_of_beq_eq_true e
    have tg := (s3 q hq).1
    rw [e] at tg hq
    have h9 : n = 769 := by
      simp only [cK, List.mem_cons, List.not_mem_nil, or_false] at hq
      omega
    subst h9
    refine ⟨h34_s tg (by decide) (by decide), isT tg (by decide) (by decide), ?_⟩
    rw [cW_13 tg, t769w]
    exact ⟨R0, rfl, rfl, rfl, rfl⟩
  · obtain ⟨q, hq, e⟩ := List.any_eq_true.mp a
    have e := Nat.eq_of_beq_eq_true e
    rw [e] at hq
    exact absurd ((show ∀ p ∈ cE, els p by decide) n hq) he
  · obtain ⟨q, hq, e⟩ := List.any_eq_true.mp a
    have e := Nat.eq_of_beq_eq_true e
    rw [e] at hq
    have hq' : n = 256 ∨ n = 260 ∨ n = 324 ∨ n = 3072 ∨ n = 3073 ∨ n = 3074 := by simpa using hq
    rcases hq' with rfl | rfl | rfl | rfl | rfl | rfl
    · have hH : HX75_access_34 (tbl Mc u 256) v Mc := h34_19 (Or.inl w1s)
      have his : fm_is Mc 13 19 (tbl Mc u 256) = true := isT w1 (by decide) (by decide)
      have ea : stW (ht Mt d 768) (Int64.ofInt 811298) v = thv (ht Mt d 768) (Int64.ofInt 811298) v := stW_lo I1 (by decide) (by decide)
      refine ⟨hH, his, rel_one R0 (by decide) cn_768 hH his (stW (ht Mt d 768) (Int64.ofInt 811298) v) ⟨fun _ => ⟨stW_tw _ _ I1, stW_mk I5 I1 (by decide)⟩, fun z => absurd z (by decide), fun z => absurd z (by decide)⟩ ?_ hn (t256w Tt)⟩
      rw [cW_19 w1 (Or.inl ⟨w1s, m2⟩), w1o, m3, hv cn_768, ea]
      rfl
    · have w2t : Mc.2.2 0 (Mc.2.2 46 (tbl Mc u 260) 0) 0 = 14 := by
        rw [w2s]
        exact tg_of s1 rfl
      have hH : HX75_access_34 (tbl Mc u 260) v Mc := h34_19 (Or.inr w2t)
      have his : fm_is Mc 13 19 (tbl Mc u 260) = true := isT w2 (by decide) (by decide)
      refine ⟨hH, his, rel_one R0 (n := 772) (by decide) (cn_of rfl) hH his _ (ok_o (by decide) (by decide) (by decide) (by decide) _) ?_ hn t260w⟩
      have em : ∀ y : Int64, y &&& Int64.ofInt (-1) = y := fun y => lb_ext fun i hi => by rw [lb_and, lb_m1 i hi, Bool.and_true]
      rw [cW_19 w2 (Or.inr ⟨w2t, rfl⟩), w2o, w2s, m5, em, hv (cn_of rfl), hv (cn_of rfl)]
    · have w3t : Mc.2.2 0 (Mc.2.2 46 (tbl Mc u 324) 0) 0 = 14 := by
        rw [w3s]
        exact tg_of s1 rfl
      have hH : HX75_access_34 (tbl Mc u 324) v Mc := h34_19 (Or.inr w3t)
      have his : fm_is Mc 13 19 (tbl Mc u 324) = true := isT w3 (by decide) (by decide)
      refine ⟨hH, his, rel_one R0 (n := 836) (by decide) (cn_of rfl) hH his _ (ok_o (by decide) (by decide) (by decide) (by decide) _) ?_ hn t324w⟩
      rw [cW_19 w3 (Or.inr ⟨w3t, rfl⟩), w3o, w3s, m7, hv (cn_of rfl), hv (cn_of rfl)]
    · exact absurd rfl hw
    · exact absurd rfl hw
    · exact absurd rfl hw
end Wr
