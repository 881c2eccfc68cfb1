/-! control registers: access, whole -/
set_option maxRecDepth 100000
section Ac
variable {u d n x : Nat} {k op w : Int32} {Mc Mt M : FM} {v : Int64}
theorem tg15 (S : StC u Mc) (hn : n < 4096) (h : thr n) (he : ¬ els n) : Mc.2.2 0 (tbl Mc u n) 0 = 15 ↔ n = 836 := by
  obtain ⟨s1, s2, -, -, -, ⟨ck, -⟩, ⟨w1, w1o, w1s⟩, ⟨w2, w2o, w2s⟩, ⟨w3, w3o, w3s⟩, ⟨w4, w4o, w5, w5o, w6, w6o⟩, s3, ⟨s4, s5, s6⟩, s7⟩ := S
  constructor
  · intro tg
    have a := an_of h
    unfold anB at a
    rw [Bool.or_eq_true, Bool.or_eq_true, Bool.or_eq_true] at a
    rcases a with ((a | a) | a) | a
    · obtain ⟨q, hq, e⟩ := List.any_eq_true.mp a
      have e := Nat.eq_of_beq_eq_true e
      have t := s1 q hq
      rw [e, tg] at t
      have := (show ∀ q ∈ cH, 15 = q.2.1 → q.1 = 836 by decide) q hq t
      rw [← e]
      exact this
    · obtain ⟨q, hq, e⟩ := List.any_eq_true.mp a
      have e := Nat.eq_of_beq_eq_true e
      have t := (s3 q hq).1
      rw [e, tg] at t
      cases t
    · obtain ⟨q, hq, e⟩ := List.any_eq_true.mp a
      have e := Nat.eq_of_beq_eq_true e
      rw [e] at hq
      exact absurd ((show ∀ p ∈ cE, els p by decide) n hq) he
    · obtain ⟨q, hq, e⟩ := List.any_eq_true.mp a
      have e := Nat.eq_of_beq_eq_true e
      rw [e] at hq
      have hq' : n = 256 ∨ n = 260 ∨ n = 324 ∨ n = 3072 ∨ n = 3073 ∨ n = 3074 := by simpa using hq
      rcases hq' with rfl | rfl | rfl | rfl | rfl | rfl
      · rw [tg] at w1; cases w1
      · rw [tg] at w2; cases w2
      · rw [tg] at w3; cases w3
      · rw [tg] at w4; cases w4
      · rw [tg] at w5; cases w5
      · rw [tg] at w6; cases w6
  · rintro rfl
    exact tg_of s1 rfl
theorem rel_access (R : RelC u d k Mc Mt) (z : Mc.2.2 0 0 0 = 0) (hn : n < 4096) (hop : op = Int32.ofInt 1 ∨ op = Int32.ofInt 2 ∨ op = Int32.ofInt 3) :
    HX74_access u (nI n) op w v Mc ∧ HX100_access d (nI n) op w v Mt ∧ ∃ r Nc Nt, GX74_access u (nI n) op w v Mc = (r, Nc) ∧ GX100_access d (nI n) op w v Mt = (r, Nt) ∧ RelC u d k Nc Nt ∧ Nt.1 358 d 0 = 0 ∧
      ((r = Int32.ofInt 0 ∧ Nc.2.1 38 u 0 = Nt.2.1 364 d 0 ∧ ¬ els n ∧ thr n) ∨ (r = Int32.ofInt 1 ∧ els n) ∨ r = Int32.ofInt 2) := by
  obtain ⟨P, i1, i2, i3⟩ := rel_ill (w := w) R z hn
  have R1 : RelC u d k Mc (fm_sI Mt 358 d 0 (Int32.ofInt 0)) := rel_t358 R _
  obtain ⟨P', j1, j2, -⟩ := rel_ill (w := w) R1 z hn
  have hP : bz P = bz P' := congrArg Prod.fst (i1.symm.trans j1)
  rw [← hP] at j2
  have S := R.1.2.2.1
  have e27 : Mc.2.2 27 u 0 = tbl Mc u 768 := S.2.2.1.1
  have hi : fm_in Mc (Mc.2.2 25 u 0) (nI n) = true := in_u (tL_25 R.1.1.1 R.1.2.1) (by rw [ui_nI]; omega) (by decide)
  have tA : GX100_access d (nI n) op w v Mt = GX100_access_27 d (nI n) op w v d (Int32.ofInt 0) Mt := by
    unfold GX100_access GX100_access_0
    rw [fi_neg (fun z => by have := (nlt0 hn).mp z; omega), fi_neg (fun z => by have := (ngt hn 4095 (by decide)).mp z; omega), fi_neg (by rcases hop with rfl | rfl | rfl <;> decide), fi_pos (by rcases hop with rfl | rfl | rfl <;> decide)]
  have tH : HX100_access_27 d (nI n) op w v d (Int32.ofInt 0) Mt → HX100_access d (nI n) op w v Mt := fun q =>
    ⟨fun z => absurd z (fun z => by have := (nlt0 hn).mp z; omega), fun _ => ⟨fun z => absurd z (fun z => by have := (ngt hn 4095 (by decide)).mp z; omega), fun _ => ⟨fun z => absurd z (by rcases hop with rfl | rfl | rfl <;> decide), fun _ => ⟨fun _ => q, fun z => absurd (show op ≤ Int32.ofInt 3 by rcases hop with rfl | rfl | rfl <;> decide) z⟩⟩⟩⟩
  have h00 : (fm_sI Mt 358 d 0 (Int32.ofInt 0)).1 358 d 0 ≤ 0 := by
    rw [rI, if_pos ⟨rfl, rfl, rfl⟩]
    decide
  by_cases hp : P
  · -- illegal
    refine ⟨⟨c_illH R.1.1 R.1.2.1 S hn, ?_⟩, tH ?_, Int32.ofInt 2, Mc, fm_sI Mt 358 d 0 (Int32.ofInt 0), ?_, ?_, R1, ?_, Or.inr (Or.inr rfl)⟩
    · rw [i1]
      exact ⟨fun q => absurd hp (bz_0.mp q), fun _ => trivial⟩
    · refine ⟨fun _ => ?_, fun _ => trivial⟩
      rw [j2]
      exact ⟨fun q => absurd hp (bz_0.mp q), fun _ => trivial⟩
    · unfold GX74_access GX74_access_0
      dsimp only
      rw [i1]
      dsimp only
      rw [fi_neg (fun q => bz_0.mp q hp)]
    · rw [tA]
      unfold GX100_access_27
      dsimp only
      rw [fi_pos h00, j2]
      dsimp only
      rw [fi_neg (fun q => bz_0.mp q hp)]
    · rw [rI, if_pos ⟨rfl, rfl, rfl⟩]
      rfl
  · obtain ⟨hth, h3⟩ := i3 hp
    have hz : bz P = 0 := bz_0.mpr hp
    by_cases he : els n
    · -- elsewhere
      have e26 : tbl Mc u n = Mc.2.2 26 u 0 := (els_there S hn hth).mpr he
      have hE : GX100_isElsewhere (nI n) (fm_sI Mt 358 d 0 (Int32.ofInt 0)) = (bz True, fm_sI Mt 358 d 0 (Int32.ofInt 0)) := by
        rw [X100_isElsewhere hn]
        exact Prod.ext ((bz_t he).trans (bz_t trivial).symm) rfl
      have RD := rel_dirty2 R1
      by_cases hw : ¬ w = 0 ∧ n < 4
      · refine ⟨⟨c_illH R.1.1 R.1.2.1 S hn, ?_⟩, tH ?_, Int32.ofInt 1, _, _, ?_, ?_, RD, ?_, Or.inr (Or.inl ⟨rfl, he⟩)⟩
        · rw [i1]
          refine ⟨fun _ => ⟨hi, ?_⟩, fun _ => trivial⟩
          rw [nI_clamp (by omega)]
          exact ⟨fun _ => trivial, fun q => absurd e26 q⟩
        · refine ⟨fun _ => ?_, fun _ => trivial⟩
          rw [j2]
          refine ⟨fun _ => ?_, fun _ => trivial⟩
          rw [hE]
          exact ⟨fun q => absurd (bz_0.mp q) (fun y => y trivial), fun _ => trivial⟩
        · unfold GX74_access GX74_access_0 GX74_access_47
          dsimp only
          rw [i1]
          dsimp only
          rw [fi_pos hz, nI_clamp (by omega), fi_pos e26, fi_neg hw.1, fi_neg (fun q => by have := (nge hn 4 (by decide)).mp q; omega), e27]
        · rw [tA]
          unfold GX100_access_27 GX100_access_80
          dsimp only
          rw [fi_pos h00, j2]
          dsimp only
          rw [fi_pos hz, hE]
          dsimp only
          rw [fi_neg (fun q => bz_0.mp q trivial), fi_neg hw.1, fi_neg (fun q => by have := (nge hn 4 (by decide)).mp q; omega)]
        · rw [tput_I, tput_I, rI, if_pos ⟨rfl, rfl, rfl⟩]
          rfl
      · refine ⟨⟨c_illH R.1.1 R.1.2.1 S hn, ?_⟩, tH ?_, Int32.ofInt 1, Mc, fm_sI Mt 358 d 0 (Int32.ofInt 0), ?_, ?_, R1, ?_, Or.inr (Or.inl ⟨rfl, he⟩)⟩
        · rw [i1]
          refine ⟨fun _ => ⟨hi, ?_⟩, fun _ => trivial⟩
          rw [nI_clamp (by omega)]
          exact ⟨fun _ => trivial, fun q => absurd e26 q⟩
        · refine ⟨fun _ => ?_, fun _ => trivial⟩
          rw [j2]
          refine ⟨fun _ => ?_, fun _ => trivial⟩
          rw [hE]
          exact ⟨fun q => absurd (bz_0.mp q) (fun y => y trivial), fun _ => trivial⟩
        · unfold GX74_access GX74_access_0 GX74_access_47
          dsimp only
          rw [i1]
          dsimp only
          rw [fi_pos hz, nI_clamp (by omega), fi_pos e26]
          by_cases h0 : w = 0
          · rw [fi_pos h0]
          · rw [fi_neg h0, fi_pos ((nge hn 4 (by decide)).mpr (by have : ¬ n < 4 := fun y => hw ⟨h0, y⟩; omega))]
        · rw [tA]
          unfold GX100_access_27 GX100_access_80
          dsimp only
          rw [fi_pos h00, j2]
          dsimp only
          rw [fi_pos hz, hE]
          dsimp only
          rw [fi_neg (fun q => bz_0.mp q trivial)]
          by_cases h0 : w = 0
          · rw [fi_pos h0]
          · rw [fi_neg h0, fi_pos ((nge hn 4 (by decide)).mpr (by have : ¬ n < 4 := fun y => hw ⟨h0, y⟩; omega))]
        · rw [rI, if_pos ⟨rfl, rfl, rfl⟩]
          rfl
    · -- a register
      have e26 : ¬ tbl Mc u n = Mc.2.2 26 u 0 := fun q => he ((els_there S hn hth).mp q)
      have hE : GX100_isElsewhere (nI n) (fm_sI Mt 358 d 0 (Int32.ofInt 0)) = (bz False, fm_sI Mt 358 d 0 (Int32.ofInt 0)) := by
        rw [X100_isElsewhere hn]
        exact Prod.ext ((bz_f he).trans (bz_f id).symm) rfl
      obtain ⟨y, sh1, sh2, sh3⟩ := rel_shown R1 hn hth he
      have R8 : RelC u d k (fm_sL Mc 38 u 0 y) (fm_sI Mt 358 d 0 (Int32.ofInt 0)) := rel_c38 R1 (Or.inl rfl) y
      have R5 : RelC u d k (fm_sL Mc 38 u 0 y) (fm_sL (fm_sI Mt 358 d 0 (Int32.ofInt 0)) 364 d 0 y) := rel_t364 R8 (Or.inl rfl) y
      obtain ⟨y', g1, g2, g3⟩ := rel_shown R8 hn hth he
      have ey : y' = y := congrArg Prod.fst (g3.symm.trans sh3)
      subst ey
      have S8 := R8.1.2.2.1
      have ll := rel_lineBits R5
      -- what an operation starts from
      obtain ⟨b, hb, hbt⟩ : ∃ b, cBs (tbl Mc u n) (fm_sL Mc 38 u 0 y') = (b, fm_sL Mc 38 u 0 y') ∧ (∀ a, (nI n = Int32.ofInt 836 → a = (Mt.2.1 3 (Mt.2.2 361 d 0) (Int32.ofInt 836).toNatClampNeg ||| ((fm_sL Mc 38 u 0 y').2.1 43 (tbl (fm_sL Mc 38 u 0 y') u 836) 0 &&& Int64.ofInt (-513)))) → (¬ nI n = Int32.ofInt 836 → a = y') → a = b) := by
        by_cases c : n = 836
        · subst c
          refine ⟨_, cBs_15 ((tg15 S8 hn hth he).mpr rfl), fun a a1 _ => ?_⟩
          rw [a1 rfl]
          have e := v1_at R5.2.2.1 (n := 836) (cn_of rfl)
          have e2 : ht (fm_sL (fm_sI Mt 358 d 0 (Int32.ofInt 0)) 364 d 0 y') d 836 = ht Mt d 836 := rLf (by decide)
          rw [e2] at e
          show (ht Mt d 836 ||| _) = _
          rw [← e]
          rfl
        · refine ⟨y', ?_, fun a _ a2 => a2 (fun q => c (by have := (neq hn 836 (by decide)).mp q; omega))⟩
          have : (fm_sL Mc 38 u 0 y').2.2 0 (tbl (fm_sL Mc 38 u 0 y') u n) 0 ≠ 15 := fun q => c ((tg15 S8 hn hth he).mp q)
          exact (cBs_n this).trans g1
      have acc : GX100_access d (nI n) op w v Mt = GX100_access_122 d (nI n) op w v b (fm_sL (fm_sI Mt 358 d 0 (Int32.ofInt 0)) 364 d 0 y') := by
        rw [tA]
        unfold GX100_access_27
        dsimp only
        rw [fi_pos h00, j2]
        dsimp only
        rw [fi_pos hz, hE]
        dsimp only
        rw [fi_pos (show bz False = 0 from bz_0.mpr id), sh3]
        dsimp only
        by_cases c : nI n = Int32.ofInt 836
        · rw [fi_pos c, ll.2]
          dsimp only
          rw [← hbt _ (fun _ => rfl) (fun q => absurd c q)]
          rfl
        · rw [fi_neg c, sL_at, ← hbt y' (fun q => absurd q c) (fun _ => rfl)]
      have accC : GX74_access u (nI n) op w v Mc = fi (w = 0) (Int32.ofInt 0, fm_sL Mc 38 u 0 y') (Int32.ofInt 0, GX75_access_34 (tbl Mc u n) (opv op b v) (fm_sL Mc 38 u 0 y')) := by
        unfold GX74_access GX74_access_0 GX74_access_70
        dsimp only
        rw [i1]
        dsimp only
        unfold cSh at sh1
        rw [fi_pos hz, nI_clamp (by omega), fi_neg e26, sh1]
        dsimp only
        rw [c75_access hb]
      have hNt : ∀ N : FM, N.1 = (fm_sI Mt 358 d 0 (Int32.ofInt 0)).1 → N.1 358 d 0 = 0 := fun N e => by
        rw [e, rI, if_pos ⟨rfl, rfl, rfl⟩]
        rfl
      have hC : ∀ q : w = 0 ∨ (fm_is (fm_sL Mc 38 u 0 y') 13 19 (tbl Mc u n) = true ∧ ∀ y, HX75_access_34 (tbl Mc u n) y (fm_sL Mc 38 u 0 y')), HX74_access u (nI n) op w v Mc := fun q => by
        refine ⟨c_illH R.1.1 R.1.2.1 S hn, ?_⟩
        rw [i1]
        refine ⟨fun _ => ⟨hi, ?_⟩, fun _ => trivial⟩
        rw [nI_clamp (by omega)]
        refine ⟨fun q => absurd q e26, fun _ => ⟨sh2, ?_⟩⟩
        unfold cSh at sh1
        rw [sh1]
        refine ⟨fun _ => trivial, fun h0 => ?_⟩
        rcases q with q | q
        · exact absurd q h0
        · exact ⟨q.1, c75_accessH g2 hb q.2, trivial⟩
      have hT : HX100_access d (nI n) op w v Mt := by
        refine tH ⟨fun _ => ?_, fun _ => trivial⟩
        rw [j2]
        refine ⟨fun _ => ?_, fun _ => trivial⟩
        rw [hE]
        refine ⟨fun _ => ⟨t_shownH hn R1.2.1.1 R1.2.1.2.1, ?_⟩, fun _ => trivial⟩
        rw [sh3]
        refine ⟨fun _ => ⟨ll.1, ?_⟩, fun _ => t_accH (fun y => t_writeH R5.2.1.1 R5.2.1.2.1 hn)⟩
        rw [ll.2]
        exact t_accH (fun y => t_writeH R5.2.1.1 R5.2.1.2.1 hn)
      rw [t_acc] at acc
      by_cases h0 : w = 0
      · rw [fi_pos h0] at acc accC
        refine ⟨hC (Or.inl h0), hT, _, _, _, accC, acc, R5, hNt _ rfl, Or.inl ⟨rfl, ?_, he, hth⟩⟩
        rw [sL_at, sL_at]
      · rw [fi_neg h0] at acc accC
        have W := fun y => rel_write R5 hn hth he (h3 h0) y
        refine ⟨hC (Or.inr ⟨(W v).2.1, fun y => (W y).1⟩), hT, _, _, _, accC, acc, (W _).2.2.1, hNt _ (W _).2.2.2.2.2.2, Or.inl ⟨rfl, ?_, he, hth⟩⟩
        refine (W _).2.2.2.1.trans (Eq.trans ?_ (W _).2.2.2.2.1.symm)
        rw [sL_at, sL_at]
end Ac
