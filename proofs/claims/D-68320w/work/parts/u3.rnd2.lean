/-! the machine: rounds -/
set_option maxRecDepth 100000
section Re
variable {bd hv m hq s dd x dk q rq r sg bl cr np mc : Nat} {B B' Bk Vv y : Nat} {Mc Mt : FM}
theorem rnd_x (R : RelM bd hv m hq s dd x dk q rq r sg bl cr np mc B Bk Vv Mc Mt) (Q : RelR mc m B' Mc Mt) (h0 : B' ≤ B) (h1 : Mt.1 315 m 0 = Int32.ofInt (-1) → B' + 1 ≤ B) (hB : B < 2147483000) {j j' : Nat} (hj : 5 ≤ j) (hj' : 5 ≤ j') :
    ∃ Nc Nt, kX2_round (FX2_round_L fN j).1 (FX2_round_L fN j).2 (GX2_round_36 mc Mc) = some Nc ∧ kX92_round (FX92_round_L fN j').1 (FX92_round_L fN j').2 (GX92_round_34 m Mt) = some Nt ∧ RelM bd hv m hq s dd x dk q rq r sg bl cr np mc B Bk Vv Nc Nt ∧ RelR mc m B Nc Nt ∧ Sm m sg Nt Mt ∧ RamQ r Mc Nc := by
  have RR := relM_ram R
  obtain ⟨n92, np4⟩ := relM_m R
  have he := relM_e R
  have ilen := R.2.2.1
  by_cases E : Mt.1 315 m 0 = Int32.ofInt (-1)
  · obtain ⟨Nc, Nt, c1, c2, c3, c4, c5, c6⟩ := cyc_L np 0 Mc Mt (by omega) R Q (h1 E) hB j j' (by omega) (by omega)
    refine ⟨Nc, Nt, ?_, ?_, c3, c4, c5, c6⟩
    · unfold GX2_round_36
      try dsimp only
      rw [he, fi_pos E, ilen]
      exact c1
    · unfold GX92_round_34
      try dsimp only
      rw [fi_pos E]
      exact c2
  · refine ⟨Mc, Mt, ?_, ?_, R, relR_up h0 Q, sm_r, ramQ_r RR.1⟩
    · unfold GX2_round_36 GX2_round_120
      try dsimp only
      rw [he, fi_neg E]
      rfl
    · unfold GX92_round_34
      try dsimp only
      rw [fi_neg E]
      rfl
theorem rnd_L : ∀ (i y : Nat) (Mc Mt : FM), y + i = np → RelM bd hv m hq s dd x dk q rq r sg bl cr np mc (B + y) (Bk + y * 2560020) (Vv + y) Mc Mt → RelR mc m B Mc Mt → B + np < 2147483000 → Bk + np * 2560020 + 16 < 9223372036854775808 → Vv + np < 2147483648 → ∀ j j', i + 6 ≤ j → i + 6 ≤ j' →
    ∃ Nc Nt, (FX2_round_L fN j).1 mc (nI y) Mc = some Nc ∧ (FX92_round_L fN j').1 m (nI y) Mt = some Nt ∧ RelM bd hv m hq s dd x dk q rq r sg bl cr np mc (B + np) (Bk + np * 2560020) (Vv + np) Nc Nt ∧ RelR mc m (B + np) Nc Nt ∧ Sm m sg Nt Mt ∧ Evo r (i * 2560020) Mc Nc
  | 0, y, Mc, Mt, hy, R, Q, h1, h2, h3, j, j', hj, hj' => by
    obtain ⟨j, rfl⟩ : ∃ k, j = k + 1 := ⟨j - 1, by omega⟩
    obtain ⟨j', rfl⟩ : ∃ k, j' = k + 1 := ⟨j' - 1, by omega⟩
    have e : y = np := by omega
    subst e
    have RR := relM_ram R
    obtain ⟨n92, np4⟩ := relM_m R
    have ilen := R.2.2.1
    have v297 := R.2.2.2.2.1
    have inp := R.2.2.2.1
    obtain ⟨Nc, Nt, c1, c2, c3, c4, c5, c6⟩ := rnd_x R Q (by omega) (fun _ => by omega) h1 (j := j) (j' := j') (by omega) (by omega)
    have l1 : nI y ≤ nI y := (n_le (by omega) (by omega)).mpr (Nat.le_refl _)
    have l1' : Int32.ofNat (Mc.2.2 1 (Mc.2.2 190 mc 0) 0) ≤ nI y := by rw [ilen]; exact l1
    have l2 : Mt.1 297 m 0 ≤ nI y := by rw [v297]; exact l1
    refine ⟨Nc, Nt, ?_, ?_, c3, c4, c5, evo_w (evo_q' (evo_r r 0 Mc) c6) (by omega)⟩
    · have H : HX2_round_2 mc (nI y) Mc := ⟨fun _ => trivial, fun q => absurd l1' q⟩
      have G := (gX2_round_2 (FX2_round_L fN j).1 (FX2_round_L fN j).2 mc (nI y) Mc RR.1.1 R.1 H).1
      show FX2_round_2 fN (FX2_round_L fN j).1 (FX2_round_L fN j).2 mc (nI y) Mc = _
      rw [G]
      unfold GX2_round_2
      try dsimp only
      rw [fi_pos l1']
      exact c1
    · have H : HX92_round_2 m (nI y) Mt := ⟨fun _ => trivial, fun q => absurd l2 q⟩
      have G := (gX92_round_2 (FX92_round_L fN j').1 (FX92_round_L fN j').2 m (nI y) Mt RR.2.1.1 n92 H).1
      show FX92_round_2 fN (FX92_round_L fN j').1 (FX92_round_L fN j').2 m (nI y) Mt = _
      rw [G]
      unfold GX92_round_2
      try dsimp only
      rw [fi_pos l2]
      exact c2
  | i + 1, y, Mc, Mt, hy, R, Q, h1, h2, h3, j, j', hj, hj' => by
    obtain ⟨j, rfl⟩ : ∃ k, j = k + 1 := ⟨j - 1, by omega⟩
    obtain ⟨j', rfl⟩ : ∃ k, j' = k + 1 := ⟨j' - 1, by omega⟩
    have RR := relM_ram R
    obtain ⟨n92, np4⟩ := relM_m R
    have ilen := R.2.2.1
    have v297 := R.2.2.2.2.1
    have hyn : y < np := by omega
    have he := relM_e R
    have l1 : ¬ nI np ≤ nI y := fun q => by have := (n_le (by omega) (by omega)).mp q; omega
    have l1' : ¬ Int32.ofNat (Mc.2.2 1 (Mc.2.2 190 mc 0) 0) ≤ nI y := by rw [ilen]; exact l1
    have l2 : ¬ Mt.1 297 m 0 ≤ nI y := by rw [v297]; exact l1
    have yc : (nI y).toNatClampNeg = y := o_cl (by omega)
    have inr : fm_in Mc (Mc.2.2 190 mc 0) (nI y) = true := in_nI R.2.2.1 hyn (by omega)
    by_cases E : Mt.1 315 m 0 = Int32.ofInt (-1)
    · have E' : Mc.1 22 (Mc.2.2 189 mc 0) 0 = 0 := he.mpr E
      obtain ⟨s1, s2, s3, R2, b2, E2, kc, kt⟩ := M_step R hyn (Nat.lt_of_le_of_lt (Nat.add_le_add_right (Nat.add_le_add_left (Nat.mul_le_mul_right _ (show y ≤ np by omega)) Bk) 16) h2) (by omega) (by omega)
      have Q2 := relR_k (B' := B) kc kt (by decide) (by decide) RR.1.1 RR.1.2.1 RR.2.1.1 RR.2.1.2.1 R.1 n92 (Nat.le_refl _) Q
      have eqB : Bk + y * 2560020 + 2560020 = Bk + (y + 1) * 2560020 := by omega
      rw [eqB] at R2
      obtain ⟨Nc, Nt, c1, c2, c3, c4, c5, c6⟩ := rnd_L i (y + 1) _ _ (by omega) R2 Q2 h1 h2 h3 j j' (by omega) (by omega)
      refine ⟨Nc, Nt, ?_, ?_, c3, c4, c5.trans b2, evo_w (evo_t E2 c6) (by omega)⟩
      · have H : HX2_round_2 mc (nI y) Mc := by
          refine ⟨fun q => absurd q l1', fun _ => ⟨fun _ => ⟨inr, ?_⟩, fun q => absurd E' q⟩⟩
          try dsimp only
          rw [yc]
          exact ⟨s1, trivial⟩
        have G := (gX2_round_2 (FX2_round_L fN j).1 (FX2_round_L fN j).2 mc (nI y) Mc RR.1.1 R.1 H).1
        show FX2_round_2 fN (FX2_round_L fN j).1 (FX2_round_L fN j).2 mc (nI y) Mc = _
        rw [G]
        unfold GX2_round_2
        try dsimp only
        rw [fi_neg l1', fi_pos E', yc, nI_s (by omega)]
        exact c1
      · have H : HX92_round_2 m (nI y) Mt := ⟨fun q => absurd q l2, fun _ => ⟨fun _ => ⟨s2, s3, trivial⟩, fun q => absurd E q⟩⟩
        have G := (gX92_round_2 (FX92_round_L fN j').1 (FX92_round_L fN j').2 m (nI y) Mt RR.2.1.1 n92 H).1
        show FX92_round_2 fN (FX92_round_L fN j').1 (FX92_round_L fN j').2 m (nI y) Mt = _
        rw [G]
        unfold GX92_round_2
        try dsimp only
        rw [fi_neg l2, fi_pos E, nI_s (by omega)]
        exact c2
    · have E' : ¬ Mc.1 22 (Mc.2.2 189 mc 0) 0 = 0 := fun q => E (he.mp q)
      obtain ⟨Nc, Nt, c1, c2, c3, c4, c5, c6⟩ := rnd_x R Q (by omega) (fun q => absurd q E) (by omega) (j := j) (j' := j') (by omega) (by omega)
      refine ⟨Nc, Nt, ?_, ?_, relM_up (by omega) (Nat.add_le_add_left (Nat.mul_le_mul_right _ (by omega)) _) (by omega) c3, relR_up (by omega) c4, c5, evo_w (evo_q' (evo_r r 0 Mc) c6) (by omega)⟩
      · have H : HX2_round_2 mc (nI y) Mc := ⟨fun q => absurd q l1', fun _ => ⟨fun q => absurd q E', fun _ => trivial⟩⟩
        have G := (gX2_round_2 (FX2_round_L fN j).1 (FX2_round_L fN j).2 mc (nI y) Mc RR.1.1 R.1 H).1
        show FX2_round_2 fN (FX2_round_L fN j).1 (FX2_round_L fN j).2 mc (nI y) Mc = _
        rw [G]
        unfold GX2_round_2
        try dsimp only
        rw [fi_neg l1', fi_neg E']
        exact c1
      · have H : HX92_round_2 m (nI y) Mt := ⟨fun q => absurd q l2, fun _ => ⟨fun q => absurd q E, fun _ => trivial⟩⟩
        have G := (gX92_round_2 (FX92_round_L fN j').1 (FX92_round_L fN j').2 m (nI y) Mt RR.2.1.1 n92 H).1
        show FX92_round_2 fN (FX92_round_L fN j').1 (FX92_round_L fN j').2 m (nI y) Mt = _
        rw [G]
        unfold GX92_round_2
        try dsimp only
        rw [fi_neg l2, fi_neg E]
        exact c2
/-- a round, both sides -/
theorem M_round (R : RelM bd hv m hq s dd x dk q rq r sg bl cr np mc B Bk Vv Mc Mt) (Q : RelR mc m B Mc Mt) (h1 : B + np < 2147483000) (h2 : Bk + np * 2560020 + 16 < 9223372036854775808) (h3 : Vv + np < 2147483648) :
    ∃ Nc Nt, (HX2_round mc Mc ∧ GX2_round mc Mc = Nc) ∧ (HX92_round m Mt ∧ GX92_round m Mt = Nt) ∧ RelM bd hv m hq s dd x dk q rq r sg bl cr np mc (B + np) (Bk + np * 2560020) (Vv + np) Nc Nt ∧ RelR mc m (B + np) Nc Nt ∧ Sm m sg Nt Mt ∧ Evo r (np * 2560020) Mc Nc ∧
      WK lX2_round Mc Nc ∧ WK lX92_round Mt Nt := by
  have RR := relM_ram R
  obtain ⟨n92, np4⟩ := relM_m R
  obtain ⟨Nc, Nt, c1, c2, c3, c4, c5, c6⟩ := rnd_L (B := B) (Bk := Bk) (Vv := Vv) np 0 Mc Mt (by omega) (by rw [Nat.zero_mul]; exact R) Q h1 h2 h3 fN fN (by unfold fN; omega) (by unfold fN; omega)
  have w1_ : FX2_round fN mc Mc = some Nc := by
    have G := (gX2_round_0 (FX2_round_L fN fN).1 (FX2_round_L fN fN).2 mc Mc RR.1.1).1
    show FX2_round_0 fN (FX2_round_L fN fN).1 (FX2_round_L fN fN).2 mc Mc = _
    rw [G]
    exact c1
  have w2_ : FX92_round fN m Mt = some Nt := by
    have G := (gX92_round_0 (FX92_round_L fN fN).1 (FX92_round_L fN fN).2 m Mt RR.2.1.1).1
    show FX92_round_0 fN (FX92_round_L fN fN).1 (FX92_round_L fN fN).2 m Mt = _
    rw [G]
    exact c2
  have kc : WK lX2_round Mc Nc := wX2_round (SL lX2_round) (fun _ => True) (fun _ h => h) fN mc Mc (wi_N RR.1.2.1) trivial (fun _ => trivial) _ w1_
  have kt : WK lX92_round Mt Nt := wX92_round (SL lX92_round) (fun _ => True) (fun _ h => h) fN m Mt (wi_N RR.2.1.2.1) trivial (fun _ => trivial) _ w2_
  have RN := relM_ram c3
  obtain ⟨a1, a2⟩ := op_of (d := Mc) w1_ (P := OkV Mc) ⟨RN.1.1, wk_ext RR.1.2.1 kc⟩
  obtain ⟨b1, b2⟩ := op_of (d := Mt) w2_ (P := OkV Mt) ⟨RN.2.1.1, wk_ext RR.2.1.2.1 kt⟩
  exact ⟨Nc, Nt, ⟨a1, a2⟩, ⟨b1, b2⟩, c3, c4, c5, c6, kc, kt⟩
end Re
