/-! the machine: it runs -/
set_option maxRecDepth 100000
section Ru
variable {bd hv m hq s dd x dk q rq r sg bl cr np mc : Nat} {B Bk Vv k : Nat} {Mc Mt : FM}
theorem run_L (h1 : B + k * 4 < 2147483000) (h2 : Bk + k * 10240080 + 16 < 9223372036854775808) (h3 : Vv + k * 4 < 2147483648) : ∀ (i c : Nat) (Mc Mt : FM), c + i = k → RelM bd hv m hq s dd x dk q rq r sg bl cr np mc (B + c * 4) (Bk + c * 10240080) (Vv + c * 4) Mc Mt → RelR mc m (B + c * 4) Mc Mt → Mt.1 296 m 0 = 0 →
    ∀ j j', i < j → i < j' → ∃ v Nc Nt, FX2_run_L2 fN j mc (nI k) (nI c) Mc = some (nI v, Nc) ∧ FX92_run_L22 fN j' m (nI k) (nI c) Mt = some (nI v, Nt) ∧ v ≤ k ∧ RelM bd hv m hq s dd x dk q rq r sg bl cr np mc (B + k * 4) (Bk + k * 10240080) (Vv + k * 4) Nc Nt ∧ RelR mc m (B + k * 4) Nc Nt ∧
      Sm m sg Nt Mt ∧ Nt.1 296 m 0 = 0 ∧ Evo r (i * 10240080) Mc Nc
  | 0, c, Mc, Mt, hc, R, Q, h296, j, j', hj, hj' => by
    obtain ⟨j, rfl⟩ : ∃ z, j = z + 1 := ⟨j - 1, by omega⟩
    obtain ⟨j', rfl⟩ : ∃ z, j' = z + 1 := ⟨j' - 1, by omega⟩
    have e : c = k := by omega
    subst e
    have RR := relM_ram R
    obtain ⟨n92, np4⟩ := relM_m R
    have l1 : nI c ≤ nI c := (n_le (by omega) (by omega)).mpr (Nat.le_refl _)
    refine ⟨c, Mc, Mt, ?_, ?_, Nat.le_refl _, R, Q, sm_r, h296, evo_w (evo_r r 0 Mc) (by omega)⟩
    · have G := (gX2_run_2 (FX2_run_L2 fN j) mc (nI c) (nI c) Mc RR.1.1 R.1 ⟨fun _ => trivial, fun q => absurd l1 q⟩).1
      show FX2_run_2 fN (FX2_run_L2 fN j) mc (nI c) (nI c) Mc = _
      rw [G]
      unfold GX2_run_2 GX2_run_27
      try dsimp only
      rw [fi_pos l1]
      rfl
    · have G := (gX92_run_22 (FX92_run_L22 fN j') m (nI c) (nI c) Mt RR.2.1.1 n92 ⟨fun _ => ⟨fun _ => trivial, fun q => absurd l1 q⟩, fun q => absurd h296 q⟩).1
      show FX92_run_22 fN (FX92_run_L22 fN j') m (nI c) (nI c) Mt = _
      rw [G]
      unfold GX92_run_22 GX92_run_52
      try dsimp only
      rw [fi_pos h296, fi_pos l1]
      rfl
  | i + 1, c, Mc, Mt, hc, R, Q, h296, j, j', hj, hj' => by
    obtain ⟨j, rfl⟩ : ∃ z, j = z + 1 := ⟨j - 1, by omega⟩
    obtain ⟨j', rfl⟩ : ∃ z, j' = z + 1 := ⟨j' - 1, by omega⟩
    have RR := relM_ram R
    obtain ⟨n92, np4⟩ := relM_m R
    have he := relM_e R
    have l1 : ¬ nI k ≤ nI c := fun q => by have := (n_le (by omega) (by omega)).mp q; omega
    by_cases E : Mt.1 315 m 0 = Int32.ofInt (-1)
    · have E' : Mc.1 22 (Mc.2.2 189 mc 0) 0 = 0 := he.mpr E
      obtain ⟨Xc, Xt, ⟨a1, a2⟩, ⟨b1, b2⟩, R2, Q2, b3, E2, kc, kt⟩ := M_round R Q (by omega) (by omega) (by omega)
      have R3 := relM_up (show B + c * 4 + np ≤ B + (c + 1) * 4 by omega) (show Bk + c * 10240080 + np * 2560020 ≤ Bk + (c + 1) * 10240080 by omega) (show Vv + c * 4 + np ≤ Vv + (c + 1) * 4 by omega) R2
      have Q3 := relR_up (show B + c * 4 + np ≤ B + (c + 1) * 4 by omega) Q2
      have x296 : Xt.1 296 m 0 = 0 := (congrFun (kf (f := 296) kt rfl (dj_n (L := [296]) (by decide) 296 rfl) (wf_lt RR.2.1.2.1 (fm_ist rfl n92))).1 0).trans h296
      obtain ⟨v, Nc, Nt, c1, c2, c3, c4, c5, c6, c8, c7⟩ := run_L h1 h2 h3 i (c + 1) Xc Xt (by omega) R3 Q3 x296 j j' (by omega) (by omega)
      refine ⟨v, Nc, Nt, ?_, ?_, c3, c4, c5, c6.trans b3, c8, evo_w (evo_t E2 c7) (by omega)⟩
      · have G := (gX2_run_2 (FX2_run_L2 fN j) mc (nI k) (nI c) Mc RR.1.1 R.1 ⟨fun q => absurd q l1, fun _ => ⟨fun _ => ⟨a1, trivial⟩, fun q => absurd E' q⟩⟩).1
        show FX2_run_2 fN (FX2_run_L2 fN j) mc (nI k) (nI c) Mc = _
        rw [G]
        unfold GX2_run_2
        try dsimp only
        rw [fi_neg l1, fi_pos E', a2, nI_s (by omega)]
        exact c1
      · have G := (gX92_run_22 (FX92_run_L22 fN j') m (nI k) (nI c) Mt RR.2.1.1 n92 ⟨fun _ => ⟨fun q => absurd q l1, fun _ => ⟨fun _ => ⟨b1, trivial⟩, fun q => absurd E q⟩⟩, fun q => absurd h296 q⟩).1
        show FX92_run_22 fN (FX92_run_L22 fN j') m (nI k) (nI c) Mt = _
        rw [G]
        unfold GX92_run_22
        try dsimp only
        rw [fi_pos h296, fi_neg l1, fi_pos E, b2, nI_s (by omega)]
        exact c2
    · have E' : ¬ Mc.1 22 (Mc.2.2 189 mc 0) 0 = 0 := fun q => E (he.mp q)
      refine ⟨c, Mc, Mt, ?_, ?_, by omega, relM_up (by omega) (by omega) (by omega) R, relR_up (by omega) Q, sm_r, h296, evo_w (evo_r r 0 Mc) (by omega)⟩
      · have G := (gX2_run_2 (FX2_run_L2 fN j) mc (nI k) (nI c) Mc RR.1.1 R.1 ⟨fun q => absurd q l1, fun _ => ⟨fun q => absurd q E', fun _ => trivial⟩⟩).1
        show FX2_run_2 fN (FX2_run_L2 fN j) mc (nI k) (nI c) Mc = _
        rw [G]
        unfold GX2_run_2 GX2_run_27
        try dsimp only
        rw [fi_neg l1, fi_neg E']
        rfl
      · have G := (gX92_run_22 (FX92_run_L22 fN j') m (nI k) (nI c) Mt RR.2.1.1 n92 ⟨fun _ => ⟨fun q => absurd q l1, fun _ => ⟨fun q => absurd q E, fun _ => trivial⟩⟩, fun q => absurd h296 q⟩).1
        show FX92_run_22 fN (FX92_run_L22 fN j') m (nI k) (nI c) Mt = _
        rw [G]
        unfold GX92_run_22 GX92_run_52
        try dsimp only
        rw [fi_pos h296, fi_neg l1, fi_neg E]
        rfl
/-- it runs so many rounds, both sides -/
theorem M_run (R : RelM bd hv m hq s dd x dk q rq r sg bl cr np mc B Bk Vv Mc Mt) (Q : RelR mc m B Mc Mt) (hk : k ≤ 10000) (h1 : B + 40000 < 2147483000) (h2 : Bk + 102400800016 < 9223372036854775808) (h3 : Vv + 40000 < 2147483648) :
    ∃ v Nc Nt, (HX2_run mc (nI k) Mc ∧ GX2_run mc (nI k) Mc = (nI v, Nc)) ∧ (HX92_run m (nI k) Mt ∧ GX92_run m (nI k) Mt = (nI v, Nt)) ∧ v ≤ k ∧ RelM bd hv m hq s dd x dk q rq r sg bl cr np mc (B + 40000) (Bk + 102400800000) (Vv + 40000) Nc Nt ∧ RelR mc m (B + 40000) Nc Nt ∧
      Sm m sg Nt Mt ∧ Nt.1 296 m 0 = 0 ∧ Evo r 102400800000 Mc Nc ∧ WK lX2_run Mc Nc ∧ WK lX92_run Mt Nt := by
  have RR := relM_ram R
  obtain ⟨n92, np4⟩ := relM_m R
  have k1 : WK [296] Mt (fm_sI Mt 296 m 0 (Int32.ofInt 0)) := WK_I RR.2.1.2.1 n92 rfl rfl _
  have T1 : Ty (fm_sI Mt 296 m 0 (Int32.ofInt 0)) := ⟨RR.2.1.1.1, tyb_sI rfl RR.2.1.1.2⟩
  obtain ⟨_, _, _, _, _, ⟨ow, Ow⟩, ⟨ow', Ow'⟩, _⟩ := id R
  have R1 := (M_k R (WK_r (S := []) RR.1.2.1) k1 (by decide) (by decide) RR.1.1 T1 ⟨_, Ow⟩ ⟨_, own_n rfl Ow'⟩).1
  have Q1 := relR_k (B' := B) (WK_r (S := []) RR.1.2.1) k1 (by decide) (by decide) RR.1.1 RR.1.2.1 RR.2.1.1 RR.2.1.2.1 R.1 n92 (Nat.le_refl _) Q
  obtain ⟨v, Nc, Nt, c1, c2, c3, c4, c5, c6, c8, c7⟩ := run_L (B := B) (Bk := Bk) (Vv := Vv) (k := k) (by omega) (by omega) (by omega) k 0 Mc _ (by omega) R1 Q1 (rIe _) fN fN (by unfold fN; omega) (by unfold fN; omega)
  have w1_ : FX2_run fN mc (nI k) Mc = some (nI v, Nc) := by
    have G := (gX2_run_0 (FX2_run_L2 fN fN) mc (nI k) Mc RR.1.1).1
    show FX2_run_0 fN (FX2_run_L2 fN fN) mc (nI k) Mc = _
    rw [G]
    exact c1
  have a0 : ¬ nI k < 0 := fun q => by
    have : nI k < nI 0 := q
    have := (n_lt (by omega) (by decide)).mp this
    omega
  have a1 : nI k ≤ Int32.ofInt 10000 := (n_le (b := 10000) (by omega) (by decide)).mpr hk
  have w2_ : FX92_run fN m (nI k) Mt = some (nI v, Nt) := by
    have G := (gX92_run_0 (FX92_run_L22 fN fN) m (nI k) Mt RR.2.1.1 n92).1
    show FX92_run_0 fN (FX92_run_L22 fN fN) m (nI k) Mt = _
    rw [G]
    unfold GX92_run_0 GX92_run_17
    try dsimp only
    rw [fi_neg a0, fi_pos a1]
    exact c2
  have kc : WK lX2_run Mc Nc := wX2_run (SL lX2_run) (fun _ => True) (fun _ h => h) fN mc (nI k) Mc (wi_N RR.1.2.1) trivial (fun _ => trivial) _ w1_
  have kt : WK lX92_run Mt Nt := wX92_run (SL lX92_run) (fun _ => True) (fun _ h => h) fN m (nI k) Mt (wi_N RR.2.1.2.1) trivial (fun _ => trivial) _ w2_
  have RN := relM_ram c4
  obtain ⟨d1_, d2_⟩ := op_of (d := ((0 : Int32), Mc)) w1_ (P := OkR Mc) ⟨RN.1.1, wk_ext RR.1.2.1 kc⟩
  obtain ⟨e1_, e2_⟩ := op_of (d := ((0 : Int32), Mt)) w2_ (P := OkR Mt) ⟨RN.2.1.1, wk_ext RR.2.1.2.1 kt⟩
  exact ⟨v, Nc, Nt, ⟨d1_, d2_⟩, ⟨e1_, e2_⟩, c3, relM_up (by omega) (by omega) (by omega) c4, relR_up (by omega) c5, c6, c8, evo_w c7 (by omega), kc, kt⟩
end Ru
