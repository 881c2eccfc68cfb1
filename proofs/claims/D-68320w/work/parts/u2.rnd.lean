/-! the machine: a round -/
set_option maxRecDepth 100000
theorem relX_up {bd hv m hq s dd x dk q rq r sg bl cr np mc h B B' Bk Bk' Vv Vv' : Nat} {Mc Mt : FM} (h1 : B ≤ B') (h2 : Bk ≤ Bk') (h3 : Vv ≤ Vv') (R : RelX bd hv m hq s dd x dk q rq r sg bl cr np mc h B Bk Vv Mc Mt) : RelX bd hv m hq s dd x dk q rq r sg bl cr np mc h B' Bk' Vv' Mc Mt := by
  obtain ⟨p, a, fu, cf, rg, u, t, kp, fd, c1, f1, d1, w1, g, kn, fs, K, F, T, rt, tb, hp, hw, Gd, RP⟩ := R
  exact ⟨p, a, fu, cf, rg, u, t, kp, fd, c1, f1, d1, w1, g, kn, fs, K, F, T, rt, tb, hp, hw, Gd, relP_upw h1 h2 h3 RP⟩
section Rd
variable {bd hv m hq s dd x dk q rq r sg bl cr np mc : Nat} {B B' Bk Bk' Vv Vv' y : Nat} {Mc Mt : FM}
theorem relM_up (h1 : B ≤ B') (h2 : Bk ≤ Bk') (h3 : Vv ≤ Vv') (R : RelM bd hv m hq s dd x dk q rq r sg bl cr np mc B Bk Vv Mc Mt) : RelM bd hv m hq s dd x dk q rq r sg bl cr np mc B' Bk' Vv' Mc Mt :=
  ⟨R.1, R.2.1, R.2.2.1, R.2.2.2.1, R.2.2.2.2.1, R.2.2.2.2.2.1, R.2.2.2.2.2.2.1, fun h hh => relX_up h1 h2 h3 (R.2.2.2.2.2.2.2 h hh)⟩
theorem relR_up (h1 : B ≤ B') (Q : RelR mc m B Mc Mt) : RelR mc m B' Mc Mt := by
  obtain ⟨X, z, f, n, p1, p2, p3, p4, p5⟩ := Q
  exact ⟨X, z, f, n, p1, p2, p3, by omega, p5⟩
/-- whether the machine is at its end, both sides -/
theorem relM_e (R : RelM bd hv m hq s dd x dk q rq r sg bl cr np mc B Bk Vv Mc Mt) : (Mc.1 22 (Mc.2.2 189 mc 0) 0 = 0) = (Mt.1 315 m 0 = Int32.ofInt (-1)) := propext (by
  rw [R.2.1, (relM_b R).2.2.2, bz_0, Classical.not_not])
/-- a round's end -/
theorem M_end (R : RelM bd hv m hq s dd x dk q rq r sg bl cr np mc B Bk Vv Mc Mt) (Q : RelR mc m B' Mc Mt) (h1 : B' + 1 ≤ B) (hB : B < 2147483000) : ∃ Nc Nt,
    (HX2_round_56 mc (Mc.2.2 190 mc 0) (nI np) (nI np) Mc ∧ GX2_round_56 mc (Mc.2.2 190 mc 0) (nI np) (nI np) Mc = .inr (.inr Nc)) ∧
    (HX92_round_45 m (nI np) Mt ∧ GX92_round_45 m (nI np) Mt = .inr (.inr Nt)) ∧
    RelM bd hv m hq s dd x dk q rq r sg bl cr np mc B Bk Vv Nc Nt ∧ RelR mc m B Nc Nt ∧ Sm m sg Nt Mt ∧ RamQ r Mc Nc := by
  have RR := relM_ram R
  obtain ⟨n92, np4⟩ := relM_m R
  have RB := relM_b R
  have i67 := R.1
  have v189 := R.2.1
  have v297 := R.2.2.2.2.1
  have T0 := RR.1.1
  have W := RR.1.2.1
  have Tm := RR.2.1.1
  have W' := RR.2.1.2.1
  have v19 : Mc.2.2 19 bd 0 = s := RB.1.1.2.2.2.1
  have v301 : Mt.2.2 301 m 0 = sg := RB.1.2.2.2.2
  obtain ⟨_, _, _, _, _, ⟨ow, Ow⟩, ⟨ow', Ow'⟩, _⟩ := id R
  obtain ⟨X, z, f, n, p1, p2, p3, p4, p5, p6, p7, h10, h11⟩ := id Q
  have ec : (Mc.1 197 mc 0 + Int32.ofInt 1) - (Mc.1 197 mc 0 + Int32.ofInt 1) / Int32.ofInt 10 * Int32.ofInt 10 = nI ((n + 1) % 10) := by
    rw [h10, nI_s (by omega)]
    exact (n_rest (k := 10) (by omega) (by decide)).trans (congrArg nI (by omega))
  have et : Mt.2.1 314 m 0 + Int64.ofInt 1 = lN (n + 1) := by rw [h11, lN_s (by omega)]
  have et10 : lN (n + 1) - lN (n + 1) / Int64.ofInt 10 * Int64.ofInt 10 = lN ((n + 1) % 10) := o_rest (by omega) (by decide)
  have c10 : (lg_cmp (lN ((n + 1) % 10)) (Int64.ofInt 0) = 0) = ((n + 1) % 10 = 0) := propext (o_eq (k := 0) (by omega) (by decide))
  have c10' : (nI ((n + 1) % 10) = (0 : Int32)) = ((n + 1) % 10 = 0) := nI_e (b := 0) (by omega) (by decide)
  have k1 : WK [197] Mc (fm_sI Mc 197 mc 0 (nI ((n + 1) % 10))) := WK_I W i67 rfl rfl _
  have k2 : WK [314] Mt (fm_sL Mt 314 m 0 (lN (n + 1))) := WK_L W' n92 rfl rfl _
  have T1 : Ty (fm_sI Mc 197 mc 0 (nI ((n + 1) % 10))) := ⟨T0.1, tyb_sI rfl T0.2⟩
  have T2 : Ty (fm_sL Mt 314 m 0 (lN (n + 1))) := ⟨Tm.1, Tm.2⟩
  obtain ⟨R1, rq1⟩ := M_k R k1 k2 (by decide) (by decide) T1 T2 ⟨_, own_n rfl Ow⟩ ⟨_, own_n rfl Ow'⟩
  have Q1 : RelR mc m B (fm_sI Mc 197 mc 0 (nI ((n + 1) % 10))) (fm_sL Mt 314 m 0 (lN (n + 1))) := by
    refine ⟨X, z, f, n + 1, p1, p2, p3, by omega, ⟨?_, p5.2⟩, ⟨?_, p6.2⟩, fun j hj => ⟨?_, (p7 j hj).2⟩, ?_, ?_⟩
    · rw [rIf (by decide)]; exact p5.1
    · rw [rIf (by decide)]; exact p6.1
    · rw [rIf (by decide)]; exact (p7 j hj).1
    · rw [rIe]
    · rw [rLe]
  have b1 : Sm m sg (fm_sL Mt 314 m 0 (lN (n + 1))) Mt := ⟨rLf (by decide), rLf (by decide)⟩
  have l1 : nI np ≤ nI np := (n_le (by omega) (by omega)).mpr (Nat.le_refl _)
  have l2 : Mt.1 297 m 0 ≤ nI np := by rw [v297]; exact l1
  have e197 : (fm_sI Mc 197 mc 0 (nI ((n + 1) % 10))).1 197 mc 0 = nI ((n + 1) % 10) := rIe _
  have e314 : (fm_sL Mt 314 m 0 (lN (n + 1))).2.1 314 m 0 = lN (n + 1) := rLe _
  have v189' : (fm_sI Mc 197 mc 0 (nI ((n + 1) % 10))).2.2 189 mc 0 = bd := v189
  have v301' : (fm_sL Mt 314 m 0 (lN (n + 1))).2.2 301 m 0 = sg := v301
  generalize hMc1 : fm_sI Mc 197 mc 0 (nI ((n + 1) % 10)) = Mc1 at *
  generalize hMt1 : fm_sL Mt 314 m 0 (lN (n + 1)) = Mt1 at *
  by_cases c : (n + 1) % 10 = 0
  · have RR1 := relM_ram R1
    have RB1 := relM_b R1
    obtain ⟨_, _, _, _, _, ⟨ow1, Ow1⟩, ⟨ow1', Ow1'⟩, _⟩ := id R1
    have n11 : fm_is Mc1 11 11 bd = true := RB1.1.1.1.1
    have n99 : fm_is Mt1 99 99 sg = true := by
      have := tN_301 RR1.2.1.1.1 (relM_m R1).1
      rw [v301'] at this
      exact this
    have e19 : Mc1.2.2 19 bd 0 = s := RB1.1.1.2.2.2.1
    have epass : GX10_pass bd Mc1 = fm_sL Mc1 3 (Mc1.2.2 246 (Mc1.2.2 240 s 0) 0) 4 (Mc1.2.1 3 (Mc1.2.2 246 (Mc1.2.2 240 s 0) 0) 4 + Int64.ofInt 1) := by
      unfold GX10_pass GX10_pass_0
      try dsimp only
      rw [e19]
      rfl
    have RG := (rel_gpass RR1.1.1 RR1.1.2.1 RB1.2.1.1).2
    rw [← epass] at RG
    have gx := gX10_pass bd Mc1 RR1.1.1 n11
    have gy := gX96_pass sg (Int64.ofInt 1) Mt1 RR1.2.1.1 n99
    have kx : WK lX10_pass Mc1 (GX10_pass bd Mc1) := wX10_pass (SL lX10_pass) (fun _ => True) (fun _ h => h) bd Mc1 (wi_N RR1.1.2.1) trivial _ gx.1
    have ky : WK lX96_pass Mt1 (GX96_pass sg (Int64.ofInt 1) Mt1) := wX96_pass (SL lX96_pass) (fun _ => True) (fun _ h => h) sg _ Mt1 (wi_N RR1.2.1.2.1) trivial _ gy.1
    obtain ⟨R2, rq2⟩ := M_g R1 kx ky (by decide) (by decide) gx.2.1 gy.2.1 RG ⟨_, own_n (by rw [epass]; rfl) Ow1⟩ ⟨_, own_n rfl Ow1'⟩
    have Q2 := relR_k (B' := B) kx ky (by decide) (by decide) RR1.1.1 RR1.1.2.1 RR1.2.1.1 RR1.2.1.2.1 R1.1 (relM_m R1).1 (Nat.le_refl _) Q1
    have b2 : Sm m sg (GX96_pass sg (Int64.ofInt 1) Mt1) Mt1 := sm_k ky (by decide) R1
    obtain ⟨a1, a2, Nc, Nt, a3, a4, a5, a6, a7, a8, _, _⟩ := M_come R2 Q2
    refine ⟨Nc, Nt, ⟨?_, ?_⟩, ⟨?_, ?_⟩, a5, a6, a7.trans (b2.trans b1), ramQ_t (ramQ_t rq1 rq2) a8⟩
    · unfold HX2_round_56
      try dsimp only
      rw [ec, hMc1, e197, c10', v189']
      exact ⟨fun _ => ⟨fun _ => ⟨a1, trivial⟩, fun z => absurd c z⟩, fun z => absurd l1 z⟩
    · unfold GX2_round_56 GX2_round_116 GX2_round_120
      try dsimp only
      rw [ec, hMc1, e197, c10', v189', fi_pos l1, fi_pos c, a3]
    · unfold HX92_round_45
      try dsimp only
      rw [et, hMt1, e314, et10, c10, v301']
      exact ⟨fun _ => ⟨fun _ => a2, fun z => absurd c z⟩, fun z => absurd l2 z⟩
    · unfold GX92_round_45
      try dsimp only
      rw [et, hMt1, e314, et10, c10, v301', fi_pos l2, fi_pos c, a4]
  · obtain ⟨a1, a2, Nc, Nt, a3, a4, a5, a6, a7, a8, _, _⟩ := M_come R1 Q1
    refine ⟨Nc, Nt, ⟨?_, ?_⟩, ⟨?_, ?_⟩, a5, a6, a7.trans b1, ramQ_t rq1 a8⟩
    · unfold HX2_round_56
      try dsimp only
      rw [ec, hMc1, e197, c10']
      exact ⟨fun _ => ⟨fun z => absurd z c, fun _ => ⟨a1, trivial⟩⟩, fun z => absurd l1 z⟩
    · unfold GX2_round_56 GX2_round_116 GX2_round_120
      try dsimp only
      rw [ec, hMc1, e197, c10', fi_pos l1, fi_neg c, a3]
    · unfold HX92_round_45
      try dsimp only
      rw [et, hMt1, e314, et10, c10]
      exact ⟨fun _ => ⟨fun z => absurd z c, fun _ => a2⟩, fun z => absurd l2 z⟩
    · unfold GX92_round_45
      try dsimp only
      rw [et, hMt1, e314, et10, c10, fi_pos l2, fi_neg c, a4]
/-- the processors count the round; its end -/
theorem cyc_L : ∀ (i y : Nat) (Mc Mt : FM), y + i = np → RelM bd hv m hq s dd x dk q rq r sg bl cr np mc B Bk Vv Mc Mt → RelR mc m B' Mc Mt → B' + 1 ≤ B → B < 2147483000 → ∀ j j', i < j → i < j' →
    ∃ Nc Nt, (FX2_round_L fN j).2 mc (Mc.2.2 190 mc 0) (nI np) (nI y) Mc = some Nc ∧ (FX92_round_L fN j').2 m (nI y) Mt = some Nt ∧ RelM bd hv m hq s dd x dk q rq r sg bl cr np mc B Bk Vv Nc Nt ∧ RelR mc m B Nc Nt ∧ Sm m sg Nt Mt ∧ RamQ r Mc Nc
  | 0, y, Mc, Mt, hy, R, Q, h1, hB, j, j', hj, hj' => by
    obtain ⟨j, rfl⟩ : ∃ k, j = k + 1 := ⟨j - 1, by omega⟩
    obtain ⟨j', rfl⟩ : ∃ k, j' = k + 1 := ⟨j' - 1, by omega⟩
    have e : y = np := by omega
    subst e
    have RR := relM_ram R
    have n92 := (relM_m R).1
    obtain ⟨Nc, Nt, ⟨a1, a2⟩, ⟨a3, a4⟩, a5, a6, a7, a8⟩ := M_end R Q h1 hB
    refine ⟨Nc, Nt, ?_, ?_, a5, a6, a7, a8⟩
    · have G := (gX2_round_56 (FX2_round_L fN j).1 (FX2_round_L fN j).2 mc (Mc.2.2 190 mc 0) (nI y) (nI y) Mc RR.1.1 R.1 (tN_190 RR.1.1.1 R.1) a1).1
      show FX2_round_56 fN (FX2_round_L fN j).1 (FX2_round_L fN j).2 mc (Mc.2.2 190 mc 0) (nI y) (nI y) Mc = _
      rw [G, a2]
      rfl
    · have G := (gX92_round_45 (FX92_round_L fN j').1 (FX92_round_L fN j').2 m (nI y) Mt RR.2.1.1 n92 a3).1
      show FX92_round_45 fN (FX92_round_L fN j').1 (FX92_round_L fN j').2 m (nI y) Mt = _
      rw [G, a4]
      rfl
  | i + 1, y, Mc, Mt, hy, R, Q, h1, hB, j, j', hj, hj' => by
    obtain ⟨j, rfl⟩ : ∃ k, j = k + 1 := ⟨j - 1, by omega⟩
    obtain ⟨j', rfl⟩ : ∃ k, j' = k + 1 := ⟨j' - 1, by omega⟩
    have RR := relM_ram R
    obtain ⟨n92, np4⟩ := relM_m R
    have hyn : y < np := by omega
    have v297 := R.2.2.2.2.1
    obtain ⟨d95, R2, rq, kx, ky⟩ := M_cyc R hyn
    have Q2 := relR_k (B' := B') kx ky (by decide) (by decide) RR.1.1 RR.1.2.1 RR.2.1.1 RR.2.1.2.1 R.1 n92 (Nat.le_refl _) Q
    have b2 := sm_k ky (by decide) R
    have n190 := tN_190 RR.1.1.1 R.1
    have l1 : ¬ nI np ≤ nI y := fun q => by have := (n_le (by omega) (by omega)).mp q; omega
    have l2 : ¬ Mt.1 297 m 0 ≤ nI y := by rw [v297]; exact l1
    have yc : (nI y).toNatClampNeg = y := o_cl (by omega)
    have inr : fm_in Mc (Mc.2.2 190 mc 0) (nI y) = true := in_nI R.2.2.1 hyn (by omega)
    have in5 : fm_in Mt (Mt.2.2 305 m 0) (nI y) = true := by
      obtain ⟨p, a, fu, cf, rg, u, t, kp, fd, c1, f1, d1, w1, g, kn, fs, K, F, T, rt, tb, hp, hw, Gd, RP⟩ := R.2.2.2.2.2.2.2 y hyn
      exact in_nI RP.2.1.1.2.2.2.2.2.2.1.1 (by omega) (by decide)
    have H1 : HX2_round_56 mc (Mc.2.2 190 mc 0) (nI np) (nI y) Mc := ⟨fun q => absurd q l1, fun _ => ⟨inr, trivial⟩⟩
    have H2 : HX92_round_45 m (nI y) Mt := ⟨fun q => absurd q l2, fun _ => ⟨in5, by rw [yc]; exact d95, trivial⟩⟩
    obtain ⟨Nc, Nt, c1, c2, c3, c4, c5, c6⟩ := cyc_L i (y + 1) _ _ (by omega) R2 Q2 h1 hB j j' (by omega) (by omega)
    refine ⟨Nc, Nt, ?_, ?_, c3, c4, c5.trans b2, ramQ_t rq c6⟩
    · have G := (gX2_round_56 (FX2_round_L fN j).1 (FX2_round_L fN j).2 mc (Mc.2.2 190 mc 0) (nI np) (nI y) Mc RR.1.1 R.1 n190 H1).1
      show FX2_round_56 fN (FX2_round_L fN j).1 (FX2_round_L fN j).2 mc (Mc.2.2 190 mc 0) (nI np) (nI y) Mc = _
      rw [G]
      unfold GX2_round_56
      try dsimp only
      rw [fi_neg l1, yc, nI_s (by omega)]
      exact c1
    · have G := (gX92_round_45 (FX92_round_L fN j').1 (FX92_round_L fN j').2 m (nI y) Mt RR.2.1.1 n92 H2).1
      show FX92_round_45 fN (FX92_round_L fN j').1 (FX92_round_L fN j').2 m (nI y) Mt = _
      rw [G]
      unfold GX92_round_45
      try dsimp only
      rw [fi_neg l2, yc, nI_s (by omega)]
      exact c2
end Rd
