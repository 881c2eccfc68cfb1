/-! start, whole: both sides -/
set_option maxRecDepth 100000
section St3
variable {bd hv m hq s dd x dk q rq r sg bl cr np mc : Nat} {B Bk Vv ld row n : Nat} {Mc Mt : FM} {e : Int64}
theorem M_res (he : ev e) (h313 : Mt.2.1 313 m 0 = e) : ∀ (k h : Nat) (Mc : FM) (j' : Nat), h + k = np → RelM bd hv m hq s dd x dk q rq r sg bl cr np mc B Bk (Vv + h) Mc (saN Mt.2.2 m cr e h Mt) → Mc.2.2 190 mc 0 = row → Mc.2.2 192 mc 0 = ld → Mc.2.1 188 ld 0 = e →
    ∃ Nc, (FX2_start_L fN (k + j')).2 mc (nI n) row (nI np) (nI h) Mc = (FX2_start_L fN j').2 mc (nI n) row (nI np) (nI np) Nc ∧ RelM bd hv m hq s dd x dk q rq r sg bl cr np mc B Bk (Vv + np) Nc (saN Mt.2.2 m cr e np Mt) ∧ Evo r 0 Mc Nc ∧ WK lX46_reset Mc Nc ∧ WK lTw (saN Mt.2.2 m cr e h Mt) (saN Mt.2.2 m cr e np Mt)
  | 0, h, Mc, j', hk, R, h190, h192, h188 => by
    have eh : h = np := by omega
    subst eh
    rw [Nat.zero_add]
    have RR := relM_ram R
    exact ⟨Mc, rfl, R, evo_r r 0 Mc, WK_r RR.1.2.1, WK_r RR.2.1.2.1⟩
  | k + 1, h, Mc, j', hk, R, h190, h192, h188 => by
    have RR := relM_ram R
    have np4 := (relM_m R).2
    have T0 := RR.1.1
    have W := RR.1.2.1
    have n67 := R.1
    have hle : ¬ nI np ≤ nI h := fun z => by have := (n_le (by omega) (by omega)).mp z; omega
    have hcl : (nI h).toNatClampNeg = h := o_cl (by omega)
    have n190 := tN_190 T0.1 n67
    have n66 := tN_192 T0.1 n67
    rw [h192] at n66
    obtain ⟨a1, R2, E, kc, kt⟩ := M_res1 (y := h) R (by omega) he (by rw [saN_313]; exact h313)
    rw [saN_e] at R2 kt
    have lc := wf_lt W (fm_ist rfl n67)
    have g190 : (GX46_reset (Mc.2.2 3 (Mc.2.2 190 mc 0) h) e Mc).2.2 190 mc 0 = row := (congrFun (kf (f := 190) kc rfl (dj_n (L := [190]) (by decide) 190 rfl) lc).2.2 0).trans h190
    have g192 : (GX46_reset (Mc.2.2 3 (Mc.2.2 190 mc 0) h) e Mc).2.2 192 mc 0 = ld := (congrFun (kf (f := 192) kc rfl (dj_n (L := [192]) (by decide) 192 rfl) lc).2.2 0).trans h192
    have g188 : (GX46_reset (Mc.2.2 3 (Mc.2.2 190 mc 0) h) e Mc).2.1 188 ld 0 = e := (congrFun (kf (f := 188) kc rfl (dj_n (L := [188]) (by decide) 188 rfl) (wf_lt W (fm_ist rfl n66))).2.1 0).trans h188
    obtain ⟨Nc, c1, c2, c3, c4, c5⟩ := M_res he h313 k (h + 1) _ j' (by omega) R2 g190 g192 g188
    refine ⟨Nc, ?_, c2, evo_t E c3, WK_t kc c4, WK_t kt c5⟩
    rw [h190] at n190 a1 c1
    have H : HX2_start_69 mc (nI n) row (nI np) (nI h) Mc := by
      refine ⟨fun z => absurd z hle, fun _ => ?_⟩
      try dsimp only
      rw [h192, h188, hcl]
      refine ⟨in_nI (N := np) (by rw [← h190]; exact R.2.2.1) (by omega) (by omega), a1, trivial⟩
    rw [show k + 1 + j' = (k + j') + 1 by omega]
    show FX2_start_69 fN (FX2_start_L fN (k + j')).1 (FX2_start_L fN (k + j')).2 mc (nI n) row (nI np) (nI h) Mc = _
    rw [(gX2_start_69 _ _ mc (nI n) row (nI np) (nI h) Mc T0 n67 n190 H).1]
    unfold GX2_start_69
    rw [fi_neg hle]
    try dsimp only
    rw [h192, h188, hcl, up_1 (by omega)]
    exact c1
def lSR : List Nat := [22, 23, 37, 41, 91, 92, 95, 96, 174, 179, 208, 218, 280, 281, 282, 283, 285, 1093, 1178, 1201, 1203, 1204]
theorem O_start (R : RelM bd hv m hq s dd x dk q rq r sg bl cr np mc B Bk Vv Mc Mt) (Q : RelR mc m B Mc Mt) (L : RelL mc ld m r cr Mc Mt) (Sd : RelS mc m np Mc Mt) :
    ∃ v Nc Nt, (HX2_start mc Mc ∧ GX2_start mc Mc = (v, Nc)) ∧ (HX92_begin m Mt ∧ GX92_begin m Mt = (v, Nt)) ∧ RelM bd hv m hq s dd x dk q rq r sg bl cr np mc B (Bk + 8192) (Vv + 4) Nc Nt ∧ RelR mc m B Nc Nt ∧ RelL mc ld m r cr Nc Nt ∧ RelS mc m np Nc Nt ∧
      Nt.1 296 m 0 = Mt.1 296 m 0 ∧ Sm m sg Nt Mt ∧ WK lX2_start Mc Nc ∧ WK lX92_begin Mt Nt := by
  have RR := relM_ram R
  have T0 := RR.1.1
  have W := RR.1.2.1
  have Tm := RR.2.1.1
  have W' := RR.2.1.2.1
  obtain ⟨n92, np4⟩ := relM_m R
  have n67 := R.1
  have np1 := R.2.2.2.1
  obtain ⟨N1, ⟨d1_, d2_⟩, R1, Q1, L1, S1, P1, Rw1, kd⟩ := M_desc R Q L Sd
  have hn8 := treB_l np1 np4
  obtain ⟨Y, hY⟩ : ∃ Y, treB np = Y := ⟨_, rfl⟩
  have tt := S1.2.2.2.2
  rw [hY] at d2_ Rw1 hn8 tt
  obtain ⟨n, hn⟩ : ∃ n, Y.length = n := ⟨_, rfl⟩
  rw [hn] at d2_ hn8 tt
  obtain ⟨j4, hj4⟩ : ∃ j, fN = n + ((np + (j + 1)) + 1) := ⟨fN - (n + np + 2), by unfold fN; omega⟩
  have RR1 := relM_ram R1
  obtain ⟨_, _, _, _, _, ⟨ow, Ow⟩, ⟨ow', Ow'⟩, _⟩ := id R1
  have n67a := R1.1
  have n73 := RR1.1.2.2.1
  -- bytes
  obtain ⟨N2, c1, RR2, P2, E2, ks, kp, kw⟩ := stp_L (Y := Y) (n := n) (hx := 0) (M0 := N1) (Z := Zo ow (fm_nx N1) 0) (Mt := Mt) (Nat.le_refl _) (Or.inr (Or.inl (own_sh Ow n73 rfl))) hn hn8 n 0 N1 ((np + (j4 + 1)) + 1) (by omega) RR1 P1 Rw1 (wk_r (own_wi Ow RR1.1.1 RR1.1.2.1))
  have O2 := own_k Ow RR1.1.1 RR1.1.2.1 kw (xs_dj (by decide))
  have rP : (puN cr adT ofT (fun k => nI (Y.getD k 0)) n Mt).2.2 = Mt.2.2 := puN_R n
  have kp : WK lX93_put Mt (puN cr adT ofT (fun k => nI (Y.getD k 0)) n Mt) := kp
  have RB2 := wrB ks kp (by decide) (by decide) RR2 (relM_b R1)
  have R2 := M_b (e := n) R1 ks kp (by decide) (by decide) RB2 E2 ⟨_, O2⟩ ⟨_, own_n rP Ow'⟩
  -- resets
  have ee := L1.2.2.2
  have l192 := L1.1
  have n66 := tN_192 RR1.1.1.1 n67a
  rw [l192] at n66
  have lc1 := wf_lt RR1.1.2.1 (fm_ist rfl n67a)
  have h190 : N2.2.2 190 mc 0 = N1.2.2 190 mc 0 := congrFun (kf (f := 190) ks rfl (dj_n (L := [190]) (by decide) 190 rfl) lc1).2.2 0
  have h192 : N2.2.2 192 mc 0 = ld := (congrFun (kf (f := 192) ks rfl (dj_n (L := [192]) (by decide) 192 rfl) lc1).2.2 0).trans l192
  have h188 : N2.2.1 188 ld 0 = Mt.2.1 313 m 0 := (congrFun (kf (f := 188) ks rfl (dj_n (L := [188]) (by decide) 188 rfl) (wf_lt RR1.1.2.1 (fm_ist rfl n66))).2.1 0).trans ee.1
  have he : ev (Mt.2.1 313 m 0) := by rw [← ee.1]; exact ee.2
  obtain ⟨N3, c2, R3, E3, kr, kt⟩ := M_res (n := n) (Mt := puN cr adT ofT (fun k => nI (Y.getD k 0)) n Mt) (Vv := Vv) he (puN_313 n) np 0 N2 (j4 + 1) (by omega) R2 h190 h192 h188
  have kt : WK lTw (puN cr adT ofT (fun k => nI (Y.getD k 0)) n Mt) (saN (puN cr adT ofT (fun k => nI (Y.getD k 0)) n Mt).2.2 m cr (Mt.2.1 313 m 0) np (puN cr adT ofT (fun k => nI (Y.getD k 0)) n Mt)) := kt
  rw [rP] at R3 kt
  obtain ⟨Mt3, hM3⟩ : ∃ M, saN Mt.2.2 m cr (Mt.2.1 313 m 0) np (puN cr adT ofT (fun k => nI (Y.getD k 0)) n Mt) = M := ⟨_, rfl⟩
  rw [hM3] at R3 kt
  -- the end's code
  have RR3 := relM_ram R3
  have RB3 := relM_b R3
  have nbd := RB3.1.1.1.1
  have n92c := (relM_m R3).1
  have k22 : WK [22] N3 (fm_sI N3 22 bd 0 (Int32.ofInt 0)) := WK_I RR3.1.2.1 nbd rfl rfl _
  have k23 : WK [23] (fm_sI N3 22 bd 0 (Int32.ofInt 0)) (fm_sI (fm_sI N3 22 bd 0 (Int32.ofInt 0)) 23 bd 0 (Int32.ofInt (-1))) := WK_I k22.1.1 nbd rfl rfl _
  have k2223 : WK [22, 23] N3 (fm_sI (fm_sI N3 22 bd 0 (Int32.ofInt 0)) 23 bd 0 (Int32.ofInt (-1))) := WK_t (WK_s (by decide) k22) (WK_s (by decide) k23)
  have k315 : WK [315] Mt3 (fm_sI Mt3 315 m 0 (Int32.ofInt (-1))) := WK_I RR3.2.1.2.1 n92c rfl rfl _
  have T4 : Ty (fm_sI (fm_sI N3 22 bd 0 (Int32.ofInt 0)) 23 bd 0 (Int32.ofInt (-1))) := ⟨RR3.1.1.1, tyb_sI rfl (tyb_sIb rfl RR3.1.1.2 (Or.inl rfl))⟩
  have T4' : Ty (fm_sI Mt3 315 m 0 (Int32.ofInt (-1))) := ⟨RR3.2.1.1.1, tyb_sI rfl RR3.2.1.1.2⟩
  obtain ⟨RR4, rq4, _⟩ := wrR k2223 k315 (by decide) (by decide) T4 T4' RR3
  have EN : EnB bd m (fm_sI (fm_sI N3 22 bd 0 (Int32.ofInt 0)) 23 bd 0 (Int32.ofInt (-1))) (fm_sI Mt3 315 m 0 (Int32.ofInt (-1))) := by
    refine ⟨?_, ?_⟩
    · rw [rIe, rIe]
    · rw [rIf (by decide), rIe, rIe, bz_f (fun z => z rfl)]
  have RB4 : RelB bd s dd x dk q rq r m sg bl cr np B (fm_sI (fm_sI N3 22 bd 0 (Int32.ofInt 0)) 23 bd 0 (Int32.ofInt (-1))) (fm_sI Mt3 315 m 0 (Int32.ofInt (-1))) :=
    ⟨⟨stB_k k2223 (by decide) RR3.1.1 RR3.1.2.1 RB3.1.1, stTw_k k315 (by decide) RR3.2.1.2.1 RB3.1.2⟩, ⟨wrG k2223 k315 (by decide) (by decide) RR3.1.1 RR3.1.2.1 RR3.2.1.1 RR3.2.1.2.1 RB3.2.1.1, wrD k2223 k315 (by decide) (by decide) RR4 RB3.2.1.2⟩, EN⟩
  obtain ⟨_, _, _, _, _, ⟨ow3, Ow3⟩, ⟨ow3', Ow3'⟩, _⟩ := id R3
  have R4 := M_b (e := 0) R3 k2223 k315 (by decide) (by decide) RB4 (evo_q' (evo_r r 0 N3) rq4) ⟨_, own_n rfl Ow3⟩ ⟨_, own_n rfl Ow3'⟩
  -- frames
  have kc14 : WK lSR N1 (fm_sI (fm_sI N3 22 bd 0 (Int32.ofInt 0)) 23 bd 0 (Int32.ofInt (-1))) := WK_t (WK_t (WK_s (by decide) ks) (WK_s (by decide) kr)) (WK_s (by decide) k2223)
  have kt14 : WK lX92_begin Mt (fm_sI Mt3 315 m 0 (Int32.ofInt (-1))) := WK_t (WK_t (WK_s (by decide) kp) (WK_s (by decide) kt)) (WK_s (by decide) k315)
  -- the component's method
  have G4 : FX2_start fN mc Mc = some (nI n, fm_sI (fm_sI N3 22 bd 0 (Int32.ofInt 0)) 23 bd 0 (Int32.ofInt (-1))) := by
    have e190 : Int32.ofNat (Mc.2.2 1 (Mc.2.2 190 mc 0) 0) = nI np := by
      rw [R.2.2.1]
      rfl
    have H0 : HX2_start_0 mc Mc := by
      unfold HX2_start_0
      try dsimp only
      rw [e190]
      exact ⟨d1_, trivial⟩
    show FX2_start_0 fN (FX2_start_L fN fN).1 (FX2_start_L fN fN).2 mc Mc = _
    rw [(gX2_start_0 _ _ mc Mc T0 n67 H0).1]
    unfold GX2_start_0
    try dsimp only
    rw [e190, d2_]
    show (FX2_start_L fN fN).1 mc (nI n) (nI 0) N1 = _
    rw [← hj4] at c1
    rw [c1]
    have T2 := RR2.1.1
    have n67b := R2.1
    have hle : nI n ≤ nI n := (n_le (by omega) (by omega)).mpr (Nat.le_refl _)
    show FX2_start_15 fN (FX2_start_L fN (np + (j4 + 1))).1 (FX2_start_L fN (np + (j4 + 1))).2 mc (nI n) (nI n) N2 = _
    rw [(gX2_start_15 _ _ mc (nI n) (nI n) N2 T2 n67b ⟨fun _ => trivial, fun z => absurd hle z⟩).1]
    unfold GX2_start_15
    rw [fi_pos hle]
    try dsimp only
    have e190b : Int32.ofNat (N2.2.2 1 (N2.2.2 190 mc 0) 0) = nI np := by
      rw [R2.2.2.1]
      rfl
    rw [e190b, h190]
    show (FX2_start_L fN (np + (j4 + 1))).2 mc (nI n) (N1.2.2 190 mc 0) (nI np) (nI 0) N2 = _
    rw [c2]
    have n67d := R3.1
    have hle2 : nI np ≤ nI np := (n_le (by omega) (by omega)).mpr (Nat.le_refl _)
    have h190c : N3.2.2 190 mc 0 = N1.2.2 190 mc 0 := (congrFun (kf (f := 190) kr rfl (dj_n (L := [190]) (by decide) 190 rfl) (wf_lt RR2.1.2.1 (fm_ist rfl n67b))).2.2 0).trans h190
    have n922 : fm_is N3 922 922 (N1.2.2 190 mc 0) = true := by
      rw [← h190c]
      exact tN_190 RR3.1.1.1 n67d
    show FX2_start_69 fN (FX2_start_L fN j4).1 (FX2_start_L fN j4).2 mc (nI n) (N1.2.2 190 mc 0) (nI np) (nI np) N3 = _
    rw [(gX2_start_69 _ _ mc (nI n) (N1.2.2 190 mc 0) (nI np) (nI np) N3 RR3.1.1 n67d n922 ⟨fun _ => trivial, fun z => absurd hle2 z⟩).1]
    unfold GX2_start_69
    rw [fi_pos hle2]
    try dsimp only
    have w189 : N3.2.2 189 mc 0 = bd := R3.2.1
    have w189' : (fm_sI N3 22 bd 0 (Int32.ofInt 0)).2.2 189 mc 0 = bd := w189
    rw [w189, w189']
    rfl
  have kcA : WK lX2_start Mc (fm_sI (fm_sI N3 22 bd 0 (Int32.ofInt 0)) 23 bd 0 (Int32.ofInt (-1))) := wX2_start (SL lX2_start) (fun _ => True) (fun _ h => h) fN mc Mc (wi_N W) trivial (fun _ => trivial) _ G4
  obtain ⟨f1_, f2_⟩ := op_of (d := ((0 : Int32), Mc)) G4 (P := OkR Mc) ⟨T4, wk_ext W kcA⟩
  -- the twin's method
  obtain ⟨_, _, _, _, _, _, ⟨owt, Owt⟩, _⟩ := id R
  obtain ⟨OH, ORr, bl_, bh⟩ := owh_M R Owt
  have b : BgT m cr np (Mt.2.1 313 m 0) Mt := ⟨Tm, n92, R.2.2.2.2.1, np4, ⟨(relM_b R).1.2.2.1, RR.2.1.2.2.1⟩, rfl, bl_, bh⟩
  have n302 := tN_302 Tm.1 n92
  have n415 := tN_415 Tm.1 n302
  have s415 := sS_415 W' n302
  have n98 := RR.2.1.2.2.1
  have B4 := t_begin b tt ORr OH (own_r0 Owt W' n415 rfl s415 rfl) (row_ne W' (fm_ist rfl n415) s415 (sS_391 W' n98) (by decide)) (row_ne W' (fm_ist rfl n415) s415 (sS_307 W' n92) (by decide)) (row_ne W' (fm_ist rfl n415) s415 (sS_389 W' n98) (by decide))
  rw [hM3] at B4
  obtain ⟨g1_, g2_⟩ := op_of (d := ((0 : Int32), Mt)) B4 (P := OkR Mt) ⟨T4', wk_ext W' kt14⟩
  refine ⟨nI n, _, _, ⟨f1_, f2_⟩, ⟨g1_, g2_⟩, relM_up (Nat.le_refl _) (by omega) (by omega) R4, relR_k (B' := B) kc14 kt14 (by decide) (by decide) RR1.1.1 RR1.1.2.1 Tm W' n67a n92 (Nat.le_refl _) Q1, relL_k kc14 kt14 (by decide) (by decide) RR1.1.2.1 W' n67a RR4 L1,
    relS_k kc14 kt14 (by decide) (by decide) RR1.1.1 RR1.1.2.1 Tm W' n67a n92 S1, congrFun (kf (f := 296) kt14 rfl (dj_n (L := [296]) (by decide) 296 rfl) (wf_lt W' (fm_ist rfl n92))).1 0, sm_k kt14 (by decide) R, kcA, kt14⟩
end St3
