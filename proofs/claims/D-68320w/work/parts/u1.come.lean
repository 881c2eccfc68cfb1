/-! the machine: a byte that waits comes; a round's end -/
set_option maxRecDepth 100000
theorem nI_s {n : Nat} (h : n < 2147483647) : nI n + Int32.ofInt 1 = nI (n + 1) := ui_inj (by
  rw [ui_add, ui_nI, ui_nI, show ui (Int32.ofInt 1) = 1 from rfl]
  omega)
theorem nI_p {n : Nat} (h0 : 0 < n) (h : n < 2147483647) : nI n - Int32.ofInt 1 = nI (n - 1) := ui_inj (by
  rw [ui_sub, ui_nI, ui_nI, show ui (Int32.ofInt 1) = 1 from rfl]
  omega)
theorem lN_s {n : Nat} (h : n < 2147483647) : lN n + Int64.ofInt 1 = lN (n + 1) := ul_inj (by
  rw [ul_add, ul_lN, ul_lN, show ul (Int64.ofInt 1) = 1 from rfl]
  omega)
theorem nI_le0 {n : Nat} (h : n < 2147483647) : nI n ≤ 0 ↔ n = 0 := by
  rw [show (0 : Int32) = nI 0 from rfl, n_le (by omega) (by decide)]
  omega
section Cm
variable {M : FM} {a : Nat} {b b' : Int32}
theorem come_b (h : b &&& Int32.ofInt 255 = b' &&& Int32.ofInt 255) : GX96_come a b M = GX96_come a b' M ∧ (HX96_come a b M → HX96_come a b' M) := by
  have e : ∀ X : FM, GX96_takeIn a b X = GX96_takeIn a b' X := fun X => by
    unfold GX96_takeIn GX96_takeIn_0
    try dsimp only
    rw [h]
  constructor
  · unfold GX96_come GX96_come_0
    try dsimp only
    rw [e]
  · intro k
    unfold HX96_come HX96_come_0 at *
    try dsimp only at *
    rw [e] at k
    exact k
theorem come_v (h : ¬ (GX31_room (M.2.2 242 a 0) M).1 ≤ 0) : (GX30_come a b M).1 = Int32.ofInt 1 := by
  unfold GX30_come GX30_come_0 GX31_come GX31_come_0 GX31_come_12 GX31_come_57
  try dsimp only
  rw [fi_neg h, fi_neg (show ¬ (Int32.ofInt 1 : Int32) = 0 by decide)]
theorem n255 {x : Nat} (h : x < 256) : nI x &&& Int32.ofInt 255 = nI x := by
  have : ∀ y : Fin 256, nI y.1 &&& Int32.ofInt 255 = nI y.1 := by decide
  exact this ⟨x, h⟩
end Cm
section Mc
variable {bd hv m hq s dd x dk q rq r sg bl cr np mc : Nat} {B Bk Vv : Nat} {Mc Mt : FM}
theorem M_come (R : RelM bd hv m hq s dd x dk q rq r sg bl cr np mc B Bk Vv Mc Mt) (Q : RelR mc m B Mc Mt) : HX2_come mc Mc ∧ HX92_round_101 m Mt ∧ ∃ Nc Nt, GX2_come mc Mc = Nc ∧ GX92_round_101 m Mt = .inr (.inr Nt) ∧ RelM bd hv m hq s dd x dk q rq r sg bl cr np mc B Bk Vv Nc Nt ∧ RelR mc m B Nc Nt ∧ Sm m sg Nt Mt ∧ RamQ r Mc Nc ∧ WK lX2_come Mc Nc ∧ WK lX92_round Mt Nt := by
  have RR := relM_ram R
  obtain ⟨n92, np4⟩ := relM_m R
  have RB := relM_b R
  have i67 := R.1
  have v189 := R.2.1
  have T0 := RR.1.1
  have W := RR.1.2.1
  have Tm := RR.2.1.1
  have W' := RR.2.1.2.1
  have v19 : Mc.2.2 19 bd 0 = s := RB.1.1.2.2.2.1
  have v301 : Mt.2.2 301 m 0 = sg := RB.1.2.2.2.2
  obtain ⟨X, z, f, n, h1, h2, h3, h4, ⟨h5, h6⟩, ⟨h7, h8⟩, h9, h10, h11⟩ := id Q
  have e96 : Mc.1 196 mc 0 ≤ 0 ↔ z = 0 := by rw [h7]; exact nI_le0 (by omega)
  have e312 : Mt.1 312 m 0 ≤ 0 ↔ z = 0 := by rw [h8]; exact nI_le0 (by omega)
  by_cases z0 : z = 0
  · refine ⟨⟨fun _ => trivial, fun q => absurd (e96.mpr z0) q⟩, ⟨fun _ => trivial, fun q => absurd (e312.mpr z0) q⟩, Mc, Mt, ?_, ?_, R, Q, sm_r, ramQ_r RR.1, WK_r W, WK_r W'⟩
    · unfold GX2_come GX2_come_0 GX2_come_66
      try dsimp only
      rw [fi_pos (e96.mpr z0)]
    · unfold GX92_round_101 GX92_round_177
      try dsimp only
      rw [fi_pos (e312.mpr z0)]
  have c1 : ¬ Mc.1 196 mc 0 ≤ 0 := fun q => z0 (e96.mp q)
  have c2 : ¬ Mt.1 312 m 0 ≤ 0 := fun q => z0 (e312.mp q)
  obtain ⟨v, r1, r2⟩ := rel_groom RB.2.1.1
  have nsg : fm_is Mt 99 99 sg = true := by
    have := tN_301 Tm.1 n92
    rw [v301] at this
    exact this
  have k1 : WK [394] Mt (fm_sI Mt 394 sg 0 (Int32.ofInt 0)) := WK_I W' nsg rfl rfl _
  have T1 : Ty (fm_sI Mt 394 sg 0 (Int32.ofInt 0)) := ⟨Tm.1, tyb_sI rfl Tm.2⟩
  obtain ⟨_, _, _, _, _, ⟨ow, Ow⟩, ⟨ow', Ow'⟩, _⟩ := id R
  obtain ⟨R1, rq1⟩ := M_g R (WK_r (S := []) W) k1 (by decide) (by decide) T0 T1 (relG_94 RB.2.1.1 _) ⟨_, Ow⟩ ⟨_, own_n rfl Ow'⟩
  have Q1 := relR_k (B' := B) (WK_r (S := []) W) k1 (by decide) (by decide) T0 W Tm W' i67 n92 (Nat.le_refl _) Q
  by_cases c : v ≤ 0
  · refine ⟨⟨fun q => absurd q c1, fun _ => ?_⟩, ⟨fun q => absurd q c2, fun _ => ?_⟩, Mc, _, ?_, ?_, R1, Q1, ⟨rfl, rfl⟩, ramQ_r RR.1, WK_r W, WK_s (by decide) k1⟩
    · try dsimp only
      rw [v189, v19, r1]
      exact ⟨fun _ => trivial, fun q => absurd c q⟩
    · try dsimp only
      rw [v301, r2]
      exact ⟨fun _ => trivial, fun q => absurd c q⟩
    · unfold GX2_come GX2_come_0 GX2_come_66
      try dsimp only
      rw [fi_neg c1, v189, v19, r1]
      try dsimp only
      rw [fi_pos c]
    · unfold GX92_round_101 GX92_round_177
      try dsimp only
      rw [fi_neg c2, v301, r2]
      try dsimp only
      rw [fi_pos c]
  have RR1 := relM_ram R1
  have RB1 := relM_b R1
  have x9 := h9 f h2
  have f255 : sb8 (X f) &&& Int32.ofInt 255 = nI (X f) &&& Int32.ofInt 255 := by rw [sb8_and (h1 f), n255 (h1 f)]
  obtain ⟨v', XX, YY, ⟨g1, g2⟩, ⟨g3, g4⟩, RG⟩ := rel_gcome T0 W T1 RR1.2.1.2.1 RB1.2.1.1 (sb8 (X f))
  obtain ⟨b1, b2⟩ := come_b (M := fm_sI Mt 394 sg 0 (Int32.ofInt 0)) (a := sg) f255
  rw [b1] at g4
  have g3 := b2 g3
  have v1 : v' = Int32.ofInt 1 := by
    have := come_v (M := Mc) (a := s) (b := sb8 (X f)) (by rw [r1]; exact c)
    rw [g2] at this
    exact this
  subst v1
  have ns : fm_is Mc 79 79 s = true := by
    have := tN_19 T0.1 RB.1.1.1.1
    rw [v19] at this
    exact this
  have n99 : fm_is (fm_sI Mt 394 sg 0 (Int32.ofInt 0)) 99 99 sg = true := nsg
  have gx := gX30_come s (sb8 (X f)) Mc T0 ns g1
  have gy := gX96_come sg (nI (X f)) _ T1 n99 g3
  rw [g2] at gx
  rw [g4] at gy
  have kx : WK lX30_come Mc XX := wX30_come (SL lX30_come) (fun _ => True) (fun _ h => h) s _ Mc (wi_N W) trivial _ gx.1
  have kx' : Wk (SL lX30_come) (Zo ow (fm_nx Mc) 0) 0 (fm_nx Mc) Mc XX := wX30_come (SL lX30_come) (Zo ow (fm_nx Mc) 0) (fun _ h => h) s _ Mc (own_wi Ow T0 W) (Or.inr (Or.inl (own_sh Ow ns rfl))) _ gx.1
  have Ow1' : Own ow' (fm_sI Mt 394 sg 0 (Int32.ofInt 0)) := own_n rfl Ow'
  have W1' := RR1.2.1.2.1
  have ky : WK lX96_come (fm_sI Mt 394 sg 0 (Int32.ofInt 0)) YY := wX96_come (SL lX96_come) (fun _ => True) (fun _ h => h) fN sg _ _ (wi_N W1') trivial _ gy.1
  have ky' : Wk (SL lX96_come) (Zo ow' (fm_nx (fm_sI Mt 394 sg 0 (Int32.ofInt 0))) 0) 0 (fm_nx (fm_sI Mt 394 sg 0 (Int32.ofInt 0))) (fm_sI Mt 394 sg 0 (Int32.ofInt 0)) YY :=
    wX96_come (SL lX96_come) (Zo ow' (fm_nx (fm_sI Mt 394 sg 0 (Int32.ofInt 0))) 0) (fun _ h => h) fN sg _ _ (own_wi Ow1' T1 W1') (Or.inr (Or.inl (own_sh Ow1' n99 rfl))) _ gy.1
  have OX := own_k Ow T0 W kx' (xs_dj (by decide))
  have OY := own_k Ow1' T1 W1' ky' (xs_dj (by decide))
  have TX : Ty XX := gx.2.1
  have TY : Ty YY := gy.2.1
  obtain ⟨R2, rq2⟩ := M_g R1 kx ky (by decide) (by decide) TX TY RG ⟨_, OX⟩ ⟨_, OY⟩
  have Q2 := relR_k (B' := B) kx ky (by decide) (by decide) T0 W T1 W1' i67 n92 (Nat.le_refl _) Q1
  have RR2 := relM_ram R2
  have i67' := R2.1
  have n92' := (relM_m R2).1
  have lc := wf_lt W (fm_ist rfl i67)
  have lm := wf_lt W1' (fm_ist rfl (show fm_is (fm_sI Mt 394 sg 0 (Int32.ofInt 0)) 92 92 m = true from n92))
  have X195 : XX.1 195 mc 0 = nI f := (congrFun (kf (f := 195) kx rfl (dj_n (L := [195]) (by decide) 195 rfl) lc).1 0).trans h5
  have X196 : XX.1 196 mc 0 = nI z := (congrFun (kf (f := 196) kx rfl (dj_n (L := [196]) (by decide) 196 rfl) lc).1 0).trans h7
  have Y311 : YY.1 311 m 0 = nI f := (congrFun (kf (f := 311) ky rfl (dj_n (L := [311]) (by decide) 311 rfl) lm).1 0).trans ((rIf (by decide)).trans h6)
  have Y312 : YY.1 312 m 0 = nI z := (congrFun (kf (f := 312) ky rfl (dj_n (L := [312]) (by decide) 312 rfl) lm).1 0).trans ((rIf (by decide)).trans h8)
  have Y316 : Sm m sg YY Mt := (sm_k (S' := lX96_come) ky (by decide) R1).trans ⟨rfl, rfl⟩
  have md : nI (f + 1) - nI (f + 1) / Int32.ofInt 65536 * Int32.ofInt 65536 = nI ((f + 1) % 65536) := n_rest (by omega) (by decide)
  have sv : fm_sL YY 316 m 0 (YY.2.1 316 m 0) = YY := sL_self _ _ _ _
  -- the ring
  have kz : WK [195, 196] XX (fm_sI (fm_sI XX 195 mc 0 (nI ((f + 1) % 65536))) 196 mc 0 (nI (z - 1))) := by
    have a1 := WK_I RR2.1.2.1 i67' (f := 195) rfl rfl (nI ((f + 1) % 65536))
    have a2 := WK_I a1.1.1 (show fm_is (fm_sI XX 195 mc 0 (nI ((f + 1) % 65536))) 67 67 mc = true from i67') (f := 196) rfl rfl (nI (z - 1))
    exact WK_t (WK_s (by decide) a1) (WK_s (by decide) a2)
  have kw : WK [311, 312] YY (fm_sI (fm_sI YY 311 m 0 (nI ((f + 1) % 65536))) 312 m 0 (nI (z - 1))) := by
    have a1 := WK_I RR2.2.1.2.1 n92' (f := 311) rfl rfl (nI ((f + 1) % 65536))
    have a2 := WK_I a1.1.1 (show fm_is (fm_sI YY 311 m 0 (nI ((f + 1) % 65536))) 92 92 m = true from n92') (f := 312) rfl rfl (nI (z - 1))
    exact WK_t (WK_s (by decide) a1) (WK_s (by decide) a2)
  have TZ : Ty (fm_sI (fm_sI XX 195 mc 0 (nI ((f + 1) % 65536))) 196 mc 0 (nI (z - 1))) := ⟨TX.1, tyb_sI rfl (tyb_sI rfl TX.2)⟩
  have TW : Ty (fm_sI (fm_sI YY 311 m 0 (nI ((f + 1) % 65536))) 312 m 0 (nI (z - 1))) := ⟨TY.1, tyb_sI rfl (tyb_sI rfl TY.2)⟩
  obtain ⟨R3, rq3⟩ := M_k R2 kz kw (by decide) (by decide) TZ TW ⟨_, own_n rfl OX⟩ ⟨_, own_n rfl OY⟩
  refine ⟨⟨fun q => absurd q c1, fun _ => ?_⟩, ⟨fun q => absurd q c2, fun _ => ?_⟩, _, _, ?_, ?_, R3, ?_, ?_, ramQ_t (ramQ_t rq1 rq2) rq3, WK_t (WK_s (by decide) kx) (WK_s (by decide) kz), WK_t (WK_t (WK_s (by decide) k1) (WK_s (by decide) ky)) (WK_s (by decide) kw)⟩
  · try dsimp only
    rw [v189, v19, r1]
    refine ⟨fun q => absurd q c, fun _ => ?_⟩
    try dsimp only
    rw [v189, v19, h5, o_cl (by omega), x9.1]
    exact ⟨in_nI (tL_194 T0.1 i67) h2 (by decide), g1, trivial⟩
  · try dsimp only
    rw [v301, r2]
    refine ⟨fun q => absurd q c, fun _ => ?_⟩
    try dsimp only
    have e311 : (fm_sI Mt 394 sg 0 (Int32.ofInt 0)).1 311 m 0 = nI f := (rIf (by decide)).trans h6
    have e3 : (fm_sI Mt 394 sg 0 (Int32.ofInt 0)).1 3 (Mt.2.2 310 m 0) f = nI (X f) := (rIf (by decide)).trans x9.2
    rw [e311]
    refine ⟨in_nI (tL_310 Tm.1 n92) h2 (by decide), ?_⟩
    rw [o_cl (by omega)]
    show HX96_come (Mt.2.2 301 m 0) ((fm_sI Mt 394 sg 0 (Int32.ofInt 0)).1 3 (Mt.2.2 310 m 0) f) _ ∧ True
    rw [e3, v301]
    exact ⟨g3, trivial⟩
  · unfold GX2_come GX2_come_0 GX2_come_66
    try dsimp only
    rw [fi_neg c1, v189, v19, r1]
    try dsimp only
    rw [fi_neg c, v189, v19, h5, o_cl (by omega), x9.1, g2]
    try dsimp only
    rw [X195, nI_s (by omega), md, rIf (by decide), X196, nI_p (by omega) (by omega)]
  · unfold GX92_round_101 GX92_round_151 GX92_round_177
    try dsimp only
    rw [fi_neg c2, v301, r2]
    try dsimp only
    have e311 : (fm_sI Mt 394 sg 0 (Int32.ofInt 0)).1 311 m 0 = nI f := (rIf (by decide)).trans h6
    have e3 : (fm_sI Mt 394 sg 0 (Int32.ofInt 0)).1 3 (Mt.2.2 310 m 0) f = nI (X f) := (rIf (by decide)).trans x9.2
    have e301 : (fm_sI Mt 394 sg 0 (Int32.ofInt 0)).2.2 301 m 0 = sg := v301
    have e310 : (fm_sI Mt 394 sg 0 (Int32.ofInt 0)).2.2 310 m 0 = Mt.2.2 310 m 0 := rfl
    rw [fi_neg c, e311, o_cl (by omega), e301, e310, e3, g4]
    try dsimp only
    rw [fi_neg (show ¬ (Int32.ofInt 1 : Int32) = 0 by decide), sv, Y311, nI_s (by omega), md, rIf (by decide), Y312, nI_p (by omega) (by omega)]
  · obtain ⟨X2, z2, f2, n2, p1, p2, p3, p4, ⟨p5, p6⟩, ⟨p7, p8⟩, p9, p10, p11⟩ := Q2
    refine ⟨X2, z - 1, (f + 1) % 65536, n2, p1, by omega, by omega, p4, ⟨?_, ?_⟩, ⟨?_, ?_⟩, fun j hj => ⟨?_, ?_⟩, ?_, p11⟩
    · rw [rIf (by decide), rIe]
    · rw [rIf (by decide), rIe]
    · rw [rIe]
    · rw [rIe]
    · rw [rIf (by decide), rIf (by decide)]
      exact (p9 j hj).1
    · rw [rIf (by decide), rIf (by decide)]
      exact (p9 j hj).2
    · rw [rIf (by decide), rIf (by decide)]
      exact p10
  · exact Y316
end Mc
