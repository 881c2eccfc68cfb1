/-! the board against the twin's windows: writes -/
set_option maxRecDepth 100000
section Bv
variable {bd s d x dk q rq r m sg bl cr np B B' k n z : Nat} {S S' : List Nat} {M N Mc Nc Mt Nt : FM} {p v : Int64} {w : Int32}
theorem relG_up (h : RelG s sg np B Mc Mt) (hb : B ≤ B') : RelG s sg np B' Mc Mt := by
  obtain ⟨soft, num, K, S, n, n', v, v', i1, i2, i3, i4, i5, i6⟩ := h
  exact ⟨soft, num, K, S, n, n', v, v', i1, i2, i3, i4, vsi_up i5 hb, i6⟩
theorem sh16 (v : Int64) : ((v >>> ((Int32.ofInt 16).toInt64 &&& 63)) &&& Int64.ofInt 65535).toInt32 = nI (ul v / 65536 % 65536) := by
  apply ui_inj
  rw [ui_low, ul_and, show ul (Int64.ofInt 65535) = 2 ^ 16 - 1 from rfl, Nat.and_two_pow_sub_one_eq_mod, ui_nI]
  have e16 : ui (Int32.ofInt 16) % 64 = 16 := rfl
  have hl := ul_lt v
  by_cases h : ul v < 9223372036854775808
  · rw [ul_sar0 v _ h, e16]
  · rw [ul_sar1 v _ (by omega), e16]
    omega
noncomputable def eM (bd c : Nat) (M : FM) : FM := fm_sI (fm_sI M 22 bd 0 (Int32.ofInt 1)) 23 bd 0 (nI c)
theorem end_c (w : Int32) : GX10_end bd w M = fi (ui w % 65536 = 21845) (eM bd 0 M) (fi (ui w % 65536 = 13107) (eM bd (ui w / 65536) M) M) := by
  have e : ui (w &&& Int32.ofInt 65535) = ui w % 65536 := by
    rw [ui_and, show ui (Int32.ofInt 65535) = 2 ^ 16 - 1 from rfl, Nat.and_two_pow_sub_one_eq_mod]
  have e1 : (w &&& Int32.ofInt 65535 = Int32.ofInt 21845) ↔ ui w % 65536 = 21845 := ⟨fun q => by rw [← e, q]; rfl, fun q => ui_inj (by rw [e, q]; rfl)⟩
  have e2 : (w &&& Int32.ofInt 65535 = Int32.ofInt 13107) ↔ ui w % 65536 = 13107 := ⟨fun q => by rw [← e, q]; rfl, fun q => ui_inj (by rw [e, q]; rfl)⟩
  have es : (w.toUInt32 >>> ((Int32.ofInt 16).toUInt32 &&& Int32.toUInt32 31)).toInt32 = nI (ui w / 65536) := by
    apply ui_inj
    have := ui_lt w
    rw [ui_ushr, ui_nI, show ui (Int32.ofInt 16) % 32 = 16 from rfl]
    omega
  unfold GX10_end GX10_end_0 GX10_end_19 GX10_end_40 GX10_end_43
  dsimp only
  by_cases c1 : ui w % 65536 = 21845
  · rw [fi_pos (e1.mpr c1), fi_pos c1, fi_pos (e1.mpr c1)]
    rfl
  · rw [fi_neg (fun q => c1 (e1.mp q)), fi_neg c1]
    by_cases c2 : ui w % 65536 = 13107
    · rw [fi_pos (e2.mpr c2), fi_pos c2, fi_neg (fun q => c1 (e1.mp q)), es]
      rfl
    · rw [fi_neg (fun q => c2 (e2.mp q)), fi_neg c2]
theorem end_t (hn : n < 4194304) (hs : z ≤ 8) : GX92_writeWindow_46 m (nI z) v (nI 0) (lN n) M = fi (n = 0 ∧ z = 4) (fm_sI M 315 m 0 (fi (ul v % 65536 = 21845) (nI 0) (fi (ul v % 65536 = 13107) (nI (ul v / 65536 % 65536)) (M.1 315 m 0)))) M := by
  have e : ul (v &&& Int64.ofInt 65535) = ul v % 65536 := by
    rw [ul_and, show ul (Int64.ofInt 65535) = 2 ^ 16 - 1 from rfl, Nat.and_two_pow_sub_one_eq_mod]
  have e4 : (nI z = Int32.ofInt 4) = (z = 4) := nI_e (a := z) (b := 4) (by omega) (by omega)
  have e0 : lg_cmp (lN n) (Int64.ofInt 0) = 0 ↔ n = 0 := o_eq (k := 0) (by omega) (by omega)
  have e1 : lg_cmp (v &&& Int64.ofInt 65535) (Int64.ofInt 21845) = 0 ↔ ul v % 65536 = 21845 := by rw [cl_eq, e]; exact Iff.rfl
  have e2 : lg_cmp (v &&& Int64.ofInt 65535) (Int64.ofInt 13107) = 0 ↔ ul v % 65536 = 13107 := by rw [cl_eq, e]; exact Iff.rfl
  unfold GX92_writeWindow_46 GX92_writeWindow_92 GX92_writeWindow_157 GX92_writeWindow_160
  rw [fi_neg (by decide), fi_pos (show nI 0 = 0 from rfl), e4]
  dsimp only
  rw [sh16]
  by_cases c0 : n = 0
  · rw [fi_pos (e0.mpr c0)]
    by_cases c4 : z = 4
    · rw [fi_pos c4, fi_pos (show n = 0 ∧ z = 4 from ⟨c0, c4⟩)]
      by_cases c1 : ul v % 65536 = 21845
      · rw [fi_pos (e1.mpr c1), fi_pos c1]
        rfl
      · rw [fi_neg (fun q => c1 (e1.mp q)), fi_neg c1]
        by_cases c2 : ul v % 65536 = 13107
        · rw [fi_pos (e2.mpr c2), fi_pos c2]
        · rw [fi_neg (fun q => c2 (e2.mp q)), fi_neg c2]
    · rw [fi_neg c4, fi_neg (fun q => c4 q.2)]
  · rw [fi_neg (fun q => c0 (e0.mp q)), fi_neg (fun q => c0 q.1)]
theorem nI_m1 {c : Nat} (h : c < 65536) : ¬ nI c = Int32.ofInt (-1) := fun q => by
  have := congrArg ui q
  rw [ui_nI, show ui (Int32.ofInt (-1)) = 4294967295 from rfl] at this
  omega
theorem enB_e (E : EnB bd m Mc Mt) (v : Int64) : EnB bd m (GX10_end bd v.toInt32 Mc) (fm_sI Mt 315 m 0 (fi (ul v % 65536 = 21845) (nI 0) (fi (ul v % 65536 = 13107) (nI (ul v / 65536 % 65536)) (Mt.1 315 m 0)))) := by
  have e1 : ui v.toInt32 % 65536 = ul v % 65536 := by rw [ui_low]; omega
  have e2 : ui v.toInt32 / 65536 = ul v / 65536 % 65536 := by rw [ui_low]; omega
  have key : ∀ c, c < 65536 → EnB bd m (eM bd c Mc) (fm_sI Mt 315 m 0 (nI c)) := fun c hc => by
    unfold EnB eM
    refine ⟨?_, ?_⟩
    · rw [rI, if_pos ⟨rfl, rfl, rfl⟩, rI, if_pos ⟨rfl, rfl, rfl⟩]
    · rw [oI (fun q => absurd q.1 (by decide)), rI, if_pos ⟨rfl, rfl, rfl⟩, rI, if_pos ⟨rfl, rfl, rfl⟩, bz_t (nI_m1 hc)]
  rw [end_c, e1, e2]
  by_cases c1 : ul v % 65536 = 21845
  · rw [fi_pos c1, fi_pos c1]
    exact key 0 (by decide)
  · rw [fi_neg c1, fi_neg c1]
    by_cases c2 : ul v % 65536 = 13107
    · rw [fi_pos c2, fi_pos c2]
      exact key _ (by omega)
    · rw [fi_neg c2, fi_neg c2]
      unfold EnB
      rw [rI, if_pos ⟨rfl, rfl, rfl⟩]
      exact E
theorem rel_bwrite (R : RelB bd s d x dk q rq r m sg bl cr np B Mc Mt) (hp : ul p < 4611686018427387904) (hz : z4 (nI z)) (h8 : z ≤ 8) (hw : wnX p z ≠ 5) (hB : B < 2147483000) (v : Int64) :
    ∃ X Y, (HX10_write bd (wcd (wnX p z)) p (nI z) v Mc ∧ GX10_write bd (wcd (wnX p z)) p (nI z) v Mc = X) ∧ (HX92_writeWindow m p (nI z) v Mt ∧ GX92_writeWindow m p (nI z) v Mt = Y) ∧ RelB bd s d x dk q rq r m sg bl cr np (B + 1) X Y ∧ Evo r 2560000 Mc X := by
  have R0 := R
  obtain ⟨⟨⟨⟨nb, wl, wr, wc⟩, wo, b18, b19, b20⟩, ⟨nm, m298, m300, m301⟩⟩, ⟨G, D⟩, E⟩ := R
  have T := D.1.1.1
  have W := D.1.1.2.1
  have T' := D.1.2.1.1
  have W' := D.1.2.1.2.1
  obtain ⟨_, _, _, _, ns, nsg, _⟩ := id G
  have SB : StB bd r s d Mc := ⟨⟨nb, wl, wr, wc⟩, wo, b18, b19, b20⟩
  have ST : StTw m cr bl sg Mt := ⟨nm, m298, m300, m301⟩
  obtain ⟨hk, hi⟩ := wnX_in hw
  have ow := X92_windowOf (M := Mt) T' hp h8
  unfold wtw at ow
  rw [if_neg hw] at ow
  unfold wcd
  rw [if_neg hw]
  generalize wnX p z = k at *
  obtain ⟨n, n1, n2, n3⟩ := off_e hk hp (z4_p hz) hi
  have ho : GJ0_ordinal (37 + k) Mc = (nI k, Mc) := by
    rw [← wo k hk]
    rfl
  have h13 := (wc (37 + k) (by omega) (by omega)).1
  have hb := X92_baseOf (M := Mt) hk
  have R1 : RelB bd s d x dk q rq r m sg bl cr np (B + 1) Mc Mt := ⟨⟨SB, ST⟩, ⟨relG_up G (by omega), D⟩, E⟩
  unfold HX10_write HX10_write_0 GX10_write GX10_write_0 HX92_writeWindow HX92_writeWindow_0 GX92_writeWindow GX92_writeWindow_0
  dsimp only
  rw [h13, n3, ho, ow.2]
  dsimp only
  rw [hb]
  dsimp only
  rw [n3, b19, m301]
  unfold GX10_write_167 GX92_writeWindow_160
  by_cases c0 : k = 0
  · subst c0
    rw [end_t n1 h8]
    have e4 : (nI z = Int32.ofInt 4) = (z = 4) := nI_e (a := z) (b := 4) (by omega) (by omega)
    have e0 : lg_cmp (lN n) (Int64.ofInt 0) = 0 ↔ n = 0 := o_eq (k := 0) (by omega) (by omega)
    have H1 : (nI 0 = Int32.ofInt 1 → HX30_write s (Int32.ofInt 0) (lN n) (nI z) v Mc ∧ True) ∧ (¬ nI 0 = Int32.ofInt 1 → (nI 0 = Int32.ofInt 2 → HX30_write s (Int32.ofInt 1) (lN n) (nI z) v Mc ∧ True) ∧ (¬ nI 0 = Int32.ofInt 2 → (nI 0 = Int32.ofInt 3 → HX30_write s (Int32.ofInt 2) (lN n) (nI z) v Mc ∧ True) ∧ (¬ nI 0 = Int32.ofInt 3 → (nI 0 = Int32.ofInt 4 → ((GX10_isRegister (lN n) (nI z) Mc).1 = 0 → True) ∧ (¬ (GX10_isRegister (lN n) (nI z) Mc).1 = 0 → HX18_write ((GX10_isRegister (lN n) (nI z) Mc).2.2.2 20 bd 0) (lN n).toInt32 v.toInt32 (GX10_isRegister (lN n) (nI z) Mc).2 ∧ True)) ∧ (¬ nI 0 = Int32.ofInt 4 → True)))) :=
      ⟨fun q => absurd q (by decide), fun _ => ⟨fun q => absurd q (by decide), fun _ => ⟨fun q => absurd q (by decide), fun _ => ⟨fun q => absurd q (by decide), fun _ => trivial⟩⟩⟩⟩
    have H2 : HX92_writeWindow_46 m (nI z) v (nI 0) (lN n) Mt := ⟨fun q => absurd q (by decide), fun _ => trivial⟩
    rw [fi_neg (show ¬ nI 0 = Int32.ofInt 1 by decide), fi_neg (show ¬ nI 0 = Int32.ofInt 2 by decide), fi_neg (show ¬ nI 0 = Int32.ofInt 3 by decide), fi_neg (show ¬ nI 0 = Int32.ofInt 4 by decide), fi_pos (show nI 0 ≤ 0 by decide), e4]
    by_cases c : n = 0 ∧ z = 4
    · rw [fi_pos (e0.mpr c.1), fi_pos c.2, fi_pos c]
      have gx := gX10_end bd v.toInt32 Mc T nb
      have kc : WK lX10_end Mc (GX10_end bd v.toInt32 Mc) := wX10_end (SL lX10_end) (fun _ => True) (fun _ h => h) bd v.toInt32 Mc (wi_N W) trivial _ gx.1
      generalize hval : fi (ul v % 65536 = 21845) (nI 0) (fi (ul v % 65536 = 13107) (nI (ul v / 65536 % 65536)) (Mt.1 315 m 0)) = val
      have kt : WK [315] Mt (fm_sI Mt 315 m 0 val) := wk_I (wk_r (wi_N W')) rfl nm trivial (Or.inr rfl) (Nat.le_refl _)
      have TY : Ty (fm_sI Mt 315 m 0 val) := ⟨T'.1, tyb_sI rfl T'.2⟩
      obtain ⟨RR, rq', tq'⟩ := wrR kc kt (by decide) (by decide) gx.2.1 TY D.1
      refine ⟨_, _, ⟨H1, rfl⟩, ⟨⟨ow.1, fun _ => H2, fun q => absurd (show nI 0 ≤ 0 by decide) q⟩, rfl⟩, ⟨⟨stB_k kc (by decide) T W SB, stTw_k kt (by decide) W' ST⟩, ⟨relG_up (wrG kc kt (by decide) (by decide) T W T' W' G) (by omega), wrD kc kt (by decide) (by decide) RR D⟩, ?_⟩, evo_w (evo_same (fun p _ => rq'.2.2.2.2.1 p) rq'.2.2.2.1) (by omega)⟩
      rw [← hval]
      exact enB_e E v
    · rw [fi_neg c]
      refine ⟨Mc, Mt, ⟨H1, ?_⟩, ⟨⟨ow.1, fun _ => H2, fun q => absurd (show nI 0 ≤ 0 by decide) q⟩, rfl⟩, R1, evo_w (evo_r r 0 Mc) (by omega)⟩
      by_cases d1 : n = 0
      · rw [fi_pos (e0.mpr d1), fi_neg (fun q => c ⟨d1, q⟩)]
      · rw [fi_neg (fun q => d1 (e0.mp q))]
  by_cases c4 : k = 4
  · subst c4
    have n512 := n2 rfl
    have hc : ¬ nI 4 ≤ 0 := by decide
    have hc4 : Int32.ofInt 4 ≤ nI 4 := by decide
    rw [fi_neg (show ¬ nI 4 = Int32.ofInt 1 by decide), fi_neg (show ¬ nI 4 = Int32.ofInt 2 by decide), fi_neg (show ¬ nI 4 = Int32.ofInt 3 by decide), fi_pos (show nI 4 = Int32.ofInt 4 by decide), fi_neg hc, fi_pos hc4, reg_c n1 h8]
    unfold HX92_writeWindow_46 GX92_writeWindow_46 GX10_write_141
    dsimp only
    rw [fi_pos (show nI 4 = Int32.ofInt 4 by decide), reg_t n1 h8]
    dsimp only
    by_cases cq : z = 4 ∧ n % 4 = 0 ∧ n < 512
    · rw [bz_t cq, fi_neg (show ¬ Int32.ofInt 1 = 0 by decide), fi_neg (show ¬ Int32.ofInt 1 = 0 by decide), b20, m300, o_32 (by omega)]
      obtain ⟨h1, h2, D1, E1⟩ := rel_dwrite D (o := n) cq.2.2 cq.2.1 v.toInt32
      have gx := gX18_write d (nI n) v.toInt32 Mc T D.2.1.1.1 h1
      have gy := gX95_write bl (nI n) v.toInt32 Mt T' D.2.2.1.1 h2
      have kc : WK lX18_write Mc (GX18_write d (nI n) v.toInt32 Mc) := wX18_write (SL lX18_write) (fun _ => True) (fun _ h => h) fN d (nI n) v.toInt32 Mc (wi_N W) trivial _ gx.1
      have kt : WK lX95_write Mt (GX95_write bl (nI n) v.toInt32 Mt) := wX95_write (SL lX95_write) (fun _ => True) (fun _ h => h) fN bl (nI n) v.toInt32 Mt (wi_N W') trivial _ gy.1
      have SB1 := stB_k kc (by decide) T W SB
      have ST1 := stTw_k kt (by decide) W' ST
      have G1 := wrG kc kt (by decide) (by decide) T W T' W' G
      have En1 := enB_k kc kt (by decide) (by decide) W W' nb nm E
      generalize GX18_write d (nI n) v.toInt32 Mc = X1 at *
      generalize GX95_write bl (nI n) v.toInt32 Mt = Y1 at *
      have TX1 := D1.1.1.1
      have WX1 := D1.1.1.2.1
      have TY1 := D1.1.2.1.1
      have WY1 := D1.1.2.1.2.1
      have el := rel_line_d D1
      rw [SB1.2.2.2.1, SB1.2.2.2.2, ST1.2.2.1, ST1.2.2.2, el]
      dsimp only
      have kc1 : WK [] X1 X1 := WK_r WX1
      have kt1 : WK [324] Y1 (fm_sI Y1 324 bl 0 (Int32.ofInt 0)) := wk_I (wk_r (wi_N WY1)) rfl D1.2.2.1.1 trivial (Or.inr rfl) (Nat.le_refl _)
      have TY2 : Ty (fm_sI Y1 324 bl 0 (Int32.ofInt 0)) := ⟨TY1.1, tyb_sI rfl TY1.2⟩
      have WY2 := kt1.1.1
      obtain ⟨RR1, _, _⟩ := wrR kc1 kt1 (by decide) (by decide) TX1 TY2 D1.1
      have D2 := wrD kc1 kt1 (by decide) (by decide) RR1 D1
      have G2 := wrG kc1 kt1 (by decide) (by decide) TX1 WX1 TY1 WY1 G1
      have ST2 := stTw_k kt1 (by decide) WY1 ST1
      have En2 := enB_k kc1 kt1 (by decide) (by decide) WX1 WY1 SB1.1.1 ST1.1 En1
      generalize fm_sI Y1 324 bl 0 (Int32.ofInt 0) = Y2 at *
      obtain ⟨_, _, _, _, ns1, nsg2, _⟩ := id G2
      obtain ⟨hs2, G3⟩ := rel_gsig TX1 WX1 TY2 WY2 G2 (¬ X1.1 66 d 0 = 0)
      have n241 := tN_241 TX1.1 ns1
      have gx3 := gX33_signal (X1.2.2 241 s 0) (Int32.ofInt 1) (bz (¬ X1.1 66 d 0 = 0)) X1 TX1 n241
      have gy3 := gX96_signal sg (Int32.ofInt 1) (bz (¬ X1.1 66 d 0 = 0)) Y2 TY2 nsg2 hs2
      have kc3 : WK lX33_signal X1 (GX33_signal (X1.2.2 241 s 0) (Int32.ofInt 1) (bz (¬ X1.1 66 d 0 = 0)) X1) := wX33_signal (SL lX33_signal) (fun _ => True) (fun _ h => h) _ _ _ X1 (wi_N WX1) trivial _ gx3.1
      have kt3 : WK lX96_signal Y2 (GX96_signal sg (Int32.ofInt 1) (bz (¬ X1.1 66 d 0 = 0)) Y2) := wX96_signal (SL lX96_signal) (fun _ => True) (fun _ h => h) fN _ _ _ Y2 (wi_N WY2) trivial _ gy3.1
      obtain ⟨RR3, rq3, _⟩ := wrR kc3 kt3 (by decide) (by decide) gx3.2.1 gy3.2.1 D2.1
      have D3 := wrD kc3 kt3 (by decide) (by decide) RR3 D2
      refine ⟨GX33_signal (X1.2.2 241 s 0) (Int32.ofInt 1) (bz (¬ X1.1 66 d 0 = 0)) X1, _, ⟨⟨fun q => absurd q (by decide), fun _ => ⟨fun q => absurd q (by decide), fun _ => ⟨fun q => absurd q (by decide), fun _ => ⟨fun _ => ⟨fun q => absurd q (by decide), fun _ => ⟨h1, trivial⟩⟩, fun q => absurd rfl q⟩⟩⟩⟩, ?_⟩,
        ⟨⟨ow.1, fun q => absurd q hc, fun _ => ⟨fun _ => ⟨fun _ => ⟨fun q => absurd q (by decide), fun _ => ⟨h2, hs2, trivial⟩⟩, fun q => absurd rfl q⟩, fun q => absurd hc4 q⟩⟩, rfl⟩,
        ⟨⟨stB_k kc3 (by decide) TX1 WX1 SB1, stTw_k kt3 (by decide) WY2 ST2⟩, ⟨relG_up G3 (by omega), D3⟩, enB_k kc3 kt3 (by decide) (by decide) WX1 WY2 SB1.1.1 ST2.1 En2⟩, evo_q' E1 rq3⟩
      by_cases c66 : X1.1 66 d 0 = 0
      · rw [fi_pos c66, bz_f (fun q => q c66)]
        rfl
      · rw [fi_neg c66, bz_t c66]
        rfl
    · rw [bz_f cq, fi_pos (show Int32.ofInt 0 = 0 from rfl), fi_pos (show Int32.ofInt 0 = 0 from rfl)]
      refine ⟨Mc, _, ⟨⟨fun q => absurd q (by decide), fun _ => ⟨fun q => absurd q (by decide), fun _ => ⟨fun q => absurd q (by decide), fun _ => ⟨fun _ => ⟨fun _ => trivial, fun q => absurd rfl q⟩, fun q => absurd rfl q⟩⟩⟩⟩, rfl⟩,
        ⟨⟨ow.1, fun q => absurd q hc, fun _ => ⟨fun _ => ⟨fun _ => ⟨fun _ => trivial, fun q => absurd rfl q⟩, fun q => absurd rfl q⟩, fun q => absurd hc4 q⟩⟩, rfl⟩, ?_, evo_w (evo_r r 0 Mc) (by omega)⟩
      unfold GX92_writeWindow_92 GX92_writeWindow_160
      rw [fi_neg (by decide)]
      exact R1
  · -- one of the three
    obtain ⟨j, hj, rfl⟩ : ∃ j, j < 3 ∧ k = j + 1 := ⟨k - 1, by omega, by omega⟩
    obtain ⟨X, Y, ⟨x1, x2⟩, ⟨y1, y2⟩, G1⟩ := rel_gwrite (n := n) (z := nI z) T W T' W' G hB hj (by omega) hz v
    have gx := gX30_write s (nI j) (lN n) (nI z) v Mc T ns x1
    have gy := gX96_write sg (nI j) (lN n) (nI z) v Mt T' nsg y1
    have kc : WK lX30_write Mc X := by
      have h := wX30_write (SL lX30_write) (fun _ => True) (fun _ h => h) s (nI j) (lN n) (nI z) v Mc (wi_N W) trivial _ gx.1
      rw [x2] at h
      exact h
    have kt : WK lX96_write Mt Y := by
      have h := wX96_write (SL lX96_write) (fun _ => True) (fun _ h => h) fN sg (nI j) (lN n) (nI z) v Mt (wi_N W') trivial _ gy.1
      rw [y2] at h
      exact h
    have TX : Ty X := by
      have h := gx.2.1
      rw [x2] at h
      exact h
    have TY : Ty Y := by
      have h := gy.2.1
      rw [y2] at h
      exact h
    obtain ⟨RR, rq', tq'⟩ := wrR kc kt (by decide) (by decide) TX TY D.1
    have res : RelB bd s d x dk q rq r m sg bl cr np (B + 1) X Y :=
      ⟨⟨stB_k kc (by decide) T W SB, stTw_k kt (by decide) W' ST⟩, ⟨G1, wrD kc kt (by decide) (by decide) RR D⟩, enB_k kc kt (by decide) (by decide) W W' nb nm E⟩
    have ev : Evo r 2560000 Mc X := evo_w (evo_same (fun p _ => rq'.2.2.2.2.1 p) rq'.2.2.2.1) (by omega)
    have e : j = 0 ∨ j = 1 ∨ j = 2 := by omega
    rcases e with rfl | rfl | rfl
    · refine ⟨X, Y, ⟨⟨fun _ => ⟨x1, trivial⟩, fun q => absurd rfl q⟩, ?_⟩, ⟨⟨ow.1, fun q => absurd q (by decide), fun _ => ⟨fun q => absurd q (by decide), fun _ => ⟨y1, trivial⟩⟩⟩, ?_⟩, res, ev⟩
      · rw [fi_pos (show nI (0 + 1) = Int32.ofInt 1 from rfl), show Int32.ofInt 0 = nI 0 from rfl, x2]
      · rw [fi_neg (by decide), fi_neg (by decide), show nI (0 + 1) - Int32.ofInt 1 = nI 0 from rfl, y2]
    · refine ⟨X, Y, ⟨⟨fun q => absurd q (by decide), fun _ => ⟨fun _ => ⟨x1, trivial⟩, fun q => absurd rfl q⟩⟩, ?_⟩, ⟨⟨ow.1, fun q => absurd q (by decide), fun _ => ⟨fun q => absurd q (by decide), fun _ => ⟨y1, trivial⟩⟩⟩, ?_⟩, res, ev⟩
      · rw [fi_neg (by decide), fi_pos (show nI (1 + 1) = Int32.ofInt 2 from rfl), show Int32.ofInt 1 = nI 1 from rfl, x2]
      · rw [fi_neg (by decide), fi_neg (by decide), show nI (1 + 1) - Int32.ofInt 1 = nI 1 from rfl, y2]
    · refine ⟨X, Y, ⟨⟨fun q => absurd q (by decide), fun _ => ⟨fun q => absurd q (by decide), fun _ => ⟨fun _ => ⟨x1, trivial⟩, fun q => absurd rfl q⟩⟩⟩, ?_⟩, ⟨⟨ow.1, fun q => absurd q (by decide), fun _ => ⟨fun q => absurd q (by decide), fun _ => ⟨y1, trivial⟩⟩⟩, ?_⟩, res, ev⟩
      · rw [fi_neg (by decide), fi_neg (by decide), fi_pos (show nI (2 + 1) = Int32.ofInt 3 from rfl), show Int32.ofInt 2 = nI 2 from rfl, x2]
      · rw [fi_neg (by decide), fi_neg (by decide), show nI (2 + 1) - Int32.ofInt 1 = nI 2 from rfl, y2]
end Bv
