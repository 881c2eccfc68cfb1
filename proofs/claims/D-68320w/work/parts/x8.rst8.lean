/-! start: one processor is reset, both sides -/
set_option maxRecDepth 100000
def lTw : List Nat := [345, 347, 353, 360, 364, 365, 368, 369, 370, 371, 1307, 1346, 1361, 1367, 1389, 1427, 1428]
theorem rcF_k {fu rg : Nat} {M : FM} (T : Ty M) (W : Wf M) (n : fm_is M 32 32 fu = true) (e : M.2.2 93 fu 0 = rg) : WK [91, 92, 95, 96, 1093] M (rcF fu rg M) := by
  have n93 : fm_is M 902 902 rg = true := by rw [← e]; exact tN_93 T.1 n
  have s93 : Sf M rg 93 := by rw [← e]; exact sS_93 W n
  have k0 := wk_rz W n93 s93 32
  have g1 := gX59_putFlags fu (Int32.ofInt 0) (rz rg M 32) (rz_ty T) n
  have k1 : WK lX59_putFlags (rz rg M 32) (GX59_putFlags fu (Int32.ofInt 0) (rz rg M 32)) := wX59_putFlags (SL lX59_putFlags) (fun _ => True) (fun _ h => h) fu _ _ (wi_N k0.1.1) trivial _ g1.1
  have n1 := kis k1 k0.1.1 rfl (show fm_is (rz rg M 32) 32 32 fu = true from n)
  have g2 := gX59_putMode fu (Int32.ofInt 0) (GX59_putFlags fu (Int32.ofInt 0) (rz rg M 32)) g1.2.1 n1
  have k2 : WK lX59_putMode (GX59_putFlags fu (Int32.ofInt 0) (rz rg M 32)) (GX59_putMode fu (Int32.ofInt 0) (GX59_putFlags fu (Int32.ofInt 0) (rz rg M 32))) := wX59_putMode (SL lX59_putMode) (fun _ => True) (fun _ h => h) fu _ _ (wi_N k1.1.1) trivial _ g2.1
  have n2 := kis k2 k1.1.1 rfl n1
  have g3 := gX59_calm fu (GX59_putMode fu (Int32.ofInt 0) (GX59_putFlags fu (Int32.ofInt 0) (rz rg M 32))) g2.2.1 n2
  have k3 : WK lX59_calm (GX59_putMode fu (Int32.ofInt 0) (GX59_putFlags fu (Int32.ofInt 0) (rz rg M 32))) (rcF fu rg M) := wX59_calm (SL lX59_calm) (fun _ => True) (fun _ h => h) fu _ (wi_N k2.1.1) trivial _ g3.1
  exact WK_t (WK_t (WK_t (WK_s (by decide) k0) (WK_s (by decide) k1)) (WK_s (by decide) k2)) (WK_s (by decide) k3)
theorem rcI_k {a : Nat} {e : Int64} {M : FM} (T : Ty M) (W : Wf M) (n : fm_is M 63 63 a = true) : WK [174, 179, 1178] M (rcI a e M) ∧ Ty (rcI a e M) := by
  have n64 := tN_171 T.1 n
  have k0 : WK [1000 + 178] M (rz (rgI a M) M 32) := wk_rz W (tN_178 T.1 n64) (sS_178 W n64) 32
  have g1 := gX47_jump a e (rz (rgI a M) M 32) (rz_ty T) n
  have k1 : WK lX47_jump (rz (rgI a M) M 32) (rcI a e M) := wX47_jump (SL lX47_jump) (fun _ => True) (fun _ h => h) a e _ (wi_N k0.1.1) trivial _ g1.1
  exact ⟨WK_t (WK_s (by decide) k0) (WK_s (by decide) k1), g1.2.1⟩
section Pr
variable {p h bd a fu rg u t hv kp fd m c1 f1 d1 w1 hq s dd x dk q rq r g sg bl cr np : Nat} {cf : Nat → Nat} {kn : Int32} {o : Option Wt} {fs : Fs} {B Bk Vv : Nat} {K : Rg} {F T : Nat → Nat} {rt : Int32} {tb : Int64} {Mc Mt : FM} {e : Int64}
theorem P_reset (R : RelP p h bd a fu cf rg u t hv kp fd m c1 f1 d1 w1 hq s dd x dk q rq r g sg bl cr np kn o fs B Bk Vv K F T rt tb Mc Mt) (Gd : GdC g Mc) (he : ev e) :
    ∃ Nc F' T', (HX46_reset p e Mc ∧ GX46_reset p e Mc = Nc) ∧ RelP p h bd a fu cf rg u t hv kp fd m c1 f1 d1 w1 hq s dd x dk q rq r g sg bl cr np kn none (fsZ fs.2.2.2.2) B Bk (Vv + 1) rgZ F' T' rt tb Nc (rsS Mt.2.2 m h (rsA Mt.2.2 m cr e h Mt)) ∧ Evo r 0 Mc Nc ∧ GdC g Nc ∧
      WK lX46_reset Mc Nc ∧ WK lTw Mt (rsS Mt.2.2 m h (rsA Mt.2.2 m cr e h Mt)) ∧ Br m h sg (rsS Mt.2.2 m h (rsA Mt.2.2 m cr e h Mt)) Mt := by
  obtain ⟨j1, hj1⟩ : ∃ j, fN = 32 + (8 + (j + 1) + 1) := ⟨fN - 42, by unfold fN; omega⟩
  have RR := relP_ram R
  have T0 := RR.1.1
  have W := RR.1.2.1
  have Tm := RR.2.1.1
  have W' := RR.2.1.2.1
  obtain ⟨⟨n75, v0, v1, v2, v3, v4, v5, v6, v7, v8⟩, _⟩ := id R.1
  obtain ⟨n92, y1, y2, y3, ⟨y4, y5⟩, ⟨y6, y7⟩, ⟨y8, y9⟩, ⟨ya, yb⟩, yc⟩ := id R.2.1.1
  have n63 := R.2.2.2.1.1.1
  have n94 := R.2.2.2.1.2.1
  -- integers
  obtain ⟨RI1, E1⟩ := st_int T0 R.2.2.2.1 he
  obtain ⟨kA, TA⟩ := rcI_k (e := e) T0 W n63
  obtain ⟨hA, eA⟩ := sr_core Tm n94 e
  have gA := gX98_reset c1 e Mt hA
  have kA' : WK lX98_reset Mt (GX98_reset c1 e Mt) := wX98_reset (SL lX98_reset) (fun _ => True) (fun _ h => h) fN c1 e Mt (wi_N W') trivial _ gA.1
  have TA' := gA.2.1
  rw [eA] at kA' TA'
  obtain ⟨R1, rq1⟩ := relP_i kA kA' (by decide) (by decide) TA TA' R E1 RI1
  have bA := b316 kA' (by decide) R
  have l178 : Mc.2.2 1 (rgI a Mc) 0 = 32 := tL_178 T0.1 (tN_171 T0.1 n63)
  have RF0 := R.2.2.2.2.2.1
  have n32 := RF0.1.1.2.1
  have e93 := RF0.1.2.2.1.1
  have l93 := RF0.1.2.2.1.2
  have neG : rgI a Mc ≠ rg := by
    rw [← e93]
    have n64 := tN_171 T0.1 n63
    exact row_ne W (fm_ist rfl (tN_178 T0.1 n64)) (sS_178 W n64) (sS_93 W n32) (by decide)
  -- floats
  obtain ⟨C1, hC1⟩ : ∃ C, rsCo (Mt.2.2 346 c1 0) c1 e Mt = C := ⟨_, rfl⟩
  obtain ⟨D1, hD1⟩ : ∃ D, rcI a e Mc = D := ⟨_, rfl⟩
  rw [hC1, hD1] at R1
  rw [hC1] at kA' TA' bA
  rw [hD1] at kA TA rq1
  have rC1 : C1.2.2 = Mt.2.2 := by rw [← hC1]; rfl
  have RR1 := relP_ram R1
  obtain ⟨RF2, FU, FT⟩ := st_flo R1.2.2.2.2.2.1
  have kB := rcF_k RR1.1.1 RR1.1.2.1 R1.2.2.2.2.2.1.1.1.2.1 R1.2.2.2.2.2.1.1.2.2.1.1
  have n96 := R1.2.2.2.2.2.1.2.1.2.1
  obtain ⟨hB, eB⟩ := sr_float RR1.2.1.1 n96
  have gB := gX99_reset f1 C1 hB
  have kB' : WK lX99_reset C1 (GX99_reset f1 C1) := wX99_reset (SL lX99_reset) (fun _ => True) (fun _ h => h) fN f1 C1 (wi_N RR1.2.1.2.1) trivial _ gB.1
  rw [eB] at kB'
  obtain ⟨R2, rq2⟩ := relP_f kB kB' (by decide) (by decide) FU.1 FT.1 R1 RF2
  have bB := (b316 kB' (by decide) R1).trans bA
  obtain ⟨C2, hC2⟩ : ∃ C, rsFl (C1.2.2 367 f1 0) f1 C1 = C := ⟨_, rfl⟩
  obtain ⟨D2, hD2⟩ : ∃ D, rcF fu rg D1 = D := ⟨_, rfl⟩
  rw [hC2, hD2] at R2
  rw [hC2] at kB' bB
  rw [hD2] at kB rq2
  have rC2 : C2.2.2 = Mt.2.2 := by rw [← hC2]; exact rC1
  -- controls
  have RR2 := relP_ram R2
  have RC2 := R2.2.2.2.2.1
  obtain ⟨n75b, w0_, w1_, w2_, w3_, w4_, w5_, w6_, w7_, w8_⟩ := id R2.1.1
  have t384 : D2.2.2 0 (tbl D2 u 384) 0 = 17 := RC2.1.2.2.1.1 (384, 17, Int64.ofInt (-1)) (by decide)
  have i384 : fm_is D2 14 17 (tbl D2 u 384) = true := fm_isi (by omega) (by omega)
  have hC : HX46_resetControls p D2 := by
    unfold HX46_resetControls HX46_resetControls_0 HX46_table HX46_table_0
    try dsimp only
    refine ⟨⟨?_, trivial⟩, trivial⟩
    show fm_is D2 14 17 (D2.2.2 3 (D2.2.2 25 (D2.2.2 213 p 0) 0) 384) = true
    rw [w4_]
    exact i384
  have gC := gX46_resetControls p D2 RR2.1.1 n75b hC
  have eC : GX46_resetControls p D2 = rsC u D2 := by
    rw [c_reset, w4_]
  have kC : WK lX46_resetControls D2 (GX46_resetControls p D2) := wX46_resetControls (SL lX46_resetControls) (fun _ => True) (fun _ h => h) p D2 (wi_N RR2.1.2.1) trivial _ gC.1
  have TC := gC.2.1
  rw [eC] at kC TC
  obtain ⟨hD, RC3⟩ := rel_reset RC2 TC
  have nd := RC2.2.1.2.1
  have gD := gX100_reset d1 C2 hD
  have kC' : WK lX100_reset C2 (GX100_reset d1 C2) := wX100_reset (SL lX100_reset) (fun _ => True) (fun _ h => h) fN d1 C2 (wi_N RR2.2.1.2.1) trivial _ gD.1
  obtain ⟨R3, rq3⟩ := relP_u kC kC' (by decide) (by decide) TC gD.2.1 R2 RC3
  have bC := (b316 kC' (by decide) R2).trans bB
  rw [(sr_desk RR2.2.1.1 nd).2] at R3 kC' bC
  obtain ⟨C3, hC3⟩ : ∃ C, rsDe (C2.2.2 361 d1 0) d1 C2 = C := ⟨_, rfl⟩
  obtain ⟨D3, hD3⟩ : ∃ D, rsC u D2 = D := ⟨_, rfl⟩
  rw [hC3, hD3] at R3
  rw [hC3] at kC' bC
  rw [hD3] at kC eC rq3
  have rC3 : C3.2.2 = Mt.2.2 := by rw [← hC3]; exact rC2
  -- regions
  have RR3 := relP_ram R3
  have RT3 := R3.2.2.2.2.2.2.1
  obtain ⟨⟨rt0, tb0, VC⟩, VT, I3, Cv3, _⟩ := id RT3
  have e288 : D3.2.2 288 t 0 = g := VC.2.2.2.2.1
  have ng : fm_is D3 90 90 g = true := by
    rw [← e288]
    exact tN_288 RR3.1.1.1 VC.2.2.1
  have ng0 : fm_is Mc 90 90 g = true := by
    obtain ⟨⟨rt1, tb1, VC0⟩, _⟩ := id R.2.2.2.2.2.2.1
    rw [← VC0.2.2.2.2.1]
    exact tN_288 T0.1 VC0.2.2.1
  have k03 : WK [37, 41, 91, 92, 95, 96, 174, 179, 1093, 1178] Mc D3 := WK_t (WK_t (WK_s (by decide) kA) (WK_s (by decide) kB)) (WK_s (by decide) kC)
  have Gd3 : GdC g D3 := gdC_k k03 (by decide) T0 W ng0 Gd
  obtain ⟨n75c, u0_, u1_, u2_, u3_, u4_, u5_, u6_, u7_, u8_⟩ := id R3.1.1
  obtain ⟨X, x1, TX, frX, kX, vX⟩ := cr_90 (p := p) RR3.1.2.1 n75c ng Gd3.1 8 0 (j1 + 1) D3 rfl RR3.1.1 (frG_r g D3) (WK_r RR3.1.2.1) (fun j hj => absurd hj (Nat.not_lt_zero j))
  have rX : X.2.2 = D3.2.2 := frX.1
  have ngX : fm_is X 90 90 g = true := by unfold fm_is at *; rw [rX]; exact ng
  have SX : StG g X := fun i j hi hj q => Gd3.1 i j hi hj (by rw [← rgn_e rX, ← rgn_e rX]; exact q)
  have OX : OdS X := fun k hk => (frX.2.1 10 (33 + k) 0 (fun z => by rcases z with z | z <;> exact absurd z.1 (by decide))).trans (Gd3.2 k hk)
  obtain ⟨D4, ⟨hL, eL⟩, T4, fr4, v4_, x285⟩ := X86_lay rgZ_i TX ngX SX OX vX
  have gL := gX86_lay g X hL
  have kL : WK lX86_lay X (GX86_lay g X) := wX86_lay (SL lX86_lay) (fun _ => True) (fun _ h => h) fN g X (wi_N kX.1.1) trivial _ gL.1
  rw [eL] at kL
  have kD : WK [280, 281, 282, 283, 285] D3 D4 := WK_t (WK_s (by decide) kX) (WK_s (by decide) kL)
  have X285 : X.1 285 g 0 = D3.1 285 g 0 := congrFun (kf (f := 285) kX rfl (dj_n (L := [285]) (by decide) 285 rfl) (wf_lt RR3.1.2.1 (fm_ist rfl ng))).1 0
  have n101 := VT.1
  obtain ⟨hW, eW⟩ := sr_walk RR3.2.1.1 n101
  have gW := gX101_reset w1 C3 hW
  have kD' : WK lX101_reset C3 (GX101_reset w1 C3) := wX101_reset (SL lX101_reset) (fun _ => True) (fun _ h => h) fN w1 C3 (wi_N RR3.2.1.2.1) trivial _ gW.1
  have TW := gW.2.1
  rw [eW] at kD' TW
  have vW : VGt w1 (rsWk (C3.2.2 428 w1 0) (C3.2.2 427 w1 0) C3) rgZ := ⟨fun i hi => if_pos ⟨rfl, rfl, hi⟩, fun i hi => if_pos ⟨rfl, rfl, hi⟩⟩
  obtain ⟨F', T', C'⟩ := cov_all rgZ_i
  obtain ⟨R4, rq4⟩ := relP_w (S := [280, 281, 282, 283, 285]) (S' := lX101_reset) (K' := rgZ) (F' := F') (T' := T') (Vv' := Vv + 1) (rt' := rt) (tb' := tb) kD kD' (by decide) (by decide) T4 TW R3
    (fun RN h202 E _ => relT_G (S' := lX101_reset) (frG_t frX fr4) kD' (by decide) RR3.2.1.1 RR3.2.1.2.1 rgZ_i C' v4_ vW (Or.inr (x285.trans (by rw [X285]))) RT3 RN h202 E RR3.1)
  obtain ⟨C4, hC4⟩ : ∃ C, rsWk (C3.2.2 428 w1 0) (C3.2.2 427 w1 0) C3 = C := ⟨_, rfl⟩
  have bD := (b316 (S' := lX101_reset) kD' (by decide) R3).trans bC
  rw [hC4] at R4 kD' TW bD
  have rC4 : C4.2.2 = Mt.2.2 := by rw [← hC4]; exact rC3
  -- waiting
  obtain ⟨R5, rq5, k5'⟩ := P_park (b := Int32.ofInt 0) R4 (Or.inl rfl)
  rw [show (Int32.ofInt 0 &&& 1 : Int32) = Int32.ofInt 0 by decide] at R5 k5'
  have RR4 := relP_ram R4
  have k5 : WK [218] D4 (fm_sI D4 218 p 0 (Int32.ofInt 0)) := WK_I RR4.1.2.1 R4.1.1.1 rfl rfl _
  have b5 : Br m h sg (fm_sI C4 3 (C4.2.2 307 m 0) h (Int32.ofInt 0)) Mt := br_pk.trans bD
  -- the reservation
  have RR5 := relP_ram R5
  have hp4 : h < 4 := by omega
  have RD := rel_drop RR5 hp4
  have n73 := RR5.1.2.2.1
  have n98 := RR5.2.1.2.2.1
  have k6 : WK [208] (fm_sI D4 218 p 0 (Int32.ofInt 0)) (fm_sI (fm_sI D4 218 p 0 (Int32.ofInt 0)) 208 (rsv (fm_sI D4 218 p 0 (Int32.ofInt 0)) r h) 0 (Int32.ofInt 0)) := WK_I RR5.1.2.1 (rsv_is RR5.1.1 n73 hp4) rfl rfl _
  have k6' := WK_aL (i := h) RR5.2.1.2.1 (tN_389 RR5.2.1.1.1 n98) (sS_389 RR5.2.1.2.1 n98) (Int64.ofInt 0)
  have R6 := relP_m (e := 0) k6 k6' (by decide) (by decide) (by decide) (by decide) RD (evo_same (fun _ _ => rfl) (fun _ _ => rfl)) R5
  obtain ⟨D6, hD6⟩ : ∃ D, fm_sI (fm_sI D4 218 p 0 (Int32.ofInt 0)) 208 (rsv (fm_sI D4 218 p 0 (Int32.ofInt 0)) r h) 0 (Int32.ofInt 0) = D := ⟨_, rfl⟩
  obtain ⟨C6, hC6⟩ : ∃ C, fm_sL (fm_sI C4 3 (C4.2.2 307 m 0) h (Int32.ofInt 0)) 3 ((fm_sI C4 3 (C4.2.2 307 m 0) h (Int32.ofInt 0)).2.2 389 cr 0) h (Int64.ofInt 0) = C := ⟨_, rfl⟩
  have E6 : Evo r 0 (fm_sI D4 218 p 0 (Int32.ofInt 0)) (fm_sI (fm_sI D4 218 p 0 (Int32.ofInt 0)) 208 (rsv (fm_sI D4 218 p 0 (Int32.ofInt 0)) r h) 0 (Int32.ofInt 0)) := evo_same (fun _ _ => rfl) (fun _ _ => rfl)
  have b6 := (b316 k6' (by decide) R5).trans b5
  rw [hD6, hC6] at R6
  rw [hD6] at k6 E6
  rw [hC6] at k6' b6
  have rC6 : C6.2.2 = Mt.2.2 := by rw [← hC6]; exact rC4
  -- two registers
  have RR6 := relP_ram R6
  have n63' := R6.2.2.2.1.1.1
  have n64' := tN_171 RR6.1.1.1 n63'
  obtain ⟨RI7, E7⟩ := st_reg (k := 10) RR6.1.1 R6.2.2.2.1 (by decide) (lN h) R6.2.1.2.2
  have k7 : WK [1000 + 178] D6 (stC a 10 (lN h) D6) := WK_aL RR6.1.2.1 (tN_178 RR6.1.1.1 n64') (sS_178 RR6.1.2.1 n64') _
  have k7a : WK [345] C6 (fm_sI C6 345 c1 0 (Int32.ofInt 0)) := WK_I RR6.2.1.2.1 R6.2.2.2.1.2.1 rfl rfl _
  have k7b : WK [1000 + 346] (fm_sI C6 345 c1 0 (Int32.ofInt 0)) (stR (C6.2.2 346 c1 0) c1 10 (lN h) C6) := WK_aL k7a.1.1 (tN_346 RR6.2.1.1.1 R6.2.2.2.1.2.1) (show Sf C6 (C6.2.2 346 c1 0) 346 from sS_346 RR6.2.1.2.1 R6.2.2.2.1.2.1) _
  have k7' : WK [345, 1346] C6 (stR (C6.2.2 346 c1 0) c1 10 (lN h) C6) := WK_t (WK_s (by decide) k7a) (WK_s (by decide) k7b)
  obtain ⟨R7, rq7⟩ := relP_i k7 k7' (by decide) (by decide) ⟨RR6.1.1.1, RR6.1.1.2⟩ (stR_ty RR6.2.1.1) R6 E7 RI7
  have b7 := (b316 k7' (by decide) R6).trans b6
  obtain ⟨D7, hD7⟩ : ∃ D, stC a 10 (lN h) D6 = D := ⟨_, rfl⟩
  obtain ⟨C7, hC7⟩ : ∃ C, stR (C6.2.2 346 c1 0) c1 10 (lN h) C6 = C := ⟨_, rfl⟩
  rw [hD7, hC7] at R7
  rw [hD7] at k7 rq7
  rw [hC7] at k7' b7
  have rC7 : C7.2.2 = Mt.2.2 := by rw [← hC7]; exact rC6
  have RR7 := relP_ram R7
  have n63'' := R7.2.2.2.1.1.1
  have n64'' := tN_171 RR7.1.1.1 n63''
  obtain ⟨RI8, E8⟩ := st_reg (k := 11) RR7.1.1 R7.2.2.2.1 (by decide) (Int64.ofInt 2151669760) R7.2.1.2.2
  have k8 : WK [1000 + 178] D7 (stC a 11 (Int64.ofInt 2151669760) D7) := WK_aL RR7.1.2.1 (tN_178 RR7.1.1.1 n64'') (sS_178 RR7.1.2.1 n64'') _
  have k8a : WK [345] C7 (fm_sI C7 345 c1 0 (Int32.ofInt 0)) := WK_I RR7.2.1.2.1 R7.2.2.2.1.2.1 rfl rfl _
  have k8b : WK [1000 + 346] (fm_sI C7 345 c1 0 (Int32.ofInt 0)) (stR (C7.2.2 346 c1 0) c1 11 (Int64.ofInt 2151669760) C7) := WK_aL k8a.1.1 (tN_346 RR7.2.1.1.1 R7.2.2.2.1.2.1) (show Sf C7 (C7.2.2 346 c1 0) 346 from sS_346 RR7.2.1.2.1 R7.2.2.2.1.2.1) _
  have k8' : WK [345, 1346] C7 (stR (C7.2.2 346 c1 0) c1 11 (Int64.ofInt 2151669760) C7) := WK_t (WK_s (by decide) k8a) (WK_s (by decide) k8b)
  obtain ⟨R8, rq8⟩ := relP_i k8 k8' (by decide) (by decide) ⟨RR7.1.1.1, RR7.1.1.2⟩ (stR_ty RR7.2.1.1) R7 E8 RI8
  have b8 := (b316 k8' (by decide) R7).trans b7
  -- the twin's memory, as it is named
  have eT : stR (C7.2.2 346 c1 0) c1 11 (Int64.ofInt 2151669760) C7 = rsS Mt.2.2 m h (rsA Mt.2.2 m cr e h Mt) := by
    unfold rsS rsA rsB
    rw [y5, y7, y9, yb, rC7, ← hC7, rC6, ← hC6, ← hC4, rC3, ← hC3, rC2, ← hC2, rC1, ← hC1]
    rfl
  have kT : WK lTw Mt (stR (C7.2.2 346 c1 0) c1 11 (Int64.ofInt 2151669760) C7) :=
    WK_t (WK_t (WK_t (WK_t (WK_t (WK_t (WK_t (WK_s (by decide) kA') (WK_s (by decide) kB')) (WK_s (by decide) kC')) (WK_s (by decide) kD')) (WK_s (by decide) k5')) (WK_s (by decide) k6')) (WK_s (by decide) k7')) (WK_s (by decide) k8')
  -- the component's method
  have G8 : FX46_reset fN p e Mc = some (stC a 11 (Int64.ofInt 2151669760) D7) := by
    have G0 := (gX46_reset_0 (FX46_reset_L fN fN).1 (FX46_reset_L fN fN).2 p e Mc T0).1
    show FX46_reset_0 fN (FX46_reset_L fN fN).1 (FX46_reset_L fN fN).2 p e Mc = _
    rw [G0]
    show (FX46_reset_L fN fN).1 p e (nI 0) Mc = _
    have s1 := cr_2 (e := e) T0 n75 v2 v3 l178 e93 l93 neG 32 0 (8 + (j1 + 1) + 1) rfl
    rw [← hj1, show z2 a rg Mc 0 = Mc by unfold z2; rw [rz_0, rz_0]] at s1
    rw [s1]
    have w3' : (rcI a e Mc).2.2 212 p 0 = fu := by rw [hD1]; exact R1.1.1.2.2.2.2.1
    have hC' : HX46_resetControls p (rcF fu rg (rcI a e Mc)) := by rw [hD1, hD2]; exact hC
    have s2 := cr_m (j' := 8 + (j1 + 1)) T0 n75 v2 w3' hC' D3 (by rw [hD1, hD2]; exact eC) u5_ e288
    rw [s2]
    have l8 : D3.2.2 1 (D3.2.2 284 g 0) 0 = 8 := tL_284 RR3.1.1.1 ng
    rw [l8]
    show (FX46_reset_L fN (8 + (j1 + 1))).2 p (D3.2.2 284 g 0) (nI 8) (nI 0) D3 = _
    rw [x1]
    have n75X : fm_is X 75 75 p = true := by unfold fm_is at *; rw [rX]; exact n75c
    have n927 : fm_is X 927 927 (D3.2.2 284 g 0) = true := by
      have := tN_284 TX.1 ngX
      rw [rX] at this
      exact this
    have h88 : nI 8 ≤ nI 8 := by decide
    have xt : X.2.2 214 p 0 = t := by rw [rX]; exact u5_
    have xg : X.2.2 288 t 0 = g := by rw [rX]; exact e288
    have hcl : (nI h).toNatClampNeg = h := o_cl (by omega)
    have w210 : (fm_sI D4 218 p 0 (Int32.ofInt 0)).2.2 210 p 0 = bd := R5.1.1.2.2.1
    have w18 : (fm_sI D4 218 p 0 (Int32.ofInt 0)).2.2 18 bd 0 = r := R5.2.2.2.2.2.2.2.2.1.1.2.2.1
    have w209 : (fm_sI D4 218 p 0 (Int32.ofInt 0)).1 209 p 0 = nI h := R5.1.1.2.1
    obtain ⟨dv, ed⟩ := drop_e (rsv (fm_sI D4 218 p 0 (Int32.ofInt 0)) r h) (fm_sI D4 218 p 0 (Int32.ofInt 0))
    rw [hD6] at ed
    have w211 : D6.2.2 211 p 0 = a := R6.1.1.2.2.2.1
    have w209' : D6.1 209 p 0 = nI h := R6.1.1.2.1
    have e64 : (nI h).toInt64 = lN h := o_64 (by omega)
    obtain ⟨hs1, es1⟩ := set_e (a := a) (M := D6) (k := 10) (by decide) (lN h) (tL_178 RR6.1.1.1 n64')
    have es1' : GX48_set (D6.2.2 171 a 0) (Int32.ofInt 10) (lN h) D6 = D7 := es1.trans hD7
    have w211' : D7.2.2 211 p 0 = a := R7.1.1.2.2.2.1
    obtain ⟨hs2, es2⟩ := set_e (a := a) (M := D7) (k := 11) (by decide) (Int64.ofInt 2151669760) (tL_178 RR7.1.1.1 n64'')
    have es2' : GX48_set (D7.2.2 171 a 0) (Int32.ofInt 11) (Int64.ofInt 2151669760) D7 = stC a 11 (Int64.ofInt 2151669760) D7 := es2
    have i205 : fm_in (fm_sI D4 218 p 0 (Int32.ofInt 0)) ((fm_sI D4 218 p 0 (Int32.ofInt 0)).2.2 205 r 0) (nI h) = true := in_nI (tL_205 RR5.1.1.1 n73) hp4 (by decide)
    have H : HX46_reset_90 p (D3.2.2 284 g 0) (nI 8) (nI 8) X := by
      refine ⟨fun _ => ?_, fun q => absurd h88 q⟩
      try dsimp only
      rw [xt, xg, eL, w210, w18, w209, hcl]
      refine ⟨hL, i205, ?_⟩
      rw [show (fm_sI D4 218 p 0 (Int32.ofInt 0)).2.2 3 ((fm_sI D4 218 p 0 (Int32.ofInt 0)).2.2 205 r 0) h = rsv (fm_sI D4 218 p 0 (Int32.ofInt 0)) r h from rfl, ed]
      try dsimp only
      rw [w211, w209', e64, es1', w211']
      exact ⟨hs1, hs2, trivial⟩
    show FX46_reset_90 fN (FX46_reset_L fN j1).1 (FX46_reset_L fN j1).2 p (D3.2.2 284 g 0) (nI 8) (nI 8) X = _
    rw [(gX46_reset_90 _ _ p (D3.2.2 284 g 0) (nI 8) (nI 8) X TX n75X n927 H).1]
    unfold GX46_reset_90
    rw [fi_pos h88]
    try dsimp only
    rw [xt, xg, eL, w210, w18, w209, hcl, show (fm_sI D4 218 p 0 (Int32.ofInt 0)).2.2 3 ((fm_sI D4 218 p 0 (Int32.ofInt 0)).2.2 205 r 0) h = rsv (fm_sI D4 218 p 0 (Int32.ofInt 0)) r h from rfl, ed]
    try dsimp only
    rw [w211, w209', e64, es1', w211', es2']
    rfl
  have kN : WK lX46_reset Mc (stC a 11 (Int64.ofInt 2151669760) D7) := wX46_reset (SL lX46_reset) (fun _ => True) (fun _ h => h) fN p e Mc (wi_N W) trivial _ G8
  obtain ⟨H8, E8'⟩ := op_of (P := OkV Mc) (d := Mc) G8 ⟨(relP_ram R8).1.1, wk_ext W kN⟩
  have EV : Evo r 0 Mc (stC a 11 (Int64.ofInt 2151669760) D7) := evo_q' (evo_q' (evo_q (ramQ_t (ramQ_t (ramQ_t (ramQ_t rq1 rq2) rq3) rq4) rq5) E6) rq7) rq8
  rw [eT] at R8 kT b8
  exact ⟨_, F', T', ⟨H8, E8'⟩, R8, EV, gdC_k kN (by decide) T0 W ng0 Gd, kN, kT, b8⟩
end Pr
