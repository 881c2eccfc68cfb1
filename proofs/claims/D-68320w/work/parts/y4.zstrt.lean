/-! the law: start, with one memory for both -/
set_option maxRecDepth 100000
section Zs
variable {bd hv m hq s dd x dk q rq r sg bl cr np mc : Nat} {B Bk Vv ld x1 : Nat} {M : FM}
theorem Z_start (Z : RelZ bd hv m hq s dd x dk q rq r sg bl cr np mc ld x1 B Bk Vv M) : ∃ v N N2, (HX1_start x1 M ∧ GX1_start x1 M = (v, N)) ∧ (HX92_start m N ∧ GX92_start m N = (v, N2)) ∧ RelZ bd hv m hq s dd x dk q rq r sg bl cr np mc ld x1 B (Bk + 8192) (Vv + 4) N2 := by
  obtain ⟨R, Q, L, xm, z1, z2, sd⟩ := Z
  have RR := relM_ram R
  have W := RR.1.2.1
  have T := RR.1.1
  have n67 := R.1
  have n92 := (relM_m R).1
  obtain ⟨v, N, Nt, ⟨a1, a2⟩, _, RA, _, _, _, _, _, kc, _⟩ := O_start R Q L sd
  obtain ⟨_, _, _, _, _, ⟨ow, Ow⟩, _, _⟩ := id RA
  have RRA := relM_ram RA
  have TN := RRA.1.1
  have WN := RRA.1.2.1
  have n92N := kis kc W rfl n92
  have n67N := kis kc W rfl n67
  have k96 : WK [296] N (fm_sI N 296 m 0 (Int32.ofInt 0)) := WK_I WN n92N rfl rfl _
  have kM : WK (296 :: lX2_start) M (fm_sI N 296 m 0 (Int32.ofInt 0)) := WK_t (WK_s (by decide) kc) (WK_s (by decide) k96)
  have R1 : RelM bd hv m hq s dd x dk q rq r sg bl cr np mc B Bk Vv M (fm_sI N 296 m 0 (Int32.ofInt 0)) := two_c R kM (by decide) ⟨TN.1, tyb_sI rfl TN.2⟩ ⟨_, own_n rfl Ow⟩
  have RR1 := relM_ram R1
  have Q1 := two_cR Q kM (by decide) T W n67 n92
  have L1 := two_cL L kM (by decide) W n67 RR1
  have S1 : RelS mc m np M (fm_sI N 296 m 0 (Int32.ofInt 0)) := relS_k (WK_r (S := []) W) kM (by decide) (by decide) T W T W n67 n92 sd
  obtain ⟨v', N', N2, ⟨_, b2⟩, ⟨b3, b4⟩, RB, QB, LB, SB, b5, b6, _, kt2⟩ := O_start R1 Q1 L1 S1
  have e := a2.symm.trans b2
  obtain ⟨e1, e2⟩ := Prod.mk.inj e
  subst e2
  rw [← e1] at b4
  have RRB := relM_ram RB
  have kN : WK (296 :: lX92_begin) N N2 := WK_t (WK_s (S := [296]) (by decide) k96) (WK_s (by decide) kt2)
  have R2 := two_t RB kN (by decide)
  have W2 := RRB.2.1.2.1
  have T2 := RRB.2.1.1
  have Q2 := two_tR QB kN (by decide) TN WN T2 W2 RB.1 (relM_m RB).1
  have L2 := two_tL LB kN (by decide) WN W2 RB.1 (relM_ram R2)
  have S2 : RelS mc m np N2 N2 := relS_k kN (WK_r (S := []) W2) (by decide) (by decide) TN WN T2 W2 RB.1 (relM_m RB).1 SB
  have f1 : (fm_sI N 296 m 0 (Int32.ofInt 0)).2.1 316 m 0 = M.2.1 316 m 0 := congrFun (kf (f := 316) kM rfl (dj_n (L := [316]) (by decide) 316 rfl) (wf_lt W (fm_ist rfl n92))).2.1 0
  have nsg := ob_sg R
  have f2 : (fm_sI N 296 m 0 (Int32.ofInt 0)).2.1 414 sg 0 = M.2.1 414 sg 0 := congrFun (kf (f := 414) kM rfl (dj_n (L := [414]) (by decide) 414 rfl) (wf_lt W (fm_ist rfl nsg))).2.1 0
  refine ⟨v, N, N2, ⟨?_, ?_⟩, ⟨?_, ?_⟩, R2, Q2, L2, xm_k kN (by decide) WN (xm_k kc (by decide) W xm), b6.1.trans (f1.trans z1), b6.2.trans (f2.trans z2), S2⟩
  · unfold HX1_start HX1_start_0
    try dsimp only
    rw [xm.2]
    exact ⟨a1, trivial⟩
  · unfold GX1_start GX1_start_0
    try dsimp only
    rw [xm.2, a2]
  · unfold HX92_start HX92_start_0
    try dsimp only
    exact ⟨b3, trivial⟩
  · unfold GX92_start GX92_start_0
    try dsimp only
    rw [b4]
end Zs
