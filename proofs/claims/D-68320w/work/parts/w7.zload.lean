/-! the law: loading, with one memory for both, the out array written between -/
set_option maxRecDepth 100000
section Zl
variable {bd hv m hq s dd x dk q rq r sg bl cr np mc : Nat} {B Bk Vv ld x1 n : Nat} {M : FM} {kd : Int32} {a : Int64} {X : Nat → Nat}
theorem Z_load {o : Nat} (Z : RelZ bd hv m hq s dd x dk q rq r sg bl cr np mc ld x1 B Bk Vv M) (LD : RelLd ld m r cr M M X n) (no : fm_is M 902 902 o = true) (so : Sf M o 9) (c0 : ¬ kd < 0) (c3 : kd ≤ Int32.ofInt 3) (nb : ¬ ldBad kd a n) :
    ∃ v N, (HX1_load x1 kd a M ∧ GX1_load x1 kd a M = (v, N)) ∧ ∀ w : Int64, ∃ N2, (HX92_load m kd a (fm_sL N 3 o 0 w) ∧ GX92_load m kd a (fm_sL N 3 o 0 w) = (v, N2)) ∧ N2.1 296 m 0 = 0 ∧ RelZ bd hv m hq s dd x dk q rq r sg bl cr np mc ld x1 B (Bk + 134217728) Vv N2 := by
  obtain ⟨R, Q, L, xm, z1, z2, sd⟩ := Z
  have RR := relM_ram R
  have W := RR.1.2.1
  have T := RR.1.1
  have n67 := R.1
  have n92 := (relM_m R).1
  obtain ⟨v, N, Nt, ⟨a1, a2⟩, _, RA, _, _, _, _⟩ := O_load R Q L LD xm c0 c3 nb
  have gl := gX1_load x1 kd a M T xm.1 a1
  rw [a2] at gl
  have kc : WK lX1_load M N := wX1_load (SL lX1_load) (fun _ => True) (fun _ h => h) fN x1 kd a M (wi_N W) trivial _ gl.1
  obtain ⟨_, _, _, _, _, ⟨ow, Ow⟩, _, _⟩ := id RA
  have RRA := relM_ram RA
  have TN := RRA.1.1
  have WN := RRA.1.2.1
  refine ⟨v, N, ⟨a1, a2⟩, fun w => ?_⟩
  have lo := wf_lt W (fm_ist rfl no)
  have noN : fm_is N 902 902 o = true := kis kc W rfl no
  have soN : Sf N o 9 := by
    unfold Sf at so ⊢
    rw [(kt kc lo).1]
    exact so
  have k9 : WK [1000 + 9] N (fm_sL N 3 o 0 w) := WK_aL WN noN soN w
  have kM : WK (1009 :: lX1_load) M (fm_sL N 3 o 0 w) := WK_t (WK_s (by decide) kc) (WK_s (by decide) k9)
  have R1 : RelM bd hv m hq s dd x dk q rq r sg bl cr np mc B Bk Vv M (fm_sL N 3 o 0 w) := two_c R kM (by decide) ⟨TN.1, TN.2⟩ ⟨_, own_n rfl Ow⟩
  have RR1 := relM_ram R1
  have Q1 := two_cR Q kM (by decide) T W n67 n92
  have L1 := two_cL L kM (by decide) W n67 RR1
  have LD1 : RelLd ld m r cr M (fm_sL N 3 o 0 w) X n := by
    obtain ⟨_, d2, d3, d4, d5⟩ := LD
    obtain ⟨y1, y2⟩ := ltV_k kM ⟨dj_n (L := [309]) (by decide) 309 rfl, dj_n (L := [308]) (by decide) 308 rfl, dj_n (L := [298]) (by decide) 298 rfl, dj_n (L := [1308]) (by decide) 1308 rfl⟩ RR1.2.1.1 W d4
    exact ⟨RR1, d2, d3, y1, y2.trans d5⟩
  obtain ⟨v', N', N2, ⟨_, b2⟩, ⟨b3, b4⟩, RB, QB, LB, b5, b6⟩ := O_load R1 Q1 L1 LD1 xm c0 c3 nb
  have e := a2.symm.trans b2
  obtain ⟨e1, e2⟩ := Prod.mk.inj e
  subst e2
  rw [← e1] at b4
  have RRB := relM_ram RB
  have gt := gX92_load m kd a (fm_sL N 3 o 0 w) b3
  rw [b4] at gt
  have kt2 : WK lX92_load (fm_sL N 3 o 0 w) N2 := wX92_load (SL lX92_load) (fun _ => True) (fun _ h => h) fN m kd a _ (wi_N RR1.2.1.2.1) trivial _ gt.1
  have kN : WK (1009 :: lX92_load) N N2 := WK_t (WK_s (S := [1009]) (by decide) k9) (WK_s (by decide) kt2)
  have R2 := two_t RB kN (by decide)
  have W2 := RRB.2.1.2.1
  have T2 := RRB.2.1.1
  have Q2 := two_tR QB kN (by decide) TN WN T2 W2 RB.1 (relM_m RB).1
  have L2 := two_tL LB kN (by decide) WN W2 RB.1 (relM_ram R2)
  have f1 : (fm_sL N 3 o 0 w).2.1 316 m 0 = M.2.1 316 m 0 := congrFun (kf (f := 316) kM rfl (dj_n (L := [316]) (by decide) 316 rfl) (wf_lt W (fm_ist rfl n92))).2.1 0
  have nsg := ob_sg R
  have f2 : (fm_sL N 3 o 0 w).2.1 414 sg 0 = M.2.1 414 sg 0 := congrFun (kf (f := 414) kM rfl (dj_n (L := [414]) (by decide) 414 rfl) (wf_lt W (fm_ist rfl nsg))).2.1 0
  exact ⟨N2, ⟨b3, b4⟩, b5, R2, Q2, L2, xm_k kN (by decide) WN (xm_k kc (by decide) W xm), b6.1.trans (f1.trans z1), b6.2.trans (f2.trans z2), sd_2 kc kN (by decide) (by decide) T W TN n67 n92 sd⟩
end Zl
