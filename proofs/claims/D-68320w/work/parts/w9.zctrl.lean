/-! the law: a control register, with one memory for both, the out array written between -/
set_option maxRecDepth 100000
section Zc
variable {bd hv m hq s dd x dk q rq r sg bl cr np mc : Nat} {B Bk Vv ld x1 h : Nat} {M : FM} {k : Int32}
theorem Z_control {o : Nat} (Z : RelZ bd hv m hq s dd x dk q rq r sg bl cr np mc ld x1 B Bk Vv M) (no : fm_is M 902 902 o = true) (so : Sf M o 9) (hh : h < np) :
    ∃ v N, (HX1_control x1 (nI h) k M ∧ GX1_control x1 (nI h) k M = (v, N)) ∧ ∀ w : Int64, ∃ N2, (HX92_control m (nI h) k (fm_sL N 3 o 0 w) ∧ GX92_control m (nI h) k (fm_sL N 3 o 0 w) = (v, N2)) ∧ N2.1 296 m 0 = 0 ∧ RelZ bd hv m hq s dd x dk q rq r sg bl cr np mc ld x1 B Bk Vv N2 := by
  obtain ⟨R, Q, L, xm, z1, z2, sd⟩ := Z
  have RR := relM_ram R
  have W := RR.1.2.1
  have T := RR.1.1
  have n67 := R.1
  have n92 := (relM_m R).1
  obtain ⟨v, N, Nt, ⟨a1, a2⟩, _, RA, _, _, kc, _, _⟩ := O_control R xm hh k
  obtain ⟨_, _, _, _, _, ⟨ow, Ow⟩, _, _⟩ := id RA
  have RRA := relM_ram RA
  have TN := RRA.1.1
  have WN := RRA.1.2.1
  refine ⟨v, N, ⟨a1, a2⟩, fun w => ?_⟩
  have lo := wf_lt W (fm_ist rfl no)
  have noN : fm_is N 902 902 o = true := kis kc W rfl no
  have soN : Sf N o 9 := by
    unfold Sf at so ⊢
    rw [(kt kc lo).1]
    exact so
  have k9 : WK [1000 + 9] N (fm_sL N 3 o 0 w) := WK_aL WN noN soN w
  have kM : WK [41, 43, 1009] M (fm_sL N 3 o 0 w) := WK_t (WK_s (by decide) kc) (WK_s (by decide) k9)
  have R1 : RelM bd hv m hq s dd x dk q rq r sg bl cr np mc B Bk Vv M (fm_sL N 3 o 0 w) := two_c R kM (by decide) ⟨TN.1, TN.2⟩ ⟨_, own_n rfl Ow⟩
  have RR1 := relM_ram R1
  have Q1 := two_cR Q kM (by decide) T W n67 n92
  have L1 := two_cL L kM (by decide) W n67 RR1
  obtain ⟨v', N', N2, ⟨_, b2⟩, ⟨b3, b4⟩, RB, b5, b6, kc2, kt2, _⟩ := O_control R1 xm hh k
  have e := a2.symm.trans b2
  obtain ⟨e1, e2⟩ := Prod.mk.inj e
  subst e2
  rw [← e1] at b4
  have RRB := relM_ram RB
  have QB := relR_k (B' := B) kc kt2 (by decide) (by decide) T W RR1.2.1.1 RR1.2.1.2.1 n67 (relM_m R1).1 (Nat.le_refl _) Q1
  have LB := relL_k kc kt2 (by decide) (by decide) W RR1.2.1.2.1 n67 RRB L1
  have kN : WK (1009 :: lX92_control) N N2 := WK_t (WK_s (S := [1009]) (by decide) k9) (WK_s (by decide) kt2)
  have R2 := two_t RB kN (by decide)
  have W2 := RRB.2.1.2.1
  have T2 := RRB.2.1.1
  have Q2 := two_tR QB kN (by decide) TN WN T2 W2 RB.1 (relM_m RB).1
  have L2 := two_tL LB kN (by decide) WN W2 RB.1 (relM_ram R2)
  have f1 : (fm_sL N 3 o 0 w).2.1 316 m 0 = M.2.1 316 m 0 := congrFun (kf (f := 316) kM rfl (dj_n (L := [316]) (by decide) 316 rfl) (wf_lt W (fm_ist rfl n92))).2.1 0
  have nsg := ob_sg R
  have f2 : (fm_sL N 3 o 0 w).2.1 414 sg 0 = M.2.1 414 sg 0 := congrFun (kf (f := 414) kM rfl (dj_n (L := [414]) (by decide) 414 rfl) (wf_lt W (fm_ist rfl nsg))).2.1 0
  exact ⟨N2, ⟨b3, b4⟩, b5, R2, Q2, L2, xm_k kN (by decide) WN (xm_k kc (by decide) W xm), b6.1.trans (f1.trans z1), b6.2.trans (f2.trans z2), sd_2 kc kN (by decide) (by decide) T W TN n67 n92 sd⟩
end Zc
