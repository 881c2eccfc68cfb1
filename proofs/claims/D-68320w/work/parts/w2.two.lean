/-! the law: one memory for both; the component goes first, then the twin -/
set_option maxRecDepth 100000
section Tw
variable {bd hv m hq s dd x dk q rq r sg bl cr np mc : Nat} {B Bk Vv ld x1 : Nat} {M N N2 : FM} {S S' : List Nat}
/-- the component wrote: the twin's part is as it was -/
theorem two_c (R : RelM bd hv m hq s dd x dk q rq r sg bl cr np mc B Bk Vv M M) (k : WK S M N) (hd : dj (297 :: uTt) S = true) (TN : Ty N) (O : ∃ ow, Own ow N) : RelM bd hv m hq s dd x dk q rq r sg bl cr np mc B Bk Vv M N := by
  have RR := relM_ram R
  obtain ⟨_, _, _, _, _, O1, _, _⟩ := id R
  exact (M_k R (WK_r (S := []) RR.1.2.1) k (by decide) hd RR.1.1 TN O1 O).1
/-- the twin wrote: the component's part is as it was -/
theorem two_t (R : RelM bd hv m hq s dd x dk q rq r sg bl cr np mc B Bk Vv N N2) (k : WK S N N2) (hd : dj (uMc ++ uCc) S = true) : RelM bd hv m hq s dd x dk q rq r sg bl cr np mc B Bk Vv N2 N2 := by
  have RR := relM_ram R
  obtain ⟨_, _, _, _, _, _, O2, _⟩ := id R
  exact (M_k R k (WK_r (S := []) RR.2.1.2.1) hd (by decide) RR.2.1.1 RR.2.1.1 O2 O2).1
theorem two_cR (Q : RelR mc m B M M) (k : WK S M N) (hd : dj [310, 311, 312, 314, 1310] S = true) (T : Ty M) (W : Wf M) (n : fm_is M 67 67 mc = true) (n' : fm_is M 92 92 m = true) : RelR mc m B M N :=
  relR_k (WK_r (S := []) W) k (by decide) hd T W T W n n' (Nat.le_refl _) Q
theorem two_tR (Q : RelR mc m B N N2) (k : WK S N N2) (hd : dj [194, 195, 196, 197, 1194] S = true) (T : Ty N) (W : Wf N) (T2 : Ty N2) (W2 : Wf N2) (n : fm_is N 67 67 mc = true) (n' : fm_is N2 92 92 m = true) : RelR mc m B N2 N2 :=
  relR_k k (WK_r (S := []) W2) hd (by decide) T W T2 W2 n n' (Nat.le_refl _) Q
theorem two_cL (L : RelL mc ld m r cr M M) (k : WK S M N) (hd : dj [309, 308, 298, 1308, 313] S = true) (W : Wf M) (n : fm_is M 67 67 mc = true) (RR' : RelRam r cr M N) : RelL mc ld m r cr M N :=
  relL_k (WK_r (S := []) W) k (by decide) hd W W n RR' L
theorem two_tL (L : RelL mc ld m r cr N N2) (k : WK S N N2) (hd : dj [262, 186, 187, 261, 202, 1261, 188, 191, 192] S = true) (W : Wf N) (W2 : Wf N2) (n : fm_is N 67 67 mc = true) (RR' : RelRam r cr N2 N2) : RelL mc ld m r cr N2 N2 :=
  relL_k k (WK_r (S := []) W2) hd (by decide) W W2 n RR' L
theorem xm_k (k : WK S M N) (hd : dj [17] S = true) (W : Wf M) (h : XM x1 mc M) : XM x1 mc N :=
  ⟨kis k W rfl h.1, (congrFun (kf (f := 17) k rfl (dj_n hd 17 rfl) (wf_lt W (fm_ist rfl h.1))).2.2 0).trans h.2⟩
/-- all that the law keeps between its calls -/
def RelZ (bd hv m hq s dd x dk q rq r sg bl cr np mc ld x1 B Bk Vv : Nat) (M : FM) : Prop :=
  RelM bd hv m hq s dd x dk q rq r sg bl cr np mc B Bk Vv M M ∧ RelR mc m B M M ∧ RelL mc ld m r cr M M ∧ XM x1 mc M ∧ M.2.1 316 m 0 = Int64.ofInt 0 ∧ M.2.1 414 sg 0 = Int64.ofInt 0 ∧ RelS mc m np M M
/-- the law runs both machines; the out array is written between -/
theorem Z_run {k o : Nat} (Z : RelZ bd hv m hq s dd x dk q rq r sg bl cr np mc ld x1 B Bk Vv M) (no : fm_is M 902 902 o = true) (so : Sf M o 9) (hk : k ≤ 10000) (h1 : B + 40000 < 2147483000) (h2 : Bk + 102400800016 < 9223372036854775808) (h3 : Vv + 40000 < 2147483648) :
    ∃ v N, (HX2_run mc (nI k) M ∧ GX2_run mc (nI k) M = (nI v, N)) ∧ WK lX2_run M N ∧ ∀ w : Int64, ∃ N2, (HX92_run m (nI k) (fm_sL N 3 o 0 w) ∧ GX92_run m (nI k) (fm_sL N 3 o 0 w) = (nI v, N2)) ∧ N2.1 296 m 0 = 0 ∧
      WK lX92_run (fm_sL N 3 o 0 w) N2 ∧ RelZ bd hv m hq s dd x dk q rq r sg bl cr np mc ld x1 (B + 40000) (Bk + 102400800000) (Vv + 40000) N2 := by
  obtain ⟨R, Q, L, xm, z1, z2, sd⟩ := Z
  have RR := relM_ram R
  have W := RR.1.2.1
  have T := RR.1.1
  have n67 := R.1
  have n92 := (relM_m R).1
  obtain ⟨v, N, Nt, ⟨a1, a2⟩, _, _, RA, _, _, _, _, kc, _⟩ := M_run R Q hk h1 h2 h3
  obtain ⟨_, _, _, _, _, ⟨ow, Ow⟩, _, _⟩ := id RA
  have RRA := relM_ram RA
  have TN := RRA.1.1
  have WN := RRA.1.2.1
  refine ⟨v, N, ⟨a1, a2⟩, kc, fun w => ?_⟩
  have lo := wf_lt W (fm_ist rfl no)
  have noN : fm_is N 902 902 o = true := kis kc W rfl no
  have soN : Sf N o 9 := by
    unfold Sf at so ⊢
    rw [(kt kc lo).1]
    exact so
  have k9 : WK [1000 + 9] N (fm_sL N 3 o 0 w) := WK_aL WN noN soN w
  have kM : WK (1009 :: lX2_run) M (fm_sL N 3 o 0 w) := WK_t (WK_s (by decide) kc) (WK_s (by decide) k9)
  have R1 : RelM bd hv m hq s dd x dk q rq r sg bl cr np mc B Bk Vv M (fm_sL N 3 o 0 w) := two_c R kM (by decide) ⟨TN.1, TN.2⟩ ⟨_, own_n rfl Ow⟩
  have Q1 := two_cR Q kM (by decide) T W n67 n92
  have L1 := two_cL L kM (by decide) W n67 (relM_ram R1)
  obtain ⟨v', N', N2, ⟨_, b2⟩, ⟨b3, b4⟩, _, RB, QB, b5, b6, _, kc', kt2⟩ := M_run R1 Q1 hk h1 h2 h3
  have e := a2.symm.trans b2
  obtain ⟨e1, e2⟩ := Prod.mk.inj e
  subst e2
  rw [← e1] at b4
  have RRB := relM_ram RB
  have kN : WK (1009 :: lX92_run) N N2 := WK_t (WK_s (S := [1009]) (by decide) k9) (WK_s (by decide) kt2)
  have R2 := two_t RB kN (by decide)
  have W2 := RRB.2.1.2.1
  have T2 := RRB.2.1.1
  have n67' : fm_is N 67 67 mc = true := RB.1
  have n92' := (relM_m RB).1
  have Q2 := two_tR QB kN (by decide) TN WN T2 W2 n67' n92'
  have LB : RelL mc ld m r cr N N2 := relL_k kc kt2 (by decide) (by decide) W k9.1.1 n67 RRB L1
  have L2 := two_tL LB kN (by decide) WN W2 n67' (relM_ram R2)
  have f1 : (fm_sL N 3 o 0 w).2.1 316 m 0 = M.2.1 316 m 0 := congrFun (kf (f := 316) kM rfl (dj_n (L := [316]) (by decide) 316 rfl) (wf_lt W (fm_ist rfl n92))).2.1 0
  have nsg := ob_sg R
  have f2 : (fm_sL N 3 o 0 w).2.1 414 sg 0 = M.2.1 414 sg 0 := congrFun (kf (f := 414) kM rfl (dj_n (L := [414]) (by decide) 414 rfl) (wf_lt W (fm_ist rfl nsg))).2.1 0
  exact ⟨N2, ⟨b3, b4⟩, b6, kt2, R2, Q2, L2, xm_k kN (by decide) WN (xm_k kc (by decide) W xm), b5.1.trans (f1.trans z1), b5.2.trans (f2.trans z2), sd_2 kc kN (by decide) (by decide) T W TN n67 n92 sd⟩
end Tw
