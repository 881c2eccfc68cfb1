/-! the law: the tape is cut, with one memory for both -/
set_option maxRecDepth 100000
section Ze
variable {bd hv m hq s dd x dk q rq r sg bl cr np mc : Nat} {B Bk Vv ld x1 : Nat} {M : FM} {z : Int32}
theorem end_no (xm : XM x1 mc M) (h : HX1_end x1 z M) : ¬ (z < 0 ∨ M.1 262 (M.2.2 191 mc 0) 0 < z) := fun q => by
  have no : ¬ HX1_end_22 x1 z M := fun y => y.1.1 rfl
  have h := h
  unfold HX1_end HX1_end_0 at h
  try dsimp only at h
  rw [xm.2] at h
  by_cases c : z < 0
  · exact no (h.1 c)
  · exact no ((h.2 c).1 (q.resolve_left c))
theorem Z_end (Z : RelZ bd hv m hq s dd x dk q rq r sg bl cr np mc ld x1 B Bk Vv M) : (∃ N N2, (HX1_end x1 z M ∧ GX1_end x1 z M = N) ∧ GX92_end m z N = N2 ∧ N2.1 296 m 0 = 0 ∧ WK [262] M N ∧ WK [296, 309] N N2 ∧ RelZ bd hv m hq s dd x dk q rq r sg bl cr np mc ld x1 B Bk Vv N2) ∨
    ((z < 0 ∨ M.1 262 (M.2.2 191 mc 0) 0 < z) ∧ ∃ N2, GX92_end m z M = N2 ∧ N2.1 296 m 0 = Int32.ofInt 1 ∧ WK [296, 309] M N2 ∧ RelZ bd hv m hq s dd x dk q rq r sg bl cr np mc ld x1 B Bk Vv N2) := by
  obtain ⟨R, Q, L, xm, z1, z2, sd⟩ := Z
  have RR := relM_ram R
  have W := RR.1.2.1
  have T := RR.1.1
  have n67 := R.1
  have n92 := (relM_m R).1
  have nsg := ob_sg R
  rcases O_end (z := z) R Q L xm with ⟨N, Nt, ⟨a1, a2⟩, _, RA, _, _, _, _, kc, _, _⟩ | ⟨hz, Nt, b1, RA, QA, LA, b5, b6, kt⟩
  · left
    obtain ⟨_, _, _, _, _, O1, _, _⟩ := id RA
    have TN := (relM_ram RA).1.1
    have WN := (relM_ram RA).1.2.1
    have R1 := two_c R kc (by decide) TN O1
    have Q1 := two_cR Q kc (by decide) T W n67 n92
    have L1 := two_cL L kc (by decide) W n67 (relM_ram R1)
    rcases O_end (z := z) R1 Q1 L1 xm with ⟨N', N2, ⟨_, c2⟩, c3, RB, QB, LB, c5, c6, _, kt, _⟩ | ⟨hz, _⟩
    · have e := a2.symm.trans c2
      subst e
      have RRB := relM_ram RB
      have R2 := two_t RB kt (by decide)
      have Q2 := two_tR QB kt (by decide) TN WN RRB.2.1.1 RRB.2.1.2.1 RB.1 (relM_m RB).1
      have LN : RelL mc ld m r cr N2 N2 := two_tL LB kt (by decide) WN RRB.2.1.2.1 RB.1 (relM_ram R2)
      have f1 : N.2.1 316 m 0 = M.2.1 316 m 0 := congrFun (kf (f := 316) kc rfl (dj_n (L := [316]) (by decide) 316 rfl) (wf_lt W (fm_ist rfl n92))).2.1 0
      have f2 : N.2.1 414 sg 0 = M.2.1 414 sg 0 := congrFun (kf (f := 414) kc rfl (dj_n (L := [414]) (by decide) 414 rfl) (wf_lt W (fm_ist rfl nsg))).2.1 0
      exact ⟨N, N2, ⟨a1, a2⟩, c3, c5, kc, kt, R2, Q2, LN, xm_k kt (by decide) WN (xm_k kc (by decide) W xm), c6.1.trans (f1.trans z1), c6.2.trans (f2.trans z2), sd_2 kc kt (by decide) (by decide) T W TN n67 n92 sd⟩
    · exact absurd hz (end_no xm a1)
  · right
    have RRA := relM_ram RA
    have R2 := two_t RA kt (by decide)
    have Q2 := two_tR QA kt (by decide) T W RRA.2.1.1 RRA.2.1.2.1 n67 (relM_m RA).1
    exact ⟨hz, Nt, b1, b5, kt, R2, Q2, two_tL LA kt (by decide) W RRA.2.1.2.1 n67 (relM_ram R2), xm_k kt (by decide) W xm, b6.1.trans z1, b6.2.trans z2, sd_k kt (by decide) T W n67 n92 sd⟩
end Ze
