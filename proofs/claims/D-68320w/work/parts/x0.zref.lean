/-! the law: a load and a run that are refused -/
set_option maxRecDepth 100000
section Zr
variable {bd hv m hq s dd x dk q rq r sg bl cr np mc : Nat} {B Bk Vv ld x1 n : Nat} {N : FM} {kd : Int32} {a : Int64} {X : Nat → Nat}
theorem Z_load0 (Z1 : RelZ bd hv m hq s dd x dk q rq r sg bl cr np mc ld x1 B Bk Vv N) (LD : RelLd ld m r cr N N X n) (hb : (kd < 0 ∨ ¬ kd ≤ Int32.ofInt 3) ∨ ldBad kd a n) :
    ∃ Nt, (HX92_load m kd a N ∧ GX92_load m kd a N = (Int32.ofInt 0, Nt)) ∧ Nt.1 296 m 0 = fi (kd < 0 ∨ ¬ kd ≤ Int32.ofInt 3) (Int32.ofInt 1) (Int32.ofInt 2) ∧ RelZ bd hv m hq s dd x dk q rq r sg bl cr np mc ld x1 B Bk Vv Nt := by
  have R := Z1.1
  have hn : n ≤ 65536 := LD.2.1.2.2.2.1.2
  have t309 := LD.2.2.2.1.2.1.2.1
  have w : ∀ k : Int32, (k = Int32.ofInt 1 ∨ k = Int32.ofInt 3) → k = kd → False := fun k hk e => by
    subst e
    rcases hb with (q | q) | q
    · rcases hk with y | y
      · rw [y] at q
        exact absurd q (by decide)
      · rw [y] at q
        exact absurd q (by decide)
    · rcases hk with y | y
      · rw [y] at q
        exact q (by decide)
      · rw [y] at q
        exact q (by decide)
    · rcases q.2 with z | z
      · rcases hk with y | y
        · exact absurd (y.symm.trans z.1) (by decide)
        · exact absurd (y.symm.trans z.1) (by decide)
      · rcases hk with y | y
        · exact absurd (y.symm.trans z.1) (by decide)
        · exact absurd (y.symm.trans z.1) (by decide)
  have H0 : HX92_load_0 m kd a N := ld_H (fun q => (w _ (Or.inl rfl) q.symm).elim) (fun q => (w _ (Or.inr rfl) q.symm).elim)
  have Zn := Z_296 Z1 (fi (kd < 0 ∨ ¬ kd ≤ Int32.ofInt 3) (Int32.ofInt 1) (Int32.ofInt 2))
  have e : kX92_load (FX92_load_L156 fN fN) (GX92_load_0 m kd a N) = some (Int32.ofInt 0, fm_sI N 296 m 0 (fi (kd < 0 ∨ ¬ kd ≤ Int32.ofInt 3) (Int32.ofInt 1) (Int32.ofInt 2))) := by
    rw [ld_no t309 hn hb]
    rfl
  exact ⟨_, tw_load R H0 e (relM_ram Zn.1).2.1.1, rIe _, Zn⟩
theorem Z_run0 {k : Int32} (Z1 : RelZ bd hv m hq s dd x dk q rq r sg bl cr np mc ld x1 B Bk Vv N) (hk : k < 0 ∨ ¬ k ≤ Int32.ofInt 10000) :
    ∃ Nt, (HX92_run m k N ∧ GX92_run m k N = (Int32.ofInt 0, Nt)) ∧ Nt.1 296 m 0 = Int32.ofInt 1 ∧ RelZ bd hv m hq s dd x dk q rq r sg bl cr np mc ld x1 B Bk Vv Nt := by
  have R := Z1.1
  have RR := relM_ram R
  have n92 := (relM_m R).1
  have Zn := Z_296 Z1 (Int32.ofInt 1)
  have i10 : ¬ Int32.ofInt 1 = (0 : Int32) := by decide
  have g0 : GX92_run_0 m k N = .inl (m, k, Int32.ofInt 0, fm_sI N 296 m 0 (Int32.ofInt 1)) := by
    unfold GX92_run_0 GX92_run_12 GX92_run_17
    try dsimp only
    by_cases c : k < 0
    · rw [fi_pos c]
    · rw [fi_neg c, fi_neg (hk.resolve_left c)]
  have w2_ : FX92_run fN m k N = some (Int32.ofInt 0, fm_sI N 296 m 0 (Int32.ofInt 1)) := by
    have G := (gX92_run_0 (FX92_run_L22 fN fN) m k N RR.2.1.1 n92).1
    show FX92_run_0 fN (FX92_run_L22 fN fN) m k N = _
    rw [G, g0]
    have q0 : ¬ (fm_sI N 296 m 0 (Int32.ofInt 1)).1 296 m 0 = 0 := by rw [rIe]; decide
    have G2 := (gX92_run_22 (FX92_run_L22 fN 99999999) m k (Int32.ofInt 0) (fm_sI N 296 m 0 (Int32.ofInt 1)) (relM_ram Zn.1).2.1.1 (relM_m Zn.1).1 ⟨fun q => absurd q q0, fun _ => trivial⟩).1
    show FX92_run_22 fN (FX92_run_L22 fN 99999999) m k (Int32.ofInt 0) (fm_sI N 296 m 0 (Int32.ofInt 1)) = _
    rw [G2]
    unfold GX92_run_22 GX92_run_52
    try dsimp only
    rw [fi_neg q0]
    rfl
  have kt : WK lX92_run N (fm_sI N 296 m 0 (Int32.ofInt 1)) := wX92_run (SL lX92_run) (fun _ => True) (fun _ h => h) fN m k N (wi_N RR.2.1.2.1) trivial (fun _ => trivial) _ w2_
  exact ⟨_, op_of (d := ((0 : Int32), N)) w2_ (P := OkR N) ⟨(relM_ram Zn.1).2.1.1, wk_ext RR.2.1.2.1 kt⟩, rIe _, Zn⟩
end Zr
