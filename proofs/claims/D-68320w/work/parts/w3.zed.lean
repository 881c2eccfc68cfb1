/-! the law: what is only asked leaves everything related -/
set_option maxRecDepth 100000
def lZr : List Nat := [194, 195, 196, 197, 1194, 310, 311, 312, 314, 1310]
def lZl : List Nat := [262, 186, 187, 261, 202, 1261, 188, 191, 192, 309, 308, 298, 1308, 313]
section Zk
variable {bd hv m hq s dd x dk q rq r sg bl cr np mc : Nat} {B Bk Vv ld x1 : Nat} {M N : FM} {S : List Nat}
theorem Z_r (Z : RelZ bd hv m hq s dd x dk q rq r sg bl cr np mc ld x1 B Bk Vv M) : RelM bd hv m hq s dd x dk q rq r sg bl cr np mc B Bk Vv M M ∧ Ty M ∧ Wf M := ⟨Z.1, (relM_ram Z.1).1.1, (relM_ram Z.1).1.2.1⟩
/-- others write -/
theorem Z_k (Z : RelZ bd hv m hq s dd x dk q rq r sg bl cr np mc ld x1 B Bk Vv M) (k : WK S M N) (h1 : dj (uMc ++ uCc) S = true) (h2 : dj (297 :: uTt) S = true) (h3 : dj lZr S = true) (h4 : dj lZl S = true) (h5 : dj ([17, 316, 414] ++ (lS ++ lSt)) S = true) (TN : Ty N) (O : ∃ ow, Own ow N) : RelZ bd hv m hq s dd x dk q rq r sg bl cr np mc ld x1 B Bk Vv N := by
  obtain ⟨R, Q, L, xm, z1, z2, sd⟩ := Z
  have RR := relM_ram R
  have W := RR.1.2.1
  have T := RR.1.1
  have n92 := (relM_m R).1
  have R2 := (M_k R k k h1 h2 TN TN O O).1
  exact ⟨R2, relR_k k k (dj_sub h3 (by decide)) (dj_sub h3 (by decide)) T W T W R.1 n92 (Nat.le_refl _) Q, relL_k k k (dj_sub h4 (by decide)) (dj_sub h4 (by decide)) W W R.1 (relM_ram R2) L, xm_k k (dj_sub h5 (by decide)) W xm,
    (congrFun (kf (f := 316) k rfl (dj_n h5 316 rfl) (wf_lt W (fm_ist rfl n92))).2.1 0).trans z1, (congrFun (kf (f := 414) k rfl (dj_n h5 414 rfl) (wf_lt W (fm_ist rfl (ob_sg R)))).2.1 0).trans z2, sd_k k (dj_sub h5 (by decide)) T W R.1 n92 sd⟩
/-- the twin answered: what it wrote is nothing that is held against the component -/
theorem Z_t (Z : RelZ bd hv m hq s dd x dk q rq r sg bl cr np mc ld x1 B Bk Vv M) (R' : RelM bd hv m hq s dd x dk q rq r sg bl cr np mc B Bk Vv M N) (k : WK S M N) (h1 : dj (uMc ++ uCc) S = true) (h3 : dj lZr S = true) (h4 : dj lZl S = true) (h5 : dj ([17, 316, 414] ++ (lS ++ lSt)) S = true) : RelZ bd hv m hq s dd x dk q rq r sg bl cr np mc ld x1 B Bk Vv N := by
  obtain ⟨R, Q, L, xm, z1, z2, sd⟩ := Z
  have RR := relM_ram R
  have W := RR.1.2.1
  have T := RR.1.1
  have n92 := (relM_m R).1
  have R2 := two_t R' k h1
  exact ⟨R2, relR_k k k (dj_sub h3 (by decide)) (dj_sub h3 (by decide)) T W T W R.1 n92 (Nat.le_refl _) Q, relL_k k k (dj_sub h4 (by decide)) (dj_sub h4 (by decide)) W W R.1 (relM_ram R2) L, xm_k k (dj_sub h5 (by decide)) W xm,
    (congrFun (kf (f := 316) k rfl (dj_n h5 316 rfl) (wf_lt W (fm_ist rfl n92))).2.1 0).trans z1, (congrFun (kf (f := 414) k rfl (dj_n h5 414 rfl) (wf_lt W (fm_ist rfl (ob_sg R)))).2.1 0).trans z2, sd_k k (dj_sub h5 (by decide)) T W R.1 n92 sd⟩
/-- the out array is written -/
theorem Z_out {o : Nat} {v : Int64} (Z : RelZ bd hv m hq s dd x dk q rq r sg bl cr np mc ld x1 B Bk Vv M) (n : fm_is M 902 902 o = true) (sf : Sf M o 9) : RelZ bd hv m hq s dd x dk q rq r sg bl cr np mc ld x1 B Bk Vv (fm_sL M 3 o 0 v) := by
  obtain ⟨R, T, W⟩ := Z_r Z
  obtain ⟨_, _, _, _, _, ⟨ow, Ow⟩, _, _⟩ := id R
  exact Z_k (S := [1000 + 9]) Z (WK_aL W n sf v) (by decide) (by decide) (by decide) (by decide) (by decide) ⟨T.1, T.2⟩ ⟨_, own_n rfl Ow⟩
/-- the refused calls, and the ones that only look: 296 is written -/
theorem Z_296 (Z : RelZ bd hv m hq s dd x dk q rq r sg bl cr np mc ld x1 B Bk Vv M) (v : Int32) : RelZ bd hv m hq s dd x dk q rq r sg bl cr np mc ld x1 B Bk Vv (fm_sI M 296 m 0 v) := by
  obtain ⟨R', k⟩ := ob_296 Z.1 v
  exact Z_t Z R' k (by decide) (by decide) (by decide) (by decide)
theorem Z_code (Z : RelZ bd hv m hq s dd x dk q rq r sg bl cr np mc ld x1 B Bk Vv M) : ∃ v N, GX1_code x1 M = (v, M) ∧ GX92_code m M = (v, N) ∧ RelZ bd hv m hq s dd x dk q rq r sg bl cr np mc ld x1 B Bk Vv N := by
  obtain ⟨a1, a2⟩ := O_code Z.1 Z.2.2.2.1
  exact ⟨_, _, a1, a2, Z_296 Z _⟩
theorem Z_procs (Z : RelZ bd hv m hq s dd x dk q rq r sg bl cr np mc ld x1 B Bk Vv M) : ∃ v N, GX1_processors x1 M = (v, M) ∧ GX92_processors m M = (v, N) ∧ RelZ bd hv m hq s dd x dk q rq r sg bl cr np mc ld x1 B Bk Vv N := by
  obtain ⟨a1, a2⟩ := O_procs Z.1 Z.2.2.2.1
  exact ⟨_, _, a1, a2, Z_296 Z _⟩
theorem Z_waiting (Z : RelZ bd hv m hq s dd x dk q rq r sg bl cr np mc ld x1 B Bk Vv M) : ∃ v N, GX1_waiting x1 M = (v, M) ∧ GX92_waiting m M = (v, N) ∧ RelZ bd hv m hq s dd x dk q rq r sg bl cr np mc ld x1 B Bk Vv N := by
  obtain ⟨a1, a2⟩ := O_waiting Z.2.1 Z.2.2.2.1
  exact ⟨_, _, a1, a2, Z_296 Z _⟩
theorem Z_time (Z : RelZ bd hv m hq s dd x dk q rq r sg bl cr np mc ld x1 B Bk Vv M) : ∃ v N, GX1_time x1 M = (v, M) ∧ GX92_time m M = (v, N) ∧ RelZ bd hv m hq s dd x dk q rq r sg bl cr np mc ld x1 B Bk Vv N := by
  obtain ⟨a1, a2⟩ := O_time Z.1 Z.2.2.2.1
  exact ⟨_, _, a1, a2, Z_296 Z _⟩
theorem Z_breaches (Z : RelZ bd hv m hq s dd x dk q rq r sg bl cr np mc ld x1 B Bk Vv M) : ∃ v N, GX1_breaches x1 M = (v, M) ∧ GX92_breaches m M = (v, N) ∧ RelZ bd hv m hq s dd x dk q rq r sg bl cr np mc ld x1 B Bk Vv N := by
  obtain ⟨a1, a2⟩ := O_breaches (x1 := x1) Z.1 Z.2.2.2.2.1 Z.2.2.2.2.2.1
  exact ⟨_, _, a1, a2, Z_296 Z _⟩
theorem Z_sent (Z : RelZ bd hv m hq s dd x dk q rq r sg bl cr np mc ld x1 B Bk Vv M) (hB : B < 2147483000) : ∃ v N, GX1_sent x1 M = (v, M) ∧ GX92_sent m M = (v, N) ∧ RelZ bd hv m hq s dd x dk q rq r sg bl cr np mc ld x1 B Bk Vv N := by
  obtain ⟨a1, a2⟩ := O_sent Z.1 Z.2.2.2.1 hB
  obtain ⟨R1, k1⟩ := ob_296 Z.1 (Int32.ofInt 0)
  obtain ⟨R2, k2⟩ := ob_394 R1
  exact ⟨_, _, a1, a2, Z_t (S := [296, 394]) Z R2 (WK_t (WK_s (by decide) k1) (WK_s (by decide) k2)) (by decide) (by decide) (by decide) (by decide)⟩
theorem Z_outAt (Z : RelZ bd hv m hq s dd x dk q rq r sg bl cr np mc ld x1 B Bk Vv M) (hB : B < 2147483000) (k : Int64) : ∃ v N, (HX1_out x1 k M ∧ GX1_out x1 k M = (v, M)) ∧ (HX92_out m k M ∧ GX92_out m k M = (v, N)) ∧ RelZ bd hv m hq s dd x dk q rq r sg bl cr np mc ld x1 B Bk Vv N := by
  obtain ⟨v, a1, a2⟩ := O_out Z.1 Z.2.2.2.1 hB k
  obtain ⟨R1, k1⟩ := ob_296 Z.1 (Int32.ofInt 0)
  obtain ⟨R2, k2⟩ := ob_394 R1
  exact ⟨_, _, a1, a2, Z_t (S := [296, 394]) Z R2 (WK_t (WK_s (by decide) k1) (WK_s (by decide) k2)) (by decide) (by decide) (by decide) (by decide)⟩
theorem Z_changed (Z : RelZ bd hv m hq s dd x dk q rq r sg bl cr np mc ld x1 B Bk Vv M) : ∃ v N, GX1_changed x1 M = (v, M) ∧ GX92_changed m M = (v, N) ∧ RelZ bd hv m hq s dd x dk q rq r sg bl cr np mc ld x1 B Bk Vv N := by
  obtain ⟨v, a1, a2⟩ := O_changed Z.1 Z.2.2.2.1
  obtain ⟨R1, k1⟩ := ob_296 Z.1 (Int32.ofInt 0)
  obtain ⟨R2, k2⟩ := ob_324 R1 (Int32.ofInt 0)
  exact ⟨_, _, a1, a2, Z_t (S := [296, 324]) Z R2 (WK_t (WK_s (by decide) k1) (WK_s (by decide) k2)) (by decide) (by decide) (by decide) (by decide)⟩
end Zk
