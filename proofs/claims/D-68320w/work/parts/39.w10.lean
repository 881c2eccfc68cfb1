set_option maxRecDepth 100000
def lX92_sum : List Nat := [296]
theorem wX92_sum_116 (S Z : Nat → Prop) {hx N : Nat} (hS : ∀ x, fe_mem lX92_sum x = true → S x) (n : Nat) (k74 : Nat → Int64 → Int64 → Int64 → FM → Option (Int64 × FM)) (hk74 : ∀ (a0 : Nat) (a3 : Int64) (a8 : Int64) (a10 : Int64) (M : FM), WI Z hx N M → Z a0 → pq (k74 a0 a3 a8 a10 M) (QA S Z hx N M)) (a8 : Int64) (M : FM) (w : WI Z hx N M) : pq (FX92_sum_116 n k74 a8 M) (QA S Z hx N M) := by
  have hN := w.2.2.1
  have w0 := wk_r (S := S) w
  delta FX92_sum_116 BX92_sum_116
  exact pq_s w0
theorem wX92_sum_74 (S Z : Nat → Prop) {hx N : Nat} (hS : ∀ x, fe_mem lX92_sum x = true → S x) (n : Nat) (k74 : Nat → Int64 → Int64 → Int64 → FM → Option (Int64 × FM)) (hk74 : ∀ (a0 : Nat) (a3 : Int64) (a8 : Int64) (a10 : Int64) (M : FM), WI Z hx N M → Z a0 → pq (k74 a0 a3 a8 a10 M) (QA S Z hx N M)) (a0 : Nat) (a3 : Int64) (a8 : Int64) (a10 : Int64) (M : FM) (w : WI Z hx N M) (z_a0 : Z a0) : pq (FX92_sum_74 n k74 a0 a3 a8 a10 M) (QA S Z hx N M) := by
  have hN := w.2.2.1
  have w0 := wk_r (S := S) w
  delta FX92_sum_74 BX92_sum_74
  refine pq_g (fun g1 => ?_)
  refine pq_fi (fun _ => ?_) (fun _ => ?_)
  · refine pq_fi (fun _ => ?_) (fun _ => ?_)
    · exact q_tA hN w0 (wX92_sum_116 S Z hS n _ hk74 _ _ w0.1 )
    · refine pq_g (fun g2 => ?_)
      have z3 := wk_z (i := 0) (f := 298) w0 rfl z_a0
      refine pq_g (fun g4 => ?_)
      refine pq_b (wX93_get S Z (sb rfl hS) _ _ _ w0.1 z3) (fun r5 K6 => ?_)
      have w7 := wk_t w0 K6 hN
      exact q_tA hN w7 (hk74 _ _ _ _ _ w7.1 z_a0)
  · exact q_tA hN w0 (wX92_sum_116 S Z hS n _ hk74 _ _ w0.1 )
theorem wX92_sum_65 (S Z : Nat → Prop) {hx N : Nat} (hS : ∀ x, fe_mem lX92_sum x = true → S x) (n : Nat) (k74 : Nat → Int64 → Int64 → Int64 → FM → Option (Int64 × FM)) (hk74 : ∀ (a0 : Nat) (a3 : Int64) (a8 : Int64) (a10 : Int64) (M : FM), WI Z hx N M → Z a0 → pq (k74 a0 a3 a8 a10 M) (QA S Z hx N M)) (a0 : Nat) (a1 : Int64) (a3 : Int64) (s0 : Nat) (s1 : Int32) (M : FM) (w : WI Z hx N M) (z_a0 : Z a0) (z_s0 : Z s0) : pq (FX92_sum_65 n k74 a0 a1 a3 s0 s1 M) (QA S Z hx N M) := by
  have hN := w.2.2.1
  have w0 := wk_r (S := S) w
  delta FX92_sum_65 BX92_sum_65
  refine pq_g (fun g1 => ?_)
  extract_lets +onlyGivenNames M3
  have w2 : Wk S Z hx N M M3 := wk_fI hN w0 rfl rfl g1 z_s0 (Or.inr (hS 296 rfl))
  exact q_tA hN w2 (hk74 _ _ _ _ _ w2.1 z_a0)
theorem wX92_sum_64 (S Z : Nat → Prop) {hx N : Nat} (hS : ∀ x, fe_mem lX92_sum x = true → S x) (n : Nat) (k74 : Nat → Int64 → Int64 → Int64 → FM → Option (Int64 × FM)) (hk74 : ∀ (a0 : Nat) (a3 : Int64) (a8 : Int64) (a10 : Int64) (M : FM), WI Z hx N M → Z a0 → pq (k74 a0 a3 a8 a10 M) (QA S Z hx N M)) (a0 : Nat) (a1 : Int64) (a3 : Int64) (s0 : Nat) (M : FM) (w : WI Z hx N M) (z_a0 : Z a0) (z_s0 : Z s0) : pq (FX92_sum_64 n k74 a0 a1 a3 s0 M) (QA S Z hx N M) := by
  have hN := w.2.2.1
  have w0 := wk_r (S := S) w
  delta FX92_sum_64 BX92_sum_64
  exact q_tA hN w0 (wX92_sum_65 S Z hS n _ hk74 _ _ _ _ _ _ w0.1 z_a0 z_s0)
theorem wX92_sum_32 (S Z : Nat → Prop) {hx N : Nat} (hS : ∀ x, fe_mem lX92_sum x = true → S x) (n : Nat) (k74 : Nat → Int64 → Int64 → Int64 → FM → Option (Int64 × FM)) (hk74 : ∀ (a0 : Nat) (a3 : Int64) (a8 : Int64) (a10 : Int64) (M : FM), WI Z hx N M → Z a0 → pq (k74 a0 a3 a8 a10 M) (QA S Z hx N M)) (a0 : Nat) (a1 : Int64) (a3 : Int64) (a5 : Int64) (s0 : Int32) (M : FM) (w : WI Z hx N M) (z_a0 : Z a0) : pq (FX92_sum_32 n k74 a0 a1 a3 a5 s0 M) (QA S Z hx N M) := by
  have hN := w.2.2.1
  have w0 := wk_r (S := S) w
  delta FX92_sum_32 BX92_sum_32
  refine pq_fi (fun _ => ?_) (fun _ => ?_)
  · exact q_tA hN w0 (wX92_sum_65 S Z hS n _ hk74 _ _ _ _ _ _ w0.1 z_a0 z_a0)
  · refine pq_fi (fun _ => ?_) (fun _ => ?_)
    · exact q_tA hN w0 (wX92_sum_64 S Z hS n _ hk74 _ _ _ _ _ w0.1 z_a0 z_a0)
    · refine pq_b (wX93_areBytes S Z (sb rfl hS) _ _ _ w0.1 ) (fun r1 K2 => ?_)
      have w3 := wk_t w0 K2 hN
      refine pq_fi (fun _ => ?_) (fun _ => ?_)
      · exact q_tA hN w3 (wX92_sum_65 S Z hS n _ hk74 _ _ _ _ _ _ w3.1 z_a0 z_a0)
      · exact q_tA hN w3 (wX92_sum_64 S Z hS n _ hk74 _ _ _ _ _ w3.1 z_a0 z_a0)
theorem wX92_sum_31 (S Z : Nat → Prop) {hx N : Nat} (hS : ∀ x, fe_mem lX92_sum x = true → S x) (n : Nat) (k74 : Nat → Int64 → Int64 → Int64 → FM → Option (Int64 × FM)) (hk74 : ∀ (a0 : Nat) (a3 : Int64) (a8 : Int64) (a10 : Int64) (M : FM), WI Z hx N M → Z a0 → pq (k74 a0 a3 a8 a10 M) (QA S Z hx N M)) (a0 : Nat) (a1 : Int64) (a3 : Int64) (a5 : Int64) (M : FM) (w : WI Z hx N M) (z_a0 : Z a0) : pq (FX92_sum_31 n k74 a0 a1 a3 a5 M) (QA S Z hx N M) := by
  have hN := w.2.2.1
  have w0 := wk_r (S := S) w
  delta FX92_sum_31 BX92_sum_31
  exact q_tA hN w0 (wX92_sum_32 S Z hS n _ hk74 _ _ _ _ _ _ w0.1 z_a0)
theorem wX92_sum_0 (S Z : Nat → Prop) {hx N : Nat} (hS : ∀ x, fe_mem lX92_sum x = true → S x) (n : Nat) (k74 : Nat → Int64 → Int64 → Int64 → FM → Option (Int64 × FM)) (hk74 : ∀ (a0 : Nat) (a3 : Int64) (a8 : Int64) (a10 : Int64) (M : FM), WI Z hx N M → Z a0 → pq (k74 a0 a3 a8 a10 M) (QA S Z hx N M)) (a0 : Nat) (a1 : Int64) (a3 : Int64) (M : FM) (w : WI Z hx N M) (z_a0 : Z a0) : pq (FX92_sum_0 n k74 a0 a1 a3 M) (QA S Z hx N M) := by
  have hN := w.2.2.1
  have w0 := wk_r (S := S) w
  delta FX92_sum_0 BX92_sum_0
  refine pq_fi (fun _ => ?_) (fun _ => ?_)
  · exact q_tA hN w0 (wX92_sum_31 S Z hS n _ hk74 _ _ _ _ _ w0.1 z_a0)
  · refine pq_fi (fun _ => ?_) (fun _ => ?_)
    · exact q_tA hN w0 (wX92_sum_31 S Z hS n _ hk74 _ _ _ _ _ w0.1 z_a0)
    · refine pq_fi (fun _ => ?_) (fun _ => ?_)
      · exact q_tA hN w0 (wX92_sum_31 S Z hS n _ hk74 _ _ _ _ _ w0.1 z_a0)
      · exact q_tA hN w0 (wX92_sum_32 S Z hS n _ hk74 _ _ _ _ _ _ w0.1 z_a0)
theorem wX92_sum_L (S Z : Nat → Prop) {hx N : Nat} (hS : ∀ x, fe_mem lX92_sum x = true → S x) (n : Nat) : ∀ j : Nat, ∀ (a0 : Nat) (a3 : Int64) (a8 : Int64) (a10 : Int64) (M : FM), WI Z hx N M → Z a0 → pq (FX92_sum_L74 n j a0 a3 a8 a10 M) (QA S Z hx N M)
  | 0 => by intros; exact pq_0
  | j + 1 => fun a0 a3 a8 a10 M w => wX92_sum_74 S Z hS n _ (wX92_sum_L S Z hS n j) a0 a3 a8 a10 M w
theorem wX92_sum (S Z : Nat → Prop) {hx N : Nat} (hS : ∀ x, fe_mem lX92_sum x = true → S x) (n : Nat) (a0 : Nat) (a1 : Int64) (a3 : Int64) (M : FM) (w : WI Z hx N M) (z_a0 : Z a0) : pq (FX92_sum n a0 a1 a3 M) (QA S Z hx N M) := wX92_sum_0 S Z hS n _ (wX92_sum_L S Z hS n n) a0 a1 a3 M w z_a0
def lX95_disk : List Nat := [324]
theorem wX95_disk_20 (S Z : Nat → Prop) {hx N : Nat} (hS : ∀ x, fe_mem lX95_disk x = true → S x) (s0 : Int32) (M : FM) (w : WI Z hx N M) : pq (FX95_disk_20 s0 M) (QA S Z hx N M) := by
  have hN := w.2.2.1
  have w0 := wk_r (S := S) w
  delta FX95_disk_20 BX95_disk_20
  exact pq_s w0
theorem wX95_disk_0 (S Z : Nat → Prop) {hx N : Nat} (hS : ∀ x, fe_mem lX95_disk x = true → S x) (a0 : Nat) (a1 : Int32) (M : FM) (w : WI Z hx N M) (z_a0 : Z a0) : pq (FX95_disk_0 a0 a1 M) (QA S Z hx N M) := by
  have hN := w.2.2.1
  have w0 := wk_r (S := S) w
  delta FX95_disk_0 BX95_disk_0
  refine pq_g (fun g1 => ?_)
  refine pq_b (wX95_noPlace S Z (sb rfl hS) _ _ _ w0.1 z_a0) (fun r2 K3 => ?_)
  have w4 := wk_t w0 K3 hN
  refine pq_fi (fun _ => ?_) (fun _ => ?_)
  · refine pq_g (fun g5 => ?_)
    have z6 := wk_z (i := 0) (f := 327) w4 rfl z_a0
    have f7 := sS_327 w4.1.1 g5
    refine pq_b (wX95_byteOf S Z (sb rfl hS) _ _ _ w4.1 z6) (fun r8 K9 => ?_)
    have w10 := wk_t w4 K9 hN
    exact q_tA hN w10 (wX95_disk_20 S Z hS _ _ w10.1 )
  · exact q_tA hN w4 (wX95_disk_20 S Z hS _ _ w4.1 )
theorem wX95_disk (S Z : Nat → Prop) {hx N : Nat} (hS : ∀ x, fe_mem lX95_disk x = true → S x) (a0 : Nat) (a1 : Int32) (M : FM) (w : WI Z hx N M) (z_a0 : Z a0) : pq (FX95_disk a0 a1 M) (QA S Z hx N M) := wX95_disk_0 S Z hS a0 a1 M w z_a0
def lX95_thrown : List Nat := []
theorem wX95_thrown_0 (S Z : Nat → Prop) {hx N : Nat} (hS : ∀ x, fe_mem lX95_thrown x = true → S x) (a0 : Nat) (M : FM) (w : WI Z hx N M) (z_a0 : Z a0) : pq (FX95_thrown_0 a0 M) (QA S Z hx N M) := by
  have hN := w.2.2.1
  have w0 := wk_r (S := S) w
  delta FX95_thrown_0 BX95_thrown_0
  refine pq_g (fun g1 => ?_)
  exact pq_s w0
theorem wX95_thrown (S Z : Nat → Prop) {hx N : Nat} (hS : ∀ x, fe_mem lX95_thrown x = true → S x) (a0 : Nat) (M : FM) (w : WI Z hx N M) (z_a0 : Z a0) : pq (FX95_thrown a0 M) (QA S Z hx N M) := wX95_thrown_0 S Z hS a0 M w z_a0
def lX92_disk : List Nat := [296, 324]
theorem wX92_disk_0 (S Z : Nat → Prop) {hx N : Nat} (hS : ∀ x, fe_mem lX92_disk x = true → S x) (a0 : Nat) (a1 : Int32) (M : FM) (w : WI Z hx N M) (z_a0 : Z a0) : pq (FX92_disk_0 a0 a1 M) (QA S Z hx N M) := by
  have hN := w.2.2.1
  have w0 := wk_r (S := S) w
  delta FX92_disk_0 BX92_disk_0
  refine pq_g (fun g1 => ?_)
  have z2 := wk_z (i := 0) (f := 300) w0 rfl z_a0
  refine pq_g (fun g3 => ?_)
  refine pq_b (wX95_disk S Z (sb rfl hS) _ _ _ w0.1 z2) (fun r4 K5 => ?_)
  have w6 := wk_t w0 K5 hN
  refine pq_g (fun g7 => ?_)
  have z8 := wk_z (i := 0) (f := 300) w6 rfl z_a0
  refine pq_g (fun g9 => ?_)
  refine pq_b (wX95_thrown S Z (sb rfl hS) _ _ w6.1 z8) (fun r10 K11 => ?_)
  have w12 := wk_t w6 K11 hN
  refine pq_g (fun g13 => ?_)
  extract_lets +onlyGivenNames M15
  have w14 : Wk S Z hx N M M15 := wk_fI hN w12 rfl rfl g13 z_a0 (Or.inr (hS 296 rfl))
  exact pq_s w14
theorem wX92_disk (S Z : Nat → Prop) {hx N : Nat} (hS : ∀ x, fe_mem lX92_disk x = true → S x) (a0 : Nat) (a1 : Int32) (M : FM) (w : WI Z hx N M) (z_a0 : Z a0) : pq (FX92_disk a0 a1 M) (QA S Z hx N M) := wX92_disk_0 S Z hS a0 a1 M w z_a0
def lX96_sent : List Nat := [394]
theorem wX96_sent_0 (S Z : Nat → Prop) {hx N : Nat} (hS : ∀ x, fe_mem lX96_sent x = true → S x) (a0 : Nat) (M : FM) (w : WI Z hx N M) (z_a0 : Z a0) : pq (FX96_sent_0 a0 M) (QA S Z hx N M) := by
  have hN := w.2.2.1
  have w0 := wk_r (S := S) w
  delta FX96_sent_0 BX96_sent_0
  refine pq_g (fun g1 => ?_)
  extract_lets +onlyGivenNames M3
  have w2 : Wk S Z hx N M M3 := wk_fI hN w0 rfl rfl g1 z_a0 (Or.inr (hS 394 rfl))
  refine pq_g (fun g4 => ?_)
  exact pq_s w2
theorem wX96_sent (S Z : Nat → Prop) {hx N : Nat} (hS : ∀ x, fe_mem lX96_sent x = true → S x) (a0 : Nat) (M : FM) (w : WI Z hx N M) (z_a0 : Z a0) : pq (FX96_sent a0 M) (QA S Z hx N M) := wX96_sent_0 S Z hS a0 M w z_a0
def lX92_sent : List Nat := [296, 394]
theorem wX92_sent_0 (S Z : Nat → Prop) {hx N : Nat} (hS : ∀ x, fe_mem lX92_sent x = true → S x) (a0 : Nat) (M : FM) (w : WI Z hx N M) (z_a0 : Z a0) : pq (FX92_sent_0 a0 M) (QA S Z hx N M) := by
  have hN := w.2.2.1
  have w0 := wk_r (S := S) w
  delta FX92_sent_0 BX92_sent_0
  refine pq_g (fun g1 => ?_)
  extract_lets +onlyGivenNames M3
  have w2 : Wk S Z hx N M M3 := wk_fI hN w0 rfl rfl g1 z_a0 (Or.inr (hS 296 rfl))
  refine pq_g (fun g4 => ?_)
  have z5 := wk_z (i := 0) (f := 301) w2 rfl z_a0
  refine pq_g (fun g6 => ?_)
  refine pq_b (wX96_sent S Z (sb rfl hS) _ _ w2.1 z5) (fun r7 K8 => ?_)
  have w9 := wk_t w2 K8 hN
  exact pq_s w9
theorem wX92_sent (S Z : Nat → Prop) {hx N : Nat} (hS : ∀ x, fe_mem lX92_sent x = true → S x) (a0 : Nat) (M : FM) (w : WI Z hx N M) (z_a0 : Z a0) : pq (FX92_sent a0 M) (QA S Z hx N M) := wX92_sent_0 S Z hS a0 M w z_a0
def lX96_out : List Nat := [394]
theorem wX96_out_48 (S Z : Nat → Prop) {hx N : Nat} (hS : ∀ x, fe_mem lX96_out x = true → S x) (s0 : Int32) (M : FM) (w : WI Z hx N M) : pq (FX96_out_48 s0 M) (QA S Z hx N M) := by
  have hN := w.2.2.1
  have w0 := wk_r (S := S) w
  delta FX96_out_48 BX96_out_48
  exact pq_s w0
theorem wX96_out_33 (S Z : Nat → Prop) {hx N : Nat} (hS : ∀ x, fe_mem lX96_out x = true → S x) (M : FM) (w : WI Z hx N M) : pq (FX96_out_33 M) (QA S Z hx N M) := by
  have hN := w.2.2.1
  have w0 := wk_r (S := S) w
  delta FX96_out_33 BX96_out_33
  exact q_tA hN w0 (wX96_out_48 S Z hS _ _ w0.1 )
theorem wX96_out_0 (S Z : Nat → Prop) {hx N : Nat} (hS : ∀ x, fe_mem lX96_out x = true → S x) (a0 : Nat) (a1 : Int64) (M : FM) (w : WI Z hx N M) (z_a0 : Z a0) : pq (FX96_out_0 a0 a1 M) (QA S Z hx N M) := by
  have hN := w.2.2.1
  have w0 := wk_r (S := S) w
  delta FX96_out_0 BX96_out_0
  refine pq_g (fun g1 => ?_)
  extract_lets +onlyGivenNames M3
  have w2 : Wk S Z hx N M M3 := wk_fI hN w0 rfl rfl g1 z_a0 (Or.inr (hS 394 rfl))
  refine pq_fi (fun _ => ?_) (fun _ => ?_)
  · exact q_tA hN w2 (wX96_out_33 S Z hS _ w2.1 )
  · refine pq_g (fun g4 => ?_)
    refine pq_fi (fun _ => ?_) (fun _ => ?_)
    · exact q_tA hN w2 (wX96_out_33 S Z hS _ w2.1 )
    · refine pq_g (fun g5 => ?_)
      refine pq_fi (fun _ => ?_) (fun _ => ?_)
      · refine pq_g (fun g6 => ?_)
        have z7 := wk_z (i := 0) (f := 412) w2 rfl z_a0
        have f8 := sS_412 w2.1.1 g6
        refine pq_n ?_
        refine pq_g (fun g9 => ?_)
        exact q_tA hN w2 (wX96_out_48 S Z hS _ _ w2.1 )
      · exact q_tA hN w2 (wX96_out_33 S Z hS _ w2.1 )
theorem wX96_out (S Z : Nat → Prop) {hx N : Nat} (hS : ∀ x, fe_mem lX96_out x = true → S x) (a0 : Nat) (a1 : Int64) (M : FM) (w : WI Z hx N M) (z_a0 : Z a0) : pq (FX96_out a0 a1 M) (QA S Z hx N M) := wX96_out_0 S Z hS a0 a1 M w z_a0
def lX92_out : List Nat := [296, 394]
theorem wX92_out_0 (S Z : Nat → Prop) {hx N : Nat} (hS : ∀ x, fe_mem lX92_out x = true → S x) (a0 : Nat) (a1 : Int64) (M : FM) (w : WI Z hx N M) (z_a0 : Z a0) : pq (FX92_out_0 a0 a1 M) (QA S Z hx N M) := by
  have hN := w.2.2.1
  have w0 := wk_r (S := S) w
  delta FX92_out_0 BX92_out_0
  refine pq_g (fun g1 => ?_)
  extract_lets +onlyGivenNames M3
  have w2 : Wk S Z hx N M M3 := wk_fI hN w0 rfl rfl g1 z_a0 (Or.inr (hS 296 rfl))
  refine pq_g (fun g4 => ?_)
  have z5 := wk_z (i := 0) (f := 301) w2 rfl z_a0
  refine pq_g (fun g6 => ?_)
  refine pq_b (wX96_out S Z (sb rfl hS) _ _ _ w2.1 z5) (fun r7 K8 => ?_)
  have w9 := wk_t w2 K8 hN
  exact pq_s w9
theorem wX92_out (S Z : Nat → Prop) {hx N : Nat} (hS : ∀ x, fe_mem lX92_out x = true → S x) (a0 : Nat) (a1 : Int64) (M : FM) (w : WI Z hx N M) (z_a0 : Z a0) : pq (FX92_out a0 a1 M) (QA S Z hx N M) := wX92_out_0 S Z hS a0 a1 M w z_a0
def lX92_waiting : List Nat := [296]
theorem wX92_waiting_0 (S Z : Nat → Prop) {hx N : Nat} (hS : ∀ x, fe_mem lX92_waiting x = true → S x) (a0 : Nat) (M : FM) (w : WI Z hx N M) (z_a0 : Z a0) : pq (FX92_waiting_0 a0 M) (QA S Z hx N M) := by
  have hN := w.2.2.1
  have w0 := wk_r (S := S) w
  delta FX92_waiting_0 BX92_waiting_0
  refine pq_g (fun g1 => ?_)
  extract_lets +onlyGivenNames M3
  have w2 : Wk S Z hx N M M3 := wk_fI hN w0 rfl rfl g1 z_a0 (Or.inr (hS 296 rfl))
  refine pq_g (fun g4 => ?_)
  exact pq_s w2
theorem wX92_waiting (S Z : Nat → Prop) {hx N : Nat} (hS : ∀ x, fe_mem lX92_waiting x = true → S x) (a0 : Nat) (M : FM) (w : WI Z hx N M) (z_a0 : Z a0) : pq (FX92_waiting a0 M) (QA S Z hx N M) := wX92_waiting_0 S Z hS a0 M w z_a0
def lX95_changed : List Nat := [324]
theorem wX95_changed_0 (S Z : Nat → Prop) {hx N : Nat} (hS : ∀ x, fe_mem lX95_changed x = true → S x) (a0 : Nat) (M : FM) (w : WI Z hx N M) (z_a0 : Z a0) : pq (FX95_changed_0 a0 M) (QA S Z hx N M) := by
  have hN := w.2.2.1
  have w0 := wk_r (S := S) w
  delta FX95_changed_0 BX95_changed_0
  refine pq_g (fun g1 => ?_)
  extract_lets +onlyGivenNames M3
  have w2 : Wk S Z hx N M M3 := wk_fI hN w0 rfl rfl g1 z_a0 (Or.inr (hS 324 rfl))
  refine pq_g (fun g4 => ?_)
  exact pq_s w2
theorem wX95_changed (S Z : Nat → Prop) {hx N : Nat} (hS : ∀ x, fe_mem lX95_changed x = true → S x) (a0 : Nat) (M : FM) (w : WI Z hx N M) (z_a0 : Z a0) : pq (FX95_changed a0 M) (QA S Z hx N M) := wX95_changed_0 S Z hS a0 M w z_a0
def lX92_changed : List Nat := [296, 324]
theorem wX92_changed_0 (S Z : Nat → Prop) {hx N : Nat} (hS : ∀ x, fe_mem lX92_changed x = true → S x) (a0 : Nat) (M : FM) (w : WI Z hx N M) (z_a0 : Z a0) : pq (FX92_changed_0 a0 M) (QA S Z hx N M) := by
  have hN := w.2.2.1
  have w0 := wk_r (S := S) w
  delta FX92_changed_0 BX92_changed_0
  refine pq_g (fun g1 => ?_)
  extract_lets +onlyGivenNames M3
  have w2 : Wk S Z hx N M M3 := wk_fI hN w0 rfl rfl g1 z_a0 (Or.inr (hS 296 rfl))
  refine pq_g (fun g4 => ?_)
  have z5 := wk_z (i := 0) (f := 300) w2 rfl z_a0
  refine pq_g (fun g6 => ?_)
  refine pq_b (wX95_changed S Z (sb rfl hS) _ _ w2.1 z5) (fun r7 K8 => ?_)
  have w9 := wk_t w2 K8 hN
  exact pq_s w9
theorem wX92_changed (S Z : Nat → Prop) {hx N : Nat} (hS : ∀ x, fe_mem lX92_changed x = true → S x) (a0 : Nat) (M : FM) (w : WI Z hx N M) (z_a0 : Z a0) : pq (FX92_changed a0 M) (QA S Z hx N M) := wX92_changed_0 S Z hS a0 M w z_a0
def lX92_time : List Nat := [296]
theorem wX92_time_0 (S Z : Nat → Prop) {hx N : Nat} (hS : ∀ x, fe_mem lX92_time x = true → S x) (a0 : Nat) (M : FM) (w : WI Z hx N M) (z_a0 : Z a0) : pq (FX92_time_0 a0 M) (QA S Z hx N M) := by
  have hN := w.2.2.1
  have w0 := wk_r (S := S) w
  delta FX92_time_0 BX92_time_0
  refine pq_g (fun g1 => ?_)
  extract_lets +onlyGivenNames M3
  have w2 : Wk S Z hx N M M3 := wk_fI hN w0 rfl rfl g1 z_a0 (Or.inr (hS 296 rfl))
  refine pq_g (fun g4 => ?_)
  have z5 := wk_z (i := 0) (f := 301) w2 rfl z_a0
  refine pq_g (fun g6 => ?_)
  exact pq_s w2
theorem wX92_time (S Z : Nat → Prop) {hx N : Nat} (hS : ∀ x, fe_mem lX92_time x = true → S x) (a0 : Nat) (M : FM) (w : WI Z hx N M) (z_a0 : Z a0) : pq (FX92_time a0 M) (QA S Z hx N M) := wX92_time_0 S Z hS a0 M w z_a0
def lX92_breaches : List Nat := [296]
theorem wX92_breaches_0 (S Z : Nat → Prop) {hx N : Nat} (hS : ∀ x, fe_mem lX92_breaches x = true → S x) (a0 : Nat) (M : FM) (w : WI Z hx N M) (z_a0 : Z a0) : pq (FX92_breaches_0 a0 M) (QA S Z hx N M) := by
  have hN := w.2.2.1
  have w0 := wk_r (S := S) w
  delta FX92_breaches_0 BX92_breaches_0
  refine pq_g (fun g1 => ?_)
  extract_lets +onlyGivenNames M3
  have w2 : Wk S Z hx N M M3 := wk_fI hN w0 rfl rfl g1 z_a0 (Or.inr (hS 296 rfl))
  refine pq_g (fun g4 => ?_)
  refine pq_g (fun g5 => ?_)
  have z6 := wk_z (i := 0) (f := 298) w2 rfl z_a0
  refine pq_g (fun g7 => ?_)
  refine pq_g (fun g8 => ?_)
  have z9 := wk_z (i := 0) (f := 301) w2 rfl z_a0
  refine pq_g (fun g10 => ?_)
  exact pq_s w2
theorem wX92_breaches (S Z : Nat → Prop) {hx N : Nat} (hS : ∀ x, fe_mem lX92_breaches x = true → S x) (a0 : Nat) (M : FM) (w : WI Z hx N M) (z_a0 : Z a0) : pq (FX92_breaches a0 M) (QA S Z hx N M) := wX92_breaches_0 S Z hS a0 M w z_a0
