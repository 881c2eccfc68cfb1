set_option maxRecDepth 100000
def lX59_choose : List Nat := [91, 92, 96, 114, 115, 116, 118, 119, 120, 1093]
theorem wX59_choose_240 (S Z : Nat → Prop) {hx N : Nat} (hS : ∀ x, fe_mem lX59_choose x = true → S x) (n : Nat) (s0 : Nat) (s1 : Int32) (s2 : Nat) (s3 : Int64) (M : FM) (w : WI Z hx N M) (z_s0 : Z s0) (z_s2 : Z s2) : pq (FX59_choose_240 n s0 s1 s2 s3 M) (QA S Z hx N M) := by
  have hN := w.2.2.1
  have w0 := wk_r (S := S) w
  delta FX59_choose_240 BX59_choose_240
  refine pq_g (fun g1 => ?_)
  refine pq_b (wX59_write S Z (sb rfl hS) _ _ _ _ _ w0.1 z_s0 z_s2) (fun r2 K3 => ?_)
  have w4 := wk_t w0 K3 hN
  exact pq_s w4
theorem wX59_choose_220 (S Z : Nat → Prop) {hx N : Nat} (hS : ∀ x, fe_mem lX59_choose x = true → S x) (n : Nat) (a0 : Nat) (s0 : Nat) (s1 : Int32) (s2 : Nat) (s3 : Int32) (s4 : Int32) (M : FM) (w : WI Z hx N M) (z_a0 : Z a0) (z_s0 : Z s0) (z_s2 : Z s2) : pq (FX59_choose_220 n a0 s0 s1 s2 s3 s4 M) (QA S Z hx N M) := by
  have hN := w.2.2.1
  have w0 := wk_r (S := S) w
  delta FX59_choose_220 BX59_choose_220
  refine pq_fi (fun _ => ?_) (fun _ => ?_)
  · refine pq_g (fun g1 => ?_)
    have z2 := wk_z (i := 0) (f := 105) w0 rfl z_a0
    refine pq_g (fun g3 => ?_)
    exact q_tA hN w0 (wX59_choose_240 S Z hS n _ _ _ _ _ w0.1 z_s0 z_s2)
  · refine pq_g (fun g4 => ?_)
    have z5 := wk_z (i := 0) (f := 106) w0 rfl z_a0
    refine pq_g (fun g6 => ?_)
    exact q_tA hN w0 (wX59_choose_240 S Z hS n _ _ _ _ _ w0.1 z_s0 z_s2)
theorem wX59_choose_204 (S Z : Nat → Prop) {hx N : Nat} (hS : ∀ x, fe_mem lX59_choose x = true → S x) (n : Nat) (a0 : Nat) (a1 : Int32) (a2 : Nat) (a3 : Int32) (s0 : Int32) (M : FM) (w : WI Z hx N M) (z_a0 : Z a0) (z_a2 : Z a2) : pq (FX59_choose_204 n a0 a1 a2 a3 s0 M) (QA S Z hx N M) := by
  have hN := w.2.2.1
  have w0 := wk_r (S := S) w
  delta FX59_choose_204 BX59_choose_204
  refine pq_fi (fun _ => ?_) (fun _ => ?_)
  · exact q_tA hN w0 (wX59_choose_220 S Z hS n _ _ _ _ _ _ _ w0.1 z_a0 z_a0 z_a2)
  · exact q_tA hN w0 (wX59_choose_220 S Z hS n _ _ _ _ _ _ _ w0.1 z_a0 z_a0 z_a2)
theorem wX59_choose_162 (S Z : Nat → Prop) {hx N : Nat} (hS : ∀ x, fe_mem lX59_choose x = true → S x) (n : Nat) (s0 : Nat) (s1 : Int32) (s2 : Nat) (s3 : Int64) (M : FM) (w : WI Z hx N M) (z_s0 : Z s0) (z_s2 : Z s2) : pq (FX59_choose_162 n s0 s1 s2 s3 M) (QA S Z hx N M) := by
  have hN := w.2.2.1
  have w0 := wk_r (S := S) w
  delta FX59_choose_162 BX59_choose_162
  refine pq_g (fun g1 => ?_)
  refine pq_b (wX59_write S Z (sb rfl hS) _ _ _ _ _ w0.1 z_s0 z_s2) (fun r2 K3 => ?_)
  have w4 := wk_t w0 K3 hN
  exact pq_s w4
theorem wX59_choose_140 (S Z : Nat → Prop) {hx N : Nat} (hS : ∀ x, fe_mem lX59_choose x = true → S x) (n : Nat) (a0 : Nat) (a4 : Int32) (s0 : Nat) (s1 : Int32) (s2 : Nat) (M : FM) (w : WI Z hx N M) (z_a0 : Z a0) (z_s0 : Z s0) (z_s2 : Z s2) : pq (FX59_choose_140 n a0 a4 s0 s1 s2 M) (QA S Z hx N M) := by
  have hN := w.2.2.1
  have w0 := wk_r (S := S) w
  delta FX59_choose_140 BX59_choose_140
  refine pq_fi (fun _ => ?_) (fun _ => ?_)
  · refine pq_g (fun g1 => ?_)
    have z2 := wk_z (i := 0) (f := 105) w0 rfl z_a0
    refine pq_g (fun g3 => ?_)
    exact q_tA hN w0 (wX59_choose_162 S Z hS n _ _ _ _ _ w0.1 z_s0 z_s2)
  · refine pq_g (fun g4 => ?_)
    have z5 := wk_z (i := 0) (f := 106) w0 rfl z_a0
    refine pq_g (fun g6 => ?_)
    exact q_tA hN w0 (wX59_choose_162 S Z hS n _ _ _ _ _ w0.1 z_s0 z_s2)
theorem wX59_choose_120 (S Z : Nat → Prop) {hx N : Nat} (hS : ∀ x, fe_mem lX59_choose x = true → S x) (n : Nat) (a0 : Nat) (a1 : Int32) (a2 : Nat) (a4 : Int32) (a5 : Int32) (M : FM) (w : WI Z hx N M) (z_a0 : Z a0) (z_a2 : Z a2) : pq (FX59_choose_120 n a0 a1 a2 a4 a5 M) (QA S Z hx N M) := by
  have hN := w.2.2.1
  have w0 := wk_r (S := S) w
  delta FX59_choose_120 BX59_choose_120
  refine pq_fi (fun _ => ?_) (fun _ => ?_)
  · exact q_tA hN w0 (wX59_choose_140 S Z hS n _ _ _ _ _ _ w0.1 z_a0 z_a0 z_a2)
  · refine pq_fi (fun _ => ?_) (fun _ => ?_)
    · exact q_tA hN w0 (wX59_choose_140 S Z hS n _ _ _ _ _ _ w0.1 z_a0 z_a0 z_a2)
    · refine pq_g (fun g1 => ?_)
      refine pq_b (wX61_quiet S Z (sb rfl hS) _ _ w0.1 z_a2) (fun r2 K3 => ?_)
      have w4 := wk_t w0 K3 hN
      exact q_tA hN w4 (wX59_choose_162 S Z hS n _ _ _ _ _ w4.1 z_a0 z_a2)
theorem wX59_choose_107 (S Z : Nat → Prop) {hx N : Nat} (hS : ∀ x, fe_mem lX59_choose x = true → S x) (n : Nat) (a0 : Nat) (a1 : Int32) (a2 : Nat) (a3 : Int32) (a4 : Int32) (a5 : Int32) (s0 : Nat) (s1 : Int32) (M : FM) (w : WI Z hx N M) (z_a0 : Z a0) (z_a2 : Z a2) (z_s0 : Z s0) : pq (FX59_choose_107 n a0 a1 a2 a3 a4 a5 s0 s1 M) (QA S Z hx N M) := by
  have hN := w.2.2.1
  have w0 := wk_r (S := S) w
  delta FX59_choose_107 BX59_choose_107
  refine pq_g (fun g1 => ?_)
  refine pq_b (wX60_raise S Z (sb rfl hS) _ _ _ w0.1 z_s0) (fun r2 K3 => ?_)
  have w4 := wk_t w0 K3 hN
  refine pq_fi (fun _ => ?_) (fun _ => ?_)
  · refine pq_fi (fun _ => ?_) (fun _ => ?_)
    · refine pq_g (fun g5 => ?_)
      have z6 := wk_z (i := 0) (f := 105) w4 rfl z_a0
      refine pq_g (fun g7 => ?_)
      have z8 := wk_z (i := 0) (f := 106) w4 rfl z_a0
      refine pq_g (fun g9 => ?_)
      refine pq_b (wX71_compare S Z (sb rfl hS) n _ _ _ w4.1 z6 z8) (fun r10 K11 => ?_)
      have w12 := wk_t w4 K11 hN
      refine pq_fi (fun _ => ?_) (fun _ => ?_)
      · refine pq_g (fun g13 => ?_)
        have z14 := wk_z (i := 0) (f := 105) w12 rfl z_a0
        refine pq_g (fun g15 => ?_)
        exact q_tA hN w12 (wX59_choose_204 S Z hS n _ _ _ _ _ _ w12.1 z_a0 z_a2)
      · refine pq_fi (fun _ => ?_) (fun _ => ?_)
        · exact q_tA hN w12 (wX59_choose_204 S Z hS n _ _ _ _ _ _ w12.1 z_a0 z_a2)
        · exact q_tA hN w12 (wX59_choose_204 S Z hS n _ _ _ _ _ _ w12.1 z_a0 z_a2)
    · exact q_tA hN w4 (wX59_choose_120 S Z hS n _ _ _ _ _ _ w4.1 z_a0 z_a2)
  · exact q_tA hN w4 (wX59_choose_120 S Z hS n _ _ _ _ _ _ w4.1 z_a0 z_a2)
theorem wX59_choose_101 (S Z : Nat → Prop) {hx N : Nat} (hS : ∀ x, fe_mem lX59_choose x = true → S x) (n : Nat) (a0 : Nat) (a1 : Int32) (a2 : Nat) (a3 : Int32) (a4 : Int32) (a5 : Int32) (s0 : Nat) (M : FM) (w : WI Z hx N M) (z_a0 : Z a0) (z_a2 : Z a2) (z_s0 : Z s0) : pq (FX59_choose_101 n a0 a1 a2 a3 a4 a5 s0 M) (QA S Z hx N M) := by
  have hN := w.2.2.1
  have w0 := wk_r (S := S) w
  delta FX59_choose_101 BX59_choose_101
  exact q_tA hN w0 (wX59_choose_107 S Z hS n _ _ _ _ _ _ _ _ _ w0.1 z_a0 z_a2 z_s0)
theorem wX59_choose_0 (S Z : Nat → Prop) {hx N : Nat} (hS : ∀ x, fe_mem lX59_choose x = true → S x) (n : Nat) (a0 : Nat) (a1 : Int32) (a2 : Nat) (M : FM) (w : WI Z hx N M) (z_a0 : Z a0) (z_a2 : Z a2) : pq (FX59_choose_0 n a0 a1 a2 M) (QA S Z hx N M) := by
  have hN := w.2.2.1
  have w0 := wk_r (S := S) w
  delta FX59_choose_0 BX59_choose_0
  refine pq_b (wX59_part S Z (sb rfl hS) _ _ _ _ w0.1 ) (fun r1 K2 => ?_)
  have w3 := wk_t w0 K2 hN
  refine pq_fi (fun _ => ?_) (fun _ => ?_)
  · refine pq_b (wX59_part S Z (sb rfl hS) _ _ _ _ w3.1 ) (fun r4 K5 => ?_)
    have w6 := wk_t w3 K5 hN
    refine pq_g (fun g7 => ?_)
    have z8 := wk_z (i := 0) (f := 105) w6 rfl z_a0
    refine pq_g (fun g9 => ?_)
    refine pq_b (wX59_take S Z (sb rfl hS) _ _ _ _ _ w6.1 z_a0 z_a2 z8) (fun r10 K11 => ?_)
    have w12 := wk_t w6 K11 hN
    refine pq_b (wX59_part S Z (sb rfl hS) _ _ _ _ w12.1 ) (fun r13 K14 => ?_)
    have w15 := wk_t w12 K14 hN
    refine pq_g (fun g16 => ?_)
    have z17 := wk_z (i := 0) (f := 106) w15 rfl z_a0
    refine pq_g (fun g18 => ?_)
    refine pq_b (wX59_take S Z (sb rfl hS) _ _ _ _ _ w15.1 z_a0 z_a2 z17) (fun r19 K20 => ?_)
    have w21 := wk_t w15 K20 hN
    refine pq_g (fun g22 => ?_)
    have z23 := wk_z (i := 0) (f := 105) w21 rfl z_a0
    refine pq_g (fun g24 => ?_)
    have z25 := wk_z (i := 0) (f := 114) w21 rfl z23
    refine pq_g (fun g26 => ?_)
    refine pq_b (wX72_isNone S Z (sb rfl hS) _ _ w21.1 z25) (fun r27 K28 => ?_)
    have w29 := wk_t w21 K28 hN
    refine pq_g (fun g30 => ?_)
    have z31 := wk_z (i := 0) (f := 106) w29 rfl z_a0
    refine pq_g (fun g32 => ?_)
    have z33 := wk_z (i := 0) (f := 114) w29 rfl z31
    refine pq_g (fun g34 => ?_)
    refine pq_b (wX72_isNone S Z (sb rfl hS) _ _ w29.1 z33) (fun r35 K36 => ?_)
    have w37 := wk_t w29 K36 hN
    refine pq_g (fun g38 => ?_)
    have z39 := wk_z (i := 0) (f := 94) w37 rfl z_a0
    refine pq_g (fun g40 => ?_)
    have z41 := wk_z (i := 0) (f := 105) w37 rfl z_a0
    refine pq_g (fun g42 => ?_)
    refine pq_b (wX71_is S Z (sb rfl hS) _ _ _ w37.1 z41 (wk_zc w37 rfl)) (fun r43 K44 => ?_)
    have w45 := wk_t w37 K44 hN
    refine pq_fi (fun _ => ?_) (fun _ => ?_)
    · refine pq_g (fun g46 => ?_)
      have z47 := wk_z (i := 0) (f := 106) w45 rfl z_a0
      refine pq_g (fun g48 => ?_)
      refine pq_b (wX71_is S Z (sb rfl hS) _ _ _ w45.1 z47 (wk_zc w45 rfl)) (fun r49 K50 => ?_)
      have w51 := wk_t w45 K50 hN
      refine pq_fi (fun _ => ?_) (fun _ => ?_)
      · exact q_tA hN w51 (wX59_choose_107 S Z hS n _ _ _ _ _ _ _ _ _ w51.1 z_a0 z_a2 z39)
      · exact q_tA hN w51 (wX59_choose_101 S Z hS n _ _ _ _ _ _ _ _ w51.1 z_a0 z_a2 z39)
    · exact q_tA hN w45 (wX59_choose_101 S Z hS n _ _ _ _ _ _ _ _ w45.1 z_a0 z_a2 z39)
  · exact pq_s w3
theorem wX59_choose (S Z : Nat → Prop) {hx N : Nat} (hS : ∀ x, fe_mem lX59_choose x = true → S x) (n : Nat) (a0 : Nat) (a1 : Int32) (a2 : Nat) (M : FM) (w : WI Z hx N M) (z_a0 : Z a0) (z_a2 : Z a2) : pq (FX59_choose n a0 a1 a2 M) (QA S Z hx N M) := wX59_choose_0 S Z hS n a0 a1 a2 M w z_a0 z_a2
def lX59_give : List Nat := [97]
theorem wX59_give_0 (S Z : Nat → Prop) {hx N : Nat} (hS : ∀ x, fe_mem lX59_give x = true → S x) (a0 : Nat) (a1 : Int64) (M : FM) (w : WI Z hx N M) (z_a0 : Z a0) : pq (FX59_give_0 a0 a1 M) (QA S Z hx N M) := by
  have hN := w.2.2.1
  have w0 := wk_r (S := S) w
  delta FX59_give_0 BX59_give_0
  refine pq_g (fun g1 => ?_)
  extract_lets +onlyGivenNames M3
  have w2 : Wk S Z hx N M M3 := wk_fL hN w0 rfl rfl g1 z_a0 (Or.inr (hS 97 rfl))
  exact pq_s w2
theorem wX59_give (S Z : Nat → Prop) {hx N : Nat} (hS : ∀ x, fe_mem lX59_give x = true → S x) (a0 : Nat) (a1 : Int64) (M : FM) (w : WI Z hx N M) (z_a0 : Z a0) : pq (FX59_give a0 a1 M) (QA S Z hx N M) := wX59_give_0 S Z hS a0 a1 M w z_a0
def lX59_compare : List Nat := [91, 92, 97, 114, 115, 116, 118, 119, 120]
theorem wX59_compare_184 (S Z : Nat → Prop) {hx N : Nat} (hS : ∀ x, fe_mem lX59_compare x = true → S x) (n : Nat) (s0 : Nat) (s1 : Int64) (M : FM) (w : WI Z hx N M) (z_s0 : Z s0) : pq (FX59_compare_184 n s0 s1 M) (QA S Z hx N M) := by
  have hN := w.2.2.1
  have w0 := wk_r (S := S) w
  delta FX59_compare_184 BX59_compare_184
  refine pq_g (fun g1 => ?_)
  refine pq_b (wX59_give S Z (sb rfl hS) _ _ _ w0.1 z_s0) (fun r2 K3 => ?_)
  have w4 := wk_t w0 K3 hN
  exact pq_s w4
theorem wX59_compare_183 (S Z : Nat → Prop) {hx N : Nat} (hS : ∀ x, fe_mem lX59_compare x = true → S x) (n : Nat) (s0 : Nat) (M : FM) (w : WI Z hx N M) (z_s0 : Z s0) : pq (FX59_compare_183 n s0 M) (QA S Z hx N M) := by
  have hN := w.2.2.1
  have w0 := wk_r (S := S) w
  delta FX59_compare_183 BX59_compare_183
  exact q_tA hN w0 (wX59_compare_184 S Z hS n _ _ _ w0.1 z_s0)
theorem wX59_compare_179 (S Z : Nat → Prop) {hx N : Nat} (hS : ∀ x, fe_mem lX59_compare x = true → S x) (n : Nat) (s0 : Nat) (M : FM) (w : WI Z hx N M) (z_s0 : Z s0) : pq (FX59_compare_179 n s0 M) (QA S Z hx N M) := by
  have hN := w.2.2.1
  have w0 := wk_r (S := S) w
  delta FX59_compare_179 BX59_compare_179
  exact q_tA hN w0 (wX59_compare_184 S Z hS n _ _ _ w0.1 z_s0)
theorem wX59_compare_126 (S Z : Nat → Prop) {hx N : Nat} (hS : ∀ x, fe_mem lX59_compare x = true → S x) (n : Nat) (a0 : Nat) (s0 : Nat) (s1 : Int32) (M : FM) (w : WI Z hx N M) (z_a0 : Z a0) (z_s0 : Z s0) : pq (FX59_compare_126 n a0 s0 s1 M) (QA S Z hx N M) := by
  have hN := w.2.2.1
  have w0 := wk_r (S := S) w
  delta FX59_compare_126 BX59_compare_126
  refine pq_g (fun g1 => ?_)
  refine pq_b (wX60_raise S Z (sb rfl hS) _ _ _ w0.1 z_s0) (fun r2 K3 => ?_)
  have w4 := wk_t w0 K3 hN
  refine pq_g (fun g5 => ?_)
  refine pq_b (wX59_give S Z (sb rfl hS) _ _ _ w4.1 z_a0) (fun r6 K7 => ?_)
  have w8 := wk_t w4 K7 hN
  exact pq_s w8
theorem wX59_compare_109 (S Z : Nat → Prop) {hx N : Nat} (hS : ∀ x, fe_mem lX59_compare x = true → S x) (n : Nat) (a0 : Nat) (s0 : Int32) (M : FM) (w : WI Z hx N M) (z_a0 : Z a0) : pq (FX59_compare_109 n a0 s0 M) (QA S Z hx N M) := by
  have hN := w.2.2.1
  have w0 := wk_r (S := S) w
  delta FX59_compare_109 BX59_compare_109
  refine pq_g (fun g1 => ?_)
  have z2 := wk_z (i := 0) (f := 94) w0 rfl z_a0
  refine pq_fi (fun _ => ?_) (fun _ => ?_)
  · exact q_tA hN w0 (wX59_compare_126 S Z hS n _ _ _ _ w0.1 z_a0 z2)
  · exact q_tA hN w0 (wX59_compare_126 S Z hS n _ _ _ _ w0.1 z_a0 z2)
theorem wX59_compare_104 (S Z : Nat → Prop) {hx N : Nat} (hS : ∀ x, fe_mem lX59_compare x = true → S x) (n : Nat) (a0 : Nat) (M : FM) (w : WI Z hx N M) (z_a0 : Z a0) : pq (FX59_compare_104 n a0 M) (QA S Z hx N M) := by
  have hN := w.2.2.1
  have w0 := wk_r (S := S) w
  delta FX59_compare_104 BX59_compare_104
  exact q_tA hN w0 (wX59_compare_109 S Z hS n _ _ _ w0.1 z_a0)
theorem wX59_compare_73 (S Z : Nat → Prop) {hx N : Nat} (hS : ∀ x, fe_mem lX59_compare x = true → S x) (n : Nat) (a0 : Nat) (a3 : Int32) (M : FM) (w : WI Z hx N M) (z_a0 : Z a0) : pq (FX59_compare_73 n a0 a3 M) (QA S Z hx N M) := by
  have hN := w.2.2.1
  have w0 := wk_r (S := S) w
  delta FX59_compare_73 BX59_compare_73
  refine pq_fi (fun _ => ?_) (fun _ => ?_)
  · exact q_tA hN w0 (wX59_compare_104 S Z hS n _ _ w0.1 z_a0)
  · refine pq_g (fun g1 => ?_)
    have z2 := wk_z (i := 0) (f := 105) w0 rfl z_a0
    refine pq_g (fun g3 => ?_)
    refine pq_b (wX71_is S Z (sb rfl hS) _ _ _ w0.1 z2 (wk_zc w0 rfl)) (fun r4 K5 => ?_)
    have w6 := wk_t w0 K5 hN
    refine pq_fi (fun _ => ?_) (fun _ => ?_)
    · refine pq_g (fun g7 => ?_)
      have z8 := wk_z (i := 0) (f := 106) w6 rfl z_a0
      refine pq_g (fun g9 => ?_)
      refine pq_b (wX71_is S Z (sb rfl hS) _ _ _ w6.1 z8 (wk_zc w6 rfl)) (fun r10 K11 => ?_)
      have w12 := wk_t w6 K11 hN
      refine pq_fi (fun _ => ?_) (fun _ => ?_)
      · exact q_tA hN w12 (wX59_compare_109 S Z hS n _ _ _ w12.1 z_a0)
      · exact q_tA hN w12 (wX59_compare_104 S Z hS n _ _ w12.1 z_a0)
    · exact q_tA hN w6 (wX59_compare_104 S Z hS n _ _ w6.1 z_a0)
theorem wX59_compare_0 (S Z : Nat → Prop) {hx N : Nat} (hS : ∀ x, fe_mem lX59_compare x = true → S x) (n : Nat) (a0 : Nat) (a1 : Int32) (a2 : Nat) (M : FM) (w : WI Z hx N M) (z_a0 : Z a0) (z_a2 : Z a2) : pq (FX59_compare_0 n a0 a1 a2 M) (QA S Z hx N M) := by
  have hN := w.2.2.1
  have w0 := wk_r (S := S) w
  delta FX59_compare_0 BX59_compare_0
  refine pq_b (wX59_part S Z (sb rfl hS) _ _ _ _ w0.1 ) (fun r1 K2 => ?_)
  have w3 := wk_t w0 K2 hN
  refine pq_fi (fun _ => ?_) (fun _ => ?_)
  · refine pq_b (wX59_part S Z (sb rfl hS) _ _ _ _ w3.1 ) (fun r4 K5 => ?_)
    have w6 := wk_t w3 K5 hN
    refine pq_g (fun g7 => ?_)
    have z8 := wk_z (i := 0) (f := 105) w6 rfl z_a0
    refine pq_g (fun g9 => ?_)
    refine pq_b (wX59_take S Z (sb rfl hS) _ _ _ _ _ w6.1 z_a0 z_a2 z8) (fun r10 K11 => ?_)
    have w12 := wk_t w6 K11 hN
    refine pq_b (wX59_part S Z (sb rfl hS) _ _ _ _ w12.1 ) (fun r13 K14 => ?_)
    have w15 := wk_t w12 K14 hN
    refine pq_g (fun g16 => ?_)
    have z17 := wk_z (i := 0) (f := 106) w15 rfl z_a0
    refine pq_g (fun g18 => ?_)
    refine pq_b (wX59_take S Z (sb rfl hS) _ _ _ _ _ w15.1 z_a0 z_a2 z17) (fun r19 K20 => ?_)
    have w21 := wk_t w15 K20 hN
    refine pq_g (fun g22 => ?_)
    have z23 := wk_z (i := 0) (f := 105) w21 rfl z_a0
    refine pq_g (fun g24 => ?_)
    have z25 := wk_z (i := 0) (f := 114) w21 rfl z23
    refine pq_g (fun g26 => ?_)
    refine pq_b (wX72_isNone S Z (sb rfl hS) _ _ w21.1 z25) (fun r27 K28 => ?_)
    have w29 := wk_t w21 K28 hN
    refine pq_fi (fun _ => ?_) (fun _ => ?_)
    · refine pq_g (fun g30 => ?_)
      have z31 := wk_z (i := 0) (f := 106) w29 rfl z_a0
      refine pq_g (fun g32 => ?_)
      have z33 := wk_z (i := 0) (f := 114) w29 rfl z31
      refine pq_g (fun g34 => ?_)
      refine pq_b (wX72_isNone S Z (sb rfl hS) _ _ w29.1 z33) (fun r35 K36 => ?_)
      have w37 := wk_t w29 K36 hN
      refine pq_fi (fun _ => ?_) (fun _ => ?_)
      · refine pq_g (fun g38 => ?_)
        have z39 := wk_z (i := 0) (f := 105) w37 rfl z_a0
        refine pq_g (fun g40 => ?_)
        have z41 := wk_z (i := 0) (f := 106) w37 rfl z_a0
        refine pq_g (fun g42 => ?_)
        refine pq_b (wX71_compare S Z (sb rfl hS) n _ _ _ w37.1 z39 z41) (fun r43 K44 => ?_)
        have w45 := wk_t w37 K44 hN
        refine pq_fi (fun _ => ?_) (fun _ => ?_)
        · refine pq_fi (fun _ => ?_) (fun _ => ?_)
          · exact q_tA hN w45 (wX59_compare_183 S Z hS n _ _ w45.1 z_a0)
          · exact q_tA hN w45 (wX59_compare_179 S Z hS n _ _ w45.1 z_a0)
        · refine pq_fi (fun _ => ?_) (fun _ => ?_)
          · refine pq_fi (fun _ => ?_) (fun _ => ?_)
            · exact q_tA hN w45 (wX59_compare_183 S Z hS n _ _ w45.1 z_a0)
            · exact q_tA hN w45 (wX59_compare_179 S Z hS n _ _ w45.1 z_a0)
          · refine pq_fi (fun _ => ?_) (fun _ => ?_)
            · exact q_tA hN w45 (wX59_compare_179 S Z hS n _ _ w45.1 z_a0)
            · exact q_tA hN w45 (wX59_compare_183 S Z hS n _ _ w45.1 z_a0)
      · exact q_tA hN w37 (wX59_compare_73 S Z hS n _ _ _ w37.1 z_a0)
    · exact q_tA hN w29 (wX59_compare_73 S Z hS n _ _ _ w29.1 z_a0)
  · exact pq_s w3
theorem wX59_compare (S Z : Nat → Prop) {hx N : Nat} (hS : ∀ x, fe_mem lX59_compare x = true → S x) (n : Nat) (a0 : Nat) (a1 : Int32) (a2 : Nat) (M : FM) (w : WI Z hx N M) (z_a0 : Z a0) (z_a2 : Z a2) : pq (FX59_compare n a0 a1 a2 M) (QA S Z hx N M) := wX59_compare_0 S Z hS n a0 a1 a2 M w z_a0 z_a2
def lX61_isSmall : List Nat := []
theorem wX61_isSmall_16 (S Z : Nat → Prop) {hx N : Nat} (hS : ∀ x, fe_mem lX61_isSmall x = true → S x) (s0 : Int32) (M : FM) (w : WI Z hx N M) : pq (FX61_isSmall_16 s0 M) (QA S Z hx N M) := by
  have hN := w.2.2.1
  have w0 := wk_r (S := S) w
  delta FX61_isSmall_16 BX61_isSmall_16
  refine pq_g (fun _ => ?_)
  exact pq_s w0
theorem wX61_isSmall_0 (S Z : Nat → Prop) {hx N : Nat} (hS : ∀ x, fe_mem lX61_isSmall x = true → S x) (a0 : Nat) (a1 : Int64) (M : FM) (w : WI Z hx N M) (z_a0 : Z a0) : pq (FX61_isSmall_0 a0 a1 M) (QA S Z hx N M) := by
  have hN := w.2.2.1
  have w0 := wk_r (S := S) w
  delta FX61_isSmall_0 BX61_isSmall_0
  refine pq_g (fun g1 => ?_)
  refine pq_b (wX61_top S Z (sb rfl hS) _ _ w0.1 z_a0) (fun r2 K3 => ?_)
  have w4 := wk_t w0 K3 hN
  refine pq_fi (fun _ => ?_) (fun _ => ?_)
  · exact q_tA hN w4 (wX61_isSmall_16 S Z hS _ _ w4.1 )
  · exact q_tA hN w4 (wX61_isSmall_16 S Z hS _ _ w4.1 )
theorem wX61_isSmall (S Z : Nat → Prop) {hx N : Nat} (hS : ∀ x, fe_mem lX61_isSmall x = true → S x) (a0 : Nat) (a1 : Int64) (M : FM) (w : WI Z hx N M) (z_a0 : Z a0) : pq (FX61_isSmall a0 a1 M) (QA S Z hx N M) := wX61_isSmall_0 S Z hS a0 a1 M w z_a0
def lX59_classOf : List Nat := []
theorem wX59_classOf_90 (S Z : Nat → Prop) {hx N : Nat} (hS : ∀ x, fe_mem lX59_classOf x = true → S x) (s0 : Int32) (M : FM) (w : WI Z hx N M) : pq (FX59_classOf_90 s0 M) (QA S Z hx N M) := by
  have hN := w.2.2.1
  have w0 := wk_r (S := S) w
  delta FX59_classOf_90 BX59_classOf_90
  exact pq_s w0
theorem wX59_classOf_74 (S Z : Nat → Prop) {hx N : Nat} (hS : ∀ x, fe_mem lX59_classOf x = true → S x) (a0 : Nat) (s0 : Int32) (M : FM) (w : WI Z hx N M) (z_a0 : Z a0) : pq (FX59_classOf_74 a0 s0 M) (QA S Z hx N M) := by
  have hN := w.2.2.1
  have w0 := wk_r (S := S) w
  delta FX59_classOf_74 BX59_classOf_74
  refine pq_g (fun g1 => ?_)
  refine pq_fi (fun _ => ?_) (fun _ => ?_)
  · exact q_tA hN w0 (wX59_classOf_90 S Z hS _ _ w0.1 )
  · exact q_tA hN w0 (wX59_classOf_90 S Z hS _ _ w0.1 )
theorem wX59_classOf_27 (S Z : Nat → Prop) {hx N : Nat} (hS : ∀ x, fe_mem lX59_classOf x = true → S x) (s0 : Int32) (M : FM) (w : WI Z hx N M) : pq (FX59_classOf_27 s0 M) (QA S Z hx N M) := by
  have hN := w.2.2.1
  have w0 := wk_r (S := S) w
  delta FX59_classOf_27 BX59_classOf_27
  exact pq_s w0
theorem wX59_classOf_0 (S Z : Nat → Prop) {hx N : Nat} (hS : ∀ x, fe_mem lX59_classOf x = true → S x) (a0 : Nat) (a1 : Nat) (M : FM) (w : WI Z hx N M) (z_a0 : Z a0) (z_a1 : Z a1) : pq (FX59_classOf_0 a0 a1 M) (QA S Z hx N M) := by
  have hN := w.2.2.1
  have w0 := wk_r (S := S) w
  delta FX59_classOf_0 BX59_classOf_0
  refine pq_g (fun g1 => ?_)
  have z2 := wk_z (i := 0) (f := 114) w0 rfl z_a0
  refine pq_g (fun g3 => ?_)
  refine pq_b (wX72_isNone S Z (sb rfl hS) _ _ w0.1 z2) (fun r4 K5 => ?_)
  have w6 := wk_t w0 K5 hN
  refine pq_fi (fun _ => ?_) (fun _ => ?_)
  · refine pq_g (fun g7 => ?_)
    refine pq_b (wX71_is S Z (sb rfl hS) _ _ _ w6.1 z_a0 (wk_zc w6 rfl)) (fun r8 K9 => ?_)
    have w10 := wk_t w6 K9 hN
    refine pq_fi (fun _ => ?_) (fun _ => ?_)
    · refine pq_g (fun g11 => ?_)
      refine pq_b (wX71_is S Z (sb rfl hS) _ _ _ w10.1 z_a0 (wk_zc w10 rfl)) (fun r12 K13 => ?_)
      have w14 := wk_t w10 K13 hN
      refine pq_fi (fun _ => ?_) (fun _ => ?_)
      · refine pq_g (fun g15 => ?_)
        refine pq_g (fun g16 => ?_)
        refine pq_b (wX61_isSmall S Z (sb rfl hS) _ _ _ w14.1 z_a1) (fun r17 K18 => ?_)
        have w19 := wk_t w14 K18 hN
        refine pq_fi (fun _ => ?_) (fun _ => ?_)
        · exact q_tA hN w19 (wX59_classOf_74 S Z hS _ _ _ w19.1 z_a0)
        · exact q_tA hN w19 (wX59_classOf_74 S Z hS _ _ _ w19.1 z_a0)
      · exact q_tA hN w14 (wX59_classOf_74 S Z hS _ _ _ w14.1 z_a0)
    · exact q_tA hN w10 (wX59_classOf_74 S Z hS _ _ _ w10.1 z_a0)
  · refine pq_g (fun g20 => ?_)
    refine pq_b (wX71_is S Z (sb rfl hS) _ _ _ w6.1 z_a0 (wk_zc w6 rfl)) (fun r21 K22 => ?_)
    have w23 := wk_t w6 K22 hN
    refine pq_fi (fun _ => ?_) (fun _ => ?_)
    · exact q_tA hN w23 (wX59_classOf_27 S Z hS _ _ w23.1 )
    · exact q_tA hN w23 (wX59_classOf_27 S Z hS _ _ w23.1 )
theorem wX59_classOf (S Z : Nat → Prop) {hx N : Nat} (hS : ∀ x, fe_mem lX59_classOf x = true → S x) (a0 : Nat) (a1 : Nat) (M : FM) (w : WI Z hx N M) (z_a0 : Z a0) (z_a1 : Z a1) : pq (FX59_classOf a0 a1 M) (QA S Z hx N M) := wX59_classOf_0 S Z hS a0 a1 M w z_a0 z_a1
def lX59_look : List Nat := [97, 114, 115, 116, 118, 119, 120]
theorem wX59_look_65 (S Z : Nat → Prop) {hx N : Nat} (hS : ∀ x, fe_mem lX59_look x = true → S x) (s0 : Nat) (s1 : Int64) (M : FM) (w : WI Z hx N M) (z_s0 : Z s0) : pq (FX59_look_65 s0 s1 M) (QA S Z hx N M) := by
  have hN := w.2.2.1
  have w0 := wk_r (S := S) w
  delta FX59_look_65 BX59_look_65
  refine pq_g (fun g1 => ?_)
  refine pq_b (wX59_give S Z (sb rfl hS) _ _ _ w0.1 z_s0) (fun r2 K3 => ?_)
  have w4 := wk_t w0 K3 hN
  exact pq_s w4
theorem wX59_look_0 (S Z : Nat → Prop) {hx N : Nat} (hS : ∀ x, fe_mem lX59_look x = true → S x) (a0 : Nat) (a1 : Int32) (a2 : Nat) (M : FM) (w : WI Z hx N M) (z_a0 : Z a0) (z_a2 : Z a2) : pq (FX59_look_0 a0 a1 a2 M) (QA S Z hx N M) := by
  have hN := w.2.2.1
  have w0 := wk_r (S := S) w
  delta FX59_look_0 BX59_look_0
  refine pq_b (wX59_part S Z (sb rfl hS) _ _ _ _ w0.1 ) (fun r1 K2 => ?_)
  have w3 := wk_t w0 K2 hN
  refine pq_b (wX59_part S Z (sb rfl hS) _ _ _ _ w3.1 ) (fun r4 K5 => ?_)
  have w6 := wk_t w3 K5 hN
  refine pq_fi (fun _ => ?_) (fun _ => ?_)
  · refine pq_b (wX59_isDouble S Z (sb rfl hS) _ _ w6.1 z_a2) (fun r7 K8 => ?_)
    have w9 := wk_t w6 K8 hN
    refine pq_fi (fun _ => ?_) (fun _ => ?_)
    · refine pq_g (fun g10 => ?_)
      have z11 := wk_z (i := 0) (f := 93) w9 rfl z_a0
      have f12 := sS_93 w9.1.1 g10
      refine pq_g (fun g13 => ?_)
      exact q_tA hN w9 (wX59_look_65 S Z hS _ _ _ w9.1 z_a0)
    · refine pq_g (fun g14 => ?_)
      have z15 := wk_z (i := 0) (f := 93) w9 rfl z_a0
      have f16 := sS_93 w9.1.1 g14
      refine pq_g (fun g17 => ?_)
      exact q_tA hN w9 (wX59_look_65 S Z hS _ _ _ w9.1 z_a0)
  · refine pq_fi (fun _ => ?_) (fun _ => ?_)
    · refine pq_g (fun g18 => ?_)
      have z19 := wk_z (i := 0) (f := 105) w6 rfl z_a0
      refine pq_g (fun g20 => ?_)
      refine pq_b (wX59_take S Z (sb rfl hS) _ _ _ _ _ w6.1 z_a0 z_a2 z19) (fun r21 K22 => ?_)
      have w23 := wk_t w6 K22 hN
      refine pq_g (fun g24 => ?_)
      have z25 := wk_z (i := 0) (f := 105) w23 rfl z_a0
      refine pq_b (wX59_classOf S Z (sb rfl hS) _ _ _ w23.1 z25 z_a2) (fun r26 K27 => ?_)
      have w28 := wk_t w23 K27 hN
      refine pq_g (fun g29 => ?_)
      refine pq_b (wX59_give S Z (sb rfl hS) _ _ _ w28.1 z_a0) (fun r30 K31 => ?_)
      have w32 := wk_t w28 K31 hN
      exact pq_s w32
    · exact pq_s w6
theorem wX59_look (S Z : Nat → Prop) {hx N : Nat} (hS : ∀ x, fe_mem lX59_look x = true → S x) (a0 : Nat) (a1 : Int32) (a2 : Nat) (M : FM) (w : WI Z hx N M) (z_a0 : Z a0) (z_a2 : Z a2) : pq (FX59_look a0 a1 a2 M) (QA S Z hx N M) := wX59_look_0 S Z hS a0 a1 a2 M w z_a0 z_a2
def lX65_none : List Nat := [114, 115]
theorem wX65_none_0 (S Z : Nat → Prop) {hx N : Nat} (hS : ∀ x, fe_mem lX65_none x = true → S x) (a0 : Nat) (M : FM) (w : WI Z hx N M) (z_a0 : Z a0) : pq (FX65_none_0 a0 M) (QV S Z hx N M) := by
  have hN := w.2.2.1
  have w0 := wk_r (S := S) w
  delta FX65_none_0 BX65_none_0
  refine pq_g (fun g1 => ?_)
  refine pq_b (wX71_become S Z (sb rfl hS) _ _ _ _ w0.1 z_a0 (wk_zc w0 rfl)) (fun r2 K3 => ?_)
  have w4 := wk_t w0 K3 hN
  exact pq_s w4
theorem wX65_none (S Z : Nat → Prop) {hx N : Nat} (hS : ∀ x, fe_mem lX65_none x = true → S x) (a0 : Nat) (M : FM) (w : WI Z hx N M) (z_a0 : Z a0) : pq (FX65_none a0 M) (QV S Z hx N M) := wX65_none_0 S Z hS a0 M w z_a0
def lX65_isNone : List Nat := [91, 92, 114, 115]
theorem wX65_isNone_66 (S Z : Nat → Prop) {hx N : Nat} (hS : ∀ x, fe_mem lX65_isNone x = true → S x) (a4 : Int32) (M : FM) (w : WI Z hx N M) : pq (FX65_isNone_66 a4 M) (QA S Z hx N M) := by
  have hN := w.2.2.1
  have w0 := wk_r (S := S) w
  delta FX65_isNone_66 BX65_isNone_66
  refine pq_g (fun _ => ?_)
  exact pq_s w0
theorem wX65_isNone_59 (S Z : Nat → Prop) {hx N : Nat} (hS : ∀ x, fe_mem lX65_isNone x = true → S x) (a3 : Nat) (a4 : Int32) (s0 : Nat) (s1 : Int32) (M : FM) (w : WI Z hx N M) (z_a3 : Z a3) (z_s0 : Z s0) : pq (FX65_isNone_59 a3 a4 s0 s1 M) (QA S Z hx N M) := by
  have hN := w.2.2.1
  have w0 := wk_r (S := S) w
  delta FX65_isNone_59 BX65_isNone_59
  refine pq_g (fun g1 => ?_)
  refine pq_b (wX60_raise S Z (sb rfl hS) _ _ _ w0.1 z_s0) (fun r2 K3 => ?_)
  have w4 := wk_t w0 K3 hN
  refine pq_b (wX65_none S Z (sb rfl hS) _ _ w4.1 z_a3) (fun r5 K6 => ?_)
  have w7 := wk_t w4 K6 hN
  exact q_tA hN w7 (wX65_isNone_66 S Z hS _ _ w7.1 )
theorem wX65_isNone_53 (S Z : Nat → Prop) {hx N : Nat} (hS : ∀ x, fe_mem lX65_isNone x = true → S x) (a3 : Nat) (a4 : Int32) (s0 : Nat) (M : FM) (w : WI Z hx N M) (z_a3 : Z a3) (z_s0 : Z s0) : pq (FX65_isNone_53 a3 a4 s0 M) (QA S Z hx N M) := by
  have hN := w.2.2.1
  have w0 := wk_r (S := S) w
  delta FX65_isNone_53 BX65_isNone_53
  exact q_tA hN w0 (wX65_isNone_59 S Z hS _ _ _ _ _ w0.1 z_a3 z_s0)
theorem wX65_isNone_25 (S Z : Nat → Prop) {hx N : Nat} (hS : ∀ x, fe_mem lX65_isNone x = true → S x) (a0 : Nat) (a1 : Nat) (a2 : Nat) (a3 : Nat) (s0 : Int32) (M : FM) (w : WI Z hx N M) (z_a0 : Z a0) (z_a1 : Z a1) (z_a2 : Z a2) (z_a3 : Z a3) : pq (FX65_isNone_25 a0 a1 a2 a3 s0 M) (QA S Z hx N M) := by
  have hN := w.2.2.1
  have w0 := wk_r (S := S) w
  delta FX65_isNone_25 BX65_isNone_25
  refine pq_fi (fun _ => ?_) (fun _ => ?_)
  · exact q_tA hN w0 (wX65_isNone_66 S Z hS _ _ w0.1 )
  · refine pq_g (fun g1 => ?_)
    refine pq_b (wX71_is S Z (sb rfl hS) _ _ _ w0.1 z_a0 (wk_zc w0 rfl)) (fun r2 K3 => ?_)
    have w4 := wk_t w0 K3 hN
    refine pq_fi (fun _ => ?_) (fun _ => ?_)
    · refine pq_g (fun g5 => ?_)
      refine pq_b (wX71_is S Z (sb rfl hS) _ _ _ w4.1 z_a1 (wk_zc w4 rfl)) (fun r6 K7 => ?_)
      have w8 := wk_t w4 K7 hN
      refine pq_fi (fun _ => ?_) (fun _ => ?_)
      · exact q_tA hN w8 (wX65_isNone_59 S Z hS _ _ _ _ _ w8.1 z_a3 z_a2)
      · exact q_tA hN w8 (wX65_isNone_53 S Z hS _ _ _ _ w8.1 z_a3 z_a2)
    · exact q_tA hN w4 (wX65_isNone_53 S Z hS _ _ _ _ w4.1 z_a3 z_a2)
theorem wX65_isNone_20 (S Z : Nat → Prop) {hx N : Nat} (hS : ∀ x, fe_mem lX65_isNone x = true → S x) (a0 : Nat) (a1 : Nat) (a2 : Nat) (a3 : Nat) (M : FM) (w : WI Z hx N M) (z_a0 : Z a0) (z_a1 : Z a1) (z_a2 : Z a2) (z_a3 : Z a3) : pq (FX65_isNone_20 a0 a1 a2 a3 M) (QA S Z hx N M) := by
  have hN := w.2.2.1
  have w0 := wk_r (S := S) w
  delta FX65_isNone_20 BX65_isNone_20
  exact q_tA hN w0 (wX65_isNone_25 S Z hS _ _ _ _ _ _ w0.1 z_a0 z_a1 z_a2 z_a3)
theorem wX65_isNone_0 (S Z : Nat → Prop) {hx N : Nat} (hS : ∀ x, fe_mem lX65_isNone x = true → S x) (a0 : Nat) (a1 : Nat) (a2 : Nat) (a3 : Nat) (M : FM) (w : WI Z hx N M) (z_a0 : Z a0) (z_a1 : Z a1) (z_a2 : Z a2) (z_a3 : Z a3) : pq (FX65_isNone_0 a0 a1 a2 a3 M) (QA S Z hx N M) := by
  have hN := w.2.2.1
  have w0 := wk_r (S := S) w
  delta FX65_isNone_0 BX65_isNone_0
  refine pq_g (fun g1 => ?_)
  have z2 := wk_z (i := 0) (f := 114) w0 rfl z_a0
  refine pq_g (fun g3 => ?_)
  refine pq_b (wX72_isNone S Z (sb rfl hS) _ _ w0.1 z2) (fun r4 K5 => ?_)
  have w6 := wk_t w0 K5 hN
  refine pq_fi (fun _ => ?_) (fun _ => ?_)
  · refine pq_g (fun g7 => ?_)
    have z8 := wk_z (i := 0) (f := 114) w6 rfl z_a1
    refine pq_g (fun g9 => ?_)
    refine pq_b (wX72_isNone S Z (sb rfl hS) _ _ w6.1 z8) (fun r10 K11 => ?_)
    have w12 := wk_t w6 K11 hN
    refine pq_fi (fun _ => ?_) (fun _ => ?_)
    · exact q_tA hN w12 (wX65_isNone_25 S Z hS _ _ _ _ _ _ w12.1 z_a0 z_a1 z_a2 z_a3)
    · exact q_tA hN w12 (wX65_isNone_20 S Z hS _ _ _ _ _ w12.1 z_a0 z_a1 z_a2 z_a3)
  · exact q_tA hN w6 (wX65_isNone_20 S Z hS _ _ _ _ _ w6.1 z_a0 z_a1 z_a2 z_a3)
theorem wX65_isNone (S Z : Nat → Prop) {hx N : Nat} (hS : ∀ x, fe_mem lX65_isNone x = true → S x) (a0 : Nat) (a1 : Nat) (a2 : Nat) (a3 : Nat) (M : FM) (w : WI Z hx N M) (z_a0 : Z a0) (z_a1 : Z a1) (z_a2 : Z a2) (z_a3 : Z a3) : pq (FX65_isNone a0 a1 a2 a3 M) (QA S Z hx N M) := wX65_isNone_0 S Z hS a0 a1 a2 a3 M w z_a0 z_a1 z_a2 z_a3
def lX65_refuse : List Nat := [91, 92, 114, 115]
theorem wX65_refuse_0 (S Z : Nat → Prop) {hx N : Nat} (hS : ∀ x, fe_mem lX65_refuse x = true → S x) (a0 : Nat) (a1 : Nat) (M : FM) (w : WI Z hx N M) (z_a0 : Z a0) (z_a1 : Z a1) : pq (FX65_refuse_0 a0 a1 M) (QV S Z hx N M) := by
  have hN := w.2.2.1
  have w0 := wk_r (S := S) w
  delta FX65_refuse_0 BX65_refuse_0
  refine pq_g (fun g1 => ?_)
  refine pq_b (wX60_raise S Z (sb rfl hS) _ _ _ w0.1 z_a0) (fun r2 K3 => ?_)
  have w4 := wk_t w0 K3 hN
  refine pq_b (wX65_none S Z (sb rfl hS) _ _ w4.1 z_a1) (fun r5 K6 => ?_)
  have w7 := wk_t w4 K6 hN
  exact pq_s w7
theorem wX65_refuse (S Z : Nat → Prop) {hx N : Nat} (hS : ∀ x, fe_mem lX65_refuse x = true → S x) (a0 : Nat) (a1 : Nat) (M : FM) (w : WI Z hx N M) (z_a0 : Z a0) (z_a1 : Z a1) : pq (FX65_refuse a0 a1 M) (QV S Z hx N M) := wX65_refuse_0 S Z hS a0 a1 M w z_a0 z_a1
def lX62_multiply : List Nat := [119, 120]
theorem wX62_multiply_0 (S Z : Nat → Prop) {hx N : Nat} (hS : ∀ x, fe_mem lX62_multiply x = true → S x) (a0 : Nat) (a1 : Int64) (a3 : Int64) (M : FM) (w : WI Z hx N M) (z_a0 : Z a0) : pq (FX62_multiply_0 a0 a1 a3 M) (QV S Z hx N M) := by
  have hN := w.2.2.1
  have w0 := wk_r (S := S) w
  delta FX62_multiply_0 BX62_multiply_0
  refine pq_g (fun g1 => ?_)
  extract_lets +onlyGivenNames M3
  have w2 : Wk S Z hx N M M3 := wk_fL hN w0 rfl rfl g1 z_a0 (Or.inr (hS 120 rfl))
  refine pq_g (fun g4 => ?_)
  extract_lets +onlyGivenNames M6
  have w5 : Wk S Z hx N M M6 := wk_fL hN w2 rfl rfl g4 z_a0 (Or.inr (hS 119 rfl))
  exact pq_s w5
theorem wX62_multiply (S Z : Nat → Prop) {hx N : Nat} (hS : ∀ x, fe_mem lX62_multiply x = true → S x) (a0 : Nat) (a1 : Int64) (a3 : Int64) (M : FM) (w : WI Z hx N M) (z_a0 : Z a0) : pq (FX62_multiply a0 a1 a3 M) (QV S Z hx N M) := wX62_multiply_0 S Z hS a0 a1 a3 M w z_a0
def lX67_work : List Nat := [91, 92, 114, 115, 116, 119, 120]
theorem wX67_work_173 (S Z : Nat → Prop) {hx N : Nat} (hS : ∀ x, fe_mem lX67_work x = true → S x) (M : FM) (w : WI Z hx N M) : pq (FX67_work_173 M) (QV S Z hx N M) := by
  have hN := w.2.2.1
  have w0 := wk_r (S := S) w
  delta FX67_work_173 BX67_work_173
  exact pq_s w0
theorem wX67_work_168 (S Z : Nat → Prop) {hx N : Nat} (hS : ∀ x, fe_mem lX67_work x = true → S x) (a6 : Int32) (s0 : Nat) (s1 : Nat) (M : FM) (w : WI Z hx N M) (z_s0 : Z s0) (z_s1 : Z s1) : pq (FX67_work_168 a6 s0 s1 M) (QV S Z hx N M) := by
  have hN := w.2.2.1
  have w0 := wk_r (S := S) w
  delta FX67_work_168 BX67_work_168
  refine pq_g (fun g1 => ?_)
  refine pq_b (wX71_become S Z (sb rfl hS) _ _ _ _ w0.1 z_s0 z_s1) (fun r2 K3 => ?_)
  have w4 := wk_t w0 K3 hN
  exact q_tV hN w4 (wX67_work_173 S Z hS _ w4.1 )
theorem wX67_work_159 (S Z : Nat → Prop) {hx N : Nat} (hS : ∀ x, fe_mem lX67_work x = true → S x) (a6 : Int32) (s0 : Nat) (M : FM) (w : WI Z hx N M) (z_s0 : Z s0) : pq (FX67_work_159 a6 s0 M) (QV S Z hx N M) := by
  have hN := w.2.2.1
  have w0 := wk_r (S := S) w
  delta FX67_work_159 BX67_work_159
  exact q_tV hN w0 (wX67_work_168 S Z hS _ _ _ _ w0.1 z_s0 (wk_zc w0 rfl))
theorem wX67_work_137 (S Z : Nat → Prop) {hx N : Nat} (hS : ∀ x, fe_mem lX67_work x = true → S x) (a1 : Nat) (a2 : Nat) (a5 : Nat) (a6 : Int32) (M : FM) (w : WI Z hx N M) (z_a1 : Z a1) (z_a2 : Z a2) (z_a5 : Z a5) : pq (FX67_work_137 a1 a2 a5 a6 M) (QV S Z hx N M) := by
  have hN := w.2.2.1
  have w0 := wk_r (S := S) w
  delta FX67_work_137 BX67_work_137
  refine pq_g (fun g1 => ?_)
  refine pq_b (wX71_is S Z (sb rfl hS) _ _ _ w0.1 z_a1 (wk_zc w0 rfl)) (fun r2 K3 => ?_)
  have w4 := wk_t w0 K3 hN
  refine pq_fi (fun _ => ?_) (fun _ => ?_)
  · refine pq_g (fun g5 => ?_)
    refine pq_b (wX71_is S Z (sb rfl hS) _ _ _ w4.1 z_a2 (wk_zc w4 rfl)) (fun r6 K7 => ?_)
    have w8 := wk_t w4 K7 hN
    refine pq_fi (fun _ => ?_) (fun _ => ?_)
    · exact q_tV hN w8 (wX67_work_168 S Z hS _ _ _ _ w8.1 z_a5 (wk_zc w8 rfl))
    · exact q_tV hN w8 (wX67_work_159 S Z hS _ _ _ w8.1 z_a5)
  · exact q_tV hN w4 (wX67_work_159 S Z hS _ _ _ w4.1 z_a5)
theorem wX67_work_68 (S Z : Nat → Prop) {hx N : Nat} (hS : ∀ x, fe_mem lX67_work x = true → S x) (a1 : Nat) (a2 : Nat) (a5 : Nat) (a6 : Int32) (M : FM) (w : WI Z hx N M) (z_a1 : Z a1) (z_a2 : Z a2) (z_a5 : Z a5) : pq (FX67_work_68 a1 a2 a5 a6 M) (QV S Z hx N M) := by
  have hN := w.2.2.1
  have w0 := wk_r (S := S) w
  delta FX67_work_68 BX67_work_68
  refine pq_g (fun g1 => ?_)
  refine pq_b (wX71_is S Z (sb rfl hS) _ _ _ w0.1 z_a1 (wk_zc w0 rfl)) (fun r2 K3 => ?_)
  have w4 := wk_t w0 K3 hN
  refine pq_fi (fun _ => ?_) (fun _ => ?_)
  · exact q_tV hN w4 (wX67_work_137 S Z hS _ _ _ _ _ w4.1 z_a1 z_a2 z_a5)
  · refine pq_g (fun g5 => ?_)
    refine pq_b (wX71_is S Z (sb rfl hS) _ _ _ w4.1 z_a2 (wk_zc w4 rfl)) (fun r6 K7 => ?_)
    have w8 := wk_t w4 K7 hN
    refine pq_fi (fun _ => ?_) (fun _ => ?_)
    · exact q_tV hN w8 (wX67_work_137 S Z hS _ _ _ _ _ w8.1 z_a1 z_a2 z_a5)
    · refine pq_g (fun g9 => ?_)
      refine pq_b (wX71_become S Z (sb rfl hS) _ _ _ _ w8.1 z_a5 (wk_zc w8 rfl)) (fun r10 K11 => ?_)
      have w12 := wk_t w8 K11 hN
      refine pq_g (fun g13 => ?_)
      have z14 := wk_z (i := 0) (f := 117) w12 rfl z_a5
      refine pq_g (fun g15 => ?_)
      have z16 := wk_z (i := 0) (f := 117) w12 rfl z_a1
      refine pq_g (fun g17 => ?_)
      refine pq_g (fun g18 => ?_)
      have z19 := wk_z (i := 0) (f := 117) w12 rfl z_a2
      refine pq_g (fun g20 => ?_)
      refine pq_g (fun g21 => ?_)
      refine pq_b (wX62_multiply S Z (sb rfl hS) _ _ _ _ w12.1 z14) (fun r22 K23 => ?_)
      have w24 := wk_t w12 K23 hN
      refine pq_g (fun g25 => ?_)
      refine pq_g (fun g26 => ?_)
      refine pq_g (fun g27 => ?_)
      extract_lets +onlyGivenNames M29
      have w28 : Wk S Z hx N M M29 := wk_fI hN w24 rfl rfl g27 z_a5 (Or.inr (hS 116 rfl))
      exact q_tV hN w28 (wX67_work_173 S Z hS _ w28.1 )
theorem wX67_work_58 (S Z : Nat → Prop) {hx N : Nat} (hS : ∀ x, fe_mem lX67_work x = true → S x) (a4 : Nat) (a5 : Nat) (M : FM) (w : WI Z hx N M) (z_a4 : Z a4) (z_a5 : Z a5) : pq (FX67_work_58 a4 a5 M) (QV S Z hx N M) := by
  have hN := w.2.2.1
  have w0 := wk_r (S := S) w
  delta FX67_work_58 BX67_work_58
  refine pq_b (wX65_refuse S Z (sb rfl hS) _ _ _ w0.1 z_a4 z_a5) (fun r1 K2 => ?_)
  have w3 := wk_t w0 K2 hN
  exact q_tV hN w3 (wX67_work_173 S Z hS _ w3.1 )
theorem wX67_work_38 (S Z : Nat → Prop) {hx N : Nat} (hS : ∀ x, fe_mem lX67_work x = true → S x) (a1 : Nat) (a2 : Nat) (a4 : Nat) (a5 : Nat) (a6 : Int32) (M : FM) (w : WI Z hx N M) (z_a1 : Z a1) (z_a2 : Z a2) (z_a4 : Z a4) (z_a5 : Z a5) : pq (FX67_work_38 a1 a2 a4 a5 a6 M) (QV S Z hx N M) := by
  have hN := w.2.2.1
  have w0 := wk_r (S := S) w
  delta FX67_work_38 BX67_work_38
  refine pq_g (fun g1 => ?_)
  refine pq_b (wX71_is S Z (sb rfl hS) _ _ _ w0.1 z_a1 (wk_zc w0 rfl)) (fun r2 K3 => ?_)
  have w4 := wk_t w0 K3 hN
  refine pq_fi (fun _ => ?_) (fun _ => ?_)
  · exact q_tV hN w4 (wX67_work_68 S Z hS _ _ _ _ _ w4.1 z_a1 z_a2 z_a5)
  · refine pq_g (fun g5 => ?_)
    refine pq_b (wX71_is S Z (sb rfl hS) _ _ _ w4.1 z_a2 (wk_zc w4 rfl)) (fun r6 K7 => ?_)
    have w8 := wk_t w4 K7 hN
    refine pq_fi (fun _ => ?_) (fun _ => ?_)
    · exact q_tV hN w8 (wX67_work_68 S Z hS _ _ _ _ _ w8.1 z_a1 z_a2 z_a5)
    · exact q_tV hN w8 (wX67_work_58 S Z hS _ _ _ w8.1 z_a4 z_a5)
theorem wX67_work_16 (S Z : Nat → Prop) {hx N : Nat} (hS : ∀ x, fe_mem lX67_work x = true → S x) (a1 : Nat) (a2 : Nat) (a4 : Nat) (a5 : Nat) (s0 : Int32) (M : FM) (w : WI Z hx N M) (z_a1 : Z a1) (z_a2 : Z a2) (z_a4 : Z a4) (z_a5 : Z a5) : pq (FX67_work_16 a1 a2 a4 a5 s0 M) (QV S Z hx N M) := by
  have hN := w.2.2.1
  have w0 := wk_r (S := S) w
  delta FX67_work_16 BX67_work_16
  refine pq_g (fun g1 => ?_)
  refine pq_b (wX71_is S Z (sb rfl hS) _ _ _ w0.1 z_a1 (wk_zc w0 rfl)) (fun r2 K3 => ?_)
  have w4 := wk_t w0 K3 hN
  refine pq_fi (fun _ => ?_) (fun _ => ?_)
  · exact q_tV hN w4 (wX67_work_38 S Z hS _ _ _ _ _ _ w4.1 z_a1 z_a2 z_a4 z_a5)
  · refine pq_g (fun g5 => ?_)
    refine pq_b (wX71_is S Z (sb rfl hS) _ _ _ w4.1 z_a2 (wk_zc w4 rfl)) (fun r6 K7 => ?_)
    have w8 := wk_t w4 K7 hN
    refine pq_fi (fun _ => ?_) (fun _ => ?_)
    · exact q_tV hN w8 (wX67_work_38 S Z hS _ _ _ _ _ _ w8.1 z_a1 z_a2 z_a4 z_a5)
    · exact q_tV hN w8 (wX67_work_58 S Z hS _ _ _ w8.1 z_a4 z_a5)
theorem wX67_work_0 (S Z : Nat → Prop) {hx N : Nat} (hS : ∀ x, fe_mem lX67_work x = true → S x) (a0 : Nat) (a1 : Nat) (a2 : Nat) (a3 : Nat) (a4 : Nat) (a5 : Nat) (M : FM) (w : WI Z hx N M) (z_a0 : Z a0) (z_a1 : Z a1) (z_a2 : Z a2) (z_a3 : Z a3) (z_a4 : Z a4) (z_a5 : Z a5) : pq (FX67_work_0 a0 a1 a2 a3 a4 a5 M) (QV S Z hx N M) := by
  have hN := w.2.2.1
  have w0 := wk_r (S := S) w
  delta FX67_work_0 BX67_work_0
  refine pq_g (fun g1 => ?_)
  refine pq_g (fun g2 => ?_)
  refine pq_fi (fun _ => ?_) (fun _ => ?_)
  · exact q_tV hN w0 (wX67_work_16 S Z hS _ _ _ _ _ _ w0.1 z_a1 z_a2 z_a4 z_a5)
  · exact q_tV hN w0 (wX67_work_16 S Z hS _ _ _ _ _ _ w0.1 z_a1 z_a2 z_a4 z_a5)
theorem wX67_work (S Z : Nat → Prop) {hx N : Nat} (hS : ∀ x, fe_mem lX67_work x = true → S x) (a0 : Nat) (a1 : Nat) (a2 : Nat) (a3 : Nat) (a4 : Nat) (a5 : Nat) (M : FM) (w : WI Z hx N M) (z_a0 : Z a0) (z_a1 : Z a1) (z_a2 : Z a2) (z_a3 : Z a3) (z_a4 : Z a4) (z_a5 : Z a5) : pq (FX67_work a0 a1 a2 a3 a4 a5 M) (QV S Z hx N M) := wX67_work_0 S Z hS a0 a1 a2 a3 a4 a5 M w z_a0 z_a1 z_a2 z_a3 z_a4 z_a5
def lX68_divide : List Nat := [116, 119, 120]
theorem wX68_divide_99 (S Z : Nat → Prop) {hx N : Nat} (hS : ∀ x, fe_mem lX68_divide x = true → S x) (n : Nat) (k35 : Nat → Nat → Nat → Int64 → Int64 → Int64 → Int32 → FM → Option (FM)) (hk35 : ∀ (a0 : Nat) (a1 : Nat) (a2 : Nat) (a3 : Int64) (a5 : Int64) (a7 : Int64) (a9 : Int32) (M : FM), WI Z hx N M → Z a0 → Z a1 → Z a2 → pq (k35 a0 a1 a2 a3 a5 a7 a9 M) (QV S Z hx N M)) (a0 : Nat) (a1 : Nat) (a2 : Nat) (s0 : Nat) (s1 : Int64) (s2 : Int64) (M : FM) (w : WI Z hx N M) (z_a0 : Z a0) (z_a1 : Z a1) (z_a2 : Z a2) (z_s0 : Z s0) : pq (FX68_divide_99 n k35 a0 a1 a2 s0 s1 s2 M) (QV S Z hx N M) := by
  have hN := w.2.2.1
  have w0 := wk_r (S := S) w
  delta FX68_divide_99 BX68_divide_99
  refine pq_g (fun g1 => ?_)
  refine pq_b (wX62_set S Z (sb rfl hS) _ _ _ w0.1 z_s0) (fun r2 K3 => ?_)
  have w4 := wk_t w0 K3 hN
  refine pq_g (fun g5 => ?_)
  refine pq_g (fun g6 => ?_)
  refine pq_g (fun g7 => ?_)
  extract_lets +onlyGivenNames M9
  have w8 : Wk S Z hx N M M9 := wk_fI hN w4 rfl rfl g7 z_a2 (Or.inr (hS 116 rfl))
  exact pq_s w8
theorem wX68_divide_67 (S Z : Nat → Prop) {hx N : Nat} (hS : ∀ x, fe_mem lX68_divide x = true → S x) (n : Nat) (k35 : Nat → Nat → Nat → Int64 → Int64 → Int64 → Int32 → FM → Option (FM)) (hk35 : ∀ (a0 : Nat) (a1 : Nat) (a2 : Nat) (a3 : Int64) (a5 : Int64) (a7 : Int64) (a9 : Int32) (M : FM), WI Z hx N M → Z a0 → Z a1 → Z a2 → pq (k35 a0 a1 a2 a3 a5 a7 a9 M) (QV S Z hx N M)) (a0 : Nat) (a1 : Nat) (a2 : Nat) (a3 : Int64) (a5 : Int64) (a7 : Int64) (a9 : Int32) (M : FM) (w : WI Z hx N M) (z_a0 : Z a0) (z_a1 : Z a1) (z_a2 : Z a2) : pq (FX68_divide_67 n k35 a0 a1 a2 a3 a5 a7 a9 M) (QV S Z hx N M) := by
  have hN := w.2.2.1
  have w0 := wk_r (S := S) w
  delta FX68_divide_67 BX68_divide_67
  exact q_tV hN w0 (hk35 _ _ _ _ _ _ _ _ w0.1 z_a0 z_a1 z_a2)
theorem wX68_divide_35 (S Z : Nat → Prop) {hx N : Nat} (hS : ∀ x, fe_mem lX68_divide x = true → S x) (n : Nat) (k35 : Nat → Nat → Nat → Int64 → Int64 → Int64 → Int32 → FM → Option (FM)) (hk35 : ∀ (a0 : Nat) (a1 : Nat) (a2 : Nat) (a3 : Int64) (a5 : Int64) (a7 : Int64) (a9 : Int32) (M : FM), WI Z hx N M → Z a0 → Z a1 → Z a2 → pq (k35 a0 a1 a2 a3 a5 a7 a9 M) (QV S Z hx N M)) (a0 : Nat) (a1 : Nat) (a2 : Nat) (a3 : Int64) (a5 : Int64) (a7 : Int64) (a9 : Int32) (M : FM) (w : WI Z hx N M) (z_a0 : Z a0) (z_a1 : Z a1) (z_a2 : Z a2) : pq (FX68_divide_35 n k35 a0 a1 a2 a3 a5 a7 a9 M) (QV S Z hx N M) := by
  have hN := w.2.2.1
  have w0 := wk_r (S := S) w
  delta FX68_divide_35 BX68_divide_35
  refine pq_fi (fun _ => ?_) (fun _ => ?_)
  · refine pq_g (fun g1 => ?_)
    have z2 := wk_z (i := 0) (f := 117) w0 rfl z_a2
    refine pq_fi (fun _ => ?_) (fun _ => ?_)
    · exact q_tV hN w0 (wX68_divide_99 S Z hS n _ hk35 _ _ _ _ _ _ _ w0.1 z_a0 z_a1 z_a2 z2)
    · exact q_tV hN w0 (wX68_divide_99 S Z hS n _ hk35 _ _ _ _ _ _ _ w0.1 z_a0 z_a1 z_a2 z2)
  · refine pq_fi (fun _ => ?_) (fun _ => ?_)
    · exact q_tV hN w0 (wX68_divide_67 S Z hS n _ hk35 _ _ _ _ _ _ _ _ w0.1 z_a0 z_a1 z_a2)
    · exact q_tV hN w0 (wX68_divide_67 S Z hS n _ hk35 _ _ _ _ _ _ _ _ w0.1 z_a0 z_a1 z_a2)
theorem wX68_divide_0 (S Z : Nat → Prop) {hx N : Nat} (hS : ∀ x, fe_mem lX68_divide x = true → S x) (n : Nat) (k35 : Nat → Nat → Nat → Int64 → Int64 → Int64 → Int32 → FM → Option (FM)) (hk35 : ∀ (a0 : Nat) (a1 : Nat) (a2 : Nat) (a3 : Int64) (a5 : Int64) (a7 : Int64) (a9 : Int32) (M : FM), WI Z hx N M → Z a0 → Z a1 → Z a2 → pq (k35 a0 a1 a2 a3 a5 a7 a9 M) (QV S Z hx N M)) (a0 : Nat) (a1 : Nat) (a2 : Nat) (M : FM) (w : WI Z hx N M) (z_a0 : Z a0) (z_a1 : Z a1) (z_a2 : Z a2) : pq (FX68_divide_0 n k35 a0 a1 a2 M) (QV S Z hx N M) := by
  have hN := w.2.2.1
  have w0 := wk_r (S := S) w
  delta FX68_divide_0 BX68_divide_0
  refine pq_g (fun g1 => ?_)
  refine pq_b (wX71_lift S Z (sb rfl hS) n _ _ _ w0.1 z_a0) (fun r2 K3 => ?_)
  have w4 := wk_t w0 K3 hN
  refine pq_g (fun g5 => ?_)
  refine pq_b (wX71_lift S Z (sb rfl hS) n _ _ _ w4.1 z_a1) (fun r6 K7 => ?_)
  have w8 := wk_t w4 K7 hN
  refine pq_g (fun g9 => ?_)
  have z10 := wk_z (i := 0) (f := 117) w8 rfl z_a1
  refine pq_g (fun g11 => ?_)
  refine pq_g (fun g12 => ?_)
  have z13 := wk_z (i := 0) (f := 117) w8 rfl z_a0
  refine pq_g (fun g14 => ?_)
  exact q_tV hN w8 (hk35 _ _ _ _ _ _ _ _ w8.1 z_a0 z_a1 z_a2)
theorem wX68_divide_L (S Z : Nat → Prop) {hx N : Nat} (hS : ∀ x, fe_mem lX68_divide x = true → S x) (n : Nat) : ∀ j : Nat, ∀ (a0 : Nat) (a1 : Nat) (a2 : Nat) (a3 : Int64) (a5 : Int64) (a7 : Int64) (a9 : Int32) (M : FM), WI Z hx N M → Z a0 → Z a1 → Z a2 → pq (FX68_divide_L35 n j a0 a1 a2 a3 a5 a7 a9 M) (QV S Z hx N M)
  | 0 => by intros; exact pq_0
  | j + 1 => fun a0 a1 a2 a3 a5 a7 a9 M w => wX68_divide_35 S Z hS n _ (wX68_divide_L S Z hS n j) a0 a1 a2 a3 a5 a7 a9 M w
theorem wX68_divide (S Z : Nat → Prop) {hx N : Nat} (hS : ∀ x, fe_mem lX68_divide x = true → S x) (n : Nat) (a0 : Nat) (a1 : Nat) (a2 : Nat) (M : FM) (w : WI Z hx N M) (z_a0 : Z a0) (z_a1 : Z a1) (z_a2 : Z a2) : pq (FX68_divide n a0 a1 a2 M) (QV S Z hx N M) := wX68_divide_0 S Z hS n _ (wX68_divide_L S Z hS n n) a0 a1 a2 M w z_a0 z_a1 z_a2
def lX68_work : List Nat := [91, 92, 114, 115, 116, 119, 120]
theorem wX68_work_156 (S Z : Nat → Prop) {hx N : Nat} (hS : ∀ x, fe_mem lX68_work x = true → S x) (n : Nat) (M : FM) (w : WI Z hx N M) : pq (FX68_work_156 n M) (QV S Z hx N M) := by
  have hN := w.2.2.1
  have w0 := wk_r (S := S) w
  delta FX68_work_156 BX68_work_156
  exact pq_s w0
theorem wX68_work_151 (S Z : Nat → Prop) {hx N : Nat} (hS : ∀ x, fe_mem lX68_work x = true → S x) (n : Nat) (a6 : Int32) (s0 : Nat) (s1 : Nat) (M : FM) (w : WI Z hx N M) (z_s0 : Z s0) (z_s1 : Z s1) : pq (FX68_work_151 n a6 s0 s1 M) (QV S Z hx N M) := by
  have hN := w.2.2.1
  have w0 := wk_r (S := S) w
  delta FX68_work_151 BX68_work_151
  refine pq_g (fun g1 => ?_)
  refine pq_b (wX71_become S Z (sb rfl hS) _ _ _ _ w0.1 z_s0 z_s1) (fun r2 K3 => ?_)
  have w4 := wk_t w0 K3 hN
  exact q_tV hN w4 (wX68_work_156 S Z hS n _ w4.1 )
theorem wX68_work_142 (S Z : Nat → Prop) {hx N : Nat} (hS : ∀ x, fe_mem lX68_work x = true → S x) (n : Nat) (a6 : Int32) (s0 : Nat) (M : FM) (w : WI Z hx N M) (z_s0 : Z s0) : pq (FX68_work_142 n a6 s0 M) (QV S Z hx N M) := by
  have hN := w.2.2.1
  have w0 := wk_r (S := S) w
  delta FX68_work_142 BX68_work_142
  exact q_tV hN w0 (wX68_work_151 S Z hS n _ _ _ _ w0.1 z_s0 (wk_zc w0 rfl))
theorem wX68_work_117 (S Z : Nat → Prop) {hx N : Nat} (hS : ∀ x, fe_mem lX68_work x = true → S x) (n : Nat) (a1 : Nat) (a2 : Nat) (a5 : Nat) (a6 : Int32) (s0 : Nat) (s1 : Int32) (M : FM) (w : WI Z hx N M) (z_a1 : Z a1) (z_a2 : Z a2) (z_a5 : Z a5) (z_s0 : Z s0) : pq (FX68_work_117 n a1 a2 a5 a6 s0 s1 M) (QV S Z hx N M) := by
  have hN := w.2.2.1
  have w0 := wk_r (S := S) w
  delta FX68_work_117 BX68_work_117
  refine pq_g (fun g1 => ?_)
  refine pq_b (wX60_raise S Z (sb rfl hS) _ _ _ w0.1 z_s0) (fun r2 K3 => ?_)
  have w4 := wk_t w0 K3 hN
  refine pq_g (fun g5 => ?_)
  refine pq_b (wX71_is S Z (sb rfl hS) _ _ _ w4.1 z_a1 (wk_zc w4 rfl)) (fun r6 K7 => ?_)
  have w8 := wk_t w4 K7 hN
  refine pq_fi (fun _ => ?_) (fun _ => ?_)
  · refine pq_g (fun g9 => ?_)
    refine pq_b (wX71_is S Z (sb rfl hS) _ _ _ w8.1 z_a2 (wk_zc w8 rfl)) (fun r10 K11 => ?_)
    have w12 := wk_t w8 K11 hN
    refine pq_fi (fun _ => ?_) (fun _ => ?_)
    · exact q_tV hN w12 (wX68_work_151 S Z hS n _ _ _ _ w12.1 z_a5 (wk_zc w12 rfl))
    · exact q_tV hN w12 (wX68_work_142 S Z hS n _ _ _ w12.1 z_a5)
  · exact q_tV hN w8 (wX68_work_142 S Z hS n _ _ _ w8.1 z_a5)
theorem wX68_work_116 (S Z : Nat → Prop) {hx N : Nat} (hS : ∀ x, fe_mem lX68_work x = true → S x) (n : Nat) (a1 : Nat) (a2 : Nat) (a5 : Nat) (a6 : Int32) (s0 : Nat) (M : FM) (w : WI Z hx N M) (z_a1 : Z a1) (z_a2 : Z a2) (z_a5 : Z a5) (z_s0 : Z s0) : pq (FX68_work_116 n a1 a2 a5 a6 s0 M) (QV S Z hx N M) := by
  have hN := w.2.2.1
  have w0 := wk_r (S := S) w
  delta FX68_work_116 BX68_work_116
  exact q_tV hN w0 (wX68_work_117 S Z hS n _ _ _ _ _ _ _ w0.1 z_a1 z_a2 z_a5 z_s0)
theorem wX68_work_89 (S Z : Nat → Prop) {hx N : Nat} (hS : ∀ x, fe_mem lX68_work x = true → S x) (n : Nat) (a1 : Nat) (a2 : Nat) (a4 : Nat) (a5 : Nat) (a6 : Int32) (M : FM) (w : WI Z hx N M) (z_a1 : Z a1) (z_a2 : Z a2) (z_a4 : Z a4) (z_a5 : Z a5) : pq (FX68_work_89 n a1 a2 a4 a5 a6 M) (QV S Z hx N M) := by
  have hN := w.2.2.1
  have w0 := wk_r (S := S) w
  delta FX68_work_89 BX68_work_89
  refine pq_g (fun g1 => ?_)
  refine pq_b (wX71_is S Z (sb rfl hS) _ _ _ w0.1 z_a1 (wk_zc w0 rfl)) (fun r2 K3 => ?_)
  have w4 := wk_t w0 K3 hN
  refine pq_fi (fun _ => ?_) (fun _ => ?_)
  · exact q_tV hN w4 (wX68_work_116 S Z hS n _ _ _ _ _ _ w4.1 z_a1 z_a2 z_a5 z_a4)
  · refine pq_g (fun g5 => ?_)
    refine pq_b (wX71_is S Z (sb rfl hS) _ _ _ w4.1 z_a2 (wk_zc w4 rfl)) (fun r6 K7 => ?_)
    have w8 := wk_t w4 K7 hN
    refine pq_fi (fun _ => ?_) (fun _ => ?_)
    · exact q_tV hN w8 (wX68_work_116 S Z hS n _ _ _ _ _ _ w8.1 z_a1 z_a2 z_a5 z_a4)
    · exact q_tV hN w8 (wX68_work_117 S Z hS n _ _ _ _ _ _ _ w8.1 z_a1 z_a2 z_a5 z_a4)
theorem wX68_work_49 (S Z : Nat → Prop) {hx N : Nat} (hS : ∀ x, fe_mem lX68_work x = true → S x) (n : Nat) (a1 : Nat) (a2 : Nat) (a4 : Nat) (a5 : Nat) (a6 : Int32) (M : FM) (w : WI Z hx N M) (z_a1 : Z a1) (z_a2 : Z a2) (z_a4 : Z a4) (z_a5 : Z a5) : pq (FX68_work_49 n a1 a2 a4 a5 a6 M) (QV S Z hx N M) := by
  have hN := w.2.2.1
  have w0 := wk_r (S := S) w
  delta FX68_work_49 BX68_work_49
  refine pq_g (fun g1 => ?_)
  refine pq_b (wX71_is S Z (sb rfl hS) _ _ _ w0.1 z_a1 (wk_zc w0 rfl)) (fun r2 K3 => ?_)
  have w4 := wk_t w0 K3 hN
  refine pq_fi (fun _ => ?_) (fun _ => ?_)
  · exact q_tV hN w4 (wX68_work_89 S Z hS n _ _ _ _ _ _ w4.1 z_a1 z_a2 z_a4 z_a5)
  · refine pq_g (fun g5 => ?_)
    refine pq_b (wX71_is S Z (sb rfl hS) _ _ _ w4.1 z_a2 (wk_zc w4 rfl)) (fun r6 K7 => ?_)
    have w8 := wk_t w4 K7 hN
    refine pq_fi (fun _ => ?_) (fun _ => ?_)
    · exact q_tV hN w8 (wX68_work_89 S Z hS n _ _ _ _ _ _ w8.1 z_a1 z_a2 z_a4 z_a5)
    · refine pq_b (wX68_divide S Z (sb rfl hS) n _ _ _ _ w8.1 z_a1 z_a2 z_a5) (fun r9 K10 => ?_)
      have w11 := wk_t w8 K10 hN
      refine pq_g (fun g12 => ?_)
      refine pq_b (wX71_become S Z (sb rfl hS) _ _ _ _ w11.1 z_a5 (wk_zc w11 rfl)) (fun r13 K14 => ?_)
      have w15 := wk_t w11 K14 hN
      exact q_tV hN w15 (wX68_work_156 S Z hS n _ w15.1 )
theorem wX68_work_16 (S Z : Nat → Prop) {hx N : Nat} (hS : ∀ x, fe_mem lX68_work x = true → S x) (n : Nat) (a1 : Nat) (a2 : Nat) (a4 : Nat) (a5 : Nat) (s0 : Int32) (M : FM) (w : WI Z hx N M) (z_a1 : Z a1) (z_a2 : Z a2) (z_a4 : Z a4) (z_a5 : Z a5) : pq (FX68_work_16 n a1 a2 a4 a5 s0 M) (QV S Z hx N M) := by
  have hN := w.2.2.1
  have w0 := wk_r (S := S) w
  delta FX68_work_16 BX68_work_16
  refine pq_g (fun g1 => ?_)
  have z2 := wk_z (i := 0) (f := 114) w0 rfl z_a1
  refine pq_g (fun g3 => ?_)
  have z4 := wk_z (i := 0) (f := 114) w0 rfl z_a2
  refine pq_g (fun _ => ?_)
  refine pq_fi (fun _ => ?_) (fun _ => ?_)
  · refine pq_g (fun g5 => ?_)
    refine pq_b (wX71_is S Z (sb rfl hS) _ _ _ w0.1 z_a1 (wk_zc w0 rfl)) (fun r6 K7 => ?_)
    have w8 := wk_t w0 K7 hN
    refine pq_fi (fun _ => ?_) (fun _ => ?_)
    · refine pq_b (wX65_refuse S Z (sb rfl hS) _ _ _ w8.1 z_a4 z_a5) (fun r9 K10 => ?_)
      have w11 := wk_t w8 K10 hN
      exact q_tV hN w11 (wX68_work_156 S Z hS n _ w11.1 )
    · exact q_tV hN w8 (wX68_work_49 S Z hS n _ _ _ _ _ _ w8.1 z_a1 z_a2 z_a4 z_a5)
  · exact q_tV hN w0 (wX68_work_49 S Z hS n _ _ _ _ _ _ w0.1 z_a1 z_a2 z_a4 z_a5)
theorem wX68_work_0 (S Z : Nat → Prop) {hx N : Nat} (hS : ∀ x, fe_mem lX68_work x = true → S x) (n : Nat) (a0 : Nat) (a1 : Nat) (a2 : Nat) (a3 : Nat) (a4 : Nat) (a5 : Nat) (M : FM) (w : WI Z hx N M) (z_a0 : Z a0) (z_a1 : Z a1) (z_a2 : Z a2) (z_a3 : Z a3) (z_a4 : Z a4) (z_a5 : Z a5) : pq (FX68_work_0 n a0 a1 a2 a3 a4 a5 M) (QV S Z hx N M) := by
  have hN := w.2.2.1
  have w0 := wk_r (S := S) w
  delta FX68_work_0 BX68_work_0
  refine pq_g (fun g1 => ?_)
  refine pq_g (fun g2 => ?_)
  refine pq_fi (fun _ => ?_) (fun _ => ?_)
  · exact q_tV hN w0 (wX68_work_16 S Z hS n _ _ _ _ _ _ w0.1 z_a1 z_a2 z_a4 z_a5)
  · exact q_tV hN w0 (wX68_work_16 S Z hS n _ _ _ _ _ _ w0.1 z_a1 z_a2 z_a4 z_a5)
theorem wX68_work (S Z : Nat → Prop) {hx N : Nat} (hS : ∀ x, fe_mem lX68_work x = true → S x) (n : Nat) (a0 : Nat) (a1 : Nat) (a2 : Nat) (a3 : Nat) (a4 : Nat) (a5 : Nat) (M : FM) (w : WI Z hx N M) (z_a0 : Z a0) (z_a1 : Z a1) (z_a2 : Z a2) (z_a3 : Z a3) (z_a4 : Z a4) (z_a5 : Z a5) : pq (FX68_work n a0 a1 a2 a3 a4 a5 M) (QV S Z hx N M) := wX68_work_0 S Z hS n a0 a1 a2 a3 a4 a5 M w z_a0 z_a1 z_a2 z_a3 z_a4 z_a5
def lX69_dig : List Nat := [116, 119, 120]
theorem wX69_dig_152 (S Z : Nat → Prop) {hx N : Nat} (hS : ∀ x, fe_mem lX69_dig x = true → S x) (n : Nat) (k51 : Nat → Nat → Int64 → Int64 → Int64 → Int32 → FM → Option (FM)) (hk51 : ∀ (a0 : Nat) (a1 : Nat) (a2 : Int64) (a4 : Int64) (a6 : Int64) (a8 : Int32) (M : FM), WI Z hx N M → Z a0 → Z a1 → pq (k51 a0 a1 a2 a4 a6 a8 M) (QV S Z hx N M)) (a0 : Nat) (a1 : Nat) (s0 : Nat) (s1 : Int64) (s2 : Int64) (M : FM) (w : WI Z hx N M) (z_a0 : Z a0) (z_a1 : Z a1) (z_s0 : Z s0) : pq (FX69_dig_152 n k51 a0 a1 s0 s1 s2 M) (QV S Z hx N M) := by
  have hN := w.2.2.1
  have w0 := wk_r (S := S) w
  delta FX69_dig_152 BX69_dig_152
  refine pq_g (fun g1 => ?_)
  refine pq_b (wX62_set S Z (sb rfl hS) _ _ _ w0.1 z_s0) (fun r2 K3 => ?_)
  have w4 := wk_t w0 K3 hN
  refine pq_g (fun g5 => ?_)
  refine pq_g (fun g6 => ?_)
  extract_lets +onlyGivenNames M8
  have w7 : Wk S Z hx N M M8 := wk_fI hN w4 rfl rfl g6 z_a1 (Or.inr (hS 116 rfl))
  exact pq_s w7
theorem wX69_dig_126 (S Z : Nat → Prop) {hx N : Nat} (hS : ∀ x, fe_mem lX69_dig x = true → S x) (n : Nat) (k51 : Nat → Nat → Int64 → Int64 → Int64 → Int32 → FM → Option (FM)) (hk51 : ∀ (a0 : Nat) (a1 : Nat) (a2 : Int64) (a4 : Int64) (a6 : Int64) (a8 : Int32) (M : FM), WI Z hx N M → Z a0 → Z a1 → pq (k51 a0 a1 a2 a4 a6 a8 M) (QV S Z hx N M)) (a0 : Nat) (a1 : Nat) (a2 : Int64) (a4 : Int64) (a6 : Int64) (a8 : Int32) (M : FM) (w : WI Z hx N M) (z_a0 : Z a0) (z_a1 : Z a1) : pq (FX69_dig_126 n k51 a0 a1 a2 a4 a6 a8 M) (QV S Z hx N M) := by
  have hN := w.2.2.1
  have w0 := wk_r (S := S) w
  delta FX69_dig_126 BX69_dig_126
  exact q_tV hN w0 (hk51 _ _ _ _ _ _ _ w0.1 z_a0 z_a1)
theorem wX69_dig_88 (S Z : Nat → Prop) {hx N : Nat} (hS : ∀ x, fe_mem lX69_dig x = true → S x) (n : Nat) (k51 : Nat → Nat → Int64 → Int64 → Int64 → Int32 → FM → Option (FM)) (hk51 : ∀ (a0 : Nat) (a1 : Nat) (a2 : Int64) (a4 : Int64) (a6 : Int64) (a8 : Int32) (M : FM), WI Z hx N M → Z a0 → Z a1 → pq (k51 a0 a1 a2 a4 a6 a8 M) (QV S Z hx N M)) (a0 : Nat) (a1 : Nat) (a2 : Int64) (a6 : Int64) (a8 : Int32) (s0 : Int64) (s1 : Int64) (M : FM) (w : WI Z hx N M) (z_a0 : Z a0) (z_a1 : Z a1) : pq (FX69_dig_88 n k51 a0 a1 a2 a6 a8 s0 s1 M) (QV S Z hx N M) := by
  have hN := w.2.2.1
  have w0 := wk_r (S := S) w
  delta FX69_dig_88 BX69_dig_88
  refine pq_fi (fun _ => ?_) (fun _ => ?_)
  · exact q_tV hN w0 (wX69_dig_126 S Z hS n _ hk51 _ _ _ _ _ _ _ w0.1 z_a0 z_a1)
  · exact q_tV hN w0 (wX69_dig_126 S Z hS n _ hk51 _ _ _ _ _ _ _ w0.1 z_a0 z_a1)
theorem wX69_dig_51 (S Z : Nat → Prop) {hx N : Nat} (hS : ∀ x, fe_mem lX69_dig x = true → S x) (n : Nat) (k51 : Nat → Nat → Int64 → Int64 → Int64 → Int32 → FM → Option (FM)) (hk51 : ∀ (a0 : Nat) (a1 : Nat) (a2 : Int64) (a4 : Int64) (a6 : Int64) (a8 : Int32) (M : FM), WI Z hx N M → Z a0 → Z a1 → pq (k51 a0 a1 a2 a4 a6 a8 M) (QV S Z hx N M)) (a0 : Nat) (a1 : Nat) (a2 : Int64) (a4 : Int64) (a6 : Int64) (a8 : Int32) (M : FM) (w : WI Z hx N M) (z_a0 : Z a0) (z_a1 : Z a1) : pq (FX69_dig_51 n k51 a0 a1 a2 a4 a6 a8 M) (QV S Z hx N M) := by
  have hN := w.2.2.1
  have w0 := wk_r (S := S) w
  delta FX69_dig_51 BX69_dig_51
  refine pq_fi (fun _ => ?_) (fun _ => ?_)
  · refine pq_g (fun g1 => ?_)
    have z2 := wk_z (i := 0) (f := 117) w0 rfl z_a1
    refine pq_fi (fun _ => ?_) (fun _ => ?_)
    · exact q_tV hN w0 (wX69_dig_152 S Z hS n _ hk51 _ _ _ _ _ _ w0.1 z_a0 z_a1 z2)
    · exact q_tV hN w0 (wX69_dig_152 S Z hS n _ hk51 _ _ _ _ _ _ w0.1 z_a0 z_a1 z2)
  · refine pq_fi (fun _ => ?_) (fun _ => ?_)
    · exact q_tV hN w0 (wX69_dig_88 S Z hS n _ hk51 _ _ _ _ _ _ _ _ w0.1 z_a0 z_a1)
    · exact q_tV hN w0 (wX69_dig_88 S Z hS n _ hk51 _ _ _ _ _ _ _ _ w0.1 z_a0 z_a1)
theorem wX69_dig_34 (S Z : Nat → Prop) {hx N : Nat} (hS : ∀ x, fe_mem lX69_dig x = true → S x) (n : Nat) (k51 : Nat → Nat → Int64 → Int64 → Int64 → Int32 → FM → Option (FM)) (hk51 : ∀ (a0 : Nat) (a1 : Nat) (a2 : Int64) (a4 : Int64) (a6 : Int64) (a8 : Int32) (M : FM), WI Z hx N M → Z a0 → Z a1 → pq (k51 a0 a1 a2 a4 a6 a8 M) (QV S Z hx N M)) (a0 : Nat) (a1 : Nat) (M : FM) (w : WI Z hx N M) (z_a0 : Z a0) (z_a1 : Z a1) : pq (FX69_dig_34 n k51 a0 a1 M) (QV S Z hx N M) := by
  have hN := w.2.2.1
  have w0 := wk_r (S := S) w
  delta FX69_dig_34 BX69_dig_34
  refine pq_g (fun g1 => ?_)
  have z2 := wk_z (i := 0) (f := 117) w0 rfl z_a0
  refine pq_g (fun g3 => ?_)
  exact q_tV hN w0 (hk51 _ _ _ _ _ _ _ w0.1 z_a0 z_a1)
theorem wX69_dig_0 (S Z : Nat → Prop) {hx N : Nat} (hS : ∀ x, fe_mem lX69_dig x = true → S x) (n : Nat) (k51 : Nat → Nat → Int64 → Int64 → Int64 → Int32 → FM → Option (FM)) (hk51 : ∀ (a0 : Nat) (a1 : Nat) (a2 : Int64) (a4 : Int64) (a6 : Int64) (a8 : Int32) (M : FM), WI Z hx N M → Z a0 → Z a1 → pq (k51 a0 a1 a2 a4 a6 a8 M) (QV S Z hx N M)) (a0 : Nat) (a1 : Nat) (M : FM) (w : WI Z hx N M) (z_a0 : Z a0) (z_a1 : Z a1) : pq (FX69_dig_0 n k51 a0 a1 M) (QV S Z hx N M) := by
  have hN := w.2.2.1
  have w0 := wk_r (S := S) w
  delta FX69_dig_0 BX69_dig_0
  refine pq_g (fun g1 => ?_)
  refine pq_b (wX71_lift S Z (sb rfl hS) n _ _ _ w0.1 z_a0) (fun r2 K3 => ?_)
  have w4 := wk_t w0 K3 hN
  refine pq_g (fun g5 => ?_)
  refine pq_fi (fun _ => ?_) (fun _ => ?_)
  · refine pq_g (fun g6 => ?_)
    have z7 := wk_z (i := 0) (f := 117) w4 rfl z_a0
    refine pq_g (fun g8 => ?_)
    refine pq_b (wX62_left S Z (sb rfl hS) _ _ _ w4.1 z7) (fun r9 K10 => ?_)
    have w11 := wk_t w4 K10 hN
    refine pq_g (fun g12 => ?_)
    refine pq_g (fun g13 => ?_)
    extract_lets +onlyGivenNames M15
    have w14 : Wk S Z hx N M M15 := wk_fI hN w11 rfl rfl g13 z_a0 (Or.inr (hS 116 rfl))
    exact q_tV hN w14 (wX69_dig_34 S Z hS n _ hk51 _ _ _ w14.1 z_a0 z_a1)
  · exact q_tV hN w4 (wX69_dig_34 S Z hS n _ hk51 _ _ _ w4.1 z_a0 z_a1)
theorem wX69_dig_L (S Z : Nat → Prop) {hx N : Nat} (hS : ∀ x, fe_mem lX69_dig x = true → S x) (n : Nat) : ∀ j : Nat, ∀ (a0 : Nat) (a1 : Nat) (a2 : Int64) (a4 : Int64) (a6 : Int64) (a8 : Int32) (M : FM), WI Z hx N M → Z a0 → Z a1 → pq (FX69_dig_L51 n j a0 a1 a2 a4 a6 a8 M) (QV S Z hx N M)
  | 0 => by intros; exact pq_0
  | j + 1 => fun a0 a1 a2 a4 a6 a8 M w => wX69_dig_51 S Z hS n _ (wX69_dig_L S Z hS n j) a0 a1 a2 a4 a6 a8 M w
theorem wX69_dig (S Z : Nat → Prop) {hx N : Nat} (hS : ∀ x, fe_mem lX69_dig x = true → S x) (n : Nat) (a0 : Nat) (a1 : Nat) (M : FM) (w : WI Z hx N M) (z_a0 : Z a0) (z_a1 : Z a1) : pq (FX69_dig n a0 a1 M) (QV S Z hx N M) := wX69_dig_0 S Z hS n _ (wX69_dig_L S Z hS n n) a0 a1 M w z_a0 z_a1
def lX69_work : List Nat := [91, 92, 114, 115, 116, 119, 120]
theorem wX69_work_68 (S Z : Nat → Prop) {hx N : Nat} (hS : ∀ x, fe_mem lX69_work x = true → S x) (n : Nat) (M : FM) (w : WI Z hx N M) : pq (FX69_work_68 n M) (QV S Z hx N M) := by
  have hN := w.2.2.1
  have w0 := wk_r (S := S) w
  delta FX69_work_68 BX69_work_68
  exact pq_s w0
theorem wX69_work_27 (S Z : Nat → Prop) {hx N : Nat} (hS : ∀ x, fe_mem lX69_work x = true → S x) (n : Nat) (a1 : Nat) (a5 : Nat) (M : FM) (w : WI Z hx N M) (z_a1 : Z a1) (z_a5 : Z a5) : pq (FX69_work_27 n a1 a5 M) (QV S Z hx N M) := by
  have hN := w.2.2.1
  have w0 := wk_r (S := S) w
  delta FX69_work_27 BX69_work_27
  refine pq_g (fun g1 => ?_)
  refine pq_b (wX71_is S Z (sb rfl hS) _ _ _ w0.1 z_a1 (wk_zc w0 rfl)) (fun r2 K3 => ?_)
  have w4 := wk_t w0 K3 hN
  refine pq_fi (fun _ => ?_) (fun _ => ?_)
  · refine pq_g (fun g5 => ?_)
    have z6 := wk_z (i := 0) (f := 114) w4 rfl z_a1
    refine pq_g (fun g7 => ?_)
    refine pq_g (fun g8 => ?_)
    refine pq_b (wX71_become S Z (sb rfl hS) _ _ _ _ w4.1 z_a5 z6) (fun r9 K10 => ?_)
    have w11 := wk_t w4 K10 hN
    exact q_tV hN w11 (wX69_work_68 S Z hS n _ w11.1 )
  · refine pq_g (fun g12 => ?_)
    refine pq_b (wX71_become S Z (sb rfl hS) _ _ _ _ w4.1 z_a5 (wk_zc w4 rfl)) (fun r13 K14 => ?_)
    have w15 := wk_t w4 K14 hN
    refine pq_b (wX69_dig S Z (sb rfl hS) n _ _ _ w15.1 z_a1 z_a5) (fun r16 K17 => ?_)
    have w18 := wk_t w15 K17 hN
    exact q_tV hN w18 (wX69_work_68 S Z hS n _ w18.1 )
theorem wX69_work_0 (S Z : Nat → Prop) {hx N : Nat} (hS : ∀ x, fe_mem lX69_work x = true → S x) (n : Nat) (a0 : Nat) (a1 : Nat) (a2 : Nat) (a3 : Nat) (a4 : Nat) (a5 : Nat) (M : FM) (w : WI Z hx N M) (z_a0 : Z a0) (z_a1 : Z a1) (z_a2 : Z a2) (z_a3 : Z a3) (z_a4 : Z a4) (z_a5 : Z a5) : pq (FX69_work_0 n a0 a1 a2 a3 a4 a5 M) (QV S Z hx N M) := by
  have hN := w.2.2.1
  have w0 := wk_r (S := S) w
  delta FX69_work_0 BX69_work_0
  refine pq_g (fun g1 => ?_)
  refine pq_fi (fun _ => ?_) (fun _ => ?_)
  · exact q_tV hN w0 (wX69_work_27 S Z hS n _ _ _ w0.1 z_a1 z_a5)
  · refine pq_g (fun g2 => ?_)
    refine pq_b (wX71_is S Z (sb rfl hS) _ _ _ w0.1 z_a1 (wk_zc w0 rfl)) (fun r3 K4 => ?_)
    have w5 := wk_t w0 K4 hN
    refine pq_fi (fun _ => ?_) (fun _ => ?_)
    · refine pq_b (wX65_refuse S Z (sb rfl hS) _ _ _ w5.1 z_a4 z_a5) (fun r6 K7 => ?_)
      have w8 := wk_t w5 K7 hN
      exact q_tV hN w8 (wX69_work_68 S Z hS n _ w8.1 )
    · exact q_tV hN w5 (wX69_work_27 S Z hS n _ _ _ w5.1 z_a1 z_a5)
theorem wX69_work (S Z : Nat → Prop) {hx N : Nat} (hS : ∀ x, fe_mem lX69_work x = true → S x) (n : Nat) (a0 : Nat) (a1 : Nat) (a2 : Nat) (a3 : Nat) (a4 : Nat) (a5 : Nat) (M : FM) (w : WI Z hx N M) (z_a0 : Z a0) (z_a1 : Z a1) (z_a2 : Z a2) (z_a3 : Z a3) (z_a4 : Z a4) (z_a5 : Z a5) : pq (FX69_work n a0 a1 a2 a3 a4 a5 M) (QV S Z hx N M) := wX69_work_0 S Z hS n a0 a1 a2 a3 a4 a5 M w z_a0 z_a1 z_a2 z_a3 z_a4 z_a5
def lX62_copy : List Nat := [119, 120]
theorem wX62_copy_0 (S Z : Nat → Prop) {hx N : Nat} (hS : ∀ x, fe_mem lX62_copy x = true → S x) (a0 : Nat) (a1 : Nat) (M : FM) (w : WI Z hx N M) (z_a0 : Z a0) (z_a1 : Z a1) : pq (FX62_copy_0 a0 a1 M) (QV S Z hx N M) := by
  have hN := w.2.2.1
  have w0 := wk_r (S := S) w
  delta FX62_copy_0 BX62_copy_0
  refine pq_g (fun g1 => ?_)
  refine pq_g (fun g2 => ?_)
  extract_lets +onlyGivenNames M4
  have w3 : Wk S Z hx N M M4 := wk_fL hN w0 rfl rfl g2 z_a0 (Or.inr (hS 119 rfl))
  refine pq_g (fun g5 => ?_)
  refine pq_g (fun g6 => ?_)
  extract_lets +onlyGivenNames M8
  have w7 : Wk S Z hx N M M8 := wk_fL hN w3 rfl rfl g6 z_a0 (Or.inr (hS 120 rfl))
  exact pq_s w7
theorem wX62_copy (S Z : Nat → Prop) {hx N : Nat} (hS : ∀ x, fe_mem lX62_copy x = true → S x) (a0 : Nat) (a1 : Nat) (M : FM) (w : WI Z hx N M) (z_a0 : Z a0) (z_a1 : Z a1) : pq (FX62_copy a0 a1 M) (QV S Z hx N M) := wX62_copy_0 S Z hS a0 a1 M w z_a0 z_a1
def lX71_copy : List Nat := [114, 115, 116, 119, 120]
theorem wX71_copy_0 (S Z : Nat → Prop) {hx N : Nat} (hS : ∀ x, fe_mem lX71_copy x = true → S x) (a0 : Nat) (a1 : Nat) (M : FM) (w : WI Z hx N M) (z_a0 : Z a0) (z_a1 : Z a1) : pq (FX71_copy_0 a0 a1 M) (QV S Z hx N M) := by
  have hN := w.2.2.1
  have w0 := wk_r (S := S) w
  delta FX71_copy_0 BX71_copy_0
  refine pq_g (fun g1 => ?_)
  have z2 := wk_z (i := 0) (f := 114) w0 rfl z_a1
  refine pq_g (fun g3 => ?_)
  refine pq_g (fun g4 => ?_)
  refine pq_b (wX71_become S Z (sb rfl hS) _ _ _ _ w0.1 z_a0 z2) (fun r5 K6 => ?_)
  have w7 := wk_t w0 K6 hN
  refine pq_g (fun g8 => ?_)
  refine pq_g (fun g9 => ?_)
  extract_lets +onlyGivenNames M11
  have w10 : Wk S Z hx N M M11 := wk_fI hN w7 rfl rfl g9 z_a0 (Or.inr (hS 116 rfl))
  refine pq_g (fun g12 => ?_)
  have z13 := wk_z (i := 0) (f := 117) w10 rfl z_a0
  refine pq_g (fun g14 => ?_)
  have z15 := wk_z (i := 0) (f := 117) w10 rfl z_a1
  refine pq_g (fun g16 => ?_)
  refine pq_b (wX62_copy S Z (sb rfl hS) _ _ _ w10.1 z13 z15) (fun r17 K18 => ?_)
  have w19 := wk_t w10 K18 hN
  exact pq_s w19
theorem wX71_copy (S Z : Nat → Prop) {hx N : Nat} (hS : ∀ x, fe_mem lX71_copy x = true → S x) (a0 : Nat) (a1 : Nat) (M : FM) (w : WI Z hx N M) (z_a0 : Z a0) (z_a1 : Z a1) : pq (FX71_copy a0 a1 M) (QV S Z hx N M) := wX71_copy_0 S Z hS a0 a1 M w z_a0 z_a1
def lX70_work : List Nat := [114, 115, 116, 119, 120]
theorem wX70_work_0 (S Z : Nat → Prop) {hx N : Nat} (hS : ∀ x, fe_mem lX70_work x = true → S x) (a0 : Nat) (a1 : Nat) (a2 : Nat) (a3 : Nat) (a4 : Nat) (a5 : Nat) (M : FM) (w : WI Z hx N M) (z_a0 : Z a0) (z_a1 : Z a1) (z_a2 : Z a2) (z_a3 : Z a3) (z_a4 : Z a4) (z_a5 : Z a5) : pq (FX70_work_0 a0 a1 a2 a3 a4 a5 M) (QV S Z hx N M) := by
  have hN := w.2.2.1
  have w0 := wk_r (S := S) w
  delta FX70_work_0 BX70_work_0
  refine pq_g (fun g1 => ?_)
  refine pq_b (wX71_copy S Z (sb rfl hS) _ _ _ w0.1 z_a5 z_a1) (fun r2 K3 => ?_)
  have w4 := wk_t w0 K3 hN
  exact pq_s w4
theorem wX70_work (S Z : Nat → Prop) {hx N : Nat} (hS : ∀ x, fe_mem lX70_work x = true → S x) (a0 : Nat) (a1 : Nat) (a2 : Nat) (a3 : Nat) (a4 : Nat) (a5 : Nat) (M : FM) (w : WI Z hx N M) (z_a0 : Z a0) (z_a1 : Z a1) (z_a2 : Z a2) (z_a3 : Z a3) (z_a4 : Z a4) (z_a5 : Z a5) : pq (FX70_work a0 a1 a2 a3 a4 a5 M) (QV S Z hx N M) := wX70_work_0 S Z hS a0 a1 a2 a3 a4 a5 M w z_a0 z_a1 z_a2 z_a3 z_a4 z_a5
def lX62_isZero : List Nat := []
theorem wX62_isZero_19 (S Z : Nat → Prop) {hx N : Nat} (hS : ∀ x, fe_mem lX62_isZero x = true → S x) (s0 : Int32) (M : FM) (w : WI Z hx N M) : pq (FX62_isZero_19 s0 M) (QA S Z hx N M) := by
  have hN := w.2.2.1
  have w0 := wk_r (S := S) w
  delta FX62_isZero_19 BX62_isZero_19
  refine pq_g (fun _ => ?_)
  exact pq_s w0
theorem wX62_isZero_0 (S Z : Nat → Prop) {hx N : Nat} (hS : ∀ x, fe_mem lX62_isZero x = true → S x) (a0 : Nat) (M : FM) (w : WI Z hx N M) (z_a0 : Z a0) : pq (FX62_isZero_0 a0 M) (QA S Z hx N M) := by
  have hN := w.2.2.1
  have w0 := wk_r (S := S) w
  delta FX62_isZero_0 BX62_isZero_0
  refine pq_g (fun g1 => ?_)
  refine pq_g (fun g2 => ?_)
  refine pq_fi (fun _ => ?_) (fun _ => ?_)
  · exact q_tA hN w0 (wX62_isZero_19 S Z hS _ _ w0.1 )
  · exact q_tA hN w0 (wX62_isZero_19 S Z hS _ _ w0.1 )
theorem wX62_isZero (S Z : Nat → Prop) {hx N : Nat} (hS : ∀ x, fe_mem lX62_isZero x = true → S x) (a0 : Nat) (M : FM) (w : WI Z hx N M) (z_a0 : Z a0) : pq (FX62_isZero a0 M) (QA S Z hx N M) := wX62_isZero_0 S Z hS a0 M w z_a0
def lX62_right : List Nat := [119, 120]
theorem wX62_right_61 (S Z : Nat → Prop) {hx N : Nat} (hS : ∀ x, fe_mem lX62_right x = true → S x) (M : FM) (w : WI Z hx N M) : pq (FX62_right_61 M) (QV S Z hx N M) := by
  have hN := w.2.2.1
  have w0 := wk_r (S := S) w
  delta FX62_right_61 BX62_right_61
  exact pq_s w0
theorem wX62_right_0 (S Z : Nat → Prop) {hx N : Nat} (hS : ∀ x, fe_mem lX62_right x = true → S x) (a0 : Nat) (a1 : Int32) (M : FM) (w : WI Z hx N M) (z_a0 : Z a0) : pq (FX62_right_0 a0 a1 M) (QV S Z hx N M) := by
  have hN := w.2.2.1
  have w0 := wk_r (S := S) w
  delta FX62_right_0 BX62_right_0
  refine pq_fi (fun _ => ?_) (fun _ => ?_)
  · refine pq_fi (fun _ => ?_) (fun _ => ?_)
    · exact q_tV hN w0 (wX62_right_61 S Z hS _ w0.1 )
    · refine pq_g (fun g1 => ?_)
      refine pq_g (fun g2 => ?_)
      refine pq_g (fun g3 => ?_)
      extract_lets +onlyGivenNames M5
      have w4 : Wk S Z hx N M M5 := wk_fL hN w0 rfl rfl g3 z_a0 (Or.inr (hS 120 rfl))
      refine pq_g (fun g6 => ?_)
      refine pq_g (fun g7 => ?_)
      extract_lets +onlyGivenNames M9
      have w8 : Wk S Z hx N M M9 := wk_fL hN w4 rfl rfl g7 z_a0 (Or.inr (hS 119 rfl))
      exact q_tV hN w8 (wX62_right_61 S Z hS _ w8.1 )
  · refine pq_g (fun g10 => ?_)
    refine pq_g (fun g11 => ?_)
    extract_lets +onlyGivenNames M13
    have w12 : Wk S Z hx N M M13 := wk_fL hN w0 rfl rfl g11 z_a0 (Or.inr (hS 120 rfl))
    refine pq_g (fun g14 => ?_)
    extract_lets +onlyGivenNames M16
    have w15 : Wk S Z hx N M M16 := wk_fL hN w12 rfl rfl g14 z_a0 (Or.inr (hS 119 rfl))
    exact q_tV hN w15 (wX62_right_61 S Z hS _ w15.1 )
theorem wX62_right (S Z : Nat → Prop) {hx N : Nat} (hS : ∀ x, fe_mem lX62_right x = true → S x) (a0 : Nat) (a1 : Int32) (M : FM) (w : WI Z hx N M) (z_a0 : Z a0) : pq (FX62_right a0 a1 M) (QV S Z hx N M) := wX62_right_0 S Z hS a0 a1 M w z_a0
def lX62_jam : List Nat := [119, 120]
theorem wX62_jam_124 (S Z : Nat → Prop) {hx N : Nat} (hS : ∀ x, fe_mem lX62_jam x = true → S x) (s0 : Nat) (s1 : Int64) (s2 : Int64) (M : FM) (w : WI Z hx N M) (z_s0 : Z s0) : pq (FX62_jam_124 s0 s1 s2 M) (QV S Z hx N M) := by
  have hN := w.2.2.1
  have w0 := wk_r (S := S) w
  delta FX62_jam_124 BX62_jam_124
  refine pq_g (fun g1 => ?_)
  extract_lets +onlyGivenNames M3
  have w2 : Wk S Z hx N M M3 := wk_fL hN w0 rfl rfl g1 z_s0 (Or.inr (hS 120 rfl))
  exact pq_s w2
theorem wX62_jam_110 (S Z : Nat → Prop) {hx N : Nat} (hS : ∀ x, fe_mem lX62_jam x = true → S x) (a0 : Nat) (a2 : Int32) (M : FM) (w : WI Z hx N M) (z_a0 : Z a0) : pq (FX62_jam_110 a0 a2 M) (QV S Z hx N M) := by
  have hN := w.2.2.1
  have w0 := wk_r (S := S) w
  delta FX62_jam_110 BX62_jam_110
  refine pq_g (fun g1 => ?_)
  refine pq_fi (fun _ => ?_) (fun _ => ?_)
  · exact q_tV hN w0 (wX62_jam_124 S Z hS _ _ _ _ w0.1 z_a0)
  · exact q_tV hN w0 (wX62_jam_124 S Z hS _ _ _ _ w0.1 z_a0)
theorem wX62_jam_90 (S Z : Nat → Prop) {hx N : Nat} (hS : ∀ x, fe_mem lX62_jam x = true → S x) (a0 : Nat) (a1 : Int32) (s0 : Int32) (M : FM) (w : WI Z hx N M) (z_a0 : Z a0) : pq (FX62_jam_90 a0 a1 s0 M) (QV S Z hx N M) := by
  have hN := w.2.2.1
  have w0 := wk_r (S := S) w
  delta FX62_jam_90 BX62_jam_90
  refine pq_fi (fun _ => ?_) (fun _ => ?_)
  · refine pq_g (fun g1 => ?_)
    refine pq_b (wX62_right S Z (sb rfl hS) _ _ _ w0.1 z_a0) (fun r2 K3 => ?_)
    have w4 := wk_t w0 K3 hN
    exact q_tV hN w4 (wX62_jam_110 S Z hS _ _ _ w4.1 z_a0)
  · refine pq_g (fun g5 => ?_)
    refine pq_b (wX62_set S Z (sb rfl hS) _ _ _ w0.1 z_a0) (fun r6 K7 => ?_)
    have w8 := wk_t w0 K7 hN
    exact q_tV hN w8 (wX62_jam_110 S Z hS _ _ _ w8.1 z_a0)
theorem wX62_jam_67 (S Z : Nat → Prop) {hx N : Nat} (hS : ∀ x, fe_mem lX62_jam x = true → S x) (a0 : Nat) (a1 : Int32) (M : FM) (w : WI Z hx N M) (z_a0 : Z a0) : pq (FX62_jam_67 a0 a1 M) (QV S Z hx N M) := by
  have hN := w.2.2.1
  have w0 := wk_r (S := S) w
  delta FX62_jam_67 BX62_jam_67
  exact q_tV hN w0 (wX62_jam_90 S Z hS _ _ _ _ w0.1 z_a0)
theorem wX62_jam_63 (S Z : Nat → Prop) {hx N : Nat} (hS : ∀ x, fe_mem lX62_jam x = true → S x) (a0 : Nat) (a1 : Int32) (M : FM) (w : WI Z hx N M) (z_a0 : Z a0) : pq (FX62_jam_63 a0 a1 M) (QV S Z hx N M) := by
  have hN := w.2.2.1
  have w0 := wk_r (S := S) w
  delta FX62_jam_63 BX62_jam_63
  exact q_tV hN w0 (wX62_jam_90 S Z hS _ _ _ _ w0.1 z_a0)
theorem wX62_jam_0 (S Z : Nat → Prop) {hx N : Nat} (hS : ∀ x, fe_mem lX62_jam x = true → S x) (a0 : Nat) (a1 : Int32) (M : FM) (w : WI Z hx N M) (z_a0 : Z a0) : pq (FX62_jam_0 a0 a1 M) (QV S Z hx N M) := by
  have hN := w.2.2.1
  have w0 := wk_r (S := S) w
  delta FX62_jam_0 BX62_jam_0
  refine pq_fi (fun _ => ?_) (fun _ => ?_)
  · refine pq_fi (fun _ => ?_) (fun _ => ?_)
    · refine pq_fi (fun _ => ?_) (fun _ => ?_)
      · refine pq_g (fun g1 => ?_)
        refine pq_fi (fun _ => ?_) (fun _ => ?_)
        · exact q_tV hN w0 (wX62_jam_90 S Z hS _ _ _ _ w0.1 z_a0)
        · exact q_tV hN w0 (wX62_jam_90 S Z hS _ _ _ _ w0.1 z_a0)
      · refine pq_g (fun g2 => ?_)
        refine pq_fi (fun _ => ?_) (fun _ => ?_)
        · refine pq_fi (fun _ => ?_) (fun _ => ?_)
          · exact q_tV hN w0 (wX62_jam_67 S Z hS _ _ _ w0.1 z_a0)
          · refine pq_g (fun g3 => ?_)
            refine pq_fi (fun _ => ?_) (fun _ => ?_)
            · exact q_tV hN w0 (wX62_jam_67 S Z hS _ _ _ w0.1 z_a0)
            · exact q_tV hN w0 (wX62_jam_63 S Z hS _ _ _ w0.1 z_a0)
        · exact q_tV hN w0 (wX62_jam_63 S Z hS _ _ _ w0.1 z_a0)
    · refine pq_g (fun g4 => ?_)
      refine pq_b (wX62_isZero S Z (sb rfl hS) _ _ w0.1 z_a0) (fun r5 K6 => ?_)
      have w7 := wk_t w0 K6 hN
      refine pq_fi (fun _ => ?_) (fun _ => ?_)
      · exact q_tV hN w7 (wX62_jam_90 S Z hS _ _ _ _ w7.1 z_a0)
      · exact q_tV hN w7 (wX62_jam_90 S Z hS _ _ _ _ w7.1 z_a0)
  · exact pq_s w0
theorem wX62_jam (S Z : Nat → Prop) {hx N : Nat} (hS : ∀ x, fe_mem lX62_jam x = true → S x) (a0 : Nat) (a1 : Int32) (M : FM) (w : WI Z hx N M) (z_a0 : Z a0) : pq (FX62_jam a0 a1 M) (QV S Z hx N M) := wX62_jam_0 S Z hS a0 a1 M w z_a0
def lX62_add : List Nat := [119, 120]
theorem wX62_add_41 (S Z : Nat → Prop) {hx N : Nat} (hS : ∀ x, fe_mem lX62_add x = true → S x) (s0 : Nat) (s1 : Int64) (s2 : Int64) (s3 : Int64) (M : FM) (w : WI Z hx N M) (z_s0 : Z s0) : pq (FX62_add_41 s0 s1 s2 s3 M) (QV S Z hx N M) := by
  have hN := w.2.2.1
  have w0 := wk_r (S := S) w
  delta FX62_add_41 BX62_add_41
  refine pq_g (fun g1 => ?_)
  extract_lets +onlyGivenNames M3
  have w2 : Wk S Z hx N M M3 := wk_fL hN w0 rfl rfl g1 z_s0 (Or.inr (hS 119 rfl))
  exact pq_s w2
theorem wX62_add_0 (S Z : Nat → Prop) {hx N : Nat} (hS : ∀ x, fe_mem lX62_add x = true → S x) (a0 : Nat) (a1 : Nat) (M : FM) (w : WI Z hx N M) (z_a0 : Z a0) (z_a1 : Z a1) : pq (FX62_add_0 a0 a1 M) (QV S Z hx N M) := by
  have hN := w.2.2.1
  have w0 := wk_r (S := S) w
  delta FX62_add_0 BX62_add_0
  refine pq_g (fun g1 => ?_)
  refine pq_g (fun g2 => ?_)
  refine pq_g (fun g3 => ?_)
  extract_lets +onlyGivenNames M5
  have w4 : Wk S Z hx N M M5 := wk_fL hN w0 rfl rfl g3 z_a0 (Or.inr (hS 120 rfl))
  refine pq_g (fun g6 => ?_)
  refine pq_g (fun g7 => ?_)
  refine pq_g (fun g8 => ?_)
  refine pq_g (fun g9 => ?_)
  refine pq_b (wX108_isLess S Z (sb rfl hS) _ _ _ w4.1 ) (fun r10 K11 => ?_)
  have w12 := wk_t w4 K11 hN
  refine pq_fi (fun _ => ?_) (fun _ => ?_)
  · exact q_tV hN w12 (wX62_add_41 S Z hS _ _ _ _ _ w12.1 z_a0)
  · exact q_tV hN w12 (wX62_add_41 S Z hS _ _ _ _ _ w12.1 z_a0)
theorem wX62_add (S Z : Nat → Prop) {hx N : Nat} (hS : ∀ x, fe_mem lX62_add x = true → S x) (a0 : Nat) (a1 : Nat) (M : FM) (w : WI Z hx N M) (z_a0 : Z a0) (z_a1 : Z a1) : pq (FX62_add a0 a1 M) (QV S Z hx N M) := wX62_add_0 S Z hS a0 a1 M w z_a0 z_a1
def lX62_subtract : List Nat := [119, 120]
theorem wX62_subtract_28 (S Z : Nat → Prop) {hx N : Nat} (hS : ∀ x, fe_mem lX62_subtract x = true → S x) (a0 : Nat) (a1 : Nat) (s0 : Nat) (s1 : Int64) (s2 : Int64) (s3 : Int64) (M : FM) (w : WI Z hx N M) (z_a0 : Z a0) (z_a1 : Z a1) (z_s0 : Z s0) : pq (FX62_subtract_28 a0 a1 s0 s1 s2 s3 M) (QV S Z hx N M) := by
  have hN := w.2.2.1
  have w0 := wk_r (S := S) w
  delta FX62_subtract_28 BX62_subtract_28
  refine pq_g (fun g1 => ?_)
  extract_lets +onlyGivenNames M3
  have w2 : Wk S Z hx N M M3 := wk_fL hN w0 rfl rfl g1 z_s0 (Or.inr (hS 119 rfl))
  refine pq_g (fun g4 => ?_)
  refine pq_g (fun g5 => ?_)
  refine pq_g (fun g6 => ?_)
  extract_lets +onlyGivenNames M8
  have w7 : Wk S Z hx N M M8 := wk_fL hN w2 rfl rfl g6 z_a0 (Or.inr (hS 120 rfl))
  exact pq_s w7
theorem wX62_subtract_0 (S Z : Nat → Prop) {hx N : Nat} (hS : ∀ x, fe_mem lX62_subtract x = true → S x) (a0 : Nat) (a1 : Nat) (M : FM) (w : WI Z hx N M) (z_a0 : Z a0) (z_a1 : Z a1) : pq (FX62_subtract_0 a0 a1 M) (QV S Z hx N M) := by
  have hN := w.2.2.1
  have w0 := wk_r (S := S) w
  delta FX62_subtract_0 BX62_subtract_0
  refine pq_g (fun g1 => ?_)
  refine pq_g (fun g2 => ?_)
  refine pq_g (fun g3 => ?_)
  refine pq_g (fun g4 => ?_)
  refine pq_b (wX108_isLess S Z (sb rfl hS) _ _ _ w0.1 ) (fun r5 K6 => ?_)
  have w7 := wk_t w0 K6 hN
  refine pq_fi (fun _ => ?_) (fun _ => ?_)
  · exact q_tV hN w7 (wX62_subtract_28 S Z hS _ _ _ _ _ _ _ w7.1 z_a0 z_a1 z_a0)
  · exact q_tV hN w7 (wX62_subtract_28 S Z hS _ _ _ _ _ _ _ w7.1 z_a0 z_a1 z_a0)
theorem wX62_subtract (S Z : Nat → Prop) {hx N : Nat} (hS : ∀ x, fe_mem lX62_subtract x = true → S x) (a0 : Nat) (a1 : Nat) (M : FM) (w : WI Z hx N M) (z_a0 : Z a0) (z_a1 : Z a1) : pq (FX62_subtract a0 a1 M) (QV S Z hx N M) := wX62_subtract_0 S Z hS a0 a1 M w z_a0 z_a1
def lX66_lay : List Nat := [114, 115, 116, 119, 120]
theorem wX66_lay_169 (S Z : Nat → Prop) {hx N : Nat} (hS : ∀ x, fe_mem lX66_lay x = true → S x) (n : Nat) (M : FM) (w : WI Z hx N M) : pq (FX66_lay_169 n M) (QV S Z hx N M) := by
  have hN := w.2.2.1
  have w0 := wk_r (S := S) w
  delta FX66_lay_169 BX66_lay_169
  exact pq_s w0
theorem wX66_lay_166 (S Z : Nat → Prop) {hx N : Nat} (hS : ∀ x, fe_mem lX66_lay x = true → S x) (n : Nat) (s0 : Nat) (s1 : Nat) (s2 : Int32) (M : FM) (w : WI Z hx N M) (z_s0 : Z s0) (z_s1 : Z s1) : pq (FX66_lay_166 n s0 s1 s2 M) (QV S Z hx N M) := by
  have hN := w.2.2.1
  have w0 := wk_r (S := S) w
  delta FX66_lay_166 BX66_lay_166
  refine pq_g (fun g1 => ?_)
  refine pq_b (wX71_become S Z (sb rfl hS) _ _ _ _ w0.1 z_s0 z_s1) (fun r2 K3 => ?_)
  have w4 := wk_t w0 K3 hN
  exact q_tV hN w4 (wX66_lay_169 S Z hS n _ w4.1 )
theorem wX66_lay_77 (S Z : Nat → Prop) {hx N : Nat} (hS : ∀ x, fe_mem lX66_lay x = true → S x) (n : Nat) (a0 : Nat) (a1 : Nat) (a2 : Nat) (a3 : Nat) (a5 : Nat) (s0 : Nat) (M : FM) (w : WI Z hx N M) (z_a0 : Z a0) (z_a1 : Z a1) (z_a2 : Z a2) (z_a3 : Z a3) (z_a5 : Z a5) (z_s0 : Z s0) : pq (FX66_lay_77 n a0 a1 a2 a3 a5 s0 M) (QV S Z hx N M) := by
  have hN := w.2.2.1
  have w0 := wk_r (S := S) w
  delta FX66_lay_77 BX66_lay_77
  refine pq_g (fun g1 => ?_)
  have z2 := wk_z (i := 0) (f := 117) w0 rfl z_s0
  refine pq_g (fun g3 => ?_)
  refine pq_g (fun g4 => ?_)
  refine pq_g (fun g5 => ?_)
  refine pq_b (wX62_jam S Z (sb rfl hS) _ _ _ w0.1 z2) (fun r6 K7 => ?_)
  have w8 := wk_t w0 K7 hN
  refine pq_g (fun g9 => ?_)
  refine pq_b (wX71_copy S Z (sb rfl hS) _ _ _ w8.1 z_a3 z_a5) (fun r10 K11 => ?_)
  have w12 := wk_t w8 K11 hN
  refine pq_g (fun g13 => ?_)
  refine pq_g (fun g14 => ?_)
  refine pq_fi (fun _ => ?_) (fun _ => ?_)
  · refine pq_g (fun g15 => ?_)
    have z16 := wk_z (i := 0) (f := 117) w12 rfl z_a3
    refine pq_g (fun g17 => ?_)
    have z18 := wk_z (i := 0) (f := 117) w12 rfl z_s0
    refine pq_g (fun g19 => ?_)
    refine pq_b (wX62_add S Z (sb rfl hS) _ _ _ w12.1 z16 z18) (fun r20 K21 => ?_)
    have w22 := wk_t w12 K21 hN
    exact pq_s w22
  · refine pq_g (fun g23 => ?_)
    have z24 := wk_z (i := 0) (f := 117) w12 rfl z_a3
    refine pq_g (fun g25 => ?_)
    have z26 := wk_z (i := 0) (f := 117) w12 rfl z_s0
    refine pq_g (fun g27 => ?_)
    refine pq_b (wX62_subtract S Z (sb rfl hS) _ _ _ w12.1 z24 z26) (fun r28 K29 => ?_)
    have w30 := wk_t w12 K29 hN
    refine pq_g (fun g31 => ?_)
    have z32 := wk_z (i := 0) (f := 117) w30 rfl z_a3
    refine pq_g (fun g33 => ?_)
    refine pq_b (wX62_isZero S Z (sb rfl hS) _ _ w30.1 z32) (fun r34 K35 => ?_)
    have w36 := wk_t w30 K35 hN
    refine pq_fi (fun _ => ?_) (fun _ => ?_)
    · exact q_tV hN w36 (wX66_lay_169 S Z hS n _ w36.1 )
    · refine pq_g (fun _ => ?_)
      refine pq_fi (fun _ => ?_) (fun _ => ?_)
      · exact q_tV hN w36 (wX66_lay_166 S Z hS n _ _ _ _ w36.1 z_a3 (wk_zc w36 rfl))
      · exact q_tV hN w36 (wX66_lay_166 S Z hS n _ _ _ _ w36.1 z_a3 (wk_zc w36 rfl))
theorem wX66_lay_65 (S Z : Nat → Prop) {hx N : Nat} (hS : ∀ x, fe_mem lX66_lay x = true → S x) (n : Nat) (a0 : Nat) (a1 : Nat) (a2 : Nat) (a3 : Nat) (a4 : Int32) (s0 : Nat) (M : FM) (w : WI Z hx N M) (z_a0 : Z a0) (z_a1 : Z a1) (z_a2 : Z a2) (z_a3 : Z a3) (z_s0 : Z s0) : pq (FX66_lay_65 n a0 a1 a2 a3 a4 s0 M) (QV S Z hx N M) := by
  have hN := w.2.2.1
  have w0 := wk_r (S := S) w
  delta FX66_lay_65 BX66_lay_65
  refine pq_fi (fun _ => ?_) (fun _ => ?_)
  · exact q_tV hN w0 (wX66_lay_77 S Z hS n _ _ _ _ _ _ _ w0.1 z_a0 z_a1 z_a2 z_a3 z_s0 z_a1)
  · exact q_tV hN w0 (wX66_lay_77 S Z hS n _ _ _ _ _ _ _ w0.1 z_a0 z_a1 z_a2 z_a3 z_s0 z_a0)
theorem wX66_lay_53 (S Z : Nat → Prop) {hx N : Nat} (hS : ∀ x, fe_mem lX66_lay x = true → S x) (n : Nat) (a0 : Nat) (a1 : Nat) (a2 : Nat) (a3 : Nat) (s0 : Int32) (M : FM) (w : WI Z hx N M) (z_a0 : Z a0) (z_a1 : Z a1) (z_a2 : Z a2) (z_a3 : Z a3) : pq (FX66_lay_53 n a0 a1 a2 a3 s0 M) (QV S Z hx N M) := by
  have hN := w.2.2.1
  have w0 := wk_r (S := S) w
  delta FX66_lay_53 BX66_lay_53
  refine pq_fi (fun _ => ?_) (fun _ => ?_)
  · exact q_tV hN w0 (wX66_lay_65 S Z hS n _ _ _ _ _ _ _ w0.1 z_a0 z_a1 z_a2 z_a3 z_a0)
  · exact q_tV hN w0 (wX66_lay_65 S Z hS n _ _ _ _ _ _ _ w0.1 z_a0 z_a1 z_a2 z_a3 z_a1)
theorem wX66_lay_52 (S Z : Nat → Prop) {hx N : Nat} (hS : ∀ x, fe_mem lX66_lay x = true → S x) (n : Nat) (a0 : Nat) (a1 : Nat) (a2 : Nat) (a3 : Nat) (M : FM) (w : WI Z hx N M) (z_a0 : Z a0) (z_a1 : Z a1) (z_a2 : Z a2) (z_a3 : Z a3) : pq (FX66_lay_52 n a0 a1 a2 a3 M) (QV S Z hx N M) := by
  have hN := w.2.2.1
  have w0 := wk_r (S := S) w
  delta FX66_lay_52 BX66_lay_52
  exact q_tV hN w0 (wX66_lay_53 S Z hS n _ _ _ _ _ _ w0.1 z_a0 z_a1 z_a2 z_a3)
theorem wX66_lay_48 (S Z : Nat → Prop) {hx N : Nat} (hS : ∀ x, fe_mem lX66_lay x = true → S x) (n : Nat) (a0 : Nat) (a1 : Nat) (a2 : Nat) (a3 : Nat) (M : FM) (w : WI Z hx N M) (z_a0 : Z a0) (z_a1 : Z a1) (z_a2 : Z a2) (z_a3 : Z a3) : pq (FX66_lay_48 n a0 a1 a2 a3 M) (QV S Z hx N M) := by
  have hN := w.2.2.1
  have w0 := wk_r (S := S) w
  delta FX66_lay_48 BX66_lay_48
  exact q_tV hN w0 (wX66_lay_53 S Z hS n _ _ _ _ _ _ w0.1 z_a0 z_a1 z_a2 z_a3)
theorem wX66_lay_0 (S Z : Nat → Prop) {hx N : Nat} (hS : ∀ x, fe_mem lX66_lay x = true → S x) (n : Nat) (a0 : Nat) (a1 : Nat) (a2 : Nat) (a3 : Nat) (M : FM) (w : WI Z hx N M) (z_a0 : Z a0) (z_a1 : Z a1) (z_a2 : Z a2) (z_a3 : Z a3) : pq (FX66_lay_0 n a0 a1 a2 a3 M) (QV S Z hx N M) := by
  have hN := w.2.2.1
  have w0 := wk_r (S := S) w
  delta FX66_lay_0 BX66_lay_0
  refine pq_g (fun g1 => ?_)
  refine pq_b (wX71_lift S Z (sb rfl hS) n _ _ _ w0.1 z_a0) (fun r2 K3 => ?_)
  have w4 := wk_t w0 K3 hN
  refine pq_g (fun g5 => ?_)
  refine pq_b (wX71_lift S Z (sb rfl hS) n _ _ _ w4.1 z_a1) (fun r6 K7 => ?_)
  have w8 := wk_t w4 K7 hN
  refine pq_g (fun g9 => ?_)
  refine pq_g (fun g10 => ?_)
  refine pq_fi (fun _ => ?_) (fun _ => ?_)
  · exact q_tV hN w8 (wX66_lay_48 S Z hS n _ _ _ _ _ w8.1 z_a0 z_a1 z_a2 z_a3)
  · refine pq_g (fun g11 => ?_)
    refine pq_g (fun g12 => ?_)
    refine pq_fi (fun _ => ?_) (fun _ => ?_)
    · refine pq_g (fun g13 => ?_)
      have z14 := wk_z (i := 0) (f := 117) w8 rfl z_a0
      refine pq_g (fun g15 => ?_)
      have z16 := wk_z (i := 0) (f := 117) w8 rfl z_a1
      refine pq_g (fun g17 => ?_)
      refine pq_b (wX62_isBelow S Z (sb rfl hS) _ _ _ w8.1 z14 z16) (fun r18 K19 => ?_)
      have w20 := wk_t w8 K19 hN
      refine pq_fi (fun _ => ?_) (fun _ => ?_)
      · exact q_tV hN w20 (wX66_lay_52 S Z hS n _ _ _ _ _ w20.1 z_a0 z_a1 z_a2 z_a3)
      · exact q_tV hN w20 (wX66_lay_48 S Z hS n _ _ _ _ _ w20.1 z_a0 z_a1 z_a2 z_a3)
    · exact q_tV hN w8 (wX66_lay_52 S Z hS n _ _ _ _ _ w8.1 z_a0 z_a1 z_a2 z_a3)
theorem wX66_lay (S Z : Nat → Prop) {hx N : Nat} (hS : ∀ x, fe_mem lX66_lay x = true → S x) (n : Nat) (a0 : Nat) (a1 : Nat) (a2 : Nat) (a3 : Nat) (M : FM) (w : WI Z hx N M) (z_a0 : Z a0) (z_a1 : Z a1) (z_a2 : Z a2) (z_a3 : Z a3) : pq (FX66_lay n a0 a1 a2 a3 M) (QV S Z hx N M) := wX66_lay_0 S Z hS n a0 a1 a2 a3 M w z_a0 z_a1 z_a2 z_a3
def lX66_add : List Nat := [91, 92, 114, 115, 116, 119, 120]
theorem wX66_add_204 (S Z : Nat → Prop) {hx N : Nat} (hS : ∀ x, fe_mem lX66_add x = true → S x) (n : Nat) (M : FM) (w : WI Z hx N M) : pq (FX66_add_204 n M) (QV S Z hx N M) := by
  have hN := w.2.2.1
  have w0 := wk_r (S := S) w
  delta FX66_add_204 BX66_add_204
  exact pq_s w0
theorem wX66_add_190 (S Z : Nat → Prop) {hx N : Nat} (hS : ∀ x, fe_mem lX66_add x = true → S x) (n : Nat) (s0 : Nat) (s1 : Nat) (M : FM) (w : WI Z hx N M) (z_s0 : Z s0) (z_s1 : Z s1) : pq (FX66_add_190 n s0 s1 M) (QV S Z hx N M) := by
  have hN := w.2.2.1
  have w0 := wk_r (S := S) w
  delta FX66_add_190 BX66_add_190
  refine pq_g (fun g1 => ?_)
  refine pq_b (wX71_copy S Z (sb rfl hS) _ _ _ w0.1 z_s0 z_s1) (fun r2 K3 => ?_)
  have w4 := wk_t w0 K3 hN
  exact q_tV hN w4 (wX66_add_204 S Z hS n _ w4.1 )
theorem wX66_add_173 (S Z : Nat → Prop) {hx N : Nat} (hS : ∀ x, fe_mem lX66_add x = true → S x) (n : Nat) (a0 : Nat) (a1 : Nat) (a4 : Nat) (M : FM) (w : WI Z hx N M) (z_a0 : Z a0) (z_a1 : Z a1) (z_a4 : Z a4) : pq (FX66_add_173 n a0 a1 a4 M) (QV S Z hx N M) := by
  have hN := w.2.2.1
  have w0 := wk_r (S := S) w
  delta FX66_add_173 BX66_add_173
  refine pq_g (fun g1 => ?_)
  refine pq_b (wX71_is S Z (sb rfl hS) _ _ _ w0.1 z_a0 (wk_zc w0 rfl)) (fun r2 K3 => ?_)
  have w4 := wk_t w0 K3 hN
  refine pq_fi (fun _ => ?_) (fun _ => ?_)
  · exact q_tV hN w4 (wX66_add_190 S Z hS n _ _ _ w4.1 z_a4 z_a0)
  · exact q_tV hN w4 (wX66_add_190 S Z hS n _ _ _ w4.1 z_a4 z_a1)
theorem wX66_add_153 (S Z : Nat → Prop) {hx N : Nat} (hS : ∀ x, fe_mem lX66_add x = true → S x) (n : Nat) (a0 : Nat) (a1 : Nat) (a2 : Nat) (a4 : Nat) (M : FM) (w : WI Z hx N M) (z_a0 : Z a0) (z_a1 : Z a1) (z_a2 : Z a2) (z_a4 : Z a4) : pq (FX66_add_153 n a0 a1 a2 a4 M) (QV S Z hx N M) := by
  have hN := w.2.2.1
  have w0 := wk_r (S := S) w
  delta FX66_add_153 BX66_add_153
  refine pq_g (fun g1 => ?_)
  refine pq_b (wX71_is S Z (sb rfl hS) _ _ _ w0.1 z_a0 (wk_zc w0 rfl)) (fun r2 K3 => ?_)
  have w4 := wk_t w0 K3 hN
  refine pq_fi (fun _ => ?_) (fun _ => ?_)
  · refine pq_g (fun g5 => ?_)
    refine pq_b (wX71_is S Z (sb rfl hS) _ _ _ w4.1 z_a1 (wk_zc w4 rfl)) (fun r6 K7 => ?_)
    have w8 := wk_t w4 K7 hN
    refine pq_fi (fun _ => ?_) (fun _ => ?_)
    · refine pq_b (wX66_lay S Z (sb rfl hS) n _ _ _ _ _ w8.1 z_a0 z_a1 z_a2 z_a4) (fun r9 K10 => ?_)
      have w11 := wk_t w8 K10 hN
      exact q_tV hN w11 (wX66_add_204 S Z hS n _ w11.1 )
    · exact q_tV hN w8 (wX66_add_173 S Z hS n _ _ _ _ w8.1 z_a0 z_a1 z_a4)
  · exact q_tV hN w4 (wX66_add_173 S Z hS n _ _ _ _ w4.1 z_a0 z_a1 z_a4)
theorem wX66_add_147 (S Z : Nat → Prop) {hx N : Nat} (hS : ∀ x, fe_mem lX66_add x = true → S x) (n : Nat) (s0 : Nat) (s1 : Nat) (s2 : Int32) (M : FM) (w : WI Z hx N M) (z_s0 : Z s0) (z_s1 : Z s1) : pq (FX66_add_147 n s0 s1 s2 M) (QV S Z hx N M) := by
  have hN := w.2.2.1
  have w0 := wk_r (S := S) w
  delta FX66_add_147 BX66_add_147
  refine pq_g (fun g1 => ?_)
  refine pq_b (wX71_become S Z (sb rfl hS) _ _ _ _ w0.1 z_s0 z_s1) (fun r2 K3 => ?_)
  have w4 := wk_t w0 K3 hN
  exact q_tV hN w4 (wX66_add_204 S Z hS n _ w4.1 )
theorem wX66_add_86 (S Z : Nat → Prop) {hx N : Nat} (hS : ∀ x, fe_mem lX66_add x = true → S x) (n : Nat) (s0 : Nat) (s1 : Nat) (s2 : Int32) (M : FM) (w : WI Z hx N M) (z_s0 : Z s0) (z_s1 : Z s1) : pq (FX66_add_86 n s0 s1 s2 M) (QV S Z hx N M) := by
  have hN := w.2.2.1
  have w0 := wk_r (S := S) w
  delta FX66_add_86 BX66_add_86
  refine pq_g (fun g1 => ?_)
  refine pq_b (wX71_become S Z (sb rfl hS) _ _ _ _ w0.1 z_s0 z_s1) (fun r2 K3 => ?_)
  have w4 := wk_t w0 K3 hN
  exact q_tV hN w4 (wX66_add_204 S Z hS n _ w4.1 )
theorem wX66_add_60 (S Z : Nat → Prop) {hx N : Nat} (hS : ∀ x, fe_mem lX66_add x = true → S x) (n : Nat) (a0 : Nat) (a1 : Nat) (a4 : Nat) (M : FM) (w : WI Z hx N M) (z_a0 : Z a0) (z_a1 : Z a1) (z_a4 : Z a4) : pq (FX66_add_60 n a0 a1 a4 M) (QV S Z hx N M) := by
  have hN := w.2.2.1
  have w0 := wk_r (S := S) w
  delta FX66_add_60 BX66_add_60
  refine pq_g (fun g1 => ?_)
  refine pq_b (wX71_is S Z (sb rfl hS) _ _ _ w0.1 z_a0 (wk_zc w0 rfl)) (fun r2 K3 => ?_)
  have w4 := wk_t w0 K3 hN
  refine pq_fi (fun _ => ?_) (fun _ => ?_)
  · refine pq_g (fun g5 => ?_)
    exact q_tV hN w4 (wX66_add_86 S Z hS n _ _ _ _ w4.1 z_a4 (wk_zc w0 rfl))
  · refine pq_g (fun g6 => ?_)
    exact q_tV hN w4 (wX66_add_86 S Z hS n _ _ _ _ w4.1 z_a4 (wk_zc w0 rfl))
theorem wX66_add_40 (S Z : Nat → Prop) {hx N : Nat} (hS : ∀ x, fe_mem lX66_add x = true → S x) (n : Nat) (a0 : Nat) (a1 : Nat) (a2 : Nat) (a4 : Nat) (M : FM) (w : WI Z hx N M) (z_a0 : Z a0) (z_a1 : Z a1) (z_a2 : Z a2) (z_a4 : Z a4) : pq (FX66_add_40 n a0 a1 a2 a4 M) (QV S Z hx N M) := by
  have hN := w.2.2.1
  have w0 := wk_r (S := S) w
  delta FX66_add_40 BX66_add_40
  refine pq_g (fun g1 => ?_)
  refine pq_b (wX71_is S Z (sb rfl hS) _ _ _ w0.1 z_a0 (wk_zc w0 rfl)) (fun r2 K3 => ?_)
  have w4 := wk_t w0 K3 hN
  refine pq_fi (fun _ => ?_) (fun _ => ?_)
  · refine pq_g (fun g5 => ?_)
    refine pq_b (wX71_is S Z (sb rfl hS) _ _ _ w4.1 z_a1 (wk_zc w4 rfl)) (fun r6 K7 => ?_)
    have w8 := wk_t w4 K7 hN
    refine pq_fi (fun _ => ?_) (fun _ => ?_)
    · refine pq_g (fun g9 => ?_)
      refine pq_b (wX71_is S Z (sb rfl hS) _ _ _ w8.1 z_a0 (wk_zc w8 rfl)) (fun r10 K11 => ?_)
      have w12 := wk_t w8 K11 hN
      refine pq_fi (fun _ => ?_) (fun _ => ?_)
      · exact q_tV hN w12 (wX66_add_153 S Z hS n _ _ _ _ _ w12.1 z_a0 z_a1 z_a2 z_a4)
      · refine pq_g (fun g13 => ?_)
        refine pq_b (wX71_is S Z (sb rfl hS) _ _ _ w12.1 z_a1 (wk_zc w12 rfl)) (fun r14 K15 => ?_)
        have w16 := wk_t w12 K15 hN
        refine pq_fi (fun _ => ?_) (fun _ => ?_)
        · exact q_tV hN w16 (wX66_add_153 S Z hS n _ _ _ _ _ w16.1 z_a0 z_a1 z_a2 z_a4)
        · refine pq_g (fun g17 => ?_)
          refine pq_g (fun g18 => ?_)
          refine pq_fi (fun _ => ?_) (fun _ => ?_)
          · refine pq_g (fun g19 => ?_)
            exact q_tV hN w16 (wX66_add_147 S Z hS n _ _ _ _ w16.1 z_a4 (wk_zc w16 rfl))
          · refine pq_g (fun _ => ?_)
            refine pq_fi (fun _ => ?_) (fun _ => ?_)
            · exact q_tV hN w16 (wX66_add_147 S Z hS n _ _ _ _ w16.1 z_a4 (wk_zc w16 rfl))
            · exact q_tV hN w16 (wX66_add_147 S Z hS n _ _ _ _ w16.1 z_a4 (wk_zc w16 rfl))
    · exact q_tV hN w8 (wX66_add_60 S Z hS n _ _ _ _ w8.1 z_a0 z_a1 z_a4)
  · exact q_tV hN w4 (wX66_add_60 S Z hS n _ _ _ _ w4.1 z_a0 z_a1 z_a4)
theorem wX66_add_0 (S Z : Nat → Prop) {hx N : Nat} (hS : ∀ x, fe_mem lX66_add x = true → S x) (n : Nat) (a0 : Nat) (a1 : Nat) (a2 : Nat) (a3 : Nat) (a4 : Nat) (M : FM) (w : WI Z hx N M) (z_a0 : Z a0) (z_a1 : Z a1) (z_a2 : Z a2) (z_a3 : Z a3) (z_a4 : Z a4) : pq (FX66_add_0 n a0 a1 a2 a3 a4 M) (QV S Z hx N M) := by
  have hN := w.2.2.1
  have w0 := wk_r (S := S) w
  delta FX66_add_0 BX66_add_0
  refine pq_g (fun g1 => ?_)
  refine pq_b (wX71_is S Z (sb rfl hS) _ _ _ w0.1 z_a0 (wk_zc w0 rfl)) (fun r2 K3 => ?_)
  have w4 := wk_t w0 K3 hN
  refine pq_fi (fun _ => ?_) (fun _ => ?_)
  · exact q_tV hN w4 (wX66_add_40 S Z hS n _ _ _ _ _ w4.1 z_a0 z_a1 z_a2 z_a4)
  · refine pq_g (fun g5 => ?_)
    refine pq_b (wX71_is S Z (sb rfl hS) _ _ _ w4.1 z_a1 (wk_zc w4 rfl)) (fun r6 K7 => ?_)
    have w8 := wk_t w4 K7 hN
    refine pq_fi (fun _ => ?_) (fun _ => ?_)
    · exact q_tV hN w8 (wX66_add_40 S Z hS n _ _ _ _ _ w8.1 z_a0 z_a1 z_a2 z_a4)
    · refine pq_g (fun g9 => ?_)
      refine pq_g (fun g10 => ?_)
      refine pq_fi (fun _ => ?_) (fun _ => ?_)
      · exact q_tV hN w8 (wX66_add_40 S Z hS n _ _ _ _ _ w8.1 z_a0 z_a1 z_a2 z_a4)
      · refine pq_b (wX65_refuse S Z (sb rfl hS) _ _ _ w8.1 z_a3 z_a4) (fun r11 K12 => ?_)
        have w13 := wk_t w8 K12 hN
        exact q_tV hN w13 (wX66_add_204 S Z hS n _ w13.1 )
theorem wX66_add (S Z : Nat → Prop) {hx N : Nat} (hS : ∀ x, fe_mem lX66_add x = true → S x) (n : Nat) (a0 : Nat) (a1 : Nat) (a2 : Nat) (a3 : Nat) (a4 : Nat) (M : FM) (w : WI Z hx N M) (z_a0 : Z a0) (z_a1 : Z a1) (z_a2 : Z a2) (z_a3 : Z a3) (z_a4 : Z a4) : pq (FX66_add n a0 a1 a2 a3 a4 M) (QV S Z hx N M) := wX66_add_0 S Z hS n a0 a1 a2 a3 a4 M w z_a0 z_a1 z_a2 z_a3 z_a4
def lX66_work : List Nat := [91, 92, 114, 115, 116, 119, 120]
theorem wX66_work_0 (S Z : Nat → Prop) {hx N : Nat} (hS : ∀ x, fe_mem lX66_work x = true → S x) (n : Nat) (a0 : Nat) (a1 : Nat) (a2 : Nat) (a3 : Nat) (a4 : Nat) (a5 : Nat) (M : FM) (w : WI Z hx N M) (z_a0 : Z a0) (z_a1 : Z a1) (z_a2 : Z a2) (z_a3 : Z a3) (z_a4 : Z a4) (z_a5 : Z a5) : pq (FX66_work_0 n a0 a1 a2 a3 a4 a5 M) (QV S Z hx N M) := by
  have hN := w.2.2.1
  have w0 := wk_r (S := S) w
  delta FX66_work_0 BX66_work_0
  refine pq_g (fun g1 => ?_)
  refine pq_g (fun g2 => ?_)
  refine pq_g (fun g3 => ?_)
  refine pq_g (fun _ => ?_)
  extract_lets +onlyGivenNames M5
  have w4 : Wk S Z hx N M M5 := wk_fI hN w0 rfl rfl g3 z_a2 (Or.inr (hS 115 rfl))
  refine pq_b (wX66_add S Z (sb rfl hS) n _ _ _ _ _ _ w4.1 z_a1 z_a2 z_a3 z_a4 z_a5) (fun r6 K7 => ?_)
  have w8 := wk_t w4 K7 hN
  exact pq_s w8
theorem wX66_work (S Z : Nat → Prop) {hx N : Nat} (hS : ∀ x, fe_mem lX66_work x = true → S x) (n : Nat) (a0 : Nat) (a1 : Nat) (a2 : Nat) (a3 : Nat) (a4 : Nat) (a5 : Nat) (M : FM) (w : WI Z hx N M) (z_a0 : Z a0) (z_a1 : Z a1) (z_a2 : Z a2) (z_a3 : Z a3) (z_a4 : Z a4) (z_a5 : Z a5) : pq (FX66_work n a0 a1 a2 a3 a4 a5 M) (QV S Z hx N M) := wX66_work_0 S Z hS n a0 a1 a2 a3 a4 a5 M w z_a0 z_a1 z_a2 z_a3 z_a4 z_a5
def lX65_run : List Nat := [91, 92, 114, 115, 116, 119, 120]
theorem wX65_run_23 (S Z : Nat → Prop) {hx N : Nat} (hS : ∀ x, fe_mem lX65_run x = true → S x) (n : Nat) (M : FM) (w : WI Z hx N M) : pq (FX65_run_23 n M) (QV S Z hx N M) := by
  have hN := w.2.2.1
  have w0 := wk_r (S := S) w
  delta FX65_run_23 BX65_run_23
  exact pq_s w0
theorem wX65_run_0 (S Z : Nat → Prop) {hx N : Nat} (hS : ∀ x, fe_mem lX65_run x = true → S x) (n : Nat) (a0 : Nat) (a1 : Nat) (a2 : Nat) (a3 : Nat) (a4 : Nat) (a5 : Nat) (M : FM) (w : WI Z hx N M) (z_a0 : Z a0) (z_a1 : Z a1) (z_a2 : Z a2) (z_a3 : Z a3) (z_a4 : Z a4) (z_a5 : Z a5) : pq (FX65_run_0 n a0 a1 a2 a3 a4 a5 M) (QV S Z hx N M) := by
  have hN := w.2.2.1
  have w0 := wk_r (S := S) w
  delta FX65_run_0 BX65_run_0
  refine pq_b (wX65_isNone S Z (sb rfl hS) _ _ _ _ _ w0.1 z_a1 z_a2 z_a4 z_a5) (fun r1 K2 => ?_)
  have w3 := wk_t w0 K2 hN
  refine pq_fi (fun _ => ?_) (fun _ => ?_)
  · refine pq_fi (fun _ => ?_) (fun _ => ?_)
    · refine pq_b (wX67_work S Z (sb rfl hS) _ _ _ _ _ _ _ w3.1 z_a0 z_a1 z_a2 z_a3 z_a4 z_a5) (fun r4 K5 => ?_)
      have w6 := wk_t w3 K5 hN
      exact q_tV hN w6 (wX65_run_23 S Z hS n _ w6.1 )
    · refine pq_fi (fun _ => ?_) (fun _ => ?_)
      · refine pq_b (wX68_work S Z (sb rfl hS) n _ _ _ _ _ _ _ w3.1 z_a0 z_a1 z_a2 z_a3 z_a4 z_a5) (fun r7 K8 => ?_)
        have w9 := wk_t w3 K8 hN
        exact q_tV hN w9 (wX65_run_23 S Z hS n _ w9.1 )
      · refine pq_fi (fun _ => ?_) (fun _ => ?_)
        · refine pq_b (wX69_work S Z (sb rfl hS) n _ _ _ _ _ _ _ w3.1 z_a0 z_a1 z_a2 z_a3 z_a4 z_a5) (fun r10 K11 => ?_)
          have w12 := wk_t w3 K11 hN
          exact q_tV hN w12 (wX65_run_23 S Z hS n _ w12.1 )
        · refine pq_fi (fun _ => ?_) (fun _ => ?_)
          · refine pq_b (wX70_work S Z (sb rfl hS) _ _ _ _ _ _ _ w3.1 z_a0 z_a1 z_a2 z_a3 z_a4 z_a5) (fun r13 K14 => ?_)
            have w15 := wk_t w3 K14 hN
            exact q_tV hN w15 (wX65_run_23 S Z hS n _ w15.1 )
          · refine pq_fi (fun _ => ?_) (fun _ => ?_)
            · refine pq_b (wX66_work S Z (sb rfl hS) n _ _ _ _ _ _ _ w3.1 z_a0 z_a1 z_a2 z_a3 z_a4 z_a5) (fun r16 K17 => ?_)
              have w18 := wk_t w3 K17 hN
              exact q_tV hN w18 (wX65_run_23 S Z hS n _ w18.1 )
            · exact pq_0
  · exact q_tV hN w3 (wX65_run_23 S Z hS n _ w3.1 )
theorem wX65_run (S Z : Nat → Prop) {hx N : Nat} (hS : ∀ x, fe_mem lX65_run x = true → S x) (n : Nat) (a0 : Nat) (a1 : Nat) (a2 : Nat) (a3 : Nat) (a4 : Nat) (a5 : Nat) (M : FM) (w : WI Z hx N M) (z_a0 : Z a0) (z_a1 : Z a1) (z_a2 : Z a2) (z_a3 : Z a3) (z_a4 : Z a4) (z_a5 : Z a5) : pq (FX65_run n a0 a1 a2 a3 a4 a5 M) (QV S Z hx N M) := wX65_run_0 S Z hS n a0 a1 a2 a3 a4 a5 M w z_a0 z_a1 z_a2 z_a3 z_a4 z_a5
def lX61_infinite : List Nat := []
theorem wX61_infinite_0 (S Z : Nat → Prop) {hx N : Nat} (hS : ∀ x, fe_mem lX61_infinite x = true → S x) (a0 : Nat) (a1 : Int32) (M : FM) (w : WI Z hx N M) (z_a0 : Z a0) : pq (FX61_infinite_0 a0 a1 M) (QA S Z hx N M) := by
  have hN := w.2.2.1
  have w0 := wk_r (S := S) w
  delta FX61_infinite_0 BX61_infinite_0
  refine pq_g (fun g1 => ?_)
  refine pq_b (wX61_sign S Z (sb rfl hS) _ _ _ w0.1 z_a0) (fun r2 K3 => ?_)
  have w4 := wk_t w0 K3 hN
  refine pq_g (fun g5 => ?_)
  refine pq_b (wX61_top S Z (sb rfl hS) _ _ w4.1 z_a0) (fun r6 K7 => ?_)
  have w8 := wk_t w4 K7 hN
  exact pq_s w8
theorem wX61_infinite (S Z : Nat → Prop) {hx N : Nat} (hS : ∀ x, fe_mem lX61_infinite x = true → S x) (a0 : Nat) (a1 : Int32) (M : FM) (w : WI Z hx N M) (z_a0 : Z a0) : pq (FX61_infinite a0 a1 M) (QA S Z hx N M) := wX61_infinite_0 S Z hS a0 a1 M w z_a0
def lJ5_max : List Nat := []
theorem wJ5_max_10 (S Z : Nat → Prop) {hx N : Nat} (hS : ∀ x, fe_mem lJ5_max x = true → S x) (s0 : Int32) (M : FM) (w : WI Z hx N M) : pq (FJ5_max_10 s0 M) (QA S Z hx N M) := by
  have hN := w.2.2.1
  have w0 := wk_r (S := S) w
  delta FJ5_max_10 BJ5_max_10
  exact pq_s w0
theorem wJ5_max_0 (S Z : Nat → Prop) {hx N : Nat} (hS : ∀ x, fe_mem lJ5_max x = true → S x) (a0 : Int32) (a1 : Int32) (M : FM) (w : WI Z hx N M) : pq (FJ5_max_0 a0 a1 M) (QA S Z hx N M) := by
  have hN := w.2.2.1
  have w0 := wk_r (S := S) w
  delta FJ5_max_0 BJ5_max_0
  refine pq_fi (fun _ => ?_) (fun _ => ?_)
  · exact q_tA hN w0 (wJ5_max_10 S Z hS _ _ w0.1 )
  · exact q_tA hN w0 (wJ5_max_10 S Z hS _ _ w0.1 )
theorem wJ5_max (S Z : Nat → Prop) {hx N : Nat} (hS : ∀ x, fe_mem lJ5_max x = true → S x) (a0 : Int32) (a1 : Int32) (M : FM) (w : WI Z hx N M) : pq (FJ5_max a0 a1 M) (QA S Z hx N M) := wJ5_max_0 S Z hS a0 a1 M w 
def lX62_cut : List Nat := [119, 120]
theorem wX62_cut_33 (S Z : Nat → Prop) {hx N : Nat} (hS : ∀ x, fe_mem lX62_cut x = true → S x) (a0 : Nat) (M : FM) (w : WI Z hx N M) (z_a0 : Z a0) : pq (FX62_cut_33 a0 M) (QA S Z hx N M) := by
  have hN := w.2.2.1
  have w0 := wk_r (S := S) w
  delta FX62_cut_33 BX62_cut_33
  refine pq_g (fun g1 => ?_)
  refine pq_g (fun g2 => ?_)
  refine pq_b (wX62_right S Z (sb rfl hS) _ _ _ w0.1 z_a0) (fun r3 K4 => ?_)
  have w5 := wk_t w0 K4 hN
  exact pq_s w5
theorem wX62_cut_0 (S Z : Nat → Prop) {hx N : Nat} (hS : ∀ x, fe_mem lX62_cut x = true → S x) (a0 : Nat) (a1 : Int32) (M : FM) (w : WI Z hx N M) (z_a0 : Z a0) : pq (FX62_cut_0 a0 a1 M) (QA S Z hx N M) := by
  have hN := w.2.2.1
  have w0 := wk_r (S := S) w
  delta FX62_cut_0 BX62_cut_0
  refine pq_fi (fun _ => ?_) (fun _ => ?_)
  · refine pq_fi (fun _ => ?_) (fun _ => ?_)
    · refine pq_g (fun g1 => ?_)
      refine pq_b (wX62_left S Z (sb rfl hS) _ _ _ w0.1 z_a0) (fun r2 K3 => ?_)
      have w4 := wk_t w0 K3 hN
      exact q_tA hN w4 (wX62_cut_33 S Z hS _ _ w4.1 z_a0)
    · refine pq_g (fun g5 => ?_)
      refine pq_b (wX62_jam S Z (sb rfl hS) _ _ _ w0.1 z_a0) (fun r6 K7 => ?_)
      have w8 := wk_t w0 K7 hN
      exact q_tA hN w8 (wX62_cut_33 S Z hS _ _ w8.1 z_a0)
  · refine pq_g (fun g9 => ?_)
    refine pq_b (wX62_left S Z (sb rfl hS) _ _ _ w0.1 z_a0) (fun r10 K11 => ?_)
    have w12 := wk_t w0 K11 hN
    exact pq_s w12
theorem wX62_cut (S Z : Nat → Prop) {hx N : Nat} (hS : ∀ x, fe_mem lX62_cut x = true → S x) (a0 : Nat) (a1 : Int32) (M : FM) (w : WI Z hx N M) (z_a0 : Z a0) : pq (FX62_cut a0 a1 M) (QA S Z hx N M) := wX62_cut_0 S Z hS a0 a1 M w z_a0
def lX62_isOdd : List Nat := []
theorem wX62_isOdd_16 (S Z : Nat → Prop) {hx N : Nat} (hS : ∀ x, fe_mem lX62_isOdd x = true → S x) (s0 : Int32) (M : FM) (w : WI Z hx N M) : pq (FX62_isOdd_16 s0 M) (QA S Z hx N M) := by
  have hN := w.2.2.1
  have w0 := wk_r (S := S) w
  delta FX62_isOdd_16 BX62_isOdd_16
  refine pq_g (fun _ => ?_)
  exact pq_s w0
theorem wX62_isOdd_0 (S Z : Nat → Prop) {hx N : Nat} (hS : ∀ x, fe_mem lX62_isOdd x = true → S x) (a0 : Nat) (M : FM) (w : WI Z hx N M) (z_a0 : Z a0) : pq (FX62_isOdd_0 a0 M) (QA S Z hx N M) := by
  have hN := w.2.2.1
  have w0 := wk_r (S := S) w
  delta FX62_isOdd_0 BX62_isOdd_0
  refine pq_g (fun g1 => ?_)
  refine pq_fi (fun _ => ?_) (fun _ => ?_)
  · exact q_tA hN w0 (wX62_isOdd_16 S Z hS _ _ w0.1 )
  · exact q_tA hN w0 (wX62_isOdd_16 S Z hS _ _ w0.1 )
theorem wX62_isOdd (S Z : Nat → Prop) {hx N : Nat} (hS : ∀ x, fe_mem lX62_isOdd x = true → S x) (a0 : Nat) (M : FM) (w : WI Z hx N M) (z_a0 : Z a0) : pq (FX62_isOdd a0 M) (QA S Z hx N M) := wX62_isOdd_0 S Z hS a0 M w z_a0
def lX63_grows : List Nat := []
theorem wX63_grows_99 (S Z : Nat → Prop) {hx N : Nat} (hS : ∀ x, fe_mem lX63_grows x = true → S x) (M : FM) (w : WI Z hx N M) : pq (FX63_grows_99 M) (QA S Z hx N M) := by
  have hN := w.2.2.1
  have w0 := wk_r (S := S) w
  delta FX63_grows_99 BX63_grows_99
  refine pq_g (fun _ => ?_)
  exact pq_s w0
theorem wX63_grows_98 (S Z : Nat → Prop) {hx N : Nat} (hS : ∀ x, fe_mem lX63_grows x = true → S x) (s0 : Int32) (M : FM) (w : WI Z hx N M) : pq (FX63_grows_98 s0 M) (QA S Z hx N M) := by
  have hN := w.2.2.1
  have w0 := wk_r (S := S) w
  delta FX63_grows_98 BX63_grows_98
  refine pq_g (fun _ => ?_)
  exact pq_s w0
theorem wX63_grows_87 (S Z : Nat → Prop) {hx N : Nat} (hS : ∀ x, fe_mem lX63_grows x = true → S x) (s0 : Int32) (M : FM) (w : WI Z hx N M) : pq (FX63_grows_87 s0 M) (QA S Z hx N M) := by
  have hN := w.2.2.1
  have w0 := wk_r (S := S) w
  delta FX63_grows_87 BX63_grows_87
  refine pq_g (fun _ => ?_)
  exact pq_s w0
theorem wX63_grows_86 (S Z : Nat → Prop) {hx N : Nat} (hS : ∀ x, fe_mem lX63_grows x = true → S x) (M : FM) (w : WI Z hx N M) : pq (FX63_grows_86 M) (QA S Z hx N M) := by
  have hN := w.2.2.1
  have w0 := wk_r (S := S) w
  delta FX63_grows_86 BX63_grows_86
  exact q_tA hN w0 (wX63_grows_87 S Z hS _ _ w0.1 )
theorem wX63_grows_73 (S Z : Nat → Prop) {hx N : Nat} (hS : ∀ x, fe_mem lX63_grows x = true → S x) (s0 : Int32) (M : FM) (w : WI Z hx N M) : pq (FX63_grows_73 s0 M) (QA S Z hx N M) := by
  have hN := w.2.2.1
  have w0 := wk_r (S := S) w
  delta FX63_grows_73 BX63_grows_73
  refine pq_g (fun _ => ?_)
  exact pq_s w0
theorem wX63_grows_72 (S Z : Nat → Prop) {hx N : Nat} (hS : ∀ x, fe_mem lX63_grows x = true → S x) (M : FM) (w : WI Z hx N M) : pq (FX63_grows_72 M) (QA S Z hx N M) := by
  have hN := w.2.2.1
  have w0 := wk_r (S := S) w
  delta FX63_grows_72 BX63_grows_72
  exact q_tA hN w0 (wX63_grows_73 S Z hS _ _ w0.1 )
theorem wX63_grows_59 (S Z : Nat → Prop) {hx N : Nat} (hS : ∀ x, fe_mem lX63_grows x = true → S x) (s0 : Int32) (M : FM) (w : WI Z hx N M) : pq (FX63_grows_59 s0 M) (QA S Z hx N M) := by
  have hN := w.2.2.1
  have w0 := wk_r (S := S) w
  delta FX63_grows_59 BX63_grows_59
  refine pq_g (fun _ => ?_)
  exact pq_s w0
theorem wX63_grows_58 (S Z : Nat → Prop) {hx N : Nat} (hS : ∀ x, fe_mem lX63_grows x = true → S x) (M : FM) (w : WI Z hx N M) : pq (FX63_grows_58 M) (QA S Z hx N M) := by
  have hN := w.2.2.1
  have w0 := wk_r (S := S) w
  delta FX63_grows_58 BX63_grows_58
  exact q_tA hN w0 (wX63_grows_59 S Z hS _ _ w0.1 )
theorem wX63_grows_54 (S Z : Nat → Prop) {hx N : Nat} (hS : ∀ x, fe_mem lX63_grows x = true → S x) (M : FM) (w : WI Z hx N M) : pq (FX63_grows_54 M) (QA S Z hx N M) := by
  have hN := w.2.2.1
  have w0 := wk_r (S := S) w
  delta FX63_grows_54 BX63_grows_54
  exact q_tA hN w0 (wX63_grows_59 S Z hS _ _ w0.1 )
theorem wX63_grows_0 (S Z : Nat → Prop) {hx N : Nat} (hS : ∀ x, fe_mem lX63_grows x = true → S x) (a0 : Nat) (a1 : Int32) (a2 : Int32) (a3 : Int32) (M : FM) (w : WI Z hx N M) (z_a0 : Z a0) : pq (FX63_grows_0 a0 a1 a2 a3 M) (QA S Z hx N M) := by
  have hN := w.2.2.1
  have w0 := wk_r (S := S) w
  delta FX63_grows_0 BX63_grows_0
  refine pq_g (fun g1 => ?_)
  refine pq_b (wJ0_ordinal S Z (sb rfl hS) _ _ w0.1 z_a0) (fun r2 K3 => ?_)
  have w4 := wk_t w0 K3 hN
  refine pq_fi (fun _ => ?_) (fun _ => ?_)
  · refine pq_fi (fun _ => ?_) (fun _ => ?_)
    · exact q_tA hN w4 (wX63_grows_54 S Z hS _ w4.1 )
    · refine pq_fi (fun _ => ?_) (fun _ => ?_)
      · refine pq_fi (fun _ => ?_) (fun _ => ?_)
        · exact q_tA hN w4 (wX63_grows_58 S Z hS _ w4.1 )
        · exact q_tA hN w4 (wX63_grows_54 S Z hS _ w4.1 )
      · exact q_tA hN w4 (wX63_grows_58 S Z hS _ w4.1 )
  · refine pq_fi (fun _ => ?_) (fun _ => ?_)
    · exact q_tA hN w4 (wX63_grows_99 S Z hS _ w4.1 )
    · refine pq_fi (fun _ => ?_) (fun _ => ?_)
      · refine pq_fi (fun _ => ?_) (fun _ => ?_)
        · exact q_tA hN w4 (wX63_grows_72 S Z hS _ w4.1 )
        · refine pq_fi (fun _ => ?_) (fun _ => ?_)
          · exact q_tA hN w4 (wX63_grows_72 S Z hS _ w4.1 )
          · exact q_tA hN w4 (wX63_grows_73 S Z hS _ _ w4.1 )
      · refine pq_fi (fun _ => ?_) (fun _ => ?_)
        · refine pq_fi (fun _ => ?_) (fun _ => ?_)
          · refine pq_fi (fun _ => ?_) (fun _ => ?_)
            · exact q_tA hN w4 (wX63_grows_86 S Z hS _ w4.1 )
            · exact q_tA hN w4 (wX63_grows_87 S Z hS _ _ w4.1 )
          · exact q_tA hN w4 (wX63_grows_86 S Z hS _ w4.1 )
        · refine pq_fi (fun _ => ?_) (fun _ => ?_)
          · refine pq_fi (fun _ => ?_) (fun _ => ?_)
            · exact q_tA hN w4 (wX63_grows_98 S Z hS _ _ w4.1 )
            · exact q_tA hN w4 (wX63_grows_98 S Z hS _ _ w4.1 )
          · exact q_tA hN w4 (wX63_grows_99 S Z hS _ w4.1 )
theorem wX63_grows (S Z : Nat → Prop) {hx N : Nat} (hS : ∀ x, fe_mem lX63_grows x = true → S x) (a0 : Nat) (a1 : Int32) (a2 : Int32) (a3 : Int32) (M : FM) (w : WI Z hx N M) (z_a0 : Z a0) : pq (FX63_grows a0 a1 a2 a3 M) (QA S Z hx N M) := wX63_grows_0 S Z hS a0 a1 a2 a3 M w z_a0
def lX62_grow : List Nat := [119, 120]
theorem wX62_grow_29 (S Z : Nat → Prop) {hx N : Nat} (hS : ∀ x, fe_mem lX62_grow x = true → S x) (s0 : Nat) (s1 : Int64) (s2 : Int64) (M : FM) (w : WI Z hx N M) (z_s0 : Z s0) : pq (FX62_grow_29 s0 s1 s2 M) (QV S Z hx N M) := by
  have hN := w.2.2.1
  have w0 := wk_r (S := S) w
  delta FX62_grow_29 BX62_grow_29
  refine pq_g (fun g1 => ?_)
  extract_lets +onlyGivenNames M3
  have w2 : Wk S Z hx N M M3 := wk_fL hN w0 rfl rfl g1 z_s0 (Or.inr (hS 119 rfl))
  exact pq_s w2
theorem wX62_grow_0 (S Z : Nat → Prop) {hx N : Nat} (hS : ∀ x, fe_mem lX62_grow x = true → S x) (a0 : Nat) (M : FM) (w : WI Z hx N M) (z_a0 : Z a0) : pq (FX62_grow_0 a0 M) (QV S Z hx N M) := by
  have hN := w.2.2.1
  have w0 := wk_r (S := S) w
  delta FX62_grow_0 BX62_grow_0
  refine pq_g (fun g1 => ?_)
  refine pq_g (fun g2 => ?_)
  extract_lets +onlyGivenNames M4
  have w3 : Wk S Z hx N M M4 := wk_fL hN w0 rfl rfl g2 z_a0 (Or.inr (hS 120 rfl))
  refine pq_g (fun g5 => ?_)
  refine pq_g (fun g6 => ?_)
  refine pq_fi (fun _ => ?_) (fun _ => ?_)
  · exact q_tV hN w3 (wX62_grow_29 S Z hS _ _ _ _ w3.1 z_a0)
  · exact q_tV hN w3 (wX62_grow_29 S Z hS _ _ _ _ w3.1 z_a0)
theorem wX62_grow (S Z : Nat → Prop) {hx N : Nat} (hS : ∀ x, fe_mem lX62_grow x = true → S x) (a0 : Nat) (M : FM) (w : WI Z hx N M) (z_a0 : Z a0) : pq (FX62_grow a0 M) (QV S Z hx N M) := wX62_grow_0 S Z hS a0 M w z_a0
def lX61_reaches : List Nat := [119, 120]
theorem wX61_reaches_90 (S Z : Nat → Prop) {hx N : Nat} (hS : ∀ x, fe_mem lX61_reaches x = true → S x) (n : Nat) (s0 : Int32) (M : FM) (w : WI Z hx N M) : pq (FX61_reaches_90 n s0 M) (QA S Z hx N M) := by
  have hN := w.2.2.1
  have w0 := wk_r (S := S) w
  delta FX61_reaches_90 BX61_reaches_90
  refine pq_g (fun _ => ?_)
  exact pq_s w0
theorem wX61_reaches_69 (S Z : Nat → Prop) {hx N : Nat} (hS : ∀ x, fe_mem lX61_reaches x = true → S x) (n : Nat) (a0 : Nat) (M : FM) (w : WI Z hx N M) (z_a0 : Z a0) : pq (FX61_reaches_69 n a0 M) (QA S Z hx N M) := by
  have hN := w.2.2.1
  have w0 := wk_r (S := S) w
  delta FX61_reaches_69 BX61_reaches_69
  refine pq_g (fun g1 => ?_)
  have z2 := wk_z (i := 0) (f := 112) w0 rfl z_a0
  refine pq_g (fun g3 => ?_)
  refine pq_b (wX62_length S Z (sb rfl hS) n _ _ w0.1 z2) (fun r4 K5 => ?_)
  have w6 := wk_t w0 K5 hN
  refine pq_g (fun g7 => ?_)
  refine pq_fi (fun _ => ?_) (fun _ => ?_)
  · exact q_tA hN w6 (wX61_reaches_90 S Z hS n _ _ w6.1 )
  · exact q_tA hN w6 (wX61_reaches_90 S Z hS n _ _ w6.1 )
theorem wX61_reaches_0 (S Z : Nat → Prop) {hx N : Nat} (hS : ∀ x, fe_mem lX61_reaches x = true → S x) (n : Nat) (a0 : Nat) (a1 : Nat) (a2 : Nat) (a3 : Int32) (M : FM) (w : WI Z hx N M) (z_a0 : Z a0) (z_a1 : Z a1) (z_a2 : Z a2) : pq (FX61_reaches_0 n a0 a1 a2 a3 M) (QA S Z hx N M) := by
  have hN := w.2.2.1
  have w0 := wk_r (S := S) w
  delta FX61_reaches_0 BX61_reaches_0
  refine pq_g (fun g1 => ?_)
  refine pq_fi (fun _ => ?_) (fun _ => ?_)
  · refine pq_g (fun g2 => ?_)
    have z3 := wk_z (i := 0) (f := 112) w0 rfl z_a0
    refine pq_g (fun g4 => ?_)
    have z5 := wk_z (i := 0) (f := 117) w0 rfl z_a1
    refine pq_g (fun g6 => ?_)
    refine pq_b (wX62_copy S Z (sb rfl hS) _ _ _ w0.1 z3 z5) (fun r7 K8 => ?_)
    have w9 := wk_t w0 K8 hN
    refine pq_g (fun g10 => ?_)
    have z11 := wk_z (i := 0) (f := 112) w9 rfl z_a0
    refine pq_g (fun g12 => ?_)
    refine pq_g (fun g13 => ?_)
    refine pq_g (fun g14 => ?_)
    refine pq_b (wX62_cut S Z (sb rfl hS) _ _ _ w9.1 z11) (fun r15 K16 => ?_)
    have w17 := wk_t w9 K16 hN
    refine pq_g (fun g18 => ?_)
    refine pq_g (fun g19 => ?_)
    have z20 := wk_z (i := 0) (f := 112) w17 rfl z_a0
    refine pq_g (fun g21 => ?_)
    refine pq_b (wX62_isOdd S Z (sb rfl hS) _ _ w17.1 z20) (fun r22 K23 => ?_)
    have w24 := wk_t w17 K23 hN
    refine pq_g (fun g25 => ?_)
    refine pq_b (wX63_grows S Z (sb rfl hS) _ _ _ _ _ w24.1 z_a2) (fun r26 K27 => ?_)
    have w28 := wk_t w24 K27 hN
    refine pq_fi (fun _ => ?_) (fun _ => ?_)
    · exact q_tA hN w28 (wX61_reaches_69 S Z hS n _ _ w28.1 z_a0)
    · refine pq_g (fun g29 => ?_)
      have z30 := wk_z (i := 0) (f := 112) w28 rfl z_a0
      refine pq_g (fun g31 => ?_)
      refine pq_b (wX62_grow S Z (sb rfl hS) _ _ w28.1 z30) (fun r32 K33 => ?_)
      have w34 := wk_t w28 K33 hN
      exact q_tA hN w34 (wX61_reaches_69 S Z hS n _ _ w34.1 z_a0)
  · refine pq_g (fun _ => ?_)
    exact pq_s w0
theorem wX61_reaches (S Z : Nat → Prop) {hx N : Nat} (hS : ∀ x, fe_mem lX61_reaches x = true → S x) (n : Nat) (a0 : Nat) (a1 : Nat) (a2 : Nat) (a3 : Int32) (M : FM) (w : WI Z hx N M) (z_a0 : Z a0) (z_a1 : Z a1) (z_a2 : Z a2) : pq (FX61_reaches n a0 a1 a2 a3 M) (QA S Z hx N M) := wX61_reaches_0 S Z hS n a0 a1 a2 a3 M w z_a0 z_a1 z_a2
def lX63_leaps : List Nat := []
theorem wX63_leaps_36 (S Z : Nat → Prop) {hx N : Nat} (hS : ∀ x, fe_mem lX63_leaps x = true → S x) (s0 : Int32) (M : FM) (w : WI Z hx N M) : pq (FX63_leaps_36 s0 M) (QA S Z hx N M) := by
  have hN := w.2.2.1
  have w0 := wk_r (S := S) w
  delta FX63_leaps_36 BX63_leaps_36
  refine pq_g (fun _ => ?_)
  exact pq_s w0
theorem wX63_leaps_31 (S Z : Nat → Prop) {hx N : Nat} (hS : ∀ x, fe_mem lX63_leaps x = true → S x) (M : FM) (w : WI Z hx N M) : pq (FX63_leaps_31 M) (QA S Z hx N M) := by
  have hN := w.2.2.1
  have w0 := wk_r (S := S) w
  delta FX63_leaps_31 BX63_leaps_31
  exact q_tA hN w0 (wX63_leaps_36 S Z hS _ _ w0.1 )
theorem wX63_leaps_28 (S Z : Nat → Prop) {hx N : Nat} (hS : ∀ x, fe_mem lX63_leaps x = true → S x) (s0 : Nat) (s1 : Nat) (M : FM) (w : WI Z hx N M) (z_s0 : Z s0) (z_s1 : Z s1) : pq (FX63_leaps_28 s0 s1 M) (QA S Z hx N M) := by
  have hN := w.2.2.1
  have w0 := wk_r (S := S) w
  delta FX63_leaps_28 BX63_leaps_28
  refine pq_g (fun _ => ?_)
  refine pq_fi (fun _ => ?_) (fun _ => ?_)
  · exact q_tA hN w0 (wX63_leaps_31 S Z hS _ w0.1 )
  · exact q_tA hN w0 (wX63_leaps_36 S Z hS _ _ w0.1 )
theorem wX63_leaps_0 (S Z : Nat → Prop) {hx N : Nat} (hS : ∀ x, fe_mem lX63_leaps x = true → S x) (a0 : Nat) (a1 : Int32) (M : FM) (w : WI Z hx N M) (z_a0 : Z a0) : pq (FX63_leaps_0 a0 a1 M) (QA S Z hx N M) := by
  have hN := w.2.2.1
  have w0 := wk_r (S := S) w
  delta FX63_leaps_0 BX63_leaps_0
  refine pq_g (fun _ => ?_)
  refine pq_fi (fun _ => ?_) (fun _ => ?_)
  · exact q_tA hN w0 (wX63_leaps_31 S Z hS _ w0.1 )
  · refine pq_g (fun _ => ?_)
    refine pq_fi (fun _ => ?_) (fun _ => ?_)
    · exact q_tA hN w0 (wX63_leaps_31 S Z hS _ w0.1 )
    · refine pq_fi (fun _ => ?_) (fun _ => ?_)
      · exact q_tA hN w0 (wX63_leaps_28 S Z hS _ _ _ w0.1 z_a0 (wk_zc w0 rfl))
      · exact q_tA hN w0 (wX63_leaps_28 S Z hS _ _ _ w0.1 z_a0 (wk_zc w0 rfl))
theorem wX63_leaps (S Z : Nat → Prop) {hx N : Nat} (hS : ∀ x, fe_mem lX63_leaps x = true → S x) (a0 : Nat) (a1 : Int32) (M : FM) (w : WI Z hx N M) (z_a0 : Z a0) : pq (FX63_leaps a0 a1 M) (QA S Z hx N M) := wX63_leaps_0 S Z hS a0 a1 M w z_a0
def lX61_round : List Nat := [91, 92, 119, 120]
theorem wX61_round_252 (S Z : Nat → Prop) {hx N : Nat} (hS : ∀ x, fe_mem lX61_round x = true → S x) (n : Nat) (a0 : Nat) (a1 : Nat) (a8 : Int64) (s0 : Int64) (M : FM) (w : WI Z hx N M) (z_a0 : Z a0) (z_a1 : Z a1) : pq (FX61_round_252 n a0 a1 a8 s0 M) (QA S Z hx N M) := by
  have hN := w.2.2.1
  have w0 := wk_r (S := S) w
  delta FX61_round_252 BX61_round_252
  refine pq_g (fun g1 => ?_)
  refine pq_g (fun g2 => ?_)
  refine pq_b (wX61_sign S Z (sb rfl hS) _ _ _ w0.1 z_a0) (fun r3 K4 => ?_)
  have w5 := wk_t w0 K4 hN
  refine pq_g (fun g6 => ?_)
  refine pq_g (fun g7 => ?_)
  exact pq_s w5
theorem wX61_round_211 (S Z : Nat → Prop) {hx N : Nat} (hS : ∀ x, fe_mem lX61_round x = true → S x) (n : Nat) (a0 : Nat) (a1 : Nat) (a5 : Int32) (s0 : Nat) (s1 : Int32) (M : FM) (w : WI Z hx N M) (z_a0 : Z a0) (z_a1 : Z a1) (z_s0 : Z s0) : pq (FX61_round_211 n a0 a1 a5 s0 s1 M) (QA S Z hx N M) := by
  have hN := w.2.2.1
  have w0 := wk_r (S := S) w
  delta FX61_round_211 BX61_round_211
  refine pq_g (fun g1 => ?_)
  refine pq_b (wX60_raise S Z (sb rfl hS) _ _ _ w0.1 z_s0) (fun r2 K3 => ?_)
  have w4 := wk_t w0 K3 hN
  refine pq_g (fun g5 => ?_)
  have z6 := wk_z (i := 0) (f := 117) w4 rfl z_a1
  refine pq_g (fun g7 => ?_)
  refine pq_g (fun g8 => ?_)
  refine pq_fi (fun _ => ?_) (fun _ => ?_)
  · exact q_tA hN w4 (wX61_round_252 S Z hS n _ _ _ _ _ w4.1 z_a0 z_a1)
  · refine pq_g (fun g9 => ?_)
    refine pq_g (fun g10 => ?_)
    exact q_tA hN w4 (wX61_round_252 S Z hS n _ _ _ _ _ w4.1 z_a0 z_a1)
theorem wX61_round_190 (S Z : Nat → Prop) {hx N : Nat} (hS : ∀ x, fe_mem lX61_round x = true → S x) (n : Nat) (s0 : Int64) (M : FM) (w : WI Z hx N M) : pq (FX61_round_190 n s0 M) (QA S Z hx N M) := by
  have hN := w.2.2.1
  have w0 := wk_r (S := S) w
  delta FX61_round_190 BX61_round_190
  exact pq_s w0
theorem wX61_round_134 (S Z : Nat → Prop) {hx N : Nat} (hS : ∀ x, fe_mem lX61_round x = true → S x) (n : Nat) (a0 : Nat) (a1 : Nat) (a2 : Nat) (a3 : Nat) (a5 : Int32) (a6 : Int32) (a7 : Int32) (M : FM) (w : WI Z hx N M) (z_a0 : Z a0) (z_a1 : Z a1) (z_a2 : Z a2) (z_a3 : Z a3) : pq (FX61_round_134 n a0 a1 a2 a3 a5 a6 a7 M) (QA S Z hx N M) := by
  have hN := w.2.2.1
  have w0 := wk_r (S := S) w
  delta FX61_round_134 BX61_round_134
  refine pq_g (fun g1 => ?_)
  refine pq_g (fun g2 => ?_)
  refine pq_fi (fun _ => ?_) (fun _ => ?_)
  · refine pq_fi (fun _ => ?_) (fun _ => ?_)
    · exact q_tA hN w0 (wX61_round_211 S Z hS n _ _ _ _ _ _ w0.1 z_a0 z_a1 z_a3)
    · refine pq_fi (fun _ => ?_) (fun _ => ?_)
      · exact q_tA hN w0 (wX61_round_211 S Z hS n _ _ _ _ _ _ w0.1 z_a0 z_a1 z_a3)
      · exact q_tA hN w0 (wX61_round_211 S Z hS n _ _ _ _ _ _ w0.1 z_a0 z_a1 z_a3)
  · refine pq_g (fun g3 => ?_)
    refine pq_b (wX60_raise S Z (sb rfl hS) _ _ _ w0.1 z_a3) (fun r4 K5 => ?_)
    have w6 := wk_t w0 K5 hN
    refine pq_g (fun g7 => ?_)
    refine pq_g (fun g8 => ?_)
    refine pq_b (wX63_leaps S Z (sb rfl hS) _ _ _ w6.1 z_a2) (fun r9 K10 => ?_)
    have w11 := wk_t w6 K10 hN
    refine pq_fi (fun _ => ?_) (fun _ => ?_)
    · refine pq_g (fun g12 => ?_)
      refine pq_g (fun g13 => ?_)
      refine pq_b (wX61_sign S Z (sb rfl hS) _ _ _ w11.1 z_a0) (fun r14 K15 => ?_)
      have w16 := wk_t w11 K15 hN
      refine pq_g (fun g17 => ?_)
      refine pq_b (wX61_top S Z (sb rfl hS) _ _ w16.1 z_a0) (fun r18 K19 => ?_)
      have w20 := wk_t w16 K19 hN
      exact q_tA hN w20 (wX61_round_190 S Z hS n _ _ w20.1 )
    · refine pq_g (fun g21 => ?_)
      refine pq_g (fun g22 => ?_)
      refine pq_b (wX61_infinite S Z (sb rfl hS) _ _ _ w11.1 z_a0) (fun r23 K24 => ?_)
      have w25 := wk_t w11 K24 hN
      exact q_tA hN w25 (wX61_round_190 S Z hS n _ _ w25.1 )
theorem wX61_round_106 (S Z : Nat → Prop) {hx N : Nat} (hS : ∀ x, fe_mem lX61_round x = true → S x) (n : Nat) (a0 : Nat) (a1 : Nat) (a2 : Nat) (a3 : Nat) (a5 : Int32) (a6 : Int32) (a7 : Int32) (M : FM) (w : WI Z hx N M) (z_a0 : Z a0) (z_a1 : Z a1) (z_a2 : Z a2) (z_a3 : Z a3) : pq (FX61_round_106 n a0 a1 a2 a3 a5 a6 a7 M) (QA S Z hx N M) := by
  have hN := w.2.2.1
  have w0 := wk_r (S := S) w
  delta FX61_round_106 BX61_round_106
  refine pq_g (fun g1 => ?_)
  have z2 := wk_z (i := 0) (f := 117) w0 rfl z_a1
  refine pq_g (fun g3 => ?_)
  refine pq_b (wX62_length S Z (sb rfl hS) n _ _ w0.1 z2) (fun r4 K5 => ?_)
  have w6 := wk_t w0 K5 hN
  refine pq_g (fun g7 => ?_)
  refine pq_fi (fun _ => ?_) (fun _ => ?_)
  · exact q_tA hN w6 (wX61_round_134 S Z hS n _ _ _ _ _ _ _ _ w6.1 z_a0 z_a1 z_a2 z_a3)
  · refine pq_g (fun g8 => ?_)
    have z9 := wk_z (i := 0) (f := 117) w6 rfl z_a1
    refine pq_g (fun g10 => ?_)
    refine pq_b (wX62_cut S Z (sb rfl hS) _ _ _ w6.1 z9) (fun r11 K12 => ?_)
    have w13 := wk_t w6 K12 hN
    exact q_tA hN w13 (wX61_round_134 S Z hS n _ _ _ _ _ _ _ _ w13.1 z_a0 z_a1 z_a2 z_a3)
theorem wX61_round_61 (S Z : Nat → Prop) {hx N : Nat} (hS : ∀ x, fe_mem lX61_round x = true → S x) (n : Nat) (a0 : Nat) (a1 : Nat) (a2 : Nat) (a3 : Nat) (a5 : Int32) (s0 : Int32) (M : FM) (w : WI Z hx N M) (z_a0 : Z a0) (z_a1 : Z a1) (z_a2 : Z a2) (z_a3 : Z a3) : pq (FX61_round_61 n a0 a1 a2 a3 a5 s0 M) (QA S Z hx N M) := by
  have hN := w.2.2.1
  have w0 := wk_r (S := S) w
  delta FX61_round_61 BX61_round_61
  refine pq_g (fun g1 => ?_)
  have z2 := wk_z (i := 0) (f := 117) w0 rfl z_a1
  refine pq_g (fun g3 => ?_)
  refine pq_g (fun g4 => ?_)
  refine pq_b (wX62_cut S Z (sb rfl hS) _ _ _ w0.1 z2) (fun r5 K6 => ?_)
  have w7 := wk_t w0 K6 hN
  refine pq_g (fun g8 => ?_)
  refine pq_g (fun g9 => ?_)
  have z10 := wk_z (i := 0) (f := 117) w7 rfl z_a1
  refine pq_g (fun g11 => ?_)
  refine pq_b (wX62_isOdd S Z (sb rfl hS) _ _ w7.1 z10) (fun r12 K13 => ?_)
  have w14 := wk_t w7 K13 hN
  refine pq_g (fun g15 => ?_)
  refine pq_b (wX63_grows S Z (sb rfl hS) _ _ _ _ _ w14.1 z_a2) (fun r16 K17 => ?_)
  have w18 := wk_t w14 K17 hN
  refine pq_fi (fun _ => ?_) (fun _ => ?_)
  · exact q_tA hN w18 (wX61_round_106 S Z hS n _ _ _ _ _ _ _ _ w18.1 z_a0 z_a1 z_a2 z_a3)
  · refine pq_g (fun g19 => ?_)
    have z20 := wk_z (i := 0) (f := 117) w18 rfl z_a1
    refine pq_g (fun g21 => ?_)
    refine pq_b (wX62_grow S Z (sb rfl hS) _ _ w18.1 z20) (fun r22 K23 => ?_)
    have w24 := wk_t w18 K23 hN
    exact q_tA hN w24 (wX61_round_106 S Z hS n _ _ _ _ _ _ _ _ w24.1 z_a0 z_a1 z_a2 z_a3)
theorem wX61_round_60 (S Z : Nat → Prop) {hx N : Nat} (hS : ∀ x, fe_mem lX61_round x = true → S x) (n : Nat) (a0 : Nat) (a1 : Nat) (a2 : Nat) (a3 : Nat) (a5 : Int32) (M : FM) (w : WI Z hx N M) (z_a0 : Z a0) (z_a1 : Z a1) (z_a2 : Z a2) (z_a3 : Z a3) : pq (FX61_round_60 n a0 a1 a2 a3 a5 M) (QA S Z hx N M) := by
  have hN := w.2.2.1
  have w0 := wk_r (S := S) w
  delta FX61_round_60 BX61_round_60
  exact q_tA hN w0 (wX61_round_61 S Z hS n _ _ _ _ _ _ _ w0.1 z_a0 z_a1 z_a2 z_a3)
theorem wX61_round_0 (S Z : Nat → Prop) {hx N : Nat} (hS : ∀ x, fe_mem lX61_round x = true → S x) (n : Nat) (a0 : Nat) (a1 : Nat) (a2 : Nat) (a3 : Nat) (M : FM) (w : WI Z hx N M) (z_a0 : Z a0) (z_a1 : Z a1) (z_a2 : Z a2) (z_a3 : Z a3) : pq (FX61_round_0 n a0 a1 a2 a3 M) (QA S Z hx N M) := by
  have hN := w.2.2.1
  have w0 := wk_r (S := S) w
  delta FX61_round_0 BX61_round_0
  refine pq_g (fun g1 => ?_)
  refine pq_g (fun g2 => ?_)
  have z3 := wk_z (i := 0) (f := 117) w0 rfl z_a1
  refine pq_g (fun g4 => ?_)
  refine pq_b (wX62_length S Z (sb rfl hS) n _ _ w0.1 z3) (fun r5 K6 => ?_)
  have w7 := wk_t w0 K6 hN
  refine pq_g (fun g8 => ?_)
  refine pq_b (wJ5_max S Z (sb rfl hS) _ _ _ w7.1 ) (fun r9 K10 => ?_)
  have w11 := wk_t w7 K10 hN
  refine pq_g (fun g12 => ?_)
  refine pq_g (fun g13 => ?_)
  refine pq_fi (fun _ => ?_) (fun _ => ?_)
  · exact q_tA hN w11 (wX61_round_60 S Z hS n _ _ _ _ _ _ w11.1 z_a0 z_a1 z_a2 z_a3)
  · refine pq_g (fun g14 => ?_)
    refine pq_b (wX61_reaches S Z (sb rfl hS) n _ _ _ _ _ w11.1 z_a0 z_a1 z_a2) (fun r15 K16 => ?_)
    have w17 := wk_t w11 K16 hN
    refine pq_fi (fun _ => ?_) (fun _ => ?_)
    · exact q_tA hN w17 (wX61_round_61 S Z hS n _ _ _ _ _ _ _ w17.1 z_a0 z_a1 z_a2 z_a3)
    · exact q_tA hN w17 (wX61_round_60 S Z hS n _ _ _ _ _ _ w17.1 z_a0 z_a1 z_a2 z_a3)
theorem wX61_round (S Z : Nat → Prop) {hx N : Nat} (hS : ∀ x, fe_mem lX61_round x = true → S x) (n : Nat) (a0 : Nat) (a1 : Nat) (a2 : Nat) (a3 : Nat) (M : FM) (w : WI Z hx N M) (z_a0 : Z a0) (z_a1 : Z a1) (z_a2 : Z a2) (z_a3 : Z a3) : pq (FX61_round n a0 a1 a2 a3 M) (QA S Z hx N M) := wX61_round_0 S Z hS n a0 a1 a2 a3 M w z_a0 z_a1 z_a2 z_a3
def lX61_put : List Nat := [91, 92, 119, 120]
theorem wX61_put_0 (S Z : Nat → Prop) {hx N : Nat} (hS : ∀ x, fe_mem lX61_put x = true → S x) (n : Nat) (a0 : Nat) (a1 : Nat) (a2 : Nat) (a3 : Nat) (M : FM) (w : WI Z hx N M) (z_a0 : Z a0) (z_a1 : Z a1) (z_a2 : Z a2) (z_a3 : Z a3) : pq (FX61_put_0 n a0 a1 a2 a3 M) (QA S Z hx N M) := by
  have hN := w.2.2.1
  have w0 := wk_r (S := S) w
  delta FX61_put_0 BX61_put_0
  refine pq_g (fun g1 => ?_)
  have z2 := wk_z (i := 0) (f := 114) w0 rfl z_a1
  refine pq_g (fun g3 => ?_)
  refine pq_b (wJ0_ordinal S Z (sb rfl hS) _ _ w0.1 z2) (fun r4 K5 => ?_)
  have w6 := wk_t w0 K5 hN
  refine pq_fi (fun _ => ?_) (fun _ => ?_)
  · refine pq_g (fun g7 => ?_)
    refine pq_g (fun g8 => ?_)
    refine pq_b (wX61_sign S Z (sb rfl hS) _ _ _ w6.1 z_a0) (fun r9 K10 => ?_)
    have w11 := wk_t w6 K10 hN
    exact pq_s w11
  · refine pq_fi (fun _ => ?_) (fun _ => ?_)
    · refine pq_g (fun g12 => ?_)
      refine pq_b (wX61_round S Z (sb rfl hS) n _ _ _ _ _ w6.1 z_a0 z_a1 z_a2 z_a3) (fun r13 K14 => ?_)
      have w15 := wk_t w6 K14 hN
      exact pq_s w15
    · refine pq_fi (fun _ => ?_) (fun _ => ?_)
      · refine pq_g (fun g16 => ?_)
        refine pq_g (fun g17 => ?_)
        refine pq_b (wX61_infinite S Z (sb rfl hS) _ _ _ w6.1 z_a0) (fun r18 K19 => ?_)
        have w20 := wk_t w6 K19 hN
        exact pq_s w20
      · refine pq_g (fun g21 => ?_)
        refine pq_b (wX61_quiet S Z (sb rfl hS) _ _ w6.1 z_a0) (fun r22 K23 => ?_)
        have w24 := wk_t w6 K23 hN
        exact pq_s w24
theorem wX61_put (S Z : Nat → Prop) {hx N : Nat} (hS : ∀ x, fe_mem lX61_put x = true → S x) (n : Nat) (a0 : Nat) (a1 : Nat) (a2 : Nat) (a3 : Nat) (M : FM) (w : WI Z hx N M) (z_a0 : Z a0) (z_a1 : Z a1) (z_a2 : Z a2) (z_a3 : Z a3) : pq (FX61_put n a0 a1 a2 a3 M) (QA S Z hx N M) := wX61_put_0 S Z hS n a0 a1 a2 a3 M w z_a0 z_a1 z_a2 z_a3
def lX59_reckon : List Nat := [91, 92, 96, 114, 115, 116, 118, 119, 120, 1093]
theorem wX59_reckon_105 (S Z : Nat → Prop) {hx N : Nat} (hS : ∀ x, fe_mem lX59_reckon x = true → S x) (n : Nat) (a0 : Nat) (a1 : Int32) (a2 : Nat) (a3 : Nat) (M : FM) (w : WI Z hx N M) (z_a0 : Z a0) (z_a2 : Z a2) (z_a3 : Z a3) : pq (FX59_reckon_105 n a0 a1 a2 a3 M) (QA S Z hx N M) := by
  have hN := w.2.2.1
  have w0 := wk_r (S := S) w
  delta FX59_reckon_105 BX59_reckon_105
  refine pq_g (fun g1 => ?_)
  have z2 := wk_z (i := 0) (f := 108) w0 rfl z_a0
  refine pq_g (fun g3 => ?_)
  have z4 := wk_z (i := 0) (f := 94) w0 rfl z_a0
  refine pq_g (fun g5 => ?_)
  refine pq_b (wX61_put S Z (sb rfl hS) n _ _ _ _ _ w0.1 z_a2 z2 z_a3 z4) (fun r6 K7 => ?_)
  have w8 := wk_t w0 K7 hN
  refine pq_g (fun g9 => ?_)
  refine pq_b (wX59_write S Z (sb rfl hS) _ _ _ _ _ w8.1 z_a0 z_a2) (fun r10 K11 => ?_)
  have w12 := wk_t w8 K11 hN
  exact pq_s w12
theorem wX59_reckon_0 (S Z : Nat → Prop) {hx N : Nat} (hS : ∀ x, fe_mem lX59_reckon x = true → S x) (n : Nat) (a0 : Nat) (a1 : Int32) (a2 : Nat) (a3 : Nat) (M : FM) (w : WI Z hx N M) (z_a0 : Z a0) (z_a2 : Z a2) (z_a3 : Z a3) : pq (FX59_reckon_0 n a0 a1 a2 a3 M) (QA S Z hx N M) := by
  have hN := w.2.2.1
  have w0 := wk_r (S := S) w
  delta FX59_reckon_0 BX59_reckon_0
  refine pq_b (wX59_part S Z (sb rfl hS) _ _ _ _ w0.1 ) (fun r1 K2 => ?_)
  have w3 := wk_t w0 K2 hN
  refine pq_b (wX59_part S Z (sb rfl hS) _ _ _ _ w3.1 ) (fun r4 K5 => ?_)
  have w6 := wk_t w3 K5 hN
  refine pq_g (fun g7 => ?_)
  have z8 := wk_z (i := 0) (f := 105) w6 rfl z_a0
  refine pq_g (fun g9 => ?_)
  refine pq_b (wX59_take S Z (sb rfl hS) _ _ _ _ _ w6.1 z_a0 z_a2 z8) (fun r10 K11 => ?_)
  have w12 := wk_t w6 K11 hN
  refine pq_g (fun g13 => ?_)
  have z14 := wk_z (i := 0) (f := 101) w12 rfl z_a0
  have f15 := sS_101 w12.1.1 g13
  refine pq_g (fun g16 => ?_)
  refine pq_fi (fun _ => ?_) (fun _ => ?_)
  · refine pq_g (fun g17 => ?_)
    have z18 := wk_z (i := 0) (f := 103) w12 rfl z_a0
    refine pq_g (fun g19 => ?_)
    have z20 := wk_z (i := 0) (f := 105) w12 rfl z_a0
    refine pq_g (fun g21 => ?_)
    have z22 := wk_z (i := 0) (f := 105) w12 rfl z_a0
    refine pq_g (fun g23 => ?_)
    have z24 := wk_z (i := 0) (f := 94) w12 rfl z_a0
    refine pq_g (fun g25 => ?_)
    have z26 := wk_z (i := 0) (f := 108) w12 rfl z_a0
    refine pq_g (fun g27 => ?_)
    refine pq_b (wX65_run S Z (sb rfl hS) n _ _ _ _ _ _ _ w12.1 z18 z20 z22 z_a3 z24 z26) (fun r28 K29 => ?_)
    have w30 := wk_t w12 K29 hN
    exact q_tA hN w30 (wX59_reckon_105 S Z hS n _ _ _ _ _ w30.1 z_a0 z_a2 z_a3)
  · refine pq_b (wX59_part S Z (sb rfl hS) _ _ _ _ w12.1 ) (fun r31 K32 => ?_)
    have w33 := wk_t w12 K32 hN
    refine pq_g (fun g34 => ?_)
    have z35 := wk_z (i := 0) (f := 106) w33 rfl z_a0
    refine pq_g (fun g36 => ?_)
    refine pq_b (wX59_take S Z (sb rfl hS) _ _ _ _ _ w33.1 z_a0 z_a2 z35) (fun r37 K38 => ?_)
    have w39 := wk_t w33 K38 hN
    refine pq_g (fun g40 => ?_)
    have z41 := wk_z (i := 0) (f := 101) w39 rfl z_a0
    have f42 := sS_101 w39.1.1 g40
    refine pq_g (fun g43 => ?_)
    have z44 := fun i => wk_ze (i := i) w39 rfl g43.1 f42 rfl z41
    refine pq_g (fun g45 => ?_)
    have z46 := wk_z (i := 0) (f := 105) w39 rfl z_a0
    refine pq_g (fun g47 => ?_)
    have z48 := wk_z (i := 0) (f := 106) w39 rfl z_a0
    refine pq_g (fun g49 => ?_)
    have z50 := wk_z (i := 0) (f := 94) w39 rfl z_a0
    refine pq_g (fun g51 => ?_)
    have z52 := wk_z (i := 0) (f := 108) w39 rfl z_a0
    refine pq_g (fun g53 => ?_)
    refine pq_b (wX65_run S Z (sb rfl hS) n _ _ _ _ _ _ _ w39.1 (z44 _) z46 z48 z_a3 z50 z52) (fun r54 K55 => ?_)
    have w56 := wk_t w39 K55 hN
    exact q_tA hN w56 (wX59_reckon_105 S Z hS n _ _ _ _ _ w56.1 z_a0 z_a2 z_a3)
theorem wX59_reckon (S Z : Nat → Prop) {hx N : Nat} (hS : ∀ x, fe_mem lX59_reckon x = true → S x) (n : Nat) (a0 : Nat) (a1 : Int32) (a2 : Nat) (a3 : Nat) (M : FM) (w : WI Z hx N M) (z_a0 : Z a0) (z_a2 : Z a2) (z_a3 : Z a3) : pq (FX59_reckon n a0 a1 a2 a3 M) (QA S Z hx N M) := wX59_reckon_0 S Z hS n a0 a1 a2 a3 M w z_a0 z_a2 z_a3
def lX64_take : List Nat := [114, 115, 116, 119, 120]
theorem wX64_take_70 (S Z : Nat → Prop) {hx N : Nat} (hS : ∀ x, fe_mem lX64_take x = true → S x) (s0 : Nat) (s1 : Int32) (s2 : Int64) (M : FM) (w : WI Z hx N M) (z_s0 : Z s0) : pq (FX64_take_70 s0 s1 s2 M) (QV S Z hx N M) := by
  have hN := w.2.2.1
  have w0 := wk_r (S := S) w
  delta FX64_take_70 BX64_take_70
  refine pq_g (fun g1 => ?_)
  refine pq_b (wX71_number S Z (sb rfl hS) _ _ _ _ _ w0.1 z_s0) (fun r2 K3 => ?_)
  have w4 := wk_t w0 K3 hN
  exact pq_s w4
theorem wX64_take_52 (S Z : Nat → Prop) {hx N : Nat} (hS : ∀ x, fe_mem lX64_take x = true → S x) (a3 : Nat) (a4 : Int64) (s0 : Int32) (M : FM) (w : WI Z hx N M) (z_a3 : Z a3) : pq (FX64_take_52 a3 a4 s0 M) (QV S Z hx N M) := by
  have hN := w.2.2.1
  have w0 := wk_r (S := S) w
  delta FX64_take_52 BX64_take_52
  refine pq_fi (fun _ => ?_) (fun _ => ?_)
  · exact q_tV hN w0 (wX64_take_70 S Z hS _ _ _ _ w0.1 z_a3)
  · exact q_tV hN w0 (wX64_take_70 S Z hS _ _ _ _ w0.1 z_a3)
theorem wX64_take_51 (S Z : Nat → Prop) {hx N : Nat} (hS : ∀ x, fe_mem lX64_take x = true → S x) (a3 : Nat) (a4 : Int64) (M : FM) (w : WI Z hx N M) (z_a3 : Z a3) : pq (FX64_take_51 a3 a4 M) (QV S Z hx N M) := by
  have hN := w.2.2.1
  have w0 := wk_r (S := S) w
  delta FX64_take_51 BX64_take_51
  exact q_tV hN w0 (wX64_take_52 S Z hS _ _ _ _ w0.1 z_a3)
theorem wX64_take_31 (S Z : Nat → Prop) {hx N : Nat} (hS : ∀ x, fe_mem lX64_take x = true → S x) (a0 : Nat) (a3 : Nat) (s0 : Int64) (M : FM) (w : WI Z hx N M) (z_a0 : Z a0) (z_a3 : Z a3) : pq (FX64_take_31 a0 a3 s0 M) (QV S Z hx N M) := by
  have hN := w.2.2.1
  have w0 := wk_r (S := S) w
  delta FX64_take_31 BX64_take_31
  refine pq_g (fun g1 => ?_)
  refine pq_fi (fun _ => ?_) (fun _ => ?_)
  · exact q_tV hN w0 (wX64_take_51 S Z hS _ _ _ w0.1 z_a3)
  · refine pq_fi (fun _ => ?_) (fun _ => ?_)
    · exact q_tV hN w0 (wX64_take_51 S Z hS _ _ _ w0.1 z_a3)
    · exact q_tV hN w0 (wX64_take_52 S Z hS _ _ _ _ w0.1 z_a3)
theorem wX64_take_0 (S Z : Nat → Prop) {hx N : Nat} (hS : ∀ x, fe_mem lX64_take x = true → S x) (a0 : Nat) (a1 : Int64) (a3 : Nat) (M : FM) (w : WI Z hx N M) (z_a0 : Z a0) (z_a3 : Z a3) : pq (FX64_take_0 a0 a1 a3 M) (QV S Z hx N M) := by
  have hN := w.2.2.1
  have w0 := wk_r (S := S) w
  delta FX64_take_0 BX64_take_0
  refine pq_g (fun g1 => ?_)
  refine pq_fi (fun _ => ?_) (fun _ => ?_)
  · exact q_tV hN w0 (wX64_take_31 S Z hS _ _ _ _ w0.1 z_a0 z_a3)
  · refine pq_g (fun g2 => ?_)
    refine pq_fi (fun _ => ?_) (fun _ => ?_)
    · exact q_tV hN w0 (wX64_take_31 S Z hS _ _ _ _ w0.1 z_a0 z_a3)
    · exact q_tV hN w0 (wX64_take_31 S Z hS _ _ _ _ w0.1 z_a0 z_a3)
theorem wX64_take (S Z : Nat → Prop) {hx N : Nat} (hS : ∀ x, fe_mem lX64_take x = true → S x) (a0 : Nat) (a1 : Int64) (a3 : Nat) (M : FM) (w : WI Z hx N M) (z_a0 : Z a0) (z_a3 : Z a3) : pq (FX64_take a0 a1 a3 M) (QV S Z hx N M) := wX64_take_0 S Z hS a0 a1 a3 M w z_a0 z_a3
def lX64_limit : List Nat := []
theorem wX64_limit_43 (S Z : Nat → Prop) {hx N : Nat} (hS : ∀ x, fe_mem lX64_limit x = true → S x) (s0 : Int64) (M : FM) (w : WI Z hx N M) : pq (FX64_limit_43 s0 M) (QA S Z hx N M) := by
  have hN := w.2.2.1
  have w0 := wk_r (S := S) w
  delta FX64_limit_43 BX64_limit_43
  exact pq_s w0
theorem wX64_limit_0 (S Z : Nat → Prop) {hx N : Nat} (hS : ∀ x, fe_mem lX64_limit x = true → S x) (a0 : Nat) (a1 : Int32) (M : FM) (w : WI Z hx N M) (z_a0 : Z a0) : pq (FX64_limit_0 a0 a1 M) (QA S Z hx N M) := by
  have hN := w.2.2.1
  have w0 := wk_r (S := S) w
  delta FX64_limit_0 BX64_limit_0
  refine pq_g (fun g1 => ?_)
  refine pq_g (fun g2 => ?_)
  refine pq_fi (fun _ => ?_) (fun _ => ?_)
  · refine pq_fi (fun _ => ?_) (fun _ => ?_)
    · exact q_tA hN w0 (wX64_limit_43 S Z hS _ _ w0.1 )
    · exact q_tA hN w0 (wX64_limit_43 S Z hS _ _ w0.1 )
  · refine pq_fi (fun _ => ?_) (fun _ => ?_)
    · exact q_tA hN w0 (wX64_limit_43 S Z hS _ _ w0.1 )
    · exact q_tA hN w0 (wX64_limit_43 S Z hS _ _ w0.1 )
theorem wX64_limit (S Z : Nat → Prop) {hx N : Nat} (hS : ∀ x, fe_mem lX64_limit x = true → S x) (a0 : Nat) (a1 : Int32) (M : FM) (w : WI Z hx N M) (z_a0 : Z a0) : pq (FX64_limit a0 a1 M) (QA S Z hx N M) := wX64_limit_0 S Z hS a0 a1 M w z_a0
def lX64_told : List Nat := []
theorem wX64_told_30 (S Z : Nat → Prop) {hx N : Nat} (hS : ∀ x, fe_mem lX64_told x = true → S x) (s0 : Int64) (M : FM) (w : WI Z hx N M) : pq (FX64_told_30 s0 M) (QA S Z hx N M) := by
  have hN := w.2.2.1
  have w0 := wk_r (S := S) w
  delta FX64_told_30 BX64_told_30
  exact pq_s w0
theorem wX64_told_10 (S Z : Nat → Prop) {hx N : Nat} (hS : ∀ x, fe_mem lX64_told x = true → S x) (a0 : Nat) (s0 : Int64) (M : FM) (w : WI Z hx N M) (z_a0 : Z a0) : pq (FX64_told_10 a0 s0 M) (QA S Z hx N M) := by
  have hN := w.2.2.1
  have w0 := wk_r (S := S) w
  delta FX64_told_10 BX64_told_10
  refine pq_g (fun g1 => ?_)
  refine pq_fi (fun _ => ?_) (fun _ => ?_)
  · exact q_tA hN w0 (wX64_told_30 S Z hS _ _ w0.1 )
  · exact q_tA hN w0 (wX64_told_30 S Z hS _ _ w0.1 )
theorem wX64_told_0 (S Z : Nat → Prop) {hx N : Nat} (hS : ∀ x, fe_mem lX64_told x = true → S x) (a0 : Nat) (a1 : Int64) (a3 : Int32) (M : FM) (w : WI Z hx N M) (z_a0 : Z a0) : pq (FX64_told_0 a0 a1 a3 M) (QA S Z hx N M) := by
  have hN := w.2.2.1
  have w0 := wk_r (S := S) w
  delta FX64_told_0 BX64_told_0
  refine pq_fi (fun _ => ?_) (fun _ => ?_)
  · exact q_tA hN w0 (wX64_told_10 S Z hS _ _ _ w0.1 z_a0)
  · exact q_tA hN w0 (wX64_told_10 S Z hS _ _ _ w0.1 z_a0)
theorem wX64_told (S Z : Nat → Prop) {hx N : Nat} (hS : ∀ x, fe_mem lX64_told x = true → S x) (a0 : Nat) (a1 : Int64) (a3 : Int32) (M : FM) (w : WI Z hx N M) (z_a0 : Z a0) : pq (FX64_told a0 a1 a3 M) (QA S Z hx N M) := wX64_told_0 S Z hS a0 a1 a3 M w z_a0
def lX64_round : List Nat := [91, 92, 119, 120]
theorem wX64_round_191 (S Z : Nat → Prop) {hx N : Nat} (hS : ∀ x, fe_mem lX64_round x = true → S x) (n : Nat) (a0 : Nat) (a1 : Nat) (a5 : Int32) (s0 : Nat) (s1 : Int32) (M : FM) (w : WI Z hx N M) (z_a0 : Z a0) (z_a1 : Z a1) (z_s0 : Z s0) : pq (FX64_round_191 n a0 a1 a5 s0 s1 M) (QA S Z hx N M) := by
  have hN := w.2.2.1
  have w0 := wk_r (S := S) w
  delta FX64_round_191 BX64_round_191
  refine pq_g (fun g1 => ?_)
  refine pq_b (wX60_raise S Z (sb rfl hS) _ _ _ w0.1 z_s0) (fun r2 K3 => ?_)
  have w4 := wk_t w0 K3 hN
  refine pq_g (fun g5 => ?_)
  have z6 := wk_z (i := 0) (f := 117) w4 rfl z_a1
  refine pq_g (fun g7 => ?_)
  refine pq_g (fun g8 => ?_)
  refine pq_b (wX64_told S Z (sb rfl hS) _ _ _ _ w4.1 z_a0) (fun r9 K10 => ?_)
  have w11 := wk_t w4 K10 hN
  exact pq_s w11
theorem wX64_round_165 (S Z : Nat → Prop) {hx N : Nat} (hS : ∀ x, fe_mem lX64_round x = true → S x) (n : Nat) (a0 : Nat) (a3 : Nat) (a5 : Int32) (a7 : Int64) (M : FM) (w : WI Z hx N M) (z_a0 : Z a0) (z_a3 : Z a3) : pq (FX64_round_165 n a0 a3 a5 a7 M) (QA S Z hx N M) := by
  have hN := w.2.2.1
  have w0 := wk_r (S := S) w
  delta FX64_round_165 BX64_round_165
  refine pq_g (fun g1 => ?_)
  refine pq_b (wX60_raise S Z (sb rfl hS) _ _ _ w0.1 z_a3) (fun r2 K3 => ?_)
  have w4 := wk_t w0 K3 hN
  refine pq_g (fun g5 => ?_)
  refine pq_b (wX64_told S Z (sb rfl hS) _ _ _ _ w4.1 z_a0) (fun r6 K7 => ?_)
  have w8 := wk_t w4 K7 hN
  exact pq_s w8
theorem wX64_round_125 (S Z : Nat → Prop) {hx N : Nat} (hS : ∀ x, fe_mem lX64_round x = true → S x) (n : Nat) (a0 : Nat) (a1 : Nat) (a3 : Nat) (a4 : Int32) (a5 : Int32) (a6 : Int32) (M : FM) (w : WI Z hx N M) (z_a0 : Z a0) (z_a1 : Z a1) (z_a3 : Z a3) : pq (FX64_round_125 n a0 a1 a3 a4 a5 a6 M) (QA S Z hx N M) := by
  have hN := w.2.2.1
  have w0 := wk_r (S := S) w
  delta FX64_round_125 BX64_round_125
  refine pq_g (fun g1 => ?_)
  refine pq_b (wX64_limit S Z (sb rfl hS) _ _ _ w0.1 z_a0) (fun r2 K3 => ?_)
  have w4 := wk_t w0 K3 hN
  refine pq_fi (fun _ => ?_) (fun _ => ?_)
  · refine pq_g (fun g5 => ?_)
    have z6 := wk_z (i := 0) (f := 117) w4 rfl z_a1
    refine pq_g (fun g7 => ?_)
    refine pq_fi (fun _ => ?_) (fun _ => ?_)
    · refine pq_g (fun g8 => ?_)
      have z9 := wk_z (i := 0) (f := 117) w4 rfl z_a1
      refine pq_g (fun g10 => ?_)
      refine pq_b (wX108_isLess S Z (sb rfl hS) _ _ _ w4.1 ) (fun r11 K12 => ?_)
      have w13 := wk_t w4 K12 hN
      refine pq_fi (fun _ => ?_) (fun _ => ?_)
      · refine pq_fi (fun _ => ?_) (fun _ => ?_)
        · exact q_tA hN w13 (wX64_round_191 S Z hS n _ _ _ _ _ _ w13.1 z_a0 z_a1 z_a3)
        · exact q_tA hN w13 (wX64_round_191 S Z hS n _ _ _ _ _ _ w13.1 z_a0 z_a1 z_a3)
      · exact q_tA hN w13 (wX64_round_165 S Z hS n _ _ _ _ _ w13.1 z_a0 z_a3)
    · exact q_tA hN w4 (wX64_round_165 S Z hS n _ _ _ _ _ w4.1 z_a0 z_a3)
  · exact q_tA hN w4 (wX64_round_165 S Z hS n _ _ _ _ _ w4.1 z_a0 z_a3)
theorem wX64_round_66 (S Z : Nat → Prop) {hx N : Nat} (hS : ∀ x, fe_mem lX64_round x = true → S x) (n : Nat) (a0 : Nat) (a1 : Nat) (a2 : Nat) (a3 : Nat) (a4 : Int32) (s0 : Int32) (M : FM) (w : WI Z hx N M) (z_a0 : Z a0) (z_a1 : Z a1) (z_a2 : Z a2) (z_a3 : Z a3) : pq (FX64_round_66 n a0 a1 a2 a3 a4 s0 M) (QA S Z hx N M) := by
  have hN := w.2.2.1
  have w0 := wk_r (S := S) w
  delta FX64_round_66 BX64_round_66
  refine pq_g (fun g1 => ?_)
  refine pq_b (wX71_is S Z (sb rfl hS) _ _ _ w0.1 z_a1 (wk_zc w0 rfl)) (fun r2 K3 => ?_)
  have w4 := wk_t w0 K3 hN
  refine pq_fi (fun _ => ?_) (fun _ => ?_)
  · exact q_tA hN w4 (wX64_round_125 S Z hS n _ _ _ _ _ _ _ w4.1 z_a0 z_a1 z_a3)
  · refine pq_fi (fun _ => ?_) (fun _ => ?_)
    · refine pq_g (fun g5 => ?_)
      have z6 := wk_z (i := 0) (f := 117) w4 rfl z_a1
      refine pq_g (fun g7 => ?_)
      refine pq_g (fun g8 => ?_)
      refine pq_b (wX62_cut S Z (sb rfl hS) _ _ _ w4.1 z6) (fun r9 K10 => ?_)
      have w11 := wk_t w4 K10 hN
      refine pq_g (fun g12 => ?_)
      have z13 := wk_z (i := 0) (f := 117) w11 rfl z_a1
      refine pq_g (fun g14 => ?_)
      refine pq_b (wX62_isOdd S Z (sb rfl hS) _ _ w11.1 z13) (fun r15 K16 => ?_)
      have w17 := wk_t w11 K16 hN
      refine pq_g (fun g18 => ?_)
      refine pq_b (wX63_grows S Z (sb rfl hS) _ _ _ _ _ w17.1 z_a2) (fun r19 K20 => ?_)
      have w21 := wk_t w17 K20 hN
      refine pq_fi (fun _ => ?_) (fun _ => ?_)
      · exact q_tA hN w21 (wX64_round_125 S Z hS n _ _ _ _ _ _ _ w21.1 z_a0 z_a1 z_a3)
      · refine pq_g (fun g22 => ?_)
        have z23 := wk_z (i := 0) (f := 117) w21 rfl z_a1
        refine pq_g (fun g24 => ?_)
        refine pq_b (wX62_grow S Z (sb rfl hS) _ _ w21.1 z23) (fun r25 K26 => ?_)
        have w27 := wk_t w21 K26 hN
        exact q_tA hN w27 (wX64_round_125 S Z hS n _ _ _ _ _ _ _ w27.1 z_a0 z_a1 z_a3)
    · exact q_tA hN w4 (wX64_round_125 S Z hS n _ _ _ _ _ _ _ w4.1 z_a0 z_a1 z_a3)
theorem wX64_round_65 (S Z : Nat → Prop) {hx N : Nat} (hS : ∀ x, fe_mem lX64_round x = true → S x) (n : Nat) (a0 : Nat) (a1 : Nat) (a2 : Nat) (a3 : Nat) (a4 : Int32) (M : FM) (w : WI Z hx N M) (z_a0 : Z a0) (z_a1 : Z a1) (z_a2 : Z a2) (z_a3 : Z a3) : pq (FX64_round_65 n a0 a1 a2 a3 a4 M) (QA S Z hx N M) := by
  have hN := w.2.2.1
  have w0 := wk_r (S := S) w
  delta FX64_round_65 BX64_round_65
  exact q_tA hN w0 (wX64_round_66 S Z hS n _ _ _ _ _ _ _ w0.1 z_a0 z_a1 z_a2 z_a3)
theorem wX64_round_42 (S Z : Nat → Prop) {hx N : Nat} (hS : ∀ x, fe_mem lX64_round x = true → S x) (n : Nat) (a0 : Nat) (a1 : Nat) (a2 : Nat) (a3 : Nat) (s0 : Int32) (M : FM) (w : WI Z hx N M) (z_a0 : Z a0) (z_a1 : Z a1) (z_a2 : Z a2) (z_a3 : Z a3) : pq (FX64_round_42 n a0 a1 a2 a3 s0 M) (QA S Z hx N M) := by
  have hN := w.2.2.1
  have w0 := wk_r (S := S) w
  delta FX64_round_42 BX64_round_42
  refine pq_g (fun g1 => ?_)
  refine pq_fi (fun _ => ?_) (fun _ => ?_)
  · exact q_tA hN w0 (wX64_round_65 S Z hS n _ _ _ _ _ _ w0.1 z_a0 z_a1 z_a2 z_a3)
  · refine pq_g (fun g2 => ?_)
    have z3 := wk_z (i := 0) (f := 114) w0 rfl z_a1
    refine pq_g (fun g4 => ?_)
    refine pq_b (wX72_isNone S Z (sb rfl hS) _ _ w0.1 z3) (fun r5 K6 => ?_)
    have w7 := wk_t w0 K6 hN
    refine pq_fi (fun _ => ?_) (fun _ => ?_)
    · exact q_tA hN w7 (wX64_round_66 S Z hS n _ _ _ _ _ _ _ w7.1 z_a0 z_a1 z_a2 z_a3)
    · exact q_tA hN w7 (wX64_round_65 S Z hS n _ _ _ _ _ _ w7.1 z_a0 z_a1 z_a2 z_a3)
theorem wX64_round_41 (S Z : Nat → Prop) {hx N : Nat} (hS : ∀ x, fe_mem lX64_round x = true → S x) (n : Nat) (a0 : Nat) (a1 : Nat) (a2 : Nat) (a3 : Nat) (M : FM) (w : WI Z hx N M) (z_a0 : Z a0) (z_a1 : Z a1) (z_a2 : Z a2) (z_a3 : Z a3) : pq (FX64_round_41 n a0 a1 a2 a3 M) (QA S Z hx N M) := by
  have hN := w.2.2.1
  have w0 := wk_r (S := S) w
  delta FX64_round_41 BX64_round_41
  exact q_tA hN w0 (wX64_round_42 S Z hS n _ _ _ _ _ _ w0.1 z_a0 z_a1 z_a2 z_a3)
theorem wX64_round_37 (S Z : Nat → Prop) {hx N : Nat} (hS : ∀ x, fe_mem lX64_round x = true → S x) (n : Nat) (a0 : Nat) (a1 : Nat) (a2 : Nat) (a3 : Nat) (M : FM) (w : WI Z hx N M) (z_a0 : Z a0) (z_a1 : Z a1) (z_a2 : Z a2) (z_a3 : Z a3) : pq (FX64_round_37 n a0 a1 a2 a3 M) (QA S Z hx N M) := by
  have hN := w.2.2.1
  have w0 := wk_r (S := S) w
  delta FX64_round_37 BX64_round_37
  exact q_tA hN w0 (wX64_round_42 S Z hS n _ _ _ _ _ _ w0.1 z_a0 z_a1 z_a2 z_a3)
theorem wX64_round_0 (S Z : Nat → Prop) {hx N : Nat} (hS : ∀ x, fe_mem lX64_round x = true → S x) (n : Nat) (a0 : Nat) (a1 : Nat) (a2 : Nat) (a3 : Nat) (M : FM) (w : WI Z hx N M) (z_a0 : Z a0) (z_a1 : Z a1) (z_a2 : Z a2) (z_a3 : Z a3) : pq (FX64_round_0 n a0 a1 a2 a3 M) (QA S Z hx N M) := by
  have hN := w.2.2.1
  have w0 := wk_r (S := S) w
  delta FX64_round_0 BX64_round_0
  refine pq_g (fun g1 => ?_)
  refine pq_b (wX71_is S Z (sb rfl hS) _ _ _ w0.1 z_a1 (wk_zc w0 rfl)) (fun r2 K3 => ?_)
  have w4 := wk_t w0 K3 hN
  refine pq_fi (fun _ => ?_) (fun _ => ?_)
  · refine pq_g (fun g5 => ?_)
    refine pq_b (wX71_is S Z (sb rfl hS) _ _ _ w4.1 z_a1 (wk_zc w4 rfl)) (fun r6 K7 => ?_)
    have w8 := wk_t w4 K7 hN
    refine pq_fi (fun _ => ?_) (fun _ => ?_)
    · exact q_tA hN w8 (wX64_round_37 S Z hS n _ _ _ _ _ w8.1 z_a0 z_a1 z_a2 z_a3)
    · refine pq_g (fun g9 => ?_)
      refine pq_g (fun g10 => ?_)
      have z11 := wk_z (i := 0) (f := 117) w8 rfl z_a1
      refine pq_g (fun g12 => ?_)
      refine pq_b (wX62_length S Z (sb rfl hS) n _ _ w8.1 z11) (fun r13 K14 => ?_)
      have w15 := wk_t w8 K14 hN
      refine pq_fi (fun _ => ?_) (fun _ => ?_)
      · exact q_tA hN w15 (wX64_round_41 S Z hS n _ _ _ _ _ w15.1 z_a0 z_a1 z_a2 z_a3)
      · exact q_tA hN w15 (wX64_round_37 S Z hS n _ _ _ _ _ w15.1 z_a0 z_a1 z_a2 z_a3)
  · exact q_tA hN w4 (wX64_round_41 S Z hS n _ _ _ _ _ w4.1 z_a0 z_a1 z_a2 z_a3)
theorem wX64_round (S Z : Nat → Prop) {hx N : Nat} (hS : ∀ x, fe_mem lX64_round x = true → S x) (n : Nat) (a0 : Nat) (a1 : Nat) (a2 : Nat) (a3 : Nat) (M : FM) (w : WI Z hx N M) (z_a0 : Z a0) (z_a1 : Z a1) (z_a2 : Z a2) (z_a3 : Z a3) : pq (FX64_round n a0 a1 a2 a3 M) (QA S Z hx N M) := wX64_round_0 S Z hS n a0 a1 a2 a3 M w z_a0 z_a1 z_a2 z_a3
def lX59_convert : List Nat := [91, 92, 96, 97, 114, 115, 116, 118, 119, 120, 1093]
theorem wX59_convert_69 (S Z : Nat → Prop) {hx N : Nat} (hS : ∀ x, fe_mem lX59_convert x = true → S x) (n : Nat) (M : FM) (w : WI Z hx N M) : pq (FX59_convert_69 n M) (QA S Z hx N M) := by
  have hN := w.2.2.1
  have w0 := wk_r (S := S) w
  delta FX59_convert_69 BX59_convert_69
  exact pq_s w0
theorem wX59_convert_0 (S Z : Nat → Prop) {hx N : Nat} (hS : ∀ x, fe_mem lX59_convert x = true → S x) (n : Nat) (a0 : Nat) (a1 : Int32) (a2 : Nat) (a3 : Nat) (a4 : Int64) (M : FM) (w : WI Z hx N M) (z_a0 : Z a0) (z_a2 : Z a2) (z_a3 : Z a3) : pq (FX59_convert_0 n a0 a1 a2 a3 a4 M) (QA S Z hx N M) := by
  have hN := w.2.2.1
  have w0 := wk_r (S := S) w
  delta FX59_convert_0 BX59_convert_0
  refine pq_b (wX59_part S Z (sb rfl hS) _ _ _ _ w0.1 ) (fun r1 K2 => ?_)
  have w3 := wk_t w0 K2 hN
  refine pq_b (wX59_part S Z (sb rfl hS) _ _ _ _ w3.1 ) (fun r4 K5 => ?_)
  have w6 := wk_t w3 K5 hN
  refine pq_fi (fun _ => ?_) (fun _ => ?_)
  · refine pq_fi (fun _ => ?_) (fun _ => ?_)
    · exact q_tA hN w6 (wX59_convert_69 S Z hS n _ w6.1 )
    · refine pq_g (fun g7 => ?_)
      have z8 := wk_z (i := 0) (f := 98) w6 rfl z_a0
      have f9 := sS_98 w6.1.1 g7
      refine pq_g (fun g10 => ?_)
      have z11 := fun i => wk_ze (i := i) w6 rfl g10.1 f9 rfl z8
      refine pq_g (fun _ => ?_)
      refine pq_fi (fun _ => ?_) (fun _ => ?_)
      · exact q_tA hN w6 (wX59_convert_69 S Z hS n _ w6.1 )
      · refine pq_b (wX59_part S Z (sb rfl hS) _ _ _ _ w6.1 ) (fun r12 K13 => ?_)
        have w14 := wk_t w6 K13 hN
        refine pq_g (fun g15 => ?_)
        have z16 := wk_z (i := 0) (f := 98) w14 rfl z_a0
        have f17 := sS_98 w14.1.1 g15
        refine pq_g (fun g18 => ?_)
        have z19 := fun i => wk_ze (i := i) w14 rfl g18.1 f17 rfl z16
        refine pq_g (fun g20 => ?_)
        have z21 := wk_z (i := 0) (f := 105) w14 rfl z_a0
        refine pq_g (fun g22 => ?_)
        refine pq_b (wX59_take S Z (sb rfl hS) _ _ _ _ _ w14.1 z_a0 (z19 _) z21) (fun r23 K24 => ?_)
        have w25 := wk_t w14 K24 hN
        refine pq_g (fun g26 => ?_)
        have z27 := wk_z (i := 0) (f := 104) w25 rfl z_a0
        refine pq_g (fun g28 => ?_)
        have z29 := wk_z (i := 0) (f := 105) w25 rfl z_a0
        refine pq_g (fun g30 => ?_)
        have z31 := wk_z (i := 0) (f := 105) w25 rfl z_a0
        refine pq_g (fun g32 => ?_)
        have z33 := wk_z (i := 0) (f := 94) w25 rfl z_a0
        refine pq_g (fun g34 => ?_)
        have z35 := wk_z (i := 0) (f := 108) w25 rfl z_a0
        refine pq_g (fun g36 => ?_)
        refine pq_b (wX65_run S Z (sb rfl hS) n _ _ _ _ _ _ _ w25.1 z27 z29 z31 z_a3 z33 z35) (fun r37 K38 => ?_)
        have w39 := wk_t w25 K38 hN
        refine pq_g (fun g40 => ?_)
        have z41 := wk_z (i := 0) (f := 108) w39 rfl z_a0
        refine pq_g (fun g42 => ?_)
        have z43 := wk_z (i := 0) (f := 94) w39 rfl z_a0
        refine pq_g (fun g44 => ?_)
        refine pq_b (wX61_put S Z (sb rfl hS) n _ _ _ _ _ w39.1 z_a2 z41 z_a3 z43) (fun r45 K46 => ?_)
        have w47 := wk_t w39 K46 hN
        refine pq_g (fun g48 => ?_)
        refine pq_b (wX59_write S Z (sb rfl hS) _ _ _ _ _ w47.1 z_a0 z_a2) (fun r49 K50 => ?_)
        have w51 := wk_t w47 K50 hN
        exact pq_s w51
  · refine pq_fi (fun _ => ?_) (fun _ => ?_)
    · refine pq_g (fun g52 => ?_)
      have z53 := wk_z (i := 0) (f := 100) w6 rfl z_a0
      have f54 := sS_100 w6.1.1 g52
      refine pq_g (fun g55 => ?_)
      refine pq_fi (fun _ => ?_) (fun _ => ?_)
      · refine pq_b (wX59_part S Z (sb rfl hS) _ _ _ _ w6.1 ) (fun r56 K57 => ?_)
        have w58 := wk_t w6 K57 hN
        refine pq_g (fun g59 => ?_)
        have z60 := wk_z (i := 0) (f := 105) w58 rfl z_a0
        refine pq_g (fun g61 => ?_)
        refine pq_b (wX59_take S Z (sb rfl hS) _ _ _ _ _ w58.1 z_a0 z_a2 z60) (fun r62 K63 => ?_)
        have w64 := wk_t w58 K63 hN
        refine pq_g (fun g65 => ?_)
        have z66 := wk_z (i := 0) (f := 100) w64 rfl z_a0
        have f67 := sS_100 w64.1.1 g65
        refine pq_g (fun g68 => ?_)
        have z69 := fun i => wk_ze (i := i) w64 rfl g68.1 f67 rfl z66
        refine pq_g (fun g70 => ?_)
        have z71 := wk_z (i := 0) (f := 105) w64 rfl z_a0
        refine pq_g (fun g72 => ?_)
        have z73 := wk_z (i := 0) (f := 94) w64 rfl z_a0
        refine pq_g (fun g74 => ?_)
        refine pq_b (wX64_round S Z (sb rfl hS) n _ _ _ _ _ w64.1 (z69 _) z71 z_a3 z73) (fun r75 K76 => ?_)
        have w77 := wk_t w64 K76 hN
        refine pq_g (fun g78 => ?_)
        refine pq_b (wX59_give S Z (sb rfl hS) _ _ _ w77.1 z_a0) (fun r79 K80 => ?_)
        have w81 := wk_t w77 K80 hN
        exact pq_s w81
      · exact pq_s w6
    · refine pq_fi (fun _ => ?_) (fun _ => ?_)
      · refine pq_g (fun g82 => ?_)
        have z83 := wk_z (i := 0) (f := 100) w6 rfl z_a0
        have f84 := sS_100 w6.1.1 g82
        refine pq_g (fun g85 => ?_)
        refine pq_fi (fun _ => ?_) (fun _ => ?_)
        · refine pq_g (fun g86 => ?_)
          have z87 := wk_z (i := 0) (f := 100) w6 rfl z_a0
          have f88 := sS_100 w6.1.1 g86
          refine pq_g (fun g89 => ?_)
          have z90 := fun i => wk_ze (i := i) w6 rfl g89.1 f88 rfl z87
          refine pq_g (fun g91 => ?_)
          have z92 := wk_z (i := 0) (f := 105) w6 rfl z_a0
          refine pq_g (fun g93 => ?_)
          refine pq_b (wX64_take S Z (sb rfl hS) _ _ _ _ w6.1 (z90 _) z92) (fun r94 K95 => ?_)
          have w96 := wk_t w6 K95 hN
          refine pq_g (fun g97 => ?_)
          have z98 := wk_z (i := 0) (f := 105) w96 rfl z_a0
          refine pq_g (fun g99 => ?_)
          have z100 := wk_z (i := 0) (f := 94) w96 rfl z_a0
          refine pq_g (fun g101 => ?_)
          refine pq_b (wX61_put S Z (sb rfl hS) n _ _ _ _ _ w96.1 z_a2 z98 z_a3 z100) (fun r102 K103 => ?_)
          have w104 := wk_t w96 K103 hN
          refine pq_g (fun g105 => ?_)
          refine pq_b (wX59_write S Z (sb rfl hS) _ _ _ _ _ w104.1 z_a0 z_a2) (fun r106 K107 => ?_)
          have w108 := wk_t w104 K107 hN
          exact pq_s w108
        · exact pq_s w6
      · exact pq_s w6
theorem wX59_convert (S Z : Nat → Prop) {hx N : Nat} (hS : ∀ x, fe_mem lX59_convert x = true → S x) (n : Nat) (a0 : Nat) (a1 : Int32) (a2 : Nat) (a3 : Nat) (a4 : Int64) (M : FM) (w : WI Z hx N M) (z_a0 : Z a0) (z_a2 : Z a2) (z_a3 : Z a3) : pq (FX59_convert n a0 a1 a2 a3 a4 M) (QA S Z hx N M) := wX59_convert_0 S Z hS n a0 a1 a2 a3 a4 M w z_a0 z_a2 z_a3
def lX59_operate : List Nat := [91, 92, 96, 97, 114, 115, 116, 118, 119, 120, 1093]
theorem wX59_operate_209 (S Z : Nat → Prop) {hx N : Nat} (hS : ∀ x, fe_mem lX59_operate x = true → S x) (n : Nat) (s0 : Int32) (M : FM) (w : WI Z hx N M) : pq (FX59_operate_209 n s0 M) (QA S Z hx N M) := by
  have hN := w.2.2.1
  have w0 := wk_r (S := S) w
  delta FX59_operate_209 BX59_operate_209
  exact pq_s w0
theorem wX59_operate_200 (S Z : Nat → Prop) {hx N : Nat} (hS : ∀ x, fe_mem lX59_operate x = true → S x) (n : Nat) (a0 : Nat) (a1 : Int32) (a2 : Nat) (a3 : Int64) (a7 : Nat) (M : FM) (w : WI Z hx N M) (z_a0 : Z a0) (z_a2 : Z a2) (z_a7 : Z a7) : pq (FX59_operate_200 n a0 a1 a2 a3 a7 M) (QA S Z hx N M) := by
  have hN := w.2.2.1
  have w0 := wk_r (S := S) w
  delta FX59_operate_200 BX59_operate_200
  refine pq_g (fun g1 => ?_)
  refine pq_b (wX59_convert S Z (sb rfl hS) n _ _ _ _ _ _ w0.1 z_a0 z_a2 z_a7) (fun r2 K3 => ?_)
  have w4 := wk_t w0 K3 hN
  exact q_tA hN w4 (wX59_operate_209 S Z hS n _ _ w4.1 )
theorem wX59_operate_189 (S Z : Nat → Prop) {hx N : Nat} (hS : ∀ x, fe_mem lX59_operate x = true → S x) (n : Nat) (a0 : Nat) (a1 : Int32) (a2 : Nat) (a7 : Nat) (M : FM) (w : WI Z hx N M) (z_a0 : Z a0) (z_a2 : Z a2) (z_a7 : Z a7) : pq (FX59_operate_189 n a0 a1 a2 a7 M) (QA S Z hx N M) := by
  have hN := w.2.2.1
  have w0 := wk_r (S := S) w
  delta FX59_operate_189 BX59_operate_189
  refine pq_g (fun g1 => ?_)
  refine pq_b (wX59_reckon S Z (sb rfl hS) n _ _ _ _ _ w0.1 z_a0 z_a2 z_a7) (fun r2 K3 => ?_)
  have w4 := wk_t w0 K3 hN
  exact q_tA hN w4 (wX59_operate_209 S Z hS n _ _ w4.1 )
theorem wX59_operate_150 (S Z : Nat → Prop) {hx N : Nat} (hS : ∀ x, fe_mem lX59_operate x = true → S x) (n : Nat) (s0 : Int32) (M : FM) (w : WI Z hx N M) : pq (FX59_operate_150 n s0 M) (QA S Z hx N M) := by
  have hN := w.2.2.1
  have w0 := wk_r (S := S) w
  delta FX59_operate_150 BX59_operate_150
  exact pq_s w0
theorem wX59_operate_149 (S Z : Nat → Prop) {hx N : Nat} (hS : ∀ x, fe_mem lX59_operate x = true → S x) (n : Nat) (M : FM) (w : WI Z hx N M) : pq (FX59_operate_149 n M) (QA S Z hx N M) := by
  have hN := w.2.2.1
  have w0 := wk_r (S := S) w
  delta FX59_operate_149 BX59_operate_149
  exact q_tA hN w0 (wX59_operate_150 S Z hS n _ _ w0.1 )
theorem wX59_operate_143 (S Z : Nat → Prop) {hx N : Nat} (hS : ∀ x, fe_mem lX59_operate x = true → S x) (n : Nat) (s0 : Nat) (s1 : Int32) (s2 : Nat) (s3 : Int64) (M : FM) (w : WI Z hx N M) (z_s0 : Z s0) (z_s2 : Z s2) : pq (FX59_operate_143 n s0 s1 s2 s3 M) (QA S Z hx N M) := by
  have hN := w.2.2.1
  have w0 := wk_r (S := S) w
  delta FX59_operate_143 BX59_operate_143
  refine pq_g (fun g1 => ?_)
  refine pq_b (wX59_write S Z (sb rfl hS) _ _ _ _ _ w0.1 z_s0 z_s2) (fun r2 K3 => ?_)
  have w4 := wk_t w0 K3 hN
  exact q_tA hN w4 (wX59_operate_150 S Z hS n _ _ w4.1 )
theorem wX59_operate_108 (S Z : Nat → Prop) {hx N : Nat} (hS : ∀ x, fe_mem lX59_operate x = true → S x) (n : Nat) (s0 : Int32) (M : FM) (w : WI Z hx N M) : pq (FX59_operate_108 n s0 M) (QA S Z hx N M) := by
  have hN := w.2.2.1
  have w0 := wk_r (S := S) w
  delta FX59_operate_108 BX59_operate_108
  exact pq_s w0
theorem wX59_operate_0 (S Z : Nat → Prop) {hx N : Nat} (hS : ∀ x, fe_mem lX59_operate x = true → S x) (n : Nat) (a0 : Nat) (a1 : Int32) (a2 : Nat) (a3 : Int64) (M : FM) (w : WI Z hx N M) (z_a0 : Z a0) (z_a2 : Z a2) : pq (FX59_operate_0 n a0 a1 a2 a3 M) (QA S Z hx N M) := by
  have hN := w.2.2.1
  have w0 := wk_r (S := S) w
  delta FX59_operate_0 BX59_operate_0
  refine pq_b (wX59_part S Z (sb rfl hS) _ _ _ _ w0.1 ) (fun r1 K2 => ?_)
  have w3 := wk_t w0 K2 hN
  refine pq_b (wX59_part S Z (sb rfl hS) _ _ _ _ w3.1 ) (fun r4 K5 => ?_)
  have w6 := wk_t w3 K5 hN
  refine pq_fi (fun _ => ?_) (fun _ => ?_)
  · refine pq_g (fun g7 => ?_)
    refine pq_b (wX59_changeSign S Z (sb rfl hS) _ _ _ _ w6.1 z_a0 z_a2) (fun r8 K9 => ?_)
    have w10 := wk_t w6 K9 hN
    exact pq_s w10
  · refine pq_fi (fun _ => ?_) (fun _ => ?_)
    · refine pq_g (fun g11 => ?_)
      refine pq_b (wX59_choose S Z (sb rfl hS) n _ _ _ _ w6.1 z_a0 z_a2) (fun r12 K13 => ?_)
      have w14 := wk_t w6 K13 hN
      exact pq_s w14
    · refine pq_fi (fun _ => ?_) (fun _ => ?_)
      · refine pq_g (fun g15 => ?_)
        refine pq_b (wX59_compare S Z (sb rfl hS) n _ _ _ _ w6.1 z_a0 z_a2) (fun r16 K17 => ?_)
        have w18 := wk_t w6 K17 hN
        exact pq_s w18
      · refine pq_fi (fun _ => ?_) (fun _ => ?_)
        · refine pq_fi (fun _ => ?_) (fun _ => ?_)
          · refine pq_g (fun g19 => ?_)
            refine pq_b (wX59_look S Z (sb rfl hS) _ _ _ _ w6.1 z_a0 z_a2) (fun r20 K21 => ?_)
            have w22 := wk_t w6 K21 hN
            exact q_tA hN w22 (wX59_operate_108 S Z hS n _ _ w22.1 )
          · exact q_tA hN w6 (wX59_operate_108 S Z hS n _ _ w6.1 )
        · refine pq_fi (fun _ => ?_) (fun _ => ?_)
          · refine pq_fi (fun _ => ?_) (fun _ => ?_)
            · refine pq_b (wX59_part S Z (sb rfl hS) _ _ _ _ w6.1 ) (fun r23 K24 => ?_)
              have w25 := wk_t w6 K24 hN
              refine pq_fi (fun _ => ?_) (fun _ => ?_)
              · refine pq_b (wX59_isDouble S Z (sb rfl hS) _ _ w25.1 z_a2) (fun r26 K27 => ?_)
                have w28 := wk_t w25 K27 hN
                refine pq_fi (fun _ => ?_) (fun _ => ?_)
                · exact q_tA hN w28 (wX59_operate_143 S Z hS n _ _ _ _ _ w28.1 z_a0 z_a2)
                · exact q_tA hN w28 (wX59_operate_143 S Z hS n _ _ _ _ _ w28.1 z_a0 z_a2)
              · exact q_tA hN w25 (wX59_operate_149 S Z hS n _ w25.1 )
            · exact q_tA hN w6 (wX59_operate_149 S Z hS n _ w6.1 )
          · refine pq_g (fun g29 => ?_)
            refine pq_b (wX59_modeOf S Z (sb rfl hS) _ _ _ w6.1 z_a0) (fun r30 K31 => ?_)
            have w32 := wk_t w6 K31.1 hN
            refine pq_fi (fun _ => ?_) (fun _ => ?_)
            · exact q_tA hN w32 (wX59_operate_209 S Z hS n _ _ w32.1 )
            · refine pq_g (fun g33 => ?_)
              have z34 := wk_z (i := 0) (f := 101) w32 rfl z_a0
              have f35 := sS_101 w32.1.1 g33
              refine pq_g (fun g36 => ?_)
              refine pq_fi (fun _ => ?_) (fun _ => ?_)
              · exact q_tA hN w32 (wX59_operate_189 S Z hS n _ _ _ _ _ w32.1 z_a0 z_a2 K31.2)
              · refine pq_fi (fun _ => ?_) (fun _ => ?_)
                · refine pq_fi (fun _ => ?_) (fun _ => ?_)
                  · exact q_tA hN w32 (wX59_operate_189 S Z hS n _ _ _ _ _ w32.1 z_a0 z_a2 K31.2)
                  · exact q_tA hN w32 (wX59_operate_200 S Z hS n _ _ _ _ _ _ w32.1 z_a0 z_a2 K31.2)
                · exact q_tA hN w32 (wX59_operate_200 S Z hS n _ _ _ _ _ _ w32.1 z_a0 z_a2 K31.2)
theorem wX59_operate (S Z : Nat → Prop) {hx N : Nat} (hS : ∀ x, fe_mem lX59_operate x = true → S x) (n : Nat) (a0 : Nat) (a1 : Int32) (a2 : Nat) (a3 : Int64) (M : FM) (w : WI Z hx N M) (z_a0 : Z a0) (z_a2 : Z a2) : pq (FX59_operate n a0 a1 a2 a3 M) (QA S Z hx N M) := wX59_operate_0 S Z hS n a0 a1 a2 a3 M w z_a0 z_a2
def lX59_fuse : List Nat := [91, 92, 96, 114, 115, 116, 118, 119, 120, 1093]
theorem wX59_fuse_143 (S Z : Nat → Prop) {hx N : Nat} (hS : ∀ x, fe_mem lX59_fuse x = true → S x) (n : Nat) (a0 : Nat) (a1 : Int32) (a2 : Nat) (a4 : Nat) (s0 : Nat) (s1 : Int32) (s2 : Int32) (M : FM) (w : WI Z hx N M) (z_a0 : Z a0) (z_a2 : Z a2) (z_a4 : Z a4) (z_s0 : Z s0) : pq (FX59_fuse_143 n a0 a1 a2 a4 s0 s1 s2 M) (QA S Z hx N M) := by
  have hN := w.2.2.1
  have w0 := wk_r (S := S) w
  delta FX59_fuse_143 BX59_fuse_143
  refine pq_g (fun g1 => ?_)
  refine pq_g (fun _ => ?_)
  extract_lets +onlyGivenNames M3
  have w2 : Wk S Z hx N M M3 := wk_fI hN w0 rfl rfl g1 z_s0 (Or.inr (hS 115 rfl))
  refine pq_g (fun g4 => ?_)
  have z5 := wk_z (i := 0) (f := 101) w2 rfl z_a0
  have f6 := sS_101 w2.1.1 g4
  refine pq_g (fun g7 => ?_)
  have z8 := fun i => wk_ze (i := i) w2 rfl g7.1 f6 rfl z5
  refine pq_g (fun g9 => ?_)
  have z10 := wk_z (i := 0) (f := 105) w2 rfl z_a0
  refine pq_g (fun g11 => ?_)
  have z12 := wk_z (i := 0) (f := 107) w2 rfl z_a0
  refine pq_g (fun g13 => ?_)
  have z14 := wk_z (i := 0) (f := 94) w2 rfl z_a0
  refine pq_g (fun g15 => ?_)
  have z16 := wk_z (i := 0) (f := 108) w2 rfl z_a0
  refine pq_g (fun g17 => ?_)
  refine pq_b (wX65_run S Z (sb rfl hS) n _ _ _ _ _ _ _ w2.1 (z8 _) z10 z12 z_a4 z14 z16) (fun r18 K19 => ?_)
  have w20 := wk_t w2 K19 hN
  refine pq_g (fun g21 => ?_)
  have z22 := wk_z (i := 0) (f := 108) w20 rfl z_a0
  refine pq_g (fun g23 => ?_)
  have z24 := wk_z (i := 0) (f := 94) w20 rfl z_a0
  refine pq_g (fun g25 => ?_)
  refine pq_b (wX61_put S Z (sb rfl hS) n _ _ _ _ _ w20.1 z_a2 z22 z_a4 z24) (fun r26 K27 => ?_)
  have w28 := wk_t w20 K27 hN
  refine pq_g (fun g29 => ?_)
  refine pq_b (wX59_write S Z (sb rfl hS) _ _ _ _ _ w28.1 z_a0 z_a2) (fun r30 K31 => ?_)
  have w32 := wk_t w28 K31 hN
  exact pq_s w32
theorem wX59_fuse_138 (S Z : Nat → Prop) {hx N : Nat} (hS : ∀ x, fe_mem lX59_fuse x = true → S x) (n : Nat) (a0 : Nat) (a1 : Int32) (a2 : Nat) (a4 : Nat) (s0 : Nat) (s1 : Int32) (M : FM) (w : WI Z hx N M) (z_a0 : Z a0) (z_a2 : Z a2) (z_a4 : Z a4) (z_s0 : Z s0) : pq (FX59_fuse_138 n a0 a1 a2 a4 s0 s1 M) (QA S Z hx N M) := by
  have hN := w.2.2.1
  have w0 := wk_r (S := S) w
  delta FX59_fuse_138 BX59_fuse_138
  exact q_tA hN w0 (wX59_fuse_143 S Z hS n _ _ _ _ _ _ _ _ w0.1 z_a0 z_a2 z_a4 z_s0)
theorem wX59_fuse_116 (S Z : Nat → Prop) {hx N : Nat} (hS : ∀ x, fe_mem lX59_fuse x = true → S x) (n : Nat) (a0 : Nat) (a1 : Int32) (a2 : Nat) (a3 : Int32) (a4 : Nat) (s0 : Nat) (s1 : Int32) (s2 : Int32) (M : FM) (w : WI Z hx N M) (z_a0 : Z a0) (z_a2 : Z a2) (z_a4 : Z a4) (z_s0 : Z s0) : pq (FX59_fuse_116 n a0 a1 a2 a3 a4 s0 s1 s2 M) (QA S Z hx N M) := by
  have hN := w.2.2.1
  have w0 := wk_r (S := S) w
  delta FX59_fuse_116 BX59_fuse_116
  refine pq_g (fun g1 => ?_)
  refine pq_g (fun _ => ?_)
  extract_lets +onlyGivenNames M3
  have w2 : Wk S Z hx N M M3 := wk_fI hN w0 rfl rfl g1 z_s0 (Or.inr (hS 115 rfl))
  refine pq_g (fun g4 => ?_)
  have z5 := wk_z (i := 0) (f := 107) w2 rfl z_a0
  refine pq_g (fun g6 => ?_)
  refine pq_fi (fun _ => ?_) (fun _ => ?_)
  · exact q_tA hN w2 (wX59_fuse_138 S Z hS n _ _ _ _ _ _ _ w2.1 z_a0 z_a2 z_a4 z5)
  · refine pq_fi (fun _ => ?_) (fun _ => ?_)
    · exact q_tA hN w2 (wX59_fuse_138 S Z hS n _ _ _ _ _ _ _ w2.1 z_a0 z_a2 z_a4 z5)
    · exact q_tA hN w2 (wX59_fuse_143 S Z hS n _ _ _ _ _ _ _ _ w2.1 z_a0 z_a2 z_a4 z5)
theorem wX59_fuse_0 (S Z : Nat → Prop) {hx N : Nat} (hS : ∀ x, fe_mem lX59_fuse x = true → S x) (n : Nat) (a0 : Nat) (a1 : Int32) (a2 : Nat) (a3 : Int32) (M : FM) (w : WI Z hx N M) (z_a0 : Z a0) (z_a2 : Z a2) : pq (FX59_fuse_0 n a0 a1 a2 a3 M) (QA S Z hx N M) := by
  have hN := w.2.2.1
  have w0 := wk_r (S := S) w
  delta FX59_fuse_0 BX59_fuse_0
  refine pq_g (fun g1 => ?_)
  refine pq_b (wX59_modeOf S Z (sb rfl hS) _ _ _ w0.1 z_a0) (fun r2 K3 => ?_)
  have w4 := wk_t w0 K3.1 hN
  refine pq_fi (fun _ => ?_) (fun _ => ?_)
  · exact pq_s w4
  · refine pq_b (wX59_part S Z (sb rfl hS) _ _ _ _ w4.1 ) (fun r5 K6 => ?_)
    have w7 := wk_t w4 K6 hN
    refine pq_g (fun g8 => ?_)
    have z9 := wk_z (i := 0) (f := 105) w7 rfl z_a0
    refine pq_g (fun g10 => ?_)
    refine pq_b (wX59_take S Z (sb rfl hS) _ _ _ _ _ w7.1 z_a0 z_a2 z9) (fun r11 K12 => ?_)
    have w13 := wk_t w7 K12 hN
    refine pq_b (wX59_part S Z (sb rfl hS) _ _ _ _ w13.1 ) (fun r14 K15 => ?_)
    have w16 := wk_t w13 K15 hN
    refine pq_g (fun g17 => ?_)
    have z18 := wk_z (i := 0) (f := 106) w16 rfl z_a0
    refine pq_g (fun g19 => ?_)
    refine pq_b (wX59_take S Z (sb rfl hS) _ _ _ _ _ w16.1 z_a0 z_a2 z18) (fun r20 K21 => ?_)
    have w22 := wk_t w16 K21 hN
    refine pq_b (wX59_part S Z (sb rfl hS) _ _ _ _ w22.1 ) (fun r23 K24 => ?_)
    have w25 := wk_t w22 K24 hN
    refine pq_g (fun g26 => ?_)
    have z27 := wk_z (i := 0) (f := 107) w25 rfl z_a0
    refine pq_g (fun g28 => ?_)
    refine pq_b (wX59_take S Z (sb rfl hS) _ _ _ _ _ w25.1 z_a0 z_a2 z27) (fun r29 K30 => ?_)
    have w31 := wk_t w25 K30 hN
    refine pq_g (fun g32 => ?_)
    have z33 := wk_z (i := 0) (f := 102) w31 rfl z_a0
    refine pq_g (fun g34 => ?_)
    have z35 := wk_z (i := 0) (f := 105) w31 rfl z_a0
    refine pq_g (fun g36 => ?_)
    have z37 := wk_z (i := 0) (f := 106) w31 rfl z_a0
    refine pq_g (fun g38 => ?_)
    have z39 := wk_z (i := 0) (f := 94) w31 rfl z_a0
    refine pq_g (fun g40 => ?_)
    have z41 := wk_z (i := 0) (f := 108) w31 rfl z_a0
    refine pq_g (fun g42 => ?_)
    refine pq_b (wX65_run S Z (sb rfl hS) n _ _ _ _ _ _ _ w31.1 z33 z35 z37 K3.2 z39 z41) (fun r43 K44 => ?_)
    have w45 := wk_t w31 K44 hN
    refine pq_g (fun g46 => ?_)
    have z47 := wk_z (i := 0) (f := 105) w45 rfl z_a0
    refine pq_g (fun g48 => ?_)
    have z49 := wk_z (i := 0) (f := 108) w45 rfl z_a0
    refine pq_g (fun g50 => ?_)
    refine pq_b (wX71_copy S Z (sb rfl hS) _ _ _ w45.1 z47 z49) (fun r51 K52 => ?_)
    have w53 := wk_t w45 K52 hN
    refine pq_g (fun g54 => ?_)
    have z55 := wk_z (i := 0) (f := 105) w53 rfl z_a0
    refine pq_g (fun g56 => ?_)
    refine pq_fi (fun _ => ?_) (fun _ => ?_)
    · exact q_tA hN w53 (wX59_fuse_116 S Z hS n _ _ _ _ _ _ _ _ _ w53.1 z_a0 z_a2 K3.2 z55)
    · exact q_tA hN w53 (wX59_fuse_116 S Z hS n _ _ _ _ _ _ _ _ _ w53.1 z_a0 z_a2 K3.2 z55)
theorem wX59_fuse (S Z : Nat → Prop) {hx N : Nat} (hS : ∀ x, fe_mem lX59_fuse x = true → S x) (n : Nat) (a0 : Nat) (a1 : Int32) (a2 : Nat) (a3 : Int32) (M : FM) (w : WI Z hx N M) (z_a0 : Z a0) (z_a2 : Z a2) : pq (FX59_fuse n a0 a1 a2 a3 M) (QA S Z hx N M) := wX59_fuse_0 S Z hS n a0 a1 a2 a3 M w z_a0 z_a2
def lX59_run : List Nat := [91, 92, 96, 97, 114, 115, 116, 118, 119, 120, 1093]
theorem wX59_run_92 (S Z : Nat → Prop) {hx N : Nat} (hS : ∀ x, fe_mem lX59_run x = true → S x) (n : Nat) (s0 : Int32) (M : FM) (w : WI Z hx N M) : pq (FX59_run_92 n s0 M) (QA S Z hx N M) := by
  have hN := w.2.2.1
  have w0 := wk_r (S := S) w
  delta FX59_run_92 BX59_run_92
  exact pq_s w0
theorem wX59_run_91 (S Z : Nat → Prop) {hx N : Nat} (hS : ∀ x, fe_mem lX59_run x = true → S x) (n : Nat) (M : FM) (w : WI Z hx N M) : pq (FX59_run_91 n M) (QA S Z hx N M) := by
  have hN := w.2.2.1
  have w0 := wk_r (S := S) w
  delta FX59_run_91 BX59_run_91
  exact q_tA hN w0 (wX59_run_92 S Z hS n _ _ w0.1 )
theorem wX59_run_0 (S Z : Nat → Prop) {hx N : Nat} (hS : ∀ x, fe_mem lX59_run x = true → S x) (n : Nat) (a0 : Nat) (a1 : Int32) (a2 : Int64) (M : FM) (w : WI Z hx N M) (z_a0 : Z a0) : pq (FX59_run_0 n a0 a1 a2 M) (QA S Z hx N M) := by
  have hN := w.2.2.1
  have w0 := wk_r (S := S) w
  delta FX59_run_0 BX59_run_0
  refine pq_b (wX59_part S Z (sb rfl hS) _ _ _ _ w0.1 ) (fun r1 K2 => ?_)
  have w3 := wk_t w0 K2 hN
  refine pq_b (wX59_part S Z (sb rfl hS) _ _ _ _ w3.1 ) (fun r4 K5 => ?_)
  have w6 := wk_t w3 K5 hN
  refine pq_fi (fun _ => ?_) (fun _ => ?_)
  · refine pq_fi (fun _ => ?_) (fun _ => ?_)
    · refine pq_g (fun g7 => ?_)
      have z8 := wk_z (i := 0) (f := 98) w6 rfl z_a0
      have f9 := sS_98 w6.1.1 g7
      refine pq_g (fun g10 => ?_)
      have z11 := fun i => wk_ze (i := i) w6 rfl g10.1 f9 rfl z8
      refine pq_g (fun g12 => ?_)
      refine pq_b (wX59_operate S Z (sb rfl hS) n _ _ _ _ _ w6.1 z_a0 (z11 _)) (fun r13 K14 => ?_)
      have w15 := wk_t w6 K14 hN
      exact pq_s w15
    · refine pq_fi (fun _ => ?_) (fun _ => ?_)
      · exact q_tA hN w6 (wX59_run_91 S Z hS n _ w6.1 )
      · refine pq_fi (fun _ => ?_) (fun _ => ?_)
        · exact q_tA hN w6 (wX59_run_91 S Z hS n _ w6.1 )
        · refine pq_fi (fun _ => ?_) (fun _ => ?_)
          · refine pq_g (fun g16 => ?_)
            have z17 := wk_z (i := 0) (f := 98) w6 rfl z_a0
            have f18 := sS_98 w6.1.1 g16
            refine pq_g (fun g19 => ?_)
            have z20 := fun i => wk_ze (i := i) w6 rfl g19.1 f18 rfl z17
            refine pq_g (fun g21 => ?_)
            refine pq_b (wX59_fuse S Z (sb rfl hS) n _ _ _ _ _ w6.1 z_a0 (z20 _)) (fun r22 K23 => ?_)
            have w24 := wk_t w6 K23 hN
            exact q_tA hN w24 (wX59_run_92 S Z hS n _ _ w24.1 )
          · exact q_tA hN w6 (wX59_run_91 S Z hS n _ w6.1 )
  · exact pq_s w6
theorem wX59_run (S Z : Nat → Prop) {hx N : Nat} (hS : ∀ x, fe_mem lX59_run x = true → S x) (n : Nat) (a0 : Nat) (a1 : Int32) (a2 : Int64) (M : FM) (w : WI Z hx N M) (z_a0 : Z a0) : pq (FX59_run n a0 a1 a2 M) (QA S Z hx N M) := wX59_run_0 S Z hS n a0 a1 a2 M w z_a0
def lX46_floating : List Nat := [22, 23, 37, 39, 41, 63, 64, 65, 66, 67, 70, 71, 72, 73, 74, 75, 76, 77, 80, 81, 82, 83, 84, 87, 88, 89, 90, 91, 92, 96, 97, 114, 115, 116, 118, 119, 120, 122, 123, 124, 174, 177, 179, 208, 227, 228, 229, 231, 232, 234, 236, 237, 238, 269, 270, 271, 272, 273, 274, 275, 276, 277, 289, 290, 292, 293, 294, 1069, 1085, 1086, 1093, 1121, 1178, 1201, 1203, 1204, 1224, 1225, 1226, 1230, 1233, 1235, 1245, 1246, 1278, 1279, 1295]
theorem wX46_floating_140 (S Z : Nat → Prop) {hx N : Nat} (hS : ∀ x, fe_mem lX46_floating x = true → S x) (n : Nat) (a2 : Int32) (M : FM) (w : WI Z hx N M) : pq (FX46_floating_140 n a2 M) (QA S Z hx N M) := by
  have hN := w.2.2.1
  have w0 := wk_r (S := S) w
  delta FX46_floating_140 BX46_floating_140
  refine pq_g (fun _ => ?_)
  exact pq_s w0
theorem wX46_floating_110 (S Z : Nat → Prop) {hx N : Nat} (hS : ∀ x, fe_mem lX46_floating x = true → S x) (n : Nat) (a0 : Nat) (a2 : Int32) (M : FM) (w : WI Z hx N M) (z_a0 : Z a0) : pq (FX46_floating_110 n a0 a2 M) (QA S Z hx N M) := by
  have hN := w.2.2.1
  have w0 := wk_r (S := S) w
  delta FX46_floating_110 BX46_floating_110
  refine pq_g (fun g1 => ?_)
  have z2 := wk_z (i := 0) (f := 212) w0 rfl z_a0
  refine pq_g (fun g3 => ?_)
  refine pq_b (wX59_isWritten S Z (sb rfl hS) _ _ w0.1 z2) (fun r4 K5 => ?_)
  have w6 := wk_t w0 K5 hN
  refine pq_fi (fun _ => ?_) (fun _ => ?_)
  · exact q_tA hN w6 (wX46_floating_140 S Z hS n _ _ w6.1 )
  · refine pq_g (fun g7 => ?_)
    have z8 := wk_z (i := 0) (f := 213) w6 rfl z_a0
    refine pq_g (fun g9 => ?_)
    have z10 := wk_z (i := 0) (f := 27) w6 rfl z8
    refine pq_g (fun g11 => ?_)
    refine pq_b (wX78_putTwo S Z (sb rfl hS) _ _ _ _ w6.1 z10) (fun r12 K13 => ?_)
    have w14 := wk_t w6 K13 hN
    refine pq_g (fun g15 => ?_)
    have z16 := wk_z (i := 0) (f := 212) w14 rfl z_a0
    refine pq_g (fun g17 => ?_)
    refine pq_b (wX59_calm S Z (sb rfl hS) _ _ w14.1 z16) (fun r18 K19 => ?_)
    have w20 := wk_t w14 K19 hN
    exact q_tA hN w20 (wX46_floating_140 S Z hS n _ _ w20.1 )
theorem wX46_floating_97 (S Z : Nat → Prop) {hx N : Nat} (hS : ∀ x, fe_mem lX46_floating x = true → S x) (n : Nat) (a0 : Nat) (s0 : Nat) (s1 : Int32) (M : FM) (w : WI Z hx N M) (z_a0 : Z a0) (z_s0 : Z s0) : pq (FX46_floating_97 n a0 s0 s1 M) (QA S Z hx N M) := by
  have hN := w.2.2.1
  have w0 := wk_r (S := S) w
  delta FX46_floating_97 BX46_floating_97
  refine pq_g (fun g1 => ?_)
  have z2 := wk_z (i := 0) (f := 212) w0 rfl z_a0
  refine pq_g (fun g3 => ?_)
  refine pq_g (fun g4 => ?_)
  refine pq_b (wX47_finish S Z (sb rfl hS) _ _ _ _ w0.1 z_s0) (fun r5 K6 => ?_)
  have w7 := wk_t w0 K6 hN
  exact q_tA hN w7 (wX46_floating_110 S Z hS n _ _ _ w7.1 z_a0)
theorem wX46_floating_0 (S Z : Nat → Prop) {hx N : Nat} (hS : ∀ x, fe_mem lX46_floating x = true → S x) (n : Nat) (a0 : Nat) (M : FM) (w : WI Z hx N M) (z_a0 : Z a0) : pq (FX46_floating_0 n a0 M) (QA S Z hx N M) := by
  have hN := w.2.2.1
  have w0 := wk_r (S := S) w
  delta FX46_floating_0 BX46_floating_0
  refine pq_g (fun g1 => ?_)
  have z2 := wk_z (i := 0) (f := 213) w0 rfl z_a0
  refine pq_g (fun g3 => ?_)
  refine pq_b (wX74_floats S Z (sb rfl hS) _ _ w0.1 z2) (fun r4 K5 => ?_)
  have w6 := wk_t w0 K5 hN
  refine pq_fi (fun _ => ?_) (fun _ => ?_)
  · refine pq_g (fun g7 => ?_)
    refine pq_b (wX46_illegal S Z (sb rfl hS) _ _ w6.1 z_a0) (fun r8 K9 => ?_)
    have w10 := wk_t w6 K9 hN
    refine pq_g (fun _ => ?_)
    exact pq_s w10
  · refine pq_g (fun g11 => ?_)
    have z12 := wk_z (i := 0) (f := 211) w6 rfl z_a0
    refine pq_g (fun g13 => ?_)
    refine pq_b (wX47_wanted S Z (sb rfl hS) _ _ _ w6.1 z12) (fun r14 K15 => ?_)
    have w16 := wk_t w6 K15 hN
    refine pq_fi (fun _ => ?_) (fun _ => ?_)
    · refine pq_g (fun g17 => ?_)
      refine pq_b (wX46_floatLoad S Z (sb rfl hS) n _ _ w16.1 z_a0) (fun r18 K19 => ?_)
      have w20 := wk_t w16 K19 hN
      exact q_tA hN w20 (wX46_floating_110 S Z hS n _ _ _ w20.1 z_a0)
    · refine pq_fi (fun _ => ?_) (fun _ => ?_)
      · refine pq_g (fun g21 => ?_)
        refine pq_b (wX46_floatStore S Z (sb rfl hS) n _ _ w16.1 z_a0) (fun r22 K23 => ?_)
        have w24 := wk_t w16 K23 hN
        exact q_tA hN w24 (wX46_floating_110 S Z hS n _ _ _ w24.1 z_a0)
      · refine pq_g (fun g25 => ?_)
        have z26 := wk_z (i := 0) (f := 212) w16 rfl z_a0
        refine pq_g (fun g27 => ?_)
        refine pq_g (fun g28 => ?_)
        have z29 := wk_z (i := 0) (f := 211) w16 rfl z_a0
        refine pq_g (fun g30 => ?_)
        refine pq_b (wX47_wanted S Z (sb rfl hS) _ _ _ w16.1 z29) (fun r31 K32 => ?_)
        have w33 := wk_t w16 K32 hN
        refine pq_g (fun g34 => ?_)
        refine pq_b (wX59_run S Z (sb rfl hS) n _ _ _ _ w33.1 z26) (fun r35 K36 => ?_)
        have w37 := wk_t w33 K36 hN
        refine pq_fi (fun _ => ?_) (fun _ => ?_)
        · refine pq_g (fun g38 => ?_)
          refine pq_b (wX46_illegal S Z (sb rfl hS) _ _ w37.1 z_a0) (fun r39 K40 => ?_)
          have w41 := wk_t w37 K40 hN
          refine pq_g (fun _ => ?_)
          exact pq_s w41
        · refine pq_g (fun g42 => ?_)
          have z43 := wk_z (i := 0) (f := 211) w37 rfl z_a0
          refine pq_fi (fun _ => ?_) (fun _ => ?_)
          · exact q_tA hN w37 (wX46_floating_97 S Z hS n _ _ _ _ w37.1 z_a0 z43)
          · exact q_tA hN w37 (wX46_floating_97 S Z hS n _ _ _ _ w37.1 z_a0 z43)
theorem wX46_floating (S Z : Nat → Prop) {hx N : Nat} (hS : ∀ x, fe_mem lX46_floating x = true → S x) (n : Nat) (a0 : Nat) (M : FM) (w : WI Z hx N M) (z_a0 : Z a0) : pq (FX46_floating n a0 M) (QA S Z hx N M) := wX46_floating_0 S Z hS n a0 M w z_a0
def lX74_backFromMachine : List Nat := [37, 39, 41]
theorem wX74_backFromMachine_0 (S Z : Nat → Prop) {hx N : Nat} (hS : ∀ x, fe_mem lX74_backFromMachine x = true → S x) (a0 : Nat) (M : FM) (w : WI Z hx N M) (z_a0 : Z a0) : pq (FX74_backFromMachine_0 a0 M) (QV S Z hx N M) := by
  have hN := w.2.2.1
  have w0 := wk_r (S := S) w
  delta FX74_backFromMachine_0 BX74_backFromMachine_0
  refine pq_g (fun g1 => ?_)
  have z2 := wk_z (i := 0) (f := 27) w0 rfl z_a0
  refine pq_g (fun g3 => ?_)
  have z4 := wk_z (i := 0) (f := 27) w0 rfl z_a0
  refine pq_g (fun g5 => ?_)
  refine pq_b (wX78_has S Z (sb rfl hS) _ _ _ w0.1 z4) (fun r6 K7 => ?_)
  have w8 := wk_t w0 K7 hN
  refine pq_g (fun g9 => ?_)
  refine pq_b (wX78_put S Z (sb rfl hS) _ _ _ _ w8.1 z2) (fun r10 K11 => ?_)
  have w12 := wk_t w8 K11 hN
  refine pq_g (fun g13 => ?_)
  have z14 := wk_z (i := 0) (f := 27) w12 rfl z_a0
  refine pq_g (fun g15 => ?_)
  refine pq_b (wX78_put S Z (sb rfl hS) _ _ _ _ w12.1 z14) (fun r16 K17 => ?_)
  have w18 := wk_t w12 K17 hN
  refine pq_g (fun g19 => ?_)
  have z20 := wk_z (i := 0) (f := 27) w18 rfl z_a0
  refine pq_g (fun g21 => ?_)
  refine pq_b (wX78_two S Z (sb rfl hS) _ _ _ w18.1 z20) (fun r22 K23 => ?_)
  have w24 := wk_t w18 K23 hN
  refine pq_g (fun g25 => ?_)
  extract_lets +onlyGivenNames M27
  have w26 : Wk S Z hx N M M27 := wk_fI hN w24 rfl rfl g25 z_a0 (Or.inr (hS 37 rfl))
  refine pq_g (fun g28 => ?_)
  have z29 := wk_z (i := 0) (f := 27) w26 rfl z_a0
  refine pq_g (fun g30 => ?_)
  refine pq_b (wX78_putTwo S Z (sb rfl hS) _ _ _ _ w26.1 z29) (fun r31 K32 => ?_)
  have w33 := wk_t w26 K32 hN
  refine pq_g (fun g34 => ?_)
  have z35 := wk_z (i := 0) (f := 32) w33 rfl z_a0
  refine pq_g (fun g36 => ?_)
  have z37 := wk_z (i := 0) (f := 51) w33 rfl z35
  refine pq_fi (fun _ => ?_) (fun _ => ?_)
  · refine pq_b (wX77_show S Z (sb rfl hS) _ _ w33.1 z37) (fun r38 K39 => ?_)
    have w40 := wk_t w33 K39 hN
    refine pq_g (fun g41 => ?_)
    extract_lets +onlyGivenNames M43
    have w42 : Wk S Z hx N M M43 := wk_fL hN w40 rfl rfl g41 z_a0 (Or.inr (hS 39 rfl))
    exact pq_s w42
  · refine pq_fi (fun _ => ?_) (fun _ => ?_)
    · refine pq_b (wX79_show S Z (sb rfl hS) _ _ w33.1 z37) (fun r44 K45 => ?_)
      have w46 := wk_t w33 K45 hN
      refine pq_g (fun g47 => ?_)
      extract_lets +onlyGivenNames M49
      have w48 : Wk S Z hx N M M49 := wk_fL hN w46 rfl rfl g47 z_a0 (Or.inr (hS 39 rfl))
      exact pq_s w48
    · refine pq_fi (fun _ => ?_) (fun _ => ?_)
      · refine pq_b (wX78_show S Z (sb rfl hS) _ _ w33.1 z37) (fun r50 K51 => ?_)
        have w52 := wk_t w33 K51 hN
        refine pq_g (fun g53 => ?_)
        extract_lets +onlyGivenNames M55
        have w54 : Wk S Z hx N M M55 := wk_fL hN w52 rfl rfl g53 z_a0 (Or.inr (hS 39 rfl))
        exact pq_s w54
      · refine pq_fi (fun _ => ?_) (fun _ => ?_)
        · refine pq_b (wX77_show S Z (sb rfl hS) _ _ w33.1 z37) (fun r56 K57 => ?_)
          have w58 := wk_t w33 K57 hN
          refine pq_g (fun g59 => ?_)
          extract_lets +onlyGivenNames M61
          have w60 : Wk S Z hx N M M61 := wk_fL hN w58 rfl rfl g59 z_a0 (Or.inr (hS 39 rfl))
          exact pq_s w60
        · exact pq_0
theorem wX74_backFromMachine (S Z : Nat → Prop) {hx N : Nat} (hS : ∀ x, fe_mem lX74_backFromMachine x = true → S x) (a0 : Nat) (M : FM) (w : WI Z hx N M) (z_a0 : Z a0) : pq (FX74_backFromMachine a0 M) (QV S Z hx N M) := wX74_backFromMachine_0 S Z hS a0 M w z_a0
def lX74_backFromSupervisor : List Nat := [37, 39, 41]
theorem wX74_backFromSupervisor_43 (S Z : Nat → Prop) {hx N : Nat} (hS : ∀ x, fe_mem lX74_backFromSupervisor x = true → S x) (a0 : Nat) (s0 : Nat) (s1 : Int32) (M : FM) (w : WI Z hx N M) (z_a0 : Z a0) (z_s0 : Z s0) : pq (FX74_backFromSupervisor_43 a0 s0 s1 M) (QV S Z hx N M) := by
  have hN := w.2.2.1
  have w0 := wk_r (S := S) w
  delta FX74_backFromSupervisor_43 BX74_backFromSupervisor_43
  refine pq_g (fun g1 => ?_)
  extract_lets +onlyGivenNames M3
  have w2 : Wk S Z hx N M M3 := wk_fI hN w0 rfl rfl g1 z_s0 (Or.inr (hS 37 rfl))
  refine pq_g (fun g4 => ?_)
  have z5 := wk_z (i := 0) (f := 27) w2 rfl z_a0
  refine pq_g (fun g6 => ?_)
  refine pq_b (wX78_put S Z (sb rfl hS) _ _ _ _ w2.1 z5) (fun r7 K8 => ?_)
  have w9 := wk_t w2 K8 hN
  refine pq_g (fun g10 => ?_)
  have z11 := wk_z (i := 0) (f := 33) w9 rfl z_a0
  refine pq_g (fun g12 => ?_)
  have z13 := wk_z (i := 0) (f := 51) w9 rfl z11
  refine pq_fi (fun _ => ?_) (fun _ => ?_)
  · refine pq_b (wX77_show S Z (sb rfl hS) _ _ w9.1 z13) (fun r14 K15 => ?_)
    have w16 := wk_t w9 K15 hN
    refine pq_g (fun g17 => ?_)
    extract_lets +onlyGivenNames M19
    have w18 : Wk S Z hx N M M19 := wk_fL hN w16 rfl rfl g17 z_a0 (Or.inr (hS 39 rfl))
    exact pq_s w18
  · refine pq_fi (fun _ => ?_) (fun _ => ?_)
    · refine pq_b (wX79_show S Z (sb rfl hS) _ _ w9.1 z13) (fun r20 K21 => ?_)
      have w22 := wk_t w9 K21 hN
      refine pq_g (fun g23 => ?_)
      extract_lets +onlyGivenNames M25
      have w24 : Wk S Z hx N M M25 := wk_fL hN w22 rfl rfl g23 z_a0 (Or.inr (hS 39 rfl))
      exact pq_s w24
    · refine pq_fi (fun _ => ?_) (fun _ => ?_)
      · refine pq_b (wX78_show S Z (sb rfl hS) _ _ w9.1 z13) (fun r26 K27 => ?_)
        have w28 := wk_t w9 K27 hN
        refine pq_g (fun g29 => ?_)
        extract_lets +onlyGivenNames M31
        have w30 : Wk S Z hx N M M31 := wk_fL hN w28 rfl rfl g29 z_a0 (Or.inr (hS 39 rfl))
        exact pq_s w30
      · refine pq_fi (fun _ => ?_) (fun _ => ?_)
        · refine pq_b (wX77_show S Z (sb rfl hS) _ _ w9.1 z13) (fun r32 K33 => ?_)
          have w34 := wk_t w9 K33 hN
          refine pq_g (fun g35 => ?_)
          extract_lets +onlyGivenNames M37
          have w36 : Wk S Z hx N M M37 := wk_fL hN w34 rfl rfl g35 z_a0 (Or.inr (hS 39 rfl))
          exact pq_s w36
        · exact pq_0
theorem wX74_backFromSupervisor_0 (S Z : Nat → Prop) {hx N : Nat} (hS : ∀ x, fe_mem lX74_backFromSupervisor x = true → S x) (a0 : Nat) (M : FM) (w : WI Z hx N M) (z_a0 : Z a0) : pq (FX74_backFromSupervisor_0 a0 M) (QV S Z hx N M) := by
  have hN := w.2.2.1
  have w0 := wk_r (S := S) w
  delta FX74_backFromSupervisor_0 BX74_backFromSupervisor_0
  refine pq_g (fun g1 => ?_)
  have z2 := wk_z (i := 0) (f := 27) w0 rfl z_a0
  refine pq_g (fun g3 => ?_)
  have z4 := wk_z (i := 0) (f := 27) w0 rfl z_a0
  refine pq_g (fun g5 => ?_)
  refine pq_b (wX78_has S Z (sb rfl hS) _ _ _ w0.1 z4) (fun r6 K7 => ?_)
  have w8 := wk_t w0 K7 hN
  refine pq_g (fun g9 => ?_)
  refine pq_b (wX78_put S Z (sb rfl hS) _ _ _ _ w8.1 z2) (fun r10 K11 => ?_)
  have w12 := wk_t w8 K11 hN
  refine pq_g (fun g13 => ?_)
  have z14 := wk_z (i := 0) (f := 27) w12 rfl z_a0
  refine pq_g (fun g15 => ?_)
  refine pq_b (wX78_put S Z (sb rfl hS) _ _ _ _ w12.1 z14) (fun r16 K17 => ?_)
  have w18 := wk_t w12 K17 hN
  refine pq_g (fun g19 => ?_)
  have z20 := wk_z (i := 0) (f := 27) w18 rfl z_a0
  refine pq_g (fun g21 => ?_)
  refine pq_b (wX78_has S Z (sb rfl hS) _ _ _ w18.1 z20) (fun r22 K23 => ?_)
  have w24 := wk_t w18 K23 hN
  refine pq_fi (fun _ => ?_) (fun _ => ?_)
  · exact q_tV hN w24 (wX74_backFromSupervisor_43 S Z hS _ _ _ _ w24.1 z_a0 z_a0)
  · exact q_tV hN w24 (wX74_backFromSupervisor_43 S Z hS _ _ _ _ w24.1 z_a0 z_a0)
theorem wX74_backFromSupervisor (S Z : Nat → Prop) {hx N : Nat} (hS : ∀ x, fe_mem lX74_backFromSupervisor x = true → S x) (a0 : Nat) (M : FM) (w : WI Z hx N M) (z_a0 : Z a0) : pq (FX74_backFromSupervisor a0 M) (QV S Z hx N M) := wX74_backFromSupervisor_0 S Z hS a0 M w z_a0
def lX74_back : List Nat := [37, 39, 41]
theorem wX74_back_66 (S Z : Nat → Prop) {hx N : Nat} (hS : ∀ x, fe_mem lX74_back x = true → S x) (M : FM) (w : WI Z hx N M) : pq (FX74_back_66 M) (QA S Z hx N M) := by
  have hN := w.2.2.1
  have w0 := wk_r (S := S) w
  delta FX74_back_66 BX74_back_66
  refine pq_g (fun _ => ?_)
  exact pq_s w0
theorem wX74_back_48 (S Z : Nat → Prop) {hx N : Nat} (hS : ∀ x, fe_mem lX74_back x = true → S x) (a0 : Nat) (M : FM) (w : WI Z hx N M) (z_a0 : Z a0) : pq (FX74_back_48 a0 M) (QA S Z hx N M) := by
  have hN := w.2.2.1
  have w0 := wk_r (S := S) w
  delta FX74_back_48 BX74_back_48
  refine pq_g (fun g1 => ?_)
  refine pq_fi (fun _ => ?_) (fun _ => ?_)
  · exact q_tA hN w0 (wX74_back_66 S Z hS _ w0.1 )
  · refine pq_g (fun g2 => ?_)
    have z3 := wk_z (i := 0) (f := 27) w0 rfl z_a0
    refine pq_g (fun g4 => ?_)
    refine pq_b (wX78_put S Z (sb rfl hS) _ _ _ _ w0.1 z3) (fun r5 K6 => ?_)
    have w7 := wk_t w0 K6 hN
    exact q_tA hN w7 (wX74_back_66 S Z hS _ w7.1 )
theorem wX74_back_33 (S Z : Nat → Prop) {hx N : Nat} (hS : ∀ x, fe_mem lX74_back x = true → S x) (a0 : Nat) (a1 : Int32) (M : FM) (w : WI Z hx N M) (z_a0 : Z a0) : pq (FX74_back_33 a0 a1 M) (QA S Z hx N M) := by
  have hN := w.2.2.1
  have w0 := wk_r (S := S) w
  delta FX74_back_33 BX74_back_33
  refine pq_fi (fun _ => ?_) (fun _ => ?_)
  · refine pq_g (fun g1 => ?_)
    refine pq_b (wX74_backFromSupervisor S Z (sb rfl hS) _ _ w0.1 z_a0) (fun r2 K3 => ?_)
    have w4 := wk_t w0 K3 hN
    exact q_tA hN w4 (wX74_back_48 S Z hS _ _ w4.1 z_a0)
  · refine pq_g (fun g5 => ?_)
    refine pq_b (wX74_backFromMachine S Z (sb rfl hS) _ _ w0.1 z_a0) (fun r6 K7 => ?_)
    have w8 := wk_t w0 K7 hN
    exact q_tA hN w8 (wX74_back_48 S Z hS _ _ w8.1 z_a0)
theorem wX74_back_31 (S Z : Nat → Prop) {hx N : Nat} (hS : ∀ x, fe_mem lX74_back x = true → S x) (M : FM) (w : WI Z hx N M) : pq (FX74_back_31 M) (QA S Z hx N M) := by
  have hN := w.2.2.1
  have w0 := wk_r (S := S) w
  delta FX74_back_31 BX74_back_31
  refine pq_g (fun _ => ?_)
  exact pq_s w0
theorem wX74_back_0 (S Z : Nat → Prop) {hx N : Nat} (hS : ∀ x, fe_mem lX74_back x = true → S x) (a0 : Nat) (a1 : Int32) (M : FM) (w : WI Z hx N M) (z_a0 : Z a0) : pq (FX74_back_0 a0 a1 M) (QA S Z hx N M) := by
  have hN := w.2.2.1
  have w0 := wk_r (S := S) w
  delta FX74_back_0 BX74_back_0
  refine pq_g (fun g1 => ?_)
  refine pq_fi (fun _ => ?_) (fun _ => ?_)
  · exact q_tA hN w0 (wX74_back_33 S Z hS _ _ _ w0.1 z_a0)
  · refine pq_fi (fun _ => ?_) (fun _ => ?_)
    · refine pq_g (fun g2 => ?_)
      refine pq_fi (fun _ => ?_) (fun _ => ?_)
      · exact q_tA hN w0 (wX74_back_31 S Z hS _ w0.1 )
      · refine pq_g (fun g3 => ?_)
        have z4 := wk_z (i := 0) (f := 27) w0 rfl z_a0
        refine pq_g (fun g5 => ?_)
        refine pq_b (wX78_has S Z (sb rfl hS) _ _ _ w0.1 z4) (fun r6 K7 => ?_)
        have w8 := wk_t w0 K7 hN
        refine pq_fi (fun _ => ?_) (fun _ => ?_)
        · exact q_tA hN w8 (wX74_back_33 S Z hS _ _ _ w8.1 z_a0)
        · exact q_tA hN w8 (wX74_back_31 S Z hS _ w8.1 )
    · exact q_tA hN w0 (wX74_back_31 S Z hS _ w0.1 )
theorem wX74_back (S Z : Nat → Prop) {hx N : Nat} (hS : ∀ x, fe_mem lX74_back x = true → S x) (a0 : Nat) (a1 : Int32) (M : FM) (w : WI Z hx N M) (z_a0 : Z a0) : pq (FX74_back a0 a1 M) (QA S Z hx N M) := wX74_back_0 S Z hS a0 a1 M w z_a0
def lX46_back : List Nat := [37, 39, 41, 174, 179]
theorem wX46_back_0 (S Z : Nat → Prop) {hx N : Nat} (hS : ∀ x, fe_mem lX46_back x = true → S x) (a0 : Nat) (a1 : Int32) (M : FM) (w : WI Z hx N M) (z_a0 : Z a0) : pq (FX46_back_0 a0 a1 M) (QA S Z hx N M) := by
  have hN := w.2.2.1
  have w0 := wk_r (S := S) w
  delta FX46_back_0 BX46_back_0
  refine pq_g (fun g1 => ?_)
  have z2 := wk_z (i := 0) (f := 213) w0 rfl z_a0
  refine pq_g (fun g3 => ?_)
  refine pq_b (wX74_back S Z (sb rfl hS) _ _ _ w0.1 z2) (fun r4 K5 => ?_)
  have w6 := wk_t w0 K5 hN
  refine pq_fi (fun _ => ?_) (fun _ => ?_)
  · refine pq_g (fun g7 => ?_)
    refine pq_b (wX46_illegal S Z (sb rfl hS) _ _ w6.1 z_a0) (fun r8 K9 => ?_)
    have w10 := wk_t w6 K9 hN
    refine pq_g (fun _ => ?_)
    exact pq_s w10
  · refine pq_g (fun g11 => ?_)
    have z12 := wk_z (i := 0) (f := 211) w6 rfl z_a0
    refine pq_g (fun g13 => ?_)
    have z14 := wk_z (i := 0) (f := 213) w6 rfl z_a0
    refine pq_g (fun g15 => ?_)
    refine pq_g (fun g16 => ?_)
    refine pq_b (wX47_jump S Z (sb rfl hS) _ _ _ w6.1 z12) (fun r17 K18 => ?_)
    have w19 := wk_t w6 K18 hN
    refine pq_g (fun _ => ?_)
    exact pq_s w19
theorem wX46_back (S Z : Nat → Prop) {hx N : Nat} (hS : ∀ x, fe_mem lX46_back x = true → S x) (a0 : Nat) (a1 : Int32) (M : FM) (w : WI Z hx N M) (z_a0 : Z a0) : pq (FX46_back a0 a1 M) (QA S Z hx N M) := wX46_back_0 S Z hS a0 a1 M w z_a0
def lX74_allowed : List Nat := []
theorem wX74_allowed_42 (S Z : Nat → Prop) {hx N : Nat} (hS : ∀ x, fe_mem lX74_allowed x = true → S x) (s0 : Int32) (M : FM) (w : WI Z hx N M) : pq (FX74_allowed_42 s0 M) (QA S Z hx N M) := by
  have hN := w.2.2.1
  have w0 := wk_r (S := S) w
  delta FX74_allowed_42 BX74_allowed_42
  refine pq_g (fun _ => ?_)
  exact pq_s w0
theorem wX74_allowed_41 (S Z : Nat → Prop) {hx N : Nat} (hS : ∀ x, fe_mem lX74_allowed x = true → S x) (M : FM) (w : WI Z hx N M) : pq (FX74_allowed_41 M) (QA S Z hx N M) := by
  have hN := w.2.2.1
  have w0 := wk_r (S := S) w
  delta FX74_allowed_41 BX74_allowed_41
  exact q_tA hN w0 (wX74_allowed_42 S Z hS _ _ w0.1 )
theorem wX74_allowed_37 (S Z : Nat → Prop) {hx N : Nat} (hS : ∀ x, fe_mem lX74_allowed x = true → S x) (M : FM) (w : WI Z hx N M) : pq (FX74_allowed_37 M) (QA S Z hx N M) := by
  have hN := w.2.2.1
  have w0 := wk_r (S := S) w
  delta FX74_allowed_37 BX74_allowed_37
  exact q_tA hN w0 (wX74_allowed_42 S Z hS _ _ w0.1 )
theorem wX74_allowed_31 (S Z : Nat → Prop) {hx N : Nat} (hS : ∀ x, fe_mem lX74_allowed x = true → S x) (s0 : Nat) (s1 : Int32) (M : FM) (w : WI Z hx N M) (z_s0 : Z s0) : pq (FX74_allowed_31 s0 s1 M) (QA S Z hx N M) := by
  have hN := w.2.2.1
  have w0 := wk_r (S := S) w
  delta FX74_allowed_31 BX74_allowed_31
  refine pq_g (fun g1 => ?_)
  refine pq_b (wX78_has S Z (sb rfl hS) _ _ _ w0.1 z_s0) (fun r2 K3 => ?_)
  have w4 := wk_t w0 K3 hN
  refine pq_fi (fun _ => ?_) (fun _ => ?_)
  · exact q_tA hN w4 (wX74_allowed_37 S Z hS _ w4.1 )
  · exact q_tA hN w4 (wX74_allowed_41 S Z hS _ w4.1 )
theorem wX74_allowed_0 (S Z : Nat → Prop) {hx N : Nat} (hS : ∀ x, fe_mem lX74_allowed x = true → S x) (a0 : Nat) (a1 : Int32) (M : FM) (w : WI Z hx N M) (z_a0 : Z a0) : pq (FX74_allowed_0 a0 a1 M) (QA S Z hx N M) := by
  have hN := w.2.2.1
  have w0 := wk_r (S := S) w
  delta FX74_allowed_0 BX74_allowed_0
  refine pq_g (fun g1 => ?_)
  refine pq_fi (fun _ => ?_) (fun _ => ?_)
  · exact q_tA hN w0 (wX74_allowed_37 S Z hS _ w0.1 )
  · refine pq_g (fun g2 => ?_)
    refine pq_fi (fun _ => ?_) (fun _ => ?_)
    · refine pq_g (fun g3 => ?_)
      have z4 := wk_z (i := 0) (f := 27) w0 rfl z_a0
      refine pq_fi (fun _ => ?_) (fun _ => ?_)
      · exact q_tA hN w0 (wX74_allowed_31 S Z hS _ _ _ w0.1 z4)
      · exact q_tA hN w0 (wX74_allowed_31 S Z hS _ _ _ w0.1 z4)
    · exact q_tA hN w0 (wX74_allowed_41 S Z hS _ w0.1 )
theorem wX74_allowed (S Z : Nat → Prop) {hx N : Nat} (hS : ∀ x, fe_mem lX74_allowed x = true → S x) (a0 : Nat) (a1 : Int32) (M : FM) (w : WI Z hx N M) (z_a0 : Z a0) : pq (FX74_allowed a0 a1 M) (QA S Z hx N M) := wX74_allowed_0 S Z hS a0 a1 M w z_a0
def lX46_idle : List Nat := [37, 39, 41, 174, 177, 179, 218, 1178]
theorem wX46_idle_13 (S Z : Nat → Prop) {hx N : Nat} (hS : ∀ x, fe_mem lX46_idle x = true → S x) (a0 : Nat) (a1 : Int32) (s0 : Nat) (s1 : Int32) (M : FM) (w : WI Z hx N M) (z_a0 : Z a0) (z_s0 : Z s0) : pq (FX46_idle_13 a0 a1 s0 s1 M) (QA S Z hx N M) := by
  have hN := w.2.2.1
  have w0 := wk_r (S := S) w
  delta FX46_idle_13 BX46_idle_13
  refine pq_g (fun g1 => ?_)
  refine pq_b (wX74_allowed S Z (sb rfl hS) _ _ _ w0.1 z_s0) (fun r2 K3 => ?_)
  have w4 := wk_t w0 K3 hN
  refine pq_fi (fun _ => ?_) (fun _ => ?_)
  · refine pq_g (fun g5 => ?_)
    refine pq_b (wX46_illegal S Z (sb rfl hS) _ _ w4.1 z_a0) (fun r6 K7 => ?_)
    have w8 := wk_t w4 K7 hN
    refine pq_g (fun _ => ?_)
    exact pq_s w8
  · refine pq_g (fun g9 => ?_)
    refine pq_g (fun _ => ?_)
    extract_lets +onlyGivenNames M11
    have w10 : Wk S Z hx N M M11 := wk_fI hN w4 rfl rfl g9 z_a0 (Or.inr (hS 218 rfl))
    refine pq_g (fun g12 => ?_)
    have z13 := wk_z (i := 0) (f := 211) w10 rfl z_a0
    refine pq_g (fun g14 => ?_)
    refine pq_b (wX47_finish S Z (sb rfl hS) _ _ _ _ w10.1 z13) (fun r15 K16 => ?_)
    have w17 := wk_t w10 K16 hN
    refine pq_g (fun _ => ?_)
    exact pq_s w17
theorem wX46_idle_0 (S Z : Nat → Prop) {hx N : Nat} (hS : ∀ x, fe_mem lX46_idle x = true → S x) (a0 : Nat) (a1 : Int32) (M : FM) (w : WI Z hx N M) (z_a0 : Z a0) : pq (FX46_idle_0 a0 a1 M) (QA S Z hx N M) := by
  have hN := w.2.2.1
  have w0 := wk_r (S := S) w
  delta FX46_idle_0 BX46_idle_0
  refine pq_g (fun g1 => ?_)
  have z2 := wk_z (i := 0) (f := 213) w0 rfl z_a0
  refine pq_fi (fun _ => ?_) (fun _ => ?_)
  · exact q_tA hN w0 (wX46_idle_13 S Z hS _ _ _ _ _ w0.1 z_a0 z2)
  · exact q_tA hN w0 (wX46_idle_13 S Z hS _ _ _ _ _ w0.1 z_a0 z2)
theorem wX46_idle (S Z : Nat → Prop) {hx N : Nat} (hS : ∀ x, fe_mem lX46_idle x = true → S x) (a0 : Nat) (a1 : Int32) (M : FM) (w : WI Z hx N M) (z_a0 : Z a0) : pq (FX46_idle a0 a1 M) (QA S Z hx N M) := wX46_idle_0 S Z hS a0 a1 M w z_a0
def lX46_system : List Nat := [37, 39, 41, 174, 177, 179, 218, 1178]
theorem wX46_system_65 (S Z : Nat → Prop) {hx N : Nat} (hS : ∀ x, fe_mem lX46_system x = true → S x) (a0 : Nat) (a1 : Int32) (a2 : Int32) (M : FM) (w : WI Z hx N M) (z_a0 : Z a0) : pq (FX46_system_65 a0 a1 a2 M) (QA S Z hx N M) := by
  have hN := w.2.2.1
  have w0 := wk_r (S := S) w
  delta FX46_system_65 BX46_system_65
  refine pq_fi (fun _ => ?_) (fun _ => ?_)
  · refine pq_g (fun g1 => ?_)
    refine pq_b (wX46_illegal S Z (sb rfl hS) _ _ w0.1 z_a0) (fun r2 K3 => ?_)
    have w4 := wk_t w0 K3 hN
    refine pq_g (fun _ => ?_)
    exact pq_s w4
  · refine pq_fi (fun _ => ?_) (fun _ => ?_)
    · refine pq_g (fun g5 => ?_)
      have z6 := wk_z (i := 0) (f := 213) w0 rfl z_a0
      refine pq_g (fun g7 => ?_)
      refine pq_g (fun g8 => ?_)
      refine pq_b (wX46_raise S Z (sb rfl hS) _ _ _ _ w0.1 z_a0) (fun r9 K10 => ?_)
      have w11 := wk_t w0 K10 hN
      refine pq_g (fun _ => ?_)
      exact pq_s w11
    · refine pq_fi (fun _ => ?_) (fun _ => ?_)
      · refine pq_g (fun g12 => ?_)
        refine pq_b (wX46_counter S Z (sb rfl hS) _ _ w0.1 z_a0) (fun r13 K14 => ?_)
        have w15 := wk_t w0 K14 hN
        refine pq_g (fun g16 => ?_)
        refine pq_b (wX46_raise S Z (sb rfl hS) _ _ _ _ w15.1 z_a0) (fun r17 K18 => ?_)
        have w19 := wk_t w15 K18 hN
        refine pq_g (fun _ => ?_)
        exact pq_s w19
      · refine pq_fi (fun _ => ?_) (fun _ => ?_)
        · refine pq_g (fun g20 => ?_)
          refine pq_b (wX46_back S Z (sb rfl hS) _ _ _ w0.1 z_a0) (fun r21 K22 => ?_)
          have w23 := wk_t w0 K22 hN
          refine pq_g (fun _ => ?_)
          exact pq_s w23
        · refine pq_fi (fun _ => ?_) (fun _ => ?_)
          · refine pq_g (fun g24 => ?_)
            refine pq_b (wX46_idle S Z (sb rfl hS) _ _ _ w0.1 z_a0) (fun r25 K26 => ?_)
            have w27 := wk_t w0 K26 hN
            refine pq_g (fun _ => ?_)
            exact pq_s w27
          · refine pq_fi (fun _ => ?_) (fun _ => ?_)
            · refine pq_g (fun g28 => ?_)
              refine pq_b (wX46_back S Z (sb rfl hS) _ _ _ w0.1 z_a0) (fun r29 K30 => ?_)
              have w31 := wk_t w0 K30 hN
              refine pq_g (fun _ => ?_)
              exact pq_s w31
            · refine pq_g (fun g32 => ?_)
              refine pq_b (wX46_illegal S Z (sb rfl hS) _ _ w0.1 z_a0) (fun r33 K34 => ?_)
              have w35 := wk_t w0 K34 hN
              refine pq_g (fun _ => ?_)
              exact pq_s w35
theorem wX46_system_31 (S Z : Nat → Prop) {hx N : Nat} (hS : ∀ x, fe_mem lX46_system x = true → S x) (a0 : Nat) (a1 : Int32) (s0 : Int32) (M : FM) (w : WI Z hx N M) (z_a0 : Z a0) : pq (FX46_system_31 a0 a1 s0 M) (QA S Z hx N M) := by
  have hN := w.2.2.1
  have w0 := wk_r (S := S) w
  delta FX46_system_31 BX46_system_31
  refine pq_fi (fun _ => ?_) (fun _ => ?_)
  · exact q_tA hN w0 (wX46_system_65 S Z hS _ _ _ _ w0.1 z_a0)
  · refine pq_fi (fun _ => ?_) (fun _ => ?_)
    · exact q_tA hN w0 (wX46_system_65 S Z hS _ _ _ _ w0.1 z_a0)
    · refine pq_g (fun g1 => ?_)
      refine pq_fi (fun _ => ?_) (fun _ => ?_)
      · refine pq_g (fun g2 => ?_)
        refine pq_b (wX46_idle S Z (sb rfl hS) _ _ _ w0.1 z_a0) (fun r3 K4 => ?_)
        have w5 := wk_t w0 K4 hN
        refine pq_g (fun _ => ?_)
        exact pq_s w5
      · exact q_tA hN w0 (wX46_system_65 S Z hS _ _ _ _ w0.1 z_a0)
theorem wX46_system_30 (S Z : Nat → Prop) {hx N : Nat} (hS : ∀ x, fe_mem lX46_system x = true → S x) (a0 : Nat) (a1 : Int32) (M : FM) (w : WI Z hx N M) (z_a0 : Z a0) : pq (FX46_system_30 a0 a1 M) (QA S Z hx N M) := by
  have hN := w.2.2.1
  have w0 := wk_r (S := S) w
  delta FX46_system_30 BX46_system_30
  exact q_tA hN w0 (wX46_system_31 S Z hS _ _ _ _ w0.1 z_a0)
theorem wX46_system_0 (S Z : Nat → Prop) {hx N : Nat} (hS : ∀ x, fe_mem lX46_system x = true → S x) (a0 : Nat) (a1 : Int32) (M : FM) (w : WI Z hx N M) (z_a0 : Z a0) : pq (FX46_system_0 a0 a1 M) (QA S Z hx N M) := by
  have hN := w.2.2.1
  have w0 := wk_r (S := S) w
  delta FX46_system_0 BX46_system_0
  refine pq_g (fun g1 => ?_)
  refine pq_fi (fun _ => ?_) (fun _ => ?_)
  · refine pq_g (fun g2 => ?_)
    refine pq_fi (fun _ => ?_) (fun _ => ?_)
    · exact q_tA hN w0 (wX46_system_31 S Z hS _ _ _ _ w0.1 z_a0)
    · exact q_tA hN w0 (wX46_system_30 S Z hS _ _ _ w0.1 z_a0)
  · exact q_tA hN w0 (wX46_system_30 S Z hS _ _ _ w0.1 z_a0)
theorem wX46_system (S Z : Nat → Prop) {hx N : Nat} (hS : ∀ x, fe_mem lX46_system x = true → S x) (a0 : Nat) (a1 : Int32) (M : FM) (w : WI Z hx N M) (z_a0 : Z a0) : pq (FX46_system a0 a1 M) (QA S Z hx N M) := wX46_system_0 S Z hS a0 a1 M w z_a0
def lX74_mayCount : List Nat := []
theorem wX74_mayCount_68 (S Z : Nat → Prop) {hx N : Nat} (hS : ∀ x, fe_mem lX74_mayCount x = true → S x) (s0 : Int32) (M : FM) (w : WI Z hx N M) : pq (FX74_mayCount_68 s0 M) (QA S Z hx N M) := by
  have hN := w.2.2.1
  have w0 := wk_r (S := S) w
  delta FX74_mayCount_68 BX74_mayCount_68
  refine pq_g (fun _ => ?_)
  exact pq_s w0
theorem wX74_mayCount_67 (S Z : Nat → Prop) {hx N : Nat} (hS : ∀ x, fe_mem lX74_mayCount x = true → S x) (M : FM) (w : WI Z hx N M) : pq (FX74_mayCount_67 M) (QA S Z hx N M) := by
  have hN := w.2.2.1
  have w0 := wk_r (S := S) w
  delta FX74_mayCount_67 BX74_mayCount_67
  exact q_tA hN w0 (wX74_mayCount_68 S Z hS _ _ w0.1 )
theorem wX74_mayCount_63 (S Z : Nat → Prop) {hx N : Nat} (hS : ∀ x, fe_mem lX74_mayCount x = true → S x) (M : FM) (w : WI Z hx N M) : pq (FX74_mayCount_63 M) (QA S Z hx N M) := by
  have hN := w.2.2.1
  have w0 := wk_r (S := S) w
  delta FX74_mayCount_63 BX74_mayCount_63
  exact q_tA hN w0 (wX74_mayCount_68 S Z hS _ _ w0.1 )
theorem wX74_mayCount_32 (S Z : Nat → Prop) {hx N : Nat} (hS : ∀ x, fe_mem lX74_mayCount x = true → S x) (a0 : Nat) (a1 : Int32) (s0 : Int32) (M : FM) (w : WI Z hx N M) (z_a0 : Z a0) : pq (FX74_mayCount_32 a0 a1 s0 M) (QA S Z hx N M) := by
  have hN := w.2.2.1
  have w0 := wk_r (S := S) w
  delta FX74_mayCount_32 BX74_mayCount_32
  refine pq_fi (fun _ => ?_) (fun _ => ?_)
  · exact q_tA hN w0 (wX74_mayCount_67 S Z hS _ w0.1 )
  · refine pq_g (fun g1 => ?_)
    refine pq_fi (fun _ => ?_) (fun _ => ?_)
    · refine pq_g (fun g2 => ?_)
      have z3 := wk_z (i := 0) (f := 33) w0 rfl z_a0
      refine pq_g (fun g4 => ?_)
      have z5 := wk_z (i := 0) (f := 54) w0 rfl z3
      refine pq_fi (fun _ => ?_) (fun _ => ?_)
      · refine pq_b (wX77_show S Z (sb rfl hS) _ _ w0.1 z5) (fun r6 K7 => ?_)
        have w8 := wk_t w0 K7 hN
        refine pq_fi (fun _ => ?_) (fun _ => ?_)
        · exact q_tA hN w8 (wX74_mayCount_63 S Z hS _ w8.1 )
        · exact q_tA hN w8 (wX74_mayCount_67 S Z hS _ w8.1 )
      · refine pq_fi (fun _ => ?_) (fun _ => ?_)
        · refine pq_b (wX79_show S Z (sb rfl hS) _ _ w0.1 z5) (fun r9 K10 => ?_)
          have w11 := wk_t w0 K10 hN
          refine pq_fi (fun _ => ?_) (fun _ => ?_)
          · exact q_tA hN w11 (wX74_mayCount_63 S Z hS _ w11.1 )
          · exact q_tA hN w11 (wX74_mayCount_67 S Z hS _ w11.1 )
        · refine pq_fi (fun _ => ?_) (fun _ => ?_)
          · refine pq_b (wX78_show S Z (sb rfl hS) _ _ w0.1 z5) (fun r12 K13 => ?_)
            have w14 := wk_t w0 K13 hN
            refine pq_fi (fun _ => ?_) (fun _ => ?_)
            · exact q_tA hN w14 (wX74_mayCount_63 S Z hS _ w14.1 )
            · exact q_tA hN w14 (wX74_mayCount_67 S Z hS _ w14.1 )
          · refine pq_fi (fun _ => ?_) (fun _ => ?_)
            · refine pq_b (wX77_show S Z (sb rfl hS) _ _ w0.1 z5) (fun r15 K16 => ?_)
              have w17 := wk_t w0 K16 hN
              refine pq_fi (fun _ => ?_) (fun _ => ?_)
              · exact q_tA hN w17 (wX74_mayCount_63 S Z hS _ w17.1 )
              · exact q_tA hN w17 (wX74_mayCount_67 S Z hS _ w17.1 )
            · exact pq_0
    · exact q_tA hN w0 (wX74_mayCount_63 S Z hS _ w0.1 )
theorem wX74_mayCount_27 (S Z : Nat → Prop) {hx N : Nat} (hS : ∀ x, fe_mem lX74_mayCount x = true → S x) (a0 : Nat) (a1 : Int32) (M : FM) (w : WI Z hx N M) (z_a0 : Z a0) : pq (FX74_mayCount_27 a0 a1 M) (QA S Z hx N M) := by
  have hN := w.2.2.1
  have w0 := wk_r (S := S) w
  delta FX74_mayCount_27 BX74_mayCount_27
  exact q_tA hN w0 (wX74_mayCount_32 S Z hS _ _ _ _ w0.1 z_a0)
theorem wX74_mayCount_0 (S Z : Nat → Prop) {hx N : Nat} (hS : ∀ x, fe_mem lX74_mayCount x = true → S x) (a0 : Nat) (a1 : Int32) (M : FM) (w : WI Z hx N M) (z_a0 : Z a0) : pq (FX74_mayCount_0 a0 a1 M) (QA S Z hx N M) := by
  have hN := w.2.2.1
  have w0 := wk_r (S := S) w
  delta FX74_mayCount_0 BX74_mayCount_0
  refine pq_g (fun g1 => ?_)
  refine pq_fi (fun _ => ?_) (fun _ => ?_)
  · exact q_tA hN w0 (wX74_mayCount_27 S Z hS _ _ _ w0.1 z_a0)
  · refine pq_g (fun g2 => ?_)
    have z3 := wk_z (i := 0) (f := 32) w0 rfl z_a0
    refine pq_g (fun g4 => ?_)
    have z5 := wk_z (i := 0) (f := 54) w0 rfl z3
    refine pq_fi (fun _ => ?_) (fun _ => ?_)
    · refine pq_b (wX77_show S Z (sb rfl hS) _ _ w0.1 z5) (fun r6 K7 => ?_)
      have w8 := wk_t w0 K7 hN
      refine pq_fi (fun _ => ?_) (fun _ => ?_)
      · exact q_tA hN w8 (wX74_mayCount_27 S Z hS _ _ _ w8.1 z_a0)
      · exact q_tA hN w8 (wX74_mayCount_32 S Z hS _ _ _ _ w8.1 z_a0)
    · refine pq_fi (fun _ => ?_) (fun _ => ?_)
      · refine pq_b (wX79_show S Z (sb rfl hS) _ _ w0.1 z5) (fun r9 K10 => ?_)
        have w11 := wk_t w0 K10 hN
        refine pq_fi (fun _ => ?_) (fun _ => ?_)
        · exact q_tA hN w11 (wX74_mayCount_27 S Z hS _ _ _ w11.1 z_a0)
        · exact q_tA hN w11 (wX74_mayCount_32 S Z hS _ _ _ _ w11.1 z_a0)
      · refine pq_fi (fun _ => ?_) (fun _ => ?_)
        · refine pq_b (wX78_show S Z (sb rfl hS) _ _ w0.1 z5) (fun r12 K13 => ?_)
          have w14 := wk_t w0 K13 hN
          refine pq_fi (fun _ => ?_) (fun _ => ?_)
          · exact q_tA hN w14 (wX74_mayCount_27 S Z hS _ _ _ w14.1 z_a0)
          · exact q_tA hN w14 (wX74_mayCount_32 S Z hS _ _ _ _ w14.1 z_a0)
        · refine pq_fi (fun _ => ?_) (fun _ => ?_)
          · refine pq_b (wX77_show S Z (sb rfl hS) _ _ w0.1 z5) (fun r15 K16 => ?_)
            have w17 := wk_t w0 K16 hN
            refine pq_fi (fun _ => ?_) (fun _ => ?_)
            · exact q_tA hN w17 (wX74_mayCount_27 S Z hS _ _ _ w17.1 z_a0)
            · exact q_tA hN w17 (wX74_mayCount_32 S Z hS _ _ _ _ w17.1 z_a0)
          · exact pq_0
theorem wX74_mayCount (S Z : Nat → Prop) {hx N : Nat} (hS : ∀ x, fe_mem lX74_mayCount x = true → S x) (a0 : Nat) (a1 : Int32) (M : FM) (w : WI Z hx N M) (z_a0 : Z a0) : pq (FX74_mayCount a0 a1 M) (QA S Z hx N M) := wX74_mayCount_0 S Z hS a0 a1 M w z_a0
def lX74_isIllegal : List Nat := []
theorem wX74_isIllegal_160 (S Z : Nat → Prop) {hx N : Nat} (hS : ∀ x, fe_mem lX74_isIllegal x = true → S x) (s0 : Int32) (M : FM) (w : WI Z hx N M) : pq (FX74_isIllegal_160 s0 M) (QA S Z hx N M) := by
  have hN := w.2.2.1
  have w0 := wk_r (S := S) w
  delta FX74_isIllegal_160 BX74_isIllegal_160
  refine pq_g (fun _ => ?_)
  exact pq_s w0
theorem wX74_isIllegal_155 (S Z : Nat → Prop) {hx N : Nat} (hS : ∀ x, fe_mem lX74_isIllegal x = true → S x) (M : FM) (w : WI Z hx N M) : pq (FX74_isIllegal_155 M) (QA S Z hx N M) := by
  have hN := w.2.2.1
  have w0 := wk_r (S := S) w
  delta FX74_isIllegal_155 BX74_isIllegal_155
  exact q_tA hN w0 (wX74_isIllegal_160 S Z hS _ _ w0.1 )
theorem wX74_isIllegal_120 (S Z : Nat → Prop) {hx N : Nat} (hS : ∀ x, fe_mem lX74_isIllegal x = true → S x) (a0 : Nat) (a1 : Int32) (a3 : Int32) (a4 : Int32) (a5 : Int32) (a6 : Int32) (s0 : Int32) (M : FM) (w : WI Z hx N M) (z_a0 : Z a0) : pq (FX74_isIllegal_120 a0 a1 a3 a4 a5 a6 s0 M) (QA S Z hx N M) := by
  have hN := w.2.2.1
  have w0 := wk_r (S := S) w
  delta FX74_isIllegal_120 BX74_isIllegal_120
  refine pq_g (fun g1 => ?_)
  have z2 := wk_z (i := 0) (f := 25) w0 rfl z_a0
  have f3 := sS_25 w0.1.1 g1
  refine pq_g (fun g4 => ?_)
  have z5 := fun i => wk_ze (i := i) w0 rfl g4.1 f3 rfl z2
  refine pq_fi (fun _ => ?_) (fun _ => ?_)
  · exact q_tA hN w0 (wX74_isIllegal_155 S Z hS _ w0.1 )
  · refine pq_fi (fun _ => ?_) (fun _ => ?_)
    · refine pq_fi (fun _ => ?_) (fun _ => ?_)
      · refine pq_fi (fun _ => ?_) (fun _ => ?_)
        · refine pq_fi (fun _ => ?_) (fun _ => ?_)
          · refine pq_fi (fun _ => ?_) (fun _ => ?_)
            · exact q_tA hN w0 (wX74_isIllegal_160 S Z hS _ _ w0.1 )
            · exact q_tA hN w0 (wX74_isIllegal_155 S Z hS _ w0.1 )
          · exact q_tA hN w0 (wX74_isIllegal_155 S Z hS _ w0.1 )
        · exact q_tA hN w0 (wX74_isIllegal_155 S Z hS _ w0.1 )
      · exact q_tA hN w0 (wX74_isIllegal_155 S Z hS _ w0.1 )
    · exact q_tA hN w0 (wX74_isIllegal_155 S Z hS _ w0.1 )
theorem wX74_isIllegal_119 (S Z : Nat → Prop) {hx N : Nat} (hS : ∀ x, fe_mem lX74_isIllegal x = true → S x) (a0 : Nat) (a1 : Int32) (a3 : Int32) (a4 : Int32) (a5 : Int32) (a6 : Int32) (M : FM) (w : WI Z hx N M) (z_a0 : Z a0) : pq (FX74_isIllegal_119 a0 a1 a3 a4 a5 a6 M) (QA S Z hx N M) := by
  have hN := w.2.2.1
  have w0 := wk_r (S := S) w
  delta FX74_isIllegal_119 BX74_isIllegal_119
  exact q_tA hN w0 (wX74_isIllegal_120 S Z hS _ _ _ _ _ _ _ _ w0.1 z_a0)
theorem wX74_isIllegal_89 (S Z : Nat → Prop) {hx N : Nat} (hS : ∀ x, fe_mem lX74_isIllegal x = true → S x) (a0 : Nat) (a1 : Int32) (a3 : Int32) (a4 : Int32) (a5 : Int32) (s0 : Int32) (M : FM) (w : WI Z hx N M) (z_a0 : Z a0) : pq (FX74_isIllegal_89 a0 a1 a3 a4 a5 s0 M) (QA S Z hx N M) := by
  have hN := w.2.2.1
  have w0 := wk_r (S := S) w
  delta FX74_isIllegal_89 BX74_isIllegal_89
  refine pq_fi (fun _ => ?_) (fun _ => ?_)
  · exact q_tA hN w0 (wX74_isIllegal_119 S Z hS _ _ _ _ _ _ _ w0.1 z_a0)
  · refine pq_fi (fun _ => ?_) (fun _ => ?_)
    · exact q_tA hN w0 (wX74_isIllegal_119 S Z hS _ _ _ _ _ _ _ w0.1 z_a0)
    · refine pq_g (fun g1 => ?_)
      refine pq_b (wX74_mayCount S Z (sb rfl hS) _ _ _ w0.1 z_a0) (fun r2 K3 => ?_)
      have w4 := wk_t w0 K3 hN
      refine pq_fi (fun _ => ?_) (fun _ => ?_)
      · exact q_tA hN w4 (wX74_isIllegal_120 S Z hS _ _ _ _ _ _ _ _ w4.1 z_a0)
      · exact q_tA hN w4 (wX74_isIllegal_119 S Z hS _ _ _ _ _ _ _ w4.1 z_a0)
theorem wX74_isIllegal_88 (S Z : Nat → Prop) {hx N : Nat} (hS : ∀ x, fe_mem lX74_isIllegal x = true → S x) (a0 : Nat) (a1 : Int32) (a3 : Int32) (a4 : Int32) (a5 : Int32) (M : FM) (w : WI Z hx N M) (z_a0 : Z a0) : pq (FX74_isIllegal_88 a0 a1 a3 a4 a5 M) (QA S Z hx N M) := by
  have hN := w.2.2.1
  have w0 := wk_r (S := S) w
  delta FX74_isIllegal_88 BX74_isIllegal_88
  exact q_tA hN w0 (wX74_isIllegal_89 S Z hS _ _ _ _ _ _ _ w0.1 z_a0)
theorem wX74_isIllegal_70 (S Z : Nat → Prop) {hx N : Nat} (hS : ∀ x, fe_mem lX74_isIllegal x = true → S x) (a0 : Nat) (a1 : Int32) (a3 : Int32) (a4 : Int32) (s0 : Int32) (M : FM) (w : WI Z hx N M) (z_a0 : Z a0) : pq (FX74_isIllegal_70 a0 a1 a3 a4 s0 M) (QA S Z hx N M) := by
  have hN := w.2.2.1
  have w0 := wk_r (S := S) w
  delta FX74_isIllegal_70 BX74_isIllegal_70
  refine pq_fi (fun _ => ?_) (fun _ => ?_)
  · exact q_tA hN w0 (wX74_isIllegal_88 S Z hS _ _ _ _ _ _ w0.1 z_a0)
  · refine pq_g (fun g1 => ?_)
    refine pq_b (wX74_floats S Z (sb rfl hS) _ _ w0.1 z_a0) (fun r2 K3 => ?_)
    have w4 := wk_t w0 K3 hN
    refine pq_fi (fun _ => ?_) (fun _ => ?_)
    · exact q_tA hN w4 (wX74_isIllegal_89 S Z hS _ _ _ _ _ _ _ w4.1 z_a0)
    · exact q_tA hN w4 (wX74_isIllegal_88 S Z hS _ _ _ _ _ _ w4.1 z_a0)
theorem wX74_isIllegal_69 (S Z : Nat → Prop) {hx N : Nat} (hS : ∀ x, fe_mem lX74_isIllegal x = true → S x) (a0 : Nat) (a1 : Int32) (a3 : Int32) (a4 : Int32) (M : FM) (w : WI Z hx N M) (z_a0 : Z a0) : pq (FX74_isIllegal_69 a0 a1 a3 a4 M) (QA S Z hx N M) := by
  have hN := w.2.2.1
  have w0 := wk_r (S := S) w
  delta FX74_isIllegal_69 BX74_isIllegal_69
  exact q_tA hN w0 (wX74_isIllegal_70 S Z hS _ _ _ _ _ _ w0.1 z_a0)
theorem wX74_isIllegal_36 (S Z : Nat → Prop) {hx N : Nat} (hS : ∀ x, fe_mem lX74_isIllegal x = true → S x) (a0 : Nat) (a1 : Int32) (a3 : Int32) (s0 : Int32) (M : FM) (w : WI Z hx N M) (z_a0 : Z a0) : pq (FX74_isIllegal_36 a0 a1 a3 s0 M) (QA S Z hx N M) := by
  have hN := w.2.2.1
  have w0 := wk_r (S := S) w
  delta FX74_isIllegal_36 BX74_isIllegal_36
  refine pq_fi (fun _ => ?_) (fun _ => ?_)
  · refine pq_g (fun g1 => ?_)
    refine pq_fi (fun _ => ?_) (fun _ => ?_)
    · refine pq_g (fun g2 => ?_)
      have z3 := wk_z (i := 0) (f := 27) w0 rfl z_a0
      refine pq_g (fun g4 => ?_)
      refine pq_b (wX78_has S Z (sb rfl hS) _ _ _ w0.1 z3) (fun r5 K6 => ?_)
      have w7 := wk_t w0 K6 hN
      refine pq_fi (fun _ => ?_) (fun _ => ?_)
      · exact q_tA hN w7 (wX74_isIllegal_69 S Z hS _ _ _ _ _ w7.1 z_a0)
      · exact q_tA hN w7 (wX74_isIllegal_70 S Z hS _ _ _ _ _ _ w7.1 z_a0)
    · exact q_tA hN w0 (wX74_isIllegal_69 S Z hS _ _ _ _ _ w0.1 z_a0)
  · exact q_tA hN w0 (wX74_isIllegal_69 S Z hS _ _ _ _ _ w0.1 z_a0)
theorem wX74_isIllegal_35 (S Z : Nat → Prop) {hx N : Nat} (hS : ∀ x, fe_mem lX74_isIllegal x = true → S x) (a0 : Nat) (a1 : Int32) (a3 : Int32) (M : FM) (w : WI Z hx N M) (z_a0 : Z a0) : pq (FX74_isIllegal_35 a0 a1 a3 M) (QA S Z hx N M) := by
  have hN := w.2.2.1
  have w0 := wk_r (S := S) w
  delta FX74_isIllegal_35 BX74_isIllegal_35
  exact q_tA hN w0 (wX74_isIllegal_36 S Z hS _ _ _ _ _ w0.1 z_a0)
theorem wX74_isIllegal_18 (S Z : Nat → Prop) {hx N : Nat} (hS : ∀ x, fe_mem lX74_isIllegal x = true → S x) (a0 : Nat) (a1 : Int32) (a2 : Int32) (s0 : Int32) (M : FM) (w : WI Z hx N M) (z_a0 : Z a0) : pq (FX74_isIllegal_18 a0 a1 a2 s0 M) (QA S Z hx N M) := by
  have hN := w.2.2.1
  have w0 := wk_r (S := S) w
  delta FX74_isIllegal_18 BX74_isIllegal_18
  refine pq_fi (fun _ => ?_) (fun _ => ?_)
  · exact q_tA hN w0 (wX74_isIllegal_35 S Z hS _ _ _ _ w0.1 z_a0)
  · refine pq_fi (fun _ => ?_) (fun _ => ?_)
    · exact q_tA hN w0 (wX74_isIllegal_36 S Z hS _ _ _ _ _ w0.1 z_a0)
    · exact q_tA hN w0 (wX74_isIllegal_35 S Z hS _ _ _ _ w0.1 z_a0)
theorem wX74_isIllegal_0 (S Z : Nat → Prop) {hx N : Nat} (hS : ∀ x, fe_mem lX74_isIllegal x = true → S x) (a0 : Nat) (a1 : Int32) (a2 : Int32) (M : FM) (w : WI Z hx N M) (z_a0 : Z a0) : pq (FX74_isIllegal_0 a0 a1 a2 M) (QA S Z hx N M) := by
  have hN := w.2.2.1
  have w0 := wk_r (S := S) w
  delta FX74_isIllegal_0 BX74_isIllegal_0
  refine pq_g (fun g1 => ?_)
  refine pq_fi (fun _ => ?_) (fun _ => ?_)
  · exact q_tA hN w0 (wX74_isIllegal_18 S Z hS _ _ _ _ _ w0.1 z_a0)
  · exact q_tA hN w0 (wX74_isIllegal_18 S Z hS _ _ _ _ _ w0.1 z_a0)
theorem wX74_isIllegal (S Z : Nat → Prop) {hx N : Nat} (hS : ∀ x, fe_mem lX74_isIllegal x = true → S x) (a0 : Nat) (a1 : Int32) (a2 : Int32) (M : FM) (w : WI Z hx N M) (z_a0 : Z a0) : pq (FX74_isIllegal a0 a1 a2 M) (QA S Z hx N M) := wX74_isIllegal_0 S Z hS a0 a1 a2 M w z_a0
def lX76_show : List Nat := []
theorem wX76_show_0 (S Z : Nat → Prop) {hx N : Nat} (hS : ∀ x, fe_mem lX76_show x = true → S x) (a0 : Nat) (M : FM) (w : WI Z hx N M) (z_a0 : Z a0) : pq (FX76_show_0 a0 M) (QA S Z hx N M) := by
  have hN := w.2.2.1
  have w0 := wk_r (S := S) w
  delta FX76_show_0 BX76_show_0
  refine pq_g (fun g1 => ?_)
  exact pq_s w0
theorem wX76_show (S Z : Nat → Prop) {hx N : Nat} (hS : ∀ x, fe_mem lX76_show x = true → S x) (a0 : Nat) (M : FM) (w : WI Z hx N M) (z_a0 : Z a0) : pq (FX76_show a0 M) (QA S Z hx N M) := wX76_show_0 S Z hS a0 M w z_a0
def lX83_show : List Nat := []
theorem wX83_show_0 (S Z : Nat → Prop) {hx N : Nat} (hS : ∀ x, fe_mem lX83_show x = true → S x) (a0 : Nat) (M : FM) (w : WI Z hx N M) (z_a0 : Z a0) : pq (FX83_show_0 a0 M) (QA S Z hx N M) := by
  have hN := w.2.2.1
  have w0 := wk_r (S := S) w
  delta FX83_show_0 BX83_show_0
  refine pq_g (fun g1 => ?_)
  have z2 := wk_z (i := 0) (f := 44) w0 rfl z_a0
  refine pq_fi (fun _ => ?_) (fun _ => ?_)
  · refine pq_b (wX76_show S Z (sb rfl hS) _ _ w0.1 z2) (fun r3 K4 => ?_)
    have w5 := wk_t w0 K4 hN
    exact pq_s w5
  · refine pq_fi (fun _ => ?_) (fun _ => ?_)
    · refine pq_b (wX77_show S Z (sb rfl hS) _ _ w0.1 z2) (fun r6 K7 => ?_)
      have w8 := wk_t w0 K7 hN
      exact pq_s w8
    · refine pq_fi (fun _ => ?_) (fun _ => ?_)
      · refine pq_b (wX79_show S Z (sb rfl hS) _ _ w0.1 z2) (fun r9 K10 => ?_)
        have w11 := wk_t w0 K10 hN
        exact pq_s w11
      · refine pq_fi (fun _ => ?_) (fun _ => ?_)
        · refine pq_b (wX78_show S Z (sb rfl hS) _ _ w0.1 z2) (fun r12 K13 => ?_)
          have w14 := wk_t w0 K13 hN
          exact pq_s w14
        · refine pq_fi (fun _ => ?_) (fun _ => ?_)
          · refine pq_b (wX77_show S Z (sb rfl hS) _ _ w0.1 z2) (fun r15 K16 => ?_)
            have w17 := wk_t w0 K16 hN
            exact pq_s w17
          · exact pq_0
theorem wX83_show (S Z : Nat → Prop) {hx N : Nat} (hS : ∀ x, fe_mem lX83_show x = true → S x) (a0 : Nat) (M : FM) (w : WI Z hx N M) (z_a0 : Z a0) : pq (FX83_show a0 M) (QA S Z hx N M) := wX83_show_0 S Z hS a0 M w z_a0
def lX81_show : List Nat := []
theorem wX81_show_0 (S Z : Nat → Prop) {hx N : Nat} (hS : ∀ x, fe_mem lX81_show x = true → S x) (a0 : Nat) (M : FM) (w : WI Z hx N M) (z_a0 : Z a0) : pq (FX81_show_0 a0 M) (QA S Z hx N M) := by
  have hN := w.2.2.1
  have w0 := wk_r (S := S) w
  delta FX81_show_0 BX81_show_0
  refine pq_g (fun g1 => ?_)
  have z2 := wk_z (i := 0) (f := 45) w0 rfl z_a0
  refine pq_fi (fun _ => ?_) (fun _ => ?_)
  · refine pq_b (wX77_show S Z (sb rfl hS) _ _ w0.1 z2) (fun r3 K4 => ?_)
    have w5 := wk_t w0 K4 hN
    refine pq_g (fun g6 => ?_)
    have z7 := wk_z (i := 0) (f := 46) w5 rfl z_a0
    refine pq_fi (fun _ => ?_) (fun _ => ?_)
    · refine pq_b (wX76_show S Z (sb rfl hS) _ _ w5.1 z7) (fun r8 K9 => ?_)
      have w10 := wk_t w5 K9 hN
      refine pq_g (fun g11 => ?_)
      exact pq_s w10
    · refine pq_fi (fun _ => ?_) (fun _ => ?_)
      · refine pq_b (wX77_show S Z (sb rfl hS) _ _ w5.1 z7) (fun r12 K13 => ?_)
        have w14 := wk_t w5 K13 hN
        refine pq_g (fun g15 => ?_)
        exact pq_s w14
      · refine pq_fi (fun _ => ?_) (fun _ => ?_)
        · refine pq_b (wX79_show S Z (sb rfl hS) _ _ w5.1 z7) (fun r16 K17 => ?_)
          have w18 := wk_t w5 K17 hN
          refine pq_g (fun g19 => ?_)
          exact pq_s w18
        · refine pq_fi (fun _ => ?_) (fun _ => ?_)
          · refine pq_b (wX78_show S Z (sb rfl hS) _ _ w5.1 z7) (fun r20 K21 => ?_)
            have w22 := wk_t w5 K21 hN
            refine pq_g (fun g23 => ?_)
            exact pq_s w22
          · refine pq_fi (fun _ => ?_) (fun _ => ?_)
            · refine pq_b (wX77_show S Z (sb rfl hS) _ _ w5.1 z7) (fun r24 K25 => ?_)
              have w26 := wk_t w5 K25 hN
              refine pq_g (fun g27 => ?_)
              exact pq_s w26
            · exact pq_0
  · refine pq_fi (fun _ => ?_) (fun _ => ?_)
    · refine pq_b (wX79_show S Z (sb rfl hS) _ _ w0.1 z2) (fun r28 K29 => ?_)
      have w30 := wk_t w0 K29 hN
      refine pq_g (fun g31 => ?_)
      have z32 := wk_z (i := 0) (f := 46) w30 rfl z_a0
      refine pq_fi (fun _ => ?_) (fun _ => ?_)
      · refine pq_b (wX76_show S Z (sb rfl hS) _ _ w30.1 z32) (fun r33 K34 => ?_)
        have w35 := wk_t w30 K34 hN
        refine pq_g (fun g36 => ?_)
        exact pq_s w35
      · refine pq_fi (fun _ => ?_) (fun _ => ?_)
        · refine pq_b (wX77_show S Z (sb rfl hS) _ _ w30.1 z32) (fun r37 K38 => ?_)
          have w39 := wk_t w30 K38 hN
          refine pq_g (fun g40 => ?_)
          exact pq_s w39
        · refine pq_fi (fun _ => ?_) (fun _ => ?_)
          · refine pq_b (wX79_show S Z (sb rfl hS) _ _ w30.1 z32) (fun r41 K42 => ?_)
            have w43 := wk_t w30 K42 hN
            refine pq_g (fun g44 => ?_)
            exact pq_s w43
          · refine pq_fi (fun _ => ?_) (fun _ => ?_)
            · refine pq_b (wX78_show S Z (sb rfl hS) _ _ w30.1 z32) (fun r45 K46 => ?_)
              have w47 := wk_t w30 K46 hN
              refine pq_g (fun g48 => ?_)
              exact pq_s w47
            · refine pq_fi (fun _ => ?_) (fun _ => ?_)
              · refine pq_b (wX77_show S Z (sb rfl hS) _ _ w30.1 z32) (fun r49 K50 => ?_)
                have w51 := wk_t w30 K50 hN
                refine pq_g (fun g52 => ?_)
                exact pq_s w51
              · exact pq_0
    · refine pq_fi (fun _ => ?_) (fun _ => ?_)
      · refine pq_b (wX78_show S Z (sb rfl hS) _ _ w0.1 z2) (fun r53 K54 => ?_)
        have w55 := wk_t w0 K54 hN
        refine pq_g (fun g56 => ?_)
        have z57 := wk_z (i := 0) (f := 46) w55 rfl z_a0
        refine pq_fi (fun _ => ?_) (fun _ => ?_)
        · refine pq_b (wX76_show S Z (sb rfl hS) _ _ w55.1 z57) (fun r58 K59 => ?_)
          have w60 := wk_t w55 K59 hN
          refine pq_g (fun g61 => ?_)
          exact pq_s w60
        · refine pq_fi (fun _ => ?_) (fun _ => ?_)
          · refine pq_b (wX77_show S Z (sb rfl hS) _ _ w55.1 z57) (fun r62 K63 => ?_)
            have w64 := wk_t w55 K63 hN
            refine pq_g (fun g65 => ?_)
            exact pq_s w64
          · refine pq_fi (fun _ => ?_) (fun _ => ?_)
            · refine pq_b (wX79_show S Z (sb rfl hS) _ _ w55.1 z57) (fun r66 K67 => ?_)
              have w68 := wk_t w55 K67 hN
              refine pq_g (fun g69 => ?_)
              exact pq_s w68
            · refine pq_fi (fun _ => ?_) (fun _ => ?_)
              · refine pq_b (wX78_show S Z (sb rfl hS) _ _ w55.1 z57) (fun r70 K71 => ?_)
                have w72 := wk_t w55 K71 hN
                refine pq_g (fun g73 => ?_)
                exact pq_s w72
              · refine pq_fi (fun _ => ?_) (fun _ => ?_)
                · refine pq_b (wX77_show S Z (sb rfl hS) _ _ w55.1 z57) (fun r74 K75 => ?_)
                  have w76 := wk_t w55 K75 hN
                  refine pq_g (fun g77 => ?_)
                  exact pq_s w76
                · exact pq_0
      · refine pq_fi (fun _ => ?_) (fun _ => ?_)
        · refine pq_b (wX77_show S Z (sb rfl hS) _ _ w0.1 z2) (fun r78 K79 => ?_)
          have w80 := wk_t w0 K79 hN
          refine pq_g (fun g81 => ?_)
          have z82 := wk_z (i := 0) (f := 46) w80 rfl z_a0
          refine pq_fi (fun _ => ?_) (fun _ => ?_)
          · refine pq_b (wX76_show S Z (sb rfl hS) _ _ w80.1 z82) (fun r83 K84 => ?_)
            have w85 := wk_t w80 K84 hN
            refine pq_g (fun g86 => ?_)
            exact pq_s w85
          · refine pq_fi (fun _ => ?_) (fun _ => ?_)
            · refine pq_b (wX77_show S Z (sb rfl hS) _ _ w80.1 z82) (fun r87 K88 => ?_)
              have w89 := wk_t w80 K88 hN
              refine pq_g (fun g90 => ?_)
              exact pq_s w89
            · refine pq_fi (fun _ => ?_) (fun _ => ?_)
              · refine pq_b (wX79_show S Z (sb rfl hS) _ _ w80.1 z82) (fun r91 K92 => ?_)
                have w93 := wk_t w80 K92 hN
                refine pq_g (fun g94 => ?_)
                exact pq_s w93
              · refine pq_fi (fun _ => ?_) (fun _ => ?_)
                · refine pq_b (wX78_show S Z (sb rfl hS) _ _ w80.1 z82) (fun r95 K96 => ?_)
                  have w97 := wk_t w80 K96 hN
                  refine pq_g (fun g98 => ?_)
                  exact pq_s w97
                · refine pq_fi (fun _ => ?_) (fun _ => ?_)
                  · refine pq_b (wX77_show S Z (sb rfl hS) _ _ w80.1 z82) (fun r99 K100 => ?_)
                    have w101 := wk_t w80 K100 hN
                    refine pq_g (fun g102 => ?_)
                    exact pq_s w101
                  · exact pq_0
        · exact pq_0
theorem wX81_show (S Z : Nat → Prop) {hx N : Nat} (hS : ∀ x, fe_mem lX81_show x = true → S x) (a0 : Nat) (M : FM) (w : WI Z hx N M) (z_a0 : Z a0) : pq (FX81_show a0 M) (QA S Z hx N M) := wX81_show_0 S Z hS a0 M w z_a0
def lX76_write : List Nat := []
theorem wX76_write_0 (S Z : Nat → Prop) {hx N : Nat} (hS : ∀ x, fe_mem lX76_write x = true → S x) (a0 : Nat) (a1 : Int64) (M : FM) (w : WI Z hx N M) (z_a0 : Z a0) : pq (FX76_write_0 a0 a1 M) (QV S Z hx N M) := by
  have hN := w.2.2.1
  have w0 := wk_r (S := S) w
  delta FX76_write_0 BX76_write_0
  exact pq_s w0
theorem wX76_write (S Z : Nat → Prop) {hx N : Nat} (hS : ∀ x, fe_mem lX76_write x = true → S x) (a0 : Nat) (a1 : Int64) (M : FM) (w : WI Z hx N M) (z_a0 : Z a0) : pq (FX76_write a0 a1 M) (QV S Z hx N M) := wX76_write_0 S Z hS a0 a1 M w z_a0
def lX83_write : List Nat := []
theorem wX83_write_0 (S Z : Nat → Prop) {hx N : Nat} (hS : ∀ x, fe_mem lX83_write x = true → S x) (a0 : Nat) (a1 : Int64) (M : FM) (w : WI Z hx N M) (z_a0 : Z a0) : pq (FX83_write_0 a0 a1 M) (QV S Z hx N M) := by
  have hN := w.2.2.1
  have w0 := wk_r (S := S) w
  delta FX83_write_0 BX83_write_0
  exact pq_s w0
theorem wX83_write (S Z : Nat → Prop) {hx N : Nat} (hS : ∀ x, fe_mem lX83_write x = true → S x) (a0 : Nat) (a1 : Int64) (M : FM) (w : WI Z hx N M) (z_a0 : Z a0) : pq (FX83_write a0 a1 M) (QV S Z hx N M) := wX83_write_0 S Z hS a0 a1 M w z_a0
def lX81_write : List Nat := [41]
theorem wX81_write_0 (S Z : Nat → Prop) {hx N : Nat} (hS : ∀ x, fe_mem lX81_write x = true → S x) (a0 : Nat) (a1 : Int64) (M : FM) (w : WI Z hx N M) (z_a0 : Z a0) : pq (FX81_write_0 a0 a1 M) (QV S Z hx N M) := by
  have hN := w.2.2.1
  have w0 := wk_r (S := S) w
  delta FX81_write_0 BX81_write_0
  refine pq_g (fun g1 => ?_)
  have z2 := wk_z (i := 0) (f := 46) w0 rfl z_a0
  refine pq_fi (fun _ => ?_) (fun _ => ?_)
  · refine pq_b (wX76_show S Z (sb rfl hS) _ _ w0.1 z2) (fun r3 K4 => ?_)
    have w5 := wk_t w0 K4 hN
    refine pq_g (fun g6 => ?_)
    refine pq_g (fun g7 => ?_)
    have z8 := wk_z (i := 0) (f := 45) w5 rfl z_a0
    refine pq_g (fun g9 => ?_)
    have z10 := wk_z (i := 0) (f := 45) w5 rfl z_a0
    refine pq_g (fun g11 => ?_)
    refine pq_g (fun g12 => ?_)
    extract_lets +onlyGivenNames M14
    have w13 : Wk S Z hx N M M14 := wk_fL hN w5 rfl rfl g12 z8 (Or.inr (hS 41 rfl))
    exact pq_s w13
  · refine pq_fi (fun _ => ?_) (fun _ => ?_)
    · refine pq_b (wX77_show S Z (sb rfl hS) _ _ w0.1 z2) (fun r15 K16 => ?_)
      have w17 := wk_t w0 K16 hN
      refine pq_g (fun g18 => ?_)
      refine pq_g (fun g19 => ?_)
      have z20 := wk_z (i := 0) (f := 45) w17 rfl z_a0
      refine pq_g (fun g21 => ?_)
      have z22 := wk_z (i := 0) (f := 45) w17 rfl z_a0
      refine pq_g (fun g23 => ?_)
      refine pq_g (fun g24 => ?_)
      extract_lets +onlyGivenNames M26
      have w25 : Wk S Z hx N M M26 := wk_fL hN w17 rfl rfl g24 z20 (Or.inr (hS 41 rfl))
      exact pq_s w25
    · refine pq_fi (fun _ => ?_) (fun _ => ?_)
      · refine pq_b (wX79_show S Z (sb rfl hS) _ _ w0.1 z2) (fun r27 K28 => ?_)
        have w29 := wk_t w0 K28 hN
        refine pq_g (fun g30 => ?_)
        refine pq_g (fun g31 => ?_)
        have z32 := wk_z (i := 0) (f := 45) w29 rfl z_a0
        refine pq_g (fun g33 => ?_)
        have z34 := wk_z (i := 0) (f := 45) w29 rfl z_a0
        refine pq_g (fun g35 => ?_)
        refine pq_g (fun g36 => ?_)
        extract_lets +onlyGivenNames M38
        have w37 : Wk S Z hx N M M38 := wk_fL hN w29 rfl rfl g36 z32 (Or.inr (hS 41 rfl))
        exact pq_s w37
      · refine pq_fi (fun _ => ?_) (fun _ => ?_)
        · refine pq_b (wX78_show S Z (sb rfl hS) _ _ w0.1 z2) (fun r39 K40 => ?_)
          have w41 := wk_t w0 K40 hN
          refine pq_g (fun g42 => ?_)
          refine pq_g (fun g43 => ?_)
          have z44 := wk_z (i := 0) (f := 45) w41 rfl z_a0
          refine pq_g (fun g45 => ?_)
          have z46 := wk_z (i := 0) (f := 45) w41 rfl z_a0
          refine pq_g (fun g47 => ?_)
          refine pq_g (fun g48 => ?_)
          extract_lets +onlyGivenNames M50
          have w49 : Wk S Z hx N M M50 := wk_fL hN w41 rfl rfl g48 z44 (Or.inr (hS 41 rfl))
          exact pq_s w49
        · refine pq_fi (fun _ => ?_) (fun _ => ?_)
          · refine pq_b (wX77_show S Z (sb rfl hS) _ _ w0.1 z2) (fun r51 K52 => ?_)
            have w53 := wk_t w0 K52 hN
            refine pq_g (fun g54 => ?_)
            refine pq_g (fun g55 => ?_)
            have z56 := wk_z (i := 0) (f := 45) w53 rfl z_a0
            refine pq_g (fun g57 => ?_)
            have z58 := wk_z (i := 0) (f := 45) w53 rfl z_a0
            refine pq_g (fun g59 => ?_)
            refine pq_g (fun g60 => ?_)
            extract_lets +onlyGivenNames M62
            have w61 : Wk S Z hx N M M62 := wk_fL hN w53 rfl rfl g60 z56 (Or.inr (hS 41 rfl))
            exact pq_s w61
          · exact pq_0
theorem wX81_write (S Z : Nat → Prop) {hx N : Nat} (hS : ∀ x, fe_mem lX81_write x = true → S x) (a0 : Nat) (a1 : Int64) (M : FM) (w : WI Z hx N M) (z_a0 : Z a0) : pq (FX81_write a0 a1 M) (QV S Z hx N M) := wX81_write_0 S Z hS a0 a1 M w z_a0
def lX75_base : List Nat := []
theorem wX75_base_0 (S Z : Nat → Prop) {hx N : Nat} (hS : ∀ x, fe_mem lX75_base x = true → S x) (a0 : Nat) (M : FM) (w : WI Z hx N M) (z_a0 : Z a0) : pq (FX75_base_0 a0 M) (QA S Z hx N M) := by
  have hN := w.2.2.1
  have w0 := wk_r (S := S) w
  delta FX75_base_0 BX75_base_0
  refine pq_fi (fun _ => ?_) (fun _ => ?_)
  · refine pq_b (wX76_show S Z (sb rfl hS) _ _ w0.1 z_a0) (fun r1 K2 => ?_)
    have w3 := wk_t w0 K2 hN
    exact pq_s w3
  · refine pq_fi (fun _ => ?_) (fun _ => ?_)
    · refine pq_b (wX77_show S Z (sb rfl hS) _ _ w0.1 z_a0) (fun r4 K5 => ?_)
      have w6 := wk_t w0 K5 hN
      exact pq_s w6
    · refine pq_fi (fun _ => ?_) (fun _ => ?_)
      · refine pq_b (wX79_show S Z (sb rfl hS) _ _ w0.1 z_a0) (fun r7 K8 => ?_)
        have w9 := wk_t w0 K8 hN
        exact pq_s w9
      · refine pq_fi (fun _ => ?_) (fun _ => ?_)
        · refine pq_b (wX78_show S Z (sb rfl hS) _ _ w0.1 z_a0) (fun r10 K11 => ?_)
          have w12 := wk_t w0 K11 hN
          exact pq_s w12
        · refine pq_fi (fun _ => ?_) (fun _ => ?_)
          · refine pq_b (wX77_show S Z (sb rfl hS) _ _ w0.1 z_a0) (fun r13 K14 => ?_)
            have w15 := wk_t w0 K14 hN
            exact pq_s w15
          · refine pq_fi (fun _ => ?_) (fun _ => ?_)
            · refine pq_b (wX83_show S Z (sb rfl hS) _ _ w0.1 z_a0) (fun r16 K17 => ?_)
              have w18 := wk_t w0 K17 hN
              exact pq_s w18
            · refine pq_fi (fun _ => ?_) (fun _ => ?_)
              · refine pq_b (wX81_show S Z (sb rfl hS) _ _ w0.1 z_a0) (fun r19 K20 => ?_)
                have w21 := wk_t w0 K20 hN
                exact pq_s w21
              · exact pq_0
theorem wX75_base (S Z : Nat → Prop) {hx N : Nat} (hS : ∀ x, fe_mem lX75_base x = true → S x) (a0 : Nat) (M : FM) (w : WI Z hx N M) (z_a0 : Z a0) : pq (FX75_base a0 M) (QA S Z hx N M) := wX75_base_0 S Z hS a0 M w z_a0
def lX79_base : List Nat := []
theorem wX79_base_0 (S Z : Nat → Prop) {hx N : Nat} (hS : ∀ x, fe_mem lX79_base x = true → S x) (a0 : Nat) (M : FM) (w : WI Z hx N M) (z_a0 : Z a0) : pq (FX79_base_0 a0 M) (QA S Z hx N M) := by
  have hN := w.2.2.1
  have w0 := wk_r (S := S) w
  delta FX79_base_0 BX79_base_0
  refine pq_g (fun g1 => ?_)
  refine pq_g (fun g2 => ?_)
  exact pq_s w0
theorem wX79_base (S Z : Nat → Prop) {hx N : Nat} (hS : ∀ x, fe_mem lX79_base x = true → S x) (a0 : Nat) (M : FM) (w : WI Z hx N M) (z_a0 : Z a0) : pq (FX79_base a0 M) (QA S Z hx N M) := wX79_base_0 S Z hS a0 M w z_a0
