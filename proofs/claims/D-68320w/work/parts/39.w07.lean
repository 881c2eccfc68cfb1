set_option maxRecDepth 100000
def lX98_product : List Nat := [356, 357]
theorem wX98_product_177 (S Z : Nat → Prop) {hx N : Nat} (hS : ∀ x, fe_mem lX98_product x = true → S x) (n : Nat) (s0 : Int64) (M : FM) (w : WI Z hx N M) : pq (FX98_product_177 n s0 M) (QA S Z hx N M) := by
  have hN := w.2.2.1
  have w0 := wk_r (S := S) w
  delta FX98_product_177 BX98_product_177
  exact pq_s w0
theorem wX98_product_157 (S Z : Nat → Prop) {hx N : Nat} (hS : ∀ x, fe_mem lX98_product x = true → S x) (n : Nat) (a0 : Nat) (a1 : Int32) (s0 : Nat) (s1 : Int64) (s2 : Int64) (s3 : Int32) (M : FM) (w : WI Z hx N M) (z_a0 : Z a0) (z_s0 : Z s0) : pq (FX98_product_157 n a0 a1 s0 s1 s2 s3 M) (QA S Z hx N M) := by
  have hN := w.2.2.1
  have w0 := wk_r (S := S) w
  delta FX98_product_157 BX98_product_157
  refine pq_g (fun g1 => ?_)
  refine pq_b (wX98_divideAll S Z (sb rfl hS) n _ _ _ _ _ w0.1 z_s0) (fun r2 K3 => ?_)
  have w4 := wk_t w0 K3 hN
  refine pq_fi (fun _ => ?_) (fun _ => ?_)
  · refine pq_g (fun g5 => ?_)
    exact q_tA hN w4 (wX98_product_177 S Z hS n _ _ w4.1 )
  · refine pq_g (fun g6 => ?_)
    exact q_tA hN w4 (wX98_product_177 S Z hS n _ _ w4.1 )
theorem wX98_product_152 (S Z : Nat → Prop) {hx N : Nat} (hS : ∀ x, fe_mem lX98_product x = true → S x) (n : Nat) (a0 : Nat) (a1 : Int32) (s0 : Nat) (s1 : Int64) (s2 : Int64) (M : FM) (w : WI Z hx N M) (z_a0 : Z a0) (z_s0 : Z s0) : pq (FX98_product_152 n a0 a1 s0 s1 s2 M) (QA S Z hx N M) := by
  have hN := w.2.2.1
  have w0 := wk_r (S := S) w
  delta FX98_product_152 BX98_product_152
  exact q_tA hN w0 (wX98_product_157 S Z hS n _ _ _ _ _ _ _ w0.1 z_a0 z_s0)
theorem wX98_product_118 (S Z : Nat → Prop) {hx N : Nat} (hS : ∀ x, fe_mem lX98_product x = true → S x) (n : Nat) (s0 : Int64) (s1 : Int64) (M : FM) (w : WI Z hx N M) : pq (FX98_product_118 n s0 s1 M) (QA S Z hx N M) := by
  have hN := w.2.2.1
  have w0 := wk_r (S := S) w
  delta FX98_product_118 BX98_product_118
  exact pq_s w0
theorem wX98_product_88 (S Z : Nat → Prop) {hx N : Nat} (hS : ∀ x, fe_mem lX98_product x = true → S x) (n : Nat) (s0 : Int64) (s1 : Int64) (M : FM) (w : WI Z hx N M) : pq (FX98_product_88 n s0 s1 M) (QA S Z hx N M) := by
  have hN := w.2.2.1
  have w0 := wk_r (S := S) w
  delta FX98_product_88 BX98_product_88
  exact pq_s w0
theorem wX98_product_70 (S Z : Nat → Prop) {hx N : Nat} (hS : ∀ x, fe_mem lX98_product x = true → S x) (n : Nat) (a0 : Nat) (s0 : Int64) (s1 : Int64) (M : FM) (w : WI Z hx N M) (z_a0 : Z a0) : pq (FX98_product_70 n a0 s0 s1 M) (QA S Z hx N M) := by
  have hN := w.2.2.1
  have w0 := wk_r (S := S) w
  delta FX98_product_70 BX98_product_70
  refine pq_g (fun g1 => ?_)
  refine pq_fi (fun _ => ?_) (fun _ => ?_)
  · exact q_tA hN w0 (wX98_product_88 S Z hS n _ _ _ w0.1 )
  · refine pq_g (fun g2 => ?_)
    exact q_tA hN w0 (wX98_product_88 S Z hS n _ _ _ w0.1 )
theorem wX98_product_0 (S Z : Nat → Prop) {hx N : Nat} (hS : ∀ x, fe_mem lX98_product x = true → S x) (n : Nat) (a0 : Nat) (a1 : Int32) (M : FM) (w : WI Z hx N M) (z_a0 : Z a0) : pq (FX98_product_0 n a0 a1 M) (QA S Z hx N M) := by
  have hN := w.2.2.1
  have w0 := wk_r (S := S) w
  delta FX98_product_0 BX98_product_0
  refine pq_fi (fun _ => ?_) (fun _ => ?_)
  · refine pq_g (fun g1 => ?_)
    refine pq_g (fun g2 => ?_)
    exact pq_s w0
  · refine pq_fi (fun _ => ?_) (fun _ => ?_)
    · refine pq_g (fun g3 => ?_)
      refine pq_g (fun g4 => ?_)
      refine pq_b (wX98_upper S Z (sb rfl hS) n _ _ _ w0.1 ) (fun r5 K6 => ?_)
      have w7 := wk_t w0 K6 hN
      refine pq_g (fun g8 => ?_)
      refine pq_fi (fun _ => ?_) (fun _ => ?_)
      · exact q_tA hN w7 (wX98_product_70 S Z hS n _ _ _ _ w7.1 z_a0)
      · refine pq_g (fun g9 => ?_)
        exact q_tA hN w7 (wX98_product_70 S Z hS n _ _ _ _ w7.1 z_a0)
    · refine pq_fi (fun _ => ?_) (fun _ => ?_)
      · refine pq_g (fun g10 => ?_)
        refine pq_g (fun g11 => ?_)
        refine pq_b (wX98_upper S Z (sb rfl hS) n _ _ _ w0.1 ) (fun r12 K13 => ?_)
        have w14 := wk_t w0 K13 hN
        refine pq_g (fun g15 => ?_)
        refine pq_fi (fun _ => ?_) (fun _ => ?_)
        · exact q_tA hN w14 (wX98_product_118 S Z hS n _ _ _ w14.1 )
        · refine pq_g (fun g16 => ?_)
          exact q_tA hN w14 (wX98_product_118 S Z hS n _ _ _ w14.1 )
      · refine pq_fi (fun _ => ?_) (fun _ => ?_)
        · refine pq_g (fun g17 => ?_)
          refine pq_g (fun g18 => ?_)
          refine pq_b (wX98_upper S Z (sb rfl hS) n _ _ _ w0.1 ) (fun r19 K20 => ?_)
          have w21 := wk_t w0 K20 hN
          exact pq_s w21
        · refine pq_g (fun g22 => ?_)
          refine pq_g (fun g23 => ?_)
          refine pq_fi (fun _ => ?_) (fun _ => ?_)
          · exact q_tA hN w0 (wX98_product_152 S Z hS n _ _ _ _ _ _ w0.1 z_a0 z_a0)
          · refine pq_fi (fun _ => ?_) (fun _ => ?_)
            · exact q_tA hN w0 (wX98_product_152 S Z hS n _ _ _ _ _ _ w0.1 z_a0 z_a0)
            · exact q_tA hN w0 (wX98_product_157 S Z hS n _ _ _ _ _ _ _ w0.1 z_a0 z_a0)
theorem wX98_product (S Z : Nat → Prop) {hx N : Nat} (hS : ∀ x, fe_mem lX98_product x = true → S x) (n : Nat) (a0 : Nat) (a1 : Int32) (M : FM) (w : WI Z hx N M) (z_a0 : Z a0) : pq (FX98_product n a0 a1 M) (QA S Z hx N M) := wX98_product_0 S Z hS n a0 a1 M w z_a0
def lX98_withRegister : List Nat := [347, 348, 356, 357, 1346]
theorem wX98_withRegister_98 (S Z : Nat → Prop) {hx N : Nat} (hS : ∀ x, fe_mem lX98_withRegister x = true → S x) (n : Nat) (s0 : Int32) (M : FM) (w : WI Z hx N M) : pq (FX98_withRegister_98 n s0 M) (QA S Z hx N M) := by
  have hN := w.2.2.1
  have w0 := wk_r (S := S) w
  delta FX98_withRegister_98 BX98_withRegister_98
  exact pq_s w0
theorem wX98_withRegister_79 (S Z : Nat → Prop) {hx N : Nat} (hS : ∀ x, fe_mem lX98_withRegister x = true → S x) (n : Nat) (a0 : Nat) (a1 : Int32) (a2 : Int32) (a3 : Int32) (M : FM) (w : WI Z hx N M) (z_a0 : Z a0) : pq (FX98_withRegister_79 n a0 a1 a2 a3 M) (QA S Z hx N M) := by
  have hN := w.2.2.1
  have w0 := wk_r (S := S) w
  delta FX98_withRegister_79 BX98_withRegister_79
  refine pq_fi (fun _ => ?_) (fun _ => ?_)
  · refine pq_g (fun g1 => ?_)
    refine pq_b (wX98_product S Z (sb rfl hS) n _ _ _ w0.1 z_a0) (fun r2 K3 => ?_)
    have w4 := wk_t w0 K3 hN
    refine pq_g (fun g5 => ?_)
    refine pq_b (wX98_done S Z (sb rfl hS) _ _ _ _ w4.1 z_a0) (fun r6 K7 => ?_)
    have w8 := wk_t w4 K7 hN
    exact q_tA hN w8 (wX98_withRegister_98 S Z hS n _ _ w8.1 )
  · exact q_tA hN w0 (wX98_withRegister_98 S Z hS n _ _ w0.1 )
theorem wX98_withRegister_75 (S Z : Nat → Prop) {hx N : Nat} (hS : ∀ x, fe_mem lX98_withRegister x = true → S x) (n : Nat) (s0 : Nat) (s1 : Int32) (s2 : Int64) (M : FM) (w : WI Z hx N M) (z_s0 : Z s0) : pq (FX98_withRegister_75 n s0 s1 s2 M) (QA S Z hx N M) := by
  have hN := w.2.2.1
  have w0 := wk_r (S := S) w
  delta FX98_withRegister_75 BX98_withRegister_75
  refine pq_g (fun g1 => ?_)
  refine pq_b (wX98_done S Z (sb rfl hS) _ _ _ _ w0.1 z_s0) (fun r2 K3 => ?_)
  have w4 := wk_t w0 K3 hN
  exact pq_s w4
theorem wX98_withRegister_50 (S Z : Nat → Prop) {hx N : Nat} (hS : ∀ x, fe_mem lX98_withRegister x = true → S x) (n : Nat) (a0 : Nat) (a1 : Int32) (a2 : Int32) (a4 : Int32) (M : FM) (w : WI Z hx N M) (z_a0 : Z a0) : pq (FX98_withRegister_50 n a0 a1 a2 a4 M) (QA S Z hx N M) := by
  have hN := w.2.2.1
  have w0 := wk_r (S := S) w
  delta FX98_withRegister_50 BX98_withRegister_50
  refine pq_fi (fun _ => ?_) (fun _ => ?_)
  · refine pq_g (fun g1 => ?_)
    refine pq_g (fun g2 => ?_)
    exact q_tA hN w0 (wX98_withRegister_75 S Z hS n _ _ _ _ w0.1 z_a0)
  · refine pq_g (fun g3 => ?_)
    exact q_tA hN w0 (wX98_withRegister_75 S Z hS n _ _ _ _ w0.1 z_a0)
theorem wX98_withRegister_0 (S Z : Nat → Prop) {hx N : Nat} (hS : ∀ x, fe_mem lX98_withRegister x = true → S x) (n : Nat) (a0 : Nat) (a1 : Int32) (a2 : Int32) (a3 : Int32) (M : FM) (w : WI Z hx N M) (z_a0 : Z a0) : pq (FX98_withRegister_0 n a0 a1 a2 a3 M) (QA S Z hx N M) := by
  have hN := w.2.2.1
  have w0 := wk_r (S := S) w
  delta FX98_withRegister_0 BX98_withRegister_0
  refine pq_g (fun g1 => ?_)
  refine pq_fi (fun _ => ?_) (fun _ => ?_)
  · refine pq_g (fun g2 => ?_)
    refine pq_g (fun g3 => ?_)
    refine pq_b (wX98_plain S Z (sb rfl hS) _ _ _ _ _ w0.1 ) (fun r4 K5 => ?_)
    have w6 := wk_t w0 K5 hN
    refine pq_g (fun g7 => ?_)
    refine pq_b (wX98_done S Z (sb rfl hS) _ _ _ _ w6.1 z_a0) (fun r8 K9 => ?_)
    have w10 := wk_t w6 K9 hN
    exact pq_s w10
  · refine pq_fi (fun _ => ?_) (fun _ => ?_)
    · refine pq_fi (fun _ => ?_) (fun _ => ?_)
      · exact q_tA hN w0 (wX98_withRegister_50 S Z hS n _ _ _ _ _ w0.1 z_a0)
      · refine pq_fi (fun _ => ?_) (fun _ => ?_)
        · exact q_tA hN w0 (wX98_withRegister_50 S Z hS n _ _ _ _ _ w0.1 z_a0)
        · exact q_tA hN w0 (wX98_withRegister_79 S Z hS n _ _ _ _ _ w0.1 z_a0)
    · exact q_tA hN w0 (wX98_withRegister_79 S Z hS n _ _ _ _ _ w0.1 z_a0)
theorem wX98_withRegister (S Z : Nat → Prop) {hx N : Nat} (hS : ∀ x, fe_mem lX98_withRegister x = true → S x) (n : Nat) (a0 : Nat) (a1 : Int32) (a2 : Int32) (a3 : Int32) (M : FM) (w : WI Z hx N M) (z_a0 : Z a0) : pq (FX98_withRegister n a0 a1 a2 a3 M) (QA S Z hx N M) := wX98_withRegister_0 S Z hS n a0 a1 a2 a3 M w z_a0
def lX98_intProduct : List Nat := [347, 348, 356, 357, 1346]
theorem wX98_intProduct_111 (S Z : Nat → Prop) {hx N : Nat} (hS : ∀ x, fe_mem lX98_intProduct x = true → S x) (n : Nat) (s0 : Nat) (s1 : Int32) (s2 : Int64) (M : FM) (w : WI Z hx N M) (z_s0 : Z s0) : pq (FX98_intProduct_111 n s0 s1 s2 M) (QA S Z hx N M) := by
  have hN := w.2.2.1
  have w0 := wk_r (S := S) w
  delta FX98_intProduct_111 BX98_intProduct_111
  refine pq_g (fun g1 => ?_)
  refine pq_b (wX98_done S Z (sb rfl hS) _ _ _ _ w0.1 z_s0) (fun r2 K3 => ?_)
  have w4 := wk_t w0 K3 hN
  exact pq_s w4
theorem wX98_intProduct_88 (S Z : Nat → Prop) {hx N : Nat} (hS : ∀ x, fe_mem lX98_intProduct x = true → S x) (n : Nat) (a0 : Nat) (a1 : Int32) (a2 : Int32) (a3 : Int32) (s0 : Nat) (s1 : Int64) (s2 : Int64) (M : FM) (w : WI Z hx N M) (z_a0 : Z a0) (z_s0 : Z s0) : pq (FX98_intProduct_88 n a0 a1 a2 a3 s0 s1 s2 M) (QA S Z hx N M) := by
  have hN := w.2.2.1
  have w0 := wk_r (S := S) w
  delta FX98_intProduct_88 BX98_intProduct_88
  refine pq_g (fun g1 => ?_)
  refine pq_b (wX98_divideAll S Z (sb rfl hS) n _ _ _ _ _ w0.1 z_s0) (fun r2 K3 => ?_)
  have w4 := wk_t w0 K3 hN
  refine pq_fi (fun _ => ?_) (fun _ => ?_)
  · refine pq_g (fun g5 => ?_)
    exact q_tA hN w4 (wX98_intProduct_111 S Z hS n _ _ _ _ w4.1 z_a0)
  · refine pq_g (fun g6 => ?_)
    exact q_tA hN w4 (wX98_intProduct_111 S Z hS n _ _ _ _ w4.1 z_a0)
theorem wX98_intProduct_67 (S Z : Nat → Prop) {hx N : Nat} (hS : ∀ x, fe_mem lX98_intProduct x = true → S x) (n : Nat) (a0 : Nat) (a1 : Int32) (a2 : Int32) (a3 : Int32) (s0 : Nat) (s1 : Int64) (M : FM) (w : WI Z hx N M) (z_a0 : Z a0) (z_s0 : Z s0) : pq (FX98_intProduct_67 n a0 a1 a2 a3 s0 s1 M) (QA S Z hx N M) := by
  have hN := w.2.2.1
  have w0 := wk_r (S := S) w
  delta FX98_intProduct_67 BX98_intProduct_67
  refine pq_fi (fun _ => ?_) (fun _ => ?_)
  · refine pq_g (fun g1 => ?_)
    exact q_tA hN w0 (wX98_intProduct_88 S Z hS n _ _ _ _ _ _ _ _ w0.1 z_a0 z_s0)
  · refine pq_g (fun g2 => ?_)
    exact q_tA hN w0 (wX98_intProduct_88 S Z hS n _ _ _ _ _ _ _ _ w0.1 z_a0 z_s0)
theorem wX98_intProduct_44 (S Z : Nat → Prop) {hx N : Nat} (hS : ∀ x, fe_mem lX98_intProduct x = true → S x) (n : Nat) (a0 : Nat) (a1 : Int32) (a2 : Int32) (s0 : Int32) (M : FM) (w : WI Z hx N M) (z_a0 : Z a0) : pq (FX98_intProduct_44 n a0 a1 a2 s0 M) (QA S Z hx N M) := by
  have hN := w.2.2.1
  have w0 := wk_r (S := S) w
  delta FX98_intProduct_44 BX98_intProduct_44
  refine pq_fi (fun _ => ?_) (fun _ => ?_)
  · refine pq_g (fun g1 => ?_)
    exact q_tA hN w0 (wX98_intProduct_67 S Z hS n _ _ _ _ _ _ _ w0.1 z_a0 z_a0)
  · refine pq_g (fun g2 => ?_)
    exact q_tA hN w0 (wX98_intProduct_67 S Z hS n _ _ _ _ _ _ _ w0.1 z_a0 z_a0)
theorem wX98_intProduct_39 (S Z : Nat → Prop) {hx N : Nat} (hS : ∀ x, fe_mem lX98_intProduct x = true → S x) (n : Nat) (a0 : Nat) (a1 : Int32) (a2 : Int32) (M : FM) (w : WI Z hx N M) (z_a0 : Z a0) : pq (FX98_intProduct_39 n a0 a1 a2 M) (QA S Z hx N M) := by
  have hN := w.2.2.1
  have w0 := wk_r (S := S) w
  delta FX98_intProduct_39 BX98_intProduct_39
  exact q_tA hN w0 (wX98_intProduct_44 S Z hS n _ _ _ _ _ w0.1 z_a0)
theorem wX98_intProduct_0 (S Z : Nat → Prop) {hx N : Nat} (hS : ∀ x, fe_mem lX98_intProduct x = true → S x) (n : Nat) (a0 : Nat) (a1 : Int32) (a2 : Int32) (M : FM) (w : WI Z hx N M) (z_a0 : Z a0) : pq (FX98_intProduct_0 n a0 a1 a2 M) (QA S Z hx N M) := by
  have hN := w.2.2.1
  have w0 := wk_r (S := S) w
  delta FX98_intProduct_0 BX98_intProduct_0
  refine pq_fi (fun _ => ?_) (fun _ => ?_)
  · refine pq_g (fun g1 => ?_)
    refine pq_g (fun g2 => ?_)
    refine pq_g (fun g3 => ?_)
    refine pq_b (wX98_done S Z (sb rfl hS) _ _ _ _ w0.1 z_a0) (fun r4 K5 => ?_)
    have w6 := wk_t w0 K5 hN
    exact pq_s w6
  · refine pq_fi (fun _ => ?_) (fun _ => ?_)
    · refine pq_fi (fun _ => ?_) (fun _ => ?_)
      · exact q_tA hN w0 (wX98_intProduct_39 S Z hS n _ _ _ _ w0.1 z_a0)
      · refine pq_fi (fun _ => ?_) (fun _ => ?_)
        · exact q_tA hN w0 (wX98_intProduct_39 S Z hS n _ _ _ _ w0.1 z_a0)
        · exact q_tA hN w0 (wX98_intProduct_44 S Z hS n _ _ _ _ _ w0.1 z_a0)
    · exact pq_s w0
theorem wX98_intProduct (S Z : Nat → Prop) {hx N : Nat} (hS : ∀ x, fe_mem lX98_intProduct x = true → S x) (n : Nat) (a0 : Nat) (a1 : Int32) (a2 : Int32) (M : FM) (w : WI Z hx N M) (z_a0 : Z a0) : pq (FX98_intProduct n a0 a1 a2 M) (QA S Z hx N M) := wX98_intProduct_0 S Z hS n a0 a1 a2 M w z_a0
def lX98_intRegister : List Nat := [347, 348, 356, 357, 1346]
theorem wX98_intRegister_142 (S Z : Nat → Prop) {hx N : Nat} (hS : ∀ x, fe_mem lX98_intRegister x = true → S x) (n : Nat) (s0 : Int32) (M : FM) (w : WI Z hx N M) : pq (FX98_intRegister_142 n s0 M) (QA S Z hx N M) := by
  have hN := w.2.2.1
  have w0 := wk_r (S := S) w
  delta FX98_intRegister_142 BX98_intRegister_142
  exact pq_s w0
theorem wX98_intRegister_141 (S Z : Nat → Prop) {hx N : Nat} (hS : ∀ x, fe_mem lX98_intRegister x = true → S x) (n : Nat) (M : FM) (w : WI Z hx N M) : pq (FX98_intRegister_141 n M) (QA S Z hx N M) := by
  have hN := w.2.2.1
  have w0 := wk_r (S := S) w
  delta FX98_intRegister_141 BX98_intRegister_141
  exact q_tA hN w0 (wX98_intRegister_142 S Z hS n _ _ w0.1 )
theorem wX98_intRegister_135 (S Z : Nat → Prop) {hx N : Nat} (hS : ∀ x, fe_mem lX98_intRegister x = true → S x) (n : Nat) (s0 : Nat) (s1 : Int32) (s2 : Int64) (M : FM) (w : WI Z hx N M) (z_s0 : Z s0) : pq (FX98_intRegister_135 n s0 s1 s2 M) (QA S Z hx N M) := by
  have hN := w.2.2.1
  have w0 := wk_r (S := S) w
  delta FX98_intRegister_135 BX98_intRegister_135
  refine pq_g (fun g1 => ?_)
  refine pq_b (wX98_done S Z (sb rfl hS) _ _ _ _ w0.1 z_s0) (fun r2 K3 => ?_)
  have w4 := wk_t w0 K3 hN
  exact q_tA hN w4 (wX98_intRegister_142 S Z hS n _ _ w4.1 )
theorem wX98_intRegister_106 (S Z : Nat → Prop) {hx N : Nat} (hS : ∀ x, fe_mem lX98_intRegister x = true → S x) (n : Nat) (a0 : Nat) (a1 : Int32) (a2 : Int32) (a4 : Int32) (M : FM) (w : WI Z hx N M) (z_a0 : Z a0) : pq (FX98_intRegister_106 n a0 a1 a2 a4 M) (QA S Z hx N M) := by
  have hN := w.2.2.1
  have w0 := wk_r (S := S) w
  delta FX98_intRegister_106 BX98_intRegister_106
  refine pq_fi (fun _ => ?_) (fun _ => ?_)
  · refine pq_g (fun g1 => ?_)
    refine pq_g (fun g2 => ?_)
    exact q_tA hN w0 (wX98_intRegister_135 S Z hS n _ _ _ _ w0.1 z_a0)
  · refine pq_g (fun g3 => ?_)
    exact q_tA hN w0 (wX98_intRegister_135 S Z hS n _ _ _ _ w0.1 z_a0)
theorem wX98_intRegister_91 (S Z : Nat → Prop) {hx N : Nat} (hS : ∀ x, fe_mem lX98_intRegister x = true → S x) (n : Nat) (a0 : Nat) (a1 : Int32) (a2 : Int32) (a3 : Int32) (a4 : Int32) (M : FM) (w : WI Z hx N M) (z_a0 : Z a0) : pq (FX98_intRegister_91 n a0 a1 a2 a3 a4 M) (QA S Z hx N M) := by
  have hN := w.2.2.1
  have w0 := wk_r (S := S) w
  delta FX98_intRegister_91 BX98_intRegister_91
  refine pq_fi (fun _ => ?_) (fun _ => ?_)
  · refine pq_fi (fun _ => ?_) (fun _ => ?_)
    · exact q_tA hN w0 (wX98_intRegister_106 S Z hS n _ _ _ _ _ w0.1 z_a0)
    · refine pq_fi (fun _ => ?_) (fun _ => ?_)
      · exact q_tA hN w0 (wX98_intRegister_106 S Z hS n _ _ _ _ _ w0.1 z_a0)
      · exact q_tA hN w0 (wX98_intRegister_141 S Z hS n _ w0.1 )
  · exact q_tA hN w0 (wX98_intRegister_141 S Z hS n _ w0.1 )
theorem wX98_intRegister_87 (S Z : Nat → Prop) {hx N : Nat} (hS : ∀ x, fe_mem lX98_intRegister x = true → S x) (n : Nat) (s0 : Nat) (s1 : Int32) (s2 : Int64) (M : FM) (w : WI Z hx N M) (z_s0 : Z s0) : pq (FX98_intRegister_87 n s0 s1 s2 M) (QA S Z hx N M) := by
  have hN := w.2.2.1
  have w0 := wk_r (S := S) w
  delta FX98_intRegister_87 BX98_intRegister_87
  refine pq_g (fun g1 => ?_)
  refine pq_b (wX98_done S Z (sb rfl hS) _ _ _ _ w0.1 z_s0) (fun r2 K3 => ?_)
  have w4 := wk_t w0 K3 hN
  exact pq_s w4
theorem wX98_intRegister_41 (S Z : Nat → Prop) {hx N : Nat} (hS : ∀ x, fe_mem lX98_intRegister x = true → S x) (n : Nat) (a0 : Nat) (a1 : Int32) (a2 : Int32) (a4 : Int32) (M : FM) (w : WI Z hx N M) (z_a0 : Z a0) : pq (FX98_intRegister_41 n a0 a1 a2 a4 M) (QA S Z hx N M) := by
  have hN := w.2.2.1
  have w0 := wk_r (S := S) w
  delta FX98_intRegister_41 BX98_intRegister_41
  refine pq_fi (fun _ => ?_) (fun _ => ?_)
  · refine pq_g (fun g1 => ?_)
    refine pq_g (fun g2 => ?_)
    exact q_tA hN w0 (wX98_intRegister_87 S Z hS n _ _ _ _ w0.1 z_a0)
  · refine pq_fi (fun _ => ?_) (fun _ => ?_)
    · refine pq_g (fun g3 => ?_)
      exact q_tA hN w0 (wX98_intRegister_87 S Z hS n _ _ _ _ w0.1 z_a0)
    · refine pq_g (fun g4 => ?_)
      exact q_tA hN w0 (wX98_intRegister_87 S Z hS n _ _ _ _ w0.1 z_a0)
theorem wX98_intRegister_0 (S Z : Nat → Prop) {hx N : Nat} (hS : ∀ x, fe_mem lX98_intRegister x = true → S x) (n : Nat) (a0 : Nat) (a1 : Int32) (a2 : Int32) (a3 : Int32) (M : FM) (w : WI Z hx N M) (z_a0 : Z a0) : pq (FX98_intRegister_0 n a0 a1 a2 a3 M) (QA S Z hx N M) := by
  have hN := w.2.2.1
  have w0 := wk_r (S := S) w
  delta FX98_intRegister_0 BX98_intRegister_0
  refine pq_g (fun g1 => ?_)
  refine pq_fi (fun _ => ?_) (fun _ => ?_)
  · refine pq_g (fun g2 => ?_)
    refine pq_b (wX98_intProduct S Z (sb rfl hS) n _ _ _ _ w0.1 z_a0) (fun r3 K4 => ?_)
    have w5 := wk_t w0 K4 hN
    exact pq_s w5
  · refine pq_fi (fun _ => ?_) (fun _ => ?_)
    · refine pq_fi (fun _ => ?_) (fun _ => ?_)
      · exact q_tA hN w0 (wX98_intRegister_41 S Z hS n _ _ _ _ _ w0.1 z_a0)
      · refine pq_fi (fun _ => ?_) (fun _ => ?_)
        · exact q_tA hN w0 (wX98_intRegister_41 S Z hS n _ _ _ _ _ w0.1 z_a0)
        · refine pq_fi (fun _ => ?_) (fun _ => ?_)
          · exact q_tA hN w0 (wX98_intRegister_41 S Z hS n _ _ _ _ _ w0.1 z_a0)
          · exact q_tA hN w0 (wX98_intRegister_91 S Z hS n _ _ _ _ _ _ w0.1 z_a0)
    · exact q_tA hN w0 (wX98_intRegister_91 S Z hS n _ _ _ _ _ _ w0.1 z_a0)
theorem wX98_intRegister (S Z : Nat → Prop) {hx N : Nat} (hS : ∀ x, fe_mem lX98_intRegister x = true → S x) (n : Nat) (a0 : Nat) (a1 : Int32) (a2 : Int32) (a3 : Int32) (M : FM) (w : WI Z hx N M) (z_a0 : Z a0) : pq (FX98_intRegister n a0 a1 a2 a3 M) (QA S Z hx N M) := wX98_intRegister_0 S Z hS n a0 a1 a2 a3 M w z_a0
def lX98_immediateJ : List Nat := []
theorem wX98_immediateJ_0 (S Z : Nat → Prop) {hx N : Nat} (hS : ∀ x, fe_mem lX98_immediateJ x = true → S x) (n : Nat) (a0 : Nat) (M : FM) (w : WI Z hx N M) (z_a0 : Z a0) : pq (FX98_immediateJ_0 n a0 M) (QA S Z hx N M) := by
  have hN := w.2.2.1
  have w0 := wk_r (S := S) w
  delta FX98_immediateJ_0 BX98_immediateJ_0
  refine pq_g (fun g1 => ?_)
  refine pq_b (wX98_sign S Z (sb rfl hS) _ _ _ w0.1 z_a0) (fun r2 K3 => ?_)
  have w4 := wk_t w0 K3 hN
  refine pq_g (fun g5 => ?_)
  refine pq_b (wX98_bits S Z (sb rfl hS) n _ _ _ _ w4.1 z_a0) (fun r6 K7 => ?_)
  have w8 := wk_t w4 K7 hN
  refine pq_g (fun g9 => ?_)
  refine pq_b (wX98_bits S Z (sb rfl hS) n _ _ _ _ w8.1 z_a0) (fun r10 K11 => ?_)
  have w12 := wk_t w8 K11 hN
  refine pq_g (fun g13 => ?_)
  refine pq_b (wX98_bits S Z (sb rfl hS) n _ _ _ _ w12.1 z_a0) (fun r14 K15 => ?_)
  have w16 := wk_t w12 K15 hN
  exact pq_s w16
theorem wX98_immediateJ (S Z : Nat → Prop) {hx N : Nat} (hS : ∀ x, fe_mem lX98_immediateJ x = true → S x) (n : Nat) (a0 : Nat) (M : FM) (w : WI Z hx N M) (z_a0 : Z a0) : pq (FX98_immediateJ n a0 M) (QA S Z hx N M) := wX98_immediateJ_0 S Z hS n a0 M w z_a0
def lX98_run : List Nat := [345, 347, 348, 349, 350, 351, 352, 353, 354, 356, 357, 1346, 1355]
theorem wX98_run_16 (S Z : Nat → Prop) {hx N : Nat} (hS : ∀ x, fe_mem lX98_run x = true → S x) (n : Nat) (a0 : Nat) (a1 : Int32) (a2 : Int32) (s0 : Nat) (s1 : Int32) (M : FM) (w : WI Z hx N M) (z_a0 : Z a0) (z_s0 : Z s0) : pq (FX98_run_16 n a0 a1 a2 s0 s1 M) (QA S Z hx N M) := by
  have hN := w.2.2.1
  have w0 := wk_r (S := S) w
  delta FX98_run_16 BX98_run_16
  refine pq_g (fun g1 => ?_)
  extract_lets +onlyGivenNames M3
  have w2 : Wk S Z hx N M M3 := wk_fI hN w0 rfl rfl g1 z_s0 (Or.inr (hS 345 rfl))
  refine pq_g (fun g4 => ?_)
  refine pq_fi (fun _ => ?_) (fun _ => ?_)
  · refine pq_g (fun g5 => ?_)
    extract_lets +onlyGivenNames M7
    have w6 : Wk S Z hx N M M7 := wk_fI hN w2 rfl rfl g5 z_a0 (Or.inr (hS 349 rfl))
    refine pq_g (fun g8 => ?_)
    extract_lets +onlyGivenNames M10
    have w9 : Wk S Z hx N M M10 := wk_fI hN w6 rfl rfl g8 z_a0 (Or.inr (hS 350 rfl))
    refine pq_g (fun g11 => ?_)
    extract_lets +onlyGivenNames M13
    have w12 : Wk S Z hx N M M13 := wk_fI hN w9 rfl rfl g11 z_a0 (Or.inr (hS 353 rfl))
    refine pq_g (fun g14 => ?_)
    refine pq_b (wX98_bits S Z (sb rfl hS) n _ _ _ _ w12.1 z_a0) (fun r15 K16 => ?_)
    have w17 := wk_t w12 K16 hN
    refine pq_g (fun g18 => ?_)
    refine pq_b (wX98_bits S Z (sb rfl hS) n _ _ _ _ w17.1 z_a0) (fun r19 K20 => ?_)
    have w21 := wk_t w17 K20 hN
    refine pq_g (fun g22 => ?_)
    refine pq_b (wX98_bits S Z (sb rfl hS) n _ _ _ _ w21.1 z_a0) (fun r23 K24 => ?_)
    have w25 := wk_t w21 K24 hN
    refine pq_g (fun g26 => ?_)
    refine pq_b (wX98_bits S Z (sb rfl hS) n _ _ _ _ w25.1 z_a0) (fun r27 K28 => ?_)
    have w29 := wk_t w25 K28 hN
    refine pq_g (fun g30 => ?_)
    have z31 := wk_z (i := 0) (f := 346) w29 rfl z_a0
    have f32 := sS_346 w29.1.1 g30
    refine pq_g (fun g33 => ?_)
    refine pq_b (wX98_bits S Z (sb rfl hS) n _ _ _ _ w29.1 z_a0) (fun r34 K35 => ?_)
    have w36 := wk_t w29 K35 hN
    have f37 := sf_k w29.1.1 K35 f32
    refine pq_g (fun g38 => ?_)
    refine pq_g (fun g39 => ?_)
    extract_lets +onlyGivenNames M41
    have w40 : Wk S Z hx N M M41 := wk_fL hN w36 rfl rfl g39 z_a0 (Or.inr (hS 351 rfl))
    refine pq_g (fun g42 => ?_)
    have z43 := wk_z (i := 0) (f := 346) w40 rfl z_a0
    have f44 := sS_346 w40.1.1 g42
    refine pq_g (fun g45 => ?_)
    refine pq_b (wX98_bits S Z (sb rfl hS) n _ _ _ _ w40.1 z_a0) (fun r46 K47 => ?_)
    have w48 := wk_t w40 K47 hN
    have f49 := sf_k w40.1.1 K47 f44
    refine pq_g (fun g50 => ?_)
    refine pq_g (fun g51 => ?_)
    extract_lets +onlyGivenNames M53
    have w52 : Wk S Z hx N M M53 := wk_fL hN w48 rfl rfl g51 z_a0 (Or.inr (hS 352 rfl))
    refine pq_g (fun g54 => ?_)
    refine pq_g (fun g55 => ?_)
    refine pq_fi (fun _ => ?_) (fun _ => ?_)
    · refine pq_g (fun g56 => ?_)
      refine pq_b (wX98_withImmediate S Z (sb rfl hS) n _ _ _ _ w52.1 z_a0) (fun r57 K58 => ?_)
      have w59 := wk_t w52 K58 hN
      exact pq_s w59
    · refine pq_fi (fun _ => ?_) (fun _ => ?_)
      · refine pq_g (fun g60 => ?_)
        refine pq_g (fun g61 => ?_)
        refine pq_b (wX98_immediateU S Z (sb rfl hS) n _ _ w52.1 z_a0) (fun r62 K63 => ?_)
        have w64 := wk_t w52 K63 hN
        refine pq_g (fun g65 => ?_)
        refine pq_b (wX98_done S Z (sb rfl hS) _ _ _ _ w64.1 z_a0) (fun r66 K67 => ?_)
        have w68 := wk_t w64 K67 hN
        exact pq_s w68
      · refine pq_fi (fun _ => ?_) (fun _ => ?_)
        · refine pq_g (fun g69 => ?_)
          refine pq_b (wX98_intImmediate S Z (sb rfl hS) n _ _ _ _ _ w52.1 z_a0) (fun r70 K71 => ?_)
          have w72 := wk_t w52 K71 hN
          exact pq_s w72
        · refine pq_fi (fun _ => ?_) (fun _ => ?_)
          · refine pq_g (fun g73 => ?_)
            refine pq_b (wX98_withRegister S Z (sb rfl hS) n _ _ _ _ _ w52.1 z_a0) (fun r74 K75 => ?_)
            have w76 := wk_t w52 K75 hN
            exact pq_s w76
          · refine pq_fi (fun _ => ?_) (fun _ => ?_)
            · refine pq_g (fun g77 => ?_)
              refine pq_b (wX98_immediateU S Z (sb rfl hS) n _ _ w52.1 z_a0) (fun r78 K79 => ?_)
              have w80 := wk_t w52 K79 hN
              refine pq_g (fun g81 => ?_)
              refine pq_b (wX98_done S Z (sb rfl hS) _ _ _ _ w80.1 z_a0) (fun r82 K83 => ?_)
              have w84 := wk_t w80 K83 hN
              exact pq_s w84
            · refine pq_fi (fun _ => ?_) (fun _ => ?_)
              · refine pq_g (fun g85 => ?_)
                refine pq_b (wX98_intRegister S Z (sb rfl hS) n _ _ _ _ _ w52.1 z_a0) (fun r86 K87 => ?_)
                have w88 := wk_t w52 K87 hN
                exact pq_s w88
              · refine pq_fi (fun _ => ?_) (fun _ => ?_)
                · refine pq_g (fun g89 => ?_)
                  refine pq_b (wX98_branch S Z (sb rfl hS) n _ _ _ w52.1 z_a0) (fun r90 K91 => ?_)
                  have w92 := wk_t w52 K91 hN
                  exact pq_s w92
                · refine pq_fi (fun _ => ?_) (fun _ => ?_)
                  · refine pq_fi (fun _ => ?_) (fun _ => ?_)
                    · refine pq_g (fun g93 => ?_)
                      refine pq_b (wX98_put S Z (sb rfl hS) _ _ _ _ w52.1 z_a0) (fun r94 K95 => ?_)
                      have w96 := wk_t w52 K95 hN
                      refine pq_g (fun g97 => ?_)
                      refine pq_g (fun g98 => ?_)
                      refine pq_b (wX98_immediateI S Z (sb rfl hS) n _ _ w96.1 z_a0) (fun r99 K100 => ?_)
                      have w101 := wk_t w96 K100 hN
                      refine pq_g (fun g102 => ?_)
                      refine pq_g (fun g103 => ?_)
                      refine pq_b (wX98_immediateI S Z (sb rfl hS) n _ _ w101.1 z_a0) (fun r104 K105 => ?_)
                      have w106 := wk_t w101 K105 hN
                      refine pq_g (fun g107 => ?_)
                      refine pq_b (wX98_go S Z (sb rfl hS) _ _ _ w106.1 z_a0) (fun r108 K109 => ?_)
                      have w110 := wk_t w106 K109 hN
                      exact pq_s w110
                    · exact pq_s w52
                  · refine pq_fi (fun _ => ?_) (fun _ => ?_)
                    · refine pq_g (fun g111 => ?_)
                      refine pq_b (wX98_put S Z (sb rfl hS) _ _ _ _ w52.1 z_a0) (fun r112 K113 => ?_)
                      have w114 := wk_t w52 K113 hN
                      refine pq_g (fun g115 => ?_)
                      refine pq_g (fun g116 => ?_)
                      refine pq_b (wX98_immediateJ S Z (sb rfl hS) n _ _ w114.1 z_a0) (fun r117 K118 => ?_)
                      have w119 := wk_t w114 K118 hN
                      refine pq_g (fun g120 => ?_)
                      refine pq_b (wX98_go S Z (sb rfl hS) _ _ _ w119.1 z_a0) (fun r121 K122 => ?_)
                      have w123 := wk_t w119 K122 hN
                      exact pq_s w123
                    · refine pq_g (fun g124 => ?_)
                      refine pq_b (wX98_others S Z (sb rfl hS) n _ _ _ _ _ w52.1 z_a0) (fun r125 K126 => ?_)
                      have w127 := wk_t w52 K126 hN
                      exact pq_s w127
  · exact pq_s w2
theorem wX98_run_11 (S Z : Nat → Prop) {hx N : Nat} (hS : ∀ x, fe_mem lX98_run x = true → S x) (n : Nat) (a0 : Nat) (a1 : Int32) (a2 : Int32) (s0 : Nat) (M : FM) (w : WI Z hx N M) (z_a0 : Z a0) (z_s0 : Z s0) : pq (FX98_run_11 n a0 a1 a2 s0 M) (QA S Z hx N M) := by
  have hN := w.2.2.1
  have w0 := wk_r (S := S) w
  delta FX98_run_11 BX98_run_11
  exact q_tA hN w0 (wX98_run_16 S Z hS n _ _ _ _ _ _ w0.1 z_a0 z_s0)
theorem wX98_run_0 (S Z : Nat → Prop) {hx N : Nat} (hS : ∀ x, fe_mem lX98_run x = true → S x) (n : Nat) (a0 : Nat) (a1 : Int32) (a2 : Int32) (M : FM) (w : WI Z hx N M) (z_a0 : Z a0) : pq (FX98_run_0 n a0 a1 a2 M) (QA S Z hx N M) := by
  have hN := w.2.2.1
  have w0 := wk_r (S := S) w
  delta FX98_run_0 BX98_run_0
  refine pq_fi (fun _ => ?_) (fun _ => ?_)
  · exact q_tA hN w0 (wX98_run_11 S Z hS n _ _ _ _ _ w0.1 z_a0 z_a0)
  · refine pq_fi (fun _ => ?_) (fun _ => ?_)
    · exact q_tA hN w0 (wX98_run_11 S Z hS n _ _ _ _ _ w0.1 z_a0 z_a0)
    · exact q_tA hN w0 (wX98_run_16 S Z hS n _ _ _ _ _ _ w0.1 z_a0 z_a0)
theorem wX98_run (S Z : Nat → Prop) {hx N : Nat} (hS : ∀ x, fe_mem lX98_run x = true → S x) (n : Nat) (a0 : Nat) (a1 : Int32) (a2 : Int32) (M : FM) (w : WI Z hx N M) (z_a0 : Z a0) : pq (FX98_run n a0 a1 a2 M) (QA S Z hx N M) := wX98_run_0 S Z hS n a0 a1 a2 M w z_a0
def lX98_wanted : List Nat := [345]
theorem wX98_wanted_34 (S Z : Nat → Prop) {hx N : Nat} (hS : ∀ x, fe_mem lX98_wanted x = true → S x) (s0 : Int64) (M : FM) (w : WI Z hx N M) : pq (FX98_wanted_34 s0 M) (QA S Z hx N M) := by
  have hN := w.2.2.1
  have w0 := wk_r (S := S) w
  delta FX98_wanted_34 BX98_wanted_34
  exact pq_s w0
theorem wX98_wanted_22 (S Z : Nat → Prop) {hx N : Nat} (hS : ∀ x, fe_mem lX98_wanted x = true → S x) (M : FM) (w : WI Z hx N M) : pq (FX98_wanted_22 M) (QA S Z hx N M) := by
  have hN := w.2.2.1
  have w0 := wk_r (S := S) w
  delta FX98_wanted_22 BX98_wanted_22
  exact q_tA hN w0 (wX98_wanted_34 S Z hS _ _ w0.1 )
theorem wX98_wanted_0 (S Z : Nat → Prop) {hx N : Nat} (hS : ∀ x, fe_mem lX98_wanted x = true → S x) (a0 : Nat) (a1 : Int32) (M : FM) (w : WI Z hx N M) (z_a0 : Z a0) : pq (FX98_wanted_0 a0 a1 M) (QA S Z hx N M) := by
  have hN := w.2.2.1
  have w0 := wk_r (S := S) w
  delta FX98_wanted_0 BX98_wanted_0
  refine pq_g (fun g1 => ?_)
  extract_lets +onlyGivenNames M3
  have w2 : Wk S Z hx N M M3 := wk_fI hN w0 rfl rfl g1 z_a0 (Or.inr (hS 345 rfl))
  refine pq_g (fun g4 => ?_)
  refine pq_fi (fun _ => ?_) (fun _ => ?_)
  · exact q_tA hN w2 (wX98_wanted_22 S Z hS _ w2.1 )
  · refine pq_fi (fun _ => ?_) (fun _ => ?_)
    · exact q_tA hN w2 (wX98_wanted_22 S Z hS _ w2.1 )
    · refine pq_fi (fun _ => ?_) (fun _ => ?_)
      · refine pq_g (fun g5 => ?_)
        have z6 := wk_z (i := 0) (f := 355) w2 rfl z_a0
        have f7 := sS_355 w2.1.1 g5
        refine pq_g (fun g8 => ?_)
        exact q_tA hN w2 (wX98_wanted_34 S Z hS _ _ w2.1 )
      · exact q_tA hN w2 (wX98_wanted_22 S Z hS _ w2.1 )
theorem wX98_wanted (S Z : Nat → Prop) {hx N : Nat} (hS : ∀ x, fe_mem lX98_wanted x = true → S x) (a0 : Nat) (a1 : Int32) (M : FM) (w : WI Z hx N M) (z_a0 : Z a0) : pq (FX98_wanted a0 a1 M) (QA S Z hx N M) := wX98_wanted_0 S Z hS a0 a1 M w z_a0
def lX100_below : List Nat := []
theorem wX100_below_0 (S Z : Nat → Prop) {hx N : Nat} (hS : ∀ x, fe_mem lX100_below x = true → S x) (a0 : Nat) (M : FM) (w : WI Z hx N M) (z_a0 : Z a0) : pq (FX100_below_0 a0 M) (QA S Z hx N M) := by
  have hN := w.2.2.1
  have w0 := wk_r (S := S) w
  delta FX100_below_0 BX100_below_0
  refine pq_g (fun g1 => ?_)
  refine pq_b (wX100_status S Z (sb rfl hS) _ _ _ w0.1 z_a0) (fun r2 K3 => ?_)
  have w4 := wk_t w0 K3 hN
  refine pq_g (fun g5 => ?_)
  refine pq_b (wX100_status S Z (sb rfl hS) _ _ _ w4.1 z_a0) (fun r6 K7 => ?_)
  have w8 := wk_t w4 K7 hN
  exact pq_s w8
theorem wX100_below (S Z : Nat → Prop) {hx N : Nat} (hS : ∀ x, fe_mem lX100_below x = true → S x) (a0 : Nat) (M : FM) (w : WI Z hx N M) (z_a0 : Z a0) : pq (FX100_below a0 M) (QA S Z hx N M) := wX100_below_0 S Z hS a0 M w z_a0
def lX100_dataMode : List Nat := [358]
theorem wX100_dataMode_26 (S Z : Nat → Prop) {hx N : Nat} (hS : ∀ x, fe_mem lX100_dataMode x = true → S x) (s0 : Int32) (M : FM) (w : WI Z hx N M) : pq (FX100_dataMode_26 s0 M) (QA S Z hx N M) := by
  have hN := w.2.2.1
  have w0 := wk_r (S := S) w
  delta FX100_dataMode_26 BX100_dataMode_26
  exact pq_s w0
theorem wX100_dataMode_0 (S Z : Nat → Prop) {hx N : Nat} (hS : ∀ x, fe_mem lX100_dataMode x = true → S x) (a0 : Nat) (M : FM) (w : WI Z hx N M) (z_a0 : Z a0) : pq (FX100_dataMode_0 a0 M) (QA S Z hx N M) := by
  have hN := w.2.2.1
  have w0 := wk_r (S := S) w
  delta FX100_dataMode_0 BX100_dataMode_0
  refine pq_g (fun g1 => ?_)
  extract_lets +onlyGivenNames M3
  have w2 : Wk S Z hx N M M3 := wk_fI hN w0 rfl rfl g1 z_a0 (Or.inr (hS 358 rfl))
  refine pq_g (fun g4 => ?_)
  refine pq_b (wX100_status S Z (sb rfl hS) _ _ _ w2.1 z_a0) (fun r5 K6 => ?_)
  have w7 := wk_t w2 K6 hN
  refine pq_fi (fun _ => ?_) (fun _ => ?_)
  · refine pq_g (fun g8 => ?_)
    refine pq_b (wX100_below S Z (sb rfl hS) _ _ w7.1 z_a0) (fun r9 K10 => ?_)
    have w11 := wk_t w7 K10 hN
    exact q_tA hN w11 (wX100_dataMode_26 S Z hS _ _ w11.1 )
  · refine pq_g (fun g12 => ?_)
    exact q_tA hN w7 (wX100_dataMode_26 S Z hS _ _ w7.1 )
theorem wX100_dataMode (S Z : Nat → Prop) {hx N : Nat} (hS : ∀ x, fe_mem lX100_dataMode x = true → S x) (a0 : Nat) (M : FM) (w : WI Z hx N M) (z_a0 : Z a0) : pq (FX100_dataMode a0 M) (QA S Z hx N M) := wX100_dataMode_0 S Z hS a0 M w z_a0
def lX92_baseOf : List Nat := []
theorem wX92_baseOf_46 (S Z : Nat → Prop) {hx N : Nat} (hS : ∀ x, fe_mem lX92_baseOf x = true → S x) (s0 : Int64) (M : FM) (w : WI Z hx N M) : pq (FX92_baseOf_46 s0 M) (QA S Z hx N M) := by
  have hN := w.2.2.1
  have w0 := wk_r (S := S) w
  delta FX92_baseOf_46 BX92_baseOf_46
  exact pq_s w0
theorem wX92_baseOf_0 (S Z : Nat → Prop) {hx N : Nat} (hS : ∀ x, fe_mem lX92_baseOf x = true → S x) (a0 : Int32) (M : FM) (w : WI Z hx N M) : pq (FX92_baseOf_0 a0 M) (QA S Z hx N M) := by
  have hN := w.2.2.1
  have w0 := wk_r (S := S) w
  delta FX92_baseOf_0 BX92_baseOf_0
  refine pq_fi (fun _ => ?_) (fun _ => ?_)
  · exact q_tA hN w0 (wX92_baseOf_46 S Z hS _ _ w0.1 )
  · refine pq_fi (fun _ => ?_) (fun _ => ?_)
    · exact q_tA hN w0 (wX92_baseOf_46 S Z hS _ _ w0.1 )
    · refine pq_fi (fun _ => ?_) (fun _ => ?_)
      · exact q_tA hN w0 (wX92_baseOf_46 S Z hS _ _ w0.1 )
      · refine pq_fi (fun _ => ?_) (fun _ => ?_)
        · exact q_tA hN w0 (wX92_baseOf_46 S Z hS _ _ w0.1 )
        · exact q_tA hN w0 (wX92_baseOf_46 S Z hS _ _ w0.1 )
theorem wX92_baseOf (S Z : Nat → Prop) {hx N : Nat} (hS : ∀ x, fe_mem lX92_baseOf x = true → S x) (a0 : Int32) (M : FM) (w : WI Z hx N M) : pq (FX92_baseOf a0 M) (QA S Z hx N M) := wX92_baseOf_0 S Z hS a0 M w 
def lX92_windowOf : List Nat := []
theorem wX92_windowOf_71 (S Z : Nat → Prop) {hx N : Nat} (hS : ∀ x, fe_mem lX92_windowOf x = true → S x) (n : Nat) (k2 : Int64 → Int32 → Int32 → FM → Option (Int32 × FM)) (hk2 : ∀ (a0 : Int64) (a2 : Int32) (a3 : Int32) (M : FM), WI Z hx N M → pq (k2 a0 a2 a3 M) (QA S Z hx N M)) (a0 : Int64) (a2 : Int32) (a3 : Int32) (M : FM) (w : WI Z hx N M) : pq (FX92_windowOf_71 n k2 a0 a2 a3 M) (QA S Z hx N M) := by
  have hN := w.2.2.1
  have w0 := wk_r (S := S) w
  delta FX92_windowOf_71 BX92_windowOf_71
  exact q_tA hN w0 (hk2 _ _ _ _ w0.1 )
theorem wX92_windowOf_64 (S Z : Nat → Prop) {hx N : Nat} (hS : ∀ x, fe_mem lX92_windowOf x = true → S x) (n : Nat) (k2 : Int64 → Int32 → Int32 → FM → Option (Int32 × FM)) (hk2 : ∀ (a0 : Int64) (a2 : Int32) (a3 : Int32) (M : FM), WI Z hx N M → pq (k2 a0 a2 a3 M) (QA S Z hx N M)) (a0 : Int64) (a2 : Int32) (a3 : Int32) (s0 : Int64) (s1 : Int64) (s2 : Int64) (M : FM) (w : WI Z hx N M) : pq (FX92_windowOf_64 n k2 a0 a2 a3 s0 s1 s2 M) (QA S Z hx N M) := by
  have hN := w.2.2.1
  have w0 := wk_r (S := S) w
  delta FX92_windowOf_64 BX92_windowOf_64
  refine pq_fi (fun _ => ?_) (fun _ => ?_)
  · exact q_tA hN w0 (wX92_windowOf_71 S Z hS n _ hk2 _ _ _ _ w0.1 )
  · exact pq_s w0
theorem wX92_windowOf_33 (S Z : Nat → Prop) {hx N : Nat} (hS : ∀ x, fe_mem lX92_windowOf x = true → S x) (n : Nat) (k2 : Int64 → Int32 → Int32 → FM → Option (Int32 × FM)) (hk2 : ∀ (a0 : Int64) (a2 : Int32) (a3 : Int32) (M : FM), WI Z hx N M → pq (k2 a0 a2 a3 M) (QA S Z hx N M)) (a0 : Int64) (a2 : Int32) (a3 : Int32) (s0 : Int64) (s1 : Int64) (M : FM) (w : WI Z hx N M) : pq (FX92_windowOf_33 n k2 a0 a2 a3 s0 s1 M) (QA S Z hx N M) := by
  have hN := w.2.2.1
  have w0 := wk_r (S := S) w
  delta FX92_windowOf_33 BX92_windowOf_33
  exact q_tA hN w0 (wX92_windowOf_64 S Z hS n _ hk2 _ _ _ _ _ _ _ w0.1 )
theorem wX92_windowOf_2 (S Z : Nat → Prop) {hx N : Nat} (hS : ∀ x, fe_mem lX92_windowOf x = true → S x) (n : Nat) (k2 : Int64 → Int32 → Int32 → FM → Option (Int32 × FM)) (hk2 : ∀ (a0 : Int64) (a2 : Int32) (a3 : Int32) (M : FM), WI Z hx N M → pq (k2 a0 a2 a3 M) (QA S Z hx N M)) (a0 : Int64) (a2 : Int32) (a3 : Int32) (M : FM) (w : WI Z hx N M) : pq (FX92_windowOf_2 n k2 a0 a2 a3 M) (QA S Z hx N M) := by
  have hN := w.2.2.1
  have w0 := wk_r (S := S) w
  delta FX92_windowOf_2 BX92_windowOf_2
  refine pq_fi (fun _ => ?_) (fun _ => ?_)
  · exact pq_s w0
  · refine pq_b (wX92_baseOf S Z (sb rfl hS) _ _ w0.1 ) (fun r1 K2 => ?_)
    have w3 := wk_t w0 K2 hN
    refine pq_fi (fun _ => ?_) (fun _ => ?_)
    · exact q_tA hN w3 (wX92_windowOf_71 S Z hS n _ hk2 _ _ _ _ w3.1 )
    · refine pq_b (wX92_baseOf S Z (sb rfl hS) _ _ w3.1 ) (fun r4 K5 => ?_)
      have w6 := wk_t w3 K5 hN
      refine pq_fi (fun _ => ?_) (fun _ => ?_)
      · exact q_tA hN w6 (wX92_windowOf_33 S Z hS n _ hk2 _ _ _ _ _ _ w6.1 )
      · refine pq_fi (fun _ => ?_) (fun _ => ?_)
        · exact q_tA hN w6 (wX92_windowOf_33 S Z hS n _ hk2 _ _ _ _ _ _ w6.1 )
        · refine pq_fi (fun _ => ?_) (fun _ => ?_)
          · exact q_tA hN w6 (wX92_windowOf_64 S Z hS n _ hk2 _ _ _ _ _ _ _ w6.1 )
          · refine pq_fi (fun _ => ?_) (fun _ => ?_)
            · exact q_tA hN w6 (wX92_windowOf_64 S Z hS n _ hk2 _ _ _ _ _ _ _ w6.1 )
            · exact q_tA hN w6 (wX92_windowOf_64 S Z hS n _ hk2 _ _ _ _ _ _ _ w6.1 )
theorem wX92_windowOf_0 (S Z : Nat → Prop) {hx N : Nat} (hS : ∀ x, fe_mem lX92_windowOf x = true → S x) (n : Nat) (k2 : Int64 → Int32 → Int32 → FM → Option (Int32 × FM)) (hk2 : ∀ (a0 : Int64) (a2 : Int32) (a3 : Int32) (M : FM), WI Z hx N M → pq (k2 a0 a2 a3 M) (QA S Z hx N M)) (a0 : Int64) (a2 : Int32) (M : FM) (w : WI Z hx N M) : pq (FX92_windowOf_0 n k2 a0 a2 M) (QA S Z hx N M) := by
  have hN := w.2.2.1
  have w0 := wk_r (S := S) w
  delta FX92_windowOf_0 BX92_windowOf_0
  exact q_tA hN w0 (hk2 _ _ _ _ w0.1 )
theorem wX92_windowOf_L (S Z : Nat → Prop) {hx N : Nat} (hS : ∀ x, fe_mem lX92_windowOf x = true → S x) (n : Nat) : ∀ j : Nat, ∀ (a0 : Int64) (a2 : Int32) (a3 : Int32) (M : FM), WI Z hx N M → pq (FX92_windowOf_L2 n j a0 a2 a3 M) (QA S Z hx N M)
  | 0 => by intros; exact pq_0
  | j + 1 => fun a0 a2 a3 M w => wX92_windowOf_2 S Z hS n _ (wX92_windowOf_L S Z hS n j) a0 a2 a3 M w
theorem wX92_windowOf (S Z : Nat → Prop) {hx N : Nat} (hS : ∀ x, fe_mem lX92_windowOf x = true → S x) (n : Nat) (a0 : Int64) (a2 : Int32) (M : FM) (w : WI Z hx N M) : pq (FX92_windowOf n a0 a2 M) (QA S Z hx N M) := wX92_windowOf_0 S Z hS n _ (wX92_windowOf_L S Z hS n n) a0 a2 M w 
def lX92_finds : List Nat := [320, 321, 322, 358, 422, 429, 430, 1323, 1388, 1389, 1391]
theorem wX92_finds_229 (S Z : Nat → Prop) {hx N : Nat} (hS : ∀ x, fe_mem lX92_finds x = true → S x) (n : Nat) (k68 : Nat → Int32 → Int64 → Int32 → Int32 → Int32 → Int32 → Int32 → Int32 → FM → Option (Int32 × FM)) (hk68 : ∀ (a0 : Nat) (a1 : Int32) (a2 : Int64) (a4 : Int32) (a5 : Int32) (a6 : Int32) (a7 : Int32) (a8 : Int32) (a9 : Int32) (M : FM), WI Z hx N M → Z a0 → a1.toNatClampNeg = hx → pq (k68 a0 a1 a2 a4 a5 a6 a7 a8 a9 M) (QA S Z hx N M)) (k229 : Nat → Int64 → Int32 → Int32 → Int32 → FM → Option (Int32 × FM)) (hk229 : ∀ (a0 : Nat) (a2 : Int64) (a4 : Int32) (a7 : Int32) (a9 : Int32) (M : FM), WI Z hx N M → Z a0 → pq (k229 a0 a2 a4 a7 a9 M) (QA S Z hx N M)) (a0 : Nat) (a2 : Int64) (a4 : Int32) (a7 : Int32) (a9 : Int32) (M : FM) (w : WI Z hx N M) (z_a0 : Z a0) : pq (FX92_finds_229 n k68 k229 a0 a2 a4 a7 a9 M) (QA S Z hx N M) := by
  have hN := w.2.2.1
  have w0 := wk_r (S := S) w
  delta FX92_finds_229 BX92_finds_229
  refine pq_fi (fun _ => ?_) (fun _ => ?_)
  · refine pq_g (fun _ => ?_)
    exact pq_s w0
  · refine pq_g (fun g1 => ?_)
    have z2 := wk_z (i := 0) (f := 323) w0 rfl z_a0
    have f3 := sS_323 w0.1.1 g1
    refine pq_g (fun g4 => ?_)
    refine pq_b (wX93_isByte S Z (sb rfl hS) _ _ w0.1 ) (fun r5 K6 => ?_)
    have w7 := wk_t w0 K6 hN
    refine pq_fi (fun _ => ?_) (fun _ => ?_)
    · refine pq_g (fun g8 => ?_)
      refine pq_b (wX92_fail S Z (sb rfl hS) _ _ _ _ w7.1 z_a0) (fun r9 K10 => ?_)
      have w11 := wk_t w7 K10 hN
      refine pq_g (fun _ => ?_)
      exact pq_s w11
    · exact q_tA hN w7 (hk229 _ _ _ _ _ _ w7.1 z_a0)
theorem wX92_finds_225 (S Z : Nat → Prop) {hx N : Nat} (hS : ∀ x, fe_mem lX92_finds x = true → S x) (n : Nat) (k68 : Nat → Int32 → Int64 → Int32 → Int32 → Int32 → Int32 → Int32 → Int32 → FM → Option (Int32 × FM)) (hk68 : ∀ (a0 : Nat) (a1 : Int32) (a2 : Int64) (a4 : Int32) (a5 : Int32) (a6 : Int32) (a7 : Int32) (a8 : Int32) (a9 : Int32) (M : FM), WI Z hx N M → Z a0 → a1.toNatClampNeg = hx → pq (k68 a0 a1 a2 a4 a5 a6 a7 a8 a9 M) (QA S Z hx N M)) (k229 : Nat → Int64 → Int32 → Int32 → Int32 → FM → Option (Int32 × FM)) (hk229 : ∀ (a0 : Nat) (a2 : Int64) (a4 : Int32) (a7 : Int32) (a9 : Int32) (M : FM), WI Z hx N M → Z a0 → pq (k229 a0 a2 a4 a7 a9 M) (QA S Z hx N M)) (s0 : Int32) (M : FM) (w : WI Z hx N M) : pq (FX92_finds_225 n k68 k229 s0 M) (QA S Z hx N M) := by
  have hN := w.2.2.1
  have w0 := wk_r (S := S) w
  delta FX92_finds_225 BX92_finds_225
  refine pq_g (fun _ => ?_)
  exact pq_s w0
theorem wX92_finds_220 (S Z : Nat → Prop) {hx N : Nat} (hS : ∀ x, fe_mem lX92_finds x = true → S x) (n : Nat) (k68 : Nat → Int32 → Int64 → Int32 → Int32 → Int32 → Int32 → Int32 → Int32 → FM → Option (Int32 × FM)) (hk68 : ∀ (a0 : Nat) (a1 : Int32) (a2 : Int64) (a4 : Int32) (a5 : Int32) (a6 : Int32) (a7 : Int32) (a8 : Int32) (a9 : Int32) (M : FM), WI Z hx N M → Z a0 → a1.toNatClampNeg = hx → pq (k68 a0 a1 a2 a4 a5 a6 a7 a8 a9 M) (QA S Z hx N M)) (k229 : Nat → Int64 → Int32 → Int32 → Int32 → FM → Option (Int32 × FM)) (hk229 : ∀ (a0 : Nat) (a2 : Int64) (a4 : Int32) (a7 : Int32) (a9 : Int32) (M : FM), WI Z hx N M → Z a0 → pq (k229 a0 a2 a4 a7 a9 M) (QA S Z hx N M)) (M : FM) (w : WI Z hx N M) : pq (FX92_finds_220 n k68 k229 M) (QA S Z hx N M) := by
  have hN := w.2.2.1
  have w0 := wk_r (S := S) w
  delta FX92_finds_220 BX92_finds_220
  exact q_tA hN w0 (wX92_finds_225 S Z hS n _ hk68 _ hk229 _ _ w0.1 )
theorem wX92_finds_188 (S Z : Nat → Prop) {hx N : Nat} (hS : ∀ x, fe_mem lX92_finds x = true → S x) (n : Nat) (k68 : Nat → Int32 → Int64 → Int32 → Int32 → Int32 → Int32 → Int32 → Int32 → FM → Option (Int32 × FM)) (hk68 : ∀ (a0 : Nat) (a1 : Int32) (a2 : Int64) (a4 : Int32) (a5 : Int32) (a6 : Int32) (a7 : Int32) (a8 : Int32) (a9 : Int32) (M : FM), WI Z hx N M → Z a0 → a1.toNatClampNeg = hx → pq (k68 a0 a1 a2 a4 a5 a6 a7 a8 a9 M) (QA S Z hx N M)) (k229 : Nat → Int64 → Int32 → Int32 → Int32 → FM → Option (Int32 × FM)) (hk229 : ∀ (a0 : Nat) (a2 : Int64) (a4 : Int32) (a7 : Int32) (a9 : Int32) (M : FM), WI Z hx N M → Z a0 → pq (k229 a0 a2 a4 a7 a9 M) (QA S Z hx N M)) (a0 : Nat) (a2 : Int64) (a4 : Int32) (a7 : Int32) (s0 : Int32) (M : FM) (w : WI Z hx N M) (z_a0 : Z a0) : pq (FX92_finds_188 n k68 k229 a0 a2 a4 a7 s0 M) (QA S Z hx N M) := by
  have hN := w.2.2.1
  have w0 := wk_r (S := S) w
  delta FX92_finds_188 BX92_finds_188
  refine pq_g (fun g1 => ?_)
  have z2 := wk_z (i := 0) (f := 323) w0 rfl z_a0
  have f3 := sS_323 w0.1.1 g1
  refine pq_g (fun g4 => ?_)
  refine pq_b (wX93_areBytes S Z (sb rfl hS) _ _ _ w0.1 ) (fun r5 K6 => ?_)
  have w7 := wk_t w0 K6 hN
  refine pq_fi (fun _ => ?_) (fun _ => ?_)
  · refine pq_fi (fun _ => ?_) (fun _ => ?_)
    · refine pq_g (fun g8 => ?_)
      refine pq_b (wX92_fail S Z (sb rfl hS) _ _ _ _ w7.1 z_a0) (fun r9 K10 => ?_)
      have w11 := wk_t w7 K10 hN
      refine pq_fi (fun _ => ?_) (fun _ => ?_)
      · exact q_tA hN w11 (wX92_finds_225 S Z hS n _ hk68 _ hk229 _ _ w11.1 )
      · exact q_tA hN w11 (wX92_finds_220 S Z hS n _ hk68 _ hk229 _ w11.1 )
    · exact q_tA hN w7 (wX92_finds_220 S Z hS n _ hk68 _ hk229 _ w7.1 )
  · exact q_tA hN w7 (wX92_finds_220 S Z hS n _ hk68 _ hk229 _ w7.1 )
theorem wX92_finds_187 (S Z : Nat → Prop) {hx N : Nat} (hS : ∀ x, fe_mem lX92_finds x = true → S x) (n : Nat) (k68 : Nat → Int32 → Int64 → Int32 → Int32 → Int32 → Int32 → Int32 → Int32 → FM → Option (Int32 × FM)) (hk68 : ∀ (a0 : Nat) (a1 : Int32) (a2 : Int64) (a4 : Int32) (a5 : Int32) (a6 : Int32) (a7 : Int32) (a8 : Int32) (a9 : Int32) (M : FM), WI Z hx N M → Z a0 → a1.toNatClampNeg = hx → pq (k68 a0 a1 a2 a4 a5 a6 a7 a8 a9 M) (QA S Z hx N M)) (k229 : Nat → Int64 → Int32 → Int32 → Int32 → FM → Option (Int32 × FM)) (hk229 : ∀ (a0 : Nat) (a2 : Int64) (a4 : Int32) (a7 : Int32) (a9 : Int32) (M : FM), WI Z hx N M → Z a0 → pq (k229 a0 a2 a4 a7 a9 M) (QA S Z hx N M)) (a0 : Nat) (a2 : Int64) (a4 : Int32) (a7 : Int32) (M : FM) (w : WI Z hx N M) (z_a0 : Z a0) : pq (FX92_finds_187 n k68 k229 a0 a2 a4 a7 M) (QA S Z hx N M) := by
  have hN := w.2.2.1
  have w0 := wk_r (S := S) w
  delta FX92_finds_187 BX92_finds_187
  exact q_tA hN w0 (wX92_finds_188 S Z hS n _ hk68 _ hk229 _ _ _ _ _ _ w0.1 z_a0)
theorem wX92_finds_109 (S Z : Nat → Prop) {hx N : Nat} (hS : ∀ x, fe_mem lX92_finds x = true → S x) (n : Nat) (k68 : Nat → Int32 → Int64 → Int32 → Int32 → Int32 → Int32 → Int32 → Int32 → FM → Option (Int32 × FM)) (hk68 : ∀ (a0 : Nat) (a1 : Int32) (a2 : Int64) (a4 : Int32) (a5 : Int32) (a6 : Int32) (a7 : Int32) (a8 : Int32) (a9 : Int32) (M : FM), WI Z hx N M → Z a0 → a1.toNatClampNeg = hx → pq (k68 a0 a1 a2 a4 a5 a6 a7 a8 a9 M) (QA S Z hx N M)) (k229 : Nat → Int64 → Int32 → Int32 → Int32 → FM → Option (Int32 × FM)) (hk229 : ∀ (a0 : Nat) (a2 : Int64) (a4 : Int32) (a7 : Int32) (a9 : Int32) (M : FM), WI Z hx N M → Z a0 → pq (k229 a0 a2 a4 a7 a9 M) (QA S Z hx N M)) (a0 : Nat) (a1 : Int32) (a2 : Int64) (a4 : Int32) (a5 : Int32) (a6 : Int32) (a7 : Int32) (a8 : Int32) (a9 : Int32) (s0 : Nat) (s1 : Int32) (s2 : Nat) (s3 : Int64) (s4 : Int32) (s5 : Int32) (s6 : Int32) (M : FM) (w : WI Z hx N M) (z_a0 : Z a0) (z_s0 : Z s0) (z_s2 : Z s2) (y_s0 : Sy S N M s0) (i_a1 : a1.toNatClampNeg = hx) : pq (FX92_finds_109 n k68 k229 a0 a1 a2 a4 a5 a6 a7 a8 a9 s0 s1 s2 s3 s4 s5 s6 M) (QA S Z hx N M) := by
  have hN := w.2.2.1
  have w0 := wk_r (S := S) w
  delta FX92_finds_109 BX92_finds_109
  refine pq_g (fun g1 => ?_)
  refine pq_b (wX101_find S Z (sb rfl hS) n _ _ _ _ _ _ w0.1 z_s2) (fun r2 K3 => ?_)
  have w4 := wk_t w0 K3 hN
  have y5 := sy_k w0.1.1 K3 y_s0
  refine pq_g (fun g6 => ?_)
  extract_lets +onlyGivenNames M8
  have w7 : Wk S Z hx N M M8 := wk_aL hN w4 rfl g6.1 z_s0 y5
  refine pq_g (fun g9 => ?_)
  have z10 := wk_z (i := 0) (f := 323) w7 rfl z_a0
  have f11 := sS_323 w7.1.1 g9
  refine pq_g (fun g12 => ?_)
  refine pq_fi (fun _ => ?_) (fun _ => ?_)
  · exact q_tA hN w7 (hk68 _ _ _ _ _ _ _ _ _ _ w7.1 z_a0 i_a1)
  · refine pq_g (fun g13 => ?_)
    have z14 := wk_z (i := 0) (f := 323) w7 rfl z_a0
    have f15 := sS_323 w7.1.1 g13
    refine pq_g (fun g16 => ?_)
    refine pq_g (fun g17 => ?_)
    refine pq_b (wX92_fail S Z (sb rfl hS) _ _ _ _ w7.1 z_a0) (fun r18 K19 => ?_)
    have w20 := wk_t w7 K19 hN
    refine pq_g (fun _ => ?_)
    exact pq_s w20
theorem wX92_finds_68 (S Z : Nat → Prop) {hx N : Nat} (hS : ∀ x, fe_mem lX92_finds x = true → S x) (n : Nat) (k68 : Nat → Int32 → Int64 → Int32 → Int32 → Int32 → Int32 → Int32 → Int32 → FM → Option (Int32 × FM)) (hk68 : ∀ (a0 : Nat) (a1 : Int32) (a2 : Int64) (a4 : Int32) (a5 : Int32) (a6 : Int32) (a7 : Int32) (a8 : Int32) (a9 : Int32) (M : FM), WI Z hx N M → Z a0 → a1.toNatClampNeg = hx → pq (k68 a0 a1 a2 a4 a5 a6 a7 a8 a9 M) (QA S Z hx N M)) (k229 : Nat → Int64 → Int32 → Int32 → Int32 → FM → Option (Int32 × FM)) (hk229 : ∀ (a0 : Nat) (a2 : Int64) (a4 : Int32) (a7 : Int32) (a9 : Int32) (M : FM), WI Z hx N M → Z a0 → pq (k229 a0 a2 a4 a7 a9 M) (QA S Z hx N M)) (a0 : Nat) (a1 : Int32) (a2 : Int64) (a4 : Int32) (a5 : Int32) (a6 : Int32) (a7 : Int32) (a8 : Int32) (a9 : Int32) (M : FM) (w : WI Z hx N M) (z_a0 : Z a0) (i_a1 : a1.toNatClampNeg = hx) : pq (FX92_finds_68 n k68 k229 a0 a1 a2 a4 a5 a6 a7 a8 a9 M) (QA S Z hx N M) := by
  have hN := w.2.2.1
  have w0 := wk_r (S := S) w
  delta FX92_finds_68 BX92_finds_68
  refine pq_fi (fun _ => ?_) (fun _ => ?_)
  · refine pq_g (fun g1 => ?_)
    refine pq_fi (fun _ => ?_) (fun _ => ?_)
    · exact q_tA hN w0 (hk229 _ _ _ _ _ _ w0.1 z_a0)
    · refine pq_fi (fun _ => ?_) (fun _ => ?_)
      · refine pq_g (fun g2 => ?_)
        have z3 := wk_z (i := 0) (f := 323) w0 rfl z_a0
        have f4 := sS_323 w0.1.1 g2
        refine pq_g (fun g5 => ?_)
        refine pq_b (wX92_windowOf S Z (sb rfl hS) n _ _ _ w0.1 ) (fun r6 K7 => ?_)
        have w8 := wk_t w0 K7 hN
        refine pq_fi (fun _ => ?_) (fun _ => ?_)
        · exact q_tA hN w8 (wX92_finds_187 S Z hS n _ hk68 _ hk229 _ _ _ _ _ w8.1 z_a0)
        · exact q_tA hN w8 (wX92_finds_188 S Z hS n _ hk68 _ hk229 _ _ _ _ _ _ w8.1 z_a0)
      · exact q_tA hN w0 (wX92_finds_187 S Z hS n _ hk68 _ hk229 _ _ _ _ _ w0.1 z_a0)
  · refine pq_g (fun g9 => ?_)
    have z10 := wk_z (i := 0) (f := 323) w0 rfl z_a0
    have f11 := sS_323 w0.1.1 g9
    refine pq_g (fun g12 => ?_)
    have z13 := wk_z (i := 0) (f := 306) w0 rfl z_a0
    have f14 := sS_306 w0.1.1 g12
    refine pq_g (fun g15 => ?_)
    have z16 := wk_zx w0 z13 i_a1
    refine pq_g (fun g17 => ?_)
    refine pq_fi (fun _ => ?_) (fun _ => ?_)
    · exact q_tA hN w0 (wX92_finds_109 S Z hS n _ hk68 _ hk229 _ _ _ _ _ _ _ _ _ _ _ _ _ _ _ _ _ w0.1 z_a0 z10 z16 (sy_s f11 (hS 1323 rfl)) i_a1)
    · exact q_tA hN w0 (wX92_finds_109 S Z hS n _ hk68 _ hk229 _ _ _ _ _ _ _ _ _ _ _ _ _ _ _ _ _ w0.1 z_a0 z10 z16 (sy_s f11 (hS 1323 rfl)) i_a1)
theorem wX92_finds_63 (S Z : Nat → Prop) {hx N : Nat} (hS : ∀ x, fe_mem lX92_finds x = true → S x) (n : Nat) (k68 : Nat → Int32 → Int64 → Int32 → Int32 → Int32 → Int32 → Int32 → Int32 → FM → Option (Int32 × FM)) (hk68 : ∀ (a0 : Nat) (a1 : Int32) (a2 : Int64) (a4 : Int32) (a5 : Int32) (a6 : Int32) (a7 : Int32) (a8 : Int32) (a9 : Int32) (M : FM), WI Z hx N M → Z a0 → a1.toNatClampNeg = hx → pq (k68 a0 a1 a2 a4 a5 a6 a7 a8 a9 M) (QA S Z hx N M)) (k229 : Nat → Int64 → Int32 → Int32 → Int32 → FM → Option (Int32 × FM)) (hk229 : ∀ (a0 : Nat) (a2 : Int64) (a4 : Int32) (a7 : Int32) (a9 : Int32) (M : FM), WI Z hx N M → Z a0 → pq (k229 a0 a2 a4 a7 a9 M) (QA S Z hx N M)) (a0 : Nat) (a1 : Int32) (a2 : Int64) (a4 : Int32) (a5 : Int32) (a6 : Int32) (a7 : Int32) (s0 : Int32) (M : FM) (w : WI Z hx N M) (z_a0 : Z a0) (i_a1 : a1.toNatClampNeg = hx) : pq (FX92_finds_63 n k68 k229 a0 a1 a2 a4 a5 a6 a7 s0 M) (QA S Z hx N M) := by
  have hN := w.2.2.1
  have w0 := wk_r (S := S) w
  delta FX92_finds_63 BX92_finds_63
  exact q_tA hN w0 (hk68 _ _ _ _ _ _ _ _ _ _ w0.1 z_a0 i_a1)
theorem wX92_finds_47 (S Z : Nat → Prop) {hx N : Nat} (hS : ∀ x, fe_mem lX92_finds x = true → S x) (n : Nat) (k68 : Nat → Int32 → Int64 → Int32 → Int32 → Int32 → Int32 → Int32 → Int32 → FM → Option (Int32 × FM)) (hk68 : ∀ (a0 : Nat) (a1 : Int32) (a2 : Int64) (a4 : Int32) (a5 : Int32) (a6 : Int32) (a7 : Int32) (a8 : Int32) (a9 : Int32) (M : FM), WI Z hx N M → Z a0 → a1.toNatClampNeg = hx → pq (k68 a0 a1 a2 a4 a5 a6 a7 a8 a9 M) (QA S Z hx N M)) (k229 : Nat → Int64 → Int32 → Int32 → Int32 → FM → Option (Int32 × FM)) (hk229 : ∀ (a0 : Nat) (a2 : Int64) (a4 : Int32) (a7 : Int32) (a9 : Int32) (M : FM), WI Z hx N M → Z a0 → pq (k229 a0 a2 a4 a7 a9 M) (QA S Z hx N M)) (a0 : Nat) (a1 : Int32) (a2 : Int64) (a4 : Int32) (a5 : Int32) (a6 : Int32) (a7 : Int32) (s0 : Nat) (s1 : Int32) (M : FM) (w : WI Z hx N M) (z_a0 : Z a0) (z_s0 : Z s0) (i_a1 : a1.toNatClampNeg = hx) : pq (FX92_finds_47 n k68 k229 a0 a1 a2 a4 a5 a6 a7 s0 s1 M) (QA S Z hx N M) := by
  have hN := w.2.2.1
  have w0 := wk_r (S := S) w
  delta FX92_finds_47 BX92_finds_47
  refine pq_g (fun g1 => ?_)
  refine pq_g (fun _ => ?_)
  extract_lets +onlyGivenNames M3
  have w2 : Wk S Z hx N M M3 := wk_fI hN w0 rfl rfl g1 z_s0 (Or.inr (hS 322 rfl))
  refine pq_g (fun g4 => ?_)
  refine pq_fi (fun _ => ?_) (fun _ => ?_)
  · exact q_tA hN w2 (wX92_finds_63 S Z hS n _ hk68 _ hk229 _ _ _ _ _ _ _ _ _ w2.1 z_a0 i_a1)
  · exact q_tA hN w2 (wX92_finds_63 S Z hS n _ hk68 _ hk229 _ _ _ _ _ _ _ _ _ w2.1 z_a0 i_a1)
theorem wX92_finds_23 (S Z : Nat → Prop) {hx N : Nat} (hS : ∀ x, fe_mem lX92_finds x = true → S x) (n : Nat) (k68 : Nat → Int32 → Int64 → Int32 → Int32 → Int32 → Int32 → Int32 → Int32 → FM → Option (Int32 × FM)) (hk68 : ∀ (a0 : Nat) (a1 : Int32) (a2 : Int64) (a4 : Int32) (a5 : Int32) (a6 : Int32) (a7 : Int32) (a8 : Int32) (a9 : Int32) (M : FM), WI Z hx N M → Z a0 → a1.toNatClampNeg = hx → pq (k68 a0 a1 a2 a4 a5 a6 a7 a8 a9 M) (QA S Z hx N M)) (k229 : Nat → Int64 → Int32 → Int32 → Int32 → FM → Option (Int32 × FM)) (hk229 : ∀ (a0 : Nat) (a2 : Int64) (a4 : Int32) (a7 : Int32) (a9 : Int32) (M : FM), WI Z hx N M → Z a0 → pq (k229 a0 a2 a4 a7 a9 M) (QA S Z hx N M)) (a0 : Nat) (a1 : Int32) (a2 : Int64) (a4 : Int32) (a5 : Int32) (a6 : Int32) (s0 : Int32) (M : FM) (w : WI Z hx N M) (z_a0 : Z a0) (i_a1 : a1.toNatClampNeg = hx) : pq (FX92_finds_23 n k68 k229 a0 a1 a2 a4 a5 a6 s0 M) (QA S Z hx N M) := by
  have hN := w.2.2.1
  have w0 := wk_r (S := S) w
  delta FX92_finds_23 BX92_finds_23
  refine pq_fi (fun _ => ?_) (fun _ => ?_)
  · exact q_tA hN w0 (wX92_finds_47 S Z hS n _ hk68 _ hk229 _ _ _ _ _ _ _ _ _ _ w0.1 z_a0 z_a0 i_a1)
  · exact q_tA hN w0 (wX92_finds_47 S Z hS n _ hk68 _ hk229 _ _ _ _ _ _ _ _ _ _ w0.1 z_a0 z_a0 i_a1)
theorem wX92_finds_0 (S Z : Nat → Prop) {hx N : Nat} (hS : ∀ x, fe_mem lX92_finds x = true → S x) (n : Nat) (k68 : Nat → Int32 → Int64 → Int32 → Int32 → Int32 → Int32 → Int32 → Int32 → FM → Option (Int32 × FM)) (hk68 : ∀ (a0 : Nat) (a1 : Int32) (a2 : Int64) (a4 : Int32) (a5 : Int32) (a6 : Int32) (a7 : Int32) (a8 : Int32) (a9 : Int32) (M : FM), WI Z hx N M → Z a0 → a1.toNatClampNeg = hx → pq (k68 a0 a1 a2 a4 a5 a6 a7 a8 a9 M) (QA S Z hx N M)) (k229 : Nat → Int64 → Int32 → Int32 → Int32 → FM → Option (Int32 × FM)) (hk229 : ∀ (a0 : Nat) (a2 : Int64) (a4 : Int32) (a7 : Int32) (a9 : Int32) (M : FM), WI Z hx N M → Z a0 → pq (k229 a0 a2 a4 a7 a9 M) (QA S Z hx N M)) (a0 : Nat) (a1 : Int32) (a2 : Int64) (a4 : Int32) (a5 : Int32) (M : FM) (w : WI Z hx N M) (z_a0 : Z a0) (i_a1 : a1.toNatClampNeg = hx) : pq (FX92_finds_0 n k68 k229 a0 a1 a2 a4 a5 M) (QA S Z hx N M) := by
  have hN := w.2.2.1
  have w0 := wk_r (S := S) w
  delta FX92_finds_0 BX92_finds_0
  refine pq_g (fun g1 => ?_)
  have z2 := wk_z (i := 0) (f := 305) w0 rfl z_a0
  have f3 := sS_305 w0.1.1 g1
  refine pq_g (fun g4 => ?_)
  have z5 := wk_zx w0 z2 i_a1
  refine pq_g (fun g6 => ?_)
  refine pq_b (wX100_dataMode S Z (sb rfl hS) _ _ w0.1 z5) (fun r7 K8 => ?_)
  have w9 := wk_t w0 K8 hN
  refine pq_fi (fun _ => ?_) (fun _ => ?_)
  · exact q_tA hN w9 (wX92_finds_23 S Z hS n _ hk68 _ hk229 _ _ _ _ _ _ _ _ w9.1 z_a0 i_a1)
  · exact q_tA hN w9 (wX92_finds_23 S Z hS n _ hk68 _ hk229 _ _ _ _ _ _ _ _ w9.1 z_a0 i_a1)
theorem wX92_finds_L (S Z : Nat → Prop) {hx N : Nat} (hS : ∀ x, fe_mem lX92_finds x = true → S x) (n : Nat) : ∀ j : Nat, (∀ (a0 : Nat) (a1 : Int32) (a2 : Int64) (a4 : Int32) (a5 : Int32) (a6 : Int32) (a7 : Int32) (a8 : Int32) (a9 : Int32) (M : FM), WI Z hx N M → Z a0 → a1.toNatClampNeg = hx → pq ((FX92_finds_L n j).1 a0 a1 a2 a4 a5 a6 a7 a8 a9 M) (QA S Z hx N M)) ∧ (∀ (a0 : Nat) (a2 : Int64) (a4 : Int32) (a7 : Int32) (a9 : Int32) (M : FM), WI Z hx N M → Z a0 → pq ((FX92_finds_L n j).2 a0 a2 a4 a7 a9 M) (QA S Z hx N M))
  | 0 => ⟨by intros; exact pq_0, by intros; exact pq_0⟩
  | j + 1 => ⟨fun a0 a1 a2 a4 a5 a6 a7 a8 a9 M w => wX92_finds_68 S Z hS n _ (wX92_finds_L S Z hS n j).1 _ (wX92_finds_L S Z hS n j).2 a0 a1 a2 a4 a5 a6 a7 a8 a9 M w, fun a0 a2 a4 a7 a9 M w => wX92_finds_229 S Z hS n _ (wX92_finds_L S Z hS n j).1 _ (wX92_finds_L S Z hS n j).2 a0 a2 a4 a7 a9 M w⟩
theorem wX92_finds (S Z : Nat → Prop) {hx N : Nat} (hS : ∀ x, fe_mem lX92_finds x = true → S x) (n : Nat) (a0 : Nat) (a1 : Int32) (a2 : Int64) (a4 : Int32) (a5 : Int32) (M : FM) (w : WI Z hx N M) (z_a0 : Z a0) (i_a1 : a1.toNatClampNeg = hx) : pq (FX92_finds n a0 a1 a2 a4 a5 M) (QA S Z hx N M) := wX92_finds_0 S Z hS n _ (wX92_finds_L S Z hS n n).1 _ (wX92_finds_L S Z hS n n).2 a0 a1 a2 a4 a5 M w z_a0 i_a1
def lX101_isOpen : List Nat := [429, 430]
theorem wX101_isOpen_38 (S Z : Nat → Prop) {hx N : Nat} (hS : ∀ x, fe_mem lX101_isOpen x = true → S x) (n : Nat) (k2 : Nat → Int64 → Int32 → FM → Option (Int32 × FM)) (hk2 : ∀ (a0 : Nat) (a1 : Int64) (a3 : Int32) (M : FM), WI Z hx N M → Z a0 → pq (k2 a0 a1 a3 M) (QA S Z hx N M)) (a0 : Nat) (a1 : Int64) (a3 : Int32) (M : FM) (w : WI Z hx N M) (z_a0 : Z a0) : pq (FX101_isOpen_38 n k2 a0 a1 a3 M) (QA S Z hx N M) := by
  have hN := w.2.2.1
  have w0 := wk_r (S := S) w
  delta FX101_isOpen_38 BX101_isOpen_38
  exact q_tA hN w0 (hk2 _ _ _ _ w0.1 z_a0)
theorem wX101_isOpen_2 (S Z : Nat → Prop) {hx N : Nat} (hS : ∀ x, fe_mem lX101_isOpen x = true → S x) (n : Nat) (k2 : Nat → Int64 → Int32 → FM → Option (Int32 × FM)) (hk2 : ∀ (a0 : Nat) (a1 : Int64) (a3 : Int32) (M : FM), WI Z hx N M → Z a0 → pq (k2 a0 a1 a3 M) (QA S Z hx N M)) (a0 : Nat) (a1 : Int64) (a3 : Int32) (M : FM) (w : WI Z hx N M) (z_a0 : Z a0) : pq (FX101_isOpen_2 n k2 a0 a1 a3 M) (QA S Z hx N M) := by
  have hN := w.2.2.1
  have w0 := wk_r (S := S) w
  delta FX101_isOpen_2 BX101_isOpen_2
  refine pq_fi (fun _ => ?_) (fun _ => ?_)
  · refine pq_g (fun _ => ?_)
    exact pq_s w0
  · refine pq_g (fun g1 => ?_)
    refine pq_b (wX101_cover S Z (sb rfl hS) n _ _ _ w0.1 z_a0) (fun r2 K3 => ?_)
    have w4 := wk_t w0 K3 hN
    refine pq_g (fun g5 => ?_)
    refine pq_fi (fun _ => ?_) (fun _ => ?_)
    · exact q_tA hN w4 (wX101_isOpen_38 S Z hS n _ hk2 _ _ _ _ w4.1 z_a0)
    · refine pq_g (fun g6 => ?_)
      refine pq_fi (fun _ => ?_) (fun _ => ?_)
      · exact q_tA hN w4 (wX101_isOpen_38 S Z hS n _ hk2 _ _ _ _ w4.1 z_a0)
      · refine pq_g (fun g7 => ?_)
        refine pq_b (wX101_has S Z (sb rfl hS) _ _ _ _ w4.1 z_a0) (fun r8 K9 => ?_)
        have w10 := wk_t w4 K9 hN
        refine pq_g (fun _ => ?_)
        exact pq_s w10
theorem wX101_isOpen_0 (S Z : Nat → Prop) {hx N : Nat} (hS : ∀ x, fe_mem lX101_isOpen x = true → S x) (n : Nat) (k2 : Nat → Int64 → Int32 → FM → Option (Int32 × FM)) (hk2 : ∀ (a0 : Nat) (a1 : Int64) (a3 : Int32) (M : FM), WI Z hx N M → Z a0 → pq (k2 a0 a1 a3 M) (QA S Z hx N M)) (a0 : Nat) (a1 : Int64) (M : FM) (w : WI Z hx N M) (z_a0 : Z a0) : pq (FX101_isOpen_0 n k2 a0 a1 M) (QA S Z hx N M) := by
  have hN := w.2.2.1
  have w0 := wk_r (S := S) w
  delta FX101_isOpen_0 BX101_isOpen_0
  exact q_tA hN w0 (hk2 _ _ _ _ w0.1 z_a0)
theorem wX101_isOpen_L (S Z : Nat → Prop) {hx N : Nat} (hS : ∀ x, fe_mem lX101_isOpen x = true → S x) (n : Nat) : ∀ j : Nat, ∀ (a0 : Nat) (a1 : Int64) (a3 : Int32) (M : FM), WI Z hx N M → Z a0 → pq (FX101_isOpen_L2 n j a0 a1 a3 M) (QA S Z hx N M)
  | 0 => by intros; exact pq_0
  | j + 1 => fun a0 a1 a3 M w => wX101_isOpen_2 S Z hS n _ (wX101_isOpen_L S Z hS n j) a0 a1 a3 M w
theorem wX101_isOpen (S Z : Nat → Prop) {hx N : Nat} (hS : ∀ x, fe_mem lX101_isOpen x = true → S x) (n : Nat) (a0 : Nat) (a1 : Int64) (M : FM) (w : WI Z hx N M) (z_a0 : Z a0) : pq (FX101_isOpen n a0 a1 M) (QA S Z hx N M) := wX101_isOpen_0 S Z hS n _ (wX101_isOpen_L S Z hS n n) a0 a1 M w z_a0
def lX92_watch : List Nat := [316, 358, 429, 430]
theorem wX92_watch_92 (S Z : Nat → Prop) {hx N : Nat} (hS : ∀ x, fe_mem lX92_watch x = true → S x) (n : Nat) (k2 : Nat → Int32 → Int32 → Int32 → FM → Option (FM)) (hk2 : ∀ (a0 : Nat) (a1 : Int32) (a2 : Int32) (a3 : Int32) (M : FM), WI Z hx N M → Z a0 → a1.toNatClampNeg = hx → pq (k2 a0 a1 a2 a3 M) (QV S Z hx N M)) (M : FM) (w : WI Z hx N M) : pq (FX92_watch_92 n k2 M) (QV S Z hx N M) := by
  have hN := w.2.2.1
  have w0 := wk_r (S := S) w
  delta FX92_watch_92 BX92_watch_92
  exact pq_s w0
theorem wX92_watch_83 (S Z : Nat → Prop) {hx N : Nat} (hS : ∀ x, fe_mem lX92_watch x = true → S x) (n : Nat) (k2 : Nat → Int32 → Int32 → Int32 → FM → Option (FM)) (hk2 : ∀ (a0 : Nat) (a1 : Int32) (a2 : Int32) (a3 : Int32) (M : FM), WI Z hx N M → Z a0 → a1.toNatClampNeg = hx → pq (k2 a0 a1 a2 a3 M) (QV S Z hx N M)) (a0 : Nat) (a1 : Int32) (a2 : Int32) (a3 : Int32) (s0 : Nat) (s1 : Int64) (M : FM) (w : WI Z hx N M) (z_a0 : Z a0) (z_s0 : Z s0) (i_a1 : a1.toNatClampNeg = hx) : pq (FX92_watch_83 n k2 a0 a1 a2 a3 s0 s1 M) (QV S Z hx N M) := by
  have hN := w.2.2.1
  have w0 := wk_r (S := S) w
  delta FX92_watch_83 BX92_watch_83
  refine pq_g (fun g1 => ?_)
  extract_lets +onlyGivenNames M3
  have w2 : Wk S Z hx N M M3 := wk_fL hN w0 rfl rfl g1 z_s0 (Or.inr (hS 316 rfl))
  exact q_tV hN w2 (hk2 _ _ _ _ _ w2.1 z_a0 i_a1)
theorem wX92_watch_79 (S Z : Nat → Prop) {hx N : Nat} (hS : ∀ x, fe_mem lX92_watch x = true → S x) (n : Nat) (k2 : Nat → Int32 → Int32 → Int32 → FM → Option (FM)) (hk2 : ∀ (a0 : Nat) (a1 : Int32) (a2 : Int32) (a3 : Int32) (M : FM), WI Z hx N M → Z a0 → a1.toNatClampNeg = hx → pq (k2 a0 a1 a2 a3 M) (QV S Z hx N M)) (a0 : Nat) (a1 : Int32) (a2 : Int32) (a3 : Int32) (s0 : Nat) (M : FM) (w : WI Z hx N M) (z_a0 : Z a0) (z_s0 : Z s0) (i_a1 : a1.toNatClampNeg = hx) : pq (FX92_watch_79 n k2 a0 a1 a2 a3 s0 M) (QV S Z hx N M) := by
  have hN := w.2.2.1
  have w0 := wk_r (S := S) w
  delta FX92_watch_79 BX92_watch_79
  refine pq_g (fun g1 => ?_)
  exact q_tV hN w0 (wX92_watch_83 S Z hS n _ hk2 _ _ _ _ _ _ _ w0.1 z_a0 z_s0 i_a1)
theorem wX92_watch_45 (S Z : Nat → Prop) {hx N : Nat} (hS : ∀ x, fe_mem lX92_watch x = true → S x) (n : Nat) (k2 : Nat → Int32 → Int32 → Int32 → FM → Option (FM)) (hk2 : ∀ (a0 : Nat) (a1 : Int32) (a2 : Int32) (a3 : Int32) (M : FM), WI Z hx N M → Z a0 → a1.toNatClampNeg = hx → pq (k2 a0 a1 a2 a3 M) (QV S Z hx N M)) (a0 : Nat) (a1 : Int32) (a2 : Int32) (a3 : Int32) (s0 : Int64) (M : FM) (w : WI Z hx N M) (z_a0 : Z a0) (i_a1 : a1.toNatClampNeg = hx) : pq (FX92_watch_45 n k2 a0 a1 a2 a3 s0 M) (QV S Z hx N M) := by
  have hN := w.2.2.1
  have w0 := wk_r (S := S) w
  delta FX92_watch_45 BX92_watch_45
  refine pq_b (wX93_isByte S Z (sb rfl hS) _ _ w0.1 ) (fun r1 K2 => ?_)
  have w3 := wk_t w0 K2 hN
  refine pq_fi (fun _ => ?_) (fun _ => ?_)
  · exact q_tV hN w3 (wX92_watch_79 S Z hS n _ hk2 _ _ _ _ _ _ w3.1 z_a0 z_a0 i_a1)
  · refine pq_g (fun g4 => ?_)
    have z5 := wk_z (i := 0) (f := 306) w3 rfl z_a0
    have f6 := sS_306 w3.1.1 g4
    refine pq_g (fun g7 => ?_)
    have z8 := wk_zx w3 z5 i_a1
    refine pq_g (fun g9 => ?_)
    refine pq_b (wX101_isOpen S Z (sb rfl hS) n _ _ _ w3.1 z8) (fun r10 K11 => ?_)
    have w12 := wk_t w3 K11 hN
    refine pq_fi (fun _ => ?_) (fun _ => ?_)
    · refine pq_g (fun g13 => ?_)
      exact q_tV hN w12 (wX92_watch_83 S Z hS n _ hk2 _ _ _ _ _ _ _ w12.1 z_a0 z_a0 i_a1)
    · exact q_tV hN w12 (wX92_watch_79 S Z hS n _ hk2 _ _ _ _ _ _ w12.1 z_a0 z_a0 i_a1)
theorem wX92_watch_2 (S Z : Nat → Prop) {hx N : Nat} (hS : ∀ x, fe_mem lX92_watch x = true → S x) (n : Nat) (k2 : Nat → Int32 → Int32 → Int32 → FM → Option (FM)) (hk2 : ∀ (a0 : Nat) (a1 : Int32) (a2 : Int32) (a3 : Int32) (M : FM), WI Z hx N M → Z a0 → a1.toNatClampNeg = hx → pq (k2 a0 a1 a2 a3 M) (QV S Z hx N M)) (a0 : Nat) (a1 : Int32) (a2 : Int32) (a3 : Int32) (M : FM) (w : WI Z hx N M) (z_a0 : Z a0) (i_a1 : a1.toNatClampNeg = hx) : pq (FX92_watch_2 n k2 a0 a1 a2 a3 M) (QV S Z hx N M) := by
  have hN := w.2.2.1
  have w0 := wk_r (S := S) w
  delta FX92_watch_2 BX92_watch_2
  refine pq_fi (fun _ => ?_) (fun _ => ?_)
  · exact q_tV hN w0 (wX92_watch_92 S Z hS n _ hk2 _ w0.1 )
  · refine pq_g (fun g1 => ?_)
    have z2 := wk_z (i := 0) (f := 305) w0 rfl z_a0
    have f3 := sS_305 w0.1.1 g1
    refine pq_g (fun g4 => ?_)
    have z5 := wk_zx w0 z2 i_a1
    refine pq_g (fun g6 => ?_)
    refine pq_b (wX100_dataMode S Z (sb rfl hS) _ _ w0.1 z5) (fun r7 K8 => ?_)
    have w9 := wk_t w0 K8 hN
    refine pq_fi (fun _ => ?_) (fun _ => ?_)
    · exact q_tV hN w9 (wX92_watch_92 S Z hS n _ hk2 _ w9.1 )
    · refine pq_g (fun g10 => ?_)
      refine pq_fi (fun _ => ?_) (fun _ => ?_)
      · refine pq_g (fun g11 => ?_)
        have z12 := wk_z (i := 0) (f := 323) w9 rfl z_a0
        have f13 := sS_323 w9.1.1 g11
        refine pq_g (fun g14 => ?_)
        exact q_tV hN w9 (wX92_watch_45 S Z hS n _ hk2 _ _ _ _ _ _ w9.1 z_a0 i_a1)
      · refine pq_g (fun g15 => ?_)
        have z16 := wk_z (i := 0) (f := 323) w9 rfl z_a0
        have f17 := sS_323 w9.1.1 g15
        refine pq_g (fun g18 => ?_)
        exact q_tV hN w9 (wX92_watch_45 S Z hS n _ hk2 _ _ _ _ _ _ w9.1 z_a0 i_a1)
theorem wX92_watch_0 (S Z : Nat → Prop) {hx N : Nat} (hS : ∀ x, fe_mem lX92_watch x = true → S x) (n : Nat) (k2 : Nat → Int32 → Int32 → Int32 → FM → Option (FM)) (hk2 : ∀ (a0 : Nat) (a1 : Int32) (a2 : Int32) (a3 : Int32) (M : FM), WI Z hx N M → Z a0 → a1.toNatClampNeg = hx → pq (k2 a0 a1 a2 a3 M) (QV S Z hx N M)) (a0 : Nat) (a1 : Int32) (a2 : Int32) (M : FM) (w : WI Z hx N M) (z_a0 : Z a0) (i_a1 : a1.toNatClampNeg = hx) : pq (FX92_watch_0 n k2 a0 a1 a2 M) (QV S Z hx N M) := by
  have hN := w.2.2.1
  have w0 := wk_r (S := S) w
  delta FX92_watch_0 BX92_watch_0
  exact q_tV hN w0 (hk2 _ _ _ _ _ w0.1 z_a0 i_a1)
theorem wX92_watch_L (S Z : Nat → Prop) {hx N : Nat} (hS : ∀ x, fe_mem lX92_watch x = true → S x) (n : Nat) : ∀ j : Nat, ∀ (a0 : Nat) (a1 : Int32) (a2 : Int32) (a3 : Int32) (M : FM), WI Z hx N M → Z a0 → a1.toNatClampNeg = hx → pq (FX92_watch_L2 n j a0 a1 a2 a3 M) (QV S Z hx N M)
  | 0 => by intros; exact pq_0
  | j + 1 => fun a0 a1 a2 a3 M w => wX92_watch_2 S Z hS n _ (wX92_watch_L S Z hS n j) a0 a1 a2 a3 M w
theorem wX92_watch (S Z : Nat → Prop) {hx N : Nat} (hS : ∀ x, fe_mem lX92_watch x = true → S x) (n : Nat) (a0 : Nat) (a1 : Int32) (a2 : Int32) (M : FM) (w : WI Z hx N M) (z_a0 : Z a0) (i_a1 : a1.toNatClampNeg = hx) : pq (FX92_watch n a0 a1 a2 M) (QV S Z hx N M) := wX92_watch_0 S Z hS n _ (wX92_watch_L S Z hS n n) a0 a1 a2 M w z_a0 i_a1
def lX92_isDiskRegister : List Nat := []
theorem wX92_isDiskRegister_28 (S Z : Nat → Prop) {hx N : Nat} (hS : ∀ x, fe_mem lX92_isDiskRegister x = true → S x) (s0 : Int32) (M : FM) (w : WI Z hx N M) : pq (FX92_isDiskRegister_28 s0 M) (QA S Z hx N M) := by
  have hN := w.2.2.1
  have w0 := wk_r (S := S) w
  delta FX92_isDiskRegister_28 BX92_isDiskRegister_28
  refine pq_g (fun _ => ?_)
  exact pq_s w0
theorem wX92_isDiskRegister_27 (S Z : Nat → Prop) {hx N : Nat} (hS : ∀ x, fe_mem lX92_isDiskRegister x = true → S x) (M : FM) (w : WI Z hx N M) : pq (FX92_isDiskRegister_27 M) (QA S Z hx N M) := by
  have hN := w.2.2.1
  have w0 := wk_r (S := S) w
  delta FX92_isDiskRegister_27 BX92_isDiskRegister_27
  exact q_tA hN w0 (wX92_isDiskRegister_28 S Z hS _ _ w0.1 )
theorem wX92_isDiskRegister_0 (S Z : Nat → Prop) {hx N : Nat} (hS : ∀ x, fe_mem lX92_isDiskRegister x = true → S x) (a0 : Int64) (a2 : Int32) (M : FM) (w : WI Z hx N M) : pq (FX92_isDiskRegister_0 a0 a2 M) (QA S Z hx N M) := by
  have hN := w.2.2.1
  have w0 := wk_r (S := S) w
  delta FX92_isDiskRegister_0 BX92_isDiskRegister_0
  refine pq_fi (fun _ => ?_) (fun _ => ?_)
  · refine pq_n ?_
    refine pq_fi (fun _ => ?_) (fun _ => ?_)
    · refine pq_fi (fun _ => ?_) (fun _ => ?_)
      · exact q_tA hN w0 (wX92_isDiskRegister_27 S Z hS _ w0.1 )
      · exact q_tA hN w0 (wX92_isDiskRegister_28 S Z hS _ _ w0.1 )
    · exact q_tA hN w0 (wX92_isDiskRegister_27 S Z hS _ w0.1 )
  · exact q_tA hN w0 (wX92_isDiskRegister_27 S Z hS _ w0.1 )
theorem wX92_isDiskRegister (S Z : Nat → Prop) {hx N : Nat} (hS : ∀ x, fe_mem lX92_isDiskRegister x = true → S x) (a0 : Int64) (a2 : Int32) (M : FM) (w : WI Z hx N M) : pq (FX92_isDiskRegister a0 a2 M) (QA S Z hx N M) := wX92_isDiskRegister_0 S Z hS a0 a2 M w 
def lX96_isProper : List Nat := []
theorem wX96_isProper_41 (S Z : Nat → Prop) {hx N : Nat} (hS : ∀ x, fe_mem lX96_isProper x = true → S x) (s0 : Int32) (M : FM) (w : WI Z hx N M) : pq (FX96_isProper_41 s0 M) (QA S Z hx N M) := by
  have hN := w.2.2.1
  have w0 := wk_r (S := S) w
  delta FX96_isProper_41 BX96_isProper_41
  refine pq_g (fun _ => ?_)
  exact pq_s w0
theorem wX96_isProper_40 (S Z : Nat → Prop) {hx N : Nat} (hS : ∀ x, fe_mem lX96_isProper x = true → S x) (M : FM) (w : WI Z hx N M) : pq (FX96_isProper_40 M) (QA S Z hx N M) := by
  have hN := w.2.2.1
  have w0 := wk_r (S := S) w
  delta FX96_isProper_40 BX96_isProper_40
  exact q_tA hN w0 (wX96_isProper_41 S Z hS _ _ w0.1 )
theorem wX96_isProper_36 (S Z : Nat → Prop) {hx N : Nat} (hS : ∀ x, fe_mem lX96_isProper x = true → S x) (M : FM) (w : WI Z hx N M) : pq (FX96_isProper_36 M) (QA S Z hx N M) := by
  have hN := w.2.2.1
  have w0 := wk_r (S := S) w
  delta FX96_isProper_36 BX96_isProper_36
  exact q_tA hN w0 (wX96_isProper_41 S Z hS _ _ w0.1 )
theorem wX96_isProper_0 (S Z : Nat → Prop) {hx N : Nat} (hS : ∀ x, fe_mem lX96_isProper x = true → S x) (a0 : Int32) (a1 : Int64) (a3 : Int32) (M : FM) (w : WI Z hx N M) : pq (FX96_isProper_0 a0 a1 a3 M) (QA S Z hx N M) := by
  have hN := w.2.2.1
  have w0 := wk_r (S := S) w
  delta FX96_isProper_0 BX96_isProper_0
  refine pq_fi (fun _ => ?_) (fun _ => ?_)
  · exact q_tA hN w0 (wX96_isProper_40 S Z hS _ w0.1 )
  · refine pq_fi (fun _ => ?_) (fun _ => ?_)
    · exact q_tA hN w0 (wX96_isProper_40 S Z hS _ w0.1 )
    · refine pq_fi (fun _ => ?_) (fun _ => ?_)
      · exact q_tA hN w0 (wX96_isProper_40 S Z hS _ w0.1 )
      · refine pq_fi (fun _ => ?_) (fun _ => ?_)
        · exact q_tA hN w0 (wX96_isProper_36 S Z hS _ w0.1 )
        · refine pq_fi (fun _ => ?_) (fun _ => ?_)
          · exact q_tA hN w0 (wX96_isProper_36 S Z hS _ w0.1 )
          · refine pq_fi (fun _ => ?_) (fun _ => ?_)
            · exact q_tA hN w0 (wX96_isProper_36 S Z hS _ w0.1 )
            · refine pq_fi (fun _ => ?_) (fun _ => ?_)
              · exact q_tA hN w0 (wX96_isProper_36 S Z hS _ w0.1 )
              · exact q_tA hN w0 (wX96_isProper_40 S Z hS _ w0.1 )
theorem wX96_isProper (S Z : Nat → Prop) {hx N : Nat} (hS : ∀ x, fe_mem lX96_isProper x = true → S x) (a0 : Int32) (a1 : Int64) (a3 : Int32) (M : FM) (w : WI Z hx N M) : pq (FX96_isProper a0 a1 a3 M) (QA S Z hx N M) := wX96_isProper_0 S Z hS a0 a1 a3 M w 
def lX96_eightAt : List Nat := []
theorem wX96_eightAt_61 (S Z : Nat → Prop) {hx N : Nat} (hS : ∀ x, fe_mem lX96_eightAt x = true → S x) (s0 : Int32) (M : FM) (w : WI Z hx N M) : pq (FX96_eightAt_61 s0 M) (QA S Z hx N M) := by
  have hN := w.2.2.1
  have w0 := wk_r (S := S) w
  delta FX96_eightAt_61 BX96_eightAt_61
  exact pq_s w0
theorem wX96_eightAt_60 (S Z : Nat → Prop) {hx N : Nat} (hS : ∀ x, fe_mem lX96_eightAt x = true → S x) (M : FM) (w : WI Z hx N M) : pq (FX96_eightAt_60 M) (QA S Z hx N M) := by
  have hN := w.2.2.1
  have w0 := wk_r (S := S) w
  delta FX96_eightAt_60 BX96_eightAt_60
  exact q_tA hN w0 (wX96_eightAt_61 S Z hS _ _ w0.1 )
theorem wX96_eightAt_21 (S Z : Nat → Prop) {hx N : Nat} (hS : ∀ x, fe_mem lX96_eightAt x = true → S x) (a0 : Nat) (a1 : Int64) (M : FM) (w : WI Z hx N M) (z_a0 : Z a0) : pq (FX96_eightAt_21 a0 a1 M) (QA S Z hx N M) := by
  have hN := w.2.2.1
  have w0 := wk_r (S := S) w
  delta FX96_eightAt_21 BX96_eightAt_21
  refine pq_fi (fun _ => ?_) (fun _ => ?_)
  · exact q_tA hN w0 (wX96_eightAt_60 S Z hS _ w0.1 )
  · refine pq_g (fun g1 => ?_)
    refine pq_fi (fun _ => ?_) (fun _ => ?_)
    · exact q_tA hN w0 (wX96_eightAt_60 S Z hS _ w0.1 )
    · refine pq_n ?_
      exact q_tA hN w0 (wX96_eightAt_61 S Z hS _ _ w0.1 )
theorem wX96_eightAt_0 (S Z : Nat → Prop) {hx N : Nat} (hS : ∀ x, fe_mem lX96_eightAt x = true → S x) (a0 : Nat) (a1 : Int64) (M : FM) (w : WI Z hx N M) (z_a0 : Z a0) : pq (FX96_eightAt_0 a0 a1 M) (QA S Z hx N M) := by
  have hN := w.2.2.1
  have w0 := wk_r (S := S) w
  delta FX96_eightAt_0 BX96_eightAt_0
  refine pq_fi (fun _ => ?_) (fun _ => ?_)
  · exact q_tA hN w0 (wX96_eightAt_21 S Z hS _ _ _ w0.1 z_a0)
  · refine pq_fi (fun _ => ?_) (fun _ => ?_)
    · exact q_tA hN w0 (wX96_eightAt_21 S Z hS _ _ _ w0.1 z_a0)
    · refine pq_g (fun g1 => ?_)
      exact pq_s w0
theorem wX96_eightAt (S Z : Nat → Prop) {hx N : Nat} (hS : ∀ x, fe_mem lX96_eightAt x = true → S x) (a0 : Nat) (a1 : Int64) (M : FM) (w : WI Z hx N M) (z_a0 : Z a0) : pq (FX96_eightAt a0 a1 M) (QA S Z hx N M) := wX96_eightAt_0 S Z hS a0 a1 M w z_a0
def lX96_eight : List Nat := []
theorem wX96_eight_21 (S Z : Nat → Prop) {hx N : Nat} (hS : ∀ x, fe_mem lX96_eight x = true → S x) (s0 : Int64) (M : FM) (w : WI Z hx N M) : pq (FX96_eight_21 s0 M) (QA S Z hx N M) := by
  have hN := w.2.2.1
  have w0 := wk_r (S := S) w
  delta FX96_eight_21 BX96_eight_21
  exact pq_s w0
theorem wX96_eight_0 (S Z : Nat → Prop) {hx N : Nat} (hS : ∀ x, fe_mem lX96_eight x = true → S x) (a0 : Nat) (a1 : Int32) (M : FM) (w : WI Z hx N M) (z_a0 : Z a0) : pq (FX96_eight_0 a0 a1 M) (QA S Z hx N M) := by
  have hN := w.2.2.1
  have w0 := wk_r (S := S) w
  delta FX96_eight_0 BX96_eight_0
  refine pq_g (fun g1 => ?_)
  refine pq_fi (fun _ => ?_) (fun _ => ?_)
  · refine pq_g (fun g2 => ?_)
    exact q_tA hN w0 (wX96_eight_21 S Z hS _ _ w0.1 )
  · refine pq_g (fun g3 => ?_)
    have z4 := wk_z (i := 0) (f := 397) w0 rfl z_a0
    have f5 := sS_397 w0.1.1 g3
    refine pq_g (fun g6 => ?_)
    exact q_tA hN w0 (wX96_eight_21 S Z hS _ _ w0.1 )
theorem wX96_eight (S Z : Nat → Prop) {hx N : Nat} (hS : ∀ x, fe_mem lX96_eight x = true → S x) (a0 : Nat) (a1 : Int32) (M : FM) (w : WI Z hx N M) (z_a0 : Z a0) : pq (FX96_eight a0 a1 M) (QA S Z hx N M) := wX96_eight_0 S Z hS a0 a1 M w z_a0
def lX96_setEight : List Nat := [398, 1397]
theorem wX96_setEight_23 (S Z : Nat → Prop) {hx N : Nat} (hS : ∀ x, fe_mem lX96_setEight x = true → S x) (M : FM) (w : WI Z hx N M) : pq (FX96_setEight_23 M) (QV S Z hx N M) := by
  have hN := w.2.2.1
  have w0 := wk_r (S := S) w
  delta FX96_setEight_23 BX96_setEight_23
  exact pq_s w0
theorem wX96_setEight_0 (S Z : Nat → Prop) {hx N : Nat} (hS : ∀ x, fe_mem lX96_setEight x = true → S x) (a0 : Nat) (a1 : Int32) (a2 : Int64) (M : FM) (w : WI Z hx N M) (z_a0 : Z a0) : pq (FX96_setEight_0 a0 a1 a2 M) (QV S Z hx N M) := by
  have hN := w.2.2.1
  have w0 := wk_r (S := S) w
  delta FX96_setEight_0 BX96_setEight_0
  refine pq_g (fun g1 => ?_)
  refine pq_fi (fun _ => ?_) (fun _ => ?_)
  · refine pq_g (fun g2 => ?_)
    extract_lets +onlyGivenNames M4
    have w3 : Wk S Z hx N M M4 := wk_fL hN w0 rfl rfl g2 z_a0 (Or.inr (hS 398 rfl))
    exact q_tV hN w3 (wX96_setEight_23 S Z hS _ w3.1 )
  · refine pq_g (fun g5 => ?_)
    have z6 := wk_z (i := 0) (f := 397) w0 rfl z_a0
    have f7 := sS_397 w0.1.1 g5
    refine pq_g (fun g8 => ?_)
    extract_lets +onlyGivenNames M10
    have w9 : Wk S Z hx N M M10 := wk_aL hN w0 rfl g8.1 z6 (sy_s f7 (hS 1397 rfl))
    exact q_tV hN w9 (wX96_setEight_23 S Z hS _ w9.1 )
theorem wX96_setEight (S Z : Nat → Prop) {hx N : Nat} (hS : ∀ x, fe_mem lX96_setEight x = true → S x) (a0 : Nat) (a1 : Int32) (a2 : Int64) (M : FM) (w : WI Z hx N M) (z_a0 : Z a0) : pq (FX96_setEight a0 a1 a2 M) (QV S Z hx N M) := wX96_setEight_0 S Z hS a0 a1 a2 M w z_a0
def lX96_writeTimer : List Nat := [398, 1396, 1397]
theorem wX96_writeTimer_163 (S Z : Nat → Prop) {hx N : Nat} (hS : ∀ x, fe_mem lX96_writeTimer x = true → S x) (M : FM) (w : WI Z hx N M) : pq (FX96_writeTimer_163 M) (QV S Z hx N M) := by
  have hN := w.2.2.1
  have w0 := wk_r (S := S) w
  delta FX96_writeTimer_163 BX96_writeTimer_163
  exact pq_s w0
theorem wX96_writeTimer_80 (S Z : Nat → Prop) {hx N : Nat} (hS : ∀ x, fe_mem lX96_writeTimer x = true → S x) (M : FM) (w : WI Z hx N M) : pq (FX96_writeTimer_80 M) (QV S Z hx N M) := by
  have hN := w.2.2.1
  have w0 := wk_r (S := S) w
  delta FX96_writeTimer_80 BX96_writeTimer_80
  exact pq_s w0
theorem wX96_writeTimer_54 (S Z : Nat → Prop) {hx N : Nat} (hS : ∀ x, fe_mem lX96_writeTimer x = true → S x) (a0 : Nat) (a1 : Int64) (a3 : Int32) (a4 : Int64) (M : FM) (w : WI Z hx N M) (z_a0 : Z a0) : pq (FX96_writeTimer_54 a0 a1 a3 a4 M) (QV S Z hx N M) := by
  have hN := w.2.2.1
  have w0 := wk_r (S := S) w
  delta FX96_writeTimer_54 BX96_writeTimer_54
  refine pq_g (fun g1 => ?_)
  refine pq_b (wX96_eightAt S Z (sb rfl hS) _ _ _ w0.1 z_a0) (fun r2 K3 => ?_)
  have w4 := wk_t w0 K3 hN
  refine pq_fi (fun _ => ?_) (fun _ => ?_)
  · exact q_tV hN w4 (wX96_writeTimer_80 S Z hS _ w4.1 )
  · refine pq_n ?_
    refine pq_fi (fun _ => ?_) (fun _ => ?_)
    · refine pq_fi (fun _ => ?_) (fun _ => ?_)
      · refine pq_g (fun g5 => ?_)
        refine pq_b (wX96_eight S Z (sb rfl hS) _ _ _ w4.1 z_a0) (fun r6 K7 => ?_)
        have w8 := wk_t w4 K7 hN
        refine pq_g (fun g9 => ?_)
        refine pq_b (wX96_eight S Z (sb rfl hS) _ _ _ w8.1 z_a0) (fun r10 K11 => ?_)
        have w12 := wk_t w8 K11 hN
        refine pq_fi (fun _ => ?_) (fun _ => ?_)
        · refine pq_g (fun g13 => ?_)
          refine pq_b (wX96_setEight S Z (sb rfl hS) _ _ _ _ w12.1 z_a0) (fun r14 K15 => ?_)
          have w16 := wk_t w12 K15 hN
          exact q_tV hN w16 (wX96_writeTimer_163 S Z hS _ w16.1 )
        · refine pq_n ?_
          refine pq_fi (fun _ => ?_) (fun _ => ?_)
          · refine pq_g (fun g17 => ?_)
            refine pq_b (wX96_setEight S Z (sb rfl hS) _ _ _ _ w12.1 z_a0) (fun r18 K19 => ?_)
            have w20 := wk_t w12 K19 hN
            exact q_tV hN w20 (wX96_writeTimer_163 S Z hS _ w20.1 )
          · refine pq_g (fun g21 => ?_)
            refine pq_b (wX96_setEight S Z (sb rfl hS) _ _ _ _ w12.1 z_a0) (fun r22 K23 => ?_)
            have w24 := wk_t w12 K23 hN
            exact q_tV hN w24 (wX96_writeTimer_163 S Z hS _ w24.1 )
      · exact q_tV hN w4 (wX96_writeTimer_80 S Z hS _ w4.1 )
    · exact q_tV hN w4 (wX96_writeTimer_80 S Z hS _ w4.1 )
theorem wX96_writeTimer_53 (S Z : Nat → Prop) {hx N : Nat} (hS : ∀ x, fe_mem lX96_writeTimer x = true → S x) (a0 : Nat) (a1 : Int64) (a3 : Int32) (a4 : Int64) (s0 : Nat) (s1 : Int32) (s2 : Int32) (M : FM) (w : WI Z hx N M) (z_a0 : Z a0) (z_s0 : Z s0) (y_s0 : Sy S N M s0) : pq (FX96_writeTimer_53 a0 a1 a3 a4 s0 s1 s2 M) (QV S Z hx N M) := by
  have hN := w.2.2.1
  have w0 := wk_r (S := S) w
  delta FX96_writeTimer_53 BX96_writeTimer_53
  refine pq_g (fun g1 => ?_)
  extract_lets +onlyGivenNames M3
  have w2 : Wk S Z hx N M M3 := wk_aI hN w0 rfl g1.1 z_s0 y_s0
  exact q_tV hN w2 (wX96_writeTimer_54 S Z hS _ _ _ _ _ w2.1 z_a0)
theorem wX96_writeTimer_0 (S Z : Nat → Prop) {hx N : Nat} (hS : ∀ x, fe_mem lX96_writeTimer x = true → S x) (a0 : Nat) (a1 : Int64) (a3 : Int32) (a4 : Int64) (M : FM) (w : WI Z hx N M) (z_a0 : Z a0) : pq (FX96_writeTimer_0 a0 a1 a3 a4 M) (QV S Z hx N M) := by
  have hN := w.2.2.1
  have w0 := wk_r (S := S) w
  delta FX96_writeTimer_0 BX96_writeTimer_0
  refine pq_fi (fun _ => ?_) (fun _ => ?_)
  · refine pq_g (fun g1 => ?_)
    refine pq_fi (fun _ => ?_) (fun _ => ?_)
    · exact q_tV hN w0 (wX96_writeTimer_54 S Z hS _ _ _ _ _ w0.1 z_a0)
    · refine pq_n ?_
      refine pq_fi (fun _ => ?_) (fun _ => ?_)
      · refine pq_g (fun g2 => ?_)
        have z3 := wk_z (i := 0) (f := 396) w0 rfl z_a0
        have f4 := sS_396 w0.1.1 g2
        refine pq_n ?_
        refine pq_fi (fun _ => ?_) (fun _ => ?_)
        · exact q_tV hN w0 (wX96_writeTimer_53 S Z hS _ _ _ _ _ _ _ _ w0.1 z_a0 z3 (sy_s f4 (hS 1396 rfl)))
        · exact q_tV hN w0 (wX96_writeTimer_53 S Z hS _ _ _ _ _ _ _ _ w0.1 z_a0 z3 (sy_s f4 (hS 1396 rfl)))
      · exact q_tV hN w0 (wX96_writeTimer_54 S Z hS _ _ _ _ _ w0.1 z_a0)
  · exact q_tV hN w0 (wX96_writeTimer_54 S Z hS _ _ _ _ _ w0.1 z_a0)
theorem wX96_writeTimer (S Z : Nat → Prop) {hx N : Nat} (hS : ∀ x, fe_mem lX96_writeTimer x = true → S x) (a0 : Nat) (a1 : Int64) (a3 : Int32) (a4 : Int64) (M : FM) (w : WI Z hx N M) (z_a0 : Z a0) : pq (FX96_writeTimer a0 a1 a3 a4 M) (QV S Z hx N M) := wX96_writeTimer_0 S Z hS a0 a1 a3 a4 M w z_a0
def lX96_hasBit : List Nat := []
theorem wX96_hasBit_19 (S Z : Nat → Prop) {hx N : Nat} (hS : ∀ x, fe_mem lX96_hasBit x = true → S x) (s0 : Int32) (M : FM) (w : WI Z hx N M) : pq (FX96_hasBit_19 s0 M) (QA S Z hx N M) := by
  have hN := w.2.2.1
  have w0 := wk_r (S := S) w
  delta FX96_hasBit_19 BX96_hasBit_19
  refine pq_g (fun _ => ?_)
  exact pq_s w0
theorem wX96_hasBit_0 (S Z : Nat → Prop) {hx N : Nat} (hS : ∀ x, fe_mem lX96_hasBit x = true → S x) (a0 : Nat) (a1 : Int32) (a2 : Int32) (M : FM) (w : WI Z hx N M) (z_a0 : Z a0) : pq (FX96_hasBit_0 a0 a1 a2 M) (QA S Z hx N M) := by
  have hN := w.2.2.1
  have w0 := wk_r (S := S) w
  delta FX96_hasBit_0 BX96_hasBit_0
  refine pq_g (fun g1 => ?_)
  have z2 := wk_z (i := 0) (f := 405) w0 rfl z_a0
  have f3 := sS_405 w0.1.1 g1
  refine pq_g (fun g4 => ?_)
  refine pq_fi (fun _ => ?_) (fun _ => ?_)
  · exact q_tA hN w0 (wX96_hasBit_19 S Z hS _ _ w0.1 )
  · exact q_tA hN w0 (wX96_hasBit_19 S Z hS _ _ w0.1 )
theorem wX96_hasBit (S Z : Nat → Prop) {hx N : Nat} (hS : ∀ x, fe_mem lX96_hasBit x = true → S x) (a0 : Nat) (a1 : Int32) (a2 : Int32) (M : FM) (w : WI Z hx N M) (z_a0 : Z a0) : pq (FX96_hasBit a0 a1 a2 M) (QA S Z hx N M) := wX96_hasBit_0 S Z hS a0 a1 a2 M w z_a0
def lX96_cause : List Nat := []
theorem wX96_cause_58 (S Z : Nat → Prop) {hx N : Nat} (hS : ∀ x, fe_mem lX96_cause x = true → S x) (s0 : Int32) (M : FM) (w : WI Z hx N M) : pq (FX96_cause_58 s0 M) (QA S Z hx N M) := by
  have hN := w.2.2.1
  have w0 := wk_r (S := S) w
  delta FX96_cause_58 BX96_cause_58
  exact pq_s w0
theorem wX96_cause_57 (S Z : Nat → Prop) {hx N : Nat} (hS : ∀ x, fe_mem lX96_cause x = true → S x) (M : FM) (w : WI Z hx N M) : pq (FX96_cause_57 M) (QA S Z hx N M) := by
  have hN := w.2.2.1
  have w0 := wk_r (S := S) w
  delta FX96_cause_57 BX96_cause_57
  exact q_tA hN w0 (wX96_cause_58 S Z hS _ _ w0.1 )
theorem wX96_cause_37 (S Z : Nat → Prop) {hx N : Nat} (hS : ∀ x, fe_mem lX96_cause x = true → S x) (a0 : Nat) (M : FM) (w : WI Z hx N M) (z_a0 : Z a0) : pq (FX96_cause_37 a0 M) (QA S Z hx N M) := by
  have hN := w.2.2.1
  have w0 := wk_r (S := S) w
  delta FX96_cause_37 BX96_cause_37
  refine pq_g (fun g1 => ?_)
  refine pq_b (wX96_hasBit S Z (sb rfl hS) _ _ _ _ w0.1 z_a0) (fun r2 K3 => ?_)
  have w4 := wk_t w0 K3 hN
  refine pq_fi (fun _ => ?_) (fun _ => ?_)
  · exact q_tA hN w4 (wX96_cause_57 S Z hS _ w4.1 )
  · refine pq_g (fun g5 => ?_)
    refine pq_fi (fun _ => ?_) (fun _ => ?_)
    · exact q_tA hN w4 (wX96_cause_57 S Z hS _ w4.1 )
    · exact q_tA hN w4 (wX96_cause_58 S Z hS _ _ w4.1 )
theorem wX96_cause_19 (S Z : Nat → Prop) {hx N : Nat} (hS : ∀ x, fe_mem lX96_cause x = true → S x) (a0 : Nat) (M : FM) (w : WI Z hx N M) (z_a0 : Z a0) : pq (FX96_cause_19 a0 M) (QA S Z hx N M) := by
  have hN := w.2.2.1
  have w0 := wk_r (S := S) w
  delta FX96_cause_19 BX96_cause_19
  refine pq_g (fun g1 => ?_)
  refine pq_b (wX96_hasBit S Z (sb rfl hS) _ _ _ _ w0.1 z_a0) (fun r2 K3 => ?_)
  have w4 := wk_t w0 K3 hN
  refine pq_fi (fun _ => ?_) (fun _ => ?_)
  · exact q_tA hN w4 (wX96_cause_37 S Z hS _ _ w4.1 z_a0)
  · refine pq_g (fun g5 => ?_)
    refine pq_fi (fun _ => ?_) (fun _ => ?_)
    · exact q_tA hN w4 (wX96_cause_37 S Z hS _ _ w4.1 z_a0)
    · exact pq_s w4
theorem wX96_cause_0 (S Z : Nat → Prop) {hx N : Nat} (hS : ∀ x, fe_mem lX96_cause x = true → S x) (a0 : Nat) (M : FM) (w : WI Z hx N M) (z_a0 : Z a0) : pq (FX96_cause_0 a0 M) (QA S Z hx N M) := by
  have hN := w.2.2.1
  have w0 := wk_r (S := S) w
  delta FX96_cause_0 BX96_cause_0
  refine pq_g (fun g1 => ?_)
  refine pq_b (wX96_hasBit S Z (sb rfl hS) _ _ _ _ w0.1 z_a0) (fun r2 K3 => ?_)
  have w4 := wk_t w0 K3 hN
  refine pq_fi (fun _ => ?_) (fun _ => ?_)
  · exact q_tA hN w4 (wX96_cause_19 S Z hS _ _ w4.1 z_a0)
  · refine pq_g (fun g5 => ?_)
    refine pq_fi (fun _ => ?_) (fun _ => ?_)
    · exact q_tA hN w4 (wX96_cause_19 S Z hS _ _ w4.1 z_a0)
    · exact pq_s w4
theorem wX96_cause (S Z : Nat → Prop) {hx N : Nat} (hS : ∀ x, fe_mem lX96_cause x = true → S x) (a0 : Nat) (M : FM) (w : WI Z hx N M) (z_a0 : Z a0) : pq (FX96_cause a0 M) (QA S Z hx N M) := wX96_cause_0 S Z hS a0 M w z_a0
def lX96_settle : List Nat := [1399, 1400]
theorem wX96_settle_65 (S Z : Nat → Prop) {hx N : Nat} (hS : ∀ x, fe_mem lX96_settle x = true → S x) (n : Nat) (k22 : Nat → Int32 → FM → Option (FM)) (hk22 : ∀ (a0 : Nat) (a1 : Int32) (M : FM), WI Z hx N M → Z a0 → pq (k22 a0 a1 M) (QV S Z hx N M)) (a0 : Nat) (a1 : Int32) (s0 : Nat) (s1 : Int32) (s2 : Int32) (M : FM) (w : WI Z hx N M) (z_a0 : Z a0) (z_s0 : Z s0) (y_s0 : Sy S N M s0) : pq (FX96_settle_65 n k22 a0 a1 s0 s1 s2 M) (QV S Z hx N M) := by
  have hN := w.2.2.1
  have w0 := wk_r (S := S) w
  delta FX96_settle_65 BX96_settle_65
  refine pq_g (fun g1 => ?_)
  extract_lets +onlyGivenNames M3
  have w2 : Wk S Z hx N M M3 := wk_aI hN w0 rfl g1.1 z_s0 y_s0
  exact q_tV hN w2 (hk22 _ _ _ w2.1 z_a0)
theorem wX96_settle_64 (S Z : Nat → Prop) {hx N : Nat} (hS : ∀ x, fe_mem lX96_settle x = true → S x) (n : Nat) (k22 : Nat → Int32 → FM → Option (FM)) (hk22 : ∀ (a0 : Nat) (a1 : Int32) (M : FM), WI Z hx N M → Z a0 → pq (k22 a0 a1 M) (QV S Z hx N M)) (a0 : Nat) (a1 : Int32) (s0 : Nat) (s1 : Int32) (M : FM) (w : WI Z hx N M) (z_a0 : Z a0) (z_s0 : Z s0) (y_s0 : Sy S N M s0) : pq (FX96_settle_64 n k22 a0 a1 s0 s1 M) (QV S Z hx N M) := by
  have hN := w.2.2.1
  have w0 := wk_r (S := S) w
  delta FX96_settle_64 BX96_settle_64
  exact q_tV hN w0 (wX96_settle_65 S Z hS n _ hk22 _ _ _ _ _ _ w0.1 z_a0 z_s0 y_s0)
theorem wX96_settle_60 (S Z : Nat → Prop) {hx N : Nat} (hS : ∀ x, fe_mem lX96_settle x = true → S x) (n : Nat) (k22 : Nat → Int32 → FM → Option (FM)) (hk22 : ∀ (a0 : Nat) (a1 : Int32) (M : FM), WI Z hx N M → Z a0 → pq (k22 a0 a1 M) (QV S Z hx N M)) (a0 : Nat) (a1 : Int32) (s0 : Nat) (s1 : Int32) (M : FM) (w : WI Z hx N M) (z_a0 : Z a0) (z_s0 : Z s0) (y_s0 : Sy S N M s0) : pq (FX96_settle_60 n k22 a0 a1 s0 s1 M) (QV S Z hx N M) := by
  have hN := w.2.2.1
  have w0 := wk_r (S := S) w
  delta FX96_settle_60 BX96_settle_60
  exact q_tV hN w0 (wX96_settle_65 S Z hS n _ hk22 _ _ _ _ _ _ w0.1 z_a0 z_s0 y_s0)
theorem wX96_settle_22 (S Z : Nat → Prop) {hx N : Nat} (hS : ∀ x, fe_mem lX96_settle x = true → S x) (n : Nat) (k22 : Nat → Int32 → FM → Option (FM)) (hk22 : ∀ (a0 : Nat) (a1 : Int32) (M : FM), WI Z hx N M → Z a0 → pq (k22 a0 a1 M) (QV S Z hx N M)) (a0 : Nat) (a1 : Int32) (M : FM) (w : WI Z hx N M) (z_a0 : Z a0) : pq (FX96_settle_22 n k22 a0 a1 M) (QV S Z hx N M) := by
  have hN := w.2.2.1
  have w0 := wk_r (S := S) w
  delta FX96_settle_22 BX96_settle_22
  refine pq_fi (fun _ => ?_) (fun _ => ?_)
  · exact pq_s w0
  · refine pq_g (fun g1 => ?_)
    have z2 := wk_z (i := 0) (f := 400) w0 rfl z_a0
    have f3 := sS_400 w0.1.1 g1
    refine pq_g (fun g4 => ?_)
    have z5 := wk_z (i := 0) (f := 400) w0 rfl z_a0
    have f6 := sS_400 w0.1.1 g4
    refine pq_g (fun g7 => ?_)
    refine pq_fi (fun _ => ?_) (fun _ => ?_)
    · refine pq_g (fun g8 => ?_)
      have z9 := wk_z (i := 0) (f := 399) w0 rfl z_a0
      have f10 := sS_399 w0.1.1 g8
      refine pq_g (fun g11 => ?_)
      refine pq_fi (fun _ => ?_) (fun _ => ?_)
      · exact q_tV hN w0 (wX96_settle_64 S Z hS n _ hk22 _ _ _ _ _ w0.1 z_a0 z2 (sy_s f3 (hS 1400 rfl)))
      · refine pq_g (fun g12 => ?_)
        have z13 := wk_z (i := 0) (f := 401) w0 rfl z_a0
        have f14 := sS_401 w0.1.1 g12
        refine pq_g (fun g15 => ?_)
        refine pq_fi (fun _ => ?_) (fun _ => ?_)
        · exact q_tV hN w0 (wX96_settle_60 S Z hS n _ hk22 _ _ _ _ _ w0.1 z_a0 z2 (sy_s f3 (hS 1400 rfl)))
        · exact q_tV hN w0 (wX96_settle_64 S Z hS n _ hk22 _ _ _ _ _ w0.1 z_a0 z2 (sy_s f3 (hS 1400 rfl)))
    · exact q_tV hN w0 (wX96_settle_60 S Z hS n _ hk22 _ _ _ _ _ w0.1 z_a0 z2 (sy_s f3 (hS 1400 rfl)))
theorem wX96_settle_19 (S Z : Nat → Prop) {hx N : Nat} (hS : ∀ x, fe_mem lX96_settle x = true → S x) (n : Nat) (k22 : Nat → Int32 → FM → Option (FM)) (hk22 : ∀ (a0 : Nat) (a1 : Int32) (M : FM), WI Z hx N M → Z a0 → pq (k22 a0 a1 M) (QV S Z hx N M)) (a0 : Nat) (s0 : Nat) (s1 : Int32) (s2 : Int32) (M : FM) (w : WI Z hx N M) (z_a0 : Z a0) (z_s0 : Z s0) (y_s0 : Sy S N M s0) : pq (FX96_settle_19 n k22 a0 s0 s1 s2 M) (QV S Z hx N M) := by
  have hN := w.2.2.1
  have w0 := wk_r (S := S) w
  delta FX96_settle_19 BX96_settle_19
  refine pq_g (fun g1 => ?_)
  extract_lets +onlyGivenNames M3
  have w2 : Wk S Z hx N M M3 := wk_aI hN w0 rfl g1.1 z_s0 y_s0
  exact q_tV hN w2 (hk22 _ _ _ w2.1 z_a0)
theorem wX96_settle_0 (S Z : Nat → Prop) {hx N : Nat} (hS : ∀ x, fe_mem lX96_settle x = true → S x) (n : Nat) (k22 : Nat → Int32 → FM → Option (FM)) (hk22 : ∀ (a0 : Nat) (a1 : Int32) (M : FM), WI Z hx N M → Z a0 → pq (k22 a0 a1 M) (QV S Z hx N M)) (a0 : Nat) (M : FM) (w : WI Z hx N M) (z_a0 : Z a0) : pq (FX96_settle_0 n k22 a0 M) (QV S Z hx N M) := by
  have hN := w.2.2.1
  have w0 := wk_r (S := S) w
  delta FX96_settle_0 BX96_settle_0
  refine pq_g (fun g1 => ?_)
  have z2 := wk_z (i := 0) (f := 399) w0 rfl z_a0
  have f3 := sS_399 w0.1.1 g1
  refine pq_g (fun g4 => ?_)
  refine pq_b (wX96_cause S Z (sb rfl hS) _ _ w0.1 z_a0) (fun r5 K6 => ?_)
  have w7 := wk_t w0 K6 hN
  have f8 := sf_k w0.1.1 K6 f3
  refine pq_fi (fun _ => ?_) (fun _ => ?_)
  · exact q_tV hN w7 (wX96_settle_19 S Z hS n _ hk22 _ _ _ _ _ w7.1 z_a0 z2 (sy_s f8 (hS 1399 rfl)))
  · exact q_tV hN w7 (wX96_settle_19 S Z hS n _ hk22 _ _ _ _ _ w7.1 z_a0 z2 (sy_s f8 (hS 1399 rfl)))
theorem wX96_settle_L (S Z : Nat → Prop) {hx N : Nat} (hS : ∀ x, fe_mem lX96_settle x = true → S x) (n : Nat) : ∀ j : Nat, ∀ (a0 : Nat) (a1 : Int32) (M : FM), WI Z hx N M → Z a0 → pq (FX96_settle_L22 n j a0 a1 M) (QV S Z hx N M)
  | 0 => by intros; exact pq_0
  | j + 1 => fun a0 a1 M w => wX96_settle_22 S Z hS n _ (wX96_settle_L S Z hS n j) a0 a1 M w
theorem wX96_settle (S Z : Nat → Prop) {hx N : Nat} (hS : ∀ x, fe_mem lX96_settle x = true → S x) (n : Nat) (a0 : Nat) (M : FM) (w : WI Z hx N M) (z_a0 : Z a0) : pq (FX96_settle n a0 M) (QV S Z hx N M) := wX96_settle_0 S Z hS n _ (wX96_settle_L S Z hS n n) a0 M w z_a0
def lX96_contextAt : List Nat := []
theorem wX96_contextAt_59 (S Z : Nat → Prop) {hx N : Nat} (hS : ∀ x, fe_mem lX96_contextAt x = true → S x) (s0 : Int32) (M : FM) (w : WI Z hx N M) : pq (FX96_contextAt_59 s0 M) (QA S Z hx N M) := by
  have hN := w.2.2.1
  have w0 := wk_r (S := S) w
  delta FX96_contextAt_59 BX96_contextAt_59
  exact pq_s w0
theorem wX96_contextAt_41 (S Z : Nat → Prop) {hx N : Nat} (hS : ∀ x, fe_mem lX96_contextAt x = true → S x) (a1 : Int64) (a3 : Int64) (a5 : Int64) (s0 : Int32) (M : FM) (w : WI Z hx N M) : pq (FX96_contextAt_41 a1 a3 a5 s0 M) (QA S Z hx N M) := by
  have hN := w.2.2.1
  have w0 := wk_r (S := S) w
  delta FX96_contextAt_41 BX96_contextAt_41
  refine pq_fi (fun _ => ?_) (fun _ => ?_)
  · exact q_tA hN w0 (wX96_contextAt_59 S Z hS _ _ w0.1 )
  · refine pq_n ?_
    exact q_tA hN w0 (wX96_contextAt_59 S Z hS _ _ w0.1 )
theorem wX96_contextAt_40 (S Z : Nat → Prop) {hx N : Nat} (hS : ∀ x, fe_mem lX96_contextAt x = true → S x) (a1 : Int64) (a3 : Int64) (a5 : Int64) (M : FM) (w : WI Z hx N M) : pq (FX96_contextAt_40 a1 a3 a5 M) (QA S Z hx N M) := by
  have hN := w.2.2.1
  have w0 := wk_r (S := S) w
  delta FX96_contextAt_40 BX96_contextAt_40
  exact q_tA hN w0 (wX96_contextAt_41 S Z hS _ _ _ _ _ w0.1 )
theorem wX96_contextAt_0 (S Z : Nat → Prop) {hx N : Nat} (hS : ∀ x, fe_mem lX96_contextAt x = true → S x) (a0 : Nat) (a1 : Int64) (a3 : Int64) (a5 : Int64) (M : FM) (w : WI Z hx N M) (z_a0 : Z a0) : pq (FX96_contextAt_0 a0 a1 a3 a5 M) (QA S Z hx N M) := by
  have hN := w.2.2.1
  have w0 := wk_r (S := S) w
  delta FX96_contextAt_0 BX96_contextAt_0
  refine pq_fi (fun _ => ?_) (fun _ => ?_)
  · exact q_tA hN w0 (wX96_contextAt_40 S Z hS _ _ _ _ w0.1 )
  · refine pq_n ?_
    refine pq_fi (fun _ => ?_) (fun _ => ?_)
    · refine pq_n ?_
      refine pq_g (fun g1 => ?_)
      refine pq_fi (fun _ => ?_) (fun _ => ?_)
      · exact q_tA hN w0 (wX96_contextAt_40 S Z hS _ _ _ _ w0.1 )
      · exact q_tA hN w0 (wX96_contextAt_41 S Z hS _ _ _ _ _ w0.1 )
    · exact q_tA hN w0 (wX96_contextAt_40 S Z hS _ _ _ _ w0.1 )
theorem wX96_contextAt (S Z : Nat → Prop) {hx N : Nat} (hS : ∀ x, fe_mem lX96_contextAt x = true → S x) (a0 : Nat) (a1 : Int64) (a3 : Int64) (a5 : Int64) (M : FM) (w : WI Z hx N M) (z_a0 : Z a0) : pq (FX96_contextAt a0 a1 a3 a5 M) (QA S Z hx N M) := wX96_contextAt_0 S Z hS a0 a1 a3 a5 M w z_a0
def lX96_isSource : List Nat := []
theorem wX96_isSource_19 (S Z : Nat → Prop) {hx N : Nat} (hS : ∀ x, fe_mem lX96_isSource x = true → S x) (s0 : Int32) (M : FM) (w : WI Z hx N M) : pq (FX96_isSource_19 s0 M) (QA S Z hx N M) := by
  have hN := w.2.2.1
  have w0 := wk_r (S := S) w
  delta FX96_isSource_19 BX96_isSource_19
  refine pq_g (fun _ => ?_)
  exact pq_s w0
theorem wX96_isSource_18 (S Z : Nat → Prop) {hx N : Nat} (hS : ∀ x, fe_mem lX96_isSource x = true → S x) (M : FM) (w : WI Z hx N M) : pq (FX96_isSource_18 M) (QA S Z hx N M) := by
  have hN := w.2.2.1
  have w0 := wk_r (S := S) w
  delta FX96_isSource_18 BX96_isSource_18
  exact q_tA hN w0 (wX96_isSource_19 S Z hS _ _ w0.1 )
theorem wX96_isSource_0 (S Z : Nat → Prop) {hx N : Nat} (hS : ∀ x, fe_mem lX96_isSource x = true → S x) (a0 : Int64) (M : FM) (w : WI Z hx N M) : pq (FX96_isSource_0 a0 M) (QA S Z hx N M) := by
  have hN := w.2.2.1
  have w0 := wk_r (S := S) w
  delta FX96_isSource_0 BX96_isSource_0
  refine pq_fi (fun _ => ?_) (fun _ => ?_)
  · exact q_tA hN w0 (wX96_isSource_18 S Z hS _ w0.1 )
  · refine pq_fi (fun _ => ?_) (fun _ => ?_)
    · exact q_tA hN w0 (wX96_isSource_18 S Z hS _ w0.1 )
    · exact q_tA hN w0 (wX96_isSource_19 S Z hS _ _ w0.1 )
theorem wX96_isSource (S Z : Nat → Prop) {hx N : Nat} (hS : ∀ x, fe_mem lX96_isSource x = true → S x) (a0 : Int64) (M : FM) (w : WI Z hx N M) : pq (FX96_isSource a0 M) (QA S Z hx N M) := wX96_isSource_0 S Z hS a0 M w 
def lX96_writeController : List Nat := [1401, 1402, 1403, 1404]
theorem wX96_writeController_161 (S Z : Nat → Prop) {hx N : Nat} (hS : ∀ x, fe_mem lX96_writeController x = true → S x) (M : FM) (w : WI Z hx N M) : pq (FX96_writeController_161 M) (QV S Z hx N M) := by
  have hN := w.2.2.1
  have w0 := wk_r (S := S) w
  delta FX96_writeController_161 BX96_writeController_161
  exact pq_s w0
theorem wX96_writeController_107 (S Z : Nat → Prop) {hx N : Nat} (hS : ∀ x, fe_mem lX96_writeController x = true → S x) (a0 : Nat) (a1 : Int64) (a3 : Int64) (M : FM) (w : WI Z hx N M) (z_a0 : Z a0) : pq (FX96_writeController_107 a0 a1 a3 M) (QV S Z hx N M) := by
  have hN := w.2.2.1
  have w0 := wk_r (S := S) w
  delta FX96_writeController_107 BX96_writeController_107
  refine pq_g (fun g1 => ?_)
  refine pq_b (wX96_contextAt S Z (sb rfl hS) _ _ _ _ _ w0.1 z_a0) (fun r2 K3 => ?_)
  have w4 := wk_t w0 K3 hN
  refine pq_fi (fun _ => ?_) (fun _ => ?_)
  · exact q_tV hN w4 (wX96_writeController_161 S Z hS _ w4.1 )
  · refine pq_b (wX96_isSource S Z (sb rfl hS) _ _ w4.1 ) (fun r5 K6 => ?_)
    have w7 := wk_t w4 K6 hN
    refine pq_fi (fun _ => ?_) (fun _ => ?_)
    · exact q_tV hN w7 (wX96_writeController_161 S Z hS _ w7.1 )
    · refine pq_g (fun g8 => ?_)
      refine pq_b (wX96_enables S Z (sb rfl hS) _ _ _ _ w7.1 z_a0) (fun r9 K10 => ?_)
      have w11 := wk_t w7 K10 hN
      refine pq_fi (fun _ => ?_) (fun _ => ?_)
      · exact q_tV hN w11 (wX96_writeController_161 S Z hS _ w11.1 )
      · refine pq_g (fun g12 => ?_)
        have z13 := wk_z (i := 0) (f := 401) w11 rfl z_a0
        have f14 := sS_401 w11.1.1 g12
        refine pq_g (fun g15 => ?_)
        extract_lets +onlyGivenNames M17
        have w16 : Wk S Z hx N M M17 := wk_aI hN w11 rfl g15.1 z13 (sy_s f14 (hS 1401 rfl))
        exact q_tV hN w16 (wX96_writeController_161 S Z hS _ w16.1 )
theorem wX96_writeController_76 (S Z : Nat → Prop) {hx N : Nat} (hS : ∀ x, fe_mem lX96_writeController x = true → S x) (a0 : Nat) (a1 : Int64) (a3 : Int64) (M : FM) (w : WI Z hx N M) (z_a0 : Z a0) : pq (FX96_writeController_76 a0 a1 a3 M) (QV S Z hx N M) := by
  have hN := w.2.2.1
  have w0 := wk_r (S := S) w
  delta FX96_writeController_76 BX96_writeController_76
  refine pq_g (fun g1 => ?_)
  refine pq_b (wX96_contextAt S Z (sb rfl hS) _ _ _ _ _ w0.1 z_a0) (fun r2 K3 => ?_)
  have w4 := wk_t w0 K3 hN
  refine pq_fi (fun _ => ?_) (fun _ => ?_)
  · exact q_tV hN w4 (wX96_writeController_107 S Z hS _ _ _ _ w4.1 z_a0)
  · refine pq_g (fun g5 => ?_)
    have z6 := wk_z (i := 0) (f := 404) w4 rfl z_a0
    have f7 := sS_404 w4.1.1 g5
    refine pq_g (fun g8 => ?_)
    extract_lets +onlyGivenNames M10
    have w9 : Wk S Z hx N M M10 := wk_aI hN w4 rfl g8.1 z6 (sy_s f7 (hS 1404 rfl))
    exact q_tV hN w9 (wX96_writeController_107 S Z hS _ _ _ _ w9.1 z_a0)
theorem wX96_writeController_46 (S Z : Nat → Prop) {hx N : Nat} (hS : ∀ x, fe_mem lX96_writeController x = true → S x) (a0 : Nat) (a1 : Int64) (a3 : Int64) (M : FM) (w : WI Z hx N M) (z_a0 : Z a0) : pq (FX96_writeController_46 a0 a1 a3 M) (QV S Z hx N M) := by
  have hN := w.2.2.1
  have w0 := wk_r (S := S) w
  delta FX96_writeController_46 BX96_writeController_46
  refine pq_g (fun g1 => ?_)
  refine pq_b (wX96_contextAt S Z (sb rfl hS) _ _ _ _ _ w0.1 z_a0) (fun r2 K3 => ?_)
  have w4 := wk_t w0 K3 hN
  refine pq_fi (fun _ => ?_) (fun _ => ?_)
  · exact q_tV hN w4 (wX96_writeController_76 S Z hS _ _ _ _ w4.1 z_a0)
  · refine pq_g (fun g5 => ?_)
    have z6 := wk_z (i := 0) (f := 403) w4 rfl z_a0
    have f7 := sS_403 w4.1.1 g5
    refine pq_g (fun g8 => ?_)
    extract_lets +onlyGivenNames M10
    have w9 : Wk S Z hx N M M10 := wk_aI hN w4 rfl g8.1 z6 (sy_s f7 (hS 1403 rfl))
    exact q_tV hN w9 (wX96_writeController_76 S Z hS _ _ _ _ w9.1 z_a0)
theorem wX96_writeController_0 (S Z : Nat → Prop) {hx N : Nat} (hS : ∀ x, fe_mem lX96_writeController x = true → S x) (a0 : Nat) (a1 : Int64) (a3 : Int64) (M : FM) (w : WI Z hx N M) (z_a0 : Z a0) : pq (FX96_writeController_0 a0 a1 a3 M) (QV S Z hx N M) := by
  have hN := w.2.2.1
  have w0 := wk_r (S := S) w
  delta FX96_writeController_0 BX96_writeController_0
  refine pq_fi (fun _ => ?_) (fun _ => ?_)
  · exact q_tV hN w0 (wX96_writeController_46 S Z hS _ _ _ _ w0.1 z_a0)
  · refine pq_n ?_
    refine pq_fi (fun _ => ?_) (fun _ => ?_)
    · refine pq_n ?_
      refine pq_b (wX96_isSource S Z (sb rfl hS) _ _ w0.1 ) (fun r1 K2 => ?_)
      have w3 := wk_t w0 K2 hN
      refine pq_fi (fun _ => ?_) (fun _ => ?_)
      · exact q_tV hN w3 (wX96_writeController_46 S Z hS _ _ _ _ w3.1 z_a0)
      · refine pq_g (fun g4 => ?_)
        have z5 := wk_z (i := 0) (f := 402) w3 rfl z_a0
        have f6 := sS_402 w3.1.1 g4
        refine pq_n ?_
        refine pq_g (fun g7 => ?_)
        extract_lets +onlyGivenNames M9
        have w8 : Wk S Z hx N M M9 := wk_aI hN w3 rfl g7.1 z5 (sy_s f6 (hS 1402 rfl))
        exact q_tV hN w8 (wX96_writeController_46 S Z hS _ _ _ _ w8.1 z_a0)
    · exact q_tV hN w0 (wX96_writeController_46 S Z hS _ _ _ _ w0.1 z_a0)
theorem wX96_writeController (S Z : Nat → Prop) {hx N : Nat} (hS : ∀ x, fe_mem lX96_writeController x = true → S x) (a0 : Nat) (a1 : Int64) (a3 : Int64) (M : FM) (w : WI Z hx N M) (z_a0 : Z a0) : pq (FX96_writeController a0 a1 a3 M) (QV S Z hx N M) := wX96_writeController_0 S Z hS a0 a1 a3 M w z_a0
def lX96_space : List Nat := []
theorem wX96_space_13 (S Z : Nat → Prop) {hx N : Nat} (hS : ∀ x, fe_mem lX96_space x = true → S x) (a0 : Nat) (s0 : Int32) (M : FM) (w : WI Z hx N M) (z_a0 : Z a0) : pq (FX96_space_13 a0 s0 M) (QA S Z hx N M) := by
  have hN := w.2.2.1
  have w0 := wk_r (S := S) w
  delta FX96_space_13 BX96_space_13
  refine pq_g (fun g1 => ?_)
  exact pq_s w0
theorem wX96_space_0 (S Z : Nat → Prop) {hx N : Nat} (hS : ∀ x, fe_mem lX96_space x = true → S x) (a0 : Nat) (M : FM) (w : WI Z hx N M) (z_a0 : Z a0) : pq (FX96_space_0 a0 M) (QA S Z hx N M) := by
  have hN := w.2.2.1
  have w0 := wk_r (S := S) w
  delta FX96_space_0 BX96_space_0
  refine pq_g (fun g1 => ?_)
  refine pq_fi (fun _ => ?_) (fun _ => ?_)
  · exact q_tA hN w0 (wX96_space_13 S Z hS _ _ _ w0.1 z_a0)
  · exact q_tA hN w0 (wX96_space_13 S Z hS _ _ _ w0.1 z_a0)
theorem wX96_space (S Z : Nat → Prop) {hx N : Nat} (hS : ∀ x, fe_mem lX96_space x = true → S x) (a0 : Nat) (M : FM) (w : WI Z hx N M) (z_a0 : Z a0) : pq (FX96_space a0 M) (QA S Z hx N M) := wX96_space_0 S Z hS a0 M w z_a0
def lX96_takeIn : List Nat := [408, 411, 1410]
theorem wX96_takeIn_0 (S Z : Nat → Prop) {hx N : Nat} (hS : ∀ x, fe_mem lX96_takeIn x = true → S x) (a0 : Nat) (a1 : Int32) (M : FM) (w : WI Z hx N M) (z_a0 : Z a0) : pq (FX96_takeIn_0 a0 a1 M) (QA S Z hx N M) := by
  have hN := w.2.2.1
  have w0 := wk_r (S := S) w
  delta FX96_takeIn_0 BX96_takeIn_0
  refine pq_g (fun g1 => ?_)
  refine pq_b (wX96_space S Z (sb rfl hS) _ _ w0.1 z_a0) (fun r2 K3 => ?_)
  have w4 := wk_t w0 K3 hN
  refine pq_fi (fun _ => ?_) (fun _ => ?_)
  · refine pq_g (fun g5 => ?_)
    refine pq_g (fun _ => ?_)
    extract_lets +onlyGivenNames M7
    have w6 : Wk S Z hx N M M7 := wk_fI hN w4 rfl rfl g5 z_a0 (Or.inr (hS 408 rfl))
    refine pq_g (fun _ => ?_)
    exact pq_s w6
  · refine pq_g (fun g8 => ?_)
    have z9 := wk_z (i := 0) (f := 410) w4 rfl z_a0
    have f10 := sS_410 w4.1.1 g8
    refine pq_g (fun g11 => ?_)
    refine pq_g (fun g12 => ?_)
    extract_lets +onlyGivenNames M14
    have w13 : Wk S Z hx N M M14 := wk_aI hN w4 rfl g12.1 z9 (sy_s f10 (hS 1410 rfl))
    refine pq_g (fun g15 => ?_)
    refine pq_g (fun g16 => ?_)
    extract_lets +onlyGivenNames M18
    have w17 : Wk S Z hx N M M18 := wk_fI hN w13 rfl rfl g16 z_a0 (Or.inr (hS 411 rfl))
    refine pq_g (fun _ => ?_)
    exact pq_s w17
theorem wX96_takeIn (S Z : Nat → Prop) {hx N : Nat} (hS : ∀ x, fe_mem lX96_takeIn x = true → S x) (a0 : Nat) (a1 : Int32) (M : FM) (w : WI Z hx N M) (z_a0 : Z a0) : pq (FX96_takeIn a0 a1 M) (QA S Z hx N M) := wX96_takeIn_0 S Z hS a0 a1 M w z_a0
def lX96_send : List Nat := [408, 409, 411, 413, 1410, 1412]
theorem wX96_send_61 (S Z : Nat → Prop) {hx N : Nat} (hS : ∀ x, fe_mem lX96_send x = true → S x) (a0 : Nat) (M : FM) (w : WI Z hx N M) (z_a0 : Z a0) : pq (FX96_send_61 a0 M) (QV S Z hx N M) := by
  have hN := w.2.2.1
  have w0 := wk_r (S := S) w
  delta FX96_send_61 BX96_send_61
  refine pq_g (fun g1 => ?_)
  refine pq_g (fun _ => ?_)
  extract_lets +onlyGivenNames M3
  have w2 : Wk S Z hx N M M3 := wk_fI hN w0 rfl rfl g1 z_a0 (Or.inr (hS 409 rfl))
  exact pq_s w2
theorem wX96_send_30 (S Z : Nat → Prop) {hx N : Nat} (hS : ∀ x, fe_mem lX96_send x = true → S x) (a0 : Nat) (s0 : Nat) (s1 : Int32) (M : FM) (w : WI Z hx N M) (z_a0 : Z a0) (z_s0 : Z s0) : pq (FX96_send_30 a0 s0 s1 M) (QV S Z hx N M) := by
  have hN := w.2.2.1
  have w0 := wk_r (S := S) w
  delta FX96_send_30 BX96_send_30
  refine pq_g (fun g1 => ?_)
  refine pq_g (fun _ => ?_)
  extract_lets +onlyGivenNames M3
  have w2 : Wk S Z hx N M M3 := wk_fI hN w0 rfl rfl g1 z_s0 (Or.inr (hS 408 rfl))
  exact q_tV hN w2 (wX96_send_61 S Z hS _ _ w2.1 z_a0)
theorem wX96_send_25 (S Z : Nat → Prop) {hx N : Nat} (hS : ∀ x, fe_mem lX96_send x = true → S x) (a0 : Nat) (s0 : Nat) (M : FM) (w : WI Z hx N M) (z_a0 : Z a0) (z_s0 : Z s0) : pq (FX96_send_25 a0 s0 M) (QV S Z hx N M) := by
  have hN := w.2.2.1
  have w0 := wk_r (S := S) w
  delta FX96_send_25 BX96_send_25
  exact q_tV hN w0 (wX96_send_30 S Z hS _ _ _ _ w0.1 z_a0 z_s0)
theorem wX96_send_0 (S Z : Nat → Prop) {hx N : Nat} (hS : ∀ x, fe_mem lX96_send x = true → S x) (a0 : Nat) (a1 : Int32) (M : FM) (w : WI Z hx N M) (z_a0 : Z a0) : pq (FX96_send_0 a0 a1 M) (QV S Z hx N M) := by
  have hN := w.2.2.1
  have w0 := wk_r (S := S) w
  delta FX96_send_0 BX96_send_0
  refine pq_g (fun g1 => ?_)
  refine pq_b (wX96_hasBit S Z (sb rfl hS) _ _ _ _ w0.1 z_a0) (fun r2 K3 => ?_)
  have w4 := wk_t w0 K3 hN
  refine pq_fi (fun _ => ?_) (fun _ => ?_)
  · refine pq_g (fun g5 => ?_)
    have z6 := wk_z (i := 0) (f := 412) w4 rfl z_a0
    have f7 := sS_412 w4.1.1 g5
    refine pq_g (fun g8 => ?_)
    refine pq_n ?_
    refine pq_g (fun g9 => ?_)
    extract_lets +onlyGivenNames M11
    have w10 : Wk S Z hx N M M11 := wk_aI hN w4 rfl g9.1 z6 (sy_s f7 (hS 1412 rfl))
    refine pq_g (fun g12 => ?_)
    refine pq_g (fun g13 => ?_)
    extract_lets +onlyGivenNames M15
    have w14 : Wk S Z hx N M M15 := wk_fL hN w10 rfl rfl g13 z_a0 (Or.inr (hS 413 rfl))
    exact q_tV hN w14 (wX96_send_61 S Z hS _ _ w14.1 z_a0)
  · refine pq_g (fun g16 => ?_)
    refine pq_b (wX96_takeIn S Z (sb rfl hS) _ _ _ w4.1 z_a0) (fun r17 K18 => ?_)
    have w19 := wk_t w4 K18 hN
    refine pq_fi (fun _ => ?_) (fun _ => ?_)
    · exact q_tV hN w19 (wX96_send_25 S Z hS _ _ _ w19.1 z_a0 z_a0)
    · refine pq_g (fun g20 => ?_)
      refine pq_fi (fun _ => ?_) (fun _ => ?_)
      · exact q_tV hN w19 (wX96_send_30 S Z hS _ _ _ _ w19.1 z_a0 z_a0)
      · exact q_tV hN w19 (wX96_send_25 S Z hS _ _ _ w19.1 z_a0 z_a0)
theorem wX96_send (S Z : Nat → Prop) {hx N : Nat} (hS : ∀ x, fe_mem lX96_send x = true → S x) (a0 : Nat) (a1 : Int32) (M : FM) (w : WI Z hx N M) (z_a0 : Z a0) : pq (FX96_send a0 a1 M) (QV S Z hx N M) := wX96_send_0 S Z hS a0 a1 M w z_a0
def lX96_writeSerial : List Nat := [407, 408, 409, 411, 413, 1405, 1406, 1410, 1412]
theorem wX96_writeSerial_215 (S Z : Nat → Prop) {hx N : Nat} (hS : ∀ x, fe_mem lX96_writeSerial x = true → S x) (M : FM) (w : WI Z hx N M) : pq (FX96_writeSerial_215 M) (QV S Z hx N M) := by
  have hN := w.2.2.1
  have w0 := wk_r (S := S) w
  delta FX96_writeSerial_215 BX96_writeSerial_215
  exact pq_s w0
theorem wX96_writeSerial_208 (S Z : Nat → Prop) {hx N : Nat} (hS : ∀ x, fe_mem lX96_writeSerial x = true → S x) (a0 : Nat) (a1 : Int32) (a2 : Int32) (M : FM) (w : WI Z hx N M) (z_a0 : Z a0) : pq (FX96_writeSerial_208 a0 a1 a2 M) (QV S Z hx N M) := by
  have hN := w.2.2.1
  have w0 := wk_r (S := S) w
  delta FX96_writeSerial_208 BX96_writeSerial_208
  refine pq_g (fun g1 => ?_)
  have z2 := wk_z (i := 0) (f := 405) w0 rfl z_a0
  have f3 := sS_405 w0.1.1 g1
  refine pq_g (fun g4 => ?_)
  extract_lets +onlyGivenNames M6
  have w5 : Wk S Z hx N M M6 := wk_aI hN w0 rfl g4.1 z2 (sy_s f3 (hS 1405 rfl))
  exact q_tV hN w5 (wX96_writeSerial_215 S Z hS _ w5.1 )
theorem wX96_writeSerial_205 (S Z : Nat → Prop) {hx N : Nat} (hS : ∀ x, fe_mem lX96_writeSerial x = true → S x) (M : FM) (w : WI Z hx N M) : pq (FX96_writeSerial_205 M) (QV S Z hx N M) := by
  have hN := w.2.2.1
  have w0 := wk_r (S := S) w
  delta FX96_writeSerial_205 BX96_writeSerial_205
  exact q_tV hN w0 (wX96_writeSerial_215 S Z hS _ w0.1 )
theorem wX96_writeSerial_186 (S Z : Nat → Prop) {hx N : Nat} (hS : ∀ x, fe_mem lX96_writeSerial x = true → S x) (s0 : Nat) (s1 : Int32) (M : FM) (w : WI Z hx N M) (z_s0 : Z s0) : pq (FX96_writeSerial_186 s0 s1 M) (QV S Z hx N M) := by
  have hN := w.2.2.1
  have w0 := wk_r (S := S) w
  delta FX96_writeSerial_186 BX96_writeSerial_186
  refine pq_g (fun g1 => ?_)
  refine pq_g (fun _ => ?_)
  extract_lets +onlyGivenNames M3
  have w2 : Wk S Z hx N M M3 := wk_fI hN w0 rfl rfl g1 z_s0 (Or.inr (hS 407 rfl))
  exact q_tV hN w2 (wX96_writeSerial_215 S Z hS _ w2.1 )
theorem wX96_writeSerial_170 (S Z : Nat → Prop) {hx N : Nat} (hS : ∀ x, fe_mem lX96_writeSerial x = true → S x) (a0 : Nat) (a2 : Int32) (s0 : Nat) (s1 : Int32) (M : FM) (w : WI Z hx N M) (z_a0 : Z a0) (z_s0 : Z s0) : pq (FX96_writeSerial_170 a0 a2 s0 s1 M) (QV S Z hx N M) := by
  have hN := w.2.2.1
  have w0 := wk_r (S := S) w
  delta FX96_writeSerial_170 BX96_writeSerial_170
  refine pq_g (fun g1 => ?_)
  extract_lets +onlyGivenNames M3
  have w2 : Wk S Z hx N M M3 := wk_fI hN w0 rfl rfl g1 z_s0 (Or.inr (hS 411 rfl))
  refine pq_fi (fun _ => ?_) (fun _ => ?_)
  · exact q_tV hN w2 (wX96_writeSerial_186 S Z hS _ _ _ w2.1 z_a0)
  · exact q_tV hN w2 (wX96_writeSerial_186 S Z hS _ _ _ w2.1 z_a0)
theorem wX96_writeSerial_162 (S Z : Nat → Prop) {hx N : Nat} (hS : ∀ x, fe_mem lX96_writeSerial x = true → S x) (a0 : Nat) (a2 : Int32) (s0 : Nat) (M : FM) (w : WI Z hx N M) (z_a0 : Z a0) (z_s0 : Z s0) : pq (FX96_writeSerial_162 a0 a2 s0 M) (QV S Z hx N M) := by
  have hN := w.2.2.1
  have w0 := wk_r (S := S) w
  delta FX96_writeSerial_162 BX96_writeSerial_162
  exact q_tV hN w0 (wX96_writeSerial_170 S Z hS _ _ _ _ _ w0.1 z_a0 z_s0)
theorem wX96_writeSerial_147 (S Z : Nat → Prop) {hx N : Nat} (hS : ∀ x, fe_mem lX96_writeSerial x = true → S x) (a0 : Nat) (a2 : Int32) (s0 : Int32) (M : FM) (w : WI Z hx N M) (z_a0 : Z a0) : pq (FX96_writeSerial_147 a0 a2 s0 M) (QV S Z hx N M) := by
  have hN := w.2.2.1
  have w0 := wk_r (S := S) w
  delta FX96_writeSerial_147 BX96_writeSerial_147
  refine pq_fi (fun _ => ?_) (fun _ => ?_)
  · refine pq_fi (fun _ => ?_) (fun _ => ?_)
    · exact q_tV hN w0 (wX96_writeSerial_162 S Z hS _ _ _ _ w0.1 z_a0 z_a0)
    · refine pq_g (fun g1 => ?_)
      exact q_tV hN w0 (wX96_writeSerial_170 S Z hS _ _ _ _ _ w0.1 z_a0 z_a0)
  · exact q_tV hN w0 (wX96_writeSerial_162 S Z hS _ _ _ _ w0.1 z_a0 z_a0)
theorem wX96_writeSerial_139 (S Z : Nat → Prop) {hx N : Nat} (hS : ∀ x, fe_mem lX96_writeSerial x = true → S x) (a0 : Nat) (a2 : Int32) (s0 : Int32) (s1 : Int32) (M : FM) (w : WI Z hx N M) (z_a0 : Z a0) : pq (FX96_writeSerial_139 a0 a2 s0 s1 M) (QV S Z hx N M) := by
  have hN := w.2.2.1
  have w0 := wk_r (S := S) w
  delta FX96_writeSerial_139 BX96_writeSerial_139
  refine pq_fi (fun _ => ?_) (fun _ => ?_)
  · exact q_tV hN w0 (wX96_writeSerial_147 S Z hS _ _ _ _ w0.1 z_a0)
  · exact q_tV hN w0 (wX96_writeSerial_147 S Z hS _ _ _ _ w0.1 z_a0)
theorem wX96_writeSerial_107 (S Z : Nat → Prop) {hx N : Nat} (hS : ∀ x, fe_mem lX96_writeSerial x = true → S x) (a0 : Nat) (a2 : Int32) (s0 : Nat) (s1 : Int32) (M : FM) (w : WI Z hx N M) (z_a0 : Z a0) (z_s0 : Z s0) : pq (FX96_writeSerial_107 a0 a2 s0 s1 M) (QV S Z hx N M) := by
  have hN := w.2.2.1
  have w0 := wk_r (S := S) w
  delta FX96_writeSerial_107 BX96_writeSerial_107
  refine pq_g (fun g1 => ?_)
  refine pq_g (fun _ => ?_)
  extract_lets +onlyGivenNames M3
  have w2 : Wk S Z hx N M M3 := wk_fI hN w0 rfl rfl g1 z_s0 (Or.inr (hS 409 rfl))
  refine pq_g (fun g4 => ?_)
  have z5 := wk_z (i := 0) (f := 405) w2 rfl z_a0
  have f6 := sS_405 w2.1.1 g4
  refine pq_g (fun g7 => ?_)
  extract_lets +onlyGivenNames M9
  have w8 : Wk S Z hx N M M9 := wk_aI hN w2 rfl g7.1 z5 (sy_s f6 (hS 1405 rfl))
  exact q_tV hN w8 (wX96_writeSerial_215 S Z hS _ w8.1 )
theorem wX96_writeSerial_106 (S Z : Nat → Prop) {hx N : Nat} (hS : ∀ x, fe_mem lX96_writeSerial x = true → S x) (a0 : Nat) (a2 : Int32) (s0 : Nat) (M : FM) (w : WI Z hx N M) (z_a0 : Z a0) (z_s0 : Z s0) : pq (FX96_writeSerial_106 a0 a2 s0 M) (QV S Z hx N M) := by
  have hN := w.2.2.1
  have w0 := wk_r (S := S) w
  delta FX96_writeSerial_106 BX96_writeSerial_106
  exact q_tV hN w0 (wX96_writeSerial_107 S Z hS _ _ _ _ _ w0.1 z_a0 z_s0)
theorem wX96_writeSerial_102 (S Z : Nat → Prop) {hx N : Nat} (hS : ∀ x, fe_mem lX96_writeSerial x = true → S x) (a0 : Nat) (a2 : Int32) (s0 : Nat) (M : FM) (w : WI Z hx N M) (z_a0 : Z a0) (z_s0 : Z s0) : pq (FX96_writeSerial_102 a0 a2 s0 M) (QV S Z hx N M) := by
  have hN := w.2.2.1
  have w0 := wk_r (S := S) w
  delta FX96_writeSerial_102 BX96_writeSerial_102
  exact q_tV hN w0 (wX96_writeSerial_107 S Z hS _ _ _ _ _ w0.1 z_a0 z_s0)
theorem wX96_writeSerial_23 (S Z : Nat → Prop) {hx N : Nat} (hS : ∀ x, fe_mem lX96_writeSerial x = true → S x) (a0 : Nat) (a1 : Int32) (a2 : Int32) (M : FM) (w : WI Z hx N M) (z_a0 : Z a0) : pq (FX96_writeSerial_23 a0 a1 a2 M) (QV S Z hx N M) := by
  have hN := w.2.2.1
  have w0 := wk_r (S := S) w
  delta FX96_writeSerial_23 BX96_writeSerial_23
  refine pq_fi (fun _ => ?_) (fun _ => ?_)
  · refine pq_g (fun g1 => ?_)
    refine pq_b (wX96_send S Z (sb rfl hS) _ _ _ w0.1 z_a0) (fun r2 K3 => ?_)
    have w4 := wk_t w0 K3 hN
    exact q_tV hN w4 (wX96_writeSerial_215 S Z hS _ w4.1 )
  · refine pq_fi (fun _ => ?_) (fun _ => ?_)
    · refine pq_g (fun g5 => ?_)
      refine pq_fi (fun _ => ?_) (fun _ => ?_)
      · refine pq_g (fun g6 => ?_)
        refine pq_b (wX96_hasBit S Z (sb rfl hS) _ _ _ _ w0.1 z_a0) (fun r7 K8 => ?_)
        have w9 := wk_t w0 K8 hN
        refine pq_fi (fun _ => ?_) (fun _ => ?_)
        · refine pq_fi (fun _ => ?_) (fun _ => ?_)
          · exact q_tV hN w9 (wX96_writeSerial_102 S Z hS _ _ _ _ w9.1 z_a0 z_a0)
          · exact q_tV hN w9 (wX96_writeSerial_106 S Z hS _ _ _ _ w9.1 z_a0 z_a0)
        · exact q_tV hN w9 (wX96_writeSerial_106 S Z hS _ _ _ _ w9.1 z_a0 z_a0)
      · exact q_tV hN w0 (wX96_writeSerial_102 S Z hS _ _ _ _ w0.1 z_a0 z_a0)
    · refine pq_fi (fun _ => ?_) (fun _ => ?_)
      · refine pq_g (fun g10 => ?_)
        refine pq_fi (fun _ => ?_) (fun _ => ?_)
        · exact q_tV hN w0 (wX96_writeSerial_139 S Z hS _ _ _ _ _ w0.1 z_a0)
        · exact q_tV hN w0 (wX96_writeSerial_139 S Z hS _ _ _ _ _ w0.1 z_a0)
      · refine pq_fi (fun _ => ?_) (fun _ => ?_)
        · exact q_tV hN w0 (wX96_writeSerial_208 S Z hS _ _ _ _ w0.1 z_a0)
        · refine pq_fi (fun _ => ?_) (fun _ => ?_)
          · refine pq_g (fun g11 => ?_)
            have z12 := wk_z (i := 0) (f := 405) w0 rfl z_a0
            have f13 := sS_405 w0.1.1 g11
            refine pq_g (fun g14 => ?_)
            extract_lets +onlyGivenNames M16
            have w15 : Wk S Z hx N M M16 := wk_aI hN w0 rfl g14.1 z12 (sy_s f13 (hS 1405 rfl))
            exact q_tV hN w15 (wX96_writeSerial_215 S Z hS _ w15.1 )
          · refine pq_fi (fun _ => ?_) (fun _ => ?_)
            · exact q_tV hN w0 (wX96_writeSerial_205 S Z hS _ w0.1 )
            · refine pq_fi (fun _ => ?_) (fun _ => ?_)
              · exact q_tV hN w0 (wX96_writeSerial_205 S Z hS _ w0.1 )
              · exact q_tV hN w0 (wX96_writeSerial_208 S Z hS _ _ _ _ w0.1 z_a0)
theorem wX96_writeSerial_0 (S Z : Nat → Prop) {hx N : Nat} (hS : ∀ x, fe_mem lX96_writeSerial x = true → S x) (a0 : Nat) (a1 : Int32) (a2 : Int32) (M : FM) (w : WI Z hx N M) (z_a0 : Z a0) : pq (FX96_writeSerial_0 a0 a1 a2 M) (QV S Z hx N M) := by
  have hN := w.2.2.1
  have w0 := wk_r (S := S) w
  delta FX96_writeSerial_0 BX96_writeSerial_0
  refine pq_fi (fun _ => ?_) (fun _ => ?_)
  · exact q_tV hN w0 (wX96_writeSerial_23 S Z hS _ _ _ _ w0.1 z_a0)
  · refine pq_g (fun g1 => ?_)
    refine pq_b (wX96_hasBit S Z (sb rfl hS) _ _ _ _ w0.1 z_a0) (fun r2 K3 => ?_)
    have w4 := wk_t w0 K3 hN
    refine pq_fi (fun _ => ?_) (fun _ => ?_)
    · exact q_tV hN w4 (wX96_writeSerial_23 S Z hS _ _ _ _ w4.1 z_a0)
    · refine pq_g (fun g5 => ?_)
      have z6 := wk_z (i := 0) (f := 406) w4 rfl z_a0
      have f7 := sS_406 w4.1.1 g5
      refine pq_g (fun g8 => ?_)
      extract_lets +onlyGivenNames M10
      have w9 : Wk S Z hx N M M10 := wk_aI hN w4 rfl g8.1 z6 (sy_s f7 (hS 1406 rfl))
      exact pq_s w9
theorem wX96_writeSerial (S Z : Nat → Prop) {hx N : Nat} (hS : ∀ x, fe_mem lX96_writeSerial x = true → S x) (a0 : Nat) (a1 : Int32) (a2 : Int32) (M : FM) (w : WI Z hx N M) (z_a0 : Z a0) : pq (FX96_writeSerial a0 a1 a2 M) (QV S Z hx N M) := wX96_writeSerial_0 S Z hS a0 a1 a2 M w z_a0
def lX96_write : List Nat := [394, 398, 407, 408, 409, 411, 413, 1396, 1397, 1399, 1400, 1401, 1402, 1403, 1404, 1405, 1406, 1410, 1412]
theorem wX96_write_96 (S Z : Nat → Prop) {hx N : Nat} (hS : ∀ x, fe_mem lX96_write x = true → S x) (n : Nat) (a0 : Nat) (M : FM) (w : WI Z hx N M) (z_a0 : Z a0) : pq (FX96_write_96 n a0 M) (QV S Z hx N M) := by
  have hN := w.2.2.1
  have w0 := wk_r (S := S) w
  delta FX96_write_96 BX96_write_96
  refine pq_g (fun g1 => ?_)
  refine pq_b (wX96_settle S Z (sb rfl hS) n _ _ w0.1 z_a0) (fun r2 K3 => ?_)
  have w4 := wk_t w0 K3 hN
  exact pq_s w4
theorem wX96_write_64 (S Z : Nat → Prop) {hx N : Nat} (hS : ∀ x, fe_mem lX96_write x = true → S x) (n : Nat) (a0 : Nat) (a1 : Int32) (a2 : Int64) (a4 : Int32) (a5 : Int64) (M : FM) (w : WI Z hx N M) (z_a0 : Z a0) : pq (FX96_write_64 n a0 a1 a2 a4 a5 M) (QV S Z hx N M) := by
  have hN := w.2.2.1
  have w0 := wk_r (S := S) w
  delta FX96_write_64 BX96_write_64
  refine pq_fi (fun _ => ?_) (fun _ => ?_)
  · refine pq_fi (fun _ => ?_) (fun _ => ?_)
    · refine pq_fi (fun _ => ?_) (fun _ => ?_)
      · exact q_tV hN w0 (wX96_write_96 S Z hS n _ _ w0.1 z_a0)
      · refine pq_g (fun g1 => ?_)
        refine pq_b (wX96_writeSerial S Z (sb rfl hS) _ _ _ _ w0.1 z_a0) (fun r2 K3 => ?_)
        have w4 := wk_t w0 K3 hN
        exact q_tV hN w4 (wX96_write_96 S Z hS n _ _ w4.1 z_a0)
    · exact q_tV hN w0 (wX96_write_96 S Z hS n _ _ w0.1 z_a0)
  · exact q_tV hN w0 (wX96_write_96 S Z hS n _ _ w0.1 z_a0)
theorem wX96_write_16 (S Z : Nat → Prop) {hx N : Nat} (hS : ∀ x, fe_mem lX96_write x = true → S x) (n : Nat) (a0 : Nat) (a1 : Int32) (a2 : Int64) (a4 : Int32) (a5 : Int64) (s0 : Nat) (s1 : Int32) (M : FM) (w : WI Z hx N M) (z_a0 : Z a0) (z_s0 : Z s0) : pq (FX96_write_16 n a0 a1 a2 a4 a5 s0 s1 M) (QV S Z hx N M) := by
  have hN := w.2.2.1
  have w0 := wk_r (S := S) w
  delta FX96_write_16 BX96_write_16
  refine pq_g (fun g1 => ?_)
  extract_lets +onlyGivenNames M3
  have w2 : Wk S Z hx N M M3 := wk_fI hN w0 rfl rfl g1 z_s0 (Or.inr (hS 394 rfl))
  refine pq_g (fun g4 => ?_)
  refine pq_fi (fun _ => ?_) (fun _ => ?_)
  · refine pq_fi (fun _ => ?_) (fun _ => ?_)
    · refine pq_g (fun g5 => ?_)
      refine pq_b (wX96_writeTimer S Z (sb rfl hS) _ _ _ _ _ w2.1 z_a0) (fun r6 K7 => ?_)
      have w8 := wk_t w2 K7 hN
      exact q_tV hN w8 (wX96_write_96 S Z hS n _ _ w8.1 z_a0)
    · refine pq_fi (fun _ => ?_) (fun _ => ?_)
      · refine pq_fi (fun _ => ?_) (fun _ => ?_)
        · refine pq_g (fun g9 => ?_)
          refine pq_b (wX96_writeController S Z (sb rfl hS) _ _ _ _ w2.1 z_a0) (fun r10 K11 => ?_)
          have w12 := wk_t w2 K11 hN
          exact q_tV hN w12 (wX96_write_96 S Z hS n _ _ w12.1 z_a0)
        · exact q_tV hN w2 (wX96_write_64 S Z hS n _ _ _ _ _ _ w2.1 z_a0)
      · exact q_tV hN w2 (wX96_write_64 S Z hS n _ _ _ _ _ _ w2.1 z_a0)
  · exact pq_s w2
theorem wX96_write_0 (S Z : Nat → Prop) {hx N : Nat} (hS : ∀ x, fe_mem lX96_write x = true → S x) (n : Nat) (a0 : Nat) (a1 : Int32) (a2 : Int64) (a4 : Int32) (a5 : Int64) (M : FM) (w : WI Z hx N M) (z_a0 : Z a0) : pq (FX96_write_0 n a0 a1 a2 a4 a5 M) (QV S Z hx N M) := by
  have hN := w.2.2.1
  have w0 := wk_r (S := S) w
  delta FX96_write_0 BX96_write_0
  refine pq_b (wX96_isProper S Z (sb rfl hS) _ _ _ _ w0.1 ) (fun r1 K2 => ?_)
  have w3 := wk_t w0 K2 hN
  refine pq_fi (fun _ => ?_) (fun _ => ?_)
  · exact q_tV hN w3 (wX96_write_16 S Z hS n _ _ _ _ _ _ _ _ w3.1 z_a0 z_a0)
  · exact q_tV hN w3 (wX96_write_16 S Z hS n _ _ _ _ _ _ _ _ w3.1 z_a0 z_a0)
theorem wX96_write (S Z : Nat → Prop) {hx N : Nat} (hS : ∀ x, fe_mem lX96_write x = true → S x) (n : Nat) (a0 : Nat) (a1 : Int32) (a2 : Int64) (a4 : Int32) (a5 : Int64) (M : FM) (w : WI Z hx N M) (z_a0 : Z a0) : pq (FX96_write n a0 a1 a2 a4 a5 M) (QV S Z hx N M) := wX96_write_0 S Z hS n a0 a1 a2 a4 a5 M w z_a0
def lX95_noOffset : List Nat := [324]
theorem wX95_noOffset_38 (S Z : Nat → Prop) {hx N : Nat} (hS : ∀ x, fe_mem lX95_noOffset x = true → S x) (s0 : Int32) (M : FM) (w : WI Z hx N M) : pq (FX95_noOffset_38 s0 M) (QA S Z hx N M) := by
  have hN := w.2.2.1
  have w0 := wk_r (S := S) w
  delta FX95_noOffset_38 BX95_noOffset_38
  refine pq_g (fun _ => ?_)
  exact pq_s w0
theorem wX95_noOffset_23 (S Z : Nat → Prop) {hx N : Nat} (hS : ∀ x, fe_mem lX95_noOffset x = true → S x) (a0 : Nat) (s0 : Nat) (s1 : Int32) (M : FM) (w : WI Z hx N M) (z_a0 : Z a0) (z_s0 : Z s0) : pq (FX95_noOffset_23 a0 s0 s1 M) (QA S Z hx N M) := by
  have hN := w.2.2.1
  have w0 := wk_r (S := S) w
  delta FX95_noOffset_23 BX95_noOffset_23
  refine pq_g (fun g1 => ?_)
  extract_lets +onlyGivenNames M3
  have w2 : Wk S Z hx N M M3 := wk_fI hN w0 rfl rfl g1 z_s0 (Or.inr (hS 324 rfl))
  refine pq_g (fun g4 => ?_)
  refine pq_fi (fun _ => ?_) (fun _ => ?_)
  · exact q_tA hN w2 (wX95_noOffset_38 S Z hS _ _ w2.1 )
  · exact q_tA hN w2 (wX95_noOffset_38 S Z hS _ _ w2.1 )
theorem wX95_noOffset_18 (S Z : Nat → Prop) {hx N : Nat} (hS : ∀ x, fe_mem lX95_noOffset x = true → S x) (a0 : Nat) (s0 : Nat) (M : FM) (w : WI Z hx N M) (z_a0 : Z a0) (z_s0 : Z s0) : pq (FX95_noOffset_18 a0 s0 M) (QA S Z hx N M) := by
  have hN := w.2.2.1
  have w0 := wk_r (S := S) w
  delta FX95_noOffset_18 BX95_noOffset_18
  exact q_tA hN w0 (wX95_noOffset_23 S Z hS _ _ _ _ w0.1 z_a0 z_s0)
theorem wX95_noOffset_0 (S Z : Nat → Prop) {hx N : Nat} (hS : ∀ x, fe_mem lX95_noOffset x = true → S x) (a0 : Nat) (a1 : Int32) (M : FM) (w : WI Z hx N M) (z_a0 : Z a0) : pq (FX95_noOffset_0 a0 a1 M) (QA S Z hx N M) := by
  have hN := w.2.2.1
  have w0 := wk_r (S := S) w
  delta FX95_noOffset_0 BX95_noOffset_0
  refine pq_fi (fun _ => ?_) (fun _ => ?_)
  · exact q_tA hN w0 (wX95_noOffset_18 S Z hS _ _ _ w0.1 z_a0 z_a0)
  · refine pq_fi (fun _ => ?_) (fun _ => ?_)
    · exact q_tA hN w0 (wX95_noOffset_18 S Z hS _ _ _ w0.1 z_a0 z_a0)
    · refine pq_n ?_
      refine pq_fi (fun _ => ?_) (fun _ => ?_)
      · exact q_tA hN w0 (wX95_noOffset_23 S Z hS _ _ _ _ w0.1 z_a0 z_a0)
      · exact q_tA hN w0 (wX95_noOffset_18 S Z hS _ _ _ w0.1 z_a0 z_a0)
theorem wX95_noOffset (S Z : Nat → Prop) {hx N : Nat} (hS : ∀ x, fe_mem lX95_noOffset x = true → S x) (a0 : Nat) (a1 : Int32) (M : FM) (w : WI Z hx N M) (z_a0 : Z a0) : pq (FX95_noOffset a0 a1 M) (QA S Z hx N M) := wX95_noOffset_0 S Z hS a0 a1 M w z_a0
def lX95_setQueue : List Nat := [330, 331, 1334]
theorem wX95_setQueue_161 (S Z : Nat → Prop) {hx N : Nat} (hS : ∀ x, fe_mem lX95_setQueue x = true → S x) (M : FM) (w : WI Z hx N M) : pq (FX95_setQueue_161 M) (QV S Z hx N M) := by
  have hN := w.2.2.1
  have w0 := wk_r (S := S) w
  delta FX95_setQueue_161 BX95_setQueue_161
  exact pq_s w0
theorem wX95_setQueue_160 (S Z : Nat → Prop) {hx N : Nat} (hS : ∀ x, fe_mem lX95_setQueue x = true → S x) (s0 : Nat) (s1 : Int32) (s2 : Int64) (M : FM) (w : WI Z hx N M) (z_s0 : Z s0) (y_s0 : Sy S N M s0) : pq (FX95_setQueue_160 s0 s1 s2 M) (QV S Z hx N M) := by
  have hN := w.2.2.1
  have w0 := wk_r (S := S) w
  delta FX95_setQueue_160 BX95_setQueue_160
  refine pq_g (fun g1 => ?_)
  extract_lets +onlyGivenNames M3
  have w2 : Wk S Z hx N M M3 := wk_aL hN w0 rfl g1.1 z_s0 y_s0
  exact q_tV hN w2 (wX95_setQueue_161 S Z hS _ w2.1 )
theorem wX95_setQueue_87 (S Z : Nat → Prop) {hx N : Nat} (hS : ∀ x, fe_mem lX95_setQueue x = true → S x) (s0 : Nat) (s1 : Int32) (M : FM) (w : WI Z hx N M) (z_s0 : Z s0) : pq (FX95_setQueue_87 s0 s1 M) (QV S Z hx N M) := by
  have hN := w.2.2.1
  have w0 := wk_r (S := S) w
  delta FX95_setQueue_87 BX95_setQueue_87
  refine pq_g (fun g1 => ?_)
  refine pq_g (fun _ => ?_)
  extract_lets +onlyGivenNames M3
  have w2 : Wk S Z hx N M M3 := wk_fI hN w0 rfl rfl g1 z_s0 (Or.inr (hS 331 rfl))
  exact q_tV hN w2 (wX95_setQueue_161 S Z hS _ w2.1 )
theorem wX95_setQueue_63 (S Z : Nat → Prop) {hx N : Nat} (hS : ∀ x, fe_mem lX95_setQueue x = true → S x) (s0 : Nat) (s1 : Int32) (M : FM) (w : WI Z hx N M) (z_s0 : Z s0) : pq (FX95_setQueue_63 s0 s1 M) (QV S Z hx N M) := by
  have hN := w.2.2.1
  have w0 := wk_r (S := S) w
  delta FX95_setQueue_63 BX95_setQueue_63
  refine pq_g (fun g1 => ?_)
  extract_lets +onlyGivenNames M3
  have w2 : Wk S Z hx N M M3 := wk_fI hN w0 rfl rfl g1 z_s0 (Or.inr (hS 330 rfl))
  exact q_tV hN w2 (wX95_setQueue_161 S Z hS _ w2.1 )
theorem wX95_setQueue_55 (S Z : Nat → Prop) {hx N : Nat} (hS : ∀ x, fe_mem lX95_setQueue x = true → S x) (a2 : Int32) (s0 : Nat) (M : FM) (w : WI Z hx N M) (z_s0 : Z s0) : pq (FX95_setQueue_55 a2 s0 M) (QV S Z hx N M) := by
  have hN := w.2.2.1
  have w0 := wk_r (S := S) w
  delta FX95_setQueue_55 BX95_setQueue_55
  exact q_tV hN w0 (wX95_setQueue_63 S Z hS _ _ _ w0.1 z_s0)
theorem wX95_setQueue_21 (S Z : Nat → Prop) {hx N : Nat} (hS : ∀ x, fe_mem lX95_setQueue x = true → S x) (a0 : Nat) (a1 : Int32) (a2 : Int32) (M : FM) (w : WI Z hx N M) (z_a0 : Z a0) : pq (FX95_setQueue_21 a0 a1 a2 M) (QV S Z hx N M) := by
  have hN := w.2.2.1
  have w0 := wk_r (S := S) w
  delta FX95_setQueue_21 BX95_setQueue_21
  refine pq_fi (fun _ => ?_) (fun _ => ?_)
  · refine pq_fi (fun _ => ?_) (fun _ => ?_)
    · exact q_tV hN w0 (wX95_setQueue_55 S Z hS _ _ _ w0.1 z_a0)
    · refine pq_fi (fun _ => ?_) (fun _ => ?_)
      · exact q_tV hN w0 (wX95_setQueue_55 S Z hS _ _ _ w0.1 z_a0)
      · refine pq_fi (fun _ => ?_) (fun _ => ?_)
        · exact q_tV hN w0 (wX95_setQueue_55 S Z hS _ _ _ w0.1 z_a0)
        · refine pq_fi (fun _ => ?_) (fun _ => ?_)
          · exact q_tV hN w0 (wX95_setQueue_55 S Z hS _ _ _ w0.1 z_a0)
          · refine pq_fi (fun _ => ?_) (fun _ => ?_)
            · exact q_tV hN w0 (wX95_setQueue_55 S Z hS _ _ _ w0.1 z_a0)
            · refine pq_g (fun g1 => ?_)
              exact q_tV hN w0 (wX95_setQueue_63 S Z hS _ _ _ w0.1 z_a0)
  · refine pq_fi (fun _ => ?_) (fun _ => ?_)
    · refine pq_n ?_
      refine pq_fi (fun _ => ?_) (fun _ => ?_)
      · exact q_tV hN w0 (wX95_setQueue_87 S Z hS _ _ _ w0.1 z_a0)
      · exact q_tV hN w0 (wX95_setQueue_87 S Z hS _ _ _ w0.1 z_a0)
    · refine pq_n ?_
      refine pq_g (fun g2 => ?_)
      have z3 := wk_z (i := 0) (f := 334) w0 rfl z_a0
      have f4 := sS_334 w0.1.1 g2
      refine pq_g (fun g5 => ?_)
      refine pq_g (fun g6 => ?_)
      have z7 := wk_z (i := 0) (f := 334) w0 rfl z_a0
      have f8 := sS_334 w0.1.1 g6
      refine pq_g (fun g9 => ?_)
      refine pq_g (fun g10 => ?_)
      have z11 := wk_z (i := 0) (f := 334) w0 rfl z_a0
      have f12 := sS_334 w0.1.1 g10
      refine pq_n ?_
      refine pq_fi (fun _ => ?_) (fun _ => ?_)
      · exact q_tV hN w0 (wX95_setQueue_160 S Z hS _ _ _ _ w0.1 z11 (sy_s f12 (hS 1334 rfl)))
      · exact q_tV hN w0 (wX95_setQueue_160 S Z hS _ _ _ _ w0.1 z11 (sy_s f12 (hS 1334 rfl)))
theorem wX95_setQueue_20 (S Z : Nat → Prop) {hx N : Nat} (hS : ∀ x, fe_mem lX95_setQueue x = true → S x) (M : FM) (w : WI Z hx N M) : pq (FX95_setQueue_20 M) (QV S Z hx N M) := by
  have hN := w.2.2.1
  have w0 := wk_r (S := S) w
  delta FX95_setQueue_20 BX95_setQueue_20
  exact pq_s w0
theorem wX95_setQueue_0 (S Z : Nat → Prop) {hx N : Nat} (hS : ∀ x, fe_mem lX95_setQueue x = true → S x) (a0 : Nat) (a1 : Int32) (a2 : Int32) (M : FM) (w : WI Z hx N M) (z_a0 : Z a0) : pq (FX95_setQueue_0 a0 a1 a2 M) (QV S Z hx N M) := by
  have hN := w.2.2.1
  have w0 := wk_r (S := S) w
  delta FX95_setQueue_0 BX95_setQueue_0
  refine pq_g (fun g1 => ?_)
  refine pq_fi (fun _ => ?_) (fun _ => ?_)
  · refine pq_g (fun g2 => ?_)
    refine pq_fi (fun _ => ?_) (fun _ => ?_)
    · exact q_tV hN w0 (wX95_setQueue_21 S Z hS _ _ _ _ w0.1 z_a0)
    · refine pq_fi (fun _ => ?_) (fun _ => ?_)
      · exact q_tV hN w0 (wX95_setQueue_21 S Z hS _ _ _ _ w0.1 z_a0)
      · exact q_tV hN w0 (wX95_setQueue_20 S Z hS _ w0.1 )
  · exact q_tV hN w0 (wX95_setQueue_20 S Z hS _ w0.1 )
theorem wX95_setQueue (S Z : Nat → Prop) {hx N : Nat} (hS : ∀ x, fe_mem lX95_setQueue x = true → S x) (a0 : Nat) (a1 : Int32) (a2 : Int32) (M : FM) (w : WI Z hx N M) (z_a0 : Z a0) : pq (FX95_setQueue a0 a1 a2 M) (QV S Z hx N M) := wX95_setQueue_0 S Z hS a0 a1 a2 M w z_a0
def lX95_isThere : List Nat := []
theorem wX95_isThere_19 (S Z : Nat → Prop) {hx N : Nat} (hS : ∀ x, fe_mem lX95_isThere x = true → S x) (s0 : Int32) (M : FM) (w : WI Z hx N M) : pq (FX95_isThere_19 s0 M) (QA S Z hx N M) := by
  have hN := w.2.2.1
  have w0 := wk_r (S := S) w
  delta FX95_isThere_19 BX95_isThere_19
  refine pq_g (fun _ => ?_)
  exact pq_s w0
theorem wX95_isThere_14 (S Z : Nat → Prop) {hx N : Nat} (hS : ∀ x, fe_mem lX95_isThere x = true → S x) (M : FM) (w : WI Z hx N M) : pq (FX95_isThere_14 M) (QA S Z hx N M) := by
  have hN := w.2.2.1
  have w0 := wk_r (S := S) w
  delta FX95_isThere_14 BX95_isThere_14
  exact q_tA hN w0 (wX95_isThere_19 S Z hS _ _ w0.1 )
theorem wX95_isThere_0 (S Z : Nat → Prop) {hx N : Nat} (hS : ∀ x, fe_mem lX95_isThere x = true → S x) (a0 : Int64) (a2 : Int64) (M : FM) (w : WI Z hx N M) : pq (FX95_isThere_0 a0 a2 M) (QA S Z hx N M) := by
  have hN := w.2.2.1
  have w0 := wk_r (S := S) w
  delta FX95_isThere_0 BX95_isThere_0
  refine pq_fi (fun _ => ?_) (fun _ => ?_)
  · exact q_tA hN w0 (wX95_isThere_14 S Z hS _ w0.1 )
  · refine pq_b (wX93_areBytes S Z (sb rfl hS) _ _ _ w0.1 ) (fun r1 K2 => ?_)
    have w3 := wk_t w0 K2 hN
    refine pq_fi (fun _ => ?_) (fun _ => ?_)
    · exact q_tA hN w3 (wX95_isThere_19 S Z hS _ _ w3.1 )
    · exact q_tA hN w3 (wX95_isThere_14 S Z hS _ w3.1 )
theorem wX95_isThere (S Z : Nat → Prop) {hx N : Nat} (hS : ∀ x, fe_mem lX95_isThere x = true → S x) (a0 : Int64) (a2 : Int64) (M : FM) (w : WI Z hx N M) : pq (FX95_isThere a0 a2 M) (QA S Z hx N M) := wX95_isThere_0 S Z hS a0 a2 M w 
def lX95_breakDown : List Nat := [332, 333]
theorem wX95_breakDown_0 (S Z : Nat → Prop) {hx N : Nat} (hS : ∀ x, fe_mem lX95_breakDown x = true → S x) (a0 : Nat) (M : FM) (w : WI Z hx N M) (z_a0 : Z a0) : pq (FX95_breakDown_0 a0 M) (QV S Z hx N M) := by
  have hN := w.2.2.1
  have w0 := wk_r (S := S) w
  delta FX95_breakDown_0 BX95_breakDown_0
  refine pq_g (fun g1 => ?_)
  refine pq_g (fun g2 => ?_)
  extract_lets +onlyGivenNames M4
  have w3 : Wk S Z hx N M M4 := wk_fI hN w0 rfl rfl g2 z_a0 (Or.inr (hS 333 rfl))
  refine pq_g (fun g5 => ?_)
  refine pq_g (fun g6 => ?_)
  extract_lets +onlyGivenNames M8
  have w7 : Wk S Z hx N M M8 := wk_fI hN w3 rfl rfl g6 z_a0 (Or.inr (hS 332 rfl))
  exact pq_s w7
theorem wX95_breakDown (S Z : Nat → Prop) {hx N : Nat} (hS : ∀ x, fe_mem lX95_breakDown x = true → S x) (a0 : Nat) (M : FM) (w : WI Z hx N M) (z_a0 : Z a0) : pq (FX95_breakDown a0 M) (QV S Z hx N M) := wX95_breakDown_0 S Z hS a0 M w z_a0
def lX95_number : List Nat := []
theorem wX95_number_8 (S Z : Nat → Prop) {hx N : Nat} (hS : ∀ x, fe_mem lX95_number x = true → S x) (n : Nat) (k8 : Nat → Int64 → Int64 → Int32 → FM → Option (Int64 × FM)) (hk8 : ∀ (a0 : Nat) (a1 : Int64) (a4 : Int64) (a6 : Int32) (M : FM), WI Z hx N M → Z a0 → pq (k8 a0 a1 a4 a6 M) (QA S Z hx N M)) (a0 : Nat) (a1 : Int64) (a4 : Int64) (a6 : Int32) (M : FM) (w : WI Z hx N M) (z_a0 : Z a0) : pq (FX95_number_8 n k8 a0 a1 a4 a6 M) (QA S Z hx N M) := by
  have hN := w.2.2.1
  have w0 := wk_r (S := S) w
  delta FX95_number_8 BX95_number_8
  refine pq_fi (fun _ => ?_) (fun _ => ?_)
  · exact pq_s w0
  · refine pq_g (fun g1 => ?_)
    have z2 := wk_z (i := 0) (f := 326) w0 rfl z_a0
    refine pq_g (fun g3 => ?_)
    refine pq_b (wX93_get S Z (sb rfl hS) _ _ _ w0.1 z2) (fun r4 K5 => ?_)
    have w6 := wk_t w0 K5 hN
    exact q_tA hN w6 (hk8 _ _ _ _ _ w6.1 z_a0)
theorem wX95_number_0 (S Z : Nat → Prop) {hx N : Nat} (hS : ∀ x, fe_mem lX95_number x = true → S x) (n : Nat) (k8 : Nat → Int64 → Int64 → Int32 → FM → Option (Int64 × FM)) (hk8 : ∀ (a0 : Nat) (a1 : Int64) (a4 : Int64) (a6 : Int32) (M : FM), WI Z hx N M → Z a0 → pq (k8 a0 a1 a4 a6 M) (QA S Z hx N M)) (a0 : Nat) (a1 : Int64) (a3 : Int32) (M : FM) (w : WI Z hx N M) (z_a0 : Z a0) : pq (FX95_number_0 n k8 a0 a1 a3 M) (QA S Z hx N M) := by
  have hN := w.2.2.1
  have w0 := wk_r (S := S) w
  delta FX95_number_0 BX95_number_0
  exact q_tA hN w0 (hk8 _ _ _ _ _ w0.1 z_a0)
theorem wX95_number_L (S Z : Nat → Prop) {hx N : Nat} (hS : ∀ x, fe_mem lX95_number x = true → S x) (n : Nat) : ∀ j : Nat, ∀ (a0 : Nat) (a1 : Int64) (a4 : Int64) (a6 : Int32) (M : FM), WI Z hx N M → Z a0 → pq (FX95_number_L8 n j a0 a1 a4 a6 M) (QA S Z hx N M)
  | 0 => by intros; exact pq_0
  | j + 1 => fun a0 a1 a4 a6 M w => wX95_number_8 S Z hS n _ (wX95_number_L S Z hS n j) a0 a1 a4 a6 M w
theorem wX95_number (S Z : Nat → Prop) {hx N : Nat} (hS : ∀ x, fe_mem lX95_number x = true → S x) (n : Nat) (a0 : Nat) (a1 : Int64) (a3 : Int32) (M : FM) (w : WI Z hx N M) (z_a0 : Z a0) : pq (FX95_number n a0 a1 a3 M) (QA S Z hx N M) := wX95_number_0 S Z hS n _ (wX95_number_L S Z hS n n) a0 a1 a3 M w z_a0
def lX95_gather : List Nat := [339, 1340, 1341, 1342]
theorem wX95_gather_306 (S Z : Nat → Prop) {hx N : Nat} (hS : ∀ x, fe_mem lX95_gather x = true → S x) (n : Nat) (k9 : Nat → Int32 → Int32 → FM → Option (Int32 × FM)) (hk9 : ∀ (a0 : Nat) (a2 : Int32) (a3 : Int32) (M : FM), WI Z hx N M → Z a0 → pq (k9 a0 a2 a3 M) (QA S Z hx N M)) (s0 : Int32) (M : FM) (w : WI Z hx N M) : pq (FX95_gather_306 n k9 s0 M) (QA S Z hx N M) := by
  have hN := w.2.2.1
  have w0 := wk_r (S := S) w
  delta FX95_gather_306 BX95_gather_306
  refine pq_g (fun _ => ?_)
  exact pq_s w0
theorem wX95_gather_305 (S Z : Nat → Prop) {hx N : Nat} (hS : ∀ x, fe_mem lX95_gather x = true → S x) (n : Nat) (k9 : Nat → Int32 → Int32 → FM → Option (Int32 × FM)) (hk9 : ∀ (a0 : Nat) (a2 : Int32) (a3 : Int32) (M : FM), WI Z hx N M → Z a0 → pq (k9 a0 a2 a3 M) (QA S Z hx N M)) (M : FM) (w : WI Z hx N M) : pq (FX95_gather_305 n k9 M) (QA S Z hx N M) := by
  have hN := w.2.2.1
  have w0 := wk_r (S := S) w
  delta FX95_gather_305 BX95_gather_305
  exact q_tA hN w0 (wX95_gather_306 S Z hS n _ hk9 _ _ w0.1 )
theorem wX95_gather_222 (S Z : Nat → Prop) {hx N : Nat} (hS : ∀ x, fe_mem lX95_gather x = true → S x) (n : Nat) (k9 : Nat → Int32 → Int32 → FM → Option (Int32 × FM)) (hk9 : ∀ (a0 : Nat) (a2 : Int32) (a3 : Int32) (M : FM), WI Z hx N M → Z a0 → pq (k9 a0 a2 a3 M) (QA S Z hx N M)) (a0 : Nat) (a4 : Int64) (s0 : Int32) (M : FM) (w : WI Z hx N M) (z_a0 : Z a0) : pq (FX95_gather_222 n k9 a0 a4 s0 M) (QA S Z hx N M) := by
  have hN := w.2.2.1
  have w0 := wk_r (S := S) w
  delta FX95_gather_222 BX95_gather_222
  refine pq_g (fun g1 => ?_)
  refine pq_b (wX95_number S Z (sb rfl hS) n _ _ _ _ w0.1 z_a0) (fun r2 K3 => ?_)
  have w4 := wk_t w0 K3 hN
  refine pq_g (fun g5 => ?_)
  refine pq_g (fun g6 => ?_)
  extract_lets +onlyGivenNames M8
  have w7 : Wk S Z hx N M M8 := wk_fI hN w4 rfl rfl g6 z_a0 (Or.inr (hS 339 rfl))
  exact q_tA hN w7 (hk9 _ _ _ _ w7.1 z_a0)
theorem wX95_gather_208 (S Z : Nat → Prop) {hx N : Nat} (hS : ∀ x, fe_mem lX95_gather x = true → S x) (n : Nat) (k9 : Nat → Int32 → Int32 → FM → Option (Int32 × FM)) (hk9 : ∀ (a0 : Nat) (a2 : Int32) (a3 : Int32) (M : FM), WI Z hx N M → Z a0 → pq (k9 a0 a2 a3 M) (QA S Z hx N M)) (M : FM) (w : WI Z hx N M) : pq (FX95_gather_208 n k9 M) (QA S Z hx N M) := by
  have hN := w.2.2.1
  have w0 := wk_r (S := S) w
  delta FX95_gather_208 BX95_gather_208
  refine pq_g (fun _ => ?_)
  exact pq_s w0
theorem wX95_gather_170 (S Z : Nat → Prop) {hx N : Nat} (hS : ∀ x, fe_mem lX95_gather x = true → S x) (n : Nat) (k9 : Nat → Int32 → Int32 → FM → Option (Int32 × FM)) (hk9 : ∀ (a0 : Nat) (a2 : Int32) (a3 : Int32) (M : FM), WI Z hx N M → Z a0 → pq (k9 a0 a2 a3 M) (QA S Z hx N M)) (a0 : Nat) (a4 : Int64) (a6 : Int32) (s0 : Int32) (M : FM) (w : WI Z hx N M) (z_a0 : Z a0) : pq (FX95_gather_170 n k9 a0 a4 a6 s0 M) (QA S Z hx N M) := by
  have hN := w.2.2.1
  have w0 := wk_r (S := S) w
  delta FX95_gather_170 BX95_gather_170
  refine pq_fi (fun _ => ?_) (fun _ => ?_)
  · refine pq_fi (fun _ => ?_) (fun _ => ?_)
    · refine pq_g (fun g1 => ?_)
      have z2 := wk_z (i := 0) (f := 340) w0 rfl z_a0
      have f3 := sS_340 w0.1.1 g1
      refine pq_g (fun g4 => ?_)
      refine pq_g (fun g5 => ?_)
      refine pq_g (fun g6 => ?_)
      have z7 := wk_z (i := 0) (f := 341) w0 rfl z_a0
      have f8 := sS_341 w0.1.1 g6
      refine pq_g (fun g9 => ?_)
      refine pq_g (fun g10 => ?_)
      refine pq_b (wX95_isThere S Z (sb rfl hS) _ _ _ w0.1 ) (fun r11 K12 => ?_)
      have w13 := wk_t w0 K12 hN
      refine pq_fi (fun _ => ?_) (fun _ => ?_)
      · exact q_tA hN w13 (wX95_gather_208 S Z hS n _ hk9 _ w13.1 )
      · refine pq_fi (fun _ => ?_) (fun _ => ?_)
        · exact q_tA hN w13 (wX95_gather_222 S Z hS n _ hk9 _ _ _ _ w13.1 z_a0)
        · exact q_tA hN w13 (wX95_gather_222 S Z hS n _ hk9 _ _ _ _ w13.1 z_a0)
    · exact q_tA hN w0 (wX95_gather_208 S Z hS n _ hk9 _ w0.1 )
  · exact q_tA hN w0 (wX95_gather_208 S Z hS n _ hk9 _ w0.1 )
theorem wX95_gather_169 (S Z : Nat → Prop) {hx N : Nat} (hS : ∀ x, fe_mem lX95_gather x = true → S x) (n : Nat) (k9 : Nat → Int32 → Int32 → FM → Option (Int32 × FM)) (hk9 : ∀ (a0 : Nat) (a2 : Int32) (a3 : Int32) (M : FM), WI Z hx N M → Z a0 → pq (k9 a0 a2 a3 M) (QA S Z hx N M)) (a0 : Nat) (a4 : Int64) (a6 : Int32) (M : FM) (w : WI Z hx N M) (z_a0 : Z a0) : pq (FX95_gather_169 n k9 a0 a4 a6 M) (QA S Z hx N M) := by
  have hN := w.2.2.1
  have w0 := wk_r (S := S) w
  delta FX95_gather_169 BX95_gather_169
  exact q_tA hN w0 (wX95_gather_170 S Z hS n _ hk9 _ _ _ _ _ w0.1 z_a0)
theorem wX95_gather_131 (S Z : Nat → Prop) {hx N : Nat} (hS : ∀ x, fe_mem lX95_gather x = true → S x) (n : Nat) (k9 : Nat → Int32 → Int32 → FM → Option (Int32 × FM)) (hk9 : ∀ (a0 : Nat) (a2 : Int32) (a3 : Int32) (M : FM), WI Z hx N M → Z a0 → pq (k9 a0 a2 a3 M) (QA S Z hx N M)) (a0 : Nat) (a4 : Int64) (a6 : Int32) (s0 : Nat) (s1 : Int32) (s2 : Int32) (M : FM) (w : WI Z hx N M) (z_a0 : Z a0) (z_s0 : Z s0) (y_s0 : Sy S N M s0) : pq (FX95_gather_131 n k9 a0 a4 a6 s0 s1 s2 M) (QA S Z hx N M) := by
  have hN := w.2.2.1
  have w0 := wk_r (S := S) w
  delta FX95_gather_131 BX95_gather_131
  refine pq_g (fun g1 => ?_)
  extract_lets +onlyGivenNames M3
  have w2 : Wk S Z hx N M M3 := wk_aI hN w0 rfl g1.1 z_s0 y_s0
  refine pq_g (fun g4 => ?_)
  refine pq_fi (fun _ => ?_) (fun _ => ?_)
  · exact q_tA hN w2 (wX95_gather_169 S Z hS n _ hk9 _ _ _ _ w2.1 z_a0)
  · refine pq_g (fun g5 => ?_)
    have z6 := wk_z (i := 0) (f := 342) w2 rfl z_a0
    have f7 := sS_342 w2.1.1 g5
    refine pq_g (fun g8 => ?_)
    refine pq_g (fun g9 => ?_)
    refine pq_fi (fun _ => ?_) (fun _ => ?_)
    · exact q_tA hN w2 (wX95_gather_169 S Z hS n _ hk9 _ _ _ _ w2.1 z_a0)
    · refine pq_g (fun g10 => ?_)
      have z11 := wk_z (i := 0) (f := 342) w2 rfl z_a0
      have f12 := sS_342 w2.1.1 g10
      refine pq_g (fun g13 => ?_)
      refine pq_g (fun g14 => ?_)
      refine pq_fi (fun _ => ?_) (fun _ => ?_)
      · exact q_tA hN w2 (wX95_gather_170 S Z hS n _ hk9 _ _ _ _ _ w2.1 z_a0)
      · exact q_tA hN w2 (wX95_gather_169 S Z hS n _ hk9 _ _ _ _ w2.1 z_a0)
theorem wX95_gather_58 (S Z : Nat → Prop) {hx N : Nat} (hS : ∀ x, fe_mem lX95_gather x = true → S x) (n : Nat) (k9 : Nat → Int32 → Int32 → FM → Option (Int32 × FM)) (hk9 : ∀ (a0 : Nat) (a2 : Int32) (a3 : Int32) (M : FM), WI Z hx N M → Z a0 → pq (k9 a0 a2 a3 M) (QA S Z hx N M)) (M : FM) (w : WI Z hx N M) : pq (FX95_gather_58 n k9 M) (QA S Z hx N M) := by
  have hN := w.2.2.1
  have w0 := wk_r (S := S) w
  delta FX95_gather_58 BX95_gather_58
  refine pq_g (fun _ => ?_)
  exact pq_s w0
theorem wX95_gather_9 (S Z : Nat → Prop) {hx N : Nat} (hS : ∀ x, fe_mem lX95_gather x = true → S x) (n : Nat) (k9 : Nat → Int32 → Int32 → FM → Option (Int32 × FM)) (hk9 : ∀ (a0 : Nat) (a2 : Int32) (a3 : Int32) (M : FM), WI Z hx N M → Z a0 → pq (k9 a0 a2 a3 M) (QA S Z hx N M)) (a0 : Nat) (a2 : Int32) (a3 : Int32) (M : FM) (w : WI Z hx N M) (z_a0 : Z a0) : pq (FX95_gather_9 n k9 a0 a2 a3 M) (QA S Z hx N M) := by
  have hN := w.2.2.1
  have w0 := wk_r (S := S) w
  delta FX95_gather_9 BX95_gather_9
  refine pq_fi (fun _ => ?_) (fun _ => ?_)
  · refine pq_g (fun g1 => ?_)
    have z2 := wk_z (i := 0) (f := 342) w0 rfl z_a0
    have f3 := sS_342 w0.1.1 g1
    refine pq_g (fun g4 => ?_)
    refine pq_fi (fun _ => ?_) (fun _ => ?_)
    · refine pq_g (fun g5 => ?_)
      have z6 := wk_z (i := 0) (f := 341) w0 rfl z_a0
      have f7 := sS_341 w0.1.1 g5
      refine pq_g (fun g8 => ?_)
      refine pq_fi (fun _ => ?_) (fun _ => ?_)
      · exact q_tA hN w0 (wX95_gather_305 S Z hS n _ hk9 _ w0.1 )
      · refine pq_g (fun g9 => ?_)
        have z10 := wk_z (i := 0) (f := 342) w0 rfl z_a0
        have f11 := sS_342 w0.1.1 g9
        refine pq_g (fun g12 => ?_)
        refine pq_g (fun g13 => ?_)
        refine pq_fi (fun _ => ?_) (fun _ => ?_)
        · exact q_tA hN w0 (wX95_gather_305 S Z hS n _ hk9 _ w0.1 )
        · refine pq_g (fun g14 => ?_)
          have z15 := wk_z (i := 0) (f := 341) w0 rfl z_a0
          have f16 := sS_341 w0.1.1 g14
          refine pq_g (fun g17 => ?_)
          refine pq_g (fun g18 => ?_)
          refine pq_fi (fun _ => ?_) (fun _ => ?_)
          · exact q_tA hN w0 (wX95_gather_305 S Z hS n _ hk9 _ w0.1 )
          · exact q_tA hN w0 (wX95_gather_306 S Z hS n _ hk9 _ _ w0.1 )
    · exact q_tA hN w0 (wX95_gather_305 S Z hS n _ hk9 _ w0.1 )
  · refine pq_g (fun g19 => ?_)
    have z20 := wk_z (i := 0) (f := 334) w0 rfl z_a0
    have f21 := sS_334 w0.1.1 g19
    refine pq_g (fun g22 => ?_)
    refine pq_g (fun g23 => ?_)
    refine pq_fi (fun _ => ?_) (fun _ => ?_)
    · exact q_tA hN w0 (wX95_gather_58 S Z hS n _ hk9 _ w0.1 )
    · refine pq_g (fun g24 => ?_)
      refine pq_g (fun g25 => ?_)
      refine pq_fi (fun _ => ?_) (fun _ => ?_)
      · exact q_tA hN w0 (wX95_gather_58 S Z hS n _ hk9 _ w0.1 )
      · refine pq_b (wX95_isThere S Z (sb rfl hS) _ _ _ w0.1 ) (fun r26 K27 => ?_)
        have w28 := wk_t w0 K27 hN
        refine pq_fi (fun _ => ?_) (fun _ => ?_)
        · exact q_tA hN w28 (wX95_gather_58 S Z hS n _ hk9 _ w28.1 )
        · refine pq_g (fun g29 => ?_)
          refine pq_b (wX95_number S Z (sb rfl hS) n _ _ _ _ w28.1 z_a0) (fun r30 K31 => ?_)
          have w32 := wk_t w28 K31 hN
          refine pq_g (fun g33 => ?_)
          have z34 := wk_z (i := 0) (f := 340) w32 rfl z_a0
          have f35 := sS_340 w32.1.1 g33
          refine pq_g (fun g36 => ?_)
          refine pq_g (fun g37 => ?_)
          refine pq_b (wX95_number S Z (sb rfl hS) n _ _ _ _ w32.1 z_a0) (fun r38 K39 => ?_)
          have w40 := wk_t w32 K39 hN
          have f41 := sf_k w32.1.1 K39 f35
          refine pq_g (fun g42 => ?_)
          extract_lets +onlyGivenNames M44
          have w43 : Wk S Z hx N M M44 := wk_aL hN w40 rfl g42.1 z34 (sy_s f41 (hS 1340 rfl))
          refine pq_g (fun g45 => ?_)
          have z46 := wk_z (i := 0) (f := 341) w43 rfl z_a0
          have f47 := sS_341 w43.1.1 g45
          refine pq_g (fun g48 => ?_)
          refine pq_g (fun g49 => ?_)
          refine pq_b (wX95_number S Z (sb rfl hS) n _ _ _ _ w43.1 z_a0) (fun r50 K51 => ?_)
          have w52 := wk_t w43 K51 hN
          have f53 := sf_k w43.1.1 K51 f47
          refine pq_g (fun g54 => ?_)
          extract_lets +onlyGivenNames M56
          have w55 : Wk S Z hx N M M56 := wk_aL hN w52 rfl g54.1 z46 (sy_s f53 (hS 1341 rfl))
          refine pq_g (fun g57 => ?_)
          have z58 := wk_z (i := 0) (f := 342) w55 rfl z_a0
          have f59 := sS_342 w55.1.1 g57
          refine pq_g (fun g60 => ?_)
          refine pq_fi (fun _ => ?_) (fun _ => ?_)
          · exact q_tA hN w55 (wX95_gather_131 S Z hS n _ hk9 _ _ _ _ _ _ _ w55.1 z_a0 z58 (sy_s f59 (hS 1342 rfl)))
          · exact q_tA hN w55 (wX95_gather_131 S Z hS n _ hk9 _ _ _ _ _ _ _ w55.1 z_a0 z58 (sy_s f59 (hS 1342 rfl)))
theorem wX95_gather_0 (S Z : Nat → Prop) {hx N : Nat} (hS : ∀ x, fe_mem lX95_gather x = true → S x) (n : Nat) (k9 : Nat → Int32 → Int32 → FM → Option (Int32 × FM)) (hk9 : ∀ (a0 : Nat) (a2 : Int32) (a3 : Int32) (M : FM), WI Z hx N M → Z a0 → pq (k9 a0 a2 a3 M) (QA S Z hx N M)) (a0 : Nat) (a1 : Int32) (M : FM) (w : WI Z hx N M) (z_a0 : Z a0) : pq (FX95_gather_0 n k9 a0 a1 M) (QA S Z hx N M) := by
  have hN := w.2.2.1
  have w0 := wk_r (S := S) w
  delta FX95_gather_0 BX95_gather_0
  refine pq_g (fun g1 => ?_)
  extract_lets +onlyGivenNames M3
  have w2 : Wk S Z hx N M M3 := wk_fI hN w0 rfl rfl g1 z_a0 (Or.inr (hS 339 rfl))
  exact q_tA hN w2 (hk9 _ _ _ _ w2.1 z_a0)
theorem wX95_gather_L (S Z : Nat → Prop) {hx N : Nat} (hS : ∀ x, fe_mem lX95_gather x = true → S x) (n : Nat) : ∀ j : Nat, ∀ (a0 : Nat) (a2 : Int32) (a3 : Int32) (M : FM), WI Z hx N M → Z a0 → pq (FX95_gather_L9 n j a0 a2 a3 M) (QA S Z hx N M)
  | 0 => by intros; exact pq_0
  | j + 1 => fun a0 a2 a3 M w => wX95_gather_9 S Z hS n _ (wX95_gather_L S Z hS n j) a0 a2 a3 M w
theorem wX95_gather (S Z : Nat → Prop) {hx N : Nat} (hS : ∀ x, fe_mem lX95_gather x = true → S x) (n : Nat) (a0 : Nat) (a1 : Int32) (M : FM) (w : WI Z hx N M) (z_a0 : Z a0) : pq (FX95_gather n a0 a1 M) (QA S Z hx N M) := wX95_gather_0 S Z hS n _ (wX95_gather_L S Z hS n n) a0 a1 M w z_a0
def lX95_data : List Nat := []
theorem wX95_data_48 (S Z : Nat → Prop) {hx N : Nat} (hS : ∀ x, fe_mem lX95_data x = true → S x) (n : Nat) (k15 : Nat → Int32 → Int64 → Int32 → FM → Option (Int64 × FM)) (hk15 : ∀ (a0 : Nat) (a1 : Int32) (a2 : Int64) (a4 : Int32) (M : FM), WI Z hx N M → Z a0 → pq (k15 a0 a1 a2 a4 M) (QA S Z hx N M)) (a0 : Nat) (a1 : Int32) (a4 : Int32) (s0 : Int64) (M : FM) (w : WI Z hx N M) (z_a0 : Z a0) : pq (FX95_data_48 n k15 a0 a1 a4 s0 M) (QA S Z hx N M) := by
  have hN := w.2.2.1
  have w0 := wk_r (S := S) w
  delta FX95_data_48 BX95_data_48
  exact q_tA hN w0 (hk15 _ _ _ _ _ w0.1 z_a0)
theorem wX95_data_15 (S Z : Nat → Prop) {hx N : Nat} (hS : ∀ x, fe_mem lX95_data x = true → S x) (n : Nat) (k15 : Nat → Int32 → Int64 → Int32 → FM → Option (Int64 × FM)) (hk15 : ∀ (a0 : Nat) (a1 : Int32) (a2 : Int64) (a4 : Int32) (M : FM), WI Z hx N M → Z a0 → pq (k15 a0 a1 a2 a4 M) (QA S Z hx N M)) (a0 : Nat) (a1 : Int32) (a2 : Int64) (a4 : Int32) (M : FM) (w : WI Z hx N M) (z_a0 : Z a0) : pq (FX95_data_15 n k15 a0 a1 a2 a4 M) (QA S Z hx N M) := by
  have hN := w.2.2.1
  have w0 := wk_r (S := S) w
  delta FX95_data_15 BX95_data_15
  refine pq_g (fun g1 => ?_)
  refine pq_fi (fun _ => ?_) (fun _ => ?_)
  · exact pq_s w0
  · refine pq_g (fun g2 => ?_)
    have z3 := wk_z (i := 0) (f := 342) w0 rfl z_a0
    have f4 := sS_342 w0.1.1 g2
    refine pq_g (fun g5 => ?_)
    refine pq_fi (fun _ => ?_) (fun _ => ?_)
    · refine pq_g (fun g6 => ?_)
      have z7 := wk_z (i := 0) (f := 341) w0 rfl z_a0
      have f8 := sS_341 w0.1.1 g6
      refine pq_g (fun g9 => ?_)
      exact q_tA hN w0 (wX95_data_48 S Z hS n _ hk15 _ _ _ _ _ w0.1 z_a0)
    · exact q_tA hN w0 (wX95_data_48 S Z hS n _ hk15 _ _ _ _ _ w0.1 z_a0)
theorem wX95_data_11 (S Z : Nat → Prop) {hx N : Nat} (hS : ∀ x, fe_mem lX95_data x = true → S x) (n : Nat) (k15 : Nat → Int32 → Int64 → Int32 → FM → Option (Int64 × FM)) (hk15 : ∀ (a0 : Nat) (a1 : Int32) (a2 : Int64) (a4 : Int32) (M : FM), WI Z hx N M → Z a0 → pq (k15 a0 a1 a2 a4 M) (QA S Z hx N M)) (a0 : Nat) (a1 : Int32) (s0 : Int64) (M : FM) (w : WI Z hx N M) (z_a0 : Z a0) : pq (FX95_data_11 n k15 a0 a1 s0 M) (QA S Z hx N M) := by
  have hN := w.2.2.1
  have w0 := wk_r (S := S) w
  delta FX95_data_11 BX95_data_11
  exact q_tA hN w0 (hk15 _ _ _ _ _ w0.1 z_a0)
theorem wX95_data_0 (S Z : Nat → Prop) {hx N : Nat} (hS : ∀ x, fe_mem lX95_data x = true → S x) (n : Nat) (k15 : Nat → Int32 → Int64 → Int32 → FM → Option (Int64 × FM)) (hk15 : ∀ (a0 : Nat) (a1 : Int32) (a2 : Int64) (a4 : Int32) (M : FM), WI Z hx N M → Z a0 → pq (k15 a0 a1 a2 a4 M) (QA S Z hx N M)) (a0 : Nat) (a1 : Int32) (M : FM) (w : WI Z hx N M) (z_a0 : Z a0) : pq (FX95_data_0 n k15 a0 a1 M) (QA S Z hx N M) := by
  have hN := w.2.2.1
  have w0 := wk_r (S := S) w
  delta FX95_data_0 BX95_data_0
  refine pq_fi (fun _ => ?_) (fun _ => ?_)
  · exact q_tA hN w0 (wX95_data_11 S Z hS n _ hk15 _ _ _ _ w0.1 z_a0)
  · exact q_tA hN w0 (wX95_data_11 S Z hS n _ hk15 _ _ _ _ w0.1 z_a0)
theorem wX95_data_L (S Z : Nat → Prop) {hx N : Nat} (hS : ∀ x, fe_mem lX95_data x = true → S x) (n : Nat) : ∀ j : Nat, ∀ (a0 : Nat) (a1 : Int32) (a2 : Int64) (a4 : Int32) (M : FM), WI Z hx N M → Z a0 → pq (FX95_data_L15 n j a0 a1 a2 a4 M) (QA S Z hx N M)
  | 0 => by intros; exact pq_0
  | j + 1 => fun a0 a1 a2 a4 M w => wX95_data_15 S Z hS n _ (wX95_data_L S Z hS n j) a0 a1 a2 a4 M w
theorem wX95_data (S Z : Nat → Prop) {hx N : Nat} (hS : ∀ x, fe_mem lX95_data x = true → S x) (n : Nat) (a0 : Nat) (a1 : Int32) (M : FM) (w : WI Z hx N M) (z_a0 : Z a0) : pq (FX95_data n a0 a1 M) (QA S Z hx N M) := wX95_data_0 S Z hS n _ (wX95_data_L S Z hS n n) a0 a1 M w z_a0
def lX95_areSectors : List Nat := []
theorem wX95_areSectors_61 (S Z : Nat → Prop) {hx N : Nat} (hS : ∀ x, fe_mem lX95_areSectors x = true → S x) (s0 : Int32) (M : FM) (w : WI Z hx N M) : pq (FX95_areSectors_61 s0 M) (QA S Z hx N M) := by
  have hN := w.2.2.1
  have w0 := wk_r (S := S) w
  delta FX95_areSectors_61 BX95_areSectors_61
  refine pq_g (fun _ => ?_)
  exact pq_s w0
theorem wX95_areSectors_60 (S Z : Nat → Prop) {hx N : Nat} (hS : ∀ x, fe_mem lX95_areSectors x = true → S x) (M : FM) (w : WI Z hx N M) : pq (FX95_areSectors_60 M) (QA S Z hx N M) := by
  have hN := w.2.2.1
  have w0 := wk_r (S := S) w
  delta FX95_areSectors_60 BX95_areSectors_60
  exact q_tA hN w0 (wX95_areSectors_61 S Z hS _ _ w0.1 )
theorem wX95_areSectors_0 (S Z : Nat → Prop) {hx N : Nat} (hS : ∀ x, fe_mem lX95_areSectors x = true → S x) (a0 : Nat) (a1 : Int64) (a3 : Int64) (M : FM) (w : WI Z hx N M) (z_a0 : Z a0) : pq (FX95_areSectors_0 a0 a1 a3 M) (QA S Z hx N M) := by
  have hN := w.2.2.1
  have w0 := wk_r (S := S) w
  delta FX95_areSectors_0 BX95_areSectors_0
  refine pq_fi (fun _ => ?_) (fun _ => ?_)
  · exact q_tA hN w0 (wX95_areSectors_60 S Z hS _ w0.1 )
  · refine pq_fi (fun _ => ?_) (fun _ => ?_)
    · exact q_tA hN w0 (wX95_areSectors_60 S Z hS _ w0.1 )
    · refine pq_n ?_
      refine pq_fi (fun _ => ?_) (fun _ => ?_)
      · refine pq_fi (fun _ => ?_) (fun _ => ?_)
        · exact q_tA hN w0 (wX95_areSectors_60 S Z hS _ w0.1 )
        · refine pq_g (fun g1 => ?_)
          refine pq_fi (fun _ => ?_) (fun _ => ?_)
          · exact q_tA hN w0 (wX95_areSectors_60 S Z hS _ w0.1 )
          · refine pq_n ?_
            refine pq_g (fun g2 => ?_)
            refine pq_fi (fun _ => ?_) (fun _ => ?_)
            · exact q_tA hN w0 (wX95_areSectors_60 S Z hS _ w0.1 )
            · exact q_tA hN w0 (wX95_areSectors_61 S Z hS _ _ w0.1 )
      · exact q_tA hN w0 (wX95_areSectors_60 S Z hS _ w0.1 )
theorem wX95_areSectors (S Z : Nat → Prop) {hx N : Nat} (hS : ∀ x, fe_mem lX95_areSectors x = true → S x) (a0 : Nat) (a1 : Int64) (a3 : Int64) (M : FM) (w : WI Z hx N M) (z_a0 : Z a0) : pq (FX95_areSectors a0 a1 a3 M) (QA S Z hx N M) := wX95_areSectors_0 S Z hS a0 a1 a3 M w z_a0
def lX95_beginData : List Nat := [343, 344]
theorem wX95_beginData_10 (S Z : Nat → Prop) {hx N : Nat} (hS : ∀ x, fe_mem lX95_beginData x = true → S x) (n : Nat) (k10 : Nat → Int32 → FM → Option (FM)) (hk10 : ∀ (a0 : Nat) (a1 : Int32) (M : FM), WI Z hx N M → Z a0 → pq (k10 a0 a1 M) (QV S Z hx N M)) (a0 : Nat) (a1 : Int32) (M : FM) (w : WI Z hx N M) (z_a0 : Z a0) : pq (FX95_beginData_10 n k10 a0 a1 M) (QV S Z hx N M) := by
  have hN := w.2.2.1
  have w0 := wk_r (S := S) w
  delta FX95_beginData_10 BX95_beginData_10
  refine pq_g (fun g1 => ?_)
  have z2 := wk_z (i := 0) (f := 342) w0 rfl z_a0
  have f3 := sS_342 w0.1.1 g1
  refine pq_g (fun g4 => ?_)
  refine pq_g (fun g5 => ?_)
  refine pq_fi (fun _ => ?_) (fun _ => ?_)
  · exact pq_s w0
  · refine pq_g (fun g6 => ?_)
    refine pq_g (fun g7 => ?_)
    extract_lets +onlyGivenNames M9
    have w8 : Wk S Z hx N M M9 := wk_fI hN w0 rfl rfl g7 z_a0 (Or.inr (hS 343 rfl))
    exact q_tV hN w8 (hk10 _ _ _ w8.1 z_a0)
theorem wX95_beginData_0 (S Z : Nat → Prop) {hx N : Nat} (hS : ∀ x, fe_mem lX95_beginData x = true → S x) (n : Nat) (k10 : Nat → Int32 → FM → Option (FM)) (hk10 : ∀ (a0 : Nat) (a1 : Int32) (M : FM), WI Z hx N M → Z a0 → pq (k10 a0 a1 M) (QV S Z hx N M)) (a0 : Nat) (a1 : Int32) (M : FM) (w : WI Z hx N M) (z_a0 : Z a0) : pq (FX95_beginData_0 n k10 a0 a1 M) (QV S Z hx N M) := by
  have hN := w.2.2.1
  have w0 := wk_r (S := S) w
  delta FX95_beginData_0 BX95_beginData_0
  refine pq_g (fun g1 => ?_)
  extract_lets +onlyGivenNames M3
  have w2 : Wk S Z hx N M M3 := wk_fI hN w0 rfl rfl g1 z_a0 (Or.inr (hS 343 rfl))
  refine pq_g (fun g4 => ?_)
  extract_lets +onlyGivenNames M6
  have w5 : Wk S Z hx N M M6 := wk_fL hN w2 rfl rfl g4 z_a0 (Or.inr (hS 344 rfl))
  exact q_tV hN w5 (hk10 _ _ _ w5.1 z_a0)
theorem wX95_beginData_L (S Z : Nat → Prop) {hx N : Nat} (hS : ∀ x, fe_mem lX95_beginData x = true → S x) (n : Nat) : ∀ j : Nat, ∀ (a0 : Nat) (a1 : Int32) (M : FM), WI Z hx N M → Z a0 → pq (FX95_beginData_L10 n j a0 a1 M) (QV S Z hx N M)
  | 0 => by intros; exact pq_0
  | j + 1 => fun a0 a1 M w => wX95_beginData_10 S Z hS n _ (wX95_beginData_L S Z hS n j) a0 a1 M w
theorem wX95_beginData (S Z : Nat → Prop) {hx N : Nat} (hS : ∀ x, fe_mem lX95_beginData x = true → S x) (n : Nat) (a0 : Nat) (a1 : Int32) (M : FM) (w : WI Z hx N M) (z_a0 : Z a0) : pq (FX95_beginData n a0 a1 M) (QV S Z hx N M) := wX95_beginData_0 S Z hS n _ (wX95_beginData_L S Z hS n n) a0 a1 M w z_a0
def lX95_nextByte : List Nat := [343, 344]
theorem wX95_nextByte_0 (S Z : Nat → Prop) {hx N : Nat} (hS : ∀ x, fe_mem lX95_nextByte x = true → S x) (n : Nat) (k0 : Nat → FM → Option (Int64 × FM)) (hk0 : ∀ (a0 : Nat) (M : FM), WI Z hx N M → Z a0 → pq (k0 a0 M) (QA S Z hx N M)) (a0 : Nat) (M : FM) (w : WI Z hx N M) (z_a0 : Z a0) : pq (FX95_nextByte_0 n k0 a0 M) (QA S Z hx N M) := by
  have hN := w.2.2.1
  have w0 := wk_r (S := S) w
  delta FX95_nextByte_0 BX95_nextByte_0
  refine pq_g (fun g1 => ?_)
  refine pq_g (fun g2 => ?_)
  have z3 := wk_z (i := 0) (f := 341) w0 rfl z_a0
  have f4 := sS_341 w0.1.1 g2
  refine pq_g (fun g5 => ?_)
  refine pq_g (fun g6 => ?_)
  refine pq_fi (fun _ => ?_) (fun _ => ?_)
  · refine pq_g (fun g7 => ?_)
    refine pq_g (fun g8 => ?_)
    extract_lets +onlyGivenNames M10
    have w9 : Wk S Z hx N M M10 := wk_fI hN w0 rfl rfl g8 z_a0 (Or.inr (hS 343 rfl))
    refine pq_g (fun g11 => ?_)
    extract_lets +onlyGivenNames M13
    have w12 : Wk S Z hx N M M13 := wk_fL hN w9 rfl rfl g11 z_a0 (Or.inr (hS 344 rfl))
    exact q_tA hN w12 (hk0 _ _ w12.1 z_a0)
  · refine pq_g (fun g14 => ?_)
    refine pq_g (fun g15 => ?_)
    extract_lets +onlyGivenNames M17
    have w16 : Wk S Z hx N M M17 := wk_fL hN w0 rfl rfl g15 z_a0 (Or.inr (hS 344 rfl))
    refine pq_g (fun g18 => ?_)
    have z19 := wk_z (i := 0) (f := 340) w16 rfl z_a0
    have f20 := sS_340 w16.1.1 g18
    refine pq_g (fun g21 => ?_)
    refine pq_g (fun g22 => ?_)
    refine pq_g (fun g23 => ?_)
    exact pq_s w16
theorem wX95_nextByte_L (S Z : Nat → Prop) {hx N : Nat} (hS : ∀ x, fe_mem lX95_nextByte x = true → S x) (n : Nat) : ∀ j : Nat, ∀ (a0 : Nat) (M : FM), WI Z hx N M → Z a0 → pq (FX95_nextByte_L0 n j a0 M) (QA S Z hx N M)
  | 0 => by intros; exact pq_0
  | j + 1 => fun a0 M w => wX95_nextByte_0 S Z hS n _ (wX95_nextByte_L S Z hS n j) a0 M w
theorem wX95_nextByte (S Z : Nat → Prop) {hx N : Nat} (hS : ∀ x, fe_mem lX95_nextByte x = true → S x) (n : Nat) (a0 : Nat) (M : FM) (w : WI Z hx N M) (z_a0 : Z a0) : pq (FX95_nextByte n a0 M) (QA S Z hx N M) := (wX95_nextByte_L S Z hS n n) a0 M w z_a0
def lX95_byteOf : List Nat := []
theorem wX95_byteOf_0 (S Z : Nat → Prop) {hx N : Nat} (hS : ∀ x, fe_mem lX95_byteOf x = true → S x) (a0 : Nat) (a1 : Int32) (M : FM) (w : WI Z hx N M) (z_a0 : Z a0) : pq (FX95_byteOf_0 a0 a1 M) (QA S Z hx N M) := by
  have hN := w.2.2.1
  have w0 := wk_r (S := S) w
  delta FX95_byteOf_0 BX95_byteOf_0
  refine pq_n ?_
  refine pq_g (fun g1 => ?_)
  refine pq_n ?_
  exact pq_s w0
theorem wX95_byteOf (S Z : Nat → Prop) {hx N : Nat} (hS : ∀ x, fe_mem lX95_byteOf x = true → S x) (a0 : Nat) (a1 : Int32) (M : FM) (w : WI Z hx N M) (z_a0 : Z a0) : pq (FX95_byteOf a0 a1 M) (QA S Z hx N M) := wX95_byteOf_0 S Z hS a0 a1 M w z_a0
def lX95_put : List Nat := [1388, 1389, 1391]
theorem wX95_put_3 (S Z : Nat → Prop) {hx N : Nat} (hS : ∀ x, fe_mem lX95_put x = true → S x) (n : Nat) (k3 : Nat → Int64 → Int32 → Int64 → Int32 → FM → Option (FM)) (hk3 : ∀ (a0 : Nat) (a1 : Int64) (a3 : Int32) (a4 : Int64) (a6 : Int32) (M : FM), WI Z hx N M → Z a0 → pq (k3 a0 a1 a3 a4 a6 M) (QV S Z hx N M)) (a0 : Nat) (a1 : Int64) (a3 : Int32) (a4 : Int64) (a6 : Int32) (M : FM) (w : WI Z hx N M) (z_a0 : Z a0) : pq (FX95_put_3 n k3 a0 a1 a3 a4 a6 M) (QV S Z hx N M) := by
  have hN := w.2.2.1
  have w0 := wk_r (S := S) w
  delta FX95_put_3 BX95_put_3
  refine pq_fi (fun _ => ?_) (fun _ => ?_)
  · exact pq_s w0
  · refine pq_g (fun g1 => ?_)
    have z2 := wk_z (i := 0) (f := 326) w0 rfl z_a0
    refine pq_g (fun g3 => ?_)
    refine pq_b (wX93_put S Z (sb rfl hS) n _ _ _ _ w0.1 z2) (fun r4 K5 => ?_)
    have w6 := wk_t w0 K5 hN
    exact q_tV hN w6 (hk3 _ _ _ _ _ _ w6.1 z_a0)
theorem wX95_put_0 (S Z : Nat → Prop) {hx N : Nat} (hS : ∀ x, fe_mem lX95_put x = true → S x) (n : Nat) (k3 : Nat → Int64 → Int32 → Int64 → Int32 → FM → Option (FM)) (hk3 : ∀ (a0 : Nat) (a1 : Int64) (a3 : Int32) (a4 : Int64) (a6 : Int32) (M : FM), WI Z hx N M → Z a0 → pq (k3 a0 a1 a3 a4 a6 M) (QV S Z hx N M)) (a0 : Nat) (a1 : Int64) (a3 : Int32) (a4 : Int64) (M : FM) (w : WI Z hx N M) (z_a0 : Z a0) : pq (FX95_put_0 n k3 a0 a1 a3 a4 M) (QV S Z hx N M) := by
  have hN := w.2.2.1
  have w0 := wk_r (S := S) w
  delta FX95_put_0 BX95_put_0
  exact q_tV hN w0 (hk3 _ _ _ _ _ _ w0.1 z_a0)
theorem wX95_put_L (S Z : Nat → Prop) {hx N : Nat} (hS : ∀ x, fe_mem lX95_put x = true → S x) (n : Nat) : ∀ j : Nat, ∀ (a0 : Nat) (a1 : Int64) (a3 : Int32) (a4 : Int64) (a6 : Int32) (M : FM), WI Z hx N M → Z a0 → pq (FX95_put_L3 n j a0 a1 a3 a4 a6 M) (QV S Z hx N M)
  | 0 => by intros; exact pq_0
  | j + 1 => fun a0 a1 a3 a4 a6 M w => wX95_put_3 S Z hS n _ (wX95_put_L S Z hS n j) a0 a1 a3 a4 a6 M w
theorem wX95_put (S Z : Nat → Prop) {hx N : Nat} (hS : ∀ x, fe_mem lX95_put x = true → S x) (n : Nat) (a0 : Nat) (a1 : Int64) (a3 : Int32) (a4 : Int64) (M : FM) (w : WI Z hx N M) (z_a0 : Z a0) : pq (FX95_put n a0 a1 a3 a4 M) (QV S Z hx N M) := wX95_put_0 S Z hS n _ (wX95_put_L S Z hS n n) a0 a1 a3 a4 M w z_a0
def lX95_request : List Nat := [338, 343, 344, 1327, 1388, 1389, 1391]
theorem wX95_request_384 (S Z : Nat → Prop) {hx N : Nat} (hS : ∀ x, fe_mem lX95_request x = true → S x) (n : Nat) (k93 : Nat → Int64 → Int32 → Int64 → Int64 → FM → Option (Int64 × FM)) (hk93 : ∀ (a0 : Nat) (a3 : Int64) (a9 : Int32) (a10 : Int64) (a12 : Int64) (M : FM), WI Z hx N M → Z a0 → pq (k93 a0 a3 a9 a10 a12 M) (QA S Z hx N M)) (k175 : Nat → Int64 → Int64 → Int32 → Int64 → Int64 → FM → Option (Int64 × FM)) (hk175 : ∀ (a0 : Nat) (a3 : Int64) (a7 : Int64) (a9 : Int32) (a10 : Int64) (a12 : Int64) (M : FM), WI Z hx N M → Z a0 → pq (k175 a0 a3 a7 a9 a10 a12 M) (QA S Z hx N M)) (k272 : Nat → Int32 → Int64 → Int64 → FM → Option (Int64 × FM)) (hk272 : ∀ (a0 : Nat) (a9 : Int32) (a10 : Int64) (a12 : Int64) (M : FM), WI Z hx N M → Z a0 → pq (k272 a0 a9 a10 a12 M) (QA S Z hx N M)) (a0 : Nat) (a9 : Int32) (a10 : Int64) (M : FM) (w : WI Z hx N M) (z_a0 : Z a0) : pq (FX95_request_384 n k93 k175 k272 a0 a9 a10 M) (QA S Z hx N M) := by
  have hN := w.2.2.1
  have w0 := wk_r (S := S) w
  delta FX95_request_384 BX95_request_384
  refine pq_g (fun g1 => ?_)
  have z2 := wk_z (i := 0) (f := 340) w0 rfl z_a0
  have f3 := sS_340 w0.1.1 g1
  refine pq_g (fun g4 => ?_)
  refine pq_g (fun g5 => ?_)
  refine pq_g (fun g6 => ?_)
  have z7 := wk_z (i := 0) (f := 341) w0 rfl z_a0
  have f8 := sS_341 w0.1.1 g6
  refine pq_g (fun g9 => ?_)
  refine pq_g (fun g10 => ?_)
  refine pq_g (fun g11 => ?_)
  refine pq_b (wX95_put S Z (sb rfl hS) n _ _ _ _ _ w0.1 z_a0) (fun r12 K13 => ?_)
  have w14 := wk_t w0 K13 hN
  exact pq_s w14
theorem wX95_request_358 (S Z : Nat → Prop) {hx N : Nat} (hS : ∀ x, fe_mem lX95_request x = true → S x) (n : Nat) (k93 : Nat → Int64 → Int32 → Int64 → Int64 → FM → Option (Int64 × FM)) (hk93 : ∀ (a0 : Nat) (a3 : Int64) (a9 : Int32) (a10 : Int64) (a12 : Int64) (M : FM), WI Z hx N M → Z a0 → pq (k93 a0 a3 a9 a10 a12 M) (QA S Z hx N M)) (k175 : Nat → Int64 → Int64 → Int32 → Int64 → Int64 → FM → Option (Int64 × FM)) (hk175 : ∀ (a0 : Nat) (a3 : Int64) (a7 : Int64) (a9 : Int32) (a10 : Int64) (a12 : Int64) (M : FM), WI Z hx N M → Z a0 → pq (k175 a0 a3 a7 a9 a10 a12 M) (QA S Z hx N M)) (k272 : Nat → Int32 → Int64 → Int64 → FM → Option (Int64 × FM)) (hk272 : ∀ (a0 : Nat) (a9 : Int32) (a10 : Int64) (a12 : Int64) (M : FM), WI Z hx N M → Z a0 → pq (k272 a0 a9 a10 a12 M) (QA S Z hx N M)) (a0 : Nat) (a9 : Int32) (a10 : Int64) (a12 : Int64) (s0 : Nat) (s1 : Int64) (s2 : Int32) (s3 : Int64) (M : FM) (w : WI Z hx N M) (z_a0 : Z a0) (z_s0 : Z s0) : pq (FX95_request_358 n k93 k175 k272 a0 a9 a10 a12 s0 s1 s2 s3 M) (QA S Z hx N M) := by
  have hN := w.2.2.1
  have w0 := wk_r (S := S) w
  delta FX95_request_358 BX95_request_358
  refine pq_g (fun g1 => ?_)
  refine pq_b (wX95_put S Z (sb rfl hS) n _ _ _ _ _ w0.1 z_s0) (fun r2 K3 => ?_)
  have w4 := wk_t w0 K3 hN
  exact q_tA hN w4 (hk272 _ _ _ _ _ w4.1 z_a0)
theorem wX95_request_272 (S Z : Nat → Prop) {hx N : Nat} (hS : ∀ x, fe_mem lX95_request x = true → S x) (n : Nat) (k93 : Nat → Int64 → Int32 → Int64 → Int64 → FM → Option (Int64 × FM)) (hk93 : ∀ (a0 : Nat) (a3 : Int64) (a9 : Int32) (a10 : Int64) (a12 : Int64) (M : FM), WI Z hx N M → Z a0 → pq (k93 a0 a3 a9 a10 a12 M) (QA S Z hx N M)) (k175 : Nat → Int64 → Int64 → Int32 → Int64 → Int64 → FM → Option (Int64 × FM)) (hk175 : ∀ (a0 : Nat) (a3 : Int64) (a7 : Int64) (a9 : Int32) (a10 : Int64) (a12 : Int64) (M : FM), WI Z hx N M → Z a0 → pq (k175 a0 a3 a7 a9 a10 a12 M) (QA S Z hx N M)) (k272 : Nat → Int32 → Int64 → Int64 → FM → Option (Int64 × FM)) (hk272 : ∀ (a0 : Nat) (a9 : Int32) (a10 : Int64) (a12 : Int64) (M : FM), WI Z hx N M → Z a0 → pq (k272 a0 a9 a10 a12 M) (QA S Z hx N M)) (a0 : Nat) (a9 : Int32) (a10 : Int64) (a12 : Int64) (M : FM) (w : WI Z hx N M) (z_a0 : Z a0) : pq (FX95_request_272 n k93 k175 k272 a0 a9 a10 a12 M) (QA S Z hx N M) := by
  have hN := w.2.2.1
  have w0 := wk_r (S := S) w
  delta FX95_request_272 BX95_request_272
  refine pq_fi (fun _ => ?_) (fun _ => ?_)
  · exact q_tA hN w0 (wX95_request_384 S Z hS n _ hk93 _ hk175 _ hk272 _ _ _ _ w0.1 z_a0)
  · refine pq_g (fun g1 => ?_)
    refine pq_b (wX95_nextByte S Z (sb rfl hS) n _ _ w0.1 z_a0) (fun r2 K3 => ?_)
    have w4 := wk_t w0 K3 hN
    refine pq_fi (fun _ => ?_) (fun _ => ?_)
    · exact q_tA hN w4 (wX95_request_358 S Z hS n _ hk93 _ hk175 _ hk272 _ _ _ _ _ _ _ _ _ w4.1 z_a0 z_a0)
    · refine pq_fi (fun _ => ?_) (fun _ => ?_)
      · exact q_tA hN w4 (wX95_request_358 S Z hS n _ hk93 _ hk175 _ hk272 _ _ _ _ _ _ _ _ _ w4.1 z_a0 z_a0)
      · refine pq_fi (fun _ => ?_) (fun _ => ?_)
        · exact q_tA hN w4 (wX95_request_358 S Z hS n _ hk93 _ hk175 _ hk272 _ _ _ _ _ _ _ _ _ w4.1 z_a0 z_a0)
        · refine pq_fi (fun _ => ?_) (fun _ => ?_)
          · exact q_tA hN w4 (wX95_request_358 S Z hS n _ hk93 _ hk175 _ hk272 _ _ _ _ _ _ _ _ _ w4.1 z_a0 z_a0)
          · refine pq_fi (fun _ => ?_) (fun _ => ?_)
            · exact q_tA hN w4 (wX95_request_358 S Z hS n _ hk93 _ hk175 _ hk272 _ _ _ _ _ _ _ _ _ w4.1 z_a0 z_a0)
            · exact q_tA hN w4 (wX95_request_358 S Z hS n _ hk93 _ hk175 _ hk272 _ _ _ _ _ _ _ _ _ w4.1 z_a0 z_a0)
theorem wX95_request_262 (S Z : Nat → Prop) {hx N : Nat} (hS : ∀ x, fe_mem lX95_request x = true → S x) (n : Nat) (k93 : Nat → Int64 → Int32 → Int64 → Int64 → FM → Option (Int64 × FM)) (hk93 : ∀ (a0 : Nat) (a3 : Int64) (a9 : Int32) (a10 : Int64) (a12 : Int64) (M : FM), WI Z hx N M → Z a0 → pq (k93 a0 a3 a9 a10 a12 M) (QA S Z hx N M)) (k175 : Nat → Int64 → Int64 → Int32 → Int64 → Int64 → FM → Option (Int64 × FM)) (hk175 : ∀ (a0 : Nat) (a3 : Int64) (a7 : Int64) (a9 : Int32) (a10 : Int64) (a12 : Int64) (M : FM), WI Z hx N M → Z a0 → pq (k175 a0 a3 a7 a9 a10 a12 M) (QA S Z hx N M)) (k272 : Nat → Int32 → Int64 → Int64 → FM → Option (Int64 × FM)) (hk272 : ∀ (a0 : Nat) (a9 : Int32) (a10 : Int64) (a12 : Int64) (M : FM), WI Z hx N M → Z a0 → pq (k272 a0 a9 a10 a12 M) (QA S Z hx N M)) (a0 : Nat) (a9 : Int32) (s0 : Int64) (M : FM) (w : WI Z hx N M) (z_a0 : Z a0) : pq (FX95_request_262 n k93 k175 k272 a0 a9 s0 M) (QA S Z hx N M) := by
  have hN := w.2.2.1
  have w0 := wk_r (S := S) w
  delta FX95_request_262 BX95_request_262
  refine pq_g (fun g1 => ?_)
  refine pq_b (wX95_beginData S Z (sb rfl hS) n _ _ _ w0.1 z_a0) (fun r2 K3 => ?_)
  have w4 := wk_t w0 K3 hN
  exact q_tA hN w4 (hk272 _ _ _ _ _ w4.1 z_a0)
theorem wX95_request_175 (S Z : Nat → Prop) {hx N : Nat} (hS : ∀ x, fe_mem lX95_request x = true → S x) (n : Nat) (k93 : Nat → Int64 → Int32 → Int64 → Int64 → FM → Option (Int64 × FM)) (hk93 : ∀ (a0 : Nat) (a3 : Int64) (a9 : Int32) (a10 : Int64) (a12 : Int64) (M : FM), WI Z hx N M → Z a0 → pq (k93 a0 a3 a9 a10 a12 M) (QA S Z hx N M)) (k175 : Nat → Int64 → Int64 → Int32 → Int64 → Int64 → FM → Option (Int64 × FM)) (hk175 : ∀ (a0 : Nat) (a3 : Int64) (a7 : Int64) (a9 : Int32) (a10 : Int64) (a12 : Int64) (M : FM), WI Z hx N M → Z a0 → pq (k175 a0 a3 a7 a9 a10 a12 M) (QA S Z hx N M)) (k272 : Nat → Int32 → Int64 → Int64 → FM → Option (Int64 × FM)) (hk272 : ∀ (a0 : Nat) (a9 : Int32) (a10 : Int64) (a12 : Int64) (M : FM), WI Z hx N M → Z a0 → pq (k272 a0 a9 a10 a12 M) (QA S Z hx N M)) (a0 : Nat) (a3 : Int64) (a7 : Int64) (a9 : Int32) (a10 : Int64) (a12 : Int64) (M : FM) (w : WI Z hx N M) (z_a0 : Z a0) : pq (FX95_request_175 n k93 k175 k272 a0 a3 a7 a9 a10 a12 M) (QA S Z hx N M) := by
  have hN := w.2.2.1
  have w0 := wk_r (S := S) w
  delta FX95_request_175 BX95_request_175
  refine pq_fi (fun _ => ?_) (fun _ => ?_)
  · refine pq_g (fun g1 => ?_)
    refine pq_n ?_
    refine pq_g (fun g2 => ?_)
    extract_lets +onlyGivenNames M4
    have w3 : Wk S Z hx N M M4 := wk_fI hN w0 rfl rfl g2 z_a0 (Or.inr (hS 338 rfl))
    exact q_tA hN w3 (wX95_request_384 S Z hS n _ hk93 _ hk175 _ hk272 _ _ _ _ w3.1 z_a0)
  · refine pq_g (fun g5 => ?_)
    have z6 := wk_z (i := 0) (f := 327) w0 rfl z_a0
    have f7 := sS_327 w0.1.1 g5
    refine pq_g (fun g8 => ?_)
    refine pq_b (wX95_nextByte S Z (sb rfl hS) n _ _ w0.1 z_a0) (fun r9 K10 => ?_)
    have w11 := wk_t w0 K10 hN
    have f12 := sf_k w0.1.1 K10 f7
    refine pq_g (fun g13 => ?_)
    refine pq_b (wX95_number S Z (sb rfl hS) n _ _ _ _ w11.1 z_a0) (fun r14 K15 => ?_)
    have w16 := wk_t w11 K15 hN
    have f17 := sf_k w11.1.1 K15 f12
    refine pq_b (wX95_putByte S Z (sb rfl hS) _ _ _ _ w16.1 z6 (sy_s f17 (hS 1327 rfl))) (fun r18 K19 => ?_)
    have w20 := wk_t w16 K19 hN
    exact q_tA hN w20 (hk175 _ _ _ _ _ _ _ w20.1 z_a0)
theorem wX95_request_160 (S Z : Nat → Prop) {hx N : Nat} (hS : ∀ x, fe_mem lX95_request x = true → S x) (n : Nat) (k93 : Nat → Int64 → Int32 → Int64 → Int64 → FM → Option (Int64 × FM)) (hk93 : ∀ (a0 : Nat) (a3 : Int64) (a9 : Int32) (a10 : Int64) (a12 : Int64) (M : FM), WI Z hx N M → Z a0 → pq (k93 a0 a3 a9 a10 a12 M) (QA S Z hx N M)) (k175 : Nat → Int64 → Int64 → Int32 → Int64 → Int64 → FM → Option (Int64 × FM)) (hk175 : ∀ (a0 : Nat) (a3 : Int64) (a7 : Int64) (a9 : Int32) (a10 : Int64) (a12 : Int64) (M : FM), WI Z hx N M → Z a0 → pq (k175 a0 a3 a7 a9 a10 a12 M) (QA S Z hx N M)) (k272 : Nat → Int32 → Int64 → Int64 → FM → Option (Int64 × FM)) (hk272 : ∀ (a0 : Nat) (a9 : Int32) (a10 : Int64) (a12 : Int64) (M : FM), WI Z hx N M → Z a0 → pq (k272 a0 a9 a10 a12 M) (QA S Z hx N M)) (a0 : Nat) (a3 : Int64) (a7 : Int64) (a10 : Int64) (s0 : Int32) (M : FM) (w : WI Z hx N M) (z_a0 : Z a0) : pq (FX95_request_160 n k93 k175 k272 a0 a3 a7 a10 s0 M) (QA S Z hx N M) := by
  have hN := w.2.2.1
  have w0 := wk_r (S := S) w
  delta FX95_request_160 BX95_request_160
  refine pq_fi (fun _ => ?_) (fun _ => ?_)
  · refine pq_g (fun g1 => ?_)
    refine pq_b (wX95_beginData S Z (sb rfl hS) n _ _ _ w0.1 z_a0) (fun r2 K3 => ?_)
    have w4 := wk_t w0 K3 hN
    exact q_tA hN w4 (hk175 _ _ _ _ _ _ _ w4.1 z_a0)
  · exact q_tA hN w0 (wX95_request_384 S Z hS n _ hk93 _ hk175 _ hk272 _ _ _ _ w0.1 z_a0)
theorem wX95_request_93 (S Z : Nat → Prop) {hx N : Nat} (hS : ∀ x, fe_mem lX95_request x = true → S x) (n : Nat) (k93 : Nat → Int64 → Int32 → Int64 → Int64 → FM → Option (Int64 × FM)) (hk93 : ∀ (a0 : Nat) (a3 : Int64) (a9 : Int32) (a10 : Int64) (a12 : Int64) (M : FM), WI Z hx N M → Z a0 → pq (k93 a0 a3 a9 a10 a12 M) (QA S Z hx N M)) (k175 : Nat → Int64 → Int64 → Int32 → Int64 → Int64 → FM → Option (Int64 × FM)) (hk175 : ∀ (a0 : Nat) (a3 : Int64) (a7 : Int64) (a9 : Int32) (a10 : Int64) (a12 : Int64) (M : FM), WI Z hx N M → Z a0 → pq (k175 a0 a3 a7 a9 a10 a12 M) (QA S Z hx N M)) (k272 : Nat → Int32 → Int64 → Int64 → FM → Option (Int64 × FM)) (hk272 : ∀ (a0 : Nat) (a9 : Int32) (a10 : Int64) (a12 : Int64) (M : FM), WI Z hx N M → Z a0 → pq (k272 a0 a9 a10 a12 M) (QA S Z hx N M)) (a0 : Nat) (a3 : Int64) (a9 : Int32) (a10 : Int64) (a12 : Int64) (M : FM) (w : WI Z hx N M) (z_a0 : Z a0) : pq (FX95_request_93 n k93 k175 k272 a0 a3 a9 a10 a12 M) (QA S Z hx N M) := by
  have hN := w.2.2.1
  have w0 := wk_r (S := S) w
  delta FX95_request_93 BX95_request_93
  refine pq_fi (fun _ => ?_) (fun _ => ?_)
  · exact q_tA hN w0 (wX95_request_384 S Z hS n _ hk93 _ hk175 _ hk272 _ _ _ _ w0.1 z_a0)
  · refine pq_g (fun g1 => ?_)
    refine pq_b (wX95_nextByte S Z (sb rfl hS) n _ _ w0.1 z_a0) (fun r2 K3 => ?_)
    have w4 := wk_t w0 K3 hN
    refine pq_g (fun g5 => ?_)
    have z6 := wk_z (i := 0) (f := 327) w4 rfl z_a0
    have f7 := sS_327 w4.1.1 g5
    refine pq_b (wX95_byteOf S Z (sb rfl hS) _ _ _ w4.1 z6) (fun r8 K9 => ?_)
    have w10 := wk_t w4 K9 hN
    refine pq_g (fun g11 => ?_)
    refine pq_b (wX95_put S Z (sb rfl hS) n _ _ _ _ _ w10.1 z_a0) (fun r12 K13 => ?_)
    have w14 := wk_t w10 K13 hN
    exact q_tA hN w14 (hk93 _ _ _ _ _ _ w14.1 z_a0)
theorem wX95_request_83 (S Z : Nat → Prop) {hx N : Nat} (hS : ∀ x, fe_mem lX95_request x = true → S x) (n : Nat) (k93 : Nat → Int64 → Int32 → Int64 → Int64 → FM → Option (Int64 × FM)) (hk93 : ∀ (a0 : Nat) (a3 : Int64) (a9 : Int32) (a10 : Int64) (a12 : Int64) (M : FM), WI Z hx N M → Z a0 → pq (k93 a0 a3 a9 a10 a12 M) (QA S Z hx N M)) (k175 : Nat → Int64 → Int64 → Int32 → Int64 → Int64 → FM → Option (Int64 × FM)) (hk175 : ∀ (a0 : Nat) (a3 : Int64) (a7 : Int64) (a9 : Int32) (a10 : Int64) (a12 : Int64) (M : FM), WI Z hx N M → Z a0 → pq (k175 a0 a3 a7 a9 a10 a12 M) (QA S Z hx N M)) (k272 : Nat → Int32 → Int64 → Int64 → FM → Option (Int64 × FM)) (hk272 : ∀ (a0 : Nat) (a9 : Int32) (a10 : Int64) (a12 : Int64) (M : FM), WI Z hx N M → Z a0 → pq (k272 a0 a9 a10 a12 M) (QA S Z hx N M)) (a0 : Nat) (a3 : Int64) (a9 : Int32) (s0 : Int64) (M : FM) (w : WI Z hx N M) (z_a0 : Z a0) : pq (FX95_request_83 n k93 k175 k272 a0 a3 a9 s0 M) (QA S Z hx N M) := by
  have hN := w.2.2.1
  have w0 := wk_r (S := S) w
  delta FX95_request_83 BX95_request_83
  refine pq_g (fun g1 => ?_)
  refine pq_b (wX95_beginData S Z (sb rfl hS) n _ _ _ w0.1 z_a0) (fun r2 K3 => ?_)
  have w4 := wk_t w0 K3 hN
  exact q_tA hN w4 (hk93 _ _ _ _ _ _ w4.1 z_a0)
theorem wX95_request_70 (S Z : Nat → Prop) {hx N : Nat} (hS : ∀ x, fe_mem lX95_request x = true → S x) (n : Nat) (k93 : Nat → Int64 → Int32 → Int64 → Int64 → FM → Option (Int64 × FM)) (hk93 : ∀ (a0 : Nat) (a3 : Int64) (a9 : Int32) (a10 : Int64) (a12 : Int64) (M : FM), WI Z hx N M → Z a0 → pq (k93 a0 a3 a9 a10 a12 M) (QA S Z hx N M)) (k175 : Nat → Int64 → Int64 → Int32 → Int64 → Int64 → FM → Option (Int64 × FM)) (hk175 : ∀ (a0 : Nat) (a3 : Int64) (a7 : Int64) (a9 : Int32) (a10 : Int64) (a12 : Int64) (M : FM), WI Z hx N M → Z a0 → pq (k175 a0 a3 a7 a9 a10 a12 M) (QA S Z hx N M)) (k272 : Nat → Int32 → Int64 → Int64 → FM → Option (Int64 × FM)) (hk272 : ∀ (a0 : Nat) (a9 : Int32) (a10 : Int64) (a12 : Int64) (M : FM), WI Z hx N M → Z a0 → pq (k272 a0 a9 a10 a12 M) (QA S Z hx N M)) (a0 : Nat) (a3 : Int64) (a5 : Int64) (s0 : Int32) (M : FM) (w : WI Z hx N M) (z_a0 : Z a0) : pq (FX95_request_70 n k93 k175 k272 a0 a3 a5 s0 M) (QA S Z hx N M) := by
  have hN := w.2.2.1
  have w0 := wk_r (S := S) w
  delta FX95_request_70 BX95_request_70
  refine pq_fi (fun _ => ?_) (fun _ => ?_)
  · exact q_tA hN w0 (wX95_request_83 S Z hS n _ hk93 _ hk175 _ hk272 _ _ _ _ _ w0.1 z_a0)
  · exact q_tA hN w0 (wX95_request_83 S Z hS n _ hk93 _ hk175 _ hk272 _ _ _ _ _ w0.1 z_a0)
theorem wX95_request_0 (S Z : Nat → Prop) {hx N : Nat} (hS : ∀ x, fe_mem lX95_request x = true → S x) (n : Nat) (k93 : Nat → Int64 → Int32 → Int64 → Int64 → FM → Option (Int64 × FM)) (hk93 : ∀ (a0 : Nat) (a3 : Int64) (a9 : Int32) (a10 : Int64) (a12 : Int64) (M : FM), WI Z hx N M → Z a0 → pq (k93 a0 a3 a9 a10 a12 M) (QA S Z hx N M)) (k175 : Nat → Int64 → Int64 → Int32 → Int64 → Int64 → FM → Option (Int64 × FM)) (hk175 : ∀ (a0 : Nat) (a3 : Int64) (a7 : Int64) (a9 : Int32) (a10 : Int64) (a12 : Int64) (M : FM), WI Z hx N M → Z a0 → pq (k175 a0 a3 a7 a9 a10 a12 M) (QA S Z hx N M)) (k272 : Nat → Int32 → Int64 → Int64 → FM → Option (Int64 × FM)) (hk272 : ∀ (a0 : Nat) (a9 : Int32) (a10 : Int64) (a12 : Int64) (M : FM), WI Z hx N M → Z a0 → pq (k272 a0 a9 a10 a12 M) (QA S Z hx N M)) (a0 : Nat) (M : FM) (w : WI Z hx N M) (z_a0 : Z a0) : pq (FX95_request_0 n k93 k175 k272 a0 M) (QA S Z hx N M) := by
  have hN := w.2.2.1
  have w0 := wk_r (S := S) w
  delta FX95_request_0 BX95_request_0
  refine pq_g (fun g1 => ?_)
  have z2 := wk_z (i := 0) (f := 340) w0 rfl z_a0
  have f3 := sS_340 w0.1.1 g1
  refine pq_g (fun g4 => ?_)
  refine pq_g (fun g5 => ?_)
  refine pq_b (wX95_number S Z (sb rfl hS) n _ _ _ _ w0.1 z_a0) (fun r6 K7 => ?_)
  have w8 := wk_t w0 K7 hN
  refine pq_g (fun g9 => ?_)
  have z10 := wk_z (i := 0) (f := 340) w8 rfl z_a0
  have f11 := sS_340 w8.1.1 g9
  refine pq_g (fun g12 => ?_)
  refine pq_g (fun g13 => ?_)
  refine pq_b (wX95_number S Z (sb rfl hS) n _ _ _ _ w8.1 z_a0) (fun r14 K15 => ?_)
  have w16 := wk_t w8 K15 hN
  refine pq_g (fun g17 => ?_)
  refine pq_b (wX95_data S Z (sb rfl hS) n _ _ _ w16.1 z_a0) (fun r18 K19 => ?_)
  have w20 := wk_t w16 K19 hN
  refine pq_g (fun g21 => ?_)
  refine pq_b (wX95_data S Z (sb rfl hS) n _ _ _ w20.1 z_a0) (fun r22 K23 => ?_)
  have w24 := wk_t w20 K23 hN
  refine pq_fi (fun _ => ?_) (fun _ => ?_)
  · refine pq_g (fun g25 => ?_)
    refine pq_b (wX95_areSectors S Z (sb rfl hS) _ _ _ _ w24.1 z_a0) (fun r26 K27 => ?_)
    have w28 := wk_t w24 K27 hN
    refine pq_fi (fun _ => ?_) (fun _ => ?_)
    · exact q_tA hN w28 (wX95_request_70 S Z hS n _ hk93 _ hk175 _ hk272 _ _ _ _ _ w28.1 z_a0)
    · exact q_tA hN w28 (wX95_request_70 S Z hS n _ hk93 _ hk175 _ hk272 _ _ _ _ _ w28.1 z_a0)
  · refine pq_fi (fun _ => ?_) (fun _ => ?_)
    · refine pq_g (fun g29 => ?_)
      refine pq_b (wX95_areSectors S Z (sb rfl hS) _ _ _ _ w24.1 z_a0) (fun r30 K31 => ?_)
      have w32 := wk_t w24 K31 hN
      refine pq_fi (fun _ => ?_) (fun _ => ?_)
      · exact q_tA hN w32 (wX95_request_160 S Z hS n _ hk93 _ hk175 _ hk272 _ _ _ _ _ _ w32.1 z_a0)
      · exact q_tA hN w32 (wX95_request_160 S Z hS n _ hk93 _ hk175 _ hk272 _ _ _ _ _ _ w32.1 z_a0)
    · refine pq_fi (fun _ => ?_) (fun _ => ?_)
      · refine pq_fi (fun _ => ?_) (fun _ => ?_)
        · exact q_tA hN w24 (wX95_request_262 S Z hS n _ hk93 _ hk175 _ hk272 _ _ _ _ w24.1 z_a0)
        · exact q_tA hN w24 (wX95_request_262 S Z hS n _ hk93 _ hk175 _ hk272 _ _ _ _ w24.1 z_a0)
      · refine pq_fi (fun _ => ?_) (fun _ => ?_)
        · exact q_tA hN w24 (wX95_request_384 S Z hS n _ hk93 _ hk175 _ hk272 _ _ _ _ w24.1 z_a0)
        · exact q_tA hN w24 (wX95_request_384 S Z hS n _ hk93 _ hk175 _ hk272 _ _ _ _ w24.1 z_a0)
theorem wX95_request_L (S Z : Nat → Prop) {hx N : Nat} (hS : ∀ x, fe_mem lX95_request x = true → S x) (n : Nat) : ∀ j : Nat, (∀ (a0 : Nat) (a3 : Int64) (a9 : Int32) (a10 : Int64) (a12 : Int64) (M : FM), WI Z hx N M → Z a0 → pq ((FX95_request_L n j).1 a0 a3 a9 a10 a12 M) (QA S Z hx N M)) ∧ (∀ (a0 : Nat) (a3 : Int64) (a7 : Int64) (a9 : Int32) (a10 : Int64) (a12 : Int64) (M : FM), WI Z hx N M → Z a0 → pq ((FX95_request_L n j).2.1 a0 a3 a7 a9 a10 a12 M) (QA S Z hx N M)) ∧ (∀ (a0 : Nat) (a9 : Int32) (a10 : Int64) (a12 : Int64) (M : FM), WI Z hx N M → Z a0 → pq ((FX95_request_L n j).2.2 a0 a9 a10 a12 M) (QA S Z hx N M))
  | 0 => ⟨by intros; exact pq_0, by intros; exact pq_0, by intros; exact pq_0⟩
  | j + 1 => ⟨fun a0 a3 a9 a10 a12 M w => wX95_request_93 S Z hS n _ (wX95_request_L S Z hS n j).1 _ (wX95_request_L S Z hS n j).2.1 _ (wX95_request_L S Z hS n j).2.2 a0 a3 a9 a10 a12 M w, fun a0 a3 a7 a9 a10 a12 M w => wX95_request_175 S Z hS n _ (wX95_request_L S Z hS n j).1 _ (wX95_request_L S Z hS n j).2.1 _ (wX95_request_L S Z hS n j).2.2 a0 a3 a7 a9 a10 a12 M w, fun a0 a9 a10 a12 M w => wX95_request_272 S Z hS n _ (wX95_request_L S Z hS n j).1 _ (wX95_request_L S Z hS n j).2.1 _ (wX95_request_L S Z hS n j).2.2 a0 a9 a10 a12 M w⟩
theorem wX95_request (S Z : Nat → Prop) {hx N : Nat} (hS : ∀ x, fe_mem lX95_request x = true → S x) (n : Nat) (a0 : Nat) (M : FM) (w : WI Z hx N M) (z_a0 : Z a0) : pq (FX95_request n a0 M) (QA S Z hx N M) := wX95_request_0 S Z hS n _ (wX95_request_L S Z hS n n).1 _ (wX95_request_L S Z hS n n).2.1 _ (wX95_request_L S Z hS n n).2.2 a0 M w z_a0
def lX95_oneMore : List Nat := [335, 336, 337, 338, 339, 343, 344, 1327, 1340, 1341, 1342, 1388, 1389, 1391]
theorem wX95_oneMore_111 (S Z : Nat → Prop) {hx N : Nat} (hS : ∀ x, fe_mem lX95_oneMore x = true → S x) (n : Nat) (M : FM) (w : WI Z hx N M) : pq (FX95_oneMore_111 n M) (QA S Z hx N M) := by
  have hN := w.2.2.1
  have w0 := wk_r (S := S) w
  delta FX95_oneMore_111 BX95_oneMore_111
  refine pq_g (fun _ => ?_)
  exact pq_s w0
theorem wX95_oneMore_0 (S Z : Nat → Prop) {hx N : Nat} (hS : ∀ x, fe_mem lX95_oneMore x = true → S x) (n : Nat) (a0 : Nat) (M : FM) (w : WI Z hx N M) (z_a0 : Z a0) : pq (FX95_oneMore_0 n a0 M) (QA S Z hx N M) := by
  have hN := w.2.2.1
  have w0 := wk_r (S := S) w
  delta FX95_oneMore_0 BX95_oneMore_0
  refine pq_g (fun g1 => ?_)
  have z2 := wk_z (i := 0) (f := 334) w0 rfl z_a0
  have f3 := sS_334 w0.1.1 g1
  refine pq_g (fun g4 => ?_)
  refine pq_g (fun g5 => ?_)
  refine pq_g (fun g6 => ?_)
  refine pq_n ?_
  refine pq_b (wX95_isThere S Z (sb rfl hS) _ _ _ w0.1 ) (fun r7 K8 => ?_)
  have w9 := wk_t w0 K8 hN
  refine pq_fi (fun _ => ?_) (fun _ => ?_)
  · refine pq_g (fun _ => ?_)
    exact pq_s w9
  · refine pq_g (fun g10 => ?_)
    refine pq_b (wX95_number S Z (sb rfl hS) n _ _ _ _ w9.1 z_a0) (fun r11 K12 => ?_)
    have w13 := wk_t w9 K12 hN
    refine pq_g (fun g14 => ?_)
    have z15 := wk_z (i := 0) (f := 334) w13 rfl z_a0
    have f16 := sS_334 w13.1.1 g14
    refine pq_g (fun g17 => ?_)
    refine pq_g (fun g18 => ?_)
    refine pq_g (fun g19 => ?_)
    refine pq_n ?_
    refine pq_g (fun g20 => ?_)
    refine pq_b (wX95_gather S Z (sb rfl hS) n _ _ _ w13.1 z_a0) (fun r21 K22 => ?_)
    have w23 := wk_t w13 K22 hN
    refine pq_fi (fun _ => ?_) (fun _ => ?_)
    · exact q_tA hN w23 (wX95_oneMore_111 S Z hS n _ w23.1 )
    · refine pq_b (wX95_isThere S Z (sb rfl hS) _ _ _ w23.1 ) (fun r24 K25 => ?_)
      have w26 := wk_t w23 K25 hN
      refine pq_fi (fun _ => ?_) (fun _ => ?_)
      · exact q_tA hN w26 (wX95_oneMore_111 S Z hS n _ w26.1 )
      · refine pq_g (fun g27 => ?_)
        have z28 := wk_z (i := 0) (f := 334) w26 rfl z_a0
        have f29 := sS_334 w26.1.1 g27
        refine pq_g (fun g30 => ?_)
        refine pq_b (wX95_isThere S Z (sb rfl hS) _ _ _ w26.1 ) (fun r31 K32 => ?_)
        have w33 := wk_t w26 K32 hN
        refine pq_fi (fun _ => ?_) (fun _ => ?_)
        · exact q_tA hN w33 (wX95_oneMore_111 S Z hS n _ w33.1 )
        · refine pq_g (fun g34 => ?_)
          refine pq_b (wX95_request S Z (sb rfl hS) n _ _ w33.1 z_a0) (fun r35 K36 => ?_)
          have w37 := wk_t w33 K36 hN
          refine pq_g (fun g38 => ?_)
          refine pq_b (wX95_put S Z (sb rfl hS) n _ _ _ _ _ w37.1 z_a0) (fun r39 K40 => ?_)
          have w41 := wk_t w37 K40 hN
          refine pq_g (fun g42 => ?_)
          refine pq_b (wX95_put S Z (sb rfl hS) n _ _ _ _ _ w41.1 z_a0) (fun r43 K44 => ?_)
          have w45 := wk_t w41 K44 hN
          refine pq_g (fun g46 => ?_)
          refine pq_n ?_
          refine pq_g (fun g47 => ?_)
          extract_lets +onlyGivenNames M49
          have w48 : Wk S Z hx N M M49 := wk_fI hN w45 rfl rfl g47 z_a0 (Or.inr (hS 335 rfl))
          refine pq_g (fun g50 => ?_)
          refine pq_n ?_
          refine pq_g (fun g51 => ?_)
          extract_lets +onlyGivenNames M53
          have w52 : Wk S Z hx N M M53 := wk_fI hN w48 rfl rfl g51 z_a0 (Or.inr (hS 336 rfl))
          refine pq_g (fun g54 => ?_)
          have z55 := wk_z (i := 0) (f := 334) w52 rfl z_a0
          have f56 := sS_334 w52.1.1 g54
          refine pq_g (fun g57 => ?_)
          refine pq_g (fun g58 => ?_)
          refine pq_g (fun g59 => ?_)
          refine pq_b (wX95_put S Z (sb rfl hS) n _ _ _ _ _ w52.1 z_a0) (fun r60 K61 => ?_)
          have w62 := wk_t w52 K61 hN
          refine pq_g (fun g63 => ?_)
          refine pq_g (fun g64 => ?_)
          extract_lets +onlyGivenNames M66
          have w65 : Wk S Z hx N M M66 := wk_fI hN w62 rfl rfl g64 z_a0 (Or.inr (hS 337 rfl))
          refine pq_g (fun _ => ?_)
          exact pq_s w65
theorem wX95_oneMore (S Z : Nat → Prop) {hx N : Nat} (hS : ∀ x, fe_mem lX95_oneMore x = true → S x) (n : Nat) (a0 : Nat) (M : FM) (w : WI Z hx N M) (z_a0 : Z a0) : pq (FX95_oneMore n a0 M) (QA S Z hx N M) := wX95_oneMore_0 S Z hS n a0 M w z_a0
def lX95_work : List Nat := [332, 333, 335, 336, 337, 338, 339, 343, 344, 1327, 1340, 1341, 1342, 1388, 1389, 1391]
theorem wX95_work_183 (S Z : Nat → Prop) {hx N : Nat} (hS : ∀ x, fe_mem lX95_work x = true → S x) (n : Nat) (k34 : Nat → Int32 → Int64 → Int32 → FM → Option (FM)) (hk34 : ∀ (a0 : Nat) (a1 : Int32) (a2 : Int64) (a4 : Int32) (M : FM), WI Z hx N M → Z a0 → pq (k34 a0 a1 a2 a4 M) (QV S Z hx N M)) (s0 : Nat) (s1 : Int32) (M : FM) (w : WI Z hx N M) (z_s0 : Z s0) : pq (FX95_work_183 n k34 s0 s1 M) (QV S Z hx N M) := by
  have hN := w.2.2.1
  have w0 := wk_r (S := S) w
  delta FX95_work_183 BX95_work_183
  refine pq_g (fun g1 => ?_)
  extract_lets +onlyGivenNames M3
  have w2 : Wk S Z hx N M M3 := wk_fI hN w0 rfl rfl g1 z_s0 (Or.inr (hS 332 rfl))
  exact pq_s w2
theorem wX95_work_179 (S Z : Nat → Prop) {hx N : Nat} (hS : ∀ x, fe_mem lX95_work x = true → S x) (n : Nat) (k34 : Nat → Int32 → Int64 → Int32 → FM → Option (FM)) (hk34 : ∀ (a0 : Nat) (a1 : Int32) (a2 : Int64) (a4 : Int32) (M : FM), WI Z hx N M → Z a0 → pq (k34 a0 a1 a2 a4 M) (QV S Z hx N M)) (a0 : Nat) (s0 : Nat) (M : FM) (w : WI Z hx N M) (z_a0 : Z a0) (z_s0 : Z s0) : pq (FX95_work_179 n k34 a0 s0 M) (QV S Z hx N M) := by
  have hN := w.2.2.1
  have w0 := wk_r (S := S) w
  delta FX95_work_179 BX95_work_179
  refine pq_g (fun g1 => ?_)
  exact q_tV hN w0 (wX95_work_183 S Z hS n _ hk34 _ _ _ w0.1 z_s0)
theorem wX95_work_152 (S Z : Nat → Prop) {hx N : Nat} (hS : ∀ x, fe_mem lX95_work x = true → S x) (n : Nat) (k34 : Nat → Int32 → Int64 → Int32 → FM → Option (FM)) (hk34 : ∀ (a0 : Nat) (a1 : Int32) (a2 : Int64) (a4 : Int32) (M : FM), WI Z hx N M → Z a0 → pq (k34 a0 a1 a2 a4 M) (QV S Z hx N M)) (a0 : Nat) (a1 : Int32) (a2 : Int64) (a4 : Int32) (M : FM) (w : WI Z hx N M) (z_a0 : Z a0) : pq (FX95_work_152 n k34 a0 a1 a2 a4 M) (QV S Z hx N M) := by
  have hN := w.2.2.1
  have w0 := wk_r (S := S) w
  delta FX95_work_152 BX95_work_152
  exact q_tV hN w0 (hk34 _ _ _ _ _ w0.1 z_a0)
theorem wX95_work_139 (S Z : Nat → Prop) {hx N : Nat} (hS : ∀ x, fe_mem lX95_work x = true → S x) (n : Nat) (k34 : Nat → Int32 → Int64 → Int32 → FM → Option (FM)) (hk34 : ∀ (a0 : Nat) (a1 : Int32) (a2 : Int64) (a4 : Int32) (M : FM), WI Z hx N M → Z a0 → pq (k34 a0 a1 a2 a4 M) (QV S Z hx N M)) (a0 : Nat) (a1 : Int32) (a2 : Int64) (M : FM) (w : WI Z hx N M) (z_a0 : Z a0) : pq (FX95_work_139 n k34 a0 a1 a2 M) (QV S Z hx N M) := by
  have hN := w.2.2.1
  have w0 := wk_r (S := S) w
  delta FX95_work_139 BX95_work_139
  refine pq_g (fun g1 => ?_)
  refine pq_b (wX95_breakDown S Z (sb rfl hS) _ _ w0.1 z_a0) (fun r2 K3 => ?_)
  have w4 := wk_t w0 K3 hN
  exact q_tV hN w4 (wX95_work_152 S Z hS n _ hk34 _ _ _ _ _ w4.1 z_a0)
theorem wX95_work_117 (S Z : Nat → Prop) {hx N : Nat} (hS : ∀ x, fe_mem lX95_work x = true → S x) (n : Nat) (k34 : Nat → Int32 → Int64 → Int32 → FM → Option (FM)) (hk34 : ∀ (a0 : Nat) (a1 : Int32) (a2 : Int64) (a4 : Int32) (M : FM), WI Z hx N M → Z a0 → pq (k34 a0 a1 a2 a4 M) (QV S Z hx N M)) (a0 : Nat) (a1 : Int32) (a2 : Int64) (M : FM) (w : WI Z hx N M) (z_a0 : Z a0) : pq (FX95_work_117 n k34 a0 a1 a2 M) (QV S Z hx N M) := by
  have hN := w.2.2.1
  have w0 := wk_r (S := S) w
  delta FX95_work_117 BX95_work_117
  exact q_tV hN w0 (wX95_work_152 S Z hS n _ hk34 _ _ _ _ _ w0.1 z_a0)
theorem wX95_work_34 (S Z : Nat → Prop) {hx N : Nat} (hS : ∀ x, fe_mem lX95_work x = true → S x) (n : Nat) (k34 : Nat → Int32 → Int64 → Int32 → FM → Option (FM)) (hk34 : ∀ (a0 : Nat) (a1 : Int32) (a2 : Int64) (a4 : Int32) (M : FM), WI Z hx N M → Z a0 → pq (k34 a0 a1 a2 a4 M) (QV S Z hx N M)) (a0 : Nat) (a1 : Int32) (a2 : Int64) (a4 : Int32) (M : FM) (w : WI Z hx N M) (z_a0 : Z a0) : pq (FX95_work_34 n k34 a0 a1 a2 a4 M) (QV S Z hx N M) := by
  have hN := w.2.2.1
  have w0 := wk_r (S := S) w
  delta FX95_work_34 BX95_work_34
  refine pq_fi (fun _ => ?_) (fun _ => ?_)
  · refine pq_fi (fun _ => ?_) (fun _ => ?_)
    · exact q_tV hN w0 (wX95_work_179 S Z hS n _ hk34 _ _ _ w0.1 z_a0 z_a0)
    · refine pq_n ?_
      refine pq_fi (fun _ => ?_) (fun _ => ?_)
      · refine pq_g (fun g1 => ?_)
        exact q_tV hN w0 (wX95_work_183 S Z hS n _ hk34 _ _ _ w0.1 z_a0)
      · exact q_tV hN w0 (wX95_work_179 S Z hS n _ hk34 _ _ _ w0.1 z_a0 z_a0)
  · refine pq_g (fun g2 => ?_)
    have z3 := wk_z (i := 0) (f := 334) w0 rfl z_a0
    have f4 := sS_334 w0.1.1 g2
    refine pq_g (fun g5 => ?_)
    refine pq_b (wX95_isThere S Z (sb rfl hS) _ _ _ w0.1 ) (fun r6 K7 => ?_)
    have w8 := wk_t w0 K7 hN
    refine pq_fi (fun _ => ?_) (fun _ => ?_)
    · refine pq_g (fun g9 => ?_)
      refine pq_b (wX95_breakDown S Z (sb rfl hS) _ _ w8.1 z_a0) (fun r10 K11 => ?_)
      have w12 := wk_t w8 K11 hN
      exact q_tV hN w12 (hk34 _ _ _ _ _ w12.1 z_a0)
    · refine pq_g (fun g13 => ?_)
      have z14 := wk_z (i := 0) (f := 334) w8 rfl z_a0
      have f15 := sS_334 w8.1.1 g13
      refine pq_g (fun g16 => ?_)
      refine pq_g (fun g17 => ?_)
      refine pq_b (wX95_number S Z (sb rfl hS) n _ _ _ _ w8.1 z_a0) (fun r18 K19 => ?_)
      have w20 := wk_t w8 K19 hN
      refine pq_g (fun g21 => ?_)
      have z22 := wk_z (i := 0) (f := 334) w20 rfl z_a0
      have f23 := sS_334 w20.1.1 g21
      refine pq_g (fun g24 => ?_)
      refine pq_g (fun g25 => ?_)
      refine pq_b (wX95_number S Z (sb rfl hS) n _ _ _ _ w20.1 z_a0) (fun r26 K27 => ?_)
      have w28 := wk_t w20 K27 hN
      refine pq_g (fun g29 => ?_)
      refine pq_fi (fun _ => ?_) (fun _ => ?_)
      · exact q_tV hN w28 (wX95_work_117 S Z hS n _ hk34 _ _ _ _ w28.1 z_a0)
      · refine pq_fi (fun _ => ?_) (fun _ => ?_)
        · exact q_tV hN w28 (wX95_work_117 S Z hS n _ hk34 _ _ _ _ w28.1 z_a0)
        · refine pq_g (fun g30 => ?_)
          refine pq_fi (fun _ => ?_) (fun _ => ?_)
          · exact q_tV hN w28 (wX95_work_139 S Z hS n _ hk34 _ _ _ _ w28.1 z_a0)
          · refine pq_g (fun g31 => ?_)
            refine pq_b (wX95_oneMore S Z (sb rfl hS) n _ _ w28.1 z_a0) (fun r32 K33 => ?_)
            have w34 := wk_t w28 K33 hN
            refine pq_fi (fun _ => ?_) (fun _ => ?_)
            · exact q_tV hN w34 (wX95_work_139 S Z hS n _ hk34 _ _ _ _ w34.1 z_a0)
            · exact q_tV hN w34 (wX95_work_152 S Z hS n _ hk34 _ _ _ _ _ w34.1 z_a0)
theorem wX95_work_26 (S Z : Nat → Prop) {hx N : Nat} (hS : ∀ x, fe_mem lX95_work x = true → S x) (n : Nat) (k34 : Nat → Int32 → Int64 → Int32 → FM → Option (FM)) (hk34 : ∀ (a0 : Nat) (a1 : Int32) (a2 : Int64) (a4 : Int32) (M : FM), WI Z hx N M → Z a0 → pq (k34 a0 a1 a2 a4 M) (QV S Z hx N M)) (M : FM) (w : WI Z hx N M) : pq (FX95_work_26 n k34 M) (QV S Z hx N M) := by
  have hN := w.2.2.1
  have w0 := wk_r (S := S) w
  delta FX95_work_26 BX95_work_26
  exact pq_s w0
theorem wX95_work_0 (S Z : Nat → Prop) {hx N : Nat} (hS : ∀ x, fe_mem lX95_work x = true → S x) (n : Nat) (k34 : Nat → Int32 → Int64 → Int32 → FM → Option (FM)) (hk34 : ∀ (a0 : Nat) (a1 : Int32) (a2 : Int64) (a4 : Int32) (M : FM), WI Z hx N M → Z a0 → pq (k34 a0 a1 a2 a4 M) (QV S Z hx N M)) (a0 : Nat) (M : FM) (w : WI Z hx N M) (z_a0 : Z a0) : pq (FX95_work_0 n k34 a0 M) (QV S Z hx N M) := by
  have hN := w.2.2.1
  have w0 := wk_r (S := S) w
  delta FX95_work_0 BX95_work_0
  refine pq_g (fun g1 => ?_)
  refine pq_fi (fun _ => ?_) (fun _ => ?_)
  · exact q_tV hN w0 (wX95_work_26 S Z hS n _ hk34 _ w0.1 )
  · refine pq_g (fun g2 => ?_)
    refine pq_fi (fun _ => ?_) (fun _ => ?_)
    · refine pq_g (fun g3 => ?_)
      refine pq_fi (fun _ => ?_) (fun _ => ?_)
      · exact q_tV hN w0 (wX95_work_26 S Z hS n _ hk34 _ w0.1 )
      · exact q_tV hN w0 (hk34 _ _ _ _ _ w0.1 z_a0)
    · exact q_tV hN w0 (wX95_work_26 S Z hS n _ hk34 _ w0.1 )
theorem wX95_work_L (S Z : Nat → Prop) {hx N : Nat} (hS : ∀ x, fe_mem lX95_work x = true → S x) (n : Nat) : ∀ j : Nat, ∀ (a0 : Nat) (a1 : Int32) (a2 : Int64) (a4 : Int32) (M : FM), WI Z hx N M → Z a0 → pq (FX95_work_L34 n j a0 a1 a2 a4 M) (QV S Z hx N M)
  | 0 => by intros; exact pq_0
  | j + 1 => fun a0 a1 a2 a4 M w => wX95_work_34 S Z hS n _ (wX95_work_L S Z hS n j) a0 a1 a2 a4 M w
theorem wX95_work (S Z : Nat → Prop) {hx N : Nat} (hS : ∀ x, fe_mem lX95_work x = true → S x) (n : Nat) (a0 : Nat) (M : FM) (w : WI Z hx N M) (z_a0 : Z a0) : pq (FX95_work n a0 M) (QV S Z hx N M) := wX95_work_0 S Z hS n _ (wX95_work_L S Z hS n n) a0 M w z_a0
def lX95_begin : List Nat := [328, 329, 330, 331, 332, 333, 335, 336, 1334]
theorem wX95_begin_33 (S Z : Nat → Prop) {hx N : Nat} (hS : ∀ x, fe_mem lX95_begin x = true → S x) (n : Nat) (k33 : Nat → Int32 → FM → Option (FM)) (hk33 : ∀ (a0 : Nat) (a1 : Int32) (M : FM), WI Z hx N M → Z a0 → pq (k33 a0 a1 M) (QV S Z hx N M)) (a0 : Nat) (a1 : Int32) (M : FM) (w : WI Z hx N M) (z_a0 : Z a0) : pq (FX95_begin_33 n k33 a0 a1 M) (QV S Z hx N M) := by
  have hN := w.2.2.1
  have w0 := wk_r (S := S) w
  delta FX95_begin_33 BX95_begin_33
  refine pq_fi (fun _ => ?_) (fun _ => ?_)
  · refine pq_g (fun g1 => ?_)
    extract_lets +onlyGivenNames M3
    have w2 : Wk S Z hx N M M3 := wk_fI hN w0 rfl rfl g1 z_a0 (Or.inr (hS 335 rfl))
    refine pq_g (fun g4 => ?_)
    extract_lets +onlyGivenNames M6
    have w5 : Wk S Z hx N M M6 := wk_fI hN w2 rfl rfl g4 z_a0 (Or.inr (hS 336 rfl))
    exact pq_s w5
  · refine pq_g (fun g7 => ?_)
    have z8 := wk_z (i := 0) (f := 334) w0 rfl z_a0
    have f9 := sS_334 w0.1.1 g7
    refine pq_g (fun g10 => ?_)
    extract_lets +onlyGivenNames M12
    have w11 : Wk S Z hx N M M12 := wk_aL hN w0 rfl g10.1 z8 (sy_s f9 (hS 1334 rfl))
    exact q_tV hN w11 (hk33 _ _ _ w11.1 z_a0)
theorem wX95_begin_0 (S Z : Nat → Prop) {hx N : Nat} (hS : ∀ x, fe_mem lX95_begin x = true → S x) (n : Nat) (k33 : Nat → Int32 → FM → Option (FM)) (hk33 : ∀ (a0 : Nat) (a1 : Int32) (M : FM), WI Z hx N M → Z a0 → pq (k33 a0 a1 M) (QV S Z hx N M)) (a0 : Nat) (M : FM) (w : WI Z hx N M) (z_a0 : Z a0) : pq (FX95_begin_0 n k33 a0 M) (QV S Z hx N M) := by
  have hN := w.2.2.1
  have w0 := wk_r (S := S) w
  delta FX95_begin_0 BX95_begin_0
  refine pq_g (fun g1 => ?_)
  extract_lets +onlyGivenNames M3
  have w2 : Wk S Z hx N M M3 := wk_fI hN w0 rfl rfl g1 z_a0 (Or.inr (hS 328 rfl))
  refine pq_g (fun g4 => ?_)
  extract_lets +onlyGivenNames M6
  have w5 : Wk S Z hx N M M6 := wk_fI hN w2 rfl rfl g4 z_a0 (Or.inr (hS 329 rfl))
  refine pq_g (fun g7 => ?_)
  extract_lets +onlyGivenNames M9
  have w8 : Wk S Z hx N M M9 := wk_fI hN w5 rfl rfl g7 z_a0 (Or.inr (hS 330 rfl))
  refine pq_g (fun g10 => ?_)
  refine pq_g (fun _ => ?_)
  extract_lets +onlyGivenNames M12
  have w11 : Wk S Z hx N M M12 := wk_fI hN w8 rfl rfl g10 z_a0 (Or.inr (hS 331 rfl))
  refine pq_g (fun g13 => ?_)
  extract_lets +onlyGivenNames M15
  have w14 : Wk S Z hx N M M15 := wk_fI hN w11 rfl rfl g13 z_a0 (Or.inr (hS 332 rfl))
  refine pq_g (fun g16 => ?_)
  extract_lets +onlyGivenNames M18
  have w17 : Wk S Z hx N M M18 := wk_fI hN w14 rfl rfl g16 z_a0 (Or.inr (hS 333 rfl))
  exact q_tV hN w17 (hk33 _ _ _ w17.1 z_a0)
theorem wX95_begin_L (S Z : Nat → Prop) {hx N : Nat} (hS : ∀ x, fe_mem lX95_begin x = true → S x) (n : Nat) : ∀ j : Nat, ∀ (a0 : Nat) (a1 : Int32) (M : FM), WI Z hx N M → Z a0 → pq (FX95_begin_L33 n j a0 a1 M) (QV S Z hx N M)
  | 0 => by intros; exact pq_0
  | j + 1 => fun a0 a1 M w => wX95_begin_33 S Z hS n _ (wX95_begin_L S Z hS n j) a0 a1 M w
theorem wX95_begin (S Z : Nat → Prop) {hx N : Nat} (hS : ∀ x, fe_mem lX95_begin x = true → S x) (n : Nat) (a0 : Nat) (M : FM) (w : WI Z hx N M) (z_a0 : Z a0) : pq (FX95_begin n a0 M) (QV S Z hx N M) := wX95_begin_0 S Z hS n _ (wX95_begin_L S Z hS n n) a0 M w z_a0
def lX95_write : List Nat := [324, 328, 329, 330, 331, 332, 333, 335, 336, 337, 338, 339, 343, 344, 1327, 1334, 1340, 1341, 1342, 1388, 1389, 1391]
theorem wX95_write_206 (S Z : Nat → Prop) {hx N : Nat} (hS : ∀ x, fe_mem lX95_write x = true → S x) (n : Nat) (M : FM) (w : WI Z hx N M) : pq (FX95_write_206 n M) (QV S Z hx N M) := by
  have hN := w.2.2.1
  have w0 := wk_r (S := S) w
  delta FX95_write_206 BX95_write_206
  exact pq_s w0
theorem wX95_write_140 (S Z : Nat → Prop) {hx N : Nat} (hS : ∀ x, fe_mem lX95_write x = true → S x) (n : Nat) (a0 : Nat) (a1 : Int32) (a2 : Int32) (M : FM) (w : WI Z hx N M) (z_a0 : Z a0) : pq (FX95_write_140 n a0 a1 a2 M) (QV S Z hx N M) := by
  have hN := w.2.2.1
  have w0 := wk_r (S := S) w
  delta FX95_write_140 BX95_write_140
  refine pq_g (fun g1 => ?_)
  refine pq_b (wX95_setQueue S Z (sb rfl hS) _ _ _ _ w0.1 z_a0) (fun r2 K3 => ?_)
  have w4 := wk_t w0 K3 hN
  exact q_tV hN w4 (wX95_write_206 S Z hS n _ w4.1 )
theorem wX95_write_0 (S Z : Nat → Prop) {hx N : Nat} (hS : ∀ x, fe_mem lX95_write x = true → S x) (n : Nat) (a0 : Nat) (a1 : Int32) (a2 : Int32) (M : FM) (w : WI Z hx N M) (z_a0 : Z a0) : pq (FX95_write_0 n a0 a1 a2 M) (QV S Z hx N M) := by
  have hN := w.2.2.1
  have w0 := wk_r (S := S) w
  delta FX95_write_0 BX95_write_0
  refine pq_g (fun g1 => ?_)
  refine pq_b (wX95_noOffset S Z (sb rfl hS) _ _ _ w0.1 z_a0) (fun r2 K3 => ?_)
  have w4 := wk_t w0 K3 hN
  refine pq_fi (fun _ => ?_) (fun _ => ?_)
  · refine pq_fi (fun _ => ?_) (fun _ => ?_)
    · refine pq_g (fun g5 => ?_)
      extract_lets +onlyGivenNames M7
      have w6 : Wk S Z hx N M M7 := wk_fI hN w4 rfl rfl g5 z_a0 (Or.inr (hS 329 rfl))
      exact q_tV hN w6 (wX95_write_206 S Z hS n _ w6.1 )
    · refine pq_fi (fun _ => ?_) (fun _ => ?_)
      · refine pq_g (fun g8 => ?_)
        extract_lets +onlyGivenNames M10
        have w9 : Wk S Z hx N M M10 := wk_fI hN w4 rfl rfl g8 z_a0 (Or.inr (hS 328 rfl))
        exact q_tV hN w9 (wX95_write_206 S Z hS n _ w9.1 )
      · refine pq_fi (fun _ => ?_) (fun _ => ?_)
        · exact q_tV hN w4 (wX95_write_140 S Z hS n _ _ _ _ w4.1 z_a0)
        · refine pq_fi (fun _ => ?_) (fun _ => ?_)
          · exact q_tV hN w4 (wX95_write_140 S Z hS n _ _ _ _ w4.1 z_a0)
          · refine pq_fi (fun _ => ?_) (fun _ => ?_)
            · refine pq_fi (fun _ => ?_) (fun _ => ?_)
              · refine pq_g (fun g11 => ?_)
                refine pq_b (wX95_work S Z (sb rfl hS) n _ _ w4.1 z_a0) (fun r12 K13 => ?_)
                have w14 := wk_t w4 K13 hN
                exact q_tV hN w14 (wX95_write_206 S Z hS n _ w14.1 )
              · exact q_tV hN w4 (wX95_write_206 S Z hS n _ w4.1 )
            · refine pq_fi (fun _ => ?_) (fun _ => ?_)
              · refine pq_g (fun g15 => ?_)
                refine pq_g (fun g16 => ?_)
                extract_lets +onlyGivenNames M18
                have w17 : Wk S Z hx N M M18 := wk_fI hN w4 rfl rfl g16 z_a0 (Or.inr (hS 332 rfl))
                exact q_tV hN w17 (wX95_write_206 S Z hS n _ w17.1 )
              · refine pq_fi (fun _ => ?_) (fun _ => ?_)
                · refine pq_fi (fun _ => ?_) (fun _ => ?_)
                  · refine pq_g (fun g19 => ?_)
                    refine pq_b (wX95_begin S Z (sb rfl hS) n _ _ w4.1 z_a0) (fun r20 K21 => ?_)
                    have w22 := wk_t w4 K21 hN
                    exact q_tV hN w22 (wX95_write_206 S Z hS n _ w22.1 )
                  · refine pq_g (fun g23 => ?_)
                    refine pq_g (fun g24 => ?_)
                    extract_lets +onlyGivenNames M26
                    have w25 : Wk S Z hx N M M26 := wk_fI hN w4 rfl rfl g24 z_a0 (Or.inr (hS 333 rfl))
                    exact q_tV hN w25 (wX95_write_206 S Z hS n _ w25.1 )
                · refine pq_fi (fun _ => ?_) (fun _ => ?_)
                  · exact q_tV hN w4 (wX95_write_140 S Z hS n _ _ _ _ w4.1 z_a0)
                  · refine pq_fi (fun _ => ?_) (fun _ => ?_)
                    · exact q_tV hN w4 (wX95_write_140 S Z hS n _ _ _ _ w4.1 z_a0)
                    · refine pq_fi (fun _ => ?_) (fun _ => ?_)
                      · exact q_tV hN w4 (wX95_write_140 S Z hS n _ _ _ _ w4.1 z_a0)
                      · refine pq_fi (fun _ => ?_) (fun _ => ?_)
                        · exact q_tV hN w4 (wX95_write_140 S Z hS n _ _ _ _ w4.1 z_a0)
                        · refine pq_fi (fun _ => ?_) (fun _ => ?_)
                          · exact q_tV hN w4 (wX95_write_140 S Z hS n _ _ _ _ w4.1 z_a0)
                          · refine pq_fi (fun _ => ?_) (fun _ => ?_)
                            · exact q_tV hN w4 (wX95_write_140 S Z hS n _ _ _ _ w4.1 z_a0)
                            · exact q_tV hN w4 (wX95_write_206 S Z hS n _ w4.1 )
  · exact pq_s w4
theorem wX95_write (S Z : Nat → Prop) {hx N : Nat} (hS : ∀ x, fe_mem lX95_write x = true → S x) (n : Nat) (a0 : Nat) (a1 : Int32) (a2 : Int32) (M : FM) (w : WI Z hx N M) (z_a0 : Z a0) : pq (FX95_write n a0 a1 a2 M) (QV S Z hx N M) := wX95_write_0 S Z hS n a0 a1 a2 M w z_a0
def lX95_line : List Nat := [324]
theorem wX95_line_17 (S Z : Nat → Prop) {hx N : Nat} (hS : ∀ x, fe_mem lX95_line x = true → S x) (s0 : Int32) (M : FM) (w : WI Z hx N M) : pq (FX95_line_17 s0 M) (QA S Z hx N M) := by
  have hN := w.2.2.1
  have w0 := wk_r (S := S) w
  delta FX95_line_17 BX95_line_17
  refine pq_g (fun _ => ?_)
  exact pq_s w0
theorem wX95_line_0 (S Z : Nat → Prop) {hx N : Nat} (hS : ∀ x, fe_mem lX95_line x = true → S x) (a0 : Nat) (M : FM) (w : WI Z hx N M) (z_a0 : Z a0) : pq (FX95_line_0 a0 M) (QA S Z hx N M) := by
  have hN := w.2.2.1
  have w0 := wk_r (S := S) w
  delta FX95_line_0 BX95_line_0
  refine pq_g (fun g1 => ?_)
  extract_lets +onlyGivenNames M3
  have w2 : Wk S Z hx N M M3 := wk_fI hN w0 rfl rfl g1 z_a0 (Or.inr (hS 324 rfl))
  refine pq_g (fun g4 => ?_)
  refine pq_fi (fun _ => ?_) (fun _ => ?_)
  · exact q_tA hN w2 (wX95_line_17 S Z hS _ _ w2.1 )
  · exact q_tA hN w2 (wX95_line_17 S Z hS _ _ w2.1 )
theorem wX95_line (S Z : Nat → Prop) {hx N : Nat} (hS : ∀ x, fe_mem lX95_line x = true → S x) (a0 : Nat) (M : FM) (w : WI Z hx N M) (z_a0 : Z a0) : pq (FX95_line a0 M) (QA S Z hx N M) := wX95_line_0 S Z hS a0 M w z_a0
def lX96_signal : List Nat := [394, 1399, 1400]
theorem wX96_signal_41 (S Z : Nat → Prop) {hx N : Nat} (hS : ∀ x, fe_mem lX96_signal x = true → S x) (n : Nat) (M : FM) (w : WI Z hx N M) : pq (FX96_signal_41 n M) (QV S Z hx N M) := by
  have hN := w.2.2.1
  have w0 := wk_r (S := S) w
  delta FX96_signal_41 BX96_signal_41
  exact pq_s w0
theorem wX96_signal_20 (S Z : Nat → Prop) {hx N : Nat} (hS : ∀ x, fe_mem lX96_signal x = true → S x) (n : Nat) (a0 : Nat) (a1 : Int32) (a2 : Int32) (s0 : Nat) (s1 : Int32) (M : FM) (w : WI Z hx N M) (z_a0 : Z a0) (z_s0 : Z s0) : pq (FX96_signal_20 n a0 a1 a2 s0 s1 M) (QV S Z hx N M) := by
  have hN := w.2.2.1
  have w0 := wk_r (S := S) w
  delta FX96_signal_20 BX96_signal_20
  refine pq_g (fun g1 => ?_)
  extract_lets +onlyGivenNames M3
  have w2 : Wk S Z hx N M M3 := wk_fI hN w0 rfl rfl g1 z_s0 (Or.inr (hS 394 rfl))
  refine pq_g (fun g4 => ?_)
  refine pq_fi (fun _ => ?_) (fun _ => ?_)
  · refine pq_g (fun g5 => ?_)
    have z6 := wk_z (i := 0) (f := 399) w2 rfl z_a0
    have f7 := sS_399 w2.1.1 g5
    refine pq_g (fun g8 => ?_)
    extract_lets +onlyGivenNames M10
    have w9 : Wk S Z hx N M M10 := wk_aI hN w2 rfl g8.1 z6 (sy_s f7 (hS 1399 rfl))
    refine pq_g (fun g11 => ?_)
    refine pq_b (wX96_settle S Z (sb rfl hS) n _ _ w9.1 z_a0) (fun r12 K13 => ?_)
    have w14 := wk_t w9 K13 hN
    exact q_tV hN w14 (wX96_signal_41 S Z hS n _ w14.1 )
  · exact q_tV hN w2 (wX96_signal_41 S Z hS n _ w2.1 )
theorem wX96_signal_15 (S Z : Nat → Prop) {hx N : Nat} (hS : ∀ x, fe_mem lX96_signal x = true → S x) (n : Nat) (a0 : Nat) (a1 : Int32) (a2 : Int32) (s0 : Nat) (M : FM) (w : WI Z hx N M) (z_a0 : Z a0) (z_s0 : Z s0) : pq (FX96_signal_15 n a0 a1 a2 s0 M) (QV S Z hx N M) := by
  have hN := w.2.2.1
  have w0 := wk_r (S := S) w
  delta FX96_signal_15 BX96_signal_15
  exact q_tV hN w0 (wX96_signal_20 S Z hS n _ _ _ _ _ _ w0.1 z_a0 z_s0)
theorem wX96_signal_0 (S Z : Nat → Prop) {hx N : Nat} (hS : ∀ x, fe_mem lX96_signal x = true → S x) (n : Nat) (a0 : Nat) (a1 : Int32) (a2 : Int32) (M : FM) (w : WI Z hx N M) (z_a0 : Z a0) : pq (FX96_signal_0 n a0 a1 a2 M) (QV S Z hx N M) := by
  have hN := w.2.2.1
  have w0 := wk_r (S := S) w
  delta FX96_signal_0 BX96_signal_0
  refine pq_b (wX96_isSource S Z (sb rfl hS) _ _ w0.1 ) (fun r1 K2 => ?_)
  have w3 := wk_t w0 K2 hN
  refine pq_fi (fun _ => ?_) (fun _ => ?_)
  · exact q_tV hN w3 (wX96_signal_15 S Z hS n _ _ _ _ _ w3.1 z_a0 z_a0)
  · refine pq_fi (fun _ => ?_) (fun _ => ?_)
    · exact q_tV hN w3 (wX96_signal_15 S Z hS n _ _ _ _ _ w3.1 z_a0 z_a0)
    · exact q_tV hN w3 (wX96_signal_20 S Z hS n _ _ _ _ _ _ w3.1 z_a0 z_a0)
theorem wX96_signal (S Z : Nat → Prop) {hx N : Nat} (hS : ∀ x, fe_mem lX96_signal x = true → S x) (n : Nat) (a0 : Nat) (a1 : Int32) (a2 : Int32) (M : FM) (w : WI Z hx N M) (z_a0 : Z a0) : pq (FX96_signal n a0 a1 a2 M) (QV S Z hx N M) := wX96_signal_0 S Z hS n a0 a1 a2 M w z_a0
def lX92_writeWindow : List Nat := [315, 324, 328, 329, 330, 331, 332, 333, 335, 336, 337, 338, 339, 343, 344, 394, 398, 407, 408, 409, 411, 413, 1327, 1334, 1340, 1341, 1342, 1388, 1389, 1391, 1396, 1397, 1399, 1400, 1401, 1402, 1403, 1404, 1405, 1406, 1410, 1412]
theorem wX92_writeWindow_160 (S Z : Nat → Prop) {hx N : Nat} (hS : ∀ x, fe_mem lX92_writeWindow x = true → S x) (n : Nat) (M : FM) (w : WI Z hx N M) : pq (FX92_writeWindow_160 n M) (QV S Z hx N M) := by
  have hN := w.2.2.1
  have w0 := wk_r (S := S) w
  delta FX92_writeWindow_160 BX92_writeWindow_160
  exact pq_s w0
theorem wX92_writeWindow_157 (S Z : Nat → Prop) {hx N : Nat} (hS : ∀ x, fe_mem lX92_writeWindow x = true → S x) (n : Nat) (s0 : Nat) (s1 : Int32) (M : FM) (w : WI Z hx N M) (z_s0 : Z s0) : pq (FX92_writeWindow_157 n s0 s1 M) (QV S Z hx N M) := by
  have hN := w.2.2.1
  have w0 := wk_r (S := S) w
  delta FX92_writeWindow_157 BX92_writeWindow_157
  refine pq_g (fun g1 => ?_)
  extract_lets +onlyGivenNames M3
  have w2 : Wk S Z hx N M M3 := wk_fI hN w0 rfl rfl g1 z_s0 (Or.inr (hS 315 rfl))
  exact q_tV hN w2 (wX92_writeWindow_160 S Z hS n _ w2.1 )
theorem wX92_writeWindow_92 (S Z : Nat → Prop) {hx N : Nat} (hS : ∀ x, fe_mem lX92_writeWindow x = true → S x) (n : Nat) (a0 : Nat) (a3 : Int32) (a4 : Int64) (a6 : Int32) (a7 : Int64) (M : FM) (w : WI Z hx N M) (z_a0 : Z a0) : pq (FX92_writeWindow_92 n a0 a3 a4 a6 a7 M) (QV S Z hx N M) := by
  have hN := w.2.2.1
  have w0 := wk_r (S := S) w
  delta FX92_writeWindow_92 BX92_writeWindow_92
  refine pq_fi (fun _ => ?_) (fun _ => ?_)
  · refine pq_fi (fun _ => ?_) (fun _ => ?_)
    · refine pq_fi (fun _ => ?_) (fun _ => ?_)
      · refine pq_fi (fun _ => ?_) (fun _ => ?_)
        · exact q_tV hN w0 (wX92_writeWindow_157 S Z hS n _ _ _ w0.1 z_a0)
        · refine pq_fi (fun _ => ?_) (fun _ => ?_)
          · exact q_tV hN w0 (wX92_writeWindow_157 S Z hS n _ _ _ w0.1 z_a0)
          · refine pq_g (fun g1 => ?_)
            exact q_tV hN w0 (wX92_writeWindow_157 S Z hS n _ _ _ w0.1 z_a0)
      · exact q_tV hN w0 (wX92_writeWindow_160 S Z hS n _ w0.1 )
    · exact q_tV hN w0 (wX92_writeWindow_160 S Z hS n _ w0.1 )
  · exact q_tV hN w0 (wX92_writeWindow_160 S Z hS n _ w0.1 )
theorem wX92_writeWindow_46 (S Z : Nat → Prop) {hx N : Nat} (hS : ∀ x, fe_mem lX92_writeWindow x = true → S x) (n : Nat) (a0 : Nat) (a3 : Int32) (a4 : Int64) (a6 : Int32) (a7 : Int64) (M : FM) (w : WI Z hx N M) (z_a0 : Z a0) : pq (FX92_writeWindow_46 n a0 a3 a4 a6 a7 M) (QV S Z hx N M) := by
  have hN := w.2.2.1
  have w0 := wk_r (S := S) w
  delta FX92_writeWindow_46 BX92_writeWindow_46
  refine pq_fi (fun _ => ?_) (fun _ => ?_)
  · refine pq_b (wX92_isDiskRegister S Z (sb rfl hS) _ _ _ w0.1 ) (fun r1 K2 => ?_)
    have w3 := wk_t w0 K2 hN
    refine pq_fi (fun _ => ?_) (fun _ => ?_)
    · exact q_tV hN w3 (wX92_writeWindow_92 S Z hS n _ _ _ _ _ _ w3.1 z_a0)
    · refine pq_g (fun g4 => ?_)
      have z5 := wk_z (i := 0) (f := 300) w3 rfl z_a0
      refine pq_g (fun g6 => ?_)
      refine pq_b (wX95_write S Z (sb rfl hS) n _ _ _ _ w3.1 z5) (fun r7 K8 => ?_)
      have w9 := wk_t w3 K8 hN
      refine pq_g (fun g10 => ?_)
      have z11 := wk_z (i := 0) (f := 301) w9 rfl z_a0
      refine pq_g (fun g12 => ?_)
      have z13 := wk_z (i := 0) (f := 300) w9 rfl z_a0
      refine pq_g (fun g14 => ?_)
      refine pq_b (wX95_line S Z (sb rfl hS) _ _ w9.1 z13) (fun r15 K16 => ?_)
      have w17 := wk_t w9 K16 hN
      refine pq_g (fun g18 => ?_)
      refine pq_b (wX96_signal S Z (sb rfl hS) n _ _ _ _ w17.1 z11) (fun r19 K20 => ?_)
      have w21 := wk_t w17 K20 hN
      exact q_tV hN w21 (wX92_writeWindow_160 S Z hS n _ w21.1 )
  · exact q_tV hN w0 (wX92_writeWindow_92 S Z hS n _ _ _ _ _ _ w0.1 z_a0)
theorem wX92_writeWindow_0 (S Z : Nat → Prop) {hx N : Nat} (hS : ∀ x, fe_mem lX92_writeWindow x = true → S x) (n : Nat) (a0 : Nat) (a1 : Int64) (a3 : Int32) (a4 : Int64) (M : FM) (w : WI Z hx N M) (z_a0 : Z a0) : pq (FX92_writeWindow_0 n a0 a1 a3 a4 M) (QV S Z hx N M) := by
  have hN := w.2.2.1
  have w0 := wk_r (S := S) w
  delta FX92_writeWindow_0 BX92_writeWindow_0
  refine pq_b (wX92_windowOf S Z (sb rfl hS) n _ _ _ w0.1 ) (fun r1 K2 => ?_)
  have w3 := wk_t w0 K2 hN
  refine pq_b (wX92_baseOf S Z (sb rfl hS) _ _ w3.1 ) (fun r4 K5 => ?_)
  have w6 := wk_t w3 K5 hN
  refine pq_fi (fun _ => ?_) (fun _ => ?_)
  · exact q_tV hN w6 (wX92_writeWindow_46 S Z hS n _ _ _ _ _ _ w6.1 z_a0)
  · refine pq_fi (fun _ => ?_) (fun _ => ?_)
    · exact q_tV hN w6 (wX92_writeWindow_46 S Z hS n _ _ _ _ _ _ w6.1 z_a0)
    · refine pq_g (fun g7 => ?_)
      have z8 := wk_z (i := 0) (f := 301) w6 rfl z_a0
      refine pq_g (fun g9 => ?_)
      refine pq_b (wX96_write S Z (sb rfl hS) n _ _ _ _ _ _ w6.1 z8) (fun r10 K11 => ?_)
      have w12 := wk_t w6 K11 hN
      exact q_tV hN w12 (wX92_writeWindow_160 S Z hS n _ w12.1 )
theorem wX92_writeWindow (S Z : Nat → Prop) {hx N : Nat} (hS : ∀ x, fe_mem lX92_writeWindow x = true → S x) (n : Nat) (a0 : Nat) (a1 : Int64) (a3 : Int32) (a4 : Int64) (M : FM) (w : WI Z hx N M) (z_a0 : Z a0) : pq (FX92_writeWindow n a0 a1 a3 a4 M) (QV S Z hx N M) := wX92_writeWindow_0 S Z hS n a0 a1 a3 a4 M w z_a0
def lX92_put : List Nat := [315, 324, 328, 329, 330, 331, 332, 333, 335, 336, 337, 338, 339, 343, 344, 394, 398, 407, 408, 409, 411, 413, 1327, 1334, 1340, 1341, 1342, 1388, 1389, 1391, 1396, 1397, 1399, 1400, 1401, 1402, 1403, 1404, 1405, 1406, 1410, 1412]
theorem wX92_put_91 (S Z : Nat → Prop) {hx N : Nat} (hS : ∀ x, fe_mem lX92_put x = true → S x) (n : Nat) (k10 : Nat → Int32 → Int64 → Int32 → FM → Option (FM)) (hk10 : ∀ (a0 : Nat) (a1 : Int32) (a2 : Int64) (a4 : Int32) (M : FM), WI Z hx N M → Z a0 → pq (k10 a0 a1 a2 a4 M) (QV S Z hx N M)) (M : FM) (w : WI Z hx N M) : pq (FX92_put_91 n k10 M) (QV S Z hx N M) := by
  have hN := w.2.2.1
  have w0 := wk_r (S := S) w
  delta FX92_put_91 BX92_put_91
  exact pq_s w0
theorem wX92_put_10 (S Z : Nat → Prop) {hx N : Nat} (hS : ∀ x, fe_mem lX92_put x = true → S x) (n : Nat) (k10 : Nat → Int32 → Int64 → Int32 → FM → Option (FM)) (hk10 : ∀ (a0 : Nat) (a1 : Int32) (a2 : Int64) (a4 : Int32) (M : FM), WI Z hx N M → Z a0 → pq (k10 a0 a1 a2 a4 M) (QV S Z hx N M)) (a0 : Nat) (a1 : Int32) (a2 : Int64) (a4 : Int32) (M : FM) (w : WI Z hx N M) (z_a0 : Z a0) : pq (FX92_put_10 n k10 a0 a1 a2 a4 M) (QV S Z hx N M) := by
  have hN := w.2.2.1
  have w0 := wk_r (S := S) w
  delta FX92_put_10 BX92_put_10
  refine pq_fi (fun _ => ?_) (fun _ => ?_)
  · exact q_tV hN w0 (wX92_put_91 S Z hS n _ hk10 _ w0.1 )
  · refine pq_g (fun g1 => ?_)
    have z2 := wk_z (i := 0) (f := 298) w0 rfl z_a0
    refine pq_g (fun g3 => ?_)
    have z4 := wk_z (i := 0) (f := 323) w0 rfl z_a0
    have f5 := sS_323 w0.1.1 g3
    refine pq_g (fun g6 => ?_)
    refine pq_g (fun g7 => ?_)
    refine pq_b (wX93_put S Z (sb rfl hS) n _ _ _ _ w0.1 z2) (fun r8 K9 => ?_)
    have w10 := wk_t w0 K9 hN
    exact q_tV hN w10 (hk10 _ _ _ _ _ w10.1 z_a0)
theorem wX92_put_0 (S Z : Nat → Prop) {hx N : Nat} (hS : ∀ x, fe_mem lX92_put x = true → S x) (n : Nat) (k10 : Nat → Int32 → Int64 → Int32 → FM → Option (FM)) (hk10 : ∀ (a0 : Nat) (a1 : Int32) (a2 : Int64) (a4 : Int32) (M : FM), WI Z hx N M → Z a0 → pq (k10 a0 a1 a2 a4 M) (QV S Z hx N M)) (a0 : Nat) (a1 : Int32) (a2 : Int64) (M : FM) (w : WI Z hx N M) (z_a0 : Z a0) : pq (FX92_put_0 n k10 a0 a1 a2 M) (QV S Z hx N M) := by
  have hN := w.2.2.1
  have w0 := wk_r (S := S) w
  delta FX92_put_0 BX92_put_0
  refine pq_g (fun g1 => ?_)
  refine pq_fi (fun _ => ?_) (fun _ => ?_)
  · exact q_tV hN w0 (hk10 _ _ _ _ _ w0.1 z_a0)
  · refine pq_g (fun g2 => ?_)
    have z3 := wk_z (i := 0) (f := 323) w0 rfl z_a0
    have f4 := sS_323 w0.1.1 g2
    refine pq_g (fun g5 => ?_)
    refine pq_b (wX93_areBytes S Z (sb rfl hS) _ _ _ w0.1 ) (fun r6 K7 => ?_)
    have w8 := wk_t w0 K7 hN
    refine pq_fi (fun _ => ?_) (fun _ => ?_)
    · refine pq_g (fun g9 => ?_)
      have z10 := wk_z (i := 0) (f := 323) w8 rfl z_a0
      have f11 := sS_323 w8.1.1 g9
      refine pq_g (fun g12 => ?_)
      refine pq_g (fun g13 => ?_)
      refine pq_b (wX92_writeWindow S Z (sb rfl hS) n _ _ _ _ _ w8.1 z_a0) (fun r14 K15 => ?_)
      have w16 := wk_t w8 K15 hN
      exact q_tV hN w16 (wX92_put_91 S Z hS n _ hk10 _ w16.1 )
    · refine pq_g (fun g17 => ?_)
      have z18 := wk_z (i := 0) (f := 298) w8 rfl z_a0
      refine pq_g (fun g19 => ?_)
      have z20 := wk_z (i := 0) (f := 323) w8 rfl z_a0
      have f21 := sS_323 w8.1.1 g19
      refine pq_g (fun g22 => ?_)
      refine pq_g (fun g23 => ?_)
      refine pq_b (wX93_keep S Z (sb rfl hS) n _ _ _ _ _ w8.1 z18) (fun r24 K25 => ?_)
      have w26 := wk_t w8 K25 hN
      exact q_tV hN w26 (wX92_put_91 S Z hS n _ hk10 _ w26.1 )
theorem wX92_put_L (S Z : Nat → Prop) {hx N : Nat} (hS : ∀ x, fe_mem lX92_put x = true → S x) (n : Nat) : ∀ j : Nat, ∀ (a0 : Nat) (a1 : Int32) (a2 : Int64) (a4 : Int32) (M : FM), WI Z hx N M → Z a0 → pq (FX92_put_L10 n j a0 a1 a2 a4 M) (QV S Z hx N M)
  | 0 => by intros; exact pq_0
  | j + 1 => fun a0 a1 a2 a4 M w => wX92_put_10 S Z hS n _ (wX92_put_L S Z hS n j) a0 a1 a2 a4 M w
theorem wX92_put (S Z : Nat → Prop) {hx N : Nat} (hS : ∀ x, fe_mem lX92_put x = true → S x) (n : Nat) (a0 : Nat) (a1 : Int32) (a2 : Int64) (M : FM) (w : WI Z hx N M) (z_a0 : Z a0) : pq (FX92_put n a0 a1 a2 M) (QV S Z hx N M) := wX92_put_0 S Z hS n _ (wX92_put_L S Z hS n n) a0 a1 a2 M w z_a0
def lX98_loaded : List Nat := []
theorem wX98_loaded_68 (S Z : Nat → Prop) {hx N : Nat} (hS : ∀ x, fe_mem lX98_loaded x = true → S x) (s0 : Int64) (M : FM) (w : WI Z hx N M) : pq (FX98_loaded_68 s0 M) (QA S Z hx N M) := by
  have hN := w.2.2.1
  have w0 := wk_r (S := S) w
  delta FX98_loaded_68 BX98_loaded_68
  exact pq_s w0
theorem wX98_loaded_66 (S Z : Nat → Prop) {hx N : Nat} (hS : ∀ x, fe_mem lX98_loaded x = true → S x) (a7 : Int64) (M : FM) (w : WI Z hx N M) : pq (FX98_loaded_66 a7 M) (QA S Z hx N M) := by
  have hN := w.2.2.1
  have w0 := wk_r (S := S) w
  delta FX98_loaded_66 BX98_loaded_66
  exact q_tA hN w0 (wX98_loaded_68 S Z hS _ _ w0.1 )
theorem wX98_loaded_0 (S Z : Nat → Prop) {hx N : Nat} (hS : ∀ x, fe_mem lX98_loaded x = true → S x) (a0 : Nat) (a1 : Int64) (M : FM) (w : WI Z hx N M) (z_a0 : Z a0) : pq (FX98_loaded_0 a0 a1 M) (QA S Z hx N M) := by
  have hN := w.2.2.1
  have w0 := wk_r (S := S) w
  delta FX98_loaded_0 BX98_loaded_0
  refine pq_g (fun g1 => ?_)
  have z2 := wk_z (i := 0) (f := 355) w0 rfl z_a0
  have f3 := sS_355 w0.1.1 g1
  refine pq_g (fun g4 => ?_)
  refine pq_fi (fun _ => ?_) (fun _ => ?_)
  · exact pq_s w0
  · refine pq_g (fun g5 => ?_)
    have z6 := wk_z (i := 0) (f := 355) w0 rfl z_a0
    have f7 := sS_355 w0.1.1 g5
    refine pq_g (fun g8 => ?_)
    refine pq_fi (fun _ => ?_) (fun _ => ?_)
    · refine pq_n ?_
      refine pq_fi (fun _ => ?_) (fun _ => ?_)
      · exact q_tA hN w0 (wX98_loaded_66 S Z hS _ _ w0.1 )
      · exact q_tA hN w0 (wX98_loaded_68 S Z hS _ _ w0.1 )
    · exact q_tA hN w0 (wX98_loaded_66 S Z hS _ _ w0.1 )
theorem wX98_loaded (S Z : Nat → Prop) {hx N : Nat} (hS : ∀ x, fe_mem lX98_loaded x = true → S x) (a0 : Nat) (a1 : Int64) (M : FM) (w : WI Z hx N M) (z_a0 : Z a0) : pq (FX98_loaded a0 a1 M) (QA S Z hx N M) := wX98_loaded_0 S Z hS a0 a1 M w z_a0
def lX98_finish : List Nat := [345, 347, 348, 353, 1346]
theorem wX98_finish_93 (S Z : Nat → Prop) {hx N : Nat} (hS : ∀ x, fe_mem lX98_finish x = true → S x) (a0 : Nat) (a4 : Int32) (M : FM) (w : WI Z hx N M) (z_a0 : Z a0) : pq (FX98_finish_93 a0 a4 M) (QA S Z hx N M) := by
  have hN := w.2.2.1
  have w0 := wk_r (S := S) w
  delta FX98_finish_93 BX98_finish_93
  refine pq_g (fun g1 => ?_)
  refine pq_g (fun g2 => ?_)
  refine pq_g (fun g3 => ?_)
  extract_lets +onlyGivenNames M5
  have w4 : Wk S Z hx N M M5 := wk_fL hN w0 rfl rfl g3 z_a0 (Or.inr (hS 347 rfl))
  refine pq_g (fun g6 => ?_)
  refine pq_g (fun g7 => ?_)
  extract_lets +onlyGivenNames M9
  have w8 : Wk S Z hx N M M9 := wk_fL hN w4 rfl rfl g7 z_a0 (Or.inr (hS 348 rfl))
  refine pq_g (fun g10 => ?_)
  extract_lets +onlyGivenNames M12
  have w11 : Wk S Z hx N M M12 := wk_fI hN w8 rfl rfl g10 z_a0 (Or.inr (hS 353 rfl))
  exact pq_s w11
theorem wX98_finish_90 (S Z : Nat → Prop) {hx N : Nat} (hS : ∀ x, fe_mem lX98_finish x = true → S x) (a0 : Nat) (a4 : Int32) (s0 : Nat) (s1 : Int32) (s2 : Int64) (M : FM) (w : WI Z hx N M) (z_a0 : Z a0) (z_s0 : Z s0) : pq (FX98_finish_90 a0 a4 s0 s1 s2 M) (QA S Z hx N M) := by
  have hN := w.2.2.1
  have w0 := wk_r (S := S) w
  delta FX98_finish_90 BX98_finish_90
  refine pq_g (fun g1 => ?_)
  refine pq_b (wX98_put S Z (sb rfl hS) _ _ _ _ w0.1 z_s0) (fun r2 K3 => ?_)
  have w4 := wk_t w0 K3 hN
  exact q_tA hN w4 (wX98_finish_93 S Z hS _ _ _ w4.1 z_a0)
theorem wX98_finish_89 (S Z : Nat → Prop) {hx N : Nat} (hS : ∀ x, fe_mem lX98_finish x = true → S x) (a0 : Nat) (a2 : Int64) (a4 : Int32) (s0 : Nat) (s1 : Int32) (M : FM) (w : WI Z hx N M) (z_a0 : Z a0) (z_s0 : Z s0) : pq (FX98_finish_89 a0 a2 a4 s0 s1 M) (QA S Z hx N M) := by
  have hN := w.2.2.1
  have w0 := wk_r (S := S) w
  delta FX98_finish_89 BX98_finish_89
  exact q_tA hN w0 (wX98_finish_90 S Z hS _ _ _ _ _ _ w0.1 z_a0 z_s0)
theorem wX98_finish_14 (S Z : Nat → Prop) {hx N : Nat} (hS : ∀ x, fe_mem lX98_finish x = true → S x) (a0 : Nat) (a1 : Int32) (a2 : Int64) (s0 : Nat) (s1 : Int32) (M : FM) (w : WI Z hx N M) (z_a0 : Z a0) (z_s0 : Z s0) : pq (FX98_finish_14 a0 a1 a2 s0 s1 M) (QA S Z hx N M) := by
  have hN := w.2.2.1
  have w0 := wk_r (S := S) w
  delta FX98_finish_14 BX98_finish_14
  refine pq_g (fun g1 => ?_)
  extract_lets +onlyGivenNames M3
  have w2 : Wk S Z hx N M M3 := wk_fI hN w0 rfl rfl g1 z_s0 (Or.inr (hS 345 rfl))
  refine pq_g (fun g4 => ?_)
  refine pq_fi (fun _ => ?_) (fun _ => ?_)
  · refine pq_g (fun g5 => ?_)
    refine pq_fi (fun _ => ?_) (fun _ => ?_)
    · exact q_tA hN w2 (wX98_finish_93 S Z hS _ _ _ w2.1 z_a0)
    · refine pq_fi (fun _ => ?_) (fun _ => ?_)
      · exact q_tA hN w2 (wX98_finish_93 S Z hS _ _ _ w2.1 z_a0)
      · refine pq_g (fun g6 => ?_)
        have z7 := wk_z (i := 0) (f := 355) w2 rfl z_a0
        have f8 := sS_355 w2.1.1 g6
        refine pq_g (fun g9 => ?_)
        refine pq_fi (fun _ => ?_) (fun _ => ?_)
        · refine pq_g (fun g10 => ?_)
          refine pq_b (wX98_loaded S Z (sb rfl hS) _ _ _ w2.1 z_a0) (fun r11 K12 => ?_)
          have w13 := wk_t w2 K12 hN
          exact q_tA hN w13 (wX98_finish_90 S Z hS _ _ _ _ _ _ w13.1 z_a0 z_a0)
        · refine pq_fi (fun _ => ?_) (fun _ => ?_)
          · refine pq_g (fun g14 => ?_)
            have z15 := wk_z (i := 0) (f := 355) w2 rfl z_a0
            have f16 := sS_355 w2.1.1 g14
            refine pq_g (fun g17 => ?_)
            refine pq_fi (fun _ => ?_) (fun _ => ?_)
            · exact q_tA hN w2 (wX98_finish_90 S Z hS _ _ _ _ _ _ w2.1 z_a0 z_a0)
            · exact q_tA hN w2 (wX98_finish_89 S Z hS _ _ _ _ _ _ w2.1 z_a0 z_a0)
          · exact q_tA hN w2 (wX98_finish_89 S Z hS _ _ _ _ _ _ w2.1 z_a0 z_a0)
  · exact pq_s w2
theorem wX98_finish_0 (S Z : Nat → Prop) {hx N : Nat} (hS : ∀ x, fe_mem lX98_finish x = true → S x) (a0 : Nat) (a1 : Int32) (a2 : Int64) (M : FM) (w : WI Z hx N M) (z_a0 : Z a0) : pq (FX98_finish_0 a0 a1 a2 M) (QA S Z hx N M) := by
  have hN := w.2.2.1
  have w0 := wk_r (S := S) w
  delta FX98_finish_0 BX98_finish_0
  refine pq_g (fun g1 => ?_)
  refine pq_fi (fun _ => ?_) (fun _ => ?_)
  · exact q_tA hN w0 (wX98_finish_14 S Z hS _ _ _ _ _ _ w0.1 z_a0 z_a0)
  · exact q_tA hN w0 (wX98_finish_14 S Z hS _ _ _ _ _ _ w0.1 z_a0 z_a0)
theorem wX98_finish (S Z : Nat → Prop) {hx N : Nat} (hS : ∀ x, fe_mem lX98_finish x = true → S x) (a0 : Nat) (a1 : Int32) (a2 : Int64) (M : FM) (w : WI Z hx N M) (z_a0 : Z a0) : pq (FX98_finish a0 a1 a2 M) (QA S Z hx N M) := wX98_finish_0 S Z hS a0 a1 a2 M w z_a0
def lX92_store : List Nat := [315, 316, 320, 321, 322, 324, 328, 329, 330, 331, 332, 333, 335, 336, 337, 338, 339, 343, 344, 345, 347, 348, 353, 358, 394, 398, 407, 408, 409, 411, 413, 422, 429, 430, 1323, 1327, 1334, 1340, 1341, 1342, 1346, 1388, 1389, 1391, 1396, 1397, 1399, 1400, 1401, 1402, 1403, 1404, 1405, 1406, 1410, 1412]
theorem wX92_store_0 (S Z : Nat → Prop) {hx N : Nat} (hS : ∀ x, fe_mem lX92_store x = true → S x) (n : Nat) (a0 : Nat) (a1 : Int32) (a2 : Int64) (a4 : Int32) (a5 : Int64) (M : FM) (w : WI Z hx N M) (z_a0 : Z a0) (i_a1 : a1.toNatClampNeg = hx) : pq (FX92_store_0 n a0 a1 a2 a4 a5 M) (QA S Z hx N M) := by
  have hN := w.2.2.1
  have w0 := wk_r (S := S) w
  delta FX92_store_0 BX92_store_0
  refine pq_g (fun g1 => ?_)
  refine pq_b (wX92_finds S Z (sb rfl hS) n _ _ _ _ _ _ w0.1 z_a0 i_a1) (fun r2 K3 => ?_)
  have w4 := wk_t w0 K3 hN
  refine pq_fi (fun _ => ?_) (fun _ => ?_)
  · refine pq_g (fun _ => ?_)
    exact pq_s w4
  · refine pq_g (fun g5 => ?_)
    refine pq_b (wX92_watch S Z (sb rfl hS) n _ _ _ _ w4.1 z_a0 i_a1) (fun r6 K7 => ?_)
    have w8 := wk_t w4 K7 hN
    refine pq_g (fun g9 => ?_)
    refine pq_b (wX92_put S Z (sb rfl hS) n _ _ _ _ w8.1 z_a0) (fun r10 K11 => ?_)
    have w12 := wk_t w8 K11 hN
    refine pq_g (fun g13 => ?_)
    have z14 := wk_z (i := 0) (f := 303) w12 rfl z_a0
    have f15 := sS_303 w12.1.1 g13
    refine pq_g (fun g16 => ?_)
    have z17 := wk_zx w12 z14 i_a1
    refine pq_g (fun g18 => ?_)
    refine pq_b (wX98_finish S Z (sb rfl hS) _ _ _ _ w12.1 z17) (fun r19 K20 => ?_)
    have w21 := wk_t w12 K20 hN
    refine pq_g (fun _ => ?_)
    exact pq_s w21
theorem wX92_store (S Z : Nat → Prop) {hx N : Nat} (hS : ∀ x, fe_mem lX92_store x = true → S x) (n : Nat) (a0 : Nat) (a1 : Int32) (a2 : Int64) (a4 : Int32) (a5 : Int64) (M : FM) (w : WI Z hx N M) (z_a0 : Z a0) (i_a1 : a1.toNatClampNeg = hx) : pq (FX92_store n a0 a1 a2 a4 a5 M) (QA S Z hx N M) := wX92_store_0 S Z hS n a0 a1 a2 a4 a5 M w z_a0 i_a1
def lX93_signed : List Nat := []
theorem wX93_signed_12 (S Z : Nat → Prop) {hx N : Nat} (hS : ∀ x, fe_mem lX93_signed x = true → S x) (s0 : Int64) (M : FM) (w : WI Z hx N M) : pq (FX93_signed_12 s0 M) (QA S Z hx N M) := by
  have hN := w.2.2.1
  have w0 := wk_r (S := S) w
  delta FX93_signed_12 BX93_signed_12
  exact pq_s w0
theorem wX93_signed_0 (S Z : Nat → Prop) {hx N : Nat} (hS : ∀ x, fe_mem lX93_signed x = true → S x) (a0 : Int64) (a2 : Int32) (M : FM) (w : WI Z hx N M) : pq (FX93_signed_0 a0 a2 M) (QA S Z hx N M) := by
  have hN := w.2.2.1
  have w0 := wk_r (S := S) w
  delta FX93_signed_0 BX93_signed_0
  refine pq_fi (fun _ => ?_) (fun _ => ?_)
  · exact q_tA hN w0 (wX93_signed_12 S Z hS _ _ w0.1 )
  · exact q_tA hN w0 (wX93_signed_12 S Z hS _ _ w0.1 )
theorem wX93_signed (S Z : Nat → Prop) {hx N : Nat} (hS : ∀ x, fe_mem lX93_signed x = true → S x) (a0 : Int64) (a2 : Int32) (M : FM) (w : WI Z hx N M) : pq (FX93_signed a0 a2 M) (QA S Z hx N M) := wX93_signed_0 S Z hS a0 a2 M w 
def lX93_isLess : List Nat := []
theorem wX93_isLess_50 (S Z : Nat → Prop) {hx N : Nat} (hS : ∀ x, fe_mem lX93_isLess x = true → S x) (s0 : Int32) (M : FM) (w : WI Z hx N M) : pq (FX93_isLess_50 s0 M) (QA S Z hx N M) := by
  have hN := w.2.2.1
  have w0 := wk_r (S := S) w
  delta FX93_isLess_50 BX93_isLess_50
  refine pq_g (fun _ => ?_)
  exact pq_s w0
theorem wX93_isLess_22 (S Z : Nat → Prop) {hx N : Nat} (hS : ∀ x, fe_mem lX93_isLess x = true → S x) (a0 : Int64) (a2 : Int64) (s0 : Int32) (s1 : Int32) (M : FM) (w : WI Z hx N M) : pq (FX93_isLess_22 a0 a2 s0 s1 M) (QA S Z hx N M) := by
  have hN := w.2.2.1
  have w0 := wk_r (S := S) w
  delta FX93_isLess_22 BX93_isLess_22
  refine pq_fi (fun _ => ?_) (fun _ => ?_)
  · refine pq_fi (fun _ => ?_) (fun _ => ?_)
    · exact q_tA hN w0 (wX93_isLess_50 S Z hS _ _ w0.1 )
    · exact q_tA hN w0 (wX93_isLess_50 S Z hS _ _ w0.1 )
  · refine pq_fi (fun _ => ?_) (fun _ => ?_)
    · exact q_tA hN w0 (wX93_isLess_50 S Z hS _ _ w0.1 )
    · exact q_tA hN w0 (wX93_isLess_50 S Z hS _ _ w0.1 )
theorem wX93_isLess_11 (S Z : Nat → Prop) {hx N : Nat} (hS : ∀ x, fe_mem lX93_isLess x = true → S x) (a0 : Int64) (a2 : Int64) (s0 : Int32) (M : FM) (w : WI Z hx N M) : pq (FX93_isLess_11 a0 a2 s0 M) (QA S Z hx N M) := by
  have hN := w.2.2.1
  have w0 := wk_r (S := S) w
  delta FX93_isLess_11 BX93_isLess_11
  refine pq_fi (fun _ => ?_) (fun _ => ?_)
  · exact q_tA hN w0 (wX93_isLess_22 S Z hS _ _ _ _ _ w0.1 )
  · exact q_tA hN w0 (wX93_isLess_22 S Z hS _ _ _ _ _ w0.1 )
theorem wX93_isLess_0 (S Z : Nat → Prop) {hx N : Nat} (hS : ∀ x, fe_mem lX93_isLess x = true → S x) (a0 : Int64) (a2 : Int64) (M : FM) (w : WI Z hx N M) : pq (FX93_isLess_0 a0 a2 M) (QA S Z hx N M) := by
  have hN := w.2.2.1
  have w0 := wk_r (S := S) w
  delta FX93_isLess_0 BX93_isLess_0
  refine pq_fi (fun _ => ?_) (fun _ => ?_)
  · exact q_tA hN w0 (wX93_isLess_11 S Z hS _ _ _ _ w0.1 )
  · exact q_tA hN w0 (wX93_isLess_11 S Z hS _ _ _ _ w0.1 )
theorem wX93_isLess (S Z : Nat → Prop) {hx N : Nat} (hS : ∀ x, fe_mem lX93_isLess x = true → S x) (a0 : Int64) (a2 : Int64) (M : FM) (w : WI Z hx N M) : pq (FX93_isLess a0 a2 M) (QA S Z hx N M) := wX93_isLess_0 S Z hS a0 a2 M w 
