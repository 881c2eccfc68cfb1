set_option maxRecDepth 100000
def lX93_changed : List Nat := []
theorem wX93_changed_185 (S Z : Nat → Prop) {hx N : Nat} (hS : ∀ x, fe_mem lX93_changed x = true → S x) (s0 : Int64) (M : FM) (w : WI Z hx N M) : pq (FX93_changed_185 s0 M) (QA S Z hx N M) := by
  have hN := w.2.2.1
  have w0 := wk_r (S := S) w
  delta FX93_changed_185 BX93_changed_185
  exact pq_s w0
theorem wX93_changed_172 (S Z : Nat → Prop) {hx N : Nat} (hS : ∀ x, fe_mem lX93_changed x = true → S x) (a1 : Int64) (a3 : Int64) (M : FM) (w : WI Z hx N M) : pq (FX93_changed_172 a1 a3 M) (QA S Z hx N M) := by
  have hN := w.2.2.1
  have w0 := wk_r (S := S) w
  delta FX93_changed_172 BX93_changed_172
  refine pq_b (wX93_isLess S Z (sb rfl hS) _ _ _ w0.1 ) (fun r1 K2 => ?_)
  have w3 := wk_t w0 K2 hN
  refine pq_fi (fun _ => ?_) (fun _ => ?_)
  · exact q_tA hN w3 (wX93_changed_185 S Z hS _ _ w3.1 )
  · exact q_tA hN w3 (wX93_changed_185 S Z hS _ _ w3.1 )
theorem wX93_changed_171 (S Z : Nat → Prop) {hx N : Nat} (hS : ∀ x, fe_mem lX93_changed x = true → S x) (s0 : Int64) (M : FM) (w : WI Z hx N M) : pq (FX93_changed_171 s0 M) (QA S Z hx N M) := by
  have hN := w.2.2.1
  have w0 := wk_r (S := S) w
  delta FX93_changed_171 BX93_changed_171
  exact pq_s w0
theorem wX93_changed_157 (S Z : Nat → Prop) {hx N : Nat} (hS : ∀ x, fe_mem lX93_changed x = true → S x) (s0 : Int64) (M : FM) (w : WI Z hx N M) : pq (FX93_changed_157 s0 M) (QA S Z hx N M) := by
  have hN := w.2.2.1
  have w0 := wk_r (S := S) w
  delta FX93_changed_157 BX93_changed_157
  exact pq_s w0
theorem wX93_changed_145 (S Z : Nat → Prop) {hx N : Nat} (hS : ∀ x, fe_mem lX93_changed x = true → S x) (s0 : Int64) (M : FM) (w : WI Z hx N M) : pq (FX93_changed_145 s0 M) (QA S Z hx N M) := by
  have hN := w.2.2.1
  have w0 := wk_r (S := S) w
  delta FX93_changed_145 BX93_changed_145
  exact pq_s w0
theorem wX93_changed_0 (S Z : Nat → Prop) {hx N : Nat} (hS : ∀ x, fe_mem lX93_changed x = true → S x) (a0 : Int32) (a1 : Int64) (a3 : Int64) (M : FM) (w : WI Z hx N M) : pq (FX93_changed_0 a0 a1 a3 M) (QA S Z hx N M) := by
  have hN := w.2.2.1
  have w0 := wk_r (S := S) w
  delta FX93_changed_0 BX93_changed_0
  refine pq_fi (fun _ => ?_) (fun _ => ?_)
  · exact pq_s w0
  · refine pq_fi (fun _ => ?_) (fun _ => ?_)
    · exact pq_s w0
    · refine pq_fi (fun _ => ?_) (fun _ => ?_)
      · exact q_tA hN w0 (wX93_changed_172 S Z hS _ _ _ w0.1 )
      · refine pq_fi (fun _ => ?_) (fun _ => ?_)
        · exact q_tA hN w0 (wX93_changed_172 S Z hS _ _ _ w0.1 )
        · refine pq_fi (fun _ => ?_) (fun _ => ?_)
          · exact pq_s w0
          · refine pq_fi (fun _ => ?_) (fun _ => ?_)
            · exact q_tA hN w0 (wX93_changed_172 S Z hS _ _ _ w0.1 )
            · refine pq_fi (fun _ => ?_) (fun _ => ?_)
              · exact q_tA hN w0 (wX93_changed_172 S Z hS _ _ _ w0.1 )
              · refine pq_fi (fun _ => ?_) (fun _ => ?_)
                · exact q_tA hN w0 (wX93_changed_172 S Z hS _ _ _ w0.1 )
                · refine pq_fi (fun _ => ?_) (fun _ => ?_)
                  · exact pq_s w0
                  · refine pq_fi (fun _ => ?_) (fun _ => ?_)
                    · exact q_tA hN w0 (wX93_changed_172 S Z hS _ _ _ w0.1 )
                    · refine pq_fi (fun _ => ?_) (fun _ => ?_)
                      · exact q_tA hN w0 (wX93_changed_172 S Z hS _ _ _ w0.1 )
                      · refine pq_fi (fun _ => ?_) (fun _ => ?_)
                        · exact q_tA hN w0 (wX93_changed_172 S Z hS _ _ _ w0.1 )
                        · refine pq_fi (fun _ => ?_) (fun _ => ?_)
                          · exact pq_s w0
                          · refine pq_fi (fun _ => ?_) (fun _ => ?_)
                            · exact q_tA hN w0 (wX93_changed_172 S Z hS _ _ _ w0.1 )
                            · refine pq_fi (fun _ => ?_) (fun _ => ?_)
                              · exact q_tA hN w0 (wX93_changed_172 S Z hS _ _ _ w0.1 )
                              · refine pq_fi (fun _ => ?_) (fun _ => ?_)
                                · exact q_tA hN w0 (wX93_changed_172 S Z hS _ _ _ w0.1 )
                                · refine pq_fi (fun _ => ?_) (fun _ => ?_)
                                  · refine pq_fi (fun _ => ?_) (fun _ => ?_)
                                    · exact q_tA hN w0 (wX93_changed_145 S Z hS _ _ w0.1 )
                                    · exact q_tA hN w0 (wX93_changed_145 S Z hS _ _ w0.1 )
                                  · refine pq_fi (fun _ => ?_) (fun _ => ?_)
                                    · exact q_tA hN w0 (wX93_changed_172 S Z hS _ _ _ w0.1 )
                                    · refine pq_fi (fun _ => ?_) (fun _ => ?_)
                                      · exact q_tA hN w0 (wX93_changed_172 S Z hS _ _ _ w0.1 )
                                      · refine pq_fi (fun _ => ?_) (fun _ => ?_)
                                        · exact q_tA hN w0 (wX93_changed_172 S Z hS _ _ _ w0.1 )
                                        · refine pq_fi (fun _ => ?_) (fun _ => ?_)
                                          · refine pq_fi (fun _ => ?_) (fun _ => ?_)
                                            · exact q_tA hN w0 (wX93_changed_157 S Z hS _ _ w0.1 )
                                            · exact q_tA hN w0 (wX93_changed_157 S Z hS _ _ w0.1 )
                                          · refine pq_fi (fun _ => ?_) (fun _ => ?_)
                                            · exact q_tA hN w0 (wX93_changed_172 S Z hS _ _ _ w0.1 )
                                            · refine pq_fi (fun _ => ?_) (fun _ => ?_)
                                              · exact q_tA hN w0 (wX93_changed_172 S Z hS _ _ _ w0.1 )
                                              · refine pq_fi (fun _ => ?_) (fun _ => ?_)
                                                · exact q_tA hN w0 (wX93_changed_172 S Z hS _ _ _ w0.1 )
                                                · refine pq_fi (fun _ => ?_) (fun _ => ?_)
                                                  · refine pq_b (wX93_isLess S Z (sb rfl hS) _ _ _ w0.1 ) (fun r1 K2 => ?_)
                                                    have w3 := wk_t w0 K2 hN
                                                    refine pq_fi (fun _ => ?_) (fun _ => ?_)
                                                    · exact q_tA hN w3 (wX93_changed_171 S Z hS _ _ w3.1 )
                                                    · exact q_tA hN w3 (wX93_changed_171 S Z hS _ _ w3.1 )
                                                  · exact q_tA hN w0 (wX93_changed_172 S Z hS _ _ _ w0.1 )
theorem wX93_changed (S Z : Nat → Prop) {hx N : Nat} (hS : ∀ x, fe_mem lX93_changed x = true → S x) (a0 : Int32) (a1 : Int64) (a3 : Int64) (M : FM) (w : WI Z hx N M) : pq (FX93_changed a0 a1 a3 M) (QA S Z hx N M) := wX93_changed_0 S Z hS a0 a1 a3 M w 
def lX93_atomic : List Nat := [393, 1388, 1389, 1390, 1391, 1392]
theorem wX93_atomic_187 (S Z : Nat → Prop) {hx N : Nat} (hS : ∀ x, fe_mem lX93_atomic x = true → S x) (n : Nat) (s0 : Int64) (M : FM) (w : WI Z hx N M) : pq (FX93_atomic_187 n s0 M) (QA S Z hx N M) := by
  have hN := w.2.2.1
  have w0 := wk_r (S := S) w
  delta FX93_atomic_187 BX93_atomic_187
  exact pq_s w0
theorem wX93_atomic_177 (S Z : Nat → Prop) {hx N : Nat} (hS : ∀ x, fe_mem lX93_atomic x = true → S x) (n : Nat) (a10 : Int32) (M : FM) (w : WI Z hx N M) : pq (FX93_atomic_177 n a10 M) (QA S Z hx N M) := by
  have hN := w.2.2.1
  have w0 := wk_r (S := S) w
  delta FX93_atomic_177 BX93_atomic_177
  refine pq_fi (fun _ => ?_) (fun _ => ?_)
  · exact q_tA hN w0 (wX93_atomic_187 S Z hS n _ _ w0.1 )
  · exact q_tA hN w0 (wX93_atomic_187 S Z hS n _ _ w0.1 )
theorem wX93_atomic_165 (S Z : Nat → Prop) {hx N : Nat} (hS : ∀ x, fe_mem lX93_atomic x = true → S x) (n : Nat) (a0 : Nat) (a3 : Int64) (a5 : Int32) (a6 : Int64) (a10 : Int32) (s0 : Nat) (s1 : Int64) (M : FM) (w : WI Z hx N M) (z_a0 : Z a0) (z_s0 : Z s0) : pq (FX93_atomic_165 n a0 a3 a5 a6 a10 s0 s1 M) (QA S Z hx N M) := by
  have hN := w.2.2.1
  have w0 := wk_r (S := S) w
  delta FX93_atomic_165 BX93_atomic_165
  refine pq_g (fun g1 => ?_)
  extract_lets +onlyGivenNames M3
  have w2 : Wk S Z hx N M M3 := wk_fL hN w0 rfl rfl g1 z_s0 (Or.inr (hS 393 rfl))
  refine pq_g (fun g4 => ?_)
  refine pq_b (wX93_keep S Z (sb rfl hS) n _ _ _ _ _ w2.1 z_a0) (fun r5 K6 => ?_)
  have w7 := wk_t w2 K6 hN
  exact q_tA hN w7 (wX93_atomic_177 S Z hS n _ _ w7.1 )
theorem wX93_atomic_113 (S Z : Nat → Prop) {hx N : Nat} (hS : ∀ x, fe_mem lX93_atomic x = true → S x) (n : Nat) (a0 : Nat) (a1 : Int32) (a3 : Int64) (a5 : Int32) (a6 : Int64) (s0 : Int32) (M : FM) (w : WI Z hx N M) (z_a0 : Z a0) : pq (FX93_atomic_113 n a0 a1 a3 a5 a6 s0 M) (QA S Z hx N M) := by
  have hN := w.2.2.1
  have w0 := wk_r (S := S) w
  delta FX93_atomic_113 BX93_atomic_113
  refine pq_g (fun g1 => ?_)
  have z2 := wk_z (i := 0) (f := 389) w0 rfl z_a0
  have f3 := sS_389 w0.1.1 g1
  refine pq_g (fun g4 => ?_)
  extract_lets +onlyGivenNames M6
  have w5 : Wk S Z hx N M M6 := wk_aL hN w0 rfl g4.1 z2 (sy_s f3 (hS 1389 rfl))
  refine pq_fi (fun _ => ?_) (fun _ => ?_)
  · exact q_tA hN w5 (wX93_atomic_177 S Z hS n _ _ w5.1 )
  · refine pq_g (fun g7 => ?_)
    have z8 := wk_z (i := 0) (f := 391) w5 rfl z_a0
    have f9 := sS_391 w5.1.1 g7
    refine pq_n ?_
    refine pq_g (fun g10 => ?_)
    refine pq_g (fun g11 => ?_)
    have z12 := wk_z (i := 0) (f := 392) w5 rfl z_a0
    have f13 := sS_392 w5.1.1 g11
    refine pq_g (fun g14 => ?_)
    refine pq_fi (fun _ => ?_) (fun _ => ?_)
    · refine pq_g (fun g15 => ?_)
      exact q_tA hN w5 (wX93_atomic_165 S Z hS n _ _ _ _ _ _ _ _ w5.1 z_a0 z_a0)
    · refine pq_g (fun g16 => ?_)
      exact q_tA hN w5 (wX93_atomic_165 S Z hS n _ _ _ _ _ _ _ _ w5.1 z_a0 z_a0)
theorem wX93_atomic_112 (S Z : Nat → Prop) {hx N : Nat} (hS : ∀ x, fe_mem lX93_atomic x = true → S x) (n : Nat) (a0 : Nat) (a1 : Int32) (a3 : Int64) (a5 : Int32) (a6 : Int64) (M : FM) (w : WI Z hx N M) (z_a0 : Z a0) : pq (FX93_atomic_112 n a0 a1 a3 a5 a6 M) (QA S Z hx N M) := by
  have hN := w.2.2.1
  have w0 := wk_r (S := S) w
  delta FX93_atomic_112 BX93_atomic_112
  exact q_tA hN w0 (wX93_atomic_113 S Z hS n _ _ _ _ _ _ _ w0.1 z_a0)
theorem wX93_atomic_0 (S Z : Nat → Prop) {hx N : Nat} (hS : ∀ x, fe_mem lX93_atomic x = true → S x) (n : Nat) (a0 : Nat) (a1 : Int32) (a2 : Int32) (a3 : Int64) (a5 : Int32) (a6 : Int64) (M : FM) (w : WI Z hx N M) (z_a0 : Z a0) : pq (FX93_atomic_0 n a0 a1 a2 a3 a5 a6 M) (QA S Z hx N M) := by
  have hN := w.2.2.1
  have w0 := wk_r (S := S) w
  delta FX93_atomic_0 BX93_atomic_0
  refine pq_g (fun g1 => ?_)
  refine pq_b (wX93_number S Z (sb rfl hS) n _ _ _ _ w0.1 z_a0) (fun r2 K3 => ?_)
  have w4 := wk_t w0 K3 hN
  refine pq_b (wX93_signed S Z (sb rfl hS) _ _ _ w4.1 ) (fun r5 K6 => ?_)
  have w7 := wk_t w4 K6 hN
  refine pq_fi (fun _ => ?_) (fun _ => ?_)
  · refine pq_g (fun g8 => ?_)
    have z9 := wk_z (i := 0) (f := 389) w7 rfl z_a0
    have f10 := sS_389 w7.1.1 g8
    refine pq_g (fun g11 => ?_)
    extract_lets +onlyGivenNames M13
    have w12 : Wk S Z hx N M M13 := wk_aL hN w7 rfl g11.1 z9 (sy_s f10 (hS 1389 rfl))
    refine pq_g (fun g14 => ?_)
    have z15 := wk_z (i := 0) (f := 390) w12 rfl z_a0
    have f16 := sS_390 w12.1.1 g14
    refine pq_g (fun g17 => ?_)
    extract_lets +onlyGivenNames M19
    have w18 : Wk S Z hx N M M19 := wk_aI hN w12 rfl g17.1 z15 (sy_s f16 (hS 1390 rfl))
    refine pq_g (fun g20 => ?_)
    have z21 := wk_z (i := 0) (f := 392) w18 rfl z_a0
    have f22 := sS_392 w18.1.1 g20
    refine pq_g (fun g23 => ?_)
    have z24 := wk_z (i := 0) (f := 391) w18 rfl z_a0
    have f25 := sS_391 w18.1.1 g23
    refine pq_n ?_
    refine pq_g (fun g26 => ?_)
    refine pq_g (fun g27 => ?_)
    extract_lets +onlyGivenNames M29
    have w28 : Wk S Z hx N M M29 := wk_aI hN w18 rfl g27.1 z21 (sy_s f22 (hS 1392 rfl))
    exact pq_s w28
  · refine pq_fi (fun _ => ?_) (fun _ => ?_)
    · refine pq_g (fun g30 => ?_)
      have z31 := wk_z (i := 0) (f := 389) w7 rfl z_a0
      have f32 := sS_389 w7.1.1 g30
      refine pq_g (fun g33 => ?_)
      refine pq_fi (fun _ => ?_) (fun _ => ?_)
      · refine pq_g (fun g34 => ?_)
        have z35 := wk_z (i := 0) (f := 390) w7 rfl z_a0
        have f36 := sS_390 w7.1.1 g34
        refine pq_g (fun g37 => ?_)
        refine pq_fi (fun _ => ?_) (fun _ => ?_)
        · exact q_tA hN w7 (wX93_atomic_113 S Z hS n _ _ _ _ _ _ _ w7.1 z_a0)
        · exact q_tA hN w7 (wX93_atomic_112 S Z hS n _ _ _ _ _ _ w7.1 z_a0)
      · exact q_tA hN w7 (wX93_atomic_112 S Z hS n _ _ _ _ _ _ w7.1 z_a0)
    · refine pq_b (wX93_signed S Z (sb rfl hS) _ _ _ w7.1 ) (fun r38 K39 => ?_)
      have w40 := wk_t w7 K39 hN
      refine pq_b (wX93_changed S Z (sb rfl hS) _ _ _ _ w40.1 ) (fun r41 K42 => ?_)
      have w43 := wk_t w40 K42 hN
      refine pq_g (fun g44 => ?_)
      refine pq_b (wX93_keep S Z (sb rfl hS) n _ _ _ _ _ w43.1 z_a0) (fun r45 K46 => ?_)
      have w47 := wk_t w43 K46 hN
      exact pq_s w47
theorem wX93_atomic (S Z : Nat → Prop) {hx N : Nat} (hS : ∀ x, fe_mem lX93_atomic x = true → S x) (n : Nat) (a0 : Nat) (a1 : Int32) (a2 : Int32) (a3 : Int64) (a5 : Int32) (a6 : Int64) (M : FM) (w : WI Z hx N M) (z_a0 : Z a0) : pq (FX93_atomic n a0 a1 a2 a3 a5 a6 M) (QA S Z hx N M) := wX93_atomic_0 S Z hS n a0 a1 a2 a3 a5 a6 M w z_a0
def lX92_atomic : List Nat := [316, 320, 321, 322, 345, 347, 348, 353, 358, 393, 422, 429, 430, 1323, 1346, 1388, 1389, 1390, 1391, 1392]
theorem wX92_atomic_135 (S Z : Nat → Prop) {hx N : Nat} (hS : ∀ x, fe_mem lX92_atomic x = true → S x) (n : Nat) (a0 : Nat) (a1 : Int32) (a8 : Int64) (M : FM) (w : WI Z hx N M) (z_a0 : Z a0) (i_a1 : a1.toNatClampNeg = hx) : pq (FX92_atomic_135 n a0 a1 a8 M) (QA S Z hx N M) := by
  have hN := w.2.2.1
  have w0 := wk_r (S := S) w
  delta FX92_atomic_135 BX92_atomic_135
  refine pq_g (fun g1 => ?_)
  have z2 := wk_z (i := 0) (f := 303) w0 rfl z_a0
  have f3 := sS_303 w0.1.1 g1
  refine pq_g (fun g4 => ?_)
  have z5 := wk_zx w0 z2 i_a1
  refine pq_g (fun g6 => ?_)
  refine pq_b (wX98_finish S Z (sb rfl hS) _ _ _ _ w0.1 z5) (fun r7 K8 => ?_)
  have w9 := wk_t w0 K8 hN
  refine pq_g (fun _ => ?_)
  exact pq_s w9
theorem wX92_atomic_128 (S Z : Nat → Prop) {hx N : Nat} (hS : ∀ x, fe_mem lX92_atomic x = true → S x) (n : Nat) (a0 : Nat) (a1 : Int32) (a4 : Int32) (a8 : Int64) (M : FM) (w : WI Z hx N M) (z_a0 : Z a0) (i_a1 : a1.toNatClampNeg = hx) : pq (FX92_atomic_128 n a0 a1 a4 a8 M) (QA S Z hx N M) := by
  have hN := w.2.2.1
  have w0 := wk_r (S := S) w
  delta FX92_atomic_128 BX92_atomic_128
  refine pq_g (fun g1 => ?_)
  refine pq_b (wX92_watch S Z (sb rfl hS) n _ _ _ _ w0.1 z_a0 i_a1) (fun r2 K3 => ?_)
  have w4 := wk_t w0 K3 hN
  exact q_tA hN w4 (wX92_atomic_135 S Z hS n _ _ _ _ w4.1 z_a0 i_a1)
theorem wX92_atomic_82 (S Z : Nat → Prop) {hx N : Nat} (hS : ∀ x, fe_mem lX92_atomic x = true → S x) (n : Nat) (a2 : Int64) (s0 : Nat) (s1 : Int32) (M : FM) (w : WI Z hx N M) (z_s0 : Z s0) : pq (FX92_atomic_82 n a2 s0 s1 M) (QA S Z hx N M) := by
  have hN := w.2.2.1
  have w0 := wk_r (S := S) w
  delta FX92_atomic_82 BX92_atomic_82
  refine pq_g (fun g1 => ?_)
  refine pq_b (wX92_fail S Z (sb rfl hS) _ _ _ _ w0.1 z_s0) (fun r2 K3 => ?_)
  have w4 := wk_t w0 K3 hN
  refine pq_g (fun _ => ?_)
  exact pq_s w4
theorem wX92_atomic_46 (S Z : Nat → Prop) {hx N : Nat} (hS : ∀ x, fe_mem lX92_atomic x = true → S x) (n : Nat) (a0 : Nat) (a1 : Int32) (a2 : Int64) (a4 : Int32) (a5 : Int32) (a6 : Int64) (s0 : Nat) (s1 : Int32) (s2 : Int64) (s3 : Int32) (s4 : Int32) (M : FM) (w : WI Z hx N M) (z_a0 : Z a0) (z_s0 : Z s0) (i_s1 : s1.toNatClampNeg = hx) (i_a1 : a1.toNatClampNeg = hx) : pq (FX92_atomic_46 n a0 a1 a2 a4 a5 a6 s0 s1 s2 s3 s4 M) (QA S Z hx N M) := by
  have hN := w.2.2.1
  have w0 := wk_r (S := S) w
  delta FX92_atomic_46 BX92_atomic_46
  refine pq_g (fun g1 => ?_)
  refine pq_b (wX92_finds S Z (sb rfl hS) n _ _ _ _ _ _ w0.1 z_s0 i_s1) (fun r2 K3 => ?_)
  have w4 := wk_t w0 K3 hN
  refine pq_fi (fun _ => ?_) (fun _ => ?_)
  · refine pq_g (fun _ => ?_)
    exact pq_s w4
  · refine pq_g (fun g5 => ?_)
    have z6 := wk_z (i := 0) (f := 323) w4 rfl z_a0
    have f7 := sS_323 w4.1.1 g5
    refine pq_g (fun g8 => ?_)
    refine pq_b (wX93_areBytes S Z (sb rfl hS) _ _ _ w4.1 ) (fun r9 K10 => ?_)
    have w11 := wk_t w4 K10 hN
    refine pq_fi (fun _ => ?_) (fun _ => ?_)
    · refine pq_fi (fun _ => ?_) (fun _ => ?_)
      · exact q_tA hN w11 (wX92_atomic_82 S Z hS n _ _ _ _ w11.1 z_a0)
      · exact q_tA hN w11 (wX92_atomic_82 S Z hS n _ _ _ _ w11.1 z_a0)
    · refine pq_g (fun g12 => ?_)
      have z13 := wk_z (i := 0) (f := 298) w11 rfl z_a0
      refine pq_g (fun g14 => ?_)
      have z15 := wk_z (i := 0) (f := 323) w11 rfl z_a0
      have f16 := sS_323 w11.1.1 g14
      refine pq_g (fun g17 => ?_)
      refine pq_g (fun g18 => ?_)
      refine pq_b (wX93_atomic S Z (sb rfl hS) n _ _ _ _ _ _ _ w11.1 z13) (fun r19 K20 => ?_)
      have w21 := wk_t w11 K20 hN
      refine pq_fi (fun _ => ?_) (fun _ => ?_)
      · exact q_tA hN w21 (wX92_atomic_135 S Z hS n _ _ _ _ w21.1 z_a0 i_a1)
      · refine pq_fi (fun _ => ?_) (fun _ => ?_)
        · refine pq_fi (fun _ => ?_) (fun _ => ?_)
          · exact q_tA hN w21 (wX92_atomic_128 S Z hS n _ _ _ _ _ w21.1 z_a0 i_a1)
          · exact q_tA hN w21 (wX92_atomic_135 S Z hS n _ _ _ _ w21.1 z_a0 i_a1)
        · exact q_tA hN w21 (wX92_atomic_128 S Z hS n _ _ _ _ _ w21.1 z_a0 i_a1)
theorem wX92_atomic_25 (S Z : Nat → Prop) {hx N : Nat} (hS : ∀ x, fe_mem lX92_atomic x = true → S x) (n : Nat) (a2 : Int64) (s0 : Nat) (s1 : Int32) (M : FM) (w : WI Z hx N M) (z_s0 : Z s0) : pq (FX92_atomic_25 n a2 s0 s1 M) (QA S Z hx N M) := by
  have hN := w.2.2.1
  have w0 := wk_r (S := S) w
  delta FX92_atomic_25 BX92_atomic_25
  refine pq_g (fun g1 => ?_)
  refine pq_b (wX92_fail S Z (sb rfl hS) _ _ _ _ w0.1 z_s0) (fun r2 K3 => ?_)
  have w4 := wk_t w0 K3 hN
  refine pq_g (fun _ => ?_)
  exact pq_s w4
theorem wX92_atomic_0 (S Z : Nat → Prop) {hx N : Nat} (hS : ∀ x, fe_mem lX92_atomic x = true → S x) (n : Nat) (a0 : Nat) (a1 : Int32) (a2 : Int64) (a4 : Int32) (a5 : Int32) (a6 : Int64) (M : FM) (w : WI Z hx N M) (z_a0 : Z a0) (i_a1 : a1.toNatClampNeg = hx) : pq (FX92_atomic_0 n a0 a1 a2 a4 a5 a6 M) (QA S Z hx N M) := by
  have hN := w.2.2.1
  have w0 := wk_r (S := S) w
  delta FX92_atomic_0 BX92_atomic_0
  refine pq_fi (fun _ => ?_) (fun _ => ?_)
  · refine pq_fi (fun _ => ?_) (fun _ => ?_)
    · exact q_tA hN w0 (wX92_atomic_46 S Z hS n _ _ _ _ _ _ _ _ _ _ _ _ w0.1 z_a0 z_a0 i_a1 i_a1)
    · exact q_tA hN w0 (wX92_atomic_46 S Z hS n _ _ _ _ _ _ _ _ _ _ _ _ w0.1 z_a0 z_a0 i_a1 i_a1)
  · refine pq_fi (fun _ => ?_) (fun _ => ?_)
    · exact q_tA hN w0 (wX92_atomic_25 S Z hS n _ _ _ _ w0.1 z_a0)
    · exact q_tA hN w0 (wX92_atomic_25 S Z hS n _ _ _ _ w0.1 z_a0)
theorem wX92_atomic (S Z : Nat → Prop) {hx N : Nat} (hS : ∀ x, fe_mem lX92_atomic x = true → S x) (n : Nat) (a0 : Nat) (a1 : Int32) (a2 : Int64) (a4 : Int32) (a5 : Int32) (a6 : Int64) (M : FM) (w : WI Z hx N M) (z_a0 : Z a0) (i_a1 : a1.toNatClampNeg = hx) : pq (FX92_atomic n a0 a1 a2 a4 a5 a6 M) (QA S Z hx N M) := wX92_atomic_0 S Z hS n a0 a1 a2 a4 a5 a6 M w z_a0 i_a1
def lX100_floats : List Nat := [358]
theorem wX100_floats_17 (S Z : Nat → Prop) {hx N : Nat} (hS : ∀ x, fe_mem lX100_floats x = true → S x) (s0 : Int32) (M : FM) (w : WI Z hx N M) : pq (FX100_floats_17 s0 M) (QA S Z hx N M) := by
  have hN := w.2.2.1
  have w0 := wk_r (S := S) w
  delta FX100_floats_17 BX100_floats_17
  refine pq_g (fun _ => ?_)
  exact pq_s w0
theorem wX100_floats_0 (S Z : Nat → Prop) {hx N : Nat} (hS : ∀ x, fe_mem lX100_floats x = true → S x) (a0 : Nat) (M : FM) (w : WI Z hx N M) (z_a0 : Z a0) : pq (FX100_floats_0 a0 M) (QA S Z hx N M) := by
  have hN := w.2.2.1
  have w0 := wk_r (S := S) w
  delta FX100_floats_0 BX100_floats_0
  refine pq_g (fun g1 => ?_)
  extract_lets +onlyGivenNames M3
  have w2 : Wk S Z hx N M M3 := wk_fI hN w0 rfl rfl g1 z_a0 (Or.inr (hS 358 rfl))
  refine pq_g (fun g4 => ?_)
  refine pq_b (wX100_floating S Z (sb rfl hS) _ _ w2.1 z_a0) (fun r5 K6 => ?_)
  have w7 := wk_t w2 K6 hN
  refine pq_fi (fun _ => ?_) (fun _ => ?_)
  · exact q_tA hN w7 (wX100_floats_17 S Z hS _ _ w7.1 )
  · exact q_tA hN w7 (wX100_floats_17 S Z hS _ _ w7.1 )
theorem wX100_floats (S Z : Nat → Prop) {hx N : Nat} (hS : ∀ x, fe_mem lX100_floats x = true → S x) (a0 : Nat) (M : FM) (w : WI Z hx N M) (z_a0 : Z a0) : pq (FX100_floats a0 M) (QA S Z hx N M) := wX100_floats_0 S Z hS a0 M w z_a0
def lX99_isNo : List Nat := [366]
theorem wX99_isNo_31 (S Z : Nat → Prop) {hx N : Nat} (hS : ∀ x, fe_mem lX99_isNo x = true → S x) (s0 : Int32) (M : FM) (w : WI Z hx N M) : pq (FX99_isNo_31 s0 M) (QA S Z hx N M) := by
  have hN := w.2.2.1
  have w0 := wk_r (S := S) w
  delta FX99_isNo_31 BX99_isNo_31
  refine pq_g (fun _ => ?_)
  exact pq_s w0
theorem wX99_isNo_16 (S Z : Nat → Prop) {hx N : Nat} (hS : ∀ x, fe_mem lX99_isNo x = true → S x) (a0 : Nat) (s0 : Nat) (s1 : Int32) (M : FM) (w : WI Z hx N M) (z_a0 : Z a0) (z_s0 : Z s0) : pq (FX99_isNo_16 a0 s0 s1 M) (QA S Z hx N M) := by
  have hN := w.2.2.1
  have w0 := wk_r (S := S) w
  delta FX99_isNo_16 BX99_isNo_16
  refine pq_g (fun g1 => ?_)
  extract_lets +onlyGivenNames M3
  have w2 : Wk S Z hx N M M3 := wk_fI hN w0 rfl rfl g1 z_s0 (Or.inr (hS 366 rfl))
  refine pq_g (fun g4 => ?_)
  refine pq_fi (fun _ => ?_) (fun _ => ?_)
  · exact q_tA hN w2 (wX99_isNo_31 S Z hS _ _ w2.1 )
  · exact q_tA hN w2 (wX99_isNo_31 S Z hS _ _ w2.1 )
theorem wX99_isNo_11 (S Z : Nat → Prop) {hx N : Nat} (hS : ∀ x, fe_mem lX99_isNo x = true → S x) (a0 : Nat) (s0 : Nat) (M : FM) (w : WI Z hx N M) (z_a0 : Z a0) (z_s0 : Z s0) : pq (FX99_isNo_11 a0 s0 M) (QA S Z hx N M) := by
  have hN := w.2.2.1
  have w0 := wk_r (S := S) w
  delta FX99_isNo_11 BX99_isNo_11
  exact q_tA hN w0 (wX99_isNo_16 S Z hS _ _ _ _ w0.1 z_a0 z_s0)
theorem wX99_isNo_0 (S Z : Nat → Prop) {hx N : Nat} (hS : ∀ x, fe_mem lX99_isNo x = true → S x) (a0 : Nat) (a1 : Int32) (M : FM) (w : WI Z hx N M) (z_a0 : Z a0) : pq (FX99_isNo_0 a0 a1 M) (QA S Z hx N M) := by
  have hN := w.2.2.1
  have w0 := wk_r (S := S) w
  delta FX99_isNo_0 BX99_isNo_0
  refine pq_fi (fun _ => ?_) (fun _ => ?_)
  · exact q_tA hN w0 (wX99_isNo_11 S Z hS _ _ _ w0.1 z_a0 z_a0)
  · refine pq_fi (fun _ => ?_) (fun _ => ?_)
    · exact q_tA hN w0 (wX99_isNo_16 S Z hS _ _ _ _ w0.1 z_a0 z_a0)
    · exact q_tA hN w0 (wX99_isNo_11 S Z hS _ _ _ w0.1 z_a0 z_a0)
theorem wX99_isNo (S Z : Nat → Prop) {hx N : Nat} (hS : ∀ x, fe_mem lX99_isNo x = true → S x) (a0 : Nat) (a1 : Int32) (M : FM) (w : WI Z hx N M) (z_a0 : Z a0) : pq (FX99_isNo a0 a1 M) (QA S Z hx N M) := wX99_isNo_0 S Z hS a0 a1 M w z_a0
def lX99_get : List Nat := [366]
theorem wX99_get_18 (S Z : Nat → Prop) {hx N : Nat} (hS : ∀ x, fe_mem lX99_get x = true → S x) (s0 : Int64) (M : FM) (w : WI Z hx N M) : pq (FX99_get_18 s0 M) (QA S Z hx N M) := by
  have hN := w.2.2.1
  have w0 := wk_r (S := S) w
  delta FX99_get_18 BX99_get_18
  exact pq_s w0
theorem wX99_get_0 (S Z : Nat → Prop) {hx N : Nat} (hS : ∀ x, fe_mem lX99_get x = true → S x) (a0 : Nat) (a1 : Int32) (M : FM) (w : WI Z hx N M) (z_a0 : Z a0) : pq (FX99_get_0 a0 a1 M) (QA S Z hx N M) := by
  have hN := w.2.2.1
  have w0 := wk_r (S := S) w
  delta FX99_get_0 BX99_get_0
  refine pq_g (fun g1 => ?_)
  refine pq_b (wX99_isNo S Z (sb rfl hS) _ _ _ w0.1 z_a0) (fun r2 K3 => ?_)
  have w4 := wk_t w0 K3 hN
  refine pq_fi (fun _ => ?_) (fun _ => ?_)
  · refine pq_g (fun g5 => ?_)
    have z6 := wk_z (i := 0) (f := 367) w4 rfl z_a0
    have f7 := sS_367 w4.1.1 g5
    refine pq_g (fun g8 => ?_)
    exact q_tA hN w4 (wX99_get_18 S Z hS _ _ w4.1 )
  · exact q_tA hN w4 (wX99_get_18 S Z hS _ _ w4.1 )
theorem wX99_get (S Z : Nat → Prop) {hx N : Nat} (hS : ∀ x, fe_mem lX99_get x = true → S x) (a0 : Nat) (a1 : Int32) (M : FM) (w : WI Z hx N M) (z_a0 : Z a0) : pq (FX99_get a0 a1 M) (QA S Z hx N M) := wX99_get_0 S Z hS a0 a1 M w z_a0
def lX96_readTimer : List Nat := []
theorem wX96_readTimer_119 (S Z : Nat → Prop) {hx N : Nat} (hS : ∀ x, fe_mem lX96_readTimer x = true → S x) (s0 : Int64) (M : FM) (w : WI Z hx N M) : pq (FX96_readTimer_119 s0 M) (QA S Z hx N M) := by
  have hN := w.2.2.1
  have w0 := wk_r (S := S) w
  delta FX96_readTimer_119 BX96_readTimer_119
  exact pq_s w0
theorem wX96_readTimer_114 (S Z : Nat → Prop) {hx N : Nat} (hS : ∀ x, fe_mem lX96_readTimer x = true → S x) (s0 : Int64) (s1 : Int32) (M : FM) (w : WI Z hx N M) : pq (FX96_readTimer_114 s0 s1 M) (QA S Z hx N M) := by
  have hN := w.2.2.1
  have w0 := wk_r (S := S) w
  delta FX96_readTimer_114 BX96_readTimer_114
  exact q_tA hN w0 (wX96_readTimer_119 S Z hS _ _ w0.1 )
theorem wX96_readTimer_75 (S Z : Nat → Prop) {hx N : Nat} (hS : ∀ x, fe_mem lX96_readTimer x = true → S x) (M : FM) (w : WI Z hx N M) : pq (FX96_readTimer_75 M) (QA S Z hx N M) := by
  have hN := w.2.2.1
  have w0 := wk_r (S := S) w
  delta FX96_readTimer_75 BX96_readTimer_75
  exact pq_s w0
theorem wX96_readTimer_49 (S Z : Nat → Prop) {hx N : Nat} (hS : ∀ x, fe_mem lX96_readTimer x = true → S x) (a0 : Nat) (a1 : Int64) (a3 : Int32) (M : FM) (w : WI Z hx N M) (z_a0 : Z a0) : pq (FX96_readTimer_49 a0 a1 a3 M) (QA S Z hx N M) := by
  have hN := w.2.2.1
  have w0 := wk_r (S := S) w
  delta FX96_readTimer_49 BX96_readTimer_49
  refine pq_g (fun g1 => ?_)
  refine pq_b (wX96_eightAt S Z (sb rfl hS) _ _ _ w0.1 z_a0) (fun r2 K3 => ?_)
  have w4 := wk_t w0 K3 hN
  refine pq_fi (fun _ => ?_) (fun _ => ?_)
  · exact q_tA hN w4 (wX96_readTimer_75 S Z hS _ w4.1 )
  · refine pq_n ?_
    refine pq_fi (fun _ => ?_) (fun _ => ?_)
    · refine pq_fi (fun _ => ?_) (fun _ => ?_)
      · refine pq_fi (fun _ => ?_) (fun _ => ?_)
        · refine pq_g (fun g5 => ?_)
          refine pq_b (wX96_eight S Z (sb rfl hS) _ _ _ w4.1 z_a0) (fun r6 K7 => ?_)
          have w8 := wk_t w4 K7 hN
          exact q_tA hN w8 (wX96_readTimer_119 S Z hS _ _ w8.1 )
        · refine pq_g (fun g9 => ?_)
          refine pq_b (wX96_eight S Z (sb rfl hS) _ _ _ w4.1 z_a0) (fun r10 K11 => ?_)
          have w12 := wk_t w4 K11 hN
          refine pq_n ?_
          refine pq_fi (fun _ => ?_) (fun _ => ?_)
          · exact q_tA hN w12 (wX96_readTimer_114 S Z hS _ _ _ w12.1 )
          · exact q_tA hN w12 (wX96_readTimer_114 S Z hS _ _ _ w12.1 )
      · exact q_tA hN w4 (wX96_readTimer_75 S Z hS _ w4.1 )
    · exact q_tA hN w4 (wX96_readTimer_75 S Z hS _ w4.1 )
theorem wX96_readTimer_48 (S Z : Nat → Prop) {hx N : Nat} (hS : ∀ x, fe_mem lX96_readTimer x = true → S x) (s0 : Int64) (M : FM) (w : WI Z hx N M) : pq (FX96_readTimer_48 s0 M) (QA S Z hx N M) := by
  have hN := w.2.2.1
  have w0 := wk_r (S := S) w
  delta FX96_readTimer_48 BX96_readTimer_48
  exact pq_s w0
theorem wX96_readTimer_0 (S Z : Nat → Prop) {hx N : Nat} (hS : ∀ x, fe_mem lX96_readTimer x = true → S x) (a0 : Nat) (a1 : Int64) (a3 : Int32) (M : FM) (w : WI Z hx N M) (z_a0 : Z a0) : pq (FX96_readTimer_0 a0 a1 a3 M) (QA S Z hx N M) := by
  have hN := w.2.2.1
  have w0 := wk_r (S := S) w
  delta FX96_readTimer_0 BX96_readTimer_0
  refine pq_fi (fun _ => ?_) (fun _ => ?_)
  · refine pq_g (fun g1 => ?_)
    refine pq_fi (fun _ => ?_) (fun _ => ?_)
    · exact q_tA hN w0 (wX96_readTimer_49 S Z hS _ _ _ _ w0.1 z_a0)
    · refine pq_n ?_
      refine pq_fi (fun _ => ?_) (fun _ => ?_)
      · refine pq_g (fun g2 => ?_)
        have z3 := wk_z (i := 0) (f := 396) w0 rfl z_a0
        have f4 := sS_396 w0.1.1 g2
        refine pq_n ?_
        refine pq_g (fun g5 => ?_)
        refine pq_fi (fun _ => ?_) (fun _ => ?_)
        · exact q_tA hN w0 (wX96_readTimer_48 S Z hS _ _ w0.1 )
        · exact q_tA hN w0 (wX96_readTimer_48 S Z hS _ _ w0.1 )
      · exact q_tA hN w0 (wX96_readTimer_49 S Z hS _ _ _ _ w0.1 z_a0)
  · exact q_tA hN w0 (wX96_readTimer_49 S Z hS _ _ _ _ w0.1 z_a0)
theorem wX96_readTimer (S Z : Nat → Prop) {hx N : Nat} (hS : ∀ x, fe_mem lX96_readTimer x = true → S x) (a0 : Nat) (a1 : Int64) (a3 : Int32) (M : FM) (w : WI Z hx N M) (z_a0 : Z a0) : pq (FX96_readTimer a0 a1 a3 M) (QA S Z hx N M) := wX96_readTimer_0 S Z hS a0 a1 a3 M w z_a0
def lX96_waiting : List Nat := []
theorem wX96_waiting_28 (S Z : Nat → Prop) {hx N : Nat} (hS : ∀ x, fe_mem lX96_waiting x = true → S x) (n : Nat) (k4 : Nat → Int64 → Int32 → FM → Option (Int64 × FM)) (hk4 : ∀ (a0 : Nat) (a1 : Int64) (a3 : Int32) (M : FM), WI Z hx N M → Z a0 → pq (k4 a0 a1 a3 M) (QA S Z hx N M)) (a0 : Nat) (a3 : Int32) (s0 : Int64) (M : FM) (w : WI Z hx N M) (z_a0 : Z a0) : pq (FX96_waiting_28 n k4 a0 a3 s0 M) (QA S Z hx N M) := by
  have hN := w.2.2.1
  have w0 := wk_r (S := S) w
  delta FX96_waiting_28 BX96_waiting_28
  exact q_tA hN w0 (hk4 _ _ _ _ w0.1 z_a0)
theorem wX96_waiting_4 (S Z : Nat → Prop) {hx N : Nat} (hS : ∀ x, fe_mem lX96_waiting x = true → S x) (n : Nat) (k4 : Nat → Int64 → Int32 → FM → Option (Int64 × FM)) (hk4 : ∀ (a0 : Nat) (a1 : Int64) (a3 : Int32) (M : FM), WI Z hx N M → Z a0 → pq (k4 a0 a1 a3 M) (QA S Z hx N M)) (a0 : Nat) (a1 : Int64) (a3 : Int32) (M : FM) (w : WI Z hx N M) (z_a0 : Z a0) : pq (FX96_waiting_4 n k4 a0 a1 a3 M) (QA S Z hx N M) := by
  have hN := w.2.2.1
  have w0 := wk_r (S := S) w
  delta FX96_waiting_4 BX96_waiting_4
  refine pq_fi (fun _ => ?_) (fun _ => ?_)
  · exact pq_s w0
  · refine pq_g (fun g1 => ?_)
    have z2 := wk_z (i := 0) (f := 400) w0 rfl z_a0
    have f3 := sS_400 w0.1.1 g1
    refine pq_g (fun g4 => ?_)
    refine pq_fi (fun _ => ?_) (fun _ => ?_)
    · exact q_tA hN w0 (wX96_waiting_28 S Z hS n _ hk4 _ _ _ _ w0.1 z_a0)
    · exact q_tA hN w0 (wX96_waiting_28 S Z hS n _ hk4 _ _ _ _ w0.1 z_a0)
theorem wX96_waiting_0 (S Z : Nat → Prop) {hx N : Nat} (hS : ∀ x, fe_mem lX96_waiting x = true → S x) (n : Nat) (k4 : Nat → Int64 → Int32 → FM → Option (Int64 × FM)) (hk4 : ∀ (a0 : Nat) (a1 : Int64) (a3 : Int32) (M : FM), WI Z hx N M → Z a0 → pq (k4 a0 a1 a3 M) (QA S Z hx N M)) (a0 : Nat) (M : FM) (w : WI Z hx N M) (z_a0 : Z a0) : pq (FX96_waiting_0 n k4 a0 M) (QA S Z hx N M) := by
  have hN := w.2.2.1
  have w0 := wk_r (S := S) w
  delta FX96_waiting_0 BX96_waiting_0
  exact q_tA hN w0 (hk4 _ _ _ _ w0.1 z_a0)
theorem wX96_waiting_L (S Z : Nat → Prop) {hx N : Nat} (hS : ∀ x, fe_mem lX96_waiting x = true → S x) (n : Nat) : ∀ j : Nat, ∀ (a0 : Nat) (a1 : Int64) (a3 : Int32) (M : FM), WI Z hx N M → Z a0 → pq (FX96_waiting_L4 n j a0 a1 a3 M) (QA S Z hx N M)
  | 0 => by intros; exact pq_0
  | j + 1 => fun a0 a1 a3 M w => wX96_waiting_4 S Z hS n _ (wX96_waiting_L S Z hS n j) a0 a1 a3 M w
theorem wX96_waiting (S Z : Nat → Prop) {hx N : Nat} (hS : ∀ x, fe_mem lX96_waiting x = true → S x) (n : Nat) (a0 : Nat) (M : FM) (w : WI Z hx N M) (z_a0 : Z a0) : pq (FX96_waiting n a0 M) (QA S Z hx N M) := wX96_waiting_0 S Z hS n _ (wX96_waiting_L S Z hS n n) a0 M w z_a0
def lX96_best : List Nat := []
theorem wX96_best_72 (S Z : Nat → Prop) {hx N : Nat} (hS : ∀ x, fe_mem lX96_best x = true → S x) (n : Nat) (k5 : Nat → Int32 → Int32 → Int32 → FM → Option (Int32 × FM)) (hk5 : ∀ (a0 : Nat) (a1 : Int32) (a2 : Int32) (a3 : Int32) (M : FM), WI Z hx N M → Z a0 → pq (k5 a0 a1 a2 a3 M) (QA S Z hx N M)) (a0 : Nat) (a1 : Int32) (a3 : Int32) (s0 : Int32) (M : FM) (w : WI Z hx N M) (z_a0 : Z a0) : pq (FX96_best_72 n k5 a0 a1 a3 s0 M) (QA S Z hx N M) := by
  have hN := w.2.2.1
  have w0 := wk_r (S := S) w
  delta FX96_best_72 BX96_best_72
  exact q_tA hN w0 (hk5 _ _ _ _ _ w0.1 z_a0)
theorem wX96_best_71 (S Z : Nat → Prop) {hx N : Nat} (hS : ∀ x, fe_mem lX96_best x = true → S x) (n : Nat) (k5 : Nat → Int32 → Int32 → Int32 → FM → Option (Int32 × FM)) (hk5 : ∀ (a0 : Nat) (a1 : Int32) (a2 : Int32) (a3 : Int32) (M : FM), WI Z hx N M → Z a0 → pq (k5 a0 a1 a2 a3 M) (QA S Z hx N M)) (a0 : Nat) (a1 : Int32) (a2 : Int32) (a3 : Int32) (M : FM) (w : WI Z hx N M) (z_a0 : Z a0) : pq (FX96_best_71 n k5 a0 a1 a2 a3 M) (QA S Z hx N M) := by
  have hN := w.2.2.1
  have w0 := wk_r (S := S) w
  delta FX96_best_71 BX96_best_71
  exact q_tA hN w0 (wX96_best_72 S Z hS n _ hk5 _ _ _ _ _ w0.1 z_a0)
theorem wX96_best_67 (S Z : Nat → Prop) {hx N : Nat} (hS : ∀ x, fe_mem lX96_best x = true → S x) (n : Nat) (k5 : Nat → Int32 → Int32 → Int32 → FM → Option (Int32 × FM)) (hk5 : ∀ (a0 : Nat) (a1 : Int32) (a2 : Int32) (a3 : Int32) (M : FM), WI Z hx N M → Z a0 → pq (k5 a0 a1 a2 a3 M) (QA S Z hx N M)) (a0 : Nat) (a1 : Int32) (a3 : Int32) (M : FM) (w : WI Z hx N M) (z_a0 : Z a0) : pq (FX96_best_67 n k5 a0 a1 a3 M) (QA S Z hx N M) := by
  have hN := w.2.2.1
  have w0 := wk_r (S := S) w
  delta FX96_best_67 BX96_best_67
  exact q_tA hN w0 (wX96_best_72 S Z hS n _ hk5 _ _ _ _ _ w0.1 z_a0)
theorem wX96_best_41 (S Z : Nat → Prop) {hx N : Nat} (hS : ∀ x, fe_mem lX96_best x = true → S x) (n : Nat) (k5 : Nat → Int32 → Int32 → Int32 → FM → Option (Int32 × FM)) (hk5 : ∀ (a0 : Nat) (a1 : Int32) (a2 : Int32) (a3 : Int32) (M : FM), WI Z hx N M → Z a0 → pq (k5 a0 a1 a2 a3 M) (QA S Z hx N M)) (a0 : Nat) (a1 : Int32) (a2 : Int32) (a3 : Int32) (s0 : Int32) (M : FM) (w : WI Z hx N M) (z_a0 : Z a0) : pq (FX96_best_41 n k5 a0 a1 a2 a3 s0 M) (QA S Z hx N M) := by
  have hN := w.2.2.1
  have w0 := wk_r (S := S) w
  delta FX96_best_41 BX96_best_41
  refine pq_fi (fun _ => ?_) (fun _ => ?_)
  · exact q_tA hN w0 (wX96_best_71 S Z hS n _ hk5 _ _ _ _ _ w0.1 z_a0)
  · refine pq_fi (fun _ => ?_) (fun _ => ?_)
    · exact q_tA hN w0 (wX96_best_67 S Z hS n _ hk5 _ _ _ _ w0.1 z_a0)
    · refine pq_g (fun g1 => ?_)
      have z2 := wk_z (i := 0) (f := 402) w0 rfl z_a0
      have f3 := sS_402 w0.1.1 g1
      refine pq_g (fun g4 => ?_)
      refine pq_g (fun g5 => ?_)
      have z6 := wk_z (i := 0) (f := 402) w0 rfl z_a0
      have f7 := sS_402 w0.1.1 g5
      refine pq_g (fun g8 => ?_)
      refine pq_fi (fun _ => ?_) (fun _ => ?_)
      · exact q_tA hN w0 (wX96_best_71 S Z hS n _ hk5 _ _ _ _ _ w0.1 z_a0)
      · exact q_tA hN w0 (wX96_best_67 S Z hS n _ hk5 _ _ _ _ w0.1 z_a0)
theorem wX96_best_40 (S Z : Nat → Prop) {hx N : Nat} (hS : ∀ x, fe_mem lX96_best x = true → S x) (n : Nat) (k5 : Nat → Int32 → Int32 → Int32 → FM → Option (Int32 × FM)) (hk5 : ∀ (a0 : Nat) (a1 : Int32) (a2 : Int32) (a3 : Int32) (M : FM), WI Z hx N M → Z a0 → pq (k5 a0 a1 a2 a3 M) (QA S Z hx N M)) (a0 : Nat) (a1 : Int32) (a2 : Int32) (a3 : Int32) (M : FM) (w : WI Z hx N M) (z_a0 : Z a0) : pq (FX96_best_40 n k5 a0 a1 a2 a3 M) (QA S Z hx N M) := by
  have hN := w.2.2.1
  have w0 := wk_r (S := S) w
  delta FX96_best_40 BX96_best_40
  exact q_tA hN w0 (wX96_best_41 S Z hS n _ hk5 _ _ _ _ _ _ w0.1 z_a0)
theorem wX96_best_5 (S Z : Nat → Prop) {hx N : Nat} (hS : ∀ x, fe_mem lX96_best x = true → S x) (n : Nat) (k5 : Nat → Int32 → Int32 → Int32 → FM → Option (Int32 × FM)) (hk5 : ∀ (a0 : Nat) (a1 : Int32) (a2 : Int32) (a3 : Int32) (M : FM), WI Z hx N M → Z a0 → pq (k5 a0 a1 a2 a3 M) (QA S Z hx N M)) (a0 : Nat) (a1 : Int32) (a2 : Int32) (a3 : Int32) (M : FM) (w : WI Z hx N M) (z_a0 : Z a0) : pq (FX96_best_5 n k5 a0 a1 a2 a3 M) (QA S Z hx N M) := by
  have hN := w.2.2.1
  have w0 := wk_r (S := S) w
  delta FX96_best_5 BX96_best_5
  refine pq_fi (fun _ => ?_) (fun _ => ?_)
  · exact pq_s w0
  · refine pq_g (fun g1 => ?_)
    have z2 := wk_z (i := 0) (f := 400) w0 rfl z_a0
    have f3 := sS_400 w0.1.1 g1
    refine pq_g (fun g4 => ?_)
    refine pq_fi (fun _ => ?_) (fun _ => ?_)
    · exact q_tA hN w0 (wX96_best_40 S Z hS n _ hk5 _ _ _ _ _ w0.1 z_a0)
    · refine pq_g (fun g5 => ?_)
      refine pq_b (wX96_enables S Z (sb rfl hS) _ _ _ _ w0.1 z_a0) (fun r6 K7 => ?_)
      have w8 := wk_t w0 K7 hN
      refine pq_fi (fun _ => ?_) (fun _ => ?_)
      · exact q_tA hN w8 (wX96_best_40 S Z hS n _ hk5 _ _ _ _ _ w8.1 z_a0)
      · refine pq_g (fun g9 => ?_)
        have z10 := wk_z (i := 0) (f := 402) w8 rfl z_a0
        have f11 := sS_402 w8.1.1 g9
        refine pq_g (fun g12 => ?_)
        refine pq_fi (fun _ => ?_) (fun _ => ?_)
        · exact q_tA hN w8 (wX96_best_40 S Z hS n _ hk5 _ _ _ _ _ w8.1 z_a0)
        · exact q_tA hN w8 (wX96_best_41 S Z hS n _ hk5 _ _ _ _ _ _ w8.1 z_a0)
theorem wX96_best_0 (S Z : Nat → Prop) {hx N : Nat} (hS : ∀ x, fe_mem lX96_best x = true → S x) (n : Nat) (k5 : Nat → Int32 → Int32 → Int32 → FM → Option (Int32 × FM)) (hk5 : ∀ (a0 : Nat) (a1 : Int32) (a2 : Int32) (a3 : Int32) (M : FM), WI Z hx N M → Z a0 → pq (k5 a0 a1 a2 a3 M) (QA S Z hx N M)) (a0 : Nat) (a1 : Int32) (M : FM) (w : WI Z hx N M) (z_a0 : Z a0) : pq (FX96_best_0 n k5 a0 a1 M) (QA S Z hx N M) := by
  have hN := w.2.2.1
  have w0 := wk_r (S := S) w
  delta FX96_best_0 BX96_best_0
  exact q_tA hN w0 (hk5 _ _ _ _ _ w0.1 z_a0)
theorem wX96_best_L (S Z : Nat → Prop) {hx N : Nat} (hS : ∀ x, fe_mem lX96_best x = true → S x) (n : Nat) : ∀ j : Nat, ∀ (a0 : Nat) (a1 : Int32) (a2 : Int32) (a3 : Int32) (M : FM), WI Z hx N M → Z a0 → pq (FX96_best_L5 n j a0 a1 a2 a3 M) (QA S Z hx N M)
  | 0 => by intros; exact pq_0
  | j + 1 => fun a0 a1 a2 a3 M w => wX96_best_5 S Z hS n _ (wX96_best_L S Z hS n j) a0 a1 a2 a3 M w
theorem wX96_best (S Z : Nat → Prop) {hx N : Nat} (hS : ∀ x, fe_mem lX96_best x = true → S x) (n : Nat) (a0 : Nat) (a1 : Int32) (M : FM) (w : WI Z hx N M) (z_a0 : Z a0) : pq (FX96_best n a0 a1 M) (QA S Z hx N M) := wX96_best_0 S Z hS n _ (wX96_best_L S Z hS n n) a0 a1 M w z_a0
def lX96_claim : List Nat := [414, 1400, 1401]
theorem wX96_claim_50 (S Z : Nat → Prop) {hx N : Nat} (hS : ∀ x, fe_mem lX96_claim x = true → S x) (n : Nat) (a2 : Int32) (M : FM) (w : WI Z hx N M) : pq (FX96_claim_50 n a2 M) (QA S Z hx N M) := by
  have hN := w.2.2.1
  have w0 := wk_r (S := S) w
  delta FX96_claim_50 BX96_claim_50
  exact pq_s w0
theorem wX96_claim_33 (S Z : Nat → Prop) {hx N : Nat} (hS : ∀ x, fe_mem lX96_claim x = true → S x) (n : Nat) (a0 : Nat) (a2 : Int32) (s0 : Nat) (s1 : Int64) (M : FM) (w : WI Z hx N M) (z_a0 : Z a0) (z_s0 : Z s0) : pq (FX96_claim_33 n a0 a2 s0 s1 M) (QA S Z hx N M) := by
  have hN := w.2.2.1
  have w0 := wk_r (S := S) w
  delta FX96_claim_33 BX96_claim_33
  refine pq_g (fun g1 => ?_)
  extract_lets +onlyGivenNames M3
  have w2 : Wk S Z hx N M M3 := wk_fL hN w0 rfl rfl g1 z_s0 (Or.inr (hS 414 rfl))
  refine pq_g (fun g4 => ?_)
  have z5 := wk_z (i := 0) (f := 400) w2 rfl z_a0
  have f6 := sS_400 w2.1.1 g4
  refine pq_g (fun g7 => ?_)
  extract_lets +onlyGivenNames M9
  have w8 : Wk S Z hx N M M9 := wk_aI hN w2 rfl g7.1 z5 (sy_s f6 (hS 1400 rfl))
  refine pq_g (fun g10 => ?_)
  have z11 := wk_z (i := 0) (f := 401) w8 rfl z_a0
  have f12 := sS_401 w8.1.1 g10
  refine pq_g (fun g13 => ?_)
  extract_lets +onlyGivenNames M15
  have w14 : Wk S Z hx N M M15 := wk_aI hN w8 rfl g13.1 z11 (sy_s f12 (hS 1401 rfl))
  exact q_tA hN w14 (wX96_claim_50 S Z hS n _ _ w14.1 )
theorem wX96_claim_0 (S Z : Nat → Prop) {hx N : Nat} (hS : ∀ x, fe_mem lX96_claim x = true → S x) (n : Nat) (a0 : Nat) (a1 : Int32) (M : FM) (w : WI Z hx N M) (z_a0 : Z a0) : pq (FX96_claim_0 n a0 a1 M) (QA S Z hx N M) := by
  have hN := w.2.2.1
  have w0 := wk_r (S := S) w
  delta FX96_claim_0 BX96_claim_0
  refine pq_g (fun g1 => ?_)
  refine pq_b (wX96_best S Z (sb rfl hS) n _ _ _ w0.1 z_a0) (fun r2 K3 => ?_)
  have w4 := wk_t w0 K3 hN
  refine pq_fi (fun _ => ?_) (fun _ => ?_)
  · exact q_tA hN w4 (wX96_claim_50 S Z hS n _ _ w4.1 )
  · refine pq_g (fun g5 => ?_)
    have z6 := wk_z (i := 0) (f := 401) w4 rfl z_a0
    have f7 := sS_401 w4.1.1 g5
    refine pq_g (fun g8 => ?_)
    refine pq_fi (fun _ => ?_) (fun _ => ?_)
    · refine pq_g (fun g9 => ?_)
      exact q_tA hN w4 (wX96_claim_33 S Z hS n _ _ _ _ _ w4.1 z_a0 z_a0)
    · refine pq_g (fun g10 => ?_)
      exact q_tA hN w4 (wX96_claim_33 S Z hS n _ _ _ _ _ w4.1 z_a0 z_a0)
theorem wX96_claim (S Z : Nat → Prop) {hx N : Nat} (hS : ∀ x, fe_mem lX96_claim x = true → S x) (n : Nat) (a0 : Nat) (a1 : Int32) (M : FM) (w : WI Z hx N M) (z_a0 : Z a0) : pq (FX96_claim n a0 a1 M) (QA S Z hx N M) := wX96_claim_0 S Z hS n a0 a1 M w z_a0
def lX96_readController : List Nat := [414, 1400, 1401]
theorem wX96_readController_121 (S Z : Nat → Prop) {hx N : Nat} (hS : ∀ x, fe_mem lX96_readController x = true → S x) (n : Nat) (s0 : Int64) (M : FM) (w : WI Z hx N M) : pq (FX96_readController_121 n s0 M) (QA S Z hx N M) := by
  have hN := w.2.2.1
  have w0 := wk_r (S := S) w
  delta FX96_readController_121 BX96_readController_121
  exact pq_s w0
theorem wX96_readController_44 (S Z : Nat → Prop) {hx N : Nat} (hS : ∀ x, fe_mem lX96_readController x = true → S x) (n : Nat) (a0 : Nat) (a1 : Int64) (M : FM) (w : WI Z hx N M) (z_a0 : Z a0) : pq (FX96_readController_44 n a0 a1 M) (QA S Z hx N M) := by
  have hN := w.2.2.1
  have w0 := wk_r (S := S) w
  delta FX96_readController_44 BX96_readController_44
  refine pq_g (fun g1 => ?_)
  refine pq_b (wX96_contextAt S Z (sb rfl hS) _ _ _ _ _ w0.1 z_a0) (fun r2 K3 => ?_)
  have w4 := wk_t w0 K3 hN
  refine pq_fi (fun _ => ?_) (fun _ => ?_)
  · refine pq_g (fun g5 => ?_)
    refine pq_b (wX96_contextAt S Z (sb rfl hS) _ _ _ _ _ w4.1 z_a0) (fun r6 K7 => ?_)
    have w8 := wk_t w4 K7 hN
    refine pq_fi (fun _ => ?_) (fun _ => ?_)
    · refine pq_g (fun g9 => ?_)
      refine pq_b (wX96_contextAt S Z (sb rfl hS) _ _ _ _ _ w8.1 z_a0) (fun r10 K11 => ?_)
      have w12 := wk_t w8 K11 hN
      refine pq_fi (fun _ => ?_) (fun _ => ?_)
      · exact q_tA hN w12 (wX96_readController_121 S Z hS n _ _ w12.1 )
      · refine pq_g (fun g13 => ?_)
        refine pq_b (wX96_claim S Z (sb rfl hS) n _ _ _ w12.1 z_a0) (fun r14 K15 => ?_)
        have w16 := wk_t w12 K15 hN
        exact q_tA hN w16 (wX96_readController_121 S Z hS n _ _ w16.1 )
    · refine pq_g (fun g17 => ?_)
      have z18 := wk_z (i := 0) (f := 404) w8 rfl z_a0
      have f19 := sS_404 w8.1.1 g17
      refine pq_g (fun g20 => ?_)
      exact pq_s w8
  · refine pq_g (fun g21 => ?_)
    have z22 := wk_z (i := 0) (f := 403) w4 rfl z_a0
    have f23 := sS_403 w4.1.1 g21
    refine pq_g (fun g24 => ?_)
    exact pq_s w4
theorem wX96_readController_0 (S Z : Nat → Prop) {hx N : Nat} (hS : ∀ x, fe_mem lX96_readController x = true → S x) (n : Nat) (a0 : Nat) (a1 : Int64) (M : FM) (w : WI Z hx N M) (z_a0 : Z a0) : pq (FX96_readController_0 n a0 a1 M) (QA S Z hx N M) := by
  have hN := w.2.2.1
  have w0 := wk_r (S := S) w
  delta FX96_readController_0 BX96_readController_0
  refine pq_fi (fun _ => ?_) (fun _ => ?_)
  · refine pq_g (fun g1 => ?_)
    refine pq_b (wX96_waiting S Z (sb rfl hS) n _ _ w0.1 z_a0) (fun r2 K3 => ?_)
    have w4 := wk_t w0 K3 hN
    exact pq_s w4
  · refine pq_fi (fun _ => ?_) (fun _ => ?_)
    · exact q_tA hN w0 (wX96_readController_44 S Z hS n _ _ _ w0.1 z_a0)
    · refine pq_n ?_
      refine pq_fi (fun _ => ?_) (fun _ => ?_)
      · refine pq_g (fun g5 => ?_)
        have z6 := wk_z (i := 0) (f := 402) w0 rfl z_a0
        have f7 := sS_402 w0.1.1 g5
        refine pq_n ?_
        refine pq_g (fun g8 => ?_)
        exact pq_s w0
      · exact q_tA hN w0 (wX96_readController_44 S Z hS n _ _ _ w0.1 z_a0)
theorem wX96_readController (S Z : Nat → Prop) {hx N : Nat} (hS : ∀ x, fe_mem lX96_readController x = true → S x) (n : Nat) (a0 : Nat) (a1 : Int64) (M : FM) (w : WI Z hx N M) (z_a0 : Z a0) : pq (FX96_readController n a0 a1 M) (QA S Z hx N M) := wX96_readController_0 S Z hS n a0 a1 M w z_a0
def lX96_takeOut : List Nat := [411, 1410]
theorem wX96_takeOut_28 (S Z : Nat → Prop) {hx N : Nat} (hS : ∀ x, fe_mem lX96_takeOut x = true → S x) (n : Nat) (k28 : Nat → Int32 → Int32 → FM → Option (Int32 × FM)) (hk28 : ∀ (a0 : Nat) (a1 : Int32) (a2 : Int32) (M : FM), WI Z hx N M → Z a0 → pq (k28 a0 a1 a2 M) (QA S Z hx N M)) (a0 : Nat) (a1 : Int32) (a2 : Int32) (M : FM) (w : WI Z hx N M) (z_a0 : Z a0) : pq (FX96_takeOut_28 n k28 a0 a1 a2 M) (QA S Z hx N M) := by
  have hN := w.2.2.1
  have w0 := wk_r (S := S) w
  delta FX96_takeOut_28 BX96_takeOut_28
  refine pq_g (fun g1 => ?_)
  refine pq_fi (fun _ => ?_) (fun _ => ?_)
  · exact pq_s w0
  · refine pq_g (fun g2 => ?_)
    have z3 := wk_z (i := 0) (f := 410) w0 rfl z_a0
    have f4 := sS_410 w0.1.1 g2
    refine pq_g (fun g5 => ?_)
    have z6 := wk_z (i := 0) (f := 410) w0 rfl z_a0
    have f7 := sS_410 w0.1.1 g5
    refine pq_g (fun g8 => ?_)
    refine pq_g (fun g9 => ?_)
    extract_lets +onlyGivenNames M11
    have w10 : Wk S Z hx N M M11 := wk_aI hN w0 rfl g9.1 z3 (sy_s f4 (hS 1410 rfl))
    exact q_tA hN w10 (hk28 _ _ _ _ w10.1 z_a0)
theorem wX96_takeOut_0 (S Z : Nat → Prop) {hx N : Nat} (hS : ∀ x, fe_mem lX96_takeOut x = true → S x) (n : Nat) (k28 : Nat → Int32 → Int32 → FM → Option (Int32 × FM)) (hk28 : ∀ (a0 : Nat) (a1 : Int32) (a2 : Int32) (M : FM), WI Z hx N M → Z a0 → pq (k28 a0 a1 a2 M) (QA S Z hx N M)) (a0 : Nat) (M : FM) (w : WI Z hx N M) (z_a0 : Z a0) : pq (FX96_takeOut_0 n k28 a0 M) (QA S Z hx N M) := by
  have hN := w.2.2.1
  have w0 := wk_r (S := S) w
  delta FX96_takeOut_0 BX96_takeOut_0
  refine pq_g (fun g1 => ?_)
  refine pq_fi (fun _ => ?_) (fun _ => ?_)
  · exact pq_s w0
  · refine pq_g (fun g2 => ?_)
    have z3 := wk_z (i := 0) (f := 410) w0 rfl z_a0
    have f4 := sS_410 w0.1.1 g2
    refine pq_g (fun g5 => ?_)
    refine pq_g (fun g6 => ?_)
    refine pq_g (fun g7 => ?_)
    extract_lets +onlyGivenNames M9
    have w8 : Wk S Z hx N M M9 := wk_fI hN w0 rfl rfl g7 z_a0 (Or.inr (hS 411 rfl))
    exact q_tA hN w8 (hk28 _ _ _ _ w8.1 z_a0)
theorem wX96_takeOut_L (S Z : Nat → Prop) {hx N : Nat} (hS : ∀ x, fe_mem lX96_takeOut x = true → S x) (n : Nat) : ∀ j : Nat, ∀ (a0 : Nat) (a1 : Int32) (a2 : Int32) (M : FM), WI Z hx N M → Z a0 → pq (FX96_takeOut_L28 n j a0 a1 a2 M) (QA S Z hx N M)
  | 0 => by intros; exact pq_0
  | j + 1 => fun a0 a1 a2 M w => wX96_takeOut_28 S Z hS n _ (wX96_takeOut_L S Z hS n j) a0 a1 a2 M w
theorem wX96_takeOut (S Z : Nat → Prop) {hx N : Nat} (hS : ∀ x, fe_mem lX96_takeOut x = true → S x) (n : Nat) (a0 : Nat) (M : FM) (w : WI Z hx N M) (z_a0 : Z a0) : pq (FX96_takeOut n a0 M) (QA S Z hx N M) := wX96_takeOut_0 S Z hS n _ (wX96_takeOut_L S Z hS n n) a0 M w z_a0
def lX96_readCause : List Nat := [409]
theorem wX96_readCause_38 (S Z : Nat → Prop) {hx N : Nat} (hS : ∀ x, fe_mem lX96_readCause x = true → S x) (s0 : Int32) (M : FM) (w : WI Z hx N M) : pq (FX96_readCause_38 s0 M) (QA S Z hx N M) := by
  have hN := w.2.2.1
  have w0 := wk_r (S := S) w
  delta FX96_readCause_38 BX96_readCause_38
  exact pq_s w0
theorem wX96_readCause_19 (S Z : Nat → Prop) {hx N : Nat} (hS : ∀ x, fe_mem lX96_readCause x = true → S x) (a0 : Nat) (a1 : Int32) (s0 : Nat) (s1 : Int32) (M : FM) (w : WI Z hx N M) (z_a0 : Z a0) (z_s0 : Z s0) : pq (FX96_readCause_19 a0 a1 s0 s1 M) (QA S Z hx N M) := by
  have hN := w.2.2.1
  have w0 := wk_r (S := S) w
  delta FX96_readCause_19 BX96_readCause_19
  refine pq_g (fun g1 => ?_)
  refine pq_g (fun _ => ?_)
  extract_lets +onlyGivenNames M3
  have w2 : Wk S Z hx N M M3 := wk_fI hN w0 rfl rfl g1 z_s0 (Or.inr (hS 409 rfl))
  refine pq_g (fun g4 => ?_)
  refine pq_fi (fun _ => ?_) (fun _ => ?_)
  · exact q_tA hN w2 (wX96_readCause_38 S Z hS _ _ w2.1 )
  · exact q_tA hN w2 (wX96_readCause_38 S Z hS _ _ w2.1 )
theorem wX96_readCause_0 (S Z : Nat → Prop) {hx N : Nat} (hS : ∀ x, fe_mem lX96_readCause x = true → S x) (a0 : Nat) (M : FM) (w : WI Z hx N M) (z_a0 : Z a0) : pq (FX96_readCause_0 a0 M) (QA S Z hx N M) := by
  have hN := w.2.2.1
  have w0 := wk_r (S := S) w
  delta FX96_readCause_0 BX96_readCause_0
  refine pq_g (fun g1 => ?_)
  refine pq_b (wX96_cause S Z (sb rfl hS) _ _ w0.1 z_a0) (fun r2 K3 => ?_)
  have w4 := wk_t w0 K3 hN
  refine pq_fi (fun _ => ?_) (fun _ => ?_)
  · exact q_tA hN w4 (wX96_readCause_19 S Z hS _ _ _ _ _ w4.1 z_a0 z_a0)
  · refine pq_g (fun g5 => ?_)
    exact q_tA hN w4 (wX96_readCause_19 S Z hS _ _ _ _ _ w4.1 z_a0 z_a0)
theorem wX96_readCause (S Z : Nat → Prop) {hx N : Nat} (hS : ∀ x, fe_mem lX96_readCause x = true → S x) (a0 : Nat) (M : FM) (w : WI Z hx N M) (z_a0 : Z a0) : pq (FX96_readCause a0 M) (QA S Z hx N M) := wX96_readCause_0 S Z hS a0 M w z_a0
def lX96_readState : List Nat := [408]
theorem wX96_readState_27 (S Z : Nat → Prop) {hx N : Nat} (hS : ∀ x, fe_mem lX96_readState x = true → S x) (a0 : Nat) (s0 : Int32) (s1 : Int32) (M : FM) (w : WI Z hx N M) (z_a0 : Z a0) : pq (FX96_readState_27 a0 s0 s1 M) (QA S Z hx N M) := by
  have hN := w.2.2.1
  have w0 := wk_r (S := S) w
  delta FX96_readState_27 BX96_readState_27
  refine pq_g (fun g1 => ?_)
  refine pq_g (fun _ => ?_)
  extract_lets +onlyGivenNames M3
  have w2 : Wk S Z hx N M M3 := wk_fI hN w0 rfl rfl g1 z_a0 (Or.inr (hS 408 rfl))
  exact pq_s w2
theorem wX96_readState_14 (S Z : Nat → Prop) {hx N : Nat} (hS : ∀ x, fe_mem lX96_readState x = true → S x) (a0 : Nat) (s0 : Int32) (s1 : Int32) (M : FM) (w : WI Z hx N M) (z_a0 : Z a0) : pq (FX96_readState_14 a0 s0 s1 M) (QA S Z hx N M) := by
  have hN := w.2.2.1
  have w0 := wk_r (S := S) w
  delta FX96_readState_14 BX96_readState_14
  refine pq_g (fun g1 => ?_)
  refine pq_fi (fun _ => ?_) (fun _ => ?_)
  · exact q_tA hN w0 (wX96_readState_27 S Z hS _ _ _ _ w0.1 z_a0)
  · exact q_tA hN w0 (wX96_readState_27 S Z hS _ _ _ _ w0.1 z_a0)
theorem wX96_readState_0 (S Z : Nat → Prop) {hx N : Nat} (hS : ∀ x, fe_mem lX96_readState x = true → S x) (a0 : Nat) (M : FM) (w : WI Z hx N M) (z_a0 : Z a0) : pq (FX96_readState_0 a0 M) (QA S Z hx N M) := by
  have hN := w.2.2.1
  have w0 := wk_r (S := S) w
  delta FX96_readState_0 BX96_readState_0
  refine pq_g (fun g1 => ?_)
  refine pq_fi (fun _ => ?_) (fun _ => ?_)
  · exact q_tA hN w0 (wX96_readState_14 S Z hS _ _ _ _ w0.1 z_a0)
  · exact q_tA hN w0 (wX96_readState_14 S Z hS _ _ _ _ w0.1 z_a0)
theorem wX96_readState (S Z : Nat → Prop) {hx N : Nat} (hS : ∀ x, fe_mem lX96_readState x = true → S x) (a0 : Nat) (M : FM) (w : WI Z hx N M) (z_a0 : Z a0) : pq (FX96_readState a0 M) (QA S Z hx N M) := wX96_readState_0 S Z hS a0 M w z_a0
def lX96_looped : List Nat := []
theorem wX96_looped_70 (S Z : Nat → Prop) {hx N : Nat} (hS : ∀ x, fe_mem lX96_looped x = true → S x) (s0 : Int32) (M : FM) (w : WI Z hx N M) : pq (FX96_looped_70 s0 M) (QA S Z hx N M) := by
  have hN := w.2.2.1
  have w0 := wk_r (S := S) w
  delta FX96_looped_70 BX96_looped_70
  exact pq_s w0
theorem wX96_looped_51 (S Z : Nat → Prop) {hx N : Nat} (hS : ∀ x, fe_mem lX96_looped x = true → S x) (a0 : Nat) (s0 : Int32) (M : FM) (w : WI Z hx N M) (z_a0 : Z a0) : pq (FX96_looped_51 a0 s0 M) (QA S Z hx N M) := by
  have hN := w.2.2.1
  have w0 := wk_r (S := S) w
  delta FX96_looped_51 BX96_looped_51
  refine pq_g (fun g1 => ?_)
  refine pq_b (wX96_hasBit S Z (sb rfl hS) _ _ _ _ w0.1 z_a0) (fun r2 K3 => ?_)
  have w4 := wk_t w0 K3 hN
  refine pq_fi (fun _ => ?_) (fun _ => ?_)
  · exact q_tA hN w4 (wX96_looped_70 S Z hS _ _ w4.1 )
  · exact q_tA hN w4 (wX96_looped_70 S Z hS _ _ w4.1 )
theorem wX96_looped_33 (S Z : Nat → Prop) {hx N : Nat} (hS : ∀ x, fe_mem lX96_looped x = true → S x) (a0 : Nat) (s0 : Int32) (M : FM) (w : WI Z hx N M) (z_a0 : Z a0) : pq (FX96_looped_33 a0 s0 M) (QA S Z hx N M) := by
  have hN := w.2.2.1
  have w0 := wk_r (S := S) w
  delta FX96_looped_33 BX96_looped_33
  refine pq_g (fun g1 => ?_)
  refine pq_b (wX96_hasBit S Z (sb rfl hS) _ _ _ _ w0.1 z_a0) (fun r2 K3 => ?_)
  have w4 := wk_t w0 K3 hN
  refine pq_fi (fun _ => ?_) (fun _ => ?_)
  · exact q_tA hN w4 (wX96_looped_51 S Z hS _ _ _ w4.1 z_a0)
  · exact q_tA hN w4 (wX96_looped_51 S Z hS _ _ _ w4.1 z_a0)
theorem wX96_looped_15 (S Z : Nat → Prop) {hx N : Nat} (hS : ∀ x, fe_mem lX96_looped x = true → S x) (a0 : Nat) (s0 : Int32) (M : FM) (w : WI Z hx N M) (z_a0 : Z a0) : pq (FX96_looped_15 a0 s0 M) (QA S Z hx N M) := by
  have hN := w.2.2.1
  have w0 := wk_r (S := S) w
  delta FX96_looped_15 BX96_looped_15
  refine pq_g (fun g1 => ?_)
  refine pq_b (wX96_hasBit S Z (sb rfl hS) _ _ _ _ w0.1 z_a0) (fun r2 K3 => ?_)
  have w4 := wk_t w0 K3 hN
  refine pq_fi (fun _ => ?_) (fun _ => ?_)
  · exact q_tA hN w4 (wX96_looped_33 S Z hS _ _ _ w4.1 z_a0)
  · exact q_tA hN w4 (wX96_looped_33 S Z hS _ _ _ w4.1 z_a0)
theorem wX96_looped_0 (S Z : Nat → Prop) {hx N : Nat} (hS : ∀ x, fe_mem lX96_looped x = true → S x) (a0 : Nat) (M : FM) (w : WI Z hx N M) (z_a0 : Z a0) : pq (FX96_looped_0 a0 M) (QA S Z hx N M) := by
  have hN := w.2.2.1
  have w0 := wk_r (S := S) w
  delta FX96_looped_0 BX96_looped_0
  refine pq_g (fun g1 => ?_)
  refine pq_b (wX96_hasBit S Z (sb rfl hS) _ _ _ _ w0.1 z_a0) (fun r2 K3 => ?_)
  have w4 := wk_t w0 K3 hN
  refine pq_fi (fun _ => ?_) (fun _ => ?_)
  · exact q_tA hN w4 (wX96_looped_15 S Z hS _ _ _ w4.1 z_a0)
  · exact q_tA hN w4 (wX96_looped_15 S Z hS _ _ _ w4.1 z_a0)
theorem wX96_looped (S Z : Nat → Prop) {hx N : Nat} (hS : ∀ x, fe_mem lX96_looped x = true → S x) (a0 : Nat) (M : FM) (w : WI Z hx N M) (z_a0 : Z a0) : pq (FX96_looped a0 M) (QA S Z hx N M) := wX96_looped_0 S Z hS a0 M w z_a0
def lX96_readSerial : List Nat := [408, 409, 411, 1410]
theorem wX96_readSerial_107 (S Z : Nat → Prop) {hx N : Nat} (hS : ∀ x, fe_mem lX96_readSerial x = true → S x) (n : Nat) (a0 : Nat) (a1 : Int32) (M : FM) (w : WI Z hx N M) (z_a0 : Z a0) : pq (FX96_readSerial_107 n a0 a1 M) (QA S Z hx N M) := by
  have hN := w.2.2.1
  have w0 := wk_r (S := S) w
  delta FX96_readSerial_107 BX96_readSerial_107
  refine pq_g (fun g1 => ?_)
  have z2 := wk_z (i := 0) (f := 405) w0 rfl z_a0
  have f3 := sS_405 w0.1.1 g1
  refine pq_g (fun g4 => ?_)
  exact pq_s w0
theorem wX96_readSerial_106 (S Z : Nat → Prop) {hx N : Nat} (hS : ∀ x, fe_mem lX96_readSerial x = true → S x) (n : Nat) (s0 : Int64) (M : FM) (w : WI Z hx N M) : pq (FX96_readSerial_106 n s0 M) (QA S Z hx N M) := by
  have hN := w.2.2.1
  have w0 := wk_r (S := S) w
  delta FX96_readSerial_106 BX96_readSerial_106
  exact pq_s w0
theorem wX96_readSerial_23 (S Z : Nat → Prop) {hx N : Nat} (hS : ∀ x, fe_mem lX96_readSerial x = true → S x) (n : Nat) (a0 : Nat) (a1 : Int32) (M : FM) (w : WI Z hx N M) (z_a0 : Z a0) : pq (FX96_readSerial_23 n a0 a1 M) (QA S Z hx N M) := by
  have hN := w.2.2.1
  have w0 := wk_r (S := S) w
  delta FX96_readSerial_23 BX96_readSerial_23
  refine pq_fi (fun _ => ?_) (fun _ => ?_)
  · refine pq_g (fun g1 => ?_)
    refine pq_b (wX96_takeOut S Z (sb rfl hS) n _ _ w0.1 z_a0) (fun r2 K3 => ?_)
    have w4 := wk_t w0 K3 hN
    exact pq_s w4
  · refine pq_fi (fun _ => ?_) (fun _ => ?_)
    · exact q_tA hN w0 (wX96_readSerial_107 S Z hS n _ _ _ w0.1 z_a0)
    · refine pq_fi (fun _ => ?_) (fun _ => ?_)
      · refine pq_g (fun g5 => ?_)
        refine pq_b (wX96_readCause S Z (sb rfl hS) _ _ w0.1 z_a0) (fun r6 K7 => ?_)
        have w8 := wk_t w0 K7 hN
        exact pq_s w8
      · refine pq_fi (fun _ => ?_) (fun _ => ?_)
        · exact q_tA hN w0 (wX96_readSerial_107 S Z hS n _ _ _ w0.1 z_a0)
        · refine pq_fi (fun _ => ?_) (fun _ => ?_)
          · exact q_tA hN w0 (wX96_readSerial_107 S Z hS n _ _ _ w0.1 z_a0)
          · refine pq_fi (fun _ => ?_) (fun _ => ?_)
            · refine pq_g (fun g9 => ?_)
              refine pq_b (wX96_readState S Z (sb rfl hS) _ _ w0.1 z_a0) (fun r10 K11 => ?_)
              have w12 := wk_t w0 K11 hN
              exact pq_s w12
            · refine pq_fi (fun _ => ?_) (fun _ => ?_)
              · refine pq_g (fun g13 => ?_)
                refine pq_b (wX96_hasBit S Z (sb rfl hS) _ _ _ _ w0.1 z_a0) (fun r14 K15 => ?_)
                have w16 := wk_t w0 K15 hN
                refine pq_fi (fun _ => ?_) (fun _ => ?_)
                · exact q_tA hN w16 (wX96_readSerial_106 S Z hS n _ _ w16.1 )
                · refine pq_g (fun g17 => ?_)
                  refine pq_b (wX96_looped S Z (sb rfl hS) _ _ w16.1 z_a0) (fun r18 K19 => ?_)
                  have w20 := wk_t w16 K19 hN
                  exact q_tA hN w20 (wX96_readSerial_106 S Z hS n _ _ w20.1 )
              · exact q_tA hN w0 (wX96_readSerial_107 S Z hS n _ _ _ w0.1 z_a0)
theorem wX96_readSerial_0 (S Z : Nat → Prop) {hx N : Nat} (hS : ∀ x, fe_mem lX96_readSerial x = true → S x) (n : Nat) (a0 : Nat) (a1 : Int32) (M : FM) (w : WI Z hx N M) (z_a0 : Z a0) : pq (FX96_readSerial_0 n a0 a1 M) (QA S Z hx N M) := by
  have hN := w.2.2.1
  have w0 := wk_r (S := S) w
  delta FX96_readSerial_0 BX96_readSerial_0
  refine pq_fi (fun _ => ?_) (fun _ => ?_)
  · exact q_tA hN w0 (wX96_readSerial_23 S Z hS n _ _ _ w0.1 z_a0)
  · refine pq_g (fun g1 => ?_)
    refine pq_b (wX96_hasBit S Z (sb rfl hS) _ _ _ _ w0.1 z_a0) (fun r2 K3 => ?_)
    have w4 := wk_t w0 K3 hN
    refine pq_fi (fun _ => ?_) (fun _ => ?_)
    · exact q_tA hN w4 (wX96_readSerial_23 S Z hS n _ _ _ w4.1 z_a0)
    · refine pq_g (fun g5 => ?_)
      have z6 := wk_z (i := 0) (f := 406) w4 rfl z_a0
      have f7 := sS_406 w4.1.1 g5
      refine pq_g (fun g8 => ?_)
      exact pq_s w4
theorem wX96_readSerial (S Z : Nat → Prop) {hx N : Nat} (hS : ∀ x, fe_mem lX96_readSerial x = true → S x) (n : Nat) (a0 : Nat) (a1 : Int32) (M : FM) (w : WI Z hx N M) (z_a0 : Z a0) : pq (FX96_readSerial n a0 a1 M) (QA S Z hx N M) := wX96_readSerial_0 S Z hS n a0 a1 M w z_a0
def lX96_read : List Nat := [394, 408, 409, 411, 414, 1399, 1400, 1401, 1410]
theorem wX96_read_94 (S Z : Nat → Prop) {hx N : Nat} (hS : ∀ x, fe_mem lX96_read x = true → S x) (n : Nat) (a0 : Nat) (a5 : Int64) (M : FM) (w : WI Z hx N M) (z_a0 : Z a0) : pq (FX96_read_94 n a0 a5 M) (QA S Z hx N M) := by
  have hN := w.2.2.1
  have w0 := wk_r (S := S) w
  delta FX96_read_94 BX96_read_94
  refine pq_g (fun g1 => ?_)
  refine pq_b (wX96_settle S Z (sb rfl hS) n _ _ w0.1 z_a0) (fun r2 K3 => ?_)
  have w4 := wk_t w0 K3 hN
  exact pq_s w4
theorem wX96_read_67 (S Z : Nat → Prop) {hx N : Nat} (hS : ∀ x, fe_mem lX96_read x = true → S x) (n : Nat) (a0 : Nat) (s0 : Int64) (M : FM) (w : WI Z hx N M) (z_a0 : Z a0) : pq (FX96_read_67 n a0 s0 M) (QA S Z hx N M) := by
  have hN := w.2.2.1
  have w0 := wk_r (S := S) w
  delta FX96_read_67 BX96_read_67
  exact q_tA hN w0 (wX96_read_94 S Z hS n _ _ _ w0.1 z_a0)
theorem wX96_read_16 (S Z : Nat → Prop) {hx N : Nat} (hS : ∀ x, fe_mem lX96_read x = true → S x) (n : Nat) (a0 : Nat) (a1 : Int32) (a2 : Int64) (a4 : Int32) (s0 : Nat) (s1 : Int32) (M : FM) (w : WI Z hx N M) (z_a0 : Z a0) (z_s0 : Z s0) : pq (FX96_read_16 n a0 a1 a2 a4 s0 s1 M) (QA S Z hx N M) := by
  have hN := w.2.2.1
  have w0 := wk_r (S := S) w
  delta FX96_read_16 BX96_read_16
  refine pq_g (fun g1 => ?_)
  extract_lets +onlyGivenNames M3
  have w2 : Wk S Z hx N M M3 := wk_fI hN w0 rfl rfl g1 z_s0 (Or.inr (hS 394 rfl))
  refine pq_g (fun g4 => ?_)
  refine pq_fi (fun _ => ?_) (fun _ => ?_)
  · refine pq_fi (fun _ => ?_) (fun _ => ?_)
    · refine pq_g (fun g5 => ?_)
      refine pq_b (wX96_readTimer S Z (sb rfl hS) _ _ _ _ w2.1 z_a0) (fun r6 K7 => ?_)
      have w8 := wk_t w2 K7 hN
      exact q_tA hN w8 (wX96_read_94 S Z hS n _ _ _ w8.1 z_a0)
    · refine pq_fi (fun _ => ?_) (fun _ => ?_)
      · refine pq_fi (fun _ => ?_) (fun _ => ?_)
        · refine pq_g (fun g9 => ?_)
          refine pq_b (wX96_readController S Z (sb rfl hS) n _ _ _ w2.1 z_a0) (fun r10 K11 => ?_)
          have w12 := wk_t w2 K11 hN
          exact q_tA hN w12 (wX96_read_67 S Z hS n _ _ _ w12.1 z_a0)
        · exact q_tA hN w2 (wX96_read_67 S Z hS n _ _ _ w2.1 z_a0)
      · refine pq_fi (fun _ => ?_) (fun _ => ?_)
        · refine pq_fi (fun _ => ?_) (fun _ => ?_)
          · exact q_tA hN w2 (wX96_read_94 S Z hS n _ _ _ w2.1 z_a0)
          · refine pq_g (fun g13 => ?_)
            refine pq_b (wX96_readSerial S Z (sb rfl hS) n _ _ _ w2.1 z_a0) (fun r14 K15 => ?_)
            have w16 := wk_t w2 K15 hN
            exact q_tA hN w16 (wX96_read_94 S Z hS n _ _ _ w16.1 z_a0)
        · exact q_tA hN w2 (wX96_read_94 S Z hS n _ _ _ w2.1 z_a0)
  · exact pq_s w2
theorem wX96_read_0 (S Z : Nat → Prop) {hx N : Nat} (hS : ∀ x, fe_mem lX96_read x = true → S x) (n : Nat) (a0 : Nat) (a1 : Int32) (a2 : Int64) (a4 : Int32) (M : FM) (w : WI Z hx N M) (z_a0 : Z a0) : pq (FX96_read_0 n a0 a1 a2 a4 M) (QA S Z hx N M) := by
  have hN := w.2.2.1
  have w0 := wk_r (S := S) w
  delta FX96_read_0 BX96_read_0
  refine pq_b (wX96_isProper S Z (sb rfl hS) _ _ _ _ w0.1 ) (fun r1 K2 => ?_)
  have w3 := wk_t w0 K2 hN
  refine pq_fi (fun _ => ?_) (fun _ => ?_)
  · exact q_tA hN w3 (wX96_read_16 S Z hS n _ _ _ _ _ _ _ w3.1 z_a0 z_a0)
  · exact q_tA hN w3 (wX96_read_16 S Z hS n _ _ _ _ _ _ _ w3.1 z_a0 z_a0)
theorem wX96_read (S Z : Nat → Prop) {hx N : Nat} (hS : ∀ x, fe_mem lX96_read x = true → S x) (n : Nat) (a0 : Nat) (a1 : Int32) (a2 : Int64) (a4 : Int32) (M : FM) (w : WI Z hx N M) (z_a0 : Z a0) : pq (FX96_read n a0 a1 a2 a4 M) (QA S Z hx N M) := wX96_read_0 S Z hS n a0 a1 a2 a4 M w z_a0
def lX95_read : List Nat := [324]
theorem wX95_read_159 (S Z : Nat → Prop) {hx N : Nat} (hS : ∀ x, fe_mem lX95_read x = true → S x) (s0 : Int32) (M : FM) (w : WI Z hx N M) : pq (FX95_read_159 s0 M) (QA S Z hx N M) := by
  have hN := w.2.2.1
  have w0 := wk_r (S := S) w
  delta FX95_read_159 BX95_read_159
  exact pq_s w0
theorem wX95_read_158 (S Z : Nat → Prop) {hx N : Nat} (hS : ∀ x, fe_mem lX95_read x = true → S x) (M : FM) (w : WI Z hx N M) : pq (FX95_read_158 M) (QA S Z hx N M) := by
  have hN := w.2.2.1
  have w0 := wk_r (S := S) w
  delta FX95_read_158 BX95_read_158
  exact q_tA hN w0 (wX95_read_159 S Z hS _ _ w0.1 )
theorem wX95_read_139 (S Z : Nat → Prop) {hx N : Nat} (hS : ∀ x, fe_mem lX95_read x = true → S x) (s0 : Int32) (M : FM) (w : WI Z hx N M) : pq (FX95_read_139 s0 M) (QA S Z hx N M) := by
  have hN := w.2.2.1
  have w0 := wk_r (S := S) w
  delta FX95_read_139 BX95_read_139
  exact pq_s w0
theorem wX95_read_125 (S Z : Nat → Prop) {hx N : Nat} (hS : ∀ x, fe_mem lX95_read x = true → S x) (s0 : Int32) (M : FM) (w : WI Z hx N M) : pq (FX95_read_125 s0 M) (QA S Z hx N M) := by
  have hN := w.2.2.1
  have w0 := wk_r (S := S) w
  delta FX95_read_125 BX95_read_125
  exact pq_s w0
theorem wX95_read_0 (S Z : Nat → Prop) {hx N : Nat} (hS : ∀ x, fe_mem lX95_read x = true → S x) (a0 : Nat) (a1 : Int32) (M : FM) (w : WI Z hx N M) (z_a0 : Z a0) : pq (FX95_read_0 a0 a1 M) (QA S Z hx N M) := by
  have hN := w.2.2.1
  have w0 := wk_r (S := S) w
  delta FX95_read_0 BX95_read_0
  refine pq_g (fun g1 => ?_)
  refine pq_b (wX95_noOffset S Z (sb rfl hS) _ _ _ w0.1 z_a0) (fun r2 K3 => ?_)
  have w4 := wk_t w0 K3 hN
  refine pq_fi (fun _ => ?_) (fun _ => ?_)
  · refine pq_fi (fun _ => ?_) (fun _ => ?_)
    · exact pq_s w4
    · refine pq_fi (fun _ => ?_) (fun _ => ?_)
      · exact pq_s w4
      · refine pq_fi (fun _ => ?_) (fun _ => ?_)
        · exact pq_s w4
        · refine pq_fi (fun _ => ?_) (fun _ => ?_)
          · refine pq_g (fun g5 => ?_)
            refine pq_fi (fun _ => ?_) (fun _ => ?_)
            · exact q_tA hN w4 (wX95_read_125 S Z hS _ _ w4.1 )
            · refine pq_g (fun g6 => ?_)
              refine pq_fi (fun _ => ?_) (fun _ => ?_)
              · exact q_tA hN w4 (wX95_read_125 S Z hS _ _ w4.1 )
              · exact q_tA hN w4 (wX95_read_125 S Z hS _ _ w4.1 )
          · refine pq_fi (fun _ => ?_) (fun _ => ?_)
            · refine pq_g (fun g7 => ?_)
              refine pq_fi (fun _ => ?_) (fun _ => ?_)
              · exact q_tA hN w4 (wX95_read_139 S Z hS _ _ w4.1 )
              · exact q_tA hN w4 (wX95_read_139 S Z hS _ _ w4.1 )
            · refine pq_fi (fun _ => ?_) (fun _ => ?_)
              · refine pq_g (fun g8 => ?_)
                refine pq_fi (fun _ => ?_) (fun _ => ?_)
                · exact q_tA hN w4 (wX95_read_158 S Z hS _ w4.1 )
                · refine pq_g (fun g9 => ?_)
                  refine pq_fi (fun _ => ?_) (fun _ => ?_)
                  · exact q_tA hN w4 (wX95_read_159 S Z hS _ _ w4.1 )
                  · exact q_tA hN w4 (wX95_read_158 S Z hS _ w4.1 )
              · refine pq_fi (fun _ => ?_) (fun _ => ?_)
                · refine pq_g (fun g10 => ?_)
                  exact pq_s w4
                · refine pq_fi (fun _ => ?_) (fun _ => ?_)
                  · refine pq_g (fun g11 => ?_)
                    exact pq_s w4
                  · refine pq_fi (fun _ => ?_) (fun _ => ?_)
                    · refine pq_g (fun g12 => ?_)
                      exact pq_s w4
                    · exact pq_s w4
  · exact pq_s w4
theorem wX95_read (S Z : Nat → Prop) {hx N : Nat} (hS : ∀ x, fe_mem lX95_read x = true → S x) (a0 : Nat) (a1 : Int32) (M : FM) (w : WI Z hx N M) (z_a0 : Z a0) : pq (FX95_read a0 a1 M) (QA S Z hx N M) := wX95_read_0 S Z hS a0 a1 M w z_a0
def lX92_readWindow : List Nat := [324, 394, 408, 409, 411, 414, 1399, 1400, 1401, 1410]
theorem wX92_readWindow_76 (S Z : Nat → Prop) {hx N : Nat} (hS : ∀ x, fe_mem lX92_readWindow x = true → S x) (n : Nat) (s0 : Int64) (M : FM) (w : WI Z hx N M) : pq (FX92_readWindow_76 n s0 M) (QA S Z hx N M) := by
  have hN := w.2.2.1
  have w0 := wk_r (S := S) w
  delta FX92_readWindow_76 BX92_readWindow_76
  exact pq_s w0
theorem wX92_readWindow_75 (S Z : Nat → Prop) {hx N : Nat} (hS : ∀ x, fe_mem lX92_readWindow x = true → S x) (n : Nat) (M : FM) (w : WI Z hx N M) : pq (FX92_readWindow_75 n M) (QA S Z hx N M) := by
  have hN := w.2.2.1
  have w0 := wk_r (S := S) w
  delta FX92_readWindow_75 BX92_readWindow_75
  exact q_tA hN w0 (wX92_readWindow_76 S Z hS n _ _ w0.1 )
theorem wX92_readWindow_42 (S Z : Nat → Prop) {hx N : Nat} (hS : ∀ x, fe_mem lX92_readWindow x = true → S x) (n : Nat) (a0 : Nat) (a3 : Int32) (a4 : Int32) (a5 : Int64) (M : FM) (w : WI Z hx N M) (z_a0 : Z a0) : pq (FX92_readWindow_42 n a0 a3 a4 a5 M) (QA S Z hx N M) := by
  have hN := w.2.2.1
  have w0 := wk_r (S := S) w
  delta FX92_readWindow_42 BX92_readWindow_42
  refine pq_fi (fun _ => ?_) (fun _ => ?_)
  · refine pq_b (wX92_isDiskRegister S Z (sb rfl hS) _ _ _ w0.1 ) (fun r1 K2 => ?_)
    have w3 := wk_t w0 K2 hN
    refine pq_fi (fun _ => ?_) (fun _ => ?_)
    · exact q_tA hN w3 (wX92_readWindow_75 S Z hS n _ w3.1 )
    · refine pq_g (fun g4 => ?_)
      have z5 := wk_z (i := 0) (f := 300) w3 rfl z_a0
      refine pq_g (fun g6 => ?_)
      refine pq_b (wX95_read S Z (sb rfl hS) _ _ _ w3.1 z5) (fun r7 K8 => ?_)
      have w9 := wk_t w3 K8 hN
      exact q_tA hN w9 (wX92_readWindow_76 S Z hS n _ _ w9.1 )
  · exact q_tA hN w0 (wX92_readWindow_75 S Z hS n _ w0.1 )
theorem wX92_readWindow_0 (S Z : Nat → Prop) {hx N : Nat} (hS : ∀ x, fe_mem lX92_readWindow x = true → S x) (n : Nat) (a0 : Nat) (a1 : Int64) (a3 : Int32) (M : FM) (w : WI Z hx N M) (z_a0 : Z a0) : pq (FX92_readWindow_0 n a0 a1 a3 M) (QA S Z hx N M) := by
  have hN := w.2.2.1
  have w0 := wk_r (S := S) w
  delta FX92_readWindow_0 BX92_readWindow_0
  refine pq_b (wX92_windowOf S Z (sb rfl hS) n _ _ _ w0.1 ) (fun r1 K2 => ?_)
  have w3 := wk_t w0 K2 hN
  refine pq_b (wX92_baseOf S Z (sb rfl hS) _ _ w3.1 ) (fun r4 K5 => ?_)
  have w6 := wk_t w3 K5 hN
  refine pq_fi (fun _ => ?_) (fun _ => ?_)
  · exact q_tA hN w6 (wX92_readWindow_42 S Z hS n _ _ _ _ _ w6.1 z_a0)
  · refine pq_fi (fun _ => ?_) (fun _ => ?_)
    · exact q_tA hN w6 (wX92_readWindow_42 S Z hS n _ _ _ _ _ w6.1 z_a0)
    · refine pq_g (fun g7 => ?_)
      have z8 := wk_z (i := 0) (f := 301) w6 rfl z_a0
      refine pq_g (fun g9 => ?_)
      refine pq_b (wX96_read S Z (sb rfl hS) n _ _ _ _ _ w6.1 z8) (fun r10 K11 => ?_)
      have w12 := wk_t w6 K11 hN
      exact pq_s w12
theorem wX92_readWindow (S Z : Nat → Prop) {hx N : Nat} (hS : ∀ x, fe_mem lX92_readWindow x = true → S x) (n : Nat) (a0 : Nat) (a1 : Int64) (a3 : Int32) (M : FM) (w : WI Z hx N M) (z_a0 : Z a0) : pq (FX92_readWindow n a0 a1 a3 M) (QA S Z hx N M) := wX92_readWindow_0 S Z hS n a0 a1 a3 M w z_a0
def lX92_get : List Nat := [324, 394, 408, 409, 411, 414, 1399, 1400, 1401, 1410]
theorem wX92_get_57 (S Z : Nat → Prop) {hx N : Nat} (hS : ∀ x, fe_mem lX92_get x = true → S x) (n : Nat) (k57 : Nat → Int64 → Int32 → FM → Option (Int64 × FM)) (hk57 : ∀ (a0 : Nat) (a2 : Int64) (a4 : Int32) (M : FM), WI Z hx N M → Z a0 → pq (k57 a0 a2 a4 M) (QA S Z hx N M)) (a0 : Nat) (a2 : Int64) (a4 : Int32) (M : FM) (w : WI Z hx N M) (z_a0 : Z a0) : pq (FX92_get_57 n k57 a0 a2 a4 M) (QA S Z hx N M) := by
  have hN := w.2.2.1
  have w0 := wk_r (S := S) w
  delta FX92_get_57 BX92_get_57
  refine pq_fi (fun _ => ?_) (fun _ => ?_)
  · exact pq_s w0
  · refine pq_g (fun g1 => ?_)
    have z2 := wk_z (i := 0) (f := 298) w0 rfl z_a0
    refine pq_g (fun g3 => ?_)
    have z4 := wk_z (i := 0) (f := 323) w0 rfl z_a0
    have f5 := sS_323 w0.1.1 g3
    refine pq_g (fun g6 => ?_)
    refine pq_g (fun g7 => ?_)
    refine pq_b (wX93_get S Z (sb rfl hS) _ _ _ w0.1 z2) (fun r8 K9 => ?_)
    have w10 := wk_t w0 K9 hN
    exact q_tA hN w10 (hk57 _ _ _ _ w10.1 z_a0)
theorem wX92_get_49 (S Z : Nat → Prop) {hx N : Nat} (hS : ∀ x, fe_mem lX92_get x = true → S x) (n : Nat) (k57 : Nat → Int64 → Int32 → FM → Option (Int64 × FM)) (hk57 : ∀ (a0 : Nat) (a2 : Int64) (a4 : Int32) (M : FM), WI Z hx N M → Z a0 → pq (k57 a0 a2 a4 M) (QA S Z hx N M)) (s0 : Int64) (M : FM) (w : WI Z hx N M) : pq (FX92_get_49 n k57 s0 M) (QA S Z hx N M) := by
  have hN := w.2.2.1
  have w0 := wk_r (S := S) w
  delta FX92_get_49 BX92_get_49
  exact pq_s w0
theorem wX92_get_0 (S Z : Nat → Prop) {hx N : Nat} (hS : ∀ x, fe_mem lX92_get x = true → S x) (n : Nat) (k57 : Nat → Int64 → Int32 → FM → Option (Int64 × FM)) (hk57 : ∀ (a0 : Nat) (a2 : Int64) (a4 : Int32) (M : FM), WI Z hx N M → Z a0 → pq (k57 a0 a2 a4 M) (QA S Z hx N M)) (a0 : Nat) (a1 : Int32) (M : FM) (w : WI Z hx N M) (z_a0 : Z a0) : pq (FX92_get_0 n k57 a0 a1 M) (QA S Z hx N M) := by
  have hN := w.2.2.1
  have w0 := wk_r (S := S) w
  delta FX92_get_0 BX92_get_0
  refine pq_g (fun g1 => ?_)
  refine pq_fi (fun _ => ?_) (fun _ => ?_)
  · exact q_tA hN w0 (hk57 _ _ _ _ w0.1 z_a0)
  · refine pq_g (fun g2 => ?_)
    have z3 := wk_z (i := 0) (f := 323) w0 rfl z_a0
    have f4 := sS_323 w0.1.1 g2
    refine pq_g (fun g5 => ?_)
    refine pq_b (wX93_areBytes S Z (sb rfl hS) _ _ _ w0.1 ) (fun r6 K7 => ?_)
    have w8 := wk_t w0 K7 hN
    refine pq_fi (fun _ => ?_) (fun _ => ?_)
    · refine pq_g (fun g9 => ?_)
      have z10 := wk_z (i := 0) (f := 323) w8 rfl z_a0
      have f11 := sS_323 w8.1.1 g9
      refine pq_g (fun g12 => ?_)
      refine pq_g (fun g13 => ?_)
      refine pq_b (wX92_readWindow S Z (sb rfl hS) n _ _ _ _ w8.1 z_a0) (fun r14 K15 => ?_)
      have w16 := wk_t w8 K15 hN
      exact q_tA hN w16 (wX92_get_49 S Z hS n _ hk57 _ _ w16.1 )
    · refine pq_g (fun g17 => ?_)
      have z18 := wk_z (i := 0) (f := 298) w8 rfl z_a0
      refine pq_g (fun g19 => ?_)
      have z20 := wk_z (i := 0) (f := 323) w8 rfl z_a0
      have f21 := sS_323 w8.1.1 g19
      refine pq_g (fun g22 => ?_)
      refine pq_g (fun g23 => ?_)
      refine pq_b (wX93_number S Z (sb rfl hS) n _ _ _ _ w8.1 z18) (fun r24 K25 => ?_)
      have w26 := wk_t w8 K25 hN
      exact q_tA hN w26 (wX92_get_49 S Z hS n _ hk57 _ _ w26.1 )
theorem wX92_get_L (S Z : Nat → Prop) {hx N : Nat} (hS : ∀ x, fe_mem lX92_get x = true → S x) (n : Nat) : ∀ j : Nat, ∀ (a0 : Nat) (a2 : Int64) (a4 : Int32) (M : FM), WI Z hx N M → Z a0 → pq (FX92_get_L57 n j a0 a2 a4 M) (QA S Z hx N M)
  | 0 => by intros; exact pq_0
  | j + 1 => fun a0 a2 a4 M w => wX92_get_57 S Z hS n _ (wX92_get_L S Z hS n j) a0 a2 a4 M w
theorem wX92_get (S Z : Nat → Prop) {hx N : Nat} (hS : ∀ x, fe_mem lX92_get x = true → S x) (n : Nat) (a0 : Nat) (a1 : Int32) (M : FM) (w : WI Z hx N M) (z_a0 : Z a0) : pq (FX92_get n a0 a1 M) (QA S Z hx N M) := wX92_get_0 S Z hS n _ (wX92_get_L S Z hS n n) a0 a1 M w z_a0
def lX99_field : List Nat := []
theorem wX99_field_0 (S Z : Nat → Prop) {hx N : Nat} (hS : ∀ x, fe_mem lX99_field x = true → S x) (a0 : Int32) (a1 : Int32) (a2 : Int32) (M : FM) (w : WI Z hx N M) : pq (FX99_field_0 a0 a1 a2 M) (QA S Z hx N M) := by
  have hN := w.2.2.1
  have w0 := wk_r (S := S) w
  delta FX99_field_0 BX99_field_0
  exact pq_s w0
theorem wX99_field (S Z : Nat → Prop) {hx N : Nat} (hS : ∀ x, fe_mem lX99_field x = true → S x) (a0 : Int32) (a1 : Int32) (a2 : Int32) (M : FM) (w : WI Z hx N M) : pq (FX99_field a0 a1 a2 M) (QA S Z hx N M) := wX99_field_0 S Z hS a0 a1 a2 M w 
def lX99_quiet : List Nat := []
theorem wX99_quiet_14 (S Z : Nat → Prop) {hx N : Nat} (hS : ∀ x, fe_mem lX99_quiet x = true → S x) (s0 : Int64) (M : FM) (w : WI Z hx N M) : pq (FX99_quiet_14 s0 M) (QA S Z hx N M) := by
  have hN := w.2.2.1
  have w0 := wk_r (S := S) w
  delta FX99_quiet_14 BX99_quiet_14
  exact pq_s w0
theorem wX99_quiet_0 (S Z : Nat → Prop) {hx N : Nat} (hS : ∀ x, fe_mem lX99_quiet x = true → S x) (a0 : Int32) (M : FM) (w : WI Z hx N M) : pq (FX99_quiet_0 a0 M) (QA S Z hx N M) := by
  have hN := w.2.2.1
  have w0 := wk_r (S := S) w
  delta FX99_quiet_0 BX99_quiet_0
  refine pq_fi (fun _ => ?_) (fun _ => ?_)
  · exact q_tA hN w0 (wX99_quiet_14 S Z hS _ _ w0.1 )
  · exact q_tA hN w0 (wX99_quiet_14 S Z hS _ _ w0.1 )
theorem wX99_quiet (S Z : Nat → Prop) {hx N : Nat} (hS : ∀ x, fe_mem lX99_quiet x = true → S x) (a0 : Int32) (M : FM) (w : WI Z hx N M) : pq (FX99_quiet a0 M) (QA S Z hx N M) := wX99_quiet_0 S Z hS a0 M w 
def lX99_bitsOf : List Nat := []
theorem wX99_bitsOf_47 (S Z : Nat → Prop) {hx N : Nat} (hS : ∀ x, fe_mem lX99_bitsOf x = true → S x) (s0 : Int64) (M : FM) (w : WI Z hx N M) : pq (FX99_bitsOf_47 s0 M) (QA S Z hx N M) := by
  have hN := w.2.2.1
  have w0 := wk_r (S := S) w
  delta FX99_bitsOf_47 BX99_bitsOf_47
  exact pq_s w0
theorem wX99_bitsOf_0 (S Z : Nat → Prop) {hx N : Nat} (hS : ∀ x, fe_mem lX99_bitsOf x = true → S x) (a0 : Nat) (a1 : Int32) (a2 : Int32) (M : FM) (w : WI Z hx N M) (z_a0 : Z a0) : pq (FX99_bitsOf_0 a0 a1 a2 M) (QA S Z hx N M) := by
  have hN := w.2.2.1
  have w0 := wk_r (S := S) w
  delta FX99_bitsOf_0 BX99_bitsOf_0
  refine pq_fi (fun _ => ?_) (fun _ => ?_)
  · refine pq_g (fun g1 => ?_)
    have z2 := wk_z (i := 0) (f := 367) w0 rfl z_a0
    have f3 := sS_367 w0.1.1 g1
    refine pq_g (fun g4 => ?_)
    exact q_tA hN w0 (wX99_bitsOf_47 S Z hS _ _ w0.1 )
  · refine pq_g (fun g5 => ?_)
    have z6 := wk_z (i := 0) (f := 367) w0 rfl z_a0
    have f7 := sS_367 w0.1.1 g5
    refine pq_g (fun g8 => ?_)
    refine pq_fi (fun _ => ?_) (fun _ => ?_)
    · refine pq_g (fun g9 => ?_)
      have z10 := wk_z (i := 0) (f := 367) w0 rfl z_a0
      have f11 := sS_367 w0.1.1 g9
      refine pq_g (fun g12 => ?_)
      exact q_tA hN w0 (wX99_bitsOf_47 S Z hS _ _ w0.1 )
    · refine pq_b (wX99_quiet S Z (sb rfl hS) _ _ w0.1 ) (fun r13 K14 => ?_)
      have w15 := wk_t w0 K14 hN
      exact q_tA hN w15 (wX99_bitsOf_47 S Z hS _ _ w15.1 )
theorem wX99_bitsOf (S Z : Nat → Prop) {hx N : Nat} (hS : ∀ x, fe_mem lX99_bitsOf x = true → S x) (a0 : Nat) (a1 : Int32) (a2 : Int32) (M : FM) (w : WI Z hx N M) (z_a0 : Z a0) : pq (FX99_bitsOf a0 a1 a2 M) (QA S Z hx N M) := wX99_bitsOf_0 S Z hS a0 a1 a2 M w z_a0
def lX99_read : List Nat := [1375, 1376, 1377, 1378]
theorem wX99_read_189 (S Z : Nat → Prop) {hx N : Nat} (hS : ∀ x, fe_mem lX99_read x = true → S x) (s0 : Nat) (s1 : Int32) (s2 : Int32) (M : FM) (w : WI Z hx N M) (z_s0 : Z s0) (y_s0 : Sy S N M s0) : pq (FX99_read_189 s0 s1 s2 M) (QV S Z hx N M) := by
  have hN := w.2.2.1
  have w0 := wk_r (S := S) w
  delta FX99_read_189 BX99_read_189
  refine pq_g (fun g1 => ?_)
  extract_lets +onlyGivenNames M3
  have w2 : Wk S Z hx N M M3 := wk_aI hN w0 rfl g1.1 z_s0 y_s0
  exact pq_s w2
theorem wX99_read_144 (S Z : Nat → Prop) {hx N : Nat} (hS : ∀ x, fe_mem lX99_read x = true → S x) (a0 : Nat) (a3 : Int32) (a6 : Int32) (a7 : Int64) (a9 : Int64) (s0 : Nat) (s1 : Int32) (M : FM) (w : WI Z hx N M) (z_a0 : Z a0) (z_s0 : Z s0) (y_s0 : Sy S N M s0) : pq (FX99_read_144 a0 a3 a6 a7 a9 s0 s1 M) (QV S Z hx N M) := by
  have hN := w.2.2.1
  have w0 := wk_r (S := S) w
  delta FX99_read_144 BX99_read_144
  refine pq_g (fun g1 => ?_)
  have z2 := wk_z (i := 0) (f := 374) w0 rfl z_a0
  have f3 := sS_374 w0.1.1 g1
  refine pq_g (fun g4 => ?_)
  refine pq_fi (fun _ => ?_) (fun _ => ?_)
  · refine pq_fi (fun _ => ?_) (fun _ => ?_)
    · exact q_tV hN w0 (wX99_read_189 S Z hS _ _ _ _ w0.1 z_s0 y_s0)
    · refine pq_fi (fun _ => ?_) (fun _ => ?_)
      · exact q_tV hN w0 (wX99_read_189 S Z hS _ _ _ _ w0.1 z_s0 y_s0)
      · exact q_tV hN w0 (wX99_read_189 S Z hS _ _ _ _ w0.1 z_s0 y_s0)
  · exact q_tV hN w0 (wX99_read_189 S Z hS _ _ _ _ w0.1 z_s0 y_s0)
theorem wX99_read_110 (S Z : Nat → Prop) {hx N : Nat} (hS : ∀ x, fe_mem lX99_read x = true → S x) (a0 : Nat) (a1 : Int32) (a3 : Int32) (a6 : Int32) (a7 : Int64) (a9 : Int64) (s0 : Nat) (s1 : Int32) (s2 : Int32) (M : FM) (w : WI Z hx N M) (z_a0 : Z a0) (z_s0 : Z s0) (y_s0 : Sy S N M s0) : pq (FX99_read_110 a0 a1 a3 a6 a7 a9 s0 s1 s2 M) (QV S Z hx N M) := by
  have hN := w.2.2.1
  have w0 := wk_r (S := S) w
  delta FX99_read_110 BX99_read_110
  refine pq_g (fun g1 => ?_)
  have z2 := wk_z (i := 0) (f := 373) w0 rfl z_a0
  have f3 := sS_373 w0.1.1 g1
  refine pq_g (fun g4 => ?_)
  refine pq_g (fun g5 => ?_)
  extract_lets +onlyGivenNames M7
  have w6 : Wk S Z hx N M M7 := wk_aI hN w0 rfl g5.1 z_s0 y_s0
  refine pq_g (fun g8 => ?_)
  have z9 := wk_z (i := 0) (f := 375) w6 rfl z_a0
  have f10 := sS_375 w6.1.1 g8
  refine pq_fi (fun _ => ?_) (fun _ => ?_)
  · refine pq_fi (fun _ => ?_) (fun _ => ?_)
    · exact q_tV hN w6 (wX99_read_189 S Z hS _ _ _ _ w6.1 z9 (sy_s f10 (hS 1375 rfl)))
    · exact q_tV hN w6 (wX99_read_144 S Z hS _ _ _ _ _ _ _ _ w6.1 z_a0 z9 (sy_s f10 (hS 1375 rfl)))
  · exact q_tV hN w6 (wX99_read_144 S Z hS _ _ _ _ _ _ _ _ w6.1 z_a0 z9 (sy_s f10 (hS 1375 rfl)))
theorem wX99_read_90 (S Z : Nat → Prop) {hx N : Nat} (hS : ∀ x, fe_mem lX99_read x = true → S x) (a0 : Nat) (a1 : Int32) (a3 : Int32) (a6 : Int32) (a7 : Int64) (a9 : Int64) (s0 : Nat) (s1 : Int32) (s2 : Int64) (M : FM) (w : WI Z hx N M) (z_a0 : Z a0) (z_s0 : Z s0) (y_s0 : Sy S N M s0) : pq (FX99_read_90 a0 a1 a3 a6 a7 a9 s0 s1 s2 M) (QV S Z hx N M) := by
  have hN := w.2.2.1
  have w0 := wk_r (S := S) w
  delta FX99_read_90 BX99_read_90
  refine pq_g (fun g1 => ?_)
  extract_lets +onlyGivenNames M3
  have w2 : Wk S Z hx N M M3 := wk_aL hN w0 rfl g1.1 z_s0 y_s0
  refine pq_g (fun g4 => ?_)
  have z5 := wk_z (i := 0) (f := 378) w2 rfl z_a0
  have f6 := sS_378 w2.1.1 g4
  refine pq_fi (fun _ => ?_) (fun _ => ?_)
  · exact q_tV hN w2 (wX99_read_110 S Z hS _ _ _ _ _ _ _ _ _ _ w2.1 z_a0 z5 (sy_s f6 (hS 1378 rfl)))
  · exact q_tV hN w2 (wX99_read_110 S Z hS _ _ _ _ _ _ _ _ _ _ w2.1 z_a0 z5 (sy_s f6 (hS 1378 rfl)))
theorem wX99_read_61 (S Z : Nat → Prop) {hx N : Nat} (hS : ∀ x, fe_mem lX99_read x = true → S x) (a0 : Nat) (a1 : Int32) (a3 : Int32) (a6 : Int32) (a7 : Int64) (a9 : Int64) (s0 : Nat) (s1 : Int32) (s2 : Int64) (s3 : Int32) (M : FM) (w : WI Z hx N M) (z_a0 : Z a0) (z_s0 : Z s0) (y_s0 : Sy S N M s0) : pq (FX99_read_61 a0 a1 a3 a6 a7 a9 s0 s1 s2 s3 M) (QV S Z hx N M) := by
  have hN := w.2.2.1
  have w0 := wk_r (S := S) w
  delta FX99_read_61 BX99_read_61
  refine pq_g (fun g1 => ?_)
  extract_lets +onlyGivenNames M3
  have w2 : Wk S Z hx N M M3 := wk_aI hN w0 rfl g1.1 z_s0 y_s0
  refine pq_g (fun g4 => ?_)
  have z5 := wk_z (i := 0) (f := 377) w2 rfl z_a0
  have f6 := sS_377 w2.1.1 g4
  refine pq_fi (fun _ => ?_) (fun _ => ?_)
  · exact q_tV hN w2 (wX99_read_90 S Z hS _ _ _ _ _ _ _ _ _ _ w2.1 z_a0 z5 (sy_s f6 (hS 1377 rfl)))
  · exact q_tV hN w2 (wX99_read_90 S Z hS _ _ _ _ _ _ _ _ _ _ w2.1 z_a0 z5 (sy_s f6 (hS 1377 rfl)))
theorem wX99_read_0 (S Z : Nat → Prop) {hx N : Nat} (hS : ∀ x, fe_mem lX99_read x = true → S x) (a0 : Nat) (a1 : Int32) (a2 : Int32) (a3 : Int32) (M : FM) (w : WI Z hx N M) (z_a0 : Z a0) : pq (FX99_read_0 a0 a1 a2 a3 M) (QV S Z hx N M) := by
  have hN := w.2.2.1
  have w0 := wk_r (S := S) w
  delta FX99_read_0 BX99_read_0
  refine pq_g (fun g1 => ?_)
  refine pq_b (wX99_bitsOf S Z (sb rfl hS) _ _ _ _ w0.1 z_a0) (fun r2 K3 => ?_)
  have w4 := wk_t w0 K3 hN
  refine pq_g (fun g5 => ?_)
  have z6 := wk_z (i := 0) (f := 372) w4 rfl z_a0
  have f7 := sS_372 w4.1.1 g5
  refine pq_g (fun g8 => ?_)
  refine pq_g (fun g9 => ?_)
  have z10 := wk_z (i := 0) (f := 374) w4 rfl z_a0
  have f11 := sS_374 w4.1.1 g9
  refine pq_g (fun g12 => ?_)
  refine pq_g (fun g13 => ?_)
  have z14 := wk_z (i := 0) (f := 376) w4 rfl z_a0
  have f15 := sS_376 w4.1.1 g13
  refine pq_fi (fun _ => ?_) (fun _ => ?_)
  · exact q_tV hN w4 (wX99_read_61 S Z hS _ _ _ _ _ _ _ _ _ _ _ w4.1 z_a0 z14 (sy_s f15 (hS 1376 rfl)))
  · exact q_tV hN w4 (wX99_read_61 S Z hS _ _ _ _ _ _ _ _ _ _ _ w4.1 z_a0 z14 (sy_s f15 (hS 1376 rfl)))
theorem wX99_read (S Z : Nat → Prop) {hx N : Nat} (hS : ∀ x, fe_mem lX99_read x = true → S x) (a0 : Nat) (a1 : Int32) (a2 : Int32) (a3 : Int32) (M : FM) (w : WI Z hx N M) (z_a0 : Z a0) : pq (FX99_read a0 a1 a2 a3 M) (QV S Z hx N M) := wX99_read_0 S Z hS a0 a1 a2 a3 M w z_a0
def lX99_raiseFlags : List Nat := [368, 371]
theorem wX99_raiseFlags_0 (S Z : Nat → Prop) {hx N : Nat} (hS : ∀ x, fe_mem lX99_raiseFlags x = true → S x) (a0 : Nat) (a1 : Int32) (M : FM) (w : WI Z hx N M) (z_a0 : Z a0) : pq (FX99_raiseFlags_0 a0 a1 M) (QV S Z hx N M) := by
  have hN := w.2.2.1
  have w0 := wk_r (S := S) w
  delta FX99_raiseFlags_0 BX99_raiseFlags_0
  refine pq_g (fun g1 => ?_)
  refine pq_g (fun g2 => ?_)
  extract_lets +onlyGivenNames M4
  have w3 : Wk S Z hx N M M4 := wk_fI hN w0 rfl rfl g2 z_a0 (Or.inr (hS 368 rfl))
  refine pq_g (fun g5 => ?_)
  refine pq_g (fun _ => ?_)
  extract_lets +onlyGivenNames M7
  have w6 : Wk S Z hx N M M7 := wk_fI hN w3 rfl rfl g5 z_a0 (Or.inr (hS 371 rfl))
  exact pq_s w6
theorem wX99_raiseFlags (S Z : Nat → Prop) {hx N : Nat} (hS : ∀ x, fe_mem lX99_raiseFlags x = true → S x) (a0 : Nat) (a1 : Int32) (M : FM) (w : WI Z hx N M) (z_a0 : Z a0) : pq (FX99_raiseFlags a0 a1 M) (QV S Z hx N M) := wX99_raiseFlags_0 S Z hS a0 a1 M w z_a0
def lX99_invalid : List Nat := [368, 371]
theorem wX99_invalid_0 (S Z : Nat → Prop) {hx N : Nat} (hS : ∀ x, fe_mem lX99_invalid x = true → S x) (a0 : Nat) (a1 : Int32) (M : FM) (w : WI Z hx N M) (z_a0 : Z a0) : pq (FX99_invalid_0 a0 a1 M) (QA S Z hx N M) := by
  have hN := w.2.2.1
  have w0 := wk_r (S := S) w
  delta FX99_invalid_0 BX99_invalid_0
  refine pq_g (fun g1 => ?_)
  refine pq_b (wX99_raiseFlags S Z (sb rfl hS) _ _ _ w0.1 z_a0) (fun r2 K3 => ?_)
  have w4 := wk_t w0 K3 hN
  refine pq_b (wX99_quiet S Z (sb rfl hS) _ _ w4.1 ) (fun r5 K6 => ?_)
  have w7 := wk_t w4 K6 hN
  exact pq_s w7
theorem wX99_invalid (S Z : Nat → Prop) {hx N : Nat} (hS : ∀ x, fe_mem lX99_invalid x = true → S x) (a0 : Nat) (a1 : Int32) (M : FM) (w : WI Z hx N M) (z_a0 : Z a0) : pq (FX99_invalid a0 a1 M) (QA S Z hx N M) := wX99_invalid_0 S Z hS a0 a1 M w z_a0
def lX99_isNone : List Nat := []
theorem wX99_isNone_15 (S Z : Nat → Prop) {hx N : Nat} (hS : ∀ x, fe_mem lX99_isNone x = true → S x) (s0 : Int32) (M : FM) (w : WI Z hx N M) : pq (FX99_isNone_15 s0 M) (QA S Z hx N M) := by
  have hN := w.2.2.1
  have w0 := wk_r (S := S) w
  delta FX99_isNone_15 BX99_isNone_15
  refine pq_g (fun _ => ?_)
  exact pq_s w0
theorem wX99_isNone_0 (S Z : Nat → Prop) {hx N : Nat} (hS : ∀ x, fe_mem lX99_isNone x = true → S x) (a0 : Nat) (a1 : Int32) (M : FM) (w : WI Z hx N M) (z_a0 : Z a0) : pq (FX99_isNone_0 a0 a1 M) (QA S Z hx N M) := by
  have hN := w.2.2.1
  have w0 := wk_r (S := S) w
  delta FX99_isNone_0 BX99_isNone_0
  refine pq_g (fun g1 => ?_)
  have z2 := wk_z (i := 0) (f := 375) w0 rfl z_a0
  have f3 := sS_375 w0.1.1 g1
  refine pq_g (fun g4 => ?_)
  refine pq_fi (fun _ => ?_) (fun _ => ?_)
  · exact q_tA hN w0 (wX99_isNone_15 S Z hS _ _ w0.1 )
  · exact q_tA hN w0 (wX99_isNone_15 S Z hS _ _ w0.1 )
theorem wX99_isNone (S Z : Nat → Prop) {hx N : Nat} (hS : ∀ x, fe_mem lX99_isNone x = true → S x) (a0 : Nat) (a1 : Int32) (M : FM) (w : WI Z hx N M) (z_a0 : Z a0) : pq (FX99_isNone a0 a1 M) (QA S Z hx N M) := wX99_isNone_0 S Z hS a0 a1 M w z_a0
def lX99_none : List Nat := [368, 371]
theorem wX99_none_89 (S Z : Nat → Prop) {hx N : Nat} (hS : ∀ x, fe_mem lX99_none x = true → S x) (n : Nat) (k8 : Nat → Int32 → Int32 → Int32 → Int32 → Int32 → FM → Option (Int64 × FM)) (hk8 : ∀ (a0 : Nat) (a1 : Int32) (a2 : Int32) (a3 : Int32) (a4 : Int32) (a5 : Int32) (M : FM), WI Z hx N M → Z a0 → pq (k8 a0 a1 a2 a3 a4 a5 M) (QA S Z hx N M)) (s0 : Int64) (M : FM) (w : WI Z hx N M) : pq (FX99_none_89 n k8 s0 M) (QA S Z hx N M) := by
  have hN := w.2.2.1
  have w0 := wk_r (S := S) w
  delta FX99_none_89 BX99_none_89
  exact pq_s w0
theorem wX99_none_54 (S Z : Nat → Prop) {hx N : Nat} (hS : ∀ x, fe_mem lX99_none x = true → S x) (n : Nat) (k8 : Nat → Int32 → Int32 → Int32 → Int32 → Int32 → FM → Option (Int64 × FM)) (hk8 : ∀ (a0 : Nat) (a1 : Int32) (a2 : Int32) (a3 : Int32) (a4 : Int32) (a5 : Int32) (M : FM), WI Z hx N M → Z a0 → pq (k8 a0 a1 a2 a3 a4 a5 M) (QA S Z hx N M)) (a0 : Nat) (a1 : Int32) (a2 : Int32) (a3 : Int32) (a5 : Int32) (s0 : Int32) (M : FM) (w : WI Z hx N M) (z_a0 : Z a0) : pq (FX99_none_54 n k8 a0 a1 a2 a3 a5 s0 M) (QA S Z hx N M) := by
  have hN := w.2.2.1
  have w0 := wk_r (S := S) w
  delta FX99_none_54 BX99_none_54
  exact q_tA hN w0 (hk8 _ _ _ _ _ _ _ w0.1 z_a0)
theorem wX99_none_49 (S Z : Nat → Prop) {hx N : Nat} (hS : ∀ x, fe_mem lX99_none x = true → S x) (n : Nat) (k8 : Nat → Int32 → Int32 → Int32 → Int32 → Int32 → FM → Option (Int64 × FM)) (hk8 : ∀ (a0 : Nat) (a1 : Int32) (a2 : Int32) (a3 : Int32) (a4 : Int32) (a5 : Int32) (M : FM), WI Z hx N M → Z a0 → pq (k8 a0 a1 a2 a3 a4 a5 M) (QA S Z hx N M)) (a0 : Nat) (a1 : Int32) (a2 : Int32) (a3 : Int32) (a5 : Int32) (M : FM) (w : WI Z hx N M) (z_a0 : Z a0) : pq (FX99_none_49 n k8 a0 a1 a2 a3 a5 M) (QA S Z hx N M) := by
  have hN := w.2.2.1
  have w0 := wk_r (S := S) w
  delta FX99_none_49 BX99_none_49
  exact q_tA hN w0 (wX99_none_54 S Z hS n _ hk8 _ _ _ _ _ _ _ w0.1 z_a0)
theorem wX99_none_32 (S Z : Nat → Prop) {hx N : Nat} (hS : ∀ x, fe_mem lX99_none x = true → S x) (n : Nat) (k8 : Nat → Int32 → Int32 → Int32 → Int32 → Int32 → FM → Option (Int64 × FM)) (hk8 : ∀ (a0 : Nat) (a1 : Int32) (a2 : Int32) (a3 : Int32) (a4 : Int32) (a5 : Int32) (M : FM), WI Z hx N M → Z a0 → pq (k8 a0 a1 a2 a3 a4 a5 M) (QA S Z hx N M)) (a0 : Nat) (a1 : Int32) (a2 : Int32) (a4 : Int32) (a5 : Int32) (s0 : Int32) (M : FM) (w : WI Z hx N M) (z_a0 : Z a0) : pq (FX99_none_32 n k8 a0 a1 a2 a4 a5 s0 M) (QA S Z hx N M) := by
  have hN := w.2.2.1
  have w0 := wk_r (S := S) w
  delta FX99_none_32 BX99_none_32
  refine pq_fi (fun _ => ?_) (fun _ => ?_)
  · refine pq_g (fun g1 => ?_)
    have z2 := wk_z (i := 0) (f := 375) w0 rfl z_a0
    have f3 := sS_375 w0.1.1 g1
    refine pq_g (fun g4 => ?_)
    refine pq_fi (fun _ => ?_) (fun _ => ?_)
    · exact q_tA hN w0 (wX99_none_49 S Z hS n _ hk8 _ _ _ _ _ _ w0.1 z_a0)
    · exact q_tA hN w0 (wX99_none_54 S Z hS n _ hk8 _ _ _ _ _ _ _ w0.1 z_a0)
  · exact q_tA hN w0 (wX99_none_49 S Z hS n _ hk8 _ _ _ _ _ _ w0.1 z_a0)
theorem wX99_none_27 (S Z : Nat → Prop) {hx N : Nat} (hS : ∀ x, fe_mem lX99_none x = true → S x) (n : Nat) (k8 : Nat → Int32 → Int32 → Int32 → Int32 → Int32 → FM → Option (Int64 × FM)) (hk8 : ∀ (a0 : Nat) (a1 : Int32) (a2 : Int32) (a3 : Int32) (a4 : Int32) (a5 : Int32) (M : FM), WI Z hx N M → Z a0 → pq (k8 a0 a1 a2 a3 a4 a5 M) (QA S Z hx N M)) (a0 : Nat) (a1 : Int32) (a2 : Int32) (a4 : Int32) (a5 : Int32) (M : FM) (w : WI Z hx N M) (z_a0 : Z a0) : pq (FX99_none_27 n k8 a0 a1 a2 a4 a5 M) (QA S Z hx N M) := by
  have hN := w.2.2.1
  have w0 := wk_r (S := S) w
  delta FX99_none_27 BX99_none_27
  exact q_tA hN w0 (wX99_none_32 S Z hS n _ hk8 _ _ _ _ _ _ _ w0.1 z_a0)
theorem wX99_none_8 (S Z : Nat → Prop) {hx N : Nat} (hS : ∀ x, fe_mem lX99_none x = true → S x) (n : Nat) (k8 : Nat → Int32 → Int32 → Int32 → Int32 → Int32 → FM → Option (Int64 × FM)) (hk8 : ∀ (a0 : Nat) (a1 : Int32) (a2 : Int32) (a3 : Int32) (a4 : Int32) (a5 : Int32) (M : FM), WI Z hx N M → Z a0 → pq (k8 a0 a1 a2 a3 a4 a5 M) (QA S Z hx N M)) (a0 : Nat) (a1 : Int32) (a2 : Int32) (a3 : Int32) (a4 : Int32) (a5 : Int32) (M : FM) (w : WI Z hx N M) (z_a0 : Z a0) : pq (FX99_none_8 n k8 a0 a1 a2 a3 a4 a5 M) (QA S Z hx N M) := by
  have hN := w.2.2.1
  have w0 := wk_r (S := S) w
  delta FX99_none_8 BX99_none_8
  refine pq_fi (fun _ => ?_) (fun _ => ?_)
  · refine pq_fi (fun _ => ?_) (fun _ => ?_)
    · exact q_tA hN w0 (wX99_none_89 S Z hS n _ hk8 _ _ w0.1 )
    · refine pq_fi (fun _ => ?_) (fun _ => ?_)
      · refine pq_b (wX99_quiet S Z (sb rfl hS) _ _ w0.1 ) (fun r1 K2 => ?_)
        have w3 := wk_t w0 K2 hN
        exact q_tA hN w3 (wX99_none_89 S Z hS n _ hk8 _ _ w3.1 )
      · refine pq_g (fun g4 => ?_)
        refine pq_b (wX99_invalid S Z (sb rfl hS) _ _ _ w0.1 z_a0) (fun r5 K6 => ?_)
        have w7 := wk_t w0 K6 hN
        exact q_tA hN w7 (wX99_none_89 S Z hS n _ hk8 _ _ w7.1 )
  · refine pq_fi (fun _ => ?_) (fun _ => ?_)
    · refine pq_g (fun g8 => ?_)
      refine pq_b (wX99_isNone S Z (sb rfl hS) _ _ _ w0.1 z_a0) (fun r9 K10 => ?_)
      have w11 := wk_t w0 K10 hN
      refine pq_fi (fun _ => ?_) (fun _ => ?_)
      · exact q_tA hN w11 (wX99_none_32 S Z hS n _ hk8 _ _ _ _ _ _ _ w11.1 z_a0)
      · exact q_tA hN w11 (wX99_none_27 S Z hS n _ hk8 _ _ _ _ _ _ w11.1 z_a0)
    · exact q_tA hN w0 (wX99_none_27 S Z hS n _ hk8 _ _ _ _ _ _ w0.1 z_a0)
theorem wX99_none_0 (S Z : Nat → Prop) {hx N : Nat} (hS : ∀ x, fe_mem lX99_none x = true → S x) (n : Nat) (k8 : Nat → Int32 → Int32 → Int32 → Int32 → Int32 → FM → Option (Int64 × FM)) (hk8 : ∀ (a0 : Nat) (a1 : Int32) (a2 : Int32) (a3 : Int32) (a4 : Int32) (a5 : Int32) (M : FM), WI Z hx N M → Z a0 → pq (k8 a0 a1 a2 a3 a4 a5 M) (QA S Z hx N M)) (a0 : Nat) (a1 : Int32) (a2 : Int32) (M : FM) (w : WI Z hx N M) (z_a0 : Z a0) : pq (FX99_none_0 n k8 a0 a1 a2 M) (QA S Z hx N M) := by
  have hN := w.2.2.1
  have w0 := wk_r (S := S) w
  delta FX99_none_0 BX99_none_0
  exact q_tA hN w0 (hk8 _ _ _ _ _ _ _ w0.1 z_a0)
theorem wX99_none_L (S Z : Nat → Prop) {hx N : Nat} (hS : ∀ x, fe_mem lX99_none x = true → S x) (n : Nat) : ∀ j : Nat, ∀ (a0 : Nat) (a1 : Int32) (a2 : Int32) (a3 : Int32) (a4 : Int32) (a5 : Int32) (M : FM), WI Z hx N M → Z a0 → pq (FX99_none_L8 n j a0 a1 a2 a3 a4 a5 M) (QA S Z hx N M)
  | 0 => by intros; exact pq_0
  | j + 1 => fun a0 a1 a2 a3 a4 a5 M w => wX99_none_8 S Z hS n _ (wX99_none_L S Z hS n j) a0 a1 a2 a3 a4 a5 M w
theorem wX99_none (S Z : Nat → Prop) {hx N : Nat} (hS : ∀ x, fe_mem lX99_none x = true → S x) (n : Nat) (a0 : Nat) (a1 : Int32) (a2 : Int32) (M : FM) (w : WI Z hx N M) (z_a0 : Z a0) : pq (FX99_none n a0 a1 a2 M) (QA S Z hx N M) := wX99_none_0 S Z hS n _ (wX99_none_L S Z hS n n) a0 a1 a2 M w z_a0
def lX99_pack : List Nat := []
theorem wX99_pack_37 (S Z : Nat → Prop) {hx N : Nat} (hS : ∀ x, fe_mem lX99_pack x = true → S x) (a3 : Int64) (s0 : Int64) (s1 : Int64) (s2 : Int32) (M : FM) (w : WI Z hx N M) : pq (FX99_pack_37 a3 s0 s1 s2 M) (QA S Z hx N M) := by
  have hN := w.2.2.1
  have w0 := wk_r (S := S) w
  delta FX99_pack_37 BX99_pack_37
  exact pq_s w0
theorem wX99_pack_19 (S Z : Nat → Prop) {hx N : Nat} (hS : ∀ x, fe_mem lX99_pack x = true → S x) (a1 : Int64) (a3 : Int64) (a5 : Int32) (s0 : Int64) (M : FM) (w : WI Z hx N M) : pq (FX99_pack_19 a1 a3 a5 s0 M) (QA S Z hx N M) := by
  have hN := w.2.2.1
  have w0 := wk_r (S := S) w
  delta FX99_pack_19 BX99_pack_19
  refine pq_fi (fun _ => ?_) (fun _ => ?_)
  · exact q_tA hN w0 (wX99_pack_37 S Z hS _ _ _ _ _ w0.1 )
  · exact q_tA hN w0 (wX99_pack_37 S Z hS _ _ _ _ _ w0.1 )
theorem wX99_pack_0 (S Z : Nat → Prop) {hx N : Nat} (hS : ∀ x, fe_mem lX99_pack x = true → S x) (a0 : Int32) (a1 : Int64) (a3 : Int64) (a5 : Int32) (M : FM) (w : WI Z hx N M) : pq (FX99_pack_0 a0 a1 a3 a5 M) (QA S Z hx N M) := by
  have hN := w.2.2.1
  have w0 := wk_r (S := S) w
  delta FX99_pack_0 BX99_pack_0
  refine pq_fi (fun _ => ?_) (fun _ => ?_)
  · exact q_tA hN w0 (wX99_pack_19 S Z hS _ _ _ _ _ w0.1 )
  · exact q_tA hN w0 (wX99_pack_19 S Z hS _ _ _ _ _ w0.1 )
theorem wX99_pack (S Z : Nat → Prop) {hx N : Nat} (hS : ∀ x, fe_mem lX99_pack x = true → S x) (a0 : Int32) (a1 : Int64) (a3 : Int64) (a5 : Int32) (M : FM) (w : WI Z hx N M) : pq (FX99_pack a0 a1 a3 a5 M) (QA S Z hx N M) := wX99_pack_0 S Z hS a0 a1 a3 a5 M w 
def lX99_infiniteSum : List Nat := [368, 371]
theorem wX99_infiniteSum_31 (S Z : Nat → Prop) {hx N : Nat} (hS : ∀ x, fe_mem lX99_infiniteSum x = true → S x) (a0 : Nat) (a5 : Int32) (s0 : Int32) (M : FM) (w : WI Z hx N M) (z_a0 : Z a0) : pq (FX99_infiniteSum_31 a0 a5 s0 M) (QA S Z hx N M) := by
  have hN := w.2.2.1
  have w0 := wk_r (S := S) w
  delta FX99_infiniteSum_31 BX99_infiniteSum_31
  refine pq_g (fun g1 => ?_)
  have z2 := wk_z (i := 0) (f := 374) w0 rfl z_a0
  have f3 := sS_374 w0.1.1 g1
  refine pq_g (fun g4 => ?_)
  refine pq_b (wX99_pack S Z (sb rfl hS) _ _ _ _ _ w0.1 ) (fun r5 K6 => ?_)
  have w7 := wk_t w0 K6 hN
  exact pq_s w7
theorem wX99_infiniteSum_21 (S Z : Nat → Prop) {hx N : Nat} (hS : ∀ x, fe_mem lX99_infiniteSum x = true → S x) (a0 : Nat) (a1 : Int32) (a2 : Int32) (a4 : Int32) (a5 : Int32) (M : FM) (w : WI Z hx N M) (z_a0 : Z a0) : pq (FX99_infiniteSum_21 a0 a1 a2 a4 a5 M) (QA S Z hx N M) := by
  have hN := w.2.2.1
  have w0 := wk_r (S := S) w
  delta FX99_infiniteSum_21 BX99_infiniteSum_21
  refine pq_fi (fun _ => ?_) (fun _ => ?_)
  · exact q_tA hN w0 (wX99_infiniteSum_31 S Z hS _ _ _ _ w0.1 z_a0)
  · exact q_tA hN w0 (wX99_infiniteSum_31 S Z hS _ _ _ _ w0.1 z_a0)
theorem wX99_infiniteSum_0 (S Z : Nat → Prop) {hx N : Nat} (hS : ∀ x, fe_mem lX99_infiniteSum x = true → S x) (a0 : Nat) (a1 : Int32) (a2 : Int32) (a3 : Int32) (a4 : Int32) (a5 : Int32) (M : FM) (w : WI Z hx N M) (z_a0 : Z a0) : pq (FX99_infiniteSum_0 a0 a1 a2 a3 a4 a5 M) (QA S Z hx N M) := by
  have hN := w.2.2.1
  have w0 := wk_r (S := S) w
  delta FX99_infiniteSum_0 BX99_infiniteSum_0
  refine pq_fi (fun _ => ?_) (fun _ => ?_)
  · exact q_tA hN w0 (wX99_infiniteSum_21 S Z hS _ _ _ _ _ _ w0.1 z_a0)
  · refine pq_fi (fun _ => ?_) (fun _ => ?_)
    · exact q_tA hN w0 (wX99_infiniteSum_21 S Z hS _ _ _ _ _ _ w0.1 z_a0)
    · refine pq_fi (fun _ => ?_) (fun _ => ?_)
      · exact q_tA hN w0 (wX99_infiniteSum_21 S Z hS _ _ _ _ _ _ w0.1 z_a0)
      · refine pq_g (fun g1 => ?_)
        refine pq_b (wX99_invalid S Z (sb rfl hS) _ _ _ w0.1 z_a0) (fun r2 K3 => ?_)
        have w4 := wk_t w0 K3 hN
        exact pq_s w4
theorem wX99_infiniteSum (S Z : Nat → Prop) {hx N : Nat} (hS : ∀ x, fe_mem lX99_infiniteSum x = true → S x) (a0 : Nat) (a1 : Int32) (a2 : Int32) (a3 : Int32) (a4 : Int32) (a5 : Int32) (M : FM) (w : WI Z hx N M) (z_a0 : Z a0) : pq (FX99_infiniteSum a0 a1 a2 a3 a4 a5 M) (QA S Z hx N M) := wX99_infiniteSum_0 S Z hS a0 a1 a2 a3 a4 a5 M w z_a0
def lX99_put : List Nat := []
theorem wX99_put_30 (S Z : Nat → Prop) {hx N : Nat} (hS : ∀ x, fe_mem lX99_put x = true → S x) (n : Nat) (k2 : Nat → Int64 → Int32 → FM → Option (FM)) (hk2 : ∀ (a0 : Nat) (a1 : Int64) (a3 : Int32) (M : FM), WI Z hx N M → Z a0 → Sy S N M a0 → pq (k2 a0 a1 a3 M) (QV S Z hx N M)) (a0 : Nat) (a1 : Int64) (a3 : Int32) (s0 : Nat) (s1 : Int32) (s2 : Int32) (M : FM) (w : WI Z hx N M) (z_a0 : Z a0) (z_s0 : Z s0) (y_s0 : Sy S N M s0) (y_a0 : Sy S N M a0) : pq (FX99_put_30 n k2 a0 a1 a3 s0 s1 s2 M) (QV S Z hx N M) := by
  have hN := w.2.2.1
  have w0 := wk_r (S := S) w
  delta FX99_put_30 BX99_put_30
  refine pq_g (fun g1 => ?_)
  extract_lets +onlyGivenNames M3
  have w2 : Wk S Z hx N M M3 := wk_aI hN w0 rfl g1.1 z_s0 y_s0
  exact q_tV hN w2 (hk2 _ _ _ _ w2.1 z_a0 y_a0)
theorem wX99_put_2 (S Z : Nat → Prop) {hx N : Nat} (hS : ∀ x, fe_mem lX99_put x = true → S x) (n : Nat) (k2 : Nat → Int64 → Int32 → FM → Option (FM)) (hk2 : ∀ (a0 : Nat) (a1 : Int64) (a3 : Int32) (M : FM), WI Z hx N M → Z a0 → Sy S N M a0 → pq (k2 a0 a1 a3 M) (QV S Z hx N M)) (a0 : Nat) (a1 : Int64) (a3 : Int32) (M : FM) (w : WI Z hx N M) (z_a0 : Z a0) (y_a0 : Sy S N M a0) : pq (FX99_put_2 n k2 a0 a1 a3 M) (QV S Z hx N M) := by
  have hN := w.2.2.1
  have w0 := wk_r (S := S) w
  delta FX99_put_2 BX99_put_2
  refine pq_fi (fun _ => ?_) (fun _ => ?_)
  · exact pq_s w0
  · refine pq_fi (fun _ => ?_) (fun _ => ?_)
    · exact q_tV hN w0 (wX99_put_30 S Z hS n _ hk2 _ _ _ _ _ _ _ w0.1 z_a0 z_a0 y_a0 y_a0)
    · exact q_tV hN w0 (wX99_put_30 S Z hS n _ hk2 _ _ _ _ _ _ _ w0.1 z_a0 z_a0 y_a0 y_a0)
theorem wX99_put_0 (S Z : Nat → Prop) {hx N : Nat} (hS : ∀ x, fe_mem lX99_put x = true → S x) (n : Nat) (k2 : Nat → Int64 → Int32 → FM → Option (FM)) (hk2 : ∀ (a0 : Nat) (a1 : Int64) (a3 : Int32) (M : FM), WI Z hx N M → Z a0 → Sy S N M a0 → pq (k2 a0 a1 a3 M) (QV S Z hx N M)) (a0 : Nat) (a1 : Int64) (M : FM) (w : WI Z hx N M) (z_a0 : Z a0) (y_a0 : Sy S N M a0) : pq (FX99_put_0 n k2 a0 a1 M) (QV S Z hx N M) := by
  have hN := w.2.2.1
  have w0 := wk_r (S := S) w
  delta FX99_put_0 BX99_put_0
  exact q_tV hN w0 (hk2 _ _ _ _ w0.1 z_a0 y_a0)
theorem wX99_put_L (S Z : Nat → Prop) {hx N : Nat} (hS : ∀ x, fe_mem lX99_put x = true → S x) (n : Nat) : ∀ j : Nat, ∀ (a0 : Nat) (a1 : Int64) (a3 : Int32) (M : FM), WI Z hx N M → Z a0 → Sy S N M a0 → pq (FX99_put_L2 n j a0 a1 a3 M) (QV S Z hx N M)
  | 0 => by intros; exact pq_0
  | j + 1 => fun a0 a1 a3 M w => wX99_put_2 S Z hS n _ (wX99_put_L S Z hS n j) a0 a1 a3 M w
theorem wX99_put (S Z : Nat → Prop) {hx N : Nat} (hS : ∀ x, fe_mem lX99_put x = true → S x) (n : Nat) (a0 : Nat) (a1 : Int64) (M : FM) (w : WI Z hx N M) (z_a0 : Z a0) (y_a0 : Sy S N M a0) : pq (FX99_put n a0 a1 M) (QV S Z hx N M) := wX99_put_0 S Z hS n _ (wX99_put_L S Z hS n n) a0 a1 M w z_a0 y_a0
def lX99_digit : List Nat := []
theorem wX99_digit_0 (S Z : Nat → Prop) {hx N : Nat} (hS : ∀ x, fe_mem lX99_digit x = true → S x) (a0 : Int64) (a2 : Int32) (M : FM) (w : WI Z hx N M) : pq (FX99_digit_0 a0 a2 M) (QA S Z hx N M) := by
  have hN := w.2.2.1
  have w0 := wk_r (S := S) w
  delta FX99_digit_0 BX99_digit_0
  exact pq_s w0
theorem wX99_digit (S Z : Nat → Prop) {hx N : Nat} (hS : ∀ x, fe_mem lX99_digit x = true → S x) (a0 : Int64) (a2 : Int32) (M : FM) (w : WI Z hx N M) : pq (FX99_digit a0 a2 M) (QA S Z hx N M) := wX99_digit_0 S Z hS a0 a2 M w 
def lX99_multiply : List Nat := []
theorem wX99_multiply_62 (S Z : Nat → Prop) {hx N : Nat} (hS : ∀ x, fe_mem lX99_multiply x = true → S x) (n : Nat) (k8 : Nat → Int64 → Int64 → Int32 → FM → Option (FM)) (hk8 : ∀ (a0 : Nat) (a1 : Int64) (a3 : Int64) (a5 : Int32) (M : FM), WI Z hx N M → Z a0 → Sy S N M a0 → pq (k8 a0 a1 a3 a5 M) (QV S Z hx N M)) (k20 : Nat → Int64 → Int64 → Int32 → Int64 → Int32 → FM → Option (FM)) (hk20 : ∀ (a0 : Nat) (a1 : Int64) (a3 : Int64) (a5 : Int32) (a6 : Int64) (a8 : Int32) (M : FM), WI Z hx N M → Z a0 → Sy S N M a0 → pq (k20 a0 a1 a3 a5 a6 a8 M) (QV S Z hx N M)) (a0 : Nat) (a1 : Int64) (a3 : Int64) (a5 : Int32) (a8 : Int32) (s0 : Int64) (s1 : Int64) (M : FM) (w : WI Z hx N M) (z_a0 : Z a0) (y_a0 : Sy S N M a0) : pq (FX99_multiply_62 n k8 k20 a0 a1 a3 a5 a8 s0 s1 M) (QV S Z hx N M) := by
  have hN := w.2.2.1
  have w0 := wk_r (S := S) w
  delta FX99_multiply_62 BX99_multiply_62
  refine pq_g (fun g1 => ?_)
  extract_lets +onlyGivenNames M3
  have w2 : Wk S Z hx N M M3 := wk_aI hN w0 rfl g1.1 z_a0 y_a0
  exact q_tV hN w2 (hk20 _ _ _ _ _ _ _ w2.1 z_a0 y_a0)
theorem wX99_multiply_20 (S Z : Nat → Prop) {hx N : Nat} (hS : ∀ x, fe_mem lX99_multiply x = true → S x) (n : Nat) (k8 : Nat → Int64 → Int64 → Int32 → FM → Option (FM)) (hk8 : ∀ (a0 : Nat) (a1 : Int64) (a3 : Int64) (a5 : Int32) (M : FM), WI Z hx N M → Z a0 → Sy S N M a0 → pq (k8 a0 a1 a3 a5 M) (QV S Z hx N M)) (k20 : Nat → Int64 → Int64 → Int32 → Int64 → Int32 → FM → Option (FM)) (hk20 : ∀ (a0 : Nat) (a1 : Int64) (a3 : Int64) (a5 : Int32) (a6 : Int64) (a8 : Int32) (M : FM), WI Z hx N M → Z a0 → Sy S N M a0 → pq (k20 a0 a1 a3 a5 a6 a8 M) (QV S Z hx N M)) (a0 : Nat) (a1 : Int64) (a3 : Int64) (a5 : Int32) (a6 : Int64) (a8 : Int32) (M : FM) (w : WI Z hx N M) (z_a0 : Z a0) (y_a0 : Sy S N M a0) : pq (FX99_multiply_20 n k8 k20 a0 a1 a3 a5 a6 a8 M) (QV S Z hx N M) := by
  have hN := w.2.2.1
  have w0 := wk_r (S := S) w
  delta FX99_multiply_20 BX99_multiply_20
  refine pq_fi (fun _ => ?_) (fun _ => ?_)
  · exact q_tV hN w0 (hk8 _ _ _ _ _ w0.1 z_a0 y_a0)
  · refine pq_g (fun g1 => ?_)
    refine pq_fi (fun _ => ?_) (fun _ => ?_)
    · exact q_tV hN w0 (wX99_multiply_62 S Z hS n _ hk8 _ hk20 _ _ _ _ _ _ _ _ w0.1 z_a0 y_a0)
    · refine pq_b (wX99_digit S Z (sb rfl hS) _ _ _ w0.1 ) (fun r2 K3 => ?_)
      have w4 := wk_t w0 K3 hN
      have y5 := sy_k w0.1.1 K3 y_a0
      refine pq_b (wX99_digit S Z (sb rfl hS) _ _ _ w4.1 ) (fun r6 K7 => ?_)
      have w8 := wk_t w4 K7 hN
      have y9 := sy_k w4.1.1 K7 y5
      exact q_tV hN w8 (wX99_multiply_62 S Z hS n _ hk8 _ hk20 _ _ _ _ _ _ _ _ w8.1 z_a0 y9)
theorem wX99_multiply_8 (S Z : Nat → Prop) {hx N : Nat} (hS : ∀ x, fe_mem lX99_multiply x = true → S x) (n : Nat) (k8 : Nat → Int64 → Int64 → Int32 → FM → Option (FM)) (hk8 : ∀ (a0 : Nat) (a1 : Int64) (a3 : Int64) (a5 : Int32) (M : FM), WI Z hx N M → Z a0 → Sy S N M a0 → pq (k8 a0 a1 a3 a5 M) (QV S Z hx N M)) (k20 : Nat → Int64 → Int64 → Int32 → Int64 → Int32 → FM → Option (FM)) (hk20 : ∀ (a0 : Nat) (a1 : Int64) (a3 : Int64) (a5 : Int32) (a6 : Int64) (a8 : Int32) (M : FM), WI Z hx N M → Z a0 → Sy S N M a0 → pq (k20 a0 a1 a3 a5 a6 a8 M) (QV S Z hx N M)) (a0 : Nat) (a1 : Int64) (a3 : Int64) (a5 : Int32) (M : FM) (w : WI Z hx N M) (z_a0 : Z a0) (y_a0 : Sy S N M a0) : pq (FX99_multiply_8 n k8 k20 a0 a1 a3 a5 M) (QV S Z hx N M) := by
  have hN := w.2.2.1
  have w0 := wk_r (S := S) w
  delta FX99_multiply_8 BX99_multiply_8
  refine pq_fi (fun _ => ?_) (fun _ => ?_)
  · exact pq_s w0
  · exact q_tV hN w0 (hk20 _ _ _ _ _ _ _ w0.1 z_a0 y_a0)
theorem wX99_multiply_0 (S Z : Nat → Prop) {hx N : Nat} (hS : ∀ x, fe_mem lX99_multiply x = true → S x) (n : Nat) (k8 : Nat → Int64 → Int64 → Int32 → FM → Option (FM)) (hk8 : ∀ (a0 : Nat) (a1 : Int64) (a3 : Int64) (a5 : Int32) (M : FM), WI Z hx N M → Z a0 → Sy S N M a0 → pq (k8 a0 a1 a3 a5 M) (QV S Z hx N M)) (k20 : Nat → Int64 → Int64 → Int32 → Int64 → Int32 → FM → Option (FM)) (hk20 : ∀ (a0 : Nat) (a1 : Int64) (a3 : Int64) (a5 : Int32) (a6 : Int64) (a8 : Int32) (M : FM), WI Z hx N M → Z a0 → Sy S N M a0 → pq (k20 a0 a1 a3 a5 a6 a8 M) (QV S Z hx N M)) (a0 : Nat) (a1 : Int64) (a3 : Int64) (M : FM) (w : WI Z hx N M) (z_a0 : Z a0) (y_a0 : Sy S N M a0) : pq (FX99_multiply_0 n k8 k20 a0 a1 a3 M) (QV S Z hx N M) := by
  have hN := w.2.2.1
  have w0 := wk_r (S := S) w
  delta FX99_multiply_0 BX99_multiply_0
  refine pq_b (wX99_put S Z (sb rfl hS) n _ _ _ w0.1 z_a0 y_a0) (fun r1 K2 => ?_)
  have w3 := wk_t w0 K2 hN
  have y4 := sy_k w0.1.1 K2 y_a0
  exact q_tV hN w3 (hk8 _ _ _ _ _ w3.1 z_a0 y4)
theorem wX99_multiply_L (S Z : Nat → Prop) {hx N : Nat} (hS : ∀ x, fe_mem lX99_multiply x = true → S x) (n : Nat) : ∀ j : Nat, (∀ (a0 : Nat) (a1 : Int64) (a3 : Int64) (a5 : Int32) (M : FM), WI Z hx N M → Z a0 → Sy S N M a0 → pq ((FX99_multiply_L n j).1 a0 a1 a3 a5 M) (QV S Z hx N M)) ∧ (∀ (a0 : Nat) (a1 : Int64) (a3 : Int64) (a5 : Int32) (a6 : Int64) (a8 : Int32) (M : FM), WI Z hx N M → Z a0 → Sy S N M a0 → pq ((FX99_multiply_L n j).2 a0 a1 a3 a5 a6 a8 M) (QV S Z hx N M))
  | 0 => ⟨by intros; exact pq_0, by intros; exact pq_0⟩
  | j + 1 => ⟨fun a0 a1 a3 a5 M w => wX99_multiply_8 S Z hS n _ (wX99_multiply_L S Z hS n j).1 _ (wX99_multiply_L S Z hS n j).2 a0 a1 a3 a5 M w, fun a0 a1 a3 a5 a6 a8 M w => wX99_multiply_20 S Z hS n _ (wX99_multiply_L S Z hS n j).1 _ (wX99_multiply_L S Z hS n j).2 a0 a1 a3 a5 a6 a8 M w⟩
theorem wX99_multiply (S Z : Nat → Prop) {hx N : Nat} (hS : ∀ x, fe_mem lX99_multiply x = true → S x) (n : Nat) (a0 : Nat) (a1 : Int64) (a3 : Int64) (M : FM) (w : WI Z hx N M) (z_a0 : Z a0) (y_a0 : Sy S N M a0) : pq (FX99_multiply n a0 a1 a3 M) (QV S Z hx N M) := wX99_multiply_0 S Z hS n _ (wX99_multiply_L S Z hS n n).1 _ (wX99_multiply_L S Z hS n n).2 a0 a1 a3 M w z_a0 y_a0
def lX99_bit : List Nat := []
theorem wX99_bit_33 (S Z : Nat → Prop) {hx N : Nat} (hS : ∀ x, fe_mem lX99_bit x = true → S x) (s0 : Int32) (M : FM) (w : WI Z hx N M) : pq (FX99_bit_33 s0 M) (QA S Z hx N M) := by
  have hN := w.2.2.1
  have w0 := wk_r (S := S) w
  delta FX99_bit_33 BX99_bit_33
  refine pq_g (fun _ => ?_)
  exact pq_s w0
theorem wX99_bit_32 (S Z : Nat → Prop) {hx N : Nat} (hS : ∀ x, fe_mem lX99_bit x = true → S x) (M : FM) (w : WI Z hx N M) : pq (FX99_bit_32 M) (QA S Z hx N M) := by
  have hN := w.2.2.1
  have w0 := wk_r (S := S) w
  delta FX99_bit_32 BX99_bit_32
  exact q_tA hN w0 (wX99_bit_33 S Z hS _ _ w0.1 )
theorem wX99_bit_0 (S Z : Nat → Prop) {hx N : Nat} (hS : ∀ x, fe_mem lX99_bit x = true → S x) (a0 : Nat) (a1 : Int32) (M : FM) (w : WI Z hx N M) (z_a0 : Z a0) : pq (FX99_bit_0 a0 a1 M) (QA S Z hx N M) := by
  have hN := w.2.2.1
  have w0 := wk_r (S := S) w
  delta FX99_bit_0 BX99_bit_0
  refine pq_fi (fun _ => ?_) (fun _ => ?_)
  · exact q_tA hN w0 (wX99_bit_32 S Z hS _ w0.1 )
  · refine pq_fi (fun _ => ?_) (fun _ => ?_)
    · exact q_tA hN w0 (wX99_bit_32 S Z hS _ w0.1 )
    · refine pq_n ?_
      refine pq_g (fun g1 => ?_)
      refine pq_n ?_
      refine pq_fi (fun _ => ?_) (fun _ => ?_)
      · exact q_tA hN w0 (wX99_bit_33 S Z hS _ _ w0.1 )
      · exact q_tA hN w0 (wX99_bit_32 S Z hS _ w0.1 )
theorem wX99_bit (S Z : Nat → Prop) {hx N : Nat} (hS : ∀ x, fe_mem lX99_bit x = true → S x) (a0 : Nat) (a1 : Int32) (M : FM) (w : WI Z hx N M) (z_a0 : Z a0) : pq (FX99_bit a0 a1 M) (QA S Z hx N M) := wX99_bit_0 S Z hS a0 a1 M w z_a0
def lX99_length : List Nat := []
theorem wX99_length_24 (S Z : Nat → Prop) {hx N : Nat} (hS : ∀ x, fe_mem lX99_length x = true → S x) (n : Nat) (k4 : Nat → Int32 → FM → Option (Int32 × FM)) (hk4 : ∀ (a0 : Nat) (a1 : Int32) (M : FM), WI Z hx N M → Z a0 → pq (k4 a0 a1 M) (QA S Z hx N M)) (a1 : Int32) (M : FM) (w : WI Z hx N M) : pq (FX99_length_24 n k4 a1 M) (QA S Z hx N M) := by
  have hN := w.2.2.1
  have w0 := wk_r (S := S) w
  delta FX99_length_24 BX99_length_24
  exact pq_s w0
theorem wX99_length_4 (S Z : Nat → Prop) {hx N : Nat} (hS : ∀ x, fe_mem lX99_length x = true → S x) (n : Nat) (k4 : Nat → Int32 → FM → Option (Int32 × FM)) (hk4 : ∀ (a0 : Nat) (a1 : Int32) (M : FM), WI Z hx N M → Z a0 → pq (k4 a0 a1 M) (QA S Z hx N M)) (a0 : Nat) (a1 : Int32) (M : FM) (w : WI Z hx N M) (z_a0 : Z a0) : pq (FX99_length_4 n k4 a0 a1 M) (QA S Z hx N M) := by
  have hN := w.2.2.1
  have w0 := wk_r (S := S) w
  delta FX99_length_4 BX99_length_4
  refine pq_fi (fun _ => ?_) (fun _ => ?_)
  · exact q_tA hN w0 (wX99_length_24 S Z hS n _ hk4 _ _ w0.1 )
  · refine pq_b (wX99_bit S Z (sb rfl hS) _ _ _ w0.1 z_a0) (fun r1 K2 => ?_)
    have w3 := wk_t w0 K2 hN
    refine pq_fi (fun _ => ?_) (fun _ => ?_)
    · exact q_tA hN w3 (hk4 _ _ _ w3.1 z_a0)
    · exact q_tA hN w3 (wX99_length_24 S Z hS n _ hk4 _ _ w3.1 )
theorem wX99_length_0 (S Z : Nat → Prop) {hx N : Nat} (hS : ∀ x, fe_mem lX99_length x = true → S x) (n : Nat) (k4 : Nat → Int32 → FM → Option (Int32 × FM)) (hk4 : ∀ (a0 : Nat) (a1 : Int32) (M : FM), WI Z hx N M → Z a0 → pq (k4 a0 a1 M) (QA S Z hx N M)) (a0 : Nat) (M : FM) (w : WI Z hx N M) (z_a0 : Z a0) : pq (FX99_length_0 n k4 a0 M) (QA S Z hx N M) := by
  have hN := w.2.2.1
  have w0 := wk_r (S := S) w
  delta FX99_length_0 BX99_length_0
  exact q_tA hN w0 (hk4 _ _ _ w0.1 z_a0)
theorem wX99_length_L (S Z : Nat → Prop) {hx N : Nat} (hS : ∀ x, fe_mem lX99_length x = true → S x) (n : Nat) : ∀ j : Nat, ∀ (a0 : Nat) (a1 : Int32) (M : FM), WI Z hx N M → Z a0 → pq (FX99_length_L4 n j a0 a1 M) (QA S Z hx N M)
  | 0 => by intros; exact pq_0
  | j + 1 => fun a0 a1 M w => wX99_length_4 S Z hS n _ (wX99_length_L S Z hS n j) a0 a1 M w
theorem wX99_length (S Z : Nat → Prop) {hx N : Nat} (hS : ∀ x, fe_mem lX99_length x = true → S x) (n : Nat) (a0 : Nat) (M : FM) (w : WI Z hx N M) (z_a0 : Z a0) : pq (FX99_length n a0 M) (QA S Z hx N M) := wX99_length_0 S Z hS n _ (wX99_length_L S Z hS n n) a0 M w z_a0
def lX99_zero : List Nat := []
theorem wX99_zero_0 (S Z : Nat → Prop) {hx N : Nat} (hS : ∀ x, fe_mem lX99_zero x = true → S x) (a0 : Nat) (a1 : Int32) (a2 : Int32) (M : FM) (w : WI Z hx N M) (z_a0 : Z a0) : pq (FX99_zero_0 a0 a1 a2 M) (QA S Z hx N M) := by
  have hN := w.2.2.1
  have w0 := wk_r (S := S) w
  delta FX99_zero_0 BX99_zero_0
  refine pq_b (wX99_pack S Z (sb rfl hS) _ _ _ _ _ w0.1 ) (fun r1 K2 => ?_)
  have w3 := wk_t w0 K2 hN
  exact pq_s w3
theorem wX99_zero (S Z : Nat → Prop) {hx N : Nat} (hS : ∀ x, fe_mem lX99_zero x = true → S x) (a0 : Nat) (a1 : Int32) (a2 : Int32) (M : FM) (w : WI Z hx N M) (z_a0 : Z a0) : pq (FX99_zero a0 a1 a2 M) (QA S Z hx N M) := wX99_zero_0 S Z hS a0 a1 a2 M w z_a0
def lX99_compare : List Nat := []
theorem wX99_compare_31 (S Z : Nat → Prop) {hx N : Nat} (hS : ∀ x, fe_mem lX99_compare x = true → S x) (n : Nat) (k4 : Nat → Nat → Int32 → FM → Option (Int32 × FM)) (hk4 : ∀ (a0 : Nat) (a1 : Nat) (a2 : Int32) (M : FM), WI Z hx N M → Z a0 → Z a1 → pq (k4 a0 a1 a2 M) (QA S Z hx N M)) (s0 : Int32) (M : FM) (w : WI Z hx N M) : pq (FX99_compare_31 n k4 s0 M) (QA S Z hx N M) := by
  have hN := w.2.2.1
  have w0 := wk_r (S := S) w
  delta FX99_compare_31 BX99_compare_31
  exact pq_s w0
theorem wX99_compare_4 (S Z : Nat → Prop) {hx N : Nat} (hS : ∀ x, fe_mem lX99_compare x = true → S x) (n : Nat) (k4 : Nat → Nat → Int32 → FM → Option (Int32 × FM)) (hk4 : ∀ (a0 : Nat) (a1 : Nat) (a2 : Int32) (M : FM), WI Z hx N M → Z a0 → Z a1 → pq (k4 a0 a1 a2 M) (QA S Z hx N M)) (a0 : Nat) (a1 : Nat) (a2 : Int32) (M : FM) (w : WI Z hx N M) (z_a0 : Z a0) (z_a1 : Z a1) : pq (FX99_compare_4 n k4 a0 a1 a2 M) (QA S Z hx N M) := by
  have hN := w.2.2.1
  have w0 := wk_r (S := S) w
  delta FX99_compare_4 BX99_compare_4
  refine pq_fi (fun _ => ?_) (fun _ => ?_)
  · exact pq_s w0
  · refine pq_g (fun g1 => ?_)
    refine pq_g (fun g2 => ?_)
    refine pq_fi (fun _ => ?_) (fun _ => ?_)
    · exact q_tA hN w0 (hk4 _ _ _ _ w0.1 z_a0 z_a1)
    · refine pq_g (fun g3 => ?_)
      refine pq_g (fun g4 => ?_)
      refine pq_fi (fun _ => ?_) (fun _ => ?_)
      · exact q_tA hN w0 (wX99_compare_31 S Z hS n _ hk4 _ _ w0.1 )
      · exact q_tA hN w0 (wX99_compare_31 S Z hS n _ hk4 _ _ w0.1 )
theorem wX99_compare_0 (S Z : Nat → Prop) {hx N : Nat} (hS : ∀ x, fe_mem lX99_compare x = true → S x) (n : Nat) (k4 : Nat → Nat → Int32 → FM → Option (Int32 × FM)) (hk4 : ∀ (a0 : Nat) (a1 : Nat) (a2 : Int32) (M : FM), WI Z hx N M → Z a0 → Z a1 → pq (k4 a0 a1 a2 M) (QA S Z hx N M)) (a0 : Nat) (a1 : Nat) (M : FM) (w : WI Z hx N M) (z_a0 : Z a0) (z_a1 : Z a1) : pq (FX99_compare_0 n k4 a0 a1 M) (QA S Z hx N M) := by
  have hN := w.2.2.1
  have w0 := wk_r (S := S) w
  delta FX99_compare_0 BX99_compare_0
  exact q_tA hN w0 (hk4 _ _ _ _ w0.1 z_a0 z_a1)
theorem wX99_compare_L (S Z : Nat → Prop) {hx N : Nat} (hS : ∀ x, fe_mem lX99_compare x = true → S x) (n : Nat) : ∀ j : Nat, ∀ (a0 : Nat) (a1 : Nat) (a2 : Int32) (M : FM), WI Z hx N M → Z a0 → Z a1 → pq (FX99_compare_L4 n j a0 a1 a2 M) (QA S Z hx N M)
  | 0 => by intros; exact pq_0
  | j + 1 => fun a0 a1 a2 M w => wX99_compare_4 S Z hS n _ (wX99_compare_L S Z hS n j) a0 a1 a2 M w
theorem wX99_compare (S Z : Nat → Prop) {hx N : Nat} (hS : ∀ x, fe_mem lX99_compare x = true → S x) (n : Nat) (a0 : Nat) (a1 : Nat) (M : FM) (w : WI Z hx N M) (z_a0 : Z a0) (z_a1 : Z a1) : pq (FX99_compare n a0 a1 M) (QA S Z hx N M) := wX99_compare_0 S Z hS n _ (wX99_compare_L S Z hS n n) a0 a1 M w z_a0 z_a1
def lX99_raise : List Nat := []
theorem wX99_raise_66 (S Z : Nat → Prop) {hx N : Nat} (hS : ∀ x, fe_mem lX99_raise x = true → S x) (n : Nat) (k15 : Nat → Int32 → Int32 → Int32 → FM → Option (FM)) (hk15 : ∀ (a0 : Nat) (a2 : Int32) (a3 : Int32) (a4 : Int32) (M : FM), WI Z hx N M → Z a0 → Sy S N M a0 → pq (k15 a0 a2 a3 a4 M) (QV S Z hx N M)) (a0 : Nat) (a2 : Int32) (a3 : Int32) (a4 : Int32) (a6 : Int32) (s0 : Int32) (M : FM) (w : WI Z hx N M) (z_a0 : Z a0) (y_a0 : Sy S N M a0) : pq (FX99_raise_66 n k15 a0 a2 a3 a4 a6 s0 M) (QV S Z hx N M) := by
  have hN := w.2.2.1
  have w0 := wk_r (S := S) w
  delta FX99_raise_66 BX99_raise_66
  refine pq_g (fun g1 => ?_)
  extract_lets +onlyGivenNames M3
  have w2 : Wk S Z hx N M M3 := wk_aI hN w0 rfl g1.1 z_a0 y_a0
  exact q_tV hN w2 (hk15 _ _ _ _ _ w2.1 z_a0 y_a0)
theorem wX99_raise_44 (S Z : Nat → Prop) {hx N : Nat} (hS : ∀ x, fe_mem lX99_raise x = true → S x) (n : Nat) (k15 : Nat → Int32 → Int32 → Int32 → FM → Option (FM)) (hk15 : ∀ (a0 : Nat) (a2 : Int32) (a3 : Int32) (a4 : Int32) (M : FM), WI Z hx N M → Z a0 → Sy S N M a0 → pq (k15 a0 a2 a3 a4 M) (QV S Z hx N M)) (a0 : Nat) (a2 : Int32) (a3 : Int32) (a4 : Int32) (a5 : Int32) (s0 : Int32) (M : FM) (w : WI Z hx N M) (z_a0 : Z a0) (y_a0 : Sy S N M a0) : pq (FX99_raise_44 n k15 a0 a2 a3 a4 a5 s0 M) (QV S Z hx N M) := by
  have hN := w.2.2.1
  have w0 := wk_r (S := S) w
  delta FX99_raise_44 BX99_raise_44
  refine pq_fi (fun _ => ?_) (fun _ => ?_)
  · exact q_tV hN w0 (wX99_raise_66 S Z hS n _ hk15 _ _ _ _ _ _ _ w0.1 z_a0 y_a0)
  · refine pq_g (fun g1 => ?_)
    exact q_tV hN w0 (wX99_raise_66 S Z hS n _ hk15 _ _ _ _ _ _ _ w0.1 z_a0 y_a0)
theorem wX99_raise_15 (S Z : Nat → Prop) {hx N : Nat} (hS : ∀ x, fe_mem lX99_raise x = true → S x) (n : Nat) (k15 : Nat → Int32 → Int32 → Int32 → FM → Option (FM)) (hk15 : ∀ (a0 : Nat) (a2 : Int32) (a3 : Int32) (a4 : Int32) (M : FM), WI Z hx N M → Z a0 → Sy S N M a0 → pq (k15 a0 a2 a3 a4 M) (QV S Z hx N M)) (a0 : Nat) (a2 : Int32) (a3 : Int32) (a4 : Int32) (M : FM) (w : WI Z hx N M) (z_a0 : Z a0) (y_a0 : Sy S N M a0) : pq (FX99_raise_15 n k15 a0 a2 a3 a4 M) (QV S Z hx N M) := by
  have hN := w.2.2.1
  have w0 := wk_r (S := S) w
  delta FX99_raise_15 BX99_raise_15
  refine pq_fi (fun _ => ?_) (fun _ => ?_)
  · exact pq_s w0
  · refine pq_fi (fun _ => ?_) (fun _ => ?_)
    · exact q_tV hN w0 (wX99_raise_44 S Z hS n _ hk15 _ _ _ _ _ _ _ w0.1 z_a0 y_a0)
    · refine pq_g (fun g1 => ?_)
      exact q_tV hN w0 (wX99_raise_44 S Z hS n _ hk15 _ _ _ _ _ _ _ w0.1 z_a0 y_a0)
theorem wX99_raise_0 (S Z : Nat → Prop) {hx N : Nat} (hS : ∀ x, fe_mem lX99_raise x = true → S x) (n : Nat) (k15 : Nat → Int32 → Int32 → Int32 → FM → Option (FM)) (hk15 : ∀ (a0 : Nat) (a2 : Int32) (a3 : Int32) (a4 : Int32) (M : FM), WI Z hx N M → Z a0 → Sy S N M a0 → pq (k15 a0 a2 a3 a4 M) (QV S Z hx N M)) (a0 : Nat) (a1 : Int32) (M : FM) (w : WI Z hx N M) (z_a0 : Z a0) (y_a0 : Sy S N M a0) : pq (FX99_raise_0 n k15 a0 a1 M) (QV S Z hx N M) := by
  have hN := w.2.2.1
  have w0 := wk_r (S := S) w
  delta FX99_raise_0 BX99_raise_0
  refine pq_n ?_
  refine pq_n ?_
  exact q_tV hN w0 (hk15 _ _ _ _ _ w0.1 z_a0 y_a0)
theorem wX99_raise_L (S Z : Nat → Prop) {hx N : Nat} (hS : ∀ x, fe_mem lX99_raise x = true → S x) (n : Nat) : ∀ j : Nat, ∀ (a0 : Nat) (a2 : Int32) (a3 : Int32) (a4 : Int32) (M : FM), WI Z hx N M → Z a0 → Sy S N M a0 → pq (FX99_raise_L15 n j a0 a2 a3 a4 M) (QV S Z hx N M)
  | 0 => by intros; exact pq_0
  | j + 1 => fun a0 a2 a3 a4 M w => wX99_raise_15 S Z hS n _ (wX99_raise_L S Z hS n j) a0 a2 a3 a4 M w
theorem wX99_raise (S Z : Nat → Prop) {hx N : Nat} (hS : ∀ x, fe_mem lX99_raise x = true → S x) (n : Nat) (a0 : Nat) (a1 : Int32) (M : FM) (w : WI Z hx N M) (z_a0 : Z a0) (y_a0 : Sy S N M a0) : pq (FX99_raise n a0 a1 M) (QV S Z hx N M) := wX99_raise_0 S Z hS n _ (wX99_raise_L S Z hS n n) a0 a1 M w z_a0 y_a0
def lX99_add : List Nat := []
theorem wX99_add_4 (S Z : Nat → Prop) {hx N : Nat} (hS : ∀ x, fe_mem lX99_add x = true → S x) (n : Nat) (k4 : Nat → Nat → Int32 → Int32 → FM → Option (FM)) (hk4 : ∀ (a0 : Nat) (a1 : Nat) (a2 : Int32) (a3 : Int32) (M : FM), WI Z hx N M → Z a0 → Z a1 → Sy S N M a0 → pq (k4 a0 a1 a2 a3 M) (QV S Z hx N M)) (a0 : Nat) (a1 : Nat) (a2 : Int32) (a3 : Int32) (M : FM) (w : WI Z hx N M) (z_a0 : Z a0) (z_a1 : Z a1) (y_a0 : Sy S N M a0) : pq (FX99_add_4 n k4 a0 a1 a2 a3 M) (QV S Z hx N M) := by
  have hN := w.2.2.1
  have w0 := wk_r (S := S) w
  delta FX99_add_4 BX99_add_4
  refine pq_fi (fun _ => ?_) (fun _ => ?_)
  · exact pq_s w0
  · refine pq_g (fun g1 => ?_)
    refine pq_g (fun g2 => ?_)
    refine pq_g (fun g3 => ?_)
    extract_lets +onlyGivenNames M5
    have w4 : Wk S Z hx N M M5 := wk_aI hN w0 rfl g3.1 z_a0 y_a0
    exact q_tV hN w4 (hk4 _ _ _ _ _ w4.1 z_a0 z_a1 y_a0)
theorem wX99_add_0 (S Z : Nat → Prop) {hx N : Nat} (hS : ∀ x, fe_mem lX99_add x = true → S x) (n : Nat) (k4 : Nat → Nat → Int32 → Int32 → FM → Option (FM)) (hk4 : ∀ (a0 : Nat) (a1 : Nat) (a2 : Int32) (a3 : Int32) (M : FM), WI Z hx N M → Z a0 → Z a1 → Sy S N M a0 → pq (k4 a0 a1 a2 a3 M) (QV S Z hx N M)) (a0 : Nat) (a1 : Nat) (M : FM) (w : WI Z hx N M) (z_a0 : Z a0) (z_a1 : Z a1) (y_a0 : Sy S N M a0) : pq (FX99_add_0 n k4 a0 a1 M) (QV S Z hx N M) := by
  have hN := w.2.2.1
  have w0 := wk_r (S := S) w
  delta FX99_add_0 BX99_add_0
  exact q_tV hN w0 (hk4 _ _ _ _ _ w0.1 z_a0 z_a1 y_a0)
theorem wX99_add_L (S Z : Nat → Prop) {hx N : Nat} (hS : ∀ x, fe_mem lX99_add x = true → S x) (n : Nat) : ∀ j : Nat, ∀ (a0 : Nat) (a1 : Nat) (a2 : Int32) (a3 : Int32) (M : FM), WI Z hx N M → Z a0 → Z a1 → Sy S N M a0 → pq (FX99_add_L4 n j a0 a1 a2 a3 M) (QV S Z hx N M)
  | 0 => by intros; exact pq_0
  | j + 1 => fun a0 a1 a2 a3 M w => wX99_add_4 S Z hS n _ (wX99_add_L S Z hS n j) a0 a1 a2 a3 M w
theorem wX99_add (S Z : Nat → Prop) {hx N : Nat} (hS : ∀ x, fe_mem lX99_add x = true → S x) (n : Nat) (a0 : Nat) (a1 : Nat) (M : FM) (w : WI Z hx N M) (z_a0 : Z a0) (z_a1 : Z a1) (y_a0 : Sy S N M a0) : pq (FX99_add n a0 a1 M) (QV S Z hx N M) := wX99_add_0 S Z hS n _ (wX99_add_L S Z hS n n) a0 a1 M w z_a0 z_a1 y_a0
def lX99_subtract : List Nat := []
theorem wX99_subtract_45 (S Z : Nat → Prop) {hx N : Nat} (hS : ∀ x, fe_mem lX99_subtract x = true → S x) (n : Nat) (k5 : Nat → Nat → Nat → Int32 → Int32 → FM → Option (FM)) (hk5 : ∀ (a0 : Nat) (a1 : Nat) (a2 : Nat) (a3 : Int32) (a4 : Int32) (M : FM), WI Z hx N M → Z a0 → Z a1 → Z a2 → Sy S N M a2 → pq (k5 a0 a1 a2 a3 a4 M) (QV S Z hx N M)) (a0 : Nat) (a1 : Nat) (a2 : Nat) (a4 : Int32) (s0 : Int32) (M : FM) (w : WI Z hx N M) (z_a0 : Z a0) (z_a1 : Z a1) (z_a2 : Z a2) (y_a2 : Sy S N M a2) : pq (FX99_subtract_45 n k5 a0 a1 a2 a4 s0 M) (QV S Z hx N M) := by
  have hN := w.2.2.1
  have w0 := wk_r (S := S) w
  delta FX99_subtract_45 BX99_subtract_45
  exact q_tV hN w0 (hk5 _ _ _ _ _ _ w0.1 z_a0 z_a1 z_a2 y_a2)
theorem wX99_subtract_5 (S Z : Nat → Prop) {hx N : Nat} (hS : ∀ x, fe_mem lX99_subtract x = true → S x) (n : Nat) (k5 : Nat → Nat → Nat → Int32 → Int32 → FM → Option (FM)) (hk5 : ∀ (a0 : Nat) (a1 : Nat) (a2 : Nat) (a3 : Int32) (a4 : Int32) (M : FM), WI Z hx N M → Z a0 → Z a1 → Z a2 → Sy S N M a2 → pq (k5 a0 a1 a2 a3 a4 M) (QV S Z hx N M)) (a0 : Nat) (a1 : Nat) (a2 : Nat) (a3 : Int32) (a4 : Int32) (M : FM) (w : WI Z hx N M) (z_a0 : Z a0) (z_a1 : Z a1) (z_a2 : Z a2) (y_a2 : Sy S N M a2) : pq (FX99_subtract_5 n k5 a0 a1 a2 a3 a4 M) (QV S Z hx N M) := by
  have hN := w.2.2.1
  have w0 := wk_r (S := S) w
  delta FX99_subtract_5 BX99_subtract_5
  refine pq_fi (fun _ => ?_) (fun _ => ?_)
  · exact pq_s w0
  · refine pq_g (fun g1 => ?_)
    refine pq_g (fun g2 => ?_)
    refine pq_g (fun g3 => ?_)
    extract_lets +onlyGivenNames M5
    have w4 : Wk S Z hx N M M5 := wk_aI hN w0 rfl g3.1 z_a2 y_a2
    refine pq_fi (fun _ => ?_) (fun _ => ?_)
    · exact q_tV hN w4 (wX99_subtract_45 S Z hS n _ hk5 _ _ _ _ _ _ w4.1 z_a0 z_a1 z_a2 y_a2)
    · exact q_tV hN w4 (wX99_subtract_45 S Z hS n _ hk5 _ _ _ _ _ _ w4.1 z_a0 z_a1 z_a2 y_a2)
theorem wX99_subtract_0 (S Z : Nat → Prop) {hx N : Nat} (hS : ∀ x, fe_mem lX99_subtract x = true → S x) (n : Nat) (k5 : Nat → Nat → Nat → Int32 → Int32 → FM → Option (FM)) (hk5 : ∀ (a0 : Nat) (a1 : Nat) (a2 : Nat) (a3 : Int32) (a4 : Int32) (M : FM), WI Z hx N M → Z a0 → Z a1 → Z a2 → Sy S N M a2 → pq (k5 a0 a1 a2 a3 a4 M) (QV S Z hx N M)) (a0 : Nat) (a1 : Nat) (a2 : Nat) (M : FM) (w : WI Z hx N M) (z_a0 : Z a0) (z_a1 : Z a1) (z_a2 : Z a2) (y_a2 : Sy S N M a2) : pq (FX99_subtract_0 n k5 a0 a1 a2 M) (QV S Z hx N M) := by
  have hN := w.2.2.1
  have w0 := wk_r (S := S) w
  delta FX99_subtract_0 BX99_subtract_0
  exact q_tV hN w0 (hk5 _ _ _ _ _ _ w0.1 z_a0 z_a1 z_a2 y_a2)
theorem wX99_subtract_L (S Z : Nat → Prop) {hx N : Nat} (hS : ∀ x, fe_mem lX99_subtract x = true → S x) (n : Nat) : ∀ j : Nat, ∀ (a0 : Nat) (a1 : Nat) (a2 : Nat) (a3 : Int32) (a4 : Int32) (M : FM), WI Z hx N M → Z a0 → Z a1 → Z a2 → Sy S N M a2 → pq (FX99_subtract_L5 n j a0 a1 a2 a3 a4 M) (QV S Z hx N M)
  | 0 => by intros; exact pq_0
  | j + 1 => fun a0 a1 a2 a3 a4 M w => wX99_subtract_5 S Z hS n _ (wX99_subtract_L S Z hS n j) a0 a1 a2 a3 a4 M w
theorem wX99_subtract (S Z : Nat → Prop) {hx N : Nat} (hS : ∀ x, fe_mem lX99_subtract x = true → S x) (n : Nat) (a0 : Nat) (a1 : Nat) (a2 : Nat) (M : FM) (w : WI Z hx N M) (z_a0 : Z a0) (z_a1 : Z a1) (z_a2 : Z a2) (y_a2 : Sy S N M a2) : pq (FX99_subtract n a0 a1 a2 M) (QV S Z hx N M) := wX99_subtract_0 S Z hS n _ (wX99_subtract_L S Z hS n n) a0 a1 a2 M w z_a0 z_a1 z_a2 y_a2
def lX99_roundTo : List Nat := [384, 385]
theorem wX99_roundTo_271 (S Z : Nat → Prop) {hx N : Nat} (hS : ∀ x, fe_mem lX99_roundTo x = true → S x) (n : Nat) (k16 : Nat → Int32 → Int32 → Int32 → FM → Option (FM)) (hk16 : ∀ (a0 : Nat) (a2 : Int32) (a3 : Int32) (a4 : Int32) (M : FM), WI Z hx N M → Z a0 → pq (k16 a0 a2 a3 a4 M) (QV S Z hx N M)) (k80 : Nat → Int32 → Int32 → Int32 → Int32 → Int32 → FM → Option (FM)) (hk80 : ∀ (a0 : Nat) (a2 : Int32) (a3 : Int32) (a4 : Int32) (a5 : Int32) (a6 : Int32) (M : FM), WI Z hx N M → Z a0 → pq (k80 a0 a2 a3 a4 a5 a6 M) (QV S Z hx N M)) (s0 : Nat) (s1 : Int64) (M : FM) (w : WI Z hx N M) (z_s0 : Z s0) : pq (FX99_roundTo_271 n k16 k80 s0 s1 M) (QV S Z hx N M) := by
  have hN := w.2.2.1
  have w0 := wk_r (S := S) w
  delta FX99_roundTo_271 BX99_roundTo_271
  refine pq_g (fun g1 => ?_)
  extract_lets +onlyGivenNames M3
  have w2 : Wk S Z hx N M M3 := wk_fL hN w0 rfl rfl g1 z_s0 (Or.inr (hS 384 rfl))
  exact pq_s w2
theorem wX99_roundTo_250 (S Z : Nat → Prop) {hx N : Nat} (hS : ∀ x, fe_mem lX99_roundTo x = true → S x) (n : Nat) (k16 : Nat → Int32 → Int32 → Int32 → FM → Option (FM)) (hk16 : ∀ (a0 : Nat) (a2 : Int32) (a3 : Int32) (a4 : Int32) (M : FM), WI Z hx N M → Z a0 → pq (k16 a0 a2 a3 a4 M) (QV S Z hx N M)) (k80 : Nat → Int32 → Int32 → Int32 → Int32 → Int32 → FM → Option (FM)) (hk80 : ∀ (a0 : Nat) (a2 : Int32) (a3 : Int32) (a4 : Int32) (a5 : Int32) (a6 : Int32) (M : FM), WI Z hx N M → Z a0 → pq (k80 a0 a2 a3 a4 a5 a6 M) (QV S Z hx N M)) (a0 : Nat) (s0 : Int32) (M : FM) (w : WI Z hx N M) (z_a0 : Z a0) : pq (FX99_roundTo_250 n k16 k80 a0 s0 M) (QV S Z hx N M) := by
  have hN := w.2.2.1
  have w0 := wk_r (S := S) w
  delta FX99_roundTo_250 BX99_roundTo_250
  refine pq_fi (fun _ => ?_) (fun _ => ?_)
  · refine pq_g (fun g1 => ?_)
    exact q_tV hN w0 (wX99_roundTo_271 S Z hS n _ hk16 _ hk80 _ _ _ w0.1 z_a0)
  · refine pq_g (fun g2 => ?_)
    exact q_tV hN w0 (wX99_roundTo_271 S Z hS n _ hk16 _ hk80 _ _ _ w0.1 z_a0)
theorem wX99_roundTo_249 (S Z : Nat → Prop) {hx N : Nat} (hS : ∀ x, fe_mem lX99_roundTo x = true → S x) (n : Nat) (k16 : Nat → Int32 → Int32 → Int32 → FM → Option (FM)) (hk16 : ∀ (a0 : Nat) (a2 : Int32) (a3 : Int32) (a4 : Int32) (M : FM), WI Z hx N M → Z a0 → pq (k16 a0 a2 a3 a4 M) (QV S Z hx N M)) (k80 : Nat → Int32 → Int32 → Int32 → Int32 → Int32 → FM → Option (FM)) (hk80 : ∀ (a0 : Nat) (a2 : Int32) (a3 : Int32) (a4 : Int32) (a5 : Int32) (a6 : Int32) (M : FM), WI Z hx N M → Z a0 → pq (k80 a0 a2 a3 a4 a5 a6 M) (QV S Z hx N M)) (a0 : Nat) (M : FM) (w : WI Z hx N M) (z_a0 : Z a0) : pq (FX99_roundTo_249 n k16 k80 a0 M) (QV S Z hx N M) := by
  have hN := w.2.2.1
  have w0 := wk_r (S := S) w
  delta FX99_roundTo_249 BX99_roundTo_249
  exact q_tV hN w0 (wX99_roundTo_250 S Z hS n _ hk16 _ hk80 _ _ _ w0.1 z_a0)
theorem wX99_roundTo_231 (S Z : Nat → Prop) {hx N : Nat} (hS : ∀ x, fe_mem lX99_roundTo x = true → S x) (n : Nat) (k16 : Nat → Int32 → Int32 → Int32 → FM → Option (FM)) (hk16 : ∀ (a0 : Nat) (a2 : Int32) (a3 : Int32) (a4 : Int32) (M : FM), WI Z hx N M → Z a0 → pq (k16 a0 a2 a3 a4 M) (QV S Z hx N M)) (k80 : Nat → Int32 → Int32 → Int32 → Int32 → Int32 → FM → Option (FM)) (hk80 : ∀ (a0 : Nat) (a2 : Int32) (a3 : Int32) (a4 : Int32) (a5 : Int32) (a6 : Int32) (M : FM), WI Z hx N M → Z a0 → pq (k80 a0 a2 a3 a4 a5 a6 M) (QV S Z hx N M)) (a0 : Nat) (M : FM) (w : WI Z hx N M) (z_a0 : Z a0) : pq (FX99_roundTo_231 n k16 k80 a0 M) (QV S Z hx N M) := by
  have hN := w.2.2.1
  have w0 := wk_r (S := S) w
  delta FX99_roundTo_231 BX99_roundTo_231
  exact q_tV hN w0 (wX99_roundTo_250 S Z hS n _ hk16 _ hk80 _ _ _ w0.1 z_a0)
theorem wX99_roundTo_204 (S Z : Nat → Prop) {hx N : Nat} (hS : ∀ x, fe_mem lX99_roundTo x = true → S x) (n : Nat) (k16 : Nat → Int32 → Int32 → Int32 → FM → Option (FM)) (hk16 : ∀ (a0 : Nat) (a2 : Int32) (a3 : Int32) (a4 : Int32) (M : FM), WI Z hx N M → Z a0 → pq (k16 a0 a2 a3 a4 M) (QV S Z hx N M)) (k80 : Nat → Int32 → Int32 → Int32 → Int32 → Int32 → FM → Option (FM)) (hk80 : ∀ (a0 : Nat) (a2 : Int32) (a3 : Int32) (a4 : Int32) (a5 : Int32) (a6 : Int32) (M : FM), WI Z hx N M → Z a0 → pq (k80 a0 a2 a3 a4 a5 a6 M) (QV S Z hx N M)) (a0 : Nat) (M : FM) (w : WI Z hx N M) (z_a0 : Z a0) : pq (FX99_roundTo_204 n k16 k80 a0 M) (QV S Z hx N M) := by
  have hN := w.2.2.1
  have w0 := wk_r (S := S) w
  delta FX99_roundTo_204 BX99_roundTo_204
  exact q_tV hN w0 (wX99_roundTo_250 S Z hS n _ hk16 _ hk80 _ _ _ w0.1 z_a0)
theorem wX99_roundTo_176 (S Z : Nat → Prop) {hx N : Nat} (hS : ∀ x, fe_mem lX99_roundTo x = true → S x) (n : Nat) (k16 : Nat → Int32 → Int32 → Int32 → FM → Option (FM)) (hk16 : ∀ (a0 : Nat) (a2 : Int32) (a3 : Int32) (a4 : Int32) (M : FM), WI Z hx N M → Z a0 → pq (k16 a0 a2 a3 a4 M) (QV S Z hx N M)) (k80 : Nat → Int32 → Int32 → Int32 → Int32 → Int32 → FM → Option (FM)) (hk80 : ∀ (a0 : Nat) (a2 : Int32) (a3 : Int32) (a4 : Int32) (a5 : Int32) (a6 : Int32) (M : FM), WI Z hx N M → Z a0 → pq (k80 a0 a2 a3 a4 a5 a6 M) (QV S Z hx N M)) (a0 : Nat) (M : FM) (w : WI Z hx N M) (z_a0 : Z a0) : pq (FX99_roundTo_176 n k16 k80 a0 M) (QV S Z hx N M) := by
  have hN := w.2.2.1
  have w0 := wk_r (S := S) w
  delta FX99_roundTo_176 BX99_roundTo_176
  exact q_tV hN w0 (wX99_roundTo_250 S Z hS n _ hk16 _ hk80 _ _ _ w0.1 z_a0)
theorem wX99_roundTo_172 (S Z : Nat → Prop) {hx N : Nat} (hS : ∀ x, fe_mem lX99_roundTo x = true → S x) (n : Nat) (k16 : Nat → Int32 → Int32 → Int32 → FM → Option (FM)) (hk16 : ∀ (a0 : Nat) (a2 : Int32) (a3 : Int32) (a4 : Int32) (M : FM), WI Z hx N M → Z a0 → pq (k16 a0 a2 a3 a4 M) (QV S Z hx N M)) (k80 : Nat → Int32 → Int32 → Int32 → Int32 → Int32 → FM → Option (FM)) (hk80 : ∀ (a0 : Nat) (a2 : Int32) (a3 : Int32) (a4 : Int32) (a5 : Int32) (a6 : Int32) (M : FM), WI Z hx N M → Z a0 → pq (k80 a0 a2 a3 a4 a5 a6 M) (QV S Z hx N M)) (a0 : Nat) (M : FM) (w : WI Z hx N M) (z_a0 : Z a0) : pq (FX99_roundTo_172 n k16 k80 a0 M) (QV S Z hx N M) := by
  have hN := w.2.2.1
  have w0 := wk_r (S := S) w
  delta FX99_roundTo_172 BX99_roundTo_172
  exact q_tV hN w0 (wX99_roundTo_250 S Z hS n _ hk16 _ hk80 _ _ _ w0.1 z_a0)
theorem wX99_roundTo_142 (S Z : Nat → Prop) {hx N : Nat} (hS : ∀ x, fe_mem lX99_roundTo x = true → S x) (n : Nat) (k16 : Nat → Int32 → Int32 → Int32 → FM → Option (FM)) (hk16 : ∀ (a0 : Nat) (a2 : Int32) (a3 : Int32) (a4 : Int32) (M : FM), WI Z hx N M → Z a0 → pq (k16 a0 a2 a3 a4 M) (QV S Z hx N M)) (k80 : Nat → Int32 → Int32 → Int32 → Int32 → Int32 → FM → Option (FM)) (hk80 : ∀ (a0 : Nat) (a2 : Int32) (a3 : Int32) (a4 : Int32) (a5 : Int32) (a6 : Int32) (M : FM), WI Z hx N M → Z a0 → pq (k80 a0 a2 a3 a4 a5 a6 M) (QV S Z hx N M)) (a0 : Nat) (a2 : Int32) (a4 : Int32) (a5 : Int32) (s0 : Nat) (s1 : Int32) (M : FM) (w : WI Z hx N M) (z_a0 : Z a0) (z_s0 : Z s0) : pq (FX99_roundTo_142 n k16 k80 a0 a2 a4 a5 s0 s1 M) (QV S Z hx N M) := by
  have hN := w.2.2.1
  have w0 := wk_r (S := S) w
  delta FX99_roundTo_142 BX99_roundTo_142
  refine pq_g (fun g1 => ?_)
  refine pq_g (fun _ => ?_)
  extract_lets +onlyGivenNames M3
  have w2 : Wk S Z hx N M M3 := wk_fI hN w0 rfl rfl g1 z_s0 (Or.inr (hS 385 rfl))
  refine pq_fi (fun _ => ?_) (fun _ => ?_)
  · refine pq_fi (fun _ => ?_) (fun _ => ?_)
    · exact q_tV hN w2 (wX99_roundTo_176 S Z hS n _ hk16 _ hk80 _ _ w2.1 z_a0)
    · refine pq_fi (fun _ => ?_) (fun _ => ?_)
      · refine pq_g (fun g4 => ?_)
        refine pq_n ?_
        refine pq_fi (fun _ => ?_) (fun _ => ?_)
        · exact q_tV hN w2 (wX99_roundTo_176 S Z hS n _ hk16 _ hk80 _ _ w2.1 z_a0)
        · exact q_tV hN w2 (wX99_roundTo_172 S Z hS n _ hk16 _ hk80 _ _ w2.1 z_a0)
      · exact q_tV hN w2 (wX99_roundTo_172 S Z hS n _ hk16 _ hk80 _ _ w2.1 z_a0)
  · refine pq_fi (fun _ => ?_) (fun _ => ?_)
    · refine pq_g (fun g5 => ?_)
      refine pq_fi (fun _ => ?_) (fun _ => ?_)
      · exact q_tV hN w2 (wX99_roundTo_204 S Z hS n _ hk16 _ hk80 _ _ w2.1 z_a0)
      · refine pq_g (fun g6 => ?_)
        refine pq_fi (fun _ => ?_) (fun _ => ?_)
        · exact q_tV hN w2 (wX99_roundTo_250 S Z hS n _ hk16 _ hk80 _ _ _ w2.1 z_a0)
        · exact q_tV hN w2 (wX99_roundTo_204 S Z hS n _ hk16 _ hk80 _ _ w2.1 z_a0)
    · refine pq_fi (fun _ => ?_) (fun _ => ?_)
      · refine pq_g (fun g7 => ?_)
        refine pq_fi (fun _ => ?_) (fun _ => ?_)
        · exact q_tV hN w2 (wX99_roundTo_231 S Z hS n _ hk16 _ hk80 _ _ w2.1 z_a0)
        · refine pq_g (fun g8 => ?_)
          refine pq_fi (fun _ => ?_) (fun _ => ?_)
          · exact q_tV hN w2 (wX99_roundTo_250 S Z hS n _ hk16 _ hk80 _ _ _ w2.1 z_a0)
          · exact q_tV hN w2 (wX99_roundTo_231 S Z hS n _ hk16 _ hk80 _ _ w2.1 z_a0)
      · refine pq_fi (fun _ => ?_) (fun _ => ?_)
        · refine pq_fi (fun _ => ?_) (fun _ => ?_)
          · exact q_tV hN w2 (wX99_roundTo_249 S Z hS n _ hk16 _ hk80 _ _ w2.1 z_a0)
          · exact q_tV hN w2 (wX99_roundTo_250 S Z hS n _ hk16 _ hk80 _ _ _ w2.1 z_a0)
        · exact q_tV hN w2 (wX99_roundTo_249 S Z hS n _ hk16 _ hk80 _ _ w2.1 z_a0)
theorem wX99_roundTo_137 (S Z : Nat → Prop) {hx N : Nat} (hS : ∀ x, fe_mem lX99_roundTo x = true → S x) (n : Nat) (k16 : Nat → Int32 → Int32 → Int32 → FM → Option (FM)) (hk16 : ∀ (a0 : Nat) (a2 : Int32) (a3 : Int32) (a4 : Int32) (M : FM), WI Z hx N M → Z a0 → pq (k16 a0 a2 a3 a4 M) (QV S Z hx N M)) (k80 : Nat → Int32 → Int32 → Int32 → Int32 → Int32 → FM → Option (FM)) (hk80 : ∀ (a0 : Nat) (a2 : Int32) (a3 : Int32) (a4 : Int32) (a5 : Int32) (a6 : Int32) (M : FM), WI Z hx N M → Z a0 → pq (k80 a0 a2 a3 a4 a5 a6 M) (QV S Z hx N M)) (a0 : Nat) (a2 : Int32) (a4 : Int32) (a5 : Int32) (s0 : Nat) (M : FM) (w : WI Z hx N M) (z_a0 : Z a0) (z_s0 : Z s0) : pq (FX99_roundTo_137 n k16 k80 a0 a2 a4 a5 s0 M) (QV S Z hx N M) := by
  have hN := w.2.2.1
  have w0 := wk_r (S := S) w
  delta FX99_roundTo_137 BX99_roundTo_137
  exact q_tV hN w0 (wX99_roundTo_142 S Z hS n _ hk16 _ hk80 _ _ _ _ _ _ _ w0.1 z_a0 z_s0)
theorem wX99_roundTo_126 (S Z : Nat → Prop) {hx N : Nat} (hS : ∀ x, fe_mem lX99_roundTo x = true → S x) (n : Nat) (k16 : Nat → Int32 → Int32 → Int32 → FM → Option (FM)) (hk16 : ∀ (a0 : Nat) (a2 : Int32) (a3 : Int32) (a4 : Int32) (M : FM), WI Z hx N M → Z a0 → pq (k16 a0 a2 a3 a4 M) (QV S Z hx N M)) (k80 : Nat → Int32 → Int32 → Int32 → Int32 → Int32 → FM → Option (FM)) (hk80 : ∀ (a0 : Nat) (a2 : Int32) (a3 : Int32) (a4 : Int32) (a5 : Int32) (a6 : Int32) (M : FM), WI Z hx N M → Z a0 → pq (k80 a0 a2 a3 a4 a5 a6 M) (QV S Z hx N M)) (a0 : Nat) (a2 : Int32) (a4 : Int32) (a5 : Int32) (M : FM) (w : WI Z hx N M) (z_a0 : Z a0) : pq (FX99_roundTo_126 n k16 k80 a0 a2 a4 a5 M) (QV S Z hx N M) := by
  have hN := w.2.2.1
  have w0 := wk_r (S := S) w
  delta FX99_roundTo_126 BX99_roundTo_126
  refine pq_fi (fun _ => ?_) (fun _ => ?_)
  · refine pq_fi (fun _ => ?_) (fun _ => ?_)
    · exact q_tV hN w0 (wX99_roundTo_142 S Z hS n _ hk16 _ hk80 _ _ _ _ _ _ _ w0.1 z_a0 z_a0)
    · exact q_tV hN w0 (wX99_roundTo_137 S Z hS n _ hk16 _ hk80 _ _ _ _ _ _ w0.1 z_a0 z_a0)
  · exact q_tV hN w0 (wX99_roundTo_137 S Z hS n _ hk16 _ hk80 _ _ _ _ _ _ w0.1 z_a0 z_a0)
theorem wX99_roundTo_118 (S Z : Nat → Prop) {hx N : Nat} (hS : ∀ x, fe_mem lX99_roundTo x = true → S x) (n : Nat) (k16 : Nat → Int32 → Int32 → Int32 → FM → Option (FM)) (hk16 : ∀ (a0 : Nat) (a2 : Int32) (a3 : Int32) (a4 : Int32) (M : FM), WI Z hx N M → Z a0 → pq (k16 a0 a2 a3 a4 M) (QV S Z hx N M)) (k80 : Nat → Int32 → Int32 → Int32 → Int32 → Int32 → FM → Option (FM)) (hk80 : ∀ (a0 : Nat) (a2 : Int32) (a3 : Int32) (a4 : Int32) (a5 : Int32) (a6 : Int32) (M : FM), WI Z hx N M → Z a0 → pq (k80 a0 a2 a3 a4 a5 a6 M) (QV S Z hx N M)) (a0 : Nat) (a2 : Int32) (a3 : Int32) (a4 : Int32) (a6 : Int32) (s0 : Int32) (M : FM) (w : WI Z hx N M) (z_a0 : Z a0) : pq (FX99_roundTo_118 n k16 k80 a0 a2 a3 a4 a6 s0 M) (QV S Z hx N M) := by
  have hN := w.2.2.1
  have w0 := wk_r (S := S) w
  delta FX99_roundTo_118 BX99_roundTo_118
  exact q_tV hN w0 (hk80 _ _ _ _ _ _ _ w0.1 z_a0)
theorem wX99_roundTo_113 (S Z : Nat → Prop) {hx N : Nat} (hS : ∀ x, fe_mem lX99_roundTo x = true → S x) (n : Nat) (k16 : Nat → Int32 → Int32 → Int32 → FM → Option (FM)) (hk16 : ∀ (a0 : Nat) (a2 : Int32) (a3 : Int32) (a4 : Int32) (M : FM), WI Z hx N M → Z a0 → pq (k16 a0 a2 a3 a4 M) (QV S Z hx N M)) (k80 : Nat → Int32 → Int32 → Int32 → Int32 → Int32 → FM → Option (FM)) (hk80 : ∀ (a0 : Nat) (a2 : Int32) (a3 : Int32) (a4 : Int32) (a5 : Int32) (a6 : Int32) (M : FM), WI Z hx N M → Z a0 → pq (k80 a0 a2 a3 a4 a5 a6 M) (QV S Z hx N M)) (a0 : Nat) (a2 : Int32) (a3 : Int32) (a4 : Int32) (a6 : Int32) (M : FM) (w : WI Z hx N M) (z_a0 : Z a0) : pq (FX99_roundTo_113 n k16 k80 a0 a2 a3 a4 a6 M) (QV S Z hx N M) := by
  have hN := w.2.2.1
  have w0 := wk_r (S := S) w
  delta FX99_roundTo_113 BX99_roundTo_113
  exact q_tV hN w0 (wX99_roundTo_118 S Z hS n _ hk16 _ hk80 _ _ _ _ _ _ _ w0.1 z_a0)
theorem wX99_roundTo_80 (S Z : Nat → Prop) {hx N : Nat} (hS : ∀ x, fe_mem lX99_roundTo x = true → S x) (n : Nat) (k16 : Nat → Int32 → Int32 → Int32 → FM → Option (FM)) (hk16 : ∀ (a0 : Nat) (a2 : Int32) (a3 : Int32) (a4 : Int32) (M : FM), WI Z hx N M → Z a0 → pq (k16 a0 a2 a3 a4 M) (QV S Z hx N M)) (k80 : Nat → Int32 → Int32 → Int32 → Int32 → Int32 → FM → Option (FM)) (hk80 : ∀ (a0 : Nat) (a2 : Int32) (a3 : Int32) (a4 : Int32) (a5 : Int32) (a6 : Int32) (M : FM), WI Z hx N M → Z a0 → pq (k80 a0 a2 a3 a4 a5 a6 M) (QV S Z hx N M)) (a0 : Nat) (a2 : Int32) (a3 : Int32) (a4 : Int32) (a5 : Int32) (a6 : Int32) (M : FM) (w : WI Z hx N M) (z_a0 : Z a0) : pq (FX99_roundTo_80 n k16 k80 a0 a2 a3 a4 a5 a6 M) (QV S Z hx N M) := by
  have hN := w.2.2.1
  have w0 := wk_r (S := S) w
  delta FX99_roundTo_80 BX99_roundTo_80
  refine pq_fi (fun _ => ?_) (fun _ => ?_)
  · exact q_tV hN w0 (wX99_roundTo_126 S Z hS n _ hk16 _ hk80 _ _ _ _ _ w0.1 z_a0)
  · refine pq_fi (fun _ => ?_) (fun _ => ?_)
    · exact q_tV hN w0 (wX99_roundTo_126 S Z hS n _ hk16 _ hk80 _ _ _ _ _ w0.1 z_a0)
    · refine pq_fi (fun _ => ?_) (fun _ => ?_)
      · refine pq_g (fun g1 => ?_)
        have z2 := wk_z (i := 0) (f := 379) w0 rfl z_a0
        have f3 := sS_379 w0.1.1 g1
        refine pq_b (wX99_bit S Z (sb rfl hS) _ _ _ w0.1 z2) (fun r4 K5 => ?_)
        have w6 := wk_t w0 K5 hN
        refine pq_fi (fun _ => ?_) (fun _ => ?_)
        · exact q_tV hN w6 (wX99_roundTo_118 S Z hS n _ hk16 _ hk80 _ _ _ _ _ _ _ w6.1 z_a0)
        · exact q_tV hN w6 (wX99_roundTo_113 S Z hS n _ hk16 _ hk80 _ _ _ _ _ _ w6.1 z_a0)
      · exact q_tV hN w0 (wX99_roundTo_113 S Z hS n _ hk16 _ hk80 _ _ _ _ _ _ w0.1 z_a0)
theorem wX99_roundTo_49 (S Z : Nat → Prop) {hx N : Nat} (hS : ∀ x, fe_mem lX99_roundTo x = true → S x) (n : Nat) (k16 : Nat → Int32 → Int32 → Int32 → FM → Option (FM)) (hk16 : ∀ (a0 : Nat) (a2 : Int32) (a3 : Int32) (a4 : Int32) (M : FM), WI Z hx N M → Z a0 → pq (k16 a0 a2 a3 a4 M) (QV S Z hx N M)) (k80 : Nat → Int32 → Int32 → Int32 → Int32 → Int32 → FM → Option (FM)) (hk80 : ∀ (a0 : Nat) (a2 : Int32) (a3 : Int32) (a4 : Int32) (a5 : Int32) (a6 : Int32) (M : FM), WI Z hx N M → Z a0 → pq (k80 a0 a2 a3 a4 a5 a6 M) (QV S Z hx N M)) (a0 : Nat) (a2 : Int32) (a3 : Int32) (a4 : Int32) (s0 : Nat) (s1 : Int64) (s2 : Int64) (M : FM) (w : WI Z hx N M) (z_a0 : Z a0) (z_s0 : Z s0) : pq (FX99_roundTo_49 n k16 k80 a0 a2 a3 a4 s0 s1 s2 M) (QV S Z hx N M) := by
  have hN := w.2.2.1
  have w0 := wk_r (S := S) w
  delta FX99_roundTo_49 BX99_roundTo_49
  refine pq_g (fun g1 => ?_)
  extract_lets +onlyGivenNames M3
  have w2 : Wk S Z hx N M M3 := wk_fL hN w0 rfl rfl g1 z_s0 (Or.inr (hS 384 rfl))
  exact q_tV hN w2 (hk16 _ _ _ _ _ w2.1 z_a0)
theorem wX99_roundTo_16 (S Z : Nat → Prop) {hx N : Nat} (hS : ∀ x, fe_mem lX99_roundTo x = true → S x) (n : Nat) (k16 : Nat → Int32 → Int32 → Int32 → FM → Option (FM)) (hk16 : ∀ (a0 : Nat) (a2 : Int32) (a3 : Int32) (a4 : Int32) (M : FM), WI Z hx N M → Z a0 → pq (k16 a0 a2 a3 a4 M) (QV S Z hx N M)) (k80 : Nat → Int32 → Int32 → Int32 → Int32 → Int32 → FM → Option (FM)) (hk80 : ∀ (a0 : Nat) (a2 : Int32) (a3 : Int32) (a4 : Int32) (a5 : Int32) (a6 : Int32) (M : FM), WI Z hx N M → Z a0 → pq (k80 a0 a2 a3 a4 a5 a6 M) (QV S Z hx N M)) (a0 : Nat) (a2 : Int32) (a3 : Int32) (a4 : Int32) (M : FM) (w : WI Z hx N M) (z_a0 : Z a0) : pq (FX99_roundTo_16 n k16 k80 a0 a2 a3 a4 M) (QV S Z hx N M) := by
  have hN := w.2.2.1
  have w0 := wk_r (S := S) w
  delta FX99_roundTo_16 BX99_roundTo_16
  refine pq_fi (fun _ => ?_) (fun _ => ?_)
  · refine pq_g (fun g1 => ?_)
    have z2 := wk_z (i := 0) (f := 379) w0 rfl z_a0
    have f3 := sS_379 w0.1.1 g1
    refine pq_b (wX99_bit S Z (sb rfl hS) _ _ _ w0.1 z2) (fun r4 K5 => ?_)
    have w6 := wk_t w0 K5 hN
    refine pq_g (fun g7 => ?_)
    exact q_tV hN w6 (hk80 _ _ _ _ _ _ _ w6.1 z_a0)
  · refine pq_g (fun g8 => ?_)
    refine pq_g (fun g9 => ?_)
    have z10 := wk_z (i := 0) (f := 379) w0 rfl z_a0
    have f11 := sS_379 w0.1.1 g9
    refine pq_b (wX99_bit S Z (sb rfl hS) _ _ _ w0.1 z10) (fun r12 K13 => ?_)
    have w14 := wk_t w0 K13 hN
    refine pq_fi (fun _ => ?_) (fun _ => ?_)
    · exact q_tV hN w14 (wX99_roundTo_49 S Z hS n _ hk16 _ hk80 _ _ _ _ _ _ _ _ w14.1 z_a0 z_a0)
    · exact q_tV hN w14 (wX99_roundTo_49 S Z hS n _ hk16 _ hk80 _ _ _ _ _ _ _ _ w14.1 z_a0 z_a0)
theorem wX99_roundTo_0 (S Z : Nat → Prop) {hx N : Nat} (hS : ∀ x, fe_mem lX99_roundTo x = true → S x) (n : Nat) (k16 : Nat → Int32 → Int32 → Int32 → FM → Option (FM)) (hk16 : ∀ (a0 : Nat) (a2 : Int32) (a3 : Int32) (a4 : Int32) (M : FM), WI Z hx N M → Z a0 → pq (k16 a0 a2 a3 a4 M) (QV S Z hx N M)) (k80 : Nat → Int32 → Int32 → Int32 → Int32 → Int32 → FM → Option (FM)) (hk80 : ∀ (a0 : Nat) (a2 : Int32) (a3 : Int32) (a4 : Int32) (a5 : Int32) (a6 : Int32) (M : FM), WI Z hx N M → Z a0 → pq (k80 a0 a2 a3 a4 a5 a6 M) (QV S Z hx N M)) (a0 : Nat) (a1 : Int32) (a2 : Int32) (M : FM) (w : WI Z hx N M) (z_a0 : Z a0) : pq (FX99_roundTo_0 n k16 k80 a0 a1 a2 M) (QV S Z hx N M) := by
  have hN := w.2.2.1
  have w0 := wk_r (S := S) w
  delta FX99_roundTo_0 BX99_roundTo_0
  refine pq_g (fun g1 => ?_)
  refine pq_g (fun g2 => ?_)
  extract_lets +onlyGivenNames M4
  have w3 : Wk S Z hx N M M4 := wk_fL hN w0 rfl rfl g2 z_a0 (Or.inr (hS 384 rfl))
  exact q_tV hN w3 (hk16 _ _ _ _ _ w3.1 z_a0)
theorem wX99_roundTo_L (S Z : Nat → Prop) {hx N : Nat} (hS : ∀ x, fe_mem lX99_roundTo x = true → S x) (n : Nat) : ∀ j : Nat, (∀ (a0 : Nat) (a2 : Int32) (a3 : Int32) (a4 : Int32) (M : FM), WI Z hx N M → Z a0 → pq ((FX99_roundTo_L n j).1 a0 a2 a3 a4 M) (QV S Z hx N M)) ∧ (∀ (a0 : Nat) (a2 : Int32) (a3 : Int32) (a4 : Int32) (a5 : Int32) (a6 : Int32) (M : FM), WI Z hx N M → Z a0 → pq ((FX99_roundTo_L n j).2 a0 a2 a3 a4 a5 a6 M) (QV S Z hx N M))
  | 0 => ⟨by intros; exact pq_0, by intros; exact pq_0⟩
  | j + 1 => ⟨fun a0 a2 a3 a4 M w => wX99_roundTo_16 S Z hS n _ (wX99_roundTo_L S Z hS n j).1 _ (wX99_roundTo_L S Z hS n j).2 a0 a2 a3 a4 M w, fun a0 a2 a3 a4 a5 a6 M w => wX99_roundTo_80 S Z hS n _ (wX99_roundTo_L S Z hS n j).1 _ (wX99_roundTo_L S Z hS n j).2 a0 a2 a3 a4 a5 a6 M w⟩
theorem wX99_roundTo (S Z : Nat → Prop) {hx N : Nat} (hS : ∀ x, fe_mem lX99_roundTo x = true → S x) (n : Nat) (a0 : Nat) (a1 : Int32) (a2 : Int32) (M : FM) (w : WI Z hx N M) (z_a0 : Z a0) : pq (FX99_roundTo n a0 a1 a2 M) (QV S Z hx N M) := wX99_roundTo_0 S Z hS n _ (wX99_roundTo_L S Z hS n n).1 _ (wX99_roundTo_L S Z hS n n).2 a0 a1 a2 M w z_a0
def lX99_rounded : List Nat := [368, 371, 384, 385]
theorem wX99_rounded_317 (S Z : Nat → Prop) {hx N : Nat} (hS : ∀ x, fe_mem lX99_rounded x = true → S x) (n : Nat) (s0 : Int64) (M : FM) (w : WI Z hx N M) : pq (FX99_rounded_317 n s0 M) (QA S Z hx N M) := by
  have hN := w.2.2.1
  have w0 := wk_r (S := S) w
  delta FX99_rounded_317 BX99_rounded_317
  exact pq_s w0
theorem wX99_rounded_266 (S Z : Nat → Prop) {hx N : Nat} (hS : ∀ x, fe_mem lX99_rounded x = true → S x) (n : Nat) (a0 : Nat) (a1 : Int32) (a3 : Int32) (a6 : Int32) (a8 : Int32) (M : FM) (w : WI Z hx N M) (z_a0 : Z a0) : pq (FX99_rounded_266 n a0 a1 a3 a6 a8 M) (QA S Z hx N M) := by
  have hN := w.2.2.1
  have w0 := wk_r (S := S) w
  delta FX99_rounded_266 BX99_rounded_266
  refine pq_g (fun g1 => ?_)
  refine pq_fi (fun _ => ?_) (fun _ => ?_)
  · refine pq_g (fun g2 => ?_)
    refine pq_g (fun g3 => ?_)
    refine pq_b (wX99_pack S Z (sb rfl hS) _ _ _ _ _ w0.1 ) (fun r4 K5 => ?_)
    have w6 := wk_t w0 K5 hN
    exact q_tA hN w6 (wX99_rounded_317 S Z hS n _ _ w6.1 )
  · refine pq_g (fun g7 => ?_)
    refine pq_g (fun g8 => ?_)
    refine pq_b (wX99_pack S Z (sb rfl hS) _ _ _ _ _ w0.1 ) (fun r9 K10 => ?_)
    have w11 := wk_t w0 K10 hN
    exact q_tA hN w11 (wX99_rounded_317 S Z hS n _ _ w11.1 )
theorem wX99_rounded_263 (S Z : Nat → Prop) {hx N : Nat} (hS : ∀ x, fe_mem lX99_rounded x = true → S x) (n : Nat) (a0 : Nat) (a1 : Int32) (a3 : Int32) (a6 : Int32) (a8 : Int32) (s0 : Nat) (s1 : Int32) (M : FM) (w : WI Z hx N M) (z_a0 : Z a0) (z_s0 : Z s0) : pq (FX99_rounded_263 n a0 a1 a3 a6 a8 s0 s1 M) (QA S Z hx N M) := by
  have hN := w.2.2.1
  have w0 := wk_r (S := S) w
  delta FX99_rounded_263 BX99_rounded_263
  refine pq_g (fun g1 => ?_)
  refine pq_b (wX99_raiseFlags S Z (sb rfl hS) _ _ _ w0.1 z_s0) (fun r2 K3 => ?_)
  have w4 := wk_t w0 K3 hN
  exact q_tA hN w4 (wX99_rounded_266 S Z hS n _ _ _ _ _ _ w4.1 z_a0)
theorem wX99_rounded_244 (S Z : Nat → Prop) {hx N : Nat} (hS : ∀ x, fe_mem lX99_rounded x = true → S x) (n : Nat) (s0 : Int64) (M : FM) (w : WI Z hx N M) : pq (FX99_rounded_244 n s0 M) (QA S Z hx N M) := by
  have hN := w.2.2.1
  have w0 := wk_r (S := S) w
  delta FX99_rounded_244 BX99_rounded_244
  exact pq_s w0
theorem wX99_rounded_196 (S Z : Nat → Prop) {hx N : Nat} (hS : ∀ x, fe_mem lX99_rounded x = true → S x) (n : Nat) (a0 : Nat) (a1 : Int32) (a3 : Int32) (s0 : Int32) (M : FM) (w : WI Z hx N M) (z_a0 : Z a0) : pq (FX99_rounded_196 n a0 a1 a3 s0 M) (QA S Z hx N M) := by
  have hN := w.2.2.1
  have w0 := wk_r (S := S) w
  delta FX99_rounded_196 BX99_rounded_196
  refine pq_fi (fun _ => ?_) (fun _ => ?_)
  · refine pq_g (fun g1 => ?_)
    refine pq_g (fun g2 => ?_)
    have z3 := wk_z (i := 0) (f := 374) w0 rfl z_a0
    have f4 := sS_374 w0.1.1 g2
    refine pq_g (fun g5 => ?_)
    refine pq_b (wX99_pack S Z (sb rfl hS) _ _ _ _ _ w0.1 ) (fun r6 K7 => ?_)
    have w8 := wk_t w0 K7 hN
    exact q_tA hN w8 (wX99_rounded_244 S Z hS n _ _ w8.1 )
  · refine pq_g (fun g9 => ?_)
    refine pq_g (fun g10 => ?_)
    have z11 := wk_z (i := 0) (f := 374) w0 rfl z_a0
    have f12 := sS_374 w0.1.1 g10
    refine pq_g (fun g13 => ?_)
    refine pq_b (wX99_pack S Z (sb rfl hS) _ _ _ _ _ w0.1 ) (fun r14 K15 => ?_)
    have w16 := wk_t w0 K15 hN
    exact q_tA hN w16 (wX99_rounded_244 S Z hS n _ _ w16.1 )
theorem wX99_rounded_191 (S Z : Nat → Prop) {hx N : Nat} (hS : ∀ x, fe_mem lX99_rounded x = true → S x) (n : Nat) (a0 : Nat) (a1 : Int32) (a3 : Int32) (M : FM) (w : WI Z hx N M) (z_a0 : Z a0) : pq (FX99_rounded_191 n a0 a1 a3 M) (QA S Z hx N M) := by
  have hN := w.2.2.1
  have w0 := wk_r (S := S) w
  delta FX99_rounded_191 BX99_rounded_191
  exact q_tA hN w0 (wX99_rounded_196 S Z hS n _ _ _ _ _ w0.1 z_a0)
theorem wX99_rounded_188 (S Z : Nat → Prop) {hx N : Nat} (hS : ∀ x, fe_mem lX99_rounded x = true → S x) (n : Nat) (a0 : Nat) (a1 : Int32) (a3 : Int32) (s0 : Int32) (s1 : Int32) (M : FM) (w : WI Z hx N M) (z_a0 : Z a0) : pq (FX99_rounded_188 n a0 a1 a3 s0 s1 M) (QA S Z hx N M) := by
  have hN := w.2.2.1
  have w0 := wk_r (S := S) w
  delta FX99_rounded_188 BX99_rounded_188
  refine pq_fi (fun _ => ?_) (fun _ => ?_)
  · exact q_tA hN w0 (wX99_rounded_191 S Z hS n _ _ _ _ w0.1 z_a0)
  · exact q_tA hN w0 (wX99_rounded_196 S Z hS n _ _ _ _ _ w0.1 z_a0)
theorem wX99_rounded_151 (S Z : Nat → Prop) {hx N : Nat} (hS : ∀ x, fe_mem lX99_rounded x = true → S x) (n : Nat) (a0 : Nat) (a1 : Int32) (a2 : Int32) (a3 : Int32) (a4 : Int32) (a6 : Int32) (a7 : Int32) (a8 : Int32) (M : FM) (w : WI Z hx N M) (z_a0 : Z a0) : pq (FX99_rounded_151 n a0 a1 a2 a3 a4 a6 a7 a8 M) (QA S Z hx N M) := by
  have hN := w.2.2.1
  have w0 := wk_r (S := S) w
  delta FX99_rounded_151 BX99_rounded_151
  refine pq_fi (fun _ => ?_) (fun _ => ?_)
  · refine pq_g (fun g1 => ?_)
    refine pq_fi (fun _ => ?_) (fun _ => ?_)
    · exact q_tA hN w0 (wX99_rounded_266 S Z hS n _ _ _ _ _ _ w0.1 z_a0)
    · refine pq_fi (fun _ => ?_) (fun _ => ?_)
      · exact q_tA hN w0 (wX99_rounded_263 S Z hS n _ _ _ _ _ _ _ _ w0.1 z_a0 z_a0)
      · exact q_tA hN w0 (wX99_rounded_263 S Z hS n _ _ _ _ _ _ _ _ w0.1 z_a0 z_a0)
  · refine pq_g (fun g2 => ?_)
    refine pq_b (wX99_raiseFlags S Z (sb rfl hS) _ _ _ w0.1 z_a0) (fun r3 K4 => ?_)
    have w5 := wk_t w0 K4 hN
    refine pq_fi (fun _ => ?_) (fun _ => ?_)
    · exact q_tA hN w5 (wX99_rounded_191 S Z hS n _ _ _ _ w5.1 z_a0)
    · refine pq_fi (fun _ => ?_) (fun _ => ?_)
      · exact q_tA hN w5 (wX99_rounded_191 S Z hS n _ _ _ _ w5.1 z_a0)
      · refine pq_g (fun g6 => ?_)
        refine pq_fi (fun _ => ?_) (fun _ => ?_)
        · exact q_tA hN w5 (wX99_rounded_188 S Z hS n _ _ _ _ _ _ w5.1 z_a0)
        · exact q_tA hN w5 (wX99_rounded_188 S Z hS n _ _ _ _ _ _ w5.1 z_a0)
theorem wX99_rounded_126 (S Z : Nat → Prop) {hx N : Nat} (hS : ∀ x, fe_mem lX99_rounded x = true → S x) (n : Nat) (a0 : Nat) (a1 : Int32) (a2 : Int32) (a3 : Int32) (a4 : Int32) (a6 : Int32) (a7 : Int32) (s0 : Int32) (M : FM) (w : WI Z hx N M) (z_a0 : Z a0) : pq (FX99_rounded_126 n a0 a1 a2 a3 a4 a6 a7 s0 M) (QA S Z hx N M) := by
  have hN := w.2.2.1
  have w0 := wk_r (S := S) w
  delta FX99_rounded_126 BX99_rounded_126
  refine pq_g (fun g1 => ?_)
  refine pq_fi (fun _ => ?_) (fun _ => ?_)
  · refine pq_g (fun g2 => ?_)
    extract_lets +onlyGivenNames M4
    have w3 : Wk S Z hx N M M4 := wk_fL hN w0 rfl rfl g2 z_a0 (Or.inr (hS 384 rfl))
    exact q_tA hN w3 (wX99_rounded_151 S Z hS n _ _ _ _ _ _ _ _ _ w3.1 z_a0)
  · exact q_tA hN w0 (wX99_rounded_151 S Z hS n _ _ _ _ _ _ _ _ _ w0.1 z_a0)
theorem wX99_rounded_104 (S Z : Nat → Prop) {hx N : Nat} (hS : ∀ x, fe_mem lX99_rounded x = true → S x) (n : Nat) (a0 : Nat) (a1 : Int32) (a2 : Int32) (a3 : Int32) (a4 : Int32) (a5 : Int32) (a6 : Int32) (a7 : Int32) (s0 : Nat) (s1 : Int32) (M : FM) (w : WI Z hx N M) (z_a0 : Z a0) (z_s0 : Z s0) : pq (FX99_rounded_104 n a0 a1 a2 a3 a4 a5 a6 a7 s0 s1 M) (QA S Z hx N M) := by
  have hN := w.2.2.1
  have w0 := wk_r (S := S) w
  delta FX99_rounded_104 BX99_rounded_104
  refine pq_g (fun g1 => ?_)
  refine pq_b (wX99_roundTo S Z (sb rfl hS) n _ _ _ _ w0.1 z_s0) (fun r2 K3 => ?_)
  have w4 := wk_t w0 K3 hN
  refine pq_fi (fun _ => ?_) (fun _ => ?_)
  · exact q_tA hN w4 (wX99_rounded_126 S Z hS n _ _ _ _ _ _ _ _ _ w4.1 z_a0)
  · exact q_tA hN w4 (wX99_rounded_126 S Z hS n _ _ _ _ _ _ _ _ _ w4.1 z_a0)
theorem wX99_rounded_83 (S Z : Nat → Prop) {hx N : Nat} (hS : ∀ x, fe_mem lX99_rounded x = true → S x) (n : Nat) (a0 : Nat) (a1 : Int32) (a2 : Int32) (a3 : Int32) (a4 : Int32) (a5 : Int32) (a6 : Int32) (s0 : Int32) (M : FM) (w : WI Z hx N M) (z_a0 : Z a0) : pq (FX99_rounded_83 n a0 a1 a2 a3 a4 a5 a6 s0 M) (QA S Z hx N M) := by
  have hN := w.2.2.1
  have w0 := wk_r (S := S) w
  delta FX99_rounded_83 BX99_rounded_83
  refine pq_fi (fun _ => ?_) (fun _ => ?_)
  · exact q_tA hN w0 (wX99_rounded_104 S Z hS n _ _ _ _ _ _ _ _ _ _ _ w0.1 z_a0 z_a0)
  · exact q_tA hN w0 (wX99_rounded_104 S Z hS n _ _ _ _ _ _ _ _ _ _ _ w0.1 z_a0 z_a0)
theorem wX99_rounded_82 (S Z : Nat → Prop) {hx N : Nat} (hS : ∀ x, fe_mem lX99_rounded x = true → S x) (n : Nat) (a0 : Nat) (a1 : Int32) (a2 : Int32) (a3 : Int32) (a4 : Int32) (a5 : Int32) (a6 : Int32) (M : FM) (w : WI Z hx N M) (z_a0 : Z a0) : pq (FX99_rounded_82 n a0 a1 a2 a3 a4 a5 a6 M) (QA S Z hx N M) := by
  have hN := w.2.2.1
  have w0 := wk_r (S := S) w
  delta FX99_rounded_82 BX99_rounded_82
  exact q_tA hN w0 (wX99_rounded_83 S Z hS n _ _ _ _ _ _ _ _ _ w0.1 z_a0)
theorem wX99_rounded_78 (S Z : Nat → Prop) {hx N : Nat} (hS : ∀ x, fe_mem lX99_rounded x = true → S x) (n : Nat) (a0 : Nat) (a1 : Int32) (a2 : Int32) (a3 : Int32) (a4 : Int32) (a5 : Int32) (a6 : Int32) (M : FM) (w : WI Z hx N M) (z_a0 : Z a0) : pq (FX99_rounded_78 n a0 a1 a2 a3 a4 a5 a6 M) (QA S Z hx N M) := by
  have hN := w.2.2.1
  have w0 := wk_r (S := S) w
  delta FX99_rounded_78 BX99_rounded_78
  exact q_tA hN w0 (wX99_rounded_83 S Z hS n _ _ _ _ _ _ _ _ _ w0.1 z_a0)
theorem wX99_rounded_0 (S Z : Nat → Prop) {hx N : Nat} (hS : ∀ x, fe_mem lX99_rounded x = true → S x) (n : Nat) (a0 : Nat) (a1 : Int32) (a2 : Int32) (M : FM) (w : WI Z hx N M) (z_a0 : Z a0) : pq (FX99_rounded_0 n a0 a1 a2 M) (QA S Z hx N M) := by
  have hN := w.2.2.1
  have w0 := wk_r (S := S) w
  delta FX99_rounded_0 BX99_rounded_0
  refine pq_g (fun g1 => ?_)
  have z2 := wk_z (i := 0) (f := 372) w0 rfl z_a0
  have f3 := sS_372 w0.1.1 g1
  refine pq_g (fun g4 => ?_)
  refine pq_g (fun g5 => ?_)
  have z6 := wk_z (i := 0) (f := 373) w0 rfl z_a0
  have f7 := sS_373 w0.1.1 g5
  refine pq_g (fun g8 => ?_)
  refine pq_g (fun g9 => ?_)
  have z10 := wk_z (i := 0) (f := 379) w0 rfl z_a0
  have f11 := sS_379 w0.1.1 g9
  refine pq_b (wX99_length S Z (sb rfl hS) n _ _ w0.1 z10) (fun r12 K13 => ?_)
  have w14 := wk_t w0 K13 hN
  refine pq_g (fun g15 => ?_)
  refine pq_g (fun g16 => ?_)
  refine pq_b (wX99_roundTo S Z (sb rfl hS) n _ _ _ _ w14.1 z_a0) (fun r17 K18 => ?_)
  have w19 := wk_t w14 K18 hN
  refine pq_fi (fun _ => ?_) (fun _ => ?_)
  · exact q_tA hN w19 (wX99_rounded_82 S Z hS n _ _ _ _ _ _ _ _ w19.1 z_a0)
  · refine pq_fi (fun _ => ?_) (fun _ => ?_)
    · refine pq_g (fun g20 => ?_)
      refine pq_fi (fun _ => ?_) (fun _ => ?_)
      · exact q_tA hN w19 (wX99_rounded_82 S Z hS n _ _ _ _ _ _ _ _ w19.1 z_a0)
      · exact q_tA hN w19 (wX99_rounded_78 S Z hS n _ _ _ _ _ _ _ _ w19.1 z_a0)
    · exact q_tA hN w19 (wX99_rounded_78 S Z hS n _ _ _ _ _ _ _ _ w19.1 z_a0)
theorem wX99_rounded (S Z : Nat → Prop) {hx N : Nat} (hS : ∀ x, fe_mem lX99_rounded x = true → S x) (n : Nat) (a0 : Nat) (a1 : Int32) (a2 : Int32) (M : FM) (w : WI Z hx N M) (z_a0 : Z a0) : pq (FX99_rounded n a0 a1 a2 M) (QA S Z hx N M) := wX99_rounded_0 S Z hS n a0 a1 a2 M w z_a0
def lX99_sum : List Nat := [368, 371, 381, 382, 383, 384, 385, 1379, 1380]
theorem wX99_sum_252 (S Z : Nat → Prop) {hx N : Nat} (hS : ∀ x, fe_mem lX99_sum x = true → S x) (n : Nat) (a0 : Nat) (a5 : Int32) (a6 : Int32) (M : FM) (w : WI Z hx N M) (z_a0 : Z a0) : pq (FX99_sum_252 n a0 a5 a6 M) (QA S Z hx N M) := by
  have hN := w.2.2.1
  have w0 := wk_r (S := S) w
  delta FX99_sum_252 BX99_sum_252
  refine pq_g (fun g1 => ?_)
  refine pq_b (wX99_rounded S Z (sb rfl hS) n _ _ _ _ w0.1 z_a0) (fun r2 K3 => ?_)
  have w4 := wk_t w0 K3 hN
  exact pq_s w4
theorem wX99_sum_192 (S Z : Nat → Prop) {hx N : Nat} (hS : ∀ x, fe_mem lX99_sum x = true → S x) (n : Nat) (a0 : Nat) (a1 : Int32) (a3 : Int32) (a5 : Int32) (a6 : Int32) (a8 : Int32) (s0 : Nat) (s1 : Int32) (M : FM) (w : WI Z hx N M) (z_a0 : Z a0) (z_s0 : Z s0) : pq (FX99_sum_192 n a0 a1 a3 a5 a6 a8 s0 s1 M) (QA S Z hx N M) := by
  have hN := w.2.2.1
  have w0 := wk_r (S := S) w
  delta FX99_sum_192 BX99_sum_192
  refine pq_g (fun g1 => ?_)
  extract_lets +onlyGivenNames M3
  have w2 : Wk S Z hx N M M3 := wk_fI hN w0 rfl rfl g1 z_s0 (Or.inr (hS 382 rfl))
  refine pq_fi (fun _ => ?_) (fun _ => ?_)
  · refine pq_g (fun g4 => ?_)
    have z5 := wk_z (i := 0) (f := 379) w2 rfl z_a0
    have f6 := sS_379 w2.1.1 g4
    refine pq_g (fun g7 => ?_)
    have z8 := wk_z (i := 0) (f := 380) w2 rfl z_a0
    have f9 := sS_380 w2.1.1 g7
    refine pq_b (wX99_add S Z (sb rfl hS) n _ _ _ w2.1 z5 z8 (sy_s f6 (hS 1379 rfl))) (fun r10 K11 => ?_)
    have w12 := wk_t w2 K11 hN
    exact q_tA hN w12 (wX99_sum_252 S Z hS n _ _ _ _ w12.1 z_a0)
  · refine pq_fi (fun _ => ?_) (fun _ => ?_)
    · refine pq_g (fun g13 => ?_)
      have z14 := wk_z (i := 0) (f := 380) w2 rfl z_a0
      have f15 := sS_380 w2.1.1 g13
      refine pq_g (fun g16 => ?_)
      have z17 := wk_z (i := 0) (f := 379) w2 rfl z_a0
      have f18 := sS_379 w2.1.1 g16
      refine pq_g (fun g19 => ?_)
      have z20 := wk_z (i := 0) (f := 379) w2 rfl z_a0
      have f21 := sS_379 w2.1.1 g19
      refine pq_b (wX99_subtract S Z (sb rfl hS) n _ _ _ _ w2.1 z14 z17 z20 (sy_s f21 (hS 1379 rfl))) (fun r22 K23 => ?_)
      have w24 := wk_t w2 K23 hN
      exact q_tA hN w24 (wX99_sum_252 S Z hS n _ _ _ _ w24.1 z_a0)
    · refine pq_g (fun g25 => ?_)
      have z26 := wk_z (i := 0) (f := 379) w2 rfl z_a0
      have f27 := sS_379 w2.1.1 g25
      refine pq_g (fun g28 => ?_)
      have z29 := wk_z (i := 0) (f := 380) w2 rfl z_a0
      have f30 := sS_380 w2.1.1 g28
      refine pq_g (fun g31 => ?_)
      have z32 := wk_z (i := 0) (f := 379) w2 rfl z_a0
      have f33 := sS_379 w2.1.1 g31
      refine pq_b (wX99_subtract S Z (sb rfl hS) n _ _ _ _ w2.1 z26 z29 z32 (sy_s f33 (hS 1379 rfl))) (fun r34 K35 => ?_)
      have w36 := wk_t w2 K35 hN
      exact q_tA hN w36 (wX99_sum_252 S Z hS n _ _ _ _ w36.1 z_a0)
theorem wX99_sum_176 (S Z : Nat → Prop) {hx N : Nat} (hS : ∀ x, fe_mem lX99_sum x = true → S x) (n : Nat) (a0 : Nat) (a1 : Int32) (a3 : Int32) (a5 : Int32) (a6 : Int32) (a8 : Int32) (M : FM) (w : WI Z hx N M) (z_a0 : Z a0) : pq (FX99_sum_176 n a0 a1 a3 a5 a6 a8 M) (QA S Z hx N M) := by
  have hN := w.2.2.1
  have w0 := wk_r (S := S) w
  delta FX99_sum_176 BX99_sum_176
  refine pq_g (fun g1 => ?_)
  refine pq_g (fun _ => ?_)
  extract_lets +onlyGivenNames M3
  have w2 : Wk S Z hx N M M3 := wk_fI hN w0 rfl rfl g1 z_a0 (Or.inr (hS 381 rfl))
  refine pq_fi (fun _ => ?_) (fun _ => ?_)
  · exact q_tA hN w2 (wX99_sum_192 S Z hS n _ _ _ _ _ _ _ _ _ w2.1 z_a0 z_a0)
  · exact q_tA hN w2 (wX99_sum_192 S Z hS n _ _ _ _ _ _ _ _ _ w2.1 z_a0 z_a0)
theorem wX99_sum_170 (S Z : Nat → Prop) {hx N : Nat} (hS : ∀ x, fe_mem lX99_sum x = true → S x) (n : Nat) (a5 : Int32) (s0 : Nat) (s1 : Int32) (M : FM) (w : WI Z hx N M) (z_s0 : Z s0) : pq (FX99_sum_170 n a5 s0 s1 M) (QA S Z hx N M) := by
  have hN := w.2.2.1
  have w0 := wk_r (S := S) w
  delta FX99_sum_170 BX99_sum_170
  refine pq_g (fun g1 => ?_)
  refine pq_b (wX99_zero S Z (sb rfl hS) _ _ _ _ w0.1 z_s0) (fun r2 K3 => ?_)
  have w4 := wk_t w0 K3 hN
  exact pq_s w4
theorem wX99_sum_135 (S Z : Nat → Prop) {hx N : Nat} (hS : ∀ x, fe_mem lX99_sum x = true → S x) (n : Nat) (a0 : Nat) (a1 : Int32) (a3 : Int32) (a5 : Int32) (a6 : Int32) (M : FM) (w : WI Z hx N M) (z_a0 : Z a0) : pq (FX99_sum_135 n a0 a1 a3 a5 a6 M) (QA S Z hx N M) := by
  have hN := w.2.2.1
  have w0 := wk_r (S := S) w
  delta FX99_sum_135 BX99_sum_135
  refine pq_g (fun g1 => ?_)
  have z2 := wk_z (i := 0) (f := 379) w0 rfl z_a0
  have f3 := sS_379 w0.1.1 g1
  refine pq_g (fun g4 => ?_)
  have z5 := wk_z (i := 0) (f := 380) w0 rfl z_a0
  have f6 := sS_380 w0.1.1 g4
  refine pq_b (wX99_compare S Z (sb rfl hS) n _ _ _ w0.1 z2 z5) (fun r7 K8 => ?_)
  have w9 := wk_t w0 K8 hN
  refine pq_fi (fun _ => ?_) (fun _ => ?_)
  · exact q_tA hN w9 (wX99_sum_176 S Z hS n _ _ _ _ _ _ _ w9.1 z_a0)
  · refine pq_fi (fun _ => ?_) (fun _ => ?_)
    · refine pq_fi (fun _ => ?_) (fun _ => ?_)
      · exact q_tA hN w9 (wX99_sum_170 S Z hS n _ _ _ _ w9.1 z_a0)
      · exact q_tA hN w9 (wX99_sum_170 S Z hS n _ _ _ _ w9.1 z_a0)
    · exact q_tA hN w9 (wX99_sum_176 S Z hS n _ _ _ _ _ _ _ w9.1 z_a0)
theorem wX99_sum_132 (S Z : Nat → Prop) {hx N : Nat} (hS : ∀ x, fe_mem lX99_sum x = true → S x) (n : Nat) (a0 : Nat) (a1 : Int32) (a3 : Int32) (a5 : Int32) (a6 : Int32) (s0 : Nat) (s1 : Int32) (M : FM) (w : WI Z hx N M) (z_a0 : Z a0) (z_s0 : Z s0) : pq (FX99_sum_132 n a0 a1 a3 a5 a6 s0 s1 M) (QA S Z hx N M) := by
  have hN := w.2.2.1
  have w0 := wk_r (S := S) w
  delta FX99_sum_132 BX99_sum_132
  refine pq_g (fun g1 => ?_)
  extract_lets +onlyGivenNames M3
  have w2 : Wk S Z hx N M M3 := wk_fI hN w0 rfl rfl g1 z_s0 (Or.inr (hS 383 rfl))
  exact q_tA hN w2 (wX99_sum_135 S Z hS n _ _ _ _ _ _ w2.1 z_a0)
theorem wX99_sum_115 (S Z : Nat → Prop) {hx N : Nat} (hS : ∀ x, fe_mem lX99_sum x = true → S x) (n : Nat) (a0 : Nat) (a1 : Int32) (a2 : Int32) (a3 : Int32) (a4 : Int32) (a5 : Int32) (a6 : Int32) (M : FM) (w : WI Z hx N M) (z_a0 : Z a0) : pq (FX99_sum_115 n a0 a1 a2 a3 a4 a5 a6 M) (QA S Z hx N M) := by
  have hN := w.2.2.1
  have w0 := wk_r (S := S) w
  delta FX99_sum_115 BX99_sum_115
  refine pq_g (fun g1 => ?_)
  have z2 := wk_z (i := 0) (f := 379) w0 rfl z_a0
  have f3 := sS_379 w0.1.1 g1
  refine pq_b (wX99_length S Z (sb rfl hS) n _ _ w0.1 z2) (fun r4 K5 => ?_)
  have w6 := wk_t w0 K5 hN
  refine pq_fi (fun _ => ?_) (fun _ => ?_)
  · exact q_tA hN w6 (wX99_sum_132 S Z hS n _ _ _ _ _ _ _ _ w6.1 z_a0 z_a0)
  · exact q_tA hN w6 (wX99_sum_132 S Z hS n _ _ _ _ _ _ _ _ w6.1 z_a0 z_a0)
theorem wX99_sum_82 (S Z : Nat → Prop) {hx N : Nat} (hS : ∀ x, fe_mem lX99_sum x = true → S x) (n : Nat) (a0 : Nat) (a1 : Int32) (a2 : Int32) (a3 : Int32) (a4 : Int32) (a5 : Int32) (a6 : Int32) (s0 : Nat) (s1 : Int32) (M : FM) (w : WI Z hx N M) (z_a0 : Z a0) (z_s0 : Z s0) : pq (FX99_sum_82 n a0 a1 a2 a3 a4 a5 a6 s0 s1 M) (QA S Z hx N M) := by
  have hN := w.2.2.1
  have w0 := wk_r (S := S) w
  delta FX99_sum_82 BX99_sum_82
  refine pq_g (fun g1 => ?_)
  extract_lets +onlyGivenNames M3
  have w2 : Wk S Z hx N M M3 := wk_fI hN w0 rfl rfl g1 z_s0 (Or.inr (hS 383 rfl))
  refine pq_g (fun g4 => ?_)
  have z5 := wk_z (i := 0) (f := 379) w2 rfl z_a0
  have f6 := sS_379 w2.1.1 g4
  refine pq_g (fun g7 => ?_)
  refine pq_b (wX99_raise S Z (sb rfl hS) n _ _ _ w2.1 z5 (sy_s f6 (hS 1379 rfl))) (fun r8 K9 => ?_)
  have w10 := wk_t w2 K9 hN
  refine pq_g (fun g11 => ?_)
  have z12 := wk_z (i := 0) (f := 380) w10 rfl z_a0
  have f13 := sS_380 w10.1.1 g11
  refine pq_g (fun g14 => ?_)
  refine pq_b (wX99_raise S Z (sb rfl hS) n _ _ _ w10.1 z12 (sy_s f13 (hS 1380 rfl))) (fun r15 K16 => ?_)
  have w17 := wk_t w10 K16 hN
  exact q_tA hN w17 (wX99_sum_135 S Z hS n _ _ _ _ _ _ w17.1 z_a0)
theorem wX99_sum_43 (S Z : Nat → Prop) {hx N : Nat} (hS : ∀ x, fe_mem lX99_sum x = true → S x) (n : Nat) (a5 : Int32) (s0 : Nat) (s1 : Int32) (M : FM) (w : WI Z hx N M) (z_s0 : Z s0) : pq (FX99_sum_43 n a5 s0 s1 M) (QA S Z hx N M) := by
  have hN := w.2.2.1
  have w0 := wk_r (S := S) w
  delta FX99_sum_43 BX99_sum_43
  refine pq_g (fun g1 => ?_)
  refine pq_b (wX99_zero S Z (sb rfl hS) _ _ _ _ w0.1 z_s0) (fun r2 K3 => ?_)
  have w4 := wk_t w0 K3 hN
  exact pq_s w4
theorem wX99_sum_0 (S Z : Nat → Prop) {hx N : Nat} (hS : ∀ x, fe_mem lX99_sum x = true → S x) (n : Nat) (a0 : Nat) (a1 : Int32) (a2 : Int32) (a3 : Int32) (a4 : Int32) (a5 : Int32) (a6 : Int32) (M : FM) (w : WI Z hx N M) (z_a0 : Z a0) : pq (FX99_sum_0 n a0 a1 a2 a3 a4 a5 a6 M) (QA S Z hx N M) := by
  have hN := w.2.2.1
  have w0 := wk_r (S := S) w
  delta FX99_sum_0 BX99_sum_0
  refine pq_g (fun g1 => ?_)
  have z2 := wk_z (i := 0) (f := 379) w0 rfl z_a0
  have f3 := sS_379 w0.1.1 g1
  refine pq_b (wX99_length S Z (sb rfl hS) n _ _ w0.1 z2) (fun r4 K5 => ?_)
  have w6 := wk_t w0 K5 hN
  refine pq_g (fun g7 => ?_)
  have z8 := wk_z (i := 0) (f := 380) w6 rfl z_a0
  have f9 := sS_380 w6.1.1 g7
  refine pq_b (wX99_length S Z (sb rfl hS) n _ _ w6.1 z8) (fun r10 K11 => ?_)
  have w12 := wk_t w6 K11 hN
  refine pq_fi (fun _ => ?_) (fun _ => ?_)
  · refine pq_fi (fun _ => ?_) (fun _ => ?_)
    · exact q_tA hN w12 (wX99_sum_43 S Z hS n _ _ _ _ w12.1 z_a0)
    · refine pq_fi (fun _ => ?_) (fun _ => ?_)
      · exact q_tA hN w12 (wX99_sum_43 S Z hS n _ _ _ _ w12.1 z_a0)
      · exact q_tA hN w12 (wX99_sum_43 S Z hS n _ _ _ _ w12.1 z_a0)
  · refine pq_g (fun g13 => ?_)
    have z14 := wk_z (i := 0) (f := 379) w12 rfl z_a0
    have f15 := sS_379 w12.1.1 g13
    refine pq_b (wX99_length S Z (sb rfl hS) n _ _ w12.1 z14) (fun r16 K17 => ?_)
    have w18 := wk_t w12 K17 hN
    refine pq_fi (fun _ => ?_) (fun _ => ?_)
    · exact q_tA hN w18 (wX99_sum_115 S Z hS n _ _ _ _ _ _ _ _ w18.1 z_a0)
    · refine pq_g (fun g19 => ?_)
      have z20 := wk_z (i := 0) (f := 380) w18 rfl z_a0
      have f21 := sS_380 w18.1.1 g19
      refine pq_b (wX99_length S Z (sb rfl hS) n _ _ w18.1 z20) (fun r22 K23 => ?_)
      have w24 := wk_t w18 K23 hN
      refine pq_fi (fun _ => ?_) (fun _ => ?_)
      · exact q_tA hN w24 (wX99_sum_115 S Z hS n _ _ _ _ _ _ _ _ w24.1 z_a0)
      · refine pq_fi (fun _ => ?_) (fun _ => ?_)
        · exact q_tA hN w24 (wX99_sum_82 S Z hS n _ _ _ _ _ _ _ _ _ _ w24.1 z_a0 z_a0)
        · exact q_tA hN w24 (wX99_sum_82 S Z hS n _ _ _ _ _ _ _ _ _ _ w24.1 z_a0 z_a0)
theorem wX99_sum (S Z : Nat → Prop) {hx N : Nat} (hS : ∀ x, fe_mem lX99_sum x = true → S x) (n : Nat) (a0 : Nat) (a1 : Int32) (a2 : Int32) (a3 : Int32) (a4 : Int32) (a5 : Int32) (a6 : Int32) (M : FM) (w : WI Z hx N M) (z_a0 : Z a0) : pq (FX99_sum n a0 a1 a2 a3 a4 a5 a6 M) (QA S Z hx N M) := wX99_sum_0 S Z hS n a0 a1 a2 a3 a4 a5 a6 M w z_a0
def lX99_fused : List Nat := [368, 371, 381, 382, 383, 384, 385, 1379, 1380]
theorem wX99_fused_157 (S Z : Nat → Prop) {hx N : Nat} (hS : ∀ x, fe_mem lX99_fused x = true → S x) (n : Nat) (a0 : Nat) (a3 : Int32) (a8 : Int32) (a9 : Int32) (a10 : Int32) (a11 : Int32) (M : FM) (w : WI Z hx N M) (z_a0 : Z a0) : pq (FX99_fused_157 n a0 a3 a8 a9 a10 a11 M) (QA S Z hx N M) := by
  have hN := w.2.2.1
  have w0 := wk_r (S := S) w
  delta FX99_fused_157 BX99_fused_157
  refine pq_g (fun g1 => ?_)
  refine pq_b (wX99_infiniteSum S Z (sb rfl hS) _ _ _ _ _ _ _ w0.1 z_a0) (fun r2 K3 => ?_)
  have w4 := wk_t w0 K3 hN
  exact pq_s w4
theorem wX99_fused_145 (S Z : Nat → Prop) {hx N : Nat} (hS : ∀ x, fe_mem lX99_fused x = true → S x) (n : Nat) (a0 : Nat) (a3 : Int32) (a4 : Int32) (a8 : Int32) (a9 : Int32) (a10 : Int32) (s0 : Int32) (M : FM) (w : WI Z hx N M) (z_a0 : Z a0) : pq (FX99_fused_145 n a0 a3 a4 a8 a9 a10 s0 M) (QA S Z hx N M) := by
  have hN := w.2.2.1
  have w0 := wk_r (S := S) w
  delta FX99_fused_145 BX99_fused_145
  refine pq_fi (fun _ => ?_) (fun _ => ?_)
  · refine pq_fi (fun _ => ?_) (fun _ => ?_)
    · refine pq_g (fun g1 => ?_)
      have z2 := wk_z (i := 0) (f := 379) w0 rfl z_a0
      have f3 := sS_379 w0.1.1 g1
      refine pq_g (fun g4 => ?_)
      have z5 := wk_z (i := 0) (f := 377) w0 rfl z_a0
      have f6 := sS_377 w0.1.1 g4
      refine pq_g (fun g7 => ?_)
      refine pq_g (fun g8 => ?_)
      have z9 := wk_z (i := 0) (f := 377) w0 rfl z_a0
      have f10 := sS_377 w0.1.1 g8
      refine pq_g (fun g11 => ?_)
      refine pq_b (wX99_multiply S Z (sb rfl hS) n _ _ _ _ w0.1 z2 (sy_s f3 (hS 1379 rfl))) (fun r12 K13 => ?_)
      have w14 := wk_t w0 K13 hN
      refine pq_g (fun g15 => ?_)
      have z16 := wk_z (i := 0) (f := 380) w14 rfl z_a0
      have f17 := sS_380 w14.1.1 g15
      refine pq_g (fun g18 => ?_)
      have z19 := wk_z (i := 0) (f := 377) w14 rfl z_a0
      have f20 := sS_377 w14.1.1 g18
      refine pq_g (fun g21 => ?_)
      refine pq_b (wX99_put S Z (sb rfl hS) n _ _ _ w14.1 z16 (sy_s f17 (hS 1380 rfl))) (fun r22 K23 => ?_)
      have w24 := wk_t w14 K23 hN
      refine pq_g (fun g25 => ?_)
      have z26 := wk_z (i := 0) (f := 378) w24 rfl z_a0
      have f27 := sS_378 w24.1.1 g25
      refine pq_g (fun g28 => ?_)
      refine pq_g (fun g29 => ?_)
      have z30 := wk_z (i := 0) (f := 378) w24 rfl z_a0
      have f31 := sS_378 w24.1.1 g29
      refine pq_g (fun g32 => ?_)
      refine pq_g (fun g33 => ?_)
      have z34 := wk_z (i := 0) (f := 378) w24 rfl z_a0
      have f35 := sS_378 w24.1.1 g33
      refine pq_g (fun g36 => ?_)
      refine pq_g (fun g37 => ?_)
      refine pq_b (wX99_sum S Z (sb rfl hS) n _ _ _ _ _ _ _ _ w24.1 z_a0) (fun r38 K39 => ?_)
      have w40 := wk_t w24 K39 hN
      exact pq_s w40
    · exact q_tA hN w0 (wX99_fused_157 S Z hS n _ _ _ _ _ _ _ w0.1 z_a0)
  · exact q_tA hN w0 (wX99_fused_157 S Z hS n _ _ _ _ _ _ _ w0.1 z_a0)
theorem wX99_fused_128 (S Z : Nat → Prop) {hx N : Nat} (hS : ∀ x, fe_mem lX99_fused x = true → S x) (n : Nat) (a0 : Nat) (a3 : Int32) (a4 : Int32) (a8 : Int32) (a9 : Int32) (s0 : Int32) (M : FM) (w : WI Z hx N M) (z_a0 : Z a0) : pq (FX99_fused_128 n a0 a3 a4 a8 a9 s0 M) (QA S Z hx N M) := by
  have hN := w.2.2.1
  have w0 := wk_r (S := S) w
  delta FX99_fused_128 BX99_fused_128
  refine pq_g (fun g1 => ?_)
  have z2 := wk_z (i := 0) (f := 375) w0 rfl z_a0
  have f3 := sS_375 w0.1.1 g1
  refine pq_g (fun g4 => ?_)
  refine pq_fi (fun _ => ?_) (fun _ => ?_)
  · exact q_tA hN w0 (wX99_fused_145 S Z hS n _ _ _ _ _ _ _ _ w0.1 z_a0)
  · exact q_tA hN w0 (wX99_fused_145 S Z hS n _ _ _ _ _ _ _ _ w0.1 z_a0)
theorem wX99_fused_123 (S Z : Nat → Prop) {hx N : Nat} (hS : ∀ x, fe_mem lX99_fused x = true → S x) (n : Nat) (a0 : Nat) (a3 : Int32) (a4 : Int32) (a8 : Int32) (a9 : Int32) (M : FM) (w : WI Z hx N M) (z_a0 : Z a0) : pq (FX99_fused_123 n a0 a3 a4 a8 a9 M) (QA S Z hx N M) := by
  have hN := w.2.2.1
  have w0 := wk_r (S := S) w
  delta FX99_fused_123 BX99_fused_123
  exact q_tA hN w0 (wX99_fused_128 S Z hS n _ _ _ _ _ _ _ w0.1 z_a0)
theorem wX99_fused_43 (S Z : Nat → Prop) {hx N : Nat} (hS : ∀ x, fe_mem lX99_fused x = true → S x) (n : Nat) (a0 : Nat) (a1 : Int32) (a2 : Int32) (a3 : Int32) (a4 : Int32) (s0 : Int32) (M : FM) (w : WI Z hx N M) (z_a0 : Z a0) : pq (FX99_fused_43 n a0 a1 a2 a3 a4 s0 M) (QA S Z hx N M) := by
  have hN := w.2.2.1
  have w0 := wk_r (S := S) w
  delta FX99_fused_43 BX99_fused_43
  refine pq_fi (fun _ => ?_) (fun _ => ?_)
  · refine pq_g (fun g1 => ?_)
    refine pq_b (wX99_none S Z (sb rfl hS) n _ _ _ _ w0.1 z_a0) (fun r2 K3 => ?_)
    have w4 := wk_t w0 K3 hN
    refine pq_fi (fun _ => ?_) (fun _ => ?_)
    · refine pq_g (fun g5 => ?_)
      have z6 := wk_z (i := 0) (f := 376) w4 rfl z_a0
      have f7 := sS_376 w4.1.1 g5
      refine pq_g (fun g8 => ?_)
      refine pq_g (fun g9 => ?_)
      have z10 := wk_z (i := 0) (f := 376) w4 rfl z_a0
      have f11 := sS_376 w4.1.1 g9
      refine pq_g (fun g12 => ?_)
      refine pq_g (fun g13 => ?_)
      have z14 := wk_z (i := 0) (f := 376) w4 rfl z_a0
      have f15 := sS_376 w4.1.1 g13
      refine pq_g (fun g16 => ?_)
      refine pq_g (fun g17 => ?_)
      have z18 := wk_z (i := 0) (f := 375) w4 rfl z_a0
      have f19 := sS_375 w4.1.1 g17
      refine pq_g (fun g20 => ?_)
      refine pq_fi (fun _ => ?_) (fun _ => ?_)
      · exact q_tA hN w4 (wX99_fused_123 S Z hS n _ _ _ _ _ _ w4.1 z_a0)
      · refine pq_g (fun g21 => ?_)
        have z22 := wk_z (i := 0) (f := 375) w4 rfl z_a0
        have f23 := sS_375 w4.1.1 g21
        refine pq_g (fun g24 => ?_)
        refine pq_fi (fun _ => ?_) (fun _ => ?_)
        · exact q_tA hN w4 (wX99_fused_123 S Z hS n _ _ _ _ _ _ w4.1 z_a0)
        · exact q_tA hN w4 (wX99_fused_128 S Z hS n _ _ _ _ _ _ _ w4.1 z_a0)
    · exact pq_s w4
  · refine pq_g (fun g25 => ?_)
    refine pq_b (wX99_invalid S Z (sb rfl hS) _ _ _ w0.1 z_a0) (fun r26 K27 => ?_)
    have w28 := wk_t w0 K27 hN
    exact pq_s w28
theorem wX99_fused_42 (S Z : Nat → Prop) {hx N : Nat} (hS : ∀ x, fe_mem lX99_fused x = true → S x) (n : Nat) (a0 : Nat) (a1 : Int32) (a2 : Int32) (a3 : Int32) (a4 : Int32) (M : FM) (w : WI Z hx N M) (z_a0 : Z a0) : pq (FX99_fused_42 n a0 a1 a2 a3 a4 M) (QA S Z hx N M) := by
  have hN := w.2.2.1
  have w0 := wk_r (S := S) w
  delta FX99_fused_42 BX99_fused_42
  exact q_tA hN w0 (wX99_fused_43 S Z hS n _ _ _ _ _ _ _ w0.1 z_a0)
theorem wX99_fused_38 (S Z : Nat → Prop) {hx N : Nat} (hS : ∀ x, fe_mem lX99_fused x = true → S x) (n : Nat) (a0 : Nat) (a1 : Int32) (a2 : Int32) (a3 : Int32) (a4 : Int32) (M : FM) (w : WI Z hx N M) (z_a0 : Z a0) : pq (FX99_fused_38 n a0 a1 a2 a3 a4 M) (QA S Z hx N M) := by
  have hN := w.2.2.1
  have w0 := wk_r (S := S) w
  delta FX99_fused_38 BX99_fused_38
  exact q_tA hN w0 (wX99_fused_43 S Z hS n _ _ _ _ _ _ _ w0.1 z_a0)
theorem wX99_fused_19 (S Z : Nat → Prop) {hx N : Nat} (hS : ∀ x, fe_mem lX99_fused x = true → S x) (n : Nat) (a0 : Nat) (a1 : Int32) (a2 : Int32) (a3 : Int32) (a4 : Int32) (M : FM) (w : WI Z hx N M) (z_a0 : Z a0) : pq (FX99_fused_19 n a0 a1 a2 a3 a4 M) (QA S Z hx N M) := by
  have hN := w.2.2.1
  have w0 := wk_r (S := S) w
  delta FX99_fused_19 BX99_fused_19
  refine pq_g (fun g1 => ?_)
  have z2 := wk_z (i := 0) (f := 375) w0 rfl z_a0
  have f3 := sS_375 w0.1.1 g1
  refine pq_g (fun g4 => ?_)
  refine pq_fi (fun _ => ?_) (fun _ => ?_)
  · refine pq_g (fun g5 => ?_)
    have z6 := wk_z (i := 0) (f := 375) w0 rfl z_a0
    have f7 := sS_375 w0.1.1 g5
    refine pq_g (fun g8 => ?_)
    refine pq_fi (fun _ => ?_) (fun _ => ?_)
    · exact q_tA hN w0 (wX99_fused_38 S Z hS n _ _ _ _ _ _ w0.1 z_a0)
    · exact q_tA hN w0 (wX99_fused_42 S Z hS n _ _ _ _ _ _ w0.1 z_a0)
  · exact q_tA hN w0 (wX99_fused_42 S Z hS n _ _ _ _ _ _ w0.1 z_a0)
theorem wX99_fused_0 (S Z : Nat → Prop) {hx N : Nat} (hS : ∀ x, fe_mem lX99_fused x = true → S x) (n : Nat) (a0 : Nat) (a1 : Int32) (a2 : Int32) (a3 : Int32) (a4 : Int32) (M : FM) (w : WI Z hx N M) (z_a0 : Z a0) : pq (FX99_fused_0 n a0 a1 a2 a3 a4 M) (QA S Z hx N M) := by
  have hN := w.2.2.1
  have w0 := wk_r (S := S) w
  delta FX99_fused_0 BX99_fused_0
  refine pq_g (fun g1 => ?_)
  have z2 := wk_z (i := 0) (f := 375) w0 rfl z_a0
  have f3 := sS_375 w0.1.1 g1
  refine pq_g (fun g4 => ?_)
  refine pq_fi (fun _ => ?_) (fun _ => ?_)
  · refine pq_g (fun g5 => ?_)
    have z6 := wk_z (i := 0) (f := 375) w0 rfl z_a0
    have f7 := sS_375 w0.1.1 g5
    refine pq_g (fun g8 => ?_)
    refine pq_fi (fun _ => ?_) (fun _ => ?_)
    · exact q_tA hN w0 (wX99_fused_38 S Z hS n _ _ _ _ _ _ w0.1 z_a0)
    · exact q_tA hN w0 (wX99_fused_19 S Z hS n _ _ _ _ _ _ w0.1 z_a0)
  · exact q_tA hN w0 (wX99_fused_19 S Z hS n _ _ _ _ _ _ w0.1 z_a0)
theorem wX99_fused (S Z : Nat → Prop) {hx N : Nat} (hS : ∀ x, fe_mem lX99_fused x = true → S x) (n : Nat) (a0 : Nat) (a1 : Int32) (a2 : Int32) (a3 : Int32) (a4 : Int32) (M : FM) (w : WI Z hx N M) (z_a0 : Z a0) : pq (FX99_fused n a0 a1 a2 a3 a4 M) (QA S Z hx N M) := wX99_fused_0 S Z hS n a0 a1 a2 a3 a4 M w z_a0
def lX99_write : List Nat := [371, 1367]
theorem wX99_write_20 (S Z : Nat → Prop) {hx N : Nat} (hS : ∀ x, fe_mem lX99_write x = true → S x) (a0 : Nat) (s0 : Nat) (s1 : Int32) (s2 : Int64) (M : FM) (w : WI Z hx N M) (z_a0 : Z a0) (z_s0 : Z s0) (y_s0 : Sy S N M s0) : pq (FX99_write_20 a0 s0 s1 s2 M) (QA S Z hx N M) := by
  have hN := w.2.2.1
  have w0 := wk_r (S := S) w
  delta FX99_write_20 BX99_write_20
  refine pq_g (fun g1 => ?_)
  extract_lets +onlyGivenNames M3
  have w2 : Wk S Z hx N M M3 := wk_aL hN w0 rfl g1.1 z_s0 y_s0
  refine pq_g (fun g4 => ?_)
  refine pq_g (fun _ => ?_)
  extract_lets +onlyGivenNames M6
  have w5 : Wk S Z hx N M M6 := wk_fI hN w2 rfl rfl g4 z_a0 (Or.inr (hS 371 rfl))
  exact pq_s w5
theorem wX99_write_0 (S Z : Nat → Prop) {hx N : Nat} (hS : ∀ x, fe_mem lX99_write x = true → S x) (a0 : Nat) (a1 : Int32) (a2 : Int64) (a4 : Int32) (M : FM) (w : WI Z hx N M) (z_a0 : Z a0) : pq (FX99_write_0 a0 a1 a2 a4 M) (QA S Z hx N M) := by
  have hN := w.2.2.1
  have w0 := wk_r (S := S) w
  delta FX99_write_0 BX99_write_0
  refine pq_g (fun g1 => ?_)
  have z2 := wk_z (i := 0) (f := 367) w0 rfl z_a0
  have f3 := sS_367 w0.1.1 g1
  refine pq_fi (fun _ => ?_) (fun _ => ?_)
  · exact q_tA hN w0 (wX99_write_20 S Z hS _ _ _ _ _ w0.1 z_a0 z2 (sy_s f3 (hS 1367 rfl)))
  · exact q_tA hN w0 (wX99_write_20 S Z hS _ _ _ _ _ w0.1 z_a0 z2 (sy_s f3 (hS 1367 rfl)))
theorem wX99_write (S Z : Nat → Prop) {hx N : Nat} (hS : ∀ x, fe_mem lX99_write x = true → S x) (a0 : Nat) (a1 : Int32) (a2 : Int64) (a4 : Int32) (M : FM) (w : WI Z hx N M) (z_a0 : Z a0) : pq (FX99_write a0 a1 a2 a4 M) (QA S Z hx N M) := wX99_write_0 S Z hS a0 a1 a2 a4 M w z_a0
def lX99_added : List Nat := [368, 371, 381, 382, 383, 384, 385, 1379, 1380]
theorem wX99_added_74 (S Z : Nat → Prop) {hx N : Nat} (hS : ∀ x, fe_mem lX99_added x = true → S x) (n : Nat) (a0 : Nat) (a2 : Int32) (a6 : Int32) (a7 : Int32) (a8 : Int32) (M : FM) (w : WI Z hx N M) (z_a0 : Z a0) : pq (FX99_added_74 n a0 a2 a6 a7 a8 M) (QA S Z hx N M) := by
  have hN := w.2.2.1
  have w0 := wk_r (S := S) w
  delta FX99_added_74 BX99_added_74
  refine pq_g (fun g1 => ?_)
  have z2 := wk_z (i := 0) (f := 376) w0 rfl z_a0
  have f3 := sS_376 w0.1.1 g1
  refine pq_g (fun g4 => ?_)
  refine pq_g (fun g5 => ?_)
  refine pq_b (wX99_infiniteSum S Z (sb rfl hS) _ _ _ _ _ _ _ w0.1 z_a0) (fun r6 K7 => ?_)
  have w8 := wk_t w0 K7 hN
  exact pq_s w8
theorem wX99_added_62 (S Z : Nat → Prop) {hx N : Nat} (hS : ∀ x, fe_mem lX99_added x = true → S x) (n : Nat) (a0 : Nat) (a2 : Int32) (a3 : Int32) (a6 : Int32) (a7 : Int32) (s0 : Int32) (M : FM) (w : WI Z hx N M) (z_a0 : Z a0) : pq (FX99_added_62 n a0 a2 a3 a6 a7 s0 M) (QA S Z hx N M) := by
  have hN := w.2.2.1
  have w0 := wk_r (S := S) w
  delta FX99_added_62 BX99_added_62
  refine pq_fi (fun _ => ?_) (fun _ => ?_)
  · refine pq_fi (fun _ => ?_) (fun _ => ?_)
    · refine pq_g (fun g1 => ?_)
      have z2 := wk_z (i := 0) (f := 379) w0 rfl z_a0
      have f3 := sS_379 w0.1.1 g1
      refine pq_g (fun g4 => ?_)
      have z5 := wk_z (i := 0) (f := 377) w0 rfl z_a0
      have f6 := sS_377 w0.1.1 g4
      refine pq_g (fun g7 => ?_)
      refine pq_b (wX99_put S Z (sb rfl hS) n _ _ _ w0.1 z2 (sy_s f3 (hS 1379 rfl))) (fun r8 K9 => ?_)
      have w10 := wk_t w0 K9 hN
      refine pq_g (fun g11 => ?_)
      have z12 := wk_z (i := 0) (f := 380) w10 rfl z_a0
      have f13 := sS_380 w10.1.1 g11
      refine pq_g (fun g14 => ?_)
      have z15 := wk_z (i := 0) (f := 377) w10 rfl z_a0
      have f16 := sS_377 w10.1.1 g14
      refine pq_g (fun g17 => ?_)
      refine pq_b (wX99_put S Z (sb rfl hS) n _ _ _ w10.1 z12 (sy_s f13 (hS 1380 rfl))) (fun r18 K19 => ?_)
      have w20 := wk_t w10 K19 hN
      refine pq_g (fun g21 => ?_)
      have z22 := wk_z (i := 0) (f := 376) w20 rfl z_a0
      have f23 := sS_376 w20.1.1 g21
      refine pq_g (fun g24 => ?_)
      refine pq_g (fun g25 => ?_)
      have z26 := wk_z (i := 0) (f := 378) w20 rfl z_a0
      have f27 := sS_378 w20.1.1 g25
      refine pq_g (fun g28 => ?_)
      refine pq_g (fun g29 => ?_)
      have z30 := wk_z (i := 0) (f := 378) w20 rfl z_a0
      have f31 := sS_378 w20.1.1 g29
      refine pq_g (fun g32 => ?_)
      refine pq_g (fun g33 => ?_)
      refine pq_b (wX99_sum S Z (sb rfl hS) n _ _ _ _ _ _ _ _ w20.1 z_a0) (fun r34 K35 => ?_)
      have w36 := wk_t w20 K35 hN
      exact pq_s w36
    · exact q_tA hN w0 (wX99_added_74 S Z hS n _ _ _ _ _ _ w0.1 z_a0)
  · exact q_tA hN w0 (wX99_added_74 S Z hS n _ _ _ _ _ _ w0.1 z_a0)
theorem wX99_added_45 (S Z : Nat → Prop) {hx N : Nat} (hS : ∀ x, fe_mem lX99_added x = true → S x) (n : Nat) (a0 : Nat) (a2 : Int32) (a3 : Int32) (a6 : Int32) (s0 : Int32) (M : FM) (w : WI Z hx N M) (z_a0 : Z a0) : pq (FX99_added_45 n a0 a2 a3 a6 s0 M) (QA S Z hx N M) := by
  have hN := w.2.2.1
  have w0 := wk_r (S := S) w
  delta FX99_added_45 BX99_added_45
  refine pq_g (fun g1 => ?_)
  have z2 := wk_z (i := 0) (f := 375) w0 rfl z_a0
  have f3 := sS_375 w0.1.1 g1
  refine pq_g (fun g4 => ?_)
  refine pq_fi (fun _ => ?_) (fun _ => ?_)
  · exact q_tA hN w0 (wX99_added_62 S Z hS n _ _ _ _ _ _ _ w0.1 z_a0)
  · exact q_tA hN w0 (wX99_added_62 S Z hS n _ _ _ _ _ _ _ w0.1 z_a0)
theorem wX99_added_0 (S Z : Nat → Prop) {hx N : Nat} (hS : ∀ x, fe_mem lX99_added x = true → S x) (n : Nat) (a0 : Nat) (a1 : Int32) (a2 : Int32) (a3 : Int32) (M : FM) (w : WI Z hx N M) (z_a0 : Z a0) : pq (FX99_added_0 n a0 a1 a2 a3 M) (QA S Z hx N M) := by
  have hN := w.2.2.1
  have w0 := wk_r (S := S) w
  delta FX99_added_0 BX99_added_0
  refine pq_g (fun g1 => ?_)
  refine pq_b (wX99_none S Z (sb rfl hS) n _ _ _ _ w0.1 z_a0) (fun r2 K3 => ?_)
  have w4 := wk_t w0 K3 hN
  refine pq_fi (fun _ => ?_) (fun _ => ?_)
  · refine pq_g (fun g5 => ?_)
    have z6 := wk_z (i := 0) (f := 376) w4 rfl z_a0
    have f7 := sS_376 w4.1.1 g5
    refine pq_g (fun g8 => ?_)
    refine pq_g (fun g9 => ?_)
    have z10 := wk_z (i := 0) (f := 375) w4 rfl z_a0
    have f11 := sS_375 w4.1.1 g9
    refine pq_g (fun g12 => ?_)
    refine pq_fi (fun _ => ?_) (fun _ => ?_)
    · exact q_tA hN w4 (wX99_added_45 S Z hS n _ _ _ _ _ _ w4.1 z_a0)
    · exact q_tA hN w4 (wX99_added_45 S Z hS n _ _ _ _ _ _ w4.1 z_a0)
  · exact pq_s w4
theorem wX99_added (S Z : Nat → Prop) {hx N : Nat} (hS : ∀ x, fe_mem lX99_added x = true → S x) (n : Nat) (a0 : Nat) (a1 : Int32) (a2 : Int32) (a3 : Int32) (M : FM) (w : WI Z hx N M) (z_a0 : Z a0) : pq (FX99_added n a0 a1 a2 a3 M) (QA S Z hx N M) := wX99_added_0 S Z hS n a0 a1 a2 a3 M w z_a0
def lX99_multiplied : List Nat := [368, 371, 381, 382, 383, 384, 385, 1379]
theorem wX99_multiplied_139 (S Z : Nat → Prop) {hx N : Nat} (hS : ∀ x, fe_mem lX99_multiplied x = true → S x) (n : Nat) (s0 : Int64) (M : FM) (w : WI Z hx N M) : pq (FX99_multiplied_139 n s0 M) (QA S Z hx N M) := by
  have hN := w.2.2.1
  have w0 := wk_r (S := S) w
  delta FX99_multiplied_139 BX99_multiplied_139
  exact pq_s w0
theorem wX99_multiplied_110 (S Z : Nat → Prop) {hx N : Nat} (hS : ∀ x, fe_mem lX99_multiplied x = true → S x) (n : Nat) (a0 : Nat) (a1 : Int32) (a5 : Int32) (a6 : Int32) (M : FM) (w : WI Z hx N M) (z_a0 : Z a0) : pq (FX99_multiplied_110 n a0 a1 a5 a6 M) (QA S Z hx N M) := by
  have hN := w.2.2.1
  have w0 := wk_r (S := S) w
  delta FX99_multiplied_110 BX99_multiplied_110
  refine pq_fi (fun _ => ?_) (fun _ => ?_)
  · refine pq_g (fun g1 => ?_)
    refine pq_b (wX99_zero S Z (sb rfl hS) _ _ _ _ w0.1 z_a0) (fun r2 K3 => ?_)
    have w4 := wk_t w0 K3 hN
    exact q_tA hN w4 (wX99_multiplied_139 S Z hS n _ _ w4.1 )
  · refine pq_g (fun g5 => ?_)
    have z6 := wk_z (i := 0) (f := 374) w0 rfl z_a0
    have f7 := sS_374 w0.1.1 g5
    refine pq_g (fun g8 => ?_)
    refine pq_b (wX99_pack S Z (sb rfl hS) _ _ _ _ _ w0.1 ) (fun r9 K10 => ?_)
    have w11 := wk_t w0 K10 hN
    exact q_tA hN w11 (wX99_multiplied_139 S Z hS n _ _ w11.1 )
theorem wX99_multiplied_100 (S Z : Nat → Prop) {hx N : Nat} (hS : ∀ x, fe_mem lX99_multiplied x = true → S x) (n : Nat) (a0 : Nat) (a1 : Int32) (a2 : Int32) (a5 : Int32) (a6 : Int32) (a7 : Int32) (M : FM) (w : WI Z hx N M) (z_a0 : Z a0) : pq (FX99_multiplied_100 n a0 a1 a2 a5 a6 a7 M) (QA S Z hx N M) := by
  have hN := w.2.2.1
  have w0 := wk_r (S := S) w
  delta FX99_multiplied_100 BX99_multiplied_100
  refine pq_fi (fun _ => ?_) (fun _ => ?_)
  · refine pq_fi (fun _ => ?_) (fun _ => ?_)
    · refine pq_g (fun g1 => ?_)
      have z2 := wk_z (i := 0) (f := 379) w0 rfl z_a0
      have f3 := sS_379 w0.1.1 g1
      refine pq_g (fun g4 => ?_)
      have z5 := wk_z (i := 0) (f := 377) w0 rfl z_a0
      have f6 := sS_377 w0.1.1 g4
      refine pq_g (fun g7 => ?_)
      refine pq_g (fun g8 => ?_)
      have z9 := wk_z (i := 0) (f := 377) w0 rfl z_a0
      have f10 := sS_377 w0.1.1 g8
      refine pq_g (fun g11 => ?_)
      refine pq_b (wX99_multiply S Z (sb rfl hS) n _ _ _ _ w0.1 z2 (sy_s f3 (hS 1379 rfl))) (fun r12 K13 => ?_)
      have w14 := wk_t w0 K13 hN
      refine pq_g (fun g15 => ?_)
      have z16 := wk_z (i := 0) (f := 378) w14 rfl z_a0
      have f17 := sS_378 w14.1.1 g15
      refine pq_g (fun g18 => ?_)
      refine pq_g (fun g19 => ?_)
      have z20 := wk_z (i := 0) (f := 378) w14 rfl z_a0
      have f21 := sS_378 w14.1.1 g19
      refine pq_g (fun g22 => ?_)
      refine pq_g (fun g23 => ?_)
      extract_lets +onlyGivenNames M25
      have w24 : Wk S Z hx N M M25 := wk_fI hN w14 rfl rfl g23 z_a0 (Or.inr (hS 383 rfl))
      refine pq_g (fun g26 => ?_)
      extract_lets +onlyGivenNames M28
      have w27 : Wk S Z hx N M M28 := wk_fI hN w24 rfl rfl g26 z_a0 (Or.inr (hS 382 rfl))
      refine pq_g (fun g29 => ?_)
      refine pq_g (fun _ => ?_)
      extract_lets +onlyGivenNames M31
      have w30 : Wk S Z hx N M M31 := wk_fI hN w27 rfl rfl g29 z_a0 (Or.inr (hS 381 rfl))
      refine pq_g (fun g32 => ?_)
      refine pq_b (wX99_rounded S Z (sb rfl hS) n _ _ _ _ w30.1 z_a0) (fun r33 K34 => ?_)
      have w35 := wk_t w30 K34 hN
      exact pq_s w35
    · exact q_tA hN w0 (wX99_multiplied_110 S Z hS n _ _ _ _ _ w0.1 z_a0)
  · exact q_tA hN w0 (wX99_multiplied_110 S Z hS n _ _ _ _ _ w0.1 z_a0)
theorem wX99_multiplied_82 (S Z : Nat → Prop) {hx N : Nat} (hS : ∀ x, fe_mem lX99_multiplied x = true → S x) (n : Nat) (a0 : Nat) (a1 : Int32) (a2 : Int32) (a5 : Int32) (a6 : Int32) (s0 : Int32) (M : FM) (w : WI Z hx N M) (z_a0 : Z a0) : pq (FX99_multiplied_82 n a0 a1 a2 a5 a6 s0 M) (QA S Z hx N M) := by
  have hN := w.2.2.1
  have w0 := wk_r (S := S) w
  delta FX99_multiplied_82 BX99_multiplied_82
  refine pq_fi (fun _ => ?_) (fun _ => ?_)
  · exact q_tA hN w0 (wX99_multiplied_100 S Z hS n _ _ _ _ _ _ _ w0.1 z_a0)
  · refine pq_fi (fun _ => ?_) (fun _ => ?_)
    · exact q_tA hN w0 (wX99_multiplied_100 S Z hS n _ _ _ _ _ _ _ w0.1 z_a0)
    · refine pq_g (fun g1 => ?_)
      refine pq_b (wX99_invalid S Z (sb rfl hS) _ _ _ w0.1 z_a0) (fun r2 K3 => ?_)
      have w4 := wk_t w0 K3 hN
      exact pq_s w4
theorem wX99_multiplied_77 (S Z : Nat → Prop) {hx N : Nat} (hS : ∀ x, fe_mem lX99_multiplied x = true → S x) (n : Nat) (a0 : Nat) (a1 : Int32) (a2 : Int32) (a5 : Int32) (a6 : Int32) (M : FM) (w : WI Z hx N M) (z_a0 : Z a0) : pq (FX99_multiplied_77 n a0 a1 a2 a5 a6 M) (QA S Z hx N M) := by
  have hN := w.2.2.1
  have w0 := wk_r (S := S) w
  delta FX99_multiplied_77 BX99_multiplied_77
  exact q_tA hN w0 (wX99_multiplied_82 S Z hS n _ _ _ _ _ _ _ w0.1 z_a0)
theorem wX99_multiplied_57 (S Z : Nat → Prop) {hx N : Nat} (hS : ∀ x, fe_mem lX99_multiplied x = true → S x) (n : Nat) (a0 : Nat) (a1 : Int32) (a2 : Int32) (a5 : Int32) (s0 : Int32) (M : FM) (w : WI Z hx N M) (z_a0 : Z a0) : pq (FX99_multiplied_57 n a0 a1 a2 a5 s0 M) (QA S Z hx N M) := by
  have hN := w.2.2.1
  have w0 := wk_r (S := S) w
  delta FX99_multiplied_57 BX99_multiplied_57
  refine pq_g (fun g1 => ?_)
  have z2 := wk_z (i := 0) (f := 375) w0 rfl z_a0
  have f3 := sS_375 w0.1.1 g1
  refine pq_g (fun g4 => ?_)
  refine pq_fi (fun _ => ?_) (fun _ => ?_)
  · exact q_tA hN w0 (wX99_multiplied_77 S Z hS n _ _ _ _ _ _ w0.1 z_a0)
  · refine pq_g (fun g5 => ?_)
    have z6 := wk_z (i := 0) (f := 375) w0 rfl z_a0
    have f7 := sS_375 w0.1.1 g5
    refine pq_g (fun g8 => ?_)
    refine pq_fi (fun _ => ?_) (fun _ => ?_)
    · exact q_tA hN w0 (wX99_multiplied_77 S Z hS n _ _ _ _ _ _ w0.1 z_a0)
    · exact q_tA hN w0 (wX99_multiplied_82 S Z hS n _ _ _ _ _ _ _ w0.1 z_a0)
theorem wX99_multiplied_52 (S Z : Nat → Prop) {hx N : Nat} (hS : ∀ x, fe_mem lX99_multiplied x = true → S x) (n : Nat) (a0 : Nat) (a1 : Int32) (a2 : Int32) (a5 : Int32) (M : FM) (w : WI Z hx N M) (z_a0 : Z a0) : pq (FX99_multiplied_52 n a0 a1 a2 a5 M) (QA S Z hx N M) := by
  have hN := w.2.2.1
  have w0 := wk_r (S := S) w
  delta FX99_multiplied_52 BX99_multiplied_52
  exact q_tA hN w0 (wX99_multiplied_57 S Z hS n _ _ _ _ _ _ w0.1 z_a0)
theorem wX99_multiplied_0 (S Z : Nat → Prop) {hx N : Nat} (hS : ∀ x, fe_mem lX99_multiplied x = true → S x) (n : Nat) (a0 : Nat) (a1 : Int32) (a2 : Int32) (M : FM) (w : WI Z hx N M) (z_a0 : Z a0) : pq (FX99_multiplied_0 n a0 a1 a2 M) (QA S Z hx N M) := by
  have hN := w.2.2.1
  have w0 := wk_r (S := S) w
  delta FX99_multiplied_0 BX99_multiplied_0
  refine pq_g (fun g1 => ?_)
  refine pq_b (wX99_none S Z (sb rfl hS) n _ _ _ _ w0.1 z_a0) (fun r2 K3 => ?_)
  have w4 := wk_t w0 K3 hN
  refine pq_fi (fun _ => ?_) (fun _ => ?_)
  · refine pq_g (fun g5 => ?_)
    have z6 := wk_z (i := 0) (f := 376) w4 rfl z_a0
    have f7 := sS_376 w4.1.1 g5
    refine pq_g (fun g8 => ?_)
    refine pq_g (fun g9 => ?_)
    have z10 := wk_z (i := 0) (f := 376) w4 rfl z_a0
    have f11 := sS_376 w4.1.1 g9
    refine pq_g (fun g12 => ?_)
    refine pq_g (fun g13 => ?_)
    have z14 := wk_z (i := 0) (f := 375) w4 rfl z_a0
    have f15 := sS_375 w4.1.1 g13
    refine pq_g (fun g16 => ?_)
    refine pq_fi (fun _ => ?_) (fun _ => ?_)
    · exact q_tA hN w4 (wX99_multiplied_52 S Z hS n _ _ _ _ _ w4.1 z_a0)
    · refine pq_g (fun g17 => ?_)
      have z18 := wk_z (i := 0) (f := 375) w4 rfl z_a0
      have f19 := sS_375 w4.1.1 g17
      refine pq_g (fun g20 => ?_)
      refine pq_fi (fun _ => ?_) (fun _ => ?_)
      · exact q_tA hN w4 (wX99_multiplied_52 S Z hS n _ _ _ _ _ w4.1 z_a0)
      · exact q_tA hN w4 (wX99_multiplied_57 S Z hS n _ _ _ _ _ _ w4.1 z_a0)
  · exact pq_s w4
theorem wX99_multiplied (S Z : Nat → Prop) {hx N : Nat} (hS : ∀ x, fe_mem lX99_multiplied x = true → S x) (n : Nat) (a0 : Nat) (a1 : Int32) (a2 : Int32) (M : FM) (w : WI Z hx N M) (z_a0 : Z a0) : pq (FX99_multiplied n a0 a1 a2 M) (QA S Z hx N M) := wX99_multiplied_0 S Z hS n a0 a1 a2 M w z_a0
def lX99_divided : List Nat := [368, 371, 381, 382, 383, 384, 385, 1379, 1380]
theorem wX99_divided_279 (S Z : Nat → Prop) {hx N : Nat} (hS : ∀ x, fe_mem lX99_divided x = true → S x) (n : Nat) (k178 : Nat → Int32 → Int32 → Int32 → Int64 → Int32 → FM → Option (Int64 × FM)) (hk178 : ∀ (a0 : Nat) (a1 : Int32) (a2 : Int32) (a5 : Int32) (a6 : Int64) (a8 : Int32) (M : FM), WI Z hx N M → Z a0 → pq (k178 a0 a1 a2 a5 a6 a8 M) (QA S Z hx N M)) (a0 : Nat) (a1 : Int32) (a2 : Int32) (a5 : Int32) (s0 : Nat) (s1 : Int32) (M : FM) (w : WI Z hx N M) (z_a0 : Z a0) (z_s0 : Z s0) : pq (FX99_divided_279 n k178 a0 a1 a2 a5 s0 s1 M) (QA S Z hx N M) := by
  have hN := w.2.2.1
  have w0 := wk_r (S := S) w
  delta FX99_divided_279 BX99_divided_279
  refine pq_g (fun g1 => ?_)
  refine pq_g (fun _ => ?_)
  extract_lets +onlyGivenNames M3
  have w2 : Wk S Z hx N M M3 := wk_fI hN w0 rfl rfl g1 z_s0 (Or.inr (hS 381 rfl))
  refine pq_g (fun g4 => ?_)
  extract_lets +onlyGivenNames M6
  have w5 : Wk S Z hx N M M6 := wk_fI hN w2 rfl rfl g4 z_a0 (Or.inr (hS 382 rfl))
  refine pq_g (fun g7 => ?_)
  have z8 := wk_z (i := 0) (f := 378) w5 rfl z_a0
  have f9 := sS_378 w5.1.1 g7
  refine pq_g (fun g10 => ?_)
  refine pq_g (fun g11 => ?_)
  have z12 := wk_z (i := 0) (f := 378) w5 rfl z_a0
  have f13 := sS_378 w5.1.1 g11
  refine pq_g (fun g14 => ?_)
  refine pq_g (fun g15 => ?_)
  extract_lets +onlyGivenNames M17
  have w16 : Wk S Z hx N M M17 := wk_fI hN w5 rfl rfl g15 z_a0 (Or.inr (hS 383 rfl))
  refine pq_g (fun g18 => ?_)
  refine pq_b (wX99_rounded S Z (sb rfl hS) n _ _ _ _ w16.1 z_a0) (fun r19 K20 => ?_)
  have w21 := wk_t w16 K20 hN
  exact pq_s w21
theorem wX99_divided_260 (S Z : Nat → Prop) {hx N : Nat} (hS : ∀ x, fe_mem lX99_divided x = true → S x) (n : Nat) (k178 : Nat → Int32 → Int32 → Int32 → Int64 → Int32 → FM → Option (Int64 × FM)) (hk178 : ∀ (a0 : Nat) (a1 : Int32) (a2 : Int32) (a5 : Int32) (a6 : Int64) (a8 : Int32) (M : FM), WI Z hx N M → Z a0 → pq (k178 a0 a1 a2 a5 a6 a8 M) (QA S Z hx N M)) (a0 : Nat) (a1 : Int32) (a2 : Int32) (a5 : Int32) (a6 : Int64) (a8 : Int32) (M : FM) (w : WI Z hx N M) (z_a0 : Z a0) : pq (FX99_divided_260 n k178 a0 a1 a2 a5 a6 a8 M) (QA S Z hx N M) := by
  have hN := w.2.2.1
  have w0 := wk_r (S := S) w
  delta FX99_divided_260 BX99_divided_260
  exact q_tA hN w0 (hk178 _ _ _ _ _ _ _ w0.1 z_a0)
theorem wX99_divided_206 (S Z : Nat → Prop) {hx N : Nat} (hS : ∀ x, fe_mem lX99_divided x = true → S x) (n : Nat) (k178 : Nat → Int32 → Int32 → Int32 → Int64 → Int32 → FM → Option (Int64 × FM)) (hk178 : ∀ (a0 : Nat) (a1 : Int32) (a2 : Int32) (a5 : Int32) (a6 : Int64) (a8 : Int32) (M : FM), WI Z hx N M → Z a0 → pq (k178 a0 a1 a2 a5 a6 a8 M) (QA S Z hx N M)) (a0 : Nat) (a1 : Int32) (a2 : Int32) (a5 : Int32) (a8 : Int32) (s0 : Int64) (s1 : Int64) (M : FM) (w : WI Z hx N M) (z_a0 : Z a0) : pq (FX99_divided_206 n k178 a0 a1 a2 a5 a8 s0 s1 M) (QA S Z hx N M) := by
  have hN := w.2.2.1
  have w0 := wk_r (S := S) w
  delta FX99_divided_206 BX99_divided_206
  refine pq_g (fun g1 => ?_)
  have z2 := wk_z (i := 0) (f := 377) w0 rfl z_a0
  have f3 := sS_377 w0.1.1 g1
  refine pq_g (fun g4 => ?_)
  refine pq_fi (fun _ => ?_) (fun _ => ?_)
  · exact q_tA hN w0 (wX99_divided_260 S Z hS n _ hk178 _ _ _ _ _ _ _ w0.1 z_a0)
  · refine pq_g (fun g5 => ?_)
    have z6 := wk_z (i := 0) (f := 377) w0 rfl z_a0
    have f7 := sS_377 w0.1.1 g5
    refine pq_g (fun g8 => ?_)
    refine pq_g (fun g9 => ?_)
    have z10 := wk_z (i := 0) (f := 379) w0 rfl z_a0
    have f11 := sS_379 w0.1.1 g9
    refine pq_n ?_
    refine pq_g (fun g12 => ?_)
    have z13 := wk_z (i := 0) (f := 379) w0 rfl z_a0
    have f14 := sS_379 w0.1.1 g12
    refine pq_n ?_
    refine pq_g (fun g15 => ?_)
    refine pq_n ?_
    refine pq_g (fun g16 => ?_)
    extract_lets +onlyGivenNames M18
    have w17 : Wk S Z hx N M M18 := wk_aI hN w0 rfl g16.1 z10 (sy_s f11 (hS 1379 rfl))
    exact q_tA hN w17 (wX99_divided_260 S Z hS n _ hk178 _ _ _ _ _ _ _ w17.1 z_a0)
theorem wX99_divided_178 (S Z : Nat → Prop) {hx N : Nat} (hS : ∀ x, fe_mem lX99_divided x = true → S x) (n : Nat) (k178 : Nat → Int32 → Int32 → Int32 → Int64 → Int32 → FM → Option (Int64 × FM)) (hk178 : ∀ (a0 : Nat) (a1 : Int32) (a2 : Int32) (a5 : Int32) (a6 : Int64) (a8 : Int32) (M : FM), WI Z hx N M → Z a0 → pq (k178 a0 a1 a2 a5 a6 a8 M) (QA S Z hx N M)) (a0 : Nat) (a1 : Int32) (a2 : Int32) (a5 : Int32) (a6 : Int64) (a8 : Int32) (M : FM) (w : WI Z hx N M) (z_a0 : Z a0) : pq (FX99_divided_178 n k178 a0 a1 a2 a5 a6 a8 M) (QA S Z hx N M) := by
  have hN := w.2.2.1
  have w0 := wk_r (S := S) w
  delta FX99_divided_178 BX99_divided_178
  refine pq_fi (fun _ => ?_) (fun _ => ?_)
  · refine pq_fi (fun _ => ?_) (fun _ => ?_)
    · exact q_tA hN w0 (wX99_divided_279 S Z hS n _ hk178 _ _ _ _ _ _ _ w0.1 z_a0 z_a0)
    · exact q_tA hN w0 (wX99_divided_279 S Z hS n _ hk178 _ _ _ _ _ _ _ w0.1 z_a0 z_a0)
  · refine pq_g (fun g1 => ?_)
    have z2 := wk_z (i := 0) (f := 380) w0 rfl z_a0
    have f3 := sS_380 w0.1.1 g1
    refine pq_b (wX99_bit S Z (sb rfl hS) _ _ _ w0.1 z2) (fun r4 K5 => ?_)
    have w6 := wk_t w0 K5 hN
    refine pq_fi (fun _ => ?_) (fun _ => ?_)
    · exact q_tA hN w6 (wX99_divided_206 S Z hS n _ hk178 _ _ _ _ _ _ _ _ w6.1 z_a0)
    · exact q_tA hN w6 (wX99_divided_206 S Z hS n _ hk178 _ _ _ _ _ _ _ _ w6.1 z_a0)
theorem wX99_divided_132 (S Z : Nat → Prop) {hx N : Nat} (hS : ∀ x, fe_mem lX99_divided x = true → S x) (n : Nat) (k178 : Nat → Int32 → Int32 → Int32 → Int64 → Int32 → FM → Option (Int64 × FM)) (hk178 : ∀ (a0 : Nat) (a1 : Int32) (a2 : Int32) (a5 : Int32) (a6 : Int64) (a8 : Int32) (M : FM), WI Z hx N M → Z a0 → pq (k178 a0 a1 a2 a5 a6 a8 M) (QA S Z hx N M)) (a0 : Nat) (a1 : Int32) (a5 : Int32) (M : FM) (w : WI Z hx N M) (z_a0 : Z a0) : pq (FX99_divided_132 n k178 a0 a1 a5 M) (QA S Z hx N M) := by
  have hN := w.2.2.1
  have w0 := wk_r (S := S) w
  delta FX99_divided_132 BX99_divided_132
  refine pq_g (fun g1 => ?_)
  refine pq_b (wX99_zero S Z (sb rfl hS) _ _ _ _ w0.1 z_a0) (fun r2 K3 => ?_)
  have w4 := wk_t w0 K3 hN
  exact pq_s w4
theorem wX99_divided_98 (S Z : Nat → Prop) {hx N : Nat} (hS : ∀ x, fe_mem lX99_divided x = true → S x) (n : Nat) (k178 : Nat → Int32 → Int32 → Int32 → Int64 → Int32 → FM → Option (Int64 × FM)) (hk178 : ∀ (a0 : Nat) (a1 : Int32) (a2 : Int32) (a5 : Int32) (a6 : Int64) (a8 : Int32) (M : FM), WI Z hx N M → Z a0 → pq (k178 a0 a1 a2 a5 a6 a8 M) (QA S Z hx N M)) (a0 : Nat) (a1 : Int32) (a5 : Int32) (M : FM) (w : WI Z hx N M) (z_a0 : Z a0) : pq (FX99_divided_98 n k178 a0 a1 a5 M) (QA S Z hx N M) := by
  have hN := w.2.2.1
  have w0 := wk_r (S := S) w
  delta FX99_divided_98 BX99_divided_98
  refine pq_g (fun g1 => ?_)
  have z2 := wk_z (i := 0) (f := 374) w0 rfl z_a0
  have f3 := sS_374 w0.1.1 g1
  refine pq_g (fun g4 => ?_)
  refine pq_b (wX99_pack S Z (sb rfl hS) _ _ _ _ _ w0.1 ) (fun r5 K6 => ?_)
  have w7 := wk_t w0 K6 hN
  exact pq_s w7
theorem wX99_divided_82 (S Z : Nat → Prop) {hx N : Nat} (hS : ∀ x, fe_mem lX99_divided x = true → S x) (n : Nat) (k178 : Nat → Int32 → Int32 → Int32 → Int64 → Int32 → FM → Option (Int64 × FM)) (hk178 : ∀ (a0 : Nat) (a1 : Int32) (a2 : Int32) (a5 : Int32) (a6 : Int64) (a8 : Int32) (M : FM), WI Z hx N M → Z a0 → pq (k178 a0 a1 a2 a5 a6 a8 M) (QA S Z hx N M)) (a0 : Nat) (a1 : Int32) (a5 : Int32) (M : FM) (w : WI Z hx N M) (z_a0 : Z a0) : pq (FX99_divided_82 n k178 a0 a1 a5 M) (QA S Z hx N M) := by
  have hN := w.2.2.1
  have w0 := wk_r (S := S) w
  delta FX99_divided_82 BX99_divided_82
  refine pq_g (fun g1 => ?_)
  have z2 := wk_z (i := 0) (f := 375) w0 rfl z_a0
  have f3 := sS_375 w0.1.1 g1
  refine pq_g (fun g4 => ?_)
  refine pq_fi (fun _ => ?_) (fun _ => ?_)
  · exact q_tA hN w0 (wX99_divided_98 S Z hS n _ hk178 _ _ _ _ w0.1 z_a0)
  · refine pq_g (fun g5 => ?_)
    refine pq_b (wX99_raiseFlags S Z (sb rfl hS) _ _ _ w0.1 z_a0) (fun r6 K7 => ?_)
    have w8 := wk_t w0 K7 hN
    exact q_tA hN w8 (wX99_divided_98 S Z hS n _ hk178 _ _ _ _ w8.1 z_a0)
theorem wX99_divided_63 (S Z : Nat → Prop) {hx N : Nat} (hS : ∀ x, fe_mem lX99_divided x = true → S x) (n : Nat) (k178 : Nat → Int32 → Int32 → Int32 → Int64 → Int32 → FM → Option (Int64 × FM)) (hk178 : ∀ (a0 : Nat) (a1 : Int32) (a2 : Int32) (a5 : Int32) (a6 : Int64) (a8 : Int32) (M : FM), WI Z hx N M → Z a0 → pq (k178 a0 a1 a2 a5 a6 a8 M) (QA S Z hx N M)) (a0 : Nat) (a1 : Int32) (a2 : Int32) (a5 : Int32) (M : FM) (w : WI Z hx N M) (z_a0 : Z a0) : pq (FX99_divided_63 n k178 a0 a1 a2 a5 M) (QA S Z hx N M) := by
  have hN := w.2.2.1
  have w0 := wk_r (S := S) w
  delta FX99_divided_63 BX99_divided_63
  refine pq_g (fun g1 => ?_)
  have z2 := wk_z (i := 0) (f := 375) w0 rfl z_a0
  have f3 := sS_375 w0.1.1 g1
  refine pq_g (fun g4 => ?_)
  refine pq_fi (fun _ => ?_) (fun _ => ?_)
  · exact q_tA hN w0 (wX99_divided_82 S Z hS n _ hk178 _ _ _ _ w0.1 z_a0)
  · refine pq_g (fun g5 => ?_)
    have z6 := wk_z (i := 0) (f := 375) w0 rfl z_a0
    have f7 := sS_375 w0.1.1 g5
    refine pq_g (fun g8 => ?_)
    refine pq_fi (fun _ => ?_) (fun _ => ?_)
    · exact q_tA hN w0 (wX99_divided_82 S Z hS n _ hk178 _ _ _ _ w0.1 z_a0)
    · refine pq_g (fun g9 => ?_)
      have z10 := wk_z (i := 0) (f := 375) w0 rfl z_a0
      have f11 := sS_375 w0.1.1 g9
      refine pq_g (fun g12 => ?_)
      refine pq_fi (fun _ => ?_) (fun _ => ?_)
      · exact q_tA hN w0 (wX99_divided_132 S Z hS n _ hk178 _ _ _ _ w0.1 z_a0)
      · refine pq_g (fun g13 => ?_)
        have z14 := wk_z (i := 0) (f := 375) w0 rfl z_a0
        have f15 := sS_375 w0.1.1 g13
        refine pq_g (fun g16 => ?_)
        refine pq_fi (fun _ => ?_) (fun _ => ?_)
        · exact q_tA hN w0 (wX99_divided_132 S Z hS n _ hk178 _ _ _ _ w0.1 z_a0)
        · refine pq_g (fun g17 => ?_)
          have z18 := wk_z (i := 0) (f := 380) w0 rfl z_a0
          have f19 := sS_380 w0.1.1 g17
          refine pq_g (fun g20 => ?_)
          have z21 := wk_z (i := 0) (f := 377) w0 rfl z_a0
          have f22 := sS_377 w0.1.1 g20
          refine pq_g (fun g23 => ?_)
          refine pq_b (wX99_put S Z (sb rfl hS) n _ _ _ w0.1 z18 (sy_s f19 (hS 1380 rfl))) (fun r24 K25 => ?_)
          have w26 := wk_t w0 K25 hN
          refine pq_g (fun g27 => ?_)
          have z28 := wk_z (i := 0) (f := 380) w26 rfl z_a0
          have f29 := sS_380 w26.1.1 g27
          refine pq_b (wX99_raise S Z (sb rfl hS) n _ _ _ w26.1 z28 (sy_s f29 (hS 1380 rfl))) (fun r30 K31 => ?_)
          have w32 := wk_t w26 K31 hN
          refine pq_g (fun g33 => ?_)
          have z34 := wk_z (i := 0) (f := 379) w32 rfl z_a0
          have f35 := sS_379 w32.1.1 g33
          refine pq_b (wX99_put S Z (sb rfl hS) n _ _ _ w32.1 z34 (sy_s f35 (hS 1379 rfl))) (fun r36 K37 => ?_)
          have w38 := wk_t w32 K37 hN
          exact q_tA hN w38 (hk178 _ _ _ _ _ _ _ w38.1 z_a0)
theorem wX99_divided_0 (S Z : Nat → Prop) {hx N : Nat} (hS : ∀ x, fe_mem lX99_divided x = true → S x) (n : Nat) (k178 : Nat → Int32 → Int32 → Int32 → Int64 → Int32 → FM → Option (Int64 × FM)) (hk178 : ∀ (a0 : Nat) (a1 : Int32) (a2 : Int32) (a5 : Int32) (a6 : Int64) (a8 : Int32) (M : FM), WI Z hx N M → Z a0 → pq (k178 a0 a1 a2 a5 a6 a8 M) (QA S Z hx N M)) (a0 : Nat) (a1 : Int32) (a2 : Int32) (M : FM) (w : WI Z hx N M) (z_a0 : Z a0) : pq (FX99_divided_0 n k178 a0 a1 a2 M) (QA S Z hx N M) := by
  have hN := w.2.2.1
  have w0 := wk_r (S := S) w
  delta FX99_divided_0 BX99_divided_0
  refine pq_g (fun g1 => ?_)
  refine pq_b (wX99_none S Z (sb rfl hS) n _ _ _ _ w0.1 z_a0) (fun r2 K3 => ?_)
  have w4 := wk_t w0 K3 hN
  refine pq_fi (fun _ => ?_) (fun _ => ?_)
  · refine pq_g (fun g5 => ?_)
    have z6 := wk_z (i := 0) (f := 376) w4 rfl z_a0
    have f7 := sS_376 w4.1.1 g5
    refine pq_g (fun g8 => ?_)
    refine pq_g (fun g9 => ?_)
    have z10 := wk_z (i := 0) (f := 376) w4 rfl z_a0
    have f11 := sS_376 w4.1.1 g9
    refine pq_g (fun g12 => ?_)
    refine pq_g (fun g13 => ?_)
    have z14 := wk_z (i := 0) (f := 375) w4 rfl z_a0
    have f15 := sS_375 w4.1.1 g13
    refine pq_g (fun g16 => ?_)
    refine pq_g (fun g17 => ?_)
    have z18 := wk_z (i := 0) (f := 375) w4 rfl z_a0
    have f19 := sS_375 w4.1.1 g17
    refine pq_g (fun g20 => ?_)
    refine pq_fi (fun _ => ?_) (fun _ => ?_)
    · refine pq_g (fun g21 => ?_)
      have z22 := wk_z (i := 0) (f := 375) w4 rfl z_a0
      have f23 := sS_375 w4.1.1 g21
      refine pq_g (fun g24 => ?_)
      refine pq_fi (fun _ => ?_) (fun _ => ?_)
      · exact q_tA hN w4 (wX99_divided_63 S Z hS n _ hk178 _ _ _ _ _ w4.1 z_a0)
      · refine pq_g (fun g25 => ?_)
        refine pq_b (wX99_invalid S Z (sb rfl hS) _ _ _ w4.1 z_a0) (fun r26 K27 => ?_)
        have w28 := wk_t w4 K27 hN
        exact pq_s w28
    · exact q_tA hN w4 (wX99_divided_63 S Z hS n _ hk178 _ _ _ _ _ w4.1 z_a0)
  · exact pq_s w4
theorem wX99_divided_L (S Z : Nat → Prop) {hx N : Nat} (hS : ∀ x, fe_mem lX99_divided x = true → S x) (n : Nat) : ∀ j : Nat, ∀ (a0 : Nat) (a1 : Int32) (a2 : Int32) (a5 : Int32) (a6 : Int64) (a8 : Int32) (M : FM), WI Z hx N M → Z a0 → pq (FX99_divided_L178 n j a0 a1 a2 a5 a6 a8 M) (QA S Z hx N M)
  | 0 => by intros; exact pq_0
  | j + 1 => fun a0 a1 a2 a5 a6 a8 M w => wX99_divided_178 S Z hS n _ (wX99_divided_L S Z hS n j) a0 a1 a2 a5 a6 a8 M w
theorem wX99_divided (S Z : Nat → Prop) {hx N : Nat} (hS : ∀ x, fe_mem lX99_divided x = true → S x) (n : Nat) (a0 : Nat) (a1 : Int32) (a2 : Int32) (M : FM) (w : WI Z hx N M) (z_a0 : Z a0) : pq (FX99_divided n a0 a1 a2 M) (QA S Z hx N M) := wX99_divided_0 S Z hS n _ (wX99_divided_L S Z hS n n) a0 a1 a2 M w z_a0
def lX99_root : List Nat := [368, 371, 381, 382, 383, 384, 385, 1379, 1380]
theorem wX99_root_309 (S Z : Nat → Prop) {hx N : Nat} (hS : ∀ x, fe_mem lX99_root x = true → S x) (n : Nat) (k167 : Nat → Int32 → Int32 → Int32 → Int64 → Int64 → Int32 → FM → Option (Int64 × FM)) (hk167 : ∀ (a0 : Nat) (a1 : Int32) (a2 : Int32) (a5 : Int32) (a6 : Int64) (a8 : Int64) (a10 : Int32) (M : FM), WI Z hx N M → Z a0 → pq (k167 a0 a1 a2 a5 a6 a8 a10 M) (QA S Z hx N M)) (a0 : Nat) (a1 : Int32) (a2 : Int32) (a5 : Int32) (s0 : Nat) (s1 : Int32) (M : FM) (w : WI Z hx N M) (z_a0 : Z a0) (z_s0 : Z s0) : pq (FX99_root_309 n k167 a0 a1 a2 a5 s0 s1 M) (QA S Z hx N M) := by
  have hN := w.2.2.1
  have w0 := wk_r (S := S) w
  delta FX99_root_309 BX99_root_309
  refine pq_g (fun g1 => ?_)
  refine pq_g (fun _ => ?_)
  extract_lets +onlyGivenNames M3
  have w2 : Wk S Z hx N M M3 := wk_fI hN w0 rfl rfl g1 z_s0 (Or.inr (hS 381 rfl))
  refine pq_g (fun g4 => ?_)
  extract_lets +onlyGivenNames M6
  have w5 : Wk S Z hx N M M6 := wk_fI hN w2 rfl rfl g4 z_a0 (Or.inr (hS 382 rfl))
  refine pq_g (fun g7 => ?_)
  have z8 := wk_z (i := 0) (f := 378) w5 rfl z_a0
  have f9 := sS_378 w5.1.1 g7
  refine pq_g (fun g10 => ?_)
  refine pq_n ?_
  refine pq_g (fun g11 => ?_)
  extract_lets +onlyGivenNames M13
  have w12 : Wk S Z hx N M M13 := wk_fI hN w5 rfl rfl g11 z_a0 (Or.inr (hS 383 rfl))
  refine pq_g (fun g14 => ?_)
  refine pq_b (wX99_rounded S Z (sb rfl hS) n _ _ _ _ w12.1 z_a0) (fun r15 K16 => ?_)
  have w17 := wk_t w12 K16 hN
  exact pq_s w17
theorem wX99_root_278 (S Z : Nat → Prop) {hx N : Nat} (hS : ∀ x, fe_mem lX99_root x = true → S x) (n : Nat) (k167 : Nat → Int32 → Int32 → Int32 → Int64 → Int64 → Int32 → FM → Option (Int64 × FM)) (hk167 : ∀ (a0 : Nat) (a1 : Int32) (a2 : Int32) (a5 : Int32) (a6 : Int64) (a8 : Int64) (a10 : Int32) (M : FM), WI Z hx N M → Z a0 → pq (k167 a0 a1 a2 a5 a6 a8 a10 M) (QA S Z hx N M)) (a0 : Nat) (a1 : Int32) (a2 : Int32) (a5 : Int32) (a8 : Int64) (a10 : Int32) (s0 : Int64) (s1 : Int64) (M : FM) (w : WI Z hx N M) (z_a0 : Z a0) : pq (FX99_root_278 n k167 a0 a1 a2 a5 a8 a10 s0 s1 M) (QA S Z hx N M) := by
  have hN := w.2.2.1
  have w0 := wk_r (S := S) w
  delta FX99_root_278 BX99_root_278
  exact q_tA hN w0 (hk167 _ _ _ _ _ _ _ _ w0.1 z_a0)
theorem wX99_root_260 (S Z : Nat → Prop) {hx N : Nat} (hS : ∀ x, fe_mem lX99_root x = true → S x) (n : Nat) (k167 : Nat → Int32 → Int32 → Int32 → Int64 → Int64 → Int32 → FM → Option (Int64 × FM)) (hk167 : ∀ (a0 : Nat) (a1 : Int32) (a2 : Int32) (a5 : Int32) (a6 : Int64) (a8 : Int64) (a10 : Int32) (M : FM), WI Z hx N M → Z a0 → pq (k167 a0 a1 a2 a5 a6 a8 a10 M) (QA S Z hx N M)) (a0 : Nat) (a1 : Int32) (a2 : Int32) (a5 : Int32) (a6 : Int64) (a10 : Int32) (a13 : Int32) (s0 : Int64) (M : FM) (w : WI Z hx N M) (z_a0 : Z a0) : pq (FX99_root_260 n k167 a0 a1 a2 a5 a6 a10 a13 s0 M) (QA S Z hx N M) := by
  have hN := w.2.2.1
  have w0 := wk_r (S := S) w
  delta FX99_root_260 BX99_root_260
  refine pq_fi (fun _ => ?_) (fun _ => ?_)
  · exact q_tA hN w0 (wX99_root_278 S Z hS n _ hk167 _ _ _ _ _ _ _ _ _ w0.1 z_a0)
  · exact q_tA hN w0 (wX99_root_278 S Z hS n _ hk167 _ _ _ _ _ _ _ _ _ w0.1 z_a0)
theorem wX99_root_243 (S Z : Nat → Prop) {hx N : Nat} (hS : ∀ x, fe_mem lX99_root x = true → S x) (n : Nat) (k167 : Nat → Int32 → Int32 → Int32 → Int64 → Int64 → Int32 → FM → Option (Int64 × FM)) (hk167 : ∀ (a0 : Nat) (a1 : Int32) (a2 : Int32) (a5 : Int32) (a6 : Int64) (a8 : Int64) (a10 : Int32) (M : FM), WI Z hx N M → Z a0 → pq (k167 a0 a1 a2 a5 a6 a8 a10 M) (QA S Z hx N M)) (a0 : Nat) (a1 : Int32) (a2 : Int32) (a5 : Int32) (a6 : Int64) (a8 : Int64) (a10 : Int32) (a11 : Int64) (s0 : Int32) (M : FM) (w : WI Z hx N M) (z_a0 : Z a0) : pq (FX99_root_243 n k167 a0 a1 a2 a5 a6 a8 a10 a11 s0 M) (QA S Z hx N M) := by
  have hN := w.2.2.1
  have w0 := wk_r (S := S) w
  delta FX99_root_243 BX99_root_243
  refine pq_fi (fun _ => ?_) (fun _ => ?_)
  · exact q_tA hN w0 (wX99_root_260 S Z hS n _ hk167 _ _ _ _ _ _ _ _ _ w0.1 z_a0)
  · exact q_tA hN w0 (wX99_root_260 S Z hS n _ hk167 _ _ _ _ _ _ _ _ _ w0.1 z_a0)
theorem wX99_root_217 (S Z : Nat → Prop) {hx N : Nat} (hS : ∀ x, fe_mem lX99_root x = true → S x) (n : Nat) (k167 : Nat → Int32 → Int32 → Int32 → Int64 → Int64 → Int32 → FM → Option (Int64 × FM)) (hk167 : ∀ (a0 : Nat) (a1 : Int32) (a2 : Int32) (a5 : Int32) (a6 : Int64) (a8 : Int64) (a10 : Int32) (M : FM), WI Z hx N M → Z a0 → pq (k167 a0 a1 a2 a5 a6 a8 a10 M) (QA S Z hx N M)) (a0 : Nat) (a1 : Int32) (a2 : Int32) (a5 : Int32) (a6 : Int64) (a10 : Int32) (s0 : Int64) (s1 : Int64) (M : FM) (w : WI Z hx N M) (z_a0 : Z a0) : pq (FX99_root_217 n k167 a0 a1 a2 a5 a6 a10 s0 s1 M) (QA S Z hx N M) := by
  have hN := w.2.2.1
  have w0 := wk_r (S := S) w
  delta FX99_root_217 BX99_root_217
  refine pq_fi (fun _ => ?_) (fun _ => ?_)
  · exact q_tA hN w0 (wX99_root_243 S Z hS n _ hk167 _ _ _ _ _ _ _ _ _ _ w0.1 z_a0)
  · exact q_tA hN w0 (wX99_root_243 S Z hS n _ hk167 _ _ _ _ _ _ _ _ _ _ w0.1 z_a0)
theorem wX99_root_199 (S Z : Nat → Prop) {hx N : Nat} (hS : ∀ x, fe_mem lX99_root x = true → S x) (n : Nat) (k167 : Nat → Int32 → Int32 → Int32 → Int64 → Int64 → Int32 → FM → Option (Int64 × FM)) (hk167 : ∀ (a0 : Nat) (a1 : Int32) (a2 : Int32) (a5 : Int32) (a6 : Int64) (a8 : Int64) (a10 : Int32) (M : FM), WI Z hx N M → Z a0 → pq (k167 a0 a1 a2 a5 a6 a8 a10 M) (QA S Z hx N M)) (a0 : Nat) (a1 : Int32) (a2 : Int32) (a5 : Int32) (a6 : Int64) (a10 : Int32) (s0 : Int64) (s1 : Int64) (M : FM) (w : WI Z hx N M) (z_a0 : Z a0) : pq (FX99_root_199 n k167 a0 a1 a2 a5 a6 a10 s0 s1 M) (QA S Z hx N M) := by
  have hN := w.2.2.1
  have w0 := wk_r (S := S) w
  delta FX99_root_199 BX99_root_199
  refine pq_g (fun g1 => ?_)
  have z2 := wk_z (i := 0) (f := 380) w0 rfl z_a0
  have f3 := sS_380 w0.1.1 g1
  refine pq_b (wX99_bit S Z (sb rfl hS) _ _ _ w0.1 z2) (fun r4 K5 => ?_)
  have w6 := wk_t w0 K5 hN
  refine pq_fi (fun _ => ?_) (fun _ => ?_)
  · exact q_tA hN w6 (wX99_root_217 S Z hS n _ hk167 _ _ _ _ _ _ _ _ _ w6.1 z_a0)
  · exact q_tA hN w6 (wX99_root_217 S Z hS n _ hk167 _ _ _ _ _ _ _ _ _ w6.1 z_a0)
theorem wX99_root_167 (S Z : Nat → Prop) {hx N : Nat} (hS : ∀ x, fe_mem lX99_root x = true → S x) (n : Nat) (k167 : Nat → Int32 → Int32 → Int32 → Int64 → Int64 → Int32 → FM → Option (Int64 × FM)) (hk167 : ∀ (a0 : Nat) (a1 : Int32) (a2 : Int32) (a5 : Int32) (a6 : Int64) (a8 : Int64) (a10 : Int32) (M : FM), WI Z hx N M → Z a0 → pq (k167 a0 a1 a2 a5 a6 a8 a10 M) (QA S Z hx N M)) (a0 : Nat) (a1 : Int32) (a2 : Int32) (a5 : Int32) (a6 : Int64) (a8 : Int64) (a10 : Int32) (M : FM) (w : WI Z hx N M) (z_a0 : Z a0) : pq (FX99_root_167 n k167 a0 a1 a2 a5 a6 a8 a10 M) (QA S Z hx N M) := by
  have hN := w.2.2.1
  have w0 := wk_r (S := S) w
  delta FX99_root_167 BX99_root_167
  refine pq_fi (fun _ => ?_) (fun _ => ?_)
  · refine pq_g (fun g1 => ?_)
    have z2 := wk_z (i := 0) (f := 379) w0 rfl z_a0
    have f3 := sS_379 w0.1.1 g1
    refine pq_b (wX99_put S Z (sb rfl hS) n _ _ _ w0.1 z2 (sy_s f3 (hS 1379 rfl))) (fun r4 K5 => ?_)
    have w6 := wk_t w0 K5 hN
    refine pq_fi (fun _ => ?_) (fun _ => ?_)
    · exact q_tA hN w6 (wX99_root_309 S Z hS n _ hk167 _ _ _ _ _ _ _ w6.1 z_a0 z_a0)
    · exact q_tA hN w6 (wX99_root_309 S Z hS n _ hk167 _ _ _ _ _ _ _ w6.1 z_a0 z_a0)
  · refine pq_g (fun g7 => ?_)
    have z8 := wk_z (i := 0) (f := 380) w0 rfl z_a0
    have f9 := sS_380 w0.1.1 g7
    refine pq_b (wX99_bit S Z (sb rfl hS) _ _ _ w0.1 z8) (fun r10 K11 => ?_)
    have w12 := wk_t w0 K11 hN
    refine pq_fi (fun _ => ?_) (fun _ => ?_)
    · exact q_tA hN w12 (wX99_root_199 S Z hS n _ hk167 _ _ _ _ _ _ _ _ _ w12.1 z_a0)
    · exact q_tA hN w12 (wX99_root_199 S Z hS n _ hk167 _ _ _ _ _ _ _ _ _ w12.1 z_a0)
theorem wX99_root_146 (S Z : Nat → Prop) {hx N : Nat} (hS : ∀ x, fe_mem lX99_root x = true → S x) (n : Nat) (k167 : Nat → Int32 → Int32 → Int32 → Int64 → Int64 → Int32 → FM → Option (Int64 × FM)) (hk167 : ∀ (a0 : Nat) (a1 : Int32) (a2 : Int32) (a5 : Int32) (a6 : Int64) (a8 : Int64) (a10 : Int32) (M : FM), WI Z hx N M → Z a0 → pq (k167 a0 a1 a2 a5 a6 a8 a10 M) (QA S Z hx N M)) (a0 : Nat) (a1 : Int32) (a2 : Int32) (s0 : Int32) (M : FM) (w : WI Z hx N M) (z_a0 : Z a0) : pq (FX99_root_146 n k167 a0 a1 a2 s0 M) (QA S Z hx N M) := by
  have hN := w.2.2.1
  have w0 := wk_r (S := S) w
  delta FX99_root_146 BX99_root_146
  refine pq_g (fun g1 => ?_)
  have z2 := wk_z (i := 0) (f := 380) w0 rfl z_a0
  have f3 := sS_380 w0.1.1 g1
  refine pq_b (wX99_raise S Z (sb rfl hS) n _ _ _ w0.1 z2 (sy_s f3 (hS 1380 rfl))) (fun r4 K5 => ?_)
  have w6 := wk_t w0 K5 hN
  exact q_tA hN w6 (hk167 _ _ _ _ _ _ _ _ w6.1 z_a0)
theorem wX99_root_82 (S Z : Nat → Prop) {hx N : Nat} (hS : ∀ x, fe_mem lX99_root x = true → S x) (n : Nat) (k167 : Nat → Int32 → Int32 → Int32 → Int64 → Int64 → Int32 → FM → Option (Int64 × FM)) (hk167 : ∀ (a0 : Nat) (a1 : Int32) (a2 : Int32) (a5 : Int32) (a6 : Int64) (a8 : Int64) (a10 : Int32) (M : FM), WI Z hx N M → Z a0 → pq (k167 a0 a1 a2 a5 a6 a8 a10 M) (QA S Z hx N M)) (a0 : Nat) (a1 : Int32) (a2 : Int32) (M : FM) (w : WI Z hx N M) (z_a0 : Z a0) : pq (FX99_root_82 n k167 a0 a1 a2 M) (QA S Z hx N M) := by
  have hN := w.2.2.1
  have w0 := wk_r (S := S) w
  delta FX99_root_82 BX99_root_82
  refine pq_g (fun g1 => ?_)
  have z2 := wk_z (i := 0) (f := 376) w0 rfl z_a0
  have f3 := sS_376 w0.1.1 g1
  refine pq_g (fun g4 => ?_)
  refine pq_fi (fun _ => ?_) (fun _ => ?_)
  · refine pq_g (fun g5 => ?_)
    refine pq_b (wX99_invalid S Z (sb rfl hS) _ _ _ w0.1 z_a0) (fun r6 K7 => ?_)
    have w8 := wk_t w0 K7 hN
    exact pq_s w8
  · refine pq_g (fun g9 => ?_)
    have z10 := wk_z (i := 0) (f := 380) w0 rfl z_a0
    have f11 := sS_380 w0.1.1 g9
    refine pq_g (fun g12 => ?_)
    have z13 := wk_z (i := 0) (f := 377) w0 rfl z_a0
    have f14 := sS_377 w0.1.1 g12
    refine pq_g (fun g15 => ?_)
    refine pq_b (wX99_put S Z (sb rfl hS) n _ _ _ w0.1 z10 (sy_s f11 (hS 1380 rfl))) (fun r16 K17 => ?_)
    have w18 := wk_t w0 K17 hN
    refine pq_g (fun g19 => ?_)
    have z20 := wk_z (i := 0) (f := 380) w18 rfl z_a0
    have f21 := sS_380 w18.1.1 g19
    refine pq_b (wX99_length S Z (sb rfl hS) n _ _ w18.1 z20) (fun r22 K23 => ?_)
    have w24 := wk_t w18 K23 hN
    refine pq_g (fun g25 => ?_)
    have z26 := wk_z (i := 0) (f := 378) w24 rfl z_a0
    have f27 := sS_378 w24.1.1 g25
    refine pq_g (fun g28 => ?_)
    refine pq_n ?_
    refine pq_fi (fun _ => ?_) (fun _ => ?_)
    · exact q_tA hN w24 (wX99_root_146 S Z hS n _ hk167 _ _ _ _ _ w24.1 z_a0)
    · exact q_tA hN w24 (wX99_root_146 S Z hS n _ hk167 _ _ _ _ _ w24.1 z_a0)
theorem wX99_root_81 (S Z : Nat → Prop) {hx N : Nat} (hS : ∀ x, fe_mem lX99_root x = true → S x) (n : Nat) (k167 : Nat → Int32 → Int32 → Int32 → Int64 → Int64 → Int32 → FM → Option (Int64 × FM)) (hk167 : ∀ (a0 : Nat) (a1 : Int32) (a2 : Int32) (a5 : Int32) (a6 : Int64) (a8 : Int64) (a10 : Int32) (M : FM), WI Z hx N M → Z a0 → pq (k167 a0 a1 a2 a5 a6 a8 a10 M) (QA S Z hx N M)) (s0 : Int64) (M : FM) (w : WI Z hx N M) : pq (FX99_root_81 n k167 s0 M) (QA S Z hx N M) := by
  have hN := w.2.2.1
  have w0 := wk_r (S := S) w
  delta FX99_root_81 BX99_root_81
  exact pq_s w0
theorem wX99_root_45 (S Z : Nat → Prop) {hx N : Nat} (hS : ∀ x, fe_mem lX99_root x = true → S x) (n : Nat) (k167 : Nat → Int32 → Int32 → Int32 → Int64 → Int64 → Int32 → FM → Option (Int64 × FM)) (hk167 : ∀ (a0 : Nat) (a1 : Int32) (a2 : Int32) (a5 : Int32) (a6 : Int64) (a8 : Int64) (a10 : Int32) (M : FM), WI Z hx N M → Z a0 → pq (k167 a0 a1 a2 a5 a6 a8 a10 M) (QA S Z hx N M)) (a0 : Nat) (a1 : Int32) (M : FM) (w : WI Z hx N M) (z_a0 : Z a0) : pq (FX99_root_45 n k167 a0 a1 M) (QA S Z hx N M) := by
  have hN := w.2.2.1
  have w0 := wk_r (S := S) w
  delta FX99_root_45 BX99_root_45
  refine pq_g (fun g1 => ?_)
  have z2 := wk_z (i := 0) (f := 375) w0 rfl z_a0
  have f3 := sS_375 w0.1.1 g1
  refine pq_g (fun g4 => ?_)
  refine pq_fi (fun _ => ?_) (fun _ => ?_)
  · refine pq_g (fun g5 => ?_)
    have z6 := wk_z (i := 0) (f := 376) w0 rfl z_a0
    have f7 := sS_376 w0.1.1 g5
    refine pq_g (fun g8 => ?_)
    refine pq_g (fun g9 => ?_)
    refine pq_b (wX99_zero S Z (sb rfl hS) _ _ _ _ w0.1 z_a0) (fun r10 K11 => ?_)
    have w12 := wk_t w0 K11 hN
    exact q_tA hN w12 (wX99_root_81 S Z hS n _ hk167 _ _ w12.1 )
  · refine pq_g (fun g13 => ?_)
    have z14 := wk_z (i := 0) (f := 374) w0 rfl z_a0
    have f15 := sS_374 w0.1.1 g13
    refine pq_g (fun g16 => ?_)
    refine pq_b (wX99_pack S Z (sb rfl hS) _ _ _ _ _ w0.1 ) (fun r17 K18 => ?_)
    have w19 := wk_t w0 K18 hN
    exact q_tA hN w19 (wX99_root_81 S Z hS n _ hk167 _ _ w19.1 )
theorem wX99_root_0 (S Z : Nat → Prop) {hx N : Nat} (hS : ∀ x, fe_mem lX99_root x = true → S x) (n : Nat) (k167 : Nat → Int32 → Int32 → Int32 → Int64 → Int64 → Int32 → FM → Option (Int64 × FM)) (hk167 : ∀ (a0 : Nat) (a1 : Int32) (a2 : Int32) (a5 : Int32) (a6 : Int64) (a8 : Int64) (a10 : Int32) (M : FM), WI Z hx N M → Z a0 → pq (k167 a0 a1 a2 a5 a6 a8 a10 M) (QA S Z hx N M)) (a0 : Nat) (a1 : Int32) (a2 : Int32) (M : FM) (w : WI Z hx N M) (z_a0 : Z a0) : pq (FX99_root_0 n k167 a0 a1 a2 M) (QA S Z hx N M) := by
  have hN := w.2.2.1
  have w0 := wk_r (S := S) w
  delta FX99_root_0 BX99_root_0
  refine pq_g (fun g1 => ?_)
  refine pq_b (wX99_none S Z (sb rfl hS) n _ _ _ _ w0.1 z_a0) (fun r2 K3 => ?_)
  have w4 := wk_t w0 K3 hN
  refine pq_fi (fun _ => ?_) (fun _ => ?_)
  · refine pq_g (fun g5 => ?_)
    have z6 := wk_z (i := 0) (f := 375) w4 rfl z_a0
    have f7 := sS_375 w4.1.1 g5
    refine pq_g (fun g8 => ?_)
    refine pq_fi (fun _ => ?_) (fun _ => ?_)
    · exact q_tA hN w4 (wX99_root_45 S Z hS n _ hk167 _ _ _ w4.1 z_a0)
    · refine pq_g (fun g9 => ?_)
      have z10 := wk_z (i := 0) (f := 375) w4 rfl z_a0
      have f11 := sS_375 w4.1.1 g9
      refine pq_g (fun g12 => ?_)
      refine pq_fi (fun _ => ?_) (fun _ => ?_)
      · refine pq_g (fun g13 => ?_)
        have z14 := wk_z (i := 0) (f := 376) w4 rfl z_a0
        have f15 := sS_376 w4.1.1 g13
        refine pq_g (fun g16 => ?_)
        refine pq_fi (fun _ => ?_) (fun _ => ?_)
        · exact q_tA hN w4 (wX99_root_45 S Z hS n _ hk167 _ _ _ w4.1 z_a0)
        · exact q_tA hN w4 (wX99_root_82 S Z hS n _ hk167 _ _ _ _ w4.1 z_a0)
      · exact q_tA hN w4 (wX99_root_82 S Z hS n _ hk167 _ _ _ _ w4.1 z_a0)
  · exact pq_s w4
theorem wX99_root_L (S Z : Nat → Prop) {hx N : Nat} (hS : ∀ x, fe_mem lX99_root x = true → S x) (n : Nat) : ∀ j : Nat, ∀ (a0 : Nat) (a1 : Int32) (a2 : Int32) (a5 : Int32) (a6 : Int64) (a8 : Int64) (a10 : Int32) (M : FM), WI Z hx N M → Z a0 → pq (FX99_root_L167 n j a0 a1 a2 a5 a6 a8 a10 M) (QA S Z hx N M)
  | 0 => by intros; exact pq_0
  | j + 1 => fun a0 a1 a2 a5 a6 a8 a10 M w => wX99_root_167 S Z hS n _ (wX99_root_L S Z hS n j) a0 a1 a2 a5 a6 a8 a10 M w
theorem wX99_root (S Z : Nat → Prop) {hx N : Nat} (hS : ∀ x, fe_mem lX99_root x = true → S x) (n : Nat) (a0 : Nat) (a1 : Int32) (a2 : Int32) (M : FM) (w : WI Z hx N M) (z_a0 : Z a0) : pq (FX99_root n a0 a1 a2 M) (QA S Z hx N M) := wX99_root_0 S Z hS n _ (wX99_root_L S Z hS n n) a0 a1 a2 M w z_a0
def lX99_fewest : List Nat := []
theorem wX99_fewest_22 (S Z : Nat → Prop) {hx N : Nat} (hS : ∀ x, fe_mem lX99_fewest x = true → S x) (s0 : Int64) (M : FM) (w : WI Z hx N M) : pq (FX99_fewest_22 s0 M) (QA S Z hx N M) := by
  have hN := w.2.2.1
  have w0 := wk_r (S := S) w
  delta FX99_fewest_22 BX99_fewest_22
  exact pq_s w0
theorem wX99_fewest_0 (S Z : Nat → Prop) {hx N : Nat} (hS : ∀ x, fe_mem lX99_fewest x = true → S x) (a0 : Int32) (M : FM) (w : WI Z hx N M) : pq (FX99_fewest_0 a0 M) (QA S Z hx N M) := by
  have hN := w.2.2.1
  have w0 := wk_r (S := S) w
  delta FX99_fewest_0 BX99_fewest_0
  refine pq_fi (fun _ => ?_) (fun _ => ?_)
  · exact q_tA hN w0 (wX99_fewest_22 S Z hS _ _ w0.1 )
  · refine pq_fi (fun _ => ?_) (fun _ => ?_)
    · exact q_tA hN w0 (wX99_fewest_22 S Z hS _ _ w0.1 )
    · exact q_tA hN w0 (wX99_fewest_22 S Z hS _ _ w0.1 )
theorem wX99_fewest (S Z : Nat → Prop) {hx N : Nat} (hS : ∀ x, fe_mem lX99_fewest x = true → S x) (a0 : Int32) (M : FM) (w : WI Z hx N M) : pq (FX99_fewest a0 M) (QA S Z hx N M) := wX99_fewest_0 S Z hS a0 M w 
def lX99_most : List Nat := []
theorem wX99_most_35 (S Z : Nat → Prop) {hx N : Nat} (hS : ∀ x, fe_mem lX99_most x = true → S x) (s0 : Int64) (M : FM) (w : WI Z hx N M) : pq (FX99_most_35 s0 M) (QA S Z hx N M) := by
  have hN := w.2.2.1
  have w0 := wk_r (S := S) w
  delta FX99_most_35 BX99_most_35
  exact pq_s w0
theorem wX99_most_0 (S Z : Nat → Prop) {hx N : Nat} (hS : ∀ x, fe_mem lX99_most x = true → S x) (a0 : Int32) (M : FM) (w : WI Z hx N M) : pq (FX99_most_0 a0 M) (QA S Z hx N M) := by
  have hN := w.2.2.1
  have w0 := wk_r (S := S) w
  delta FX99_most_0 BX99_most_0
  refine pq_fi (fun _ => ?_) (fun _ => ?_)
  · exact q_tA hN w0 (wX99_most_35 S Z hS _ _ w0.1 )
  · refine pq_fi (fun _ => ?_) (fun _ => ?_)
    · exact q_tA hN w0 (wX99_most_35 S Z hS _ _ w0.1 )
    · refine pq_fi (fun _ => ?_) (fun _ => ?_)
      · exact q_tA hN w0 (wX99_most_35 S Z hS _ _ w0.1 )
      · exact q_tA hN w0 (wX99_most_35 S Z hS _ _ w0.1 )
theorem wX99_most (S Z : Nat → Prop) {hx N : Nat} (hS : ∀ x, fe_mem lX99_most x = true → S x) (a0 : Int32) (M : FM) (w : WI Z hx N M) : pq (FX99_most a0 M) (QA S Z hx N M) := wX99_most_0 S Z hS a0 M w 
def lX99_shown : List Nat := []
theorem wX99_shown_12 (S Z : Nat → Prop) {hx N : Nat} (hS : ∀ x, fe_mem lX99_shown x = true → S x) (s0 : Int64) (M : FM) (w : WI Z hx N M) : pq (FX99_shown_12 s0 M) (QA S Z hx N M) := by
  have hN := w.2.2.1
  have w0 := wk_r (S := S) w
  delta FX99_shown_12 BX99_shown_12
  exact pq_s w0
theorem wX99_shown_0 (S Z : Nat → Prop) {hx N : Nat} (hS : ∀ x, fe_mem lX99_shown x = true → S x) (a0 : Int64) (a2 : Int32) (M : FM) (w : WI Z hx N M) : pq (FX99_shown_0 a0 a2 M) (QA S Z hx N M) := by
  have hN := w.2.2.1
  have w0 := wk_r (S := S) w
  delta FX99_shown_0 BX99_shown_0
  refine pq_fi (fun _ => ?_) (fun _ => ?_)
  · exact q_tA hN w0 (wX99_shown_12 S Z hS _ _ w0.1 )
  · exact q_tA hN w0 (wX99_shown_12 S Z hS _ _ w0.1 )
theorem wX99_shown (S Z : Nat → Prop) {hx N : Nat} (hS : ∀ x, fe_mem lX99_shown x = true → S x) (a0 : Int64) (a2 : Int32) (M : FM) (w : WI Z hx N M) : pq (FX99_shown a0 a2 M) (QA S Z hx N M) := wX99_shown_0 S Z hS a0 a2 M w 
def lX99_beyond : List Nat := [368, 371]
theorem wX99_beyond_21 (S Z : Nat → Prop) {hx N : Nat} (hS : ∀ x, fe_mem lX99_beyond x = true → S x) (a2 : Int32) (s0 : Int64) (M : FM) (w : WI Z hx N M) : pq (FX99_beyond_21 a2 s0 M) (QA S Z hx N M) := by
  have hN := w.2.2.1
  have w0 := wk_r (S := S) w
  delta FX99_beyond_21 BX99_beyond_21
  refine pq_b (wX99_shown S Z (sb rfl hS) _ _ _ w0.1 ) (fun r1 K2 => ?_)
  have w3 := wk_t w0 K2 hN
  exact pq_s w3
theorem wX99_beyond_0 (S Z : Nat → Prop) {hx N : Nat} (hS : ∀ x, fe_mem lX99_beyond x = true → S x) (a0 : Nat) (a1 : Int32) (a2 : Int32) (M : FM) (w : WI Z hx N M) (z_a0 : Z a0) : pq (FX99_beyond_0 a0 a1 a2 M) (QA S Z hx N M) := by
  have hN := w.2.2.1
  have w0 := wk_r (S := S) w
  delta FX99_beyond_0 BX99_beyond_0
  refine pq_g (fun g1 => ?_)
  refine pq_b (wX99_raiseFlags S Z (sb rfl hS) _ _ _ w0.1 z_a0) (fun r2 K3 => ?_)
  have w4 := wk_t w0 K3 hN
  refine pq_fi (fun _ => ?_) (fun _ => ?_)
  · refine pq_b (wX99_most S Z (sb rfl hS) _ _ w4.1 ) (fun r5 K6 => ?_)
    have w7 := wk_t w4 K6 hN
    exact q_tA hN w7 (wX99_beyond_21 S Z hS _ _ _ w7.1 )
  · refine pq_b (wX99_fewest S Z (sb rfl hS) _ _ w4.1 ) (fun r8 K9 => ?_)
    have w10 := wk_t w4 K9 hN
    exact q_tA hN w10 (wX99_beyond_21 S Z hS _ _ _ w10.1 )
theorem wX99_beyond (S Z : Nat → Prop) {hx N : Nat} (hS : ∀ x, fe_mem lX99_beyond x = true → S x) (a0 : Nat) (a1 : Int32) (a2 : Int32) (M : FM) (w : WI Z hx N M) (z_a0 : Z a0) : pq (FX99_beyond a0 a1 a2 M) (QA S Z hx N M) := wX99_beyond_0 S Z hS a0 a1 a2 M w z_a0
def lX99_toInteger : List Nat := [368, 371, 381, 382, 383, 384, 385, 1379]
theorem wX99_toInteger_404 (S Z : Nat → Prop) {hx N : Nat} (hS : ∀ x, fe_mem lX99_toInteger x = true → S x) (n : Nat) (a1 : Int32) (s0 : Int64) (M : FM) (w : WI Z hx N M) : pq (FX99_toInteger_404 n a1 s0 M) (QA S Z hx N M) := by
  have hN := w.2.2.1
  have w0 := wk_r (S := S) w
  delta FX99_toInteger_404 BX99_toInteger_404
  refine pq_b (wX99_shown S Z (sb rfl hS) _ _ _ w0.1 ) (fun r1 K2 => ?_)
  have w3 := wk_t w0 K2 hN
  exact pq_s w3
theorem wX99_toInteger_383 (S Z : Nat → Prop) {hx N : Nat} (hS : ∀ x, fe_mem lX99_toInteger x = true → S x) (n : Nat) (a0 : Nat) (a1 : Int32) (M : FM) (w : WI Z hx N M) (z_a0 : Z a0) : pq (FX99_toInteger_383 n a0 a1 M) (QA S Z hx N M) := by
  have hN := w.2.2.1
  have w0 := wk_r (S := S) w
  delta FX99_toInteger_383 BX99_toInteger_383
  refine pq_g (fun g1 => ?_)
  refine pq_fi (fun _ => ?_) (fun _ => ?_)
  · refine pq_g (fun g2 => ?_)
    exact q_tA hN w0 (wX99_toInteger_404 S Z hS n _ _ _ w0.1 )
  · refine pq_g (fun g3 => ?_)
    exact q_tA hN w0 (wX99_toInteger_404 S Z hS n _ _ _ w0.1 )
theorem wX99_toInteger_368 (S Z : Nat → Prop) {hx N : Nat} (hS : ∀ x, fe_mem lX99_toInteger x = true → S x) (n : Nat) (a1 : Int32) (s0 : Nat) (s1 : Int32) (M : FM) (w : WI Z hx N M) (z_s0 : Z s0) : pq (FX99_toInteger_368 n a1 s0 s1 M) (QA S Z hx N M) := by
  have hN := w.2.2.1
  have w0 := wk_r (S := S) w
  delta FX99_toInteger_368 BX99_toInteger_368
  refine pq_g (fun g1 => ?_)
  refine pq_b (wX99_beyond S Z (sb rfl hS) _ _ _ _ w0.1 z_s0) (fun r2 K3 => ?_)
  have w4 := wk_t w0 K3 hN
  exact pq_s w4
theorem wX99_toInteger_349 (S Z : Nat → Prop) {hx N : Nat} (hS : ∀ x, fe_mem lX99_toInteger x = true → S x) (n : Nat) (a0 : Nat) (a1 : Int32) (a4 : Int32) (a7 : Int32) (M : FM) (w : WI Z hx N M) (z_a0 : Z a0) : pq (FX99_toInteger_349 n a0 a1 a4 a7 M) (QA S Z hx N M) := by
  have hN := w.2.2.1
  have w0 := wk_r (S := S) w
  delta FX99_toInteger_349 BX99_toInteger_349
  refine pq_fi (fun _ => ?_) (fun _ => ?_)
  · refine pq_fi (fun _ => ?_) (fun _ => ?_)
    · exact q_tA hN w0 (wX99_toInteger_383 S Z hS n _ _ _ w0.1 z_a0)
    · refine pq_g (fun g1 => ?_)
      refine pq_b (wX99_raiseFlags S Z (sb rfl hS) _ _ _ w0.1 z_a0) (fun r2 K3 => ?_)
      have w4 := wk_t w0 K3 hN
      exact q_tA hN w4 (wX99_toInteger_383 S Z hS n _ _ _ w4.1 z_a0)
  · refine pq_g (fun g5 => ?_)
    refine pq_fi (fun _ => ?_) (fun _ => ?_)
    · exact q_tA hN w0 (wX99_toInteger_368 S Z hS n _ _ _ _ w0.1 z_a0)
    · exact q_tA hN w0 (wX99_toInteger_368 S Z hS n _ _ _ _ w0.1 z_a0)
theorem wX99_toInteger_347 (S Z : Nat → Prop) {hx N : Nat} (hS : ∀ x, fe_mem lX99_toInteger x = true → S x) (n : Nat) (a0 : Nat) (a1 : Int32) (a4 : Int32) (s0 : Int32) (M : FM) (w : WI Z hx N M) (z_a0 : Z a0) : pq (FX99_toInteger_347 n a0 a1 a4 s0 M) (QA S Z hx N M) := by
  have hN := w.2.2.1
  have w0 := wk_r (S := S) w
  delta FX99_toInteger_347 BX99_toInteger_347
  exact q_tA hN w0 (wX99_toInteger_349 S Z hS n _ _ _ _ _ w0.1 z_a0)
theorem wX99_toInteger_342 (S Z : Nat → Prop) {hx N : Nat} (hS : ∀ x, fe_mem lX99_toInteger x = true → S x) (n : Nat) (a0 : Nat) (a1 : Int32) (a4 : Int32) (M : FM) (w : WI Z hx N M) (z_a0 : Z a0) : pq (FX99_toInteger_342 n a0 a1 a4 M) (QA S Z hx N M) := by
  have hN := w.2.2.1
  have w0 := wk_r (S := S) w
  delta FX99_toInteger_342 BX99_toInteger_342
  exact q_tA hN w0 (wX99_toInteger_347 S Z hS n _ _ _ _ _ w0.1 z_a0)
theorem wX99_toInteger_311 (S Z : Nat → Prop) {hx N : Nat} (hS : ∀ x, fe_mem lX99_toInteger x = true → S x) (n : Nat) (a0 : Nat) (a1 : Int32) (a4 : Int32) (s0 : Int32) (M : FM) (w : WI Z hx N M) (z_a0 : Z a0) : pq (FX99_toInteger_311 n a0 a1 a4 s0 M) (QA S Z hx N M) := by
  have hN := w.2.2.1
  have w0 := wk_r (S := S) w
  delta FX99_toInteger_311 BX99_toInteger_311
  exact q_tA hN w0 (wX99_toInteger_349 S Z hS n _ _ _ _ _ w0.1 z_a0)
theorem wX99_toInteger_310 (S Z : Nat → Prop) {hx N : Nat} (hS : ∀ x, fe_mem lX99_toInteger x = true → S x) (n : Nat) (a0 : Nat) (a1 : Int32) (a4 : Int32) (M : FM) (w : WI Z hx N M) (z_a0 : Z a0) : pq (FX99_toInteger_310 n a0 a1 a4 M) (QA S Z hx N M) := by
  have hN := w.2.2.1
  have w0 := wk_r (S := S) w
  delta FX99_toInteger_310 BX99_toInteger_310
  exact q_tA hN w0 (wX99_toInteger_311 S Z hS n _ _ _ _ _ w0.1 z_a0)
theorem wX99_toInteger_282 (S Z : Nat → Prop) {hx N : Nat} (hS : ∀ x, fe_mem lX99_toInteger x = true → S x) (n : Nat) (a0 : Nat) (a1 : Int32) (a4 : Int32) (M : FM) (w : WI Z hx N M) (z_a0 : Z a0) : pq (FX99_toInteger_282 n a0 a1 a4 M) (QA S Z hx N M) := by
  have hN := w.2.2.1
  have w0 := wk_r (S := S) w
  delta FX99_toInteger_282 BX99_toInteger_282
  exact q_tA hN w0 (wX99_toInteger_311 S Z hS n _ _ _ _ _ w0.1 z_a0)
theorem wX99_toInteger_220 (S Z : Nat → Prop) {hx N : Nat} (hS : ∀ x, fe_mem lX99_toInteger x = true → S x) (n : Nat) (a0 : Nat) (a1 : Int32) (a3 : Int32) (a4 : Int32) (a5 : Int32) (s0 : Int32) (M : FM) (w : WI Z hx N M) (z_a0 : Z a0) : pq (FX99_toInteger_220 n a0 a1 a3 a4 a5 s0 M) (QA S Z hx N M) := by
  have hN := w.2.2.1
  have w0 := wk_r (S := S) w
  delta FX99_toInteger_220 BX99_toInteger_220
  refine pq_fi (fun _ => ?_) (fun _ => ?_)
  · refine pq_g (fun g1 => ?_)
    refine pq_fi (fun _ => ?_) (fun _ => ?_)
    · refine pq_fi (fun _ => ?_) (fun _ => ?_)
      · refine pq_fi (fun _ => ?_) (fun _ => ?_)
        · refine pq_fi (fun _ => ?_) (fun _ => ?_)
          · refine pq_g (fun g2 => ?_)
            refine pq_fi (fun _ => ?_) (fun _ => ?_)
            · exact q_tA hN w0 (wX99_toInteger_311 S Z hS n _ _ _ _ _ w0.1 z_a0)
            · exact q_tA hN w0 (wX99_toInteger_282 S Z hS n _ _ _ _ w0.1 z_a0)
          · exact q_tA hN w0 (wX99_toInteger_282 S Z hS n _ _ _ _ w0.1 z_a0)
        · refine pq_fi (fun _ => ?_) (fun _ => ?_)
          · exact q_tA hN w0 (wX99_toInteger_310 S Z hS n _ _ _ _ w0.1 z_a0)
          · refine pq_g (fun g3 => ?_)
            refine pq_fi (fun _ => ?_) (fun _ => ?_)
            · exact q_tA hN w0 (wX99_toInteger_310 S Z hS n _ _ _ _ w0.1 z_a0)
            · exact q_tA hN w0 (wX99_toInteger_311 S Z hS n _ _ _ _ _ w0.1 z_a0)
      · refine pq_g (fun g4 => ?_)
        refine pq_fi (fun _ => ?_) (fun _ => ?_)
        · exact q_tA hN w0 (wX99_toInteger_311 S Z hS n _ _ _ _ _ w0.1 z_a0)
        · exact q_tA hN w0 (wX99_toInteger_311 S Z hS n _ _ _ _ _ w0.1 z_a0)
    · refine pq_fi (fun _ => ?_) (fun _ => ?_)
      · exact q_tA hN w0 (wX99_toInteger_347 S Z hS n _ _ _ _ _ w0.1 z_a0)
      · refine pq_fi (fun _ => ?_) (fun _ => ?_)
        · refine pq_g (fun g5 => ?_)
          refine pq_b (wX99_most S Z (sb rfl hS) _ _ w0.1 ) (fun r6 K7 => ?_)
          have w8 := wk_t w0 K7 hN
          refine pq_fi (fun _ => ?_) (fun _ => ?_)
          · exact q_tA hN w8 (wX99_toInteger_347 S Z hS n _ _ _ _ _ w8.1 z_a0)
          · exact q_tA hN w8 (wX99_toInteger_342 S Z hS n _ _ _ _ w8.1 z_a0)
        · exact q_tA hN w0 (wX99_toInteger_342 S Z hS n _ _ _ _ w0.1 z_a0)
  · exact q_tA hN w0 (wX99_toInteger_349 S Z hS n _ _ _ _ _ w0.1 z_a0)
theorem wX99_toInteger_204 (S Z : Nat → Prop) {hx N : Nat} (hS : ∀ x, fe_mem lX99_toInteger x = true → S x) (n : Nat) (a0 : Nat) (a1 : Int32) (a3 : Int32) (a4 : Int32) (s0 : Int32) (M : FM) (w : WI Z hx N M) (z_a0 : Z a0) : pq (FX99_toInteger_204 n a0 a1 a3 a4 s0 M) (QA S Z hx N M) := by
  have hN := w.2.2.1
  have w0 := wk_r (S := S) w
  delta FX99_toInteger_204 BX99_toInteger_204
  refine pq_g (fun g1 => ?_)
  refine pq_fi (fun _ => ?_) (fun _ => ?_)
  · exact q_tA hN w0 (wX99_toInteger_220 S Z hS n _ _ _ _ _ _ _ w0.1 z_a0)
  · exact q_tA hN w0 (wX99_toInteger_220 S Z hS n _ _ _ _ _ _ _ w0.1 z_a0)
theorem wX99_toInteger_185 (S Z : Nat → Prop) {hx N : Nat} (hS : ∀ x, fe_mem lX99_toInteger x = true → S x) (n : Nat) (a0 : Nat) (a1 : Int32) (s0 : Int32) (M : FM) (w : WI Z hx N M) (z_a0 : Z a0) : pq (FX99_toInteger_185 n a0 a1 s0 M) (QA S Z hx N M) := by
  have hN := w.2.2.1
  have w0 := wk_r (S := S) w
  delta FX99_toInteger_185 BX99_toInteger_185
  refine pq_g (fun g1 => ?_)
  refine pq_n ?_
  refine pq_fi (fun _ => ?_) (fun _ => ?_)
  · exact q_tA hN w0 (wX99_toInteger_204 S Z hS n _ _ _ _ _ _ w0.1 z_a0)
  · exact q_tA hN w0 (wX99_toInteger_204 S Z hS n _ _ _ _ _ _ w0.1 z_a0)
theorem wX99_toInteger_184 (S Z : Nat → Prop) {hx N : Nat} (hS : ∀ x, fe_mem lX99_toInteger x = true → S x) (n : Nat) (a0 : Nat) (a1 : Int32) (M : FM) (w : WI Z hx N M) (z_a0 : Z a0) : pq (FX99_toInteger_184 n a0 a1 M) (QA S Z hx N M) := by
  have hN := w.2.2.1
  have w0 := wk_r (S := S) w
  delta FX99_toInteger_184 BX99_toInteger_184
  exact q_tA hN w0 (wX99_toInteger_185 S Z hS n _ _ _ _ w0.1 z_a0)
theorem wX99_toInteger_180 (S Z : Nat → Prop) {hx N : Nat} (hS : ∀ x, fe_mem lX99_toInteger x = true → S x) (n : Nat) (a0 : Nat) (a1 : Int32) (M : FM) (w : WI Z hx N M) (z_a0 : Z a0) : pq (FX99_toInteger_180 n a0 a1 M) (QA S Z hx N M) := by
  have hN := w.2.2.1
  have w0 := wk_r (S := S) w
  delta FX99_toInteger_180 BX99_toInteger_180
  exact q_tA hN w0 (wX99_toInteger_185 S Z hS n _ _ _ _ w0.1 z_a0)
theorem wX99_toInteger_119 (S Z : Nat → Prop) {hx N : Nat} (hS : ∀ x, fe_mem lX99_toInteger x = true → S x) (n : Nat) (a1 : Int32) (s0 : Nat) (s1 : Int32) (M : FM) (w : WI Z hx N M) (z_s0 : Z s0) : pq (FX99_toInteger_119 n a1 s0 s1 M) (QA S Z hx N M) := by
  have hN := w.2.2.1
  have w0 := wk_r (S := S) w
  delta FX99_toInteger_119 BX99_toInteger_119
  refine pq_g (fun g1 => ?_)
  refine pq_b (wX99_beyond S Z (sb rfl hS) _ _ _ _ w0.1 z_s0) (fun r2 K3 => ?_)
  have w4 := wk_t w0 K3 hN
  exact pq_s w4
theorem wX99_toInteger_50 (S Z : Nat → Prop) {hx N : Nat} (hS : ∀ x, fe_mem lX99_toInteger x = true → S x) (n : Nat) (a0 : Nat) (a1 : Int32) (a2 : Int32) (M : FM) (w : WI Z hx N M) (z_a0 : Z a0) : pq (FX99_toInteger_50 n a0 a1 a2 M) (QA S Z hx N M) := by
  have hN := w.2.2.1
  have w0 := wk_r (S := S) w
  delta FX99_toInteger_50 BX99_toInteger_50
  refine pq_g (fun g1 => ?_)
  have z2 := wk_z (i := 0) (f := 379) w0 rfl z_a0
  have f3 := sS_379 w0.1.1 g1
  refine pq_g (fun g4 => ?_)
  have z5 := wk_z (i := 0) (f := 377) w0 rfl z_a0
  have f6 := sS_377 w0.1.1 g4
  refine pq_g (fun g7 => ?_)
  refine pq_b (wX99_put S Z (sb rfl hS) n _ _ _ w0.1 z2 (sy_s f3 (hS 1379 rfl))) (fun r8 K9 => ?_)
  have w10 := wk_t w0 K9 hN
  refine pq_g (fun g11 => ?_)
  have z12 := wk_z (i := 0) (f := 378) w10 rfl z_a0
  have f13 := sS_378 w10.1.1 g11
  refine pq_g (fun g14 => ?_)
  refine pq_g (fun g15 => ?_)
  extract_lets +onlyGivenNames M17
  have w16 : Wk S Z hx N M M17 := wk_fI hN w10 rfl rfl g15 z_a0 (Or.inr (hS 383 rfl))
  refine pq_g (fun g18 => ?_)
  have z19 := wk_z (i := 0) (f := 376) w16 rfl z_a0
  have f20 := sS_376 w16.1.1 g18
  refine pq_g (fun g21 => ?_)
  refine pq_g (fun g22 => ?_)
  extract_lets +onlyGivenNames M24
  have w23 : Wk S Z hx N M M24 := wk_fI hN w16 rfl rfl g22 z_a0 (Or.inr (hS 382 rfl))
  refine pq_g (fun g25 => ?_)
  refine pq_g (fun _ => ?_)
  extract_lets +onlyGivenNames M27
  have w26 : Wk S Z hx N M M27 := wk_fI hN w23 rfl rfl g25 z_a0 (Or.inr (hS 381 rfl))
  refine pq_g (fun g28 => ?_)
  have z29 := wk_z (i := 0) (f := 379) w26 rfl z_a0
  have f30 := sS_379 w26.1.1 g28
  refine pq_b (wX99_length S Z (sb rfl hS) n _ _ w26.1 z29) (fun r31 K32 => ?_)
  have w33 := wk_t w26 K32 hN
  refine pq_g (fun g34 => ?_)
  refine pq_fi (fun _ => ?_) (fun _ => ?_)
  · refine pq_g (fun g35 => ?_)
    refine pq_b (wX99_roundTo S Z (sb rfl hS) n _ _ _ _ w33.1 z_a0) (fun r36 K37 => ?_)
    have w38 := wk_t w33 K37 hN
    refine pq_g (fun g39 => ?_)
    have z40 := wk_z (i := 0) (f := 379) w38 rfl z_a0
    have f41 := sS_379 w38.1.1 g39
    refine pq_g (fun g42 => ?_)
    refine pq_b (wX99_bit S Z (sb rfl hS) _ _ _ w38.1 z40) (fun r43 K44 => ?_)
    have w45 := wk_t w38 K44 hN
    refine pq_fi (fun _ => ?_) (fun _ => ?_)
    · refine pq_g (fun g46 => ?_)
      refine pq_fi (fun _ => ?_) (fun _ => ?_)
      · refine pq_g (fun g47 => ?_)
        refine pq_fi (fun _ => ?_) (fun _ => ?_)
        · exact q_tA hN w45 (wX99_toInteger_184 S Z hS n _ _ _ w45.1 z_a0)
        · refine pq_g (fun g48 => ?_)
          have z49 := wk_z (i := 0) (f := 379) w45 rfl z_a0
          have f50 := sS_379 w45.1.1 g48
          refine pq_g (fun g51 => ?_)
          refine pq_b (wX99_bit S Z (sb rfl hS) _ _ _ w45.1 z49) (fun r52 K53 => ?_)
          have w54 := wk_t w45 K53 hN
          refine pq_fi (fun _ => ?_) (fun _ => ?_)
          · exact q_tA hN w54 (wX99_toInteger_184 S Z hS n _ _ _ w54.1 z_a0)
          · exact q_tA hN w54 (wX99_toInteger_180 S Z hS n _ _ _ w54.1 z_a0)
      · exact q_tA hN w45 (wX99_toInteger_184 S Z hS n _ _ _ w45.1 z_a0)
    · exact q_tA hN w45 (wX99_toInteger_180 S Z hS n _ _ _ w45.1 z_a0)
  · refine pq_g (fun g55 => ?_)
    refine pq_fi (fun _ => ?_) (fun _ => ?_)
    · exact q_tA hN w33 (wX99_toInteger_119 S Z hS n _ _ _ _ w33.1 z_a0)
    · exact q_tA hN w33 (wX99_toInteger_119 S Z hS n _ _ _ _ w33.1 z_a0)
theorem wX99_toInteger_45 (S Z : Nat → Prop) {hx N : Nat} (hS : ∀ x, fe_mem lX99_toInteger x = true → S x) (n : Nat) (a1 : Int32) (s0 : Nat) (s1 : Int32) (M : FM) (w : WI Z hx N M) (z_s0 : Z s0) : pq (FX99_toInteger_45 n a1 s0 s1 M) (QA S Z hx N M) := by
  have hN := w.2.2.1
  have w0 := wk_r (S := S) w
  delta FX99_toInteger_45 BX99_toInteger_45
  refine pq_g (fun g1 => ?_)
  refine pq_b (wX99_beyond S Z (sb rfl hS) _ _ _ _ w0.1 z_s0) (fun r2 K3 => ?_)
  have w4 := wk_t w0 K3 hN
  exact pq_s w4
theorem wX99_toInteger_44 (S Z : Nat → Prop) {hx N : Nat} (hS : ∀ x, fe_mem lX99_toInteger x = true → S x) (n : Nat) (a1 : Int32) (s0 : Nat) (M : FM) (w : WI Z hx N M) (z_s0 : Z s0) : pq (FX99_toInteger_44 n a1 s0 M) (QA S Z hx N M) := by
  have hN := w.2.2.1
  have w0 := wk_r (S := S) w
  delta FX99_toInteger_44 BX99_toInteger_44
  exact q_tA hN w0 (wX99_toInteger_45 S Z hS n _ _ _ _ w0.1 z_s0)
theorem wX99_toInteger_0 (S Z : Nat → Prop) {hx N : Nat} (hS : ∀ x, fe_mem lX99_toInteger x = true → S x) (n : Nat) (a0 : Nat) (a1 : Int32) (a2 : Int32) (M : FM) (w : WI Z hx N M) (z_a0 : Z a0) : pq (FX99_toInteger_0 n a0 a1 a2 M) (QA S Z hx N M) := by
  have hN := w.2.2.1
  have w0 := wk_r (S := S) w
  delta FX99_toInteger_0 BX99_toInteger_0
  refine pq_g (fun g1 => ?_)
  have z2 := wk_z (i := 0) (f := 375) w0 rfl z_a0
  have f3 := sS_375 w0.1.1 g1
  refine pq_g (fun g4 => ?_)
  refine pq_fi (fun _ => ?_) (fun _ => ?_)
  · exact q_tA hN w0 (wX99_toInteger_50 S Z hS n _ _ _ _ w0.1 z_a0)
  · refine pq_g (fun g5 => ?_)
    have z6 := wk_z (i := 0) (f := 375) w0 rfl z_a0
    have f7 := sS_375 w0.1.1 g5
    refine pq_g (fun g8 => ?_)
    refine pq_fi (fun _ => ?_) (fun _ => ?_)
    · exact q_tA hN w0 (wX99_toInteger_50 S Z hS n _ _ _ _ w0.1 z_a0)
    · refine pq_g (fun g9 => ?_)
      have z10 := wk_z (i := 0) (f := 375) w0 rfl z_a0
      have f11 := sS_375 w0.1.1 g9
      refine pq_g (fun g12 => ?_)
      refine pq_fi (fun _ => ?_) (fun _ => ?_)
      · refine pq_g (fun g13 => ?_)
        have z14 := wk_z (i := 0) (f := 376) w0 rfl z_a0
        have f15 := sS_376 w0.1.1 g13
        refine pq_g (fun g16 => ?_)
        refine pq_fi (fun _ => ?_) (fun _ => ?_)
        · exact q_tA hN w0 (wX99_toInteger_45 S Z hS n _ _ _ _ w0.1 z_a0)
        · exact q_tA hN w0 (wX99_toInteger_44 S Z hS n _ _ _ w0.1 z_a0)
      · exact q_tA hN w0 (wX99_toInteger_44 S Z hS n _ _ _ w0.1 z_a0)
theorem wX99_toInteger (S Z : Nat → Prop) {hx N : Nat} (hS : ∀ x, fe_mem lX99_toInteger x = true → S x) (n : Nat) (a0 : Nat) (a1 : Int32) (a2 : Int32) (M : FM) (w : WI Z hx N M) (z_a0 : Z a0) : pq (FX99_toInteger n a0 a1 a2 M) (QA S Z hx N M) := wX99_toInteger_0 S Z hS n a0 a1 a2 M w z_a0
