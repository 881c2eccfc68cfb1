set_option maxRecDepth 100000
def lX33_look : List Nat := [228]
theorem wX33_look_0 (S Z : Nat → Prop) {hx N : Nat} (hS : ∀ x, fe_mem lX33_look x = true → S x) (a0 : Nat) (M : FM) (w : WI Z hx N M) (z_a0 : Z a0) : pq (FX33_look_0 a0 M) (QV S Z hx N M) := by
  have hN := w.2.2.1
  have w0 := wk_r (S := S) w
  delta FX33_look_0 BX33_look_0
  refine pq_g (fun g1 => ?_)
  refine pq_g (fun g2 => ?_)
  refine pq_g (fun g3 => ?_)
  refine pq_g (fun g4 => ?_)
  extract_lets +onlyGivenNames M6
  have w5 : Wk S Z hx N M M6 := wk_fI hN w0 rfl rfl g4 z_a0 (Or.inr (hS 228 rfl))
  exact pq_s w5
theorem wX33_look (S Z : Nat → Prop) {hx N : Nat} (hS : ∀ x, fe_mem lX33_look x = true → S x) (a0 : Nat) (M : FM) (w : WI Z hx N M) (z_a0 : Z a0) : pq (FX33_look a0 M) (QV S Z hx N M) := wX33_look_0 S Z hS a0 M w z_a0
def lX33_signal : List Nat := [227, 228]
theorem wX33_signal_26 (S Z : Nat → Prop) {hx N : Nat} (hS : ∀ x, fe_mem lX33_signal x = true → S x) (a0 : Nat) (s0 : Nat) (s1 : Int32) (M : FM) (w : WI Z hx N M) (z_a0 : Z a0) (z_s0 : Z s0) : pq (FX33_signal_26 a0 s0 s1 M) (QV S Z hx N M) := by
  have hN := w.2.2.1
  have w0 := wk_r (S := S) w
  delta FX33_signal_26 BX33_signal_26
  refine pq_g (fun g1 => ?_)
  extract_lets +onlyGivenNames M3
  have w2 : Wk S Z hx N M M3 := wk_fI hN w0 rfl rfl g1 z_s0 (Or.inr (hS 227 rfl))
  refine pq_g (fun g4 => ?_)
  refine pq_b (wX33_look S Z (sb rfl hS) _ _ w2.1 z_a0) (fun r5 K6 => ?_)
  have w7 := wk_t w2 K6 hN
  exact pq_s w7
theorem wX33_signal_0 (S Z : Nat → Prop) {hx N : Nat} (hS : ∀ x, fe_mem lX33_signal x = true → S x) (a0 : Nat) (a1 : Int32) (a2 : Int32) (M : FM) (w : WI Z hx N M) (z_a0 : Z a0) : pq (FX33_signal_0 a0 a1 a2 M) (QV S Z hx N M) := by
  have hN := w.2.2.1
  have w0 := wk_r (S := S) w
  delta FX33_signal_0 BX33_signal_0
  refine pq_fi (fun _ => ?_) (fun _ => ?_)
  · refine pq_g (fun g1 => ?_)
    exact q_tV hN w0 (wX33_signal_26 S Z hS _ _ _ _ w0.1 z_a0 z_a0)
  · refine pq_g (fun g2 => ?_)
    exact q_tV hN w0 (wX33_signal_26 S Z hS _ _ _ _ w0.1 z_a0 z_a0)
theorem wX33_signal (S Z : Nat → Prop) {hx N : Nat} (hS : ∀ x, fe_mem lX33_signal x = true → S x) (a0 : Nat) (a1 : Int32) (a2 : Int32) (M : FM) (w : WI Z hx N M) (z_a0 : Z a0) : pq (FX33_signal a0 a1 a2 M) (QV S Z hx N M) := wX33_signal_0 S Z hS a0 a1 a2 M w z_a0
def lX30_look : List Nat := [227, 228]
theorem wX30_look_22 (S Z : Nat → Prop) {hx N : Nat} (hS : ∀ x, fe_mem lX30_look x = true → S x) (s0 : Nat) (s1 : Int32) (s2 : Int32) (M : FM) (w : WI Z hx N M) (z_s0 : Z s0) : pq (FX30_look_22 s0 s1 s2 M) (QV S Z hx N M) := by
  have hN := w.2.2.1
  have w0 := wk_r (S := S) w
  delta FX30_look_22 BX30_look_22
  refine pq_g (fun g1 => ?_)
  refine pq_b (wX33_signal S Z (sb rfl hS) _ _ _ _ w0.1 z_s0) (fun r2 K3 => ?_)
  have w4 := wk_t w0 K3 hN
  exact pq_s w4
theorem wX30_look_0 (S Z : Nat → Prop) {hx N : Nat} (hS : ∀ x, fe_mem lX30_look x = true → S x) (a0 : Nat) (M : FM) (w : WI Z hx N M) (z_a0 : Z a0) : pq (FX30_look_0 a0 M) (QV S Z hx N M) := by
  have hN := w.2.2.1
  have w0 := wk_r (S := S) w
  delta FX30_look_0 BX30_look_0
  refine pq_g (fun g1 => ?_)
  have z2 := wk_z (i := 0) (f := 241) w0 rfl z_a0
  refine pq_g (fun g3 => ?_)
  have z4 := wk_z (i := 0) (f := 242) w0 rfl z_a0
  refine pq_g (fun g5 => ?_)
  refine pq_b (wX31_cause S Z (sb rfl hS) _ _ w0.1 z4) (fun r6 K7 => ?_)
  have w8 := wk_t w0 K7 hN
  refine pq_fi (fun _ => ?_) (fun _ => ?_)
  · exact q_tV hN w8 (wX30_look_22 S Z hS _ _ _ _ w8.1 z2)
  · exact q_tV hN w8 (wX30_look_22 S Z hS _ _ _ _ w8.1 z2)
theorem wX30_look (S Z : Nat → Prop) {hx N : Nat} (hS : ∀ x, fe_mem lX30_look x = true → S x) (a0 : Nat) (M : FM) (w : WI Z hx N M) (z_a0 : Z a0) : pq (FX30_look a0 M) (QV S Z hx N M) := wX30_look_0 S Z hS a0 M w z_a0
def lX30_read : List Nat := [227, 228, 229, 231, 232, 237, 238]
theorem wX30_read_0 (S Z : Nat → Prop) {hx N : Nat} (hS : ∀ x, fe_mem lX30_read x = true → S x) (n : Nat) (a0 : Nat) (a1 : Int32) (a2 : Int64) (a4 : Int32) (M : FM) (w : WI Z hx N M) (z_a0 : Z a0) : pq (FX30_read_0 n a0 a1 a2 a4 M) (QA S Z hx N M) := by
  have hN := w.2.2.1
  have w0 := wk_r (S := S) w
  delta FX30_read_0 BX30_read_0
  refine pq_g (fun g1 => ?_)
  have z2 := wk_z (i := 0) (f := 243) w0 rfl z_a0
  have f3 := sS_243 w0.1.1 g1
  refine pq_g (fun g4 => ?_)
  have z5 := fun i => wk_ze (i := i) w0 rfl g4.1 f3 rfl z2
  refine pq_fi (fun _ => ?_) (fun _ => ?_)
  · refine pq_b (wX33_read S Z (sb rfl hS) n _ _ _ _ w0.1 (z5 _)) (fun r6 K7 => ?_)
    have w8 := wk_t w0 K7 hN
    refine pq_g (fun g9 => ?_)
    refine pq_b (wX30_look S Z (sb rfl hS) _ _ w8.1 z_a0) (fun r10 K11 => ?_)
    have w12 := wk_t w8 K11 hN
    exact pq_s w12
  · refine pq_fi (fun _ => ?_) (fun _ => ?_)
    · refine pq_b (wX31_read S Z (sb rfl hS) _ _ _ _ w0.1 (z5 _)) (fun r13 K14 => ?_)
      have w15 := wk_t w0 K14 hN
      refine pq_g (fun g16 => ?_)
      refine pq_b (wX30_look S Z (sb rfl hS) _ _ w15.1 z_a0) (fun r17 K18 => ?_)
      have w19 := wk_t w15 K18 hN
      exact pq_s w19
    · refine pq_fi (fun _ => ?_) (fun _ => ?_)
      · refine pq_b (wX32_read S Z (sb rfl hS) _ _ _ _ w0.1 (z5 _)) (fun r20 K21 => ?_)
        have w22 := wk_t w0 K21 hN
        refine pq_g (fun g23 => ?_)
        refine pq_b (wX30_look S Z (sb rfl hS) _ _ w22.1 z_a0) (fun r24 K25 => ?_)
        have w26 := wk_t w22 K25 hN
        exact pq_s w26
      · exact pq_0
theorem wX30_read (S Z : Nat → Prop) {hx N : Nat} (hS : ∀ x, fe_mem lX30_read x = true → S x) (n : Nat) (a0 : Nat) (a1 : Int32) (a2 : Int64) (a4 : Int32) (M : FM) (w : WI Z hx N M) (z_a0 : Z a0) : pq (FX30_read n a0 a1 a2 a4 M) (QA S Z hx N M) := wX30_read_0 S Z hS n a0 a1 a2 a4 M w z_a0
def lX18_read : List Nat := []
theorem wX18_read_152 (S Z : Nat → Prop) {hx N : Nat} (hS : ∀ x, fe_mem lX18_read x = true → S x) (s0 : Int32) (M : FM) (w : WI Z hx N M) : pq (FX18_read_152 s0 M) (QA S Z hx N M) := by
  have hN := w.2.2.1
  have w0 := wk_r (S := S) w
  delta FX18_read_152 BX18_read_152
  exact pq_s w0
theorem wX18_read_151 (S Z : Nat → Prop) {hx N : Nat} (hS : ∀ x, fe_mem lX18_read x = true → S x) (M : FM) (w : WI Z hx N M) : pq (FX18_read_151 M) (QA S Z hx N M) := by
  have hN := w.2.2.1
  have w0 := wk_r (S := S) w
  delta FX18_read_151 BX18_read_151
  exact q_tA hN w0 (wX18_read_152 S Z hS _ _ w0.1 )
theorem wX18_read_129 (S Z : Nat → Prop) {hx N : Nat} (hS : ∀ x, fe_mem lX18_read x = true → S x) (s0 : Int32) (M : FM) (w : WI Z hx N M) : pq (FX18_read_129 s0 M) (QA S Z hx N M) := by
  have hN := w.2.2.1
  have w0 := wk_r (S := S) w
  delta FX18_read_129 BX18_read_129
  exact pq_s w0
theorem wX18_read_115 (S Z : Nat → Prop) {hx N : Nat} (hS : ∀ x, fe_mem lX18_read x = true → S x) (s0 : Int32) (M : FM) (w : WI Z hx N M) : pq (FX18_read_115 s0 M) (QA S Z hx N M) := by
  have hN := w.2.2.1
  have w0 := wk_r (S := S) w
  delta FX18_read_115 BX18_read_115
  exact pq_s w0
theorem wX18_read_87 (S Z : Nat → Prop) {hx N : Nat} (hS : ∀ x, fe_mem lX18_read x = true → S x) (M : FM) (w : WI Z hx N M) : pq (FX18_read_87 M) (QA S Z hx N M) := by
  have hN := w.2.2.1
  have w0 := wk_r (S := S) w
  delta FX18_read_87 BX18_read_87
  exact pq_s w0
theorem wX18_read_0 (S Z : Nat → Prop) {hx N : Nat} (hS : ∀ x, fe_mem lX18_read x = true → S x) (a0 : Nat) (a1 : Int32) (M : FM) (w : WI Z hx N M) (z_a0 : Z a0) : pq (FX18_read_0 a0 a1 M) (QA S Z hx N M) := by
  have hN := w.2.2.1
  have w0 := wk_r (S := S) w
  delta FX18_read_0 BX18_read_0
  refine pq_fi (fun _ => ?_) (fun _ => ?_)
  · exact pq_s w0
  · refine pq_fi (fun _ => ?_) (fun _ => ?_)
    · exact q_tA hN w0 (wX18_read_87 S Z hS _ w0.1 )
    · refine pq_fi (fun _ => ?_) (fun _ => ?_)
      · exact q_tA hN w0 (wX18_read_87 S Z hS _ w0.1 )
      · refine pq_fi (fun _ => ?_) (fun _ => ?_)
        · refine pq_g (fun g1 => ?_)
          refine pq_fi (fun _ => ?_) (fun _ => ?_)
          · exact q_tA hN w0 (wX18_read_115 S Z hS _ _ w0.1 )
          · refine pq_g (fun g2 => ?_)
            refine pq_fi (fun _ => ?_) (fun _ => ?_)
            · exact q_tA hN w0 (wX18_read_115 S Z hS _ _ w0.1 )
            · exact q_tA hN w0 (wX18_read_115 S Z hS _ _ w0.1 )
        · refine pq_fi (fun _ => ?_) (fun _ => ?_)
          · refine pq_g (fun g3 => ?_)
            refine pq_fi (fun _ => ?_) (fun _ => ?_)
            · exact q_tA hN w0 (wX18_read_129 S Z hS _ _ w0.1 )
            · exact q_tA hN w0 (wX18_read_129 S Z hS _ _ w0.1 )
          · refine pq_fi (fun _ => ?_) (fun _ => ?_)
            · refine pq_g (fun g4 => ?_)
              refine pq_fi (fun _ => ?_) (fun _ => ?_)
              · refine pq_g (fun g5 => ?_)
                have z6 := wk_z (i := 0) (f := 60) w0 rfl z_a0
                refine pq_g (fun g7 => ?_)
                refine pq_fi (fun _ => ?_) (fun _ => ?_)
                · exact q_tA hN w0 (wX18_read_151 S Z hS _ w0.1 )
                · exact q_tA hN w0 (wX18_read_152 S Z hS _ _ w0.1 )
              · exact q_tA hN w0 (wX18_read_151 S Z hS _ w0.1 )
            · refine pq_fi (fun _ => ?_) (fun _ => ?_)
              · refine pq_g (fun g8 => ?_)
                exact pq_s w0
              · refine pq_fi (fun _ => ?_) (fun _ => ?_)
                · refine pq_g (fun g9 => ?_)
                  exact pq_s w0
                · refine pq_fi (fun _ => ?_) (fun _ => ?_)
                  · refine pq_g (fun g10 => ?_)
                    have z11 := wk_z (i := 0) (f := 59) w0 rfl z_a0
                    refine pq_g (fun g12 => ?_)
                    exact pq_s w0
                  · exact pq_s w0
theorem wX18_read (S Z : Nat → Prop) {hx N : Nat} (hS : ∀ x, fe_mem lX18_read x = true → S x) (a0 : Nat) (a1 : Int32) (M : FM) (w : WI Z hx N M) (z_a0 : Z a0) : pq (FX18_read a0 a1 M) (QA S Z hx N M) := wX18_read_0 S Z hS a0 a1 M w z_a0
def lX10_read : List Nat := [227, 228, 229, 231, 232, 237, 238]
theorem wX10_read_112 (S Z : Nat → Prop) {hx N : Nat} (hS : ∀ x, fe_mem lX10_read x = true → S x) (n : Nat) (s0 : Int64) (M : FM) (w : WI Z hx N M) : pq (FX10_read_112 n s0 M) (QA S Z hx N M) := by
  have hN := w.2.2.1
  have w0 := wk_r (S := S) w
  delta FX10_read_112 BX10_read_112
  exact pq_s w0
theorem wX10_read_0 (S Z : Nat → Prop) {hx N : Nat} (hS : ∀ x, fe_mem lX10_read x = true → S x) (n : Nat) (a0 : Nat) (a1 : Nat) (a2 : Int64) (a4 : Int32) (M : FM) (w : WI Z hx N M) (z_a0 : Z a0) (z_a1 : Z a1) : pq (FX10_read_0 n a0 a1 a2 a4 M) (QA S Z hx N M) := by
  have hN := w.2.2.1
  have w0 := wk_r (S := S) w
  delta FX10_read_0 BX10_read_0
  refine pq_g (fun g1 => ?_)
  refine pq_g (fun g2 => ?_)
  refine pq_b (wJ0_ordinal S Z (sb rfl hS) _ _ w0.1 z_a1) (fun r3 K4 => ?_)
  have w5 := wk_t w0 K4 hN
  refine pq_fi (fun _ => ?_) (fun _ => ?_)
  · refine pq_g (fun g6 => ?_)
    have z7 := wk_z (i := 0) (f := 19) w5 rfl z_a0
    refine pq_g (fun g8 => ?_)
    refine pq_b (wX30_read S Z (sb rfl hS) n _ _ _ _ _ w5.1 z7) (fun r9 K10 => ?_)
    have w11 := wk_t w5 K10 hN
    exact pq_s w11
  · refine pq_fi (fun _ => ?_) (fun _ => ?_)
    · refine pq_g (fun g12 => ?_)
      have z13 := wk_z (i := 0) (f := 19) w5 rfl z_a0
      refine pq_g (fun g14 => ?_)
      refine pq_b (wX30_read S Z (sb rfl hS) n _ _ _ _ _ w5.1 z13) (fun r15 K16 => ?_)
      have w17 := wk_t w5 K16 hN
      exact pq_s w17
    · refine pq_fi (fun _ => ?_) (fun _ => ?_)
      · refine pq_g (fun g18 => ?_)
        have z19 := wk_z (i := 0) (f := 19) w5 rfl z_a0
        refine pq_g (fun g20 => ?_)
        refine pq_b (wX30_read S Z (sb rfl hS) n _ _ _ _ _ w5.1 z19) (fun r21 K22 => ?_)
        have w23 := wk_t w5 K22 hN
        exact pq_s w23
      · refine pq_fi (fun _ => ?_) (fun _ => ?_)
        · refine pq_b (wX10_isRegister S Z (sb rfl hS) _ _ _ w5.1 ) (fun r24 K25 => ?_)
          have w26 := wk_t w5 K25 hN
          refine pq_fi (fun _ => ?_) (fun _ => ?_)
          · exact q_tA hN w26 (wX10_read_112 S Z hS n _ _ w26.1 )
          · refine pq_g (fun g27 => ?_)
            have z28 := wk_z (i := 0) (f := 20) w26 rfl z_a0
            refine pq_g (fun g29 => ?_)
            refine pq_b (wX18_read S Z (sb rfl hS) _ _ _ w26.1 z28) (fun r30 K31 => ?_)
            have w32 := wk_t w26 K31 hN
            exact q_tA hN w32 (wX10_read_112 S Z hS n _ _ w32.1 )
        · exact pq_s w5
theorem wX10_read (S Z : Nat → Prop) {hx N : Nat} (hS : ∀ x, fe_mem lX10_read x = true → S x) (n : Nat) (a0 : Nat) (a1 : Nat) (a2 : Int64) (a4 : Int32) (M : FM) (w : WI Z hx N M) (z_a0 : Z a0) (z_a1 : Z a1) : pq (FX10_read n a0 a1 a2 a4 M) (QA S Z hx N M) := wX10_read_0 S Z hS n a0 a1 a2 a4 M w z_a0 z_a1
def lX73_load : List Nat := [227, 228, 229, 231, 232, 237, 238]
theorem wX73_load_61 (S Z : Nat → Prop) {hx N : Nat} (hS : ∀ x, fe_mem lX73_load x = true → S x) (n : Nat) (k61 : Nat → Nat → Int64 → Int32 → FM → Option (Int64 × FM)) (hk61 : ∀ (a0 : Nat) (a1 : Nat) (a2 : Int64) (a4 : Int32) (M : FM), WI Z hx N M → Z a0 → Z a1 → pq (k61 a0 a1 a2 a4 M) (QA S Z hx N M)) (a0 : Nat) (a1 : Nat) (a2 : Int64) (a4 : Int32) (M : FM) (w : WI Z hx N M) (z_a0 : Z a0) (z_a1 : Z a1) : pq (FX73_load_61 n k61 a0 a1 a2 a4 M) (QA S Z hx N M) := by
  have hN := w.2.2.1
  have w0 := wk_r (S := S) w
  delta FX73_load_61 BX73_load_61
  refine pq_fi (fun _ => ?_) (fun _ => ?_)
  · exact pq_s w0
  · refine pq_g (fun g1 => ?_)
    have z2 := wk_z (i := 0) (f := 18) w0 rfl z_a1
    refine pq_g (fun g3 => ?_)
    have z4 := wk_z (i := 0) (f := 121) w0 rfl z_a0
    have f5 := sS_121 w0.1.1 g3
    refine pq_g (fun g6 => ?_)
    refine pq_g (fun g7 => ?_)
    refine pq_b (wX11_load S Z (sb rfl hS) _ _ _ _ w0.1 z2) (fun r8 K9 => ?_)
    have w10 := wk_t w0 K9 hN
    exact q_tA hN w10 (hk61 _ _ _ _ _ w10.1 z_a0 z_a1)
theorem wX73_load_0 (S Z : Nat → Prop) {hx N : Nat} (hS : ∀ x, fe_mem lX73_load x = true → S x) (n : Nat) (k61 : Nat → Nat → Int64 → Int32 → FM → Option (Int64 × FM)) (hk61 : ∀ (a0 : Nat) (a1 : Nat) (a2 : Int64) (a4 : Int32) (M : FM), WI Z hx N M → Z a0 → Z a1 → pq (k61 a0 a1 a2 a4 M) (QA S Z hx N M)) (a0 : Nat) (a1 : Nat) (M : FM) (w : WI Z hx N M) (z_a0 : Z a0) (z_a1 : Z a1) : pq (FX73_load_0 n k61 a0 a1 M) (QA S Z hx N M) := by
  have hN := w.2.2.1
  have w0 := wk_r (S := S) w
  delta FX73_load_0 BX73_load_0
  refine pq_g (fun g1 => ?_)
  have z2 := wk_z (i := 0) (f := 124) w0 rfl z_a0
  refine pq_fi (fun _ => ?_) (fun _ => ?_)
  · refine pq_g (fun g3 => ?_)
    refine pq_fi (fun _ => ?_) (fun _ => ?_)
    · refine pq_g (fun g4 => ?_)
      exact q_tA hN w0 (hk61 _ _ _ _ _ w0.1 z_a0 z_a1)
    · refine pq_g (fun g5 => ?_)
      have z6 := wk_z (i := 0) (f := 18) w0 rfl z_a1
      refine pq_g (fun g7 => ?_)
      have z8 := wk_z (i := 0) (f := 121) w0 rfl z_a0
      have f9 := sS_121 w0.1.1 g7
      refine pq_g (fun g10 => ?_)
      refine pq_g (fun g11 => ?_)
      refine pq_g (fun g12 => ?_)
      refine pq_b (wX11_load S Z (sb rfl hS) _ _ _ _ w0.1 z6) (fun r13 K14 => ?_)
      have w15 := wk_t w0 K14 hN
      exact pq_s w15
  · refine pq_g (fun g16 => ?_)
    have z17 := wk_z (i := 0) (f := 124) w0 rfl z_a0
    refine pq_g (fun g18 => ?_)
    have z19 := wk_z (i := 0) (f := 121) w0 rfl z_a0
    have f20 := sS_121 w0.1.1 g18
    refine pq_g (fun g21 => ?_)
    refine pq_g (fun g22 => ?_)
    refine pq_g (fun g23 => ?_)
    refine pq_b (wX10_read S Z (sb rfl hS) n _ _ _ _ _ w0.1 z_a1 z17) (fun r24 K25 => ?_)
    have w26 := wk_t w0 K25 hN
    exact pq_s w26
theorem wX73_load_L (S Z : Nat → Prop) {hx N : Nat} (hS : ∀ x, fe_mem lX73_load x = true → S x) (n : Nat) : ∀ j : Nat, ∀ (a0 : Nat) (a1 : Nat) (a2 : Int64) (a4 : Int32) (M : FM), WI Z hx N M → Z a0 → Z a1 → pq (FX73_load_L61 n j a0 a1 a2 a4 M) (QA S Z hx N M)
  | 0 => by intros; exact pq_0
  | j + 1 => fun a0 a1 a2 a4 M w => wX73_load_61 S Z hS n _ (wX73_load_L S Z hS n j) a0 a1 a2 a4 M w
theorem wX73_load (S Z : Nat → Prop) {hx N : Nat} (hS : ∀ x, fe_mem lX73_load x = true → S x) (n : Nat) (a0 : Nat) (a1 : Nat) (M : FM) (w : WI Z hx N M) (z_a0 : Z a0) (z_a1 : Z a1) : pq (FX73_load n a0 a1 M) (QA S Z hx N M) := wX73_load_0 S Z hS n _ (wX73_load_L S Z hS n n) a0 a1 M w z_a0 z_a1
def lX57_finish : List Nat := [1178]
theorem wX57_finish_74 (S Z : Nat → Prop) {hx N : Nat} (hS : ∀ x, fe_mem lX57_finish x = true → S x) (s0 : Nat) (s1 : Int32) (s2 : Int64) (M : FM) (w : WI Z hx N M) (z_s0 : Z s0) : pq (FX57_finish_74 s0 s1 s2 M) (QV S Z hx N M) := by
  have hN := w.2.2.1
  have w0 := wk_r (S := S) w
  delta FX57_finish_74 BX57_finish_74
  refine pq_g (fun g1 => ?_)
  refine pq_b (wX48_set S Z (sb rfl hS) _ _ _ _ w0.1 z_s0) (fun r2 K3 => ?_)
  have w4 := wk_t w0 K3 hN
  exact pq_s w4
theorem wX57_finish_33 (S Z : Nat → Prop) {hx N : Nat} (hS : ∀ x, fe_mem lX57_finish x = true → S x) (a1 : Nat) (a2 : Nat) (a3 : Int64) (a5 : Int32) (s0 : Int32) (M : FM) (w : WI Z hx N M) (z_a1 : Z a1) (z_a2 : Z a2) : pq (FX57_finish_33 a1 a2 a3 a5 s0 M) (QV S Z hx N M) := by
  have hN := w.2.2.1
  have w0 := wk_r (S := S) w
  delta FX57_finish_33 BX57_finish_33
  refine pq_g (fun g1 => ?_)
  refine pq_g (fun g2 => ?_)
  refine pq_fi (fun _ => ?_) (fun _ => ?_)
  · exact q_tV hN w0 (wX57_finish_74 S Z hS _ _ _ _ w0.1 z_a1)
  · refine pq_fi (fun _ => ?_) (fun _ => ?_)
    · exact q_tV hN w0 (wX57_finish_74 S Z hS _ _ _ _ w0.1 z_a1)
    · exact q_tV hN w0 (wX57_finish_74 S Z hS _ _ _ _ w0.1 z_a1)
theorem wX57_finish_32 (S Z : Nat → Prop) {hx N : Nat} (hS : ∀ x, fe_mem lX57_finish x = true → S x) (a1 : Nat) (a2 : Nat) (a3 : Int64) (a5 : Int32) (M : FM) (w : WI Z hx N M) (z_a1 : Z a1) (z_a2 : Z a2) : pq (FX57_finish_32 a1 a2 a3 a5 M) (QV S Z hx N M) := by
  have hN := w.2.2.1
  have w0 := wk_r (S := S) w
  delta FX57_finish_32 BX57_finish_32
  exact q_tV hN w0 (wX57_finish_33 S Z hS _ _ _ _ _ _ w0.1 z_a1 z_a2)
theorem wX57_finish_0 (S Z : Nat → Prop) {hx N : Nat} (hS : ∀ x, fe_mem lX57_finish x = true → S x) (a0 : Nat) (a1 : Nat) (a2 : Nat) (a3 : Int64) (M : FM) (w : WI Z hx N M) (z_a0 : Z a0) (z_a1 : Z a1) (z_a2 : Z a2) : pq (FX57_finish_0 a0 a1 a2 a3 M) (QV S Z hx N M) := by
  have hN := w.2.2.1
  have w0 := wk_r (S := S) w
  delta FX57_finish_0 BX57_finish_0
  refine pq_g (fun g1 => ?_)
  refine pq_g (fun g2 => ?_)
  refine pq_fi (fun _ => ?_) (fun _ => ?_)
  · refine pq_g (fun g3 => ?_)
    refine pq_fi (fun _ => ?_) (fun _ => ?_)
    · exact q_tV hN w0 (wX57_finish_33 S Z hS _ _ _ _ _ _ w0.1 z_a1 z_a2)
    · exact q_tV hN w0 (wX57_finish_32 S Z hS _ _ _ _ _ w0.1 z_a1 z_a2)
  · exact q_tV hN w0 (wX57_finish_32 S Z hS _ _ _ _ _ w0.1 z_a1 z_a2)
theorem wX57_finish (S Z : Nat → Prop) {hx N : Nat} (hS : ∀ x, fe_mem lX57_finish x = true → S x) (a0 : Nat) (a1 : Nat) (a2 : Nat) (a3 : Int64) (M : FM) (w : WI Z hx N M) (z_a0 : Z a0) (z_a1 : Z a1) (z_a2 : Z a2) : pq (FX57_finish a0 a1 a2 a3 M) (QV S Z hx N M) := wX57_finish_0 S Z hS a0 a1 a2 a3 M w z_a0 z_a1 z_a2
def lX50_finish : List Nat := [1178]
theorem wX50_finish_0 (S Z : Nat → Prop) {hx N : Nat} (hS : ∀ x, fe_mem lX50_finish x = true → S x) (a0 : Nat) (a1 : Nat) (a2 : Nat) (a3 : Int64) (M : FM) (w : WI Z hx N M) (z_a0 : Z a0) (z_a1 : Z a1) (z_a2 : Z a2) : pq (FX50_finish_0 a0 a1 a2 a3 M) (QV S Z hx N M) := by
  have hN := w.2.2.1
  have w0 := wk_r (S := S) w
  delta FX50_finish_0 BX50_finish_0
  refine pq_g (fun g1 => ?_)
  refine pq_g (fun g2 => ?_)
  refine pq_b (wX48_set S Z (sb rfl hS) _ _ _ _ w0.1 z_a1) (fun r3 K4 => ?_)
  have w5 := wk_t w0 K4 hN
  exact pq_s w5
theorem wX50_finish (S Z : Nat → Prop) {hx N : Nat} (hS : ∀ x, fe_mem lX50_finish x = true → S x) (a0 : Nat) (a1 : Nat) (a2 : Nat) (a3 : Int64) (M : FM) (w : WI Z hx N M) (z_a0 : Z a0) (z_a1 : Z a1) (z_a2 : Z a2) : pq (FX50_finish a0 a1 a2 a3 M) (QV S Z hx N M) := wX50_finish_0 S Z hS a0 a1 a2 a3 M w z_a0 z_a1 z_a2
def lX47_finish : List Nat := [174, 177, 179, 1178]
theorem wX47_finish_25 (S Z : Nat → Prop) {hx N : Nat} (hS : ∀ x, fe_mem lX47_finish x = true → S x) (a0 : Nat) (a4 : Nat) (M : FM) (w : WI Z hx N M) (z_a0 : Z a0) (z_a4 : Z a4) : pq (FX47_finish_25 a0 a4 M) (QA S Z hx N M) := by
  have hN := w.2.2.1
  have w0 := wk_r (S := S) w
  delta FX47_finish_25 BX47_finish_25
  refine pq_g (fun g1 => ?_)
  have z2 := wk_z (i := 0) (f := 171) w0 rfl z_a0
  refine pq_g (fun g3 => ?_)
  refine pq_g (fun g4 => ?_)
  refine pq_g (fun g5 => ?_)
  extract_lets +onlyGivenNames M7
  have w6 : Wk S Z hx N M M7 := wk_fL hN w0 rfl rfl g5 z2 (Or.inr (hS 179 rfl))
  refine pq_g (fun g8 => ?_)
  extract_lets +onlyGivenNames M10
  have w9 : Wk S Z hx N M M10 := wk_fR hN w6 rfl rfl g8 z_a0 (Or.inr (hS 174 rfl)) (wk_zc w6 rfl) rfl rfl
  refine pq_g (fun g11 => ?_)
  refine pq_g (fun g12 => ?_)
  extract_lets +onlyGivenNames M14
  have w13 : Wk S Z hx N M M14 := wk_fL hN w9 rfl rfl g12 z_a0 (Or.inr (hS 177 rfl))
  refine pq_g (fun g15 => ?_)
  exact pq_s w13
theorem wX47_finish_0 (S Z : Nat → Prop) {hx N : Nat} (hS : ∀ x, fe_mem lX47_finish x = true → S x) (a0 : Nat) (a1 : Int32) (a2 : Int64) (M : FM) (w : WI Z hx N M) (z_a0 : Z a0) : pq (FX47_finish_0 a0 a1 a2 M) (QA S Z hx N M) := by
  have hN := w.2.2.1
  have w0 := wk_r (S := S) w
  delta FX47_finish_0 BX47_finish_0
  refine pq_g (fun g1 => ?_)
  have z2 := wk_z (i := 0) (f := 174) w0 rfl z_a0
  refine pq_fi (fun _ => ?_) (fun _ => ?_)
  · exact q_tA hN w0 (wX47_finish_25 S Z hS _ _ _ w0.1 z_a0 z2)
  · refine pq_g (fun g3 => ?_)
    have z4 := wk_z (i := 0) (f := 149) w0 rfl z2
    refine pq_g (fun g5 => ?_)
    have z6 := wk_z (i := 0) (f := 171) w0 rfl z_a0
    refine pq_fi (fun _ => ?_) (fun _ => ?_)
    · refine pq_b (wX57_finish S Z (sb rfl hS) _ _ _ _ _ w0.1 z4 z6 z2) (fun r7 K8 => ?_)
      have w9 := wk_t w0 K8 hN
      exact q_tA hN w9 (wX47_finish_25 S Z hS _ _ _ w9.1 z_a0 z2)
    · refine pq_fi (fun _ => ?_) (fun _ => ?_)
      · refine pq_b (wX50_finish S Z (sb rfl hS) _ _ _ _ _ w0.1 z4 z6 z2) (fun r10 K11 => ?_)
        have w12 := wk_t w0 K11 hN
        exact q_tA hN w12 (wX47_finish_25 S Z hS _ _ _ w12.1 z_a0 z2)
      · refine pq_fi (fun _ => ?_) (fun _ => ?_)
        · refine pq_b (wX50_finish S Z (sb rfl hS) _ _ _ _ _ w0.1 z4 z6 z2) (fun r13 K14 => ?_)
          have w15 := wk_t w0 K14 hN
          exact q_tA hN w15 (wX47_finish_25 S Z hS _ _ _ w15.1 z_a0 z2)
        · refine pq_fi (fun _ => ?_) (fun _ => ?_)
          · refine pq_b (wX50_finish S Z (sb rfl hS) _ _ _ _ _ w0.1 z4 z6 z2) (fun r16 K17 => ?_)
            have w18 := wk_t w0 K17 hN
            exact q_tA hN w18 (wX47_finish_25 S Z hS _ _ _ w18.1 z_a0 z2)
          · refine pq_fi (fun _ => ?_) (fun _ => ?_)
            · refine pq_b (wX50_finish S Z (sb rfl hS) _ _ _ _ _ w0.1 z4 z6 z2) (fun r19 K20 => ?_)
              have w21 := wk_t w0 K20 hN
              exact q_tA hN w21 (wX47_finish_25 S Z hS _ _ _ w21.1 z_a0 z2)
            · refine pq_fi (fun _ => ?_) (fun _ => ?_)
              · refine pq_b (wX50_finish S Z (sb rfl hS) _ _ _ _ _ w0.1 z4 z6 z2) (fun r22 K23 => ?_)
                have w24 := wk_t w0 K23 hN
                exact q_tA hN w24 (wX47_finish_25 S Z hS _ _ _ w24.1 z_a0 z2)
              · refine pq_fi (fun _ => ?_) (fun _ => ?_)
                · refine pq_b (wX50_finish S Z (sb rfl hS) _ _ _ _ _ w0.1 z4 z6 z2) (fun r25 K26 => ?_)
                  have w27 := wk_t w0 K26 hN
                  exact q_tA hN w27 (wX47_finish_25 S Z hS _ _ _ w27.1 z_a0 z2)
                · refine pq_fi (fun _ => ?_) (fun _ => ?_)
                  · refine pq_b (wX50_finish S Z (sb rfl hS) _ _ _ _ _ w0.1 z4 z6 z2) (fun r28 K29 => ?_)
                    have w30 := wk_t w0 K29 hN
                    exact q_tA hN w30 (wX47_finish_25 S Z hS _ _ _ w30.1 z_a0 z2)
                  · exact pq_0
theorem wX47_finish (S Z : Nat → Prop) {hx N : Nat} (hS : ∀ x, fe_mem lX47_finish x = true → S x) (a0 : Nat) (a1 : Int32) (a2 : Int64) (M : FM) (w : WI Z hx N M) (z_a0 : Z a0) : pq (FX47_finish a0 a1 a2 M) (QA S Z hx N M) := wX47_finish_0 S Z hS a0 a1 a2 M w z_a0
def lX46_load : List Nat := [37, 39, 41, 122, 123, 124, 174, 177, 179, 208, 227, 228, 229, 231, 232, 237, 238, 269, 270, 271, 272, 273, 274, 275, 276, 277, 289, 290, 292, 293, 294, 1121, 1178, 1201, 1203, 1204, 1278, 1279, 1295]
theorem wX46_load_0 (S Z : Nat → Prop) {hx N : Nat} (hS : ∀ x, fe_mem lX46_load x = true → S x) (n : Nat) (a0 : Nat) (M : FM) (w : WI Z hx N M) (z_a0 : Z a0) : pq (FX46_load_0 n a0 M) (QA S Z hx N M) := by
  have hN := w.2.2.1
  have w0 := wk_r (S := S) w
  delta FX46_load_0 BX46_load_0
  refine pq_g (fun g1 => ?_)
  have z2 := wk_z (i := 0) (f := 211) w0 rfl z_a0
  refine pq_g (fun g3 => ?_)
  refine pq_b (wX47_wanted S Z (sb rfl hS) _ _ _ w0.1 z2) (fun r4 K5 => ?_)
  have w6 := wk_t w0 K5 hN
  refine pq_g (fun g7 => ?_)
  have z8 := wk_z (i := 0) (f := 211) w6 rfl z_a0
  refine pq_g (fun g9 => ?_)
  refine pq_b (wX47_wanted S Z (sb rfl hS) _ _ _ w6.1 z8) (fun r10 K11 => ?_)
  have w12 := wk_t w6 K11 hN
  refine pq_g (fun g13 => ?_)
  refine pq_b (wX46_locate S Z (sb rfl hS) n _ _ _ _ _ w12.1 z_a0) (fun r14 K15 => ?_)
  have w16 := wk_t w12 K15 hN
  refine pq_fi (fun _ => ?_) (fun _ => ?_)
  · refine pq_g (fun _ => ?_)
    exact pq_s w16
  · refine pq_g (fun g17 => ?_)
    have z18 := wk_z (i := 0) (f := 211) w16 rfl z_a0
    refine pq_g (fun g19 => ?_)
    have z20 := wk_z (i := 0) (f := 217) w16 rfl z_a0
    refine pq_g (fun g21 => ?_)
    have z22 := wk_z (i := 0) (f := 210) w16 rfl z_a0
    refine pq_g (fun g23 => ?_)
    refine pq_b (wX73_load S Z (sb rfl hS) n _ _ _ w16.1 z20 z22) (fun r24 K25 => ?_)
    have w26 := wk_t w16 K25 hN
    refine pq_g (fun g27 => ?_)
    refine pq_b (wX47_finish S Z (sb rfl hS) _ _ _ _ w26.1 z18) (fun r28 K29 => ?_)
    have w30 := wk_t w26 K29 hN
    refine pq_g (fun _ => ?_)
    exact pq_s w30
theorem wX46_load (S Z : Nat → Prop) {hx N : Nat} (hS : ∀ x, fe_mem lX46_load x = true → S x) (n : Nat) (a0 : Nat) (M : FM) (w : WI Z hx N M) (z_a0 : Z a0) : pq (FX46_load n a0 M) (QA S Z hx N M) := wX46_load_0 S Z hS n a0 M w z_a0
def lX33_complete : List Nat := [228, 229]
theorem wX33_complete_48 (S Z : Nat → Prop) {hx N : Nat} (hS : ∀ x, fe_mem lX33_complete x = true → S x) (M : FM) (w : WI Z hx N M) : pq (FX33_complete_48 M) (QV S Z hx N M) := by
  have hN := w.2.2.1
  have w0 := wk_r (S := S) w
  delta FX33_complete_48 BX33_complete_48
  exact pq_s w0
theorem wX33_complete_0 (S Z : Nat → Prop) {hx N : Nat} (hS : ∀ x, fe_mem lX33_complete x = true → S x) (a0 : Nat) (a1 : Int32) (a2 : Int64) (M : FM) (w : WI Z hx N M) (z_a0 : Z a0) : pq (FX33_complete_0 a0 a1 a2 M) (QV S Z hx N M) := by
  have hN := w.2.2.1
  have w0 := wk_r (S := S) w
  delta FX33_complete_0 BX33_complete_0
  refine pq_fi (fun _ => ?_) (fun _ => ?_)
  · exact q_tV hN w0 (wX33_complete_48 S Z hS _ w0.1 )
  · refine pq_fi (fun _ => ?_) (fun _ => ?_)
    · exact q_tV hN w0 (wX33_complete_48 S Z hS _ w0.1 )
    · refine pq_g (fun g1 => ?_)
      have z2 := wk_z (i := 0) (f := 225) w0 rfl z_a0
      have f3 := sS_225 w0.1.1 g1
      refine pq_g (fun g4 => ?_)
      refine pq_fi (fun _ => ?_) (fun _ => ?_)
      · refine pq_g (fun g5 => ?_)
        refine pq_g (fun g6 => ?_)
        extract_lets +onlyGivenNames M8
        have w7 : Wk S Z hx N M M8 := wk_fI hN w0 rfl rfl g6 z_a0 (Or.inr (hS 229 rfl))
        refine pq_g (fun g9 => ?_)
        refine pq_b (wX33_look S Z (sb rfl hS) _ _ w7.1 z_a0) (fun r10 K11 => ?_)
        have w12 := wk_t w7 K11 hN
        exact q_tV hN w12 (wX33_complete_48 S Z hS _ w12.1 )
      · exact q_tV hN w0 (wX33_complete_48 S Z hS _ w0.1 )
theorem wX33_complete (S Z : Nat → Prop) {hx N : Nat} (hS : ∀ x, fe_mem lX33_complete x = true → S x) (a0 : Nat) (a1 : Int32) (a2 : Int64) (M : FM) (w : WI Z hx N M) (z_a0 : Z a0) : pq (FX33_complete a0 a1 a2 M) (QV S Z hx N M) := wX33_complete_0 S Z hS a0 a1 a2 M w z_a0
def lX33_write : List Nat := [228, 229, 1224, 1225, 1226]
theorem wX33_write_147 (S Z : Nat → Prop) {hx N : Nat} (hS : ∀ x, fe_mem lX33_write x = true → S x) (M : FM) (w : WI Z hx N M) : pq (FX33_write_147 M) (QV S Z hx N M) := by
  have hN := w.2.2.1
  have w0 := wk_r (S := S) w
  delta FX33_write_147 BX33_write_147
  exact pq_s w0
theorem wX33_write_88 (S Z : Nat → Prop) {hx N : Nat} (hS : ∀ x, fe_mem lX33_write x = true → S x) (a0 : Nat) (a4 : Int64) (a6 : Int32) (a7 : Int32) (a8 : Int32) (M : FM) (w : WI Z hx N M) (z_a0 : Z a0) : pq (FX33_write_88 a0 a4 a6 a7 a8 M) (QV S Z hx N M) := by
  have hN := w.2.2.1
  have w0 := wk_r (S := S) w
  delta FX33_write_88 BX33_write_88
  refine pq_fi (fun _ => ?_) (fun _ => ?_)
  · refine pq_fi (fun _ => ?_) (fun _ => ?_)
    · refine pq_fi (fun _ => ?_) (fun _ => ?_)
      · exact q_tV hN w0 (wX33_write_147 S Z hS _ w0.1 )
      · refine pq_g (fun g1 => ?_)
        refine pq_b (wX33_complete S Z (sb rfl hS) _ _ _ _ w0.1 z_a0) (fun r2 K3 => ?_)
        have w4 := wk_t w0 K3 hN
        exact q_tV hN w4 (wX33_write_147 S Z hS _ w4.1 )
    · refine pq_g (fun g5 => ?_)
      have z6 := wk_z (i := 0) (f := 226) w0 rfl z_a0
      have f7 := sS_226 w0.1.1 g5
      refine pq_g (fun g8 => ?_)
      extract_lets +onlyGivenNames M10
      have w9 : Wk S Z hx N M M10 := wk_aI hN w0 rfl g8.1 z6 (sy_s f7 (hS 1226 rfl))
      exact q_tV hN w9 (wX33_write_147 S Z hS _ w9.1 )
  · refine pq_g (fun g11 => ?_)
    have z12 := wk_z (i := 0) (f := 225) w0 rfl z_a0
    have f13 := sS_225 w0.1.1 g11
    refine pq_g (fun g14 => ?_)
    extract_lets +onlyGivenNames M16
    have w15 : Wk S Z hx N M M16 := wk_aI hN w0 rfl g14.1 z12 (sy_s f13 (hS 1225 rfl))
    exact q_tV hN w15 (wX33_write_147 S Z hS _ w15.1 )
theorem wX33_write_15 (S Z : Nat → Prop) {hx N : Nat} (hS : ∀ x, fe_mem lX33_write x = true → S x) (M : FM) (w : WI Z hx N M) : pq (FX33_write_15 M) (QV S Z hx N M) := by
  have hN := w.2.2.1
  have w0 := wk_r (S := S) w
  delta FX33_write_15 BX33_write_15
  exact pq_s w0
theorem wX33_write_0 (S Z : Nat → Prop) {hx N : Nat} (hS : ∀ x, fe_mem lX33_write x = true → S x) (a0 : Nat) (a1 : Int64) (a3 : Int32) (a4 : Int64) (M : FM) (w : WI Z hx N M) (z_a0 : Z a0) : pq (FX33_write_0 a0 a1 a3 a4 M) (QV S Z hx N M) := by
  have hN := w.2.2.1
  have w0 := wk_r (S := S) w
  delta FX33_write_0 BX33_write_0
  refine pq_fi (fun _ => ?_) (fun _ => ?_)
  · refine pq_fi (fun _ => ?_) (fun _ => ?_)
    · refine pq_g (fun g1 => ?_)
      refine pq_b (wX33_contextAt S Z (sb rfl hS) _ _ _ _ _ _ w0.1 z_a0) (fun r2 K3 => ?_)
      have w4 := wk_t w0 K3 hN
      refine pq_g (fun g5 => ?_)
      refine pq_b (wX33_contextAt S Z (sb rfl hS) _ _ _ _ _ _ w4.1 z_a0) (fun r6 K7 => ?_)
      have w8 := wk_t w4 K7 hN
      refine pq_g (fun g9 => ?_)
      refine pq_b (wX33_contextAt S Z (sb rfl hS) _ _ _ _ _ _ w8.1 z_a0) (fun r10 K11 => ?_)
      have w12 := wk_t w8 K11 hN
      refine pq_fi (fun _ => ?_) (fun _ => ?_)
      · exact q_tV hN w12 (wX33_write_88 S Z hS _ _ _ _ _ _ w12.1 z_a0)
      · refine pq_fi (fun _ => ?_) (fun _ => ?_)
        · exact q_tV hN w12 (wX33_write_88 S Z hS _ _ _ _ _ _ w12.1 z_a0)
        · refine pq_g (fun g13 => ?_)
          have z14 := wk_z (i := 0) (f := 224) w12 rfl z_a0
          have f15 := sS_224 w12.1.1 g13
          refine pq_g (fun g16 => ?_)
          extract_lets +onlyGivenNames M18
          have w17 : Wk S Z hx N M M18 := wk_aI hN w12 rfl g16.1 z14 (sy_s f15 (hS 1224 rfl))
          exact q_tV hN w17 (wX33_write_147 S Z hS _ w17.1 )
    · exact q_tV hN w0 (wX33_write_15 S Z hS _ w0.1 )
  · exact q_tV hN w0 (wX33_write_15 S Z hS _ w0.1 )
theorem wX33_write (S Z : Nat → Prop) {hx N : Nat} (hS : ∀ x, fe_mem lX33_write x = true → S x) (a0 : Nat) (a1 : Int64) (a3 : Int32) (a4 : Int64) (M : FM) (w : WI Z hx N M) (z_a0 : Z a0) : pq (FX33_write a0 a1 a3 a4 M) (QV S Z hx N M) := wX33_write_0 S Z hS a0 a1 a3 a4 M w z_a0
def lX31_room : List Nat := []
theorem wX31_room_13 (S Z : Nat → Prop) {hx N : Nat} (hS : ∀ x, fe_mem lX31_room x = true → S x) (a0 : Nat) (s0 : Int32) (M : FM) (w : WI Z hx N M) (z_a0 : Z a0) : pq (FX31_room_13 a0 s0 M) (QA S Z hx N M) := by
  have hN := w.2.2.1
  have w0 := wk_r (S := S) w
  delta FX31_room_13 BX31_room_13
  refine pq_g (fun g1 => ?_)
  exact pq_s w0
theorem wX31_room_0 (S Z : Nat → Prop) {hx N : Nat} (hS : ∀ x, fe_mem lX31_room x = true → S x) (a0 : Nat) (M : FM) (w : WI Z hx N M) (z_a0 : Z a0) : pq (FX31_room_0 a0 M) (QA S Z hx N M) := by
  have hN := w.2.2.1
  have w0 := wk_r (S := S) w
  delta FX31_room_0 BX31_room_0
  refine pq_g (fun g1 => ?_)
  refine pq_fi (fun _ => ?_) (fun _ => ?_)
  · exact q_tA hN w0 (wX31_room_13 S Z hS _ _ _ w0.1 z_a0)
  · exact q_tA hN w0 (wX31_room_13 S Z hS _ _ _ w0.1 z_a0)
theorem wX31_room (S Z : Nat → Prop) {hx N : Nat} (hS : ∀ x, fe_mem lX31_room x = true → S x) (a0 : Nat) (M : FM) (w : WI Z hx N M) (z_a0 : Z a0) : pq (FX31_room a0 M) (QA S Z hx N M) := wX31_room_0 S Z hS a0 M w z_a0
def lX31_come : List Nat := [232, 237, 1230]
theorem wX31_come_57 (S Z : Nat → Prop) {hx N : Nat} (hS : ∀ x, fe_mem lX31_come x = true → S x) (a2 : Int32) (M : FM) (w : WI Z hx N M) : pq (FX31_come_57 a2 M) (QA S Z hx N M) := by
  have hN := w.2.2.1
  have w0 := wk_r (S := S) w
  delta FX31_come_57 BX31_come_57
  refine pq_g (fun _ => ?_)
  exact pq_s w0
theorem wX31_come_12 (S Z : Nat → Prop) {hx N : Nat} (hS : ∀ x, fe_mem lX31_come x = true → S x) (a0 : Nat) (a1 : Int32) (s0 : Int32) (M : FM) (w : WI Z hx N M) (z_a0 : Z a0) : pq (FX31_come_12 a0 a1 s0 M) (QA S Z hx N M) := by
  have hN := w.2.2.1
  have w0 := wk_r (S := S) w
  delta FX31_come_12 BX31_come_12
  refine pq_fi (fun _ => ?_) (fun _ => ?_)
  · refine pq_g (fun g1 => ?_)
    refine pq_g (fun _ => ?_)
    extract_lets +onlyGivenNames M3
    have w2 : Wk S Z hx N M M3 := wk_fI hN w0 rfl rfl g1 z_a0 (Or.inr (hS 237 rfl))
    exact q_tA hN w2 (wX31_come_57 S Z hS _ _ w2.1 )
  · refine pq_g (fun g4 => ?_)
    have z5 := wk_z (i := 0) (f := 230) w0 rfl z_a0
    have f6 := sS_230 w0.1.1 g4
    refine pq_g (fun g7 => ?_)
    refine pq_g (fun g8 => ?_)
    refine pq_n ?_
    refine pq_g (fun g9 => ?_)
    extract_lets +onlyGivenNames M11
    have w10 : Wk S Z hx N M M11 := wk_aI hN w0 rfl g9.1 z5 (sy_s f6 (hS 1230 rfl))
    refine pq_g (fun g12 => ?_)
    refine pq_g (fun g13 => ?_)
    extract_lets +onlyGivenNames M15
    have w14 : Wk S Z hx N M M15 := wk_fI hN w10 rfl rfl g13 z_a0 (Or.inr (hS 232 rfl))
    exact q_tA hN w14 (wX31_come_57 S Z hS _ _ w14.1 )
theorem wX31_come_0 (S Z : Nat → Prop) {hx N : Nat} (hS : ∀ x, fe_mem lX31_come x = true → S x) (a0 : Nat) (a1 : Int32) (M : FM) (w : WI Z hx N M) (z_a0 : Z a0) : pq (FX31_come_0 a0 a1 M) (QA S Z hx N M) := by
  have hN := w.2.2.1
  have w0 := wk_r (S := S) w
  delta FX31_come_0 BX31_come_0
  refine pq_g (fun g1 => ?_)
  refine pq_b (wX31_room S Z (sb rfl hS) _ _ w0.1 z_a0) (fun r2 K3 => ?_)
  have w4 := wk_t w0 K3 hN
  refine pq_fi (fun _ => ?_) (fun _ => ?_)
  · exact q_tA hN w4 (wX31_come_12 S Z hS _ _ _ _ w4.1 z_a0)
  · exact q_tA hN w4 (wX31_come_12 S Z hS _ _ _ _ w4.1 z_a0)
theorem wX31_come (S Z : Nat → Prop) {hx N : Nat} (hS : ∀ x, fe_mem lX31_come x = true → S x) (a0 : Nat) (a1 : Int32) (M : FM) (w : WI Z hx N M) (z_a0 : Z a0) : pq (FX31_come a0 a1 M) (QA S Z hx N M) := wX31_come_0 S Z hS a0 a1 M w z_a0
def lX31_send : List Nat := [232, 234, 237, 238, 1230, 1233]
theorem wX31_send_44 (S Z : Nat → Prop) {hx N : Nat} (hS : ∀ x, fe_mem lX31_send x = true → S x) (a0 : Nat) (M : FM) (w : WI Z hx N M) (z_a0 : Z a0) : pq (FX31_send_44 a0 M) (QV S Z hx N M) := by
  have hN := w.2.2.1
  have w0 := wk_r (S := S) w
  delta FX31_send_44 BX31_send_44
  refine pq_g (fun g1 => ?_)
  refine pq_g (fun _ => ?_)
  extract_lets +onlyGivenNames M3
  have w2 : Wk S Z hx N M M3 := wk_fI hN w0 rfl rfl g1 z_a0 (Or.inr (hS 238 rfl))
  exact pq_s w2
theorem wX31_send_0 (S Z : Nat → Prop) {hx N : Nat} (hS : ∀ x, fe_mem lX31_send x = true → S x) (a0 : Nat) (a1 : Int32) (M : FM) (w : WI Z hx N M) (z_a0 : Z a0) : pq (FX31_send_0 a0 a1 M) (QV S Z hx N M) := by
  have hN := w.2.2.1
  have w0 := wk_r (S := S) w
  delta FX31_send_0 BX31_send_0
  refine pq_g (fun g1 => ?_)
  refine pq_b (wX31_has S Z (sb rfl hS) _ _ _ _ w0.1 z_a0) (fun r2 K3 => ?_)
  have w4 := wk_t w0 K3 hN
  refine pq_fi (fun _ => ?_) (fun _ => ?_)
  · refine pq_g (fun g5 => ?_)
    have z6 := wk_z (i := 0) (f := 233) w4 rfl z_a0
    have f7 := sS_233 w4.1.1 g5
    refine pq_g (fun g8 => ?_)
    refine pq_n ?_
    refine pq_g (fun g9 => ?_)
    extract_lets +onlyGivenNames M11
    have w10 : Wk S Z hx N M M11 := wk_aI hN w4 rfl g9.1 z6 (sy_s f7 (hS 1233 rfl))
    refine pq_g (fun g12 => ?_)
    refine pq_g (fun g13 => ?_)
    extract_lets +onlyGivenNames M15
    have w14 : Wk S Z hx N M M15 := wk_fL hN w10 rfl rfl g13 z_a0 (Or.inr (hS 234 rfl))
    exact q_tV hN w14 (wX31_send_44 S Z hS _ _ w14.1 z_a0)
  · refine pq_g (fun g16 => ?_)
    refine pq_b (wX31_come S Z (sb rfl hS) _ _ _ w4.1 z_a0) (fun r17 K18 => ?_)
    have w19 := wk_t w4 K18 hN
    exact q_tV hN w19 (wX31_send_44 S Z hS _ _ w19.1 z_a0)
theorem wX31_send (S Z : Nat → Prop) {hx N : Nat} (hS : ∀ x, fe_mem lX31_send x = true → S x) (a0 : Nat) (a1 : Int32) (M : FM) (w : WI Z hx N M) (z_a0 : Z a0) : pq (FX31_send a0 a1 M) (QV S Z hx N M) := wX31_send_0 S Z hS a0 a1 M w z_a0
def lX31_queue : List Nat := [232, 236]
theorem wX31_queue_33 (S Z : Nat → Prop) {hx N : Nat} (hS : ∀ x, fe_mem lX31_queue x = true → S x) (a0 : Nat) (a2 : Int32) (M : FM) (w : WI Z hx N M) (z_a0 : Z a0) : pq (FX31_queue_33 a0 a2 M) (QV S Z hx N M) := by
  have hN := w.2.2.1
  have w0 := wk_r (S := S) w
  delta FX31_queue_33 BX31_queue_33
  refine pq_g (fun g1 => ?_)
  refine pq_g (fun _ => ?_)
  extract_lets +onlyGivenNames M3
  have w2 : Wk S Z hx N M M3 := wk_fI hN w0 rfl rfl g1 z_a0 (Or.inr (hS 236 rfl))
  exact pq_s w2
theorem wX31_queue_28 (S Z : Nat → Prop) {hx N : Nat} (hS : ∀ x, fe_mem lX31_queue x = true → S x) (a0 : Nat) (a2 : Int32) (M : FM) (w : WI Z hx N M) (z_a0 : Z a0) : pq (FX31_queue_28 a0 a2 M) (QV S Z hx N M) := by
  have hN := w.2.2.1
  have w0 := wk_r (S := S) w
  delta FX31_queue_28 BX31_queue_28
  refine pq_g (fun g1 => ?_)
  extract_lets +onlyGivenNames M3
  have w2 : Wk S Z hx N M M3 := wk_fI hN w0 rfl rfl g1 z_a0 (Or.inr (hS 232 rfl))
  exact q_tV hN w2 (wX31_queue_33 S Z hS _ _ _ w2.1 z_a0)
theorem wX31_queue_12 (S Z : Nat → Prop) {hx N : Nat} (hS : ∀ x, fe_mem lX31_queue x = true → S x) (a0 : Nat) (a1 : Int32) (s0 : Int32) (M : FM) (w : WI Z hx N M) (z_a0 : Z a0) : pq (FX31_queue_12 a0 a1 s0 M) (QV S Z hx N M) := by
  have hN := w.2.2.1
  have w0 := wk_r (S := S) w
  delta FX31_queue_12 BX31_queue_12
  refine pq_g (fun g1 => ?_)
  refine pq_fi (fun _ => ?_) (fun _ => ?_)
  · refine pq_fi (fun _ => ?_) (fun _ => ?_)
    · exact q_tV hN w0 (wX31_queue_28 S Z hS _ _ _ w0.1 z_a0)
    · exact q_tV hN w0 (wX31_queue_33 S Z hS _ _ _ w0.1 z_a0)
  · exact q_tV hN w0 (wX31_queue_28 S Z hS _ _ _ w0.1 z_a0)
theorem wX31_queue_0 (S Z : Nat → Prop) {hx N : Nat} (hS : ∀ x, fe_mem lX31_queue x = true → S x) (a0 : Nat) (a1 : Int32) (M : FM) (w : WI Z hx N M) (z_a0 : Z a0) : pq (FX31_queue_0 a0 a1 M) (QV S Z hx N M) := by
  have hN := w.2.2.1
  have w0 := wk_r (S := S) w
  delta FX31_queue_0 BX31_queue_0
  refine pq_fi (fun _ => ?_) (fun _ => ?_)
  · exact q_tV hN w0 (wX31_queue_12 S Z hS _ _ _ _ w0.1 z_a0)
  · exact q_tV hN w0 (wX31_queue_12 S Z hS _ _ _ _ w0.1 z_a0)
theorem wX31_queue (S Z : Nat → Prop) {hx N : Nat} (hS : ∀ x, fe_mem lX31_queue x = true → S x) (a0 : Nat) (a1 : Int32) (M : FM) (w : WI Z hx N M) (z_a0 : Z a0) : pq (FX31_queue a0 a1 M) (QV S Z hx N M) := wX31_queue_0 S Z hS a0 a1 M w z_a0
def lX31_write : List Nat := [232, 234, 236, 237, 238, 1230, 1233, 1235]
theorem wX31_write_193 (S Z : Nat → Prop) {hx N : Nat} (hS : ∀ x, fe_mem lX31_write x = true → S x) (M : FM) (w : WI Z hx N M) : pq (FX31_write_193 M) (QV S Z hx N M) := by
  have hN := w.2.2.1
  have w0 := wk_r (S := S) w
  delta FX31_write_193 BX31_write_193
  exact pq_s w0
theorem wX31_write_181 (S Z : Nat → Prop) {hx N : Nat} (hS : ∀ x, fe_mem lX31_write x = true → S x) (a0 : Nat) (a6 : Int32) (a7 : Int32) (M : FM) (w : WI Z hx N M) (z_a0 : Z a0) : pq (FX31_write_181 a0 a6 a7 M) (QV S Z hx N M) := by
  have hN := w.2.2.1
  have w0 := wk_r (S := S) w
  delta FX31_write_181 BX31_write_181
  refine pq_g (fun g1 => ?_)
  have z2 := wk_z (i := 0) (f := 235) w0 rfl z_a0
  have f3 := sS_235 w0.1.1 g1
  refine pq_g (fun g4 => ?_)
  extract_lets +onlyGivenNames M6
  have w5 : Wk S Z hx N M M6 := wk_aI hN w0 rfl g4.1 z2 (sy_s f3 (hS 1235 rfl))
  exact q_tV hN w5 (wX31_write_193 S Z hS _ w5.1 )
theorem wX31_write_140 (S Z : Nat → Prop) {hx N : Nat} (hS : ∀ x, fe_mem lX31_write x = true → S x) (a0 : Nat) (a7 : Int32) (s0 : Nat) (s1 : Int32) (s2 : Int32) (M : FM) (w : WI Z hx N M) (z_a0 : Z a0) (z_s0 : Z s0) : pq (FX31_write_140 a0 a7 s0 s1 s2 M) (QV S Z hx N M) := by
  have hN := w.2.2.1
  have w0 := wk_r (S := S) w
  delta FX31_write_140 BX31_write_140
  refine pq_g (fun g1 => ?_)
  refine pq_g (fun _ => ?_)
  extract_lets +onlyGivenNames M3
  have w2 : Wk S Z hx N M M3 := wk_fI hN w0 rfl rfl g1 z_s0 (Or.inr (hS 238 rfl))
  refine pq_g (fun g4 => ?_)
  have z5 := wk_z (i := 0) (f := 235) w2 rfl z_a0
  have f6 := sS_235 w2.1.1 g4
  refine pq_g (fun g7 => ?_)
  extract_lets +onlyGivenNames M9
  have w8 : Wk S Z hx N M M9 := wk_aI hN w2 rfl g7.1 z5 (sy_s f6 (hS 1235 rfl))
  exact q_tV hN w8 (wX31_write_193 S Z hS _ w8.1 )
theorem wX31_write_139 (S Z : Nat → Prop) {hx N : Nat} (hS : ∀ x, fe_mem lX31_write x = true → S x) (a0 : Nat) (a7 : Int32) (s0 : Nat) (s1 : Int32) (M : FM) (w : WI Z hx N M) (z_a0 : Z a0) (z_s0 : Z s0) : pq (FX31_write_139 a0 a7 s0 s1 M) (QV S Z hx N M) := by
  have hN := w.2.2.1
  have w0 := wk_r (S := S) w
  delta FX31_write_139 BX31_write_139
  exact q_tV hN w0 (wX31_write_140 S Z hS _ _ _ _ _ _ w0.1 z_a0 z_s0)
theorem wX31_write_56 (S Z : Nat → Prop) {hx N : Nat} (hS : ∀ x, fe_mem lX31_write x = true → S x) (a0 : Nat) (a6 : Int32) (a7 : Int32) (M : FM) (w : WI Z hx N M) (z_a0 : Z a0) : pq (FX31_write_56 a0 a6 a7 M) (QV S Z hx N M) := by
  have hN := w.2.2.1
  have w0 := wk_r (S := S) w
  delta FX31_write_56 BX31_write_56
  refine pq_fi (fun _ => ?_) (fun _ => ?_)
  · refine pq_g (fun g1 => ?_)
    refine pq_b (wX31_send S Z (sb rfl hS) _ _ _ w0.1 z_a0) (fun r2 K3 => ?_)
    have w4 := wk_t w0 K3 hN
    exact q_tV hN w4 (wX31_write_193 S Z hS _ w4.1 )
  · refine pq_fi (fun _ => ?_) (fun _ => ?_)
    · refine pq_g (fun g5 => ?_)
      refine pq_g (fun g6 => ?_)
      refine pq_b (wX31_has S Z (sb rfl hS) _ _ _ _ w0.1 z_a0) (fun r7 K8 => ?_)
      have w9 := wk_t w0 K8 hN
      refine pq_fi (fun _ => ?_) (fun _ => ?_)
      · refine pq_fi (fun _ => ?_) (fun _ => ?_)
        · exact q_tV hN w9 (wX31_write_140 S Z hS _ _ _ _ _ _ w9.1 z_a0 z_a0)
        · exact q_tV hN w9 (wX31_write_139 S Z hS _ _ _ _ _ w9.1 z_a0 z_a0)
      · exact q_tV hN w9 (wX31_write_139 S Z hS _ _ _ _ _ w9.1 z_a0 z_a0)
    · refine pq_fi (fun _ => ?_) (fun _ => ?_)
      · refine pq_g (fun g10 => ?_)
        refine pq_b (wX31_queue S Z (sb rfl hS) _ _ _ w0.1 z_a0) (fun r11 K12 => ?_)
        have w13 := wk_t w0 K12 hN
        exact q_tV hN w13 (wX31_write_193 S Z hS _ w13.1 )
      · refine pq_fi (fun _ => ?_) (fun _ => ?_)
        · exact q_tV hN w0 (wX31_write_181 S Z hS _ _ _ _ w0.1 z_a0)
        · refine pq_fi (fun _ => ?_) (fun _ => ?_)
          · refine pq_g (fun g14 => ?_)
            have z15 := wk_z (i := 0) (f := 235) w0 rfl z_a0
            have f16 := sS_235 w0.1.1 g14
            refine pq_g (fun g17 => ?_)
            extract_lets +onlyGivenNames M19
            have w18 : Wk S Z hx N M M19 := wk_aI hN w0 rfl g17.1 z15 (sy_s f16 (hS 1235 rfl))
            exact q_tV hN w18 (wX31_write_193 S Z hS _ w18.1 )
          · refine pq_fi (fun _ => ?_) (fun _ => ?_)
            · exact q_tV hN w0 (wX31_write_193 S Z hS _ w0.1 )
            · refine pq_fi (fun _ => ?_) (fun _ => ?_)
              · exact q_tV hN w0 (wX31_write_193 S Z hS _ w0.1 )
              · refine pq_fi (fun _ => ?_) (fun _ => ?_)
                · exact q_tV hN w0 (wX31_write_181 S Z hS _ _ _ _ w0.1 z_a0)
                · exact q_tV hN w0 (wX31_write_193 S Z hS _ w0.1 )
theorem wX31_write_13 (S Z : Nat → Prop) {hx N : Nat} (hS : ∀ x, fe_mem lX31_write x = true → S x) (M : FM) (w : WI Z hx N M) : pq (FX31_write_13 M) (QV S Z hx N M) := by
  have hN := w.2.2.1
  have w0 := wk_r (S := S) w
  delta FX31_write_13 BX31_write_13
  exact pq_s w0
theorem wX31_write_0 (S Z : Nat → Prop) {hx N : Nat} (hS : ∀ x, fe_mem lX31_write x = true → S x) (a0 : Nat) (a1 : Int64) (a3 : Int32) (a4 : Int64) (M : FM) (w : WI Z hx N M) (z_a0 : Z a0) : pq (FX31_write_0 a0 a1 a3 a4 M) (QV S Z hx N M) := by
  have hN := w.2.2.1
  have w0 := wk_r (S := S) w
  delta FX31_write_0 BX31_write_0
  refine pq_fi (fun _ => ?_) (fun _ => ?_)
  · refine pq_fi (fun _ => ?_) (fun _ => ?_)
    · refine pq_fi (fun _ => ?_) (fun _ => ?_)
      · exact q_tV hN w0 (wX31_write_56 S Z hS _ _ _ _ w0.1 z_a0)
      · refine pq_g (fun g1 => ?_)
        refine pq_b (wX31_has S Z (sb rfl hS) _ _ _ _ w0.1 z_a0) (fun r2 K3 => ?_)
        have w4 := wk_t w0 K3 hN
        refine pq_fi (fun _ => ?_) (fun _ => ?_)
        · exact q_tV hN w4 (wX31_write_56 S Z hS _ _ _ _ w4.1 z_a0)
        · refine pq_g (fun g5 => ?_)
          have z6 := wk_z (i := 0) (f := 235) w4 rfl z_a0
          have f7 := sS_235 w4.1.1 g5
          refine pq_g (fun g8 => ?_)
          extract_lets +onlyGivenNames M10
          have w9 : Wk S Z hx N M M10 := wk_aI hN w4 rfl g8.1 z6 (sy_s f7 (hS 1235 rfl))
          exact pq_s w9
    · exact q_tV hN w0 (wX31_write_13 S Z hS _ w0.1 )
  · exact q_tV hN w0 (wX31_write_13 S Z hS _ w0.1 )
theorem wX31_write (S Z : Nat → Prop) {hx N : Nat} (hS : ∀ x, fe_mem lX31_write x = true → S x) (a0 : Nat) (a1 : Int64) (a3 : Int32) (a4 : Int64) (M : FM) (w : WI Z hx N M) (z_a0 : Z a0) : pq (FX31_write a0 a1 a3 a4 M) (QV S Z hx N M) := wX31_write_0 S Z hS a0 a1 a3 a4 M w z_a0
def lX32_write : List Nat := [1245, 1246]
theorem wX32_write_154 (S Z : Nat → Prop) {hx N : Nat} (hS : ∀ x, fe_mem lX32_write x = true → S x) (M : FM) (w : WI Z hx N M) : pq (FX32_write_154 M) (QV S Z hx N M) := by
  have hN := w.2.2.1
  have w0 := wk_r (S := S) w
  delta FX32_write_154 BX32_write_154
  exact pq_s w0
theorem wX32_write_117 (S Z : Nat → Prop) {hx N : Nat} (hS : ∀ x, fe_mem lX32_write x = true → S x) (a0 : Nat) (a1 : Int64) (a3 : Int32) (a4 : Int64) (M : FM) (w : WI Z hx N M) (z_a0 : Z a0) : pq (FX32_write_117 a0 a1 a3 a4 M) (QV S Z hx N M) := by
  have hN := w.2.2.1
  have w0 := wk_r (S := S) w
  delta FX32_write_117 BX32_write_117
  refine pq_g (fun g1 => ?_)
  refine pq_b (wX32_isHalf S Z (sb rfl hS) _ _ _ _ w0.1 z_a0) (fun r2 K3 => ?_)
  have w4 := wk_t w0 K3 hN
  refine pq_fi (fun _ => ?_) (fun _ => ?_)
  · exact q_tV hN w4 (wX32_write_154 S Z hS _ w4.1 )
  · refine pq_g (fun g5 => ?_)
    refine pq_fi (fun _ => ?_) (fun _ => ?_)
    · exact q_tV hN w4 (wX32_write_154 S Z hS _ w4.1 )
    · refine pq_g (fun g6 => ?_)
      have z7 := wk_z (i := 0) (f := 245) w4 rfl z_a0
      have f8 := sS_245 w4.1.1 g6
      refine pq_g (fun g9 => ?_)
      extract_lets +onlyGivenNames M11
      have w10 : Wk S Z hx N M M11 := wk_aI hN w4 rfl g9.1 z7 (sy_s f8 (hS 1245 rfl))
      exact q_tV hN w10 (wX32_write_154 S Z hS _ w10.1 )
theorem wX32_write_113 (S Z : Nat → Prop) {hx N : Nat} (hS : ∀ x, fe_mem lX32_write x = true → S x) (s0 : Nat) (s1 : Int32) (s2 : Int64) (M : FM) (w : WI Z hx N M) (z_s0 : Z s0) (y_s0 : Sy S N M s0) : pq (FX32_write_113 s0 s1 s2 M) (QV S Z hx N M) := by
  have hN := w.2.2.1
  have w0 := wk_r (S := S) w
  delta FX32_write_113 BX32_write_113
  refine pq_g (fun g1 => ?_)
  extract_lets +onlyGivenNames M3
  have w2 : Wk S Z hx N M M3 := wk_aL hN w0 rfl g1.1 z_s0 y_s0
  exact q_tV hN w2 (wX32_write_154 S Z hS _ w2.1 )
theorem wX32_write_62 (S Z : Nat → Prop) {hx N : Nat} (hS : ∀ x, fe_mem lX32_write x = true → S x) (a0 : Nat) (a4 : Int64) (a6 : Int32) (s0 : Int32) (M : FM) (w : WI Z hx N M) (z_a0 : Z a0) : pq (FX32_write_62 a0 a4 a6 s0 M) (QV S Z hx N M) := by
  have hN := w.2.2.1
  have w0 := wk_r (S := S) w
  delta FX32_write_62 BX32_write_62
  refine pq_g (fun g1 => ?_)
  have z2 := wk_z (i := 0) (f := 246) w0 rfl z_a0
  have f3 := sS_246 w0.1.1 g1
  refine pq_fi (fun _ => ?_) (fun _ => ?_)
  · refine pq_g (fun g4 => ?_)
    have z5 := wk_z (i := 0) (f := 246) w0 rfl z_a0
    have f6 := sS_246 w0.1.1 g4
    refine pq_g (fun g7 => ?_)
    exact q_tV hN w0 (wX32_write_113 S Z hS _ _ _ _ w0.1 z2 (sy_s f3 (hS 1246 rfl)))
  · refine pq_g (fun g8 => ?_)
    have z9 := wk_z (i := 0) (f := 246) w0 rfl z_a0
    have f10 := sS_246 w0.1.1 g8
    refine pq_g (fun g11 => ?_)
    exact q_tV hN w0 (wX32_write_113 S Z hS _ _ _ _ w0.1 z2 (sy_s f3 (hS 1246 rfl)))
theorem wX32_write_33 (S Z : Nat → Prop) {hx N : Nat} (hS : ∀ x, fe_mem lX32_write x = true → S x) (a0 : Nat) (a1 : Int64) (a3 : Int32) (a4 : Int64) (a6 : Int32) (M : FM) (w : WI Z hx N M) (z_a0 : Z a0) : pq (FX32_write_33 a0 a1 a3 a4 a6 M) (QV S Z hx N M) := by
  have hN := w.2.2.1
  have w0 := wk_r (S := S) w
  delta FX32_write_33 BX32_write_33
  refine pq_fi (fun _ => ?_) (fun _ => ?_)
  · exact q_tV hN w0 (wX32_write_117 S Z hS _ _ _ _ _ w0.1 z_a0)
  · refine pq_g (fun g1 => ?_)
    refine pq_b (wX32_isHalf S Z (sb rfl hS) _ _ _ _ w0.1 z_a0) (fun r2 K3 => ?_)
    have w4 := wk_t w0 K3 hN
    refine pq_fi (fun _ => ?_) (fun _ => ?_)
    · exact q_tV hN w4 (wX32_write_117 S Z hS _ _ _ _ _ w4.1 z_a0)
    · refine pq_fi (fun _ => ?_) (fun _ => ?_)
      · exact q_tV hN w4 (wX32_write_62 S Z hS _ _ _ _ _ w4.1 z_a0)
      · exact q_tV hN w4 (wX32_write_62 S Z hS _ _ _ _ _ w4.1 z_a0)
theorem wX32_write_0 (S Z : Nat → Prop) {hx N : Nat} (hS : ∀ x, fe_mem lX32_write x = true → S x) (a0 : Nat) (a1 : Int64) (a3 : Int32) (a4 : Int64) (M : FM) (w : WI Z hx N M) (z_a0 : Z a0) : pq (FX32_write_0 a0 a1 a3 a4 M) (QV S Z hx N M) := by
  have hN := w.2.2.1
  have w0 := wk_r (S := S) w
  delta FX32_write_0 BX32_write_0
  refine pq_g (fun g1 => ?_)
  refine pq_b (wX32_find S Z (sb rfl hS) _ _ _ w0.1 z_a0) (fun r2 K3 => ?_)
  have w4 := wk_t w0 K3 hN
  refine pq_fi (fun _ => ?_) (fun _ => ?_)
  · exact q_tV hN w4 (wX32_write_33 S Z hS _ _ _ _ _ _ w4.1 z_a0)
  · refine pq_g (fun g5 => ?_)
    refine pq_b (wX32_isWhole S Z (sb rfl hS) _ _ _ _ w4.1 z_a0) (fun r6 K7 => ?_)
    have w8 := wk_t w4 K7 hN
    refine pq_fi (fun _ => ?_) (fun _ => ?_)
    · exact q_tV hN w8 (wX32_write_33 S Z hS _ _ _ _ _ _ w8.1 z_a0)
    · refine pq_g (fun g9 => ?_)
      have z10 := wk_z (i := 0) (f := 246) w8 rfl z_a0
      have f11 := sS_246 w8.1.1 g9
      refine pq_g (fun g12 => ?_)
      extract_lets +onlyGivenNames M14
      have w13 : Wk S Z hx N M M14 := wk_aL hN w8 rfl g12.1 z10 (sy_s f11 (hS 1246 rfl))
      exact q_tV hN w13 (wX32_write_154 S Z hS _ w13.1 )
theorem wX32_write (S Z : Nat → Prop) {hx N : Nat} (hS : ∀ x, fe_mem lX32_write x = true → S x) (a0 : Nat) (a1 : Int64) (a3 : Int32) (a4 : Int64) (M : FM) (w : WI Z hx N M) (z_a0 : Z a0) : pq (FX32_write a0 a1 a3 a4 M) (QV S Z hx N M) := wX32_write_0 S Z hS a0 a1 a3 a4 M w z_a0
def lX30_write : List Nat := [227, 228, 229, 232, 234, 236, 237, 238, 1224, 1225, 1226, 1230, 1233, 1235, 1245, 1246]
theorem wX30_write_0 (S Z : Nat → Prop) {hx N : Nat} (hS : ∀ x, fe_mem lX30_write x = true → S x) (a0 : Nat) (a1 : Int32) (a2 : Int64) (a4 : Int32) (a5 : Int64) (M : FM) (w : WI Z hx N M) (z_a0 : Z a0) : pq (FX30_write_0 a0 a1 a2 a4 a5 M) (QV S Z hx N M) := by
  have hN := w.2.2.1
  have w0 := wk_r (S := S) w
  delta FX30_write_0 BX30_write_0
  refine pq_g (fun g1 => ?_)
  have z2 := wk_z (i := 0) (f := 243) w0 rfl z_a0
  have f3 := sS_243 w0.1.1 g1
  refine pq_g (fun g4 => ?_)
  have z5 := fun i => wk_ze (i := i) w0 rfl g4.1 f3 rfl z2
  refine pq_fi (fun _ => ?_) (fun _ => ?_)
  · refine pq_b (wX33_write S Z (sb rfl hS) _ _ _ _ _ w0.1 (z5 _)) (fun r6 K7 => ?_)
    have w8 := wk_t w0 K7 hN
    refine pq_g (fun g9 => ?_)
    refine pq_b (wX30_look S Z (sb rfl hS) _ _ w8.1 z_a0) (fun r10 K11 => ?_)
    have w12 := wk_t w8 K11 hN
    exact pq_s w12
  · refine pq_fi (fun _ => ?_) (fun _ => ?_)
    · refine pq_b (wX31_write S Z (sb rfl hS) _ _ _ _ _ w0.1 (z5 _)) (fun r13 K14 => ?_)
      have w15 := wk_t w0 K14 hN
      refine pq_g (fun g16 => ?_)
      refine pq_b (wX30_look S Z (sb rfl hS) _ _ w15.1 z_a0) (fun r17 K18 => ?_)
      have w19 := wk_t w15 K18 hN
      exact pq_s w19
    · refine pq_fi (fun _ => ?_) (fun _ => ?_)
      · refine pq_b (wX32_write S Z (sb rfl hS) _ _ _ _ _ w0.1 (z5 _)) (fun r20 K21 => ?_)
        have w22 := wk_t w0 K21 hN
        refine pq_g (fun g23 => ?_)
        refine pq_b (wX30_look S Z (sb rfl hS) _ _ w22.1 z_a0) (fun r24 K25 => ?_)
        have w26 := wk_t w22 K25 hN
        exact pq_s w26
      · exact pq_0
theorem wX30_write (S Z : Nat → Prop) {hx N : Nat} (hS : ∀ x, fe_mem lX30_write x = true → S x) (a0 : Nat) (a1 : Int32) (a2 : Int64) (a4 : Int32) (a5 : Int64) (M : FM) (w : WI Z hx N M) (z_a0 : Z a0) : pq (FX30_write a0 a1 a2 a4 a5 M) (QV S Z hx N M) := wX30_write_0 S Z hS a0 a1 a2 a4 a5 M w z_a0
def lX10_end : List Nat := [22, 23]
theorem wX10_end_43 (S Z : Nat → Prop) {hx N : Nat} (hS : ∀ x, fe_mem lX10_end x = true → S x) (M : FM) (w : WI Z hx N M) : pq (FX10_end_43 M) (QV S Z hx N M) := by
  have hN := w.2.2.1
  have w0 := wk_r (S := S) w
  delta FX10_end_43 BX10_end_43
  exact pq_s w0
theorem wX10_end_40 (S Z : Nat → Prop) {hx N : Nat} (hS : ∀ x, fe_mem lX10_end x = true → S x) (s0 : Nat) (s1 : Int32) (M : FM) (w : WI Z hx N M) (z_s0 : Z s0) : pq (FX10_end_40 s0 s1 M) (QV S Z hx N M) := by
  have hN := w.2.2.1
  have w0 := wk_r (S := S) w
  delta FX10_end_40 BX10_end_40
  refine pq_g (fun g1 => ?_)
  extract_lets +onlyGivenNames M3
  have w2 : Wk S Z hx N M M3 := wk_fI hN w0 rfl rfl g1 z_s0 (Or.inr (hS 23 rfl))
  exact q_tV hN w2 (wX10_end_43 S Z hS _ w2.1 )
theorem wX10_end_19 (S Z : Nat → Prop) {hx N : Nat} (hS : ∀ x, fe_mem lX10_end x = true → S x) (a0 : Nat) (a1 : Int32) (a2 : Int32) (M : FM) (w : WI Z hx N M) (z_a0 : Z a0) : pq (FX10_end_19 a0 a1 a2 M) (QV S Z hx N M) := by
  have hN := w.2.2.1
  have w0 := wk_r (S := S) w
  delta FX10_end_19 BX10_end_19
  refine pq_g (fun g1 => ?_)
  refine pq_g (fun _ => ?_)
  extract_lets +onlyGivenNames M3
  have w2 : Wk S Z hx N M M3 := wk_fI hN w0 rfl rfl g1 z_a0 (Or.inr (hS 22 rfl))
  refine pq_fi (fun _ => ?_) (fun _ => ?_)
  · exact q_tV hN w2 (wX10_end_40 S Z hS _ _ _ w2.1 z_a0)
  · exact q_tV hN w2 (wX10_end_40 S Z hS _ _ _ w2.1 z_a0)
theorem wX10_end_0 (S Z : Nat → Prop) {hx N : Nat} (hS : ∀ x, fe_mem lX10_end x = true → S x) (a0 : Nat) (a1 : Int32) (M : FM) (w : WI Z hx N M) (z_a0 : Z a0) : pq (FX10_end_0 a0 a1 M) (QV S Z hx N M) := by
  have hN := w.2.2.1
  have w0 := wk_r (S := S) w
  delta FX10_end_0 BX10_end_0
  refine pq_fi (fun _ => ?_) (fun _ => ?_)
  · exact q_tV hN w0 (wX10_end_19 S Z hS _ _ _ _ w0.1 z_a0)
  · refine pq_fi (fun _ => ?_) (fun _ => ?_)
    · exact q_tV hN w0 (wX10_end_19 S Z hS _ _ _ _ w0.1 z_a0)
    · exact q_tV hN w0 (wX10_end_43 S Z hS _ w0.1 )
theorem wX10_end (S Z : Nat → Prop) {hx N : Nat} (hS : ∀ x, fe_mem lX10_end x = true → S x) (a0 : Nat) (a1 : Int32) (M : FM) (w : WI Z hx N M) (z_a0 : Z a0) : pq (FX10_end a0 a1 M) (QV S Z hx N M) := wX10_end_0 S Z hS a0 a1 M w z_a0
def lX20_reset : List Nat := [71, 72, 73, 74, 75, 76, 77]
theorem wX20_reset_0 (S Z : Nat → Prop) {hx N : Nat} (hS : ∀ x, fe_mem lX20_reset x = true → S x) (a0 : Nat) (M : FM) (w : WI Z hx N M) (z_a0 : Z a0) : pq (FX20_reset_0 a0 M) (QV S Z hx N M) := by
  have hN := w.2.2.1
  have w0 := wk_r (S := S) w
  delta FX20_reset_0 BX20_reset_0
  refine pq_g (fun g1 => ?_)
  extract_lets +onlyGivenNames M3
  have w2 : Wk S Z hx N M M3 := wk_fI hN w0 rfl rfl g1 z_a0 (Or.inr (hS 71 rfl))
  refine pq_g (fun g4 => ?_)
  refine pq_g (fun _ => ?_)
  extract_lets +onlyGivenNames M6
  have w5 : Wk S Z hx N M M6 := wk_fI hN w2 rfl rfl g4 z_a0 (Or.inr (hS 72 rfl))
  refine pq_g (fun g7 => ?_)
  extract_lets +onlyGivenNames M9
  have w8 : Wk S Z hx N M M9 := wk_fL hN w5 rfl rfl g7 z_a0 (Or.inr (hS 73 rfl))
  refine pq_g (fun g10 => ?_)
  extract_lets +onlyGivenNames M12
  have w11 : Wk S Z hx N M M12 := wk_fL hN w8 rfl rfl g10 z_a0 (Or.inr (hS 74 rfl))
  refine pq_g (fun g13 => ?_)
  extract_lets +onlyGivenNames M15
  have w14 : Wk S Z hx N M M15 := wk_fL hN w11 rfl rfl g13 z_a0 (Or.inr (hS 75 rfl))
  refine pq_g (fun g16 => ?_)
  extract_lets +onlyGivenNames M18
  have w17 : Wk S Z hx N M M18 := wk_fI hN w14 rfl rfl g16 z_a0 (Or.inr (hS 76 rfl))
  refine pq_g (fun g19 => ?_)
  extract_lets +onlyGivenNames M21
  have w20 : Wk S Z hx N M M21 := wk_fI hN w17 rfl rfl g19 z_a0 (Or.inr (hS 77 rfl))
  exact pq_s w20
theorem wX20_reset (S Z : Nat → Prop) {hx N : Nat} (hS : ∀ x, fe_mem lX20_reset x = true → S x) (a0 : Nat) (M : FM) (w : WI Z hx N M) (z_a0 : Z a0) : pq (FX20_reset a0 M) (QV S Z hx N M) := wX20_reset_0 S Z hS a0 M w z_a0
def lX18_become : List Nat := [63, 64, 65, 66, 71, 72, 73, 74, 75, 76, 77]
theorem wX18_become_51 (S Z : Nat → Prop) {hx N : Nat} (hS : ∀ x, fe_mem lX18_become x = true → S x) (M : FM) (w : WI Z hx N M) : pq (FX18_become_51 M) (QV S Z hx N M) := by
  have hN := w.2.2.1
  have w0 := wk_r (S := S) w
  delta FX18_become_51 BX18_become_51
  exact pq_s w0
theorem wX18_become_0 (S Z : Nat → Prop) {hx N : Nat} (hS : ∀ x, fe_mem lX18_become x = true → S x) (a0 : Nat) (a1 : Int32) (M : FM) (w : WI Z hx N M) (z_a0 : Z a0) : pq (FX18_become_0 a0 a1 M) (QV S Z hx N M) := by
  have hN := w.2.2.1
  have w0 := wk_r (S := S) w
  delta FX18_become_0 BX18_become_0
  refine pq_fi (fun _ => ?_) (fun _ => ?_)
  · refine pq_g (fun g1 => ?_)
    have z2 := wk_z (i := 0) (f := 60) w0 rfl z_a0
    refine pq_g (fun g3 => ?_)
    refine pq_b (wX20_reset S Z (sb rfl hS) _ _ w0.1 z2) (fun r4 K5 => ?_)
    have w6 := wk_t w0 K5 hN
    refine pq_g (fun g7 => ?_)
    extract_lets +onlyGivenNames M9
    have w8 : Wk S Z hx N M M9 := wk_fI hN w6 rfl rfl g7 z_a0 (Or.inr (hS 63 rfl))
    refine pq_g (fun g10 => ?_)
    extract_lets +onlyGivenNames M12
    have w11 : Wk S Z hx N M M12 := wk_fI hN w8 rfl rfl g10 z_a0 (Or.inr (hS 64 rfl))
    refine pq_g (fun g13 => ?_)
    extract_lets +onlyGivenNames M15
    have w14 : Wk S Z hx N M M15 := wk_fI hN w11 rfl rfl g13 z_a0 (Or.inr (hS 65 rfl))
    refine pq_g (fun g16 => ?_)
    extract_lets +onlyGivenNames M18
    have w17 : Wk S Z hx N M M18 := wk_fI hN w14 rfl rfl g16 z_a0 (Or.inr (hS 66 rfl))
    exact q_tV hN w17 (wX18_become_51 S Z hS _ w17.1 )
  · refine pq_g (fun g19 => ?_)
    refine pq_g (fun g20 => ?_)
    extract_lets +onlyGivenNames M22
    have w21 : Wk S Z hx N M M22 := wk_fI hN w0 rfl rfl g20 z_a0 (Or.inr (hS 65 rfl))
    exact q_tV hN w21 (wX18_become_51 S Z hS _ w21.1 )
theorem wX18_become (S Z : Nat → Prop) {hx N : Nat} (hS : ∀ x, fe_mem lX18_become x = true → S x) (a0 : Nat) (a1 : Int32) (M : FM) (w : WI Z hx N M) (z_a0 : Z a0) : pq (FX18_become a0 a1 M) (QV S Z hx N M) := wX18_become_0 S Z hS a0 a1 M w z_a0
def lX19_has : List Nat := []
theorem wX19_has_0 (S Z : Nat → Prop) {hx N : Nat} (hS : ∀ x, fe_mem lX19_has x = true → S x) (a0 : Nat) (a1 : Int64) (a3 : Int64) (M : FM) (w : WI Z hx N M) (z_a0 : Z a0) : pq (FX19_has_0 a0 a1 a3 M) (QA S Z hx N M) := by
  have hN := w.2.2.1
  have w0 := wk_r (S := S) w
  delta FX19_has_0 BX19_has_0
  refine pq_g (fun g1 => ?_)
  have z2 := wk_z (i := 0) (f := 222) w0 rfl z_a0
  refine pq_g (fun g3 => ?_)
  refine pq_b (wX11_has S Z (sb rfl hS) _ _ _ _ w0.1 z2) (fun r4 K5 => ?_)
  have w6 := wk_t w0 K5 hN
  refine pq_g (fun _ => ?_)
  exact pq_s w6
theorem wX19_has (S Z : Nat → Prop) {hx N : Nat} (hS : ∀ x, fe_mem lX19_has x = true → S x) (a0 : Nat) (a1 : Int64) (a3 : Int64) (M : FM) (w : WI Z hx N M) (z_a0 : Z a0) : pq (FX19_has a0 a1 a3 M) (QA S Z hx N M) := wX19_has_0 S Z hS a0 a1 a3 M w z_a0
def lX19_get : List Nat := []
theorem wX19_get_0 (S Z : Nat → Prop) {hx N : Nat} (hS : ∀ x, fe_mem lX19_get x = true → S x) (a0 : Nat) (a1 : Int64) (M : FM) (w : WI Z hx N M) (z_a0 : Z a0) : pq (FX19_get_0 a0 a1 M) (QA S Z hx N M) := by
  have hN := w.2.2.1
  have w0 := wk_r (S := S) w
  delta FX19_get_0 BX19_get_0
  refine pq_g (fun g1 => ?_)
  have z2 := wk_z (i := 0) (f := 222) w0 rfl z_a0
  refine pq_g (fun g3 => ?_)
  refine pq_b (wX11_load S Z (sb rfl hS) _ _ _ _ w0.1 z2) (fun r4 K5 => ?_)
  have w6 := wk_t w0 K5 hN
  exact pq_s w6
theorem wX19_get (S Z : Nat → Prop) {hx N : Nat} (hS : ∀ x, fe_mem lX19_get x = true → S x) (a0 : Nat) (a1 : Int64) (M : FM) (w : WI Z hx N M) (z_a0 : Z a0) : pq (FX19_get a0 a1 M) (QA S Z hx N M) := wX19_get_0 S Z hS a0 a1 M w z_a0
def lX107_number : List Nat := []
theorem wX107_number_8 (S Z : Nat → Prop) {hx N : Nat} (hS : ∀ x, fe_mem lX107_number x = true → S x) (n : Nat) (k8 : Nat → Int64 → Int64 → Int32 → FM → Option (Int64 × FM)) (hk8 : ∀ (a0 : Nat) (a1 : Int64) (a4 : Int64) (a6 : Int32) (M : FM), WI Z hx N M → Z a0 → pq (k8 a0 a1 a4 a6 M) (QA S Z hx N M)) (a0 : Nat) (a1 : Int64) (a4 : Int64) (a6 : Int32) (M : FM) (w : WI Z hx N M) (z_a0 : Z a0) : pq (FX107_number_8 n k8 a0 a1 a4 a6 M) (QA S Z hx N M) := by
  have hN := w.2.2.1
  have w0 := wk_r (S := S) w
  delta FX107_number_8 BX107_number_8
  refine pq_fi (fun _ => ?_) (fun _ => ?_)
  · exact pq_s w0
  · refine pq_fi (fun _ => ?_) (fun _ => ?_)
    · refine pq_b (wX19_get S Z (sb rfl hS) _ _ _ w0.1 z_a0) (fun r1 K2 => ?_)
      have w3 := wk_t w0 K2 hN
      exact q_tA hN w3 (hk8 _ _ _ _ _ w3.1 z_a0)
    · exact pq_0
theorem wX107_number_0 (S Z : Nat → Prop) {hx N : Nat} (hS : ∀ x, fe_mem lX107_number x = true → S x) (n : Nat) (k8 : Nat → Int64 → Int64 → Int32 → FM → Option (Int64 × FM)) (hk8 : ∀ (a0 : Nat) (a1 : Int64) (a4 : Int64) (a6 : Int32) (M : FM), WI Z hx N M → Z a0 → pq (k8 a0 a1 a4 a6 M) (QA S Z hx N M)) (a0 : Nat) (a1 : Int64) (a3 : Int32) (M : FM) (w : WI Z hx N M) (z_a0 : Z a0) : pq (FX107_number_0 n k8 a0 a1 a3 M) (QA S Z hx N M) := by
  have hN := w.2.2.1
  have w0 := wk_r (S := S) w
  delta FX107_number_0 BX107_number_0
  exact q_tA hN w0 (hk8 _ _ _ _ _ w0.1 z_a0)
theorem wX107_number_L (S Z : Nat → Prop) {hx N : Nat} (hS : ∀ x, fe_mem lX107_number x = true → S x) (n : Nat) : ∀ j : Nat, ∀ (a0 : Nat) (a1 : Int64) (a4 : Int64) (a6 : Int32) (M : FM), WI Z hx N M → Z a0 → pq (FX107_number_L8 n j a0 a1 a4 a6 M) (QA S Z hx N M)
  | 0 => by intros; exact pq_0
  | j + 1 => fun a0 a1 a4 a6 M w => wX107_number_8 S Z hS n _ (wX107_number_L S Z hS n j) a0 a1 a4 a6 M w
theorem wX107_number (S Z : Nat → Prop) {hx N : Nat} (hS : ∀ x, fe_mem lX107_number x = true → S x) (n : Nat) (a0 : Nat) (a1 : Int64) (a3 : Int32) (M : FM) (w : WI Z hx N M) (z_a0 : Z a0) : pq (FX107_number n a0 a1 a3 M) (QA S Z hx N M) := wX107_number_0 S Z hS n _ (wX107_number_L S Z hS n n) a0 a1 a3 M w z_a0
def lX18_fail : List Nat := [65, 66]
theorem wX18_fail_0 (S Z : Nat → Prop) {hx N : Nat} (hS : ∀ x, fe_mem lX18_fail x = true → S x) (a0 : Nat) (M : FM) (w : WI Z hx N M) (z_a0 : Z a0) : pq (FX18_fail_0 a0 M) (QV S Z hx N M) := by
  have hN := w.2.2.1
  have w0 := wk_r (S := S) w
  delta FX18_fail_0 BX18_fail_0
  refine pq_g (fun g1 => ?_)
  refine pq_g (fun g2 => ?_)
  extract_lets +onlyGivenNames M4
  have w3 : Wk S Z hx N M M4 := wk_fI hN w0 rfl rfl g2 z_a0 (Or.inr (hS 65 rfl))
  refine pq_g (fun g5 => ?_)
  refine pq_g (fun g6 => ?_)
  extract_lets +onlyGivenNames M8
  have w7 : Wk S Z hx N M M8 := wk_fI hN w3 rfl rfl g6 z_a0 (Or.inr (hS 66 rfl))
  exact pq_s w7
theorem wX18_fail (S Z : Nat → Prop) {hx N : Nat} (hS : ∀ x, fe_mem lX18_fail x = true → S x) (a0 : Nat) (M : FM) (w : WI Z hx N M) (z_a0 : Z a0) : pq (FX18_fail a0 M) (QV S Z hx N M) := wX18_fail_0 S Z hS a0 M w z_a0
def lX20_offer : List Nat := []
theorem wX20_offer_0 (S Z : Nat → Prop) {hx N : Nat} (hS : ∀ x, fe_mem lX20_offer x = true → S x) (a0 : Nat) (M : FM) (w : WI Z hx N M) (z_a0 : Z a0) : pq (FX20_offer_0 a0 M) (QA S Z hx N M) := by
  have hN := w.2.2.1
  have w0 := wk_r (S := S) w
  delta FX20_offer_0 BX20_offer_0
  refine pq_g (fun g1 => ?_)
  refine pq_g (fun g2 => ?_)
  refine pq_g (fun g3 => ?_)
  refine pq_n ?_
  exact pq_s w0
theorem wX20_offer (S Z : Nat → Prop) {hx N : Nat} (hS : ∀ x, fe_mem lX20_offer x = true → S x) (a0 : Nat) (M : FM) (w : WI Z hx N M) (z_a0 : Z a0) : pq (FX20_offer a0 M) (QA S Z hx N M) := wX20_offer_0 S Z hS a0 M w z_a0
def lX22_clear : List Nat := [87, 88, 89, 90]
theorem wX22_clear_0 (S Z : Nat → Prop) {hx N : Nat} (hS : ∀ x, fe_mem lX22_clear x = true → S x) (a0 : Nat) (M : FM) (w : WI Z hx N M) (z_a0 : Z a0) : pq (FX22_clear_0 a0 M) (QV S Z hx N M) := by
  have hN := w.2.2.1
  have w0 := wk_r (S := S) w
  delta FX22_clear_0 BX22_clear_0
  refine pq_g (fun g1 => ?_)
  extract_lets +onlyGivenNames M3
  have w2 : Wk S Z hx N M M3 := wk_fI hN w0 rfl rfl g1 z_a0 (Or.inr (hS 87 rfl))
  refine pq_g (fun g4 => ?_)
  extract_lets +onlyGivenNames M6
  have w5 : Wk S Z hx N M M6 := wk_fL hN w2 rfl rfl g4 z_a0 (Or.inr (hS 88 rfl))
  refine pq_g (fun g7 => ?_)
  extract_lets +onlyGivenNames M9
  have w8 : Wk S Z hx N M M9 := wk_fI hN w5 rfl rfl g7 z_a0 (Or.inr (hS 89 rfl))
  refine pq_g (fun g10 => ?_)
  extract_lets +onlyGivenNames M12
  have w11 : Wk S Z hx N M M12 := wk_fL hN w8 rfl rfl g10 z_a0 (Or.inr (hS 90 rfl))
  exact pq_s w11
theorem wX22_clear (S Z : Nat → Prop) {hx N : Nat} (hS : ∀ x, fe_mem lX22_clear x = true → S x) (a0 : Nat) (M : FM) (w : WI Z hx N M) (z_a0 : Z a0) : pq (FX22_clear a0 M) (QV S Z hx N M) := wX22_clear_0 S Z hS a0 M w z_a0
def lX20_answer : List Nat := []
theorem wX20_answer_0 (S Z : Nat → Prop) {hx N : Nat} (hS : ∀ x, fe_mem lX20_answer x = true → S x) (a0 : Nat) (M : FM) (w : WI Z hx N M) (z_a0 : Z a0) : pq (FX20_answer_0 a0 M) (QA S Z hx N M) := by
  have hN := w.2.2.1
  have w0 := wk_r (S := S) w
  delta FX20_answer_0 BX20_answer_0
  refine pq_g (fun g1 => ?_)
  refine pq_g (fun g2 => ?_)
  refine pq_g (fun g3 => ?_)
  refine pq_n ?_
  exact pq_s w0
theorem wX20_answer (S Z : Nat → Prop) {hx N : Nat} (hS : ∀ x, fe_mem lX20_answer x = true → S x) (a0 : Nat) (M : FM) (w : WI Z hx N M) (z_a0 : Z a0) : pq (FX20_answer a0 M) (QA S Z hx N M) := wX20_answer_0 S Z hS a0 M w z_a0
def lX22_add : List Nat := [87, 88, 1085, 1086]
theorem wX22_add_0 (S Z : Nat → Prop) {hx N : Nat} (hS : ∀ x, fe_mem lX22_add x = true → S x) (a0 : Nat) (a1 : Int64) (a3 : Int64) (M : FM) (w : WI Z hx N M) (z_a0 : Z a0) : pq (FX22_add_0 a0 a1 a3 M) (QV S Z hx N M) := by
  have hN := w.2.2.1
  have w0 := wk_r (S := S) w
  delta FX22_add_0 BX22_add_0
  refine pq_g (fun g1 => ?_)
  have z2 := wk_z (i := 0) (f := 85) w0 rfl z_a0
  have f3 := sS_85 w0.1.1 g1
  refine pq_g (fun g4 => ?_)
  refine pq_g (fun g5 => ?_)
  extract_lets +onlyGivenNames M7
  have w6 : Wk S Z hx N M M7 := wk_aL hN w0 rfl g5.1 z2 (sy_s f3 (hS 1085 rfl))
  refine pq_g (fun g8 => ?_)
  have z9 := wk_z (i := 0) (f := 86) w6 rfl z_a0
  have f10 := sS_86 w6.1.1 g8
  refine pq_g (fun g11 => ?_)
  refine pq_g (fun g12 => ?_)
  extract_lets +onlyGivenNames M14
  have w13 : Wk S Z hx N M M14 := wk_aL hN w6 rfl g12.1 z9 (sy_s f10 (hS 1086 rfl))
  refine pq_g (fun g15 => ?_)
  refine pq_g (fun g16 => ?_)
  extract_lets +onlyGivenNames M18
  have w17 : Wk S Z hx N M M18 := wk_fI hN w13 rfl rfl g16 z_a0 (Or.inr (hS 87 rfl))
  refine pq_g (fun g19 => ?_)
  refine pq_g (fun g20 => ?_)
  extract_lets +onlyGivenNames M22
  have w21 : Wk S Z hx N M M22 := wk_fL hN w17 rfl rfl g20 z_a0 (Or.inr (hS 88 rfl))
  exact pq_s w21
theorem wX22_add (S Z : Nat → Prop) {hx N : Nat} (hS : ∀ x, fe_mem lX22_add x = true → S x) (a0 : Nat) (a1 : Int64) (a3 : Int64) (M : FM) (w : WI Z hx N M) (z_a0 : Z a0) : pq (FX22_add a0 a1 a3 M) (QV S Z hx N M) := wX22_add_0 S Z hS a0 a1 a3 M w z_a0
def lX20_gather : List Nat := [80, 81, 82, 83, 87, 88, 89, 90, 1085, 1086]
theorem wX20_gather_380 (S Z : Nat → Prop) {hx N : Nat} (hS : ∀ x, fe_mem lX20_gather x = true → S x) (n : Nat) (k34 : Nat → Nat → Nat → Int32 → Int32 → Int32 → Int32 → Int64 → FM → Option (Int32 × FM)) (hk34 : ∀ (a0 : Nat) (a1 : Nat) (a3 : Nat) (a4 : Int32) (a5 : Int32) (a6 : Int32) (a7 : Int32) (a8 : Int64) (M : FM), WI Z hx N M → Z a0 → Z a1 → Z a3 → pq (k34 a0 a1 a3 a4 a5 a6 a7 a8 M) (QA S Z hx N M)) (s0 : Int32) (M : FM) (w : WI Z hx N M) : pq (FX20_gather_380 n k34 s0 M) (QA S Z hx N M) := by
  have hN := w.2.2.1
  have w0 := wk_r (S := S) w
  delta FX20_gather_380 BX20_gather_380
  refine pq_g (fun _ => ?_)
  exact pq_s w0
theorem wX20_gather_379 (S Z : Nat → Prop) {hx N : Nat} (hS : ∀ x, fe_mem lX20_gather x = true → S x) (n : Nat) (k34 : Nat → Nat → Nat → Int32 → Int32 → Int32 → Int32 → Int64 → FM → Option (Int32 × FM)) (hk34 : ∀ (a0 : Nat) (a1 : Nat) (a3 : Nat) (a4 : Int32) (a5 : Int32) (a6 : Int32) (a7 : Int32) (a8 : Int64) (M : FM), WI Z hx N M → Z a0 → Z a1 → Z a3 → pq (k34 a0 a1 a3 a4 a5 a6 a7 a8 M) (QA S Z hx N M)) (M : FM) (w : WI Z hx N M) : pq (FX20_gather_379 n k34 M) (QA S Z hx N M) := by
  have hN := w.2.2.1
  have w0 := wk_r (S := S) w
  delta FX20_gather_379 BX20_gather_379
  exact q_tA hN w0 (wX20_gather_380 S Z hS n _ hk34 _ _ w0.1 )
theorem wX20_gather_305 (S Z : Nat → Prop) {hx N : Nat} (hS : ∀ x, fe_mem lX20_gather x = true → S x) (n : Nat) (k34 : Nat → Nat → Nat → Int32 → Int32 → Int32 → Int32 → Int64 → FM → Option (Int32 × FM)) (hk34 : ∀ (a0 : Nat) (a1 : Nat) (a3 : Nat) (a4 : Int32) (a5 : Int32) (a6 : Int32) (a7 : Int32) (a8 : Int64) (M : FM), WI Z hx N M → Z a0 → Z a1 → Z a3 → pq (k34 a0 a1 a3 a4 a5 a6 a7 a8 M) (QA S Z hx N M)) (a0 : Nat) (a1 : Nat) (a3 : Nat) (a5 : Int32) (a7 : Int32) (a8 : Int64) (a10 : Int64) (s0 : Int32) (M : FM) (w : WI Z hx N M) (z_a0 : Z a0) (z_a1 : Z a1) (z_a3 : Z a3) : pq (FX20_gather_305 n k34 a0 a1 a3 a5 a7 a8 a10 s0 M) (QA S Z hx N M) := by
  have hN := w.2.2.1
  have w0 := wk_r (S := S) w
  delta FX20_gather_305 BX20_gather_305
  refine pq_b (wX107_number S Z (sb rfl hS) n _ _ _ _ w0.1 z_a1) (fun r1 K2 => ?_)
  have w3 := wk_t w0 K2 hN
  exact q_tA hN w3 (hk34 _ _ _ _ _ _ _ _ _ w3.1 z_a0 z_a1 z_a3)
theorem wX20_gather_274 (S Z : Nat → Prop) {hx N : Nat} (hS : ∀ x, fe_mem lX20_gather x = true → S x) (n : Nat) (k34 : Nat → Nat → Nat → Int32 → Int32 → Int32 → Int32 → Int64 → FM → Option (Int32 × FM)) (hk34 : ∀ (a0 : Nat) (a1 : Nat) (a3 : Nat) (a4 : Int32) (a5 : Int32) (a6 : Int32) (a7 : Int32) (a8 : Int64) (M : FM), WI Z hx N M → Z a0 → Z a1 → Z a3 → pq (k34 a0 a1 a3 a4 a5 a6 a7 a8 M) (QA S Z hx N M)) (a0 : Nat) (a1 : Nat) (a3 : Nat) (a5 : Int32) (a10 : Int64) (a12 : Int64) (a14 : Int64) (a16 : Int32) (a17 : Int32) (M : FM) (w : WI Z hx N M) (z_a0 : Z a0) (z_a1 : Z a1) (z_a3 : Z a3) : pq (FX20_gather_274 n k34 a0 a1 a3 a5 a10 a12 a14 a16 a17 M) (QA S Z hx N M) := by
  have hN := w.2.2.1
  have w0 := wk_r (S := S) w
  delta FX20_gather_274 BX20_gather_274
  refine pq_g (fun g1 => ?_)
  extract_lets +onlyGivenNames M3
  have w2 : Wk S Z hx N M M3 := wk_fL hN w0 rfl rfl g1 z_a3 (Or.inr (hS 83 rfl))
  refine pq_fi (fun _ => ?_) (fun _ => ?_)
  · exact q_tA hN w2 (wX20_gather_305 S Z hS n _ hk34 _ _ _ _ _ _ _ _ _ w2.1 z_a0 z_a1 z_a3)
  · exact q_tA hN w2 (wX20_gather_305 S Z hS n _ hk34 _ _ _ _ _ _ _ _ _ w2.1 z_a0 z_a1 z_a3)
theorem wX20_gather_208 (S Z : Nat → Prop) {hx N : Nat} (hS : ∀ x, fe_mem lX20_gather x = true → S x) (n : Nat) (k34 : Nat → Nat → Nat → Int32 → Int32 → Int32 → Int32 → Int64 → FM → Option (Int32 × FM)) (hk34 : ∀ (a0 : Nat) (a1 : Nat) (a3 : Nat) (a4 : Int32) (a5 : Int32) (a6 : Int32) (a7 : Int32) (a8 : Int64) (M : FM), WI Z hx N M → Z a0 → Z a1 → Z a3 → pq (k34 a0 a1 a3 a4 a5 a6 a7 a8 M) (QA S Z hx N M)) (a0 : Nat) (a1 : Nat) (a3 : Nat) (a5 : Int32) (a10 : Int64) (a12 : Int64) (a14 : Int64) (a16 : Int32) (a17 : Int32) (M : FM) (w : WI Z hx N M) (z_a0 : Z a0) (z_a1 : Z a1) (z_a3 : Z a3) : pq (FX20_gather_208 n k34 a0 a1 a3 a5 a10 a12 a14 a16 a17 M) (QA S Z hx N M) := by
  have hN := w.2.2.1
  have w0 := wk_r (S := S) w
  delta FX20_gather_208 BX20_gather_208
  refine pq_fi (fun _ => ?_) (fun _ => ?_)
  · refine pq_b (wX107_number S Z (sb rfl hS) n _ _ _ _ w0.1 z_a1) (fun r1 K2 => ?_)
    have w3 := wk_t w0 K2 hN
    refine pq_g (fun g4 => ?_)
    extract_lets +onlyGivenNames M6
    have w5 : Wk S Z hx N M M6 := wk_fI hN w3 rfl rfl g4 z_a3 (Or.inr (hS 81 rfl))
    refine pq_b (wX107_number S Z (sb rfl hS) n _ _ _ _ w5.1 z_a1) (fun r7 K8 => ?_)
    have w9 := wk_t w5 K8 hN
    refine pq_g (fun g10 => ?_)
    extract_lets +onlyGivenNames M12
    have w11 : Wk S Z hx N M M12 := wk_fL hN w9 rfl rfl g10 z_a3 (Or.inr (hS 82 rfl))
    exact q_tA hN w11 (wX20_gather_274 S Z hS n _ hk34 _ _ _ _ _ _ _ _ _ _ w11.1 z_a0 z_a1 z_a3)
  · refine pq_fi (fun _ => ?_) (fun _ => ?_)
    · refine pq_g (fun g13 => ?_)
      have z14 := wk_z (i := 0) (f := 78) w0 rfl z_a3
      refine pq_g (fun g15 => ?_)
      refine pq_b (wX22_add S Z (sb rfl hS) _ _ _ _ w0.1 z14) (fun r16 K17 => ?_)
      have w18 := wk_t w0 K17 hN
      exact q_tA hN w18 (wX20_gather_274 S Z hS n _ hk34 _ _ _ _ _ _ _ _ _ _ w18.1 z_a0 z_a1 z_a3)
    · refine pq_g (fun g19 => ?_)
      have z20 := wk_z (i := 0) (f := 79) w0 rfl z_a3
      refine pq_g (fun g21 => ?_)
      refine pq_b (wX22_add S Z (sb rfl hS) _ _ _ _ w0.1 z20) (fun r22 K23 => ?_)
      have w24 := wk_t w0 K23 hN
      exact q_tA hN w24 (wX20_gather_274 S Z hS n _ hk34 _ _ _ _ _ _ _ _ _ _ w24.1 z_a0 z_a1 z_a3)
theorem wX20_gather_206 (S Z : Nat → Prop) {hx N : Nat} (hS : ∀ x, fe_mem lX20_gather x = true → S x) (n : Nat) (k34 : Nat → Nat → Nat → Int32 → Int32 → Int32 → Int32 → Int64 → FM → Option (Int32 × FM)) (hk34 : ∀ (a0 : Nat) (a1 : Nat) (a3 : Nat) (a4 : Int32) (a5 : Int32) (a6 : Int32) (a7 : Int32) (a8 : Int64) (M : FM), WI Z hx N M → Z a0 → Z a1 → Z a3 → pq (k34 a0 a1 a3 a4 a5 a6 a7 a8 M) (QA S Z hx N M)) (M : FM) (w : WI Z hx N M) : pq (FX20_gather_206 n k34 M) (QA S Z hx N M) := by
  have hN := w.2.2.1
  have w0 := wk_r (S := S) w
  delta FX20_gather_206 BX20_gather_206
  refine pq_g (fun _ => ?_)
  exact pq_s w0
theorem wX20_gather_179 (S Z : Nat → Prop) {hx N : Nat} (hS : ∀ x, fe_mem lX20_gather x = true → S x) (n : Nat) (k34 : Nat → Nat → Nat → Int32 → Int32 → Int32 → Int32 → Int64 → FM → Option (Int32 × FM)) (hk34 : ∀ (a0 : Nat) (a1 : Nat) (a3 : Nat) (a4 : Int32) (a5 : Int32) (a6 : Int32) (a7 : Int32) (a8 : Int64) (M : FM), WI Z hx N M → Z a0 → Z a1 → Z a3 → pq (k34 a0 a1 a3 a4 a5 a6 a7 a8 M) (QA S Z hx N M)) (a0 : Nat) (a1 : Nat) (a3 : Nat) (a5 : Int32) (a10 : Int64) (a12 : Int64) (a14 : Int64) (a16 : Int32) (a17 : Int32) (s0 : Int32) (M : FM) (w : WI Z hx N M) (z_a0 : Z a0) (z_a1 : Z a1) (z_a3 : Z a3) : pq (FX20_gather_179 n k34 a0 a1 a3 a5 a10 a12 a14 a16 a17 s0 M) (QA S Z hx N M) := by
  have hN := w.2.2.1
  have w0 := wk_r (S := S) w
  delta FX20_gather_179 BX20_gather_179
  refine pq_fi (fun _ => ?_) (fun _ => ?_)
  · refine pq_fi (fun _ => ?_) (fun _ => ?_)
    · exact q_tA hN w0 (wX20_gather_208 S Z hS n _ hk34 _ _ _ _ _ _ _ _ _ _ w0.1 z_a0 z_a1 z_a3)
    · refine pq_fi (fun _ => ?_) (fun _ => ?_)
      · refine pq_b (wX19_has S Z (sb rfl hS) _ _ _ _ w0.1 z_a1) (fun r1 K2 => ?_)
        have w3 := wk_t w0 K2 hN
        refine pq_fi (fun _ => ?_) (fun _ => ?_)
        · exact q_tA hN w3 (wX20_gather_206 S Z hS n _ hk34 _ w3.1 )
        · exact q_tA hN w3 (wX20_gather_208 S Z hS n _ hk34 _ _ _ _ _ _ _ _ _ _ w3.1 z_a0 z_a1 z_a3)
      · exact pq_0
  · exact q_tA hN w0 (wX20_gather_206 S Z hS n _ hk34 _ w0.1 )
theorem wX20_gather_178 (S Z : Nat → Prop) {hx N : Nat} (hS : ∀ x, fe_mem lX20_gather x = true → S x) (n : Nat) (k34 : Nat → Nat → Nat → Int32 → Int32 → Int32 → Int32 → Int64 → FM → Option (Int32 × FM)) (hk34 : ∀ (a0 : Nat) (a1 : Nat) (a3 : Nat) (a4 : Int32) (a5 : Int32) (a6 : Int32) (a7 : Int32) (a8 : Int64) (M : FM), WI Z hx N M → Z a0 → Z a1 → Z a3 → pq (k34 a0 a1 a3 a4 a5 a6 a7 a8 M) (QA S Z hx N M)) (a0 : Nat) (a1 : Nat) (a3 : Nat) (a5 : Int32) (a10 : Int64) (a12 : Int64) (a14 : Int64) (a16 : Int32) (a17 : Int32) (M : FM) (w : WI Z hx N M) (z_a0 : Z a0) (z_a1 : Z a1) (z_a3 : Z a3) : pq (FX20_gather_178 n k34 a0 a1 a3 a5 a10 a12 a14 a16 a17 M) (QA S Z hx N M) := by
  have hN := w.2.2.1
  have w0 := wk_r (S := S) w
  delta FX20_gather_178 BX20_gather_178
  exact q_tA hN w0 (wX20_gather_179 S Z hS n _ hk34 _ _ _ _ _ _ _ _ _ _ _ w0.1 z_a0 z_a1 z_a3)
theorem wX20_gather_174 (S Z : Nat → Prop) {hx N : Nat} (hS : ∀ x, fe_mem lX20_gather x = true → S x) (n : Nat) (k34 : Nat → Nat → Nat → Int32 → Int32 → Int32 → Int32 → Int64 → FM → Option (Int32 × FM)) (hk34 : ∀ (a0 : Nat) (a1 : Nat) (a3 : Nat) (a4 : Int32) (a5 : Int32) (a6 : Int32) (a7 : Int32) (a8 : Int64) (M : FM), WI Z hx N M → Z a0 → Z a1 → Z a3 → pq (k34 a0 a1 a3 a4 a5 a6 a7 a8 M) (QA S Z hx N M)) (a0 : Nat) (a1 : Nat) (a3 : Nat) (a5 : Int32) (a10 : Int64) (a12 : Int64) (a14 : Int64) (a16 : Int32) (a17 : Int32) (M : FM) (w : WI Z hx N M) (z_a0 : Z a0) (z_a1 : Z a1) (z_a3 : Z a3) : pq (FX20_gather_174 n k34 a0 a1 a3 a5 a10 a12 a14 a16 a17 M) (QA S Z hx N M) := by
  have hN := w.2.2.1
  have w0 := wk_r (S := S) w
  delta FX20_gather_174 BX20_gather_174
  exact q_tA hN w0 (wX20_gather_179 S Z hS n _ hk34 _ _ _ _ _ _ _ _ _ _ _ w0.1 z_a0 z_a1 z_a3)
theorem wX20_gather_155 (S Z : Nat → Prop) {hx N : Nat} (hS : ∀ x, fe_mem lX20_gather x = true → S x) (n : Nat) (k34 : Nat → Nat → Nat → Int32 → Int32 → Int32 → Int32 → Int64 → FM → Option (Int32 × FM)) (hk34 : ∀ (a0 : Nat) (a1 : Nat) (a3 : Nat) (a4 : Int32) (a5 : Int32) (a6 : Int32) (a7 : Int32) (a8 : Int64) (M : FM), WI Z hx N M → Z a0 → Z a1 → Z a3 → pq (k34 a0 a1 a3 a4 a5 a6 a7 a8 M) (QA S Z hx N M)) (a0 : Nat) (a1 : Nat) (a3 : Nat) (a5 : Int32) (a10 : Int64) (a12 : Int64) (a14 : Int64) (a16 : Int32) (a17 : Int32) (M : FM) (w : WI Z hx N M) (z_a0 : Z a0) (z_a1 : Z a1) (z_a3 : Z a3) : pq (FX20_gather_155 n k34 a0 a1 a3 a5 a10 a12 a14 a16 a17 M) (QA S Z hx N M) := by
  have hN := w.2.2.1
  have w0 := wk_r (S := S) w
  delta FX20_gather_155 BX20_gather_155
  refine pq_fi (fun _ => ?_) (fun _ => ?_)
  · refine pq_fi (fun _ => ?_) (fun _ => ?_)
    · refine pq_fi (fun _ => ?_) (fun _ => ?_)
      · exact q_tA hN w0 (wX20_gather_178 S Z hS n _ hk34 _ _ _ _ _ _ _ _ _ _ w0.1 z_a0 z_a1 z_a3)
      · exact q_tA hN w0 (wX20_gather_174 S Z hS n _ hk34 _ _ _ _ _ _ _ _ _ _ w0.1 z_a0 z_a1 z_a3)
    · exact q_tA hN w0 (wX20_gather_174 S Z hS n _ hk34 _ _ _ _ _ _ _ _ _ _ w0.1 z_a0 z_a1 z_a3)
  · exact q_tA hN w0 (wX20_gather_178 S Z hS n _ hk34 _ _ _ _ _ _ _ _ _ _ w0.1 z_a0 z_a1 z_a3)
theorem wX20_gather_136 (S Z : Nat → Prop) {hx N : Nat} (hS : ∀ x, fe_mem lX20_gather x = true → S x) (n : Nat) (k34 : Nat → Nat → Nat → Int32 → Int32 → Int32 → Int32 → Int64 → FM → Option (Int32 × FM)) (hk34 : ∀ (a0 : Nat) (a1 : Nat) (a3 : Nat) (a4 : Int32) (a5 : Int32) (a6 : Int32) (a7 : Int32) (a8 : Int64) (M : FM), WI Z hx N M → Z a0 → Z a1 → Z a3 → pq (k34 a0 a1 a3 a4 a5 a6 a7 a8 M) (QA S Z hx N M)) (a0 : Nat) (a1 : Nat) (a3 : Nat) (a5 : Int32) (a7 : Int32) (a10 : Int64) (a12 : Int64) (a14 : Int64) (a16 : Int32) (s0 : Int32) (M : FM) (w : WI Z hx N M) (z_a0 : Z a0) (z_a1 : Z a1) (z_a3 : Z a3) : pq (FX20_gather_136 n k34 a0 a1 a3 a5 a7 a10 a12 a14 a16 s0 M) (QA S Z hx N M) := by
  have hN := w.2.2.1
  have w0 := wk_r (S := S) w
  delta FX20_gather_136 BX20_gather_136
  refine pq_fi (fun _ => ?_) (fun _ => ?_)
  · refine pq_fi (fun _ => ?_) (fun _ => ?_)
    · exact q_tA hN w0 (wX20_gather_155 S Z hS n _ hk34 _ _ _ _ _ _ _ _ _ _ w0.1 z_a0 z_a1 z_a3)
    · refine pq_fi (fun _ => ?_) (fun _ => ?_)
      · exact q_tA hN w0 (wX20_gather_174 S Z hS n _ hk34 _ _ _ _ _ _ _ _ _ _ w0.1 z_a0 z_a1 z_a3)
      · exact q_tA hN w0 (wX20_gather_155 S Z hS n _ hk34 _ _ _ _ _ _ _ _ _ _ w0.1 z_a0 z_a1 z_a3)
  · exact q_tA hN w0 (wX20_gather_174 S Z hS n _ hk34 _ _ _ _ _ _ _ _ _ _ w0.1 z_a0 z_a1 z_a3)
theorem wX20_gather_85 (S Z : Nat → Prop) {hx N : Nat} (hS : ∀ x, fe_mem lX20_gather x = true → S x) (n : Nat) (k34 : Nat → Nat → Nat → Int32 → Int32 → Int32 → Int32 → Int64 → FM → Option (Int32 × FM)) (hk34 : ∀ (a0 : Nat) (a1 : Nat) (a3 : Nat) (a4 : Int32) (a5 : Int32) (a6 : Int32) (a7 : Int32) (a8 : Int64) (M : FM), WI Z hx N M → Z a0 → Z a1 → Z a3 → pq (k34 a0 a1 a3 a4 a5 a6 a7 a8 M) (QA S Z hx N M)) (M : FM) (w : WI Z hx N M) : pq (FX20_gather_85 n k34 M) (QA S Z hx N M) := by
  have hN := w.2.2.1
  have w0 := wk_r (S := S) w
  delta FX20_gather_85 BX20_gather_85
  refine pq_g (fun _ => ?_)
  exact pq_s w0
theorem wX20_gather_34 (S Z : Nat → Prop) {hx N : Nat} (hS : ∀ x, fe_mem lX20_gather x = true → S x) (n : Nat) (k34 : Nat → Nat → Nat → Int32 → Int32 → Int32 → Int32 → Int64 → FM → Option (Int32 × FM)) (hk34 : ∀ (a0 : Nat) (a1 : Nat) (a3 : Nat) (a4 : Int32) (a5 : Int32) (a6 : Int32) (a7 : Int32) (a8 : Int64) (M : FM), WI Z hx N M → Z a0 → Z a1 → Z a3 → pq (k34 a0 a1 a3 a4 a5 a6 a7 a8 M) (QA S Z hx N M)) (a0 : Nat) (a1 : Nat) (a3 : Nat) (a4 : Int32) (a5 : Int32) (a6 : Int32) (a7 : Int32) (a8 : Int64) (M : FM) (w : WI Z hx N M) (z_a0 : Z a0) (z_a1 : Z a1) (z_a3 : Z a3) : pq (FX20_gather_34 n k34 a0 a1 a3 a4 a5 a6 a7 a8 M) (QA S Z hx N M) := by
  have hN := w.2.2.1
  have w0 := wk_r (S := S) w
  delta FX20_gather_34 BX20_gather_34
  refine pq_fi (fun _ => ?_) (fun _ => ?_)
  · refine pq_fi (fun _ => ?_) (fun _ => ?_)
    · exact q_tA hN w0 (wX20_gather_379 S Z hS n _ hk34 _ w0.1 )
    · refine pq_fi (fun _ => ?_) (fun _ => ?_)
      · exact q_tA hN w0 (wX20_gather_379 S Z hS n _ hk34 _ w0.1 )
      · refine pq_g (fun g1 => ?_)
        refine pq_b (wX20_answer S Z (sb rfl hS) _ _ w0.1 z_a0) (fun r2 K3 => ?_)
        have w4 := wk_t w0 K3 hN
        refine pq_fi (fun _ => ?_) (fun _ => ?_)
        · refine pq_b (wX19_has S Z (sb rfl hS) _ _ _ _ w4.1 z_a1) (fun r5 K6 => ?_)
          have w7 := wk_t w4 K6 hN
          refine pq_fi (fun _ => ?_) (fun _ => ?_)
          · exact q_tA hN w7 (wX20_gather_379 S Z hS n _ hk34 _ w7.1 )
          · refine pq_g (fun g8 => ?_)
            refine pq_fi (fun _ => ?_) (fun _ => ?_)
            · refine pq_b (wX19_has S Z (sb rfl hS) _ _ _ _ w7.1 z_a1) (fun r9 K10 => ?_)
              have w11 := wk_t w7 K10 hN
              refine pq_fi (fun _ => ?_) (fun _ => ?_)
              · exact q_tA hN w11 (wX20_gather_379 S Z hS n _ hk34 _ w11.1 )
              · exact q_tA hN w11 (wX20_gather_380 S Z hS n _ hk34 _ _ w11.1 )
            · exact pq_0
        · exact pq_0
  · refine pq_g (fun g12 => ?_)
    refine pq_g (fun g13 => ?_)
    refine pq_fi (fun _ => ?_) (fun _ => ?_)
    · exact q_tA hN w0 (wX20_gather_85 S Z hS n _ hk34 _ w0.1 )
    · refine pq_g (fun g14 => ?_)
      refine pq_fi (fun _ => ?_) (fun _ => ?_)
      · exact q_tA hN w0 (wX20_gather_85 S Z hS n _ hk34 _ w0.1 )
      · refine pq_fi (fun _ => ?_) (fun _ => ?_)
        · refine pq_b (wX19_has S Z (sb rfl hS) _ _ _ _ w0.1 z_a1) (fun r15 K16 => ?_)
          have w17 := wk_t w0 K16 hN
          refine pq_fi (fun _ => ?_) (fun _ => ?_)
          · exact q_tA hN w17 (wX20_gather_85 S Z hS n _ hk34 _ w17.1 )
          · refine pq_b (wX107_number S Z (sb rfl hS) n _ _ _ _ w17.1 z_a1) (fun r18 K19 => ?_)
            have w20 := wk_t w17 K19 hN
            refine pq_b (wX107_number S Z (sb rfl hS) n _ _ _ _ w20.1 z_a1) (fun r21 K22 => ?_)
            have w23 := wk_t w20 K22 hN
            refine pq_b (wX107_number S Z (sb rfl hS) n _ _ _ _ w23.1 z_a1) (fun r24 K25 => ?_)
            have w26 := wk_t w23 K25 hN
            refine pq_fi (fun _ => ?_) (fun _ => ?_)
            · exact q_tA hN w26 (wX20_gather_136 S Z hS n _ hk34 _ _ _ _ _ _ _ _ _ _ _ w26.1 z_a0 z_a1 z_a3)
            · exact q_tA hN w26 (wX20_gather_136 S Z hS n _ hk34 _ _ _ _ _ _ _ _ _ _ _ w26.1 z_a0 z_a1 z_a3)
        · exact pq_0
theorem wX20_gather_0 (S Z : Nat → Prop) {hx N : Nat} (hS : ∀ x, fe_mem lX20_gather x = true → S x) (n : Nat) (k34 : Nat → Nat → Nat → Int32 → Int32 → Int32 → Int32 → Int64 → FM → Option (Int32 × FM)) (hk34 : ∀ (a0 : Nat) (a1 : Nat) (a3 : Nat) (a4 : Int32) (a5 : Int32) (a6 : Int32) (a7 : Int32) (a8 : Int64) (M : FM), WI Z hx N M → Z a0 → Z a1 → Z a3 → pq (k34 a0 a1 a3 a4 a5 a6 a7 a8 M) (QA S Z hx N M)) (a0 : Nat) (a1 : Nat) (a2 : Int32) (a3 : Nat) (M : FM) (w : WI Z hx N M) (z_a0 : Z a0) (z_a1 : Z a1) (z_a3 : Z a3) : pq (FX20_gather_0 n k34 a0 a1 a2 a3 M) (QA S Z hx N M) := by
  have hN := w.2.2.1
  have w0 := wk_r (S := S) w
  delta FX20_gather_0 BX20_gather_0
  refine pq_g (fun g1 => ?_)
  have z2 := wk_z (i := 0) (f := 78) w0 rfl z_a3
  refine pq_g (fun g3 => ?_)
  refine pq_b (wX22_clear S Z (sb rfl hS) _ _ w0.1 z2) (fun r4 K5 => ?_)
  have w6 := wk_t w0 K5 hN
  refine pq_g (fun g7 => ?_)
  have z8 := wk_z (i := 0) (f := 79) w6 rfl z_a3
  refine pq_g (fun g9 => ?_)
  refine pq_b (wX22_clear S Z (sb rfl hS) _ _ w6.1 z8) (fun r10 K11 => ?_)
  have w12 := wk_t w6 K11 hN
  refine pq_g (fun g13 => ?_)
  extract_lets +onlyGivenNames M15
  have w14 : Wk S Z hx N M M15 := wk_fI hN w12 rfl rfl g13 z_a3 (Or.inr (hS 80 rfl))
  exact q_tA hN w14 (hk34 _ _ _ _ _ _ _ _ _ w14.1 z_a0 z_a1 z_a3)
theorem wX20_gather_L (S Z : Nat → Prop) {hx N : Nat} (hS : ∀ x, fe_mem lX20_gather x = true → S x) (n : Nat) : ∀ j : Nat, ∀ (a0 : Nat) (a1 : Nat) (a3 : Nat) (a4 : Int32) (a5 : Int32) (a6 : Int32) (a7 : Int32) (a8 : Int64) (M : FM), WI Z hx N M → Z a0 → Z a1 → Z a3 → pq (FX20_gather_L34 n j a0 a1 a3 a4 a5 a6 a7 a8 M) (QA S Z hx N M)
  | 0 => by intros; exact pq_0
  | j + 1 => fun a0 a1 a3 a4 a5 a6 a7 a8 M w => wX20_gather_34 S Z hS n _ (wX20_gather_L S Z hS n j) a0 a1 a3 a4 a5 a6 a7 a8 M w
theorem wX20_gather (S Z : Nat → Prop) {hx N : Nat} (hS : ∀ x, fe_mem lX20_gather x = true → S x) (n : Nat) (a0 : Nat) (a1 : Nat) (a2 : Int32) (a3 : Nat) (M : FM) (w : WI Z hx N M) (z_a0 : Z a0) (z_a1 : Z a1) (z_a3 : Z a3) : pq (FX20_gather n a0 a1 a2 a3 M) (QA S Z hx N M) := wX20_gather_0 S Z hS n _ (wX20_gather_L S Z hS n n) a0 a1 a2 a3 M w z_a0 z_a1 z_a3
def lX27_run : List Nat := []
theorem wX27_run_0 (S Z : Nat → Prop) {hx N : Nat} (hS : ∀ x, fe_mem lX27_run x = true → S x) (a0 : Nat) (a1 : Nat) (a2 : Nat) (a3 : Nat) (M : FM) (w : WI Z hx N M) (z_a0 : Z a0) (z_a1 : Z a1) (z_a2 : Z a2) (z_a3 : Z a3) : pq (FX27_run_0 a0 a1 a2 a3 M) (QA S Z hx N M) := by
  have hN := w.2.2.1
  have w0 := wk_r (S := S) w
  delta FX27_run_0 BX27_run_0
  exact pq_s w0
theorem wX27_run (S Z : Nat → Prop) {hx N : Nat} (hS : ∀ x, fe_mem lX27_run x = true → S x) (a0 : Nat) (a1 : Nat) (a2 : Nat) (a3 : Nat) (M : FM) (w : WI Z hx N M) (z_a0 : Z a0) (z_a1 : Z a1) (z_a2 : Z a2) (z_a3 : Z a3) : pq (FX27_run a0 a1 a2 a3 M) (QA S Z hx N M) := wX27_run_0 S Z hS a0 a1 a2 a3 M w z_a0 z_a1 z_a2 z_a3
def lX22_next : List Nat := [89, 90]
theorem wX22_next_0 (S Z : Nat → Prop) {hx N : Nat} (hS : ∀ x, fe_mem lX22_next x = true → S x) (n : Nat) (k0 : Nat → FM → Option (Int64 × FM)) (hk0 : ∀ (a0 : Nat) (M : FM), WI Z hx N M → Z a0 → pq (k0 a0 M) (QA S Z hx N M)) (a0 : Nat) (M : FM) (w : WI Z hx N M) (z_a0 : Z a0) : pq (FX22_next_0 n k0 a0 M) (QA S Z hx N M) := by
  have hN := w.2.2.1
  have w0 := wk_r (S := S) w
  delta FX22_next_0 BX22_next_0
  refine pq_g (fun g1 => ?_)
  refine pq_g (fun g2 => ?_)
  have z3 := wk_z (i := 0) (f := 86) w0 rfl z_a0
  have f4 := sS_86 w0.1.1 g2
  refine pq_g (fun g5 => ?_)
  refine pq_g (fun g6 => ?_)
  refine pq_fi (fun _ => ?_) (fun _ => ?_)
  · refine pq_g (fun g7 => ?_)
    refine pq_g (fun g8 => ?_)
    extract_lets +onlyGivenNames M10
    have w9 : Wk S Z hx N M M10 := wk_fI hN w0 rfl rfl g8 z_a0 (Or.inr (hS 89 rfl))
    refine pq_g (fun g11 => ?_)
    extract_lets +onlyGivenNames M13
    have w12 : Wk S Z hx N M M13 := wk_fL hN w9 rfl rfl g11 z_a0 (Or.inr (hS 90 rfl))
    exact q_tA hN w12 (hk0 _ _ w12.1 z_a0)
  · refine pq_g (fun g14 => ?_)
    have z15 := wk_z (i := 0) (f := 85) w0 rfl z_a0
    have f16 := sS_85 w0.1.1 g14
    refine pq_g (fun g17 => ?_)
    refine pq_g (fun g18 => ?_)
    refine pq_g (fun g19 => ?_)
    refine pq_g (fun g20 => ?_)
    extract_lets +onlyGivenNames M22
    have w21 : Wk S Z hx N M M22 := wk_fL hN w0 rfl rfl g20 z_a0 (Or.inr (hS 90 rfl))
    exact pq_s w21
theorem wX22_next_L (S Z : Nat → Prop) {hx N : Nat} (hS : ∀ x, fe_mem lX22_next x = true → S x) (n : Nat) : ∀ j : Nat, ∀ (a0 : Nat) (M : FM), WI Z hx N M → Z a0 → pq (FX22_next_L0 n j a0 M) (QA S Z hx N M)
  | 0 => by intros; exact pq_0
  | j + 1 => fun a0 M w => wX22_next_0 S Z hS n _ (wX22_next_L S Z hS n j) a0 M w
theorem wX22_next (S Z : Nat → Prop) {hx N : Nat} (hS : ∀ x, fe_mem lX22_next x = true → S x) (n : Nat) (a0 : Nat) (M : FM) (w : WI Z hx N M) (z_a0 : Z a0) : pq (FX22_next n a0 M) (QA S Z hx N M) := (wX22_next_L S Z hS n n) a0 M w z_a0
def lX19_put : List Nat := [208, 1201, 1203, 1204]
theorem wX19_put_0 (S Z : Nat → Prop) {hx N : Nat} (hS : ∀ x, fe_mem lX19_put x = true → S x) (n : Nat) (a0 : Nat) (a1 : Int64) (a3 : Int32) (M : FM) (w : WI Z hx N M) (z_a0 : Z a0) : pq (FX19_put_0 n a0 a1 a3 M) (QV S Z hx N M) := by
  have hN := w.2.2.1
  have w0 := wk_r (S := S) w
  delta FX19_put_0 BX19_put_0
  refine pq_g (fun g1 => ?_)
  have z2 := wk_z (i := 0) (f := 222) w0 rfl z_a0
  refine pq_g (fun g3 => ?_)
  refine pq_b (wX11_store S Z (sb rfl hS) n _ _ _ _ _ w0.1 z2) (fun r4 K5 => ?_)
  have w6 := wk_t w0 K5 hN
  exact pq_s w6
theorem wX19_put (S Z : Nat → Prop) {hx N : Nat} (hS : ∀ x, fe_mem lX19_put x = true → S x) (n : Nat) (a0 : Nat) (a1 : Int64) (a3 : Int32) (M : FM) (w : WI Z hx N M) (z_a0 : Z a0) : pq (FX19_put n a0 a1 a3 M) (QV S Z hx N M) := wX19_put_0 S Z hS n a0 a1 a3 M w z_a0
def lX28_run : List Nat := [84, 89, 90, 208, 1201, 1203, 1204]
theorem wX28_run_58 (S Z : Nat → Prop) {hx N : Nat} (hS : ∀ x, fe_mem lX28_run x = true → S x) (n : Nat) (k20 : Nat → Nat → Int64 → Int32 → FM → Option (Int32 × FM)) (hk20 : ∀ (a1 : Nat) (a3 : Nat) (a4 : Int64) (a6 : Int32) (M : FM), WI Z hx N M → Z a1 → Z a3 → pq (k20 a1 a3 a4 a6 M) (QA S Z hx N M)) (a1 : Nat) (a3 : Nat) (a4 : Int64) (a6 : Int32) (s0 : Nat) (s1 : Int64) (s2 : Int32) (M : FM) (w : WI Z hx N M) (z_a1 : Z a1) (z_a3 : Z a3) (z_s0 : Z s0) : pq (FX28_run_58 n k20 a1 a3 a4 a6 s0 s1 s2 M) (QA S Z hx N M) := by
  have hN := w.2.2.1
  have w0 := wk_r (S := S) w
  delta FX28_run_58 BX28_run_58
  refine pq_fi (fun _ => ?_) (fun _ => ?_)
  · refine pq_b (wX19_put S Z (sb rfl hS) n _ _ _ _ w0.1 z_s0) (fun r1 K2 => ?_)
    have w3 := wk_t w0 K2 hN
    exact q_tA hN w3 (hk20 _ _ _ _ _ w3.1 z_a1 z_a3)
  · exact pq_0
theorem wX28_run_20 (S Z : Nat → Prop) {hx N : Nat} (hS : ∀ x, fe_mem lX28_run x = true → S x) (n : Nat) (k20 : Nat → Nat → Int64 → Int32 → FM → Option (Int32 × FM)) (hk20 : ∀ (a1 : Nat) (a3 : Nat) (a4 : Int64) (a6 : Int32) (M : FM), WI Z hx N M → Z a1 → Z a3 → pq (k20 a1 a3 a4 a6 M) (QA S Z hx N M)) (a1 : Nat) (a3 : Nat) (a4 : Int64) (a6 : Int32) (M : FM) (w : WI Z hx N M) (z_a1 : Z a1) (z_a3 : Z a3) : pq (FX28_run_20 n k20 a1 a3 a4 a6 M) (QA S Z hx N M) := by
  have hN := w.2.2.1
  have w0 := wk_r (S := S) w
  delta FX28_run_20 BX28_run_20
  refine pq_fi (fun _ => ?_) (fun _ => ?_)
  · refine pq_g (fun g1 => ?_)
    refine pq_g (fun g2 => ?_)
    extract_lets +onlyGivenNames M4
    have w3 : Wk S Z hx N M M4 := wk_fL hN w0 rfl rfl g2 z_a1 (Or.inr (hS 84 rfl))
    exact pq_s w3
  · refine pq_g (fun g5 => ?_)
    have z6 := wk_z (i := 0) (f := 79) w0 rfl z_a1
    refine pq_g (fun g7 => ?_)
    refine pq_b (wX22_next S Z (sb rfl hS) n _ _ w0.1 z6) (fun r8 K9 => ?_)
    have w10 := wk_t w0 K9 hN
    refine pq_g (fun g11 => ?_)
    refine pq_b (wJ1_length S Z (sb rfl hS) _ _ w10.1 (wk_zc w10 rfl)) (fun r12 K13 => ?_)
    have w14 := wk_t w10 K13 hN
    refine pq_fi (fun _ => ?_) (fun _ => ?_)
    · exact q_tA hN w14 (wX28_run_58 S Z hS n _ hk20 _ _ _ _ _ _ _ _ w14.1 z_a1 z_a3 z_a3)
    · refine pq_g (fun g15 => ?_)
      refine pq_b (wJ1_charAt S Z (sb rfl hS) _ _ _ w14.1 (wk_zc w14 rfl)) (fun r16 K17 => ?_)
      have w18 := wk_t w14 K17 hN
      exact q_tA hN w18 (wX28_run_58 S Z hS n _ hk20 _ _ _ _ _ _ _ _ w18.1 z_a1 z_a3 z_a3)
theorem wX28_run_0 (S Z : Nat → Prop) {hx N : Nat} (hS : ∀ x, fe_mem lX28_run x = true → S x) (n : Nat) (k20 : Nat → Nat → Int64 → Int32 → FM → Option (Int32 × FM)) (hk20 : ∀ (a1 : Nat) (a3 : Nat) (a4 : Int64) (a6 : Int32) (M : FM), WI Z hx N M → Z a1 → Z a3 → pq (k20 a1 a3 a4 a6 M) (QA S Z hx N M)) (a0 : Nat) (a1 : Nat) (a2 : Nat) (a3 : Nat) (M : FM) (w : WI Z hx N M) (z_a0 : Z a0) (z_a1 : Z a1) (z_a2 : Z a2) (z_a3 : Z a3) : pq (FX28_run_0 n k20 a0 a1 a2 a3 M) (QA S Z hx N M) := by
  have hN := w.2.2.1
  have w0 := wk_r (S := S) w
  delta FX28_run_0 BX28_run_0
  refine pq_g (fun g1 => ?_)
  have z2 := wk_z (i := 0) (f := 79) w0 rfl z_a1
  refine pq_g (fun g3 => ?_)
  refine pq_b (wJ5_min_2 S Z (sb rfl hS) _ _ _ w0.1 ) (fun r4 K5 => ?_)
  have w6 := wk_t w0 K5 hN
  exact q_tA hN w6 (hk20 _ _ _ _ _ w6.1 z_a1 z_a3)
theorem wX28_run_L (S Z : Nat → Prop) {hx N : Nat} (hS : ∀ x, fe_mem lX28_run x = true → S x) (n : Nat) : ∀ j : Nat, ∀ (a1 : Nat) (a3 : Nat) (a4 : Int64) (a6 : Int32) (M : FM), WI Z hx N M → Z a1 → Z a3 → pq (FX28_run_L20 n j a1 a3 a4 a6 M) (QA S Z hx N M)
  | 0 => by intros; exact pq_0
  | j + 1 => fun a1 a3 a4 a6 M w => wX28_run_20 S Z hS n _ (wX28_run_L S Z hS n j) a1 a3 a4 a6 M w
theorem wX28_run (S Z : Nat → Prop) {hx N : Nat} (hS : ∀ x, fe_mem lX28_run x = true → S x) (n : Nat) (a0 : Nat) (a1 : Nat) (a2 : Nat) (a3 : Nat) (M : FM) (w : WI Z hx N M) (z_a0 : Z a0) (z_a1 : Z a1) (z_a2 : Z a2) (z_a3 : Z a3) : pq (FX28_run n a0 a1 a2 a3 M) (QA S Z hx N M) := wX28_run_0 S Z hS n _ (wX28_run_L S Z hS n n) a0 a1 a2 a3 M w z_a0 z_a1 z_a2 z_a3
def lX23_has : List Nat := []
theorem wX23_has_51 (S Z : Nat → Prop) {hx N : Nat} (hS : ∀ x, fe_mem lX23_has x = true → S x) (s0 : Int32) (M : FM) (w : WI Z hx N M) : pq (FX23_has_51 s0 M) (QA S Z hx N M) := by
  have hN := w.2.2.1
  have w0 := wk_r (S := S) w
  delta FX23_has_51 BX23_has_51
  refine pq_g (fun _ => ?_)
  exact pq_s w0
theorem wX23_has_50 (S Z : Nat → Prop) {hx N : Nat} (hS : ∀ x, fe_mem lX23_has x = true → S x) (M : FM) (w : WI Z hx N M) : pq (FX23_has_50 M) (QA S Z hx N M) := by
  have hN := w.2.2.1
  have w0 := wk_r (S := S) w
  delta FX23_has_50 BX23_has_50
  exact q_tA hN w0 (wX23_has_51 S Z hS _ _ w0.1 )
theorem wX23_has_0 (S Z : Nat → Prop) {hx N : Nat} (hS : ∀ x, fe_mem lX23_has x = true → S x) (a0 : Nat) (a1 : Int64) (a3 : Int64) (M : FM) (w : WI Z hx N M) (z_a0 : Z a0) : pq (FX23_has_0 a0 a1 a3 M) (QA S Z hx N M) := by
  have hN := w.2.2.1
  have w0 := wk_r (S := S) w
  delta FX23_has_0 BX23_has_0
  refine pq_fi (fun _ => ?_) (fun _ => ?_)
  · exact q_tA hN w0 (wX23_has_50 S Z hS _ w0.1 )
  · refine pq_fi (fun _ => ?_) (fun _ => ?_)
    · exact q_tA hN w0 (wX23_has_50 S Z hS _ w0.1 )
    · refine pq_n ?_
      refine pq_fi (fun _ => ?_) (fun _ => ?_)
      · refine pq_fi (fun _ => ?_) (fun _ => ?_)
        · exact q_tA hN w0 (wX23_has_50 S Z hS _ w0.1 )
        · refine pq_g (fun g1 => ?_)
          refine pq_n ?_
          refine pq_fi (fun _ => ?_) (fun _ => ?_)
          · exact q_tA hN w0 (wX23_has_50 S Z hS _ w0.1 )
          · exact q_tA hN w0 (wX23_has_51 S Z hS _ _ w0.1 )
      · exact q_tA hN w0 (wX23_has_50 S Z hS _ w0.1 )
theorem wX23_has (S Z : Nat → Prop) {hx N : Nat} (hS : ∀ x, fe_mem lX23_has x = true → S x) (a0 : Nat) (a1 : Int64) (a3 : Int64) (M : FM) (w : WI Z hx N M) (z_a0 : Z a0) : pq (FX23_has a0 a1 a3 M) (QA S Z hx N M) := wX23_has_0 S Z hS a0 a1 a3 M w z_a0
def lX23_get : List Nat := []
theorem wX23_get_0 (S Z : Nat → Prop) {hx N : Nat} (hS : ∀ x, fe_mem lX23_get x = true → S x) (a0 : Nat) (a1 : Int32) (M : FM) (w : WI Z hx N M) (z_a0 : Z a0) : pq (FX23_get_0 a0 a1 M) (QA S Z hx N M) := by
  have hN := w.2.2.1
  have w0 := wk_r (S := S) w
  delta FX23_get_0 BX23_get_0
  refine pq_g (fun g1 => ?_)
  have z2 := wk_z (i := 0) (f := 69) w0 rfl z_a0
  have f3 := sS_69 w0.1.1 g1
  refine pq_g (fun g4 => ?_)
  exact pq_s w0
theorem wX23_get (S Z : Nat → Prop) {hx N : Nat} (hS : ∀ x, fe_mem lX23_get x = true → S x) (a0 : Nat) (a1 : Int32) (M : FM) (w : WI Z hx N M) (z_a0 : Z a0) : pq (FX23_get a0 a1 M) (QA S Z hx N M) := wX23_get_0 S Z hS a0 a1 M w z_a0
def lX25_run : List Nat := [84, 89, 90, 208, 1201, 1203, 1204]
theorem wX25_run_40 (S Z : Nat → Prop) {hx N : Nat} (hS : ∀ x, fe_mem lX25_run x = true → S x) (n : Nat) (k40 : Nat → Nat → Nat → Int64 → Int32 → Int32 → FM → Option (Int32 × FM)) (hk40 : ∀ (a1 : Nat) (a2 : Nat) (a3 : Nat) (a4 : Int64) (a6 : Int32) (a7 : Int32) (M : FM), WI Z hx N M → Z a1 → Z a2 → Z a3 → pq (k40 a1 a2 a3 a4 a6 a7 M) (QA S Z hx N M)) (a1 : Nat) (a2 : Nat) (a3 : Nat) (a4 : Int64) (a6 : Int32) (a7 : Int32) (M : FM) (w : WI Z hx N M) (z_a1 : Z a1) (z_a2 : Z a2) (z_a3 : Z a3) : pq (FX25_run_40 n k40 a1 a2 a3 a4 a6 a7 M) (QA S Z hx N M) := by
  have hN := w.2.2.1
  have w0 := wk_r (S := S) w
  delta FX25_run_40 BX25_run_40
  refine pq_fi (fun _ => ?_) (fun _ => ?_)
  · refine pq_g (fun g1 => ?_)
    refine pq_g (fun g2 => ?_)
    extract_lets +onlyGivenNames M4
    have w3 : Wk S Z hx N M M4 := wk_fL hN w0 rfl rfl g2 z_a1 (Or.inr (hS 84 rfl))
    exact pq_s w3
  · refine pq_g (fun g5 => ?_)
    have z6 := wk_z (i := 0) (f := 79) w0 rfl z_a1
    refine pq_g (fun g7 => ?_)
    refine pq_b (wX22_next S Z (sb rfl hS) n _ _ w0.1 z6) (fun r8 K9 => ?_)
    have w10 := wk_t w0 K9 hN
    refine pq_g (fun g11 => ?_)
    refine pq_b (wX23_get S Z (sb rfl hS) _ _ _ w10.1 z_a2) (fun r12 K13 => ?_)
    have w14 := wk_t w10 K13 hN
    refine pq_fi (fun _ => ?_) (fun _ => ?_)
    · refine pq_b (wX19_put S Z (sb rfl hS) n _ _ _ _ w14.1 z_a3) (fun r15 K16 => ?_)
      have w17 := wk_t w14 K16 hN
      exact q_tA hN w17 (hk40 _ _ _ _ _ _ _ w17.1 z_a1 z_a2 z_a3)
    · exact pq_0
theorem wX25_run_0 (S Z : Nat → Prop) {hx N : Nat} (hS : ∀ x, fe_mem lX25_run x = true → S x) (n : Nat) (k40 : Nat → Nat → Nat → Int64 → Int32 → Int32 → FM → Option (Int32 × FM)) (hk40 : ∀ (a1 : Nat) (a2 : Nat) (a3 : Nat) (a4 : Int64) (a6 : Int32) (a7 : Int32) (M : FM), WI Z hx N M → Z a1 → Z a2 → Z a3 → pq (k40 a1 a2 a3 a4 a6 a7 M) (QA S Z hx N M)) (a0 : Nat) (a1 : Nat) (a2 : Nat) (a3 : Nat) (M : FM) (w : WI Z hx N M) (z_a0 : Z a0) (z_a1 : Z a1) (z_a2 : Z a2) (z_a3 : Z a3) : pq (FX25_run_0 n k40 a0 a1 a2 a3 M) (QA S Z hx N M) := by
  have hN := w.2.2.1
  have w0 := wk_r (S := S) w
  delta FX25_run_0 BX25_run_0
  refine pq_g (fun g1 => ?_)
  have z2 := wk_z (i := 0) (f := 79) w0 rfl z_a1
  refine pq_g (fun g3 => ?_)
  refine pq_g (fun g4 => ?_)
  refine pq_g (fun g5 => ?_)
  refine pq_b (wX23_has S Z (sb rfl hS) _ _ _ _ w0.1 z_a2) (fun r6 K7 => ?_)
  have w8 := wk_t w0 K7 hN
  refine pq_fi (fun _ => ?_) (fun _ => ?_)
  · exact pq_s w8
  · refine pq_g (fun g9 => ?_)
    exact q_tA hN w8 (hk40 _ _ _ _ _ _ _ w8.1 z_a1 z_a2 z_a3)
theorem wX25_run_L (S Z : Nat → Prop) {hx N : Nat} (hS : ∀ x, fe_mem lX25_run x = true → S x) (n : Nat) : ∀ j : Nat, ∀ (a1 : Nat) (a2 : Nat) (a3 : Nat) (a4 : Int64) (a6 : Int32) (a7 : Int32) (M : FM), WI Z hx N M → Z a1 → Z a2 → Z a3 → pq (FX25_run_L40 n j a1 a2 a3 a4 a6 a7 M) (QA S Z hx N M)
  | 0 => by intros; exact pq_0
  | j + 1 => fun a1 a2 a3 a4 a6 a7 M w => wX25_run_40 S Z hS n _ (wX25_run_L S Z hS n j) a1 a2 a3 a4 a6 a7 M w
theorem wX25_run (S Z : Nat → Prop) {hx N : Nat} (hS : ∀ x, fe_mem lX25_run x = true → S x) (n : Nat) (a0 : Nat) (a1 : Nat) (a2 : Nat) (a3 : Nat) (M : FM) (w : WI Z hx N M) (z_a0 : Z a0) (z_a1 : Z a1) (z_a2 : Z a2) (z_a3 : Z a3) : pq (FX25_run n a0 a1 a2 a3 M) (QA S Z hx N M) := wX25_run_0 S Z hS n _ (wX25_run_L S Z hS n n) a0 a1 a2 a3 M w z_a0 z_a1 z_a2 z_a3
def lX26_run : List Nat := [70, 89, 90, 1069]
theorem wX26_run_38 (S Z : Nat → Prop) {hx N : Nat} (hS : ∀ x, fe_mem lX26_run x = true → S x) (n : Nat) (k38 : Nat → Nat → Nat → Int64 → Int32 → Int32 → FM → Option (Int32 × FM)) (hk38 : ∀ (a1 : Nat) (a2 : Nat) (a3 : Nat) (a4 : Int64) (a6 : Int32) (a7 : Int32) (M : FM), WI Z hx N M → Z a1 → Z a2 → Z a3 → pq (k38 a1 a2 a3 a4 a6 a7 M) (QA S Z hx N M)) (a1 : Nat) (a2 : Nat) (a3 : Nat) (a4 : Int64) (a6 : Int32) (a7 : Int32) (M : FM) (w : WI Z hx N M) (z_a1 : Z a1) (z_a2 : Z a2) (z_a3 : Z a3) : pq (FX26_run_38 n k38 a1 a2 a3 a4 a6 a7 M) (QA S Z hx N M) := by
  have hN := w.2.2.1
  have w0 := wk_r (S := S) w
  delta FX26_run_38 BX26_run_38
  refine pq_fi (fun _ => ?_) (fun _ => ?_)
  · refine pq_g (fun g1 => ?_)
    refine pq_n ?_
    refine pq_g (fun g2 => ?_)
    extract_lets +onlyGivenNames M4
    have w3 : Wk S Z hx N M M4 := wk_fI hN w0 rfl rfl g2 z_a2 (Or.inr (hS 70 rfl))
    exact pq_s w3
  · refine pq_g (fun g5 => ?_)
    have z6 := wk_z (i := 0) (f := 78) w0 rfl z_a1
    refine pq_g (fun g7 => ?_)
    refine pq_b (wX22_next S Z (sb rfl hS) n _ _ w0.1 z6) (fun r8 K9 => ?_)
    have w10 := wk_t w0 K9 hN
    refine pq_fi (fun _ => ?_) (fun _ => ?_)
    · refine pq_b (wX19_get S Z (sb rfl hS) _ _ _ w10.1 z_a3) (fun r11 K12 => ?_)
      have w13 := wk_t w10 K12 hN
      refine pq_g (fun g14 => ?_)
      refine pq_b (wX23_put S Z (sb rfl hS) _ _ _ _ w13.1 z_a2) (fun r15 K16 => ?_)
      have w17 := wk_t w13 K16 hN
      exact q_tA hN w17 (hk38 _ _ _ _ _ _ _ w17.1 z_a1 z_a2 z_a3)
    · exact pq_0
theorem wX26_run_0 (S Z : Nat → Prop) {hx N : Nat} (hS : ∀ x, fe_mem lX26_run x = true → S x) (n : Nat) (k38 : Nat → Nat → Nat → Int64 → Int32 → Int32 → FM → Option (Int32 × FM)) (hk38 : ∀ (a1 : Nat) (a2 : Nat) (a3 : Nat) (a4 : Int64) (a6 : Int32) (a7 : Int32) (M : FM), WI Z hx N M → Z a1 → Z a2 → Z a3 → pq (k38 a1 a2 a3 a4 a6 a7 M) (QA S Z hx N M)) (a0 : Nat) (a1 : Nat) (a2 : Nat) (a3 : Nat) (M : FM) (w : WI Z hx N M) (z_a0 : Z a0) (z_a1 : Z a1) (z_a2 : Z a2) (z_a3 : Z a3) : pq (FX26_run_0 n k38 a0 a1 a2 a3 M) (QA S Z hx N M) := by
  have hN := w.2.2.1
  have w0 := wk_r (S := S) w
  delta FX26_run_0 BX26_run_0
  refine pq_g (fun g1 => ?_)
  have z2 := wk_z (i := 0) (f := 78) w0 rfl z_a1
  refine pq_g (fun g3 => ?_)
  refine pq_g (fun g4 => ?_)
  refine pq_g (fun g5 => ?_)
  refine pq_b (wX23_has S Z (sb rfl hS) _ _ _ _ w0.1 z_a2) (fun r6 K7 => ?_)
  have w8 := wk_t w0 K7 hN
  refine pq_fi (fun _ => ?_) (fun _ => ?_)
  · exact pq_s w8
  · refine pq_g (fun g9 => ?_)
    exact q_tA hN w8 (hk38 _ _ _ _ _ _ _ w8.1 z_a1 z_a2 z_a3)
theorem wX26_run_L (S Z : Nat → Prop) {hx N : Nat} (hS : ∀ x, fe_mem lX26_run x = true → S x) (n : Nat) : ∀ j : Nat, ∀ (a1 : Nat) (a2 : Nat) (a3 : Nat) (a4 : Int64) (a6 : Int32) (a7 : Int32) (M : FM), WI Z hx N M → Z a1 → Z a2 → Z a3 → pq (FX26_run_L38 n j a1 a2 a3 a4 a6 a7 M) (QA S Z hx N M)
  | 0 => by intros; exact pq_0
  | j + 1 => fun a1 a2 a3 a4 a6 a7 M w => wX26_run_38 S Z hS n _ (wX26_run_L S Z hS n j) a1 a2 a3 a4 a6 a7 M w
theorem wX26_run (S Z : Nat → Prop) {hx N : Nat} (hS : ∀ x, fe_mem lX26_run x = true → S x) (n : Nat) (a0 : Nat) (a1 : Nat) (a2 : Nat) (a3 : Nat) (M : FM) (w : WI Z hx N M) (z_a0 : Z a0) (z_a1 : Z a1) (z_a2 : Z a2) (z_a3 : Z a3) : pq (FX26_run n a0 a1 a2 a3 M) (QA S Z hx N M) := wX26_run_0 S Z hS n _ (wX26_run_L S Z hS n n) a0 a1 a2 a3 M w z_a0 z_a1 z_a2 z_a3
def lX107_putNumber : List Nat := [208, 1201, 1203, 1204]
theorem wX107_putNumber_3 (S Z : Nat → Prop) {hx N : Nat} (hS : ∀ x, fe_mem lX107_putNumber x = true → S x) (n : Nat) (k3 : Nat → Int64 → Int32 → Int64 → Int32 → FM → Option (FM)) (hk3 : ∀ (a0 : Nat) (a1 : Int64) (a3 : Int32) (a4 : Int64) (a6 : Int32) (M : FM), WI Z hx N M → Z a0 → pq (k3 a0 a1 a3 a4 a6 M) (QV S Z hx N M)) (a0 : Nat) (a1 : Int64) (a3 : Int32) (a4 : Int64) (a6 : Int32) (M : FM) (w : WI Z hx N M) (z_a0 : Z a0) : pq (FX107_putNumber_3 n k3 a0 a1 a3 a4 a6 M) (QV S Z hx N M) := by
  have hN := w.2.2.1
  have w0 := wk_r (S := S) w
  delta FX107_putNumber_3 BX107_putNumber_3
  refine pq_fi (fun _ => ?_) (fun _ => ?_)
  · exact pq_s w0
  · refine pq_fi (fun _ => ?_) (fun _ => ?_)
    · refine pq_b (wX19_put S Z (sb rfl hS) n _ _ _ _ w0.1 z_a0) (fun r1 K2 => ?_)
      have w3 := wk_t w0 K2 hN
      exact q_tV hN w3 (hk3 _ _ _ _ _ _ w3.1 z_a0)
    · exact pq_0
theorem wX107_putNumber_0 (S Z : Nat → Prop) {hx N : Nat} (hS : ∀ x, fe_mem lX107_putNumber x = true → S x) (n : Nat) (k3 : Nat → Int64 → Int32 → Int64 → Int32 → FM → Option (FM)) (hk3 : ∀ (a0 : Nat) (a1 : Int64) (a3 : Int32) (a4 : Int64) (a6 : Int32) (M : FM), WI Z hx N M → Z a0 → pq (k3 a0 a1 a3 a4 a6 M) (QV S Z hx N M)) (a0 : Nat) (a1 : Int64) (a3 : Int32) (a4 : Int64) (M : FM) (w : WI Z hx N M) (z_a0 : Z a0) : pq (FX107_putNumber_0 n k3 a0 a1 a3 a4 M) (QV S Z hx N M) := by
  have hN := w.2.2.1
  have w0 := wk_r (S := S) w
  delta FX107_putNumber_0 BX107_putNumber_0
  exact q_tV hN w0 (hk3 _ _ _ _ _ _ w0.1 z_a0)
theorem wX107_putNumber_L (S Z : Nat → Prop) {hx N : Nat} (hS : ∀ x, fe_mem lX107_putNumber x = true → S x) (n : Nat) : ∀ j : Nat, ∀ (a0 : Nat) (a1 : Int64) (a3 : Int32) (a4 : Int64) (a6 : Int32) (M : FM), WI Z hx N M → Z a0 → pq (FX107_putNumber_L3 n j a0 a1 a3 a4 a6 M) (QV S Z hx N M)
  | 0 => by intros; exact pq_0
  | j + 1 => fun a0 a1 a3 a4 a6 M w => wX107_putNumber_3 S Z hS n _ (wX107_putNumber_L S Z hS n j) a0 a1 a3 a4 a6 M w
theorem wX107_putNumber (S Z : Nat → Prop) {hx N : Nat} (hS : ∀ x, fe_mem lX107_putNumber x = true → S x) (n : Nat) (a0 : Nat) (a1 : Int64) (a3 : Int32) (a4 : Int64) (M : FM) (w : WI Z hx N M) (z_a0 : Z a0) : pq (FX107_putNumber n a0 a1 a3 a4 M) (QV S Z hx N M) := wX107_putNumber_0 S Z hS n _ (wX107_putNumber_L S Z hS n n) a0 a1 a3 a4 M w z_a0
def lX18_serve : List Nat := [67, 70, 76, 77, 80, 81, 82, 83, 84, 87, 88, 89, 90, 208, 1069, 1085, 1086, 1201, 1203, 1204]
theorem wX18_serve_132 (S Z : Nat → Prop) {hx N : Nat} (hS : ∀ x, fe_mem lX18_serve x = true → S x) (n : Nat) (a0 : Nat) (a2 : Nat) (s0 : Int32) (M : FM) (w : WI Z hx N M) (z_a0 : Z a0) (z_a2 : Z a2) : pq (FX18_serve_132 n a0 a2 s0 M) (QA S Z hx N M) := by
  have hN := w.2.2.1
  have w0 := wk_r (S := S) w
  delta FX18_serve_132 BX18_serve_132
  refine pq_g (fun g1 => ?_)
  have z2 := wk_z (i := 0) (f := 58) w0 rfl z_a0
  refine pq_g (fun g3 => ?_)
  refine pq_fi (fun _ => ?_) (fun _ => ?_)
  · refine pq_b (wX19_put S Z (sb rfl hS) n _ _ _ _ w0.1 z2) (fun r4 K5 => ?_)
    have w6 := wk_t w0 K5 hN
    refine pq_g (fun g7 => ?_)
    have z8 := wk_z (i := 0) (f := 58) w6 rfl z_a0
    refine pq_g (fun g9 => ?_)
    have z10 := wk_z (i := 0) (f := 60) w6 rfl z_a0
    refine pq_g (fun g11 => ?_)
    refine pq_b (wX20_answer S Z (sb rfl hS) _ _ w6.1 z10) (fun r12 K13 => ?_)
    have w14 := wk_t w6 K13 hN
    refine pq_g (fun g15 => ?_)
    refine pq_b (wX107_putNumber S Z (sb rfl hS) n _ _ _ _ _ w14.1 z8) (fun r16 K17 => ?_)
    have w18 := wk_t w14 K17 hN
    refine pq_g (fun g19 => ?_)
    have z20 := wk_z (i := 0) (f := 58) w18 rfl z_a0
    refine pq_g (fun g21 => ?_)
    have z22 := wk_z (i := 0) (f := 60) w18 rfl z_a0
    refine pq_g (fun g23 => ?_)
    refine pq_b (wX20_answer S Z (sb rfl hS) _ _ w18.1 z22) (fun r24 K25 => ?_)
    have w26 := wk_t w18 K25 hN
    refine pq_g (fun g27 => ?_)
    refine pq_b (wX107_putNumber S Z (sb rfl hS) n _ _ _ _ _ w26.1 z20) (fun r28 K29 => ?_)
    have w30 := wk_t w26 K29 hN
    refine pq_g (fun g31 => ?_)
    have z32 := wk_z (i := 0) (f := 60) w30 rfl z_a0
    refine pq_g (fun g33 => ?_)
    have z34 := wk_z (i := 0) (f := 60) w30 rfl z_a0
    refine pq_g (fun g35 => ?_)
    refine pq_g (fun g36 => ?_)
    extract_lets +onlyGivenNames M38
    have w37 : Wk S Z hx N M M38 := wk_fI hN w30 rfl rfl g36 z32 (Or.inr (hS 76 rfl))
    refine pq_g (fun g39 => ?_)
    have z40 := wk_z (i := 0) (f := 60) w37 rfl z_a0
    refine pq_g (fun g41 => ?_)
    have z42 := wk_z (i := 0) (f := 60) w37 rfl z_a0
    refine pq_g (fun g43 => ?_)
    refine pq_g (fun g44 => ?_)
    extract_lets +onlyGivenNames M46
    have w45 : Wk S Z hx N M M46 := wk_fI hN w37 rfl rfl g44 z40 (Or.inr (hS 77 rfl))
    refine pq_g (fun g47 => ?_)
    have z48 := wk_z (i := 0) (f := 58) w45 rfl z_a0
    refine pq_g (fun g49 => ?_)
    have z50 := wk_z (i := 0) (f := 60) w45 rfl z_a0
    refine pq_g (fun g51 => ?_)
    refine pq_g (fun g52 => ?_)
    have z53 := wk_z (i := 0) (f := 60) w45 rfl z_a0
    refine pq_g (fun g54 => ?_)
    refine pq_b (wX107_putNumber S Z (sb rfl hS) n _ _ _ _ _ w45.1 z48) (fun r55 K56 => ?_)
    have w57 := wk_t w45 K56 hN
    refine pq_g (fun g58 => ?_)
    refine pq_g (fun g59 => ?_)
    extract_lets +onlyGivenNames M61
    have w60 : Wk S Z hx N M M61 := wk_fI hN w57 rfl rfl g59 z_a0 (Or.inr (hS 67 rfl))
    refine pq_g (fun _ => ?_)
    exact pq_s w60
  · exact pq_0
theorem wX18_serve_105 (S Z : Nat → Prop) {hx N : Nat} (hS : ∀ x, fe_mem lX18_serve x = true → S x) (n : Nat) (a0 : Nat) (a2 : Nat) (s0 : Nat) (M : FM) (w : WI Z hx N M) (z_a0 : Z a0) (z_a2 : Z a2) (z_s0 : Z s0) : pq (FX18_serve_105 n a0 a2 s0 M) (QA S Z hx N M) := by
  have hN := w.2.2.1
  have w0 := wk_r (S := S) w
  delta FX18_serve_105 BX18_serve_105
  refine pq_g (fun g1 => ?_)
  extract_lets +onlyGivenNames M3
  have w2 : Wk S Z hx N M M3 := wk_fL hN w0 rfl rfl g1 z_a2 (Or.inr (hS 84 rfl))
  refine pq_fi (fun _ => ?_) (fun _ => ?_)
  · exact q_tA hN w2 (wX18_serve_132 S Z hS n _ _ _ _ w2.1 z_a0 z_a2)
  · refine pq_g (fun g4 => ?_)
    have z5 := wk_z (i := 0) (f := 59) w2 rfl z_a0
    refine pq_g (fun g6 => ?_)
    have z7 := wk_z (i := 0) (f := 58) w2 rfl z_a0
    refine pq_fi (fun _ => ?_) (fun _ => ?_)
    · refine pq_b (wX27_run S Z (sb rfl hS) _ _ _ _ _ w2.1 z_s0 z_a2 z5 z7) (fun r8 K9 => ?_)
      have w10 := wk_t w2 K9 hN
      exact q_tA hN w10 (wX18_serve_132 S Z hS n _ _ _ _ w10.1 z_a0 z_a2)
    · refine pq_fi (fun _ => ?_) (fun _ => ?_)
      · refine pq_b (wX28_run S Z (sb rfl hS) n _ _ _ _ _ w2.1 z_s0 z_a2 z5 z7) (fun r11 K12 => ?_)
        have w13 := wk_t w2 K12 hN
        exact q_tA hN w13 (wX18_serve_132 S Z hS n _ _ _ _ w13.1 z_a0 z_a2)
      · refine pq_fi (fun _ => ?_) (fun _ => ?_)
        · refine pq_b (wX25_run S Z (sb rfl hS) n _ _ _ _ _ w2.1 z_s0 z_a2 z5 z7) (fun r14 K15 => ?_)
          have w16 := wk_t w2 K15 hN
          exact q_tA hN w16 (wX18_serve_132 S Z hS n _ _ _ _ w16.1 z_a0 z_a2)
        · refine pq_fi (fun _ => ?_) (fun _ => ?_)
          · refine pq_b (wX26_run S Z (sb rfl hS) n _ _ _ _ _ w2.1 z_s0 z_a2 z5 z7) (fun r17 K18 => ?_)
            have w19 := wk_t w2 K18 hN
            exact q_tA hN w19 (wX18_serve_132 S Z hS n _ _ _ _ w19.1 z_a0 z_a2)
          · exact pq_0
theorem wX18_serve_104 (S Z : Nat → Prop) {hx N : Nat} (hS : ∀ x, fe_mem lX18_serve x = true → S x) (n : Nat) (a0 : Nat) (a2 : Nat) (M : FM) (w : WI Z hx N M) (z_a0 : Z a0) (z_a2 : Z a2) : pq (FX18_serve_104 n a0 a2 M) (QA S Z hx N M) := by
  have hN := w.2.2.1
  have w0 := wk_r (S := S) w
  delta FX18_serve_104 BX18_serve_104
  exact q_tA hN w0 (wX18_serve_105 S Z hS n _ _ _ _ w0.1 z_a0 z_a2 (wk_zc w0 rfl))
theorem wX18_serve_33 (S Z : Nat → Prop) {hx N : Nat} (hS : ∀ x, fe_mem lX18_serve x = true → S x) (n : Nat) (M : FM) (w : WI Z hx N M) : pq (FX18_serve_33 n M) (QA S Z hx N M) := by
  have hN := w.2.2.1
  have w0 := wk_r (S := S) w
  delta FX18_serve_33 BX18_serve_33
  refine pq_g (fun _ => ?_)
  exact pq_s w0
theorem wX18_serve_0 (S Z : Nat → Prop) {hx N : Nat} (hS : ∀ x, fe_mem lX18_serve x = true → S x) (n : Nat) (a0 : Nat) (a1 : Int32) (M : FM) (w : WI Z hx N M) (z_a0 : Z a0) : pq (FX18_serve_0 n a0 a1 M) (QA S Z hx N M) := by
  have hN := w.2.2.1
  have w0 := wk_r (S := S) w
  delta FX18_serve_0 BX18_serve_0
  refine pq_g (fun g1 => ?_)
  have z2 := wk_z (i := 0) (f := 60) w0 rfl z_a0
  refine pq_g (fun g3 => ?_)
  refine pq_fi (fun _ => ?_) (fun _ => ?_)
  · exact q_tA hN w0 (wX18_serve_33 S Z hS n _ w0.1 )
  · refine pq_g (fun g4 => ?_)
    have z5 := wk_z (i := 0) (f := 58) w0 rfl z_a0
    refine pq_g (fun g6 => ?_)
    have z7 := wk_z (i := 0) (f := 60) w0 rfl z_a0
    refine pq_g (fun g8 => ?_)
    refine pq_b (wX20_offer S Z (sb rfl hS) _ _ w0.1 z7) (fun r9 K10 => ?_)
    have w11 := wk_t w0 K10 hN
    refine pq_fi (fun _ => ?_) (fun _ => ?_)
    · refine pq_b (wX19_has S Z (sb rfl hS) _ _ _ _ w11.1 z5) (fun r12 K13 => ?_)
      have w14 := wk_t w11 K13 hN
      refine pq_fi (fun _ => ?_) (fun _ => ?_)
      · exact q_tA hN w14 (wX18_serve_33 S Z hS n _ w14.1 )
      · refine pq_g (fun g15 => ?_)
        have z16 := wk_z (i := 0) (f := 61) w14 rfl z_a0
        refine pq_g (fun g17 => ?_)
        have z18 := wk_z (i := 0) (f := 60) w14 rfl z_a0
        refine pq_g (fun g19 => ?_)
        have z20 := wk_z (i := 0) (f := 58) w14 rfl z_a0
        refine pq_g (fun g21 => ?_)
        have z22 := wk_z (i := 0) (f := 58) w14 rfl z_a0
        refine pq_g (fun g23 => ?_)
        have z24 := wk_z (i := 0) (f := 60) w14 rfl z_a0
        refine pq_g (fun g25 => ?_)
        refine pq_b (wX20_offer S Z (sb rfl hS) _ _ w14.1 z24) (fun r26 K27 => ?_)
        have w28 := wk_t w14 K27 hN
        refine pq_b (wX107_number S Z (sb rfl hS) n _ _ _ _ w28.1 z22) (fun r29 K30 => ?_)
        have w31 := wk_t w28 K30 hN
        refine pq_g (fun g32 => ?_)
        refine pq_b (wX20_gather S Z (sb rfl hS) n _ _ _ _ _ w31.1 z18 z20 z16) (fun r33 K34 => ?_)
        have w35 := wk_t w31 K34 hN
        refine pq_fi (fun _ => ?_) (fun _ => ?_)
        · refine pq_g (fun _ => ?_)
          exact pq_s w35
        · refine pq_g (fun g36 => ?_)
          refine pq_fi (fun _ => ?_) (fun _ => ?_)
          · exact q_tA hN w35 (wX18_serve_104 S Z hS n _ _ _ w35.1 z_a0 z16)
          · refine pq_g (fun g37 => ?_)
            refine pq_g (fun g38 => ?_)
            have z39 := wk_z (i := 0) (f := 62) w35 rfl z_a0
            have f40 := sS_62 w35.1.1 g38
            refine pq_g (fun g41 => ?_)
            refine pq_fi (fun _ => ?_) (fun _ => ?_)
            · exact q_tA hN w35 (wX18_serve_104 S Z hS n _ _ _ w35.1 z_a0 z16)
            · refine pq_g (fun g42 => ?_)
              have z43 := wk_z (i := 0) (f := 62) w35 rfl z_a0
              have f44 := sS_62 w35.1.1 g42
              refine pq_g (fun g45 => ?_)
              refine pq_g (fun g46 => ?_)
              have z47 := fun i => wk_ze (i := i) w35 rfl g46.1 f44 rfl z43
              exact q_tA hN w35 (wX18_serve_105 S Z hS n _ _ _ _ w35.1 z_a0 z16 (z47 _))
    · exact pq_0
theorem wX18_serve (S Z : Nat → Prop) {hx N : Nat} (hS : ∀ x, fe_mem lX18_serve x = true → S x) (n : Nat) (a0 : Nat) (a1 : Int32) (M : FM) (w : WI Z hx N M) (z_a0 : Z a0) : pq (FX18_serve n a0 a1 M) (QA S Z hx N M) := wX18_serve_0 S Z hS n a0 a1 M w z_a0
def lX18_work : List Nat := [65, 66, 67, 70, 76, 77, 80, 81, 82, 83, 84, 87, 88, 89, 90, 208, 1069, 1085, 1086, 1201, 1203, 1204]
theorem wX18_work_210 (S Z : Nat → Prop) {hx N : Nat} (hS : ∀ x, fe_mem lX18_work x = true → S x) (n : Nat) (k39 : Nat → Int32 → Int32 → Int32 → FM → Option (FM)) (hk39 : ∀ (a0 : Nat) (a1 : Int32) (a2 : Int32) (a3 : Int32) (M : FM), WI Z hx N M → Z a0 → pq (k39 a0 a1 a2 a3 M) (QV S Z hx N M)) (s0 : Nat) (s1 : Int32) (s2 : Int32) (M : FM) (w : WI Z hx N M) (z_s0 : Z s0) : pq (FX18_work_210 n k39 s0 s1 s2 M) (QV S Z hx N M) := by
  have hN := w.2.2.1
  have w0 := wk_r (S := S) w
  delta FX18_work_210 BX18_work_210
  refine pq_g (fun g1 => ?_)
  extract_lets +onlyGivenNames M3
  have w2 : Wk S Z hx N M M3 := wk_fI hN w0 rfl rfl g1 z_s0 (Or.inr (hS 66 rfl))
  exact pq_s w2
theorem wX18_work_209 (S Z : Nat → Prop) {hx N : Nat} (hS : ∀ x, fe_mem lX18_work x = true → S x) (n : Nat) (k39 : Nat → Int32 → Int32 → Int32 → FM → Option (FM)) (hk39 : ∀ (a0 : Nat) (a1 : Int32) (a2 : Int32) (a3 : Int32) (M : FM), WI Z hx N M → Z a0 → pq (k39 a0 a1 a2 a3 M) (QV S Z hx N M)) (s0 : Nat) (s1 : Int32) (M : FM) (w : WI Z hx N M) (z_s0 : Z s0) : pq (FX18_work_209 n k39 s0 s1 M) (QV S Z hx N M) := by
  have hN := w.2.2.1
  have w0 := wk_r (S := S) w
  delta FX18_work_209 BX18_work_209
  exact q_tV hN w0 (wX18_work_210 S Z hS n _ hk39 _ _ _ _ w0.1 z_s0)
theorem wX18_work_183 (S Z : Nat → Prop) {hx N : Nat} (hS : ∀ x, fe_mem lX18_work x = true → S x) (n : Nat) (k39 : Nat → Int32 → Int32 → Int32 → FM → Option (FM)) (hk39 : ∀ (a0 : Nat) (a1 : Int32) (a2 : Int32) (a3 : Int32) (M : FM), WI Z hx N M → Z a0 → pq (k39 a0 a1 a2 a3 M) (QV S Z hx N M)) (a0 : Nat) (a1 : Int32) (a2 : Int32) (a3 : Int32) (M : FM) (w : WI Z hx N M) (z_a0 : Z a0) : pq (FX18_work_183 n k39 a0 a1 a2 a3 M) (QV S Z hx N M) := by
  have hN := w.2.2.1
  have w0 := wk_r (S := S) w
  delta FX18_work_183 BX18_work_183
  exact q_tV hN w0 (hk39 _ _ _ _ _ w0.1 z_a0)
theorem wX18_work_177 (S Z : Nat → Prop) {hx N : Nat} (hS : ∀ x, fe_mem lX18_work x = true → S x) (n : Nat) (k39 : Nat → Int32 → Int32 → Int32 → FM → Option (FM)) (hk39 : ∀ (a0 : Nat) (a1 : Int32) (a2 : Int32) (a3 : Int32) (M : FM), WI Z hx N M → Z a0 → pq (k39 a0 a1 a2 a3 M) (QV S Z hx N M)) (a0 : Nat) (a1 : Int32) (a2 : Int32) (M : FM) (w : WI Z hx N M) (z_a0 : Z a0) : pq (FX18_work_177 n k39 a0 a1 a2 M) (QV S Z hx N M) := by
  have hN := w.2.2.1
  have w0 := wk_r (S := S) w
  delta FX18_work_177 BX18_work_177
  refine pq_g (fun g1 => ?_)
  refine pq_b (wX18_fail S Z (sb rfl hS) _ _ w0.1 z_a0) (fun r2 K3 => ?_)
  have w4 := wk_t w0 K3 hN
  exact q_tV hN w4 (wX18_work_183 S Z hS n _ hk39 _ _ _ _ _ w4.1 z_a0)
theorem wX18_work_158 (S Z : Nat → Prop) {hx N : Nat} (hS : ∀ x, fe_mem lX18_work x = true → S x) (n : Nat) (k39 : Nat → Int32 → Int32 → Int32 → FM → Option (FM)) (hk39 : ∀ (a0 : Nat) (a1 : Int32) (a2 : Int32) (a3 : Int32) (M : FM), WI Z hx N M → Z a0 → pq (k39 a0 a1 a2 a3 M) (QV S Z hx N M)) (a0 : Nat) (a1 : Int32) (a2 : Int32) (a4 : Int32) (a5 : Int32) (s0 : Int32) (M : FM) (w : WI Z hx N M) (z_a0 : Z a0) : pq (FX18_work_158 n k39 a0 a1 a2 a4 a5 s0 M) (QV S Z hx N M) := by
  have hN := w.2.2.1
  have w0 := wk_r (S := S) w
  delta FX18_work_158 BX18_work_158
  refine pq_fi (fun _ => ?_) (fun _ => ?_)
  · exact q_tV hN w0 (wX18_work_177 S Z hS n _ hk39 _ _ _ _ w0.1 z_a0)
  · refine pq_fi (fun _ => ?_) (fun _ => ?_)
    · exact q_tV hN w0 (wX18_work_183 S Z hS n _ hk39 _ _ _ _ _ w0.1 z_a0)
    · refine pq_g (fun g1 => ?_)
      refine pq_b (wX18_serve S Z (sb rfl hS) n _ _ _ w0.1 z_a0) (fun r2 K3 => ?_)
      have w4 := wk_t w0 K3 hN
      refine pq_fi (fun _ => ?_) (fun _ => ?_)
      · exact q_tV hN w4 (wX18_work_177 S Z hS n _ hk39 _ _ _ _ w4.1 z_a0)
      · exact q_tV hN w4 (wX18_work_183 S Z hS n _ hk39 _ _ _ _ _ w4.1 z_a0)
theorem wX18_work_157 (S Z : Nat → Prop) {hx N : Nat} (hS : ∀ x, fe_mem lX18_work x = true → S x) (n : Nat) (k39 : Nat → Int32 → Int32 → Int32 → FM → Option (FM)) (hk39 : ∀ (a0 : Nat) (a1 : Int32) (a2 : Int32) (a3 : Int32) (M : FM), WI Z hx N M → Z a0 → pq (k39 a0 a1 a2 a3 M) (QV S Z hx N M)) (a0 : Nat) (a1 : Int32) (a2 : Int32) (a4 : Int32) (a5 : Int32) (M : FM) (w : WI Z hx N M) (z_a0 : Z a0) : pq (FX18_work_157 n k39 a0 a1 a2 a4 a5 M) (QV S Z hx N M) := by
  have hN := w.2.2.1
  have w0 := wk_r (S := S) w
  delta FX18_work_157 BX18_work_157
  exact q_tV hN w0 (wX18_work_158 S Z hS n _ hk39 _ _ _ _ _ _ _ w0.1 z_a0)
theorem wX18_work_130 (S Z : Nat → Prop) {hx N : Nat} (hS : ∀ x, fe_mem lX18_work x = true → S x) (n : Nat) (k39 : Nat → Int32 → Int32 → Int32 → FM → Option (FM)) (hk39 : ∀ (a0 : Nat) (a1 : Int32) (a2 : Int32) (a3 : Int32) (M : FM), WI Z hx N M → Z a0 → pq (k39 a0 a1 a2 a3 M) (QV S Z hx N M)) (a0 : Nat) (a1 : Int32) (a2 : Int32) (a4 : Int32) (s0 : Int32) (M : FM) (w : WI Z hx N M) (z_a0 : Z a0) : pq (FX18_work_130 n k39 a0 a1 a2 a4 s0 M) (QV S Z hx N M) := by
  have hN := w.2.2.1
  have w0 := wk_r (S := S) w
  delta FX18_work_130 BX18_work_130
  refine pq_fi (fun _ => ?_) (fun _ => ?_)
  · exact q_tV hN w0 (wX18_work_157 S Z hS n _ hk39 _ _ _ _ _ _ w0.1 z_a0)
  · refine pq_fi (fun _ => ?_) (fun _ => ?_)
    · exact q_tV hN w0 (wX18_work_157 S Z hS n _ hk39 _ _ _ _ _ _ w0.1 z_a0)
    · refine pq_g (fun g1 => ?_)
      refine pq_fi (fun _ => ?_) (fun _ => ?_)
      · exact q_tV hN w0 (wX18_work_157 S Z hS n _ hk39 _ _ _ _ _ _ w0.1 z_a0)
      · exact q_tV hN w0 (wX18_work_158 S Z hS n _ hk39 _ _ _ _ _ _ _ w0.1 z_a0)
theorem wX18_work_89 (S Z : Nat → Prop) {hx N : Nat} (hS : ∀ x, fe_mem lX18_work x = true → S x) (n : Nat) (k39 : Nat → Int32 → Int32 → Int32 → FM → Option (FM)) (hk39 : ∀ (a0 : Nat) (a1 : Int32) (a2 : Int32) (a3 : Int32) (M : FM), WI Z hx N M → Z a0 → pq (k39 a0 a1 a2 a3 M) (QV S Z hx N M)) (a0 : Nat) (a1 : Int32) (a4 : Int32) (s0 : Int32) (M : FM) (w : WI Z hx N M) (z_a0 : Z a0) : pq (FX18_work_89 n k39 a0 a1 a4 s0 M) (QV S Z hx N M) := by
  have hN := w.2.2.1
  have w0 := wk_r (S := S) w
  delta FX18_work_89 BX18_work_89
  refine pq_fi (fun _ => ?_) (fun _ => ?_)
  · exact q_tV hN w0 (wX18_work_130 S Z hS n _ hk39 _ _ _ _ _ _ w0.1 z_a0)
  · refine pq_g (fun g1 => ?_)
    have z2 := wk_z (i := 0) (f := 58) w0 rfl z_a0
    refine pq_g (fun g3 => ?_)
    have z4 := wk_z (i := 0) (f := 60) w0 rfl z_a0
    refine pq_g (fun g5 => ?_)
    refine pq_b (wX107_number S Z (sb rfl hS) n _ _ _ _ w0.1 z2) (fun r6 K7 => ?_)
    have w8 := wk_t w0 K7 hN
    refine pq_g (fun g9 => ?_)
    have z10 := wk_z (i := 0) (f := 60) w8 rfl z_a0
    refine pq_g (fun g11 => ?_)
    exact q_tV hN w8 (wX18_work_130 S Z hS n _ hk39 _ _ _ _ _ _ w8.1 z_a0)
theorem wX18_work_39 (S Z : Nat → Prop) {hx N : Nat} (hS : ∀ x, fe_mem lX18_work x = true → S x) (n : Nat) (k39 : Nat → Int32 → Int32 → Int32 → FM → Option (FM)) (hk39 : ∀ (a0 : Nat) (a1 : Int32) (a2 : Int32) (a3 : Int32) (M : FM), WI Z hx N M → Z a0 → pq (k39 a0 a1 a2 a3 M) (QV S Z hx N M)) (a0 : Nat) (a1 : Int32) (a2 : Int32) (a3 : Int32) (M : FM) (w : WI Z hx N M) (z_a0 : Z a0) : pq (FX18_work_39 n k39 a0 a1 a2 a3 M) (QV S Z hx N M) := by
  have hN := w.2.2.1
  have w0 := wk_r (S := S) w
  delta FX18_work_39 BX18_work_39
  refine pq_fi (fun _ => ?_) (fun _ => ?_)
  · refine pq_g (fun g1 => ?_)
    refine pq_g (fun g2 => ?_)
    refine pq_fi (fun _ => ?_) (fun _ => ?_)
    · exact q_tV hN w0 (wX18_work_209 S Z hS n _ hk39 _ _ _ w0.1 z_a0)
    · refine pq_fi (fun _ => ?_) (fun _ => ?_)
      · exact q_tV hN w0 (wX18_work_210 S Z hS n _ hk39 _ _ _ _ w0.1 z_a0)
      · exact q_tV hN w0 (wX18_work_209 S Z hS n _ hk39 _ _ _ w0.1 z_a0)
  · refine pq_g (fun g3 => ?_)
    have z4 := wk_z (i := 0) (f := 58) w0 rfl z_a0
    refine pq_g (fun g5 => ?_)
    have z6 := wk_z (i := 0) (f := 60) w0 rfl z_a0
    refine pq_g (fun g7 => ?_)
    refine pq_fi (fun _ => ?_) (fun _ => ?_)
    · refine pq_b (wX19_has S Z (sb rfl hS) _ _ _ _ w0.1 z4) (fun r8 K9 => ?_)
      have w10 := wk_t w0 K9 hN
      refine pq_fi (fun _ => ?_) (fun _ => ?_)
      · exact q_tV hN w10 (wX18_work_89 S Z hS n _ hk39 _ _ _ _ _ w10.1 z_a0)
      · refine pq_g (fun g11 => ?_)
        have z12 := wk_z (i := 0) (f := 58) w10 rfl z_a0
        refine pq_g (fun g13 => ?_)
        have z14 := wk_z (i := 0) (f := 60) w10 rfl z_a0
        refine pq_g (fun g15 => ?_)
        refine pq_b (wX107_number S Z (sb rfl hS) n _ _ _ _ w10.1 z12) (fun r16 K17 => ?_)
        have w18 := wk_t w10 K17 hN
        exact q_tV hN w18 (wX18_work_89 S Z hS n _ hk39 _ _ _ _ _ w18.1 z_a0)
    · exact pq_0
theorem wX18_work_29 (S Z : Nat → Prop) {hx N : Nat} (hS : ∀ x, fe_mem lX18_work x = true → S x) (n : Nat) (k39 : Nat → Int32 → Int32 → Int32 → FM → Option (FM)) (hk39 : ∀ (a0 : Nat) (a1 : Int32) (a2 : Int32) (a3 : Int32) (M : FM), WI Z hx N M → Z a0 → pq (k39 a0 a1 a2 a3 M) (QV S Z hx N M)) (M : FM) (w : WI Z hx N M) : pq (FX18_work_29 n k39 M) (QV S Z hx N M) := by
  have hN := w.2.2.1
  have w0 := wk_r (S := S) w
  delta FX18_work_29 BX18_work_29
  exact pq_s w0
theorem wX18_work_0 (S Z : Nat → Prop) {hx N : Nat} (hS : ∀ x, fe_mem lX18_work x = true → S x) (n : Nat) (k39 : Nat → Int32 → Int32 → Int32 → FM → Option (FM)) (hk39 : ∀ (a0 : Nat) (a1 : Int32) (a2 : Int32) (a3 : Int32) (M : FM), WI Z hx N M → Z a0 → pq (k39 a0 a1 a2 a3 M) (QV S Z hx N M)) (a0 : Nat) (M : FM) (w : WI Z hx N M) (z_a0 : Z a0) : pq (FX18_work_0 n k39 a0 M) (QV S Z hx N M) := by
  have hN := w.2.2.1
  have w0 := wk_r (S := S) w
  delta FX18_work_0 BX18_work_0
  refine pq_g (fun g1 => ?_)
  refine pq_fi (fun _ => ?_) (fun _ => ?_)
  · exact q_tV hN w0 (wX18_work_29 S Z hS n _ hk39 _ w0.1 )
  · refine pq_g (fun g2 => ?_)
    refine pq_fi (fun _ => ?_) (fun _ => ?_)
    · refine pq_g (fun g3 => ?_)
      have z4 := wk_z (i := 0) (f := 60) w0 rfl z_a0
      refine pq_g (fun g5 => ?_)
      refine pq_fi (fun _ => ?_) (fun _ => ?_)
      · exact q_tV hN w0 (wX18_work_29 S Z hS n _ hk39 _ w0.1 )
      · refine pq_g (fun g6 => ?_)
        exact q_tV hN w0 (hk39 _ _ _ _ _ w0.1 z_a0)
    · exact q_tV hN w0 (wX18_work_29 S Z hS n _ hk39 _ w0.1 )
theorem wX18_work_L (S Z : Nat → Prop) {hx N : Nat} (hS : ∀ x, fe_mem lX18_work x = true → S x) (n : Nat) : ∀ j : Nat, ∀ (a0 : Nat) (a1 : Int32) (a2 : Int32) (a3 : Int32) (M : FM), WI Z hx N M → Z a0 → pq (FX18_work_L39 n j a0 a1 a2 a3 M) (QV S Z hx N M)
  | 0 => by intros; exact pq_0
  | j + 1 => fun a0 a1 a2 a3 M w => wX18_work_39 S Z hS n _ (wX18_work_L S Z hS n j) a0 a1 a2 a3 M w
theorem wX18_work (S Z : Nat → Prop) {hx N : Nat} (hS : ∀ x, fe_mem lX18_work x = true → S x) (n : Nat) (a0 : Nat) (M : FM) (w : WI Z hx N M) (z_a0 : Z a0) : pq (FX18_work n a0 M) (QV S Z hx N M) := wX18_work_0 S Z hS n _ (wX18_work_L S Z hS n n) a0 M w z_a0
def lX20_half : List Nat := []
theorem wX20_half_36 (S Z : Nat → Prop) {hx N : Nat} (hS : ∀ x, fe_mem lX20_half x = true → S x) (s0 : Int64) (M : FM) (w : WI Z hx N M) : pq (FX20_half_36 s0 M) (QA S Z hx N M) := by
  have hN := w.2.2.1
  have w0 := wk_r (S := S) w
  delta FX20_half_36 BX20_half_36
  exact pq_s w0
theorem wX20_half_0 (S Z : Nat → Prop) {hx N : Nat} (hS : ∀ x, fe_mem lX20_half x = true → S x) (a0 : Int64) (a2 : Int32) (a3 : Int32) (M : FM) (w : WI Z hx N M) : pq (FX20_half_0 a0 a2 a3 M) (QA S Z hx N M) := by
  have hN := w.2.2.1
  have w0 := wk_r (S := S) w
  delta FX20_half_0 BX20_half_0
  refine pq_fi (fun _ => ?_) (fun _ => ?_)
  · exact q_tA hN w0 (wX20_half_36 S Z hS _ _ w0.1 )
  · exact q_tA hN w0 (wX20_half_36 S Z hS _ _ w0.1 )
theorem wX20_half (S Z : Nat → Prop) {hx N : Nat} (hS : ∀ x, fe_mem lX20_half x = true → S x) (a0 : Int64) (a2 : Int32) (a3 : Int32) (M : FM) (w : WI Z hx N M) : pq (FX20_half a0 a2 a3 M) (QA S Z hx N M) := wX20_half_0 S Z hS a0 a2 a3 M w 
def lX20_place : List Nat := [73, 74, 75]
theorem wX20_place_54 (S Z : Nat → Prop) {hx N : Nat} (hS : ∀ x, fe_mem lX20_place x = true → S x) (M : FM) (w : WI Z hx N M) : pq (FX20_place_54 M) (QV S Z hx N M) := by
  have hN := w.2.2.1
  have w0 := wk_r (S := S) w
  delta FX20_place_54 BX20_place_54
  exact pq_s w0
theorem wX20_place_0 (S Z : Nat → Prop) {hx N : Nat} (hS : ∀ x, fe_mem lX20_place x = true → S x) (a0 : Nat) (a1 : Int32) (a2 : Int32) (a3 : Int32) (M : FM) (w : WI Z hx N M) (z_a0 : Z a0) : pq (FX20_place_0 a0 a1 a2 a3 M) (QV S Z hx N M) := by
  have hN := w.2.2.1
  have w0 := wk_r (S := S) w
  delta FX20_place_0 BX20_place_0
  refine pq_fi (fun _ => ?_) (fun _ => ?_)
  · refine pq_g (fun g1 => ?_)
    refine pq_b (wX20_half S Z (sb rfl hS) _ _ _ _ w0.1 ) (fun r2 K3 => ?_)
    have w4 := wk_t w0 K3 hN
    refine pq_g (fun g5 => ?_)
    extract_lets +onlyGivenNames M7
    have w6 : Wk S Z hx N M M7 := wk_fL hN w4 rfl rfl g5 z_a0 (Or.inr (hS 73 rfl))
    exact q_tV hN w6 (wX20_place_54 S Z hS _ w6.1 )
  · refine pq_fi (fun _ => ?_) (fun _ => ?_)
    · refine pq_g (fun g8 => ?_)
      refine pq_b (wX20_half S Z (sb rfl hS) _ _ _ _ w0.1 ) (fun r9 K10 => ?_)
      have w11 := wk_t w0 K10 hN
      refine pq_g (fun g12 => ?_)
      extract_lets +onlyGivenNames M14
      have w13 : Wk S Z hx N M M14 := wk_fL hN w11 rfl rfl g12 z_a0 (Or.inr (hS 74 rfl))
      exact q_tV hN w13 (wX20_place_54 S Z hS _ w13.1 )
    · refine pq_g (fun g15 => ?_)
      refine pq_b (wX20_half S Z (sb rfl hS) _ _ _ _ w0.1 ) (fun r16 K17 => ?_)
      have w18 := wk_t w0 K17 hN
      refine pq_g (fun g19 => ?_)
      extract_lets +onlyGivenNames M21
      have w20 : Wk S Z hx N M M21 := wk_fL hN w18 rfl rfl g19 z_a0 (Or.inr (hS 75 rfl))
      exact q_tV hN w20 (wX20_place_54 S Z hS _ w20.1 )
theorem wX20_place (S Z : Nat → Prop) {hx N : Nat} (hS : ∀ x, fe_mem lX20_place x = true → S x) (a0 : Nat) (a1 : Int32) (a2 : Int32) (a3 : Int32) (M : FM) (w : WI Z hx N M) (z_a0 : Z a0) : pq (FX20_place a0 a1 a2 a3 M) (QV S Z hx N M) := wX20_place_0 S Z hS a0 a1 a2 a3 M w z_a0
def lX18_writeQueue : List Nat := [71, 72, 73, 74, 75]
theorem wX18_writeQueue_131 (S Z : Nat → Prop) {hx N : Nat} (hS : ∀ x, fe_mem lX18_writeQueue x = true → S x) (M : FM) (w : WI Z hx N M) : pq (FX18_writeQueue_131 M) (QV S Z hx N M) := by
  have hN := w.2.2.1
  have w0 := wk_r (S := S) w
  delta FX18_writeQueue_131 BX18_writeQueue_131
  exact pq_s w0
theorem wX18_writeQueue_127 (S Z : Nat → Prop) {hx N : Nat} (hS : ∀ x, fe_mem lX18_writeQueue x = true → S x) (a2 : Int32) (s0 : Nat) (s1 : Int32) (s2 : Int32) (M : FM) (w : WI Z hx N M) (z_s0 : Z s0) : pq (FX18_writeQueue_127 a2 s0 s1 s2 M) (QV S Z hx N M) := by
  have hN := w.2.2.1
  have w0 := wk_r (S := S) w
  delta FX18_writeQueue_127 BX18_writeQueue_127
  refine pq_g (fun g1 => ?_)
  refine pq_b (wX20_place S Z (sb rfl hS) _ _ _ _ _ w0.1 z_s0) (fun r2 K3 => ?_)
  have w4 := wk_t w0 K3 hN
  exact q_tV hN w4 (wX18_writeQueue_131 S Z hS _ w4.1 )
theorem wX18_writeQueue_78 (S Z : Nat → Prop) {hx N : Nat} (hS : ∀ x, fe_mem lX18_writeQueue x = true → S x) (s0 : Nat) (s1 : Int32) (M : FM) (w : WI Z hx N M) (z_s0 : Z s0) : pq (FX18_writeQueue_78 s0 s1 M) (QV S Z hx N M) := by
  have hN := w.2.2.1
  have w0 := wk_r (S := S) w
  delta FX18_writeQueue_78 BX18_writeQueue_78
  refine pq_g (fun g1 => ?_)
  extract_lets +onlyGivenNames M3
  have w2 : Wk S Z hx N M M3 := wk_fI hN w0 rfl rfl g1 z_s0 (Or.inr (hS 71 rfl))
  exact q_tV hN w2 (wX18_writeQueue_131 S Z hS _ w2.1 )
theorem wX18_writeQueue_71 (S Z : Nat → Prop) {hx N : Nat} (hS : ∀ x, fe_mem lX18_writeQueue x = true → S x) (a0 : Nat) (s0 : Nat) (M : FM) (w : WI Z hx N M) (z_a0 : Z a0) (z_s0 : Z s0) : pq (FX18_writeQueue_71 a0 s0 M) (QV S Z hx N M) := by
  have hN := w.2.2.1
  have w0 := wk_r (S := S) w
  delta FX18_writeQueue_71 BX18_writeQueue_71
  refine pq_g (fun g1 => ?_)
  have z2 := wk_z (i := 0) (f := 60) w0 rfl z_a0
  refine pq_g (fun g3 => ?_)
  exact q_tV hN w0 (wX18_writeQueue_78 S Z hS _ _ _ w0.1 z_s0)
theorem wX18_writeQueue_22 (S Z : Nat → Prop) {hx N : Nat} (hS : ∀ x, fe_mem lX18_writeQueue x = true → S x) (s0 : Nat) (s1 : Int32) (M : FM) (w : WI Z hx N M) (z_s0 : Z s0) : pq (FX18_writeQueue_22 s0 s1 M) (QV S Z hx N M) := by
  have hN := w.2.2.1
  have w0 := wk_r (S := S) w
  delta FX18_writeQueue_22 BX18_writeQueue_22
  refine pq_g (fun g1 => ?_)
  refine pq_g (fun _ => ?_)
  extract_lets +onlyGivenNames M3
  have w2 : Wk S Z hx N M M3 := wk_fI hN w0 rfl rfl g1 z_s0 (Or.inr (hS 72 rfl))
  exact q_tV hN w2 (wX18_writeQueue_131 S Z hS _ w2.1 )
theorem wX18_writeQueue_0 (S Z : Nat → Prop) {hx N : Nat} (hS : ∀ x, fe_mem lX18_writeQueue x = true → S x) (a0 : Nat) (a1 : Int32) (a2 : Int32) (M : FM) (w : WI Z hx N M) (z_a0 : Z a0) : pq (FX18_writeQueue_0 a0 a1 a2 M) (QV S Z hx N M) := by
  have hN := w.2.2.1
  have w0 := wk_r (S := S) w
  delta FX18_writeQueue_0 BX18_writeQueue_0
  refine pq_fi (fun _ => ?_) (fun _ => ?_)
  · refine pq_g (fun g1 => ?_)
    have z2 := wk_z (i := 0) (f := 60) w0 rfl z_a0
    refine pq_fi (fun _ => ?_) (fun _ => ?_)
    · exact q_tV hN w0 (wX18_writeQueue_22 S Z hS _ _ _ w0.1 z2)
    · exact q_tV hN w0 (wX18_writeQueue_22 S Z hS _ _ _ w0.1 z2)
  · refine pq_g (fun g3 => ?_)
    have z4 := wk_z (i := 0) (f := 60) w0 rfl z_a0
    refine pq_g (fun g5 => ?_)
    refine pq_fi (fun _ => ?_) (fun _ => ?_)
    · refine pq_fi (fun _ => ?_) (fun _ => ?_)
      · refine pq_g (fun g6 => ?_)
        have z7 := wk_z (i := 0) (f := 60) w0 rfl z_a0
        refine pq_fi (fun _ => ?_) (fun _ => ?_)
        · exact q_tV hN w0 (wX18_writeQueue_71 S Z hS _ _ _ w0.1 z_a0 z7)
        · refine pq_fi (fun _ => ?_) (fun _ => ?_)
          · exact q_tV hN w0 (wX18_writeQueue_71 S Z hS _ _ _ w0.1 z_a0 z7)
          · refine pq_fi (fun _ => ?_) (fun _ => ?_)
            · exact q_tV hN w0 (wX18_writeQueue_78 S Z hS _ _ _ w0.1 z7)
            · exact q_tV hN w0 (wX18_writeQueue_71 S Z hS _ _ _ w0.1 z_a0 z7)
      · refine pq_fi (fun _ => ?_) (fun _ => ?_)
        · exact q_tV hN w0 (wX18_writeQueue_131 S Z hS _ w0.1 )
        · refine pq_fi (fun _ => ?_) (fun _ => ?_)
          · exact q_tV hN w0 (wX18_writeQueue_131 S Z hS _ w0.1 )
          · refine pq_fi (fun _ => ?_) (fun _ => ?_)
            · refine pq_g (fun g8 => ?_)
              have z9 := wk_z (i := 0) (f := 60) w0 rfl z_a0
              refine pq_fi (fun _ => ?_) (fun _ => ?_)
              · exact q_tV hN w0 (wX18_writeQueue_127 S Z hS _ _ _ _ _ w0.1 z9)
              · exact q_tV hN w0 (wX18_writeQueue_127 S Z hS _ _ _ _ _ w0.1 z9)
            · exact q_tV hN w0 (wX18_writeQueue_131 S Z hS _ w0.1 )
    · exact pq_s w0
theorem wX18_writeQueue (S Z : Nat → Prop) {hx N : Nat} (hS : ∀ x, fe_mem lX18_writeQueue x = true → S x) (a0 : Nat) (a1 : Int32) (a2 : Int32) (M : FM) (w : WI Z hx N M) (z_a0 : Z a0) : pq (FX18_writeQueue a0 a1 a2 M) (QV S Z hx N M) := wX18_writeQueue_0 S Z hS a0 a1 a2 M w z_a0
def lX18_write : List Nat := [63, 64, 65, 66, 67, 70, 71, 72, 73, 74, 75, 76, 77, 80, 81, 82, 83, 84, 87, 88, 89, 90, 208, 1069, 1085, 1086, 1201, 1203, 1204]
theorem wX18_write_115 (S Z : Nat → Prop) {hx N : Nat} (hS : ∀ x, fe_mem lX18_write x = true → S x) (n : Nat) (M : FM) (w : WI Z hx N M) : pq (FX18_write_115 n M) (QV S Z hx N M) := by
  have hN := w.2.2.1
  have w0 := wk_r (S := S) w
  delta FX18_write_115 BX18_write_115
  exact pq_s w0
theorem wX18_write_0 (S Z : Nat → Prop) {hx N : Nat} (hS : ∀ x, fe_mem lX18_write x = true → S x) (n : Nat) (a0 : Nat) (a1 : Int32) (a2 : Int32) (M : FM) (w : WI Z hx N M) (z_a0 : Z a0) : pq (FX18_write_0 n a0 a1 a2 M) (QV S Z hx N M) := by
  have hN := w.2.2.1
  have w0 := wk_r (S := S) w
  delta FX18_write_0 BX18_write_0
  refine pq_fi (fun _ => ?_) (fun _ => ?_)
  · refine pq_g (fun g1 => ?_)
    extract_lets +onlyGivenNames M3
    have w2 : Wk S Z hx N M M3 := wk_fI hN w0 rfl rfl g1 z_a0 (Or.inr (hS 63 rfl))
    exact q_tV hN w2 (wX18_write_115 S Z hS n _ w2.1 )
  · refine pq_fi (fun _ => ?_) (fun _ => ?_)
    · refine pq_g (fun g4 => ?_)
      extract_lets +onlyGivenNames M6
      have w5 : Wk S Z hx N M M6 := wk_fI hN w0 rfl rfl g4 z_a0 (Or.inr (hS 64 rfl))
      exact q_tV hN w5 (wX18_write_115 S Z hS n _ w5.1 )
    · refine pq_fi (fun _ => ?_) (fun _ => ?_)
      · refine pq_fi (fun _ => ?_) (fun _ => ?_)
        · refine pq_g (fun g7 => ?_)
          refine pq_b (wX18_work S Z (sb rfl hS) n _ _ w0.1 z_a0) (fun r8 K9 => ?_)
          have w10 := wk_t w0 K9 hN
          exact q_tV hN w10 (wX18_write_115 S Z hS n _ w10.1 )
        · exact q_tV hN w0 (wX18_write_115 S Z hS n _ w0.1 )
      · refine pq_fi (fun _ => ?_) (fun _ => ?_)
        · refine pq_g (fun g11 => ?_)
          refine pq_g (fun g12 => ?_)
          extract_lets +onlyGivenNames M14
          have w13 : Wk S Z hx N M M14 := wk_fI hN w0 rfl rfl g12 z_a0 (Or.inr (hS 66 rfl))
          exact q_tV hN w13 (wX18_write_115 S Z hS n _ w13.1 )
        · refine pq_fi (fun _ => ?_) (fun _ => ?_)
          · refine pq_g (fun g15 => ?_)
            refine pq_b (wX18_become S Z (sb rfl hS) _ _ _ w0.1 z_a0) (fun r16 K17 => ?_)
            have w18 := wk_t w0 K17 hN
            exact q_tV hN w18 (wX18_write_115 S Z hS n _ w18.1 )
          · refine pq_g (fun g19 => ?_)
            refine pq_fi (fun _ => ?_) (fun _ => ?_)
            · refine pq_g (fun g20 => ?_)
              refine pq_b (wX18_writeQueue S Z (sb rfl hS) _ _ _ _ w0.1 z_a0) (fun r21 K22 => ?_)
              have w23 := wk_t w0 K22 hN
              exact q_tV hN w23 (wX18_write_115 S Z hS n _ w23.1 )
            · exact q_tV hN w0 (wX18_write_115 S Z hS n _ w0.1 )
theorem wX18_write (S Z : Nat → Prop) {hx N : Nat} (hS : ∀ x, fe_mem lX18_write x = true → S x) (n : Nat) (a0 : Nat) (a1 : Int32) (a2 : Int32) (M : FM) (w : WI Z hx N M) (z_a0 : Z a0) : pq (FX18_write n a0 a1 a2 M) (QV S Z hx N M) := wX18_write_0 S Z hS n a0 a1 a2 M w z_a0
def lX10_write : List Nat := [22, 23, 63, 64, 65, 66, 67, 70, 71, 72, 73, 74, 75, 76, 77, 80, 81, 82, 83, 84, 87, 88, 89, 90, 208, 227, 228, 229, 232, 234, 236, 237, 238, 1069, 1085, 1086, 1201, 1203, 1204, 1224, 1225, 1226, 1230, 1233, 1235, 1245, 1246]
theorem wX10_write_167 (S Z : Nat → Prop) {hx N : Nat} (hS : ∀ x, fe_mem lX10_write x = true → S x) (n : Nat) (M : FM) (w : WI Z hx N M) : pq (FX10_write_167 n M) (QV S Z hx N M) := by
  have hN := w.2.2.1
  have w0 := wk_r (S := S) w
  delta FX10_write_167 BX10_write_167
  exact pq_s w0
theorem wX10_write_141 (S Z : Nat → Prop) {hx N : Nat} (hS : ∀ x, fe_mem lX10_write x = true → S x) (n : Nat) (s0 : Nat) (s1 : Int32) (s2 : Int32) (M : FM) (w : WI Z hx N M) (z_s0 : Z s0) : pq (FX10_write_141 n s0 s1 s2 M) (QV S Z hx N M) := by
  have hN := w.2.2.1
  have w0 := wk_r (S := S) w
  delta FX10_write_141 BX10_write_141
  refine pq_g (fun g1 => ?_)
  refine pq_b (wX33_signal S Z (sb rfl hS) _ _ _ _ w0.1 z_s0) (fun r2 K3 => ?_)
  have w4 := wk_t w0 K3 hN
  exact q_tV hN w4 (wX10_write_167 S Z hS n _ w4.1 )
theorem wX10_write_0 (S Z : Nat → Prop) {hx N : Nat} (hS : ∀ x, fe_mem lX10_write x = true → S x) (n : Nat) (a0 : Nat) (a1 : Nat) (a2 : Int64) (a4 : Int32) (a5 : Int64) (M : FM) (w : WI Z hx N M) (z_a0 : Z a0) (z_a1 : Z a1) : pq (FX10_write_0 n a0 a1 a2 a4 a5 M) (QV S Z hx N M) := by
  have hN := w.2.2.1
  have w0 := wk_r (S := S) w
  delta FX10_write_0 BX10_write_0
  refine pq_g (fun g1 => ?_)
  refine pq_g (fun g2 => ?_)
  refine pq_b (wJ0_ordinal S Z (sb rfl hS) _ _ w0.1 z_a1) (fun r3 K4 => ?_)
  have w5 := wk_t w0 K4 hN
  refine pq_fi (fun _ => ?_) (fun _ => ?_)
  · refine pq_g (fun g6 => ?_)
    have z7 := wk_z (i := 0) (f := 19) w5 rfl z_a0
    refine pq_g (fun g8 => ?_)
    refine pq_b (wX30_write S Z (sb rfl hS) _ _ _ _ _ _ w5.1 z7) (fun r9 K10 => ?_)
    have w11 := wk_t w5 K10 hN
    exact q_tV hN w11 (wX10_write_167 S Z hS n _ w11.1 )
  · refine pq_fi (fun _ => ?_) (fun _ => ?_)
    · refine pq_g (fun g12 => ?_)
      have z13 := wk_z (i := 0) (f := 19) w5 rfl z_a0
      refine pq_g (fun g14 => ?_)
      refine pq_b (wX30_write S Z (sb rfl hS) _ _ _ _ _ _ w5.1 z13) (fun r15 K16 => ?_)
      have w17 := wk_t w5 K16 hN
      exact q_tV hN w17 (wX10_write_167 S Z hS n _ w17.1 )
    · refine pq_fi (fun _ => ?_) (fun _ => ?_)
      · refine pq_g (fun g18 => ?_)
        have z19 := wk_z (i := 0) (f := 19) w5 rfl z_a0
        refine pq_g (fun g20 => ?_)
        refine pq_b (wX30_write S Z (sb rfl hS) _ _ _ _ _ _ w5.1 z19) (fun r21 K22 => ?_)
        have w23 := wk_t w5 K22 hN
        exact q_tV hN w23 (wX10_write_167 S Z hS n _ w23.1 )
      · refine pq_fi (fun _ => ?_) (fun _ => ?_)
        · refine pq_b (wX10_isRegister S Z (sb rfl hS) _ _ _ w5.1 ) (fun r24 K25 => ?_)
          have w26 := wk_t w5 K25 hN
          refine pq_fi (fun _ => ?_) (fun _ => ?_)
          · exact q_tV hN w26 (wX10_write_167 S Z hS n _ w26.1 )
          · refine pq_g (fun g27 => ?_)
            have z28 := wk_z (i := 0) (f := 20) w26 rfl z_a0
            refine pq_g (fun g29 => ?_)
            refine pq_b (wX18_write S Z (sb rfl hS) n _ _ _ _ w26.1 z28) (fun r30 K31 => ?_)
            have w32 := wk_t w26 K31 hN
            refine pq_g (fun g33 => ?_)
            have z34 := wk_z (i := 0) (f := 19) w32 rfl z_a0
            refine pq_g (fun g35 => ?_)
            have z36 := wk_z (i := 0) (f := 241) w32 rfl z34
            refine pq_g (fun g37 => ?_)
            have z38 := wk_z (i := 0) (f := 20) w32 rfl z_a0
            refine pq_g (fun g39 => ?_)
            refine pq_fi (fun _ => ?_) (fun _ => ?_)
            · exact q_tV hN w32 (wX10_write_141 S Z hS n _ _ _ _ w32.1 z36)
            · exact q_tV hN w32 (wX10_write_141 S Z hS n _ _ _ _ w32.1 z36)
        · refine pq_fi (fun _ => ?_) (fun _ => ?_)
          · refine pq_fi (fun _ => ?_) (fun _ => ?_)
            · refine pq_g (fun g40 => ?_)
              refine pq_b (wX10_end S Z (sb rfl hS) _ _ _ w5.1 z_a0) (fun r41 K42 => ?_)
              have w43 := wk_t w5 K42 hN
              exact q_tV hN w43 (wX10_write_167 S Z hS n _ w43.1 )
            · exact q_tV hN w5 (wX10_write_167 S Z hS n _ w5.1 )
          · exact q_tV hN w5 (wX10_write_167 S Z hS n _ w5.1 )
theorem wX10_write (S Z : Nat → Prop) {hx N : Nat} (hS : ∀ x, fe_mem lX10_write x = true → S x) (n : Nat) (a0 : Nat) (a1 : Nat) (a2 : Int64) (a4 : Int32) (a5 : Int64) (M : FM) (w : WI Z hx N M) (z_a0 : Z a0) (z_a1 : Z a1) : pq (FX10_write n a0 a1 a2 a4 a5 M) (QV S Z hx N M) := wX10_write_0 S Z hS n a0 a1 a2 a4 a5 M w z_a0 z_a1
def lX73_store : List Nat := [22, 23, 63, 64, 65, 66, 67, 70, 71, 72, 73, 74, 75, 76, 77, 80, 81, 82, 83, 84, 87, 88, 89, 90, 208, 227, 228, 229, 232, 234, 236, 237, 238, 1069, 1085, 1086, 1201, 1203, 1204, 1224, 1225, 1226, 1230, 1233, 1235, 1245, 1246]
theorem wX73_store_97 (S Z : Nat → Prop) {hx N : Nat} (hS : ∀ x, fe_mem lX73_store x = true → S x) (n : Nat) (k60 : Nat → Nat → Int64 → Int32 → FM → Option (FM)) (hk60 : ∀ (a0 : Nat) (a1 : Nat) (a2 : Int64) (a4 : Int32) (M : FM), WI Z hx N M → Z a0 → Z a1 → pq (k60 a0 a1 a2 a4 M) (QV S Z hx N M)) (M : FM) (w : WI Z hx N M) : pq (FX73_store_97 n k60 M) (QV S Z hx N M) := by
  have hN := w.2.2.1
  have w0 := wk_r (S := S) w
  delta FX73_store_97 BX73_store_97
  exact pq_s w0
theorem wX73_store_60 (S Z : Nat → Prop) {hx N : Nat} (hS : ∀ x, fe_mem lX73_store x = true → S x) (n : Nat) (k60 : Nat → Nat → Int64 → Int32 → FM → Option (FM)) (hk60 : ∀ (a0 : Nat) (a1 : Nat) (a2 : Int64) (a4 : Int32) (M : FM), WI Z hx N M → Z a0 → Z a1 → pq (k60 a0 a1 a2 a4 M) (QV S Z hx N M)) (a0 : Nat) (a1 : Nat) (a2 : Int64) (a4 : Int32) (M : FM) (w : WI Z hx N M) (z_a0 : Z a0) (z_a1 : Z a1) : pq (FX73_store_60 n k60 a0 a1 a2 a4 M) (QV S Z hx N M) := by
  have hN := w.2.2.1
  have w0 := wk_r (S := S) w
  delta FX73_store_60 BX73_store_60
  refine pq_g (fun g1 => ?_)
  refine pq_fi (fun _ => ?_) (fun _ => ?_)
  · exact q_tV hN w0 (wX73_store_97 S Z hS n _ hk60 _ w0.1 )
  · refine pq_g (fun g2 => ?_)
    have z3 := wk_z (i := 0) (f := 18) w0 rfl z_a1
    refine pq_g (fun g4 => ?_)
    have z5 := wk_z (i := 0) (f := 121) w0 rfl z_a0
    have f6 := sS_121 w0.1.1 g4
    refine pq_g (fun g7 => ?_)
    refine pq_g (fun g8 => ?_)
    refine pq_b (wX11_store S Z (sb rfl hS) n _ _ _ _ _ w0.1 z3) (fun r9 K10 => ?_)
    have w11 := wk_t w0 K10 hN
    exact q_tV hN w11 (hk60 _ _ _ _ _ w11.1 z_a0 z_a1)
theorem wX73_store_0 (S Z : Nat → Prop) {hx N : Nat} (hS : ∀ x, fe_mem lX73_store x = true → S x) (n : Nat) (k60 : Nat → Nat → Int64 → Int32 → FM → Option (FM)) (hk60 : ∀ (a0 : Nat) (a1 : Nat) (a2 : Int64) (a4 : Int32) (M : FM), WI Z hx N M → Z a0 → Z a1 → pq (k60 a0 a1 a2 a4 M) (QV S Z hx N M)) (a0 : Nat) (a1 : Nat) (a2 : Int64) (M : FM) (w : WI Z hx N M) (z_a0 : Z a0) (z_a1 : Z a1) : pq (FX73_store_0 n k60 a0 a1 a2 M) (QV S Z hx N M) := by
  have hN := w.2.2.1
  have w0 := wk_r (S := S) w
  delta FX73_store_0 BX73_store_0
  refine pq_g (fun g1 => ?_)
  have z2 := wk_z (i := 0) (f := 124) w0 rfl z_a0
  refine pq_fi (fun _ => ?_) (fun _ => ?_)
  · refine pq_g (fun g3 => ?_)
    refine pq_fi (fun _ => ?_) (fun _ => ?_)
    · exact q_tV hN w0 (hk60 _ _ _ _ _ w0.1 z_a0 z_a1)
    · refine pq_g (fun g4 => ?_)
      have z5 := wk_z (i := 0) (f := 18) w0 rfl z_a1
      refine pq_g (fun g6 => ?_)
      have z7 := wk_z (i := 0) (f := 121) w0 rfl z_a0
      have f8 := sS_121 w0.1.1 g6
      refine pq_g (fun g9 => ?_)
      refine pq_g (fun g10 => ?_)
      refine pq_g (fun g11 => ?_)
      refine pq_b (wX11_store S Z (sb rfl hS) n _ _ _ _ _ w0.1 z5) (fun r12 K13 => ?_)
      have w14 := wk_t w0 K13 hN
      exact q_tV hN w14 (wX73_store_97 S Z hS n _ hk60 _ w14.1 )
  · refine pq_g (fun g15 => ?_)
    have z16 := wk_z (i := 0) (f := 124) w0 rfl z_a0
    refine pq_g (fun g17 => ?_)
    have z18 := wk_z (i := 0) (f := 121) w0 rfl z_a0
    have f19 := sS_121 w0.1.1 g17
    refine pq_g (fun g20 => ?_)
    refine pq_g (fun g21 => ?_)
    refine pq_g (fun g22 => ?_)
    refine pq_b (wX10_write S Z (sb rfl hS) n _ _ _ _ _ _ w0.1 z_a1 z16) (fun r23 K24 => ?_)
    have w25 := wk_t w0 K24 hN
    exact q_tV hN w25 (wX73_store_97 S Z hS n _ hk60 _ w25.1 )
theorem wX73_store_L (S Z : Nat → Prop) {hx N : Nat} (hS : ∀ x, fe_mem lX73_store x = true → S x) (n : Nat) : ∀ j : Nat, ∀ (a0 : Nat) (a1 : Nat) (a2 : Int64) (a4 : Int32) (M : FM), WI Z hx N M → Z a0 → Z a1 → pq (FX73_store_L60 n j a0 a1 a2 a4 M) (QV S Z hx N M)
  | 0 => by intros; exact pq_0
  | j + 1 => fun a0 a1 a2 a4 M w => wX73_store_60 S Z hS n _ (wX73_store_L S Z hS n j) a0 a1 a2 a4 M w
theorem wX73_store (S Z : Nat → Prop) {hx N : Nat} (hS : ∀ x, fe_mem lX73_store x = true → S x) (n : Nat) (a0 : Nat) (a1 : Nat) (a2 : Int64) (M : FM) (w : WI Z hx N M) (z_a0 : Z a0) (z_a1 : Z a1) : pq (FX73_store n a0 a1 a2 M) (QV S Z hx N M) := wX73_store_0 S Z hS n _ (wX73_store_L S Z hS n n) a0 a1 a2 M w z_a0 z_a1
def lX46_store : List Nat := [22, 23, 37, 39, 41, 63, 64, 65, 66, 67, 70, 71, 72, 73, 74, 75, 76, 77, 80, 81, 82, 83, 84, 87, 88, 89, 90, 122, 123, 124, 174, 177, 179, 208, 227, 228, 229, 232, 234, 236, 237, 238, 269, 270, 271, 272, 273, 274, 275, 276, 277, 289, 290, 292, 293, 294, 1069, 1085, 1086, 1121, 1178, 1201, 1203, 1204, 1224, 1225, 1226, 1230, 1233, 1235, 1245, 1246, 1278, 1279, 1295]
theorem wX46_store_0 (S Z : Nat → Prop) {hx N : Nat} (hS : ∀ x, fe_mem lX46_store x = true → S x) (n : Nat) (a0 : Nat) (M : FM) (w : WI Z hx N M) (z_a0 : Z a0) : pq (FX46_store_0 n a0 M) (QA S Z hx N M) := by
  have hN := w.2.2.1
  have w0 := wk_r (S := S) w
  delta FX46_store_0 BX46_store_0
  refine pq_g (fun g1 => ?_)
  have z2 := wk_z (i := 0) (f := 211) w0 rfl z_a0
  refine pq_g (fun g3 => ?_)
  refine pq_b (wX47_wanted S Z (sb rfl hS) _ _ _ w0.1 z2) (fun r4 K5 => ?_)
  have w6 := wk_t w0 K5 hN
  refine pq_g (fun g7 => ?_)
  have z8 := wk_z (i := 0) (f := 211) w6 rfl z_a0
  refine pq_g (fun g9 => ?_)
  refine pq_b (wX47_wanted S Z (sb rfl hS) _ _ _ w6.1 z8) (fun r10 K11 => ?_)
  have w12 := wk_t w6 K11 hN
  refine pq_g (fun g13 => ?_)
  refine pq_b (wX46_locate S Z (sb rfl hS) n _ _ _ _ _ w12.1 z_a0) (fun r14 K15 => ?_)
  have w16 := wk_t w12 K15 hN
  refine pq_fi (fun _ => ?_) (fun _ => ?_)
  · refine pq_g (fun _ => ?_)
    exact pq_s w16
  · refine pq_g (fun g17 => ?_)
    have z18 := wk_z (i := 0) (f := 217) w16 rfl z_a0
    refine pq_g (fun g19 => ?_)
    have z20 := wk_z (i := 0) (f := 210) w16 rfl z_a0
    refine pq_g (fun g21 => ?_)
    have z22 := wk_z (i := 0) (f := 211) w16 rfl z_a0
    refine pq_g (fun g23 => ?_)
    refine pq_b (wX47_wanted S Z (sb rfl hS) _ _ _ w16.1 z22) (fun r24 K25 => ?_)
    have w26 := wk_t w16 K25 hN
    refine pq_g (fun g27 => ?_)
    refine pq_b (wX73_store S Z (sb rfl hS) n _ _ _ _ w26.1 z18 z20) (fun r28 K29 => ?_)
    have w30 := wk_t w26 K29 hN
    refine pq_g (fun g31 => ?_)
    have z32 := wk_z (i := 0) (f := 211) w30 rfl z_a0
    refine pq_g (fun g33 => ?_)
    refine pq_b (wX47_finish S Z (sb rfl hS) _ _ _ _ w30.1 z32) (fun r34 K35 => ?_)
    have w36 := wk_t w30 K35 hN
    refine pq_g (fun _ => ?_)
    exact pq_s w36
theorem wX46_store (S Z : Nat → Prop) {hx N : Nat} (hS : ∀ x, fe_mem lX46_store x = true → S x) (n : Nat) (a0 : Nat) (M : FM) (w : WI Z hx N M) (z_a0 : Z a0) : pq (FX46_store n a0 M) (QA S Z hx N M) := wX46_store_0 S Z hS n a0 M w z_a0
def lX11_signed : List Nat := []
theorem wX11_signed_12 (S Z : Nat → Prop) {hx N : Nat} (hS : ∀ x, fe_mem lX11_signed x = true → S x) (s0 : Int64) (M : FM) (w : WI Z hx N M) : pq (FX11_signed_12 s0 M) (QA S Z hx N M) := by
  have hN := w.2.2.1
  have w0 := wk_r (S := S) w
  delta FX11_signed_12 BX11_signed_12
  exact pq_s w0
theorem wX11_signed_0 (S Z : Nat → Prop) {hx N : Nat} (hS : ∀ x, fe_mem lX11_signed x = true → S x) (a0 : Int64) (a2 : Int32) (M : FM) (w : WI Z hx N M) : pq (FX11_signed_0 a0 a2 M) (QA S Z hx N M) := by
  have hN := w.2.2.1
  have w0 := wk_r (S := S) w
  delta FX11_signed_0 BX11_signed_0
  refine pq_fi (fun _ => ?_) (fun _ => ?_)
  · exact q_tA hN w0 (wX11_signed_12 S Z hS _ _ w0.1 )
  · exact q_tA hN w0 (wX11_signed_12 S Z hS _ _ w0.1 )
theorem wX11_signed (S Z : Nat → Prop) {hx N : Nat} (hS : ∀ x, fe_mem lX11_signed x = true → S x) (a0 : Int64) (a2 : Int32) (M : FM) (w : WI Z hx N M) : pq (FX11_signed a0 a2 M) (QA S Z hx N M) := wX11_signed_0 S Z hS a0 a2 M w 
def lX12_make : List Nat := [207, 208]
theorem wX12_make_0 (S Z : Nat → Prop) {hx N : Nat} (hS : ∀ x, fe_mem lX12_make x = true → S x) (a0 : Nat) (a1 : Int64) (a3 : Int32) (M : FM) (w : WI Z hx N M) (z_a0 : Z a0) : pq (FX12_make_0 a0 a1 a3 M) (QV S Z hx N M) := by
  have hN := w.2.2.1
  have w0 := wk_r (S := S) w
  delta FX12_make_0 BX12_make_0
  refine pq_g (fun g1 => ?_)
  extract_lets +onlyGivenNames M3
  have w2 : Wk S Z hx N M M3 := wk_fL hN w0 rfl rfl g1 z_a0 (Or.inr (hS 207 rfl))
  refine pq_g (fun g4 => ?_)
  extract_lets +onlyGivenNames M6
  have w5 : Wk S Z hx N M M6 := wk_fI hN w2 rfl rfl g4 z_a0 (Or.inr (hS 208 rfl))
  exact pq_s w5
theorem wX12_make (S Z : Nat → Prop) {hx N : Nat} (hS : ∀ x, fe_mem lX12_make x = true → S x) (a0 : Nat) (a1 : Int64) (a3 : Int32) (M : FM) (w : WI Z hx N M) (z_a0 : Z a0) : pq (FX12_make a0 a1 a3 M) (QV S Z hx N M) := wX12_make_0 S Z hS a0 a1 a3 M w z_a0
def lX12_is : List Nat := []
theorem wX12_is_22 (S Z : Nat → Prop) {hx N : Nat} (hS : ∀ x, fe_mem lX12_is x = true → S x) (s0 : Int32) (M : FM) (w : WI Z hx N M) : pq (FX12_is_22 s0 M) (QA S Z hx N M) := by
  have hN := w.2.2.1
  have w0 := wk_r (S := S) w
  delta FX12_is_22 BX12_is_22
  refine pq_g (fun _ => ?_)
  exact pq_s w0
theorem wX12_is_21 (S Z : Nat → Prop) {hx N : Nat} (hS : ∀ x, fe_mem lX12_is x = true → S x) (M : FM) (w : WI Z hx N M) : pq (FX12_is_21 M) (QA S Z hx N M) := by
  have hN := w.2.2.1
  have w0 := wk_r (S := S) w
  delta FX12_is_21 BX12_is_21
  exact q_tA hN w0 (wX12_is_22 S Z hS _ _ w0.1 )
theorem wX12_is_0 (S Z : Nat → Prop) {hx N : Nat} (hS : ∀ x, fe_mem lX12_is x = true → S x) (a0 : Nat) (a1 : Int64) (a3 : Int32) (M : FM) (w : WI Z hx N M) (z_a0 : Z a0) : pq (FX12_is_0 a0 a1 a3 M) (QA S Z hx N M) := by
  have hN := w.2.2.1
  have w0 := wk_r (S := S) w
  delta FX12_is_0 BX12_is_0
  refine pq_g (fun g1 => ?_)
  refine pq_fi (fun _ => ?_) (fun _ => ?_)
  · refine pq_g (fun g2 => ?_)
    refine pq_fi (fun _ => ?_) (fun _ => ?_)
    · exact q_tA hN w0 (wX12_is_22 S Z hS _ _ w0.1 )
    · exact q_tA hN w0 (wX12_is_21 S Z hS _ w0.1 )
  · exact q_tA hN w0 (wX12_is_21 S Z hS _ w0.1 )
theorem wX12_is (S Z : Nat → Prop) {hx N : Nat} (hS : ∀ x, fe_mem lX12_is x = true → S x) (a0 : Nat) (a1 : Int64) (a3 : Int32) (M : FM) (w : WI Z hx N M) (z_a0 : Z a0) : pq (FX12_is a0 a1 a3 M) (QA S Z hx N M) := wX12_is_0 S Z hS a0 a1 a3 M w z_a0
def lX16_part : List Nat := []
theorem wX16_part_16 (S Z : Nat → Prop) {hx N : Nat} (hS : ∀ x, fe_mem lX16_part x = true → S x) (s0 : Int64) (M : FM) (w : WI Z hx N M) : pq (FX16_part_16 s0 M) (QA S Z hx N M) := by
  have hN := w.2.2.1
  have w0 := wk_r (S := S) w
  delta FX16_part_16 BX16_part_16
  exact pq_s w0
theorem wX16_part_0 (S Z : Nat → Prop) {hx N : Nat} (hS : ∀ x, fe_mem lX16_part x = true → S x) (a0 : Nat) (a1 : Int32) (a2 : Int64) (M : FM) (w : WI Z hx N M) (z_a0 : Z a0) : pq (FX16_part_0 a0 a1 a2 M) (QA S Z hx N M) := by
  have hN := w.2.2.1
  have w0 := wk_r (S := S) w
  delta FX16_part_0 BX16_part_0
  refine pq_g (fun g1 => ?_)
  refine pq_fi (fun _ => ?_) (fun _ => ?_)
  · exact q_tA hN w0 (wX16_part_16 S Z hS _ _ w0.1 )
  · exact q_tA hN w0 (wX16_part_16 S Z hS _ _ w0.1 )
theorem wX16_part (S Z : Nat → Prop) {hx N : Nat} (hS : ∀ x, fe_mem lX16_part x = true → S x) (a0 : Nat) (a1 : Int32) (a2 : Int64) (M : FM) (w : WI Z hx N M) (z_a0 : Z a0) : pq (FX16_part a0 a1 a2 M) (QA S Z hx N M) := wX16_part_0 S Z hS a0 a1 a2 M w z_a0
def lX16_of : List Nat := []
theorem wX16_of_0 (S Z : Nat → Prop) {hx N : Nat} (hS : ∀ x, fe_mem lX16_of x = true → S x) (a0 : Nat) (a1 : Int64) (a3 : Int64) (M : FM) (w : WI Z hx N M) (z_a0 : Z a0) : pq (FX16_of_0 a0 a1 a3 M) (QA S Z hx N M) := by
  have hN := w.2.2.1
  have w0 := wk_r (S := S) w
  delta FX16_of_0 BX16_of_0
  refine pq_g (fun g1 => ?_)
  refine pq_b (wX16_part S Z (sb rfl hS) _ _ _ _ w0.1 z_a0) (fun r2 K3 => ?_)
  have w4 := wk_t w0 K3 hN
  refine pq_g (fun g5 => ?_)
  refine pq_b (wX16_part S Z (sb rfl hS) _ _ _ _ w4.1 z_a0) (fun r6 K7 => ?_)
  have w8 := wk_t w4 K7 hN
  refine pq_g (fun g9 => ?_)
  refine pq_b (wX16_part S Z (sb rfl hS) _ _ _ _ w8.1 z_a0) (fun r10 K11 => ?_)
  have w12 := wk_t w8 K11 hN
  refine pq_g (fun g13 => ?_)
  refine pq_b (wX16_part S Z (sb rfl hS) _ _ _ _ w12.1 z_a0) (fun r14 K15 => ?_)
  have w16 := wk_t w12 K15 hN
  exact pq_s w16
theorem wX16_of (S Z : Nat → Prop) {hx N : Nat} (hS : ∀ x, fe_mem lX16_of x = true → S x) (a0 : Nat) (a1 : Int64) (a3 : Int64) (M : FM) (w : WI Z hx N M) (z_a0 : Z a0) : pq (FX16_of a0 a1 a3 M) (QA S Z hx N M) := wX16_of_0 S Z hS a0 a1 a3 M w z_a0
def lX17_of : List Nat := []
theorem wX17_of_33 (S Z : Nat → Prop) {hx N : Nat} (hS : ∀ x, fe_mem lX17_of x = true → S x) (s0 : Int64) (M : FM) (w : WI Z hx N M) : pq (FX17_of_33 s0 M) (QA S Z hx N M) := by
  have hN := w.2.2.1
  have w0 := wk_r (S := S) w
  delta FX17_of_33 BX17_of_33
  exact pq_s w0
theorem wX17_of_21 (S Z : Nat → Prop) {hx N : Nat} (hS : ∀ x, fe_mem lX17_of x = true → S x) (a0 : Nat) (a1 : Int64) (a3 : Int64) (s0 : Int32) (M : FM) (w : WI Z hx N M) (z_a0 : Z a0) : pq (FX17_of_21 a0 a1 a3 s0 M) (QA S Z hx N M) := by
  have hN := w.2.2.1
  have w0 := wk_r (S := S) w
  delta FX17_of_21 BX17_of_21
  refine pq_g (fun g1 => ?_)
  refine pq_fi (fun _ => ?_) (fun _ => ?_)
  · exact q_tA hN w0 (wX17_of_33 S Z hS _ _ w0.1 )
  · exact q_tA hN w0 (wX17_of_33 S Z hS _ _ w0.1 )
theorem wX17_of_0 (S Z : Nat → Prop) {hx N : Nat} (hS : ∀ x, fe_mem lX17_of x = true → S x) (a0 : Nat) (a1 : Int64) (a3 : Int64) (M : FM) (w : WI Z hx N M) (z_a0 : Z a0) : pq (FX17_of_0 a0 a1 a3 M) (QA S Z hx N M) := by
  have hN := w.2.2.1
  have w0 := wk_r (S := S) w
  delta FX17_of_0 BX17_of_0
  refine pq_g (fun g1 => ?_)
  refine pq_g (fun g2 => ?_)
  refine pq_fi (fun _ => ?_) (fun _ => ?_)
  · exact q_tA hN w0 (wX17_of_21 S Z hS _ _ _ _ _ w0.1 z_a0)
  · exact q_tA hN w0 (wX17_of_21 S Z hS _ _ _ _ _ w0.1 z_a0)
theorem wX17_of (S Z : Nat → Prop) {hx N : Nat} (hS : ∀ x, fe_mem lX17_of x = true → S x) (a0 : Nat) (a1 : Int64) (a3 : Int64) (M : FM) (w : WI Z hx N M) (z_a0 : Z a0) : pq (FX17_of a0 a1 a3 M) (QA S Z hx N M) := wX17_of_0 S Z hS a0 a1 a3 M w z_a0
def lX14_of : List Nat := []
theorem wX14_of_0 (S Z : Nat → Prop) {hx N : Nat} (hS : ∀ x, fe_mem lX14_of x = true → S x) (a0 : Nat) (a1 : Int64) (a3 : Int64) (M : FM) (w : WI Z hx N M) (z_a0 : Z a0) : pq (FX14_of_0 a0 a1 a3 M) (QA S Z hx N M) := by
  have hN := w.2.2.1
  have w0 := wk_r (S := S) w
  delta FX14_of_0 BX14_of_0
  exact pq_s w0
theorem wX14_of (S Z : Nat → Prop) {hx N : Nat} (hS : ∀ x, fe_mem lX14_of x = true → S x) (a0 : Nat) (a1 : Int64) (a3 : Int64) (M : FM) (w : WI Z hx N M) (z_a0 : Z a0) : pq (FX14_of a0 a1 a3 M) (QA S Z hx N M) := wX14_of_0 S Z hS a0 a1 a3 M w z_a0
def lX15_of : List Nat := []
theorem wX15_of_0 (S Z : Nat → Prop) {hx N : Nat} (hS : ∀ x, fe_mem lX15_of x = true → S x) (a0 : Nat) (a1 : Int64) (a3 : Int64) (M : FM) (w : WI Z hx N M) (z_a0 : Z a0) : pq (FX15_of_0 a0 a1 a3 M) (QA S Z hx N M) := by
  have hN := w.2.2.1
  have w0 := wk_r (S := S) w
  delta FX15_of_0 BX15_of_0
  exact pq_s w0
theorem wX15_of (S Z : Nat → Prop) {hx N : Nat} (hS : ∀ x, fe_mem lX15_of x = true → S x) (a0 : Nat) (a1 : Int64) (a3 : Int64) (M : FM) (w : WI Z hx N M) (z_a0 : Z a0) : pq (FX15_of a0 a1 a3 M) (QA S Z hx N M) := wX15_of_0 S Z hS a0 a1 a3 M w z_a0
def lX11_atomic : List Nat := [207, 208, 1201, 1203, 1204]
theorem wX11_atomic_83 (S Z : Nat → Prop) {hx N : Nat} (hS : ∀ x, fe_mem lX11_atomic x = true → S x) (n : Nat) (s0 : Int64) (M : FM) (w : WI Z hx N M) : pq (FX11_atomic_83 n s0 M) (QA S Z hx N M) := by
  have hN := w.2.2.1
  have w0 := wk_r (S := S) w
  delta FX11_atomic_83 BX11_atomic_83
  exact pq_s w0
theorem wX11_atomic_73 (S Z : Nat → Prop) {hx N : Nat} (hS : ∀ x, fe_mem lX11_atomic x = true → S x) (n : Nat) (a11 : Int32) (M : FM) (w : WI Z hx N M) : pq (FX11_atomic_73 n a11 M) (QA S Z hx N M) := by
  have hN := w.2.2.1
  have w0 := wk_r (S := S) w
  delta FX11_atomic_73 BX11_atomic_73
  refine pq_fi (fun _ => ?_) (fun _ => ?_)
  · exact q_tA hN w0 (wX11_atomic_83 S Z hS n _ _ w0.1 )
  · exact q_tA hN w0 (wX11_atomic_83 S Z hS n _ _ w0.1 )
theorem wX11_atomic_0 (S Z : Nat → Prop) {hx N : Nat} (hS : ∀ x, fe_mem lX11_atomic x = true → S x) (n : Nat) (a0 : Nat) (a1 : Int32) (a2 : Int32) (a3 : Int64) (a5 : Int32) (a6 : Int64) (M : FM) (w : WI Z hx N M) (z_a0 : Z a0) : pq (FX11_atomic_0 n a0 a1 a2 a3 a5 a6 M) (QA S Z hx N M) := by
  have hN := w.2.2.1
  have w0 := wk_r (S := S) w
  delta FX11_atomic_0 BX11_atomic_0
  refine pq_g (fun g1 => ?_)
  have z2 := wk_z (i := 0) (f := 205) w0 rfl z_a0
  have f3 := sS_205 w0.1.1 g1
  refine pq_g (fun g4 => ?_)
  have z5 := fun i => wk_ze (i := i) w0 rfl g4.1 f3 rfl z2
  refine pq_g (fun g6 => ?_)
  refine pq_b (wX11_load S Z (sb rfl hS) _ _ _ _ w0.1 z_a0) (fun r7 K8 => ?_)
  have w9 := wk_t w0 K8 hN
  refine pq_b (wX11_signed S Z (sb rfl hS) _ _ _ w9.1 ) (fun r10 K11 => ?_)
  have w12 := wk_t w9 K11 hN
  refine pq_fi (fun _ => ?_) (fun _ => ?_)
  · refine pq_g (fun g13 => ?_)
    refine pq_b (wX12_make S Z (sb rfl hS) _ _ _ _ w12.1 (z5 _)) (fun r14 K15 => ?_)
    have w16 := wk_t w12 K15 hN
    exact pq_s w16
  · refine pq_fi (fun _ => ?_) (fun _ => ?_)
    · refine pq_g (fun g17 => ?_)
      refine pq_b (wX12_is S Z (sb rfl hS) _ _ _ _ w12.1 (z5 _)) (fun r18 K19 => ?_)
      have w20 := wk_t w12 K19 hN
      refine pq_g (fun g21 => ?_)
      refine pq_b (wX12_drop S Z (sb rfl hS) _ _ w20.1 (z5 _)) (fun r22 K23 => ?_)
      have w24 := wk_t w20 K23 hN
      refine pq_fi (fun _ => ?_) (fun _ => ?_)
      · exact q_tA hN w24 (wX11_atomic_73 S Z hS n _ _ w24.1 )
      · refine pq_g (fun g25 => ?_)
        refine pq_b (wX11_store S Z (sb rfl hS) n _ _ _ _ _ w24.1 z_a0) (fun r26 K27 => ?_)
        have w28 := wk_t w24 K27 hN
        exact q_tA hN w28 (wX11_atomic_73 S Z hS n _ _ w28.1 )
    · refine pq_g (fun g29 => ?_)
      have z30 := wk_z (i := 0) (f := 206) w12 rfl z_a0
      have f31 := sS_206 w12.1.1 g29
      refine pq_g (fun g32 => ?_)
      have z33 := fun i => wk_ze (i := i) w12 rfl g32.1 f31 rfl z30
      refine pq_b (wX11_signed S Z (sb rfl hS) _ _ _ w12.1 ) (fun r34 K35 => ?_)
      have w36 := wk_t w12 K35 hN
      refine pq_fi (fun _ => ?_) (fun _ => ?_)
      · refine pq_b (wX16_of S Z (sb rfl hS) _ _ _ _ w36.1 (z33 _)) (fun r37 K38 => ?_)
        have w39 := wk_t w36 K38 hN
        refine pq_g (fun g40 => ?_)
        refine pq_b (wX11_store S Z (sb rfl hS) n _ _ _ _ _ w39.1 z_a0) (fun r41 K42 => ?_)
        have w43 := wk_t w39 K42 hN
        exact pq_s w43
      · refine pq_fi (fun _ => ?_) (fun _ => ?_)
        · refine pq_b (wX17_of S Z (sb rfl hS) _ _ _ _ w36.1 (z33 _)) (fun r44 K45 => ?_)
          have w46 := wk_t w36 K45 hN
          refine pq_g (fun g47 => ?_)
          refine pq_b (wX11_store S Z (sb rfl hS) n _ _ _ _ _ w46.1 z_a0) (fun r48 K49 => ?_)
          have w50 := wk_t w46 K49 hN
          exact pq_s w50
        · refine pq_fi (fun _ => ?_) (fun _ => ?_)
          · refine pq_b (wX14_of S Z (sb rfl hS) _ _ _ _ w36.1 (z33 _)) (fun r51 K52 => ?_)
            have w53 := wk_t w36 K52 hN
            refine pq_g (fun g54 => ?_)
            refine pq_b (wX11_store S Z (sb rfl hS) n _ _ _ _ _ w53.1 z_a0) (fun r55 K56 => ?_)
            have w57 := wk_t w53 K56 hN
            exact pq_s w57
          · refine pq_fi (fun _ => ?_) (fun _ => ?_)
            · refine pq_b (wX15_of S Z (sb rfl hS) _ _ _ _ w36.1 (z33 _)) (fun r58 K59 => ?_)
              have w60 := wk_t w36 K59 hN
              refine pq_g (fun g61 => ?_)
              refine pq_b (wX11_store S Z (sb rfl hS) n _ _ _ _ _ w60.1 z_a0) (fun r62 K63 => ?_)
              have w64 := wk_t w60 K63 hN
              exact pq_s w64
            · exact pq_0
theorem wX11_atomic (S Z : Nat → Prop) {hx N : Nat} (hS : ∀ x, fe_mem lX11_atomic x = true → S x) (n : Nat) (a0 : Nat) (a1 : Int32) (a2 : Int32) (a3 : Int64) (a5 : Int32) (a6 : Int64) (M : FM) (w : WI Z hx N M) (z_a0 : Z a0) : pq (FX11_atomic n a0 a1 a2 a3 a5 a6 M) (QA S Z hx N M) := wX11_atomic_0 S Z hS n a0 a1 a2 a3 a5 a6 M w z_a0
def lX46_atomic : List Nat := [37, 39, 41, 174, 177, 179, 207, 208, 269, 270, 271, 272, 273, 274, 275, 276, 277, 289, 290, 292, 293, 294, 1178, 1201, 1203, 1204, 1278, 1279, 1295]
theorem wX46_atomic_131 (S Z : Nat → Prop) {hx N : Nat} (hS : ∀ x, fe_mem lX46_atomic x = true → S x) (n : Nat) (a1 : Int64) (s0 : Nat) (s1 : Int32) (M : FM) (w : WI Z hx N M) (z_s0 : Z s0) : pq (FX46_atomic_131 n a1 s0 s1 M) (QA S Z hx N M) := by
  have hN := w.2.2.1
  have w0 := wk_r (S := S) w
  delta FX46_atomic_131 BX46_atomic_131
  refine pq_g (fun g1 => ?_)
  refine pq_b (wX46_raise S Z (sb rfl hS) _ _ _ _ w0.1 z_s0) (fun r2 K3 => ?_)
  have w4 := wk_t w0 K3 hN
  refine pq_g (fun _ => ?_)
  exact pq_s w4
theorem wX46_atomic_65 (S Z : Nat → Prop) {hx N : Nat} (hS : ∀ x, fe_mem lX46_atomic x = true → S x) (n : Nat) (a1 : Int64) (s0 : Nat) (s1 : Int32) (M : FM) (w : WI Z hx N M) (z_s0 : Z s0) : pq (FX46_atomic_65 n a1 s0 s1 M) (QA S Z hx N M) := by
  have hN := w.2.2.1
  have w0 := wk_r (S := S) w
  delta FX46_atomic_65 BX46_atomic_65
  refine pq_g (fun g1 => ?_)
  refine pq_b (wX46_raise S Z (sb rfl hS) _ _ _ _ w0.1 z_s0) (fun r2 K3 => ?_)
  have w4 := wk_t w0 K3 hN
  refine pq_g (fun _ => ?_)
  exact pq_s w4
theorem wX46_atomic_41 (S Z : Nat → Prop) {hx N : Nat} (hS : ∀ x, fe_mem lX46_atomic x = true → S x) (n : Nat) (a0 : Nat) (a1 : Int64) (a3 : Int32) (a4 : Int32) (s0 : Int32) (M : FM) (w : WI Z hx N M) (z_a0 : Z a0) : pq (FX46_atomic_41 n a0 a1 a3 a4 s0 M) (QA S Z hx N M) := by
  have hN := w.2.2.1
  have w0 := wk_r (S := S) w
  delta FX46_atomic_41 BX46_atomic_41
  refine pq_n ?_
  refine pq_fi (fun _ => ?_) (fun _ => ?_)
  · refine pq_g (fun g1 => ?_)
    refine pq_b (wX46_dataMode S Z (sb rfl hS) _ _ w0.1 z_a0) (fun r2 K3 => ?_)
    have w4 := wk_t w0 K3 hN
    refine pq_g (fun g5 => ?_)
    refine pq_b (wX46_find S Z (sb rfl hS) n _ _ _ _ _ _ w4.1 z_a0) (fun r6 K7 => ?_)
    have w8 := wk_t w4 K7 hN
    refine pq_fi (fun _ => ?_) (fun _ => ?_)
    · refine pq_g (fun g9 => ?_)
      have z10 := wk_z (i := 0) (f := 210) w8 rfl z_a0
      refine pq_g (fun g11 => ?_)
      have z12 := wk_z (i := 0) (f := 18) w8 rfl z10
      refine pq_g (fun g13 => ?_)
      refine pq_b (wX11_has S Z (sb rfl hS) _ _ _ _ w8.1 z12) (fun r14 K15 => ?_)
      have w16 := wk_t w8 K15 hN
      refine pq_fi (fun _ => ?_) (fun _ => ?_)
      · refine pq_fi (fun _ => ?_) (fun _ => ?_)
        · exact q_tA hN w16 (wX46_atomic_131 S Z hS n _ _ _ _ w16.1 z_a0)
        · exact q_tA hN w16 (wX46_atomic_131 S Z hS n _ _ _ _ w16.1 z_a0)
      · refine pq_g (fun g17 => ?_)
        have z18 := wk_z (i := 0) (f := 211) w16 rfl z_a0
        refine pq_g (fun g19 => ?_)
        have z20 := wk_z (i := 0) (f := 210) w16 rfl z_a0
        refine pq_g (fun g21 => ?_)
        have z22 := wk_z (i := 0) (f := 18) w16 rfl z20
        refine pq_g (fun g23 => ?_)
        refine pq_g (fun g24 => ?_)
        have z25 := wk_z (i := 0) (f := 211) w16 rfl z_a0
        refine pq_g (fun g26 => ?_)
        refine pq_b (wX47_wanted S Z (sb rfl hS) _ _ _ w16.1 z25) (fun r27 K28 => ?_)
        have w29 := wk_t w16 K28 hN
        refine pq_g (fun g30 => ?_)
        refine pq_b (wX11_atomic S Z (sb rfl hS) n _ _ _ _ _ _ _ w29.1 z22) (fun r31 K32 => ?_)
        have w33 := wk_t w29 K32 hN
        refine pq_g (fun g34 => ?_)
        refine pq_b (wX47_finish S Z (sb rfl hS) _ _ _ _ w33.1 z18) (fun r35 K36 => ?_)
        have w37 := wk_t w33 K36 hN
        refine pq_g (fun _ => ?_)
        exact pq_s w37
    · refine pq_g (fun g38 => ?_)
      refine pq_b (wX46_raise S Z (sb rfl hS) _ _ _ _ w8.1 z_a0) (fun r39 K40 => ?_)
      have w41 := wk_t w8 K40 hN
      refine pq_g (fun _ => ?_)
      exact pq_s w41
  · refine pq_fi (fun _ => ?_) (fun _ => ?_)
    · exact q_tA hN w0 (wX46_atomic_65 S Z hS n _ _ _ _ w0.1 z_a0)
    · exact q_tA hN w0 (wX46_atomic_65 S Z hS n _ _ _ _ w0.1 z_a0)
theorem wX46_atomic_0 (S Z : Nat → Prop) {hx N : Nat} (hS : ∀ x, fe_mem lX46_atomic x = true → S x) (n : Nat) (a0 : Nat) (M : FM) (w : WI Z hx N M) (z_a0 : Z a0) : pq (FX46_atomic_0 n a0 M) (QA S Z hx N M) := by
  have hN := w.2.2.1
  have w0 := wk_r (S := S) w
  delta FX46_atomic_0 BX46_atomic_0
  refine pq_g (fun g1 => ?_)
  have z2 := wk_z (i := 0) (f := 211) w0 rfl z_a0
  refine pq_g (fun g3 => ?_)
  refine pq_b (wX47_wanted S Z (sb rfl hS) _ _ _ w0.1 z2) (fun r4 K5 => ?_)
  have w6 := wk_t w0 K5 hN
  refine pq_g (fun g7 => ?_)
  have z8 := wk_z (i := 0) (f := 211) w6 rfl z_a0
  refine pq_g (fun g9 => ?_)
  refine pq_b (wX47_wanted S Z (sb rfl hS) _ _ _ w6.1 z8) (fun r10 K11 => ?_)
  have w12 := wk_t w6 K11 hN
  refine pq_g (fun g13 => ?_)
  have z14 := wk_z (i := 0) (f := 211) w12 rfl z_a0
  refine pq_g (fun g15 => ?_)
  refine pq_b (wX47_wanted S Z (sb rfl hS) _ _ _ w12.1 z14) (fun r16 K17 => ?_)
  have w18 := wk_t w12 K17 hN
  refine pq_fi (fun _ => ?_) (fun _ => ?_)
  · exact q_tA hN w18 (wX46_atomic_41 S Z hS n _ _ _ _ _ _ w18.1 z_a0)
  · exact q_tA hN w18 (wX46_atomic_41 S Z hS n _ _ _ _ _ _ w18.1 z_a0)
theorem wX46_atomic (S Z : Nat → Prop) {hx N : Nat} (hS : ∀ x, fe_mem lX46_atomic x = true → S x) (n : Nat) (a0 : Nat) (M : FM) (w : WI Z hx N M) (z_a0 : Z a0) : pq (FX46_atomic n a0 M) (QA S Z hx N M) := wX46_atomic_0 S Z hS n a0 M w z_a0
def lX74_floats : List Nat := []
theorem wX74_floats_17 (S Z : Nat → Prop) {hx N : Nat} (hS : ∀ x, fe_mem lX74_floats x = true → S x) (s0 : Int32) (M : FM) (w : WI Z hx N M) : pq (FX74_floats_17 s0 M) (QA S Z hx N M) := by
  have hN := w.2.2.1
  have w0 := wk_r (S := S) w
  delta FX74_floats_17 BX74_floats_17
  refine pq_g (fun _ => ?_)
  exact pq_s w0
theorem wX74_floats_0 (S Z : Nat → Prop) {hx N : Nat} (hS : ∀ x, fe_mem lX74_floats x = true → S x) (a0 : Nat) (M : FM) (w : WI Z hx N M) (z_a0 : Z a0) : pq (FX74_floats_0 a0 M) (QA S Z hx N M) := by
  have hN := w.2.2.1
  have w0 := wk_r (S := S) w
  delta FX74_floats_0 BX74_floats_0
  refine pq_g (fun g1 => ?_)
  have z2 := wk_z (i := 0) (f := 27) w0 rfl z_a0
  refine pq_g (fun g3 => ?_)
  refine pq_b (wX78_two S Z (sb rfl hS) _ _ _ w0.1 z2) (fun r4 K5 => ?_)
  have w6 := wk_t w0 K5 hN
  refine pq_fi (fun _ => ?_) (fun _ => ?_)
  · exact q_tA hN w6 (wX74_floats_17 S Z hS _ _ w6.1 )
  · exact q_tA hN w6 (wX74_floats_17 S Z hS _ _ w6.1 )
theorem wX74_floats (S Z : Nat → Prop) {hx N : Nat} (hS : ∀ x, fe_mem lX74_floats x = true → S x) (a0 : Nat) (M : FM) (w : WI Z hx N M) (z_a0 : Z a0) : pq (FX74_floats a0 M) (QA S Z hx N M) := wX74_floats_0 S Z hS a0 M w z_a0
def lX59_set : List Nat := [96, 1093]
theorem wX59_set_0 (S Z : Nat → Prop) {hx N : Nat} (hS : ∀ x, fe_mem lX59_set x = true → S x) (a0 : Nat) (a1 : Int32) (a2 : Int64) (M : FM) (w : WI Z hx N M) (z_a0 : Z a0) : pq (FX59_set_0 a0 a1 a2 M) (QV S Z hx N M) := by
  have hN := w.2.2.1
  have w0 := wk_r (S := S) w
  delta FX59_set_0 BX59_set_0
  refine pq_g (fun g1 => ?_)
  have z2 := wk_z (i := 0) (f := 93) w0 rfl z_a0
  have f3 := sS_93 w0.1.1 g1
  refine pq_g (fun g4 => ?_)
  extract_lets +onlyGivenNames M6
  have w5 : Wk S Z hx N M M6 := wk_aL hN w0 rfl g4.1 z2 (sy_s f3 (hS 1093 rfl))
  refine pq_g (fun g7 => ?_)
  refine pq_g (fun _ => ?_)
  extract_lets +onlyGivenNames M9
  have w8 : Wk S Z hx N M M9 := wk_fI hN w5 rfl rfl g7 z_a0 (Or.inr (hS 96 rfl))
  exact pq_s w8
theorem wX59_set (S Z : Nat → Prop) {hx N : Nat} (hS : ∀ x, fe_mem lX59_set x = true → S x) (a0 : Nat) (a1 : Int32) (a2 : Int64) (M : FM) (w : WI Z hx N M) (z_a0 : Z a0) : pq (FX59_set a0 a1 a2 M) (QV S Z hx N M) := wX59_set_0 S Z hS a0 a1 a2 M w z_a0
def lX46_floatLoad : List Nat := [37, 39, 41, 96, 122, 123, 124, 174, 177, 179, 208, 227, 228, 229, 231, 232, 237, 238, 269, 270, 271, 272, 273, 274, 275, 276, 277, 289, 290, 292, 293, 294, 1093, 1121, 1178, 1201, 1203, 1204, 1278, 1279, 1295]
theorem wX46_floatLoad_68 (S Z : Nat → Prop) {hx N : Nat} (hS : ∀ x, fe_mem lX46_floatLoad x = true → S x) (n : Nat) (a0 : Nat) (s0 : Nat) (s1 : Int32) (s2 : Int64) (M : FM) (w : WI Z hx N M) (z_a0 : Z a0) (z_s0 : Z s0) : pq (FX46_floatLoad_68 n a0 s0 s1 s2 M) (QA S Z hx N M) := by
  have hN := w.2.2.1
  have w0 := wk_r (S := S) w
  delta FX46_floatLoad_68 BX46_floatLoad_68
  refine pq_g (fun g1 => ?_)
  refine pq_b (wX59_set S Z (sb rfl hS) _ _ _ _ w0.1 z_s0) (fun r2 K3 => ?_)
  have w4 := wk_t w0 K3 hN
  refine pq_g (fun g5 => ?_)
  have z6 := wk_z (i := 0) (f := 211) w4 rfl z_a0
  refine pq_g (fun g7 => ?_)
  refine pq_b (wX47_finish S Z (sb rfl hS) _ _ _ _ w4.1 z6) (fun r8 K9 => ?_)
  have w10 := wk_t w4 K9 hN
  refine pq_g (fun _ => ?_)
  exact pq_s w10
theorem wX46_floatLoad_0 (S Z : Nat → Prop) {hx N : Nat} (hS : ∀ x, fe_mem lX46_floatLoad x = true → S x) (n : Nat) (a0 : Nat) (M : FM) (w : WI Z hx N M) (z_a0 : Z a0) : pq (FX46_floatLoad_0 n a0 M) (QA S Z hx N M) := by
  have hN := w.2.2.1
  have w0 := wk_r (S := S) w
  delta FX46_floatLoad_0 BX46_floatLoad_0
  refine pq_g (fun g1 => ?_)
  have z2 := wk_z (i := 0) (f := 211) w0 rfl z_a0
  refine pq_g (fun g3 => ?_)
  refine pq_b (wX47_wanted S Z (sb rfl hS) _ _ _ w0.1 z2) (fun r4 K5 => ?_)
  have w6 := wk_t w0 K5 hN
  refine pq_g (fun g7 => ?_)
  have z8 := wk_z (i := 0) (f := 211) w6 rfl z_a0
  refine pq_g (fun g9 => ?_)
  refine pq_b (wX47_wanted S Z (sb rfl hS) _ _ _ w6.1 z8) (fun r10 K11 => ?_)
  have w12 := wk_t w6 K11 hN
  refine pq_g (fun g13 => ?_)
  refine pq_b (wX46_locate S Z (sb rfl hS) n _ _ _ _ _ w12.1 z_a0) (fun r14 K15 => ?_)
  have w16 := wk_t w12 K15 hN
  refine pq_fi (fun _ => ?_) (fun _ => ?_)
  · refine pq_g (fun _ => ?_)
    exact pq_s w16
  · refine pq_g (fun g17 => ?_)
    have z18 := wk_z (i := 0) (f := 217) w16 rfl z_a0
    refine pq_g (fun g19 => ?_)
    have z20 := wk_z (i := 0) (f := 210) w16 rfl z_a0
    refine pq_g (fun g21 => ?_)
    refine pq_b (wX73_load S Z (sb rfl hS) n _ _ _ w16.1 z18 z20) (fun r22 K23 => ?_)
    have w24 := wk_t w16 K23 hN
    refine pq_g (fun g25 => ?_)
    have z26 := wk_z (i := 0) (f := 212) w24 rfl z_a0
    refine pq_g (fun g27 => ?_)
    have z28 := wk_z (i := 0) (f := 211) w24 rfl z_a0
    refine pq_g (fun g29 => ?_)
    refine pq_b (wX47_wanted S Z (sb rfl hS) _ _ _ w24.1 z28) (fun r30 K31 => ?_)
    have w32 := wk_t w24 K31 hN
    refine pq_fi (fun _ => ?_) (fun _ => ?_)
    · exact q_tA hN w32 (wX46_floatLoad_68 S Z hS n _ _ _ _ _ w32.1 z_a0 z26)
    · exact q_tA hN w32 (wX46_floatLoad_68 S Z hS n _ _ _ _ _ w32.1 z_a0 z26)
theorem wX46_floatLoad (S Z : Nat → Prop) {hx N : Nat} (hS : ∀ x, fe_mem lX46_floatLoad x = true → S x) (n : Nat) (a0 : Nat) (M : FM) (w : WI Z hx N M) (z_a0 : Z a0) : pq (FX46_floatLoad n a0 M) (QA S Z hx N M) := wX46_floatLoad_0 S Z hS n a0 M w z_a0
def lX46_floatStore : List Nat := [22, 23, 37, 39, 41, 63, 64, 65, 66, 67, 70, 71, 72, 73, 74, 75, 76, 77, 80, 81, 82, 83, 84, 87, 88, 89, 90, 122, 123, 124, 174, 177, 179, 208, 227, 228, 229, 232, 234, 236, 237, 238, 269, 270, 271, 272, 273, 274, 275, 276, 277, 289, 290, 292, 293, 294, 1069, 1085, 1086, 1121, 1178, 1201, 1203, 1204, 1224, 1225, 1226, 1230, 1233, 1235, 1245, 1246, 1278, 1279, 1295]
theorem wX46_floatStore_0 (S Z : Nat → Prop) {hx N : Nat} (hS : ∀ x, fe_mem lX46_floatStore x = true → S x) (n : Nat) (a0 : Nat) (M : FM) (w : WI Z hx N M) (z_a0 : Z a0) : pq (FX46_floatStore_0 n a0 M) (QA S Z hx N M) := by
  have hN := w.2.2.1
  have w0 := wk_r (S := S) w
  delta FX46_floatStore_0 BX46_floatStore_0
  refine pq_g (fun g1 => ?_)
  have z2 := wk_z (i := 0) (f := 211) w0 rfl z_a0
  refine pq_g (fun g3 => ?_)
  refine pq_b (wX47_wanted S Z (sb rfl hS) _ _ _ w0.1 z2) (fun r4 K5 => ?_)
  have w6 := wk_t w0 K5 hN
  refine pq_g (fun g7 => ?_)
  have z8 := wk_z (i := 0) (f := 211) w6 rfl z_a0
  refine pq_g (fun g9 => ?_)
  refine pq_b (wX47_wanted S Z (sb rfl hS) _ _ _ w6.1 z8) (fun r10 K11 => ?_)
  have w12 := wk_t w6 K11 hN
  refine pq_g (fun g13 => ?_)
  refine pq_b (wX46_locate S Z (sb rfl hS) n _ _ _ _ _ w12.1 z_a0) (fun r14 K15 => ?_)
  have w16 := wk_t w12 K15 hN
  refine pq_fi (fun _ => ?_) (fun _ => ?_)
  · refine pq_g (fun _ => ?_)
    exact pq_s w16
  · refine pq_g (fun g17 => ?_)
    have z18 := wk_z (i := 0) (f := 217) w16 rfl z_a0
    refine pq_g (fun g19 => ?_)
    have z20 := wk_z (i := 0) (f := 210) w16 rfl z_a0
    refine pq_g (fun g21 => ?_)
    have z22 := wk_z (i := 0) (f := 212) w16 rfl z_a0
    refine pq_g (fun g23 => ?_)
    have z24 := wk_z (i := 0) (f := 93) w16 rfl z22
    have f25 := sS_93 w16.1.1 g23
    refine pq_g (fun g26 => ?_)
    refine pq_g (fun g27 => ?_)
    refine pq_g (fun g28 => ?_)
    refine pq_b (wX73_store S Z (sb rfl hS) n _ _ _ _ w16.1 z18 z20) (fun r29 K30 => ?_)
    have w31 := wk_t w16 K30 hN
    refine pq_g (fun g32 => ?_)
    have z33 := wk_z (i := 0) (f := 211) w31 rfl z_a0
    refine pq_g (fun g34 => ?_)
    refine pq_b (wX47_finish S Z (sb rfl hS) _ _ _ _ w31.1 z33) (fun r35 K36 => ?_)
    have w37 := wk_t w31 K36 hN
    refine pq_g (fun _ => ?_)
    exact pq_s w37
theorem wX46_floatStore (S Z : Nat → Prop) {hx N : Nat} (hS : ∀ x, fe_mem lX46_floatStore x = true → S x) (n : Nat) (a0 : Nat) (M : FM) (w : WI Z hx N M) (z_a0 : Z a0) : pq (FX46_floatStore n a0 M) (QA S Z hx N M) := wX46_floatStore_0 S Z hS n a0 M w z_a0
def lX59_isWritten : List Nat := []
theorem wX59_isWritten_22 (S Z : Nat → Prop) {hx N : Nat} (hS : ∀ x, fe_mem lX59_isWritten x = true → S x) (s0 : Int32) (M : FM) (w : WI Z hx N M) : pq (FX59_isWritten_22 s0 M) (QA S Z hx N M) := by
  have hN := w.2.2.1
  have w0 := wk_r (S := S) w
  delta FX59_isWritten_22 BX59_isWritten_22
  refine pq_g (fun _ => ?_)
  exact pq_s w0
theorem wX59_isWritten_17 (S Z : Nat → Prop) {hx N : Nat} (hS : ∀ x, fe_mem lX59_isWritten x = true → S x) (M : FM) (w : WI Z hx N M) : pq (FX59_isWritten_17 M) (QA S Z hx N M) := by
  have hN := w.2.2.1
  have w0 := wk_r (S := S) w
  delta FX59_isWritten_17 BX59_isWritten_17
  exact q_tA hN w0 (wX59_isWritten_22 S Z hS _ _ w0.1 )
theorem wX59_isWritten_0 (S Z : Nat → Prop) {hx N : Nat} (hS : ∀ x, fe_mem lX59_isWritten x = true → S x) (a0 : Nat) (M : FM) (w : WI Z hx N M) (z_a0 : Z a0) : pq (FX59_isWritten_0 a0 M) (QA S Z hx N M) := by
  have hN := w.2.2.1
  have w0 := wk_r (S := S) w
  delta FX59_isWritten_0 BX59_isWritten_0
  refine pq_g (fun g1 => ?_)
  refine pq_fi (fun _ => ?_) (fun _ => ?_)
  · refine pq_g (fun g2 => ?_)
    have z3 := wk_z (i := 0) (f := 94) w0 rfl z_a0
    refine pq_g (fun g4 => ?_)
    refine pq_fi (fun _ => ?_) (fun _ => ?_)
    · exact q_tA hN w0 (wX59_isWritten_22 S Z hS _ _ w0.1 )
    · exact q_tA hN w0 (wX59_isWritten_17 S Z hS _ w0.1 )
  · exact q_tA hN w0 (wX59_isWritten_17 S Z hS _ w0.1 )
theorem wX59_isWritten (S Z : Nat → Prop) {hx N : Nat} (hS : ∀ x, fe_mem lX59_isWritten x = true → S x) (a0 : Nat) (M : FM) (w : WI Z hx N M) (z_a0 : Z a0) : pq (FX59_isWritten a0 M) (QA S Z hx N M) := wX59_isWritten_0 S Z hS a0 M w z_a0
def lX59_part : List Nat := []
theorem wX59_part_0 (S Z : Nat → Prop) {hx N : Nat} (hS : ∀ x, fe_mem lX59_part x = true → S x) (a0 : Int32) (a1 : Int32) (a2 : Int32) (M : FM) (w : WI Z hx N M) : pq (FX59_part_0 a0 a1 a2 M) (QA S Z hx N M) := by
  have hN := w.2.2.1
  have w0 := wk_r (S := S) w
  delta FX59_part_0 BX59_part_0
  exact pq_s w0
theorem wX59_part (S Z : Nat → Prop) {hx N : Nat} (hS : ∀ x, fe_mem lX59_part x = true → S x) (a0 : Int32) (a1 : Int32) (a2 : Int32) (M : FM) (w : WI Z hx N M) : pq (FX59_part a0 a1 a2 M) (QA S Z hx N M) := wX59_part_0 S Z hS a0 a1 a2 M w 
def lX59_modeOf : List Nat := []
theorem wX59_modeOf_42 (S Z : Nat → Prop) {hx N : Nat} (hS : ∀ x, fe_mem lX59_modeOf x = true → S x) (s0 : Nat) (M : FM) (w : WI Z hx N M) (z_s0 : Z s0) : pq (FX59_modeOf_42 s0 M) (QR S Z hx N M) := by
  have hN := w.2.2.1
  have w0 := wk_r (S := S) w
  delta FX59_modeOf_42 BX59_modeOf_42
  exact pq_s ⟨w0, z_s0⟩
theorem wX59_modeOf_22 (S Z : Nat → Prop) {hx N : Nat} (hS : ∀ x, fe_mem lX59_modeOf x = true → S x) (a0 : Nat) (s0 : Int32) (M : FM) (w : WI Z hx N M) (z_a0 : Z a0) : pq (FX59_modeOf_22 a0 s0 M) (QR S Z hx N M) := by
  have hN := w.2.2.1
  have w0 := wk_r (S := S) w
  delta FX59_modeOf_22 BX59_modeOf_22
  refine pq_g (fun g1 => ?_)
  have z2 := wk_z (i := 0) (f := 99) w0 rfl z_a0
  have f3 := sS_99 w0.1.1 g1
  refine pq_g (fun g4 => ?_)
  refine pq_fi (fun _ => ?_) (fun _ => ?_)
  · exact q_tR hN w0 (wX59_modeOf_42 S Z hS _ _ w0.1 (wk_zc w0 rfl))
  · refine pq_g (fun g5 => ?_)
    have z6 := wk_z (i := 0) (f := 99) w0 rfl z_a0
    have f7 := sS_99 w0.1.1 g5
    refine pq_g (fun g8 => ?_)
    have z9 := fun i => wk_ze (i := i) w0 rfl g8.1 f7 rfl z6
    exact q_tR hN w0 (wX59_modeOf_42 S Z hS _ _ w0.1 (z9 _))
theorem wX59_modeOf_0 (S Z : Nat → Prop) {hx N : Nat} (hS : ∀ x, fe_mem lX59_modeOf x = true → S x) (a0 : Nat) (a1 : Int32) (M : FM) (w : WI Z hx N M) (z_a0 : Z a0) : pq (FX59_modeOf_0 a0 a1 M) (QR S Z hx N M) := by
  have hN := w.2.2.1
  have w0 := wk_r (S := S) w
  delta FX59_modeOf_0 BX59_modeOf_0
  refine pq_b (wX59_part S Z (sb rfl hS) _ _ _ _ w0.1 ) (fun r1 K2 => ?_)
  have w3 := wk_t w0 K2 hN
  refine pq_fi (fun _ => ?_) (fun _ => ?_)
  · refine pq_g (fun g4 => ?_)
    exact q_tR hN w3 (wX59_modeOf_22 S Z hS _ _ _ w3.1 z_a0)
  · exact q_tR hN w3 (wX59_modeOf_22 S Z hS _ _ _ w3.1 z_a0)
theorem wX59_modeOf (S Z : Nat → Prop) {hx N : Nat} (hS : ∀ x, fe_mem lX59_modeOf x = true → S x) (a0 : Nat) (a1 : Int32) (M : FM) (w : WI Z hx N M) (z_a0 : Z a0) : pq (FX59_modeOf a0 a1 M) (QR S Z hx N M) := wX59_modeOf_0 S Z hS a0 a1 M w z_a0
def lX59_isDouble : List Nat := []
theorem wX59_isDouble_14 (S Z : Nat → Prop) {hx N : Nat} (hS : ∀ x, fe_mem lX59_isDouble x = true → S x) (s0 : Int32) (M : FM) (w : WI Z hx N M) : pq (FX59_isDouble_14 s0 M) (QA S Z hx N M) := by
  have hN := w.2.2.1
  have w0 := wk_r (S := S) w
  delta FX59_isDouble_14 BX59_isDouble_14
  refine pq_g (fun _ => ?_)
  exact pq_s w0
theorem wX59_isDouble_0 (S Z : Nat → Prop) {hx N : Nat} (hS : ∀ x, fe_mem lX59_isDouble x = true → S x) (a0 : Nat) (M : FM) (w : WI Z hx N M) (z_a0 : Z a0) : pq (FX59_isDouble_0 a0 M) (QA S Z hx N M) := by
  have hN := w.2.2.1
  have w0 := wk_r (S := S) w
  delta FX59_isDouble_0 BX59_isDouble_0
  refine pq_g (fun g1 => ?_)
  refine pq_fi (fun _ => ?_) (fun _ => ?_)
  · exact q_tA hN w0 (wX59_isDouble_14 S Z hS _ _ w0.1 )
  · exact q_tA hN w0 (wX59_isDouble_14 S Z hS _ _ w0.1 )
theorem wX59_isDouble (S Z : Nat → Prop) {hx N : Nat} (hS : ∀ x, fe_mem lX59_isDouble x = true → S x) (a0 : Nat) (M : FM) (w : WI Z hx N M) (z_a0 : Z a0) : pq (FX59_isDouble a0 M) (QA S Z hx N M) := wX59_isDouble_0 S Z hS a0 M w z_a0
def lX61_top : List Nat := []
theorem wX61_top_0 (S Z : Nat → Prop) {hx N : Nat} (hS : ∀ x, fe_mem lX61_top x = true → S x) (a0 : Nat) (M : FM) (w : WI Z hx N M) (z_a0 : Z a0) : pq (FX61_top_0 a0 M) (QA S Z hx N M) := by
  have hN := w.2.2.1
  have w0 := wk_r (S := S) w
  delta FX61_top_0 BX61_top_0
  refine pq_g (fun g1 => ?_)
  refine pq_g (fun g2 => ?_)
  exact pq_s w0
theorem wX61_top (S Z : Nat → Prop) {hx N : Nat} (hS : ∀ x, fe_mem lX61_top x = true → S x) (a0 : Nat) (M : FM) (w : WI Z hx N M) (z_a0 : Z a0) : pq (FX61_top a0 M) (QA S Z hx N M) := wX61_top_0 S Z hS a0 M w z_a0
def lX61_quiet : List Nat := []
theorem wX61_quiet_0 (S Z : Nat → Prop) {hx N : Nat} (hS : ∀ x, fe_mem lX61_quiet x = true → S x) (a0 : Nat) (M : FM) (w : WI Z hx N M) (z_a0 : Z a0) : pq (FX61_quiet_0 a0 M) (QA S Z hx N M) := by
  have hN := w.2.2.1
  have w0 := wk_r (S := S) w
  delta FX61_quiet_0 BX61_quiet_0
  refine pq_g (fun g1 => ?_)
  refine pq_b (wX61_top S Z (sb rfl hS) _ _ w0.1 z_a0) (fun r2 K3 => ?_)
  have w4 := wk_t w0 K3 hN
  refine pq_g (fun g5 => ?_)
  exact pq_s w4
theorem wX61_quiet (S Z : Nat → Prop) {hx N : Nat} (hS : ∀ x, fe_mem lX61_quiet x = true → S x) (a0 : Nat) (M : FM) (w : WI Z hx N M) (z_a0 : Z a0) : pq (FX61_quiet a0 M) (QA S Z hx N M) := wX61_quiet_0 S Z hS a0 M w z_a0
def lX59_read : List Nat := []
theorem wX59_read_42 (S Z : Nat → Prop) {hx N : Nat} (hS : ∀ x, fe_mem lX59_read x = true → S x) (s0 : Int64) (M : FM) (w : WI Z hx N M) : pq (FX59_read_42 s0 M) (QA S Z hx N M) := by
  have hN := w.2.2.1
  have w0 := wk_r (S := S) w
  delta FX59_read_42 BX59_read_42
  exact pq_s w0
theorem wX59_read_0 (S Z : Nat → Prop) {hx N : Nat} (hS : ∀ x, fe_mem lX59_read x = true → S x) (a0 : Nat) (a1 : Int32) (a2 : Nat) (M : FM) (w : WI Z hx N M) (z_a0 : Z a0) (z_a2 : Z a2) : pq (FX59_read_0 a0 a1 a2 M) (QA S Z hx N M) := by
  have hN := w.2.2.1
  have w0 := wk_r (S := S) w
  delta FX59_read_0 BX59_read_0
  refine pq_g (fun g1 => ?_)
  have z2 := wk_z (i := 0) (f := 93) w0 rfl z_a0
  have f3 := sS_93 w0.1.1 g1
  refine pq_g (fun g4 => ?_)
  refine pq_b (wX59_isDouble S Z (sb rfl hS) _ _ w0.1 z_a2) (fun r5 K6 => ?_)
  have w7 := wk_t w0 K6 hN
  refine pq_fi (fun _ => ?_) (fun _ => ?_)
  · refine pq_fi (fun _ => ?_) (fun _ => ?_)
    · exact q_tA hN w7 (wX59_read_42 S Z hS _ _ w7.1 )
    · refine pq_g (fun g8 => ?_)
      refine pq_b (wX61_quiet S Z (sb rfl hS) _ _ w7.1 z_a2) (fun r9 K10 => ?_)
      have w11 := wk_t w7 K10 hN
      exact q_tA hN w11 (wX59_read_42 S Z hS _ _ w11.1 )
  · exact q_tA hN w7 (wX59_read_42 S Z hS _ _ w7.1 )
theorem wX59_read (S Z : Nat → Prop) {hx N : Nat} (hS : ∀ x, fe_mem lX59_read x = true → S x) (a0 : Nat) (a1 : Int32) (a2 : Nat) (M : FM) (w : WI Z hx N M) (z_a0 : Z a0) (z_a2 : Z a2) : pq (FX59_read a0 a1 a2 M) (QA S Z hx N M) := wX59_read_0 S Z hS a0 a1 a2 M w z_a0 z_a2
def lX61_hasSign : List Nat := []
theorem wX61_hasSign_18 (S Z : Nat → Prop) {hx N : Nat} (hS : ∀ x, fe_mem lX61_hasSign x = true → S x) (s0 : Int32) (M : FM) (w : WI Z hx N M) : pq (FX61_hasSign_18 s0 M) (QA S Z hx N M) := by
  have hN := w.2.2.1
  have w0 := wk_r (S := S) w
  delta FX61_hasSign_18 BX61_hasSign_18
  refine pq_g (fun _ => ?_)
  exact pq_s w0
theorem wX61_hasSign_0 (S Z : Nat → Prop) {hx N : Nat} (hS : ∀ x, fe_mem lX61_hasSign x = true → S x) (a0 : Nat) (a1 : Int64) (M : FM) (w : WI Z hx N M) (z_a0 : Z a0) : pq (FX61_hasSign_0 a0 a1 M) (QA S Z hx N M) := by
  have hN := w.2.2.1
  have w0 := wk_r (S := S) w
  delta FX61_hasSign_0 BX61_hasSign_0
  refine pq_g (fun g1 => ?_)
  refine pq_fi (fun _ => ?_) (fun _ => ?_)
  · exact q_tA hN w0 (wX61_hasSign_18 S Z hS _ _ w0.1 )
  · exact q_tA hN w0 (wX61_hasSign_18 S Z hS _ _ w0.1 )
theorem wX61_hasSign (S Z : Nat → Prop) {hx N : Nat} (hS : ∀ x, fe_mem lX61_hasSign x = true → S x) (a0 : Nat) (a1 : Int64) (M : FM) (w : WI Z hx N M) (z_a0 : Z a0) : pq (FX61_hasSign a0 a1 M) (QA S Z hx N M) := wX61_hasSign_0 S Z hS a0 a1 M w z_a0
def lX61_sign : List Nat := []
theorem wX61_sign_14 (S Z : Nat → Prop) {hx N : Nat} (hS : ∀ x, fe_mem lX61_sign x = true → S x) (s0 : Int64) (M : FM) (w : WI Z hx N M) : pq (FX61_sign_14 s0 M) (QA S Z hx N M) := by
  have hN := w.2.2.1
  have w0 := wk_r (S := S) w
  delta FX61_sign_14 BX61_sign_14
  exact pq_s w0
theorem wX61_sign_0 (S Z : Nat → Prop) {hx N : Nat} (hS : ∀ x, fe_mem lX61_sign x = true → S x) (a0 : Nat) (a1 : Int32) (M : FM) (w : WI Z hx N M) (z_a0 : Z a0) : pq (FX61_sign_0 a0 a1 M) (QA S Z hx N M) := by
  have hN := w.2.2.1
  have w0 := wk_r (S := S) w
  delta FX61_sign_0 BX61_sign_0
  refine pq_fi (fun _ => ?_) (fun _ => ?_)
  · exact q_tA hN w0 (wX61_sign_14 S Z hS _ _ w0.1 )
  · refine pq_g (fun g1 => ?_)
    exact q_tA hN w0 (wX61_sign_14 S Z hS _ _ w0.1 )
theorem wX61_sign (S Z : Nat → Prop) {hx N : Nat} (hS : ∀ x, fe_mem lX61_sign x = true → S x) (a0 : Nat) (a1 : Int32) (M : FM) (w : WI Z hx N M) (z_a0 : Z a0) : pq (FX61_sign a0 a1 M) (QA S Z hx N M) := wX61_sign_0 S Z hS a0 a1 M w z_a0
def lX59_write : List Nat := [96, 1093]
theorem wX59_write_27 (S Z : Nat → Prop) {hx N : Nat} (hS : ∀ x, fe_mem lX59_write x = true → S x) (a0 : Nat) (s0 : Nat) (s1 : Int32) (s2 : Int64) (M : FM) (w : WI Z hx N M) (z_a0 : Z a0) (z_s0 : Z s0) (y_s0 : Sy S N M s0) : pq (FX59_write_27 a0 s0 s1 s2 M) (QA S Z hx N M) := by
  have hN := w.2.2.1
  have w0 := wk_r (S := S) w
  delta FX59_write_27 BX59_write_27
  refine pq_g (fun g1 => ?_)
  extract_lets +onlyGivenNames M3
  have w2 : Wk S Z hx N M M3 := wk_aL hN w0 rfl g1.1 z_s0 y_s0
  refine pq_g (fun g4 => ?_)
  refine pq_g (fun _ => ?_)
  extract_lets +onlyGivenNames M6
  have w5 : Wk S Z hx N M M6 := wk_fI hN w2 rfl rfl g4 z_a0 (Or.inr (hS 96 rfl))
  exact pq_s w5
theorem wX59_write_0 (S Z : Nat → Prop) {hx N : Nat} (hS : ∀ x, fe_mem lX59_write x = true → S x) (a0 : Nat) (a1 : Int32) (a2 : Nat) (a3 : Int64) (M : FM) (w : WI Z hx N M) (z_a0 : Z a0) (z_a2 : Z a2) : pq (FX59_write_0 a0 a1 a2 a3 M) (QA S Z hx N M) := by
  have hN := w.2.2.1
  have w0 := wk_r (S := S) w
  delta FX59_write_0 BX59_write_0
  refine pq_g (fun g1 => ?_)
  have z2 := wk_z (i := 0) (f := 93) w0 rfl z_a0
  have f3 := sS_93 w0.1.1 g1
  refine pq_b (wX59_part S Z (sb rfl hS) _ _ _ _ w0.1 ) (fun r4 K5 => ?_)
  have w6 := wk_t w0 K5 hN
  have f7 := sf_k w0.1.1 K5 f3
  refine pq_b (wX59_isDouble S Z (sb rfl hS) _ _ w6.1 z_a2) (fun r8 K9 => ?_)
  have w10 := wk_t w6 K9 hN
  have f11 := sf_k w6.1.1 K9 f7
  refine pq_fi (fun _ => ?_) (fun _ => ?_)
  · exact q_tA hN w10 (wX59_write_27 S Z hS _ _ _ _ _ w10.1 z_a0 z2 (sy_s f11 (hS 1093 rfl)))
  · exact q_tA hN w10 (wX59_write_27 S Z hS _ _ _ _ _ w10.1 z_a0 z2 (sy_s f11 (hS 1093 rfl)))
theorem wX59_write (S Z : Nat → Prop) {hx N : Nat} (hS : ∀ x, fe_mem lX59_write x = true → S x) (a0 : Nat) (a1 : Int32) (a2 : Nat) (a3 : Int64) (M : FM) (w : WI Z hx N M) (z_a0 : Z a0) (z_a2 : Z a2) : pq (FX59_write a0 a1 a2 a3 M) (QA S Z hx N M) := wX59_write_0 S Z hS a0 a1 a2 a3 M w z_a0 z_a2
def lX59_changeSign : List Nat := [96, 1093]
theorem wX59_changeSign_92 (S Z : Nat → Prop) {hx N : Nat} (hS : ∀ x, fe_mem lX59_changeSign x = true → S x) (a0 : Nat) (a1 : Int32) (a2 : Nat) (a3 : Int64) (s0 : Int32) (M : FM) (w : WI Z hx N M) (z_a0 : Z a0) (z_a2 : Z a2) : pq (FX59_changeSign_92 a0 a1 a2 a3 s0 M) (QA S Z hx N M) := by
  have hN := w.2.2.1
  have w0 := wk_r (S := S) w
  delta FX59_changeSign_92 BX59_changeSign_92
  refine pq_g (fun g1 => ?_)
  refine pq_b (wX61_sign S Z (sb rfl hS) _ _ _ w0.1 z_a2) (fun r2 K3 => ?_)
  have w4 := wk_t w0 K3 hN
  refine pq_g (fun g5 => ?_)
  refine pq_b (wX61_sign S Z (sb rfl hS) _ _ _ w4.1 z_a2) (fun r6 K7 => ?_)
  have w8 := wk_t w4 K7 hN
  refine pq_g (fun g9 => ?_)
  refine pq_b (wX59_write S Z (sb rfl hS) _ _ _ _ _ w8.1 z_a0 z_a2) (fun r10 K11 => ?_)
  have w12 := wk_t w8 K11 hN
  exact pq_s w12
theorem wX59_changeSign_0 (S Z : Nat → Prop) {hx N : Nat} (hS : ∀ x, fe_mem lX59_changeSign x = true → S x) (a0 : Nat) (a1 : Int32) (a2 : Nat) (M : FM) (w : WI Z hx N M) (z_a0 : Z a0) (z_a2 : Z a2) : pq (FX59_changeSign_0 a0 a1 a2 M) (QA S Z hx N M) := by
  have hN := w.2.2.1
  have w0 := wk_r (S := S) w
  delta FX59_changeSign_0 BX59_changeSign_0
  refine pq_b (wX59_part S Z (sb rfl hS) _ _ _ _ w0.1 ) (fun r1 K2 => ?_)
  have w3 := wk_t w0 K2 hN
  refine pq_g (fun g4 => ?_)
  refine pq_b (wX59_read S Z (sb rfl hS) _ _ _ _ w3.1 z_a0 z_a2) (fun r5 K6 => ?_)
  have w7 := wk_t w3 K6 hN
  refine pq_b (wX59_part S Z (sb rfl hS) _ _ _ _ w7.1 ) (fun r8 K9 => ?_)
  have w10 := wk_t w7 K9 hN
  refine pq_g (fun g11 => ?_)
  refine pq_b (wX59_read S Z (sb rfl hS) _ _ _ _ w10.1 z_a0 z_a2) (fun r12 K13 => ?_)
  have w14 := wk_t w10 K13 hN
  refine pq_g (fun g15 => ?_)
  refine pq_b (wX61_hasSign S Z (sb rfl hS) _ _ _ w14.1 z_a2) (fun r16 K17 => ?_)
  have w18 := wk_t w14 K17 hN
  refine pq_b (wX59_part S Z (sb rfl hS) _ _ _ _ w18.1 ) (fun r19 K20 => ?_)
  have w21 := wk_t w18 K20 hN
  refine pq_fi (fun _ => ?_) (fun _ => ?_)
  · refine pq_fi (fun _ => ?_) (fun _ => ?_)
    · exact q_tA hN w21 (wX59_changeSign_92 S Z hS _ _ _ _ _ _ w21.1 z_a0 z_a2)
    · refine pq_fi (fun _ => ?_) (fun _ => ?_)
      · refine pq_fi (fun _ => ?_) (fun _ => ?_)
        · exact q_tA hN w21 (wX59_changeSign_92 S Z hS _ _ _ _ _ _ w21.1 z_a0 z_a2)
        · exact q_tA hN w21 (wX59_changeSign_92 S Z hS _ _ _ _ _ _ w21.1 z_a0 z_a2)
      · refine pq_g (fun g22 => ?_)
        refine pq_b (wX61_hasSign S Z (sb rfl hS) _ _ _ w21.1 z_a2) (fun r23 K24 => ?_)
        have w25 := wk_t w21 K24 hN
        refine pq_fi (fun _ => ?_) (fun _ => ?_)
        · exact q_tA hN w25 (wX59_changeSign_92 S Z hS _ _ _ _ _ _ w25.1 z_a0 z_a2)
        · exact q_tA hN w25 (wX59_changeSign_92 S Z hS _ _ _ _ _ _ w25.1 z_a0 z_a2)
  · exact pq_s w21
theorem wX59_changeSign (S Z : Nat → Prop) {hx N : Nat} (hS : ∀ x, fe_mem lX59_changeSign x = true → S x) (a0 : Nat) (a1 : Int32) (a2 : Nat) (M : FM) (w : WI Z hx N M) (z_a0 : Z a0) (z_a2 : Z a2) : pq (FX59_changeSign a0 a1 a2 M) (QA S Z hx N M) := wX59_changeSign_0 S Z hS a0 a1 a2 M w z_a0 z_a2
def lX71_become : List Nat := [114, 115]
theorem wX71_become_0 (S Z : Nat → Prop) {hx N : Nat} (hS : ∀ x, fe_mem lX71_become x = true → S x) (a0 : Nat) (a1 : Nat) (a2 : Int32) (M : FM) (w : WI Z hx N M) (z_a0 : Z a0) (z_a1 : Z a1) : pq (FX71_become_0 a0 a1 a2 M) (QV S Z hx N M) := by
  have hN := w.2.2.1
  have w0 := wk_r (S := S) w
  delta FX71_become_0 BX71_become_0
  refine pq_g (fun g1 => ?_)
  extract_lets +onlyGivenNames M3
  have w2 : Wk S Z hx N M M3 := wk_fR hN w0 rfl rfl g1 z_a0 (Or.inr (hS 114 rfl)) z_a1 rfl rfl
  refine pq_g (fun g4 => ?_)
  refine pq_g (fun _ => ?_)
  extract_lets +onlyGivenNames M6
  have w5 : Wk S Z hx N M M6 := wk_fI hN w2 rfl rfl g4 z_a0 (Or.inr (hS 115 rfl))
  exact pq_s w5
theorem wX71_become (S Z : Nat → Prop) {hx N : Nat} (hS : ∀ x, fe_mem lX71_become x = true → S x) (a0 : Nat) (a1 : Nat) (a2 : Int32) (M : FM) (w : WI Z hx N M) (z_a0 : Z a0) (z_a1 : Z a1) : pq (FX71_become a0 a1 a2 M) (QV S Z hx N M) := wX71_become_0 S Z hS a0 a1 a2 M w z_a0 z_a1
def lX62_set : List Nat := [119, 120]
theorem wX62_set_0 (S Z : Nat → Prop) {hx N : Nat} (hS : ∀ x, fe_mem lX62_set x = true → S x) (a0 : Nat) (a1 : Int64) (M : FM) (w : WI Z hx N M) (z_a0 : Z a0) : pq (FX62_set_0 a0 a1 M) (QV S Z hx N M) := by
  have hN := w.2.2.1
  have w0 := wk_r (S := S) w
  delta FX62_set_0 BX62_set_0
  refine pq_g (fun g1 => ?_)
  extract_lets +onlyGivenNames M3
  have w2 : Wk S Z hx N M M3 := wk_fL hN w0 rfl rfl g1 z_a0 (Or.inr (hS 119 rfl))
  refine pq_g (fun g4 => ?_)
  extract_lets +onlyGivenNames M6
  have w5 : Wk S Z hx N M M6 := wk_fL hN w2 rfl rfl g4 z_a0 (Or.inr (hS 120 rfl))
  exact pq_s w5
theorem wX62_set (S Z : Nat → Prop) {hx N : Nat} (hS : ∀ x, fe_mem lX62_set x = true → S x) (a0 : Nat) (a1 : Int64) (M : FM) (w : WI Z hx N M) (z_a0 : Z a0) : pq (FX62_set a0 a1 M) (QV S Z hx N M) := wX62_set_0 S Z hS a0 a1 M w z_a0
def lX71_number : List Nat := [114, 115, 116, 119, 120]
theorem wX71_number_16 (S Z : Nat → Prop) {hx N : Nat} (hS : ∀ x, fe_mem lX71_number x = true → S x) (a0 : Nat) (a1 : Int32) (a2 : Int64) (a4 : Int32) (s0 : Nat) (s1 : Nat) (M : FM) (w : WI Z hx N M) (z_a0 : Z a0) (z_s0 : Z s0) (z_s1 : Z s1) : pq (FX71_number_16 a0 a1 a2 a4 s0 s1 M) (QV S Z hx N M) := by
  have hN := w.2.2.1
  have w0 := wk_r (S := S) w
  delta FX71_number_16 BX71_number_16
  refine pq_g (fun g1 => ?_)
  refine pq_b (wX71_become S Z (sb rfl hS) _ _ _ _ w0.1 z_s0 z_s1) (fun r2 K3 => ?_)
  have w4 := wk_t w0 K3 hN
  refine pq_g (fun g5 => ?_)
  have z6 := wk_z (i := 0) (f := 117) w4 rfl z_a0
  refine pq_g (fun g7 => ?_)
  refine pq_b (wX62_set S Z (sb rfl hS) _ _ _ w4.1 z6) (fun r8 K9 => ?_)
  have w10 := wk_t w4 K9 hN
  refine pq_g (fun g11 => ?_)
  extract_lets +onlyGivenNames M13
  have w12 : Wk S Z hx N M M13 := wk_fI hN w10 rfl rfl g11 z_a0 (Or.inr (hS 116 rfl))
  exact pq_s w12
theorem wX71_number_0 (S Z : Nat → Prop) {hx N : Nat} (hS : ∀ x, fe_mem lX71_number x = true → S x) (a0 : Nat) (a1 : Int32) (a2 : Int64) (a4 : Int32) (M : FM) (w : WI Z hx N M) (z_a0 : Z a0) : pq (FX71_number_0 a0 a1 a2 a4 M) (QV S Z hx N M) := by
  have hN := w.2.2.1
  have w0 := wk_r (S := S) w
  delta FX71_number_0 BX71_number_0
  refine pq_fi (fun _ => ?_) (fun _ => ?_)
  · exact q_tV hN w0 (wX71_number_16 S Z hS _ _ _ _ _ _ _ w0.1 z_a0 z_a0 (wk_zc w0 rfl))
  · exact q_tV hN w0 (wX71_number_16 S Z hS _ _ _ _ _ _ _ w0.1 z_a0 z_a0 (wk_zc w0 rfl))
theorem wX71_number (S Z : Nat → Prop) {hx N : Nat} (hS : ∀ x, fe_mem lX71_number x = true → S x) (a0 : Nat) (a1 : Int32) (a2 : Int64) (a4 : Int32) (M : FM) (w : WI Z hx N M) (z_a0 : Z a0) : pq (FX71_number a0 a1 a2 a4 M) (QV S Z hx N M) := wX71_number_0 S Z hS a0 a1 a2 a4 M w z_a0
def lX61_take : List Nat := [114, 115, 116, 118, 119, 120]
theorem wX61_take_158 (S Z : Nat → Prop) {hx N : Nat} (hS : ∀ x, fe_mem lX61_take x = true → S x) (M : FM) (w : WI Z hx N M) : pq (FX61_take_158 M) (QV S Z hx N M) := by
  have hN := w.2.2.1
  have w0 := wk_r (S := S) w
  delta FX61_take_158 BX61_take_158
  exact pq_s w0
theorem wX61_take_145 (S Z : Nat → Prop) {hx N : Nat} (hS : ∀ x, fe_mem lX61_take x = true → S x) (a0 : Nat) (s0 : Nat) (s1 : Int32) (s2 : Int64) (s3 : Int32) (M : FM) (w : WI Z hx N M) (z_a0 : Z a0) (z_s0 : Z s0) : pq (FX61_take_145 a0 s0 s1 s2 s3 M) (QV S Z hx N M) := by
  have hN := w.2.2.1
  have w0 := wk_r (S := S) w
  delta FX61_take_145 BX61_take_145
  refine pq_g (fun g1 => ?_)
  refine pq_g (fun g2 => ?_)
  refine pq_g (fun g3 => ?_)
  refine pq_b (wX71_number S Z (sb rfl hS) _ _ _ _ _ w0.1 z_s0) (fun r4 K5 => ?_)
  have w6 := wk_t w0 K5 hN
  exact q_tV hN w6 (wX61_take_158 S Z hS _ w6.1 )
theorem wX61_take_134 (S Z : Nat → Prop) {hx N : Nat} (hS : ∀ x, fe_mem lX61_take x = true → S x) (a0 : Nat) (a6 : Int32) (s0 : Nat) (s1 : Int32) (s2 : Int64) (M : FM) (w : WI Z hx N M) (z_a0 : Z a0) (z_s0 : Z s0) : pq (FX61_take_134 a0 a6 s0 s1 s2 M) (QV S Z hx N M) := by
  have hN := w.2.2.1
  have w0 := wk_r (S := S) w
  delta FX61_take_134 BX61_take_134
  refine pq_fi (fun _ => ?_) (fun _ => ?_)
  · exact q_tV hN w0 (wX61_take_145 S Z hS _ _ _ _ _ _ w0.1 z_a0 z_s0)
  · exact q_tV hN w0 (wX61_take_145 S Z hS _ _ _ _ _ _ w0.1 z_a0 z_s0)
theorem wX61_take_104 (S Z : Nat → Prop) {hx N : Nat} (hS : ∀ x, fe_mem lX61_take x = true → S x) (a7 : Int32) (s0 : Nat) (s1 : Nat) (M : FM) (w : WI Z hx N M) (z_s0 : Z s0) (z_s1 : Z s1) : pq (FX61_take_104 a7 s0 s1 M) (QV S Z hx N M) := by
  have hN := w.2.2.1
  have w0 := wk_r (S := S) w
  delta FX61_take_104 BX61_take_104
  refine pq_g (fun g1 => ?_)
  refine pq_b (wX71_become S Z (sb rfl hS) _ _ _ _ w0.1 z_s0 z_s1) (fun r2 K3 => ?_)
  have w4 := wk_t w0 K3 hN
  exact q_tV hN w4 (wX61_take_158 S Z hS _ w4.1 )
theorem wX61_take_74 (S Z : Nat → Prop) {hx N : Nat} (hS : ∀ x, fe_mem lX61_take x = true → S x) (a3 : Nat) (a4 : Int64) (a7 : Int32) (s0 : Int32) (M : FM) (w : WI Z hx N M) (z_a3 : Z a3) : pq (FX61_take_74 a3 a4 a7 s0 M) (QV S Z hx N M) := by
  have hN := w.2.2.1
  have w0 := wk_r (S := S) w
  delta FX61_take_74 BX61_take_74
  refine pq_fi (fun _ => ?_) (fun _ => ?_)
  · exact q_tV hN w0 (wX61_take_104 S Z hS _ _ _ _ w0.1 z_a3 (wk_zc w0 rfl))
  · refine pq_fi (fun _ => ?_) (fun _ => ?_)
    · exact q_tV hN w0 (wX61_take_104 S Z hS _ _ _ _ w0.1 z_a3 (wk_zc w0 rfl))
    · exact q_tV hN w0 (wX61_take_104 S Z hS _ _ _ _ w0.1 z_a3 (wk_zc w0 rfl))
theorem wX61_take_0 (S Z : Nat → Prop) {hx N : Nat} (hS : ∀ x, fe_mem lX61_take x = true → S x) (a0 : Nat) (a1 : Int64) (a3 : Nat) (M : FM) (w : WI Z hx N M) (z_a0 : Z a0) (z_a3 : Z a3) : pq (FX61_take_0 a0 a1 a3 M) (QV S Z hx N M) := by
  have hN := w.2.2.1
  have w0 := wk_r (S := S) w
  delta FX61_take_0 BX61_take_0
  refine pq_g (fun g1 => ?_)
  refine pq_g (fun g2 => ?_)
  refine pq_g (fun g3 => ?_)
  refine pq_g (fun g4 => ?_)
  refine pq_b (wX61_hasSign S Z (sb rfl hS) _ _ _ w0.1 z_a0) (fun r5 K6 => ?_)
  have w7 := wk_t w0 K6 hN
  refine pq_g (fun g8 => ?_)
  extract_lets +onlyGivenNames M10
  have w9 : Wk S Z hx N M M10 := wk_fL hN w7 rfl rfl g8 z_a3 (Or.inr (hS 118 rfl))
  refine pq_g (fun g11 => ?_)
  refine pq_fi (fun _ => ?_) (fun _ => ?_)
  · refine pq_g (fun g12 => ?_)
    refine pq_fi (fun _ => ?_) (fun _ => ?_)
    · exact q_tV hN w9 (wX61_take_74 S Z hS _ _ _ _ _ w9.1 z_a3)
    · exact q_tV hN w9 (wX61_take_74 S Z hS _ _ _ _ _ w9.1 z_a3)
  · refine pq_fi (fun _ => ?_) (fun _ => ?_)
    · exact q_tV hN w9 (wX61_take_134 S Z hS _ _ _ _ _ _ w9.1 z_a0 z_a3)
    · refine pq_g (fun g13 => ?_)
      exact q_tV hN w9 (wX61_take_134 S Z hS _ _ _ _ _ _ w9.1 z_a0 z_a3)
theorem wX61_take (S Z : Nat → Prop) {hx N : Nat} (hS : ∀ x, fe_mem lX61_take x = true → S x) (a0 : Nat) (a1 : Int64) (a3 : Nat) (M : FM) (w : WI Z hx N M) (z_a0 : Z a0) (z_a3 : Z a3) : pq (FX61_take a0 a1 a3 M) (QV S Z hx N M) := wX61_take_0 S Z hS a0 a1 a3 M w z_a0 z_a3
def lX59_take : List Nat := [114, 115, 116, 118, 119, 120]
theorem wX59_take_0 (S Z : Nat → Prop) {hx N : Nat} (hS : ∀ x, fe_mem lX59_take x = true → S x) (a0 : Nat) (a1 : Int32) (a2 : Nat) (a3 : Nat) (M : FM) (w : WI Z hx N M) (z_a0 : Z a0) (z_a2 : Z a2) (z_a3 : Z a3) : pq (FX59_take_0 a0 a1 a2 a3 M) (QV S Z hx N M) := by
  have hN := w.2.2.1
  have w0 := wk_r (S := S) w
  delta FX59_take_0 BX59_take_0
  refine pq_g (fun g1 => ?_)
  refine pq_b (wX59_read S Z (sb rfl hS) _ _ _ _ w0.1 z_a0 z_a2) (fun r2 K3 => ?_)
  have w4 := wk_t w0 K3 hN
  refine pq_g (fun g5 => ?_)
  refine pq_b (wX61_take S Z (sb rfl hS) _ _ _ _ w4.1 z_a2 z_a3) (fun r6 K7 => ?_)
  have w8 := wk_t w4 K7 hN
  exact pq_s w8
theorem wX59_take (S Z : Nat → Prop) {hx N : Nat} (hS : ∀ x, fe_mem lX59_take x = true → S x) (a0 : Nat) (a1 : Int32) (a2 : Nat) (a3 : Nat) (M : FM) (w : WI Z hx N M) (z_a0 : Z a0) (z_a2 : Z a2) (z_a3 : Z a3) : pq (FX59_take a0 a1 a2 a3 M) (QV S Z hx N M) := wX59_take_0 S Z hS a0 a1 a2 a3 M w z_a0 z_a2 z_a3
def lX72_isNone : List Nat := []
theorem wX72_isNone_19 (S Z : Nat → Prop) {hx N : Nat} (hS : ∀ x, fe_mem lX72_isNone x = true → S x) (s0 : Int32) (M : FM) (w : WI Z hx N M) : pq (FX72_isNone_19 s0 M) (QA S Z hx N M) := by
  have hN := w.2.2.1
  have w0 := wk_r (S := S) w
  delta FX72_isNone_19 BX72_isNone_19
  refine pq_g (fun _ => ?_)
  exact pq_s w0
theorem wX72_isNone_14 (S Z : Nat → Prop) {hx N : Nat} (hS : ∀ x, fe_mem lX72_isNone x = true → S x) (M : FM) (w : WI Z hx N M) : pq (FX72_isNone_14 M) (QA S Z hx N M) := by
  have hN := w.2.2.1
  have w0 := wk_r (S := S) w
  delta FX72_isNone_14 BX72_isNone_14
  exact q_tA hN w0 (wX72_isNone_19 S Z hS _ _ w0.1 )
theorem wX72_isNone_0 (S Z : Nat → Prop) {hx N : Nat} (hS : ∀ x, fe_mem lX72_isNone x = true → S x) (a0 : Nat) (M : FM) (w : WI Z hx N M) (z_a0 : Z a0) : pq (FX72_isNone_0 a0 M) (QA S Z hx N M) := by
  have hN := w.2.2.1
  have w0 := wk_r (S := S) w
  delta FX72_isNone_0 BX72_isNone_0
  refine pq_g (fun _ => ?_)
  refine pq_fi (fun _ => ?_) (fun _ => ?_)
  · exact q_tA hN w0 (wX72_isNone_14 S Z hS _ w0.1 )
  · refine pq_g (fun _ => ?_)
    refine pq_fi (fun _ => ?_) (fun _ => ?_)
    · exact q_tA hN w0 (wX72_isNone_14 S Z hS _ w0.1 )
    · exact q_tA hN w0 (wX72_isNone_19 S Z hS _ _ w0.1 )
theorem wX72_isNone (S Z : Nat → Prop) {hx N : Nat} (hS : ∀ x, fe_mem lX72_isNone x = true → S x) (a0 : Nat) (M : FM) (w : WI Z hx N M) (z_a0 : Z a0) : pq (FX72_isNone a0 M) (QA S Z hx N M) := wX72_isNone_0 S Z hS a0 M w z_a0
def lX71_is : List Nat := []
theorem wX71_is_13 (S Z : Nat → Prop) {hx N : Nat} (hS : ∀ x, fe_mem lX71_is x = true → S x) (s0 : Int32) (M : FM) (w : WI Z hx N M) : pq (FX71_is_13 s0 M) (QA S Z hx N M) := by
  have hN := w.2.2.1
  have w0 := wk_r (S := S) w
  delta FX71_is_13 BX71_is_13
  refine pq_g (fun _ => ?_)
  exact pq_s w0
theorem wX71_is_0 (S Z : Nat → Prop) {hx N : Nat} (hS : ∀ x, fe_mem lX71_is x = true → S x) (a0 : Nat) (a1 : Nat) (M : FM) (w : WI Z hx N M) (z_a0 : Z a0) (z_a1 : Z a1) : pq (FX71_is_0 a0 a1 M) (QA S Z hx N M) := by
  have hN := w.2.2.1
  have w0 := wk_r (S := S) w
  delta FX71_is_0 BX71_is_0
  refine pq_g (fun g1 => ?_)
  have z2 := wk_z (i := 0) (f := 114) w0 rfl z_a0
  refine pq_g (fun _ => ?_)
  refine pq_fi (fun _ => ?_) (fun _ => ?_)
  · exact q_tA hN w0 (wX71_is_13 S Z hS _ _ w0.1 )
  · exact q_tA hN w0 (wX71_is_13 S Z hS _ _ w0.1 )
theorem wX71_is (S Z : Nat → Prop) {hx N : Nat} (hS : ∀ x, fe_mem lX71_is x = true → S x) (a0 : Nat) (a1 : Nat) (M : FM) (w : WI Z hx N M) (z_a0 : Z a0) (z_a1 : Z a1) : pq (FX71_is a0 a1 M) (QA S Z hx N M) := wX71_is_0 S Z hS a0 a1 M w z_a0 z_a1
def lX60_raise : List Nat := [91, 92]
theorem wX60_raise_24 (S Z : Nat → Prop) {hx N : Nat} (hS : ∀ x, fe_mem lX60_raise x = true → S x) (s0 : Nat) (s1 : Int32) (s2 : Int32) (M : FM) (w : WI Z hx N M) (z_s0 : Z s0) : pq (FX60_raise_24 s0 s1 s2 M) (QV S Z hx N M) := by
  have hN := w.2.2.1
  have w0 := wk_r (S := S) w
  delta FX60_raise_24 BX60_raise_24
  refine pq_g (fun g1 => ?_)
  refine pq_g (fun _ => ?_)
  extract_lets +onlyGivenNames M3
  have w2 : Wk S Z hx N M M3 := wk_fI hN w0 rfl rfl g1 z_s0 (Or.inr (hS 92 rfl))
  exact pq_s w2
theorem wX60_raise_0 (S Z : Nat → Prop) {hx N : Nat} (hS : ∀ x, fe_mem lX60_raise x = true → S x) (a0 : Nat) (a1 : Int32) (M : FM) (w : WI Z hx N M) (z_a0 : Z a0) : pq (FX60_raise_0 a0 a1 M) (QV S Z hx N M) := by
  have hN := w.2.2.1
  have w0 := wk_r (S := S) w
  delta FX60_raise_0 BX60_raise_0
  refine pq_g (fun g1 => ?_)
  refine pq_g (fun g2 => ?_)
  extract_lets +onlyGivenNames M4
  have w3 : Wk S Z hx N M M4 := wk_fI hN w0 rfl rfl g2 z_a0 (Or.inr (hS 91 rfl))
  refine pq_g (fun g5 => ?_)
  refine pq_fi (fun _ => ?_) (fun _ => ?_)
  · exact q_tV hN w3 (wX60_raise_24 S Z hS _ _ _ _ w3.1 z_a0)
  · exact q_tV hN w3 (wX60_raise_24 S Z hS _ _ _ _ w3.1 z_a0)
theorem wX60_raise (S Z : Nat → Prop) {hx N : Nat} (hS : ∀ x, fe_mem lX60_raise x = true → S x) (a0 : Nat) (a1 : Int32) (M : FM) (w : WI Z hx N M) (z_a0 : Z a0) : pq (FX60_raise a0 a1 M) (QV S Z hx N M) := wX60_raise_0 S Z hS a0 a1 M w z_a0
def lX108_lengthOf : List Nat := []
theorem wX108_lengthOf_59 (S Z : Nat → Prop) {hx N : Nat} (hS : ∀ x, fe_mem lX108_lengthOf x = true → S x) (n : Nat) (k9 : Int64 → Int32 → Int32 → FM → Option (Int32 × FM)) (hk9 : ∀ (a2 : Int64) (a4 : Int32) (a5 : Int32) (M : FM), WI Z hx N M → pq (k9 a2 a4 a5 M) (QA S Z hx N M)) (s0 : Int32) (M : FM) (w : WI Z hx N M) : pq (FX108_lengthOf_59 n k9 s0 M) (QA S Z hx N M) := by
  have hN := w.2.2.1
  have w0 := wk_r (S := S) w
  delta FX108_lengthOf_59 BX108_lengthOf_59
  exact pq_s w0
theorem wX108_lengthOf_35 (S Z : Nat → Prop) {hx N : Nat} (hS : ∀ x, fe_mem lX108_lengthOf x = true → S x) (n : Nat) (k9 : Int64 → Int32 → Int32 → FM → Option (Int32 × FM)) (hk9 : ∀ (a2 : Int64) (a4 : Int32) (a5 : Int32) (M : FM), WI Z hx N M → pq (k9 a2 a4 a5 M) (QA S Z hx N M)) (a2 : Int64) (a4 : Int32) (a5 : Int32) (M : FM) (w : WI Z hx N M) : pq (FX108_lengthOf_35 n k9 a2 a4 a5 M) (QA S Z hx N M) := by
  have hN := w.2.2.1
  have w0 := wk_r (S := S) w
  delta FX108_lengthOf_35 BX108_lengthOf_35
  exact q_tA hN w0 (hk9 _ _ _ _ w0.1 )
theorem wX108_lengthOf_9 (S Z : Nat → Prop) {hx N : Nat} (hS : ∀ x, fe_mem lX108_lengthOf x = true → S x) (n : Nat) (k9 : Int64 → Int32 → Int32 → FM → Option (Int32 × FM)) (hk9 : ∀ (a2 : Int64) (a4 : Int32) (a5 : Int32) (M : FM), WI Z hx N M → pq (k9 a2 a4 a5 M) (QA S Z hx N M)) (a2 : Int64) (a4 : Int32) (a5 : Int32) (M : FM) (w : WI Z hx N M) : pq (FX108_lengthOf_9 n k9 a2 a4 a5 M) (QA S Z hx N M) := by
  have hN := w.2.2.1
  have w0 := wk_r (S := S) w
  delta FX108_lengthOf_9 BX108_lengthOf_9
  refine pq_fi (fun _ => ?_) (fun _ => ?_)
  · refine pq_fi (fun _ => ?_) (fun _ => ?_)
    · exact q_tA hN w0 (wX108_lengthOf_59 S Z hS n _ hk9 _ _ w0.1 )
    · exact q_tA hN w0 (wX108_lengthOf_59 S Z hS n _ hk9 _ _ w0.1 )
  · refine pq_fi (fun _ => ?_) (fun _ => ?_)
    · exact q_tA hN w0 (wX108_lengthOf_35 S Z hS n _ hk9 _ _ _ _ w0.1 )
    · exact q_tA hN w0 (wX108_lengthOf_35 S Z hS n _ hk9 _ _ _ _ w0.1 )
theorem wX108_lengthOf_0 (S Z : Nat → Prop) {hx N : Nat} (hS : ∀ x, fe_mem lX108_lengthOf x = true → S x) (n : Nat) (k9 : Int64 → Int32 → Int32 → FM → Option (Int32 × FM)) (hk9 : ∀ (a2 : Int64) (a4 : Int32) (a5 : Int32) (M : FM), WI Z hx N M → pq (k9 a2 a4 a5 M) (QA S Z hx N M)) (a0 : Int64) (M : FM) (w : WI Z hx N M) : pq (FX108_lengthOf_0 n k9 a0 M) (QA S Z hx N M) := by
  have hN := w.2.2.1
  have w0 := wk_r (S := S) w
  delta FX108_lengthOf_0 BX108_lengthOf_0
  exact q_tA hN w0 (hk9 _ _ _ _ w0.1 )
theorem wX108_lengthOf_L (S Z : Nat → Prop) {hx N : Nat} (hS : ∀ x, fe_mem lX108_lengthOf x = true → S x) (n : Nat) : ∀ j : Nat, ∀ (a2 : Int64) (a4 : Int32) (a5 : Int32) (M : FM), WI Z hx N M → pq (FX108_lengthOf_L9 n j a2 a4 a5 M) (QA S Z hx N M)
  | 0 => by intros; exact pq_0
  | j + 1 => fun a2 a4 a5 M w => wX108_lengthOf_9 S Z hS n _ (wX108_lengthOf_L S Z hS n j) a2 a4 a5 M w
theorem wX108_lengthOf (S Z : Nat → Prop) {hx N : Nat} (hS : ∀ x, fe_mem lX108_lengthOf x = true → S x) (n : Nat) (a0 : Int64) (M : FM) (w : WI Z hx N M) : pq (FX108_lengthOf n a0 M) (QA S Z hx N M) := wX108_lengthOf_0 S Z hS n _ (wX108_lengthOf_L S Z hS n n) a0 M w 
def lX62_length : List Nat := []
theorem wX62_length_29 (S Z : Nat → Prop) {hx N : Nat} (hS : ∀ x, fe_mem lX62_length x = true → S x) (n : Nat) (s0 : Int32) (M : FM) (w : WI Z hx N M) : pq (FX62_length_29 n s0 M) (QA S Z hx N M) := by
  have hN := w.2.2.1
  have w0 := wk_r (S := S) w
  delta FX62_length_29 BX62_length_29
  exact pq_s w0
theorem wX62_length_0 (S Z : Nat → Prop) {hx N : Nat} (hS : ∀ x, fe_mem lX62_length x = true → S x) (n : Nat) (a0 : Nat) (M : FM) (w : WI Z hx N M) (z_a0 : Z a0) : pq (FX62_length_0 n a0 M) (QA S Z hx N M) := by
  have hN := w.2.2.1
  have w0 := wk_r (S := S) w
  delta FX62_length_0 BX62_length_0
  refine pq_g (fun g1 => ?_)
  refine pq_fi (fun _ => ?_) (fun _ => ?_)
  · refine pq_g (fun g2 => ?_)
    refine pq_b (wX108_lengthOf S Z (sb rfl hS) n _ _ w0.1 ) (fun r3 K4 => ?_)
    have w5 := wk_t w0 K4 hN
    exact q_tA hN w5 (wX62_length_29 S Z hS n _ _ w5.1 )
  · refine pq_g (fun g6 => ?_)
    refine pq_b (wX108_lengthOf S Z (sb rfl hS) n _ _ w0.1 ) (fun r7 K8 => ?_)
    have w9 := wk_t w0 K8 hN
    exact q_tA hN w9 (wX62_length_29 S Z hS n _ _ w9.1 )
theorem wX62_length (S Z : Nat → Prop) {hx N : Nat} (hS : ∀ x, fe_mem lX62_length x = true → S x) (n : Nat) (a0 : Nat) (M : FM) (w : WI Z hx N M) (z_a0 : Z a0) : pq (FX62_length n a0 M) (QA S Z hx N M) := wX62_length_0 S Z hS n a0 M w z_a0
def lX62_left : List Nat := [119, 120]
theorem wX62_left_61 (S Z : Nat → Prop) {hx N : Nat} (hS : ∀ x, fe_mem lX62_left x = true → S x) (M : FM) (w : WI Z hx N M) : pq (FX62_left_61 M) (QV S Z hx N M) := by
  have hN := w.2.2.1
  have w0 := wk_r (S := S) w
  delta FX62_left_61 BX62_left_61
  exact pq_s w0
theorem wX62_left_0 (S Z : Nat → Prop) {hx N : Nat} (hS : ∀ x, fe_mem lX62_left x = true → S x) (a0 : Nat) (a1 : Int32) (M : FM) (w : WI Z hx N M) (z_a0 : Z a0) : pq (FX62_left_0 a0 a1 M) (QV S Z hx N M) := by
  have hN := w.2.2.1
  have w0 := wk_r (S := S) w
  delta FX62_left_0 BX62_left_0
  refine pq_fi (fun _ => ?_) (fun _ => ?_)
  · refine pq_fi (fun _ => ?_) (fun _ => ?_)
    · exact q_tV hN w0 (wX62_left_61 S Z hS _ w0.1 )
    · refine pq_g (fun g1 => ?_)
      refine pq_g (fun g2 => ?_)
      refine pq_g (fun g3 => ?_)
      extract_lets +onlyGivenNames M5
      have w4 : Wk S Z hx N M M5 := wk_fL hN w0 rfl rfl g3 z_a0 (Or.inr (hS 119 rfl))
      refine pq_g (fun g6 => ?_)
      refine pq_g (fun g7 => ?_)
      extract_lets +onlyGivenNames M9
      have w8 : Wk S Z hx N M M9 := wk_fL hN w4 rfl rfl g7 z_a0 (Or.inr (hS 120 rfl))
      exact q_tV hN w8 (wX62_left_61 S Z hS _ w8.1 )
  · refine pq_g (fun g10 => ?_)
    refine pq_g (fun g11 => ?_)
    extract_lets +onlyGivenNames M13
    have w12 : Wk S Z hx N M M13 := wk_fL hN w0 rfl rfl g11 z_a0 (Or.inr (hS 119 rfl))
    refine pq_g (fun g14 => ?_)
    extract_lets +onlyGivenNames M16
    have w15 : Wk S Z hx N M M16 := wk_fL hN w12 rfl rfl g14 z_a0 (Or.inr (hS 120 rfl))
    exact q_tV hN w15 (wX62_left_61 S Z hS _ w15.1 )
theorem wX62_left (S Z : Nat → Prop) {hx N : Nat} (hS : ∀ x, fe_mem lX62_left x = true → S x) (a0 : Nat) (a1 : Int32) (M : FM) (w : WI Z hx N M) (z_a0 : Z a0) : pq (FX62_left a0 a1 M) (QV S Z hx N M) := wX62_left_0 S Z hS a0 a1 M w z_a0
def lX71_lift : List Nat := [116, 119, 120]
theorem wX71_lift_0 (S Z : Nat → Prop) {hx N : Nat} (hS : ∀ x, fe_mem lX71_lift x = true → S x) (n : Nat) (a0 : Nat) (a1 : Int32) (M : FM) (w : WI Z hx N M) (z_a0 : Z a0) : pq (FX71_lift_0 n a0 a1 M) (QV S Z hx N M) := by
  have hN := w.2.2.1
  have w0 := wk_r (S := S) w
  delta FX71_lift_0 BX71_lift_0
  refine pq_g (fun g1 => ?_)
  have z2 := wk_z (i := 0) (f := 117) w0 rfl z_a0
  refine pq_g (fun g3 => ?_)
  refine pq_b (wX62_length S Z (sb rfl hS) n _ _ w0.1 z2) (fun r4 K5 => ?_)
  have w6 := wk_t w0 K5 hN
  refine pq_g (fun g7 => ?_)
  have z8 := wk_z (i := 0) (f := 117) w6 rfl z_a0
  refine pq_g (fun g9 => ?_)
  refine pq_b (wX62_left S Z (sb rfl hS) _ _ _ w6.1 z8) (fun r10 K11 => ?_)
  have w12 := wk_t w6 K11 hN
  refine pq_g (fun g13 => ?_)
  refine pq_g (fun g14 => ?_)
  extract_lets +onlyGivenNames M16
  have w15 : Wk S Z hx N M M16 := wk_fI hN w12 rfl rfl g14 z_a0 (Or.inr (hS 116 rfl))
  exact pq_s w15
theorem wX71_lift (S Z : Nat → Prop) {hx N : Nat} (hS : ∀ x, fe_mem lX71_lift x = true → S x) (n : Nat) (a0 : Nat) (a1 : Int32) (M : FM) (w : WI Z hx N M) (z_a0 : Z a0) : pq (FX71_lift n a0 a1 M) (QV S Z hx N M) := wX71_lift_0 S Z hS n a0 a1 M w z_a0
def lX108_isLess : List Nat := []
theorem wX108_isLess_19 (S Z : Nat → Prop) {hx N : Nat} (hS : ∀ x, fe_mem lX108_isLess x = true → S x) (s0 : Int32) (M : FM) (w : WI Z hx N M) : pq (FX108_isLess_19 s0 M) (QA S Z hx N M) := by
  have hN := w.2.2.1
  have w0 := wk_r (S := S) w
  delta FX108_isLess_19 BX108_isLess_19
  refine pq_g (fun _ => ?_)
  exact pq_s w0
theorem wX108_isLess_0 (S Z : Nat → Prop) {hx N : Nat} (hS : ∀ x, fe_mem lX108_isLess x = true → S x) (a0 : Int64) (a2 : Int64) (M : FM) (w : WI Z hx N M) : pq (FX108_isLess_0 a0 a2 M) (QA S Z hx N M) := by
  have hN := w.2.2.1
  have w0 := wk_r (S := S) w
  delta FX108_isLess_0 BX108_isLess_0
  refine pq_fi (fun _ => ?_) (fun _ => ?_)
  · exact q_tA hN w0 (wX108_isLess_19 S Z hS _ _ w0.1 )
  · exact q_tA hN w0 (wX108_isLess_19 S Z hS _ _ w0.1 )
theorem wX108_isLess (S Z : Nat → Prop) {hx N : Nat} (hS : ∀ x, fe_mem lX108_isLess x = true → S x) (a0 : Int64) (a2 : Int64) (M : FM) (w : WI Z hx N M) : pq (FX108_isLess a0 a2 M) (QA S Z hx N M) := wX108_isLess_0 S Z hS a0 a2 M w 
def lX62_isBelow : List Nat := []
theorem wX62_isBelow_37 (S Z : Nat → Prop) {hx N : Nat} (hS : ∀ x, fe_mem lX62_isBelow x = true → S x) (s0 : Int32) (M : FM) (w : WI Z hx N M) : pq (FX62_isBelow_37 s0 M) (QA S Z hx N M) := by
  have hN := w.2.2.1
  have w0 := wk_r (S := S) w
  delta FX62_isBelow_37 BX62_isBelow_37
  refine pq_g (fun _ => ?_)
  exact pq_s w0
theorem wX62_isBelow_0 (S Z : Nat → Prop) {hx N : Nat} (hS : ∀ x, fe_mem lX62_isBelow x = true → S x) (a0 : Nat) (a1 : Nat) (M : FM) (w : WI Z hx N M) (z_a0 : Z a0) (z_a1 : Z a1) : pq (FX62_isBelow_0 a0 a1 M) (QA S Z hx N M) := by
  have hN := w.2.2.1
  have w0 := wk_r (S := S) w
  delta FX62_isBelow_0 BX62_isBelow_0
  refine pq_g (fun g1 => ?_)
  refine pq_g (fun g2 => ?_)
  refine pq_fi (fun _ => ?_) (fun _ => ?_)
  · refine pq_g (fun g3 => ?_)
    refine pq_g (fun g4 => ?_)
    refine pq_b (wX108_isLess S Z (sb rfl hS) _ _ _ w0.1 ) (fun r5 K6 => ?_)
    have w7 := wk_t w0 K6 hN
    exact q_tA hN w7 (wX62_isBelow_37 S Z hS _ _ w7.1 )
  · refine pq_g (fun g8 => ?_)
    refine pq_g (fun g9 => ?_)
    refine pq_b (wX108_isLess S Z (sb rfl hS) _ _ _ w0.1 ) (fun r10 K11 => ?_)
    have w12 := wk_t w0 K11 hN
    exact q_tA hN w12 (wX62_isBelow_37 S Z hS _ _ w12.1 )
theorem wX62_isBelow (S Z : Nat → Prop) {hx N : Nat} (hS : ∀ x, fe_mem lX62_isBelow x = true → S x) (a0 : Nat) (a1 : Nat) (M : FM) (w : WI Z hx N M) (z_a0 : Z a0) (z_a1 : Z a1) : pq (FX62_isBelow a0 a1 M) (QA S Z hx N M) := wX62_isBelow_0 S Z hS a0 a1 M w z_a0 z_a1
def lX71_compareSize : List Nat := [116, 119, 120]
theorem wX71_compareSize_128 (S Z : Nat → Prop) {hx N : Nat} (hS : ∀ x, fe_mem lX71_compareSize x = true → S x) (n : Nat) (s0 : Int32) (M : FM) (w : WI Z hx N M) : pq (FX71_compareSize_128 n s0 M) (QA S Z hx N M) := by
  have hN := w.2.2.1
  have w0 := wk_r (S := S) w
  delta FX71_compareSize_128 BX71_compareSize_128
  exact pq_s w0
theorem wX71_compareSize_90 (S Z : Nat → Prop) {hx N : Nat} (hS : ∀ x, fe_mem lX71_compareSize x = true → S x) (n : Nat) (s0 : Int32) (M : FM) (w : WI Z hx N M) : pq (FX71_compareSize_90 n s0 M) (QA S Z hx N M) := by
  have hN := w.2.2.1
  have w0 := wk_r (S := S) w
  delta FX71_compareSize_90 BX71_compareSize_90
  exact pq_s w0
theorem wX71_compareSize_50 (S Z : Nat → Prop) {hx N : Nat} (hS : ∀ x, fe_mem lX71_compareSize x = true → S x) (n : Nat) (s0 : Int32) (M : FM) (w : WI Z hx N M) : pq (FX71_compareSize_50 n s0 M) (QA S Z hx N M) := by
  have hN := w.2.2.1
  have w0 := wk_r (S := S) w
  delta FX71_compareSize_50 BX71_compareSize_50
  exact pq_s w0
theorem wX71_compareSize_20 (S Z : Nat → Prop) {hx N : Nat} (hS : ∀ x, fe_mem lX71_compareSize x = true → S x) (n : Nat) (a0 : Nat) (a1 : Nat) (M : FM) (w : WI Z hx N M) (z_a0 : Z a0) (z_a1 : Z a1) : pq (FX71_compareSize_20 n a0 a1 M) (QA S Z hx N M) := by
  have hN := w.2.2.1
  have w0 := wk_r (S := S) w
  delta FX71_compareSize_20 BX71_compareSize_20
  refine pq_g (fun g1 => ?_)
  have z2 := wk_z (i := 0) (f := 114) w0 rfl z_a0
  refine pq_g (fun g3 => ?_)
  have z4 := wk_z (i := 0) (f := 114) w0 rfl z_a1
  refine pq_g (fun _ => ?_)
  refine pq_fi (fun _ => ?_) (fun _ => ?_)
  · exact q_tA hN w0 (wX71_compareSize_50 S Z hS n _ _ w0.1 )
  · refine pq_g (fun g5 => ?_)
    refine pq_b (wX71_is S Z (sb rfl hS) _ _ _ w0.1 z_a0 (wk_zc w0 rfl)) (fun r6 K7 => ?_)
    have w8 := wk_t w0 K7 hN
    refine pq_fi (fun _ => ?_) (fun _ => ?_)
    · exact q_tA hN w8 (wX71_compareSize_50 S Z hS n _ _ w8.1 )
    · exact q_tA hN w8 (wX71_compareSize_50 S Z hS n _ _ w8.1 )
theorem wX71_compareSize_0 (S Z : Nat → Prop) {hx N : Nat} (hS : ∀ x, fe_mem lX71_compareSize x = true → S x) (n : Nat) (a0 : Nat) (a1 : Nat) (M : FM) (w : WI Z hx N M) (z_a0 : Z a0) (z_a1 : Z a1) : pq (FX71_compareSize_0 n a0 a1 M) (QA S Z hx N M) := by
  have hN := w.2.2.1
  have w0 := wk_r (S := S) w
  delta FX71_compareSize_0 BX71_compareSize_0
  refine pq_g (fun g1 => ?_)
  refine pq_b (wX71_is S Z (sb rfl hS) _ _ _ w0.1 z_a0 (wk_zc w0 rfl)) (fun r2 K3 => ?_)
  have w4 := wk_t w0 K3 hN
  refine pq_fi (fun _ => ?_) (fun _ => ?_)
  · refine pq_g (fun g5 => ?_)
    refine pq_b (wX71_is S Z (sb rfl hS) _ _ _ w4.1 z_a1 (wk_zc w4 rfl)) (fun r6 K7 => ?_)
    have w8 := wk_t w4 K7 hN
    refine pq_fi (fun _ => ?_) (fun _ => ?_)
    · refine pq_g (fun g9 => ?_)
      refine pq_b (wX71_lift S Z (sb rfl hS) n _ _ _ w8.1 z_a0) (fun r10 K11 => ?_)
      have w12 := wk_t w8 K11 hN
      refine pq_g (fun g13 => ?_)
      refine pq_b (wX71_lift S Z (sb rfl hS) n _ _ _ w12.1 z_a1) (fun r14 K15 => ?_)
      have w16 := wk_t w12 K15 hN
      refine pq_g (fun g17 => ?_)
      refine pq_g (fun g18 => ?_)
      refine pq_fi (fun _ => ?_) (fun _ => ?_)
      · refine pq_g (fun g19 => ?_)
        have z20 := wk_z (i := 0) (f := 117) w16 rfl z_a0
        refine pq_g (fun g21 => ?_)
        have z22 := wk_z (i := 0) (f := 117) w16 rfl z_a1
        refine pq_g (fun g23 => ?_)
        refine pq_b (wX62_isBelow S Z (sb rfl hS) _ _ _ w16.1 z20 z22) (fun r24 K25 => ?_)
        have w26 := wk_t w16 K25 hN
        refine pq_fi (fun _ => ?_) (fun _ => ?_)
        · refine pq_g (fun g27 => ?_)
          have z28 := wk_z (i := 0) (f := 117) w26 rfl z_a1
          refine pq_g (fun g29 => ?_)
          have z30 := wk_z (i := 0) (f := 117) w26 rfl z_a0
          refine pq_g (fun g31 => ?_)
          refine pq_b (wX62_isBelow S Z (sb rfl hS) _ _ _ w26.1 z28 z30) (fun r32 K33 => ?_)
          have w34 := wk_t w26 K33 hN
          refine pq_fi (fun _ => ?_) (fun _ => ?_)
          · exact q_tA hN w34 (wX71_compareSize_128 S Z hS n _ _ w34.1 )
          · exact q_tA hN w34 (wX71_compareSize_128 S Z hS n _ _ w34.1 )
        · exact q_tA hN w26 (wX71_compareSize_128 S Z hS n _ _ w26.1 )
      · refine pq_g (fun g35 => ?_)
        refine pq_g (fun g36 => ?_)
        refine pq_fi (fun _ => ?_) (fun _ => ?_)
        · exact q_tA hN w16 (wX71_compareSize_90 S Z hS n _ _ w16.1 )
        · exact q_tA hN w16 (wX71_compareSize_90 S Z hS n _ _ w16.1 )
    · exact q_tA hN w8 (wX71_compareSize_20 S Z hS n _ _ _ w8.1 z_a0 z_a1)
  · exact q_tA hN w4 (wX71_compareSize_20 S Z hS n _ _ _ w4.1 z_a0 z_a1)
theorem wX71_compareSize (S Z : Nat → Prop) {hx N : Nat} (hS : ∀ x, fe_mem lX71_compareSize x = true → S x) (n : Nat) (a0 : Nat) (a1 : Nat) (M : FM) (w : WI Z hx N M) (z_a0 : Z a0) (z_a1 : Z a1) : pq (FX71_compareSize n a0 a1 M) (QA S Z hx N M) := wX71_compareSize_0 S Z hS n a0 a1 M w z_a0 z_a1
def lX71_compare : List Nat := [116, 119, 120]
theorem wX71_compare_115 (S Z : Nat → Prop) {hx N : Nat} (hS : ∀ x, fe_mem lX71_compare x = true → S x) (n : Nat) (s0 : Int32) (M : FM) (w : WI Z hx N M) : pq (FX71_compare_115 n s0 M) (QA S Z hx N M) := by
  have hN := w.2.2.1
  have w0 := wk_r (S := S) w
  delta FX71_compare_115 BX71_compare_115
  exact pq_s w0
theorem wX71_compare_95 (S Z : Nat → Prop) {hx N : Nat} (hS : ∀ x, fe_mem lX71_compare x = true → S x) (n : Nat) (s0 : Int32) (M : FM) (w : WI Z hx N M) : pq (FX71_compare_95 n s0 M) (QA S Z hx N M) := by
  have hN := w.2.2.1
  have w0 := wk_r (S := S) w
  delta FX71_compare_95 BX71_compare_95
  exact pq_s w0
theorem wX71_compare_94 (S Z : Nat → Prop) {hx N : Nat} (hS : ∀ x, fe_mem lX71_compare x = true → S x) (n : Nat) (M : FM) (w : WI Z hx N M) : pq (FX71_compare_94 n M) (QA S Z hx N M) := by
  have hN := w.2.2.1
  have w0 := wk_r (S := S) w
  delta FX71_compare_94 BX71_compare_94
  exact q_tA hN w0 (wX71_compare_95 S Z hS n _ _ w0.1 )
theorem wX71_compare_90 (S Z : Nat → Prop) {hx N : Nat} (hS : ∀ x, fe_mem lX71_compare x = true → S x) (n : Nat) (M : FM) (w : WI Z hx N M) : pq (FX71_compare_90 n M) (QA S Z hx N M) := by
  have hN := w.2.2.1
  have w0 := wk_r (S := S) w
  delta FX71_compare_90 BX71_compare_90
  exact q_tA hN w0 (wX71_compare_95 S Z hS n _ _ w0.1 )
theorem wX71_compare_63 (S Z : Nat → Prop) {hx N : Nat} (hS : ∀ x, fe_mem lX71_compare x = true → S x) (n : Nat) (a0 : Nat) (a1 : Nat) (M : FM) (w : WI Z hx N M) (z_a0 : Z a0) (z_a1 : Z a1) : pq (FX71_compare_63 n a0 a1 M) (QA S Z hx N M) := by
  have hN := w.2.2.1
  have w0 := wk_r (S := S) w
  delta FX71_compare_63 BX71_compare_63
  refine pq_g (fun g1 => ?_)
  refine pq_b (wX71_is S Z (sb rfl hS) _ _ _ w0.1 z_a0 (wk_zc w0 rfl)) (fun r2 K3 => ?_)
  have w4 := wk_t w0 K3 hN
  refine pq_fi (fun _ => ?_) (fun _ => ?_)
  · refine pq_g (fun g5 => ?_)
    refine pq_fi (fun _ => ?_) (fun _ => ?_)
    · exact q_tA hN w4 (wX71_compare_94 S Z hS n _ w4.1 )
    · exact q_tA hN w4 (wX71_compare_90 S Z hS n _ w4.1 )
  · refine pq_g (fun g6 => ?_)
    refine pq_fi (fun _ => ?_) (fun _ => ?_)
    · exact q_tA hN w4 (wX71_compare_90 S Z hS n _ w4.1 )
    · exact q_tA hN w4 (wX71_compare_94 S Z hS n _ w4.1 )
theorem wX71_compare_25 (S Z : Nat → Prop) {hx N : Nat} (hS : ∀ x, fe_mem lX71_compare x = true → S x) (n : Nat) (a0 : Nat) (a1 : Nat) (s0 : Int32) (M : FM) (w : WI Z hx N M) (z_a0 : Z a0) (z_a1 : Z a1) : pq (FX71_compare_25 n a0 a1 s0 M) (QA S Z hx N M) := by
  have hN := w.2.2.1
  have w0 := wk_r (S := S) w
  delta FX71_compare_25 BX71_compare_25
  refine pq_fi (fun _ => ?_) (fun _ => ?_)
  · refine pq_g (fun g1 => ?_)
    refine pq_b (wX71_is S Z (sb rfl hS) _ _ _ w0.1 z_a0 (wk_zc w0 rfl)) (fun r2 K3 => ?_)
    have w4 := wk_t w0 K3 hN
    refine pq_fi (fun _ => ?_) (fun _ => ?_)
    · refine pq_g (fun g5 => ?_)
      refine pq_b (wX71_is S Z (sb rfl hS) _ _ _ w4.1 z_a1 (wk_zc w4 rfl)) (fun r6 K7 => ?_)
      have w8 := wk_t w4 K7 hN
      refine pq_fi (fun _ => ?_) (fun _ => ?_)
      · refine pq_g (fun g9 => ?_)
        refine pq_g (fun g10 => ?_)
        refine pq_fi (fun _ => ?_) (fun _ => ?_)
        · refine pq_g (fun g11 => ?_)
          refine pq_b (wX71_compareSize S Z (sb rfl hS) n _ _ _ w8.1 z_a0 z_a1) (fun r12 K13 => ?_)
          have w14 := wk_t w8 K13 hN
          refine pq_g (fun g15 => ?_)
          refine pq_fi (fun _ => ?_) (fun _ => ?_)
          · exact q_tA hN w14 (wX71_compare_115 S Z hS n _ _ w14.1 )
          · exact q_tA hN w14 (wX71_compare_115 S Z hS n _ _ w14.1 )
        · exact q_tA hN w8 (wX71_compare_63 S Z hS n _ _ _ w8.1 z_a0 z_a1)
      · exact q_tA hN w8 (wX71_compare_63 S Z hS n _ _ _ w8.1 z_a0 z_a1)
    · exact q_tA hN w4 (wX71_compare_63 S Z hS n _ _ _ w4.1 z_a0 z_a1)
  · exact pq_s w0
theorem wX71_compare_24 (S Z : Nat → Prop) {hx N : Nat} (hS : ∀ x, fe_mem lX71_compare x = true → S x) (n : Nat) (a0 : Nat) (a1 : Nat) (M : FM) (w : WI Z hx N M) (z_a0 : Z a0) (z_a1 : Z a1) : pq (FX71_compare_24 n a0 a1 M) (QA S Z hx N M) := by
  have hN := w.2.2.1
  have w0 := wk_r (S := S) w
  delta FX71_compare_24 BX71_compare_24
  exact q_tA hN w0 (wX71_compare_25 S Z hS n _ _ _ _ w0.1 z_a0 z_a1)
theorem wX71_compare_0 (S Z : Nat → Prop) {hx N : Nat} (hS : ∀ x, fe_mem lX71_compare x = true → S x) (n : Nat) (a0 : Nat) (a1 : Nat) (M : FM) (w : WI Z hx N M) (z_a0 : Z a0) (z_a1 : Z a1) : pq (FX71_compare_0 n a0 a1 M) (QA S Z hx N M) := by
  have hN := w.2.2.1
  have w0 := wk_r (S := S) w
  delta FX71_compare_0 BX71_compare_0
  refine pq_g (fun g1 => ?_)
  refine pq_b (wX71_is S Z (sb rfl hS) _ _ _ w0.1 z_a0 (wk_zc w0 rfl)) (fun r2 K3 => ?_)
  have w4 := wk_t w0 K3 hN
  refine pq_fi (fun _ => ?_) (fun _ => ?_)
  · exact q_tA hN w4 (wX71_compare_24 S Z hS n _ _ _ w4.1 z_a0 z_a1)
  · refine pq_g (fun g5 => ?_)
    refine pq_b (wX71_is S Z (sb rfl hS) _ _ _ w4.1 z_a1 (wk_zc w4 rfl)) (fun r6 K7 => ?_)
    have w8 := wk_t w4 K7 hN
    refine pq_fi (fun _ => ?_) (fun _ => ?_)
    · exact q_tA hN w8 (wX71_compare_24 S Z hS n _ _ _ w8.1 z_a0 z_a1)
    · exact q_tA hN w8 (wX71_compare_25 S Z hS n _ _ _ _ w8.1 z_a0 z_a1)
theorem wX71_compare (S Z : Nat → Prop) {hx N : Nat} (hS : ∀ x, fe_mem lX71_compare x = true → S x) (n : Nat) (a0 : Nat) (a1 : Nat) (M : FM) (w : WI Z hx N M) (z_a0 : Z a0) (z_a1 : Z a1) : pq (FX71_compare n a0 a1 M) (QA S Z hx N M) := wX71_compare_0 S Z hS n a0 a1 M w z_a0 z_a1
