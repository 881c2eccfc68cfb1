set_option maxRecDepth 100000
def lX78_put : List Nat := [41]
theorem wX78_put_28 (S Z : Nat → Prop) {hx N : Nat} (hS : ∀ x, fe_mem lX78_put x = true → S x) (s0 : Nat) (s1 : Int64) (M : FM) (w : WI Z hx N M) (z_s0 : Z s0) : pq (FX78_put_28 s0 s1 M) (QV S Z hx N M) := by
  have hN := w.2.2.1
  have w0 := wk_r (S := S) w
  delta FX78_put_28 BX78_put_28
  refine pq_g (fun g1 => ?_)
  extract_lets +onlyGivenNames M3
  have w2 : Wk S Z hx N M M3 := wk_fL hN w0 rfl rfl g1 z_s0 (Or.inr (hS 41 rfl))
  exact pq_s w2
theorem wX78_put_0 (S Z : Nat → Prop) {hx N : Nat} (hS : ∀ x, fe_mem lX78_put x = true → S x) (a0 : Nat) (a1 : Int32) (a2 : Int32) (M : FM) (w : WI Z hx N M) (z_a0 : Z a0) : pq (FX78_put_0 a0 a1 a2 M) (QV S Z hx N M) := by
  have hN := w.2.2.1
  have w0 := wk_r (S := S) w
  delta FX78_put_0 BX78_put_0
  refine pq_fi (fun _ => ?_) (fun _ => ?_)
  · refine pq_g (fun g1 => ?_)
    exact q_tV hN w0 (wX78_put_28 S Z hS _ _ _ w0.1 z_a0)
  · refine pq_g (fun g2 => ?_)
    exact q_tV hN w0 (wX78_put_28 S Z hS _ _ _ w0.1 z_a0)
theorem wX78_put (S Z : Nat → Prop) {hx N : Nat} (hS : ∀ x, fe_mem lX78_put x = true → S x) (a0 : Nat) (a1 : Int32) (a2 : Int32) (M : FM) (w : WI Z hx N M) (z_a0 : Z a0) : pq (FX78_put a0 a1 a2 M) (QV S Z hx N M) := wX78_put_0 S Z hS a0 a1 a2 M w z_a0
def lX74_trap : List Nat := [37, 39, 41]
theorem wX74_trap_173 (S Z : Nat → Prop) {hx N : Nat} (hS : ∀ x, fe_mem lX74_trap x = true → S x) (a0 : Nat) (M : FM) (w : WI Z hx N M) (z_a0 : Z a0) : pq (FX74_trap_173 a0 M) (QA S Z hx N M) := by
  have hN := w.2.2.1
  have w0 := wk_r (S := S) w
  delta FX74_trap_173 BX74_trap_173
  refine pq_g (fun g1 => ?_)
  exact pq_s w0
theorem wX74_trap_113 (S Z : Nat → Prop) {hx N : Nat} (hS : ∀ x, fe_mem lX74_trap x = true → S x) (a0 : Nat) (a1 : Int32) (a2 : Int32) (a3 : Int64) (a5 : Int64) (M : FM) (w : WI Z hx N M) (z_a0 : Z a0) : pq (FX74_trap_113 a0 a1 a2 a3 a5 M) (QA S Z hx N M) := by
  have hN := w.2.2.1
  have w0 := wk_r (S := S) w
  delta FX74_trap_113 BX74_trap_113
  refine pq_g (fun g1 => ?_)
  have z2 := wk_z (i := 0) (f := 32) w0 rfl z_a0
  refine pq_g (fun g3 => ?_)
  refine pq_b (wX80_take S Z (sb rfl hS) _ _ _ _ _ _ w0.1 z2) (fun r4 K5 => ?_)
  have w6 := wk_t w0 K5 hN
  refine pq_g (fun g7 => ?_)
  extract_lets +onlyGivenNames M9
  have w8 : Wk S Z hx N M M9 := wk_fL hN w6 rfl rfl g7 z_a0 (Or.inr (hS 39 rfl))
  refine pq_g (fun g10 => ?_)
  have z11 := wk_z (i := 0) (f := 27) w8 rfl z_a0
  refine pq_g (fun g12 => ?_)
  refine pq_g (fun g13 => ?_)
  refine pq_b (wX78_putTwo S Z (sb rfl hS) _ _ _ _ w8.1 z11) (fun r14 K15 => ?_)
  have w16 := wk_t w8 K15 hN
  refine pq_g (fun g17 => ?_)
  have z18 := wk_z (i := 0) (f := 27) w16 rfl z_a0
  refine pq_g (fun g19 => ?_)
  have z20 := wk_z (i := 0) (f := 27) w16 rfl z_a0
  refine pq_g (fun g21 => ?_)
  refine pq_b (wX78_has S Z (sb rfl hS) _ _ _ w16.1 z20) (fun r22 K23 => ?_)
  have w24 := wk_t w16 K23 hN
  refine pq_g (fun g25 => ?_)
  refine pq_b (wX78_put S Z (sb rfl hS) _ _ _ _ w24.1 z18) (fun r26 K27 => ?_)
  have w28 := wk_t w24 K27 hN
  refine pq_g (fun g29 => ?_)
  have z30 := wk_z (i := 0) (f := 27) w28 rfl z_a0
  refine pq_g (fun g31 => ?_)
  refine pq_b (wX78_put S Z (sb rfl hS) _ _ _ _ w28.1 z30) (fun r32 K33 => ?_)
  have w34 := wk_t w28 K33 hN
  refine pq_g (fun g35 => ?_)
  extract_lets +onlyGivenNames M37
  have w36 : Wk S Z hx N M M37 := wk_fI hN w34 rfl rfl g35 z_a0 (Or.inr (hS 37 rfl))
  exact q_tA hN w36 (wX74_trap_173 S Z hS _ _ w36.1 z_a0)
theorem wX74_trap_77 (S Z : Nat → Prop) {hx N : Nat} (hS : ∀ x, fe_mem lX74_trap x = true → S x) (a0 : Nat) (s0 : Nat) (s1 : Int32) (s2 : Int32) (M : FM) (w : WI Z hx N M) (z_a0 : Z a0) (z_s0 : Z s0) : pq (FX74_trap_77 a0 s0 s1 s2 M) (QA S Z hx N M) := by
  have hN := w.2.2.1
  have w0 := wk_r (S := S) w
  delta FX74_trap_77 BX74_trap_77
  refine pq_g (fun g1 => ?_)
  refine pq_b (wX78_put S Z (sb rfl hS) _ _ _ _ w0.1 z_s0) (fun r2 K3 => ?_)
  have w4 := wk_t w0 K3 hN
  refine pq_g (fun g5 => ?_)
  have z6 := wk_z (i := 0) (f := 27) w4 rfl z_a0
  refine pq_g (fun g7 => ?_)
  have z8 := wk_z (i := 0) (f := 27) w4 rfl z_a0
  refine pq_g (fun g9 => ?_)
  refine pq_b (wX78_has S Z (sb rfl hS) _ _ _ w4.1 z8) (fun r10 K11 => ?_)
  have w12 := wk_t w4 K11 hN
  refine pq_g (fun g13 => ?_)
  refine pq_b (wX78_put S Z (sb rfl hS) _ _ _ _ w12.1 z6) (fun r14 K15 => ?_)
  have w16 := wk_t w12 K15 hN
  refine pq_g (fun g17 => ?_)
  have z18 := wk_z (i := 0) (f := 27) w16 rfl z_a0
  refine pq_g (fun g19 => ?_)
  refine pq_b (wX78_put S Z (sb rfl hS) _ _ _ _ w16.1 z18) (fun r20 K21 => ?_)
  have w22 := wk_t w16 K21 hN
  refine pq_g (fun g23 => ?_)
  extract_lets +onlyGivenNames M25
  have w24 : Wk S Z hx N M M25 := wk_fI hN w22 rfl rfl g23 z_a0 (Or.inr (hS 37 rfl))
  exact q_tA hN w24 (wX74_trap_173 S Z hS _ _ w24.1 z_a0)
theorem wX74_trap_21 (S Z : Nat → Prop) {hx N : Nat} (hS : ∀ x, fe_mem lX74_trap x = true → S x) (a0 : Nat) (a1 : Int32) (a2 : Int32) (a3 : Int64) (a5 : Int64) (s0 : Int64) (M : FM) (w : WI Z hx N M) (z_a0 : Z a0) : pq (FX74_trap_21 a0 a1 a2 a3 a5 s0 M) (QA S Z hx N M) := by
  have hN := w.2.2.1
  have w0 := wk_r (S := S) w
  delta FX74_trap_21 BX74_trap_21
  refine pq_g (fun g1 => ?_)
  refine pq_fi (fun _ => ?_) (fun _ => ?_)
  · exact q_tA hN w0 (wX74_trap_113 S Z hS _ _ _ _ _ _ w0.1 z_a0)
  · refine pq_fi (fun _ => ?_) (fun _ => ?_)
    · refine pq_g (fun g2 => ?_)
      have z3 := wk_z (i := 0) (f := 33) w0 rfl z_a0
      refine pq_g (fun g4 => ?_)
      refine pq_b (wX80_take S Z (sb rfl hS) _ _ _ _ _ _ w0.1 z3) (fun r5 K6 => ?_)
      have w7 := wk_t w0 K6 hN
      refine pq_g (fun g8 => ?_)
      extract_lets +onlyGivenNames M10
      have w9 : Wk S Z hx N M M10 := wk_fL hN w7 rfl rfl g8 z_a0 (Or.inr (hS 39 rfl))
      refine pq_g (fun g11 => ?_)
      have z12 := wk_z (i := 0) (f := 27) w9 rfl z_a0
      refine pq_g (fun g13 => ?_)
      refine pq_fi (fun _ => ?_) (fun _ => ?_)
      · exact q_tA hN w9 (wX74_trap_77 S Z hS _ _ _ _ _ w9.1 z_a0 z12)
      · exact q_tA hN w9 (wX74_trap_77 S Z hS _ _ _ _ _ w9.1 z_a0 z12)
    · exact q_tA hN w0 (wX74_trap_113 S Z hS _ _ _ _ _ _ w0.1 z_a0)
theorem wX74_trap_0 (S Z : Nat → Prop) {hx N : Nat} (hS : ∀ x, fe_mem lX74_trap x = true → S x) (a0 : Nat) (a1 : Int32) (a2 : Int32) (a3 : Int64) (a5 : Int64) (M : FM) (w : WI Z hx N M) (z_a0 : Z a0) : pq (FX74_trap_0 a0 a1 a2 a3 a5 M) (QA S Z hx N M) := by
  have hN := w.2.2.1
  have w0 := wk_r (S := S) w
  delta FX74_trap_0 BX74_trap_0
  refine pq_fi (fun _ => ?_) (fun _ => ?_)
  · refine pq_g (fun g1 => ?_)
    have z2 := wk_z (i := 0) (f := 28) w0 rfl z_a0
    refine pq_fi (fun _ => ?_) (fun _ => ?_)
    · refine pq_b (wX77_show S Z (sb rfl hS) _ _ w0.1 z2) (fun r3 K4 => ?_)
      have w5 := wk_t w0 K4 hN
      exact q_tA hN w5 (wX74_trap_21 S Z hS _ _ _ _ _ _ _ w5.1 z_a0)
    · refine pq_fi (fun _ => ?_) (fun _ => ?_)
      · refine pq_b (wX79_show S Z (sb rfl hS) _ _ w0.1 z2) (fun r6 K7 => ?_)
        have w8 := wk_t w0 K7 hN
        exact q_tA hN w8 (wX74_trap_21 S Z hS _ _ _ _ _ _ _ w8.1 z_a0)
      · refine pq_fi (fun _ => ?_) (fun _ => ?_)
        · refine pq_b (wX78_show S Z (sb rfl hS) _ _ w0.1 z2) (fun r9 K10 => ?_)
          have w11 := wk_t w0 K10 hN
          exact q_tA hN w11 (wX74_trap_21 S Z hS _ _ _ _ _ _ _ w11.1 z_a0)
        · refine pq_fi (fun _ => ?_) (fun _ => ?_)
          · refine pq_b (wX77_show S Z (sb rfl hS) _ _ w0.1 z2) (fun r12 K13 => ?_)
            have w14 := wk_t w0 K13 hN
            exact q_tA hN w14 (wX74_trap_21 S Z hS _ _ _ _ _ _ _ w14.1 z_a0)
          · exact pq_0
  · refine pq_g (fun g15 => ?_)
    have z16 := wk_z (i := 0) (f := 29) w0 rfl z_a0
    refine pq_fi (fun _ => ?_) (fun _ => ?_)
    · refine pq_b (wX77_show S Z (sb rfl hS) _ _ w0.1 z16) (fun r17 K18 => ?_)
      have w19 := wk_t w0 K18 hN
      exact q_tA hN w19 (wX74_trap_21 S Z hS _ _ _ _ _ _ _ w19.1 z_a0)
    · refine pq_fi (fun _ => ?_) (fun _ => ?_)
      · refine pq_b (wX79_show S Z (sb rfl hS) _ _ w0.1 z16) (fun r20 K21 => ?_)
        have w22 := wk_t w0 K21 hN
        exact q_tA hN w22 (wX74_trap_21 S Z hS _ _ _ _ _ _ _ w22.1 z_a0)
      · refine pq_fi (fun _ => ?_) (fun _ => ?_)
        · refine pq_b (wX78_show S Z (sb rfl hS) _ _ w0.1 z16) (fun r23 K24 => ?_)
          have w25 := wk_t w0 K24 hN
          exact q_tA hN w25 (wX74_trap_21 S Z hS _ _ _ _ _ _ _ w25.1 z_a0)
        · refine pq_fi (fun _ => ?_) (fun _ => ?_)
          · refine pq_b (wX77_show S Z (sb rfl hS) _ _ w0.1 z16) (fun r26 K27 => ?_)
            have w28 := wk_t w0 K27 hN
            exact q_tA hN w28 (wX74_trap_21 S Z hS _ _ _ _ _ _ _ w28.1 z_a0)
          · exact pq_0
theorem wX74_trap (S Z : Nat → Prop) {hx N : Nat} (hS : ∀ x, fe_mem lX74_trap x = true → S x) (a0 : Nat) (a1 : Int32) (a2 : Int32) (a3 : Int64) (a5 : Int64) (M : FM) (w : WI Z hx N M) (z_a0 : Z a0) : pq (FX74_trap a0 a1 a2 a3 a5 M) (QA S Z hx N M) := wX74_trap_0 S Z hS a0 a1 a2 a3 a5 M w z_a0
def lX46_raise : List Nat := [37, 39, 41, 174, 179]
theorem wX46_raise_0 (S Z : Nat → Prop) {hx N : Nat} (hS : ∀ x, fe_mem lX46_raise x = true → S x) (a0 : Nat) (a1 : Int32) (a2 : Int64) (M : FM) (w : WI Z hx N M) (z_a0 : Z a0) : pq (FX46_raise_0 a0 a1 a2 M) (QA S Z hx N M) := by
  have hN := w.2.2.1
  have w0 := wk_r (S := S) w
  delta FX46_raise_0 BX46_raise_0
  refine pq_g (fun g1 => ?_)
  have z2 := wk_z (i := 0) (f := 211) w0 rfl z_a0
  refine pq_g (fun g3 => ?_)
  have z4 := wk_z (i := 0) (f := 213) w0 rfl z_a0
  refine pq_g (fun g5 => ?_)
  refine pq_b (wX46_counter S Z (sb rfl hS) _ _ w0.1 z_a0) (fun r6 K7 => ?_)
  have w8 := wk_t w0 K7 hN
  refine pq_g (fun g9 => ?_)
  refine pq_b (wX74_trap S Z (sb rfl hS) _ _ _ _ _ _ w8.1 z4) (fun r10 K11 => ?_)
  have w12 := wk_t w8 K11 hN
  refine pq_g (fun g13 => ?_)
  refine pq_b (wX47_jump S Z (sb rfl hS) _ _ _ w12.1 z2) (fun r14 K15 => ?_)
  have w16 := wk_t w12 K15 hN
  refine pq_g (fun _ => ?_)
  exact pq_s w16
theorem wX46_raise (S Z : Nat → Prop) {hx N : Nat} (hS : ∀ x, fe_mem lX46_raise x = true → S x) (a0 : Nat) (a1 : Int32) (a2 : Int64) (M : FM) (w : WI Z hx N M) (z_a0 : Z a0) : pq (FX46_raise a0 a1 a2 M) (QA S Z hx N M) := wX46_raise_0 S Z hS a0 a1 a2 M w z_a0
def lX46_half : List Nat := [37, 39, 41, 174, 179, 208, 269, 270, 271, 272, 273, 274, 275, 276, 277, 289, 290, 292, 293, 294, 1201, 1203, 1204, 1278, 1279, 1295]
theorem wX46_half_65 (S Z : Nat → Prop) {hx N : Nat} (hS : ∀ x, fe_mem lX46_half x = true → S x) (n : Nat) (a2 : Int64) (s0 : Nat) (s1 : Int32) (M : FM) (w : WI Z hx N M) (z_s0 : Z s0) : pq (FX46_half_65 n a2 s0 s1 M) (QA S Z hx N M) := by
  have hN := w.2.2.1
  have w0 := wk_r (S := S) w
  delta FX46_half_65 BX46_half_65
  refine pq_g (fun g1 => ?_)
  refine pq_b (wX46_raise S Z (sb rfl hS) _ _ _ _ w0.1 z_s0) (fun r2 K3 => ?_)
  have w4 := wk_t w0 K3 hN
  exact pq_s w4
theorem wX46_half_49 (S Z : Nat → Prop) {hx N : Nat} (hS : ∀ x, fe_mem lX46_half x = true → S x) (n : Nat) (a0 : Nat) (a2 : Int64) (a4 : Int64) (M : FM) (w : WI Z hx N M) (z_a0 : Z a0) : pq (FX46_half_49 n a0 a2 a4 M) (QA S Z hx N M) := by
  have hN := w.2.2.1
  have w0 := wk_r (S := S) w
  delta FX46_half_49 BX46_half_49
  refine pq_fi (fun _ => ?_) (fun _ => ?_)
  · exact q_tA hN w0 (wX46_half_65 S Z hS n _ _ _ _ w0.1 z_a0)
  · exact q_tA hN w0 (wX46_half_65 S Z hS n _ _ _ _ w0.1 z_a0)
theorem wX46_half_0 (S Z : Nat → Prop) {hx N : Nat} (hS : ∀ x, fe_mem lX46_half x = true → S x) (n : Nat) (a0 : Nat) (a1 : Int32) (M : FM) (w : WI Z hx N M) (z_a0 : Z a0) : pq (FX46_half_0 n a0 a1 M) (QA S Z hx N M) := by
  have hN := w.2.2.1
  have w0 := wk_r (S := S) w
  delta FX46_half_0 BX46_half_0
  refine pq_g (fun g1 => ?_)
  refine pq_b (wX46_counter S Z (sb rfl hS) _ _ w0.1 z_a0) (fun r2 K3 => ?_)
  have w4 := wk_t w0 K3 hN
  refine pq_g (fun g5 => ?_)
  have z6 := wk_z (i := 0) (f := 213) w4 rfl z_a0
  refine pq_g (fun g7 => ?_)
  refine pq_g (fun g8 => ?_)
  refine pq_b (wX46_find S Z (sb rfl hS) n _ _ _ _ _ _ w4.1 z_a0) (fun r9 K10 => ?_)
  have w11 := wk_t w4 K10 hN
  refine pq_fi (fun _ => ?_) (fun _ => ?_)
  · exact q_tA hN w11 (wX46_half_49 S Z hS n _ _ _ _ w11.1 z_a0)
  · refine pq_g (fun g12 => ?_)
    have z13 := wk_z (i := 0) (f := 210) w11 rfl z_a0
    refine pq_g (fun g14 => ?_)
    have z15 := wk_z (i := 0) (f := 18) w11 rfl z13
    refine pq_g (fun g16 => ?_)
    refine pq_b (wX11_has S Z (sb rfl hS) _ _ _ _ w11.1 z15) (fun r17 K18 => ?_)
    have w19 := wk_t w11 K18 hN
    refine pq_fi (fun _ => ?_) (fun _ => ?_)
    · exact q_tA hN w19 (wX46_half_49 S Z hS n _ _ _ _ w19.1 z_a0)
    · exact pq_s w19
theorem wX46_half (S Z : Nat → Prop) {hx N : Nat} (hS : ∀ x, fe_mem lX46_half x = true → S x) (n : Nat) (a0 : Nat) (a1 : Int32) (M : FM) (w : WI Z hx N M) (z_a0 : Z a0) : pq (FX46_half n a0 a1 M) (QA S Z hx N M) := wX46_half_0 S Z hS n a0 a1 M w z_a0
def lX103_bits : List Nat := []
theorem wX103_bits_0 (S Z : Nat → Prop) {hx N : Nat} (hS : ∀ x, fe_mem lX103_bits x = true → S x) (a0 : Int32) (a1 : Int32) (a2 : Int32) (M : FM) (w : WI Z hx N M) : pq (FX103_bits_0 a0 a1 a2 M) (QA S Z hx N M) := by
  have hN := w.2.2.1
  have w0 := wk_r (S := S) w
  delta FX103_bits_0 BX103_bits_0
  exact pq_s w0
theorem wX103_bits (S Z : Nat → Prop) {hx N : Nat} (hS : ∀ x, fe_mem lX103_bits x = true → S x) (a0 : Int32) (a1 : Int32) (a2 : Int32) (M : FM) (w : WI Z hx N M) : pq (FX103_bits a0 a1 a2 M) (QA S Z hx N M) := wX103_bits_0 S Z hS a0 a1 a2 M w 
def lX35_read : List Nat := []
theorem wX35_read_86 (S Z : Nat → Prop) {hx N : Nat} (hS : ∀ x, fe_mem lX35_read x = true → S x) (n : Nat) (k4 : Nat → Int32 → Int32 → Int32 → FM → Option (Int32 × FM)) (hk4 : ∀ (a0 : Nat) (a1 : Int32) (a2 : Int32) (a3 : Int32) (M : FM), WI Z hx N M → Z a0 → pq (k4 a0 a1 a2 a3 M) (QA S Z hx N M)) (s0 : Int32) (M : FM) (w : WI Z hx N M) : pq (FX35_read_86 n k4 s0 M) (QA S Z hx N M) := by
  have hN := w.2.2.1
  have w0 := wk_r (S := S) w
  delta FX35_read_86 BX35_read_86
  exact pq_s w0
theorem wX35_read_4 (S Z : Nat → Prop) {hx N : Nat} (hS : ∀ x, fe_mem lX35_read x = true → S x) (n : Nat) (k4 : Nat → Int32 → Int32 → Int32 → FM → Option (Int32 × FM)) (hk4 : ∀ (a0 : Nat) (a1 : Int32) (a2 : Int32) (a3 : Int32) (M : FM), WI Z hx N M → Z a0 → pq (k4 a0 a1 a2 a3 M) (QA S Z hx N M)) (a0 : Nat) (a1 : Int32) (a2 : Int32) (a3 : Int32) (M : FM) (w : WI Z hx N M) (z_a0 : Z a0) : pq (FX35_read_4 n k4 a0 a1 a2 a3 M) (QA S Z hx N M) := by
  have hN := w.2.2.1
  have w0 := wk_r (S := S) w
  delta FX35_read_4 BX35_read_4
  refine pq_g (fun g1 => ?_)
  have z2 := wk_z (i := 0) (f := 125) w0 rfl z_a0
  have f3 := sS_125 w0.1.1 g1
  refine pq_g (fun g4 => ?_)
  refine pq_fi (fun _ => ?_) (fun _ => ?_)
  · refine pq_g (fun g5 => ?_)
    refine pq_fi (fun _ => ?_) (fun _ => ?_)
    · exact q_tA hN w0 (wX35_read_86 S Z hS n _ hk4 _ _ w0.1 )
    · refine pq_g (fun g6 => ?_)
      refine pq_g (fun g7 => ?_)
      exact q_tA hN w0 (wX35_read_86 S Z hS n _ hk4 _ _ w0.1 )
  · refine pq_g (fun g8 => ?_)
    have z9 := wk_z (i := 0) (f := 125) w0 rfl z_a0
    have f10 := sS_125 w0.1.1 g8
    refine pq_g (fun g11 => ?_)
    refine pq_g (fun g12 => ?_)
    have z13 := wk_z (i := 0) (f := 125) w0 rfl z_a0
    have f14 := sS_125 w0.1.1 g12
    refine pq_g (fun g15 => ?_)
    refine pq_g (fun g16 => ?_)
    have z17 := wk_z (i := 0) (f := 125) w0 rfl z_a0
    have f18 := sS_125 w0.1.1 g16
    refine pq_g (fun g19 => ?_)
    refine pq_b (wX103_bits S Z (sb rfl hS) _ _ _ _ w0.1 ) (fun r20 K21 => ?_)
    have w22 := wk_t w0 K21 hN
    refine pq_g (fun g23 => ?_)
    have z24 := wk_z (i := 0) (f := 125) w22 rfl z_a0
    have f25 := sS_125 w22.1.1 g23
    refine pq_g (fun g26 => ?_)
    exact q_tA hN w22 (hk4 _ _ _ _ _ w22.1 z_a0)
theorem wX35_read_0 (S Z : Nat → Prop) {hx N : Nat} (hS : ∀ x, fe_mem lX35_read x = true → S x) (n : Nat) (k4 : Nat → Int32 → Int32 → Int32 → FM → Option (Int32 × FM)) (hk4 : ∀ (a0 : Nat) (a1 : Int32) (a2 : Int32) (a3 : Int32) (M : FM), WI Z hx N M → Z a0 → pq (k4 a0 a1 a2 a3 M) (QA S Z hx N M)) (a0 : Nat) (a1 : Int32) (M : FM) (w : WI Z hx N M) (z_a0 : Z a0) : pq (FX35_read_0 n k4 a0 a1 M) (QA S Z hx N M) := by
  have hN := w.2.2.1
  have w0 := wk_r (S := S) w
  delta FX35_read_0 BX35_read_0
  exact q_tA hN w0 (hk4 _ _ _ _ _ w0.1 z_a0)
theorem wX35_read_L (S Z : Nat → Prop) {hx N : Nat} (hS : ∀ x, fe_mem lX35_read x = true → S x) (n : Nat) : ∀ j : Nat, ∀ (a0 : Nat) (a1 : Int32) (a2 : Int32) (a3 : Int32) (M : FM), WI Z hx N M → Z a0 → pq (FX35_read_L4 n j a0 a1 a2 a3 M) (QA S Z hx N M)
  | 0 => by intros; exact pq_0
  | j + 1 => fun a0 a1 a2 a3 M w => wX35_read_4 S Z hS n _ (wX35_read_L S Z hS n j) a0 a1 a2 a3 M w
theorem wX35_read (S Z : Nat → Prop) {hx N : Nat} (hS : ∀ x, fe_mem lX35_read x = true → S x) (n : Nat) (a0 : Nat) (a1 : Int32) (M : FM) (w : WI Z hx N M) (z_a0 : Z a0) : pq (FX35_read n a0 a1 M) (QA S Z hx N M) := wX35_read_0 S Z hS n _ (wX35_read_L S Z hS n n) a0 a1 M w z_a0
def lX36_s : List Nat := []
theorem wX36_s_0 (S Z : Nat → Prop) {hx N : Nat} (hS : ∀ x, fe_mem lX36_s x = true → S x) (a0 : Int32) (M : FM) (w : WI Z hx N M) : pq (FX36_s_0 a0 M) (QA S Z hx N M) := by
  have hN := w.2.2.1
  have w0 := wk_r (S := S) w
  delta FX36_s_0 BX36_s_0
  refine pq_b (wX103_bits S Z (sb rfl hS) _ _ _ _ w0.1 ) (fun r1 K2 => ?_)
  have w3 := wk_t w0 K2 hN
  exact pq_s w3
theorem wX36_s (S Z : Nat → Prop) {hx N : Nat} (hS : ∀ x, fe_mem lX36_s x = true → S x) (a0 : Int32) (M : FM) (w : WI Z hx N M) : pq (FX36_s a0 M) (QA S Z hx N M) := wX36_s_0 S Z hS a0 M w 
def lX36_p : List Nat := []
theorem wX36_p_0 (S Z : Nat → Prop) {hx N : Nat} (hS : ∀ x, fe_mem lX36_p x = true → S x) (a0 : Int32) (M : FM) (w : WI Z hx N M) : pq (FX36_p_0 a0 M) (QA S Z hx N M) := by
  have hN := w.2.2.1
  have w0 := wk_r (S := S) w
  delta FX36_p_0 BX36_p_0
  refine pq_b (wX103_bits S Z (sb rfl hS) _ _ _ _ w0.1 ) (fun r1 K2 => ?_)
  have w3 := wk_t w0 K2 hN
  exact pq_s w3
theorem wX36_p (S Z : Nat → Prop) {hx N : Nat} (hS : ∀ x, fe_mem lX36_p x = true → S x) (a0 : Int32) (M : FM) (w : WI Z hx N M) : pq (FX36_p a0 M) (QA S Z hx N M) := wX36_p_0 S Z hS a0 M w 
def lX103_ofS : List Nat := []
theorem wX103_ofS_0 (S Z : Nat → Prop) {hx N : Nat} (hS : ∀ x, fe_mem lX103_ofS x = true → S x) (a0 : Int32) (a1 : Int32) (a2 : Int32) (a3 : Int32) (a4 : Int32) (M : FM) (w : WI Z hx N M) : pq (FX103_ofS_0 a0 a1 a2 a3 a4 M) (QA S Z hx N M) := by
  have hN := w.2.2.1
  have w0 := wk_r (S := S) w
  delta FX103_ofS_0 BX103_ofS_0
  refine pq_b (wX103_bits S Z (sb rfl hS) _ _ _ _ w0.1 ) (fun r1 K2 => ?_)
  have w3 := wk_t w0 K2 hN
  refine pq_b (wX103_bits S Z (sb rfl hS) _ _ _ _ w3.1 ) (fun r4 K5 => ?_)
  have w6 := wk_t w3 K5 hN
  exact pq_s w6
theorem wX103_ofS (S Z : Nat → Prop) {hx N : Nat} (hS : ∀ x, fe_mem lX103_ofS x = true → S x) (a0 : Int32) (a1 : Int32) (a2 : Int32) (a3 : Int32) (a4 : Int32) (M : FM) (w : WI Z hx N M) : pq (FX103_ofS a0 a1 a2 a3 a4 M) (QA S Z hx N M) := wX103_ofS_0 S Z hS a0 a1 a2 a3 a4 M w 
def lX103_ofI : List Nat := []
theorem wX103_ofI_0 (S Z : Nat → Prop) {hx N : Nat} (hS : ∀ x, fe_mem lX103_ofI x = true → S x) (a0 : Int32) (a1 : Int32) (a2 : Int32) (a3 : Int32) (a4 : Int32) (M : FM) (w : WI Z hx N M) : pq (FX103_ofI_0 a0 a1 a2 a3 a4 M) (QA S Z hx N M) := by
  have hN := w.2.2.1
  have w0 := wk_r (S := S) w
  delta FX103_ofI_0 BX103_ofI_0
  exact pq_s w0
theorem wX103_ofI (S Z : Nat → Prop) {hx N : Nat} (hS : ∀ x, fe_mem lX103_ofI x = true → S x) (a0 : Int32) (a1 : Int32) (a2 : Int32) (a3 : Int32) (a4 : Int32) (M : FM) (w : WI Z hx N M) : pq (FX103_ofI a0 a1 a2 a3 a4 M) (QA S Z hx N M) := wX103_ofI_0 S Z hS a0 a1 a2 a3 a4 M w 
def lX38_make : List Nat := []
theorem wX38_make_59 (S Z : Nat → Prop) {hx N : Nat} (hS : ∀ x, fe_mem lX38_make x = true → S x) (n : Nat) (s0 : Int32) (M : FM) (w : WI Z hx N M) : pq (FX38_make_59 n s0 M) (QA S Z hx N M) := by
  have hN := w.2.2.1
  have w0 := wk_r (S := S) w
  delta FX38_make_59 BX38_make_59
  exact pq_s w0
theorem wX38_make_0 (S Z : Nat → Prop) {hx N : Nat} (hS : ∀ x, fe_mem lX38_make x = true → S x) (n : Nat) (a0 : Nat) (a1 : Int32) (M : FM) (w : WI Z hx N M) (z_a0 : Z a0) : pq (FX38_make_0 n a0 a1 M) (QA S Z hx N M) := by
  have hN := w.2.2.1
  have w0 := wk_r (S := S) w
  delta FX38_make_0 BX38_make_0
  refine pq_g (fun g1 => ?_)
  have z2 := wk_z (i := 0) (f := 129) w0 rfl z_a0
  refine pq_g (fun g3 => ?_)
  refine pq_b (wX35_read S Z (sb rfl hS) n _ _ _ w0.1 z2) (fun r4 K5 => ?_)
  have w6 := wk_t w0 K5 hN
  refine pq_g (fun g7 => ?_)
  refine pq_fi (fun _ => ?_) (fun _ => ?_)
  · refine pq_g (fun g8 => ?_)
    refine pq_b (wX36_s S Z (sb rfl hS) _ _ w6.1 ) (fun r9 K10 => ?_)
    have w11 := wk_t w6 K10 hN
    refine pq_g (fun g12 => ?_)
    refine pq_b (wX36_p S Z (sb rfl hS) _ _ w11.1 ) (fun r13 K14 => ?_)
    have w15 := wk_t w11 K14 hN
    refine pq_b (wX103_ofI S Z (sb rfl hS) _ _ _ _ _ _ w15.1 ) (fun r16 K17 => ?_)
    have w18 := wk_t w15 K17 hN
    exact q_tA hN w18 (wX38_make_59 S Z hS n _ _ w18.1 )
  · refine pq_g (fun g19 => ?_)
    refine pq_g (fun g20 => ?_)
    refine pq_b (wX36_p S Z (sb rfl hS) _ _ w6.1 ) (fun r21 K22 => ?_)
    have w23 := wk_t w6 K22 hN
    refine pq_b (wX36_s S Z (sb rfl hS) _ _ w23.1 ) (fun r24 K25 => ?_)
    have w26 := wk_t w23 K25 hN
    refine pq_b (wX103_ofS S Z (sb rfl hS) _ _ _ _ _ _ w26.1 ) (fun r27 K28 => ?_)
    have w29 := wk_t w26 K28 hN
    exact q_tA hN w29 (wX38_make_59 S Z hS n _ _ w29.1 )
theorem wX38_make (S Z : Nat → Prop) {hx N : Nat} (hS : ∀ x, fe_mem lX38_make x = true → S x) (n : Nat) (a0 : Nat) (a1 : Int32) (M : FM) (w : WI Z hx N M) (z_a0 : Z a0) : pq (FX38_make n a0 a1 M) (QA S Z hx N M) := wX38_make_0 S Z hS n a0 a1 M w z_a0
def lX103_ofB : List Nat := []
theorem wX103_ofB_0 (S Z : Nat → Prop) {hx N : Nat} (hS : ∀ x, fe_mem lX103_ofB x = true → S x) (a0 : Int32) (a1 : Int32) (a2 : Int32) (a3 : Int32) (M : FM) (w : WI Z hx N M) : pq (FX103_ofB_0 a0 a1 a2 a3 M) (QA S Z hx N M) := by
  have hN := w.2.2.1
  have w0 := wk_r (S := S) w
  delta FX103_ofB_0 BX103_ofB_0
  refine pq_b (wX103_bits S Z (sb rfl hS) _ _ _ _ w0.1 ) (fun r1 K2 => ?_)
  have w3 := wk_t w0 K2 hN
  refine pq_b (wX103_bits S Z (sb rfl hS) _ _ _ _ w3.1 ) (fun r4 K5 => ?_)
  have w6 := wk_t w3 K5 hN
  refine pq_b (wX103_bits S Z (sb rfl hS) _ _ _ _ w6.1 ) (fun r7 K8 => ?_)
  have w9 := wk_t w6 K8 hN
  refine pq_b (wX103_bits S Z (sb rfl hS) _ _ _ _ w9.1 ) (fun r10 K11 => ?_)
  have w12 := wk_t w9 K11 hN
  exact pq_s w12
theorem wX103_ofB (S Z : Nat → Prop) {hx N : Nat} (hS : ∀ x, fe_mem lX103_ofB x = true → S x) (a0 : Int32) (a1 : Int32) (a2 : Int32) (a3 : Int32) (M : FM) (w : WI Z hx N M) : pq (FX103_ofB a0 a1 a2 a3 M) (QA S Z hx N M) := wX103_ofB_0 S Z hS a0 a1 a2 a3 M w 
def lX43_make : List Nat := []
theorem wX43_make_0 (S Z : Nat → Prop) {hx N : Nat} (hS : ∀ x, fe_mem lX43_make x = true → S x) (n : Nat) (a0 : Nat) (a1 : Int32) (M : FM) (w : WI Z hx N M) (z_a0 : Z a0) : pq (FX43_make_0 n a0 a1 M) (QA S Z hx N M) := by
  have hN := w.2.2.1
  have w0 := wk_r (S := S) w
  delta FX43_make_0 BX43_make_0
  refine pq_g (fun g1 => ?_)
  refine pq_b (wX36_p S Z (sb rfl hS) _ _ w0.1 ) (fun r2 K3 => ?_)
  have w4 := wk_t w0 K3 hN
  refine pq_g (fun g5 => ?_)
  have z6 := wk_z (i := 0) (f := 129) w4 rfl z_a0
  refine pq_g (fun g7 => ?_)
  refine pq_b (wX35_read S Z (sb rfl hS) n _ _ _ w4.1 z6) (fun r8 K9 => ?_)
  have w10 := wk_t w4 K9 hN
  refine pq_b (wX103_ofB S Z (sb rfl hS) _ _ _ _ _ w10.1 ) (fun r11 K12 => ?_)
  have w13 := wk_t w10 K12 hN
  exact pq_s w13
theorem wX43_make (S Z : Nat → Prop) {hx N : Nat} (hS : ∀ x, fe_mem lX43_make x = true → S x) (n : Nat) (a0 : Nat) (a1 : Int32) (M : FM) (w : WI Z hx N M) (z_a0 : Z a0) : pq (FX43_make n a0 a1 M) (QA S Z hx N M) := wX43_make_0 S Z hS n a0 a1 M w z_a0
def lX36_r : List Nat := []
theorem wX36_r_0 (S Z : Nat → Prop) {hx N : Nat} (hS : ∀ x, fe_mem lX36_r x = true → S x) (a0 : Int32) (M : FM) (w : WI Z hx N M) : pq (FX36_r_0 a0 M) (QA S Z hx N M) := by
  have hN := w.2.2.1
  have w0 := wk_r (S := S) w
  delta FX36_r_0 BX36_r_0
  refine pq_b (wX103_bits S Z (sb rfl hS) _ _ _ _ w0.1 ) (fun r1 K2 => ?_)
  have w3 := wk_t w0 K2 hN
  exact pq_s w3
theorem wX36_r (S Z : Nat → Prop) {hx N : Nat} (hS : ∀ x, fe_mem lX36_r x = true → S x) (a0 : Int32) (M : FM) (w : WI Z hx N M) : pq (FX36_r a0 M) (QA S Z hx N M) := wX36_r_0 S Z hS a0 M w 
def lX39_make : List Nat := []
theorem wX39_make_58 (S Z : Nat → Prop) {hx N : Nat} (hS : ∀ x, fe_mem lX39_make x = true → S x) (n : Nat) (s0 : Int32) (M : FM) (w : WI Z hx N M) : pq (FX39_make_58 n s0 M) (QA S Z hx N M) := by
  have hN := w.2.2.1
  have w0 := wk_r (S := S) w
  delta FX39_make_58 BX39_make_58
  exact pq_s w0
theorem wX39_make_47 (S Z : Nat → Prop) {hx N : Nat} (hS : ∀ x, fe_mem lX39_make x = true → S x) (n : Nat) (a0 : Nat) (a1 : Int32) (s0 : Int32) (s1 : Int32) (s2 : Int32) (s3 : Int32) (M : FM) (w : WI Z hx N M) (z_a0 : Z a0) : pq (FX39_make_47 n a0 a1 s0 s1 s2 s3 M) (QA S Z hx N M) := by
  have hN := w.2.2.1
  have w0 := wk_r (S := S) w
  delta FX39_make_47 BX39_make_47
  refine pq_g (fun g1 => ?_)
  have z2 := wk_z (i := 0) (f := 129) w0 rfl z_a0
  refine pq_g (fun g3 => ?_)
  refine pq_b (wX35_read S Z (sb rfl hS) n _ _ _ w0.1 z2) (fun r4 K5 => ?_)
  have w6 := wk_t w0 K5 hN
  refine pq_b (wX103_ofI S Z (sb rfl hS) _ _ _ _ _ _ w6.1 ) (fun r7 K8 => ?_)
  have w9 := wk_t w6 K8 hN
  exact q_tA hN w9 (wX39_make_58 S Z hS n _ _ w9.1 )
theorem wX39_make_20 (S Z : Nat → Prop) {hx N : Nat} (hS : ∀ x, fe_mem lX39_make x = true → S x) (n : Nat) (a0 : Nat) (a1 : Int32) (M : FM) (w : WI Z hx N M) (z_a0 : Z a0) : pq (FX39_make_20 n a0 a1 M) (QA S Z hx N M) := by
  have hN := w.2.2.1
  have w0 := wk_r (S := S) w
  delta FX39_make_20 BX39_make_20
  refine pq_g (fun g1 => ?_)
  refine pq_b (wX36_r S Z (sb rfl hS) _ _ w0.1 ) (fun r2 K3 => ?_)
  have w4 := wk_t w0 K3 hN
  refine pq_g (fun g5 => ?_)
  refine pq_g (fun g6 => ?_)
  refine pq_fi (fun _ => ?_) (fun _ => ?_)
  · refine pq_b (wX36_r S Z (sb rfl hS) _ _ w4.1 ) (fun r7 K8 => ?_)
    have w9 := wk_t w4 K8 hN
    exact q_tA hN w9 (wX39_make_47 S Z hS n _ _ _ _ _ _ _ w9.1 z_a0)
  · exact q_tA hN w4 (wX39_make_47 S Z hS n _ _ _ _ _ _ _ w4.1 z_a0)
theorem wX39_make_0 (S Z : Nat → Prop) {hx N : Nat} (hS : ∀ x, fe_mem lX39_make x = true → S x) (n : Nat) (a0 : Nat) (a1 : Int32) (M : FM) (w : WI Z hx N M) (z_a0 : Z a0) : pq (FX39_make_0 n a0 a1 M) (QA S Z hx N M) := by
  have hN := w.2.2.1
  have w0 := wk_r (S := S) w
  delta FX39_make_0 BX39_make_0
  refine pq_g (fun g1 => ?_)
  refine pq_fi (fun _ => ?_) (fun _ => ?_)
  · refine pq_b (wX36_r S Z (sb rfl hS) _ _ w0.1 ) (fun r2 K3 => ?_)
    have w4 := wk_t w0 K3 hN
    refine pq_fi (fun _ => ?_) (fun _ => ?_)
    · exact q_tA hN w4 (wX39_make_58 S Z hS n _ _ w4.1 )
    · exact q_tA hN w4 (wX39_make_20 S Z hS n _ _ _ w4.1 z_a0)
  · exact q_tA hN w0 (wX39_make_20 S Z hS n _ _ _ w0.1 z_a0)
theorem wX39_make (S Z : Nat → Prop) {hx N : Nat} (hS : ∀ x, fe_mem lX39_make x = true → S x) (n : Nat) (a0 : Nat) (a1 : Int32) (M : FM) (w : WI Z hx N M) (z_a0 : Z a0) : pq (FX39_make n a0 a1 M) (QA S Z hx N M) := wX39_make_0 S Z hS n a0 a1 M w z_a0
def lX103_ofJ : List Nat := []
theorem wX103_ofJ_0 (S Z : Nat → Prop) {hx N : Nat} (hS : ∀ x, fe_mem lX103_ofJ x = true → S x) (a0 : Int32) (a1 : Int32) (M : FM) (w : WI Z hx N M) : pq (FX103_ofJ_0 a0 a1 M) (QA S Z hx N M) := by
  have hN := w.2.2.1
  have w0 := wk_r (S := S) w
  delta FX103_ofJ_0 BX103_ofJ_0
  refine pq_b (wX103_bits S Z (sb rfl hS) _ _ _ _ w0.1 ) (fun r1 K2 => ?_)
  have w3 := wk_t w0 K2 hN
  refine pq_b (wX103_bits S Z (sb rfl hS) _ _ _ _ w3.1 ) (fun r4 K5 => ?_)
  have w6 := wk_t w3 K5 hN
  refine pq_b (wX103_bits S Z (sb rfl hS) _ _ _ _ w6.1 ) (fun r7 K8 => ?_)
  have w9 := wk_t w6 K8 hN
  refine pq_b (wX103_bits S Z (sb rfl hS) _ _ _ _ w9.1 ) (fun r10 K11 => ?_)
  have w12 := wk_t w9 K11 hN
  exact pq_s w12
theorem wX103_ofJ (S Z : Nat → Prop) {hx N : Nat} (hS : ∀ x, fe_mem lX103_ofJ x = true → S x) (a0 : Int32) (a1 : Int32) (M : FM) (w : WI Z hx N M) : pq (FX103_ofJ a0 a1 M) (QA S Z hx N M) := wX103_ofJ_0 S Z hS a0 a1 M w 
def lX42_make : List Nat := []
theorem wX42_make_0 (S Z : Nat → Prop) {hx N : Nat} (hS : ∀ x, fe_mem lX42_make x = true → S x) (n : Nat) (a0 : Nat) (a1 : Int32) (M : FM) (w : WI Z hx N M) (z_a0 : Z a0) : pq (FX42_make_0 n a0 a1 M) (QA S Z hx N M) := by
  have hN := w.2.2.1
  have w0 := wk_r (S := S) w
  delta FX42_make_0 BX42_make_0
  refine pq_g (fun g1 => ?_)
  have z2 := wk_z (i := 0) (f := 129) w0 rfl z_a0
  refine pq_g (fun g3 => ?_)
  refine pq_b (wX35_read S Z (sb rfl hS) n _ _ _ w0.1 z2) (fun r4 K5 => ?_)
  have w6 := wk_t w0 K5 hN
  refine pq_b (wX103_ofJ S Z (sb rfl hS) _ _ _ w6.1 ) (fun r7 K8 => ?_)
  have w9 := wk_t w6 K8 hN
  exact pq_s w9
theorem wX42_make (S Z : Nat → Prop) {hx N : Nat} (hS : ∀ x, fe_mem lX42_make x = true → S x) (n : Nat) (a0 : Nat) (a1 : Int32) (M : FM) (w : WI Z hx N M) (z_a0 : Z a0) : pq (FX42_make n a0 a1 M) (QA S Z hx N M) := wX42_make_0 S Z hS n a0 a1 M w z_a0
def lX103_ofR : List Nat := []
theorem wX103_ofR_0 (S Z : Nat → Prop) {hx N : Nat} (hS : ∀ x, fe_mem lX103_ofR x = true → S x) (a0 : Int32) (a1 : Int32) (a2 : Int32) (a3 : Int32) (a4 : Int32) (a5 : Int32) (M : FM) (w : WI Z hx N M) : pq (FX103_ofR_0 a0 a1 a2 a3 a4 a5 M) (QA S Z hx N M) := by
  have hN := w.2.2.1
  have w0 := wk_r (S := S) w
  delta FX103_ofR_0 BX103_ofR_0
  exact pq_s w0
theorem wX103_ofR (S Z : Nat → Prop) {hx N : Nat} (hS : ∀ x, fe_mem lX103_ofR x = true → S x) (a0 : Int32) (a1 : Int32) (a2 : Int32) (a3 : Int32) (a4 : Int32) (a5 : Int32) (M : FM) (w : WI Z hx N M) : pq (FX103_ofR a0 a1 a2 a3 a4 a5 M) (QA S Z hx N M) := wX103_ofR_0 S Z hS a0 a1 a2 a3 a4 a5 M w 
def lX41_make : List Nat := []
theorem wX41_make_143 (S Z : Nat → Prop) {hx N : Nat} (hS : ∀ x, fe_mem lX41_make x = true → S x) (n : Nat) (s0 : Int32) (M : FM) (w : WI Z hx N M) : pq (FX41_make_143 n s0 M) (QA S Z hx N M) := by
  have hN := w.2.2.1
  have w0 := wk_r (S := S) w
  delta FX41_make_143 BX41_make_143
  exact pq_s w0
theorem wX41_make_0 (S Z : Nat → Prop) {hx N : Nat} (hS : ∀ x, fe_mem lX41_make x = true → S x) (n : Nat) (a0 : Nat) (a1 : Int32) (M : FM) (w : WI Z hx N M) (z_a0 : Z a0) : pq (FX41_make_0 n a0 a1 M) (QA S Z hx N M) := by
  have hN := w.2.2.1
  have w0 := wk_r (S := S) w
  delta FX41_make_0 BX41_make_0
  refine pq_b (wX103_bits S Z (sb rfl hS) _ _ _ _ w0.1 ) (fun r1 K2 => ?_)
  have w3 := wk_t w0 K2 hN
  refine pq_fi (fun _ => ?_) (fun _ => ?_)
  · refine pq_fi (fun _ => ?_) (fun _ => ?_)
    · refine pq_b (wX36_p S Z (sb rfl hS) _ _ w3.1 ) (fun r4 K5 => ?_)
      have w6 := wk_t w3 K5 hN
      refine pq_b (wX36_p S Z (sb rfl hS) _ _ w6.1 ) (fun r7 K8 => ?_)
      have w9 := wk_t w6 K8 hN
      refine pq_g (fun g10 => ?_)
      have z11 := wk_z (i := 0) (f := 137) w9 rfl z_a0
      refine pq_g (fun g12 => ?_)
      refine pq_b (wX35_read S Z (sb rfl hS) n _ _ _ w9.1 z11) (fun r13 K14 => ?_)
      have w15 := wk_t w9 K14 hN
      refine pq_b (wX103_ofI S Z (sb rfl hS) _ _ _ _ _ _ w15.1 ) (fun r16 K17 => ?_)
      have w18 := wk_t w15 K17 hN
      exact pq_s w18
    · refine pq_b (wX103_bits S Z (sb rfl hS) _ _ _ _ w3.1 ) (fun r19 K20 => ?_)
      have w21 := wk_t w3 K20 hN
      refine pq_b (wX103_bits S Z (sb rfl hS) _ _ _ _ w21.1 ) (fun r22 K23 => ?_)
      have w24 := wk_t w21 K23 hN
      refine pq_g (fun g25 => ?_)
      have z26 := wk_z (i := 0) (f := 136) w24 rfl z_a0
      have f27 := sS_136 w24.1.1 g25
      refine pq_g (fun g28 => ?_)
      refine pq_fi (fun _ => ?_) (fun _ => ?_)
      · refine pq_g (fun g29 => ?_)
        have z30 := wk_z (i := 0) (f := 136) w24 rfl z_a0
        have f31 := sS_136 w24.1.1 g29
        refine pq_g (fun g32 => ?_)
        refine pq_b (wX36_p S Z (sb rfl hS) _ _ w24.1 ) (fun r33 K34 => ?_)
        have w35 := wk_t w24 K34 hN
        refine pq_g (fun g36 => ?_)
        have z37 := wk_z (i := 0) (f := 136) w35 rfl z_a0
        have f38 := sS_136 w35.1.1 g36
        refine pq_g (fun g39 => ?_)
        refine pq_b (wX36_p S Z (sb rfl hS) _ _ w35.1 ) (fun r40 K41 => ?_)
        have w42 := wk_t w35 K41 hN
        refine pq_b (wX36_s S Z (sb rfl hS) _ _ w42.1 ) (fun r43 K44 => ?_)
        have w45 := wk_t w42 K44 hN
        refine pq_g (fun g46 => ?_)
        have z47 := wk_z (i := 0) (f := 136) w45 rfl z_a0
        have f48 := sS_136 w45.1.1 g46
        refine pq_g (fun g49 => ?_)
        refine pq_b (wX103_ofR S Z (sb rfl hS) _ _ _ _ _ _ _ w45.1 ) (fun r50 K51 => ?_)
        have w52 := wk_t w45 K51 hN
        exact q_tA hN w52 (wX41_make_143 S Z hS n _ _ w52.1 )
      · exact q_tA hN w24 (wX41_make_143 S Z hS n _ _ w24.1 )
  · refine pq_b (wX36_p S Z (sb rfl hS) _ _ w3.1 ) (fun r53 K54 => ?_)
    have w55 := wk_t w3 K54 hN
    refine pq_b (wX36_p S Z (sb rfl hS) _ _ w55.1 ) (fun r56 K57 => ?_)
    have w58 := wk_t w55 K57 hN
    refine pq_g (fun g59 => ?_)
    have z60 := wk_z (i := 0) (f := 129) w58 rfl z_a0
    refine pq_g (fun g61 => ?_)
    refine pq_b (wX35_read S Z (sb rfl hS) n _ _ _ w58.1 z60) (fun r62 K63 => ?_)
    have w64 := wk_t w58 K63 hN
    refine pq_b (wX103_ofI S Z (sb rfl hS) _ _ _ _ _ _ w64.1 ) (fun r65 K66 => ?_)
    have w67 := wk_t w64 K66 hN
    exact pq_s w67
theorem wX41_make (S Z : Nat → Prop) {hx N : Nat} (hS : ∀ x, fe_mem lX41_make x = true → S x) (n : Nat) (a0 : Nat) (a1 : Int32) (M : FM) (w : WI Z hx N M) (z_a0 : Z a0) : pq (FX41_make n a0 a1 M) (QA S Z hx N M) := wX41_make_0 S Z hS n a0 a1 M w z_a0
def lX36_q : List Nat := []
theorem wX36_q_0 (S Z : Nat → Prop) {hx N : Nat} (hS : ∀ x, fe_mem lX36_q x = true → S x) (a0 : Int32) (M : FM) (w : WI Z hx N M) : pq (FX36_q_0 a0 M) (QA S Z hx N M) := by
  have hN := w.2.2.1
  have w0 := wk_r (S := S) w
  delta FX36_q_0 BX36_q_0
  refine pq_b (wX103_bits S Z (sb rfl hS) _ _ _ _ w0.1 ) (fun r1 K2 => ?_)
  have w3 := wk_t w0 K2 hN
  exact pq_s w3
theorem wX36_q (S Z : Nat → Prop) {hx N : Nat} (hS : ∀ x, fe_mem lX36_q x = true → S x) (a0 : Int32) (M : FM) (w : WI Z hx N M) : pq (FX36_q a0 M) (QA S Z hx N M) := wX36_q_0 S Z hS a0 M w 
def lX44_make : List Nat := []
theorem wX44_make_70 (S Z : Nat → Prop) {hx N : Nat} (hS : ∀ x, fe_mem lX44_make x = true → S x) (n : Nat) (s0 : Int32) (M : FM) (w : WI Z hx N M) : pq (FX44_make_70 n s0 M) (QA S Z hx N M) := by
  have hN := w.2.2.1
  have w0 := wk_r (S := S) w
  delta FX44_make_70 BX44_make_70
  exact pq_s w0
theorem wX44_make_53 (S Z : Nat → Prop) {hx N : Nat} (hS : ∀ x, fe_mem lX44_make x = true → S x) (n : Nat) (a0 : Nat) (a1 : Int32) (a2 : Int32) (M : FM) (w : WI Z hx N M) (z_a0 : Z a0) : pq (FX44_make_53 n a0 a1 a2 M) (QA S Z hx N M) := by
  have hN := w.2.2.1
  have w0 := wk_r (S := S) w
  delta FX44_make_53 BX44_make_53
  refine pq_g (fun g1 => ?_)
  refine pq_b (wX36_r S Z (sb rfl hS) _ _ w0.1 ) (fun r2 K3 => ?_)
  have w4 := wk_t w0 K3 hN
  refine pq_g (fun g5 => ?_)
  refine pq_b (wX103_ofI S Z (sb rfl hS) _ _ _ _ _ _ w4.1 ) (fun r6 K7 => ?_)
  have w8 := wk_t w4 K7 hN
  exact q_tA hN w8 (wX44_make_70 S Z hS n _ _ w8.1 )
theorem wX44_make_0 (S Z : Nat → Prop) {hx N : Nat} (hS : ∀ x, fe_mem lX44_make x = true → S x) (n : Nat) (a0 : Nat) (a1 : Int32) (M : FM) (w : WI Z hx N M) (z_a0 : Z a0) : pq (FX44_make_0 n a0 a1 M) (QA S Z hx N M) := by
  have hN := w.2.2.1
  have w0 := wk_r (S := S) w
  delta FX44_make_0 BX44_make_0
  refine pq_g (fun g1 => ?_)
  have z2 := wk_z (i := 0) (f := 129) w0 rfl z_a0
  refine pq_g (fun g3 => ?_)
  refine pq_b (wX35_read S Z (sb rfl hS) n _ _ _ w0.1 z2) (fun r4 K5 => ?_)
  have w6 := wk_t w0 K5 hN
  refine pq_g (fun g7 => ?_)
  refine pq_fi (fun _ => ?_) (fun _ => ?_)
  · refine pq_g (fun g8 => ?_)
    refine pq_fi (fun _ => ?_) (fun _ => ?_)
    · refine pq_b (wX36_r S Z (sb rfl hS) _ _ w6.1 ) (fun r9 K10 => ?_)
      have w11 := wk_t w6 K10 hN
      refine pq_fi (fun _ => ?_) (fun _ => ?_)
      · exact q_tA hN w11 (wX44_make_70 S Z hS n _ _ w11.1 )
      · exact q_tA hN w11 (wX44_make_53 S Z hS n _ _ _ _ w11.1 z_a0)
    · exact q_tA hN w6 (wX44_make_53 S Z hS n _ _ _ _ w6.1 z_a0)
  · refine pq_g (fun g12 => ?_)
    refine pq_g (fun g13 => ?_)
    refine pq_b (wX36_q S Z (sb rfl hS) _ _ w6.1 ) (fun r14 K15 => ?_)
    have w16 := wk_t w6 K15 hN
    refine pq_b (wX103_ofS S Z (sb rfl hS) _ _ _ _ _ _ w16.1 ) (fun r17 K18 => ?_)
    have w19 := wk_t w16 K18 hN
    exact pq_s w19
theorem wX44_make (S Z : Nat → Prop) {hx N : Nat} (hS : ∀ x, fe_mem lX44_make x = true → S x) (n : Nat) (a0 : Nat) (a1 : Int32) (M : FM) (w : WI Z hx N M) (z_a0 : Z a0) : pq (FX44_make n a0 a1 M) (QA S Z hx N M) := wX44_make_0 S Z hS n a0 a1 M w z_a0
def lX103_ofU : List Nat := []
theorem wX103_ofU_0 (S Z : Nat → Prop) {hx N : Nat} (hS : ∀ x, fe_mem lX103_ofU x = true → S x) (a0 : Int32) (a1 : Int32) (a2 : Int32) (M : FM) (w : WI Z hx N M) : pq (FX103_ofU_0 a0 a1 a2 M) (QA S Z hx N M) := by
  have hN := w.2.2.1
  have w0 := wk_r (S := S) w
  delta FX103_ofU_0 BX103_ofU_0
  exact pq_s w0
theorem wX103_ofU (S Z : Nat → Prop) {hx N : Nat} (hS : ∀ x, fe_mem lX103_ofU x = true → S x) (a0 : Int32) (a1 : Int32) (a2 : Int32) (M : FM) (w : WI Z hx N M) : pq (FX103_ofU a0 a1 a2 M) (QA S Z hx N M) := wX103_ofU_0 S Z hS a0 a1 a2 M w 
def lX40_make : List Nat := []
theorem wX40_make_65 (S Z : Nat → Prop) {hx N : Nat} (hS : ∀ x, fe_mem lX40_make x = true → S x) (n : Nat) (s0 : Int32) (M : FM) (w : WI Z hx N M) : pq (FX40_make_65 n s0 M) (QA S Z hx N M) := by
  have hN := w.2.2.1
  have w0 := wk_r (S := S) w
  delta FX40_make_65 BX40_make_65
  exact pq_s w0
theorem wX40_make_34 (S Z : Nat → Prop) {hx N : Nat} (hS : ∀ x, fe_mem lX40_make x = true → S x) (n : Nat) (s0 : Int32) (M : FM) (w : WI Z hx N M) : pq (FX40_make_34 n s0 M) (QA S Z hx N M) := by
  have hN := w.2.2.1
  have w0 := wk_r (S := S) w
  delta FX40_make_34 BX40_make_34
  exact pq_s w0
theorem wX40_make_0 (S Z : Nat → Prop) {hx N : Nat} (hS : ∀ x, fe_mem lX40_make x = true → S x) (n : Nat) (a0 : Nat) (a1 : Int32) (M : FM) (w : WI Z hx N M) (z_a0 : Z a0) : pq (FX40_make_0 n a0 a1 M) (QA S Z hx N M) := by
  have hN := w.2.2.1
  have w0 := wk_r (S := S) w
  delta FX40_make_0 BX40_make_0
  refine pq_b (wX36_r S Z (sb rfl hS) _ _ w0.1 ) (fun r1 K2 => ?_)
  have w3 := wk_t w0 K2 hN
  refine pq_fi (fun _ => ?_) (fun _ => ?_)
  · refine pq_g (fun g4 => ?_)
    have z5 := wk_z (i := 0) (f := 129) w3 rfl z_a0
    refine pq_g (fun g6 => ?_)
    refine pq_b (wX35_read S Z (sb rfl hS) n _ _ _ w3.1 z5) (fun r7 K8 => ?_)
    have w9 := wk_t w3 K8 hN
    refine pq_fi (fun _ => ?_) (fun _ => ?_)
    · exact q_tA hN w9 (wX40_make_34 S Z hS n _ _ w9.1 )
    · refine pq_b (wX103_ofI S Z (sb rfl hS) _ _ _ _ _ _ w9.1 ) (fun r10 K11 => ?_)
      have w12 := wk_t w9 K11 hN
      exact q_tA hN w12 (wX40_make_34 S Z hS n _ _ w12.1 )
  · refine pq_g (fun g13 => ?_)
    have z14 := wk_z (i := 0) (f := 141) w3 rfl z_a0
    refine pq_g (fun g15 => ?_)
    refine pq_b (wX35_read S Z (sb rfl hS) n _ _ _ w3.1 z14) (fun r16 K17 => ?_)
    have w18 := wk_t w3 K17 hN
    refine pq_fi (fun _ => ?_) (fun _ => ?_)
    · exact q_tA hN w18 (wX40_make_65 S Z hS n _ _ w18.1 )
    · refine pq_b (wX36_r S Z (sb rfl hS) _ _ w18.1 ) (fun r19 K20 => ?_)
      have w21 := wk_t w18 K20 hN
      refine pq_b (wX103_ofU S Z (sb rfl hS) _ _ _ _ w21.1 ) (fun r22 K23 => ?_)
      have w24 := wk_t w21 K23 hN
      exact q_tA hN w24 (wX40_make_65 S Z hS n _ _ w24.1 )
theorem wX40_make (S Z : Nat → Prop) {hx N : Nat} (hS : ∀ x, fe_mem lX40_make x = true → S x) (n : Nat) (a0 : Nat) (a1 : Int32) (M : FM) (w : WI Z hx N M) (z_a0 : Z a0) : pq (FX40_make n a0 a1 M) (QA S Z hx N M) := wX40_make_0 S Z hS n a0 a1 M w z_a0
def lX37_make : List Nat := []
theorem wX37_make_29 (S Z : Nat → Prop) {hx N : Nat} (hS : ∀ x, fe_mem lX37_make x = true → S x) (n : Nat) (s0 : Int32) (M : FM) (w : WI Z hx N M) : pq (FX37_make_29 n s0 M) (QA S Z hx N M) := by
  have hN := w.2.2.1
  have w0 := wk_r (S := S) w
  delta FX37_make_29 BX37_make_29
  exact pq_s w0
theorem wX37_make_0 (S Z : Nat → Prop) {hx N : Nat} (hS : ∀ x, fe_mem lX37_make x = true → S x) (n : Nat) (a0 : Nat) (a1 : Int32) (M : FM) (w : WI Z hx N M) (z_a0 : Z a0) : pq (FX37_make_0 n a0 a1 M) (QA S Z hx N M) := by
  have hN := w.2.2.1
  have w0 := wk_r (S := S) w
  delta FX37_make_0 BX37_make_0
  refine pq_g (fun g1 => ?_)
  have z2 := wk_z (i := 0) (f := 129) w0 rfl z_a0
  refine pq_g (fun g3 => ?_)
  refine pq_b (wX35_read S Z (sb rfl hS) n _ _ _ w0.1 z2) (fun r4 K5 => ?_)
  have w6 := wk_t w0 K5 hN
  refine pq_fi (fun _ => ?_) (fun _ => ?_)
  · exact q_tA hN w6 (wX37_make_29 S Z hS n _ _ w6.1 )
  · refine pq_b (wX36_s S Z (sb rfl hS) _ _ w6.1 ) (fun r7 K8 => ?_)
    have w9 := wk_t w6 K8 hN
    refine pq_b (wX103_ofI S Z (sb rfl hS) _ _ _ _ _ _ w9.1 ) (fun r10 K11 => ?_)
    have w12 := wk_t w9 K11 hN
    exact q_tA hN w12 (wX37_make_29 S Z hS n _ _ w12.1 )
theorem wX37_make (S Z : Nat → Prop) {hx N : Nat} (hS : ∀ x, fe_mem lX37_make x = true → S x) (n : Nat) (a0 : Nat) (a1 : Int32) (M : FM) (w : WI Z hx N M) (z_a0 : Z a0) : pq (FX37_make n a0 a1 M) (QA S Z hx N M) := wX37_make_0 S Z hS n a0 a1 M w z_a0
def lX45_make : List Nat := []
theorem wX45_make_82 (S Z : Nat → Prop) {hx N : Nat} (hS : ∀ x, fe_mem lX45_make x = true → S x) (a1 : Int32) (s0 : Int32) (s1 : Int32) (M : FM) (w : WI Z hx N M) : pq (FX45_make_82 a1 s0 s1 M) (QA S Z hx N M) := by
  have hN := w.2.2.1
  have w0 := wk_r (S := S) w
  delta FX45_make_82 BX45_make_82
  refine pq_b (wX36_r S Z (sb rfl hS) _ _ w0.1 ) (fun r1 K2 => ?_)
  have w3 := wk_t w0 K2 hN
  refine pq_b (wX103_ofI S Z (sb rfl hS) _ _ _ _ _ _ w3.1 ) (fun r4 K5 => ?_)
  have w6 := wk_t w3 K5 hN
  exact pq_s w6
theorem wX45_make_70 (S Z : Nat → Prop) {hx N : Nat} (hS : ∀ x, fe_mem lX45_make x = true → S x) (s0 : Int32) (M : FM) (w : WI Z hx N M) : pq (FX45_make_70 s0 M) (QA S Z hx N M) := by
  have hN := w.2.2.1
  have w0 := wk_r (S := S) w
  delta FX45_make_70 BX45_make_70
  exact pq_s w0
theorem wX45_make_44 (S Z : Nat → Prop) {hx N : Nat} (hS : ∀ x, fe_mem lX45_make x = true → S x) (a1 : Int32) (s0 : Int32) (s1 : Int32) (s2 : Int32) (s3 : Int32) (M : FM) (w : WI Z hx N M) : pq (FX45_make_44 a1 s0 s1 s2 s3 M) (QA S Z hx N M) := by
  have hN := w.2.2.1
  have w0 := wk_r (S := S) w
  delta FX45_make_44 BX45_make_44
  refine pq_b (wX36_q S Z (sb rfl hS) _ _ w0.1 ) (fun r1 K2 => ?_)
  have w3 := wk_t w0 K2 hN
  refine pq_b (wX103_ofR S Z (sb rfl hS) _ _ _ _ _ _ _ w3.1 ) (fun r4 K5 => ?_)
  have w6 := wk_t w3 K5 hN
  exact pq_s w6
theorem wX45_make_17 (S Z : Nat → Prop) {hx N : Nat} (hS : ∀ x, fe_mem lX45_make x = true → S x) (a1 : Int32) (s0 : Int32) (M : FM) (w : WI Z hx N M) : pq (FX45_make_17 a1 s0 M) (QA S Z hx N M) := by
  have hN := w.2.2.1
  have w0 := wk_r (S := S) w
  delta FX45_make_17 BX45_make_17
  refine pq_b (wX36_q S Z (sb rfl hS) _ _ w0.1 ) (fun r1 K2 => ?_)
  have w3 := wk_t w0 K2 hN
  refine pq_fi (fun _ => ?_) (fun _ => ?_)
  · refine pq_b (wX36_r S Z (sb rfl hS) _ _ w3.1 ) (fun r4 K5 => ?_)
    have w6 := wk_t w3 K5 hN
    refine pq_fi (fun _ => ?_) (fun _ => ?_)
    · refine pq_fi (fun _ => ?_) (fun _ => ?_)
      · exact q_tA hN w6 (wX45_make_70 S Z hS _ _ w6.1 )
      · exact q_tA hN w6 (wX45_make_70 S Z hS _ _ w6.1 )
    · refine pq_fi (fun _ => ?_) (fun _ => ?_)
      · exact q_tA hN w6 (wX45_make_82 S Z hS _ _ _ _ w6.1 )
      · exact q_tA hN w6 (wX45_make_82 S Z hS _ _ _ _ w6.1 )
  · refine pq_b (wX36_r S Z (sb rfl hS) _ _ w3.1 ) (fun r7 K8 => ?_)
    have w9 := wk_t w3 K8 hN
    refine pq_fi (fun _ => ?_) (fun _ => ?_)
    · exact q_tA hN w9 (wX45_make_44 S Z hS _ _ _ _ _ _ w9.1 )
    · refine pq_b (wX36_r S Z (sb rfl hS) _ _ w9.1 ) (fun r10 K11 => ?_)
      have w12 := wk_t w9 K11 hN
      exact q_tA hN w12 (wX45_make_44 S Z hS _ _ _ _ _ _ w12.1 )
theorem wX45_make_0 (S Z : Nat → Prop) {hx N : Nat} (hS : ∀ x, fe_mem lX45_make x = true → S x) (a0 : Nat) (a1 : Int32) (M : FM) (w : WI Z hx N M) (z_a0 : Z a0) : pq (FX45_make_0 a0 a1 M) (QA S Z hx N M) := by
  have hN := w.2.2.1
  have w0 := wk_r (S := S) w
  delta FX45_make_0 BX45_make_0
  refine pq_b (wX103_bits S Z (sb rfl hS) _ _ _ _ w0.1 ) (fun r1 K2 => ?_)
  have w3 := wk_t w0 K2 hN
  refine pq_fi (fun _ => ?_) (fun _ => ?_)
  · exact q_tA hN w3 (wX45_make_17 S Z hS _ _ _ w3.1 )
  · exact q_tA hN w3 (wX45_make_17 S Z hS _ _ _ w3.1 )
theorem wX45_make (S Z : Nat → Prop) {hx N : Nat} (hS : ∀ x, fe_mem lX45_make x = true → S x) (a0 : Nat) (a1 : Int32) (M : FM) (w : WI Z hx N M) (z_a0 : Z a0) : pq (FX45_make a0 a1 M) (QA S Z hx N M) := wX45_make_0 S Z hS a0 a1 M w z_a0
def lX34_expand : List Nat := []
theorem wX34_expand_41 (S Z : Nat → Prop) {hx N : Nat} (hS : ∀ x, fe_mem lX34_expand x = true → S x) (n : Nat) (s0 : Int32) (M : FM) (w : WI Z hx N M) : pq (FX34_expand_41 n s0 M) (QA S Z hx N M) := by
  have hN := w.2.2.1
  have w0 := wk_r (S := S) w
  delta FX34_expand_41 BX34_expand_41
  exact pq_s w0
theorem wX34_expand_27 (S Z : Nat → Prop) {hx N : Nat} (hS : ∀ x, fe_mem lX34_expand x = true → S x) (n : Nat) (a1 : Int32) (s0 : Nat) (M : FM) (w : WI Z hx N M) (z_s0 : Z s0) : pq (FX34_expand_27 n a1 s0 M) (QA S Z hx N M) := by
  have hN := w.2.2.1
  have w0 := wk_r (S := S) w
  delta FX34_expand_27 BX34_expand_27
  refine pq_fi (fun _ => ?_) (fun _ => ?_)
  · exact q_tA hN w0 (wX34_expand_41 S Z hS n _ _ w0.1 )
  · refine pq_fi (fun _ => ?_) (fun _ => ?_)
    · refine pq_b (wX38_make S Z (sb rfl hS) n _ _ _ w0.1 z_s0) (fun r1 K2 => ?_)
      have w3 := wk_t w0 K2 hN
      exact q_tA hN w3 (wX34_expand_41 S Z hS n _ _ w3.1 )
    · refine pq_fi (fun _ => ?_) (fun _ => ?_)
      · refine pq_b (wX43_make S Z (sb rfl hS) n _ _ _ w0.1 z_s0) (fun r4 K5 => ?_)
        have w6 := wk_t w0 K5 hN
        exact q_tA hN w6 (wX34_expand_41 S Z hS n _ _ w6.1 )
      · refine pq_fi (fun _ => ?_) (fun _ => ?_)
        · refine pq_b (wX39_make S Z (sb rfl hS) n _ _ _ w0.1 z_s0) (fun r7 K8 => ?_)
          have w9 := wk_t w0 K8 hN
          exact q_tA hN w9 (wX34_expand_41 S Z hS n _ _ w9.1 )
        · refine pq_fi (fun _ => ?_) (fun _ => ?_)
          · refine pq_b (wX42_make S Z (sb rfl hS) n _ _ _ w0.1 z_s0) (fun r10 K11 => ?_)
            have w12 := wk_t w0 K11 hN
            exact q_tA hN w12 (wX34_expand_41 S Z hS n _ _ w12.1 )
          · refine pq_fi (fun _ => ?_) (fun _ => ?_)
            · refine pq_b (wX41_make S Z (sb rfl hS) n _ _ _ w0.1 z_s0) (fun r13 K14 => ?_)
              have w15 := wk_t w0 K14 hN
              exact q_tA hN w15 (wX34_expand_41 S Z hS n _ _ w15.1 )
            · refine pq_fi (fun _ => ?_) (fun _ => ?_)
              · refine pq_b (wX44_make S Z (sb rfl hS) n _ _ _ w0.1 z_s0) (fun r16 K17 => ?_)
                have w18 := wk_t w0 K17 hN
                exact q_tA hN w18 (wX34_expand_41 S Z hS n _ _ w18.1 )
              · refine pq_fi (fun _ => ?_) (fun _ => ?_)
                · refine pq_b (wX40_make S Z (sb rfl hS) n _ _ _ w0.1 z_s0) (fun r19 K20 => ?_)
                  have w21 := wk_t w0 K20 hN
                  exact q_tA hN w21 (wX34_expand_41 S Z hS n _ _ w21.1 )
                · refine pq_fi (fun _ => ?_) (fun _ => ?_)
                  · refine pq_b (wX37_make S Z (sb rfl hS) n _ _ _ w0.1 z_s0) (fun r22 K23 => ?_)
                    have w24 := wk_t w0 K23 hN
                    exact q_tA hN w24 (wX34_expand_41 S Z hS n _ _ w24.1 )
                  · refine pq_fi (fun _ => ?_) (fun _ => ?_)
                    · refine pq_b (wX45_make S Z (sb rfl hS) _ _ _ w0.1 z_s0) (fun r25 K26 => ?_)
                      have w27 := wk_t w0 K26 hN
                      exact q_tA hN w27 (wX34_expand_41 S Z hS n _ _ w27.1 )
                    · exact pq_0
theorem wX34_expand_0 (S Z : Nat → Prop) {hx N : Nat} (hS : ∀ x, fe_mem lX34_expand x = true → S x) (n : Nat) (a0 : Nat) (a1 : Int32) (M : FM) (w : WI Z hx N M) (z_a0 : Z a0) : pq (FX34_expand_0 n a0 a1 M) (QA S Z hx N M) := by
  have hN := w.2.2.1
  have w0 := wk_r (S := S) w
  delta FX34_expand_0 BX34_expand_0
  refine pq_fi (fun _ => ?_) (fun _ => ?_)
  · exact q_tA hN w0 (wX34_expand_27 S Z hS n _ _ _ w0.1 (wk_zc w0 rfl))
  · refine pq_g (fun g1 => ?_)
    have z2 := wk_z (i := 0) (f := 142) w0 rfl z_a0
    have f3 := sS_142 w0.1.1 g1
    refine pq_g (fun g4 => ?_)
    have z5 := fun i => wk_ze (i := i) w0 rfl g4.1 f3 rfl z2
    exact q_tA hN w0 (wX34_expand_27 S Z hS n _ _ _ w0.1 (z5 _))
theorem wX34_expand (S Z : Nat → Prop) {hx N : Nat} (hS : ∀ x, fe_mem lX34_expand x = true → S x) (n : Nat) (a0 : Nat) (a1 : Int32) (M : FM) (w : WI Z hx N M) (z_a0 : Z a0) : pq (FX34_expand n a0 a1 M) (QA S Z hx N M) := wX34_expand_0 S Z hS n a0 a1 M w z_a0
def lX46_keep : List Nat := [180, 181, 182, 183, 184, 185]
theorem wX46_keep_22 (S Z : Nat → Prop) {hx N : Nat} (hS : ∀ x, fe_mem lX46_keep x = true → S x) (a0 : Nat) (a1 : Nat) (a2 : Int64) (a4 : Int32) (a5 : Int32) (a6 : Int32) (s0 : Nat) (s1 : Int32) (M : FM) (w : WI Z hx N M) (z_a0 : Z a0) (z_a1 : Z a1) (z_s0 : Z s0) : pq (FX46_keep_22 a0 a1 a2 a4 a5 a6 s0 s1 M) (QV S Z hx N M) := by
  have hN := w.2.2.1
  have w0 := wk_r (S := S) w
  delta FX46_keep_22 BX46_keep_22
  refine pq_g (fun g1 => ?_)
  refine pq_g (fun _ => ?_)
  extract_lets +onlyGivenNames M3
  have w2 : Wk S Z hx N M M3 := wk_fI hN w0 rfl rfl g1 z_s0 (Or.inr (hS 180 rfl))
  refine pq_g (fun g4 => ?_)
  extract_lets +onlyGivenNames M6
  have w5 : Wk S Z hx N M M6 := wk_fL hN w2 rfl rfl g4 z_a1 (Or.inr (hS 181 rfl))
  refine pq_g (fun g7 => ?_)
  have z8 := wk_z (i := 0) (f := 210) w5 rfl z_a0
  refine pq_g (fun g9 => ?_)
  have z10 := wk_z (i := 0) (f := 18) w5 rfl z8
  refine pq_g (fun g11 => ?_)
  have z12 := wk_z (i := 0) (f := 204) w5 rfl z10
  have f13 := sS_204 w5.1.1 g11
  refine pq_b (wX11_pageOf S Z (sb rfl hS) _ _ w5.1 ) (fun r14 K15 => ?_)
  have w16 := wk_t w5 K15 hN
  have f17 := sf_k w5.1.1 K15 f13
  refine pq_g (fun g18 => ?_)
  refine pq_g (fun g19 => ?_)
  extract_lets +onlyGivenNames M21
  have w20 : Wk S Z hx N M M21 := wk_fL hN w16 rfl rfl g19 z_a1 (Or.inr (hS 182 rfl))
  refine pq_g (fun g22 => ?_)
  extract_lets +onlyGivenNames M24
  have w23 : Wk S Z hx N M M24 := wk_fI hN w20 rfl rfl g22 z_a1 (Or.inr (hS 183 rfl))
  refine pq_g (fun g25 => ?_)
  extract_lets +onlyGivenNames M27
  have w26 : Wk S Z hx N M M27 := wk_fI hN w23 rfl rfl g25 z_a1 (Or.inr (hS 185 rfl))
  refine pq_g (fun g28 => ?_)
  extract_lets +onlyGivenNames M30
  have w29 : Wk S Z hx N M M30 := wk_fI hN w26 rfl rfl g28 z_a1 (Or.inr (hS 184 rfl))
  exact pq_s w29
theorem wX46_keep_0 (S Z : Nat → Prop) {hx N : Nat} (hS : ∀ x, fe_mem lX46_keep x = true → S x) (a0 : Nat) (a1 : Nat) (a2 : Int64) (a4 : Int32) (a5 : Int32) (a6 : Int32) (M : FM) (w : WI Z hx N M) (z_a0 : Z a0) (z_a1 : Z a1) : pq (FX46_keep_0 a0 a1 a2 a4 a5 a6 M) (QV S Z hx N M) := by
  have hN := w.2.2.1
  have w0 := wk_r (S := S) w
  delta FX46_keep_0 BX46_keep_0
  refine pq_fi (fun _ => ?_) (fun _ => ?_)
  · exact q_tV hN w0 (wX46_keep_22 S Z hS _ _ _ _ _ _ _ _ _ w0.1 z_a0 z_a1 z_a1)
  · exact q_tV hN w0 (wX46_keep_22 S Z hS _ _ _ _ _ _ _ _ _ w0.1 z_a0 z_a1 z_a1)
theorem wX46_keep (S Z : Nat → Prop) {hx N : Nat} (hS : ∀ x, fe_mem lX46_keep x = true → S x) (a0 : Nat) (a1 : Nat) (a2 : Int64) (a4 : Int32) (a5 : Int32) (a6 : Int32) (M : FM) (w : WI Z hx N M) (z_a0 : Z a0) (z_a1 : Z a1) : pq (FX46_keep a0 a1 a2 a4 a5 a6 M) (QV S Z hx N M) := wX46_keep_0 S Z hS a0 a1 a2 a4 a5 a6 M w z_a0 z_a1
def lX46_fetch : List Nat := [37, 39, 41, 174, 179, 180, 181, 182, 183, 184, 185, 208, 219, 220, 221, 269, 270, 271, 272, 273, 274, 275, 276, 277, 289, 290, 292, 293, 294, 1201, 1203, 1204, 1278, 1279, 1295]
theorem wX46_fetch_265 (S Z : Nat → Prop) {hx N : Nat} (hS : ∀ x, fe_mem lX46_fetch x = true → S x) (n : Nat) (a0 : Nat) (a3 : Nat) (M : FM) (w : WI Z hx N M) (z_a0 : Z a0) (z_a3 : Z a3) : pq (FX46_fetch_265 n a0 a3 M) (QA S Z hx N M) := by
  have hN := w.2.2.1
  have w0 := wk_r (S := S) w
  delta FX46_fetch_265 BX46_fetch_265
  refine pq_g (fun g1 => ?_)
  refine pq_g (fun g2 => ?_)
  extract_lets +onlyGivenNames M4
  have w3 : Wk S Z hx N M M4 := wk_fI hN w0 rfl rfl g2 z_a0 (Or.inr (hS 219 rfl))
  refine pq_g (fun g5 => ?_)
  refine pq_g (fun g6 => ?_)
  extract_lets +onlyGivenNames M8
  have w7 : Wk S Z hx N M M8 := wk_fI hN w3 rfl rfl g6 z_a0 (Or.inr (hS 220 rfl))
  refine pq_g (fun _ => ?_)
  exact pq_s w7
theorem wX46_fetch_261 (S Z : Nat → Prop) {hx N : Nat} (hS : ∀ x, fe_mem lX46_fetch x = true → S x) (n : Nat) (a0 : Nat) (a3 : Nat) (s0 : Nat) (s1 : Int32) (s2 : Int32) (M : FM) (w : WI Z hx N M) (z_a0 : Z a0) (z_a3 : Z a3) (z_s0 : Z s0) : pq (FX46_fetch_261 n a0 a3 s0 s1 s2 M) (QA S Z hx N M) := by
  have hN := w.2.2.1
  have w0 := wk_r (S := S) w
  delta FX46_fetch_261 BX46_fetch_261
  refine pq_g (fun g1 => ?_)
  refine pq_g (fun _ => ?_)
  extract_lets +onlyGivenNames M3
  have w2 : Wk S Z hx N M M3 := wk_fI hN w0 rfl rfl g1 z_s0 (Or.inr (hS 180 rfl))
  exact q_tA hN w2 (wX46_fetch_265 S Z hS n _ _ _ w2.1 z_a0 z_a3)
theorem wX46_fetch_209 (S Z : Nat → Prop) {hx N : Nat} (hS : ∀ x, fe_mem lX46_fetch x = true → S x) (n : Nat) (a0 : Nat) (a1 : Int64) (a3 : Nat) (a4 : Int64) (s0 : Int32) (M : FM) (w : WI Z hx N M) (z_a0 : Z a0) (z_a3 : Z a3) : pq (FX46_fetch_209 n a0 a1 a3 a4 s0 M) (QA S Z hx N M) := by
  have hN := w.2.2.1
  have w0 := wk_r (S := S) w
  delta FX46_fetch_209 BX46_fetch_209
  refine pq_g (fun g1 => ?_)
  have z2 := wk_z (i := 0) (f := 210) w0 rfl z_a0
  refine pq_g (fun g3 => ?_)
  have z4 := wk_z (i := 0) (f := 18) w0 rfl z2
  refine pq_g (fun g5 => ?_)
  refine pq_b (wX11_load S Z (sb rfl hS) _ _ _ _ w0.1 z4) (fun r6 K7 => ?_)
  have w8 := wk_t w0 K7 hN
  refine pq_g (fun g9 => ?_)
  refine pq_b (wX46_keep S Z (sb rfl hS) _ _ _ _ _ _ _ w8.1 z_a0 z_a3) (fun r10 K11 => ?_)
  have w12 := wk_t w8 K11 hN
  refine pq_g (fun g13 => ?_)
  refine pq_fi (fun _ => ?_) (fun _ => ?_)
  · exact q_tA hN w12 (wX46_fetch_261 S Z hS n _ _ _ _ _ _ w12.1 z_a0 z_a3 z_a3)
  · exact q_tA hN w12 (wX46_fetch_261 S Z hS n _ _ _ _ _ _ w12.1 z_a0 z_a3 z_a3)
theorem wX46_fetch_182 (S Z : Nat → Prop) {hx N : Nat} (hS : ∀ x, fe_mem lX46_fetch x = true → S x) (n : Nat) (a0 : Nat) (a1 : Int64) (a3 : Nat) (a4 : Int64) (M : FM) (w : WI Z hx N M) (z_a0 : Z a0) (z_a3 : Z a3) : pq (FX46_fetch_182 n a0 a1 a3 a4 M) (QA S Z hx N M) := by
  have hN := w.2.2.1
  have w0 := wk_r (S := S) w
  delta FX46_fetch_182 BX46_fetch_182
  refine pq_g (fun g1 => ?_)
  refine pq_fi (fun _ => ?_) (fun _ => ?_)
  · refine pq_g (fun g2 => ?_)
    exact q_tA hN w0 (wX46_fetch_209 S Z hS n _ _ _ _ _ _ w0.1 z_a0 z_a3)
  · refine pq_g (fun g3 => ?_)
    have z4 := wk_z (i := 0) (f := 210) w0 rfl z_a0
    refine pq_g (fun g5 => ?_)
    have z6 := wk_z (i := 0) (f := 18) w0 rfl z4
    refine pq_g (fun g7 => ?_)
    refine pq_b (wX11_load S Z (sb rfl hS) _ _ _ _ w0.1 z6) (fun r8 K9 => ?_)
    have w10 := wk_t w0 K9 hN
    exact q_tA hN w10 (wX46_fetch_209 S Z hS n _ _ _ _ _ _ w10.1 z_a0 z_a3)
theorem wX46_fetch_127 (S Z : Nat → Prop) {hx N : Nat} (hS : ∀ x, fe_mem lX46_fetch x = true → S x) (n : Nat) (a0 : Nat) (a1 : Int64) (a3 : Nat) (M : FM) (w : WI Z hx N M) (z_a0 : Z a0) (z_a3 : Z a3) : pq (FX46_fetch_127 n a0 a1 a3 M) (QA S Z hx N M) := by
  have hN := w.2.2.1
  have w0 := wk_r (S := S) w
  delta FX46_fetch_127 BX46_fetch_127
  refine pq_g (fun g1 => ?_)
  refine pq_g (fun g2 => ?_)
  extract_lets +onlyGivenNames M4
  have w3 : Wk S Z hx N M M4 := wk_fI hN w0 rfl rfl g2 z_a0 (Or.inr (hS 221 rfl))
  refine pq_g (fun g5 => ?_)
  refine pq_fi (fun _ => ?_) (fun _ => ?_)
  · refine pq_g (fun g6 => ?_)
    refine pq_b (wX46_half S Z (sb rfl hS) n _ _ _ w3.1 z_a0) (fun r7 K8 => ?_)
    have w9 := wk_t w3 K8 hN
    refine pq_fi (fun _ => ?_) (fun _ => ?_)
    · refine pq_g (fun g10 => ?_)
      refine pq_fi (fun _ => ?_) (fun _ => ?_)
      · exact q_tA hN w9 (wX46_fetch_182 S Z hS n _ _ _ _ _ w9.1 z_a0 z_a3)
      · refine pq_fi (fun _ => ?_) (fun _ => ?_)
        · exact q_tA hN w9 (wX46_fetch_265 S Z hS n _ _ _ w9.1 z_a0 z_a3)
        · exact q_tA hN w9 (wX46_fetch_182 S Z hS n _ _ _ _ _ w9.1 z_a0 z_a3)
    · refine pq_g (fun g11 => ?_)
      refine pq_g (fun _ => ?_)
      extract_lets +onlyGivenNames M13
      have w12 : Wk S Z hx N M M13 := wk_fI hN w9 rfl rfl g11 z_a3 (Or.inr (hS 180 rfl))
      refine pq_g (fun _ => ?_)
      exact pq_s w12
  · exact q_tA hN w3 (wX46_fetch_265 S Z hS n _ _ _ w3.1 z_a0 z_a3)
theorem wX46_fetch_67 (S Z : Nat → Prop) {hx N : Nat} (hS : ∀ x, fe_mem lX46_fetch x = true → S x) (n : Nat) (a0 : Nat) (a1 : Int64) (a3 : Nat) (M : FM) (w : WI Z hx N M) (z_a0 : Z a0) (z_a3 : Z a3) : pq (FX46_fetch_67 n a0 a1 a3 M) (QA S Z hx N M) := by
  have hN := w.2.2.1
  have w0 := wk_r (S := S) w
  delta FX46_fetch_67 BX46_fetch_67
  refine pq_g (fun g1 => ?_)
  refine pq_g (fun _ => ?_)
  extract_lets +onlyGivenNames M3
  have w2 : Wk S Z hx N M M3 := wk_fI hN w0 rfl rfl g1 z_a3 (Or.inr (hS 180 rfl))
  refine pq_g (fun g4 => ?_)
  have z5 := wk_z (i := 0) (f := 210) w2 rfl z_a0
  refine pq_g (fun g6 => ?_)
  have z7 := wk_z (i := 0) (f := 18) w2 rfl z5
  refine pq_g (fun g8 => ?_)
  refine pq_b (wX11_load S Z (sb rfl hS) _ _ _ _ w2.1 z7) (fun r9 K10 => ?_)
  have w11 := wk_t w2 K10 hN
  refine pq_fi (fun _ => ?_) (fun _ => ?_)
  · refine pq_g (fun g12 => ?_)
    extract_lets +onlyGivenNames M14
    have w13 : Wk S Z hx N M M14 := wk_fI hN w11 rfl rfl g12 z_a3 (Or.inr (hS 184 rfl))
    refine pq_g (fun g15 => ?_)
    extract_lets +onlyGivenNames M17
    have w16 : Wk S Z hx N M M17 := wk_fI hN w13 rfl rfl g15 z_a3 (Or.inr (hS 185 rfl))
    exact q_tA hN w16 (wX46_fetch_127 S Z hS n _ _ _ _ w16.1 z_a0 z_a3)
  · refine pq_g (fun g18 => ?_)
    have z19 := wk_z (i := 0) (f := 215) w11 rfl z_a0
    refine pq_g (fun g20 => ?_)
    refine pq_b (wX34_expand S Z (sb rfl hS) n _ _ _ w11.1 z19) (fun r21 K22 => ?_)
    have w23 := wk_t w11 K22 hN
    refine pq_g (fun g24 => ?_)
    refine pq_b (wX46_keep S Z (sb rfl hS) _ _ _ _ _ _ _ w23.1 z_a0 z_a3) (fun r25 K26 => ?_)
    have w27 := wk_t w23 K26 hN
    exact q_tA hN w27 (wX46_fetch_127 S Z hS n _ _ _ _ w27.1 z_a0 z_a3)
theorem wX46_fetch_0 (S Z : Nat → Prop) {hx N : Nat} (hS : ∀ x, fe_mem lX46_fetch x = true → S x) (n : Nat) (a0 : Nat) (M : FM) (w : WI Z hx N M) (z_a0 : Z a0) : pq (FX46_fetch_0 n a0 M) (QA S Z hx N M) := by
  have hN := w.2.2.1
  have w0 := wk_r (S := S) w
  delta FX46_fetch_0 BX46_fetch_0
  refine pq_g (fun g1 => ?_)
  refine pq_b (wX46_half S Z (sb rfl hS) n _ _ _ w0.1 z_a0) (fun r2 K3 => ?_)
  have w4 := wk_t w0 K3 hN
  refine pq_fi (fun _ => ?_) (fun _ => ?_)
  · refine pq_g (fun g5 => ?_)
    have z6 := wk_z (i := 0) (f := 216) w4 rfl z_a0
    have f7 := sS_216 w4.1.1 g5
    refine pq_g (fun g8 => ?_)
    have z9 := fun i => wk_ze (i := i) w4 rfl g8.1 f7 rfl z6
    refine pq_g (fun g10 => ?_)
    refine pq_fi (fun _ => ?_) (fun _ => ?_)
    · exact q_tA hN w4 (wX46_fetch_67 S Z hS n _ _ _ _ w4.1 z_a0 (z9 _))
    · refine pq_g (fun g11 => ?_)
      refine pq_fi (fun _ => ?_) (fun _ => ?_)
      · refine pq_g (fun g12 => ?_)
        refine pq_g (fun g13 => ?_)
        have z14 := wk_z (i := 0) (f := 210) w4 rfl z_a0
        refine pq_g (fun g15 => ?_)
        have z16 := wk_z (i := 0) (f := 18) w4 rfl z14
        refine pq_g (fun g17 => ?_)
        have z18 := wk_z (i := 0) (f := 204) w4 rfl z16
        have f19 := sS_204 w4.1.1 g17
        refine pq_b (wX11_pageOf S Z (sb rfl hS) _ _ w4.1 ) (fun r20 K21 => ?_)
        have w22 := wk_t w4 K21 hN
        have f23 := sf_k w4.1.1 K21 f19
        refine pq_g (fun g24 => ?_)
        refine pq_fi (fun _ => ?_) (fun _ => ?_)
        · exact q_tA hN w22 (wX46_fetch_127 S Z hS n _ _ _ _ w22.1 z_a0 (z9 _))
        · exact q_tA hN w22 (wX46_fetch_67 S Z hS n _ _ _ _ w22.1 z_a0 (z9 _))
      · exact q_tA hN w4 (wX46_fetch_67 S Z hS n _ _ _ _ w4.1 z_a0 (z9 _))
  · refine pq_g (fun _ => ?_)
    exact pq_s w4
theorem wX46_fetch (S Z : Nat → Prop) {hx N : Nat} (hS : ∀ x, fe_mem lX46_fetch x = true → S x) (n : Nat) (a0 : Nat) (M : FM) (w : WI Z hx N M) (z_a0 : Z a0) : pq (FX46_fetch n a0 M) (QA S Z hx N M) := wX46_fetch_0 S Z hS n a0 M w z_a0
def lX46_illegal : List Nat := [37, 39, 41, 174, 179]
theorem wX46_illegal_24 (S Z : Nat → Prop) {hx N : Nat} (hS : ∀ x, fe_mem lX46_illegal x = true → S x) (s0 : Nat) (s1 : Int32) (s2 : Int64) (s3 : Int64) (M : FM) (w : WI Z hx N M) (z_s0 : Z s0) : pq (FX46_illegal_24 s0 s1 s2 s3 M) (QA S Z hx N M) := by
  have hN := w.2.2.1
  have w0 := wk_r (S := S) w
  delta FX46_illegal_24 BX46_illegal_24
  refine pq_g (fun g1 => ?_)
  refine pq_b (wX46_raise S Z (sb rfl hS) _ _ _ _ w0.1 z_s0) (fun r2 K3 => ?_)
  have w4 := wk_t w0 K3 hN
  refine pq_g (fun _ => ?_)
  exact pq_s w4
theorem wX46_illegal_0 (S Z : Nat → Prop) {hx N : Nat} (hS : ∀ x, fe_mem lX46_illegal x = true → S x) (a0 : Nat) (M : FM) (w : WI Z hx N M) (z_a0 : Z a0) : pq (FX46_illegal_0 a0 M) (QA S Z hx N M) := by
  have hN := w.2.2.1
  have w0 := wk_r (S := S) w
  delta FX46_illegal_0 BX46_illegal_0
  refine pq_g (fun g1 => ?_)
  refine pq_g (fun g2 => ?_)
  refine pq_fi (fun _ => ?_) (fun _ => ?_)
  · exact q_tA hN w0 (wX46_illegal_24 S Z hS _ _ _ _ _ w0.1 z_a0)
  · exact q_tA hN w0 (wX46_illegal_24 S Z hS _ _ _ _ _ w0.1 z_a0)
theorem wX46_illegal (S Z : Nat → Prop) {hx N : Nat} (hS : ∀ x, fe_mem lX46_illegal x = true → S x) (a0 : Nat) (M : FM) (w : WI Z hx N M) (z_a0 : Z a0) : pq (FX46_illegal a0 M) (QA S Z hx N M) := wX46_illegal_0 S Z hS a0 M w z_a0
def lX104_init : List Nat := []
theorem wX104_init_0 (S Z : Nat → Prop) {hx N : Nat} (hS : ∀ x, fe_mem lX104_init x = true → S x) (a0 : Nat) (M : FM) (w : WI Z hx N M) (z_a0 : Z a0) : pq (FX104_init_0 a0 M) (QV S Z hx N M) := by
  have hN := w.2.2.1
  have w0 := wk_r (S := S) w
  delta FX104_init_0 BX104_init_0
  refine pq_n ?_
  exact pq_s w0
theorem wX104_init (S Z : Nat → Prop) {hx N : Nat} (hS : ∀ x, fe_mem lX104_init x = true → S x) (a0 : Nat) (M : FM) (w : WI Z hx N M) (z_a0 : Z a0) : pq (FX104_init a0 M) (QV S Z hx N M) := wX104_init_0 S Z hS a0 M w z_a0
def lX105_bits : List Nat := []
theorem wX105_bits_0 (S Z : Nat → Prop) {hx N : Nat} (hS : ∀ x, fe_mem lX105_bits x = true → S x) (a0 : Int32) (a1 : Int32) (a2 : Int32) (M : FM) (w : WI Z hx N M) : pq (FX105_bits_0 a0 a1 a2 M) (QA S Z hx N M) := by
  have hN := w.2.2.1
  have w0 := wk_r (S := S) w
  delta FX105_bits_0 BX105_bits_0
  exact pq_s w0
theorem wX105_bits (S Z : Nat → Prop) {hx N : Nat} (hS : ∀ x, fe_mem lX105_bits x = true → S x) (a0 : Int32) (a1 : Int32) (a2 : Int32) (M : FM) (w : WI Z hx N M) : pq (FX105_bits a0 a1 a2 M) (QA S Z hx N M) := wX105_bits_0 S Z hS a0 a1 a2 M w 
def lX49_access : List Nat := [154, 158, 159, 160]
theorem wX49_access_38 (S Z : Nat → Prop) {hx N : Nat} (hS : ∀ x, fe_mem lX49_access x = true → S x) (s0 : Nat) (M : FM) (w : WI Z hx N M) (z_s0 : Z s0) : pq (FX49_access_38 s0 M) (QR S Z hx N M) := by
  have hN := w.2.2.1
  have w0 := wk_r (S := S) w
  delta FX49_access_38 BX49_access_38
  exact pq_s ⟨w0, z_s0⟩
theorem wX49_access_0 (S Z : Nat → Prop) {hx N : Nat} (hS : ∀ x, fe_mem lX49_access x = true → S x) (a0 : Nat) (a1 : Nat) (a2 : Int32) (a3 : Int32) (a4 : Int64) (a6 : Int32) (a7 : Int32) (M : FM) (w : WI Z hx N M) (z_a0 : Z a0) (z_a1 : Z a1) : pq (FX49_access_0 a0 a1 a2 a3 a4 a6 a7 M) (QR S Z hx N M) := by
  have hN := w.2.2.1
  have w0 := wk_r (S := S) w
  delta FX49_access_0 BX49_access_0
  refine pq_g (fun g1 => ?_)
  extract_lets +onlyGivenNames M3
  have w2 : Wk S Z hx N M M3 := wk_fI hN w0 rfl rfl g1 z_a1 (Or.inr (hS 158 rfl))
  refine pq_g (fun g4 => ?_)
  extract_lets +onlyGivenNames M6
  have w5 : Wk S Z hx N M M6 := wk_fL hN w2 rfl rfl g4 z_a1 (Or.inr (hS 154 rfl))
  refine pq_g (fun g7 => ?_)
  extract_lets +onlyGivenNames M9
  have w8 : Wk S Z hx N M M9 := wk_fI hN w5 rfl rfl g7 z_a1 (Or.inr (hS 159 rfl))
  refine pq_g (fun g10 => ?_)
  extract_lets +onlyGivenNames M12
  have w11 : Wk S Z hx N M M12 := wk_fI hN w8 rfl rfl g10 z_a1 (Or.inr (hS 160 rfl))
  refine pq_fi (fun _ => ?_) (fun _ => ?_)
  · refine pq_g (fun g13 => ?_)
    have z14 := wk_z (i := 0) (f := 161) w11 rfl z_a0
    exact q_tR hN w11 (wX49_access_38 S Z hS _ _ w11.1 z14)
  · refine pq_g (fun g15 => ?_)
    have z16 := wk_z (i := 0) (f := 169) w11 rfl z_a0
    exact q_tR hN w11 (wX49_access_38 S Z hS _ _ w11.1 z16)
theorem wX49_access (S Z : Nat → Prop) {hx N : Nat} (hS : ∀ x, fe_mem lX49_access x = true → S x) (a0 : Nat) (a1 : Nat) (a2 : Int32) (a3 : Int32) (a4 : Int64) (a6 : Int32) (a7 : Int32) (M : FM) (w : WI Z hx N M) (z_a0 : Z a0) (z_a1 : Z a1) : pq (FX49_access a0 a1 a2 a3 a4 a6 a7 M) (QR S Z hx N M) := wX49_access_0 S Z hS a0 a1 a2 a3 a4 a6 a7 M w z_a0 z_a1
def lX49_atomic : List Nat := [154, 158, 159, 160]
theorem wX49_atomic_50 (S Z : Nat → Prop) {hx N : Nat} (hS : ∀ x, fe_mem lX49_atomic x = true → S x) (a0 : Nat) (a1 : Nat) (a2 : Int32) (a3 : Int32) (s0 : Int32) (M : FM) (w : WI Z hx N M) (z_a0 : Z a0) (z_a1 : Z a1) : pq (FX49_atomic_50 a0 a1 a2 a3 s0 M) (QR S Z hx N M) := by
  have hN := w.2.2.1
  have w0 := wk_r (S := S) w
  delta FX49_atomic_50 BX49_atomic_50
  refine pq_g (fun g1 => ?_)
  refine pq_b (wX49_access S Z (sb rfl hS) _ _ _ _ _ _ _ _ w0.1 z_a0 z_a1) (fun r2 K3 => ?_)
  have w4 := wk_t w0 K3.1 hN
  exact pq_s ⟨w4, K3.2⟩
theorem wX49_atomic_49 (S Z : Nat → Prop) {hx N : Nat} (hS : ∀ x, fe_mem lX49_atomic x = true → S x) (a0 : Nat) (a1 : Nat) (a2 : Int32) (a3 : Int32) (M : FM) (w : WI Z hx N M) (z_a0 : Z a0) (z_a1 : Z a1) : pq (FX49_atomic_49 a0 a1 a2 a3 M) (QR S Z hx N M) := by
  have hN := w.2.2.1
  have w0 := wk_r (S := S) w
  delta FX49_atomic_49 BX49_atomic_49
  exact q_tR hN w0 (wX49_atomic_50 S Z hS _ _ _ _ _ _ w0.1 z_a0 z_a1)
theorem wX49_atomic_45 (S Z : Nat → Prop) {hx N : Nat} (hS : ∀ x, fe_mem lX49_atomic x = true → S x) (a0 : Nat) (a1 : Nat) (a2 : Int32) (a3 : Int32) (M : FM) (w : WI Z hx N M) (z_a0 : Z a0) (z_a1 : Z a1) : pq (FX49_atomic_45 a0 a1 a2 a3 M) (QR S Z hx N M) := by
  have hN := w.2.2.1
  have w0 := wk_r (S := S) w
  delta FX49_atomic_45 BX49_atomic_45
  exact q_tR hN w0 (wX49_atomic_50 S Z hS _ _ _ _ _ _ w0.1 z_a0 z_a1)
theorem wX49_atomic_33 (S Z : Nat → Prop) {hx N : Nat} (hS : ∀ x, fe_mem lX49_atomic x = true → S x) (a0 : Nat) (a1 : Nat) (a2 : Int32) (a3 : Int32) (M : FM) (w : WI Z hx N M) (z_a0 : Z a0) (z_a1 : Z a1) : pq (FX49_atomic_33 a0 a1 a2 a3 M) (QR S Z hx N M) := by
  have hN := w.2.2.1
  have w0 := wk_r (S := S) w
  delta FX49_atomic_33 BX49_atomic_33
  refine pq_fi (fun _ => ?_) (fun _ => ?_)
  · refine pq_g (fun g1 => ?_)
    refine pq_fi (fun _ => ?_) (fun _ => ?_)
    · exact q_tR hN w0 (wX49_atomic_45 S Z hS _ _ _ _ _ w0.1 z_a0 z_a1)
    · exact q_tR hN w0 (wX49_atomic_49 S Z hS _ _ _ _ _ w0.1 z_a0 z_a1)
  · exact q_tR hN w0 (wX49_atomic_45 S Z hS _ _ _ _ _ w0.1 z_a0 z_a1)
theorem wX49_atomic_22 (S Z : Nat → Prop) {hx N : Nat} (hS : ∀ x, fe_mem lX49_atomic x = true → S x) (a0 : Nat) (a1 : Nat) (a2 : Int32) (a3 : Int32) (M : FM) (w : WI Z hx N M) (z_a0 : Z a0) (z_a1 : Z a1) : pq (FX49_atomic_22 a0 a1 a2 a3 M) (QR S Z hx N M) := by
  have hN := w.2.2.1
  have w0 := wk_r (S := S) w
  delta FX49_atomic_22 BX49_atomic_22
  refine pq_fi (fun _ => ?_) (fun _ => ?_)
  · exact q_tR hN w0 (wX49_atomic_33 S Z hS _ _ _ _ _ w0.1 z_a0 z_a1)
  · refine pq_fi (fun _ => ?_) (fun _ => ?_)
    · exact q_tR hN w0 (wX49_atomic_33 S Z hS _ _ _ _ _ w0.1 z_a0 z_a1)
    · exact q_tR hN w0 (wX49_atomic_49 S Z hS _ _ _ _ _ w0.1 z_a0 z_a1)
theorem wX49_atomic_0 (S Z : Nat → Prop) {hx N : Nat} (hS : ∀ x, fe_mem lX49_atomic x = true → S x) (a0 : Nat) (a1 : Nat) (a2 : Int32) (M : FM) (w : WI Z hx N M) (z_a0 : Z a0) (z_a1 : Z a1) : pq (FX49_atomic_0 a0 a1 a2 M) (QR S Z hx N M) := by
  have hN := w.2.2.1
  have w0 := wk_r (S := S) w
  delta FX49_atomic_0 BX49_atomic_0
  refine pq_g (fun g1 => ?_)
  refine pq_b (wX105_bits S Z (sb rfl hS) _ _ _ _ w0.1 ) (fun r2 K3 => ?_)
  have w4 := wk_t w0 K3 hN
  refine pq_fi (fun _ => ?_) (fun _ => ?_)
  · exact q_tR hN w4 (wX49_atomic_22 S Z hS _ _ _ _ _ w4.1 z_a0 z_a1)
  · refine pq_fi (fun _ => ?_) (fun _ => ?_)
    · exact q_tR hN w4 (wX49_atomic_22 S Z hS _ _ _ _ _ w4.1 z_a0 z_a1)
    · exact q_tR hN w4 (wX49_atomic_49 S Z hS _ _ _ _ _ w4.1 z_a0 z_a1)
theorem wX49_atomic (S Z : Nat → Prop) {hx N : Nat} (hS : ∀ x, fe_mem lX49_atomic x = true → S x) (a0 : Nat) (a1 : Nat) (a2 : Int32) (M : FM) (w : WI Z hx N M) (z_a0 : Z a0) (z_a1 : Z a1) : pq (FX49_atomic a0 a1 a2 M) (QR S Z hx N M) := wX49_atomic_0 S Z hS a0 a1 a2 M w z_a0 z_a1
def lX105_immediateB : List Nat := []
theorem wX105_immediateB_0 (S Z : Nat → Prop) {hx N : Nat} (hS : ∀ x, fe_mem lX105_immediateB x = true → S x) (a0 : Int32) (M : FM) (w : WI Z hx N M) : pq (FX105_immediateB_0 a0 M) (QA S Z hx N M) := by
  have hN := w.2.2.1
  have w0 := wk_r (S := S) w
  delta FX105_immediateB_0 BX105_immediateB_0
  refine pq_b (wX105_bits S Z (sb rfl hS) _ _ _ _ w0.1 ) (fun r1 K2 => ?_)
  have w3 := wk_t w0 K2 hN
  refine pq_b (wX105_bits S Z (sb rfl hS) _ _ _ _ w3.1 ) (fun r4 K5 => ?_)
  have w6 := wk_t w3 K5 hN
  refine pq_b (wX105_bits S Z (sb rfl hS) _ _ _ _ w6.1 ) (fun r7 K8 => ?_)
  have w9 := wk_t w6 K8 hN
  exact pq_s w9
theorem wX105_immediateB (S Z : Nat → Prop) {hx N : Nat} (hS : ∀ x, fe_mem lX105_immediateB x = true → S x) (a0 : Int32) (M : FM) (w : WI Z hx N M) : pq (FX105_immediateB a0 M) (QA S Z hx N M) := wX105_immediateB_0 S Z hS a0 M w 
def lX49_branch : List Nat := [154, 160]
theorem wX49_branch_37 (S Z : Nat → Prop) {hx N : Nat} (hS : ∀ x, fe_mem lX49_branch x = true → S x) (s0 : Nat) (M : FM) (w : WI Z hx N M) (z_s0 : Z s0) : pq (FX49_branch_37 s0 M) (QR S Z hx N M) := by
  have hN := w.2.2.1
  have w0 := wk_r (S := S) w
  delta FX49_branch_37 BX49_branch_37
  exact pq_s ⟨w0, z_s0⟩
theorem wX49_branch_26 (S Z : Nat → Prop) {hx N : Nat} (hS : ∀ x, fe_mem lX49_branch x = true → S x) (a0 : Nat) (M : FM) (w : WI Z hx N M) (z_a0 : Z a0) : pq (FX49_branch_26 a0 M) (QR S Z hx N M) := by
  have hN := w.2.2.1
  have w0 := wk_r (S := S) w
  delta FX49_branch_26 BX49_branch_26
  refine pq_g (fun g1 => ?_)
  have z2 := wk_z (i := 0) (f := 161) w0 rfl z_a0
  exact q_tR hN w0 (wX49_branch_37 S Z hS _ _ w0.1 z2)
theorem wX49_branch_0 (S Z : Nat → Prop) {hx N : Nat} (hS : ∀ x, fe_mem lX49_branch x = true → S x) (a0 : Nat) (a1 : Nat) (a2 : Int32) (M : FM) (w : WI Z hx N M) (z_a0 : Z a0) (z_a1 : Z a1) : pq (FX49_branch_0 a0 a1 a2 M) (QR S Z hx N M) := by
  have hN := w.2.2.1
  have w0 := wk_r (S := S) w
  delta FX49_branch_0 BX49_branch_0
  refine pq_g (fun g1 => ?_)
  refine pq_b (wX105_immediateB S Z (sb rfl hS) _ _ w0.1 ) (fun r2 K3 => ?_)
  have w4 := wk_t w0 K3 hN
  refine pq_g (fun g5 => ?_)
  extract_lets +onlyGivenNames M7
  have w6 : Wk S Z hx N M M7 := wk_fL hN w4 rfl rfl g5 z_a1 (Or.inr (hS 154 rfl))
  refine pq_g (fun g8 => ?_)
  extract_lets +onlyGivenNames M10
  have w9 : Wk S Z hx N M M10 := wk_fI hN w6 rfl rfl g8 z_a1 (Or.inr (hS 160 rfl))
  refine pq_fi (fun _ => ?_) (fun _ => ?_)
  · exact q_tR hN w9 (wX49_branch_26 S Z hS _ _ w9.1 z_a0)
  · refine pq_fi (fun _ => ?_) (fun _ => ?_)
    · exact q_tR hN w9 (wX49_branch_26 S Z hS _ _ w9.1 z_a0)
    · refine pq_g (fun g11 => ?_)
      have z12 := wk_z (i := 0) (f := 167) w9 rfl z_a0
      exact q_tR hN w9 (wX49_branch_37 S Z hS _ _ w9.1 z12)
theorem wX49_branch (S Z : Nat → Prop) {hx N : Nat} (hS : ∀ x, fe_mem lX49_branch x = true → S x) (a0 : Nat) (a1 : Nat) (a2 : Int32) (M : FM) (w : WI Z hx N M) (z_a0 : Z a0) (z_a1 : Z a1) : pq (FX49_branch a0 a1 a2 M) (QR S Z hx N M) := wX49_branch_0 S Z hS a0 a1 a2 M w z_a0 z_a1
def lX49_plain : List Nat := []
theorem wX49_plain_0 (S Z : Nat → Prop) {hx N : Nat} (hS : ∀ x, fe_mem lX49_plain x = true → S x) (a0 : Int32) (M : FM) (w : WI Z hx N M) : pq (FX49_plain_0 a0 M) (QR S Z hx N M) := by
  have hN := w.2.2.1
  have w0 := wk_r (S := S) w
  delta FX49_plain_0 BX49_plain_0
  refine pq_fi (fun _ => ?_) (fun _ => ?_)
  · exact pq_s ⟨w0, (wk_zc w0 rfl)⟩
  · refine pq_fi (fun _ => ?_) (fun _ => ?_)
    · exact pq_s ⟨w0, (wk_zc w0 rfl)⟩
    · refine pq_fi (fun _ => ?_) (fun _ => ?_)
      · exact pq_s ⟨w0, (wk_zc w0 rfl)⟩
      · refine pq_fi (fun _ => ?_) (fun _ => ?_)
        · exact pq_s ⟨w0, (wk_zc w0 rfl)⟩
        · refine pq_fi (fun _ => ?_) (fun _ => ?_)
          · exact pq_s ⟨w0, (wk_zc w0 rfl)⟩
          · refine pq_fi (fun _ => ?_) (fun _ => ?_)
            · exact pq_s ⟨w0, (wk_zc w0 rfl)⟩
            · refine pq_fi (fun _ => ?_) (fun _ => ?_)
              · exact pq_s ⟨w0, (wk_zc w0 rfl)⟩
              · exact pq_s ⟨w0, (wk_zc w0 rfl)⟩
theorem wX49_plain (S Z : Nat → Prop) {hx N : Nat} (hS : ∀ x, fe_mem lX49_plain x = true → S x) (a0 : Int32) (M : FM) (w : WI Z hx N M) : pq (FX49_plain a0 M) (QR S Z hx N M) := wX49_plain_0 S Z hS a0 M w 
def lX105_immediateI : List Nat := []
theorem wX105_immediateI_0 (S Z : Nat → Prop) {hx N : Nat} (hS : ∀ x, fe_mem lX105_immediateI x = true → S x) (a0 : Int32) (M : FM) (w : WI Z hx N M) : pq (FX105_immediateI_0 a0 M) (QA S Z hx N M) := by
  have hN := w.2.2.1
  have w0 := wk_r (S := S) w
  delta FX105_immediateI_0 BX105_immediateI_0
  exact pq_s w0
theorem wX105_immediateI (S Z : Nat → Prop) {hx N : Nat} (hS : ∀ x, fe_mem lX105_immediateI x = true → S x) (a0 : Int32) (M : FM) (w : WI Z hx N M) : pq (FX105_immediateI a0 M) (QA S Z hx N M) := wX105_immediateI_0 S Z hS a0 M w 
def lX49_compute : List Nat := [154, 155, 156, 157]
theorem wX49_compute_37 (S Z : Nat → Prop) {hx N : Nat} (hS : ∀ x, fe_mem lX49_compute x = true → S x) (s0 : Nat) (M : FM) (w : WI Z hx N M) (z_s0 : Z s0) : pq (FX49_compute_37 s0 M) (QR S Z hx N M) := by
  have hN := w.2.2.1
  have w0 := wk_r (S := S) w
  delta FX49_compute_37 BX49_compute_37
  exact pq_s ⟨w0, z_s0⟩
theorem wX49_compute_0 (S Z : Nat → Prop) {hx N : Nat} (hS : ∀ x, fe_mem lX49_compute x = true → S x) (a0 : Nat) (a1 : Nat) (a2 : Nat) (a3 : Int32) (a4 : Int32) (a5 : Int64) (M : FM) (w : WI Z hx N M) (z_a0 : Z a0) (z_a1 : Z a1) (z_a2 : Z a2) : pq (FX49_compute_0 a0 a1 a2 a3 a4 a5 M) (QR S Z hx N M) := by
  have hN := w.2.2.1
  have w0 := wk_r (S := S) w
  delta FX49_compute_0 BX49_compute_0
  refine pq_g (fun g1 => ?_)
  extract_lets +onlyGivenNames M3
  have w2 : Wk S Z hx N M M3 := wk_fR hN w0 rfl rfl g1 z_a1 (Or.inr (hS 155 rfl)) z_a2 rfl rfl
  refine pq_g (fun g4 => ?_)
  refine pq_g (fun _ => ?_)
  extract_lets +onlyGivenNames M6
  have w5 : Wk S Z hx N M M6 := wk_fI hN w2 rfl rfl g4 z_a1 (Or.inr (hS 156 rfl))
  refine pq_g (fun g7 => ?_)
  refine pq_g (fun _ => ?_)
  extract_lets +onlyGivenNames M9
  have w8 : Wk S Z hx N M M9 := wk_fI hN w5 rfl rfl g7 z_a1 (Or.inr (hS 157 rfl))
  refine pq_g (fun g10 => ?_)
  extract_lets +onlyGivenNames M12
  have w11 : Wk S Z hx N M M12 := wk_fL hN w8 rfl rfl g10 z_a1 (Or.inr (hS 154 rfl))
  refine pq_fi (fun _ => ?_) (fun _ => ?_)
  · refine pq_g (fun g13 => ?_)
    have z14 := wk_z (i := 0) (f := 161) w11 rfl z_a0
    exact q_tR hN w11 (wX49_compute_37 S Z hS _ _ w11.1 z14)
  · refine pq_g (fun g15 => ?_)
    have z16 := wk_z (i := 0) (f := 168) w11 rfl z_a0
    exact q_tR hN w11 (wX49_compute_37 S Z hS _ _ w11.1 z16)
theorem wX49_compute (S Z : Nat → Prop) {hx N : Nat} (hS : ∀ x, fe_mem lX49_compute x = true → S x) (a0 : Nat) (a1 : Nat) (a2 : Nat) (a3 : Int32) (a4 : Int32) (a5 : Int64) (M : FM) (w : WI Z hx N M) (z_a0 : Z a0) (z_a1 : Z a1) (z_a2 : Z a2) : pq (FX49_compute a0 a1 a2 a3 a4 a5 M) (QR S Z hx N M) := wX49_compute_0 S Z hS a0 a1 a2 a3 a4 a5 M w z_a0 z_a1 z_a2
def lX49_product : List Nat := []
theorem wX49_product_0 (S Z : Nat → Prop) {hx N : Nat} (hS : ∀ x, fe_mem lX49_product x = true → S x) (a0 : Int32) (M : FM) (w : WI Z hx N M) : pq (FX49_product_0 a0 M) (QR S Z hx N M) := by
  have hN := w.2.2.1
  have w0 := wk_r (S := S) w
  delta FX49_product_0 BX49_product_0
  refine pq_fi (fun _ => ?_) (fun _ => ?_)
  · exact pq_s ⟨w0, (wk_zc w0 rfl)⟩
  · refine pq_fi (fun _ => ?_) (fun _ => ?_)
    · exact pq_s ⟨w0, (wk_zc w0 rfl)⟩
    · refine pq_fi (fun _ => ?_) (fun _ => ?_)
      · exact pq_s ⟨w0, (wk_zc w0 rfl)⟩
      · refine pq_fi (fun _ => ?_) (fun _ => ?_)
        · exact pq_s ⟨w0, (wk_zc w0 rfl)⟩
        · refine pq_fi (fun _ => ?_) (fun _ => ?_)
          · exact pq_s ⟨w0, (wk_zc w0 rfl)⟩
          · refine pq_fi (fun _ => ?_) (fun _ => ?_)
            · exact pq_s ⟨w0, (wk_zc w0 rfl)⟩
            · refine pq_fi (fun _ => ?_) (fun _ => ?_)
              · exact pq_s ⟨w0, (wk_zc w0 rfl)⟩
              · exact pq_s ⟨w0, (wk_zc w0 rfl)⟩
theorem wX49_product (S Z : Nat → Prop) {hx N : Nat} (hS : ∀ x, fe_mem lX49_product x = true → S x) (a0 : Int32) (M : FM) (w : WI Z hx N M) : pq (FX49_product a0 M) (QR S Z hx N M) := wX49_product_0 S Z hS a0 M w 
def lX49_byField : List Nat := []
theorem wX49_byField_53 (S Z : Nat → Prop) {hx N : Nat} (hS : ∀ x, fe_mem lX49_byField x = true → S x) (s0 : Nat) (M : FM) (w : WI Z hx N M) (z_s0 : Z s0) : pq (FX49_byField_53 s0 M) (QR S Z hx N M) := by
  have hN := w.2.2.1
  have w0 := wk_r (S := S) w
  delta FX49_byField_53 BX49_byField_53
  exact pq_s ⟨w0, z_s0⟩
theorem wX49_byField_52 (S Z : Nat → Prop) {hx N : Nat} (hS : ∀ x, fe_mem lX49_byField x = true → S x) (M : FM) (w : WI Z hx N M) : pq (FX49_byField_52 M) (QR S Z hx N M) := by
  have hN := w.2.2.1
  have w0 := wk_r (S := S) w
  delta FX49_byField_52 BX49_byField_52
  exact q_tR hN w0 (wX49_byField_53 S Z hS _ _ w0.1 (wk_zc w0 rfl))
theorem wX49_byField_35 (S Z : Nat → Prop) {hx N : Nat} (hS : ∀ x, fe_mem lX49_byField x = true → S x) (a0 : Int32) (a1 : Int32) (M : FM) (w : WI Z hx N M) : pq (FX49_byField_35 a0 a1 M) (QR S Z hx N M) := by
  have hN := w.2.2.1
  have w0 := wk_r (S := S) w
  delta FX49_byField_35 BX49_byField_35
  refine pq_fi (fun _ => ?_) (fun _ => ?_)
  · refine pq_fi (fun _ => ?_) (fun _ => ?_)
    · exact q_tR hN w0 (wX49_byField_53 S Z hS _ _ w0.1 (wk_zc w0 rfl))
    · exact q_tR hN w0 (wX49_byField_52 S Z hS _ w0.1 )
  · exact q_tR hN w0 (wX49_byField_52 S Z hS _ w0.1 )
theorem wX49_byField_0 (S Z : Nat → Prop) {hx N : Nat} (hS : ∀ x, fe_mem lX49_byField x = true → S x) (a0 : Int32) (a1 : Int32) (M : FM) (w : WI Z hx N M) : pq (FX49_byField_0 a0 a1 M) (QR S Z hx N M) := by
  have hN := w.2.2.1
  have w0 := wk_r (S := S) w
  delta FX49_byField_0 BX49_byField_0
  refine pq_fi (fun _ => ?_) (fun _ => ?_)
  · refine pq_b (wX49_plain S Z (sb rfl hS) _ _ w0.1 ) (fun r1 K2 => ?_)
    have w3 := wk_t w0 K2.1 hN
    exact pq_s ⟨w3, K2.2⟩
  · refine pq_fi (fun _ => ?_) (fun _ => ?_)
    · refine pq_b (wX49_product S Z (sb rfl hS) _ _ w0.1 ) (fun r4 K5 => ?_)
      have w6 := wk_t w0 K5.1 hN
      exact pq_s ⟨w6, K5.2⟩
    · refine pq_fi (fun _ => ?_) (fun _ => ?_)
      · refine pq_fi (fun _ => ?_) (fun _ => ?_)
        · exact q_tR hN w0 (wX49_byField_53 S Z hS _ _ w0.1 (wk_zc w0 rfl))
        · exact q_tR hN w0 (wX49_byField_35 S Z hS _ _ _ w0.1 )
      · exact q_tR hN w0 (wX49_byField_35 S Z hS _ _ _ w0.1 )
theorem wX49_byField (S Z : Nat → Prop) {hx N : Nat} (hS : ∀ x, fe_mem lX49_byField x = true → S x) (a0 : Int32) (a1 : Int32) (M : FM) (w : WI Z hx N M) : pq (FX49_byField a0 a1 M) (QR S Z hx N M) := wX49_byField_0 S Z hS a0 a1 M w 
def lX49_immediate : List Nat := [154, 155, 156, 157]
theorem wX49_immediate_156 (S Z : Nat → Prop) {hx N : Nat} (hS : ∀ x, fe_mem lX49_immediate x = true → S x) (s0 : Nat) (s1 : Nat) (s2 : Nat) (s3 : Int32) (s4 : Int32) (s5 : Int64) (M : FM) (w : WI Z hx N M) (z_s0 : Z s0) (z_s1 : Z s1) (z_s2 : Z s2) : pq (FX49_immediate_156 s0 s1 s2 s3 s4 s5 M) (QR S Z hx N M) := by
  have hN := w.2.2.1
  have w0 := wk_r (S := S) w
  delta FX49_immediate_156 BX49_immediate_156
  refine pq_g (fun g1 => ?_)
  refine pq_b (wX49_compute S Z (sb rfl hS) _ _ _ _ _ _ _ w0.1 z_s0 z_s1 z_s2) (fun r2 K3 => ?_)
  have w4 := wk_t w0 K3.1 hN
  exact pq_s ⟨w4, K3.2⟩
theorem wX49_immediate_127 (S Z : Nat → Prop) {hx N : Nat} (hS : ∀ x, fe_mem lX49_immediate x = true → S x) (a3 : Int32) (a4 : Int32) (s0 : Nat) (s1 : Nat) (s2 : Nat) (M : FM) (w : WI Z hx N M) (z_s0 : Z s0) (z_s1 : Z s1) (z_s2 : Z s2) : pq (FX49_immediate_127 a3 a4 s0 s1 s2 M) (QR S Z hx N M) := by
  have hN := w.2.2.1
  have w0 := wk_r (S := S) w
  delta FX49_immediate_127 BX49_immediate_127
  refine pq_fi (fun _ => ?_) (fun _ => ?_)
  · refine pq_b (wX105_bits S Z (sb rfl hS) _ _ _ _ w0.1 ) (fun r1 K2 => ?_)
    have w3 := wk_t w0 K2 hN
    exact q_tR hN w3 (wX49_immediate_156 S Z hS _ _ _ _ _ _ _ w3.1 z_s0 z_s1 z_s2)
  · refine pq_b (wX105_bits S Z (sb rfl hS) _ _ _ _ w0.1 ) (fun r4 K5 => ?_)
    have w6 := wk_t w0 K5 hN
    exact q_tR hN w6 (wX49_immediate_156 S Z hS _ _ _ _ _ _ _ w6.1 z_s0 z_s1 z_s2)
theorem wX49_immediate_108 (S Z : Nat → Prop) {hx N : Nat} (hS : ∀ x, fe_mem lX49_immediate x = true → S x) (a0 : Nat) (a1 : Nat) (a2 : Int32) (a3 : Int32) (a4 : Int32) (a6 : Int32) (s0 : Int32) (M : FM) (w : WI Z hx N M) (z_a0 : Z a0) (z_a1 : Z a1) : pq (FX49_immediate_108 a0 a1 a2 a3 a4 a6 s0 M) (QR S Z hx N M) := by
  have hN := w.2.2.1
  have w0 := wk_r (S := S) w
  delta FX49_immediate_108 BX49_immediate_108
  refine pq_fi (fun _ => ?_) (fun _ => ?_)
  · exact q_tR hN w0 (wX49_immediate_127 S Z hS _ _ _ _ _ _ w0.1 z_a0 z_a1 (wk_zc w0 rfl))
  · refine pq_b (wX49_byField S Z (sb rfl hS) _ _ _ w0.1 ) (fun r1 K2 => ?_)
    have w3 := wk_t w0 K2.1 hN
    exact q_tR hN w3 (wX49_immediate_127 S Z hS _ _ _ _ _ _ w3.1 z_a0 z_a1 K2.2)
theorem wX49_immediate_107 (S Z : Nat → Prop) {hx N : Nat} (hS : ∀ x, fe_mem lX49_immediate x = true → S x) (a0 : Nat) (a1 : Nat) (a2 : Int32) (a3 : Int32) (a4 : Int32) (a6 : Int32) (M : FM) (w : WI Z hx N M) (z_a0 : Z a0) (z_a1 : Z a1) : pq (FX49_immediate_107 a0 a1 a2 a3 a4 a6 M) (QR S Z hx N M) := by
  have hN := w.2.2.1
  have w0 := wk_r (S := S) w
  delta FX49_immediate_107 BX49_immediate_107
  exact q_tR hN w0 (wX49_immediate_108 S Z hS _ _ _ _ _ _ _ _ w0.1 z_a0 z_a1)
theorem wX49_immediate_103 (S Z : Nat → Prop) {hx N : Nat} (hS : ∀ x, fe_mem lX49_immediate x = true → S x) (a0 : Nat) (a1 : Nat) (a2 : Int32) (a3 : Int32) (a4 : Int32) (a6 : Int32) (M : FM) (w : WI Z hx N M) (z_a0 : Z a0) (z_a1 : Z a1) : pq (FX49_immediate_103 a0 a1 a2 a3 a4 a6 M) (QR S Z hx N M) := by
  have hN := w.2.2.1
  have w0 := wk_r (S := S) w
  delta FX49_immediate_103 BX49_immediate_103
  exact q_tR hN w0 (wX49_immediate_108 S Z hS _ _ _ _ _ _ _ _ w0.1 z_a0 z_a1)
theorem wX49_immediate_84 (S Z : Nat → Prop) {hx N : Nat} (hS : ∀ x, fe_mem lX49_immediate x = true → S x) (a0 : Nat) (a1 : Nat) (a2 : Int32) (a3 : Int32) (a4 : Int32) (s0 : Int32) (M : FM) (w : WI Z hx N M) (z_a0 : Z a0) (z_a1 : Z a1) : pq (FX49_immediate_84 a0 a1 a2 a3 a4 s0 M) (QR S Z hx N M) := by
  have hN := w.2.2.1
  have w0 := wk_r (S := S) w
  delta FX49_immediate_84 BX49_immediate_84
  refine pq_fi (fun _ => ?_) (fun _ => ?_)
  · exact q_tR hN w0 (wX49_immediate_103 S Z hS _ _ _ _ _ _ _ w0.1 z_a0 z_a1)
  · refine pq_fi (fun _ => ?_) (fun _ => ?_)
    · refine pq_fi (fun _ => ?_) (fun _ => ?_)
      · exact q_tR hN w0 (wX49_immediate_103 S Z hS _ _ _ _ _ _ _ w0.1 z_a0 z_a1)
      · exact q_tR hN w0 (wX49_immediate_107 S Z hS _ _ _ _ _ _ _ w0.1 z_a0 z_a1)
    · exact q_tR hN w0 (wX49_immediate_107 S Z hS _ _ _ _ _ _ _ w0.1 z_a0 z_a1)
theorem wX49_immediate_46 (S Z : Nat → Prop) {hx N : Nat} (hS : ∀ x, fe_mem lX49_immediate x = true → S x) (a3 : Int32) (a4 : Int32) (s0 : Nat) (s1 : Nat) (s2 : Nat) (M : FM) (w : WI Z hx N M) (z_s0 : Z s0) (z_s1 : Z s1) (z_s2 : Z s2) : pq (FX49_immediate_46 a3 a4 s0 s1 s2 M) (QR S Z hx N M) := by
  have hN := w.2.2.1
  have w0 := wk_r (S := S) w
  delta FX49_immediate_46 BX49_immediate_46
  refine pq_b (wX105_immediateI S Z (sb rfl hS) _ _ w0.1 ) (fun r1 K2 => ?_)
  have w3 := wk_t w0 K2 hN
  refine pq_g (fun g4 => ?_)
  refine pq_b (wX49_compute S Z (sb rfl hS) _ _ _ _ _ _ _ w3.1 z_s0 z_s1 z_s2) (fun r5 K6 => ?_)
  have w7 := wk_t w3 K6.1 hN
  exact pq_s ⟨w7, K6.2⟩
theorem wX49_immediate_42 (S Z : Nat → Prop) {hx N : Nat} (hS : ∀ x, fe_mem lX49_immediate x = true → S x) (a2 : Int32) (a3 : Int32) (a4 : Int32) (s0 : Nat) (s1 : Nat) (M : FM) (w : WI Z hx N M) (z_s0 : Z s0) (z_s1 : Z s1) : pq (FX49_immediate_42 a2 a3 a4 s0 s1 M) (QR S Z hx N M) := by
  have hN := w.2.2.1
  have w0 := wk_r (S := S) w
  delta FX49_immediate_42 BX49_immediate_42
  refine pq_b (wX49_plain S Z (sb rfl hS) _ _ w0.1 ) (fun r1 K2 => ?_)
  have w3 := wk_t w0 K2.1 hN
  exact q_tR hN w3 (wX49_immediate_46 S Z hS _ _ _ _ _ _ w3.1 z_s0 z_s1 K2.2)
theorem wX49_immediate_21 (S Z : Nat → Prop) {hx N : Nat} (hS : ∀ x, fe_mem lX49_immediate x = true → S x) (a0 : Nat) (a1 : Nat) (a2 : Int32) (a3 : Int32) (a4 : Int32) (s0 : Int32) (M : FM) (w : WI Z hx N M) (z_a0 : Z a0) (z_a1 : Z a1) : pq (FX49_immediate_21 a0 a1 a2 a3 a4 s0 M) (QR S Z hx N M) := by
  have hN := w.2.2.1
  have w0 := wk_r (S := S) w
  delta FX49_immediate_21 BX49_immediate_21
  refine pq_fi (fun _ => ?_) (fun _ => ?_)
  · refine pq_fi (fun _ => ?_) (fun _ => ?_)
    · exact q_tR hN w0 (wX49_immediate_42 S Z hS _ _ _ _ _ _ w0.1 z_a0 z_a1)
    · refine pq_fi (fun _ => ?_) (fun _ => ?_)
      · exact q_tR hN w0 (wX49_immediate_42 S Z hS _ _ _ _ _ _ w0.1 z_a0 z_a1)
      · exact q_tR hN w0 (wX49_immediate_46 S Z hS _ _ _ _ _ _ w0.1 z_a0 z_a1 (wk_zc w0 rfl))
  · refine pq_fi (fun _ => ?_) (fun _ => ?_)
    · refine pq_b (wX105_bits S Z (sb rfl hS) _ _ _ _ w0.1 ) (fun r1 K2 => ?_)
      have w3 := wk_t w0 K2 hN
      exact q_tR hN w3 (wX49_immediate_84 S Z hS _ _ _ _ _ _ _ w3.1 z_a0 z_a1)
    · refine pq_b (wX105_bits S Z (sb rfl hS) _ _ _ _ w0.1 ) (fun r4 K5 => ?_)
      have w6 := wk_t w0 K5 hN
      exact q_tR hN w6 (wX49_immediate_84 S Z hS _ _ _ _ _ _ _ w6.1 z_a0 z_a1)
theorem wX49_immediate_16 (S Z : Nat → Prop) {hx N : Nat} (hS : ∀ x, fe_mem lX49_immediate x = true → S x) (a0 : Nat) (a1 : Nat) (a2 : Int32) (a3 : Int32) (a4 : Int32) (M : FM) (w : WI Z hx N M) (z_a0 : Z a0) (z_a1 : Z a1) : pq (FX49_immediate_16 a0 a1 a2 a3 a4 M) (QR S Z hx N M) := by
  have hN := w.2.2.1
  have w0 := wk_r (S := S) w
  delta FX49_immediate_16 BX49_immediate_16
  exact q_tR hN w0 (wX49_immediate_21 S Z hS _ _ _ _ _ _ _ w0.1 z_a0 z_a1)
theorem wX49_immediate_0 (S Z : Nat → Prop) {hx N : Nat} (hS : ∀ x, fe_mem lX49_immediate x = true → S x) (a0 : Nat) (a1 : Nat) (a2 : Int32) (a3 : Int32) (M : FM) (w : WI Z hx N M) (z_a0 : Z a0) (z_a1 : Z a1) : pq (FX49_immediate_0 a0 a1 a2 a3 M) (QR S Z hx N M) := by
  have hN := w.2.2.1
  have w0 := wk_r (S := S) w
  delta FX49_immediate_0 BX49_immediate_0
  refine pq_g (fun g1 => ?_)
  refine pq_fi (fun _ => ?_) (fun _ => ?_)
  · exact q_tR hN w0 (wX49_immediate_16 S Z hS _ _ _ _ _ _ w0.1 z_a0 z_a1)
  · refine pq_fi (fun _ => ?_) (fun _ => ?_)
    · exact q_tR hN w0 (wX49_immediate_16 S Z hS _ _ _ _ _ _ w0.1 z_a0 z_a1)
    · exact q_tR hN w0 (wX49_immediate_21 S Z hS _ _ _ _ _ _ _ w0.1 z_a0 z_a1)
theorem wX49_immediate (S Z : Nat → Prop) {hx N : Nat} (hS : ∀ x, fe_mem lX49_immediate x = true → S x) (a0 : Nat) (a1 : Nat) (a2 : Int32) (a3 : Int32) (M : FM) (w : WI Z hx N M) (z_a0 : Z a0) (z_a1 : Z a1) : pq (FX49_immediate a0 a1 a2 a3 M) (QR S Z hx N M) := wX49_immediate_0 S Z hS a0 a1 a2 a3 M w z_a0 z_a1
def lX49_registers : List Nat := [154, 155, 156, 157]
theorem wX49_registers_75 (S Z : Nat → Prop) {hx N : Nat} (hS : ∀ x, fe_mem lX49_registers x = true → S x) (a3 : Int32) (s0 : Nat) (s1 : Nat) (s2 : Nat) (M : FM) (w : WI Z hx N M) (z_s0 : Z s0) (z_s1 : Z s1) (z_s2 : Z s2) : pq (FX49_registers_75 a3 s0 s1 s2 M) (QR S Z hx N M) := by
  have hN := w.2.2.1
  have w0 := wk_r (S := S) w
  delta FX49_registers_75 BX49_registers_75
  refine pq_g (fun g1 => ?_)
  refine pq_b (wX49_compute S Z (sb rfl hS) _ _ _ _ _ _ _ w0.1 z_s0 z_s1 z_s2) (fun r2 K3 => ?_)
  have w4 := wk_t w0 K3.1 hN
  exact pq_s ⟨w4, K3.2⟩
theorem wX49_registers_56 (S Z : Nat → Prop) {hx N : Nat} (hS : ∀ x, fe_mem lX49_registers x = true → S x) (a0 : Nat) (a1 : Nat) (a2 : Int32) (a3 : Int32) (a4 : Int32) (s0 : Int32) (M : FM) (w : WI Z hx N M) (z_a0 : Z a0) (z_a1 : Z a1) : pq (FX49_registers_56 a0 a1 a2 a3 a4 s0 M) (QR S Z hx N M) := by
  have hN := w.2.2.1
  have w0 := wk_r (S := S) w
  delta FX49_registers_56 BX49_registers_56
  refine pq_fi (fun _ => ?_) (fun _ => ?_)
  · refine pq_b (wX49_byField S Z (sb rfl hS) _ _ _ w0.1 ) (fun r1 K2 => ?_)
    have w3 := wk_t w0 K2.1 hN
    exact q_tR hN w3 (wX49_registers_75 S Z hS _ _ _ _ _ w3.1 z_a0 z_a1 K2.2)
  · exact q_tR hN w0 (wX49_registers_75 S Z hS _ _ _ _ _ w0.1 z_a0 z_a1 (wk_zc w0 rfl))
theorem wX49_registers_55 (S Z : Nat → Prop) {hx N : Nat} (hS : ∀ x, fe_mem lX49_registers x = true → S x) (a0 : Nat) (a1 : Nat) (a2 : Int32) (a3 : Int32) (a4 : Int32) (M : FM) (w : WI Z hx N M) (z_a0 : Z a0) (z_a1 : Z a1) : pq (FX49_registers_55 a0 a1 a2 a3 a4 M) (QR S Z hx N M) := by
  have hN := w.2.2.1
  have w0 := wk_r (S := S) w
  delta FX49_registers_55 BX49_registers_55
  exact q_tR hN w0 (wX49_registers_56 S Z hS _ _ _ _ _ _ _ w0.1 z_a0 z_a1)
theorem wX49_registers_51 (S Z : Nat → Prop) {hx N : Nat} (hS : ∀ x, fe_mem lX49_registers x = true → S x) (a0 : Nat) (a1 : Nat) (a2 : Int32) (a3 : Int32) (a4 : Int32) (M : FM) (w : WI Z hx N M) (z_a0 : Z a0) (z_a1 : Z a1) : pq (FX49_registers_51 a0 a1 a2 a3 a4 M) (QR S Z hx N M) := by
  have hN := w.2.2.1
  have w0 := wk_r (S := S) w
  delta FX49_registers_51 BX49_registers_51
  exact q_tR hN w0 (wX49_registers_56 S Z hS _ _ _ _ _ _ _ w0.1 z_a0 z_a1)
theorem wX49_registers_36 (S Z : Nat → Prop) {hx N : Nat} (hS : ∀ x, fe_mem lX49_registers x = true → S x) (a0 : Nat) (a1 : Nat) (a2 : Int32) (a3 : Int32) (a4 : Int32) (M : FM) (w : WI Z hx N M) (z_a0 : Z a0) (z_a1 : Z a1) : pq (FX49_registers_36 a0 a1 a2 a3 a4 M) (QR S Z hx N M) := by
  have hN := w.2.2.1
  have w0 := wk_r (S := S) w
  delta FX49_registers_36 BX49_registers_36
  refine pq_fi (fun _ => ?_) (fun _ => ?_)
  · refine pq_fi (fun _ => ?_) (fun _ => ?_)
    · exact q_tR hN w0 (wX49_registers_55 S Z hS _ _ _ _ _ _ w0.1 z_a0 z_a1)
    · refine pq_fi (fun _ => ?_) (fun _ => ?_)
      · exact q_tR hN w0 (wX49_registers_55 S Z hS _ _ _ _ _ _ w0.1 z_a0 z_a1)
      · exact q_tR hN w0 (wX49_registers_51 S Z hS _ _ _ _ _ _ w0.1 z_a0 z_a1)
  · exact q_tR hN w0 (wX49_registers_55 S Z hS _ _ _ _ _ _ w0.1 z_a0 z_a1)
theorem wX49_registers_0 (S Z : Nat → Prop) {hx N : Nat} (hS : ∀ x, fe_mem lX49_registers x = true → S x) (a0 : Nat) (a1 : Nat) (a2 : Int32) (a3 : Int32) (M : FM) (w : WI Z hx N M) (z_a0 : Z a0) (z_a1 : Z a1) : pq (FX49_registers_0 a0 a1 a2 a3 M) (QR S Z hx N M) := by
  have hN := w.2.2.1
  have w0 := wk_r (S := S) w
  delta FX49_registers_0 BX49_registers_0
  refine pq_g (fun g1 => ?_)
  refine pq_b (wX105_bits S Z (sb rfl hS) _ _ _ _ w0.1 ) (fun r2 K3 => ?_)
  have w4 := wk_t w0 K3 hN
  refine pq_fi (fun _ => ?_) (fun _ => ?_)
  · exact q_tR hN w4 (wX49_registers_55 S Z hS _ _ _ _ _ _ w4.1 z_a0 z_a1)
  · refine pq_fi (fun _ => ?_) (fun _ => ?_)
    · refine pq_fi (fun _ => ?_) (fun _ => ?_)
      · exact q_tR hN w4 (wX49_registers_36 S Z hS _ _ _ _ _ _ w4.1 z_a0 z_a1)
      · refine pq_fi (fun _ => ?_) (fun _ => ?_)
        · exact q_tR hN w4 (wX49_registers_36 S Z hS _ _ _ _ _ _ w4.1 z_a0 z_a1)
        · refine pq_fi (fun _ => ?_) (fun _ => ?_)
          · exact q_tR hN w4 (wX49_registers_36 S Z hS _ _ _ _ _ _ w4.1 z_a0 z_a1)
          · exact q_tR hN w4 (wX49_registers_51 S Z hS _ _ _ _ _ _ w4.1 z_a0 z_a1)
    · exact q_tR hN w4 (wX49_registers_36 S Z hS _ _ _ _ _ _ w4.1 z_a0 z_a1)
theorem wX49_registers (S Z : Nat → Prop) {hx N : Nat} (hS : ∀ x, fe_mem lX49_registers x = true → S x) (a0 : Nat) (a1 : Nat) (a2 : Int32) (a3 : Int32) (M : FM) (w : WI Z hx N M) (z_a0 : Z a0) (z_a1 : Z a1) : pq (FX49_registers a0 a1 a2 a3 M) (QR S Z hx N M) := wX49_registers_0 S Z hS a0 a1 a2 a3 M w z_a0 z_a1
def lX105_immediateU : List Nat := []
theorem wX105_immediateU_0 (S Z : Nat → Prop) {hx N : Nat} (hS : ∀ x, fe_mem lX105_immediateU x = true → S x) (a0 : Int32) (M : FM) (w : WI Z hx N M) : pq (FX105_immediateU_0 a0 M) (QA S Z hx N M) := by
  have hN := w.2.2.1
  have w0 := wk_r (S := S) w
  delta FX105_immediateU_0 BX105_immediateU_0
  exact pq_s w0
theorem wX105_immediateU (S Z : Nat → Prop) {hx N : Nat} (hS : ∀ x, fe_mem lX105_immediateU x = true → S x) (a0 : Int32) (M : FM) (w : WI Z hx N M) : pq (FX105_immediateU a0 M) (QA S Z hx N M) := wX105_immediateU_0 S Z hS a0 M w 
def lX105_immediateJ : List Nat := []
theorem wX105_immediateJ_0 (S Z : Nat → Prop) {hx N : Nat} (hS : ∀ x, fe_mem lX105_immediateJ x = true → S x) (a0 : Int32) (M : FM) (w : WI Z hx N M) : pq (FX105_immediateJ_0 a0 M) (QA S Z hx N M) := by
  have hN := w.2.2.1
  have w0 := wk_r (S := S) w
  delta FX105_immediateJ_0 BX105_immediateJ_0
  refine pq_b (wX105_bits S Z (sb rfl hS) _ _ _ _ w0.1 ) (fun r1 K2 => ?_)
  have w3 := wk_t w0 K2 hN
  refine pq_b (wX105_bits S Z (sb rfl hS) _ _ _ _ w3.1 ) (fun r4 K5 => ?_)
  have w6 := wk_t w3 K5 hN
  refine pq_b (wX105_bits S Z (sb rfl hS) _ _ _ _ w6.1 ) (fun r7 K8 => ?_)
  have w9 := wk_t w6 K8 hN
  exact pq_s w9
theorem wX105_immediateJ (S Z : Nat → Prop) {hx N : Nat} (hS : ∀ x, fe_mem lX105_immediateJ x = true → S x) (a0 : Int32) (M : FM) (w : WI Z hx N M) : pq (FX105_immediateJ a0 M) (QA S Z hx N M) := wX105_immediateJ_0 S Z hS a0 M w 
def lX49_jump : List Nat := [154]
theorem wX49_jump_0 (S Z : Nat → Prop) {hx N : Nat} (hS : ∀ x, fe_mem lX49_jump x = true → S x) (a0 : Nat) (a1 : Nat) (a2 : Nat) (a3 : Int64) (M : FM) (w : WI Z hx N M) (z_a0 : Z a0) (z_a1 : Z a1) (z_a2 : Z a2) : pq (FX49_jump_0 a0 a1 a2 a3 M) (QR S Z hx N M) := by
  have hN := w.2.2.1
  have w0 := wk_r (S := S) w
  delta FX49_jump_0 BX49_jump_0
  refine pq_g (fun g1 => ?_)
  extract_lets +onlyGivenNames M3
  have w2 : Wk S Z hx N M M3 := wk_fL hN w0 rfl rfl g1 z_a1 (Or.inr (hS 154 rfl))
  exact pq_s ⟨w2, z_a2⟩
theorem wX49_jump (S Z : Nat → Prop) {hx N : Nat} (hS : ∀ x, fe_mem lX49_jump x = true → S x) (a0 : Nat) (a1 : Nat) (a2 : Nat) (a3 : Int64) (M : FM) (w : WI Z hx N M) (z_a0 : Z a0) (z_a1 : Z a1) (z_a2 : Z a2) : pq (FX49_jump a0 a1 a2 a3 M) (QR S Z hx N M) := wX49_jump_0 S Z hS a0 a1 a2 a3 M w z_a0 z_a1 z_a2
def lX49_foreign : List Nat := [154, 156, 158, 160]
theorem wX49_foreign_39 (S Z : Nat → Prop) {hx N : Nat} (hS : ∀ x, fe_mem lX49_foreign x = true → S x) (s0 : Nat) (M : FM) (w : WI Z hx N M) (z_s0 : Z s0) : pq (FX49_foreign_39 s0 M) (QR S Z hx N M) := by
  have hN := w.2.2.1
  have w0 := wk_r (S := S) w
  delta FX49_foreign_39 BX49_foreign_39
  exact pq_s ⟨w0, z_s0⟩
theorem wX49_foreign_0 (S Z : Nat → Prop) {hx N : Nat} (hS : ∀ x, fe_mem lX49_foreign x = true → S x) (a0 : Nat) (a1 : Nat) (a2 : Int32) (a3 : Int32) (a4 : Int32) (a5 : Int32) (a6 : Int32) (M : FM) (w : WI Z hx N M) (z_a0 : Z a0) (z_a1 : Z a1) : pq (FX49_foreign_0 a0 a1 a2 a3 a4 a5 a6 M) (QR S Z hx N M) := by
  have hN := w.2.2.1
  have w0 := wk_r (S := S) w
  delta FX49_foreign_0 BX49_foreign_0
  refine pq_g (fun g1 => ?_)
  extract_lets +onlyGivenNames M3
  have w2 : Wk S Z hx N M M3 := wk_fI hN w0 rfl rfl g1 z_a1 (Or.inr (hS 158 rfl))
  refine pq_g (fun g4 => ?_)
  extract_lets +onlyGivenNames M6
  have w5 : Wk S Z hx N M M6 := wk_fL hN w2 rfl rfl g4 z_a1 (Or.inr (hS 154 rfl))
  refine pq_g (fun g7 => ?_)
  refine pq_g (fun _ => ?_)
  extract_lets +onlyGivenNames M9
  have w8 : Wk S Z hx N M M9 := wk_fI hN w5 rfl rfl g7 z_a1 (Or.inr (hS 156 rfl))
  refine pq_g (fun g10 => ?_)
  extract_lets +onlyGivenNames M12
  have w11 : Wk S Z hx N M M12 := wk_fI hN w8 rfl rfl g10 z_a1 (Or.inr (hS 160 rfl))
  refine pq_fi (fun _ => ?_) (fun _ => ?_)
  · refine pq_g (fun g13 => ?_)
    have z14 := wk_z (i := 0) (f := 161) w11 rfl z_a0
    exact q_tR hN w11 (wX49_foreign_39 S Z hS _ _ w11.1 z14)
  · refine pq_g (fun g15 => ?_)
    have z16 := wk_z (i := 0) (f := 170) w11 rfl z_a0
    exact q_tR hN w11 (wX49_foreign_39 S Z hS _ _ w11.1 z16)
theorem wX49_foreign (S Z : Nat → Prop) {hx N : Nat} (hS : ∀ x, fe_mem lX49_foreign x = true → S x) (a0 : Nat) (a1 : Nat) (a2 : Int32) (a3 : Int32) (a4 : Int32) (a5 : Int32) (a6 : Int32) (M : FM) (w : WI Z hx N M) (z_a0 : Z a0) (z_a1 : Z a1) : pq (FX49_foreign a0 a1 a2 a3 a4 a5 a6 M) (QR S Z hx N M) := wX49_foreign_0 S Z hS a0 a1 a2 a3 a4 a5 a6 M w z_a0 z_a1
def lX105_immediateS : List Nat := []
theorem wX105_immediateS_0 (S Z : Nat → Prop) {hx N : Nat} (hS : ∀ x, fe_mem lX105_immediateS x = true → S x) (a0 : Int32) (M : FM) (w : WI Z hx N M) : pq (FX105_immediateS_0 a0 M) (QA S Z hx N M) := by
  have hN := w.2.2.1
  have w0 := wk_r (S := S) w
  delta FX105_immediateS_0 BX105_immediateS_0
  refine pq_b (wX105_bits S Z (sb rfl hS) _ _ _ _ w0.1 ) (fun r1 K2 => ?_)
  have w3 := wk_t w0 K2 hN
  exact pq_s w3
theorem wX105_immediateS (S Z : Nat → Prop) {hx N : Nat} (hS : ∀ x, fe_mem lX105_immediateS x = true → S x) (a0 : Int32) (M : FM) (w : WI Z hx N M) : pq (FX105_immediateS a0 M) (QA S Z hx N M) := wX105_immediateS_0 S Z hS a0 M w 
def lX49_store : List Nat := [151, 154, 158, 159, 160]
theorem wX49_store_0 (S Z : Nat → Prop) {hx N : Nat} (hS : ∀ x, fe_mem lX49_store x = true → S x) (a0 : Nat) (a1 : Nat) (a2 : Int32) (a3 : Int32) (a4 : Int32) (a5 : Int32) (M : FM) (w : WI Z hx N M) (z_a0 : Z a0) (z_a1 : Z a1) : pq (FX49_store_0 a0 a1 a2 a3 a4 a5 M) (QR S Z hx N M) := by
  have hN := w.2.2.1
  have w0 := wk_r (S := S) w
  delta FX49_store_0 BX49_store_0
  refine pq_g (fun g1 => ?_)
  extract_lets +onlyGivenNames M3
  have w2 : Wk S Z hx N M M3 := wk_fI hN w0 rfl rfl g1 z_a1 (Or.inr (hS 151 rfl))
  refine pq_g (fun g4 => ?_)
  refine pq_b (wX105_immediateS S Z (sb rfl hS) _ _ w2.1 ) (fun r5 K6 => ?_)
  have w7 := wk_t w2 K6 hN
  refine pq_g (fun g8 => ?_)
  refine pq_b (wX49_access S Z (sb rfl hS) _ _ _ _ _ _ _ _ w7.1 z_a0 z_a1) (fun r9 K10 => ?_)
  have w11 := wk_t w7 K10.1 hN
  exact pq_s ⟨w11, K10.2⟩
theorem wX49_store (S Z : Nat → Prop) {hx N : Nat} (hS : ∀ x, fe_mem lX49_store x = true → S x) (a0 : Nat) (a1 : Nat) (a2 : Int32) (a3 : Int32) (a4 : Int32) (a5 : Int32) (M : FM) (w : WI Z hx N M) (z_a0 : Z a0) (z_a1 : Z a1) : pq (FX49_store a0 a1 a2 a3 a4 a5 M) (QR S Z hx N M) := wX49_store_0 S Z hS a0 a1 a2 a3 a4 a5 M w z_a0 z_a1
def lX49_find : List Nat := [151, 154, 155, 156, 157, 158, 159, 160]
theorem wX49_find_465 (S Z : Nat → Prop) {hx N : Nat} (hS : ∀ x, fe_mem lX49_find x = true → S x) (a3 : Int32) (s0 : Nat) (s1 : Nat) (s2 : Int32) (s3 : Int32) (s4 : Int32) (s5 : Int32) (M : FM) (w : WI Z hx N M) (z_s0 : Z s0) (z_s1 : Z s1) : pq (FX49_find_465 a3 s0 s1 s2 s3 s4 s5 M) (QR S Z hx N M) := by
  have hN := w.2.2.1
  have w0 := wk_r (S := S) w
  delta FX49_find_465 BX49_find_465
  refine pq_g (fun g1 => ?_)
  refine pq_b (wX49_foreign S Z (sb rfl hS) _ _ _ _ _ _ _ _ w0.1 z_s0 z_s1) (fun r2 K3 => ?_)
  have w4 := wk_t w0 K3.1 hN
  exact pq_s ⟨w4, K3.2⟩
theorem wX49_find_444 (S Z : Nat → Prop) {hx N : Nat} (hS : ∀ x, fe_mem lX49_find x = true → S x) (a3 : Int32) (a5 : Int32) (s0 : Nat) (s1 : Nat) (s2 : Int32) (M : FM) (w : WI Z hx N M) (z_s0 : Z s0) (z_s1 : Z s1) : pq (FX49_find_444 a3 a5 s0 s1 s2 M) (QR S Z hx N M) := by
  have hN := w.2.2.1
  have w0 := wk_r (S := S) w
  delta FX49_find_444 BX49_find_444
  refine pq_b (wX105_bits S Z (sb rfl hS) _ _ _ _ w0.1 ) (fun r1 K2 => ?_)
  have w3 := wk_t w0 K2 hN
  refine pq_fi (fun _ => ?_) (fun _ => ?_)
  · exact q_tR hN w3 (wX49_find_465 S Z hS _ _ _ _ _ _ _ _ w3.1 z_s0 z_s1)
  · exact q_tR hN w3 (wX49_find_465 S Z hS _ _ _ _ _ _ _ _ w3.1 z_s0 z_s1)
theorem wX49_find_421 (S Z : Nat → Prop) {hx N : Nat} (hS : ∀ x, fe_mem lX49_find x = true → S x) (a0 : Nat) (a1 : Nat) (a2 : Int32) (M : FM) (w : WI Z hx N M) (z_a0 : Z a0) (z_a1 : Z a1) : pq (FX49_find_421 a0 a1 a2 M) (QR S Z hx N M) := by
  have hN := w.2.2.1
  have w0 := wk_r (S := S) w
  delta FX49_find_421 BX49_find_421
  refine pq_g (fun g1 => ?_)
  refine pq_b (wX49_foreign S Z (sb rfl hS) _ _ _ _ _ _ _ _ w0.1 z_a0 z_a1) (fun r2 K3 => ?_)
  have w4 := wk_t w0 K3.1 hN
  exact pq_s ⟨w4, K3.2⟩
theorem wX49_find_374 (S Z : Nat → Prop) {hx N : Nat} (hS : ∀ x, fe_mem lX49_find x = true → S x) (a3 : Int32) (s0 : Nat) (s1 : Nat) (s2 : Int32) (M : FM) (w : WI Z hx N M) (z_s0 : Z s0) (z_s1 : Z s1) : pq (FX49_find_374 a3 s0 s1 s2 M) (QR S Z hx N M) := by
  have hN := w.2.2.1
  have w0 := wk_r (S := S) w
  delta FX49_find_374 BX49_find_374
  refine pq_g (fun g1 => ?_)
  refine pq_b (wX49_store S Z (sb rfl hS) _ _ _ _ _ _ _ w0.1 z_s0 z_s1) (fun r2 K3 => ?_)
  have w4 := wk_t w0 K3.1 hN
  exact pq_s ⟨w4, K3.2⟩
theorem wX49_find_344 (S Z : Nat → Prop) {hx N : Nat} (hS : ∀ x, fe_mem lX49_find x = true → S x) (a3 : Int32) (a5 : Int32) (s0 : Nat) (s1 : Nat) (s2 : Int32) (M : FM) (w : WI Z hx N M) (z_s0 : Z s0) (z_s1 : Z s1) : pq (FX49_find_344 a3 a5 s0 s1 s2 M) (QR S Z hx N M) := by
  have hN := w.2.2.1
  have w0 := wk_r (S := S) w
  delta FX49_find_344 BX49_find_344
  refine pq_b (wX105_immediateI S Z (sb rfl hS) _ _ w0.1 ) (fun r1 K2 => ?_)
  have w3 := wk_t w0 K2 hN
  refine pq_g (fun g4 => ?_)
  refine pq_b (wX49_access S Z (sb rfl hS) _ _ _ _ _ _ _ _ w3.1 z_s0 z_s1) (fun r5 K6 => ?_)
  have w7 := wk_t w3 K6.1 hN
  exact pq_s ⟨w7, K6.2⟩
theorem wX49_find_330 (S Z : Nat → Prop) {hx N : Nat} (hS : ∀ x, fe_mem lX49_find x = true → S x) (s0 : Nat) (M : FM) (w : WI Z hx N M) (z_s0 : Z s0) : pq (FX49_find_330 s0 M) (QR S Z hx N M) := by
  have hN := w.2.2.1
  have w0 := wk_r (S := S) w
  delta FX49_find_330 BX49_find_330
  exact pq_s ⟨w0, z_s0⟩
theorem wX49_find_266 (S Z : Nat → Prop) {hx N : Nat} (hS : ∀ x, fe_mem lX49_find x = true → S x) (a5 : Int32) (s0 : Nat) (s1 : Nat) (s2 : Nat) (M : FM) (w : WI Z hx N M) (z_s0 : Z s0) (z_s1 : Z s1) (z_s2 : Z s2) : pq (FX49_find_266 a5 s0 s1 s2 M) (QR S Z hx N M) := by
  have hN := w.2.2.1
  have w0 := wk_r (S := S) w
  delta FX49_find_266 BX49_find_266
  refine pq_b (wX105_immediateI S Z (sb rfl hS) _ _ w0.1 ) (fun r1 K2 => ?_)
  have w3 := wk_t w0 K2 hN
  refine pq_g (fun g4 => ?_)
  refine pq_b (wX49_jump S Z (sb rfl hS) _ _ _ _ _ w3.1 z_s0 z_s1 z_s2) (fun r5 K6 => ?_)
  have w7 := wk_t w3 K6.1 hN
  exact pq_s ⟨w7, K6.2⟩
theorem wX49_find_15 (S Z : Nat → Prop) {hx N : Nat} (hS : ∀ x, fe_mem lX49_find x = true → S x) (a0 : Nat) (a1 : Nat) (a2 : Int32) (a3 : Int32) (s0 : Int32) (M : FM) (w : WI Z hx N M) (z_a0 : Z a0) (z_a1 : Z a1) : pq (FX49_find_15 a0 a1 a2 a3 s0 M) (QR S Z hx N M) := by
  have hN := w.2.2.1
  have w0 := wk_r (S := S) w
  delta FX49_find_15 BX49_find_15
  refine pq_g (fun g1 => ?_)
  refine pq_fi (fun _ => ?_) (fun _ => ?_)
  · refine pq_fi (fun _ => ?_) (fun _ => ?_)
    · exact q_tR hN w0 (wX49_find_344 S Z hS _ _ _ _ _ _ w0.1 z_a0 z_a1)
    · exact q_tR hN w0 (wX49_find_344 S Z hS _ _ _ _ _ _ w0.1 z_a0 z_a1)
  · refine pq_fi (fun _ => ?_) (fun _ => ?_)
    · refine pq_b (wX105_immediateI S Z (sb rfl hS) _ _ w0.1 ) (fun r2 K3 => ?_)
      have w4 := wk_t w0 K3 hN
      refine pq_g (fun g5 => ?_)
      refine pq_b (wX49_access S Z (sb rfl hS) _ _ _ _ _ _ _ _ w4.1 z_a0 z_a1) (fun r6 K7 => ?_)
      have w8 := wk_t w4 K7.1 hN
      exact pq_s ⟨w8, K7.2⟩
    · refine pq_fi (fun _ => ?_) (fun _ => ?_)
      · refine pq_fi (fun _ => ?_) (fun _ => ?_)
        · refine pq_g (fun g9 => ?_)
          have z10 := wk_z (i := 0) (f := 161) w0 rfl z_a0
          exact q_tR hN w0 (wX49_find_330 S Z hS _ _ w0.1 z10)
        · refine pq_g (fun g11 => ?_)
          have z12 := wk_z (i := 0) (f := 162) w0 rfl z_a0
          exact q_tR hN w0 (wX49_find_330 S Z hS _ _ w0.1 z12)
      · refine pq_fi (fun _ => ?_) (fun _ => ?_)
        · refine pq_g (fun g13 => ?_)
          refine pq_b (wX49_immediate S Z (sb rfl hS) _ _ _ _ _ w0.1 z_a0 z_a1) (fun r14 K15 => ?_)
          have w16 := wk_t w0 K15.1 hN
          exact pq_s ⟨w16, K15.2⟩
        · refine pq_fi (fun _ => ?_) (fun _ => ?_)
          · refine pq_g (fun g17 => ?_)
            have z18 := wk_z (i := 0) (f := 164) w0 rfl z_a0
            refine pq_b (wX105_immediateU S Z (sb rfl hS) _ _ w0.1 ) (fun r19 K20 => ?_)
            have w21 := wk_t w0 K20 hN
            refine pq_g (fun g22 => ?_)
            refine pq_b (wX49_jump S Z (sb rfl hS) _ _ _ _ _ w21.1 z_a0 z_a1 z18) (fun r23 K24 => ?_)
            have w25 := wk_t w21 K24.1 hN
            exact pq_s ⟨w25, K24.2⟩
          · refine pq_fi (fun _ => ?_) (fun _ => ?_)
            · refine pq_g (fun g26 => ?_)
              refine pq_b (wX49_immediate S Z (sb rfl hS) _ _ _ _ _ w0.1 z_a0 z_a1) (fun r27 K28 => ?_)
              have w29 := wk_t w0 K28.1 hN
              exact pq_s ⟨w29, K28.2⟩
            · refine pq_fi (fun _ => ?_) (fun _ => ?_)
              · refine pq_fi (fun _ => ?_) (fun _ => ?_)
                · exact q_tR hN w0 (wX49_find_374 S Z hS _ _ _ _ _ w0.1 z_a0 z_a1)
                · exact q_tR hN w0 (wX49_find_374 S Z hS _ _ _ _ _ w0.1 z_a0 z_a1)
              · refine pq_fi (fun _ => ?_) (fun _ => ?_)
                · refine pq_g (fun g30 => ?_)
                  refine pq_b (wX49_store S Z (sb rfl hS) _ _ _ _ _ _ _ w0.1 z_a0 z_a1) (fun r31 K32 => ?_)
                  have w33 := wk_t w0 K32.1 hN
                  exact pq_s ⟨w33, K32.2⟩
                · refine pq_fi (fun _ => ?_) (fun _ => ?_)
                  · refine pq_g (fun g34 => ?_)
                    refine pq_b (wX49_atomic S Z (sb rfl hS) _ _ _ _ w0.1 z_a0 z_a1) (fun r35 K36 => ?_)
                    have w37 := wk_t w0 K36.1 hN
                    exact pq_s ⟨w37, K36.2⟩
                  · refine pq_fi (fun _ => ?_) (fun _ => ?_)
                    · refine pq_g (fun g38 => ?_)
                      refine pq_b (wX49_registers S Z (sb rfl hS) _ _ _ _ _ w0.1 z_a0 z_a1) (fun r39 K40 => ?_)
                      have w41 := wk_t w0 K40.1 hN
                      exact pq_s ⟨w41, K40.2⟩
                    · refine pq_fi (fun _ => ?_) (fun _ => ?_)
                      · refine pq_g (fun g42 => ?_)
                        have z43 := wk_z (i := 0) (f := 163) w0 rfl z_a0
                        refine pq_b (wX105_immediateU S Z (sb rfl hS) _ _ w0.1 ) (fun r44 K45 => ?_)
                        have w46 := wk_t w0 K45 hN
                        refine pq_g (fun g47 => ?_)
                        refine pq_b (wX49_jump S Z (sb rfl hS) _ _ _ _ _ w46.1 z_a0 z_a1 z43) (fun r48 K49 => ?_)
                        have w50 := wk_t w46 K49.1 hN
                        exact pq_s ⟨w50, K49.2⟩
                      · refine pq_fi (fun _ => ?_) (fun _ => ?_)
                        · refine pq_g (fun g51 => ?_)
                          refine pq_b (wX49_registers S Z (sb rfl hS) _ _ _ _ _ w0.1 z_a0 z_a1) (fun r52 K53 => ?_)
                          have w54 := wk_t w0 K53.1 hN
                          exact pq_s ⟨w54, K53.2⟩
                        · refine pq_fi (fun _ => ?_) (fun _ => ?_)
                          · exact q_tR hN w0 (wX49_find_421 S Z hS _ _ _ _ w0.1 z_a0 z_a1)
                          · refine pq_fi (fun _ => ?_) (fun _ => ?_)
                            · exact q_tR hN w0 (wX49_find_421 S Z hS _ _ _ _ w0.1 z_a0 z_a1)
                            · refine pq_fi (fun _ => ?_) (fun _ => ?_)
                              · exact q_tR hN w0 (wX49_find_421 S Z hS _ _ _ _ w0.1 z_a0 z_a1)
                              · refine pq_fi (fun _ => ?_) (fun _ => ?_)
                                · exact q_tR hN w0 (wX49_find_421 S Z hS _ _ _ _ w0.1 z_a0 z_a1)
                                · refine pq_fi (fun _ => ?_) (fun _ => ?_)
                                  · exact q_tR hN w0 (wX49_find_421 S Z hS _ _ _ _ w0.1 z_a0 z_a1)
                                  · refine pq_fi (fun _ => ?_) (fun _ => ?_)
                                    · refine pq_g (fun g55 => ?_)
                                      refine pq_b (wX49_branch S Z (sb rfl hS) _ _ _ _ w0.1 z_a0 z_a1) (fun r56 K57 => ?_)
                                      have w58 := wk_t w0 K57.1 hN
                                      exact pq_s ⟨w58, K57.2⟩
                                    · refine pq_fi (fun _ => ?_) (fun _ => ?_)
                                      · refine pq_fi (fun _ => ?_) (fun _ => ?_)
                                        · refine pq_g (fun g59 => ?_)
                                          have z60 := wk_z (i := 0) (f := 166) w0 rfl z_a0
                                          exact q_tR hN w0 (wX49_find_266 S Z hS _ _ _ _ _ w0.1 z_a0 z_a1 z60)
                                        · refine pq_g (fun g61 => ?_)
                                          have z62 := wk_z (i := 0) (f := 161) w0 rfl z_a0
                                          exact q_tR hN w0 (wX49_find_266 S Z hS _ _ _ _ _ w0.1 z_a0 z_a1 z62)
                                      · refine pq_fi (fun _ => ?_) (fun _ => ?_)
                                        · refine pq_g (fun g63 => ?_)
                                          have z64 := wk_z (i := 0) (f := 165) w0 rfl z_a0
                                          refine pq_b (wX105_immediateJ S Z (sb rfl hS) _ _ w0.1 ) (fun r65 K66 => ?_)
                                          have w67 := wk_t w0 K66 hN
                                          refine pq_g (fun g68 => ?_)
                                          refine pq_b (wX49_jump S Z (sb rfl hS) _ _ _ _ _ w67.1 z_a0 z_a1 z64) (fun r69 K70 => ?_)
                                          have w71 := wk_t w67 K70.1 hN
                                          exact pq_s ⟨w71, K70.2⟩
                                        · refine pq_fi (fun _ => ?_) (fun _ => ?_)
                                          · refine pq_fi (fun _ => ?_) (fun _ => ?_)
                                            · exact q_tR hN w0 (wX49_find_444 S Z hS _ _ _ _ _ _ w0.1 z_a0 z_a1)
                                            · exact q_tR hN w0 (wX49_find_444 S Z hS _ _ _ _ _ _ w0.1 z_a0 z_a1)
                                          · refine pq_g (fun g72 => ?_)
                                            have z73 := wk_z (i := 0) (f := 161) w0 rfl z_a0
                                            exact pq_s ⟨w0, z73⟩
theorem wX49_find_10 (S Z : Nat → Prop) {hx N : Nat} (hS : ∀ x, fe_mem lX49_find x = true → S x) (a0 : Nat) (a1 : Nat) (a2 : Int32) (a3 : Int32) (M : FM) (w : WI Z hx N M) (z_a0 : Z a0) (z_a1 : Z a1) : pq (FX49_find_10 a0 a1 a2 a3 M) (QR S Z hx N M) := by
  have hN := w.2.2.1
  have w0 := wk_r (S := S) w
  delta FX49_find_10 BX49_find_10
  exact q_tR hN w0 (wX49_find_15 S Z hS _ _ _ _ _ _ w0.1 z_a0 z_a1)
theorem wX49_find_0 (S Z : Nat → Prop) {hx N : Nat} (hS : ∀ x, fe_mem lX49_find x = true → S x) (a0 : Nat) (a1 : Nat) (a2 : Int32) (a3 : Int32) (M : FM) (w : WI Z hx N M) (z_a0 : Z a0) (z_a1 : Z a1) : pq (FX49_find_0 a0 a1 a2 a3 M) (QR S Z hx N M) := by
  have hN := w.2.2.1
  have w0 := wk_r (S := S) w
  delta FX49_find_0 BX49_find_0
  refine pq_fi (fun _ => ?_) (fun _ => ?_)
  · exact q_tR hN w0 (wX49_find_10 S Z hS _ _ _ _ _ w0.1 z_a0 z_a1)
  · refine pq_fi (fun _ => ?_) (fun _ => ?_)
    · exact q_tR hN w0 (wX49_find_10 S Z hS _ _ _ _ _ w0.1 z_a0 z_a1)
    · exact q_tR hN w0 (wX49_find_15 S Z hS _ _ _ _ _ _ w0.1 z_a0 z_a1)
theorem wX49_find (S Z : Nat → Prop) {hx N : Nat} (hS : ∀ x, fe_mem lX49_find x = true → S x) (a0 : Nat) (a1 : Nat) (a2 : Int32) (a3 : Int32) (M : FM) (w : WI Z hx N M) (z_a0 : Z a0) (z_a1 : Z a1) : pq (FX49_find a0 a1 a2 a3 M) (QR S Z hx N M) := wX49_find_0 S Z hS a0 a1 a2 a3 M w z_a0 z_a1
def lX49_read : List Nat := [149, 150, 151, 152, 153, 154, 155, 156, 157, 158, 159, 160]
theorem wX49_read_0 (S Z : Nat → Prop) {hx N : Nat} (hS : ∀ x, fe_mem lX49_read x = true → S x) (a0 : Nat) (a1 : Int32) (a2 : Nat) (M : FM) (w : WI Z hx N M) (z_a0 : Z a0) (z_a2 : Z a2) : pq (FX49_read_0 a0 a1 a2 M) (QV S Z hx N M) := by
  have hN := w.2.2.1
  have w0 := wk_r (S := S) w
  delta FX49_read_0 BX49_read_0
  refine pq_g (fun g1 => ?_)
  extract_lets +onlyGivenNames M3
  have w2 : Wk S Z hx N M M3 := wk_fI hN w0 rfl rfl g1 z_a2 (Or.inr (hS 150 rfl))
  refine pq_b (wX105_bits S Z (sb rfl hS) _ _ _ _ w2.1 ) (fun r4 K5 => ?_)
  have w6 := wk_t w2 K5 hN
  refine pq_g (fun g7 => ?_)
  extract_lets +onlyGivenNames M9
  have w8 : Wk S Z hx N M M9 := wk_fI hN w6 rfl rfl g7 z_a2 (Or.inr (hS 151 rfl))
  refine pq_b (wX105_bits S Z (sb rfl hS) _ _ _ _ w8.1 ) (fun r10 K11 => ?_)
  have w12 := wk_t w8 K11 hN
  refine pq_g (fun g13 => ?_)
  extract_lets +onlyGivenNames M15
  have w14 : Wk S Z hx N M M15 := wk_fI hN w12 rfl rfl g13 z_a2 (Or.inr (hS 152 rfl))
  refine pq_b (wX105_bits S Z (sb rfl hS) _ _ _ _ w14.1 ) (fun r16 K17 => ?_)
  have w18 := wk_t w14 K17 hN
  refine pq_g (fun g19 => ?_)
  extract_lets +onlyGivenNames M21
  have w20 : Wk S Z hx N M M21 := wk_fI hN w18 rfl rfl g19 z_a2 (Or.inr (hS 153 rfl))
  refine pq_b (wX105_bits S Z (sb rfl hS) _ _ _ _ w20.1 ) (fun r22 K23 => ?_)
  have w24 := wk_t w20 K23 hN
  refine pq_b (wX105_bits S Z (sb rfl hS) _ _ _ _ w24.1 ) (fun r25 K26 => ?_)
  have w27 := wk_t w24 K26 hN
  refine pq_g (fun g28 => ?_)
  refine pq_b (wX49_find S Z (sb rfl hS) _ _ _ _ _ w27.1 z_a0 z_a2) (fun r29 K30 => ?_)
  have w31 := wk_t w27 K30.1 hN
  refine pq_g (fun g32 => ?_)
  extract_lets +onlyGivenNames M34
  have w33 : Wk S Z hx N M M34 := wk_fR hN w31 rfl rfl g32 z_a2 (Or.inr (hS 149 rfl)) K30.2 rfl rfl
  exact pq_s w33
theorem wX49_read (S Z : Nat → Prop) {hx N : Nat} (hS : ∀ x, fe_mem lX49_read x = true → S x) (a0 : Nat) (a1 : Int32) (a2 : Nat) (M : FM) (w : WI Z hx N M) (z_a0 : Z a0) (z_a2 : Z a2) : pq (FX49_read a0 a1 a2 M) (QV S Z hx N M) := wX49_read_0 S Z hS a0 a1 a2 M w z_a0 z_a2
def lX47_find : List Nat := [149, 150, 151, 152, 153, 154, 155, 156, 157, 158, 159, 160, 1173]
theorem wX47_find_86 (S Z : Nat → Prop) {hx N : Nat} (hS : ∀ x, fe_mem lX47_find x = true → S x) (a0 : Nat) (a2 : Int32) (M : FM) (w : WI Z hx N M) (z_a0 : Z a0) : pq (FX47_find_86 a0 a2 M) (QR S Z hx N M) := by
  have hN := w.2.2.1
  have w0 := wk_r (S := S) w
  delta FX47_find_86 BX47_find_86
  refine pq_g (fun g1 => ?_)
  have z2 := wk_z (i := 0) (f := 173) w0 rfl z_a0
  have f3 := sS_173 w0.1.1 g1
  refine pq_g (fun g4 => ?_)
  have z5 := fun i => wk_ze (i := i) w0 rfl g4.1 f3 rfl z2
  exact pq_s ⟨w0, (z5 _)⟩
theorem wX47_find_0 (S Z : Nat → Prop) {hx N : Nat} (hS : ∀ x, fe_mem lX47_find x = true → S x) (a0 : Nat) (a1 : Int32) (M : FM) (w : WI Z hx N M) (z_a0 : Z a0) : pq (FX47_find_0 a0 a1 M) (QR S Z hx N M) := by
  have hN := w.2.2.1
  have w0 := wk_r (S := S) w
  delta FX47_find_0 BX47_find_0
  refine pq_g (fun g1 => ?_)
  have z2 := wk_z (i := 0) (f := 173) w0 rfl z_a0
  have f3 := sS_173 w0.1.1 g1
  refine pq_g (fun g4 => ?_)
  have z5 := fun i => wk_ze (i := i) w0 rfl g4.1 f3 rfl z2
  refine pq_fi (fun _ => ?_) (fun _ => ?_)
  · refine pq_g (fun g6 => ?_)
    have z7 := wk_z (i := 0) (f := 173) w0 rfl z_a0
    have f8 := sS_173 w0.1.1 g6
    have n9 := wk_N w0
    have z10 := wk_zn w0
    extract_lets +onlyGivenNames x13 M12
    have w11 : Wk S Z hx N M M12 := wk_new hN w0 rfl rfl ty_S4
    have K14 : Wk S Z hx N M M12 := wk_new (wk_N w0) (wk_r w0.1) rfl rfl ty_S4
    have f15 := sf_k w0.1.1 K14 f8
    refine pq_g (fun g16 => ?_)
    refine pq_b (wX104_init S Z (sb rfl hS) _ _ w11.1 z10) (fun r17 K18 => ?_)
    have w19 := wk_t w11 K18 hN
    have f20 := sf_k w11.1.1 K18 f15
    refine pq_g (fun g21 => ?_)
    refine pq_g (fun _ => ?_)
    extract_lets +onlyGivenNames M23
    have w22 : Wk S Z hx N M M23 := wk_aR hN w19 rfl g21.1 z7 (sy_s f20 (hS 1173 rfl)) z10 rfl rfl g21.2
    refine pq_g (fun g24 => ?_)
    have z25 := wk_z (i := 0) (f := 172) w22 rfl z_a0
    refine pq_g (fun g26 => ?_)
    have z27 := wk_z (i := 0) (f := 173) w22 rfl z_a0
    have f28 := sS_173 w22.1.1 g26
    refine pq_g (fun g29 => ?_)
    have z30 := fun i => wk_ze (i := i) w22 rfl g29.1 f28 rfl z27
    refine pq_g (fun g31 => ?_)
    refine pq_b (wX49_read S Z (sb rfl hS) _ _ _ _ w22.1 z25 (z30 _)) (fun r32 K33 => ?_)
    have w34 := wk_t w22 K33 hN
    exact q_tR hN w34 (wX47_find_86 S Z hS _ _ _ w34.1 z_a0)
  · refine pq_g (fun g35 => ?_)
    have z36 := wk_z (i := 0) (f := 173) w0 rfl z_a0
    have f37 := sS_173 w0.1.1 g35
    refine pq_g (fun g38 => ?_)
    have z39 := fun i => wk_ze (i := i) w0 rfl g38.1 f37 rfl z36
    refine pq_g (fun g40 => ?_)
    refine pq_fi (fun _ => ?_) (fun _ => ?_)
    · exact q_tR hN w0 (wX47_find_86 S Z hS _ _ _ w0.1 z_a0)
    · refine pq_g (fun g41 => ?_)
      have z42 := wk_z (i := 0) (f := 172) w0 rfl z_a0
      refine pq_g (fun g43 => ?_)
      have z44 := wk_z (i := 0) (f := 173) w0 rfl z_a0
      have f45 := sS_173 w0.1.1 g43
      refine pq_g (fun g46 => ?_)
      have z47 := fun i => wk_ze (i := i) w0 rfl g46.1 f45 rfl z44
      refine pq_g (fun g48 => ?_)
      refine pq_b (wX49_read S Z (sb rfl hS) _ _ _ _ w0.1 z42 (z47 _)) (fun r49 K50 => ?_)
      have w51 := wk_t w0 K50 hN
      exact q_tR hN w51 (wX47_find_86 S Z hS _ _ _ w51.1 z_a0)
theorem wX47_find (S Z : Nat → Prop) {hx N : Nat} (hS : ∀ x, fe_mem lX47_find x = true → S x) (a0 : Nat) (a1 : Int32) (M : FM) (w : WI Z hx N M) (z_a0 : Z a0) : pq (FX47_find a0 a1 M) (QR S Z hx N M) := wX47_find_0 S Z hS a0 a1 M w z_a0
def lX57_run : List Nat := []
theorem wX57_run_0 (S Z : Nat → Prop) {hx N : Nat} (hS : ∀ x, fe_mem lX57_run x = true → S x) (a0 : Nat) (a1 : Nat) (a2 : Nat) (a3 : Int32) (M : FM) (w : WI Z hx N M) (z_a0 : Z a0) (z_a1 : Z a1) (z_a2 : Z a2) : pq (FX57_run_0 a0 a1 a2 a3 M) (QA S Z hx N M) := by
  have hN := w.2.2.1
  have w0 := wk_r (S := S) w
  delta FX57_run_0 BX57_run_0
  refine pq_g (fun g1 => ?_)
  exact pq_s w0
theorem wX57_run (S Z : Nat → Prop) {hx N : Nat} (hS : ∀ x, fe_mem lX57_run x = true → S x) (a0 : Nat) (a1 : Nat) (a2 : Nat) (a3 : Int32) (M : FM) (w : WI Z hx N M) (z_a0 : Z a0) (z_a1 : Z a1) (z_a2 : Z a2) : pq (FX57_run a0 a1 a2 a3 M) (QA S Z hx N M) := wX57_run_0 S Z hS a0 a1 a2 a3 M w z_a0 z_a1 z_a2
def lX106_isBelow : List Nat := []
theorem wX106_isBelow_19 (S Z : Nat → Prop) {hx N : Nat} (hS : ∀ x, fe_mem lX106_isBelow x = true → S x) (s0 : Int32) (M : FM) (w : WI Z hx N M) : pq (FX106_isBelow_19 s0 M) (QA S Z hx N M) := by
  have hN := w.2.2.1
  have w0 := wk_r (S := S) w
  delta FX106_isBelow_19 BX106_isBelow_19
  refine pq_g (fun _ => ?_)
  exact pq_s w0
theorem wX106_isBelow_0 (S Z : Nat → Prop) {hx N : Nat} (hS : ∀ x, fe_mem lX106_isBelow x = true → S x) (a0 : Int64) (a2 : Int64) (M : FM) (w : WI Z hx N M) : pq (FX106_isBelow_0 a0 a2 M) (QA S Z hx N M) := by
  have hN := w.2.2.1
  have w0 := wk_r (S := S) w
  delta FX106_isBelow_0 BX106_isBelow_0
  refine pq_fi (fun _ => ?_) (fun _ => ?_)
  · exact q_tA hN w0 (wX106_isBelow_19 S Z hS _ _ w0.1 )
  · exact q_tA hN w0 (wX106_isBelow_19 S Z hS _ _ w0.1 )
theorem wX106_isBelow (S Z : Nat → Prop) {hx N : Nat} (hS : ∀ x, fe_mem lX106_isBelow x = true → S x) (a0 : Int64) (a2 : Int64) (M : FM) (w : WI Z hx N M) : pq (FX106_isBelow a0 a2 M) (QA S Z hx N M) := wX106_isBelow_0 S Z hS a0 a2 M w 
def lX55_run : List Nat := [179]
theorem wX55_run_114 (S Z : Nat → Prop) {hx N : Nat} (hS : ∀ x, fe_mem lX55_run x = true → S x) (s0 : Nat) (s1 : Int64) (s2 : Int64) (M : FM) (w : WI Z hx N M) (z_s0 : Z s0) : pq (FX55_run_114 s0 s1 s2 M) (QA S Z hx N M) := by
  have hN := w.2.2.1
  have w0 := wk_r (S := S) w
  delta FX55_run_114 BX55_run_114
  refine pq_g (fun g1 => ?_)
  extract_lets +onlyGivenNames M3
  have w2 : Wk S Z hx N M M3 := wk_fL hN w0 rfl rfl g1 z_s0 (Or.inr (hS 179 rfl))
  exact pq_s w2
theorem wX55_run_102 (S Z : Nat → Prop) {hx N : Nat} (hS : ∀ x, fe_mem lX55_run x = true → S x) (a2 : Nat) (a3 : Int32) (s0 : Nat) (s1 : Int64) (s2 : Int32) (s3 : Int32) (M : FM) (w : WI Z hx N M) (z_a2 : Z a2) (z_s0 : Z s0) : pq (FX55_run_102 a2 a3 s0 s1 s2 s3 M) (QA S Z hx N M) := by
  have hN := w.2.2.1
  have w0 := wk_r (S := S) w
  delta FX55_run_102 BX55_run_102
  refine pq_fi (fun _ => ?_) (fun _ => ?_)
  · exact q_tA hN w0 (wX55_run_114 S Z hS _ _ _ _ w0.1 z_s0)
  · refine pq_g (fun g1 => ?_)
    exact q_tA hN w0 (wX55_run_114 S Z hS _ _ _ _ w0.1 z_s0)
theorem wX55_run_78 (S Z : Nat → Prop) {hx N : Nat} (hS : ∀ x, fe_mem lX55_run x = true → S x) (a1 : Nat) (a2 : Nat) (a3 : Int32) (s0 : Int32) (M : FM) (w : WI Z hx N M) (z_a1 : Z a1) (z_a2 : Z a2) : pq (FX55_run_78 a1 a2 a3 s0 M) (QA S Z hx N M) := by
  have hN := w.2.2.1
  have w0 := wk_r (S := S) w
  delta FX55_run_78 BX55_run_78
  refine pq_g (fun g1 => ?_)
  refine pq_g (fun g2 => ?_)
  refine pq_fi (fun _ => ?_) (fun _ => ?_)
  · exact q_tA hN w0 (wX55_run_102 S Z hS _ _ _ _ _ _ _ w0.1 z_a2 z_a1)
  · exact q_tA hN w0 (wX55_run_102 S Z hS _ _ _ _ _ _ _ w0.1 z_a2 z_a1)
theorem wX55_run_0 (S Z : Nat → Prop) {hx N : Nat} (hS : ∀ x, fe_mem lX55_run x = true → S x) (a0 : Nat) (a1 : Nat) (a2 : Nat) (a3 : Int32) (M : FM) (w : WI Z hx N M) (z_a0 : Z a0) (z_a1 : Z a1) (z_a2 : Z a2) : pq (FX55_run_0 a0 a1 a2 a3 M) (QA S Z hx N M) := by
  have hN := w.2.2.1
  have w0 := wk_r (S := S) w
  delta FX55_run_0 BX55_run_0
  refine pq_g (fun g1 => ?_)
  have z2 := wk_z (i := 0) (f := 178) w0 rfl z_a1
  have f3 := sS_178 w0.1.1 g1
  refine pq_g (fun g4 => ?_)
  refine pq_g (fun g5 => ?_)
  refine pq_g (fun g6 => ?_)
  have z7 := wk_z (i := 0) (f := 178) w0 rfl z_a1
  have f8 := sS_178 w0.1.1 g6
  refine pq_g (fun g9 => ?_)
  refine pq_g (fun g10 => ?_)
  refine pq_g (fun g11 => ?_)
  refine pq_fi (fun _ => ?_) (fun _ => ?_)
  · refine pq_g (fun g12 => ?_)
    refine pq_fi (fun _ => ?_) (fun _ => ?_)
    · refine pq_b (wX106_isBelow S Z (sb rfl hS) _ _ _ w0.1 ) (fun r13 K14 => ?_)
      have w15 := wk_t w0 K14 hN
      exact q_tA hN w15 (wX55_run_78 S Z hS _ _ _ _ _ w15.1 z_a1 z_a2)
    · refine pq_fi (fun _ => ?_) (fun _ => ?_)
      · exact q_tA hN w0 (wX55_run_78 S Z hS _ _ _ _ _ w0.1 z_a1 z_a2)
      · exact q_tA hN w0 (wX55_run_78 S Z hS _ _ _ _ _ w0.1 z_a1 z_a2)
  · refine pq_fi (fun _ => ?_) (fun _ => ?_)
    · exact q_tA hN w0 (wX55_run_78 S Z hS _ _ _ _ _ w0.1 z_a1 z_a2)
    · exact q_tA hN w0 (wX55_run_78 S Z hS _ _ _ _ _ w0.1 z_a1 z_a2)
theorem wX55_run (S Z : Nat → Prop) {hx N : Nat} (hS : ∀ x, fe_mem lX55_run x = true → S x) (a0 : Nat) (a1 : Nat) (a2 : Nat) (a3 : Int32) (M : FM) (w : WI Z hx N M) (z_a0 : Z a0) (z_a1 : Z a1) (z_a2 : Z a2) : pq (FX55_run a0 a1 a2 a3 M) (QA S Z hx N M) := wX55_run_0 S Z hS a0 a1 a2 a3 M w z_a0 z_a1 z_a2
def lX106_upper : List Nat := []
theorem wX106_upper_0 (S Z : Nat → Prop) {hx N : Nat} (hS : ∀ x, fe_mem lX106_upper x = true → S x) (a0 : Int64) (a2 : Int64) (M : FM) (w : WI Z hx N M) : pq (FX106_upper_0 a0 a2 M) (QA S Z hx N M) := by
  have hN := w.2.2.1
  have w0 := wk_r (S := S) w
  delta FX106_upper_0 BX106_upper_0
  exact pq_s w0
theorem wX106_upper (S Z : Nat → Prop) {hx N : Nat} (hS : ∀ x, fe_mem lX106_upper x = true → S x) (a0 : Int64) (a2 : Int64) (M : FM) (w : WI Z hx N M) : pq (FX106_upper a0 a2 M) (QA S Z hx N M) := wX106_upper_0 S Z hS a0 a2 M w 
def lX106_divided : List Nat := []
theorem wX106_divided_28 (S Z : Nat → Prop) {hx N : Nat} (hS : ∀ x, fe_mem lX106_divided x = true → S x) (s0 : Int64) (M : FM) (w : WI Z hx N M) : pq (FX106_divided_28 s0 M) (QA S Z hx N M) := by
  have hN := w.2.2.1
  have w0 := wk_r (S := S) w
  delta FX106_divided_28 BX106_divided_28
  exact pq_s w0
theorem wX106_divided_0 (S Z : Nat → Prop) {hx N : Nat} (hS : ∀ x, fe_mem lX106_divided x = true → S x) (a0 : Int64) (a2 : Int64) (M : FM) (w : WI Z hx N M) : pq (FX106_divided_0 a0 a2 M) (QA S Z hx N M) := by
  have hN := w.2.2.1
  have w0 := wk_r (S := S) w
  delta FX106_divided_0 BX106_divided_0
  refine pq_fi (fun _ => ?_) (fun _ => ?_)
  · exact q_tA hN w0 (wX106_divided_28 S Z hS _ _ w0.1 )
  · refine pq_fi (fun _ => ?_) (fun _ => ?_)
    · exact q_tA hN w0 (wX106_divided_28 S Z hS _ _ w0.1 )
    · refine pq_n ?_
      exact q_tA hN w0 (wX106_divided_28 S Z hS _ _ w0.1 )
theorem wX106_divided (S Z : Nat → Prop) {hx N : Nat} (hS : ∀ x, fe_mem lX106_divided x = true → S x) (a0 : Int64) (a2 : Int64) (M : FM) (w : WI Z hx N M) : pq (FX106_divided a0 a2 M) (QA S Z hx N M) := wX106_divided_0 S Z hS a0 a2 M w 
def lX106_rest : List Nat := []
theorem wX106_rest_25 (S Z : Nat → Prop) {hx N : Nat} (hS : ∀ x, fe_mem lX106_rest x = true → S x) (s0 : Int64) (M : FM) (w : WI Z hx N M) : pq (FX106_rest_25 s0 M) (QA S Z hx N M) := by
  have hN := w.2.2.1
  have w0 := wk_r (S := S) w
  delta FX106_rest_25 BX106_rest_25
  exact pq_s w0
theorem wX106_rest_0 (S Z : Nat → Prop) {hx N : Nat} (hS : ∀ x, fe_mem lX106_rest x = true → S x) (a0 : Int64) (a2 : Int64) (M : FM) (w : WI Z hx N M) : pq (FX106_rest_0 a0 a2 M) (QA S Z hx N M) := by
  have hN := w.2.2.1
  have w0 := wk_r (S := S) w
  delta FX106_rest_0 BX106_rest_0
  refine pq_fi (fun _ => ?_) (fun _ => ?_)
  · exact q_tA hN w0 (wX106_rest_25 S Z hS _ _ w0.1 )
  · refine pq_fi (fun _ => ?_) (fun _ => ?_)
    · exact q_tA hN w0 (wX106_rest_25 S Z hS _ _ w0.1 )
    · refine pq_n ?_
      exact q_tA hN w0 (wX106_rest_25 S Z hS _ _ w0.1 )
theorem wX106_rest (S Z : Nat → Prop) {hx N : Nat} (hS : ∀ x, fe_mem lX106_rest x = true → S x) (a0 : Int64) (a2 : Int64) (M : FM) (w : WI Z hx N M) : pq (FX106_rest a0 a2 M) (QA S Z hx N M) := wX106_rest_0 S Z hS a0 a2 M w 
def lX106_quotient : List Nat := []
theorem wX106_quotient_51 (S Z : Nat → Prop) {hx N : Nat} (hS : ∀ x, fe_mem lX106_quotient x = true → S x) (s0 : Int64) (M : FM) (w : WI Z hx N M) : pq (FX106_quotient_51 s0 M) (QA S Z hx N M) := by
  have hN := w.2.2.1
  have w0 := wk_r (S := S) w
  delta FX106_quotient_51 BX106_quotient_51
  exact pq_s w0
theorem wX106_quotient_19 (S Z : Nat → Prop) {hx N : Nat} (hS : ∀ x, fe_mem lX106_quotient x = true → S x) (s0 : Int64) (M : FM) (w : WI Z hx N M) : pq (FX106_quotient_19 s0 M) (QA S Z hx N M) := by
  have hN := w.2.2.1
  have w0 := wk_r (S := S) w
  delta FX106_quotient_19 BX106_quotient_19
  exact pq_s w0
theorem wX106_quotient_0 (S Z : Nat → Prop) {hx N : Nat} (hS : ∀ x, fe_mem lX106_quotient x = true → S x) (a0 : Int64) (a2 : Int64) (M : FM) (w : WI Z hx N M) : pq (FX106_quotient_0 a0 a2 M) (QA S Z hx N M) := by
  have hN := w.2.2.1
  have w0 := wk_r (S := S) w
  delta FX106_quotient_0 BX106_quotient_0
  refine pq_fi (fun _ => ?_) (fun _ => ?_)
  · refine pq_n ?_
    refine pq_b (wX106_isBelow S Z (sb rfl hS) _ _ _ w0.1 ) (fun r1 K2 => ?_)
    have w3 := wk_t w0 K2 hN
    refine pq_fi (fun _ => ?_) (fun _ => ?_)
    · exact q_tA hN w3 (wX106_quotient_51 S Z hS _ _ w3.1 )
    · exact q_tA hN w3 (wX106_quotient_51 S Z hS _ _ w3.1 )
  · refine pq_b (wX106_isBelow S Z (sb rfl hS) _ _ _ w0.1 ) (fun r4 K5 => ?_)
    have w6 := wk_t w0 K5 hN
    refine pq_fi (fun _ => ?_) (fun _ => ?_)
    · exact q_tA hN w6 (wX106_quotient_19 S Z hS _ _ w6.1 )
    · exact q_tA hN w6 (wX106_quotient_19 S Z hS _ _ w6.1 )
theorem wX106_quotient (S Z : Nat → Prop) {hx N : Nat} (hS : ∀ x, fe_mem lX106_quotient x = true → S x) (a0 : Int64) (a2 : Int64) (M : FM) (w : WI Z hx N M) : pq (FX106_quotient a0 a2 M) (QA S Z hx N M) := wX106_quotient_0 S Z hS a0 a2 M w 
def lX106_reckon : List Nat := []
theorem wX106_reckon_256 (S Z : Nat → Prop) {hx N : Nat} (hS : ∀ x, fe_mem lX106_reckon x = true → S x) (s0 : Int64) (M : FM) (w : WI Z hx N M) : pq (FX106_reckon_256 s0 M) (QA S Z hx N M) := by
  have hN := w.2.2.1
  have w0 := wk_r (S := S) w
  delta FX106_reckon_256 BX106_reckon_256
  exact pq_s w0
theorem wX106_reckon_230 (S Z : Nat → Prop) {hx N : Nat} (hS : ∀ x, fe_mem lX106_reckon x = true → S x) (s0 : Int64) (M : FM) (w : WI Z hx N M) : pq (FX106_reckon_230 s0 M) (QA S Z hx N M) := by
  have hN := w.2.2.1
  have w0 := wk_r (S := S) w
  delta FX106_reckon_230 BX106_reckon_230
  exact pq_s w0
theorem wX106_reckon_199 (S Z : Nat → Prop) {hx N : Nat} (hS : ∀ x, fe_mem lX106_reckon x = true → S x) (s0 : Int64) (s1 : Int64) (M : FM) (w : WI Z hx N M) : pq (FX106_reckon_199 s0 s1 M) (QA S Z hx N M) := by
  have hN := w.2.2.1
  have w0 := wk_r (S := S) w
  delta FX106_reckon_199 BX106_reckon_199
  exact pq_s w0
theorem wX106_reckon_181 (S Z : Nat → Prop) {hx N : Nat} (hS : ∀ x, fe_mem lX106_reckon x = true → S x) (s0 : Int64) (s1 : Int64) (M : FM) (w : WI Z hx N M) : pq (FX106_reckon_181 s0 s1 M) (QA S Z hx N M) := by
  have hN := w.2.2.1
  have w0 := wk_r (S := S) w
  delta FX106_reckon_181 BX106_reckon_181
  exact pq_s w0
theorem wX106_reckon_169 (S Z : Nat → Prop) {hx N : Nat} (hS : ∀ x, fe_mem lX106_reckon x = true → S x) (a1 : Int64) (a3 : Int64) (s0 : Int64) (s1 : Int64) (M : FM) (w : WI Z hx N M) : pq (FX106_reckon_169 a1 a3 s0 s1 M) (QA S Z hx N M) := by
  have hN := w.2.2.1
  have w0 := wk_r (S := S) w
  delta FX106_reckon_169 BX106_reckon_169
  refine pq_fi (fun _ => ?_) (fun _ => ?_)
  · exact q_tA hN w0 (wX106_reckon_181 S Z hS _ _ _ w0.1 )
  · exact q_tA hN w0 (wX106_reckon_181 S Z hS _ _ _ w0.1 )
theorem wX106_reckon_126 (S Z : Nat → Prop) {hx N : Nat} (hS : ∀ x, fe_mem lX106_reckon x = true → S x) (s0 : Int64) (M : FM) (w : WI Z hx N M) : pq (FX106_reckon_126 s0 M) (QA S Z hx N M) := by
  have hN := w.2.2.1
  have w0 := wk_r (S := S) w
  delta FX106_reckon_126 BX106_reckon_126
  exact pq_s w0
theorem wX106_reckon_112 (S Z : Nat → Prop) {hx N : Nat} (hS : ∀ x, fe_mem lX106_reckon x = true → S x) (s0 : Int64) (M : FM) (w : WI Z hx N M) : pq (FX106_reckon_112 s0 M) (QA S Z hx N M) := by
  have hN := w.2.2.1
  have w0 := wk_r (S := S) w
  delta FX106_reckon_112 BX106_reckon_112
  exact pq_s w0
theorem wX106_reckon_0 (S Z : Nat → Prop) {hx N : Nat} (hS : ∀ x, fe_mem lX106_reckon x = true → S x) (a0 : Nat) (a1 : Int64) (a3 : Int64) (M : FM) (w : WI Z hx N M) (z_a0 : Z a0) : pq (FX106_reckon_0 a0 a1 a3 M) (QA S Z hx N M) := by
  have hN := w.2.2.1
  have w0 := wk_r (S := S) w
  delta FX106_reckon_0 BX106_reckon_0
  refine pq_g (fun g1 => ?_)
  refine pq_b (wJ0_ordinal S Z (sb rfl hS) _ _ w0.1 z_a0) (fun r2 K3 => ?_)
  have w4 := wk_t w0 K3 hN
  refine pq_fi (fun _ => ?_) (fun _ => ?_)
  · exact pq_s w4
  · refine pq_fi (fun _ => ?_) (fun _ => ?_)
    · exact pq_s w4
    · refine pq_fi (fun _ => ?_) (fun _ => ?_)
      · exact pq_s w4
      · refine pq_fi (fun _ => ?_) (fun _ => ?_)
        · refine pq_fi (fun _ => ?_) (fun _ => ?_)
          · exact q_tA hN w4 (wX106_reckon_112 S Z hS _ _ w4.1 )
          · exact q_tA hN w4 (wX106_reckon_112 S Z hS _ _ w4.1 )
        · refine pq_fi (fun _ => ?_) (fun _ => ?_)
          · refine pq_b (wX106_isBelow S Z (sb rfl hS) _ _ _ w4.1 ) (fun r5 K6 => ?_)
            have w7 := wk_t w4 K6 hN
            refine pq_fi (fun _ => ?_) (fun _ => ?_)
            · exact q_tA hN w7 (wX106_reckon_126 S Z hS _ _ w7.1 )
            · exact q_tA hN w7 (wX106_reckon_126 S Z hS _ _ w7.1 )
          · refine pq_fi (fun _ => ?_) (fun _ => ?_)
            · exact pq_s w4
            · refine pq_fi (fun _ => ?_) (fun _ => ?_)
              · exact pq_s w4
              · refine pq_fi (fun _ => ?_) (fun _ => ?_)
                · exact pq_s w4
                · refine pq_fi (fun _ => ?_) (fun _ => ?_)
                  · exact pq_s w4
                  · refine pq_fi (fun _ => ?_) (fun _ => ?_)
                    · exact pq_s w4
                    · refine pq_fi (fun _ => ?_) (fun _ => ?_)
                      · exact pq_s w4
                      · refine pq_fi (fun _ => ?_) (fun _ => ?_)
                        · refine pq_b (wX106_upper S Z (sb rfl hS) _ _ _ w4.1 ) (fun r8 K9 => ?_)
                          have w10 := wk_t w4 K9 hN
                          refine pq_fi (fun _ => ?_) (fun _ => ?_)
                          · exact q_tA hN w10 (wX106_reckon_169 S Z hS _ _ _ _ _ w10.1 )
                          · exact q_tA hN w10 (wX106_reckon_169 S Z hS _ _ _ _ _ w10.1 )
                        · refine pq_fi (fun _ => ?_) (fun _ => ?_)
                          · refine pq_b (wX106_upper S Z (sb rfl hS) _ _ _ w4.1 ) (fun r11 K12 => ?_)
                            have w13 := wk_t w4 K12 hN
                            refine pq_fi (fun _ => ?_) (fun _ => ?_)
                            · exact q_tA hN w13 (wX106_reckon_199 S Z hS _ _ _ w13.1 )
                            · exact q_tA hN w13 (wX106_reckon_199 S Z hS _ _ _ w13.1 )
                          · refine pq_fi (fun _ => ?_) (fun _ => ?_)
                            · refine pq_b (wX106_upper S Z (sb rfl hS) _ _ _ w4.1 ) (fun r14 K15 => ?_)
                              have w16 := wk_t w4 K15 hN
                              exact pq_s w16
                            · refine pq_fi (fun _ => ?_) (fun _ => ?_)
                              · refine pq_b (wX106_divided S Z (sb rfl hS) _ _ _ w4.1 ) (fun r17 K18 => ?_)
                                have w19 := wk_t w4 K18 hN
                                exact pq_s w19
                              · refine pq_fi (fun _ => ?_) (fun _ => ?_)
                                · refine pq_fi (fun _ => ?_) (fun _ => ?_)
                                  · exact q_tA hN w4 (wX106_reckon_230 S Z hS _ _ w4.1 )
                                  · refine pq_b (wX106_quotient S Z (sb rfl hS) _ _ _ w4.1 ) (fun r20 K21 => ?_)
                                    have w22 := wk_t w4 K21 hN
                                    exact q_tA hN w22 (wX106_reckon_230 S Z hS _ _ w22.1 )
                                · refine pq_fi (fun _ => ?_) (fun _ => ?_)
                                  · refine pq_b (wX106_rest S Z (sb rfl hS) _ _ _ w4.1 ) (fun r23 K24 => ?_)
                                    have w25 := wk_t w4 K24 hN
                                    exact pq_s w25
                                  · refine pq_fi (fun _ => ?_) (fun _ => ?_)
                                    · exact q_tA hN w4 (wX106_reckon_256 S Z hS _ _ w4.1 )
                                    · refine pq_b (wX106_quotient S Z (sb rfl hS) _ _ _ w4.1 ) (fun r26 K27 => ?_)
                                      have w28 := wk_t w4 K27 hN
                                      exact q_tA hN w28 (wX106_reckon_256 S Z hS _ _ w28.1 )
theorem wX106_reckon (S Z : Nat → Prop) {hx N : Nat} (hS : ∀ x, fe_mem lX106_reckon x = true → S x) (a0 : Nat) (a1 : Int64) (a3 : Int64) (M : FM) (w : WI Z hx N M) (z_a0 : Z a0) : pq (FX106_reckon a0 a1 a3 M) (QA S Z hx N M) := wX106_reckon_0 S Z hS a0 a1 a3 M w z_a0
def lX106_reckonInt : List Nat := []
theorem wX106_reckonInt_71 (S Z : Nat → Prop) {hx N : Nat} (hS : ∀ x, fe_mem lX106_reckonInt x = true → S x) (a0 : Nat) (a1 : Int32) (a2 : Int32) (M : FM) (w : WI Z hx N M) (z_a0 : Z a0) : pq (FX106_reckonInt_71 a0 a1 a2 M) (QA S Z hx N M) := by
  have hN := w.2.2.1
  have w0 := wk_r (S := S) w
  delta FX106_reckonInt_71 BX106_reckonInt_71
  refine pq_b (wX106_reckon S Z (sb rfl hS) _ _ _ _ w0.1 z_a0) (fun r1 K2 => ?_)
  have w3 := wk_t w0 K2 hN
  exact pq_s w3
theorem wX106_reckonInt_0 (S Z : Nat → Prop) {hx N : Nat} (hS : ∀ x, fe_mem lX106_reckonInt x = true → S x) (a0 : Nat) (a1 : Int32) (a2 : Int32) (M : FM) (w : WI Z hx N M) (z_a0 : Z a0) : pq (FX106_reckonInt_0 a0 a1 a2 M) (QA S Z hx N M) := by
  have hN := w.2.2.1
  have w0 := wk_r (S := S) w
  delta FX106_reckonInt_0 BX106_reckonInt_0
  refine pq_g (fun g1 => ?_)
  refine pq_b (wJ0_ordinal S Z (sb rfl hS) _ _ w0.1 z_a0) (fun r2 K3 => ?_)
  have w4 := wk_t w0 K3 hN
  refine pq_fi (fun _ => ?_) (fun _ => ?_)
  · exact pq_s w4
  · refine pq_fi (fun _ => ?_) (fun _ => ?_)
    · exact pq_s w4
    · refine pq_fi (fun _ => ?_) (fun _ => ?_)
      · exact pq_s w4
      · refine pq_fi (fun _ => ?_) (fun _ => ?_)
        · exact q_tA hN w4 (wX106_reckonInt_71 S Z hS _ _ _ _ w4.1 z_a0)
        · refine pq_fi (fun _ => ?_) (fun _ => ?_)
          · exact q_tA hN w4 (wX106_reckonInt_71 S Z hS _ _ _ _ w4.1 z_a0)
          · refine pq_b (wX106_reckon S Z (sb rfl hS) _ _ _ _ w4.1 z_a0) (fun r5 K6 => ?_)
            have w7 := wk_t w4 K6 hN
            exact pq_s w7
theorem wX106_reckonInt (S Z : Nat → Prop) {hx N : Nat} (hS : ∀ x, fe_mem lX106_reckonInt x = true → S x) (a0 : Nat) (a1 : Int32) (a2 : Int32) (M : FM) (w : WI Z hx N M) (z_a0 : Z a0) : pq (FX106_reckonInt a0 a1 a2 M) (QA S Z hx N M) := wX106_reckonInt_0 S Z hS a0 a1 a2 M w z_a0
def lX56_run : List Nat := [179, 1178]
theorem wX56_run_75 (S Z : Nat → Prop) {hx N : Nat} (hS : ∀ x, fe_mem lX56_run x = true → S x) (a1 : Nat) (a3 : Int32) (s0 : Nat) (s1 : Int32) (s2 : Int64) (M : FM) (w : WI Z hx N M) (z_a1 : Z a1) (z_s0 : Z s0) : pq (FX56_run_75 a1 a3 s0 s1 s2 M) (QA S Z hx N M) := by
  have hN := w.2.2.1
  have w0 := wk_r (S := S) w
  delta FX56_run_75 BX56_run_75
  refine pq_g (fun g1 => ?_)
  refine pq_b (wX48_set S Z (sb rfl hS) _ _ _ _ w0.1 z_s0) (fun r2 K3 => ?_)
  have w4 := wk_t w0 K3 hN
  refine pq_g (fun g5 => ?_)
  refine pq_g (fun g6 => ?_)
  extract_lets +onlyGivenNames M8
  have w7 : Wk S Z hx N M M8 := wk_fL hN w4 rfl rfl g6 z_a1 (Or.inr (hS 179 rfl))
  exact pq_s w7
theorem wX56_run_34 (S Z : Nat → Prop) {hx N : Nat} (hS : ∀ x, fe_mem lX56_run x = true → S x) (a1 : Nat) (a2 : Nat) (a3 : Int32) (a4 : Int64) (s0 : Int64) (M : FM) (w : WI Z hx N M) (z_a1 : Z a1) (z_a2 : Z a2) : pq (FX56_run_34 a1 a2 a3 a4 s0 M) (QA S Z hx N M) := by
  have hN := w.2.2.1
  have w0 := wk_r (S := S) w
  delta FX56_run_34 BX56_run_34
  refine pq_g (fun g1 => ?_)
  refine pq_g (fun g2 => ?_)
  refine pq_fi (fun _ => ?_) (fun _ => ?_)
  · refine pq_g (fun g3 => ?_)
    have z4 := wk_z (i := 0) (f := 155) w0 rfl z_a2
    refine pq_b (wX106_reckon S Z (sb rfl hS) _ _ _ _ w0.1 z4) (fun r5 K6 => ?_)
    have w7 := wk_t w0 K6 hN
    exact q_tA hN w7 (wX56_run_75 S Z hS _ _ _ _ _ _ w7.1 z_a1 z_a1)
  · refine pq_g (fun g8 => ?_)
    have z9 := wk_z (i := 0) (f := 155) w0 rfl z_a2
    refine pq_b (wX106_reckonInt S Z (sb rfl hS) _ _ _ _ w0.1 z9) (fun r10 K11 => ?_)
    have w12 := wk_t w0 K11 hN
    exact q_tA hN w12 (wX56_run_75 S Z hS _ _ _ _ _ _ w12.1 z_a1 z_a1)
theorem wX56_run_0 (S Z : Nat → Prop) {hx N : Nat} (hS : ∀ x, fe_mem lX56_run x = true → S x) (a0 : Nat) (a1 : Nat) (a2 : Nat) (a3 : Int32) (M : FM) (w : WI Z hx N M) (z_a0 : Z a0) (z_a1 : Z a1) (z_a2 : Z a2) : pq (FX56_run_0 a0 a1 a2 a3 M) (QA S Z hx N M) := by
  have hN := w.2.2.1
  have w0 := wk_r (S := S) w
  delta FX56_run_0 BX56_run_0
  refine pq_g (fun g1 => ?_)
  have z2 := wk_z (i := 0) (f := 178) w0 rfl z_a1
  have f3 := sS_178 w0.1.1 g1
  refine pq_g (fun g4 => ?_)
  refine pq_g (fun g5 => ?_)
  refine pq_g (fun g6 => ?_)
  refine pq_fi (fun _ => ?_) (fun _ => ?_)
  · refine pq_g (fun g7 => ?_)
    exact q_tA hN w0 (wX56_run_34 S Z hS _ _ _ _ _ _ w0.1 z_a1 z_a2)
  · refine pq_g (fun g8 => ?_)
    have z9 := wk_z (i := 0) (f := 178) w0 rfl z_a1
    have f10 := sS_178 w0.1.1 g8
    refine pq_g (fun g11 => ?_)
    refine pq_g (fun g12 => ?_)
    exact q_tA hN w0 (wX56_run_34 S Z hS _ _ _ _ _ _ w0.1 z_a1 z_a2)
theorem wX56_run (S Z : Nat → Prop) {hx N : Nat} (hS : ∀ x, fe_mem lX56_run x = true → S x) (a0 : Nat) (a1 : Nat) (a2 : Nat) (a3 : Int32) (M : FM) (w : WI Z hx N M) (z_a0 : Z a0) (z_a1 : Z a1) (z_a2 : Z a2) : pq (FX56_run a0 a1 a2 a3 M) (QA S Z hx N M) := wX56_run_0 S Z hS a0 a1 a2 a3 M w z_a0 z_a1 z_a2
def lX52_run : List Nat := [179]
theorem wX52_run_0 (S Z : Nat → Prop) {hx N : Nat} (hS : ∀ x, fe_mem lX52_run x = true → S x) (a0 : Nat) (a1 : Nat) (a2 : Nat) (a3 : Int32) (M : FM) (w : WI Z hx N M) (z_a0 : Z a0) (z_a1 : Z a1) (z_a2 : Z a2) : pq (FX52_run_0 a0 a1 a2 a3 M) (QA S Z hx N M) := by
  have hN := w.2.2.1
  have w0 := wk_r (S := S) w
  delta FX52_run_0 BX52_run_0
  refine pq_g (fun g1 => ?_)
  refine pq_g (fun g2 => ?_)
  extract_lets +onlyGivenNames M4
  have w3 : Wk S Z hx N M M4 := wk_fL hN w0 rfl rfl g2 z_a1 (Or.inr (hS 179 rfl))
  exact pq_s w3
theorem wX52_run (S Z : Nat → Prop) {hx N : Nat} (hS : ∀ x, fe_mem lX52_run x = true → S x) (a0 : Nat) (a1 : Nat) (a2 : Nat) (a3 : Int32) (M : FM) (w : WI Z hx N M) (z_a0 : Z a0) (z_a1 : Z a1) (z_a2 : Z a2) : pq (FX52_run a0 a1 a2 a3 M) (QA S Z hx N M) := wX52_run_0 S Z hS a0 a1 a2 a3 M w z_a0 z_a1 z_a2
def lX58_run : List Nat := []
theorem wX58_run_0 (S Z : Nat → Prop) {hx N : Nat} (hS : ∀ x, fe_mem lX58_run x = true → S x) (a0 : Nat) (a1 : Nat) (a2 : Nat) (a3 : Int32) (M : FM) (w : WI Z hx N M) (z_a0 : Z a0) (z_a1 : Z a1) (z_a2 : Z a2) : pq (FX58_run_0 a0 a1 a2 a3 M) (QA S Z hx N M) := by
  have hN := w.2.2.1
  have w0 := wk_r (S := S) w
  delta FX58_run_0 BX58_run_0
  refine pq_g (fun g1 => ?_)
  exact pq_s w0
theorem wX58_run (S Z : Nat → Prop) {hx N : Nat} (hS : ∀ x, fe_mem lX58_run x = true → S x) (a0 : Nat) (a1 : Nat) (a2 : Nat) (a3 : Int32) (M : FM) (w : WI Z hx N M) (z_a0 : Z a0) (z_a1 : Z a1) (z_a2 : Z a2) : pq (FX58_run a0 a1 a2 a3 M) (QA S Z hx N M) := wX58_run_0 S Z hS a0 a1 a2 a3 M w z_a0 z_a1 z_a2
def lX51_run : List Nat := []
theorem wX51_run_0 (S Z : Nat → Prop) {hx N : Nat} (hS : ∀ x, fe_mem lX51_run x = true → S x) (a0 : Nat) (a1 : Nat) (a2 : Nat) (a3 : Int32) (M : FM) (w : WI Z hx N M) (z_a0 : Z a0) (z_a1 : Z a1) (z_a2 : Z a2) : pq (FX51_run_0 a0 a1 a2 a3 M) (QA S Z hx N M) := by
  have hN := w.2.2.1
  have w0 := wk_r (S := S) w
  delta FX51_run_0 BX51_run_0
  exact pq_s w0
theorem wX51_run (S Z : Nat → Prop) {hx N : Nat} (hS : ∀ x, fe_mem lX51_run x = true → S x) (a0 : Nat) (a1 : Nat) (a2 : Nat) (a3 : Int32) (M : FM) (w : WI Z hx N M) (z_a0 : Z a0) (z_a1 : Z a1) (z_a2 : Z a2) : pq (FX51_run a0 a1 a2 a3 M) (QA S Z hx N M) := wX51_run_0 S Z hS a0 a1 a2 a3 M w z_a0 z_a1 z_a2
def lX54_run : List Nat := [179, 1178]
theorem wX54_run_37 (S Z : Nat → Prop) {hx N : Nat} (hS : ∀ x, fe_mem lX54_run x = true → S x) (a1 : Nat) (a2 : Nat) (a3 : Int32) (s0 : Int64) (M : FM) (w : WI Z hx N M) (z_a1 : Z a1) (z_a2 : Z a2) : pq (FX54_run_37 a1 a2 a3 s0 M) (QA S Z hx N M) := by
  have hN := w.2.2.1
  have w0 := wk_r (S := S) w
  delta FX54_run_37 BX54_run_37
  refine pq_g (fun g1 => ?_)
  refine pq_g (fun g2 => ?_)
  refine pq_g (fun g3 => ?_)
  refine pq_b (wX48_set S Z (sb rfl hS) _ _ _ _ w0.1 z_a1) (fun r4 K5 => ?_)
  have w6 := wk_t w0 K5 hN
  refine pq_g (fun g7 => ?_)
  extract_lets +onlyGivenNames M9
  have w8 : Wk S Z hx N M M9 := wk_fL hN w6 rfl rfl g7 z_a1 (Or.inr (hS 179 rfl))
  exact pq_s w8
theorem wX54_run_0 (S Z : Nat → Prop) {hx N : Nat} (hS : ∀ x, fe_mem lX54_run x = true → S x) (a0 : Nat) (a1 : Nat) (a2 : Nat) (a3 : Int32) (M : FM) (w : WI Z hx N M) (z_a0 : Z a0) (z_a1 : Z a1) (z_a2 : Z a2) : pq (FX54_run_0 a0 a1 a2 a3 M) (QA S Z hx N M) := by
  have hN := w.2.2.1
  have w0 := wk_r (S := S) w
  delta FX54_run_0 BX54_run_0
  refine pq_g (fun g1 => ?_)
  refine pq_fi (fun _ => ?_) (fun _ => ?_)
  · refine pq_g (fun g2 => ?_)
    refine pq_g (fun g3 => ?_)
    exact q_tA hN w0 (wX54_run_37 S Z hS _ _ _ _ _ w0.1 z_a1 z_a2)
  · refine pq_g (fun g4 => ?_)
    have z5 := wk_z (i := 0) (f := 178) w0 rfl z_a1
    have f6 := sS_178 w0.1.1 g4
    refine pq_g (fun g7 => ?_)
    refine pq_g (fun g8 => ?_)
    refine pq_g (fun g9 => ?_)
    exact q_tA hN w0 (wX54_run_37 S Z hS _ _ _ _ _ w0.1 z_a1 z_a2)
theorem wX54_run (S Z : Nat → Prop) {hx N : Nat} (hS : ∀ x, fe_mem lX54_run x = true → S x) (a0 : Nat) (a1 : Nat) (a2 : Nat) (a3 : Int32) (M : FM) (w : WI Z hx N M) (z_a0 : Z a0) (z_a1 : Z a1) (z_a2 : Z a2) : pq (FX54_run a0 a1 a2 a3 M) (QA S Z hx N M) := wX54_run_0 S Z hS a0 a1 a2 a3 M w z_a0 z_a1 z_a2
def lX53_run : List Nat := [179, 1178]
theorem wX53_run_24 (S Z : Nat → Prop) {hx N : Nat} (hS : ∀ x, fe_mem lX53_run x = true → S x) (a1 : Nat) (a3 : Int32) (s0 : Nat) (s1 : Int32) (s2 : Int64) (s3 : Int64) (M : FM) (w : WI Z hx N M) (z_a1 : Z a1) (z_s0 : Z s0) : pq (FX53_run_24 a1 a3 s0 s1 s2 s3 M) (QA S Z hx N M) := by
  have hN := w.2.2.1
  have w0 := wk_r (S := S) w
  delta FX53_run_24 BX53_run_24
  refine pq_g (fun g1 => ?_)
  refine pq_b (wX48_set S Z (sb rfl hS) _ _ _ _ w0.1 z_s0) (fun r2 K3 => ?_)
  have w4 := wk_t w0 K3 hN
  refine pq_g (fun g5 => ?_)
  refine pq_g (fun g6 => ?_)
  extract_lets +onlyGivenNames M8
  have w7 : Wk S Z hx N M M8 := wk_fL hN w4 rfl rfl g6 z_a1 (Or.inr (hS 179 rfl))
  exact pq_s w7
theorem wX53_run_0 (S Z : Nat → Prop) {hx N : Nat} (hS : ∀ x, fe_mem lX53_run x = true → S x) (a0 : Nat) (a1 : Nat) (a2 : Nat) (a3 : Int32) (M : FM) (w : WI Z hx N M) (z_a0 : Z a0) (z_a1 : Z a1) (z_a2 : Z a2) : pq (FX53_run_0 a0 a1 a2 a3 M) (QA S Z hx N M) := by
  have hN := w.2.2.1
  have w0 := wk_r (S := S) w
  delta FX53_run_0 BX53_run_0
  refine pq_g (fun g1 => ?_)
  refine pq_g (fun g2 => ?_)
  refine pq_g (fun g3 => ?_)
  refine pq_fi (fun _ => ?_) (fun _ => ?_)
  · exact q_tA hN w0 (wX53_run_24 S Z hS _ _ _ _ _ _ _ w0.1 z_a1 z_a1)
  · refine pq_g (fun g4 => ?_)
    exact q_tA hN w0 (wX53_run_24 S Z hS _ _ _ _ _ _ _ w0.1 z_a1 z_a1)
theorem wX53_run (S Z : Nat → Prop) {hx N : Nat} (hS : ∀ x, fe_mem lX53_run x = true → S x) (a0 : Nat) (a1 : Nat) (a2 : Nat) (a3 : Int32) (M : FM) (w : WI Z hx N M) (z_a0 : Z a0) (z_a1 : Z a1) (z_a2 : Z a2) : pq (FX53_run a0 a1 a2 a3 M) (QA S Z hx N M) := wX53_run_0 S Z hS a0 a1 a2 a3 M w z_a0 z_a1 z_a2
def lX57_wanted : List Nat := []
theorem wX57_wanted_82 (S Z : Nat → Prop) {hx N : Nat} (hS : ∀ x, fe_mem lX57_wanted x = true → S x) (s0 : Int64) (M : FM) (w : WI Z hx N M) : pq (FX57_wanted_82 s0 M) (QA S Z hx N M) := by
  have hN := w.2.2.1
  have w0 := wk_r (S := S) w
  delta FX57_wanted_82 BX57_wanted_82
  exact pq_s w0
theorem wX57_wanted_69 (S Z : Nat → Prop) {hx N : Nat} (hS : ∀ x, fe_mem lX57_wanted x = true → S x) (a1 : Nat) (a2 : Nat) (M : FM) (w : WI Z hx N M) (z_a1 : Z a1) (z_a2 : Z a2) : pq (FX57_wanted_69 a1 a2 M) (QA S Z hx N M) := by
  have hN := w.2.2.1
  have w0 := wk_r (S := S) w
  delta FX57_wanted_69 BX57_wanted_69
  refine pq_g (fun g1 => ?_)
  have z2 := wk_z (i := 0) (f := 178) w0 rfl z_a1
  have f3 := sS_178 w0.1.1 g1
  refine pq_g (fun g4 => ?_)
  refine pq_g (fun g5 => ?_)
  exact q_tA hN w0 (wX57_wanted_82 S Z hS _ _ w0.1 )
theorem wX57_wanted_0 (S Z : Nat → Prop) {hx N : Nat} (hS : ∀ x, fe_mem lX57_wanted x = true → S x) (a0 : Nat) (a1 : Nat) (a2 : Nat) (a3 : Int32) (M : FM) (w : WI Z hx N M) (z_a0 : Z a0) (z_a1 : Z a1) (z_a2 : Z a2) : pq (FX57_wanted_0 a0 a1 a2 a3 M) (QA S Z hx N M) := by
  have hN := w.2.2.1
  have w0 := wk_r (S := S) w
  delta FX57_wanted_0 BX57_wanted_0
  refine pq_fi (fun _ => ?_) (fun _ => ?_)
  · refine pq_g (fun g1 => ?_)
    have z2 := wk_z (i := 0) (f := 178) w0 rfl z_a1
    have f3 := sS_178 w0.1.1 g1
    refine pq_g (fun g4 => ?_)
    refine pq_g (fun g5 => ?_)
    refine pq_g (fun g6 => ?_)
    exact pq_s w0
  · refine pq_fi (fun _ => ?_) (fun _ => ?_)
    · refine pq_g (fun g7 => ?_)
      exact pq_s w0
    · refine pq_fi (fun _ => ?_) (fun _ => ?_)
      · refine pq_g (fun g8 => ?_)
        refine pq_fi (fun _ => ?_) (fun _ => ?_)
        · exact q_tA hN w0 (wX57_wanted_69 S Z hS _ _ _ w0.1 z_a1 z_a2)
        · refine pq_g (fun g9 => ?_)
          refine pq_fi (fun _ => ?_) (fun _ => ?_)
          · exact q_tA hN w0 (wX57_wanted_69 S Z hS _ _ _ w0.1 z_a1 z_a2)
          · exact q_tA hN w0 (wX57_wanted_82 S Z hS _ _ w0.1 )
      · refine pq_fi (fun _ => ?_) (fun _ => ?_)
        · refine pq_g (fun g10 => ?_)
          exact pq_s w0
        · refine pq_g (fun g11 => ?_)
          exact pq_s w0
theorem wX57_wanted (S Z : Nat → Prop) {hx N : Nat} (hS : ∀ x, fe_mem lX57_wanted x = true → S x) (a0 : Nat) (a1 : Nat) (a2 : Nat) (a3 : Int32) (M : FM) (w : WI Z hx N M) (z_a0 : Z a0) (z_a1 : Z a1) (z_a2 : Z a2) : pq (FX57_wanted a0 a1 a2 a3 M) (QA S Z hx N M) := wX57_wanted_0 S Z hS a0 a1 a2 a3 M w z_a0 z_a1 z_a2
def lX50_wanted : List Nat := []
theorem wX50_wanted_0 (S Z : Nat → Prop) {hx N : Nat} (hS : ∀ x, fe_mem lX50_wanted x = true → S x) (a0 : Nat) (a1 : Nat) (a2 : Nat) (a3 : Int32) (M : FM) (w : WI Z hx N M) (z_a0 : Z a0) (z_a1 : Z a1) (z_a2 : Z a2) : pq (FX50_wanted_0 a0 a1 a2 a3 M) (QA S Z hx N M) := by
  have hN := w.2.2.1
  have w0 := wk_r (S := S) w
  delta FX50_wanted_0 BX50_wanted_0
  exact pq_s w0
theorem wX50_wanted (S Z : Nat → Prop) {hx N : Nat} (hS : ∀ x, fe_mem lX50_wanted x = true → S x) (a0 : Nat) (a1 : Nat) (a2 : Nat) (a3 : Int32) (M : FM) (w : WI Z hx N M) (z_a0 : Z a0) (z_a1 : Z a1) (z_a2 : Z a2) : pq (FX50_wanted a0 a1 a2 a3 M) (QA S Z hx N M) := wX50_wanted_0 S Z hS a0 a1 a2 a3 M w z_a0 z_a1 z_a2
def lX58_wanted : List Nat := []
theorem wX58_wanted_63 (S Z : Nat → Prop) {hx N : Nat} (hS : ∀ x, fe_mem lX58_wanted x = true → S x) (s0 : Int64) (M : FM) (w : WI Z hx N M) : pq (FX58_wanted_63 s0 M) (QA S Z hx N M) := by
  have hN := w.2.2.1
  have w0 := wk_r (S := S) w
  delta FX58_wanted_63 BX58_wanted_63
  exact pq_s w0
theorem wX58_wanted_0 (S Z : Nat → Prop) {hx N : Nat} (hS : ∀ x, fe_mem lX58_wanted x = true → S x) (a0 : Nat) (a1 : Nat) (a2 : Nat) (a3 : Int32) (M : FM) (w : WI Z hx N M) (z_a0 : Z a0) (z_a1 : Z a1) (z_a2 : Z a2) : pq (FX58_wanted_0 a0 a1 a2 a3 M) (QA S Z hx N M) := by
  have hN := w.2.2.1
  have w0 := wk_r (S := S) w
  delta FX58_wanted_0 BX58_wanted_0
  refine pq_fi (fun _ => ?_) (fun _ => ?_)
  · refine pq_g (fun g1 => ?_)
    exact pq_s w0
  · refine pq_fi (fun _ => ?_) (fun _ => ?_)
    · exact pq_s w0
    · refine pq_fi (fun _ => ?_) (fun _ => ?_)
      · refine pq_g (fun g2 => ?_)
        refine pq_fi (fun _ => ?_) (fun _ => ?_)
        · refine pq_g (fun g3 => ?_)
          exact q_tA hN w0 (wX58_wanted_63 S Z hS _ _ w0.1 )
        · refine pq_g (fun g4 => ?_)
          have z5 := wk_z (i := 0) (f := 178) w0 rfl z_a1
          have f6 := sS_178 w0.1.1 g4
          refine pq_g (fun g7 => ?_)
          refine pq_g (fun g8 => ?_)
          exact q_tA hN w0 (wX58_wanted_63 S Z hS _ _ w0.1 )
      · refine pq_fi (fun _ => ?_) (fun _ => ?_)
        · refine pq_g (fun g9 => ?_)
          exact pq_s w0
        · refine pq_g (fun g10 => ?_)
          exact pq_s w0
theorem wX58_wanted (S Z : Nat → Prop) {hx N : Nat} (hS : ∀ x, fe_mem lX58_wanted x = true → S x) (a0 : Nat) (a1 : Nat) (a2 : Nat) (a3 : Int32) (M : FM) (w : WI Z hx N M) (z_a0 : Z a0) (z_a1 : Z a1) (z_a2 : Z a2) : pq (FX58_wanted a0 a1 a2 a3 M) (QA S Z hx N M) := wX58_wanted_0 S Z hS a0 a1 a2 a3 M w z_a0 z_a1 z_a2
def lX47_run : List Nat := [149, 150, 151, 152, 153, 154, 155, 156, 157, 158, 159, 160, 174, 176, 177, 179, 1173, 1175, 1178]
theorem wX47_run_96 (S Z : Nat → Prop) {hx N : Nat} (hS : ∀ x, fe_mem lX47_run x = true → S x) (n : Nat) (k45 : Nat → Nat → Int32 → Int32 → FM → Option (Int32 × FM)) (hk45 : ∀ (a0 : Nat) (a3 : Nat) (a4 : Int32) (a5 : Int32) (M : FM), WI Z hx N M → Z a0 → Z a3 → pq (k45 a0 a3 a4 a5 M) (QA S Z hx N M)) (a4 : Int32) (M : FM) (w : WI Z hx N M) : pq (FX47_run_96 n k45 a4 M) (QA S Z hx N M) := by
  have hN := w.2.2.1
  have w0 := wk_r (S := S) w
  delta FX47_run_96 BX47_run_96
  exact pq_s w0
theorem wX47_run_45 (S Z : Nat → Prop) {hx N : Nat} (hS : ∀ x, fe_mem lX47_run x = true → S x) (n : Nat) (k45 : Nat → Nat → Int32 → Int32 → FM → Option (Int32 × FM)) (hk45 : ∀ (a0 : Nat) (a3 : Nat) (a4 : Int32) (a5 : Int32) (M : FM), WI Z hx N M → Z a0 → Z a3 → pq (k45 a0 a3 a4 a5 M) (QA S Z hx N M)) (a0 : Nat) (a3 : Nat) (a4 : Int32) (a5 : Int32) (M : FM) (w : WI Z hx N M) (z_a0 : Z a0) (z_a3 : Z a3) : pq (FX47_run_45 n k45 a0 a3 a4 a5 M) (QA S Z hx N M) := by
  have hN := w.2.2.1
  have w0 := wk_r (S := S) w
  delta FX47_run_45 BX47_run_45
  refine pq_fi (fun _ => ?_) (fun _ => ?_)
  · exact q_tA hN w0 (wX47_run_96 S Z hS n _ hk45 _ _ w0.1 )
  · refine pq_g (fun g1 => ?_)
    have z2 := wk_z (i := 0) (f := 175) w0 rfl z_a0
    have f3 := sS_175 w0.1.1 g1
    refine pq_g (fun g4 => ?_)
    have z5 := wk_z (i := 0) (f := 149) w0 rfl z_a3
    refine pq_g (fun g6 => ?_)
    have z7 := wk_z (i := 0) (f := 171) w0 rfl z_a0
    refine pq_fi (fun _ => ?_) (fun _ => ?_)
    · refine pq_b (wX57_wanted S Z (sb rfl hS) _ _ _ _ _ w0.1 z5 z7 z_a3) (fun r8 K9 => ?_)
      have w10 := wk_t w0 K9 hN
      have f11 := sf_k w0.1.1 K9 f3
      refine pq_g (fun g12 => ?_)
      extract_lets +onlyGivenNames M14
      have w13 : Wk S Z hx N M M14 := wk_aL hN w10 rfl g12.1 z2 (sy_s f11 (hS 1175 rfl))
      exact q_tA hN w13 (hk45 _ _ _ _ _ w13.1 z_a0 z_a3)
    · refine pq_fi (fun _ => ?_) (fun _ => ?_)
      · refine pq_b (wX50_wanted S Z (sb rfl hS) _ _ _ _ _ w0.1 z5 z7 z_a3) (fun r15 K16 => ?_)
        have w17 := wk_t w0 K16 hN
        have f18 := sf_k w0.1.1 K16 f3
        refine pq_g (fun g19 => ?_)
        extract_lets +onlyGivenNames M21
        have w20 : Wk S Z hx N M M21 := wk_aL hN w17 rfl g19.1 z2 (sy_s f18 (hS 1175 rfl))
        exact q_tA hN w20 (hk45 _ _ _ _ _ w20.1 z_a0 z_a3)
      · refine pq_fi (fun _ => ?_) (fun _ => ?_)
        · refine pq_b (wX50_wanted S Z (sb rfl hS) _ _ _ _ _ w0.1 z5 z7 z_a3) (fun r22 K23 => ?_)
          have w24 := wk_t w0 K23 hN
          have f25 := sf_k w0.1.1 K23 f3
          refine pq_g (fun g26 => ?_)
          extract_lets +onlyGivenNames M28
          have w27 : Wk S Z hx N M M28 := wk_aL hN w24 rfl g26.1 z2 (sy_s f25 (hS 1175 rfl))
          exact q_tA hN w27 (hk45 _ _ _ _ _ w27.1 z_a0 z_a3)
        · refine pq_fi (fun _ => ?_) (fun _ => ?_)
          · refine pq_b (wX50_wanted S Z (sb rfl hS) _ _ _ _ _ w0.1 z5 z7 z_a3) (fun r29 K30 => ?_)
            have w31 := wk_t w0 K30 hN
            have f32 := sf_k w0.1.1 K30 f3
            refine pq_g (fun g33 => ?_)
            extract_lets +onlyGivenNames M35
            have w34 : Wk S Z hx N M M35 := wk_aL hN w31 rfl g33.1 z2 (sy_s f32 (hS 1175 rfl))
            exact q_tA hN w34 (hk45 _ _ _ _ _ w34.1 z_a0 z_a3)
          · refine pq_fi (fun _ => ?_) (fun _ => ?_)
            · refine pq_b (wX58_wanted S Z (sb rfl hS) _ _ _ _ _ w0.1 z5 z7 z_a3) (fun r36 K37 => ?_)
              have w38 := wk_t w0 K37 hN
              have f39 := sf_k w0.1.1 K37 f3
              refine pq_g (fun g40 => ?_)
              extract_lets +onlyGivenNames M42
              have w41 : Wk S Z hx N M M42 := wk_aL hN w38 rfl g40.1 z2 (sy_s f39 (hS 1175 rfl))
              exact q_tA hN w41 (hk45 _ _ _ _ _ w41.1 z_a0 z_a3)
            · refine pq_fi (fun _ => ?_) (fun _ => ?_)
              · refine pq_b (wX50_wanted S Z (sb rfl hS) _ _ _ _ _ w0.1 z5 z7 z_a3) (fun r43 K44 => ?_)
                have w45 := wk_t w0 K44 hN
                have f46 := sf_k w0.1.1 K44 f3
                refine pq_g (fun g47 => ?_)
                extract_lets +onlyGivenNames M49
                have w48 : Wk S Z hx N M M49 := wk_aL hN w45 rfl g47.1 z2 (sy_s f46 (hS 1175 rfl))
                exact q_tA hN w48 (hk45 _ _ _ _ _ w48.1 z_a0 z_a3)
              · refine pq_fi (fun _ => ?_) (fun _ => ?_)
                · refine pq_b (wX50_wanted S Z (sb rfl hS) _ _ _ _ _ w0.1 z5 z7 z_a3) (fun r50 K51 => ?_)
                  have w52 := wk_t w0 K51 hN
                  have f53 := sf_k w0.1.1 K51 f3
                  refine pq_g (fun g54 => ?_)
                  extract_lets +onlyGivenNames M56
                  have w55 : Wk S Z hx N M M56 := wk_aL hN w52 rfl g54.1 z2 (sy_s f53 (hS 1175 rfl))
                  exact q_tA hN w55 (hk45 _ _ _ _ _ w55.1 z_a0 z_a3)
                · refine pq_fi (fun _ => ?_) (fun _ => ?_)
                  · refine pq_b (wX50_wanted S Z (sb rfl hS) _ _ _ _ _ w0.1 z5 z7 z_a3) (fun r57 K58 => ?_)
                    have w59 := wk_t w0 K58 hN
                    have f60 := sf_k w0.1.1 K58 f3
                    refine pq_g (fun g61 => ?_)
                    extract_lets +onlyGivenNames M63
                    have w62 : Wk S Z hx N M M63 := wk_aL hN w59 rfl g61.1 z2 (sy_s f60 (hS 1175 rfl))
                    exact q_tA hN w62 (hk45 _ _ _ _ _ w62.1 z_a0 z_a3)
                  · exact pq_0
theorem wX47_run_0 (S Z : Nat → Prop) {hx N : Nat} (hS : ∀ x, fe_mem lX47_run x = true → S x) (n : Nat) (k45 : Nat → Nat → Int32 → Int32 → FM → Option (Int32 × FM)) (hk45 : ∀ (a0 : Nat) (a3 : Nat) (a4 : Int32) (a5 : Int32) (M : FM), WI Z hx N M → Z a0 → Z a3 → pq (k45 a0 a3 a4 a5 M) (QA S Z hx N M)) (a0 : Nat) (a1 : Int32) (a2 : Int32) (M : FM) (w : WI Z hx N M) (z_a0 : Z a0) : pq (FX47_run_0 n k45 a0 a1 a2 M) (QA S Z hx N M) := by
  have hN := w.2.2.1
  have w0 := wk_r (S := S) w
  delta FX47_run_0 BX47_run_0
  refine pq_g (fun g1 => ?_)
  refine pq_b (wX47_find S Z (sb rfl hS) _ _ _ w0.1 z_a0) (fun r2 K3 => ?_)
  have w4 := wk_t w0 K3.1 hN
  refine pq_g (fun g5 => ?_)
  extract_lets +onlyGivenNames M7
  have w6 : Wk S Z hx N M M7 := wk_fR hN w4 rfl rfl g5 z_a0 (Or.inr (hS 174 rfl)) (wk_zc w4 rfl) rfl rfl
  refine pq_g (fun g8 => ?_)
  have z9 := wk_z (i := 0) (f := 149) w6 rfl K3.2
  refine pq_g (fun g10 => ?_)
  have z11 := wk_z (i := 0) (f := 171) w6 rfl z_a0
  refine pq_fi (fun _ => ?_) (fun _ => ?_)
  · refine pq_b (wX57_run S Z (sb rfl hS) _ _ _ _ _ w6.1 z9 z11 K3.2) (fun r12 K13 => ?_)
    have w14 := wk_t w6 K13 hN
    refine pq_fi (fun _ => ?_) (fun _ => ?_)
    · refine pq_fi (fun _ => ?_) (fun _ => ?_)
      · exact q_tA hN w14 (wX47_run_96 S Z hS n _ hk45 _ _ w14.1 )
      · refine pq_g (fun g15 => ?_)
        refine pq_g (fun g16 => ?_)
        extract_lets +onlyGivenNames M18
        have w17 : Wk S Z hx N M M18 := wk_fL hN w14 rfl rfl g16 z_a0 (Or.inr (hS 177 rfl))
        exact q_tA hN w17 (wX47_run_96 S Z hS n _ hk45 _ _ w17.1 )
    · refine pq_g (fun g19 => ?_)
      extract_lets +onlyGivenNames M21
      have w20 : Wk S Z hx N M M21 := wk_fR hN w14 rfl rfl g19 z_a0 (Or.inr (hS 174 rfl)) K3.2 rfl rfl
      refine pq_g (fun g22 => ?_)
      extract_lets +onlyGivenNames M24
      have w23 : Wk S Z hx N M M24 := wk_fI hN w20 rfl rfl g22 z_a0 (Or.inr (hS 176 rfl))
      exact q_tA hN w23 (hk45 _ _ _ _ _ w23.1 z_a0 K3.2)
  · refine pq_fi (fun _ => ?_) (fun _ => ?_)
    · refine pq_b (wX55_run S Z (sb rfl hS) _ _ _ _ _ w6.1 z9 z11 K3.2) (fun r25 K26 => ?_)
      have w27 := wk_t w6 K26 hN
      refine pq_fi (fun _ => ?_) (fun _ => ?_)
      · refine pq_fi (fun _ => ?_) (fun _ => ?_)
        · exact q_tA hN w27 (wX47_run_96 S Z hS n _ hk45 _ _ w27.1 )
        · refine pq_g (fun g28 => ?_)
          refine pq_g (fun g29 => ?_)
          extract_lets +onlyGivenNames M31
          have w30 : Wk S Z hx N M M31 := wk_fL hN w27 rfl rfl g29 z_a0 (Or.inr (hS 177 rfl))
          exact q_tA hN w30 (wX47_run_96 S Z hS n _ hk45 _ _ w30.1 )
      · refine pq_g (fun g32 => ?_)
        extract_lets +onlyGivenNames M34
        have w33 : Wk S Z hx N M M34 := wk_fR hN w27 rfl rfl g32 z_a0 (Or.inr (hS 174 rfl)) K3.2 rfl rfl
        refine pq_g (fun g35 => ?_)
        extract_lets +onlyGivenNames M37
        have w36 : Wk S Z hx N M M37 := wk_fI hN w33 rfl rfl g35 z_a0 (Or.inr (hS 176 rfl))
        exact q_tA hN w36 (hk45 _ _ _ _ _ w36.1 z_a0 K3.2)
    · refine pq_fi (fun _ => ?_) (fun _ => ?_)
      · refine pq_b (wX56_run S Z (sb rfl hS) _ _ _ _ _ w6.1 z9 z11 K3.2) (fun r38 K39 => ?_)
        have w40 := wk_t w6 K39 hN
        refine pq_fi (fun _ => ?_) (fun _ => ?_)
        · refine pq_fi (fun _ => ?_) (fun _ => ?_)
          · exact q_tA hN w40 (wX47_run_96 S Z hS n _ hk45 _ _ w40.1 )
          · refine pq_g (fun g41 => ?_)
            refine pq_g (fun g42 => ?_)
            extract_lets +onlyGivenNames M44
            have w43 : Wk S Z hx N M M44 := wk_fL hN w40 rfl rfl g42 z_a0 (Or.inr (hS 177 rfl))
            exact q_tA hN w43 (wX47_run_96 S Z hS n _ hk45 _ _ w43.1 )
        · refine pq_g (fun g45 => ?_)
          extract_lets +onlyGivenNames M47
          have w46 : Wk S Z hx N M M47 := wk_fR hN w40 rfl rfl g45 z_a0 (Or.inr (hS 174 rfl)) K3.2 rfl rfl
          refine pq_g (fun g48 => ?_)
          extract_lets +onlyGivenNames M50
          have w49 : Wk S Z hx N M M50 := wk_fI hN w46 rfl rfl g48 z_a0 (Or.inr (hS 176 rfl))
          exact q_tA hN w49 (hk45 _ _ _ _ _ w49.1 z_a0 K3.2)
      · refine pq_fi (fun _ => ?_) (fun _ => ?_)
        · refine pq_b (wX52_run S Z (sb rfl hS) _ _ _ _ _ w6.1 z9 z11 K3.2) (fun r51 K52 => ?_)
          have w53 := wk_t w6 K52 hN
          refine pq_fi (fun _ => ?_) (fun _ => ?_)
          · refine pq_fi (fun _ => ?_) (fun _ => ?_)
            · exact q_tA hN w53 (wX47_run_96 S Z hS n _ hk45 _ _ w53.1 )
            · refine pq_g (fun g54 => ?_)
              refine pq_g (fun g55 => ?_)
              extract_lets +onlyGivenNames M57
              have w56 : Wk S Z hx N M M57 := wk_fL hN w53 rfl rfl g55 z_a0 (Or.inr (hS 177 rfl))
              exact q_tA hN w56 (wX47_run_96 S Z hS n _ hk45 _ _ w56.1 )
          · refine pq_g (fun g58 => ?_)
            extract_lets +onlyGivenNames M60
            have w59 : Wk S Z hx N M M60 := wk_fR hN w53 rfl rfl g58 z_a0 (Or.inr (hS 174 rfl)) K3.2 rfl rfl
            refine pq_g (fun g61 => ?_)
            extract_lets +onlyGivenNames M63
            have w62 : Wk S Z hx N M M63 := wk_fI hN w59 rfl rfl g61 z_a0 (Or.inr (hS 176 rfl))
            exact q_tA hN w62 (hk45 _ _ _ _ _ w62.1 z_a0 K3.2)
        · refine pq_fi (fun _ => ?_) (fun _ => ?_)
          · refine pq_b (wX58_run S Z (sb rfl hS) _ _ _ _ _ w6.1 z9 z11 K3.2) (fun r64 K65 => ?_)
            have w66 := wk_t w6 K65 hN
            refine pq_fi (fun _ => ?_) (fun _ => ?_)
            · refine pq_fi (fun _ => ?_) (fun _ => ?_)
              · exact q_tA hN w66 (wX47_run_96 S Z hS n _ hk45 _ _ w66.1 )
              · refine pq_g (fun g67 => ?_)
                refine pq_g (fun g68 => ?_)
                extract_lets +onlyGivenNames M70
                have w69 : Wk S Z hx N M M70 := wk_fL hN w66 rfl rfl g68 z_a0 (Or.inr (hS 177 rfl))
                exact q_tA hN w69 (wX47_run_96 S Z hS n _ hk45 _ _ w69.1 )
            · refine pq_g (fun g71 => ?_)
              extract_lets +onlyGivenNames M73
              have w72 : Wk S Z hx N M M73 := wk_fR hN w66 rfl rfl g71 z_a0 (Or.inr (hS 174 rfl)) K3.2 rfl rfl
              refine pq_g (fun g74 => ?_)
              extract_lets +onlyGivenNames M76
              have w75 : Wk S Z hx N M M76 := wk_fI hN w72 rfl rfl g74 z_a0 (Or.inr (hS 176 rfl))
              exact q_tA hN w75 (hk45 _ _ _ _ _ w75.1 z_a0 K3.2)
          · refine pq_fi (fun _ => ?_) (fun _ => ?_)
            · refine pq_b (wX51_run S Z (sb rfl hS) _ _ _ _ _ w6.1 z9 z11 K3.2) (fun r77 K78 => ?_)
              have w79 := wk_t w6 K78 hN
              refine pq_fi (fun _ => ?_) (fun _ => ?_)
              · refine pq_fi (fun _ => ?_) (fun _ => ?_)
                · exact q_tA hN w79 (wX47_run_96 S Z hS n _ hk45 _ _ w79.1 )
                · refine pq_g (fun g80 => ?_)
                  refine pq_g (fun g81 => ?_)
                  extract_lets +onlyGivenNames M83
                  have w82 : Wk S Z hx N M M83 := wk_fL hN w79 rfl rfl g81 z_a0 (Or.inr (hS 177 rfl))
                  exact q_tA hN w82 (wX47_run_96 S Z hS n _ hk45 _ _ w82.1 )
              · refine pq_g (fun g84 => ?_)
                extract_lets +onlyGivenNames M86
                have w85 : Wk S Z hx N M M86 := wk_fR hN w79 rfl rfl g84 z_a0 (Or.inr (hS 174 rfl)) K3.2 rfl rfl
                refine pq_g (fun g87 => ?_)
                extract_lets +onlyGivenNames M89
                have w88 : Wk S Z hx N M M89 := wk_fI hN w85 rfl rfl g87 z_a0 (Or.inr (hS 176 rfl))
                exact q_tA hN w88 (hk45 _ _ _ _ _ w88.1 z_a0 K3.2)
            · refine pq_fi (fun _ => ?_) (fun _ => ?_)
              · refine pq_b (wX54_run S Z (sb rfl hS) _ _ _ _ _ w6.1 z9 z11 K3.2) (fun r90 K91 => ?_)
                have w92 := wk_t w6 K91 hN
                refine pq_fi (fun _ => ?_) (fun _ => ?_)
                · refine pq_fi (fun _ => ?_) (fun _ => ?_)
                  · exact q_tA hN w92 (wX47_run_96 S Z hS n _ hk45 _ _ w92.1 )
                  · refine pq_g (fun g93 => ?_)
                    refine pq_g (fun g94 => ?_)
                    extract_lets +onlyGivenNames M96
                    have w95 : Wk S Z hx N M M96 := wk_fL hN w92 rfl rfl g94 z_a0 (Or.inr (hS 177 rfl))
                    exact q_tA hN w95 (wX47_run_96 S Z hS n _ hk45 _ _ w95.1 )
                · refine pq_g (fun g97 => ?_)
                  extract_lets +onlyGivenNames M99
                  have w98 : Wk S Z hx N M M99 := wk_fR hN w92 rfl rfl g97 z_a0 (Or.inr (hS 174 rfl)) K3.2 rfl rfl
                  refine pq_g (fun g100 => ?_)
                  extract_lets +onlyGivenNames M102
                  have w101 : Wk S Z hx N M M102 := wk_fI hN w98 rfl rfl g100 z_a0 (Or.inr (hS 176 rfl))
                  exact q_tA hN w101 (hk45 _ _ _ _ _ w101.1 z_a0 K3.2)
              · refine pq_fi (fun _ => ?_) (fun _ => ?_)
                · refine pq_b (wX53_run S Z (sb rfl hS) _ _ _ _ _ w6.1 z9 z11 K3.2) (fun r103 K104 => ?_)
                  have w105 := wk_t w6 K104 hN
                  refine pq_fi (fun _ => ?_) (fun _ => ?_)
                  · refine pq_fi (fun _ => ?_) (fun _ => ?_)
                    · exact q_tA hN w105 (wX47_run_96 S Z hS n _ hk45 _ _ w105.1 )
                    · refine pq_g (fun g106 => ?_)
                      refine pq_g (fun g107 => ?_)
                      extract_lets +onlyGivenNames M109
                      have w108 : Wk S Z hx N M M109 := wk_fL hN w105 rfl rfl g107 z_a0 (Or.inr (hS 177 rfl))
                      exact q_tA hN w108 (wX47_run_96 S Z hS n _ hk45 _ _ w108.1 )
                  · refine pq_g (fun g110 => ?_)
                    extract_lets +onlyGivenNames M112
                    have w111 : Wk S Z hx N M M112 := wk_fR hN w105 rfl rfl g110 z_a0 (Or.inr (hS 174 rfl)) K3.2 rfl rfl
                    refine pq_g (fun g113 => ?_)
                    extract_lets +onlyGivenNames M115
                    have w114 : Wk S Z hx N M M115 := wk_fI hN w111 rfl rfl g113 z_a0 (Or.inr (hS 176 rfl))
                    exact q_tA hN w114 (hk45 _ _ _ _ _ w114.1 z_a0 K3.2)
                · exact pq_0
theorem wX47_run_L (S Z : Nat → Prop) {hx N : Nat} (hS : ∀ x, fe_mem lX47_run x = true → S x) (n : Nat) : ∀ j : Nat, ∀ (a0 : Nat) (a3 : Nat) (a4 : Int32) (a5 : Int32) (M : FM), WI Z hx N M → Z a0 → Z a3 → pq (FX47_run_L45 n j a0 a3 a4 a5 M) (QA S Z hx N M)
  | 0 => by intros; exact pq_0
  | j + 1 => fun a0 a3 a4 a5 M w => wX47_run_45 S Z hS n _ (wX47_run_L S Z hS n j) a0 a3 a4 a5 M w
theorem wX47_run (S Z : Nat → Prop) {hx N : Nat} (hS : ∀ x, fe_mem lX47_run x = true → S x) (n : Nat) (a0 : Nat) (a1 : Int32) (a2 : Int32) (M : FM) (w : WI Z hx N M) (z_a0 : Z a0) : pq (FX47_run n a0 a1 a2 M) (QA S Z hx N M) := wX47_run_0 S Z hS n _ (wX47_run_L S Z hS n n) a0 a1 a2 M w z_a0
def lX47_wanted : List Nat := []
theorem wX47_wanted_19 (S Z : Nat → Prop) {hx N : Nat} (hS : ∀ x, fe_mem lX47_wanted x = true → S x) (s0 : Int64) (M : FM) (w : WI Z hx N M) : pq (FX47_wanted_19 s0 M) (QA S Z hx N M) := by
  have hN := w.2.2.1
  have w0 := wk_r (S := S) w
  delta FX47_wanted_19 BX47_wanted_19
  exact pq_s w0
theorem wX47_wanted_0 (S Z : Nat → Prop) {hx N : Nat} (hS : ∀ x, fe_mem lX47_wanted x = true → S x) (a0 : Nat) (a1 : Int32) (M : FM) (w : WI Z hx N M) (z_a0 : Z a0) : pq (FX47_wanted_0 a0 a1 M) (QA S Z hx N M) := by
  have hN := w.2.2.1
  have w0 := wk_r (S := S) w
  delta FX47_wanted_0 BX47_wanted_0
  refine pq_g (fun g1 => ?_)
  have z2 := wk_z (i := 0) (f := 174) w0 rfl z_a0
  refine pq_fi (fun _ => ?_) (fun _ => ?_)
  · exact q_tA hN w0 (wX47_wanted_19 S Z hS _ _ w0.1 )
  · refine pq_g (fun g3 => ?_)
    have z4 := wk_z (i := 0) (f := 175) w0 rfl z_a0
    have f5 := sS_175 w0.1.1 g3
    refine pq_g (fun g6 => ?_)
    exact q_tA hN w0 (wX47_wanted_19 S Z hS _ _ w0.1 )
theorem wX47_wanted (S Z : Nat → Prop) {hx N : Nat} (hS : ∀ x, fe_mem lX47_wanted x = true → S x) (a0 : Nat) (a1 : Int32) (M : FM) (w : WI Z hx N M) (z_a0 : Z a0) : pq (FX47_wanted a0 a1 M) (QA S Z hx N M) := wX47_wanted_0 S Z hS a0 a1 M w z_a0
def lX46_dataMode : List Nat := []
theorem wX46_dataMode_37 (S Z : Nat → Prop) {hx N : Nat} (hS : ∀ x, fe_mem lX46_dataMode x = true → S x) (s0 : Int32) (M : FM) (w : WI Z hx N M) : pq (FX46_dataMode_37 s0 M) (QA S Z hx N M) := by
  have hN := w.2.2.1
  have w0 := wk_r (S := S) w
  delta FX46_dataMode_37 BX46_dataMode_37
  exact pq_s w0
theorem wX46_dataMode_0 (S Z : Nat → Prop) {hx N : Nat} (hS : ∀ x, fe_mem lX46_dataMode x = true → S x) (a0 : Nat) (M : FM) (w : WI Z hx N M) (z_a0 : Z a0) : pq (FX46_dataMode_0 a0 M) (QA S Z hx N M) := by
  have hN := w.2.2.1
  have w0 := wk_r (S := S) w
  delta FX46_dataMode_0 BX46_dataMode_0
  refine pq_g (fun g1 => ?_)
  have z2 := wk_z (i := 0) (f := 213) w0 rfl z_a0
  refine pq_g (fun g3 => ?_)
  have z4 := wk_z (i := 0) (f := 27) w0 rfl z2
  refine pq_g (fun g5 => ?_)
  refine pq_b (wX78_has S Z (sb rfl hS) _ _ _ w0.1 z4) (fun r6 K7 => ?_)
  have w8 := wk_t w0 K7 hN
  refine pq_fi (fun _ => ?_) (fun _ => ?_)
  · refine pq_g (fun g9 => ?_)
    have z10 := wk_z (i := 0) (f := 213) w8 rfl z_a0
    refine pq_g (fun g11 => ?_)
    exact q_tA hN w8 (wX46_dataMode_37 S Z hS _ _ w8.1 )
  · refine pq_g (fun g12 => ?_)
    have z13 := wk_z (i := 0) (f := 213) w8 rfl z_a0
    refine pq_g (fun g14 => ?_)
    have z15 := wk_z (i := 0) (f := 27) w8 rfl z13
    refine pq_g (fun g16 => ?_)
    refine pq_b (wX78_two S Z (sb rfl hS) _ _ _ w8.1 z15) (fun r17 K18 => ?_)
    have w19 := wk_t w8 K18 hN
    exact q_tA hN w19 (wX46_dataMode_37 S Z hS _ _ w19.1 )
theorem wX46_dataMode (S Z : Nat → Prop) {hx N : Nat} (hS : ∀ x, fe_mem lX46_dataMode x = true → S x) (a0 : Nat) (M : FM) (w : WI Z hx N M) (z_a0 : Z a0) : pq (FX46_dataMode a0 M) (QA S Z hx N M) := wX46_dataMode_0 S Z hS a0 M w z_a0
def lX29_has : List Nat := []
theorem wX29_has_31 (S Z : Nat → Prop) {hx N : Nat} (hS : ∀ x, fe_mem lX29_has x = true → S x) (s0 : Int32) (M : FM) (w : WI Z hx N M) : pq (FX29_has_31 s0 M) (QA S Z hx N M) := by
  have hN := w.2.2.1
  have w0 := wk_r (S := S) w
  delta FX29_has_31 BX29_has_31
  refine pq_g (fun _ => ?_)
  exact pq_s w0
theorem wX29_has_30 (S Z : Nat → Prop) {hx N : Nat} (hS : ∀ x, fe_mem lX29_has x = true → S x) (M : FM) (w : WI Z hx N M) : pq (FX29_has_30 M) (QA S Z hx N M) := by
  have hN := w.2.2.1
  have w0 := wk_r (S := S) w
  delta FX29_has_30 BX29_has_30
  exact q_tA hN w0 (wX29_has_31 S Z hS _ _ w0.1 )
theorem wX29_has_0 (S Z : Nat → Prop) {hx N : Nat} (hS : ∀ x, fe_mem lX29_has x = true → S x) (a0 : Nat) (a1 : Int64) (a3 : Int32) (M : FM) (w : WI Z hx N M) (z_a0 : Z a0) : pq (FX29_has_0 a0 a1 a3 M) (QA S Z hx N M) := by
  have hN := w.2.2.1
  have w0 := wk_r (S := S) w
  delta FX29_has_0 BX29_has_0
  refine pq_g (fun g1 => ?_)
  refine pq_fi (fun _ => ?_) (fun _ => ?_)
  · exact q_tA hN w0 (wX29_has_30 S Z hS _ w0.1 )
  · refine pq_g (fun g2 => ?_)
    refine pq_g (fun g3 => ?_)
    refine pq_fi (fun _ => ?_) (fun _ => ?_)
    · exact q_tA hN w0 (wX29_has_30 S Z hS _ w0.1 )
    · exact q_tA hN w0 (wX29_has_31 S Z hS _ _ w0.1 )
theorem wX29_has (S Z : Nat → Prop) {hx N : Nat} (hS : ∀ x, fe_mem lX29_has x = true → S x) (a0 : Nat) (a1 : Int64) (a3 : Int32) (M : FM) (w : WI Z hx N M) (z_a0 : Z a0) : pq (FX29_has a0 a1 a3 M) (QA S Z hx N M) := wX29_has_0 S Z hS a0 a1 a3 M w z_a0
def lX10_find : List Nat := []
theorem wX10_find_14 (S Z : Nat → Prop) {hx N : Nat} (hS : ∀ x, fe_mem lX10_find x = true → S x) (n : Nat) (k14 : Int64 → Int32 → Nat → Int32 → Int32 → FM → Option (Nat × FM)) (hk14 : ∀ (a1 : Int64) (a3 : Int32) (a4 : Nat) (a5 : Int32) (a6 : Int32) (M : FM), WI Z hx N M → Z a4 → Sf M a4 21 → pq (k14 a1 a3 a4 a5 a6 M) (QR S Z hx N M)) (a1 : Int64) (a3 : Int32) (a4 : Nat) (a5 : Int32) (a6 : Int32) (M : FM) (w : WI Z hx N M) (z_a4 : Z a4) (s_a4 : Sf M a4 21) : pq (FX10_find_14 n k14 a1 a3 a4 a5 a6 M) (QR S Z hx N M) := by
  have hN := w.2.2.1
  have w0 := wk_r (S := S) w
  delta FX10_find_14 BX10_find_14
  refine pq_fi (fun _ => ?_) (fun _ => ?_)
  · exact pq_s ⟨w0, (wk_zc w0 rfl)⟩
  · refine pq_g (fun g1 => ?_)
    have z2 := fun i => wk_ze (i := i) w0 rfl g1.1 s_a4 rfl z_a4
    refine pq_g (fun g3 => ?_)
    refine pq_b (wX29_has S Z (sb rfl hS) _ _ _ _ w0.1 (z2 _)) (fun r4 K5 => ?_)
    have w6 := wk_t w0 K5 hN
    have f7 := sf_k w0.1.1 K5 s_a4
    refine pq_fi (fun _ => ?_) (fun _ => ?_)
    · exact q_tR hN w6 (hk14 _ _ _ _ _ _ w6.1 z_a4 f7)
    · exact pq_s ⟨w6, (z2 _)⟩
theorem wX10_find_0 (S Z : Nat → Prop) {hx N : Nat} (hS : ∀ x, fe_mem lX10_find x = true → S x) (n : Nat) (k14 : Int64 → Int32 → Nat → Int32 → Int32 → FM → Option (Nat × FM)) (hk14 : ∀ (a1 : Int64) (a3 : Int32) (a4 : Nat) (a5 : Int32) (a6 : Int32) (M : FM), WI Z hx N M → Z a4 → Sf M a4 21 → pq (k14 a1 a3 a4 a5 a6 M) (QR S Z hx N M)) (a0 : Nat) (a1 : Int64) (a3 : Int32) (M : FM) (w : WI Z hx N M) (z_a0 : Z a0) : pq (FX10_find_0 n k14 a0 a1 a3 M) (QR S Z hx N M) := by
  have hN := w.2.2.1
  have w0 := wk_r (S := S) w
  delta FX10_find_0 BX10_find_0
  refine pq_g (fun g1 => ?_)
  have z2 := wk_z (i := 0) (f := 21) w0 rfl z_a0
  have f3 := sS_21 w0.1.1 g1
  refine pq_g (fun g4 => ?_)
  exact q_tR hN w0 (hk14 _ _ _ _ _ _ w0.1 z2 f3)
theorem wX10_find_L (S Z : Nat → Prop) {hx N : Nat} (hS : ∀ x, fe_mem lX10_find x = true → S x) (n : Nat) : ∀ j : Nat, ∀ (a1 : Int64) (a3 : Int32) (a4 : Nat) (a5 : Int32) (a6 : Int32) (M : FM), WI Z hx N M → Z a4 → Sf M a4 21 → pq (FX10_find_L14 n j a1 a3 a4 a5 a6 M) (QR S Z hx N M)
  | 0 => by intros; exact pq_0
  | j + 1 => fun a1 a3 a4 a5 a6 M w => wX10_find_14 S Z hS n _ (wX10_find_L S Z hS n j) a1 a3 a4 a5 a6 M w
theorem wX10_find (S Z : Nat → Prop) {hx N : Nat} (hS : ∀ x, fe_mem lX10_find x = true → S x) (n : Nat) (a0 : Nat) (a1 : Int64) (a3 : Int32) (M : FM) (w : WI Z hx N M) (z_a0 : Z a0) : pq (FX10_find n a0 a1 a3 M) (QR S Z hx N M) := wX10_find_0 S Z hS n _ (wX10_find_L S Z hS n n) a0 a1 a3 M w z_a0
def lX46_locate : List Nat := [37, 39, 41, 122, 123, 124, 174, 179, 208, 269, 270, 271, 272, 273, 274, 275, 276, 277, 289, 290, 292, 293, 294, 1121, 1201, 1203, 1204, 1278, 1279, 1295]
theorem wX46_locate_307 (S Z : Nat → Prop) {hx N : Nat} (hS : ∀ x, fe_mem lX46_locate x = true → S x) (n : Nat) (k90 : Nat → Int64 → Int32 → Int32 → Int32 → Int32 → Int32 → Int32 → FM → Option (Int32 × FM)) (hk90 : ∀ (a0 : Nat) (a1 : Int64) (a3 : Int32) (a4 : Int32) (a5 : Int32) (a6 : Int32) (a7 : Int32) (a8 : Int32) (M : FM), WI Z hx N M → Z a0 → pq (k90 a0 a1 a3 a4 a5 a6 a7 a8 M) (QA S Z hx N M)) (k237 : Nat → Int64 → Int32 → Int32 → Int32 → Int32 → FM → Option (Int32 × FM)) (hk237 : ∀ (a0 : Nat) (a1 : Int64) (a3 : Int32) (a6 : Int32) (a7 : Int32) (a8 : Int32) (M : FM), WI Z hx N M → Z a0 → pq (k237 a0 a1 a3 a6 a7 a8 M) (QA S Z hx N M)) (M : FM) (w : WI Z hx N M) : pq (FX46_locate_307 n k90 k237 M) (QA S Z hx N M) := by
  have hN := w.2.2.1
  have w0 := wk_r (S := S) w
  delta FX46_locate_307 BX46_locate_307
  refine pq_g (fun _ => ?_)
  exact pq_s w0
theorem wX46_locate_292 (S Z : Nat → Prop) {hx N : Nat} (hS : ∀ x, fe_mem lX46_locate x = true → S x) (n : Nat) (k90 : Nat → Int64 → Int32 → Int32 → Int32 → Int32 → Int32 → Int32 → FM → Option (Int32 × FM)) (hk90 : ∀ (a0 : Nat) (a1 : Int64) (a3 : Int32) (a4 : Int32) (a5 : Int32) (a6 : Int32) (a7 : Int32) (a8 : Int32) (M : FM), WI Z hx N M → Z a0 → pq (k90 a0 a1 a3 a4 a5 a6 a7 a8 M) (QA S Z hx N M)) (k237 : Nat → Int64 → Int32 → Int32 → Int32 → Int32 → FM → Option (Int32 × FM)) (hk237 : ∀ (a0 : Nat) (a1 : Int64) (a3 : Int32) (a6 : Int32) (a7 : Int32) (a8 : Int32) (M : FM), WI Z hx N M → Z a0 → pq (k237 a0 a1 a3 a6 a7 a8 M) (QA S Z hx N M)) (a1 : Int64) (a8 : Int32) (s0 : Nat) (s1 : Int32) (M : FM) (w : WI Z hx N M) (z_s0 : Z s0) : pq (FX46_locate_292 n k90 k237 a1 a8 s0 s1 M) (QA S Z hx N M) := by
  have hN := w.2.2.1
  have w0 := wk_r (S := S) w
  delta FX46_locate_292 BX46_locate_292
  refine pq_g (fun g1 => ?_)
  refine pq_b (wX46_raise S Z (sb rfl hS) _ _ _ _ w0.1 z_s0) (fun r2 K3 => ?_)
  have w4 := wk_t w0 K3 hN
  refine pq_g (fun _ => ?_)
  exact pq_s w4
theorem wX46_locate_237 (S Z : Nat → Prop) {hx N : Nat} (hS : ∀ x, fe_mem lX46_locate x = true → S x) (n : Nat) (k90 : Nat → Int64 → Int32 → Int32 → Int32 → Int32 → Int32 → Int32 → FM → Option (Int32 × FM)) (hk90 : ∀ (a0 : Nat) (a1 : Int64) (a3 : Int32) (a4 : Int32) (a5 : Int32) (a6 : Int32) (a7 : Int32) (a8 : Int32) (M : FM), WI Z hx N M → Z a0 → pq (k90 a0 a1 a3 a4 a5 a6 a7 a8 M) (QA S Z hx N M)) (k237 : Nat → Int64 → Int32 → Int32 → Int32 → Int32 → FM → Option (Int32 × FM)) (hk237 : ∀ (a0 : Nat) (a1 : Int64) (a3 : Int32) (a6 : Int32) (a7 : Int32) (a8 : Int32) (M : FM), WI Z hx N M → Z a0 → pq (k237 a0 a1 a3 a6 a7 a8 M) (QA S Z hx N M)) (a0 : Nat) (a1 : Int64) (a3 : Int32) (a6 : Int32) (a7 : Int32) (a8 : Int32) (M : FM) (w : WI Z hx N M) (z_a0 : Z a0) : pq (FX46_locate_237 n k90 k237 a0 a1 a3 a6 a7 a8 M) (QA S Z hx N M) := by
  have hN := w.2.2.1
  have w0 := wk_r (S := S) w
  delta FX46_locate_237 BX46_locate_237
  refine pq_fi (fun _ => ?_) (fun _ => ?_)
  · exact q_tA hN w0 (wX46_locate_307 S Z hS n _ hk90 _ hk237 _ w0.1 )
  · refine pq_g (fun g1 => ?_)
    have z2 := wk_z (i := 0) (f := 217) w0 rfl z_a0
    refine pq_g (fun g3 => ?_)
    have z4 := wk_z (i := 0) (f := 124) w0 rfl z2
    refine pq_fi (fun _ => ?_) (fun _ => ?_)
    · refine pq_g (fun g5 => ?_)
      have z6 := wk_z (i := 0) (f := 210) w0 rfl z_a0
      refine pq_g (fun g7 => ?_)
      have z8 := wk_z (i := 0) (f := 18) w0 rfl z6
      refine pq_g (fun g9 => ?_)
      have z10 := wk_z (i := 0) (f := 217) w0 rfl z_a0
      refine pq_g (fun g11 => ?_)
      have z12 := wk_z (i := 0) (f := 121) w0 rfl z10
      have f13 := sS_121 w0.1.1 g11
      refine pq_g (fun g14 => ?_)
      refine pq_g (fun g15 => ?_)
      refine pq_b (wX11_has S Z (sb rfl hS) _ _ _ _ w0.1 z8) (fun r16 K17 => ?_)
      have w18 := wk_t w0 K17 hN
      refine pq_fi (fun _ => ?_) (fun _ => ?_)
      · refine pq_fi (fun _ => ?_) (fun _ => ?_)
        · exact q_tA hN w18 (wX46_locate_292 S Z hS n _ hk90 _ hk237 _ _ _ _ _ w18.1 z_a0)
        · exact q_tA hN w18 (wX46_locate_292 S Z hS n _ hk90 _ hk237 _ _ _ _ _ w18.1 z_a0)
      · exact q_tA hN w18 (hk237 _ _ _ _ _ _ _ w18.1 z_a0)
    · exact q_tA hN w0 (wX46_locate_307 S Z hS n _ hk90 _ hk237 _ w0.1 )
theorem wX46_locate_234 (S Z : Nat → Prop) {hx N : Nat} (hS : ∀ x, fe_mem lX46_locate x = true → S x) (n : Nat) (k90 : Nat → Int64 → Int32 → Int32 → Int32 → Int32 → Int32 → Int32 → FM → Option (Int32 × FM)) (hk90 : ∀ (a0 : Nat) (a1 : Int64) (a3 : Int32) (a4 : Int32) (a5 : Int32) (a6 : Int32) (a7 : Int32) (a8 : Int32) (M : FM), WI Z hx N M → Z a0 → pq (k90 a0 a1 a3 a4 a5 a6 a7 a8 M) (QA S Z hx N M)) (k237 : Nat → Int64 → Int32 → Int32 → Int32 → Int32 → FM → Option (Int32 × FM)) (hk237 : ∀ (a0 : Nat) (a1 : Int64) (a3 : Int32) (a6 : Int32) (a7 : Int32) (a8 : Int32) (M : FM), WI Z hx N M → Z a0 → pq (k237 a0 a1 a3 a6 a7 a8 M) (QA S Z hx N M)) (a0 : Nat) (a1 : Int64) (a3 : Int32) (a6 : Int32) (a7 : Int32) (M : FM) (w : WI Z hx N M) (z_a0 : Z a0) : pq (FX46_locate_234 n k90 k237 a0 a1 a3 a6 a7 M) (QA S Z hx N M) := by
  have hN := w.2.2.1
  have w0 := wk_r (S := S) w
  delta FX46_locate_234 BX46_locate_234
  exact q_tA hN w0 (hk237 _ _ _ _ _ _ _ w0.1 z_a0)
theorem wX46_locate_90 (S Z : Nat → Prop) {hx N : Nat} (hS : ∀ x, fe_mem lX46_locate x = true → S x) (n : Nat) (k90 : Nat → Int64 → Int32 → Int32 → Int32 → Int32 → Int32 → Int32 → FM → Option (Int32 × FM)) (hk90 : ∀ (a0 : Nat) (a1 : Int64) (a3 : Int32) (a4 : Int32) (a5 : Int32) (a6 : Int32) (a7 : Int32) (a8 : Int32) (M : FM), WI Z hx N M → Z a0 → pq (k90 a0 a1 a3 a4 a5 a6 a7 a8 M) (QA S Z hx N M)) (k237 : Nat → Int64 → Int32 → Int32 → Int32 → Int32 → FM → Option (Int32 × FM)) (hk237 : ∀ (a0 : Nat) (a1 : Int64) (a3 : Int32) (a6 : Int32) (a7 : Int32) (a8 : Int32) (M : FM), WI Z hx N M → Z a0 → pq (k237 a0 a1 a3 a6 a7 a8 M) (QA S Z hx N M)) (a0 : Nat) (a1 : Int64) (a3 : Int32) (a4 : Int32) (a5 : Int32) (a6 : Int32) (a7 : Int32) (a8 : Int32) (M : FM) (w : WI Z hx N M) (z_a0 : Z a0) : pq (FX46_locate_90 n k90 k237 a0 a1 a3 a4 a5 a6 a7 a8 M) (QA S Z hx N M) := by
  have hN := w.2.2.1
  have w0 := wk_r (S := S) w
  delta FX46_locate_90 BX46_locate_90
  refine pq_fi (fun _ => ?_) (fun _ => ?_)
  · refine pq_g (fun g1 => ?_)
    have z2 := wk_z (i := 0) (f := 217) w0 rfl z_a0
    refine pq_g (fun g3 => ?_)
    refine pq_fi (fun _ => ?_) (fun _ => ?_)
    · exact q_tA hN w0 (wX46_locate_234 S Z hS n _ hk90 _ hk237 _ _ _ _ _ _ w0.1 z_a0)
    · refine pq_g (fun g4 => ?_)
      have z5 := wk_z (i := 0) (f := 210) w0 rfl z_a0
      refine pq_g (fun g6 => ?_)
      have z7 := wk_z (i := 0) (f := 18) w0 rfl z5
      refine pq_g (fun g8 => ?_)
      have z9 := wk_z (i := 0) (f := 217) w0 rfl z_a0
      refine pq_g (fun g10 => ?_)
      have z11 := wk_z (i := 0) (f := 121) w0 rfl z9
      have f12 := sS_121 w0.1.1 g10
      refine pq_g (fun g13 => ?_)
      refine pq_g (fun g14 => ?_)
      refine pq_b (wX11_has S Z (sb rfl hS) _ _ _ _ w0.1 z7) (fun r15 K16 => ?_)
      have w17 := wk_t w0 K16 hN
      refine pq_fi (fun _ => ?_) (fun _ => ?_)
      · refine pq_n ?_
        refine pq_fi (fun _ => ?_) (fun _ => ?_)
        · refine pq_g (fun g18 => ?_)
          have z19 := wk_z (i := 0) (f := 217) w17 rfl z_a0
          refine pq_g (fun g20 => ?_)
          have z21 := wk_z (i := 0) (f := 210) w17 rfl z_a0
          refine pq_g (fun g22 => ?_)
          have z23 := wk_z (i := 0) (f := 217) w17 rfl z_a0
          refine pq_g (fun g24 => ?_)
          have z25 := wk_z (i := 0) (f := 121) w17 rfl z23
          have f26 := sS_121 w17.1.1 g24
          refine pq_g (fun g27 => ?_)
          refine pq_g (fun g28 => ?_)
          refine pq_b (wX10_find S Z (sb rfl hS) n _ _ _ _ w17.1 z21) (fun r29 K30 => ?_)
          have w31 := wk_t w17 K30.1 hN
          refine pq_g (fun g32 => ?_)
          extract_lets +onlyGivenNames M34
          have w33 : Wk S Z hx N M M34 := wk_fR hN w31 rfl rfl g32 z19 (Or.inr (hS 124 rfl)) K30.2 rfl rfl
          exact q_tA hN w33 (wX46_locate_234 S Z hS n _ hk90 _ hk237 _ _ _ _ _ _ w33.1 z_a0)
        · exact q_tA hN w17 (wX46_locate_234 S Z hS n _ hk90 _ hk237 _ _ _ _ _ _ w17.1 z_a0)
      · exact q_tA hN w17 (wX46_locate_234 S Z hS n _ hk90 _ hk237 _ _ _ _ _ _ w17.1 z_a0)
  · refine pq_g (fun g35 => ?_)
    have z36 := wk_z (i := 0) (f := 217) w0 rfl z_a0
    refine pq_g (fun g37 => ?_)
    have z38 := wk_z (i := 0) (f := 121) w0 rfl z36
    have f39 := sS_121 w0.1.1 g37
    refine pq_g (fun g40 => ?_)
    refine pq_b (wX46_find S Z (sb rfl hS) n _ _ _ _ _ _ w0.1 z_a0) (fun r41 K42 => ?_)
    have w43 := wk_t w0 K42 hN
    have f44 := sf_k w0.1.1 K42 f39
    refine pq_g (fun g45 => ?_)
    extract_lets +onlyGivenNames M47
    have w46 : Wk S Z hx N M M47 := wk_aL hN w43 rfl g45.1 z38 (sy_s f44 (hS 1121 rfl))
    refine pq_g (fun g48 => ?_)
    have z49 := wk_z (i := 0) (f := 217) w46 rfl z_a0
    refine pq_g (fun g50 => ?_)
    have z51 := wk_z (i := 0) (f := 121) w46 rfl z49
    have f52 := sS_121 w46.1.1 g50
    refine pq_g (fun g53 => ?_)
    refine pq_fi (fun _ => ?_) (fun _ => ?_)
    · exact q_tA hN w46 (hk90 _ _ _ _ _ _ _ _ _ w46.1 z_a0)
    · refine pq_g (fun g54 => ?_)
      have z55 := wk_z (i := 0) (f := 217) w46 rfl z_a0
      refine pq_g (fun g56 => ?_)
      have z57 := wk_z (i := 0) (f := 121) w46 rfl z55
      have f58 := sS_121 w46.1.1 g56
      refine pq_g (fun g59 => ?_)
      refine pq_g (fun g60 => ?_)
      refine pq_b (wX46_raise S Z (sb rfl hS) _ _ _ _ w46.1 z_a0) (fun r61 K62 => ?_)
      have w63 := wk_t w46 K62 hN
      refine pq_g (fun _ => ?_)
      exact pq_s w63
theorem wX46_locate_85 (S Z : Nat → Prop) {hx N : Nat} (hS : ∀ x, fe_mem lX46_locate x = true → S x) (n : Nat) (k90 : Nat → Int64 → Int32 → Int32 → Int32 → Int32 → Int32 → Int32 → FM → Option (Int32 × FM)) (hk90 : ∀ (a0 : Nat) (a1 : Int64) (a3 : Int32) (a4 : Int32) (a5 : Int32) (a6 : Int32) (a7 : Int32) (a8 : Int32) (M : FM), WI Z hx N M → Z a0 → pq (k90 a0 a1 a3 a4 a5 a6 a7 a8 M) (QA S Z hx N M)) (k237 : Nat → Int64 → Int32 → Int32 → Int32 → Int32 → FM → Option (Int32 × FM)) (hk237 : ∀ (a0 : Nat) (a1 : Int64) (a3 : Int32) (a6 : Int32) (a7 : Int32) (a8 : Int32) (M : FM), WI Z hx N M → Z a0 → pq (k237 a0 a1 a3 a6 a7 a8 M) (QA S Z hx N M)) (a0 : Nat) (a1 : Int64) (a3 : Int32) (a4 : Int32) (a5 : Int32) (a6 : Int32) (s0 : Int32) (M : FM) (w : WI Z hx N M) (z_a0 : Z a0) : pq (FX46_locate_85 n k90 k237 a0 a1 a3 a4 a5 a6 s0 M) (QA S Z hx N M) := by
  have hN := w.2.2.1
  have w0 := wk_r (S := S) w
  delta FX46_locate_85 BX46_locate_85
  exact q_tA hN w0 (hk90 _ _ _ _ _ _ _ _ _ w0.1 z_a0)
theorem wX46_locate_67 (S Z : Nat → Prop) {hx N : Nat} (hS : ∀ x, fe_mem lX46_locate x = true → S x) (n : Nat) (k90 : Nat → Int64 → Int32 → Int32 → Int32 → Int32 → Int32 → Int32 → FM → Option (Int32 × FM)) (hk90 : ∀ (a0 : Nat) (a1 : Int64) (a3 : Int32) (a4 : Int32) (a5 : Int32) (a6 : Int32) (a7 : Int32) (a8 : Int32) (M : FM), WI Z hx N M → Z a0 → pq (k90 a0 a1 a3 a4 a5 a6 a7 a8 M) (QA S Z hx N M)) (k237 : Nat → Int64 → Int32 → Int32 → Int32 → Int32 → FM → Option (Int32 × FM)) (hk237 : ∀ (a0 : Nat) (a1 : Int64) (a3 : Int32) (a6 : Int32) (a7 : Int32) (a8 : Int32) (M : FM), WI Z hx N M → Z a0 → pq (k237 a0 a1 a3 a6 a7 a8 M) (QA S Z hx N M)) (a0 : Nat) (a1 : Int64) (a3 : Int32) (a4 : Int32) (a5 : Int32) (s0 : Int32) (M : FM) (w : WI Z hx N M) (z_a0 : Z a0) : pq (FX46_locate_67 n k90 k237 a0 a1 a3 a4 a5 s0 M) (QA S Z hx N M) := by
  have hN := w.2.2.1
  have w0 := wk_r (S := S) w
  delta FX46_locate_67 BX46_locate_67
  refine pq_g (fun g1 => ?_)
  have z2 := wk_z (i := 0) (f := 217) w0 rfl z_a0
  refine pq_g (fun g3 => ?_)
  refine pq_fi (fun _ => ?_) (fun _ => ?_)
  · exact q_tA hN w0 (wX46_locate_85 S Z hS n _ hk90 _ hk237 _ _ _ _ _ _ _ _ w0.1 z_a0)
  · exact q_tA hN w0 (wX46_locate_85 S Z hS n _ hk90 _ hk237 _ _ _ _ _ _ _ _ w0.1 z_a0)
theorem wX46_locate_48 (S Z : Nat → Prop) {hx N : Nat} (hS : ∀ x, fe_mem lX46_locate x = true → S x) (n : Nat) (k90 : Nat → Int64 → Int32 → Int32 → Int32 → Int32 → Int32 → Int32 → FM → Option (Int32 × FM)) (hk90 : ∀ (a0 : Nat) (a1 : Int64) (a3 : Int32) (a4 : Int32) (a5 : Int32) (a6 : Int32) (a7 : Int32) (a8 : Int32) (M : FM), WI Z hx N M → Z a0 → pq (k90 a0 a1 a3 a4 a5 a6 a7 a8 M) (QA S Z hx N M)) (k237 : Nat → Int64 → Int32 → Int32 → Int32 → Int32 → FM → Option (Int32 × FM)) (hk237 : ∀ (a0 : Nat) (a1 : Int64) (a3 : Int32) (a6 : Int32) (a7 : Int32) (a8 : Int32) (M : FM), WI Z hx N M → Z a0 → pq (k237 a0 a1 a3 a6 a7 a8 M) (QA S Z hx N M)) (a0 : Nat) (a1 : Int64) (a3 : Int32) (a4 : Int32) (a5 : Int32) (s0 : Nat) (s1 : Int32) (M : FM) (w : WI Z hx N M) (z_a0 : Z a0) (z_s0 : Z s0) : pq (FX46_locate_48 n k90 k237 a0 a1 a3 a4 a5 s0 s1 M) (QA S Z hx N M) := by
  have hN := w.2.2.1
  have w0 := wk_r (S := S) w
  delta FX46_locate_48 BX46_locate_48
  refine pq_g (fun g1 => ?_)
  refine pq_g (fun _ => ?_)
  extract_lets +onlyGivenNames M3
  have w2 : Wk S Z hx N M M3 := wk_fI hN w0 rfl rfl g1 z_s0 (Or.inr (hS 123 rfl))
  refine pq_g (fun g4 => ?_)
  have z5 := wk_z (i := 0) (f := 217) w2 rfl z_a0
  refine pq_g (fun g6 => ?_)
  refine pq_fi (fun _ => ?_) (fun _ => ?_)
  · exact q_tA hN w2 (wX46_locate_67 S Z hS n _ hk90 _ hk237 _ _ _ _ _ _ _ w2.1 z_a0)
  · exact q_tA hN w2 (wX46_locate_67 S Z hS n _ hk90 _ hk237 _ _ _ _ _ _ _ w2.1 z_a0)
theorem wX46_locate_0 (S Z : Nat → Prop) {hx N : Nat} (hS : ∀ x, fe_mem lX46_locate x = true → S x) (n : Nat) (k90 : Nat → Int64 → Int32 → Int32 → Int32 → Int32 → Int32 → Int32 → FM → Option (Int32 × FM)) (hk90 : ∀ (a0 : Nat) (a1 : Int64) (a3 : Int32) (a4 : Int32) (a5 : Int32) (a6 : Int32) (a7 : Int32) (a8 : Int32) (M : FM), WI Z hx N M → Z a0 → pq (k90 a0 a1 a3 a4 a5 a6 a7 a8 M) (QA S Z hx N M)) (k237 : Nat → Int64 → Int32 → Int32 → Int32 → Int32 → FM → Option (Int32 × FM)) (hk237 : ∀ (a0 : Nat) (a1 : Int64) (a3 : Int32) (a6 : Int32) (a7 : Int32) (a8 : Int32) (M : FM), WI Z hx N M → Z a0 → pq (k237 a0 a1 a3 a6 a7 a8 M) (QA S Z hx N M)) (a0 : Nat) (a1 : Int64) (a3 : Int32) (a4 : Int32) (M : FM) (w : WI Z hx N M) (z_a0 : Z a0) : pq (FX46_locate_0 n k90 k237 a0 a1 a3 a4 M) (QA S Z hx N M) := by
  have hN := w.2.2.1
  have w0 := wk_r (S := S) w
  delta FX46_locate_0 BX46_locate_0
  refine pq_g (fun g1 => ?_)
  refine pq_b (wX46_dataMode S Z (sb rfl hS) _ _ w0.1 z_a0) (fun r2 K3 => ?_)
  have w4 := wk_t w0 K3 hN
  refine pq_g (fun g5 => ?_)
  have z6 := wk_z (i := 0) (f := 217) w4 rfl z_a0
  refine pq_g (fun g7 => ?_)
  extract_lets +onlyGivenNames M9
  have w8 : Wk S Z hx N M M9 := wk_fI hN w4 rfl rfl g7 z6 (Or.inr (hS 122 rfl))
  refine pq_g (fun g10 => ?_)
  have z11 := wk_z (i := 0) (f := 217) w8 rfl z_a0
  refine pq_g (fun g12 => ?_)
  extract_lets +onlyGivenNames M14
  have w13 : Wk S Z hx N M M14 := wk_fR hN w8 rfl rfl g12 z11 (Or.inr (hS 124 rfl)) (wk_zc w8 rfl) rfl rfl
  refine pq_g (fun g15 => ?_)
  have z16 := wk_z (i := 0) (f := 217) w13 rfl z_a0
  refine pq_fi (fun _ => ?_) (fun _ => ?_)
  · exact q_tA hN w13 (wX46_locate_48 S Z hS n _ hk90 _ hk237 _ _ _ _ _ _ _ _ w13.1 z_a0 z16)
  · exact q_tA hN w13 (wX46_locate_48 S Z hS n _ hk90 _ hk237 _ _ _ _ _ _ _ _ w13.1 z_a0 z16)
theorem wX46_locate_L (S Z : Nat → Prop) {hx N : Nat} (hS : ∀ x, fe_mem lX46_locate x = true → S x) (n : Nat) : ∀ j : Nat, (∀ (a0 : Nat) (a1 : Int64) (a3 : Int32) (a4 : Int32) (a5 : Int32) (a6 : Int32) (a7 : Int32) (a8 : Int32) (M : FM), WI Z hx N M → Z a0 → pq ((FX46_locate_L n j).1 a0 a1 a3 a4 a5 a6 a7 a8 M) (QA S Z hx N M)) ∧ (∀ (a0 : Nat) (a1 : Int64) (a3 : Int32) (a6 : Int32) (a7 : Int32) (a8 : Int32) (M : FM), WI Z hx N M → Z a0 → pq ((FX46_locate_L n j).2 a0 a1 a3 a6 a7 a8 M) (QA S Z hx N M))
  | 0 => ⟨by intros; exact pq_0, by intros; exact pq_0⟩
  | j + 1 => ⟨fun a0 a1 a3 a4 a5 a6 a7 a8 M w => wX46_locate_90 S Z hS n _ (wX46_locate_L S Z hS n j).1 _ (wX46_locate_L S Z hS n j).2 a0 a1 a3 a4 a5 a6 a7 a8 M w, fun a0 a1 a3 a6 a7 a8 M w => wX46_locate_237 S Z hS n _ (wX46_locate_L S Z hS n j).1 _ (wX46_locate_L S Z hS n j).2 a0 a1 a3 a6 a7 a8 M w⟩
theorem wX46_locate (S Z : Nat → Prop) {hx N : Nat} (hS : ∀ x, fe_mem lX46_locate x = true → S x) (n : Nat) (a0 : Nat) (a1 : Int64) (a3 : Int32) (a4 : Int32) (M : FM) (w : WI Z hx N M) (z_a0 : Z a0) : pq (FX46_locate n a0 a1 a3 a4 M) (QA S Z hx N M) := wX46_locate_0 S Z hS n _ (wX46_locate_L S Z hS n n).1 _ (wX46_locate_L S Z hS n n).2 a0 a1 a3 a4 M w z_a0
def lX10_isRegister : List Nat := []
theorem wX10_isRegister_28 (S Z : Nat → Prop) {hx N : Nat} (hS : ∀ x, fe_mem lX10_isRegister x = true → S x) (s0 : Int32) (M : FM) (w : WI Z hx N M) : pq (FX10_isRegister_28 s0 M) (QA S Z hx N M) := by
  have hN := w.2.2.1
  have w0 := wk_r (S := S) w
  delta FX10_isRegister_28 BX10_isRegister_28
  refine pq_g (fun _ => ?_)
  exact pq_s w0
theorem wX10_isRegister_27 (S Z : Nat → Prop) {hx N : Nat} (hS : ∀ x, fe_mem lX10_isRegister x = true → S x) (M : FM) (w : WI Z hx N M) : pq (FX10_isRegister_27 M) (QA S Z hx N M) := by
  have hN := w.2.2.1
  have w0 := wk_r (S := S) w
  delta FX10_isRegister_27 BX10_isRegister_27
  exact q_tA hN w0 (wX10_isRegister_28 S Z hS _ _ w0.1 )
theorem wX10_isRegister_0 (S Z : Nat → Prop) {hx N : Nat} (hS : ∀ x, fe_mem lX10_isRegister x = true → S x) (a0 : Int64) (a2 : Int32) (M : FM) (w : WI Z hx N M) : pq (FX10_isRegister_0 a0 a2 M) (QA S Z hx N M) := by
  have hN := w.2.2.1
  have w0 := wk_r (S := S) w
  delta FX10_isRegister_0 BX10_isRegister_0
  refine pq_fi (fun _ => ?_) (fun _ => ?_)
  · refine pq_fi (fun _ => ?_) (fun _ => ?_)
    · refine pq_fi (fun _ => ?_) (fun _ => ?_)
      · exact q_tA hN w0 (wX10_isRegister_27 S Z hS _ w0.1 )
      · exact q_tA hN w0 (wX10_isRegister_28 S Z hS _ _ w0.1 )
    · exact q_tA hN w0 (wX10_isRegister_27 S Z hS _ w0.1 )
  · exact q_tA hN w0 (wX10_isRegister_27 S Z hS _ w0.1 )
theorem wX10_isRegister (S Z : Nat → Prop) {hx N : Nat} (hS : ∀ x, fe_mem lX10_isRegister x = true → S x) (a0 : Int64) (a2 : Int32) (M : FM) (w : WI Z hx N M) : pq (FX10_isRegister a0 a2 M) (QA S Z hx N M) := wX10_isRegister_0 S Z hS a0 a2 M w 
def lX33_contextAt : List Nat := []
theorem wX33_contextAt_62 (S Z : Nat → Prop) {hx N : Nat} (hS : ∀ x, fe_mem lX33_contextAt x = true → S x) (s0 : Int32) (M : FM) (w : WI Z hx N M) : pq (FX33_contextAt_62 s0 M) (QA S Z hx N M) := by
  have hN := w.2.2.1
  have w0 := wk_r (S := S) w
  delta FX33_contextAt_62 BX33_contextAt_62
  exact pq_s w0
theorem wX33_contextAt_48 (S Z : Nat → Prop) {hx N : Nat} (hS : ∀ x, fe_mem lX33_contextAt x = true → S x) (a6 : Int64) (s0 : Int32) (M : FM) (w : WI Z hx N M) : pq (FX33_contextAt_48 a6 s0 M) (QA S Z hx N M) := by
  have hN := w.2.2.1
  have w0 := wk_r (S := S) w
  delta FX33_contextAt_48 BX33_contextAt_48
  refine pq_fi (fun _ => ?_) (fun _ => ?_)
  · exact q_tA hN w0 (wX33_contextAt_62 S Z hS _ _ w0.1 )
  · exact q_tA hN w0 (wX33_contextAt_62 S Z hS _ _ w0.1 )
theorem wX33_contextAt_47 (S Z : Nat → Prop) {hx N : Nat} (hS : ∀ x, fe_mem lX33_contextAt x = true → S x) (a6 : Int64) (M : FM) (w : WI Z hx N M) : pq (FX33_contextAt_47 a6 M) (QA S Z hx N M) := by
  have hN := w.2.2.1
  have w0 := wk_r (S := S) w
  delta FX33_contextAt_47 BX33_contextAt_47
  exact q_tA hN w0 (wX33_contextAt_48 S Z hS _ _ _ w0.1 )
theorem wX33_contextAt_0 (S Z : Nat → Prop) {hx N : Nat} (hS : ∀ x, fe_mem lX33_contextAt x = true → S x) (a0 : Nat) (a1 : Int64) (a3 : Int32) (a4 : Int32) (a5 : Int32) (M : FM) (w : WI Z hx N M) (z_a0 : Z a0) : pq (FX33_contextAt_0 a0 a1 a3 a4 a5 M) (QA S Z hx N M) := by
  have hN := w.2.2.1
  have w0 := wk_r (S := S) w
  delta FX33_contextAt_0 BX33_contextAt_0
  refine pq_n ?_
  refine pq_fi (fun _ => ?_) (fun _ => ?_)
  · exact q_tA hN w0 (wX33_contextAt_47 S Z hS _ _ w0.1 )
  · refine pq_n ?_
    refine pq_fi (fun _ => ?_) (fun _ => ?_)
    · refine pq_g (fun g1 => ?_)
      refine pq_fi (fun _ => ?_) (fun _ => ?_)
      · exact q_tA hN w0 (wX33_contextAt_47 S Z hS _ _ w0.1 )
      · exact q_tA hN w0 (wX33_contextAt_48 S Z hS _ _ _ w0.1 )
    · exact q_tA hN w0 (wX33_contextAt_47 S Z hS _ _ w0.1 )
theorem wX33_contextAt (S Z : Nat → Prop) {hx N : Nat} (hS : ∀ x, fe_mem lX33_contextAt x = true → S x) (a0 : Nat) (a1 : Int64) (a3 : Int32) (a4 : Int32) (a5 : Int32) (M : FM) (w : WI Z hx N M) (z_a0 : Z a0) : pq (FX33_contextAt a0 a1 a3 a4 a5 M) (QA S Z hx N M) := wX33_contextAt_0 S Z hS a0 a1 a3 a4 a5 M w z_a0
def lX33_claim : List Nat := [228, 229]
theorem wX33_claim_47 (S Z : Nat → Prop) {hx N : Nat} (hS : ∀ x, fe_mem lX33_claim x = true → S x) (n : Nat) (a2 : Int32) (M : FM) (w : WI Z hx N M) : pq (FX33_claim_47 n a2 M) (QA S Z hx N M) := by
  have hN := w.2.2.1
  have w0 := wk_r (S := S) w
  delta FX33_claim_47 BX33_claim_47
  exact pq_s w0
theorem wX33_claim_0 (S Z : Nat → Prop) {hx N : Nat} (hS : ∀ x, fe_mem lX33_claim x = true → S x) (n : Nat) (a0 : Nat) (a1 : Int32) (M : FM) (w : WI Z hx N M) (z_a0 : Z a0) : pq (FX33_claim_0 n a0 a1 M) (QA S Z hx N M) := by
  have hN := w.2.2.1
  have w0 := wk_r (S := S) w
  delta FX33_claim_0 BX33_claim_0
  refine pq_g (fun g1 => ?_)
  refine pq_g (fun g2 => ?_)
  have z3 := wk_z (i := 0) (f := 225) w0 rfl z_a0
  have f4 := sS_225 w0.1.1 g2
  refine pq_g (fun g5 => ?_)
  refine pq_g (fun g6 => ?_)
  refine pq_b (wX33_best S Z (sb rfl hS) n _ _ _ _ w0.1 z_a0) (fun r7 K8 => ?_)
  have w9 := wk_t w0 K8 hN
  refine pq_fi (fun _ => ?_) (fun _ => ?_)
  · exact q_tA hN w9 (wX33_claim_47 S Z hS n _ _ w9.1 )
  · refine pq_g (fun g10 => ?_)
    refine pq_g (fun g11 => ?_)
    extract_lets +onlyGivenNames M13
    have w12 : Wk S Z hx N M M13 := wk_fI hN w9 rfl rfl g11 z_a0 (Or.inr (hS 228 rfl))
    refine pq_g (fun g14 => ?_)
    refine pq_g (fun g15 => ?_)
    extract_lets +onlyGivenNames M17
    have w16 : Wk S Z hx N M M17 := wk_fI hN w12 rfl rfl g15 z_a0 (Or.inr (hS 229 rfl))
    exact q_tA hN w16 (wX33_claim_47 S Z hS n _ _ w16.1 )
theorem wX33_claim (S Z : Nat → Prop) {hx N : Nat} (hS : ∀ x, fe_mem lX33_claim x = true → S x) (n : Nat) (a0 : Nat) (a1 : Int32) (M : FM) (w : WI Z hx N M) (z_a0 : Z a0) : pq (FX33_claim n a0 a1 M) (QA S Z hx N M) := wX33_claim_0 S Z hS n a0 a1 M w z_a0
def lX33_read : List Nat := [228, 229]
theorem wX33_read_144 (S Z : Nat → Prop) {hx N : Nat} (hS : ∀ x, fe_mem lX33_read x = true → S x) (n : Nat) (s0 : Int64) (M : FM) (w : WI Z hx N M) : pq (FX33_read_144 n s0 M) (QA S Z hx N M) := by
  have hN := w.2.2.1
  have w0 := wk_r (S := S) w
  delta FX33_read_144 BX33_read_144
  exact pq_s w0
theorem wX33_read_15 (S Z : Nat → Prop) {hx N : Nat} (hS : ∀ x, fe_mem lX33_read x = true → S x) (n : Nat) (M : FM) (w : WI Z hx N M) : pq (FX33_read_15 n M) (QA S Z hx N M) := by
  have hN := w.2.2.1
  have w0 := wk_r (S := S) w
  delta FX33_read_15 BX33_read_15
  exact pq_s w0
theorem wX33_read_0 (S Z : Nat → Prop) {hx N : Nat} (hS : ∀ x, fe_mem lX33_read x = true → S x) (n : Nat) (a0 : Nat) (a1 : Int64) (a3 : Int32) (M : FM) (w : WI Z hx N M) (z_a0 : Z a0) : pq (FX33_read_0 n a0 a1 a3 M) (QA S Z hx N M) := by
  have hN := w.2.2.1
  have w0 := wk_r (S := S) w
  delta FX33_read_0 BX33_read_0
  refine pq_fi (fun _ => ?_) (fun _ => ?_)
  · refine pq_fi (fun _ => ?_) (fun _ => ?_)
    · refine pq_g (fun g1 => ?_)
      refine pq_b (wX33_contextAt S Z (sb rfl hS) _ _ _ _ _ _ w0.1 z_a0) (fun r2 K3 => ?_)
      have w4 := wk_t w0 K3 hN
      refine pq_g (fun g5 => ?_)
      refine pq_b (wX33_contextAt S Z (sb rfl hS) _ _ _ _ _ _ w4.1 z_a0) (fun r6 K7 => ?_)
      have w8 := wk_t w4 K7 hN
      refine pq_g (fun g9 => ?_)
      refine pq_b (wX33_contextAt S Z (sb rfl hS) _ _ _ _ _ _ w8.1 z_a0) (fun r10 K11 => ?_)
      have w12 := wk_t w8 K11 hN
      refine pq_fi (fun _ => ?_) (fun _ => ?_)
      · refine pq_fi (fun _ => ?_) (fun _ => ?_)
        · refine pq_g (fun g13 => ?_)
          exact pq_s w12
        · refine pq_fi (fun _ => ?_) (fun _ => ?_)
          · refine pq_fi (fun _ => ?_) (fun _ => ?_)
            · refine pq_fi (fun _ => ?_) (fun _ => ?_)
              · exact q_tA hN w12 (wX33_read_144 S Z hS n _ _ w12.1 )
              · refine pq_g (fun g14 => ?_)
                refine pq_b (wX33_claim S Z (sb rfl hS) n _ _ _ w12.1 z_a0) (fun r15 K16 => ?_)
                have w17 := wk_t w12 K16 hN
                exact q_tA hN w17 (wX33_read_144 S Z hS n _ _ w17.1 )
            · refine pq_g (fun g18 => ?_)
              have z19 := wk_z (i := 0) (f := 226) w12 rfl z_a0
              have f20 := sS_226 w12.1.1 g18
              refine pq_g (fun g21 => ?_)
              exact q_tA hN w12 (wX33_read_144 S Z hS n _ _ w12.1 )
          · refine pq_g (fun g22 => ?_)
            have z23 := wk_z (i := 0) (f := 225) w12 rfl z_a0
            have f24 := sS_225 w12.1.1 g22
            refine pq_g (fun g25 => ?_)
            exact pq_s w12
      · refine pq_g (fun g26 => ?_)
        have z27 := wk_z (i := 0) (f := 224) w12 rfl z_a0
        have f28 := sS_224 w12.1.1 g26
        refine pq_g (fun g29 => ?_)
        exact pq_s w12
    · exact q_tA hN w0 (wX33_read_15 S Z hS n _ w0.1 )
  · exact q_tA hN w0 (wX33_read_15 S Z hS n _ w0.1 )
theorem wX33_read (S Z : Nat → Prop) {hx N : Nat} (hS : ∀ x, fe_mem lX33_read x = true → S x) (n : Nat) (a0 : Nat) (a1 : Int64) (a3 : Int32) (M : FM) (w : WI Z hx N M) (z_a0 : Z a0) : pq (FX33_read n a0 a1 a3 M) (QA S Z hx N M) := wX33_read_0 S Z hS n a0 a1 a3 M w z_a0
def lX31_has : List Nat := []
theorem wX31_has_19 (S Z : Nat → Prop) {hx N : Nat} (hS : ∀ x, fe_mem lX31_has x = true → S x) (s0 : Int32) (M : FM) (w : WI Z hx N M) : pq (FX31_has_19 s0 M) (QA S Z hx N M) := by
  have hN := w.2.2.1
  have w0 := wk_r (S := S) w
  delta FX31_has_19 BX31_has_19
  refine pq_g (fun _ => ?_)
  exact pq_s w0
theorem wX31_has_0 (S Z : Nat → Prop) {hx N : Nat} (hS : ∀ x, fe_mem lX31_has x = true → S x) (a0 : Nat) (a1 : Int32) (a2 : Int32) (M : FM) (w : WI Z hx N M) (z_a0 : Z a0) : pq (FX31_has_0 a0 a1 a2 M) (QA S Z hx N M) := by
  have hN := w.2.2.1
  have w0 := wk_r (S := S) w
  delta FX31_has_0 BX31_has_0
  refine pq_g (fun g1 => ?_)
  have z2 := wk_z (i := 0) (f := 235) w0 rfl z_a0
  have f3 := sS_235 w0.1.1 g1
  refine pq_g (fun g4 => ?_)
  refine pq_fi (fun _ => ?_) (fun _ => ?_)
  · exact q_tA hN w0 (wX31_has_19 S Z hS _ _ w0.1 )
  · exact q_tA hN w0 (wX31_has_19 S Z hS _ _ w0.1 )
theorem wX31_has (S Z : Nat → Prop) {hx N : Nat} (hS : ∀ x, fe_mem lX31_has x = true → S x) (a0 : Nat) (a1 : Int32) (a2 : Int32) (M : FM) (w : WI Z hx N M) (z_a0 : Z a0) : pq (FX31_has a0 a1 a2 M) (QA S Z hx N M) := wX31_has_0 S Z hS a0 a1 a2 M w z_a0
def lX31_take : List Nat := [231, 232]
theorem wX31_take_0 (S Z : Nat → Prop) {hx N : Nat} (hS : ∀ x, fe_mem lX31_take x = true → S x) (a0 : Nat) (M : FM) (w : WI Z hx N M) (z_a0 : Z a0) : pq (FX31_take_0 a0 M) (QA S Z hx N M) := by
  have hN := w.2.2.1
  have w0 := wk_r (S := S) w
  delta FX31_take_0 BX31_take_0
  refine pq_g (fun g1 => ?_)
  refine pq_fi (fun _ => ?_) (fun _ => ?_)
  · exact pq_s w0
  · refine pq_g (fun g2 => ?_)
    have z3 := wk_z (i := 0) (f := 230) w0 rfl z_a0
    have f4 := sS_230 w0.1.1 g2
    refine pq_g (fun g5 => ?_)
    refine pq_g (fun g6 => ?_)
    refine pq_g (fun g7 => ?_)
    refine pq_n ?_
    refine pq_g (fun g8 => ?_)
    extract_lets +onlyGivenNames M10
    have w9 : Wk S Z hx N M M10 := wk_fI hN w0 rfl rfl g8 z_a0 (Or.inr (hS 231 rfl))
    refine pq_g (fun g11 => ?_)
    refine pq_g (fun g12 => ?_)
    extract_lets +onlyGivenNames M14
    have w13 : Wk S Z hx N M M14 := wk_fI hN w9 rfl rfl g12 z_a0 (Or.inr (hS 232 rfl))
    exact pq_s w13
theorem wX31_take (S Z : Nat → Prop) {hx N : Nat} (hS : ∀ x, fe_mem lX31_take x = true → S x) (a0 : Nat) (M : FM) (w : WI Z hx N M) (z_a0 : Z a0) : pq (FX31_take a0 M) (QA S Z hx N M) := wX31_take_0 S Z hS a0 M w z_a0
def lX31_cause : List Nat := []
theorem wX31_cause_58 (S Z : Nat → Prop) {hx N : Nat} (hS : ∀ x, fe_mem lX31_cause x = true → S x) (s0 : Int32) (M : FM) (w : WI Z hx N M) : pq (FX31_cause_58 s0 M) (QA S Z hx N M) := by
  have hN := w.2.2.1
  have w0 := wk_r (S := S) w
  delta FX31_cause_58 BX31_cause_58
  exact pq_s w0
theorem wX31_cause_57 (S Z : Nat → Prop) {hx N : Nat} (hS : ∀ x, fe_mem lX31_cause x = true → S x) (M : FM) (w : WI Z hx N M) : pq (FX31_cause_57 M) (QA S Z hx N M) := by
  have hN := w.2.2.1
  have w0 := wk_r (S := S) w
  delta FX31_cause_57 BX31_cause_57
  exact q_tA hN w0 (wX31_cause_58 S Z hS _ _ w0.1 )
theorem wX31_cause_37 (S Z : Nat → Prop) {hx N : Nat} (hS : ∀ x, fe_mem lX31_cause x = true → S x) (a0 : Nat) (M : FM) (w : WI Z hx N M) (z_a0 : Z a0) : pq (FX31_cause_37 a0 M) (QA S Z hx N M) := by
  have hN := w.2.2.1
  have w0 := wk_r (S := S) w
  delta FX31_cause_37 BX31_cause_37
  refine pq_g (fun g1 => ?_)
  refine pq_b (wX31_has S Z (sb rfl hS) _ _ _ _ w0.1 z_a0) (fun r2 K3 => ?_)
  have w4 := wk_t w0 K3 hN
  refine pq_fi (fun _ => ?_) (fun _ => ?_)
  · exact q_tA hN w4 (wX31_cause_57 S Z hS _ w4.1 )
  · refine pq_g (fun g5 => ?_)
    refine pq_fi (fun _ => ?_) (fun _ => ?_)
    · exact q_tA hN w4 (wX31_cause_57 S Z hS _ w4.1 )
    · exact q_tA hN w4 (wX31_cause_58 S Z hS _ _ w4.1 )
theorem wX31_cause_19 (S Z : Nat → Prop) {hx N : Nat} (hS : ∀ x, fe_mem lX31_cause x = true → S x) (a0 : Nat) (M : FM) (w : WI Z hx N M) (z_a0 : Z a0) : pq (FX31_cause_19 a0 M) (QA S Z hx N M) := by
  have hN := w.2.2.1
  have w0 := wk_r (S := S) w
  delta FX31_cause_19 BX31_cause_19
  refine pq_g (fun g1 => ?_)
  refine pq_b (wX31_has S Z (sb rfl hS) _ _ _ _ w0.1 z_a0) (fun r2 K3 => ?_)
  have w4 := wk_t w0 K3 hN
  refine pq_fi (fun _ => ?_) (fun _ => ?_)
  · exact q_tA hN w4 (wX31_cause_37 S Z hS _ _ w4.1 z_a0)
  · refine pq_g (fun g5 => ?_)
    refine pq_fi (fun _ => ?_) (fun _ => ?_)
    · exact q_tA hN w4 (wX31_cause_37 S Z hS _ _ w4.1 z_a0)
    · exact pq_s w4
theorem wX31_cause_0 (S Z : Nat → Prop) {hx N : Nat} (hS : ∀ x, fe_mem lX31_cause x = true → S x) (a0 : Nat) (M : FM) (w : WI Z hx N M) (z_a0 : Z a0) : pq (FX31_cause_0 a0 M) (QA S Z hx N M) := by
  have hN := w.2.2.1
  have w0 := wk_r (S := S) w
  delta FX31_cause_0 BX31_cause_0
  refine pq_g (fun g1 => ?_)
  refine pq_b (wX31_has S Z (sb rfl hS) _ _ _ _ w0.1 z_a0) (fun r2 K3 => ?_)
  have w4 := wk_t w0 K3 hN
  refine pq_fi (fun _ => ?_) (fun _ => ?_)
  · exact q_tA hN w4 (wX31_cause_19 S Z hS _ _ w4.1 z_a0)
  · refine pq_g (fun g5 => ?_)
    refine pq_fi (fun _ => ?_) (fun _ => ?_)
    · exact q_tA hN w4 (wX31_cause_19 S Z hS _ _ w4.1 z_a0)
    · exact pq_s w4
theorem wX31_cause (S Z : Nat → Prop) {hx N : Nat} (hS : ∀ x, fe_mem lX31_cause x = true → S x) (a0 : Nat) (M : FM) (w : WI Z hx N M) (z_a0 : Z a0) : pq (FX31_cause a0 M) (QA S Z hx N M) := wX31_cause_0 S Z hS a0 M w z_a0
def lX31_readCause : List Nat := [238]
theorem wX31_readCause_40 (S Z : Nat → Prop) {hx N : Nat} (hS : ∀ x, fe_mem lX31_readCause x = true → S x) (s0 : Int32) (M : FM) (w : WI Z hx N M) : pq (FX31_readCause_40 s0 M) (QA S Z hx N M) := by
  have hN := w.2.2.1
  have w0 := wk_r (S := S) w
  delta FX31_readCause_40 BX31_readCause_40
  exact pq_s w0
theorem wX31_readCause_20 (S Z : Nat → Prop) {hx N : Nat} (hS : ∀ x, fe_mem lX31_readCause x = true → S x) (a0 : Nat) (a1 : Int32) (s0 : Nat) (s1 : Int32) (s2 : Int32) (M : FM) (w : WI Z hx N M) (z_a0 : Z a0) (z_s0 : Z s0) : pq (FX31_readCause_20 a0 a1 s0 s1 s2 M) (QA S Z hx N M) := by
  have hN := w.2.2.1
  have w0 := wk_r (S := S) w
  delta FX31_readCause_20 BX31_readCause_20
  refine pq_g (fun g1 => ?_)
  refine pq_g (fun _ => ?_)
  extract_lets +onlyGivenNames M3
  have w2 : Wk S Z hx N M M3 := wk_fI hN w0 rfl rfl g1 z_s0 (Or.inr (hS 238 rfl))
  refine pq_g (fun g4 => ?_)
  refine pq_fi (fun _ => ?_) (fun _ => ?_)
  · exact q_tA hN w2 (wX31_readCause_40 S Z hS _ _ w2.1 )
  · exact q_tA hN w2 (wX31_readCause_40 S Z hS _ _ w2.1 )
theorem wX31_readCause_0 (S Z : Nat → Prop) {hx N : Nat} (hS : ∀ x, fe_mem lX31_readCause x = true → S x) (a0 : Nat) (M : FM) (w : WI Z hx N M) (z_a0 : Z a0) : pq (FX31_readCause_0 a0 M) (QA S Z hx N M) := by
  have hN := w.2.2.1
  have w0 := wk_r (S := S) w
  delta FX31_readCause_0 BX31_readCause_0
  refine pq_g (fun g1 => ?_)
  refine pq_b (wX31_cause S Z (sb rfl hS) _ _ w0.1 z_a0) (fun r2 K3 => ?_)
  have w4 := wk_t w0 K3 hN
  refine pq_g (fun g5 => ?_)
  refine pq_fi (fun _ => ?_) (fun _ => ?_)
  · exact q_tA hN w4 (wX31_readCause_20 S Z hS _ _ _ _ _ _ w4.1 z_a0 z_a0)
  · exact q_tA hN w4 (wX31_readCause_20 S Z hS _ _ _ _ _ _ w4.1 z_a0 z_a0)
theorem wX31_readCause (S Z : Nat → Prop) {hx N : Nat} (hS : ∀ x, fe_mem lX31_readCause x = true → S x) (a0 : Nat) (M : FM) (w : WI Z hx N M) (z_a0 : Z a0) : pq (FX31_readCause a0 M) (QA S Z hx N M) := wX31_readCause_0 S Z hS a0 M w z_a0
def lX31_readStatus : List Nat := [237]
theorem wX31_readStatus_27 (S Z : Nat → Prop) {hx N : Nat} (hS : ∀ x, fe_mem lX31_readStatus x = true → S x) (a0 : Nat) (s0 : Int32) (s1 : Int32) (M : FM) (w : WI Z hx N M) (z_a0 : Z a0) : pq (FX31_readStatus_27 a0 s0 s1 M) (QA S Z hx N M) := by
  have hN := w.2.2.1
  have w0 := wk_r (S := S) w
  delta FX31_readStatus_27 BX31_readStatus_27
  refine pq_g (fun g1 => ?_)
  refine pq_g (fun _ => ?_)
  extract_lets +onlyGivenNames M3
  have w2 : Wk S Z hx N M M3 := wk_fI hN w0 rfl rfl g1 z_a0 (Or.inr (hS 237 rfl))
  exact pq_s w2
theorem wX31_readStatus_14 (S Z : Nat → Prop) {hx N : Nat} (hS : ∀ x, fe_mem lX31_readStatus x = true → S x) (a0 : Nat) (s0 : Int32) (s1 : Int32) (M : FM) (w : WI Z hx N M) (z_a0 : Z a0) : pq (FX31_readStatus_14 a0 s0 s1 M) (QA S Z hx N M) := by
  have hN := w.2.2.1
  have w0 := wk_r (S := S) w
  delta FX31_readStatus_14 BX31_readStatus_14
  refine pq_g (fun g1 => ?_)
  refine pq_fi (fun _ => ?_) (fun _ => ?_)
  · exact q_tA hN w0 (wX31_readStatus_27 S Z hS _ _ _ _ w0.1 z_a0)
  · exact q_tA hN w0 (wX31_readStatus_27 S Z hS _ _ _ _ w0.1 z_a0)
theorem wX31_readStatus_0 (S Z : Nat → Prop) {hx N : Nat} (hS : ∀ x, fe_mem lX31_readStatus x = true → S x) (a0 : Nat) (M : FM) (w : WI Z hx N M) (z_a0 : Z a0) : pq (FX31_readStatus_0 a0 M) (QA S Z hx N M) := by
  have hN := w.2.2.1
  have w0 := wk_r (S := S) w
  delta FX31_readStatus_0 BX31_readStatus_0
  refine pq_g (fun g1 => ?_)
  refine pq_fi (fun _ => ?_) (fun _ => ?_)
  · exact q_tA hN w0 (wX31_readStatus_14 S Z hS _ _ _ _ w0.1 z_a0)
  · exact q_tA hN w0 (wX31_readStatus_14 S Z hS _ _ _ _ w0.1 z_a0)
theorem wX31_readStatus (S Z : Nat → Prop) {hx N : Nat} (hS : ∀ x, fe_mem lX31_readStatus x = true → S x) (a0 : Nat) (M : FM) (w : WI Z hx N M) (z_a0 : Z a0) : pq (FX31_readStatus a0 M) (QA S Z hx N M) := wX31_readStatus_0 S Z hS a0 M w z_a0
def lX31_modem : List Nat := []
theorem wX31_modem_46 (S Z : Nat → Prop) {hx N : Nat} (hS : ∀ x, fe_mem lX31_modem x = true → S x) (s0 : Int32) (M : FM) (w : WI Z hx N M) : pq (FX31_modem_46 s0 M) (QA S Z hx N M) := by
  have hN := w.2.2.1
  have w0 := wk_r (S := S) w
  delta FX31_modem_46 BX31_modem_46
  exact pq_s w0
theorem wX31_modem_0 (S Z : Nat → Prop) {hx N : Nat} (hS : ∀ x, fe_mem lX31_modem x = true → S x) (a0 : Nat) (M : FM) (w : WI Z hx N M) (z_a0 : Z a0) : pq (FX31_modem_0 a0 M) (QA S Z hx N M) := by
  have hN := w.2.2.1
  have w0 := wk_r (S := S) w
  delta FX31_modem_0 BX31_modem_0
  refine pq_g (fun g1 => ?_)
  have z2 := wk_z (i := 0) (f := 235) w0 rfl z_a0
  have f3 := sS_235 w0.1.1 g1
  refine pq_g (fun g4 => ?_)
  refine pq_g (fun g5 => ?_)
  refine pq_b (wX31_has S Z (sb rfl hS) _ _ _ _ w0.1 z_a0) (fun r6 K7 => ?_)
  have w8 := wk_t w0 K7 hN
  refine pq_fi (fun _ => ?_) (fun _ => ?_)
  · exact q_tA hN w8 (wX31_modem_46 S Z hS _ _ w8.1 )
  · exact q_tA hN w8 (wX31_modem_46 S Z hS _ _ w8.1 )
theorem wX31_modem (S Z : Nat → Prop) {hx N : Nat} (hS : ∀ x, fe_mem lX31_modem x = true → S x) (a0 : Nat) (M : FM) (w : WI Z hx N M) (z_a0 : Z a0) : pq (FX31_modem a0 M) (QA S Z hx N M) := wX31_modem_0 S Z hS a0 M w z_a0
def lX31_read : List Nat := [231, 232, 237, 238]
theorem wX31_read_116 (S Z : Nat → Prop) {hx N : Nat} (hS : ∀ x, fe_mem lX31_read x = true → S x) (a0 : Nat) (a4 : Int32) (M : FM) (w : WI Z hx N M) (z_a0 : Z a0) : pq (FX31_read_116 a0 a4 M) (QA S Z hx N M) := by
  have hN := w.2.2.1
  have w0 := wk_r (S := S) w
  delta FX31_read_116 BX31_read_116
  refine pq_g (fun g1 => ?_)
  have z2 := wk_z (i := 0) (f := 235) w0 rfl z_a0
  have f3 := sS_235 w0.1.1 g1
  refine pq_g (fun g4 => ?_)
  exact pq_s w0
theorem wX31_read_47 (S Z : Nat → Prop) {hx N : Nat} (hS : ∀ x, fe_mem lX31_read x = true → S x) (a0 : Nat) (a4 : Int32) (M : FM) (w : WI Z hx N M) (z_a0 : Z a0) : pq (FX31_read_47 a0 a4 M) (QA S Z hx N M) := by
  have hN := w.2.2.1
  have w0 := wk_r (S := S) w
  delta FX31_read_47 BX31_read_47
  refine pq_fi (fun _ => ?_) (fun _ => ?_)
  · refine pq_g (fun g1 => ?_)
    refine pq_b (wX31_take S Z (sb rfl hS) _ _ w0.1 z_a0) (fun r2 K3 => ?_)
    have w4 := wk_t w0 K3 hN
    exact pq_s w4
  · refine pq_fi (fun _ => ?_) (fun _ => ?_)
    · exact q_tA hN w0 (wX31_read_116 S Z hS _ _ _ w0.1 z_a0)
    · refine pq_fi (fun _ => ?_) (fun _ => ?_)
      · refine pq_g (fun g5 => ?_)
        refine pq_b (wX31_readCause S Z (sb rfl hS) _ _ w0.1 z_a0) (fun r6 K7 => ?_)
        have w8 := wk_t w0 K7 hN
        exact pq_s w8
      · refine pq_fi (fun _ => ?_) (fun _ => ?_)
        · exact q_tA hN w0 (wX31_read_116 S Z hS _ _ _ w0.1 z_a0)
        · refine pq_fi (fun _ => ?_) (fun _ => ?_)
          · exact q_tA hN w0 (wX31_read_116 S Z hS _ _ _ w0.1 z_a0)
          · refine pq_fi (fun _ => ?_) (fun _ => ?_)
            · refine pq_g (fun g9 => ?_)
              refine pq_b (wX31_readStatus S Z (sb rfl hS) _ _ w0.1 z_a0) (fun r10 K11 => ?_)
              have w12 := wk_t w0 K11 hN
              exact pq_s w12
            · refine pq_fi (fun _ => ?_) (fun _ => ?_)
              · refine pq_g (fun g13 => ?_)
                refine pq_b (wX31_modem S Z (sb rfl hS) _ _ w0.1 z_a0) (fun r14 K15 => ?_)
                have w16 := wk_t w0 K15 hN
                exact pq_s w16
              · exact q_tA hN w0 (wX31_read_116 S Z hS _ _ _ w0.1 z_a0)
theorem wX31_read_13 (S Z : Nat → Prop) {hx N : Nat} (hS : ∀ x, fe_mem lX31_read x = true → S x) (M : FM) (w : WI Z hx N M) : pq (FX31_read_13 M) (QA S Z hx N M) := by
  have hN := w.2.2.1
  have w0 := wk_r (S := S) w
  delta FX31_read_13 BX31_read_13
  exact pq_s w0
theorem wX31_read_0 (S Z : Nat → Prop) {hx N : Nat} (hS : ∀ x, fe_mem lX31_read x = true → S x) (a0 : Nat) (a1 : Int64) (a3 : Int32) (M : FM) (w : WI Z hx N M) (z_a0 : Z a0) : pq (FX31_read_0 a0 a1 a3 M) (QA S Z hx N M) := by
  have hN := w.2.2.1
  have w0 := wk_r (S := S) w
  delta FX31_read_0 BX31_read_0
  refine pq_fi (fun _ => ?_) (fun _ => ?_)
  · refine pq_fi (fun _ => ?_) (fun _ => ?_)
    · refine pq_fi (fun _ => ?_) (fun _ => ?_)
      · exact q_tA hN w0 (wX31_read_47 S Z hS _ _ _ w0.1 z_a0)
      · refine pq_g (fun g1 => ?_)
        refine pq_b (wX31_has S Z (sb rfl hS) _ _ _ _ w0.1 z_a0) (fun r2 K3 => ?_)
        have w4 := wk_t w0 K3 hN
        refine pq_fi (fun _ => ?_) (fun _ => ?_)
        · exact q_tA hN w4 (wX31_read_47 S Z hS _ _ _ w4.1 z_a0)
        · refine pq_g (fun g5 => ?_)
          have z6 := wk_z (i := 0) (f := 235) w4 rfl z_a0
          have f7 := sS_235 w4.1.1 g5
          refine pq_g (fun g8 => ?_)
          exact pq_s w4
    · exact q_tA hN w0 (wX31_read_13 S Z hS _ w0.1 )
  · exact q_tA hN w0 (wX31_read_13 S Z hS _ w0.1 )
theorem wX31_read (S Z : Nat → Prop) {hx N : Nat} (hS : ∀ x, fe_mem lX31_read x = true → S x) (a0 : Nat) (a1 : Int64) (a3 : Int32) (M : FM) (w : WI Z hx N M) (z_a0 : Z a0) : pq (FX31_read a0 a1 a3 M) (QA S Z hx N M) := wX31_read_0 S Z hS a0 a1 a3 M w z_a0
def lX32_find : List Nat := []
theorem wX32_find_48 (S Z : Nat → Prop) {hx N : Nat} (hS : ∀ x, fe_mem lX32_find x = true → S x) (s0 : Int32) (M : FM) (w : WI Z hx N M) : pq (FX32_find_48 s0 M) (QA S Z hx N M) := by
  have hN := w.2.2.1
  have w0 := wk_r (S := S) w
  delta FX32_find_48 BX32_find_48
  exact pq_s w0
theorem wX32_find_47 (S Z : Nat → Prop) {hx N : Nat} (hS : ∀ x, fe_mem lX32_find x = true → S x) (M : FM) (w : WI Z hx N M) : pq (FX32_find_47 M) (QA S Z hx N M) := by
  have hN := w.2.2.1
  have w0 := wk_r (S := S) w
  delta FX32_find_47 BX32_find_47
  exact q_tA hN w0 (wX32_find_48 S Z hS _ _ w0.1 )
theorem wX32_find_18 (S Z : Nat → Prop) {hx N : Nat} (hS : ∀ x, fe_mem lX32_find x = true → S x) (a0 : Nat) (a1 : Int64) (M : FM) (w : WI Z hx N M) (z_a0 : Z a0) : pq (FX32_find_18 a0 a1 M) (QA S Z hx N M) := by
  have hN := w.2.2.1
  have w0 := wk_r (S := S) w
  delta FX32_find_18 BX32_find_18
  refine pq_fi (fun _ => ?_) (fun _ => ?_)
  · exact q_tA hN w0 (wX32_find_47 S Z hS _ w0.1 )
  · refine pq_g (fun g1 => ?_)
    refine pq_fi (fun _ => ?_) (fun _ => ?_)
    · exact q_tA hN w0 (wX32_find_47 S Z hS _ w0.1 )
    · exact q_tA hN w0 (wX32_find_48 S Z hS _ _ w0.1 )
theorem wX32_find_0 (S Z : Nat → Prop) {hx N : Nat} (hS : ∀ x, fe_mem lX32_find x = true → S x) (a0 : Nat) (a1 : Int64) (M : FM) (w : WI Z hx N M) (z_a0 : Z a0) : pq (FX32_find_0 a0 a1 M) (QA S Z hx N M) := by
  have hN := w.2.2.1
  have w0 := wk_r (S := S) w
  delta FX32_find_0 BX32_find_0
  refine pq_fi (fun _ => ?_) (fun _ => ?_)
  · exact q_tA hN w0 (wX32_find_18 S Z hS _ _ _ w0.1 z_a0)
  · refine pq_fi (fun _ => ?_) (fun _ => ?_)
    · exact q_tA hN w0 (wX32_find_18 S Z hS _ _ _ w0.1 z_a0)
    · exact pq_s w0
theorem wX32_find (S Z : Nat → Prop) {hx N : Nat} (hS : ∀ x, fe_mem lX32_find x = true → S x) (a0 : Nat) (a1 : Int64) (M : FM) (w : WI Z hx N M) (z_a0 : Z a0) : pq (FX32_find a0 a1 M) (QA S Z hx N M) := wX32_find_0 S Z hS a0 a1 M w z_a0
def lX32_isWhole : List Nat := []
theorem wX32_isWhole_21 (S Z : Nat → Prop) {hx N : Nat} (hS : ∀ x, fe_mem lX32_isWhole x = true → S x) (s0 : Int32) (M : FM) (w : WI Z hx N M) : pq (FX32_isWhole_21 s0 M) (QA S Z hx N M) := by
  have hN := w.2.2.1
  have w0 := wk_r (S := S) w
  delta FX32_isWhole_21 BX32_isWhole_21
  refine pq_g (fun _ => ?_)
  exact pq_s w0
theorem wX32_isWhole_20 (S Z : Nat → Prop) {hx N : Nat} (hS : ∀ x, fe_mem lX32_isWhole x = true → S x) (M : FM) (w : WI Z hx N M) : pq (FX32_isWhole_20 M) (QA S Z hx N M) := by
  have hN := w.2.2.1
  have w0 := wk_r (S := S) w
  delta FX32_isWhole_20 BX32_isWhole_20
  exact q_tA hN w0 (wX32_isWhole_21 S Z hS _ _ w0.1 )
theorem wX32_isWhole_0 (S Z : Nat → Prop) {hx N : Nat} (hS : ∀ x, fe_mem lX32_isWhole x = true → S x) (a0 : Nat) (a1 : Int64) (a3 : Int32) (M : FM) (w : WI Z hx N M) (z_a0 : Z a0) : pq (FX32_isWhole_0 a0 a1 a3 M) (QA S Z hx N M) := by
  have hN := w.2.2.1
  have w0 := wk_r (S := S) w
  delta FX32_isWhole_0 BX32_isWhole_0
  refine pq_fi (fun _ => ?_) (fun _ => ?_)
  · refine pq_fi (fun _ => ?_) (fun _ => ?_)
    · exact q_tA hN w0 (wX32_isWhole_21 S Z hS _ _ w0.1 )
    · exact q_tA hN w0 (wX32_isWhole_20 S Z hS _ w0.1 )
  · exact q_tA hN w0 (wX32_isWhole_20 S Z hS _ w0.1 )
theorem wX32_isWhole (S Z : Nat → Prop) {hx N : Nat} (hS : ∀ x, fe_mem lX32_isWhole x = true → S x) (a0 : Nat) (a1 : Int64) (a3 : Int32) (M : FM) (w : WI Z hx N M) (z_a0 : Z a0) : pq (FX32_isWhole a0 a1 a3 M) (QA S Z hx N M) := wX32_isWhole_0 S Z hS a0 a1 a3 M w z_a0
def lX32_isHalf : List Nat := []
theorem wX32_isHalf_20 (S Z : Nat → Prop) {hx N : Nat} (hS : ∀ x, fe_mem lX32_isHalf x = true → S x) (s0 : Int32) (M : FM) (w : WI Z hx N M) : pq (FX32_isHalf_20 s0 M) (QA S Z hx N M) := by
  have hN := w.2.2.1
  have w0 := wk_r (S := S) w
  delta FX32_isHalf_20 BX32_isHalf_20
  refine pq_g (fun _ => ?_)
  exact pq_s w0
theorem wX32_isHalf_19 (S Z : Nat → Prop) {hx N : Nat} (hS : ∀ x, fe_mem lX32_isHalf x = true → S x) (M : FM) (w : WI Z hx N M) : pq (FX32_isHalf_19 M) (QA S Z hx N M) := by
  have hN := w.2.2.1
  have w0 := wk_r (S := S) w
  delta FX32_isHalf_19 BX32_isHalf_19
  exact q_tA hN w0 (wX32_isHalf_20 S Z hS _ _ w0.1 )
theorem wX32_isHalf_0 (S Z : Nat → Prop) {hx N : Nat} (hS : ∀ x, fe_mem lX32_isHalf x = true → S x) (a0 : Nat) (a1 : Int64) (a3 : Int32) (M : FM) (w : WI Z hx N M) (z_a0 : Z a0) : pq (FX32_isHalf_0 a0 a1 a3 M) (QA S Z hx N M) := by
  have hN := w.2.2.1
  have w0 := wk_r (S := S) w
  delta FX32_isHalf_0 BX32_isHalf_0
  refine pq_fi (fun _ => ?_) (fun _ => ?_)
  · refine pq_fi (fun _ => ?_) (fun _ => ?_)
    · exact q_tA hN w0 (wX32_isHalf_20 S Z hS _ _ w0.1 )
    · exact q_tA hN w0 (wX32_isHalf_19 S Z hS _ w0.1 )
  · exact q_tA hN w0 (wX32_isHalf_19 S Z hS _ w0.1 )
theorem wX32_isHalf (S Z : Nat → Prop) {hx N : Nat} (hS : ∀ x, fe_mem lX32_isHalf x = true → S x) (a0 : Nat) (a1 : Int64) (a3 : Int32) (M : FM) (w : WI Z hx N M) (z_a0 : Z a0) : pq (FX32_isHalf a0 a1 a3 M) (QA S Z hx N M) := wX32_isHalf_0 S Z hS a0 a1 a3 M w z_a0
def lX32_read : List Nat := []
theorem wX32_read_120 (S Z : Nat → Prop) {hx N : Nat} (hS : ∀ x, fe_mem lX32_read x = true → S x) (s0 : Int64) (M : FM) (w : WI Z hx N M) : pq (FX32_read_120 s0 M) (QA S Z hx N M) := by
  have hN := w.2.2.1
  have w0 := wk_r (S := S) w
  delta FX32_read_120 BX32_read_120
  exact pq_s w0
theorem wX32_read_119 (S Z : Nat → Prop) {hx N : Nat} (hS : ∀ x, fe_mem lX32_read x = true → S x) (M : FM) (w : WI Z hx N M) : pq (FX32_read_119 M) (QA S Z hx N M) := by
  have hN := w.2.2.1
  have w0 := wk_r (S := S) w
  delta FX32_read_119 BX32_read_119
  exact q_tA hN w0 (wX32_read_120 S Z hS _ _ w0.1 )
theorem wX32_read_78 (S Z : Nat → Prop) {hx N : Nat} (hS : ∀ x, fe_mem lX32_read x = true → S x) (a0 : Nat) (a1 : Int64) (a3 : Int32) (a4 : Int32) (M : FM) (w : WI Z hx N M) (z_a0 : Z a0) : pq (FX32_read_78 a0 a1 a3 a4 M) (QA S Z hx N M) := by
  have hN := w.2.2.1
  have w0 := wk_r (S := S) w
  delta FX32_read_78 BX32_read_78
  refine pq_fi (fun _ => ?_) (fun _ => ?_)
  · exact q_tA hN w0 (wX32_read_119 S Z hS _ w0.1 )
  · refine pq_g (fun g1 => ?_)
    refine pq_b (wX32_isHalf S Z (sb rfl hS) _ _ _ _ w0.1 z_a0) (fun r2 K3 => ?_)
    have w4 := wk_t w0 K3 hN
    refine pq_fi (fun _ => ?_) (fun _ => ?_)
    · exact q_tA hN w4 (wX32_read_119 S Z hS _ w4.1 )
    · refine pq_g (fun g5 => ?_)
      refine pq_fi (fun _ => ?_) (fun _ => ?_)
      · exact q_tA hN w4 (wX32_read_119 S Z hS _ w4.1 )
      · refine pq_g (fun g6 => ?_)
        have z7 := wk_z (i := 0) (f := 245) w4 rfl z_a0
        have f8 := sS_245 w4.1.1 g6
        refine pq_g (fun g9 => ?_)
        exact q_tA hN w4 (wX32_read_120 S Z hS _ _ w4.1 )
theorem wX32_read_77 (S Z : Nat → Prop) {hx N : Nat} (hS : ∀ x, fe_mem lX32_read x = true → S x) (s0 : Int64) (M : FM) (w : WI Z hx N M) : pq (FX32_read_77 s0 M) (QA S Z hx N M) := by
  have hN := w.2.2.1
  have w0 := wk_r (S := S) w
  delta FX32_read_77 BX32_read_77
  exact pq_s w0
theorem wX32_read_29 (S Z : Nat → Prop) {hx N : Nat} (hS : ∀ x, fe_mem lX32_read x = true → S x) (a0 : Nat) (a1 : Int64) (a3 : Int32) (a4 : Int32) (M : FM) (w : WI Z hx N M) (z_a0 : Z a0) : pq (FX32_read_29 a0 a1 a3 a4 M) (QA S Z hx N M) := by
  have hN := w.2.2.1
  have w0 := wk_r (S := S) w
  delta FX32_read_29 BX32_read_29
  refine pq_fi (fun _ => ?_) (fun _ => ?_)
  · exact q_tA hN w0 (wX32_read_78 S Z hS _ _ _ _ _ w0.1 z_a0)
  · refine pq_g (fun g1 => ?_)
    refine pq_b (wX32_isHalf S Z (sb rfl hS) _ _ _ _ w0.1 z_a0) (fun r2 K3 => ?_)
    have w4 := wk_t w0 K3 hN
    refine pq_fi (fun _ => ?_) (fun _ => ?_)
    · exact q_tA hN w4 (wX32_read_78 S Z hS _ _ _ _ _ w4.1 z_a0)
    · refine pq_fi (fun _ => ?_) (fun _ => ?_)
      · refine pq_g (fun g5 => ?_)
        have z6 := wk_z (i := 0) (f := 246) w4 rfl z_a0
        have f7 := sS_246 w4.1.1 g5
        refine pq_g (fun g8 => ?_)
        exact q_tA hN w4 (wX32_read_77 S Z hS _ _ w4.1 )
      · refine pq_g (fun g9 => ?_)
        have z10 := wk_z (i := 0) (f := 246) w4 rfl z_a0
        have f11 := sS_246 w4.1.1 g9
        refine pq_g (fun g12 => ?_)
        exact q_tA hN w4 (wX32_read_77 S Z hS _ _ w4.1 )
theorem wX32_read_0 (S Z : Nat → Prop) {hx N : Nat} (hS : ∀ x, fe_mem lX32_read x = true → S x) (a0 : Nat) (a1 : Int64) (a3 : Int32) (M : FM) (w : WI Z hx N M) (z_a0 : Z a0) : pq (FX32_read_0 a0 a1 a3 M) (QA S Z hx N M) := by
  have hN := w.2.2.1
  have w0 := wk_r (S := S) w
  delta FX32_read_0 BX32_read_0
  refine pq_g (fun g1 => ?_)
  refine pq_b (wX32_find S Z (sb rfl hS) _ _ _ w0.1 z_a0) (fun r2 K3 => ?_)
  have w4 := wk_t w0 K3 hN
  refine pq_fi (fun _ => ?_) (fun _ => ?_)
  · exact q_tA hN w4 (wX32_read_29 S Z hS _ _ _ _ _ w4.1 z_a0)
  · refine pq_g (fun g5 => ?_)
    refine pq_b (wX32_isWhole S Z (sb rfl hS) _ _ _ _ w4.1 z_a0) (fun r6 K7 => ?_)
    have w8 := wk_t w4 K7 hN
    refine pq_fi (fun _ => ?_) (fun _ => ?_)
    · exact q_tA hN w8 (wX32_read_29 S Z hS _ _ _ _ _ w8.1 z_a0)
    · refine pq_g (fun g9 => ?_)
      have z10 := wk_z (i := 0) (f := 246) w8 rfl z_a0
      have f11 := sS_246 w8.1.1 g9
      refine pq_g (fun g12 => ?_)
      exact pq_s w8
theorem wX32_read (S Z : Nat → Prop) {hx N : Nat} (hS : ∀ x, fe_mem lX32_read x = true → S x) (a0 : Nat) (a1 : Int64) (a3 : Int32) (M : FM) (w : WI Z hx N M) (z_a0 : Z a0) : pq (FX32_read a0 a1 a3 M) (QA S Z hx N M) := wX32_read_0 S Z hS a0 a1 a3 M w z_a0
