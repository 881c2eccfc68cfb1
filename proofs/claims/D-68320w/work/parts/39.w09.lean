set_option maxRecDepth 100000
def lX99_tell : List Nat := [370]
theorem wX99_tell_0 (S Z : Nat → Prop) {hx N : Nat} (hS : ∀ x, fe_mem lX99_tell x = true → S x) (a0 : Nat) (a1 : Int64) (M : FM) (w : WI Z hx N M) (z_a0 : Z a0) : pq (FX99_tell_0 a0 a1 M) (QA S Z hx N M) := by
  have hN := w.2.2.1
  have w0 := wk_r (S := S) w
  delta FX99_tell_0 BX99_tell_0
  refine pq_g (fun g1 => ?_)
  extract_lets +onlyGivenNames M3
  have w2 : Wk S Z hx N M M3 := wk_fL hN w0 rfl rfl g1 z_a0 (Or.inr (hS 370 rfl))
  exact pq_s w2
theorem wX99_tell (S Z : Nat → Prop) {hx N : Nat} (hS : ∀ x, fe_mem lX99_tell x = true → S x) (a0 : Nat) (a1 : Int64) (M : FM) (w : WI Z hx N M) (z_a0 : Z a0) : pq (FX99_tell a0 a1 M) (QA S Z hx N M) := wX99_tell_0 S Z hS a0 a1 M w z_a0
def lX99_fromInteger : List Nat := [368, 371, 381, 382, 383, 384, 385, 1379]
theorem wX99_fromInteger_83 (S Z : Nat → Prop) {hx N : Nat} (hS : ∀ x, fe_mem lX99_fromInteger x = true → S x) (n : Nat) (a0 : Nat) (a4 : Int32) (a5 : Int32) (s0 : Nat) (s1 : Int64) (M : FM) (w : WI Z hx N M) (z_a0 : Z a0) (z_s0 : Z s0) (y_s0 : Sy S N M s0) : pq (FX99_fromInteger_83 n a0 a4 a5 s0 s1 M) (QA S Z hx N M) := by
  have hN := w.2.2.1
  have w0 := wk_r (S := S) w
  delta FX99_fromInteger_83 BX99_fromInteger_83
  refine pq_b (wX99_put S Z (sb rfl hS) n _ _ _ w0.1 z_s0 y_s0) (fun r1 K2 => ?_)
  have w3 := wk_t w0 K2 hN
  refine pq_g (fun g4 => ?_)
  extract_lets +onlyGivenNames M6
  have w5 : Wk S Z hx N M M6 := wk_fI hN w3 rfl rfl g4 z_a0 (Or.inr (hS 383 rfl))
  refine pq_g (fun g7 => ?_)
  refine pq_g (fun _ => ?_)
  extract_lets +onlyGivenNames M9
  have w8 : Wk S Z hx N M M9 := wk_fI hN w5 rfl rfl g7 z_a0 (Or.inr (hS 381 rfl))
  refine pq_g (fun g10 => ?_)
  refine pq_b (wX99_rounded S Z (sb rfl hS) n _ _ _ _ w8.1 z_a0) (fun r11 K12 => ?_)
  have w13 := wk_t w8 K12 hN
  exact pq_s w13
theorem wX99_fromInteger_59 (S Z : Nat → Prop) {hx N : Nat} (hS : ∀ x, fe_mem lX99_fromInteger x = true → S x) (n : Nat) (a0 : Nat) (a4 : Int32) (a5 : Int32) (a6 : Int64) (s0 : Nat) (s1 : Int32) (M : FM) (w : WI Z hx N M) (z_a0 : Z a0) (z_s0 : Z s0) : pq (FX99_fromInteger_59 n a0 a4 a5 a6 s0 s1 M) (QA S Z hx N M) := by
  have hN := w.2.2.1
  have w0 := wk_r (S := S) w
  delta FX99_fromInteger_59 BX99_fromInteger_59
  refine pq_g (fun g1 => ?_)
  extract_lets +onlyGivenNames M3
  have w2 : Wk S Z hx N M M3 := wk_fI hN w0 rfl rfl g1 z_s0 (Or.inr (hS 382 rfl))
  refine pq_g (fun g4 => ?_)
  have z5 := wk_z (i := 0) (f := 379) w2 rfl z_a0
  have f6 := sS_379 w2.1.1 g4
  refine pq_g (fun g7 => ?_)
  refine pq_fi (fun _ => ?_) (fun _ => ?_)
  · exact q_tA hN w2 (wX99_fromInteger_83 S Z hS n _ _ _ _ _ _ w2.1 z_a0 z5 (sy_s f6 (hS 1379 rfl)))
  · exact q_tA hN w2 (wX99_fromInteger_83 S Z hS n _ _ _ _ _ _ w2.1 z_a0 z5 (sy_s f6 (hS 1379 rfl)))
theorem wX99_fromInteger_58 (S Z : Nat → Prop) {hx N : Nat} (hS : ∀ x, fe_mem lX99_fromInteger x = true → S x) (n : Nat) (a0 : Nat) (a4 : Int32) (a5 : Int32) (a6 : Int64) (s0 : Nat) (M : FM) (w : WI Z hx N M) (z_a0 : Z a0) (z_s0 : Z s0) : pq (FX99_fromInteger_58 n a0 a4 a5 a6 s0 M) (QA S Z hx N M) := by
  have hN := w.2.2.1
  have w0 := wk_r (S := S) w
  delta FX99_fromInteger_58 BX99_fromInteger_58
  exact q_tA hN w0 (wX99_fromInteger_59 S Z hS n _ _ _ _ _ _ _ w0.1 z_a0 z_s0)
theorem wX99_fromInteger_24 (S Z : Nat → Prop) {hx N : Nat} (hS : ∀ x, fe_mem lX99_fromInteger x = true → S x) (n : Nat) (a0 : Nat) (a3 : Int32) (a4 : Int32) (a5 : Int32) (s0 : Int64) (M : FM) (w : WI Z hx N M) (z_a0 : Z a0) : pq (FX99_fromInteger_24 n a0 a3 a4 a5 s0 M) (QA S Z hx N M) := by
  have hN := w.2.2.1
  have w0 := wk_r (S := S) w
  delta FX99_fromInteger_24 BX99_fromInteger_24
  refine pq_fi (fun _ => ?_) (fun _ => ?_)
  · refine pq_g (fun g1 => ?_)
    refine pq_b (wX99_zero S Z (sb rfl hS) _ _ _ _ w0.1 z_a0) (fun r2 K3 => ?_)
    have w4 := wk_t w0 K3 hN
    exact pq_s w4
  · refine pq_fi (fun _ => ?_) (fun _ => ?_)
    · exact q_tA hN w0 (wX99_fromInteger_58 S Z hS n _ _ _ _ _ _ w0.1 z_a0 z_a0)
    · refine pq_fi (fun _ => ?_) (fun _ => ?_)
      · exact q_tA hN w0 (wX99_fromInteger_58 S Z hS n _ _ _ _ _ _ w0.1 z_a0 z_a0)
      · exact q_tA hN w0 (wX99_fromInteger_59 S Z hS n _ _ _ _ _ _ _ w0.1 z_a0 z_a0)
theorem wX99_fromInteger_0 (S Z : Nat → Prop) {hx N : Nat} (hS : ∀ x, fe_mem lX99_fromInteger x = true → S x) (n : Nat) (a0 : Nat) (a1 : Int64) (a3 : Int32) (a4 : Int32) (a5 : Int32) (M : FM) (w : WI Z hx N M) (z_a0 : Z a0) : pq (FX99_fromInteger_0 n a0 a1 a3 a4 a5 M) (QA S Z hx N M) := by
  have hN := w.2.2.1
  have w0 := wk_r (S := S) w
  delta FX99_fromInteger_0 BX99_fromInteger_0
  refine pq_fi (fun _ => ?_) (fun _ => ?_)
  · exact q_tA hN w0 (wX99_fromInteger_24 S Z hS n _ _ _ _ _ _ w0.1 z_a0)
  · refine pq_fi (fun _ => ?_) (fun _ => ?_)
    · exact q_tA hN w0 (wX99_fromInteger_24 S Z hS n _ _ _ _ _ _ w0.1 z_a0)
    · exact q_tA hN w0 (wX99_fromInteger_24 S Z hS n _ _ _ _ _ _ w0.1 z_a0)
theorem wX99_fromInteger (S Z : Nat → Prop) {hx N : Nat} (hS : ∀ x, fe_mem lX99_fromInteger x = true → S x) (n : Nat) (a0 : Nat) (a1 : Int64) (a3 : Int32) (a4 : Int32) (a5 : Int32) (M : FM) (w : WI Z hx N M) (z_a0 : Z a0) : pq (FX99_fromInteger n a0 a1 a3 a4 a5 M) (QA S Z hx N M) := wX99_fromInteger_0 S Z hS n a0 a1 a3 a4 a5 M w z_a0
def lX99_other : List Nat := [368, 371, 381, 382, 383, 384, 385, 1379]
theorem wX99_other_68 (S Z : Nat → Prop) {hx N : Nat} (hS : ∀ x, fe_mem lX99_other x = true → S x) (n : Nat) (s0 : Int64) (M : FM) (w : WI Z hx N M) : pq (FX99_other_68 n s0 M) (QA S Z hx N M) := by
  have hN := w.2.2.1
  have w0 := wk_r (S := S) w
  delta FX99_other_68 BX99_other_68
  exact pq_s w0
theorem wX99_other_0 (S Z : Nat → Prop) {hx N : Nat} (hS : ∀ x, fe_mem lX99_other x = true → S x) (n : Nat) (a0 : Nat) (a1 : Int32) (a2 : Int32) (M : FM) (w : WI Z hx N M) (z_a0 : Z a0) : pq (FX99_other_0 n a0 a1 a2 M) (QA S Z hx N M) := by
  have hN := w.2.2.1
  have w0 := wk_r (S := S) w
  delta FX99_other_0 BX99_other_0
  refine pq_g (fun g1 => ?_)
  refine pq_b (wX99_none S Z (sb rfl hS) n _ _ _ _ w0.1 z_a0) (fun r2 K3 => ?_)
  have w4 := wk_t w0 K3 hN
  refine pq_fi (fun _ => ?_) (fun _ => ?_)
  · refine pq_g (fun g5 => ?_)
    have z6 := wk_z (i := 0) (f := 375) w4 rfl z_a0
    have f7 := sS_375 w4.1.1 g5
    refine pq_g (fun g8 => ?_)
    refine pq_fi (fun _ => ?_) (fun _ => ?_)
    · refine pq_g (fun g9 => ?_)
      have z10 := wk_z (i := 0) (f := 379) w4 rfl z_a0
      have f11 := sS_379 w4.1.1 g9
      refine pq_g (fun g12 => ?_)
      have z13 := wk_z (i := 0) (f := 377) w4 rfl z_a0
      have f14 := sS_377 w4.1.1 g12
      refine pq_g (fun g15 => ?_)
      refine pq_b (wX99_put S Z (sb rfl hS) n _ _ _ w4.1 z10 (sy_s f11 (hS 1379 rfl))) (fun r16 K17 => ?_)
      have w18 := wk_t w4 K17 hN
      refine pq_g (fun g19 => ?_)
      have z20 := wk_z (i := 0) (f := 378) w18 rfl z_a0
      have f21 := sS_378 w18.1.1 g19
      refine pq_g (fun g22 => ?_)
      refine pq_g (fun g23 => ?_)
      extract_lets +onlyGivenNames M25
      have w24 : Wk S Z hx N M M25 := wk_fI hN w18 rfl rfl g23 z_a0 (Or.inr (hS 383 rfl))
      refine pq_g (fun g26 => ?_)
      have z27 := wk_z (i := 0) (f := 376) w24 rfl z_a0
      have f28 := sS_376 w24.1.1 g26
      refine pq_g (fun g29 => ?_)
      refine pq_g (fun g30 => ?_)
      extract_lets +onlyGivenNames M32
      have w31 : Wk S Z hx N M M32 := wk_fI hN w24 rfl rfl g30 z_a0 (Or.inr (hS 382 rfl))
      refine pq_g (fun g33 => ?_)
      refine pq_g (fun _ => ?_)
      extract_lets +onlyGivenNames M35
      have w34 : Wk S Z hx N M M35 := wk_fI hN w31 rfl rfl g33 z_a0 (Or.inr (hS 381 rfl))
      refine pq_g (fun g36 => ?_)
      refine pq_b (wX99_rounded S Z (sb rfl hS) n _ _ _ _ w34.1 z_a0) (fun r37 K38 => ?_)
      have w39 := wk_t w34 K38 hN
      exact pq_s w39
    · refine pq_g (fun g40 => ?_)
      have z41 := wk_z (i := 0) (f := 375) w4 rfl z_a0
      have f42 := sS_375 w4.1.1 g40
      refine pq_g (fun g43 => ?_)
      refine pq_fi (fun _ => ?_) (fun _ => ?_)
      · refine pq_g (fun g44 => ?_)
        have z45 := wk_z (i := 0) (f := 376) w4 rfl z_a0
        have f46 := sS_376 w4.1.1 g44
        refine pq_g (fun g47 => ?_)
        refine pq_g (fun g48 => ?_)
        refine pq_b (wX99_zero S Z (sb rfl hS) _ _ _ _ w4.1 z_a0) (fun r49 K50 => ?_)
        have w51 := wk_t w4 K50 hN
        exact q_tA hN w51 (wX99_other_68 S Z hS n _ _ w51.1 )
      · refine pq_g (fun g52 => ?_)
        have z53 := wk_z (i := 0) (f := 376) w4 rfl z_a0
        have f54 := sS_376 w4.1.1 g52
        refine pq_g (fun g55 => ?_)
        refine pq_g (fun g56 => ?_)
        have z57 := wk_z (i := 0) (f := 374) w4 rfl z_a0
        have f58 := sS_374 w4.1.1 g56
        refine pq_g (fun g59 => ?_)
        refine pq_b (wX99_pack S Z (sb rfl hS) _ _ _ _ _ w4.1 ) (fun r60 K61 => ?_)
        have w62 := wk_t w4 K61 hN
        exact q_tA hN w62 (wX99_other_68 S Z hS n _ _ w62.1 )
  · exact pq_s w4
theorem wX99_other (S Z : Nat → Prop) {hx N : Nat} (hS : ∀ x, fe_mem lX99_other x = true → S x) (n : Nat) (a0 : Nat) (a1 : Int32) (a2 : Int32) (M : FM) (w : WI Z hx N M) (z_a0 : Z a0) : pq (FX99_other n a0 a1 a2 M) (QA S Z hx N M) := wX99_other_0 S Z hS n a0 a1 a2 M w z_a0
def lX99_arithmetic : List Nat := [368, 370, 371, 381, 382, 383, 384, 385, 1367, 1375, 1376, 1377, 1378, 1379, 1380]
theorem wX99_arithmetic_186 (S Z : Nat → Prop) {hx N : Nat} (hS : ∀ x, fe_mem lX99_arithmetic x = true → S x) (n : Nat) (s0 : Int32) (M : FM) (w : WI Z hx N M) : pq (FX99_arithmetic_186 n s0 M) (QA S Z hx N M) := by
  have hN := w.2.2.1
  have w0 := wk_r (S := S) w
  delta FX99_arithmetic_186 BX99_arithmetic_186
  exact pq_s w0
theorem wX99_arithmetic_94 (S Z : Nat → Prop) {hx N : Nat} (hS : ∀ x, fe_mem lX99_arithmetic x = true → S x) (n : Nat) (s0 : Int32) (M : FM) (w : WI Z hx N M) : pq (FX99_arithmetic_94 n s0 M) (QA S Z hx N M) := by
  have hN := w.2.2.1
  have w0 := wk_r (S := S) w
  delta FX99_arithmetic_94 BX99_arithmetic_94
  exact pq_s w0
theorem wX99_arithmetic_0 (S Z : Nat → Prop) {hx N : Nat} (hS : ∀ x, fe_mem lX99_arithmetic x = true → S x) (n : Nat) (a0 : Nat) (a1 : Int32) (a2 : Int32) (a3 : Int32) (a4 : Int32) (a5 : Int32) (a6 : Int32) (a7 : Int64) (M : FM) (w : WI Z hx N M) (z_a0 : Z a0) : pq (FX99_arithmetic_0 n a0 a1 a2 a3 a4 a5 a6 a7 M) (QA S Z hx N M) := by
  have hN := w.2.2.1
  have w0 := wk_r (S := S) w
  delta FX99_arithmetic_0 BX99_arithmetic_0
  refine pq_fi (fun _ => ?_) (fun _ => ?_)
  · refine pq_fi (fun _ => ?_) (fun _ => ?_)
    · refine pq_g (fun g1 => ?_)
      refine pq_b (wX99_multiplied S Z (sb rfl hS) n _ _ _ _ w0.1 z_a0) (fun r2 K3 => ?_)
      have w4 := wk_t w0 K3 hN
      refine pq_g (fun g5 => ?_)
      refine pq_b (wX99_write S Z (sb rfl hS) _ _ _ _ _ w4.1 z_a0) (fun r6 K7 => ?_)
      have w8 := wk_t w4 K7 hN
      exact pq_s w8
    · refine pq_fi (fun _ => ?_) (fun _ => ?_)
      · refine pq_g (fun g9 => ?_)
        refine pq_b (wX99_divided S Z (sb rfl hS) n _ _ _ _ w0.1 z_a0) (fun r10 K11 => ?_)
        have w12 := wk_t w0 K11 hN
        refine pq_g (fun g13 => ?_)
        refine pq_b (wX99_write S Z (sb rfl hS) _ _ _ _ _ w12.1 z_a0) (fun r14 K15 => ?_)
        have w16 := wk_t w12 K15 hN
        exact pq_s w16
      · refine pq_fi (fun _ => ?_) (fun _ => ?_)
        · refine pq_fi (fun _ => ?_) (fun _ => ?_)
          · refine pq_g (fun g17 => ?_)
            refine pq_b (wX99_root S Z (sb rfl hS) n _ _ _ _ w0.1 z_a0) (fun r18 K19 => ?_)
            have w20 := wk_t w0 K19 hN
            refine pq_g (fun g21 => ?_)
            refine pq_b (wX99_write S Z (sb rfl hS) _ _ _ _ _ w20.1 z_a0) (fun r22 K23 => ?_)
            have w24 := wk_t w20 K23 hN
            exact q_tA hN w24 (wX99_arithmetic_94 S Z hS n _ _ w24.1 )
          · exact q_tA hN w0 (wX99_arithmetic_94 S Z hS n _ _ w0.1 )
        · refine pq_fi (fun _ => ?_) (fun _ => ?_)
          · refine pq_fi (fun _ => ?_) (fun _ => ?_)
            · refine pq_g (fun g25 => ?_)
              refine pq_b (wX99_read S Z (sb rfl hS) _ _ _ _ _ w0.1 z_a0) (fun r26 K27 => ?_)
              have w28 := wk_t w0 K27 hN
              refine pq_g (fun g29 => ?_)
              refine pq_b (wX99_other S Z (sb rfl hS) n _ _ _ _ w28.1 z_a0) (fun r30 K31 => ?_)
              have w32 := wk_t w28 K31 hN
              refine pq_g (fun g33 => ?_)
              refine pq_b (wX99_write S Z (sb rfl hS) _ _ _ _ _ w32.1 z_a0) (fun r34 K35 => ?_)
              have w36 := wk_t w32 K35 hN
              exact pq_s w36
            · exact pq_s w0
          · refine pq_fi (fun _ => ?_) (fun _ => ?_)
            · refine pq_fi (fun _ => ?_) (fun _ => ?_)
              · refine pq_g (fun g37 => ?_)
                refine pq_b (wX99_toInteger S Z (sb rfl hS) n _ _ _ _ w0.1 z_a0) (fun r38 K39 => ?_)
                have w40 := wk_t w0 K39 hN
                refine pq_g (fun g41 => ?_)
                refine pq_b (wX99_tell S Z (sb rfl hS) _ _ _ w40.1 z_a0) (fun r42 K43 => ?_)
                have w44 := wk_t w40 K43 hN
                exact q_tA hN w44 (wX99_arithmetic_186 S Z hS n _ _ w44.1 )
              · refine pq_g (fun g45 => ?_)
                refine pq_b (wX99_fromInteger S Z (sb rfl hS) n _ _ _ _ _ _ w0.1 z_a0) (fun r46 K47 => ?_)
                have w48 := wk_t w0 K47 hN
                refine pq_g (fun g49 => ?_)
                refine pq_b (wX99_write S Z (sb rfl hS) _ _ _ _ _ w48.1 z_a0) (fun r50 K51 => ?_)
                have w52 := wk_t w48 K51 hN
                exact q_tA hN w52 (wX99_arithmetic_186 S Z hS n _ _ w52.1 )
            · exact pq_s w0
  · refine pq_g (fun g53 => ?_)
    refine pq_b (wX99_added S Z (sb rfl hS) n _ _ _ _ _ w0.1 z_a0) (fun r54 K55 => ?_)
    have w56 := wk_t w0 K55 hN
    refine pq_g (fun g57 => ?_)
    refine pq_b (wX99_write S Z (sb rfl hS) _ _ _ _ _ w56.1 z_a0) (fun r58 K59 => ?_)
    have w60 := wk_t w56 K59 hN
    exact pq_s w60
theorem wX99_arithmetic (S Z : Nat → Prop) {hx N : Nat} (hS : ∀ x, fe_mem lX99_arithmetic x = true → S x) (n : Nat) (a0 : Nat) (a1 : Int32) (a2 : Int32) (a3 : Int32) (a4 : Int32) (a5 : Int32) (a6 : Int32) (a7 : Int64) (M : FM) (w : WI Z hx N M) (z_a0 : Z a0) : pq (FX99_arithmetic n a0 a1 a2 a3 a4 a5 a6 a7 M) (QA S Z hx N M) := wX99_arithmetic_0 S Z hS n a0 a1 a2 a3 a4 a5 a6 a7 M w z_a0
def lX99_order : List Nat := []
theorem wX99_order_142 (S Z : Nat → Prop) {hx N : Nat} (hS : ∀ x, fe_mem lX99_order x = true → S x) (s0 : Int32) (M : FM) (w : WI Z hx N M) : pq (FX99_order_142 s0 M) (QA S Z hx N M) := by
  have hN := w.2.2.1
  have w0 := wk_r (S := S) w
  delta FX99_order_142 BX99_order_142
  exact pq_s w0
theorem wX99_order_115 (S Z : Nat → Prop) {hx N : Nat} (hS : ∀ x, fe_mem lX99_order x = true → S x) (a7 : Int64) (s0 : Int64) (M : FM) (w : WI Z hx N M) : pq (FX99_order_115 a7 s0 M) (QA S Z hx N M) := by
  have hN := w.2.2.1
  have w0 := wk_r (S := S) w
  delta FX99_order_115 BX99_order_115
  refine pq_fi (fun _ => ?_) (fun _ => ?_)
  · refine pq_fi (fun _ => ?_) (fun _ => ?_)
    · exact q_tA hN w0 (wX99_order_142 S Z hS _ _ w0.1 )
    · exact q_tA hN w0 (wX99_order_142 S Z hS _ _ w0.1 )
  · exact q_tA hN w0 (wX99_order_142 S Z hS _ _ w0.1 )
theorem wX99_order_94 (S Z : Nat → Prop) {hx N : Nat} (hS : ∀ x, fe_mem lX99_order x = true → S x) (a0 : Nat) (a9 : Int64) (s0 : Int64) (M : FM) (w : WI Z hx N M) (z_a0 : Z a0) : pq (FX99_order_94 a0 a9 s0 M) (QA S Z hx N M) := by
  have hN := w.2.2.1
  have w0 := wk_r (S := S) w
  delta FX99_order_94 BX99_order_94
  refine pq_g (fun g1 => ?_)
  have z2 := wk_z (i := 0) (f := 376) w0 rfl z_a0
  have f3 := sS_376 w0.1.1 g1
  refine pq_g (fun g4 => ?_)
  refine pq_fi (fun _ => ?_) (fun _ => ?_)
  · exact q_tA hN w0 (wX99_order_115 S Z hS _ _ _ w0.1 )
  · exact q_tA hN w0 (wX99_order_115 S Z hS _ _ _ w0.1 )
theorem wX99_order_75 (S Z : Nat → Prop) {hx N : Nat} (hS : ∀ x, fe_mem lX99_order x = true → S x) (a0 : Nat) (a7 : Int64) (a9 : Int64) (M : FM) (w : WI Z hx N M) (z_a0 : Z a0) : pq (FX99_order_75 a0 a7 a9 M) (QA S Z hx N M) := by
  have hN := w.2.2.1
  have w0 := wk_r (S := S) w
  delta FX99_order_75 BX99_order_75
  refine pq_g (fun g1 => ?_)
  have z2 := wk_z (i := 0) (f := 376) w0 rfl z_a0
  have f3 := sS_376 w0.1.1 g1
  refine pq_g (fun g4 => ?_)
  refine pq_fi (fun _ => ?_) (fun _ => ?_)
  · exact q_tA hN w0 (wX99_order_94 S Z hS _ _ _ _ w0.1 z_a0)
  · exact q_tA hN w0 (wX99_order_94 S Z hS _ _ _ _ w0.1 z_a0)
theorem wX99_order_74 (S Z : Nat → Prop) {hx N : Nat} (hS : ∀ x, fe_mem lX99_order x = true → S x) (s0 : Int32) (M : FM) (w : WI Z hx N M) : pq (FX99_order_74 s0 M) (QA S Z hx N M) := by
  have hN := w.2.2.1
  have w0 := wk_r (S := S) w
  delta FX99_order_74 BX99_order_74
  exact pq_s w0
theorem wX99_order_14 (S Z : Nat → Prop) {hx N : Nat} (hS : ∀ x, fe_mem lX99_order x = true → S x) (a0 : Nat) (a1 : Int32) (a2 : Int32) (a3 : Int32) (a4 : Int32) (s0 : Int64) (M : FM) (w : WI Z hx N M) (z_a0 : Z a0) : pq (FX99_order_14 a0 a1 a2 a3 a4 s0 M) (QA S Z hx N M) := by
  have hN := w.2.2.1
  have w0 := wk_r (S := S) w
  delta FX99_order_14 BX99_order_14
  refine pq_g (fun g1 => ?_)
  refine pq_b (wX99_bitsOf S Z (sb rfl hS) _ _ _ _ w0.1 z_a0) (fun r2 K3 => ?_)
  have w4 := wk_t w0 K3 hN
  refine pq_g (fun g5 => ?_)
  refine pq_b (wX99_bitsOf S Z (sb rfl hS) _ _ _ _ w4.1 z_a0) (fun r6 K7 => ?_)
  have w8 := wk_t w4 K7 hN
  refine pq_fi (fun _ => ?_) (fun _ => ?_)
  · refine pq_fi (fun _ => ?_) (fun _ => ?_)
    · refine pq_fi (fun _ => ?_) (fun _ => ?_)
      · exact q_tA hN w8 (wX99_order_74 S Z hS _ _ w8.1 )
      · refine pq_g (fun g9 => ?_)
        have z10 := wk_z (i := 0) (f := 376) w8 rfl z_a0
        have f11 := sS_376 w8.1.1 g9
        refine pq_g (fun g12 => ?_)
        refine pq_g (fun g13 => ?_)
        have z14 := wk_z (i := 0) (f := 376) w8 rfl z_a0
        have f15 := sS_376 w8.1.1 g13
        refine pq_g (fun g16 => ?_)
        exact q_tA hN w8 (wX99_order_74 S Z hS _ _ w8.1 )
    · exact q_tA hN w8 (wX99_order_75 S Z hS _ _ _ _ w8.1 z_a0)
  · exact q_tA hN w8 (wX99_order_75 S Z hS _ _ _ _ w8.1 z_a0)
theorem wX99_order_0 (S Z : Nat → Prop) {hx N : Nat} (hS : ∀ x, fe_mem lX99_order x = true → S x) (a0 : Nat) (a1 : Int32) (a2 : Int32) (a3 : Int32) (a4 : Int32) (M : FM) (w : WI Z hx N M) (z_a0 : Z a0) : pq (FX99_order_0 a0 a1 a2 a3 a4 M) (QA S Z hx N M) := by
  have hN := w.2.2.1
  have w0 := wk_r (S := S) w
  delta FX99_order_0 BX99_order_0
  refine pq_fi (fun _ => ?_) (fun _ => ?_)
  · exact q_tA hN w0 (wX99_order_14 S Z hS _ _ _ _ _ _ _ w0.1 z_a0)
  · exact q_tA hN w0 (wX99_order_14 S Z hS _ _ _ _ _ _ _ w0.1 z_a0)
theorem wX99_order (S Z : Nat → Prop) {hx N : Nat} (hS : ∀ x, fe_mem lX99_order x = true → S x) (a0 : Nat) (a1 : Int32) (a2 : Int32) (a3 : Int32) (a4 : Int32) (M : FM) (w : WI Z hx N M) (z_a0 : Z a0) : pq (FX99_order a0 a1 a2 a3 a4 M) (QA S Z hx N M) := wX99_order_0 S Z hS a0 a1 a2 a3 a4 M w z_a0
def lX99_extreme : List Nat := [368, 371, 1367]
theorem wX99_extreme_123 (S Z : Nat → Prop) {hx N : Nat} (hS : ∀ x, fe_mem lX99_extreme x = true → S x) (a4 : Int32) (s0 : Nat) (s1 : Int32) (s2 : Nat) (s3 : Int32) (M : FM) (w : WI Z hx N M) (z_s0 : Z s0) (z_s2 : Z s2) : pq (FX99_extreme_123 a4 s0 s1 s2 s3 M) (QA S Z hx N M) := by
  have hN := w.2.2.1
  have w0 := wk_r (S := S) w
  delta FX99_extreme_123 BX99_extreme_123
  refine pq_g (fun g1 => ?_)
  refine pq_b (wX99_bitsOf S Z (sb rfl hS) _ _ _ _ w0.1 z_s2) (fun r2 K3 => ?_)
  have w4 := wk_t w0 K3 hN
  refine pq_g (fun g5 => ?_)
  refine pq_b (wX99_write S Z (sb rfl hS) _ _ _ _ _ w4.1 z_s0) (fun r6 K7 => ?_)
  have w8 := wk_t w4 K7 hN
  exact pq_s w8
theorem wX99_extreme_108 (S Z : Nat → Prop) {hx N : Nat} (hS : ∀ x, fe_mem lX99_extreme x = true → S x) (a0 : Nat) (a1 : Int32) (a2 : Int32) (a3 : Int32) (a4 : Int32) (s0 : Int32) (M : FM) (w : WI Z hx N M) (z_a0 : Z a0) : pq (FX99_extreme_108 a0 a1 a2 a3 a4 s0 M) (QA S Z hx N M) := by
  have hN := w.2.2.1
  have w0 := wk_r (S := S) w
  delta FX99_extreme_108 BX99_extreme_108
  refine pq_fi (fun _ => ?_) (fun _ => ?_)
  · exact q_tA hN w0 (wX99_extreme_123 S Z hS _ _ _ _ _ _ w0.1 z_a0 z_a0)
  · exact q_tA hN w0 (wX99_extreme_123 S Z hS _ _ _ _ _ _ w0.1 z_a0 z_a0)
theorem wX99_extreme_107 (S Z : Nat → Prop) {hx N : Nat} (hS : ∀ x, fe_mem lX99_extreme x = true → S x) (a0 : Nat) (a1 : Int32) (a2 : Int32) (a3 : Int32) (a4 : Int32) (M : FM) (w : WI Z hx N M) (z_a0 : Z a0) : pq (FX99_extreme_107 a0 a1 a2 a3 a4 M) (QA S Z hx N M) := by
  have hN := w.2.2.1
  have w0 := wk_r (S := S) w
  delta FX99_extreme_107 BX99_extreme_107
  exact q_tA hN w0 (wX99_extreme_108 S Z hS _ _ _ _ _ _ _ w0.1 z_a0)
theorem wX99_extreme_103 (S Z : Nat → Prop) {hx N : Nat} (hS : ∀ x, fe_mem lX99_extreme x = true → S x) (a0 : Nat) (a1 : Int32) (a2 : Int32) (a3 : Int32) (a4 : Int32) (M : FM) (w : WI Z hx N M) (z_a0 : Z a0) : pq (FX99_extreme_103 a0 a1 a2 a3 a4 M) (QA S Z hx N M) := by
  have hN := w.2.2.1
  have w0 := wk_r (S := S) w
  delta FX99_extreme_103 BX99_extreme_103
  exact q_tA hN w0 (wX99_extreme_108 S Z hS _ _ _ _ _ _ _ w0.1 z_a0)
theorem wX99_extreme_55 (S Z : Nat → Prop) {hx N : Nat} (hS : ∀ x, fe_mem lX99_extreme x = true → S x) (a0 : Nat) (a1 : Int32) (a2 : Int32) (a3 : Int32) (a4 : Int32) (a5 : Int32) (M : FM) (w : WI Z hx N M) (z_a0 : Z a0) : pq (FX99_extreme_55 a0 a1 a2 a3 a4 a5 M) (QA S Z hx N M) := by
  have hN := w.2.2.1
  have w0 := wk_r (S := S) w
  delta FX99_extreme_55 BX99_extreme_55
  refine pq_g (fun g1 => ?_)
  refine pq_b (wX99_isNone S Z (sb rfl hS) _ _ _ w0.1 z_a0) (fun r2 K3 => ?_)
  have w4 := wk_t w0 K3 hN
  refine pq_fi (fun _ => ?_) (fun _ => ?_)
  · refine pq_g (fun g5 => ?_)
    refine pq_b (wX99_isNone S Z (sb rfl hS) _ _ _ w4.1 z_a0) (fun r6 K7 => ?_)
    have w8 := wk_t w4 K7 hN
    refine pq_fi (fun _ => ?_) (fun _ => ?_)
    · refine pq_fi (fun _ => ?_) (fun _ => ?_)
      · refine pq_g (fun g9 => ?_)
        refine pq_b (wX99_order S Z (sb rfl hS) _ _ _ _ _ _ w8.1 z_a0) (fun r10 K11 => ?_)
        have w12 := wk_t w8 K11 hN
        refine pq_fi (fun _ => ?_) (fun _ => ?_)
        · exact q_tA hN w12 (wX99_extreme_107 S Z hS _ _ _ _ _ _ w12.1 z_a0)
        · exact q_tA hN w12 (wX99_extreme_103 S Z hS _ _ _ _ _ _ w12.1 z_a0)
      · refine pq_g (fun g13 => ?_)
        refine pq_b (wX99_order S Z (sb rfl hS) _ _ _ _ _ _ w8.1 z_a0) (fun r14 K15 => ?_)
        have w16 := wk_t w8 K15 hN
        refine pq_fi (fun _ => ?_) (fun _ => ?_)
        · exact q_tA hN w16 (wX99_extreme_107 S Z hS _ _ _ _ _ _ w16.1 z_a0)
        · exact q_tA hN w16 (wX99_extreme_103 S Z hS _ _ _ _ _ _ w16.1 z_a0)
    · exact q_tA hN w8 (wX99_extreme_107 S Z hS _ _ _ _ _ _ w8.1 z_a0)
  · exact q_tA hN w4 (wX99_extreme_103 S Z hS _ _ _ _ _ _ w4.1 z_a0)
theorem wX99_extreme_26 (S Z : Nat → Prop) {hx N : Nat} (hS : ∀ x, fe_mem lX99_extreme x = true → S x) (a0 : Nat) (a1 : Int32) (a2 : Int32) (a3 : Int32) (a4 : Int32) (a5 : Int32) (M : FM) (w : WI Z hx N M) (z_a0 : Z a0) : pq (FX99_extreme_26 a0 a1 a2 a3 a4 a5 M) (QA S Z hx N M) := by
  have hN := w.2.2.1
  have w0 := wk_r (S := S) w
  delta FX99_extreme_26 BX99_extreme_26
  refine pq_g (fun g1 => ?_)
  refine pq_b (wX99_isNone S Z (sb rfl hS) _ _ _ w0.1 z_a0) (fun r2 K3 => ?_)
  have w4 := wk_t w0 K3 hN
  refine pq_fi (fun _ => ?_) (fun _ => ?_)
  · exact q_tA hN w4 (wX99_extreme_55 S Z hS _ _ _ _ _ _ _ w4.1 z_a0)
  · refine pq_g (fun g5 => ?_)
    refine pq_b (wX99_isNone S Z (sb rfl hS) _ _ _ w4.1 z_a0) (fun r6 K7 => ?_)
    have w8 := wk_t w4 K7 hN
    refine pq_fi (fun _ => ?_) (fun _ => ?_)
    · exact q_tA hN w8 (wX99_extreme_55 S Z hS _ _ _ _ _ _ _ w8.1 z_a0)
    · refine pq_b (wX99_quiet S Z (sb rfl hS) _ _ w8.1 ) (fun r9 K10 => ?_)
      have w11 := wk_t w8 K10 hN
      refine pq_g (fun g12 => ?_)
      refine pq_b (wX99_write S Z (sb rfl hS) _ _ _ _ _ w11.1 z_a0) (fun r13 K14 => ?_)
      have w15 := wk_t w11 K14 hN
      exact pq_s w15
theorem wX99_extreme_20 (S Z : Nat → Prop) {hx N : Nat} (hS : ∀ x, fe_mem lX99_extreme x = true → S x) (a0 : Nat) (a1 : Int32) (a2 : Int32) (a3 : Int32) (a4 : Int32) (a5 : Int32) (M : FM) (w : WI Z hx N M) (z_a0 : Z a0) : pq (FX99_extreme_20 a0 a1 a2 a3 a4 a5 M) (QA S Z hx N M) := by
  have hN := w.2.2.1
  have w0 := wk_r (S := S) w
  delta FX99_extreme_20 BX99_extreme_20
  refine pq_g (fun g1 => ?_)
  refine pq_b (wX99_raiseFlags S Z (sb rfl hS) _ _ _ w0.1 z_a0) (fun r2 K3 => ?_)
  have w4 := wk_t w0 K3 hN
  exact q_tA hN w4 (wX99_extreme_26 S Z hS _ _ _ _ _ _ _ w4.1 z_a0)
theorem wX99_extreme_0 (S Z : Nat → Prop) {hx N : Nat} (hS : ∀ x, fe_mem lX99_extreme x = true → S x) (a0 : Nat) (a1 : Int32) (a2 : Int32) (a3 : Int32) (a4 : Int32) (a5 : Int32) (M : FM) (w : WI Z hx N M) (z_a0 : Z a0) : pq (FX99_extreme_0 a0 a1 a2 a3 a4 a5 M) (QA S Z hx N M) := by
  have hN := w.2.2.1
  have w0 := wk_r (S := S) w
  delta FX99_extreme_0 BX99_extreme_0
  refine pq_g (fun g1 => ?_)
  have z2 := wk_z (i := 0) (f := 375) w0 rfl z_a0
  have f3 := sS_375 w0.1.1 g1
  refine pq_g (fun g4 => ?_)
  refine pq_fi (fun _ => ?_) (fun _ => ?_)
  · exact q_tA hN w0 (wX99_extreme_20 S Z hS _ _ _ _ _ _ _ w0.1 z_a0)
  · refine pq_g (fun g5 => ?_)
    have z6 := wk_z (i := 0) (f := 375) w0 rfl z_a0
    have f7 := sS_375 w0.1.1 g5
    refine pq_g (fun g8 => ?_)
    refine pq_fi (fun _ => ?_) (fun _ => ?_)
    · exact q_tA hN w0 (wX99_extreme_20 S Z hS _ _ _ _ _ _ _ w0.1 z_a0)
    · exact q_tA hN w0 (wX99_extreme_26 S Z hS _ _ _ _ _ _ _ w0.1 z_a0)
theorem wX99_extreme (S Z : Nat → Prop) {hx N : Nat} (hS : ∀ x, fe_mem lX99_extreme x = true → S x) (a0 : Nat) (a1 : Int32) (a2 : Int32) (a3 : Int32) (a4 : Int32) (a5 : Int32) (M : FM) (w : WI Z hx N M) (z_a0 : Z a0) : pq (FX99_extreme a0 a1 a2 a3 a4 a5 M) (QA S Z hx N M) := wX99_extreme_0 S Z hS a0 a1 a2 a3 a4 a5 M w z_a0
def lX99_compared : List Nat := [368, 370, 371]
theorem wX99_compared_124 (S Z : Nat → Prop) {hx N : Nat} (hS : ∀ x, fe_mem lX99_compared x = true → S x) (s0 : Nat) (s1 : Int64) (M : FM) (w : WI Z hx N M) (z_s0 : Z s0) : pq (FX99_compared_124 s0 s1 M) (QA S Z hx N M) := by
  have hN := w.2.2.1
  have w0 := wk_r (S := S) w
  delta FX99_compared_124 BX99_compared_124
  refine pq_g (fun g1 => ?_)
  refine pq_b (wX99_tell S Z (sb rfl hS) _ _ _ w0.1 z_s0) (fun r2 K3 => ?_)
  have w4 := wk_t w0 K3 hN
  exact pq_s w4
theorem wX99_compared_111 (S Z : Nat → Prop) {hx N : Nat} (hS : ∀ x, fe_mem lX99_compared x = true → S x) (a0 : Nat) (s0 : Int32) (M : FM) (w : WI Z hx N M) (z_a0 : Z a0) : pq (FX99_compared_111 a0 s0 M) (QA S Z hx N M) := by
  have hN := w.2.2.1
  have w0 := wk_r (S := S) w
  delta FX99_compared_111 BX99_compared_111
  refine pq_fi (fun _ => ?_) (fun _ => ?_)
  · exact q_tA hN w0 (wX99_compared_124 S Z hS _ _ _ w0.1 z_a0)
  · exact q_tA hN w0 (wX99_compared_124 S Z hS _ _ _ w0.1 z_a0)
theorem wX99_compared_48 (S Z : Nat → Prop) {hx N : Nat} (hS : ∀ x, fe_mem lX99_compared x = true → S x) (a0 : Nat) (M : FM) (w : WI Z hx N M) (z_a0 : Z a0) : pq (FX99_compared_48 a0 M) (QA S Z hx N M) := by
  have hN := w.2.2.1
  have w0 := wk_r (S := S) w
  delta FX99_compared_48 BX99_compared_48
  refine pq_g (fun g1 => ?_)
  refine pq_b (wX99_tell S Z (sb rfl hS) _ _ _ w0.1 z_a0) (fun r2 K3 => ?_)
  have w4 := wk_t w0 K3 hN
  exact pq_s w4
theorem wX99_compared_42 (S Z : Nat → Prop) {hx N : Nat} (hS : ∀ x, fe_mem lX99_compared x = true → S x) (a0 : Nat) (M : FM) (w : WI Z hx N M) (z_a0 : Z a0) : pq (FX99_compared_42 a0 M) (QA S Z hx N M) := by
  have hN := w.2.2.1
  have w0 := wk_r (S := S) w
  delta FX99_compared_42 BX99_compared_42
  refine pq_g (fun g1 => ?_)
  refine pq_b (wX99_raiseFlags S Z (sb rfl hS) _ _ _ w0.1 z_a0) (fun r2 K3 => ?_)
  have w4 := wk_t w0 K3 hN
  exact q_tA hN w4 (wX99_compared_48 S Z hS _ _ w4.1 z_a0)
theorem wX99_compared_16 (S Z : Nat → Prop) {hx N : Nat} (hS : ∀ x, fe_mem lX99_compared x = true → S x) (a0 : Nat) (a4 : Int32) (M : FM) (w : WI Z hx N M) (z_a0 : Z a0) : pq (FX99_compared_16 a0 a4 M) (QA S Z hx N M) := by
  have hN := w.2.2.1
  have w0 := wk_r (S := S) w
  delta FX99_compared_16 BX99_compared_16
  refine pq_fi (fun _ => ?_) (fun _ => ?_)
  · exact q_tA hN w0 (wX99_compared_42 S Z hS _ _ w0.1 z_a0)
  · refine pq_g (fun g1 => ?_)
    have z2 := wk_z (i := 0) (f := 375) w0 rfl z_a0
    have f3 := sS_375 w0.1.1 g1
    refine pq_g (fun g4 => ?_)
    refine pq_fi (fun _ => ?_) (fun _ => ?_)
    · exact q_tA hN w0 (wX99_compared_42 S Z hS _ _ w0.1 z_a0)
    · refine pq_g (fun g5 => ?_)
      have z6 := wk_z (i := 0) (f := 375) w0 rfl z_a0
      have f7 := sS_375 w0.1.1 g5
      refine pq_g (fun g8 => ?_)
      refine pq_fi (fun _ => ?_) (fun _ => ?_)
      · exact q_tA hN w0 (wX99_compared_42 S Z hS _ _ w0.1 z_a0)
      · exact q_tA hN w0 (wX99_compared_48 S Z hS _ _ w0.1 z_a0)
theorem wX99_compared_0 (S Z : Nat → Prop) {hx N : Nat} (hS : ∀ x, fe_mem lX99_compared x = true → S x) (a0 : Nat) (a1 : Int32) (a2 : Int32) (a3 : Int32) (a4 : Int32) (M : FM) (w : WI Z hx N M) (z_a0 : Z a0) : pq (FX99_compared_0 a0 a1 a2 a3 a4 M) (QA S Z hx N M) := by
  have hN := w.2.2.1
  have w0 := wk_r (S := S) w
  delta FX99_compared_0 BX99_compared_0
  refine pq_g (fun g1 => ?_)
  refine pq_b (wX99_isNone S Z (sb rfl hS) _ _ _ w0.1 z_a0) (fun r2 K3 => ?_)
  have w4 := wk_t w0 K3 hN
  refine pq_fi (fun _ => ?_) (fun _ => ?_)
  · refine pq_g (fun g5 => ?_)
    refine pq_b (wX99_isNone S Z (sb rfl hS) _ _ _ w4.1 z_a0) (fun r6 K7 => ?_)
    have w8 := wk_t w4 K7 hN
    refine pq_fi (fun _ => ?_) (fun _ => ?_)
    · refine pq_g (fun g9 => ?_)
      refine pq_b (wX99_order S Z (sb rfl hS) _ _ _ _ _ _ w8.1 z_a0) (fun r10 K11 => ?_)
      have w12 := wk_t w8 K11 hN
      refine pq_fi (fun _ => ?_) (fun _ => ?_)
      · refine pq_fi (fun _ => ?_) (fun _ => ?_)
        · exact q_tA hN w12 (wX99_compared_111 S Z hS _ _ _ w12.1 z_a0)
        · exact q_tA hN w12 (wX99_compared_111 S Z hS _ _ _ w12.1 z_a0)
      · refine pq_fi (fun _ => ?_) (fun _ => ?_)
        · refine pq_fi (fun _ => ?_) (fun _ => ?_)
          · exact q_tA hN w12 (wX99_compared_111 S Z hS _ _ _ w12.1 z_a0)
          · exact q_tA hN w12 (wX99_compared_111 S Z hS _ _ _ w12.1 z_a0)
        · refine pq_fi (fun _ => ?_) (fun _ => ?_)
          · exact q_tA hN w12 (wX99_compared_111 S Z hS _ _ _ w12.1 z_a0)
          · exact q_tA hN w12 (wX99_compared_111 S Z hS _ _ _ w12.1 z_a0)
    · exact q_tA hN w8 (wX99_compared_16 S Z hS _ _ _ w8.1 z_a0)
  · exact q_tA hN w4 (wX99_compared_16 S Z hS _ _ _ w4.1 z_a0)
theorem wX99_compared (S Z : Nat → Prop) {hx N : Nat} (hS : ∀ x, fe_mem lX99_compared x = true → S x) (a0 : Nat) (a1 : Int32) (a2 : Int32) (a3 : Int32) (a4 : Int32) (M : FM) (w : WI Z hx N M) (z_a0 : Z a0) : pq (FX99_compared a0 a1 a2 a3 a4 M) (QA S Z hx N M) := wX99_compared_0 S Z hS a0 a1 a2 a3 a4 M w z_a0
def lX99_classified : List Nat := [370]
theorem wX99_classified_115 (S Z : Nat → Prop) {hx N : Nat} (hS : ∀ x, fe_mem lX99_classified x = true → S x) (s0 : Nat) (s1 : Int64) (M : FM) (w : WI Z hx N M) (z_s0 : Z s0) : pq (FX99_classified_115 s0 s1 M) (QA S Z hx N M) := by
  have hN := w.2.2.1
  have w0 := wk_r (S := S) w
  delta FX99_classified_115 BX99_classified_115
  refine pq_g (fun g1 => ?_)
  refine pq_b (wX99_tell S Z (sb rfl hS) _ _ _ w0.1 z_s0) (fun r2 K3 => ?_)
  have w4 := wk_t w0 K3 hN
  exact pq_s w4
theorem wX99_classified_78 (S Z : Nat → Prop) {hx N : Nat} (hS : ∀ x, fe_mem lX99_classified x = true → S x) (a0 : Nat) (s0 : Int32) (M : FM) (w : WI Z hx N M) (z_a0 : Z a0) : pq (FX99_classified_78 a0 s0 M) (QA S Z hx N M) := by
  have hN := w.2.2.1
  have w0 := wk_r (S := S) w
  delta FX99_classified_78 BX99_classified_78
  refine pq_g (fun g1 => ?_)
  have z2 := wk_z (i := 0) (f := 375) w0 rfl z_a0
  have f3 := sS_375 w0.1.1 g1
  refine pq_g (fun g4 => ?_)
  refine pq_fi (fun _ => ?_) (fun _ => ?_)
  · exact q_tA hN w0 (wX99_classified_115 S Z hS _ _ _ w0.1 z_a0)
  · refine pq_g (fun g5 => ?_)
    have z6 := wk_z (i := 0) (f := 375) w0 rfl z_a0
    have f7 := sS_375 w0.1.1 g5
    refine pq_g (fun g8 => ?_)
    refine pq_fi (fun _ => ?_) (fun _ => ?_)
    · exact q_tA hN w0 (wX99_classified_115 S Z hS _ _ _ w0.1 z_a0)
    · exact q_tA hN w0 (wX99_classified_115 S Z hS _ _ _ w0.1 z_a0)
theorem wX99_classified_60 (S Z : Nat → Prop) {hx N : Nat} (hS : ∀ x, fe_mem lX99_classified x = true → S x) (a0 : Nat) (s0 : Int32) (M : FM) (w : WI Z hx N M) (z_a0 : Z a0) : pq (FX99_classified_60 a0 s0 M) (QA S Z hx N M) := by
  have hN := w.2.2.1
  have w0 := wk_r (S := S) w
  delta FX99_classified_60 BX99_classified_60
  refine pq_g (fun g1 => ?_)
  have z2 := wk_z (i := 0) (f := 376) w0 rfl z_a0
  have f3 := sS_376 w0.1.1 g1
  refine pq_g (fun g4 => ?_)
  refine pq_fi (fun _ => ?_) (fun _ => ?_)
  · exact q_tA hN w0 (wX99_classified_78 S Z hS _ _ _ w0.1 z_a0)
  · exact q_tA hN w0 (wX99_classified_78 S Z hS _ _ _ w0.1 z_a0)
theorem wX99_classified_23 (S Z : Nat → Prop) {hx N : Nat} (hS : ∀ x, fe_mem lX99_classified x = true → S x) (a0 : Nat) (s0 : Int32) (M : FM) (w : WI Z hx N M) (z_a0 : Z a0) : pq (FX99_classified_23 a0 s0 M) (QA S Z hx N M) := by
  have hN := w.2.2.1
  have w0 := wk_r (S := S) w
  delta FX99_classified_23 BX99_classified_23
  refine pq_g (fun g1 => ?_)
  have z2 := wk_z (i := 0) (f := 375) w0 rfl z_a0
  have f3 := sS_375 w0.1.1 g1
  refine pq_g (fun g4 => ?_)
  refine pq_fi (fun _ => ?_) (fun _ => ?_)
  · exact q_tA hN w0 (wX99_classified_60 S Z hS _ _ _ w0.1 z_a0)
  · refine pq_g (fun g5 => ?_)
    have z6 := wk_z (i := 0) (f := 375) w0 rfl z_a0
    have f7 := sS_375 w0.1.1 g5
    refine pq_g (fun g8 => ?_)
    refine pq_fi (fun _ => ?_) (fun _ => ?_)
    · refine pq_fi (fun _ => ?_) (fun _ => ?_)
      · exact q_tA hN w0 (wX99_classified_60 S Z hS _ _ _ w0.1 z_a0)
      · exact q_tA hN w0 (wX99_classified_60 S Z hS _ _ _ w0.1 z_a0)
    · exact q_tA hN w0 (wX99_classified_60 S Z hS _ _ _ w0.1 z_a0)
theorem wX99_classified_0 (S Z : Nat → Prop) {hx N : Nat} (hS : ∀ x, fe_mem lX99_classified x = true → S x) (a0 : Nat) (a1 : Int32) (M : FM) (w : WI Z hx N M) (z_a0 : Z a0) : pq (FX99_classified_0 a0 a1 M) (QA S Z hx N M) := by
  have hN := w.2.2.1
  have w0 := wk_r (S := S) w
  delta FX99_classified_0 BX99_classified_0
  refine pq_g (fun g1 => ?_)
  have z2 := wk_z (i := 0) (f := 377) w0 rfl z_a0
  have f3 := sS_377 w0.1.1 g1
  refine pq_g (fun g4 => ?_)
  refine pq_g (fun g5 => ?_)
  have z6 := wk_z (i := 0) (f := 372) w0 rfl z_a0
  have f7 := sS_372 w0.1.1 g5
  refine pq_g (fun g8 => ?_)
  refine pq_fi (fun _ => ?_) (fun _ => ?_)
  · exact q_tA hN w0 (wX99_classified_23 S Z hS _ _ _ w0.1 z_a0)
  · exact q_tA hN w0 (wX99_classified_23 S Z hS _ _ _ w0.1 z_a0)
theorem wX99_classified (S Z : Nat → Prop) {hx N : Nat} (hS : ∀ x, fe_mem lX99_classified x = true → S x) (a0 : Nat) (a1 : Int32) (M : FM) (w : WI Z hx N M) (z_a0 : Z a0) : pq (FX99_classified a0 a1 M) (QA S Z hx N M) := wX99_classified_0 S Z hS a0 a1 M w z_a0
def lX99_plain : List Nat := [368, 370, 371, 1367]
theorem wX99_plain_249 (S Z : Nat → Prop) {hx N : Nat} (hS : ∀ x, fe_mem lX99_plain x = true → S x) (M : FM) (w : WI Z hx N M) : pq (FX99_plain_249 M) (QA S Z hx N M) := by
  have hN := w.2.2.1
  have w0 := wk_r (S := S) w
  delta FX99_plain_249 BX99_plain_249
  exact pq_s w0
theorem wX99_plain_243 (S Z : Nat → Prop) {hx N : Nat} (hS : ∀ x, fe_mem lX99_plain x = true → S x) (a5 : Int32) (s0 : Nat) (s1 : Int32) (s2 : Int64) (M : FM) (w : WI Z hx N M) (z_s0 : Z s0) : pq (FX99_plain_243 a5 s0 s1 s2 M) (QA S Z hx N M) := by
  have hN := w.2.2.1
  have w0 := wk_r (S := S) w
  delta FX99_plain_243 BX99_plain_243
  refine pq_g (fun g1 => ?_)
  refine pq_b (wX99_write S Z (sb rfl hS) _ _ _ _ _ w0.1 z_s0) (fun r2 K3 => ?_)
  have w4 := wk_t w0 K3 hN
  exact pq_s w4
theorem wX99_plain_208 (S Z : Nat → Prop) {hx N : Nat} (hS : ∀ x, fe_mem lX99_plain x = true → S x) (a0 : Nat) (a1 : Int32) (a2 : Int32) (a4 : Int32) (a5 : Int32) (a6 : Int32) (a7 : Int64) (M : FM) (w : WI Z hx N M) (z_a0 : Z a0) : pq (FX99_plain_208 a0 a1 a2 a4 a5 a6 a7 M) (QA S Z hx N M) := by
  have hN := w.2.2.1
  have w0 := wk_r (S := S) w
  delta FX99_plain_208 BX99_plain_208
  refine pq_fi (fun _ => ?_) (fun _ => ?_)
  · refine pq_fi (fun _ => ?_) (fun _ => ?_)
    · refine pq_fi (fun _ => ?_) (fun _ => ?_)
      · refine pq_fi (fun _ => ?_) (fun _ => ?_)
        · exact q_tA hN w0 (wX99_plain_243 S Z hS _ _ _ _ _ w0.1 z_a0)
        · exact q_tA hN w0 (wX99_plain_243 S Z hS _ _ _ _ _ w0.1 z_a0)
      · exact q_tA hN w0 (wX99_plain_249 S Z hS _ w0.1 )
    · exact q_tA hN w0 (wX99_plain_249 S Z hS _ w0.1 )
  · exact q_tA hN w0 (wX99_plain_249 S Z hS _ w0.1 )
theorem wX99_plain_207 (S Z : Nat → Prop) {hx N : Nat} (hS : ∀ x, fe_mem lX99_plain x = true → S x) (s0 : Int32) (M : FM) (w : WI Z hx N M) : pq (FX99_plain_207 s0 M) (QA S Z hx N M) := by
  have hN := w.2.2.1
  have w0 := wk_r (S := S) w
  delta FX99_plain_207 BX99_plain_207
  exact pq_s w0
theorem wX99_plain_204 (S Z : Nat → Prop) {hx N : Nat} (hS : ∀ x, fe_mem lX99_plain x = true → S x) (s0 : Nat) (s1 : Int64) (M : FM) (w : WI Z hx N M) (z_s0 : Z s0) : pq (FX99_plain_204 s0 s1 M) (QA S Z hx N M) := by
  have hN := w.2.2.1
  have w0 := wk_r (S := S) w
  delta FX99_plain_204 BX99_plain_204
  refine pq_g (fun g1 => ?_)
  refine pq_b (wX99_tell S Z (sb rfl hS) _ _ _ w0.1 z_s0) (fun r2 K3 => ?_)
  have w4 := wk_t w0 K3 hN
  exact q_tA hN w4 (wX99_plain_207 S Z hS _ _ w4.1 )
theorem wX99_plain_148 (S Z : Nat → Prop) {hx N : Nat} (hS : ∀ x, fe_mem lX99_plain x = true → S x) (a0 : Nat) (a1 : Int32) (a2 : Int32) (a3 : Int32) (a4 : Int32) (a5 : Int32) (a6 : Int32) (a7 : Int64) (M : FM) (w : WI Z hx N M) (z_a0 : Z a0) : pq (FX99_plain_148 a0 a1 a2 a3 a4 a5 a6 a7 M) (QA S Z hx N M) := by
  have hN := w.2.2.1
  have w0 := wk_r (S := S) w
  delta FX99_plain_148 BX99_plain_148
  refine pq_fi (fun _ => ?_) (fun _ => ?_)
  · refine pq_fi (fun _ => ?_) (fun _ => ?_)
    · refine pq_fi (fun _ => ?_) (fun _ => ?_)
      · exact q_tA hN w0 (wX99_plain_208 S Z hS _ _ _ _ _ _ _ _ w0.1 z_a0)
      · refine pq_fi (fun _ => ?_) (fun _ => ?_)
        · refine pq_g (fun g1 => ?_)
          refine pq_b (wX99_classified S Z (sb rfl hS) _ _ _ w0.1 z_a0) (fun r2 K3 => ?_)
          have w4 := wk_t w0 K3 hN
          exact q_tA hN w4 (wX99_plain_207 S Z hS _ _ w4.1 )
        · refine pq_fi (fun _ => ?_) (fun _ => ?_)
          · refine pq_g (fun g5 => ?_)
            have z6 := wk_z (i := 0) (f := 367) w0 rfl z_a0
            have f7 := sS_367 w0.1.1 g5
            refine pq_g (fun g8 => ?_)
            exact q_tA hN w0 (wX99_plain_204 S Z hS _ _ _ w0.1 z_a0)
          · refine pq_g (fun g9 => ?_)
            have z10 := wk_z (i := 0) (f := 367) w0 rfl z_a0
            have f11 := sS_367 w0.1.1 g9
            refine pq_g (fun g12 => ?_)
            exact q_tA hN w0 (wX99_plain_204 S Z hS _ _ _ w0.1 z_a0)
    · exact q_tA hN w0 (wX99_plain_208 S Z hS _ _ _ _ _ _ _ _ w0.1 z_a0)
  · exact q_tA hN w0 (wX99_plain_208 S Z hS _ _ _ _ _ _ _ _ w0.1 z_a0)
theorem wX99_plain_124 (S Z : Nat → Prop) {hx N : Nat} (hS : ∀ x, fe_mem lX99_plain x = true → S x) (a0 : Nat) (a1 : Int32) (a2 : Int32) (a3 : Int32) (a4 : Int32) (a5 : Int32) (a6 : Int32) (a7 : Int64) (M : FM) (w : WI Z hx N M) (z_a0 : Z a0) : pq (FX99_plain_124 a0 a1 a2 a3 a4 a5 a6 a7 M) (QA S Z hx N M) := by
  have hN := w.2.2.1
  have w0 := wk_r (S := S) w
  delta FX99_plain_124 BX99_plain_124
  refine pq_fi (fun _ => ?_) (fun _ => ?_)
  · refine pq_fi (fun _ => ?_) (fun _ => ?_)
    · exact q_tA hN w0 (wX99_plain_148 S Z hS _ _ _ _ _ _ _ _ _ w0.1 z_a0)
    · refine pq_g (fun g1 => ?_)
      refine pq_b (wX99_compared S Z (sb rfl hS) _ _ _ _ _ _ w0.1 z_a0) (fun r2 K3 => ?_)
      have w4 := wk_t w0 K3 hN
      exact pq_s w4
  · exact q_tA hN w0 (wX99_plain_148 S Z hS _ _ _ _ _ _ _ _ _ w0.1 z_a0)
theorem wX99_plain_100 (S Z : Nat → Prop) {hx N : Nat} (hS : ∀ x, fe_mem lX99_plain x = true → S x) (a0 : Nat) (a1 : Int32) (a2 : Int32) (a3 : Int32) (a4 : Int32) (a5 : Int32) (a6 : Int32) (a7 : Int64) (M : FM) (w : WI Z hx N M) (z_a0 : Z a0) : pq (FX99_plain_100 a0 a1 a2 a3 a4 a5 a6 a7 M) (QA S Z hx N M) := by
  have hN := w.2.2.1
  have w0 := wk_r (S := S) w
  delta FX99_plain_100 BX99_plain_100
  refine pq_fi (fun _ => ?_) (fun _ => ?_)
  · refine pq_fi (fun _ => ?_) (fun _ => ?_)
    · exact q_tA hN w0 (wX99_plain_124 S Z hS _ _ _ _ _ _ _ _ _ w0.1 z_a0)
    · refine pq_g (fun g1 => ?_)
      refine pq_b (wX99_extreme S Z (sb rfl hS) _ _ _ _ _ _ _ w0.1 z_a0) (fun r2 K3 => ?_)
      have w4 := wk_t w0 K3 hN
      exact pq_s w4
  · exact q_tA hN w0 (wX99_plain_124 S Z hS _ _ _ _ _ _ _ _ _ w0.1 z_a0)
theorem wX99_plain_72 (S Z : Nat → Prop) {hx N : Nat} (hS : ∀ x, fe_mem lX99_plain x = true → S x) (a0 : Nat) (a2 : Int32) (a3 : Int32) (a5 : Int32) (a9 : Int64) (s0 : Int32) (M : FM) (w : WI Z hx N M) (z_a0 : Z a0) : pq (FX99_plain_72 a0 a2 a3 a5 a9 s0 M) (QA S Z hx N M) := by
  have hN := w.2.2.1
  have w0 := wk_r (S := S) w
  delta FX99_plain_72 BX99_plain_72
  refine pq_g (fun g1 => ?_)
  refine pq_b (wX99_bitsOf S Z (sb rfl hS) _ _ _ _ w0.1 z_a0) (fun r2 K3 => ?_)
  have w4 := wk_t w0 K3 hN
  refine pq_b (wX99_pack S Z (sb rfl hS) _ _ _ _ _ w4.1 ) (fun r5 K6 => ?_)
  have w7 := wk_t w4 K6 hN
  refine pq_g (fun g8 => ?_)
  refine pq_b (wX99_write S Z (sb rfl hS) _ _ _ _ _ w7.1 z_a0) (fun r9 K10 => ?_)
  have w11 := wk_t w7 K10 hN
  exact pq_s w11
theorem wX99_plain_26 (S Z : Nat → Prop) {hx N : Nat} (hS : ∀ x, fe_mem lX99_plain x = true → S x) (a0 : Nat) (a2 : Int32) (a3 : Int32) (a5 : Int32) (a6 : Int32) (s0 : Int64) (M : FM) (w : WI Z hx N M) (z_a0 : Z a0) : pq (FX99_plain_26 a0 a2 a3 a5 a6 s0 M) (QA S Z hx N M) := by
  have hN := w.2.2.1
  have w0 := wk_r (S := S) w
  delta FX99_plain_26 BX99_plain_26
  refine pq_fi (fun _ => ?_) (fun _ => ?_)
  · refine pq_g (fun g1 => ?_)
    have z2 := wk_z (i := 0) (f := 376) w0 rfl z_a0
    have f3 := sS_376 w0.1.1 g1
    refine pq_g (fun g4 => ?_)
    exact q_tA hN w0 (wX99_plain_72 S Z hS _ _ _ _ _ _ _ w0.1 z_a0)
  · refine pq_fi (fun _ => ?_) (fun _ => ?_)
    · refine pq_g (fun g5 => ?_)
      have z6 := wk_z (i := 0) (f := 376) w0 rfl z_a0
      have f7 := sS_376 w0.1.1 g5
      refine pq_g (fun g8 => ?_)
      exact q_tA hN w0 (wX99_plain_72 S Z hS _ _ _ _ _ _ _ w0.1 z_a0)
    · refine pq_g (fun g9 => ?_)
      have z10 := wk_z (i := 0) (f := 376) w0 rfl z_a0
      have f11 := sS_376 w0.1.1 g9
      refine pq_g (fun g12 => ?_)
      refine pq_g (fun g13 => ?_)
      have z14 := wk_z (i := 0) (f := 376) w0 rfl z_a0
      have f15 := sS_376 w0.1.1 g13
      refine pq_g (fun g16 => ?_)
      exact q_tA hN w0 (wX99_plain_72 S Z hS _ _ _ _ _ _ _ w0.1 z_a0)
theorem wX99_plain_0 (S Z : Nat → Prop) {hx N : Nat} (hS : ∀ x, fe_mem lX99_plain x = true → S x) (a0 : Nat) (a1 : Int32) (a2 : Int32) (a3 : Int32) (a4 : Int32) (a5 : Int32) (a6 : Int32) (a7 : Int64) (M : FM) (w : WI Z hx N M) (z_a0 : Z a0) : pq (FX99_plain_0 a0 a1 a2 a3 a4 a5 a6 a7 M) (QA S Z hx N M) := by
  have hN := w.2.2.1
  have w0 := wk_r (S := S) w
  delta FX99_plain_0 BX99_plain_0
  refine pq_fi (fun _ => ?_) (fun _ => ?_)
  · refine pq_fi (fun _ => ?_) (fun _ => ?_)
    · exact q_tA hN w0 (wX99_plain_100 S Z hS _ _ _ _ _ _ _ _ _ w0.1 z_a0)
    · refine pq_fi (fun _ => ?_) (fun _ => ?_)
      · exact q_tA hN w0 (wX99_plain_26 S Z hS _ _ _ _ _ _ _ w0.1 z_a0)
      · exact q_tA hN w0 (wX99_plain_26 S Z hS _ _ _ _ _ _ _ w0.1 z_a0)
  · exact q_tA hN w0 (wX99_plain_100 S Z hS _ _ _ _ _ _ _ _ _ w0.1 z_a0)
theorem wX99_plain (S Z : Nat → Prop) {hx N : Nat} (hS : ∀ x, fe_mem lX99_plain x = true → S x) (a0 : Nat) (a1 : Int32) (a2 : Int32) (a3 : Int32) (a4 : Int32) (a5 : Int32) (a6 : Int32) (a7 : Int64) (M : FM) (w : WI Z hx N M) (z_a0 : Z a0) : pq (FX99_plain a0 a1 a2 a3 a4 a5 a6 a7 M) (QA S Z hx N M) := wX99_plain_0 S Z hS a0 a1 a2 a3 a4 a5 a6 a7 M w z_a0
def lX99_run : List Nat := [366, 368, 370, 371, 381, 382, 383, 384, 385, 1367, 1375, 1376, 1377, 1378, 1379, 1380]
theorem wX99_run_293 (S Z : Nat → Prop) {hx N : Nat} (hS : ∀ x, fe_mem lX99_run x = true → S x) (n : Nat) (s0 : Int32) (M : FM) (w : WI Z hx N M) : pq (FX99_run_293 n s0 M) (QA S Z hx N M) := by
  have hN := w.2.2.1
  have w0 := wk_r (S := S) w
  delta FX99_run_293 BX99_run_293
  exact pq_s w0
theorem wX99_run_266 (S Z : Nat → Prop) {hx N : Nat} (hS : ∀ x, fe_mem lX99_run x = true → S x) (n : Nat) (a0 : Nat) (a2 : Int64) (a6 : Int32) (a7 : Int32) (a8 : Int32) (a9 : Int32) (a10 : Int32) (a11 : Int32) (M : FM) (w : WI Z hx N M) (z_a0 : Z a0) : pq (FX99_run_266 n a0 a2 a6 a7 a8 a9 a10 a11 M) (QA S Z hx N M) := by
  have hN := w.2.2.1
  have w0 := wk_r (S := S) w
  delta FX99_run_266 BX99_run_266
  refine pq_fi (fun _ => ?_) (fun _ => ?_)
  · refine pq_g (fun g1 => ?_)
    refine pq_b (wX99_arithmetic S Z (sb rfl hS) n _ _ _ _ _ _ _ _ _ w0.1 z_a0) (fun r2 K3 => ?_)
    have w4 := wk_t w0 K3 hN
    exact q_tA hN w4 (wX99_run_293 S Z hS n _ _ w4.1 )
  · exact q_tA hN w0 (wX99_run_293 S Z hS n _ _ w0.1 )
theorem wX99_run_192 (S Z : Nat → Prop) {hx N : Nat} (hS : ∀ x, fe_mem lX99_run x = true → S x) (n : Nat) (a6 : Int32) (a11 : Int32) (s0 : Nat) (s1 : Int32) (s2 : Nat) (s3 : Int32) (s4 : Int32) (M : FM) (w : WI Z hx N M) (z_s0 : Z s0) (z_s2 : Z s2) : pq (FX99_run_192 n a6 a11 s0 s1 s2 s3 s4 M) (QA S Z hx N M) := by
  have hN := w.2.2.1
  have w0 := wk_r (S := S) w
  delta FX99_run_192 BX99_run_192
  refine pq_g (fun g1 => ?_)
  refine pq_b (wX99_fused S Z (sb rfl hS) n _ _ _ _ _ _ w0.1 z_s2) (fun r2 K3 => ?_)
  have w4 := wk_t w0 K3 hN
  refine pq_g (fun g5 => ?_)
  refine pq_b (wX99_write S Z (sb rfl hS) _ _ _ _ _ w4.1 z_s0) (fun r6 K7 => ?_)
  have w8 := wk_t w4 K7 hN
  exact pq_s w8
theorem wX99_run_187 (S Z : Nat → Prop) {hx N : Nat} (hS : ∀ x, fe_mem lX99_run x = true → S x) (n : Nat) (a6 : Int32) (a11 : Int32) (s0 : Nat) (s1 : Int32) (s2 : Nat) (s3 : Int32) (M : FM) (w : WI Z hx N M) (z_s0 : Z s0) (z_s2 : Z s2) : pq (FX99_run_187 n a6 a11 s0 s1 s2 s3 M) (QA S Z hx N M) := by
  have hN := w.2.2.1
  have w0 := wk_r (S := S) w
  delta FX99_run_187 BX99_run_187
  exact q_tA hN w0 (wX99_run_192 S Z hS n _ _ _ _ _ _ _ _ w0.1 z_s0 z_s2)
theorem wX99_run_173 (S Z : Nat → Prop) {hx N : Nat} (hS : ∀ x, fe_mem lX99_run x = true → S x) (n : Nat) (a4 : Int32) (a6 : Int32) (a11 : Int32) (s0 : Nat) (s1 : Int32) (s2 : Nat) (s3 : Int32) (M : FM) (w : WI Z hx N M) (z_s0 : Z s0) (z_s2 : Z s2) : pq (FX99_run_173 n a4 a6 a11 s0 s1 s2 s3 M) (QA S Z hx N M) := by
  have hN := w.2.2.1
  have w0 := wk_r (S := S) w
  delta FX99_run_173 BX99_run_173
  refine pq_fi (fun _ => ?_) (fun _ => ?_)
  · exact q_tA hN w0 (wX99_run_187 S Z hS n _ _ _ _ _ _ _ w0.1 z_s0 z_s2)
  · refine pq_fi (fun _ => ?_) (fun _ => ?_)
    · exact q_tA hN w0 (wX99_run_187 S Z hS n _ _ _ _ _ _ _ w0.1 z_s0 z_s2)
    · exact q_tA hN w0 (wX99_run_192 S Z hS n _ _ _ _ _ _ _ _ w0.1 z_s0 z_s2)
theorem wX99_run_122 (S Z : Nat → Prop) {hx N : Nat} (hS : ∀ x, fe_mem lX99_run x = true → S x) (n : Nat) (a0 : Nat) (a4 : Int32) (a6 : Int32) (a7 : Int32) (a8 : Int32) (a9 : Int32) (a10 : Int32) (a11 : Int32) (M : FM) (w : WI Z hx N M) (z_a0 : Z a0) : pq (FX99_run_122 n a0 a4 a6 a7 a8 a9 a10 a11 M) (QA S Z hx N M) := by
  have hN := w.2.2.1
  have w0 := wk_r (S := S) w
  delta FX99_run_122 BX99_run_122
  refine pq_fi (fun _ => ?_) (fun _ => ?_)
  · refine pq_g (fun g1 => ?_)
    refine pq_b (wX99_read S Z (sb rfl hS) _ _ _ _ _ w0.1 z_a0) (fun r2 K3 => ?_)
    have w4 := wk_t w0 K3 hN
    refine pq_g (fun g5 => ?_)
    refine pq_b (wX99_read S Z (sb rfl hS) _ _ _ _ _ w4.1 z_a0) (fun r6 K7 => ?_)
    have w8 := wk_t w4 K7 hN
    refine pq_g (fun g9 => ?_)
    refine pq_b (wX99_read S Z (sb rfl hS) _ _ _ _ _ w8.1 z_a0) (fun r10 K11 => ?_)
    have w12 := wk_t w8 K11 hN
    refine pq_fi (fun _ => ?_) (fun _ => ?_)
    · exact q_tA hN w12 (wX99_run_173 S Z hS n _ _ _ _ _ _ _ _ w12.1 z_a0 z_a0)
    · exact q_tA hN w12 (wX99_run_173 S Z hS n _ _ _ _ _ _ _ _ w12.1 z_a0 z_a0)
  · exact pq_s w0
theorem wX99_run_84 (S Z : Nat → Prop) {hx N : Nat} (hS : ∀ x, fe_mem lX99_run x = true → S x) (n : Nat) (a0 : Nat) (a2 : Int64) (a4 : Int32) (a5 : Int32) (a6 : Int32) (a7 : Int32) (a8 : Int32) (a9 : Int32) (a10 : Int32) (s0 : Int32) (M : FM) (w : WI Z hx N M) (z_a0 : Z a0) : pq (FX99_run_84 n a0 a2 a4 a5 a6 a7 a8 a9 a10 s0 M) (QA S Z hx N M) := by
  have hN := w.2.2.1
  have w0 := wk_r (S := S) w
  delta FX99_run_84 BX99_run_84
  refine pq_fi (fun _ => ?_) (fun _ => ?_)
  · refine pq_fi (fun _ => ?_) (fun _ => ?_)
    · exact q_tA hN w0 (wX99_run_122 S Z hS n _ _ _ _ _ _ _ _ _ w0.1 z_a0)
    · refine pq_fi (fun _ => ?_) (fun _ => ?_)
      · exact q_tA hN w0 (wX99_run_122 S Z hS n _ _ _ _ _ _ _ _ _ w0.1 z_a0)
      · refine pq_fi (fun _ => ?_) (fun _ => ?_)
        · exact q_tA hN w0 (wX99_run_122 S Z hS n _ _ _ _ _ _ _ _ _ w0.1 z_a0)
        · refine pq_fi (fun _ => ?_) (fun _ => ?_)
          · exact q_tA hN w0 (wX99_run_122 S Z hS n _ _ _ _ _ _ _ _ _ w0.1 z_a0)
          · refine pq_fi (fun _ => ?_) (fun _ => ?_)
            · refine pq_g (fun g1 => ?_)
              refine pq_b (wX99_read S Z (sb rfl hS) _ _ _ _ _ w0.1 z_a0) (fun r2 K3 => ?_)
              have w4 := wk_t w0 K3 hN
              refine pq_g (fun g5 => ?_)
              refine pq_b (wX99_read S Z (sb rfl hS) _ _ _ _ _ w4.1 z_a0) (fun r6 K7 => ?_)
              have w8 := wk_t w4 K7 hN
              refine pq_fi (fun _ => ?_) (fun _ => ?_)
              · exact q_tA hN w8 (wX99_run_266 S Z hS n _ _ _ _ _ _ _ _ _ w8.1 z_a0)
              · refine pq_fi (fun _ => ?_) (fun _ => ?_)
                · exact q_tA hN w8 (wX99_run_266 S Z hS n _ _ _ _ _ _ _ _ _ w8.1 z_a0)
                · refine pq_fi (fun _ => ?_) (fun _ => ?_)
                  · exact q_tA hN w8 (wX99_run_266 S Z hS n _ _ _ _ _ _ _ _ _ w8.1 z_a0)
                  · refine pq_fi (fun _ => ?_) (fun _ => ?_)
                    · exact q_tA hN w8 (wX99_run_266 S Z hS n _ _ _ _ _ _ _ _ _ w8.1 z_a0)
                    · refine pq_fi (fun _ => ?_) (fun _ => ?_)
                      · exact q_tA hN w8 (wX99_run_266 S Z hS n _ _ _ _ _ _ _ _ _ w8.1 z_a0)
                      · refine pq_g (fun g9 => ?_)
                        refine pq_b (wX99_plain S Z (sb rfl hS) _ _ _ _ _ _ _ _ _ w8.1 z_a0) (fun r10 K11 => ?_)
                        have w12 := wk_t w8 K11 hN
                        exact pq_s w12
            · exact pq_s w0
  · exact pq_s w0
theorem wX99_run_0 (S Z : Nat → Prop) {hx N : Nat} (hS : ∀ x, fe_mem lX99_run x = true → S x) (n : Nat) (a0 : Nat) (a1 : Int32) (a2 : Int64) (M : FM) (w : WI Z hx N M) (z_a0 : Z a0) : pq (FX99_run_0 n a0 a1 a2 M) (QA S Z hx N M) := by
  have hN := w.2.2.1
  have w0 := wk_r (S := S) w
  delta FX99_run_0 BX99_run_0
  refine pq_g (fun g1 => ?_)
  extract_lets +onlyGivenNames M3
  have w2 : Wk S Z hx N M M3 := wk_fI hN w0 rfl rfl g1 z_a0 (Or.inr (hS 366 rfl))
  refine pq_b (wX99_field S Z (sb rfl hS) _ _ _ _ w2.1 ) (fun r4 K5 => ?_)
  have w6 := wk_t w2 K5 hN
  refine pq_b (wX99_field S Z (sb rfl hS) _ _ _ _ w6.1 ) (fun r7 K8 => ?_)
  have w9 := wk_t w6 K8 hN
  refine pq_b (wX99_field S Z (sb rfl hS) _ _ _ _ w9.1 ) (fun r10 K11 => ?_)
  have w12 := wk_t w9 K11 hN
  refine pq_b (wX99_field S Z (sb rfl hS) _ _ _ _ w12.1 ) (fun r13 K14 => ?_)
  have w15 := wk_t w12 K14 hN
  refine pq_b (wX99_field S Z (sb rfl hS) _ _ _ _ w15.1 ) (fun r16 K17 => ?_)
  have w18 := wk_t w15 K17 hN
  refine pq_b (wX99_field S Z (sb rfl hS) _ _ _ _ w18.1 ) (fun r19 K20 => ?_)
  have w21 := wk_t w18 K20 hN
  refine pq_b (wX99_field S Z (sb rfl hS) _ _ _ _ w21.1 ) (fun r22 K23 => ?_)
  have w24 := wk_t w21 K23 hN
  refine pq_fi (fun _ => ?_) (fun _ => ?_)
  · refine pq_g (fun g25 => ?_)
    exact q_tA hN w24 (wX99_run_84 S Z hS n _ _ _ _ _ _ _ _ _ _ _ w24.1 z_a0)
  · exact q_tA hN w24 (wX99_run_84 S Z hS n _ _ _ _ _ _ _ _ _ _ _ w24.1 z_a0)
theorem wX99_run (S Z : Nat → Prop) {hx N : Nat} (hS : ∀ x, fe_mem lX99_run x = true → S x) (n : Nat) (a0 : Nat) (a1 : Int32) (a2 : Int64) (M : FM) (w : WI Z hx N M) (z_a0 : Z a0) : pq (FX99_run n a0 a1 a2 M) (QA S Z hx N M) := wX99_run_0 S Z hS n a0 a1 a2 M w z_a0
def lX99_set : List Nat := [366, 371, 1367]
theorem wX99_set_16 (S Z : Nat → Prop) {hx N : Nat} (hS : ∀ x, fe_mem lX99_set x = true → S x) (M : FM) (w : WI Z hx N M) : pq (FX99_set_16 M) (QV S Z hx N M) := by
  have hN := w.2.2.1
  have w0 := wk_r (S := S) w
  delta FX99_set_16 BX99_set_16
  exact pq_s w0
theorem wX99_set_0 (S Z : Nat → Prop) {hx N : Nat} (hS : ∀ x, fe_mem lX99_set x = true → S x) (a0 : Nat) (a1 : Int32) (a2 : Int64) (M : FM) (w : WI Z hx N M) (z_a0 : Z a0) : pq (FX99_set_0 a0 a1 a2 M) (QV S Z hx N M) := by
  have hN := w.2.2.1
  have w0 := wk_r (S := S) w
  delta FX99_set_0 BX99_set_0
  refine pq_g (fun g1 => ?_)
  refine pq_b (wX99_isNo S Z (sb rfl hS) _ _ _ w0.1 z_a0) (fun r2 K3 => ?_)
  have w4 := wk_t w0 K3 hN
  refine pq_fi (fun _ => ?_) (fun _ => ?_)
  · refine pq_g (fun g5 => ?_)
    refine pq_b (wX99_write S Z (sb rfl hS) _ _ _ _ _ w4.1 z_a0) (fun r6 K7 => ?_)
    have w8 := wk_t w4 K7 hN
    exact q_tV hN w8 (wX99_set_16 S Z hS _ w8.1 )
  · exact q_tV hN w4 (wX99_set_16 S Z hS _ w4.1 )
theorem wX99_set (S Z : Nat → Prop) {hx N : Nat} (hS : ∀ x, fe_mem lX99_set x = true → S x) (a0 : Nat) (a1 : Int32) (a2 : Int64) (M : FM) (w : WI Z hx N M) (z_a0 : Z a0) : pq (FX99_set a0 a1 a2 M) (QV S Z hx N M) := wX99_set_0 S Z hS a0 a1 a2 M w z_a0
def lX99_box : List Nat := [366, 371, 1367]
theorem wX99_box_21 (S Z : Nat → Prop) {hx N : Nat} (hS : ∀ x, fe_mem lX99_box x = true → S x) (M : FM) (w : WI Z hx N M) : pq (FX99_box_21 M) (QV S Z hx N M) := by
  have hN := w.2.2.1
  have w0 := wk_r (S := S) w
  delta FX99_box_21 BX99_box_21
  exact pq_s w0
theorem wX99_box_0 (S Z : Nat → Prop) {hx N : Nat} (hS : ∀ x, fe_mem lX99_box x = true → S x) (a0 : Nat) (a1 : Int32) (a2 : Int32) (M : FM) (w : WI Z hx N M) (z_a0 : Z a0) : pq (FX99_box_0 a0 a1 a2 M) (QV S Z hx N M) := by
  have hN := w.2.2.1
  have w0 := wk_r (S := S) w
  delta FX99_box_0 BX99_box_0
  refine pq_g (fun g1 => ?_)
  refine pq_b (wX99_isNo S Z (sb rfl hS) _ _ _ w0.1 z_a0) (fun r2 K3 => ?_)
  have w4 := wk_t w0 K3 hN
  refine pq_fi (fun _ => ?_) (fun _ => ?_)
  · refine pq_g (fun g5 => ?_)
    refine pq_b (wX99_write S Z (sb rfl hS) _ _ _ _ _ w4.1 z_a0) (fun r6 K7 => ?_)
    have w8 := wk_t w4 K7 hN
    exact q_tV hN w8 (wX99_box_21 S Z hS _ w8.1 )
  · exact q_tV hN w4 (wX99_box_21 S Z hS _ w4.1 )
theorem wX99_box (S Z : Nat → Prop) {hx N : Nat} (hS : ∀ x, fe_mem lX99_box x = true → S x) (a0 : Nat) (a1 : Int32) (a2 : Int32) (M : FM) (w : WI Z hx N M) (z_a0 : Z a0) : pq (FX99_box a0 a1 a2 M) (QV S Z hx N M) := wX99_box_0 S Z hS a0 a1 a2 M w z_a0
def lX99_value : List Nat := [366]
theorem wX99_value_0 (S Z : Nat → Prop) {hx N : Nat} (hS : ∀ x, fe_mem lX99_value x = true → S x) (a0 : Nat) (M : FM) (w : WI Z hx N M) (z_a0 : Z a0) : pq (FX99_value_0 a0 M) (QA S Z hx N M) := by
  have hN := w.2.2.1
  have w0 := wk_r (S := S) w
  delta FX99_value_0 BX99_value_0
  refine pq_g (fun g1 => ?_)
  extract_lets +onlyGivenNames M3
  have w2 : Wk S Z hx N M M3 := wk_fI hN w0 rfl rfl g1 z_a0 (Or.inr (hS 366 rfl))
  refine pq_g (fun g4 => ?_)
  exact pq_s w2
theorem wX99_value (S Z : Nat → Prop) {hx N : Nat} (hS : ∀ x, fe_mem lX99_value x = true → S x) (a0 : Nat) (M : FM) (w : WI Z hx N M) (z_a0 : Z a0) : pq (FX99_value a0 M) (QA S Z hx N M) := wX99_value_0 S Z hS a0 M w z_a0
def lX99_written : List Nat := [366]
theorem wX99_written_0 (S Z : Nat → Prop) {hx N : Nat} (hS : ∀ x, fe_mem lX99_written x = true → S x) (a0 : Nat) (M : FM) (w : WI Z hx N M) (z_a0 : Z a0) : pq (FX99_written_0 a0 M) (QA S Z hx N M) := by
  have hN := w.2.2.1
  have w0 := wk_r (S := S) w
  delta FX99_written_0 BX99_written_0
  refine pq_g (fun g1 => ?_)
  extract_lets +onlyGivenNames M3
  have w2 : Wk S Z hx N M M3 := wk_fI hN w0 rfl rfl g1 z_a0 (Or.inr (hS 366 rfl))
  refine pq_g (fun g4 => ?_)
  refine pq_g (fun _ => ?_)
  exact pq_s w2
theorem wX99_written (S Z : Nat → Prop) {hx N : Nat} (hS : ∀ x, fe_mem lX99_written x = true → S x) (a0 : Nat) (M : FM) (w : WI Z hx N M) (z_a0 : Z a0) : pq (FX99_written a0 M) (QA S Z hx N M) := wX99_written_0 S Z hS a0 M w z_a0
def lX100_put : List Nat := [1361]
theorem wX100_put_0 (S Z : Nat → Prop) {hx N : Nat} (hS : ∀ x, fe_mem lX100_put x = true → S x) (a0 : Nat) (a1 : Int32) (a2 : Int32) (M : FM) (w : WI Z hx N M) (z_a0 : Z a0) : pq (FX100_put_0 a0 a1 a2 M) (QV S Z hx N M) := by
  have hN := w.2.2.1
  have w0 := wk_r (S := S) w
  delta FX100_put_0 BX100_put_0
  refine pq_g (fun g1 => ?_)
  have z2 := wk_z (i := 0) (f := 361) w0 rfl z_a0
  have f3 := sS_361 w0.1.1 g1
  refine pq_g (fun g4 => ?_)
  have z5 := wk_z (i := 0) (f := 361) w0 rfl z_a0
  have f6 := sS_361 w0.1.1 g4
  refine pq_g (fun g7 => ?_)
  refine pq_g (fun g8 => ?_)
  extract_lets +onlyGivenNames M10
  have w9 : Wk S Z hx N M M10 := wk_aL hN w0 rfl g8.1 z2 (sy_s f3 (hS 1361 rfl))
  exact pq_s w9
theorem wX100_put (S Z : Nat → Prop) {hx N : Nat} (hS : ∀ x, fe_mem lX100_put x = true → S x) (a0 : Nat) (a1 : Int32) (a2 : Int32) (M : FM) (w : WI Z hx N M) (z_a0 : Z a0) : pq (FX100_put a0 a1 a2 M) (QV S Z hx N M) := wX100_put_0 S Z hS a0 a1 a2 M w z_a0
def lX100_dirty : List Nat := [358, 1361]
theorem wX100_dirty_26 (S Z : Nat → Prop) {hx N : Nat} (hS : ∀ x, fe_mem lX100_dirty x = true → S x) (M : FM) (w : WI Z hx N M) : pq (FX100_dirty_26 M) (QV S Z hx N M) := by
  have hN := w.2.2.1
  have w0 := wk_r (S := S) w
  delta FX100_dirty_26 BX100_dirty_26
  exact pq_s w0
theorem wX100_dirty_0 (S Z : Nat → Prop) {hx N : Nat} (hS : ∀ x, fe_mem lX100_dirty x = true → S x) (a0 : Nat) (M : FM) (w : WI Z hx N M) (z_a0 : Z a0) : pq (FX100_dirty_0 a0 M) (QV S Z hx N M) := by
  have hN := w.2.2.1
  have w0 := wk_r (S := S) w
  delta FX100_dirty_0 BX100_dirty_0
  refine pq_g (fun g1 => ?_)
  extract_lets +onlyGivenNames M3
  have w2 : Wk S Z hx N M M3 := wk_fI hN w0 rfl rfl g1 z_a0 (Or.inr (hS 358 rfl))
  refine pq_g (fun g4 => ?_)
  refine pq_b (wX100_floating S Z (sb rfl hS) _ _ w2.1 z_a0) (fun r5 K6 => ?_)
  have w7 := wk_t w2 K6 hN
  refine pq_fi (fun _ => ?_) (fun _ => ?_)
  · exact q_tV hN w7 (wX100_dirty_26 S Z hS _ w7.1 )
  · refine pq_g (fun g8 => ?_)
    refine pq_b (wX100_put S Z (sb rfl hS) _ _ _ _ w7.1 z_a0) (fun r9 K10 => ?_)
    have w11 := wk_t w7 K10 hN
    refine pq_g (fun g12 => ?_)
    refine pq_b (wX100_put S Z (sb rfl hS) _ _ _ _ w11.1 z_a0) (fun r13 K14 => ?_)
    have w15 := wk_t w11 K14 hN
    exact q_tV hN w15 (wX100_dirty_26 S Z hS _ w15.1 )
theorem wX100_dirty (S Z : Nat → Prop) {hx N : Nat} (hS : ∀ x, fe_mem lX100_dirty x = true → S x) (a0 : Nat) (M : FM) (w : WI Z hx N M) (z_a0 : Z a0) : pq (FX100_dirty a0 M) (QV S Z hx N M) := wX100_dirty_0 S Z hS a0 M w z_a0
def lX99_calm : List Nat := [366, 371]
theorem wX99_calm_0 (S Z : Nat → Prop) {hx N : Nat} (hS : ∀ x, fe_mem lX99_calm x = true → S x) (a0 : Nat) (M : FM) (w : WI Z hx N M) (z_a0 : Z a0) : pq (FX99_calm_0 a0 M) (QV S Z hx N M) := by
  have hN := w.2.2.1
  have w0 := wk_r (S := S) w
  delta FX99_calm_0 BX99_calm_0
  refine pq_g (fun g1 => ?_)
  extract_lets +onlyGivenNames M3
  have w2 : Wk S Z hx N M M3 := wk_fI hN w0 rfl rfl g1 z_a0 (Or.inr (hS 366 rfl))
  refine pq_g (fun g4 => ?_)
  refine pq_g (fun _ => ?_)
  extract_lets +onlyGivenNames M6
  have w5 : Wk S Z hx N M M6 := wk_fI hN w2 rfl rfl g4 z_a0 (Or.inr (hS 371 rfl))
  exact pq_s w5
theorem wX99_calm (S Z : Nat → Prop) {hx N : Nat} (hS : ∀ x, fe_mem lX99_calm x = true → S x) (a0 : Nat) (M : FM) (w : WI Z hx N M) (z_a0 : Z a0) : pq (FX99_calm a0 M) (QV S Z hx N M) := wX99_calm_0 S Z hS a0 M w z_a0
def lX92_floating : List Nat := [315, 316, 320, 321, 322, 324, 328, 329, 330, 331, 332, 333, 335, 336, 337, 338, 339, 343, 344, 345, 347, 348, 353, 358, 366, 368, 370, 371, 381, 382, 383, 384, 385, 394, 398, 407, 408, 409, 411, 413, 414, 422, 429, 430, 1323, 1327, 1334, 1340, 1341, 1342, 1346, 1361, 1367, 1375, 1376, 1377, 1378, 1379, 1380, 1388, 1389, 1391, 1396, 1397, 1399, 1400, 1401, 1402, 1403, 1404, 1405, 1406, 1410, 1412]
theorem wX92_floating_207 (S Z : Nat → Prop) {hx N : Nat} (hS : ∀ x, fe_mem lX92_floating x = true → S x) (n : Nat) (M : FM) (w : WI Z hx N M) : pq (FX92_floating_207 n M) (QA S Z hx N M) := by
  have hN := w.2.2.1
  have w0 := wk_r (S := S) w
  delta FX92_floating_207 BX92_floating_207
  refine pq_g (fun _ => ?_)
  exact pq_s w0
theorem wX92_floating_185 (S Z : Nat → Prop) {hx N : Nat} (hS : ∀ x, fe_mem lX92_floating x = true → S x) (n : Nat) (a0 : Nat) (a1 : Int32) (a7 : Nat) (M : FM) (w : WI Z hx N M) (z_a0 : Z a0) (z_a7 : Z a7) (i_a1 : a1.toNatClampNeg = hx) : pq (FX92_floating_185 n a0 a1 a7 M) (QA S Z hx N M) := by
  have hN := w.2.2.1
  have w0 := wk_r (S := S) w
  delta FX92_floating_185 BX92_floating_185
  refine pq_g (fun g1 => ?_)
  refine pq_b (wX99_written S Z (sb rfl hS) _ _ w0.1 z_a7) (fun r2 K3 => ?_)
  have w4 := wk_t w0 K3 hN
  refine pq_fi (fun _ => ?_) (fun _ => ?_)
  · exact q_tA hN w4 (wX92_floating_207 S Z hS n _ w4.1 )
  · refine pq_g (fun g5 => ?_)
    have z6 := wk_z (i := 0) (f := 305) w4 rfl z_a0
    have f7 := sS_305 w4.1.1 g5
    refine pq_g (fun g8 => ?_)
    have z9 := wk_zx w4 z6 i_a1
    refine pq_g (fun g10 => ?_)
    refine pq_b (wX100_dirty S Z (sb rfl hS) _ _ w4.1 z9) (fun r11 K12 => ?_)
    have w13 := wk_t w4 K12 hN
    refine pq_g (fun g14 => ?_)
    refine pq_b (wX99_calm S Z (sb rfl hS) _ _ w13.1 z_a7) (fun r15 K16 => ?_)
    have w17 := wk_t w13 K16 hN
    exact q_tA hN w17 (wX92_floating_207 S Z hS n _ w17.1 )
theorem wX92_floating_176 (S Z : Nat → Prop) {hx N : Nat} (hS : ∀ x, fe_mem lX92_floating x = true → S x) (n : Nat) (a0 : Nat) (a1 : Int32) (a7 : Nat) (s0 : Nat) (s1 : Int32) (M : FM) (w : WI Z hx N M) (z_a0 : Z a0) (z_a7 : Z a7) (z_s0 : Z s0) (i_a1 : a1.toNatClampNeg = hx) : pq (FX92_floating_176 n a0 a1 a7 s0 s1 M) (QA S Z hx N M) := by
  have hN := w.2.2.1
  have w0 := wk_r (S := S) w
  delta FX92_floating_176 BX92_floating_176
  refine pq_g (fun g1 => ?_)
  refine pq_b (wX99_value S Z (sb rfl hS) _ _ w0.1 z_a7) (fun r2 K3 => ?_)
  have w4 := wk_t w0 K3 hN
  refine pq_g (fun g5 => ?_)
  refine pq_b (wX98_finish S Z (sb rfl hS) _ _ _ _ w4.1 z_s0) (fun r6 K7 => ?_)
  have w8 := wk_t w4 K7 hN
  exact q_tA hN w8 (wX92_floating_185 S Z hS n _ _ _ _ w8.1 z_a0 z_a7 i_a1)
theorem wX92_floating_113 (S Z : Nat → Prop) {hx N : Nat} (hS : ∀ x, fe_mem lX92_floating x = true → S x) (n : Nat) (a0 : Nat) (a1 : Int32) (a7 : Nat) (M : FM) (w : WI Z hx N M) (z_a0 : Z a0) (z_a7 : Z a7) (i_a1 : a1.toNatClampNeg = hx) : pq (FX92_floating_113 n a0 a1 a7 M) (QA S Z hx N M) := by
  have hN := w.2.2.1
  have w0 := wk_r (S := S) w
  delta FX92_floating_113 BX92_floating_113
  refine pq_g (fun g1 => ?_)
  have z2 := wk_z (i := 0) (f := 303) w0 rfl z_a0
  have f3 := sS_303 w0.1.1 g1
  refine pq_g (fun g4 => ?_)
  have z5 := wk_zx w0 z2 i_a1
  refine pq_g (fun g6 => ?_)
  refine pq_b (wX98_finish S Z (sb rfl hS) _ _ _ _ w0.1 z5) (fun r7 K8 => ?_)
  have w9 := wk_t w0 K8 hN
  exact q_tA hN w9 (wX92_floating_185 S Z hS n _ _ _ _ w9.1 z_a0 z_a7 i_a1)
theorem wX92_floating_0 (S Z : Nat → Prop) {hx N : Nat} (hS : ∀ x, fe_mem lX92_floating x = true → S x) (n : Nat) (a0 : Nat) (a1 : Int32) (a2 : Int64) (a4 : Int32) (a5 : Int32) (a6 : Int32) (M : FM) (w : WI Z hx N M) (z_a0 : Z a0) (i_a1 : a1.toNatClampNeg = hx) : pq (FX92_floating_0 n a0 a1 a2 a4 a5 a6 M) (QA S Z hx N M) := by
  have hN := w.2.2.1
  have w0 := wk_r (S := S) w
  delta FX92_floating_0 BX92_floating_0
  refine pq_g (fun g1 => ?_)
  have z2 := wk_z (i := 0) (f := 304) w0 rfl z_a0
  have f3 := sS_304 w0.1.1 g1
  refine pq_g (fun g4 => ?_)
  have z5 := wk_zx w0 z2 i_a1
  refine pq_g (fun g6 => ?_)
  have z7 := wk_z (i := 0) (f := 305) w0 rfl z_a0
  have f8 := sS_305 w0.1.1 g6
  refine pq_g (fun g9 => ?_)
  have z10 := wk_zx w0 z7 i_a1
  refine pq_g (fun g11 => ?_)
  refine pq_b (wX100_floats S Z (sb rfl hS) _ _ w0.1 z10) (fun r12 K13 => ?_)
  have w14 := wk_t w0 K13 hN
  refine pq_fi (fun _ => ?_) (fun _ => ?_)
  · refine pq_g (fun g15 => ?_)
    refine pq_b (wX92_illegal S Z (sb rfl hS) _ _ w14.1 z_a0) (fun r16 K17 => ?_)
    have w18 := wk_t w14 K17 hN
    refine pq_g (fun _ => ?_)
    exact pq_s w18
  · refine pq_fi (fun _ => ?_) (fun _ => ?_)
    · refine pq_g (fun g19 => ?_)
      refine pq_g (fun g20 => ?_)
      refine pq_b (wX99_get S Z (sb rfl hS) _ _ _ w14.1 z5) (fun r21 K22 => ?_)
      have w23 := wk_t w14 K22 hN
      refine pq_g (fun g24 => ?_)
      refine pq_b (wX92_store S Z (sb rfl hS) n _ _ _ _ _ _ w23.1 z_a0 i_a1) (fun r25 K26 => ?_)
      have w27 := wk_t w23 K26 hN
      refine pq_g (fun _ => ?_)
      exact pq_s w27
    · refine pq_fi (fun _ => ?_) (fun _ => ?_)
      · refine pq_g (fun g28 => ?_)
        refine pq_b (wX92_finds S Z (sb rfl hS) n _ _ _ _ _ _ w14.1 z_a0 i_a1) (fun r29 K30 => ?_)
        have w31 := wk_t w14 K30 hN
        refine pq_fi (fun _ => ?_) (fun _ => ?_)
        · refine pq_g (fun _ => ?_)
          exact pq_s w31
        · refine pq_g (fun g32 => ?_)
          refine pq_b (wX92_get S Z (sb rfl hS) n _ _ _ w31.1 z_a0) (fun r33 K34 => ?_)
          have w35 := wk_t w31 K34 hN
          refine pq_fi (fun _ => ?_) (fun _ => ?_)
          · refine pq_g (fun g36 => ?_)
            refine pq_b (wX99_box S Z (sb rfl hS) _ _ _ _ w35.1 z5) (fun r37 K38 => ?_)
            have w39 := wk_t w35 K38 hN
            exact q_tA hN w39 (wX92_floating_113 S Z hS n _ _ _ _ w39.1 z_a0 z5 i_a1)
          · refine pq_g (fun g40 => ?_)
            refine pq_b (wX99_set S Z (sb rfl hS) _ _ _ _ w35.1 z5) (fun r41 K42 => ?_)
            have w43 := wk_t w35 K42 hN
            exact q_tA hN w43 (wX92_floating_113 S Z hS n _ _ _ _ w43.1 z_a0 z5 i_a1)
      · refine pq_g (fun g44 => ?_)
        refine pq_g (fun g45 => ?_)
        have z46 := wk_z (i := 0) (f := 303) w14 rfl z_a0
        have f47 := sS_303 w14.1.1 g45
        refine pq_g (fun g48 => ?_)
        have z49 := wk_zx w14 z46 i_a1
        refine pq_g (fun g50 => ?_)
        refine pq_b (wX98_wanted S Z (sb rfl hS) _ _ _ w14.1 z49) (fun r51 K52 => ?_)
        have w53 := wk_t w14 K52 hN
        refine pq_g (fun g54 => ?_)
        refine pq_b (wX99_run S Z (sb rfl hS) n _ _ _ _ w53.1 z5) (fun r55 K56 => ?_)
        have w57 := wk_t w53 K56 hN
        refine pq_fi (fun _ => ?_) (fun _ => ?_)
        · refine pq_g (fun g58 => ?_)
          have z59 := wk_z (i := 0) (f := 303) w57 rfl z_a0
          have f60 := sS_303 w57.1.1 g58
          refine pq_g (fun g61 => ?_)
          have z62 := wk_zx w57 z59 i_a1
          refine pq_fi (fun _ => ?_) (fun _ => ?_)
          · exact q_tA hN w57 (wX92_floating_176 S Z hS n _ _ _ _ _ _ w57.1 z_a0 z5 z62 i_a1)
          · exact q_tA hN w57 (wX92_floating_176 S Z hS n _ _ _ _ _ _ w57.1 z_a0 z5 z62 i_a1)
        · refine pq_g (fun g63 => ?_)
          refine pq_b (wX92_illegal S Z (sb rfl hS) _ _ w57.1 z_a0) (fun r64 K65 => ?_)
          have w66 := wk_t w57 K65 hN
          refine pq_g (fun _ => ?_)
          exact pq_s w66
theorem wX92_floating (S Z : Nat → Prop) {hx N : Nat} (hS : ∀ x, fe_mem lX92_floating x = true → S x) (n : Nat) (a0 : Nat) (a1 : Int32) (a2 : Int64) (a4 : Int32) (a5 : Int32) (a6 : Int32) (M : FM) (w : WI Z hx N M) (z_a0 : Z a0) (i_a1 : a1.toNatClampNeg = hx) : pq (FX92_floating n a0 a1 a2 a4 a5 a6 M) (QA S Z hx N M) := wX92_floating_0 S Z hS n a0 a1 a2 a4 a5 a6 M w z_a0 i_a1
def lX100_back : List Nat := [358, 360, 365, 1361]
theorem wX100_back_158 (S Z : Nat → Prop) {hx N : Nat} (hS : ∀ x, fe_mem lX100_back x = true → S x) (s0 : Nat) (s1 : Nat) (s2 : Int32) (M : FM) (w : WI Z hx N M) (z_s0 : Z s0) (z_s1 : Z s1) : pq (FX100_back_158 s0 s1 s2 M) (QA S Z hx N M) := by
  have hN := w.2.2.1
  have w0 := wk_r (S := S) w
  delta FX100_back_158 BX100_back_158
  refine pq_g (fun g1 => ?_)
  refine pq_g (fun g2 => ?_)
  extract_lets +onlyGivenNames M4
  have w3 : Wk S Z hx N M M4 := wk_fL hN w0 rfl rfl g2 z_s0 (Or.inr (hS 365 rfl))
  refine pq_g (fun _ => ?_)
  exact pq_s w3
theorem wX100_back_140 (S Z : Nat → Prop) {hx N : Nat} (hS : ∀ x, fe_mem lX100_back x = true → S x) (a0 : Nat) (a1 : Int32) (M : FM) (w : WI Z hx N M) (z_a0 : Z a0) : pq (FX100_back_140 a0 a1 M) (QA S Z hx N M) := by
  have hN := w.2.2.1
  have w0 := wk_r (S := S) w
  delta FX100_back_140 BX100_back_140
  refine pq_g (fun g1 => ?_)
  have z2 := wk_z (i := 0) (f := 361) w0 rfl z_a0
  have f3 := sS_361 w0.1.1 g1
  refine pq_fi (fun _ => ?_) (fun _ => ?_)
  · exact q_tA hN w0 (wX100_back_158 S Z hS _ _ _ _ w0.1 z_a0 z2)
  · exact q_tA hN w0 (wX100_back_158 S Z hS _ _ _ _ w0.1 z_a0 z2)
theorem wX100_back_125 (S Z : Nat → Prop) {hx N : Nat} (hS : ∀ x, fe_mem lX100_back x = true → S x) (a0 : Nat) (a1 : Int32) (M : FM) (w : WI Z hx N M) (z_a0 : Z a0) : pq (FX100_back_125 a0 a1 M) (QA S Z hx N M) := by
  have hN := w.2.2.1
  have w0 := wk_r (S := S) w
  delta FX100_back_125 BX100_back_125
  refine pq_g (fun g1 => ?_)
  refine pq_fi (fun _ => ?_) (fun _ => ?_)
  · exact q_tA hN w0 (wX100_back_140 S Z hS _ _ _ w0.1 z_a0)
  · refine pq_g (fun g2 => ?_)
    refine pq_b (wX100_put S Z (sb rfl hS) _ _ _ _ w0.1 z_a0) (fun r3 K4 => ?_)
    have w5 := wk_t w0 K4 hN
    exact q_tA hN w5 (wX100_back_140 S Z hS _ _ _ w5.1 z_a0)
theorem wX100_back_94 (S Z : Nat → Prop) {hx N : Nat} (hS : ∀ x, fe_mem lX100_back x = true → S x) (a0 : Nat) (a1 : Int32) (s0 : Nat) (s1 : Int32) (M : FM) (w : WI Z hx N M) (z_a0 : Z a0) (z_s0 : Z s0) : pq (FX100_back_94 a0 a1 s0 s1 M) (QA S Z hx N M) := by
  have hN := w.2.2.1
  have w0 := wk_r (S := S) w
  delta FX100_back_94 BX100_back_94
  refine pq_g (fun g1 => ?_)
  extract_lets +onlyGivenNames M3
  have w2 : Wk S Z hx N M M3 := wk_fI hN w0 rfl rfl g1 z_s0 (Or.inr (hS 360 rfl))
  refine pq_fi (fun _ => ?_) (fun _ => ?_)
  · refine pq_g (fun g4 => ?_)
    refine pq_b (wX100_put S Z (sb rfl hS) _ _ _ _ w2.1 z_a0) (fun r5 K6 => ?_)
    have w7 := wk_t w2 K6 hN
    exact q_tA hN w7 (wX100_back_125 S Z hS _ _ _ w7.1 z_a0)
  · refine pq_g (fun g8 => ?_)
    refine pq_b (wX100_put S Z (sb rfl hS) _ _ _ _ w2.1 z_a0) (fun r9 K10 => ?_)
    have w11 := wk_t w2 K10 hN
    refine pq_g (fun g12 => ?_)
    refine pq_b (wX100_put S Z (sb rfl hS) _ _ _ _ w11.1 z_a0) (fun r13 K14 => ?_)
    have w15 := wk_t w11 K14 hN
    exact q_tA hN w15 (wX100_back_125 S Z hS _ _ _ w15.1 z_a0)
theorem wX100_back_55 (S Z : Nat → Prop) {hx N : Nat} (hS : ∀ x, fe_mem lX100_back x = true → S x) (a0 : Nat) (a1 : Int32) (s0 : Int32) (M : FM) (w : WI Z hx N M) (z_a0 : Z a0) : pq (FX100_back_55 a0 a1 s0 M) (QA S Z hx N M) := by
  have hN := w.2.2.1
  have w0 := wk_r (S := S) w
  delta FX100_back_55 BX100_back_55
  refine pq_g (fun g1 => ?_)
  refine pq_b (wX100_status S Z (sb rfl hS) _ _ _ w0.1 z_a0) (fun r2 K3 => ?_)
  have w4 := wk_t w0 K3 hN
  refine pq_g (fun g5 => ?_)
  refine pq_b (wX100_put S Z (sb rfl hS) _ _ _ _ w4.1 z_a0) (fun r6 K7 => ?_)
  have w8 := wk_t w4 K7 hN
  refine pq_g (fun g9 => ?_)
  refine pq_b (wX100_put S Z (sb rfl hS) _ _ _ _ w8.1 z_a0) (fun r10 K11 => ?_)
  have w12 := wk_t w8 K11 hN
  refine pq_fi (fun _ => ?_) (fun _ => ?_)
  · refine pq_g (fun g13 => ?_)
    refine pq_b (wX100_status S Z (sb rfl hS) _ _ _ w12.1 z_a0) (fun r14 K15 => ?_)
    have w16 := wk_t w12 K15 hN
    exact q_tA hN w16 (wX100_back_94 S Z hS _ _ _ _ _ w16.1 z_a0 z_a0)
  · refine pq_g (fun g17 => ?_)
    refine pq_b (wX100_below S Z (sb rfl hS) _ _ w12.1 z_a0) (fun r18 K19 => ?_)
    have w20 := wk_t w12 K19 hN
    exact q_tA hN w20 (wX100_back_94 S Z hS _ _ _ _ _ w20.1 z_a0 z_a0)
theorem wX100_back_39 (S Z : Nat → Prop) {hx N : Nat} (hS : ∀ x, fe_mem lX100_back x = true → S x) (a0 : Nat) (a1 : Int32) (s0 : Int32) (M : FM) (w : WI Z hx N M) (z_a0 : Z a0) : pq (FX100_back_39 a0 a1 s0 M) (QA S Z hx N M) := by
  have hN := w.2.2.1
  have w0 := wk_r (S := S) w
  delta FX100_back_39 BX100_back_39
  refine pq_fi (fun _ => ?_) (fun _ => ?_)
  · refine pq_g (fun _ => ?_)
    exact pq_s w0
  · refine pq_fi (fun _ => ?_) (fun _ => ?_)
    · exact q_tA hN w0 (wX100_back_55 S Z hS _ _ _ _ w0.1 z_a0)
    · exact q_tA hN w0 (wX100_back_55 S Z hS _ _ _ _ w0.1 z_a0)
theorem wX100_back_38 (S Z : Nat → Prop) {hx N : Nat} (hS : ∀ x, fe_mem lX100_back x = true → S x) (a0 : Nat) (a1 : Int32) (M : FM) (w : WI Z hx N M) (z_a0 : Z a0) : pq (FX100_back_38 a0 a1 M) (QA S Z hx N M) := by
  have hN := w.2.2.1
  have w0 := wk_r (S := S) w
  delta FX100_back_38 BX100_back_38
  exact q_tA hN w0 (wX100_back_39 S Z hS _ _ _ _ w0.1 z_a0)
theorem wX100_back_34 (S Z : Nat → Prop) {hx N : Nat} (hS : ∀ x, fe_mem lX100_back x = true → S x) (a0 : Nat) (a1 : Int32) (M : FM) (w : WI Z hx N M) (z_a0 : Z a0) : pq (FX100_back_34 a0 a1 M) (QA S Z hx N M) := by
  have hN := w.2.2.1
  have w0 := wk_r (S := S) w
  delta FX100_back_34 BX100_back_34
  exact q_tA hN w0 (wX100_back_39 S Z hS _ _ _ _ w0.1 z_a0)
theorem wX100_back_0 (S Z : Nat → Prop) {hx N : Nat} (hS : ∀ x, fe_mem lX100_back x = true → S x) (a0 : Nat) (a1 : Int32) (M : FM) (w : WI Z hx N M) (z_a0 : Z a0) : pq (FX100_back_0 a0 a1 M) (QA S Z hx N M) := by
  have hN := w.2.2.1
  have w0 := wk_r (S := S) w
  delta FX100_back_0 BX100_back_0
  refine pq_g (fun g1 => ?_)
  extract_lets +onlyGivenNames M3
  have w2 : Wk S Z hx N M M3 := wk_fI hN w0 rfl rfl g1 z_a0 (Or.inr (hS 358 rfl))
  refine pq_g (fun g4 => ?_)
  refine pq_fi (fun _ => ?_) (fun _ => ?_)
  · exact q_tA hN w2 (wX100_back_34 S Z hS _ _ _ w2.1 z_a0)
  · refine pq_fi (fun _ => ?_) (fun _ => ?_)
    · refine pq_g (fun g5 => ?_)
      refine pq_fi (fun _ => ?_) (fun _ => ?_)
      · refine pq_g (fun g6 => ?_)
        refine pq_b (wX100_status S Z (sb rfl hS) _ _ _ w2.1 z_a0) (fun r7 K8 => ?_)
        have w9 := wk_t w2 K8 hN
        refine pq_fi (fun _ => ?_) (fun _ => ?_)
        · exact q_tA hN w9 (wX100_back_34 S Z hS _ _ _ w9.1 z_a0)
        · exact q_tA hN w9 (wX100_back_38 S Z hS _ _ _ w9.1 z_a0)
      · exact q_tA hN w2 (wX100_back_38 S Z hS _ _ _ w2.1 z_a0)
    · exact q_tA hN w2 (wX100_back_38 S Z hS _ _ _ w2.1 z_a0)
theorem wX100_back (S Z : Nat → Prop) {hx N : Nat} (hS : ∀ x, fe_mem lX100_back x = true → S x) (a0 : Nat) (a1 : Int32) (M : FM) (w : WI Z hx N M) (z_a0 : Z a0) : pq (FX100_back a0 a1 M) (QA S Z hx N M) := wX100_back_0 S Z hS a0 a1 M w z_a0
def lX100_place : List Nat := [358]
theorem wX100_place_0 (S Z : Nat → Prop) {hx N : Nat} (hS : ∀ x, fe_mem lX100_place x = true → S x) (a0 : Nat) (M : FM) (w : WI Z hx N M) (z_a0 : Z a0) : pq (FX100_place_0 a0 M) (QA S Z hx N M) := by
  have hN := w.2.2.1
  have w0 := wk_r (S := S) w
  delta FX100_place_0 BX100_place_0
  refine pq_g (fun g1 => ?_)
  extract_lets +onlyGivenNames M3
  have w2 : Wk S Z hx N M M3 := wk_fI hN w0 rfl rfl g1 z_a0 (Or.inr (hS 358 rfl))
  refine pq_g (fun g4 => ?_)
  exact pq_s w2
theorem wX100_place (S Z : Nat → Prop) {hx N : Nat} (hS : ∀ x, fe_mem lX100_place x = true → S x) (a0 : Nat) (M : FM) (w : WI Z hx N M) (z_a0 : Z a0) : pq (FX100_place a0 M) (QA S Z hx N M) := wX100_place_0 S Z hS a0 M w z_a0
def lX98_jump : List Nat := [345, 347, 353]
theorem wX98_jump_0 (S Z : Nat → Prop) {hx N : Nat} (hS : ∀ x, fe_mem lX98_jump x = true → S x) (a0 : Nat) (a1 : Int64) (M : FM) (w : WI Z hx N M) (z_a0 : Z a0) : pq (FX98_jump_0 a0 a1 M) (QV S Z hx N M) := by
  have hN := w.2.2.1
  have w0 := wk_r (S := S) w
  delta FX98_jump_0 BX98_jump_0
  refine pq_g (fun g1 => ?_)
  extract_lets +onlyGivenNames M3
  have w2 : Wk S Z hx N M M3 := wk_fI hN w0 rfl rfl g1 z_a0 (Or.inr (hS 345 rfl))
  refine pq_g (fun g4 => ?_)
  extract_lets +onlyGivenNames M6
  have w5 : Wk S Z hx N M M6 := wk_fL hN w2 rfl rfl g4 z_a0 (Or.inr (hS 347 rfl))
  refine pq_g (fun g7 => ?_)
  extract_lets +onlyGivenNames M9
  have w8 : Wk S Z hx N M M9 := wk_fI hN w5 rfl rfl g7 z_a0 (Or.inr (hS 353 rfl))
  exact pq_s w8
theorem wX98_jump (S Z : Nat → Prop) {hx N : Nat} (hS : ∀ x, fe_mem lX98_jump x = true → S x) (a0 : Nat) (a1 : Int64) (M : FM) (w : WI Z hx N M) (z_a0 : Z a0) : pq (FX98_jump a0 a1 M) (QV S Z hx N M) := wX98_jump_0 S Z hS a0 a1 M w z_a0
def lX92_back : List Nat := [320, 321, 345, 347, 353, 358, 360, 365, 1361]
theorem wX92_back_0 (S Z : Nat → Prop) {hx N : Nat} (hS : ∀ x, fe_mem lX92_back x = true → S x) (a0 : Nat) (a1 : Int32) (a2 : Int32) (M : FM) (w : WI Z hx N M) (z_a0 : Z a0) (i_a1 : a1.toNatClampNeg = hx) : pq (FX92_back_0 a0 a1 a2 M) (QA S Z hx N M) := by
  have hN := w.2.2.1
  have w0 := wk_r (S := S) w
  delta FX92_back_0 BX92_back_0
  refine pq_g (fun g1 => ?_)
  have z2 := wk_z (i := 0) (f := 305) w0 rfl z_a0
  have f3 := sS_305 w0.1.1 g1
  refine pq_g (fun g4 => ?_)
  have z5 := wk_zx w0 z2 i_a1
  refine pq_g (fun g6 => ?_)
  refine pq_b (wX100_back S Z (sb rfl hS) _ _ _ w0.1 z5) (fun r7 K8 => ?_)
  have w9 := wk_t w0 K8 hN
  refine pq_fi (fun _ => ?_) (fun _ => ?_)
  · refine pq_g (fun g10 => ?_)
    refine pq_b (wX92_illegal S Z (sb rfl hS) _ _ w9.1 z_a0) (fun r11 K12 => ?_)
    have w13 := wk_t w9 K12 hN
    refine pq_g (fun _ => ?_)
    exact pq_s w13
  · refine pq_g (fun g14 => ?_)
    have z15 := wk_z (i := 0) (f := 303) w9 rfl z_a0
    have f16 := sS_303 w9.1.1 g14
    refine pq_g (fun g17 => ?_)
    have z18 := wk_zx w9 z15 i_a1
    refine pq_g (fun g19 => ?_)
    have z20 := wk_z (i := 0) (f := 305) w9 rfl z_a0
    have f21 := sS_305 w9.1.1 g19
    refine pq_g (fun g22 => ?_)
    have z23 := wk_zx w9 z20 i_a1
    refine pq_g (fun g24 => ?_)
    refine pq_b (wX100_place S Z (sb rfl hS) _ _ w9.1 z23) (fun r25 K26 => ?_)
    have w27 := wk_t w9 K26 hN
    refine pq_g (fun g28 => ?_)
    refine pq_b (wX98_jump S Z (sb rfl hS) _ _ _ w27.1 z18) (fun r29 K30 => ?_)
    have w31 := wk_t w27 K30 hN
    refine pq_g (fun _ => ?_)
    exact pq_s w31
theorem wX92_back (S Z : Nat → Prop) {hx N : Nat} (hS : ∀ x, fe_mem lX92_back x = true → S x) (a0 : Nat) (a1 : Int32) (a2 : Int32) (M : FM) (w : WI Z hx N M) (z_a0 : Z a0) (i_a1 : a1.toNatClampNeg = hx) : pq (FX92_back a0 a1 a2 M) (QA S Z hx N M) := wX92_back_0 S Z hS a0 a1 a2 M w z_a0 i_a1
def lX100_allowed : List Nat := [358]
theorem wX100_allowed_64 (S Z : Nat → Prop) {hx N : Nat} (hS : ∀ x, fe_mem lX100_allowed x = true → S x) (s0 : Int32) (M : FM) (w : WI Z hx N M) : pq (FX100_allowed_64 s0 M) (QA S Z hx N M) := by
  have hN := w.2.2.1
  have w0 := wk_r (S := S) w
  delta FX100_allowed_64 BX100_allowed_64
  refine pq_g (fun _ => ?_)
  exact pq_s w0
theorem wX100_allowed_63 (S Z : Nat → Prop) {hx N : Nat} (hS : ∀ x, fe_mem lX100_allowed x = true → S x) (M : FM) (w : WI Z hx N M) : pq (FX100_allowed_63 M) (QA S Z hx N M) := by
  have hN := w.2.2.1
  have w0 := wk_r (S := S) w
  delta FX100_allowed_63 BX100_allowed_63
  exact q_tA hN w0 (wX100_allowed_64 S Z hS _ _ w0.1 )
theorem wX100_allowed_59 (S Z : Nat → Prop) {hx N : Nat} (hS : ∀ x, fe_mem lX100_allowed x = true → S x) (M : FM) (w : WI Z hx N M) : pq (FX100_allowed_59 M) (QA S Z hx N M) := by
  have hN := w.2.2.1
  have w0 := wk_r (S := S) w
  delta FX100_allowed_59 BX100_allowed_59
  exact q_tA hN w0 (wX100_allowed_64 S Z hS _ _ w0.1 )
theorem wX100_allowed_53 (S Z : Nat → Prop) {hx N : Nat} (hS : ∀ x, fe_mem lX100_allowed x = true → S x) (s0 : Nat) (s1 : Int32) (M : FM) (w : WI Z hx N M) (z_s0 : Z s0) : pq (FX100_allowed_53 s0 s1 M) (QA S Z hx N M) := by
  have hN := w.2.2.1
  have w0 := wk_r (S := S) w
  delta FX100_allowed_53 BX100_allowed_53
  refine pq_g (fun g1 => ?_)
  refine pq_b (wX100_status S Z (sb rfl hS) _ _ _ w0.1 z_s0) (fun r2 K3 => ?_)
  have w4 := wk_t w0 K3 hN
  refine pq_fi (fun _ => ?_) (fun _ => ?_)
  · exact q_tA hN w4 (wX100_allowed_59 S Z hS _ w4.1 )
  · exact q_tA hN w4 (wX100_allowed_63 S Z hS _ w4.1 )
theorem wX100_allowed_15 (S Z : Nat → Prop) {hx N : Nat} (hS : ∀ x, fe_mem lX100_allowed x = true → S x) (a0 : Nat) (a1 : Int32) (s0 : Nat) (s1 : Int32) (M : FM) (w : WI Z hx N M) (z_a0 : Z a0) (z_s0 : Z s0) : pq (FX100_allowed_15 a0 a1 s0 s1 M) (QA S Z hx N M) := by
  have hN := w.2.2.1
  have w0 := wk_r (S := S) w
  delta FX100_allowed_15 BX100_allowed_15
  refine pq_g (fun g1 => ?_)
  extract_lets +onlyGivenNames M3
  have w2 : Wk S Z hx N M M3 := wk_fI hN w0 rfl rfl g1 z_s0 (Or.inr (hS 358 rfl))
  refine pq_g (fun g4 => ?_)
  refine pq_fi (fun _ => ?_) (fun _ => ?_)
  · refine pq_g (fun g5 => ?_)
    refine pq_fi (fun _ => ?_) (fun _ => ?_)
    · exact q_tA hN w2 (wX100_allowed_59 S Z hS _ w2.1 )
    · refine pq_g (fun g6 => ?_)
      refine pq_fi (fun _ => ?_) (fun _ => ?_)
      · refine pq_fi (fun _ => ?_) (fun _ => ?_)
        · exact q_tA hN w2 (wX100_allowed_53 S Z hS _ _ _ w2.1 z_a0)
        · exact q_tA hN w2 (wX100_allowed_53 S Z hS _ _ _ w2.1 z_a0)
      · exact q_tA hN w2 (wX100_allowed_63 S Z hS _ w2.1 )
  · exact q_tA hN w2 (wX100_allowed_63 S Z hS _ w2.1 )
theorem wX100_allowed_10 (S Z : Nat → Prop) {hx N : Nat} (hS : ∀ x, fe_mem lX100_allowed x = true → S x) (a0 : Nat) (a1 : Int32) (s0 : Nat) (M : FM) (w : WI Z hx N M) (z_a0 : Z a0) (z_s0 : Z s0) : pq (FX100_allowed_10 a0 a1 s0 M) (QA S Z hx N M) := by
  have hN := w.2.2.1
  have w0 := wk_r (S := S) w
  delta FX100_allowed_10 BX100_allowed_10
  exact q_tA hN w0 (wX100_allowed_15 S Z hS _ _ _ _ _ w0.1 z_a0 z_s0)
theorem wX100_allowed_0 (S Z : Nat → Prop) {hx N : Nat} (hS : ∀ x, fe_mem lX100_allowed x = true → S x) (a0 : Nat) (a1 : Int32) (M : FM) (w : WI Z hx N M) (z_a0 : Z a0) : pq (FX100_allowed_0 a0 a1 M) (QA S Z hx N M) := by
  have hN := w.2.2.1
  have w0 := wk_r (S := S) w
  delta FX100_allowed_0 BX100_allowed_0
  refine pq_fi (fun _ => ?_) (fun _ => ?_)
  · exact q_tA hN w0 (wX100_allowed_10 S Z hS _ _ _ _ w0.1 z_a0 z_a0)
  · refine pq_fi (fun _ => ?_) (fun _ => ?_)
    · exact q_tA hN w0 (wX100_allowed_10 S Z hS _ _ _ _ w0.1 z_a0 z_a0)
    · exact q_tA hN w0 (wX100_allowed_15 S Z hS _ _ _ _ _ w0.1 z_a0 z_a0)
theorem wX100_allowed (S Z : Nat → Prop) {hx N : Nat} (hS : ∀ x, fe_mem lX100_allowed x = true → S x) (a0 : Nat) (a1 : Int32) (M : FM) (w : WI Z hx N M) (z_a0 : Z a0) : pq (FX100_allowed a0 a1 M) (QA S Z hx N M) := wX100_allowed_0 S Z hS a0 a1 M w z_a0
def lX92_system : List Nat := [320, 321, 345, 347, 348, 353, 358, 360, 365, 1307, 1346, 1361]
theorem wX92_system_187 (S Z : Nat → Prop) {hx N : Nat} (hS : ∀ x, fe_mem lX92_system x = true → S x) (a0 : Nat) (a1 : Int32) (s0 : Nat) (s1 : Int32) (s2 : Int32) (M : FM) (w : WI Z hx N M) (z_a0 : Z a0) (z_s0 : Z s0) (y_s0 : Sy S N M s0) (i_a1 : a1.toNatClampNeg = hx) : pq (FX92_system_187 a0 a1 s0 s1 s2 M) (QA S Z hx N M) := by
  have hN := w.2.2.1
  have w0 := wk_r (S := S) w
  delta FX92_system_187 BX92_system_187
  refine pq_g (fun g1 => ?_)
  extract_lets +onlyGivenNames M3
  have w2 : Wk S Z hx N M M3 := wk_aI hN w0 rfl g1.1 z_s0 y_s0
  refine pq_g (fun g4 => ?_)
  have z5 := wk_z (i := 0) (f := 303) w2 rfl z_a0
  have f6 := sS_303 w2.1.1 g4
  refine pq_g (fun g7 => ?_)
  have z8 := wk_zx w2 z5 i_a1
  refine pq_g (fun g9 => ?_)
  refine pq_b (wX98_finish S Z (sb rfl hS) _ _ _ _ w2.1 z8) (fun r10 K11 => ?_)
  have w12 := wk_t w2 K11 hN
  refine pq_g (fun _ => ?_)
  exact pq_s w12
theorem wX92_system_170 (S Z : Nat → Prop) {hx N : Nat} (hS : ∀ x, fe_mem lX92_system x = true → S x) (a0 : Nat) (a1 : Int32) (a2 : Int32) (M : FM) (w : WI Z hx N M) (z_a0 : Z a0) (i_a1 : a1.toNatClampNeg = hx) : pq (FX92_system_170 a0 a1 a2 M) (QA S Z hx N M) := by
  have hN := w.2.2.1
  have w0 := wk_r (S := S) w
  delta FX92_system_170 BX92_system_170
  refine pq_g (fun g1 => ?_)
  have z2 := wk_z (i := 0) (f := 307) w0 rfl z_a0
  have f3 := sS_307 w0.1.1 g1
  refine pq_fi (fun _ => ?_) (fun _ => ?_)
  · exact q_tA hN w0 (wX92_system_187 S Z hS _ _ _ _ _ _ w0.1 z_a0 z2 (sy_s f3 (hS 1307 rfl)) i_a1)
  · exact q_tA hN w0 (wX92_system_187 S Z hS _ _ _ _ _ _ w0.1 z_a0 z2 (sy_s f3 (hS 1307 rfl)) i_a1)
theorem wX92_system_165 (S Z : Nat → Prop) {hx N : Nat} (hS : ∀ x, fe_mem lX92_system x = true → S x) (a0 : Nat) (M : FM) (w : WI Z hx N M) (z_a0 : Z a0) : pq (FX92_system_165 a0 M) (QA S Z hx N M) := by
  have hN := w.2.2.1
  have w0 := wk_r (S := S) w
  delta FX92_system_165 BX92_system_165
  refine pq_g (fun g1 => ?_)
  refine pq_b (wX92_illegal S Z (sb rfl hS) _ _ w0.1 z_a0) (fun r2 K3 => ?_)
  have w4 := wk_t w0 K3 hN
  refine pq_g (fun _ => ?_)
  exact pq_s w4
theorem wX92_system_149 (S Z : Nat → Prop) {hx N : Nat} (hS : ∀ x, fe_mem lX92_system x = true → S x) (a0 : Nat) (a1 : Int32) (a2 : Int32) (a5 : Nat) (M : FM) (w : WI Z hx N M) (z_a0 : Z a0) (z_a5 : Z a5) (i_a1 : a1.toNatClampNeg = hx) : pq (FX92_system_149 a0 a1 a2 a5 M) (QA S Z hx N M) := by
  have hN := w.2.2.1
  have w0 := wk_r (S := S) w
  delta FX92_system_149 BX92_system_149
  refine pq_fi (fun _ => ?_) (fun _ => ?_)
  · refine pq_g (fun g1 => ?_)
    refine pq_b (wX100_allowed S Z (sb rfl hS) _ _ _ w0.1 z_a5) (fun r2 K3 => ?_)
    have w4 := wk_t w0 K3 hN
    refine pq_fi (fun _ => ?_) (fun _ => ?_)
    · exact q_tA hN w4 (wX92_system_165 S Z hS _ _ w4.1 z_a0)
    · exact q_tA hN w4 (wX92_system_170 S Z hS _ _ _ _ w4.1 z_a0 i_a1)
  · exact q_tA hN w0 (wX92_system_165 S Z hS _ _ w0.1 z_a0)
theorem wX92_system_48 (S Z : Nat → Prop) {hx N : Nat} (hS : ∀ x, fe_mem lX92_system x = true → S x) (a0 : Nat) (a1 : Int32) (a2 : Int32) (a5 : Nat) (a6 : Int32) (M : FM) (w : WI Z hx N M) (z_a0 : Z a0) (z_a5 : Z a5) (i_a1 : a1.toNatClampNeg = hx) : pq (FX92_system_48 a0 a1 a2 a5 a6 M) (QA S Z hx N M) := by
  have hN := w.2.2.1
  have w0 := wk_r (S := S) w
  delta FX92_system_48 BX92_system_48
  refine pq_fi (fun _ => ?_) (fun _ => ?_)
  · refine pq_g (fun g1 => ?_)
    refine pq_b (wX100_mode S Z (sb rfl hS) _ _ w0.1 z_a5) (fun r2 K3 => ?_)
    have w4 := wk_t w0 K3 hN
    refine pq_g (fun g5 => ?_)
    refine pq_b (wX92_fail S Z (sb rfl hS) _ _ _ _ w4.1 z_a0) (fun r6 K7 => ?_)
    have w8 := wk_t w4 K7 hN
    refine pq_g (fun _ => ?_)
    exact pq_s w8
  · refine pq_fi (fun _ => ?_) (fun _ => ?_)
    · refine pq_g (fun g9 => ?_)
      have z10 := wk_z (i := 0) (f := 303) w0 rfl z_a0
      have f11 := sS_303 w0.1.1 g9
      refine pq_g (fun g12 => ?_)
      have z13 := wk_zx w0 z10 i_a1
      refine pq_g (fun g14 => ?_)
      refine pq_b (wX98_counter S Z (sb rfl hS) _ _ w0.1 z13) (fun r15 K16 => ?_)
      have w17 := wk_t w0 K16 hN
      refine pq_g (fun g18 => ?_)
      refine pq_b (wX92_fail S Z (sb rfl hS) _ _ _ _ w17.1 z_a0) (fun r19 K20 => ?_)
      have w21 := wk_t w17 K20 hN
      refine pq_g (fun _ => ?_)
      exact pq_s w21
    · refine pq_fi (fun _ => ?_) (fun _ => ?_)
      · refine pq_g (fun g22 => ?_)
        refine pq_b (wX92_back S Z (sb rfl hS) _ _ _ _ w0.1 z_a0 i_a1) (fun r23 K24 => ?_)
        have w25 := wk_t w0 K24 hN
        refine pq_g (fun _ => ?_)
        exact pq_s w25
      · refine pq_fi (fun _ => ?_) (fun _ => ?_)
        · refine pq_g (fun g26 => ?_)
          refine pq_b (wX92_back S Z (sb rfl hS) _ _ _ _ w0.1 z_a0 i_a1) (fun r27 K28 => ?_)
          have w29 := wk_t w0 K28 hN
          refine pq_g (fun _ => ?_)
          exact pq_s w29
        · refine pq_fi (fun _ => ?_) (fun _ => ?_)
          · exact q_tA hN w0 (wX92_system_149 S Z hS _ _ _ _ _ w0.1 z_a0 z_a5 i_a1)
          · refine pq_g (fun g30 => ?_)
            refine pq_b (wX100_allowed S Z (sb rfl hS) _ _ _ w0.1 z_a5) (fun r31 K32 => ?_)
            have w33 := wk_t w0 K32 hN
            refine pq_fi (fun _ => ?_) (fun _ => ?_)
            · exact q_tA hN w33 (wX92_system_149 S Z hS _ _ _ _ _ w33.1 z_a0 z_a5 i_a1)
            · exact q_tA hN w33 (wX92_system_170 S Z hS _ _ _ _ w33.1 z_a0 i_a1)
theorem wX92_system_43 (S Z : Nat → Prop) {hx N : Nat} (hS : ∀ x, fe_mem lX92_system x = true → S x) (a0 : Nat) (M : FM) (w : WI Z hx N M) (z_a0 : Z a0) : pq (FX92_system_43 a0 M) (QA S Z hx N M) := by
  have hN := w.2.2.1
  have w0 := wk_r (S := S) w
  delta FX92_system_43 BX92_system_43
  refine pq_g (fun g1 => ?_)
  refine pq_b (wX92_illegal S Z (sb rfl hS) _ _ w0.1 z_a0) (fun r2 K3 => ?_)
  have w4 := wk_t w0 K3 hN
  refine pq_g (fun _ => ?_)
  exact pq_s w4
theorem wX92_system_27 (S Z : Nat → Prop) {hx N : Nat} (hS : ∀ x, fe_mem lX92_system x = true → S x) (a0 : Nat) (a1 : Int32) (a2 : Int32) (a3 : Int32) (a4 : Int32) (a5 : Nat) (s0 : Int32) (M : FM) (w : WI Z hx N M) (z_a0 : Z a0) (z_a5 : Z a5) (i_a1 : a1.toNatClampNeg = hx) : pq (FX92_system_27 a0 a1 a2 a3 a4 a5 s0 M) (QA S Z hx N M) := by
  have hN := w.2.2.1
  have w0 := wk_r (S := S) w
  delta FX92_system_27 BX92_system_27
  refine pq_fi (fun _ => ?_) (fun _ => ?_)
  · refine pq_fi (fun _ => ?_) (fun _ => ?_)
    · exact q_tA hN w0 (wX92_system_48 S Z hS _ _ _ _ _ _ w0.1 z_a0 z_a5 i_a1)
    · refine pq_fi (fun _ => ?_) (fun _ => ?_)
      · exact q_tA hN w0 (wX92_system_43 S Z hS _ _ w0.1 z_a0)
      · exact q_tA hN w0 (wX92_system_48 S Z hS _ _ _ _ _ _ w0.1 z_a0 z_a5 i_a1)
  · exact q_tA hN w0 (wX92_system_43 S Z hS _ _ w0.1 z_a0)
theorem wX92_system_26 (S Z : Nat → Prop) {hx N : Nat} (hS : ∀ x, fe_mem lX92_system x = true → S x) (a0 : Nat) (a1 : Int32) (a2 : Int32) (a3 : Int32) (a4 : Int32) (a5 : Nat) (M : FM) (w : WI Z hx N M) (z_a0 : Z a0) (z_a5 : Z a5) (i_a1 : a1.toNatClampNeg = hx) : pq (FX92_system_26 a0 a1 a2 a3 a4 a5 M) (QA S Z hx N M) := by
  have hN := w.2.2.1
  have w0 := wk_r (S := S) w
  delta FX92_system_26 BX92_system_26
  exact q_tA hN w0 (wX92_system_27 S Z hS _ _ _ _ _ _ _ _ w0.1 z_a0 z_a5 i_a1)
theorem wX92_system_0 (S Z : Nat → Prop) {hx N : Nat} (hS : ∀ x, fe_mem lX92_system x = true → S x) (a0 : Nat) (a1 : Int32) (a2 : Int32) (a3 : Int32) (a4 : Int32) (M : FM) (w : WI Z hx N M) (z_a0 : Z a0) (i_a1 : a1.toNatClampNeg = hx) : pq (FX92_system_0 a0 a1 a2 a3 a4 M) (QA S Z hx N M) := by
  have hN := w.2.2.1
  have w0 := wk_r (S := S) w
  delta FX92_system_0 BX92_system_0
  refine pq_g (fun g1 => ?_)
  have z2 := wk_z (i := 0) (f := 305) w0 rfl z_a0
  have f3 := sS_305 w0.1.1 g1
  refine pq_g (fun g4 => ?_)
  have z5 := wk_zx w0 z2 i_a1
  refine pq_fi (fun _ => ?_) (fun _ => ?_)
  · exact q_tA hN w0 (wX92_system_26 S Z hS _ _ _ _ _ _ _ w0.1 z_a0 z5 i_a1)
  · refine pq_fi (fun _ => ?_) (fun _ => ?_)
    · exact q_tA hN w0 (wX92_system_26 S Z hS _ _ _ _ _ _ _ w0.1 z_a0 z5 i_a1)
    · exact q_tA hN w0 (wX92_system_27 S Z hS _ _ _ _ _ _ _ _ w0.1 z_a0 z5 i_a1)
theorem wX92_system (S Z : Nat → Prop) {hx N : Nat} (hS : ∀ x, fe_mem lX92_system x = true → S x) (a0 : Nat) (a1 : Int32) (a2 : Int32) (a3 : Int32) (a4 : Int32) (M : FM) (w : WI Z hx N M) (z_a0 : Z a0) (i_a1 : a1.toNatClampNeg = hx) : pq (FX92_system a0 a1 a2 a3 a4 M) (QA S Z hx N M) := wX92_system_0 S Z hS a0 a1 a2 a3 a4 M w z_a0 i_a1
def lX100_isIllegal : List Nat := []
theorem wX100_isIllegal_177 (S Z : Nat → Prop) {hx N : Nat} (hS : ∀ x, fe_mem lX100_isIllegal x = true → S x) (s0 : Int32) (M : FM) (w : WI Z hx N M) : pq (FX100_isIllegal_177 s0 M) (QA S Z hx N M) := by
  have hN := w.2.2.1
  have w0 := wk_r (S := S) w
  delta FX100_isIllegal_177 BX100_isIllegal_177
  refine pq_g (fun _ => ?_)
  exact pq_s w0
theorem wX100_isIllegal_172 (S Z : Nat → Prop) {hx N : Nat} (hS : ∀ x, fe_mem lX100_isIllegal x = true → S x) (M : FM) (w : WI Z hx N M) : pq (FX100_isIllegal_172 M) (QA S Z hx N M) := by
  have hN := w.2.2.1
  have w0 := wk_r (S := S) w
  delta FX100_isIllegal_172 BX100_isIllegal_172
  exact q_tA hN w0 (wX100_isIllegal_177 S Z hS _ _ w0.1 )
theorem wX100_isIllegal_163 (S Z : Nat → Prop) {hx N : Nat} (hS : ∀ x, fe_mem lX100_isIllegal x = true → S x) (a3 : Int32) (a4 : Int32) (M : FM) (w : WI Z hx N M) : pq (FX100_isIllegal_163 a3 a4 M) (QA S Z hx N M) := by
  have hN := w.2.2.1
  have w0 := wk_r (S := S) w
  delta FX100_isIllegal_163 BX100_isIllegal_163
  refine pq_fi (fun _ => ?_) (fun _ => ?_)
  · refine pq_fi (fun _ => ?_) (fun _ => ?_)
    · exact q_tA hN w0 (wX100_isIllegal_177 S Z hS _ _ w0.1 )
    · exact q_tA hN w0 (wX100_isIllegal_172 S Z hS _ w0.1 )
  · exact q_tA hN w0 (wX100_isIllegal_172 S Z hS _ w0.1 )
theorem wX100_isIllegal_161 (S Z : Nat → Prop) {hx N : Nat} (hS : ∀ x, fe_mem lX100_isIllegal x = true → S x) (a3 : Int32) (s0 : Int32) (M : FM) (w : WI Z hx N M) : pq (FX100_isIllegal_161 a3 s0 M) (QA S Z hx N M) := by
  have hN := w.2.2.1
  have w0 := wk_r (S := S) w
  delta FX100_isIllegal_161 BX100_isIllegal_161
  exact q_tA hN w0 (wX100_isIllegal_163 S Z hS _ _ _ w0.1 )
theorem wX100_isIllegal_160 (S Z : Nat → Prop) {hx N : Nat} (hS : ∀ x, fe_mem lX100_isIllegal x = true → S x) (a3 : Int32) (M : FM) (w : WI Z hx N M) : pq (FX100_isIllegal_160 a3 M) (QA S Z hx N M) := by
  have hN := w.2.2.1
  have w0 := wk_r (S := S) w
  delta FX100_isIllegal_160 BX100_isIllegal_160
  exact q_tA hN w0 (wX100_isIllegal_161 S Z hS _ _ _ w0.1 )
theorem wX100_isIllegal_156 (S Z : Nat → Prop) {hx N : Nat} (hS : ∀ x, fe_mem lX100_isIllegal x = true → S x) (a3 : Int32) (M : FM) (w : WI Z hx N M) : pq (FX100_isIllegal_156 a3 M) (QA S Z hx N M) := by
  have hN := w.2.2.1
  have w0 := wk_r (S := S) w
  delta FX100_isIllegal_156 BX100_isIllegal_156
  exact q_tA hN w0 (wX100_isIllegal_161 S Z hS _ _ _ w0.1 )
theorem wX100_isIllegal_133 (S Z : Nat → Prop) {hx N : Nat} (hS : ∀ x, fe_mem lX100_isIllegal x = true → S x) (a0 : Nat) (a3 : Int32) (a5 : Int64) (M : FM) (w : WI Z hx N M) (z_a0 : Z a0) : pq (FX100_isIllegal_133 a0 a3 a5 M) (QA S Z hx N M) := by
  have hN := w.2.2.1
  have w0 := wk_r (S := S) w
  delta FX100_isIllegal_133 BX100_isIllegal_133
  refine pq_g (fun g1 => ?_)
  refine pq_fi (fun _ => ?_) (fun _ => ?_)
  · refine pq_g (fun g2 => ?_)
    have z3 := wk_z (i := 0) (f := 361) w0 rfl z_a0
    have f4 := sS_361 w0.1.1 g2
    refine pq_g (fun g5 => ?_)
    refine pq_fi (fun _ => ?_) (fun _ => ?_)
    · exact q_tA hN w0 (wX100_isIllegal_156 S Z hS _ _ w0.1 )
    · exact q_tA hN w0 (wX100_isIllegal_160 S Z hS _ _ w0.1 )
  · exact q_tA hN w0 (wX100_isIllegal_160 S Z hS _ _ w0.1 )
theorem wX100_isIllegal_86 (S Z : Nat → Prop) {hx N : Nat} (hS : ∀ x, fe_mem lX100_isIllegal x = true → S x) (a0 : Nat) (a1 : Int32) (a3 : Int32) (s0 : Int32) (M : FM) (w : WI Z hx N M) (z_a0 : Z a0) : pq (FX100_isIllegal_86 a0 a1 a3 s0 M) (QA S Z hx N M) := by
  have hN := w.2.2.1
  have w0 := wk_r (S := S) w
  delta FX100_isIllegal_86 BX100_isIllegal_86
  refine pq_b (wX100_isCount S Z (sb rfl hS) _ _ w0.1 ) (fun r1 K2 => ?_)
  have w3 := wk_t w0 K2 hN
  refine pq_fi (fun _ => ?_) (fun _ => ?_)
  · exact q_tA hN w3 (wX100_isIllegal_163 S Z hS _ _ _ w3.1 )
  · refine pq_fi (fun _ => ?_) (fun _ => ?_)
    · refine pq_g (fun g4 => ?_)
      refine pq_fi (fun _ => ?_) (fun _ => ?_)
      · exact q_tA hN w3 (wX100_isIllegal_133 S Z hS _ _ _ _ w3.1 z_a0)
      · refine pq_g (fun g5 => ?_)
        have z6 := wk_z (i := 0) (f := 361) w3 rfl z_a0
        have f7 := sS_361 w3.1.1 g5
        refine pq_g (fun g8 => ?_)
        refine pq_fi (fun _ => ?_) (fun _ => ?_)
        · exact q_tA hN w3 (wX100_isIllegal_156 S Z hS _ _ w3.1 )
        · exact q_tA hN w3 (wX100_isIllegal_133 S Z hS _ _ _ _ w3.1 z_a0)
    · exact q_tA hN w3 (wX100_isIllegal_156 S Z hS _ _ w3.1 )
theorem wX100_isIllegal_85 (S Z : Nat → Prop) {hx N : Nat} (hS : ∀ x, fe_mem lX100_isIllegal x = true → S x) (a0 : Nat) (a1 : Int32) (a3 : Int32) (M : FM) (w : WI Z hx N M) (z_a0 : Z a0) : pq (FX100_isIllegal_85 a0 a1 a3 M) (QA S Z hx N M) := by
  have hN := w.2.2.1
  have w0 := wk_r (S := S) w
  delta FX100_isIllegal_85 BX100_isIllegal_85
  exact q_tA hN w0 (wX100_isIllegal_86 S Z hS _ _ _ _ _ w0.1 z_a0)
theorem wX100_isIllegal_81 (S Z : Nat → Prop) {hx N : Nat} (hS : ∀ x, fe_mem lX100_isIllegal x = true → S x) (a0 : Nat) (a1 : Int32) (a3 : Int32) (M : FM) (w : WI Z hx N M) (z_a0 : Z a0) : pq (FX100_isIllegal_81 a0 a1 a3 M) (QA S Z hx N M) := by
  have hN := w.2.2.1
  have w0 := wk_r (S := S) w
  delta FX100_isIllegal_81 BX100_isIllegal_81
  exact q_tA hN w0 (wX100_isIllegal_86 S Z hS _ _ _ _ _ w0.1 z_a0)
theorem wX100_isIllegal_65 (S Z : Nat → Prop) {hx N : Nat} (hS : ∀ x, fe_mem lX100_isIllegal x = true → S x) (a0 : Nat) (a1 : Int32) (a3 : Int32) (M : FM) (w : WI Z hx N M) (z_a0 : Z a0) : pq (FX100_isIllegal_65 a0 a1 a3 M) (QA S Z hx N M) := by
  have hN := w.2.2.1
  have w0 := wk_r (S := S) w
  delta FX100_isIllegal_65 BX100_isIllegal_65
  refine pq_fi (fun _ => ?_) (fun _ => ?_)
  · exact q_tA hN w0 (wX100_isIllegal_85 S Z hS _ _ _ _ w0.1 z_a0)
  · refine pq_fi (fun _ => ?_) (fun _ => ?_)
    · exact q_tA hN w0 (wX100_isIllegal_85 S Z hS _ _ _ _ w0.1 z_a0)
    · refine pq_g (fun g1 => ?_)
      refine pq_b (wX100_floating S Z (sb rfl hS) _ _ w0.1 z_a0) (fun r2 K3 => ?_)
      have w4 := wk_t w0 K3 hN
      refine pq_fi (fun _ => ?_) (fun _ => ?_)
      · exact q_tA hN w4 (wX100_isIllegal_81 S Z hS _ _ _ _ w4.1 z_a0)
      · exact q_tA hN w4 (wX100_isIllegal_85 S Z hS _ _ _ _ w4.1 z_a0)
theorem wX100_isIllegal_39 (S Z : Nat → Prop) {hx N : Nat} (hS : ∀ x, fe_mem lX100_isIllegal x = true → S x) (a0 : Nat) (a1 : Int32) (s0 : Int32) (M : FM) (w : WI Z hx N M) (z_a0 : Z a0) : pq (FX100_isIllegal_39 a0 a1 s0 M) (QA S Z hx N M) := by
  have hN := w.2.2.1
  have w0 := wk_r (S := S) w
  delta FX100_isIllegal_39 BX100_isIllegal_39
  refine pq_fi (fun _ => ?_) (fun _ => ?_)
  · refine pq_g (fun g1 => ?_)
    refine pq_fi (fun _ => ?_) (fun _ => ?_)
    · refine pq_g (fun g2 => ?_)
      refine pq_b (wX100_status S Z (sb rfl hS) _ _ _ w0.1 z_a0) (fun r3 K4 => ?_)
      have w5 := wk_t w0 K4 hN
      refine pq_fi (fun _ => ?_) (fun _ => ?_)
      · exact q_tA hN w5 (wX100_isIllegal_81 S Z hS _ _ _ _ w5.1 z_a0)
      · exact q_tA hN w5 (wX100_isIllegal_65 S Z hS _ _ _ _ w5.1 z_a0)
    · exact q_tA hN w0 (wX100_isIllegal_65 S Z hS _ _ _ _ w0.1 z_a0)
  · exact q_tA hN w0 (wX100_isIllegal_65 S Z hS _ _ _ _ w0.1 z_a0)
theorem wX100_isIllegal_38 (S Z : Nat → Prop) {hx N : Nat} (hS : ∀ x, fe_mem lX100_isIllegal x = true → S x) (a0 : Nat) (a1 : Int32) (M : FM) (w : WI Z hx N M) (z_a0 : Z a0) : pq (FX100_isIllegal_38 a0 a1 M) (QA S Z hx N M) := by
  have hN := w.2.2.1
  have w0 := wk_r (S := S) w
  delta FX100_isIllegal_38 BX100_isIllegal_38
  exact q_tA hN w0 (wX100_isIllegal_39 S Z hS _ _ _ _ w0.1 z_a0)
theorem wX100_isIllegal_34 (S Z : Nat → Prop) {hx N : Nat} (hS : ∀ x, fe_mem lX100_isIllegal x = true → S x) (a0 : Nat) (a1 : Int32) (M : FM) (w : WI Z hx N M) (z_a0 : Z a0) : pq (FX100_isIllegal_34 a0 a1 M) (QA S Z hx N M) := by
  have hN := w.2.2.1
  have w0 := wk_r (S := S) w
  delta FX100_isIllegal_34 BX100_isIllegal_34
  exact q_tA hN w0 (wX100_isIllegal_39 S Z hS _ _ _ _ w0.1 z_a0)
theorem wX100_isIllegal_0 (S Z : Nat → Prop) {hx N : Nat} (hS : ∀ x, fe_mem lX100_isIllegal x = true → S x) (a0 : Nat) (a1 : Int32) (a2 : Int32) (M : FM) (w : WI Z hx N M) (z_a0 : Z a0) : pq (FX100_isIllegal_0 a0 a1 a2 M) (QA S Z hx N M) := by
  have hN := w.2.2.1
  have w0 := wk_r (S := S) w
  delta FX100_isIllegal_0 BX100_isIllegal_0
  refine pq_b (wX100_isThere S Z (sb rfl hS) _ _ w0.1 ) (fun r1 K2 => ?_)
  have w3 := wk_t w0 K2 hN
  refine pq_fi (fun _ => ?_) (fun _ => ?_)
  · exact q_tA hN w3 (wX100_isIllegal_34 S Z hS _ _ _ w3.1 z_a0)
  · refine pq_g (fun g4 => ?_)
    refine pq_fi (fun _ => ?_) (fun _ => ?_)
    · exact q_tA hN w3 (wX100_isIllegal_34 S Z hS _ _ _ w3.1 z_a0)
    · refine pq_fi (fun _ => ?_) (fun _ => ?_)
      · exact q_tA hN w3 (wX100_isIllegal_38 S Z hS _ _ _ w3.1 z_a0)
      · refine pq_fi (fun _ => ?_) (fun _ => ?_)
        · exact q_tA hN w3 (wX100_isIllegal_34 S Z hS _ _ _ w3.1 z_a0)
        · exact q_tA hN w3 (wX100_isIllegal_38 S Z hS _ _ _ w3.1 z_a0)
theorem wX100_isIllegal (S Z : Nat → Prop) {hx N : Nat} (hS : ∀ x, fe_mem lX100_isIllegal x = true → S x) (a0 : Nat) (a1 : Int32) (a2 : Int32) (M : FM) (w : WI Z hx N M) (z_a0 : Z a0) : pq (FX100_isIllegal a0 a1 a2 M) (QA S Z hx N M) := wX100_isIllegal_0 S Z hS a0 a1 a2 M w z_a0
def lX100_through : List Nat := [1361]
theorem wX100_through_0 (S Z : Nat → Prop) {hx N : Nat} (hS : ∀ x, fe_mem lX100_through x = true → S x) (a0 : Nat) (a1 : Int32) (a2 : Int64) (a4 : Int64) (M : FM) (w : WI Z hx N M) (z_a0 : Z a0) : pq (FX100_through_0 a0 a1 a2 a4 M) (QV S Z hx N M) := by
  have hN := w.2.2.1
  have w0 := wk_r (S := S) w
  delta FX100_through_0 BX100_through_0
  refine pq_g (fun g1 => ?_)
  have z2 := wk_z (i := 0) (f := 361) w0 rfl z_a0
  have f3 := sS_361 w0.1.1 g1
  refine pq_g (fun g4 => ?_)
  have z5 := wk_z (i := 0) (f := 361) w0 rfl z_a0
  have f6 := sS_361 w0.1.1 g4
  refine pq_g (fun g7 => ?_)
  refine pq_g (fun g8 => ?_)
  extract_lets +onlyGivenNames M10
  have w9 : Wk S Z hx N M M10 := wk_aL hN w0 rfl g8.1 z2 (sy_s f3 (hS 1361 rfl))
  exact pq_s w9
theorem wX100_through (S Z : Nat → Prop) {hx N : Nat} (hS : ∀ x, fe_mem lX100_through x = true → S x) (a0 : Nat) (a1 : Int32) (a2 : Int64) (a4 : Int64) (M : FM) (w : WI Z hx N M) (z_a0 : Z a0) : pq (FX100_through a0 a1 a2 a4 M) (QV S Z hx N M) := wX100_through_0 S Z hS a0 a1 a2 a4 M w z_a0
def lX100_writeStatus : List Nat := [1361]
theorem wX100_writeStatus_43 (S Z : Nat → Prop) {hx N : Nat} (hS : ∀ x, fe_mem lX100_writeStatus x = true → S x) (M : FM) (w : WI Z hx N M) : pq (FX100_writeStatus_43 M) (QV S Z hx N M) := by
  have hN := w.2.2.1
  have w0 := wk_r (S := S) w
  delta FX100_writeStatus_43 BX100_writeStatus_43
  exact pq_s w0
theorem wX100_writeStatus_0 (S Z : Nat → Prop) {hx N : Nat} (hS : ∀ x, fe_mem lX100_writeStatus x = true → S x) (a0 : Nat) (a1 : Int64) (a3 : Int64) (M : FM) (w : WI Z hx N M) (z_a0 : Z a0) : pq (FX100_writeStatus_0 a0 a1 a3 M) (QV S Z hx N M) := by
  have hN := w.2.2.1
  have w0 := wk_r (S := S) w
  delta FX100_writeStatus_0 BX100_writeStatus_0
  refine pq_g (fun g1 => ?_)
  refine pq_b (wX100_below S Z (sb rfl hS) _ _ w0.1 z_a0) (fun r2 K3 => ?_)
  have w4 := wk_t w0 K3 hN
  refine pq_g (fun g5 => ?_)
  refine pq_b (wX100_through S Z (sb rfl hS) _ _ _ _ _ w4.1 z_a0) (fun r6 K7 => ?_)
  have w8 := wk_t w4 K7 hN
  refine pq_g (fun g9 => ?_)
  refine pq_b (wX100_below S Z (sb rfl hS) _ _ w8.1 z_a0) (fun r10 K11 => ?_)
  have w12 := wk_t w8 K11 hN
  refine pq_fi (fun _ => ?_) (fun _ => ?_)
  · refine pq_n ?_
    refine pq_g (fun g13 => ?_)
    refine pq_b (wX100_put S Z (sb rfl hS) _ _ _ _ w12.1 z_a0) (fun r14 K15 => ?_)
    have w16 := wk_t w12 K15 hN
    refine pq_n ?_
    refine pq_g (fun g17 => ?_)
    refine pq_b (wX100_put S Z (sb rfl hS) _ _ _ _ w16.1 z_a0) (fun r18 K19 => ?_)
    have w20 := wk_t w16 K19 hN
    exact q_tV hN w20 (wX100_writeStatus_43 S Z hS _ w20.1 )
  · exact q_tV hN w12 (wX100_writeStatus_43 S Z hS _ w12.1 )
theorem wX100_writeStatus (S Z : Nat → Prop) {hx N : Nat} (hS : ∀ x, fe_mem lX100_writeStatus x = true → S x) (a0 : Nat) (a1 : Int64) (a3 : Int64) (M : FM) (w : WI Z hx N M) (z_a0 : Z a0) : pq (FX100_writeStatus a0 a1 a3 M) (QV S Z hx N M) := wX100_writeStatus_0 S Z hS a0 a1 a3 M w z_a0
def lX100_write : List Nat := [1361]
theorem wX100_write_359 (S Z : Nat → Prop) {hx N : Nat} (hS : ∀ x, fe_mem lX100_write x = true → S x) (n : Nat) (M : FM) (w : WI Z hx N M) : pq (FX100_write_359 n M) (QV S Z hx N M) := by
  have hN := w.2.2.1
  have w0 := wk_r (S := S) w
  delta FX100_write_359 BX100_write_359
  exact pq_s w0
theorem wX100_write_342 (S Z : Nat → Prop) {hx N : Nat} (hS : ∀ x, fe_mem lX100_write x = true → S x) (n : Nat) (a2 : Int64) (s0 : Nat) (s1 : Int32) (s2 : Int64) (M : FM) (w : WI Z hx N M) (z_s0 : Z s0) : pq (FX100_write_342 n a2 s0 s1 s2 M) (QV S Z hx N M) := by
  have hN := w.2.2.1
  have w0 := wk_r (S := S) w
  delta FX100_write_342 BX100_write_342
  refine pq_g (fun g1 => ?_)
  refine pq_b (wX100_through S Z (sb rfl hS) _ _ _ _ _ w0.1 z_s0) (fun r2 K3 => ?_)
  have w4 := wk_t w0 K3 hN
  exact q_tV hN w4 (wX100_write_359 S Z hS n _ w4.1 )
theorem wX100_write_335 (S Z : Nat → Prop) {hx N : Nat} (hS : ∀ x, fe_mem lX100_write x = true → S x) (n : Nat) (a2 : Int64) (s0 : Nat) (s1 : Int32) (M : FM) (w : WI Z hx N M) (z_s0 : Z s0) : pq (FX100_write_335 n a2 s0 s1 M) (QV S Z hx N M) := by
  have hN := w.2.2.1
  have w0 := wk_r (S := S) w
  delta FX100_write_335 BX100_write_335
  exact q_tV hN w0 (wX100_write_342 S Z hS n _ _ _ _ _ w0.1 z_s0)
theorem wX100_write_286 (S Z : Nat → Prop) {hx N : Nat} (hS : ∀ x, fe_mem lX100_write x = true → S x) (n : Nat) (a0 : Nat) (a1 : Int32) (a2 : Int64) (M : FM) (w : WI Z hx N M) (z_a0 : Z a0) : pq (FX100_write_286 n a0 a1 a2 M) (QV S Z hx N M) := by
  have hN := w.2.2.1
  have w0 := wk_r (S := S) w
  delta FX100_write_286 BX100_write_286
  refine pq_g (fun g1 => ?_)
  refine pq_b (wX100_through S Z (sb rfl hS) _ _ _ _ _ w0.1 z_a0) (fun r2 K3 => ?_)
  have w4 := wk_t w0 K3 hN
  exact q_tV hN w4 (wX100_write_359 S Z hS n _ w4.1 )
theorem wX100_write_274 (S Z : Nat → Prop) {hx N : Nat} (hS : ∀ x, fe_mem lX100_write x = true → S x) (n : Nat) (a0 : Nat) (a1 : Int32) (a2 : Int64) (M : FM) (w : WI Z hx N M) (z_a0 : Z a0) : pq (FX100_write_274 n a0 a1 a2 M) (QV S Z hx N M) := by
  have hN := w.2.2.1
  have w0 := wk_r (S := S) w
  delta FX100_write_274 BX100_write_274
  refine pq_g (fun g1 => ?_)
  refine pq_b (wX100_through S Z (sb rfl hS) _ _ _ _ _ w0.1 z_a0) (fun r2 K3 => ?_)
  have w4 := wk_t w0 K3 hN
  exact q_tV hN w4 (wX100_write_359 S Z hS n _ w4.1 )
theorem wX100_write_262 (S Z : Nat → Prop) {hx N : Nat} (hS : ∀ x, fe_mem lX100_write x = true → S x) (n : Nat) (a0 : Nat) (a1 : Int32) (a2 : Int64) (M : FM) (w : WI Z hx N M) (z_a0 : Z a0) : pq (FX100_write_262 n a0 a1 a2 M) (QV S Z hx N M) := by
  have hN := w.2.2.1
  have w0 := wk_r (S := S) w
  delta FX100_write_262 BX100_write_262
  refine pq_g (fun g1 => ?_)
  refine pq_b (wX100_through S Z (sb rfl hS) _ _ _ _ _ w0.1 z_a0) (fun r2 K3 => ?_)
  have w4 := wk_t w0 K3 hN
  exact q_tV hN w4 (wX100_write_359 S Z hS n _ w4.1 )
theorem wX100_write_0 (S Z : Nat → Prop) {hx N : Nat} (hS : ∀ x, fe_mem lX100_write x = true → S x) (n : Nat) (a0 : Nat) (a1 : Int32) (a2 : Int64) (M : FM) (w : WI Z hx N M) (z_a0 : Z a0) : pq (FX100_write_0 n a0 a1 a2 M) (QV S Z hx N M) := by
  have hN := w.2.2.1
  have w0 := wk_r (S := S) w
  delta FX100_write_0 BX100_write_0
  refine pq_fi (fun _ => ?_) (fun _ => ?_)
  · refine pq_b (wX100_statusSeen S Z (sb rfl hS) n _ _ w0.1 ) (fun r1 K2 => ?_)
    have w3 := wk_t w0 K2 hN
    refine pq_g (fun g4 => ?_)
    refine pq_b (wX100_writeStatus S Z (sb rfl hS) _ _ _ _ w3.1 z_a0) (fun r5 K6 => ?_)
    have w7 := wk_t w3 K6 hN
    exact q_tV hN w7 (wX100_write_359 S Z hS n _ w7.1 )
  · refine pq_fi (fun _ => ?_) (fun _ => ?_)
    · refine pq_g (fun g8 => ?_)
      have z9 := wk_z (i := 0) (f := 361) w0 rfl z_a0
      have f10 := sS_361 w0.1.1 g8
      refine pq_g (fun g11 => ?_)
      refine pq_g (fun g12 => ?_)
      refine pq_b (wX100_through S Z (sb rfl hS) _ _ _ _ _ w0.1 z_a0) (fun r13 K14 => ?_)
      have w15 := wk_t w0 K14 hN
      exact q_tV hN w15 (wX100_write_359 S Z hS n _ w15.1 )
    · refine pq_fi (fun _ => ?_) (fun _ => ?_)
      · exact q_tV hN w0 (wX100_write_262 S Z hS n _ _ _ _ w0.1 z_a0)
      · refine pq_fi (fun _ => ?_) (fun _ => ?_)
        · exact q_tV hN w0 (wX100_write_286 S Z hS n _ _ _ _ w0.1 z_a0)
        · refine pq_fi (fun _ => ?_) (fun _ => ?_)
          · exact q_tV hN w0 (wX100_write_274 S Z hS n _ _ _ _ w0.1 z_a0)
          · refine pq_fi (fun _ => ?_) (fun _ => ?_)
            · refine pq_g (fun g16 => ?_)
              have z17 := wk_z (i := 0) (f := 361) w0 rfl z_a0
              have f18 := sS_361 w0.1.1 g16
              refine pq_g (fun g19 => ?_)
              refine pq_g (fun g20 => ?_)
              refine pq_b (wX100_through S Z (sb rfl hS) _ _ _ _ _ w0.1 z_a0) (fun r21 K22 => ?_)
              have w23 := wk_t w0 K22 hN
              exact q_tV hN w23 (wX100_write_359 S Z hS n _ w23.1 )
            · refine pq_fi (fun _ => ?_) (fun _ => ?_)
              · refine pq_fi (fun _ => ?_) (fun _ => ?_)
                · exact q_tV hN w0 (wX100_write_335 S Z hS n _ _ _ _ w0.1 z_a0)
                · refine pq_fi (fun _ => ?_) (fun _ => ?_)
                  · exact q_tV hN w0 (wX100_write_335 S Z hS n _ _ _ _ w0.1 z_a0)
                  · refine pq_fi (fun _ => ?_) (fun _ => ?_)
                    · exact q_tV hN w0 (wX100_write_335 S Z hS n _ _ _ _ w0.1 z_a0)
                    · exact q_tV hN w0 (wX100_write_342 S Z hS n _ _ _ _ _ w0.1 z_a0)
              · refine pq_fi (fun _ => ?_) (fun _ => ?_)
                · refine pq_b (wX100_statusSeen S Z (sb rfl hS) n _ _ w0.1 ) (fun r24 K25 => ?_)
                  have w26 := wk_t w0 K25 hN
                  refine pq_g (fun g27 => ?_)
                  refine pq_b (wX100_writeStatus S Z (sb rfl hS) _ _ _ _ w26.1 z_a0) (fun r28 K29 => ?_)
                  have w30 := wk_t w26 K29 hN
                  exact q_tV hN w30 (wX100_write_359 S Z hS n _ w30.1 )
                · refine pq_fi (fun _ => ?_) (fun _ => ?_)
                  · exact q_tV hN w0 (wX100_write_359 S Z hS n _ w0.1 )
                  · refine pq_fi (fun _ => ?_) (fun _ => ?_)
                    · refine pq_g (fun g31 => ?_)
                      refine pq_b (wX100_through S Z (sb rfl hS) _ _ _ _ _ w0.1 z_a0) (fun r32 K33 => ?_)
                      have w34 := wk_t w0 K33 hN
                      exact q_tV hN w34 (wX100_write_359 S Z hS n _ w34.1 )
                    · refine pq_fi (fun _ => ?_) (fun _ => ?_)
                      · refine pq_g (fun g35 => ?_)
                        refine pq_b (wX100_through S Z (sb rfl hS) _ _ _ _ _ w0.1 z_a0) (fun r36 K37 => ?_)
                        have w38 := wk_t w0 K37 hN
                        exact q_tV hN w38 (wX100_write_359 S Z hS n _ w38.1 )
                      · refine pq_fi (fun _ => ?_) (fun _ => ?_)
                        · refine pq_g (fun g39 => ?_)
                          refine pq_b (wX100_through S Z (sb rfl hS) _ _ _ _ _ w0.1 z_a0) (fun r40 K41 => ?_)
                          have w42 := wk_t w0 K41 hN
                          exact q_tV hN w42 (wX100_write_359 S Z hS n _ w42.1 )
                        · refine pq_fi (fun _ => ?_) (fun _ => ?_)
                          · exact q_tV hN w0 (wX100_write_262 S Z hS n _ _ _ _ w0.1 z_a0)
                          · refine pq_fi (fun _ => ?_) (fun _ => ?_)
                            · exact q_tV hN w0 (wX100_write_286 S Z hS n _ _ _ _ w0.1 z_a0)
                            · refine pq_fi (fun _ => ?_) (fun _ => ?_)
                              · exact q_tV hN w0 (wX100_write_274 S Z hS n _ _ _ _ w0.1 z_a0)
                              · refine pq_fi (fun _ => ?_) (fun _ => ?_)
                                · refine pq_g (fun g43 => ?_)
                                  refine pq_b (wX100_through S Z (sb rfl hS) _ _ _ _ _ w0.1 z_a0) (fun r44 K45 => ?_)
                                  have w46 := wk_t w0 K45 hN
                                  exact q_tV hN w46 (wX100_write_359 S Z hS n _ w46.1 )
                                · refine pq_g (fun g47 => ?_)
                                  have z48 := wk_z (i := 0) (f := 361) w0 rfl z_a0
                                  have f49 := sS_361 w0.1.1 g47
                                  refine pq_g (fun g50 => ?_)
                                  extract_lets +onlyGivenNames M52
                                  have w51 : Wk S Z hx N M M52 := wk_aL hN w0 rfl g50.1 z48 (sy_s f49 (hS 1361 rfl))
                                  exact q_tV hN w51 (wX100_write_359 S Z hS n _ w51.1 )
theorem wX100_write (S Z : Nat → Prop) {hx N : Nat} (hS : ∀ x, fe_mem lX100_write x = true → S x) (n : Nat) (a0 : Nat) (a1 : Int32) (a2 : Int64) (M : FM) (w : WI Z hx N M) (z_a0 : Z a0) : pq (FX100_write n a0 a1 a2 M) (QV S Z hx N M) := wX100_write_0 S Z hS n a0 a1 a2 M w z_a0
def lX100_access : List Nat := [358, 364, 1361]
theorem wX100_access_165 (S Z : Nat → Prop) {hx N : Nat} (hS : ∀ x, fe_mem lX100_access x = true → S x) (n : Nat) (M : FM) (w : WI Z hx N M) : pq (FX100_access_165 n M) (QA S Z hx N M) := by
  have hN := w.2.2.1
  have w0 := wk_r (S := S) w
  delta FX100_access_165 BX100_access_165
  exact pq_s w0
theorem wX100_access_162 (S Z : Nat → Prop) {hx N : Nat} (hS : ∀ x, fe_mem lX100_access x = true → S x) (n : Nat) (s0 : Nat) (s1 : Int32) (s2 : Int64) (M : FM) (w : WI Z hx N M) (z_s0 : Z s0) : pq (FX100_access_162 n s0 s1 s2 M) (QA S Z hx N M) := by
  have hN := w.2.2.1
  have w0 := wk_r (S := S) w
  delta FX100_access_162 BX100_access_162
  refine pq_g (fun g1 => ?_)
  refine pq_b (wX100_write S Z (sb rfl hS) n _ _ _ _ w0.1 z_s0) (fun r2 K3 => ?_)
  have w4 := wk_t w0 K3 hN
  exact q_tA hN w4 (wX100_access_165 S Z hS n _ w4.1 )
theorem wX100_access_122 (S Z : Nat → Prop) {hx N : Nat} (hS : ∀ x, fe_mem lX100_access x = true → S x) (n : Nat) (a0 : Nat) (a1 : Int32) (a2 : Int32) (a3 : Int32) (a4 : Int64) (s0 : Int64) (M : FM) (w : WI Z hx N M) (z_a0 : Z a0) : pq (FX100_access_122 n a0 a1 a2 a3 a4 s0 M) (QA S Z hx N M) := by
  have hN := w.2.2.1
  have w0 := wk_r (S := S) w
  delta FX100_access_122 BX100_access_122
  refine pq_fi (fun _ => ?_) (fun _ => ?_)
  · exact q_tA hN w0 (wX100_access_165 S Z hS n _ w0.1 )
  · refine pq_fi (fun _ => ?_) (fun _ => ?_)
    · exact q_tA hN w0 (wX100_access_162 S Z hS n _ _ _ _ w0.1 z_a0)
    · refine pq_fi (fun _ => ?_) (fun _ => ?_)
      · exact q_tA hN w0 (wX100_access_162 S Z hS n _ _ _ _ w0.1 z_a0)
      · exact q_tA hN w0 (wX100_access_162 S Z hS n _ _ _ _ w0.1 z_a0)
theorem wX100_access_80 (S Z : Nat → Prop) {hx N : Nat} (hS : ∀ x, fe_mem lX100_access x = true → S x) (n : Nat) (M : FM) (w : WI Z hx N M) : pq (FX100_access_80 n M) (QA S Z hx N M) := by
  have hN := w.2.2.1
  have w0 := wk_r (S := S) w
  delta FX100_access_80 BX100_access_80
  exact pq_s w0
theorem wX100_access_27 (S Z : Nat → Prop) {hx N : Nat} (hS : ∀ x, fe_mem lX100_access x = true → S x) (n : Nat) (a0 : Nat) (a1 : Int32) (a2 : Int32) (a3 : Int32) (a4 : Int64) (s0 : Nat) (s1 : Int32) (M : FM) (w : WI Z hx N M) (z_a0 : Z a0) (z_s0 : Z s0) : pq (FX100_access_27 n a0 a1 a2 a3 a4 s0 s1 M) (QA S Z hx N M) := by
  have hN := w.2.2.1
  have w0 := wk_r (S := S) w
  delta FX100_access_27 BX100_access_27
  refine pq_g (fun g1 => ?_)
  extract_lets +onlyGivenNames M3
  have w2 : Wk S Z hx N M M3 := wk_fI hN w0 rfl rfl g1 z_s0 (Or.inr (hS 358 rfl))
  refine pq_g (fun g4 => ?_)
  refine pq_fi (fun _ => ?_) (fun _ => ?_)
  · refine pq_g (fun g5 => ?_)
    refine pq_b (wX100_isIllegal S Z (sb rfl hS) _ _ _ _ w2.1 z_a0) (fun r6 K7 => ?_)
    have w8 := wk_t w2 K7 hN
    refine pq_fi (fun _ => ?_) (fun _ => ?_)
    · refine pq_b (wX100_isElsewhere S Z (sb rfl hS) _ _ w8.1 ) (fun r9 K10 => ?_)
      have w11 := wk_t w8 K10 hN
      refine pq_fi (fun _ => ?_) (fun _ => ?_)
      · refine pq_g (fun g12 => ?_)
        refine pq_b (wX100_shown S Z (sb rfl hS) n _ _ _ w11.1 z_a0) (fun r13 K14 => ?_)
        have w15 := wk_t w11 K14 hN
        refine pq_g (fun g16 => ?_)
        extract_lets +onlyGivenNames M18
        have w17 : Wk S Z hx N M M18 := wk_fL hN w15 rfl rfl g16 z_a0 (Or.inr (hS 364 rfl))
        refine pq_fi (fun _ => ?_) (fun _ => ?_)
        · refine pq_g (fun g19 => ?_)
          have z20 := wk_z (i := 0) (f := 361) w17 rfl z_a0
          have f21 := sS_361 w17.1.1 g19
          refine pq_g (fun g22 => ?_)
          refine pq_g (fun g23 => ?_)
          refine pq_b (wX100_lineBits S Z (sb rfl hS) n _ _ w17.1 z_a0) (fun r24 K25 => ?_)
          have w26 := wk_t w17 K25 hN
          exact q_tA hN w26 (wX100_access_122 S Z hS n _ _ _ _ _ _ _ w26.1 z_a0)
        · refine pq_g (fun g27 => ?_)
          exact q_tA hN w17 (wX100_access_122 S Z hS n _ _ _ _ _ _ _ w17.1 z_a0)
      · refine pq_fi (fun _ => ?_) (fun _ => ?_)
        · exact q_tA hN w11 (wX100_access_80 S Z hS n _ w11.1 )
        · refine pq_fi (fun _ => ?_) (fun _ => ?_)
          · exact q_tA hN w11 (wX100_access_80 S Z hS n _ w11.1 )
          · refine pq_g (fun g28 => ?_)
            refine pq_b (wX100_put S Z (sb rfl hS) _ _ _ _ w11.1 z_a0) (fun r29 K30 => ?_)
            have w31 := wk_t w11 K30 hN
            refine pq_g (fun g32 => ?_)
            refine pq_b (wX100_put S Z (sb rfl hS) _ _ _ _ w31.1 z_a0) (fun r33 K34 => ?_)
            have w35 := wk_t w31 K34 hN
            exact q_tA hN w35 (wX100_access_80 S Z hS n _ w35.1 )
    · exact pq_s w8
  · exact pq_s w2
theorem wX100_access_22 (S Z : Nat → Prop) {hx N : Nat} (hS : ∀ x, fe_mem lX100_access x = true → S x) (n : Nat) (a0 : Nat) (a1 : Int32) (a2 : Int32) (a3 : Int32) (a4 : Int64) (s0 : Nat) (M : FM) (w : WI Z hx N M) (z_a0 : Z a0) (z_s0 : Z s0) : pq (FX100_access_22 n a0 a1 a2 a3 a4 s0 M) (QA S Z hx N M) := by
  have hN := w.2.2.1
  have w0 := wk_r (S := S) w
  delta FX100_access_22 BX100_access_22
  exact q_tA hN w0 (wX100_access_27 S Z hS n _ _ _ _ _ _ _ _ w0.1 z_a0 z_s0)
theorem wX100_access_0 (S Z : Nat → Prop) {hx N : Nat} (hS : ∀ x, fe_mem lX100_access x = true → S x) (n : Nat) (a0 : Nat) (a1 : Int32) (a2 : Int32) (a3 : Int32) (a4 : Int64) (M : FM) (w : WI Z hx N M) (z_a0 : Z a0) : pq (FX100_access_0 n a0 a1 a2 a3 a4 M) (QA S Z hx N M) := by
  have hN := w.2.2.1
  have w0 := wk_r (S := S) w
  delta FX100_access_0 BX100_access_0
  refine pq_fi (fun _ => ?_) (fun _ => ?_)
  · exact q_tA hN w0 (wX100_access_22 S Z hS n _ _ _ _ _ _ _ w0.1 z_a0 z_a0)
  · refine pq_fi (fun _ => ?_) (fun _ => ?_)
    · exact q_tA hN w0 (wX100_access_22 S Z hS n _ _ _ _ _ _ _ w0.1 z_a0 z_a0)
    · refine pq_fi (fun _ => ?_) (fun _ => ?_)
      · exact q_tA hN w0 (wX100_access_22 S Z hS n _ _ _ _ _ _ _ w0.1 z_a0 z_a0)
      · refine pq_fi (fun _ => ?_) (fun _ => ?_)
        · exact q_tA hN w0 (wX100_access_27 S Z hS n _ _ _ _ _ _ _ _ w0.1 z_a0 z_a0)
        · exact q_tA hN w0 (wX100_access_22 S Z hS n _ _ _ _ _ _ _ w0.1 z_a0 z_a0)
theorem wX100_access (S Z : Nat → Prop) {hx N : Nat} (hS : ∀ x, fe_mem lX100_access x = true → S x) (n : Nat) (a0 : Nat) (a1 : Int32) (a2 : Int32) (a3 : Int32) (a4 : Int64) (M : FM) (w : WI Z hx N M) (z_a0 : Z a0) : pq (FX100_access n a0 a1 a2 a3 a4 M) (QA S Z hx N M) := wX100_access_0 S Z hS n a0 a1 a2 a3 a4 M w z_a0
def lX99_flags : List Nat := [366]
theorem wX99_flags_0 (S Z : Nat → Prop) {hx N : Nat} (hS : ∀ x, fe_mem lX99_flags x = true → S x) (a0 : Nat) (M : FM) (w : WI Z hx N M) (z_a0 : Z a0) : pq (FX99_flags_0 a0 M) (QA S Z hx N M) := by
  have hN := w.2.2.1
  have w0 := wk_r (S := S) w
  delta FX99_flags_0 BX99_flags_0
  refine pq_g (fun g1 => ?_)
  extract_lets +onlyGivenNames M3
  have w2 : Wk S Z hx N M M3 := wk_fI hN w0 rfl rfl g1 z_a0 (Or.inr (hS 366 rfl))
  refine pq_g (fun g4 => ?_)
  exact pq_s w2
theorem wX99_flags (S Z : Nat → Prop) {hx N : Nat} (hS : ∀ x, fe_mem lX99_flags x = true → S x) (a0 : Nat) (M : FM) (w : WI Z hx N M) (z_a0 : Z a0) : pq (FX99_flags a0 M) (QA S Z hx N M) := wX99_flags_0 S Z hS a0 M w z_a0
def lX99_mode : List Nat := [366]
theorem wX99_mode_0 (S Z : Nat → Prop) {hx N : Nat} (hS : ∀ x, fe_mem lX99_mode x = true → S x) (a0 : Nat) (M : FM) (w : WI Z hx N M) (z_a0 : Z a0) : pq (FX99_mode_0 a0 M) (QA S Z hx N M) := by
  have hN := w.2.2.1
  have w0 := wk_r (S := S) w
  delta FX99_mode_0 BX99_mode_0
  refine pq_g (fun g1 => ?_)
  extract_lets +onlyGivenNames M3
  have w2 : Wk S Z hx N M M3 := wk_fI hN w0 rfl rfl g1 z_a0 (Or.inr (hS 366 rfl))
  refine pq_g (fun g4 => ?_)
  exact pq_s w2
theorem wX99_mode (S Z : Nat → Prop) {hx N : Nat} (hS : ∀ x, fe_mem lX99_mode x = true → S x) (a0 : Nat) (M : FM) (w : WI Z hx N M) (z_a0 : Z a0) : pq (FX99_mode a0 M) (QA S Z hx N M) := wX99_mode_0 S Z hS a0 M w z_a0
def lX101_configs : List Nat := [422]
theorem wX101_configs_10 (S Z : Nat → Prop) {hx N : Nat} (hS : ∀ x, fe_mem lX101_configs x = true → S x) (n : Nat) (k10 : Nat → Int64 → Int32 → FM → Option (Int64 × FM)) (hk10 : ∀ (a0 : Nat) (a1 : Int64) (a3 : Int32) (M : FM), WI Z hx N M → Z a0 → pq (k10 a0 a1 a3 M) (QA S Z hx N M)) (a0 : Nat) (a1 : Int64) (a3 : Int32) (M : FM) (w : WI Z hx N M) (z_a0 : Z a0) : pq (FX101_configs_10 n k10 a0 a1 a3 M) (QA S Z hx N M) := by
  have hN := w.2.2.1
  have w0 := wk_r (S := S) w
  delta FX101_configs_10 BX101_configs_10
  refine pq_fi (fun _ => ?_) (fun _ => ?_)
  · exact pq_s w0
  · refine pq_g (fun g1 => ?_)
    have z2 := wk_z (i := 0) (f := 427) w0 rfl z_a0
    have f3 := sS_427 w0.1.1 g1
    refine pq_g (fun g4 => ?_)
    exact q_tA hN w0 (hk10 _ _ _ _ w0.1 z_a0)
theorem wX101_configs_0 (S Z : Nat → Prop) {hx N : Nat} (hS : ∀ x, fe_mem lX101_configs x = true → S x) (n : Nat) (k10 : Nat → Int64 → Int32 → FM → Option (Int64 × FM)) (hk10 : ∀ (a0 : Nat) (a1 : Int64) (a3 : Int32) (M : FM), WI Z hx N M → Z a0 → pq (k10 a0 a1 a3 M) (QA S Z hx N M)) (a0 : Nat) (M : FM) (w : WI Z hx N M) (z_a0 : Z a0) : pq (FX101_configs_0 n k10 a0 M) (QA S Z hx N M) := by
  have hN := w.2.2.1
  have w0 := wk_r (S := S) w
  delta FX101_configs_0 BX101_configs_0
  refine pq_g (fun g1 => ?_)
  extract_lets +onlyGivenNames M3
  have w2 : Wk S Z hx N M M3 := wk_fI hN w0 rfl rfl g1 z_a0 (Or.inr (hS 422 rfl))
  exact q_tA hN w2 (hk10 _ _ _ _ w2.1 z_a0)
theorem wX101_configs_L (S Z : Nat → Prop) {hx N : Nat} (hS : ∀ x, fe_mem lX101_configs x = true → S x) (n : Nat) : ∀ j : Nat, ∀ (a0 : Nat) (a1 : Int64) (a3 : Int32) (M : FM), WI Z hx N M → Z a0 → pq (FX101_configs_L10 n j a0 a1 a3 M) (QA S Z hx N M)
  | 0 => by intros; exact pq_0
  | j + 1 => fun a0 a1 a3 M w => wX101_configs_10 S Z hS n _ (wX101_configs_L S Z hS n j) a0 a1 a3 M w
theorem wX101_configs (S Z : Nat → Prop) {hx N : Nat} (hS : ∀ x, fe_mem lX101_configs x = true → S x) (n : Nat) (a0 : Nat) (M : FM) (w : WI Z hx N M) (z_a0 : Z a0) : pq (FX101_configs n a0 M) (QA S Z hx N M) := wX101_configs_0 S Z hS n _ (wX101_configs_L S Z hS n n) a0 M w z_a0
def lX101_number : List Nat := [422]
theorem wX101_number_36 (S Z : Nat → Prop) {hx N : Nat} (hS : ∀ x, fe_mem lX101_number x = true → S x) (s0 : Int64) (M : FM) (w : WI Z hx N M) : pq (FX101_number_36 s0 M) (QA S Z hx N M) := by
  have hN := w.2.2.1
  have w0 := wk_r (S := S) w
  delta FX101_number_36 BX101_number_36
  exact pq_s w0
theorem wX101_number_16 (S Z : Nat → Prop) {hx N : Nat} (hS : ∀ x, fe_mem lX101_number x = true → S x) (a0 : Nat) (a1 : Int32) (s0 : Nat) (s1 : Int32) (M : FM) (w : WI Z hx N M) (z_a0 : Z a0) (z_s0 : Z s0) : pq (FX101_number_16 a0 a1 s0 s1 M) (QA S Z hx N M) := by
  have hN := w.2.2.1
  have w0 := wk_r (S := S) w
  delta FX101_number_16 BX101_number_16
  refine pq_g (fun g1 => ?_)
  extract_lets +onlyGivenNames M3
  have w2 : Wk S Z hx N M M3 := wk_fI hN w0 rfl rfl g1 z_s0 (Or.inr (hS 422 rfl))
  refine pq_g (fun g4 => ?_)
  refine pq_fi (fun _ => ?_) (fun _ => ?_)
  · refine pq_g (fun g5 => ?_)
    have z6 := wk_z (i := 0) (f := 428) w2 rfl z_a0
    have f7 := sS_428 w2.1.1 g5
    refine pq_g (fun g8 => ?_)
    exact q_tA hN w2 (wX101_number_36 S Z hS _ _ w2.1 )
  · exact q_tA hN w2 (wX101_number_36 S Z hS _ _ w2.1 )
theorem wX101_number_11 (S Z : Nat → Prop) {hx N : Nat} (hS : ∀ x, fe_mem lX101_number x = true → S x) (a0 : Nat) (a1 : Int32) (s0 : Nat) (M : FM) (w : WI Z hx N M) (z_a0 : Z a0) (z_s0 : Z s0) : pq (FX101_number_11 a0 a1 s0 M) (QA S Z hx N M) := by
  have hN := w.2.2.1
  have w0 := wk_r (S := S) w
  delta FX101_number_11 BX101_number_11
  exact q_tA hN w0 (wX101_number_16 S Z hS _ _ _ _ _ w0.1 z_a0 z_s0)
theorem wX101_number_0 (S Z : Nat → Prop) {hx N : Nat} (hS : ∀ x, fe_mem lX101_number x = true → S x) (a0 : Nat) (a1 : Int32) (M : FM) (w : WI Z hx N M) (z_a0 : Z a0) : pq (FX101_number_0 a0 a1 M) (QA S Z hx N M) := by
  have hN := w.2.2.1
  have w0 := wk_r (S := S) w
  delta FX101_number_0 BX101_number_0
  refine pq_fi (fun _ => ?_) (fun _ => ?_)
  · exact q_tA hN w0 (wX101_number_11 S Z hS _ _ _ _ w0.1 z_a0 z_a0)
  · refine pq_fi (fun _ => ?_) (fun _ => ?_)
    · exact q_tA hN w0 (wX101_number_16 S Z hS _ _ _ _ _ w0.1 z_a0 z_a0)
    · exact q_tA hN w0 (wX101_number_11 S Z hS _ _ _ _ w0.1 z_a0 z_a0)
theorem wX101_number (S Z : Nat → Prop) {hx N : Nat} (hS : ∀ x, fe_mem lX101_number x = true → S x) (a0 : Nat) (a1 : Int32) (M : FM) (w : WI Z hx N M) (z_a0 : Z a0) : pq (FX101_number a0 a1 M) (QA S Z hx N M) := wX101_number_0 S Z hS a0 a1 M w z_a0
def lX92_elsewhere : List Nat := [366, 422]
theorem wX92_elsewhere_132 (S Z : Nat → Prop) {hx N : Nat} (hS : ∀ x, fe_mem lX92_elsewhere x = true → S x) (n : Nat) (s0 : Int64) (M : FM) (w : WI Z hx N M) : pq (FX92_elsewhere_132 n s0 M) (QA S Z hx N M) := by
  have hN := w.2.2.1
  have w0 := wk_r (S := S) w
  delta FX92_elsewhere_132 BX92_elsewhere_132
  exact pq_s w0
theorem wX92_elsewhere_131 (S Z : Nat → Prop) {hx N : Nat} (hS : ∀ x, fe_mem lX92_elsewhere x = true → S x) (n : Nat) (M : FM) (w : WI Z hx N M) : pq (FX92_elsewhere_131 n M) (QA S Z hx N M) := by
  have hN := w.2.2.1
  have w0 := wk_r (S := S) w
  delta FX92_elsewhere_131 BX92_elsewhere_131
  exact q_tA hN w0 (wX92_elsewhere_132 S Z hS n _ _ w0.1 )
theorem wX92_elsewhere_0 (S Z : Nat → Prop) {hx N : Nat} (hS : ∀ x, fe_mem lX92_elsewhere x = true → S x) (n : Nat) (a0 : Nat) (a1 : Int32) (a2 : Int32) (M : FM) (w : WI Z hx N M) (z_a0 : Z a0) (i_a1 : a1.toNatClampNeg = hx) : pq (FX92_elsewhere_0 n a0 a1 a2 M) (QA S Z hx N M) := by
  have hN := w.2.2.1
  have w0 := wk_r (S := S) w
  delta FX92_elsewhere_0 BX92_elsewhere_0
  refine pq_fi (fun _ => ?_) (fun _ => ?_)
  · refine pq_g (fun g1 => ?_)
    have z2 := wk_z (i := 0) (f := 304) w0 rfl z_a0
    have f3 := sS_304 w0.1.1 g1
    refine pq_g (fun g4 => ?_)
    have z5 := wk_zx w0 z2 i_a1
    refine pq_g (fun g6 => ?_)
    refine pq_b (wX99_flags S Z (sb rfl hS) _ _ w0.1 z5) (fun r7 K8 => ?_)
    have w9 := wk_t w0 K8 hN
    exact pq_s w9
  · refine pq_fi (fun _ => ?_) (fun _ => ?_)
    · refine pq_g (fun g10 => ?_)
      have z11 := wk_z (i := 0) (f := 304) w0 rfl z_a0
      have f12 := sS_304 w0.1.1 g10
      refine pq_g (fun g13 => ?_)
      have z14 := wk_zx w0 z11 i_a1
      refine pq_g (fun g15 => ?_)
      refine pq_b (wX99_mode S Z (sb rfl hS) _ _ w0.1 z14) (fun r16 K17 => ?_)
      have w18 := wk_t w0 K17 hN
      exact pq_s w18
    · refine pq_fi (fun _ => ?_) (fun _ => ?_)
      · refine pq_g (fun g19 => ?_)
        have z20 := wk_z (i := 0) (f := 304) w0 rfl z_a0
        have f21 := sS_304 w0.1.1 g19
        refine pq_g (fun g22 => ?_)
        have z23 := wk_zx w0 z20 i_a1
        refine pq_g (fun g24 => ?_)
        refine pq_b (wX99_flags S Z (sb rfl hS) _ _ w0.1 z23) (fun r25 K26 => ?_)
        have w27 := wk_t w0 K26 hN
        refine pq_g (fun g28 => ?_)
        have z29 := wk_z (i := 0) (f := 304) w27 rfl z_a0
        have f30 := sS_304 w27.1.1 g28
        refine pq_g (fun g31 => ?_)
        have z32 := wk_zx w27 z29 i_a1
        refine pq_g (fun g33 => ?_)
        refine pq_b (wX99_mode S Z (sb rfl hS) _ _ w27.1 z32) (fun r34 K35 => ?_)
        have w36 := wk_t w27 K35 hN
        exact pq_s w36
      · refine pq_fi (fun _ => ?_) (fun _ => ?_)
        · refine pq_g (fun g37 => ?_)
          have z38 := wk_z (i := 0) (f := 306) w0 rfl z_a0
          have f39 := sS_306 w0.1.1 g37
          refine pq_g (fun g40 => ?_)
          have z41 := wk_zx w0 z38 i_a1
          refine pq_g (fun g42 => ?_)
          refine pq_b (wX101_configs S Z (sb rfl hS) n _ _ w0.1 z41) (fun r43 K44 => ?_)
          have w45 := wk_t w0 K44 hN
          exact pq_s w45
        · refine pq_fi (fun _ => ?_) (fun _ => ?_)
          · exact q_tA hN w0 (wX92_elsewhere_131 S Z hS n _ w0.1 )
          · refine pq_fi (fun _ => ?_) (fun _ => ?_)
            · exact q_tA hN w0 (wX92_elsewhere_131 S Z hS n _ w0.1 )
            · refine pq_g (fun g46 => ?_)
              have z47 := wk_z (i := 0) (f := 306) w0 rfl z_a0
              have f48 := sS_306 w0.1.1 g46
              refine pq_g (fun g49 => ?_)
              have z50 := wk_zx w0 z47 i_a1
              refine pq_g (fun g51 => ?_)
              refine pq_b (wX101_number S Z (sb rfl hS) _ _ _ w0.1 z50) (fun r52 K53 => ?_)
              have w54 := wk_t w0 K53 hN
              exact q_tA hN w54 (wX92_elsewhere_132 S Z hS n _ _ w54.1 )
theorem wX92_elsewhere (S Z : Nat → Prop) {hx N : Nat} (hS : ∀ x, fe_mem lX92_elsewhere x = true → S x) (n : Nat) (a0 : Nat) (a1 : Int32) (a2 : Int32) (M : FM) (w : WI Z hx N M) (z_a0 : Z a0) (i_a1 : a1.toNatClampNeg = hx) : pq (FX92_elsewhere n a0 a1 a2 M) (QA S Z hx N M) := wX92_elsewhere_0 S Z hS n a0 a1 a2 M w z_a0 i_a1
def lX100_had : List Nat := [358]
theorem wX100_had_0 (S Z : Nat → Prop) {hx N : Nat} (hS : ∀ x, fe_mem lX100_had x = true → S x) (a0 : Nat) (M : FM) (w : WI Z hx N M) (z_a0 : Z a0) : pq (FX100_had_0 a0 M) (QA S Z hx N M) := by
  have hN := w.2.2.1
  have w0 := wk_r (S := S) w
  delta FX100_had_0 BX100_had_0
  refine pq_g (fun g1 => ?_)
  extract_lets +onlyGivenNames M3
  have w2 : Wk S Z hx N M M3 := wk_fI hN w0 rfl rfl g1 z_a0 (Or.inr (hS 358 rfl))
  refine pq_g (fun g4 => ?_)
  exact pq_s w2
theorem wX100_had (S Z : Nat → Prop) {hx N : Nat} (hS : ∀ x, fe_mem lX100_had x = true → S x) (a0 : Nat) (M : FM) (w : WI Z hx N M) (z_a0 : Z a0) : pq (FX100_had a0 M) (QA S Z hx N M) := wX100_had_0 S Z hS a0 M w z_a0
def lX99_putFlags : List Nat := [366, 368, 371]
theorem wX99_putFlags_0 (S Z : Nat → Prop) {hx N : Nat} (hS : ∀ x, fe_mem lX99_putFlags x = true → S x) (a0 : Nat) (a1 : Int32) (M : FM) (w : WI Z hx N M) (z_a0 : Z a0) : pq (FX99_putFlags_0 a0 a1 M) (QV S Z hx N M) := by
  have hN := w.2.2.1
  have w0 := wk_r (S := S) w
  delta FX99_putFlags_0 BX99_putFlags_0
  refine pq_g (fun g1 => ?_)
  extract_lets +onlyGivenNames M3
  have w2 : Wk S Z hx N M M3 := wk_fI hN w0 rfl rfl g1 z_a0 (Or.inr (hS 366 rfl))
  refine pq_g (fun g4 => ?_)
  extract_lets +onlyGivenNames M6
  have w5 : Wk S Z hx N M M6 := wk_fI hN w2 rfl rfl g4 z_a0 (Or.inr (hS 368 rfl))
  refine pq_g (fun g7 => ?_)
  refine pq_g (fun _ => ?_)
  extract_lets +onlyGivenNames M9
  have w8 : Wk S Z hx N M M9 := wk_fI hN w5 rfl rfl g7 z_a0 (Or.inr (hS 371 rfl))
  exact pq_s w8
theorem wX99_putFlags (S Z : Nat → Prop) {hx N : Nat} (hS : ∀ x, fe_mem lX99_putFlags x = true → S x) (a0 : Nat) (a1 : Int32) (M : FM) (w : WI Z hx N M) (z_a0 : Z a0) : pq (FX99_putFlags a0 a1 M) (QV S Z hx N M) := wX99_putFlags_0 S Z hS a0 a1 M w z_a0
def lX101_setConfigs : List Nat := [422, 1427]
theorem wX101_setConfigs_71 (S Z : Nat → Prop) {hx N : Nat} (hS : ∀ x, fe_mem lX101_setConfigs x = true → S x) (n : Nat) (k7 : Nat → Int64 → Int32 → FM → Option (FM)) (hk7 : ∀ (a0 : Nat) (a1 : Int64) (a3 : Int32) (M : FM), WI Z hx N M → Z a0 → pq (k7 a0 a1 a3 M) (QV S Z hx N M)) (a0 : Nat) (a1 : Int64) (a3 : Int32) (s0 : Nat) (s1 : Int32) (s2 : Int32) (M : FM) (w : WI Z hx N M) (z_a0 : Z a0) (z_s0 : Z s0) (y_s0 : Sy S N M s0) : pq (FX101_setConfigs_71 n k7 a0 a1 a3 s0 s1 s2 M) (QV S Z hx N M) := by
  have hN := w.2.2.1
  have w0 := wk_r (S := S) w
  delta FX101_setConfigs_71 BX101_setConfigs_71
  refine pq_g (fun g1 => ?_)
  extract_lets +onlyGivenNames M3
  have w2 : Wk S Z hx N M M3 := wk_aI hN w0 rfl g1.1 z_s0 y_s0
  exact q_tV hN w2 (hk7 _ _ _ _ w2.1 z_a0)
theorem wX101_setConfigs_43 (S Z : Nat → Prop) {hx N : Nat} (hS : ∀ x, fe_mem lX101_setConfigs x = true → S x) (n : Nat) (k7 : Nat → Int64 → Int32 → FM → Option (FM)) (hk7 : ∀ (a0 : Nat) (a1 : Int64) (a3 : Int32) (M : FM), WI Z hx N M → Z a0 → pq (k7 a0 a1 a3 M) (QV S Z hx N M)) (a0 : Nat) (a1 : Int64) (a3 : Int32) (s0 : Int32) (M : FM) (w : WI Z hx N M) (z_a0 : Z a0) : pq (FX101_setConfigs_43 n k7 a0 a1 a3 s0 M) (QV S Z hx N M) := by
  have hN := w.2.2.1
  have w0 := wk_r (S := S) w
  delta FX101_setConfigs_43 BX101_setConfigs_43
  refine pq_g (fun g1 => ?_)
  have z2 := wk_z (i := 0) (f := 427) w0 rfl z_a0
  have f3 := sS_427 w0.1.1 g1
  refine pq_g (fun g4 => ?_)
  refine pq_b (wX101_has S Z (sb rfl hS) _ _ _ _ w0.1 z_a0) (fun r5 K6 => ?_)
  have w7 := wk_t w0 K6 hN
  have f8 := sf_k w0.1.1 K6 f3
  refine pq_fi (fun _ => ?_) (fun _ => ?_)
  · exact q_tV hN w7 (wX101_setConfigs_71 S Z hS n _ hk7 _ _ _ _ _ _ _ w7.1 z_a0 z2 (sy_s f8 (hS 1427 rfl)))
  · refine pq_g (fun g9 => ?_)
    have z10 := wk_z (i := 0) (f := 427) w7 rfl z_a0
    have f11 := sS_427 w7.1.1 g9
    refine pq_g (fun g12 => ?_)
    exact q_tV hN w7 (wX101_setConfigs_71 S Z hS n _ hk7 _ _ _ _ _ _ _ w7.1 z_a0 z2 (sy_s f8 (hS 1427 rfl)))
theorem wX101_setConfigs_7 (S Z : Nat → Prop) {hx N : Nat} (hS : ∀ x, fe_mem lX101_setConfigs x = true → S x) (n : Nat) (k7 : Nat → Int64 → Int32 → FM → Option (FM)) (hk7 : ∀ (a0 : Nat) (a1 : Int64) (a3 : Int32) (M : FM), WI Z hx N M → Z a0 → pq (k7 a0 a1 a3 M) (QV S Z hx N M)) (a0 : Nat) (a1 : Int64) (a3 : Int32) (M : FM) (w : WI Z hx N M) (z_a0 : Z a0) : pq (FX101_setConfigs_7 n k7 a0 a1 a3 M) (QV S Z hx N M) := by
  have hN := w.2.2.1
  have w0 := wk_r (S := S) w
  delta FX101_setConfigs_7 BX101_setConfigs_7
  refine pq_fi (fun _ => ?_) (fun _ => ?_)
  · exact pq_s w0
  · refine pq_fi (fun _ => ?_) (fun _ => ?_)
    · exact q_tV hN w0 (wX101_setConfigs_43 S Z hS n _ hk7 _ _ _ _ _ w0.1 z_a0)
    · exact q_tV hN w0 (wX101_setConfigs_43 S Z hS n _ hk7 _ _ _ _ _ w0.1 z_a0)
theorem wX101_setConfigs_0 (S Z : Nat → Prop) {hx N : Nat} (hS : ∀ x, fe_mem lX101_setConfigs x = true → S x) (n : Nat) (k7 : Nat → Int64 → Int32 → FM → Option (FM)) (hk7 : ∀ (a0 : Nat) (a1 : Int64) (a3 : Int32) (M : FM), WI Z hx N M → Z a0 → pq (k7 a0 a1 a3 M) (QV S Z hx N M)) (a0 : Nat) (a1 : Int64) (M : FM) (w : WI Z hx N M) (z_a0 : Z a0) : pq (FX101_setConfigs_0 n k7 a0 a1 M) (QV S Z hx N M) := by
  have hN := w.2.2.1
  have w0 := wk_r (S := S) w
  delta FX101_setConfigs_0 BX101_setConfigs_0
  refine pq_g (fun g1 => ?_)
  extract_lets +onlyGivenNames M3
  have w2 : Wk S Z hx N M M3 := wk_fI hN w0 rfl rfl g1 z_a0 (Or.inr (hS 422 rfl))
  exact q_tV hN w2 (hk7 _ _ _ _ w2.1 z_a0)
theorem wX101_setConfigs_L (S Z : Nat → Prop) {hx N : Nat} (hS : ∀ x, fe_mem lX101_setConfigs x = true → S x) (n : Nat) : ∀ j : Nat, ∀ (a0 : Nat) (a1 : Int64) (a3 : Int32) (M : FM), WI Z hx N M → Z a0 → pq (FX101_setConfigs_L7 n j a0 a1 a3 M) (QV S Z hx N M)
  | 0 => by intros; exact pq_0
  | j + 1 => fun a0 a1 a3 M w => wX101_setConfigs_7 S Z hS n _ (wX101_setConfigs_L S Z hS n j) a0 a1 a3 M w
theorem wX101_setConfigs (S Z : Nat → Prop) {hx N : Nat} (hS : ∀ x, fe_mem lX101_setConfigs x = true → S x) (n : Nat) (a0 : Nat) (a1 : Int64) (M : FM) (w : WI Z hx N M) (z_a0 : Z a0) : pq (FX101_setConfigs n a0 a1 M) (QV S Z hx N M) := wX101_setConfigs_0 S Z hS n _ (wX101_setConfigs_L S Z hS n n) a0 a1 M w z_a0
def lX99_putMode : List Nat := [366, 369, 371]
theorem wX99_putMode_0 (S Z : Nat → Prop) {hx N : Nat} (hS : ∀ x, fe_mem lX99_putMode x = true → S x) (a0 : Nat) (a1 : Int32) (M : FM) (w : WI Z hx N M) (z_a0 : Z a0) : pq (FX99_putMode_0 a0 a1 M) (QV S Z hx N M) := by
  have hN := w.2.2.1
  have w0 := wk_r (S := S) w
  delta FX99_putMode_0 BX99_putMode_0
  refine pq_g (fun g1 => ?_)
  extract_lets +onlyGivenNames M3
  have w2 : Wk S Z hx N M M3 := wk_fI hN w0 rfl rfl g1 z_a0 (Or.inr (hS 366 rfl))
  refine pq_g (fun g4 => ?_)
  extract_lets +onlyGivenNames M6
  have w5 : Wk S Z hx N M M6 := wk_fI hN w2 rfl rfl g4 z_a0 (Or.inr (hS 369 rfl))
  refine pq_g (fun g7 => ?_)
  refine pq_g (fun _ => ?_)
  extract_lets +onlyGivenNames M9
  have w8 : Wk S Z hx N M M9 := wk_fI hN w5 rfl rfl g7 z_a0 (Or.inr (hS 371 rfl))
  exact pq_s w8
theorem wX99_putMode (S Z : Nat → Prop) {hx N : Nat} (hS : ∀ x, fe_mem lX99_putMode x = true → S x) (a0 : Nat) (a1 : Int32) (M : FM) (w : WI Z hx N M) (z_a0 : Z a0) : pq (FX99_putMode a0 a1 M) (QV S Z hx N M) := wX99_putMode_0 S Z hS a0 a1 M w z_a0
def lX101_setNumber : List Nat := [422, 1428]
theorem wX101_setNumber_97 (S Z : Nat → Prop) {hx N : Nat} (hS : ∀ x, fe_mem lX101_setNumber x = true → S x) (s0 : Nat) (s1 : Int32) (s2 : Int64) (M : FM) (w : WI Z hx N M) (z_s0 : Z s0) (y_s0 : Sy S N M s0) : pq (FX101_setNumber_97 s0 s1 s2 M) (QV S Z hx N M) := by
  have hN := w.2.2.1
  have w0 := wk_r (S := S) w
  delta FX101_setNumber_97 BX101_setNumber_97
  refine pq_g (fun g1 => ?_)
  extract_lets +onlyGivenNames M3
  have w2 : Wk S Z hx N M M3 := wk_aL hN w0 rfl g1.1 z_s0 y_s0
  exact pq_s w2
theorem wX101_setNumber_71 (S Z : Nat → Prop) {hx N : Nat} (hS : ∀ x, fe_mem lX101_setNumber x = true → S x) (a0 : Nat) (a1 : Int32) (a2 : Int64) (s0 : Int32) (M : FM) (w : WI Z hx N M) (z_a0 : Z a0) : pq (FX101_setNumber_71 a0 a1 a2 s0 M) (QV S Z hx N M) := by
  have hN := w.2.2.1
  have w0 := wk_r (S := S) w
  delta FX101_setNumber_71 BX101_setNumber_71
  refine pq_g (fun g1 => ?_)
  have z2 := wk_z (i := 0) (f := 428) w0 rfl z_a0
  have f3 := sS_428 w0.1.1 g1
  refine pq_fi (fun _ => ?_) (fun _ => ?_)
  · exact q_tV hN w0 (wX101_setNumber_97 S Z hS _ _ _ _ w0.1 z2 (sy_s f3 (hS 1428 rfl)))
  · refine pq_g (fun g4 => ?_)
    have z5 := wk_z (i := 0) (f := 428) w0 rfl z_a0
    have f6 := sS_428 w0.1.1 g4
    refine pq_g (fun g7 => ?_)
    exact q_tV hN w0 (wX101_setNumber_97 S Z hS _ _ _ _ w0.1 z2 (sy_s f3 (hS 1428 rfl)))
theorem wX101_setNumber_70 (S Z : Nat → Prop) {hx N : Nat} (hS : ∀ x, fe_mem lX101_setNumber x = true → S x) (a0 : Nat) (a1 : Int32) (a2 : Int64) (M : FM) (w : WI Z hx N M) (z_a0 : Z a0) : pq (FX101_setNumber_70 a0 a1 a2 M) (QV S Z hx N M) := by
  have hN := w.2.2.1
  have w0 := wk_r (S := S) w
  delta FX101_setNumber_70 BX101_setNumber_70
  exact q_tV hN w0 (wX101_setNumber_71 S Z hS _ _ _ _ _ w0.1 z_a0)
theorem wX101_setNumber_66 (S Z : Nat → Prop) {hx N : Nat} (hS : ∀ x, fe_mem lX101_setNumber x = true → S x) (a0 : Nat) (a1 : Int32) (a2 : Int64) (M : FM) (w : WI Z hx N M) (z_a0 : Z a0) : pq (FX101_setNumber_66 a0 a1 a2 M) (QV S Z hx N M) := by
  have hN := w.2.2.1
  have w0 := wk_r (S := S) w
  delta FX101_setNumber_66 BX101_setNumber_66
  exact q_tV hN w0 (wX101_setNumber_71 S Z hS _ _ _ _ _ w0.1 z_a0)
theorem wX101_setNumber_16 (S Z : Nat → Prop) {hx N : Nat} (hS : ∀ x, fe_mem lX101_setNumber x = true → S x) (a0 : Nat) (a1 : Int32) (a2 : Int64) (s0 : Nat) (s1 : Int32) (M : FM) (w : WI Z hx N M) (z_a0 : Z a0) (z_s0 : Z s0) : pq (FX101_setNumber_16 a0 a1 a2 s0 s1 M) (QV S Z hx N M) := by
  have hN := w.2.2.1
  have w0 := wk_r (S := S) w
  delta FX101_setNumber_16 BX101_setNumber_16
  refine pq_g (fun g1 => ?_)
  extract_lets +onlyGivenNames M3
  have w2 : Wk S Z hx N M M3 := wk_fI hN w0 rfl rfl g1 z_s0 (Or.inr (hS 422 rfl))
  refine pq_g (fun g4 => ?_)
  refine pq_fi (fun _ => ?_) (fun _ => ?_)
  · refine pq_g (fun g5 => ?_)
    refine pq_b (wX101_has S Z (sb rfl hS) _ _ _ _ w2.1 z_a0) (fun r6 K7 => ?_)
    have w8 := wk_t w2 K7 hN
    refine pq_fi (fun _ => ?_) (fun _ => ?_)
    · refine pq_fi (fun _ => ?_) (fun _ => ?_)
      · exact q_tV hN w8 (wX101_setNumber_70 S Z hS _ _ _ _ w8.1 z_a0)
      · refine pq_g (fun g9 => ?_)
        refine pq_b (wX101_has S Z (sb rfl hS) _ _ _ _ w8.1 z_a0) (fun r10 K11 => ?_)
        have w12 := wk_t w8 K11 hN
        refine pq_fi (fun _ => ?_) (fun _ => ?_)
        · exact q_tV hN w12 (wX101_setNumber_70 S Z hS _ _ _ _ w12.1 z_a0)
        · refine pq_g (fun g13 => ?_)
          refine pq_b (wX101_kind S Z (sb rfl hS) _ _ _ w12.1 z_a0) (fun r14 K15 => ?_)
          have w16 := wk_t w12 K15 hN
          refine pq_fi (fun _ => ?_) (fun _ => ?_)
          · exact q_tV hN w16 (wX101_setNumber_66 S Z hS _ _ _ _ w16.1 z_a0)
          · exact q_tV hN w16 (wX101_setNumber_70 S Z hS _ _ _ _ w16.1 z_a0)
    · exact q_tV hN w8 (wX101_setNumber_66 S Z hS _ _ _ _ w8.1 z_a0)
  · exact pq_s w2
theorem wX101_setNumber_11 (S Z : Nat → Prop) {hx N : Nat} (hS : ∀ x, fe_mem lX101_setNumber x = true → S x) (a0 : Nat) (a1 : Int32) (a2 : Int64) (s0 : Nat) (M : FM) (w : WI Z hx N M) (z_a0 : Z a0) (z_s0 : Z s0) : pq (FX101_setNumber_11 a0 a1 a2 s0 M) (QV S Z hx N M) := by
  have hN := w.2.2.1
  have w0 := wk_r (S := S) w
  delta FX101_setNumber_11 BX101_setNumber_11
  exact q_tV hN w0 (wX101_setNumber_16 S Z hS _ _ _ _ _ _ w0.1 z_a0 z_s0)
theorem wX101_setNumber_0 (S Z : Nat → Prop) {hx N : Nat} (hS : ∀ x, fe_mem lX101_setNumber x = true → S x) (a0 : Nat) (a1 : Int32) (a2 : Int64) (M : FM) (w : WI Z hx N M) (z_a0 : Z a0) : pq (FX101_setNumber_0 a0 a1 a2 M) (QV S Z hx N M) := by
  have hN := w.2.2.1
  have w0 := wk_r (S := S) w
  delta FX101_setNumber_0 BX101_setNumber_0
  refine pq_fi (fun _ => ?_) (fun _ => ?_)
  · exact q_tV hN w0 (wX101_setNumber_11 S Z hS _ _ _ _ _ w0.1 z_a0 z_a0)
  · refine pq_fi (fun _ => ?_) (fun _ => ?_)
    · exact q_tV hN w0 (wX101_setNumber_16 S Z hS _ _ _ _ _ _ w0.1 z_a0 z_a0)
    · exact q_tV hN w0 (wX101_setNumber_11 S Z hS _ _ _ _ _ w0.1 z_a0 z_a0)
theorem wX101_setNumber (S Z : Nat → Prop) {hx N : Nat} (hS : ∀ x, fe_mem lX101_setNumber x = true → S x) (a0 : Nat) (a1 : Int32) (a2 : Int64) (M : FM) (w : WI Z hx N M) (z_a0 : Z a0) : pq (FX101_setNumber a0 a1 a2 M) (QV S Z hx N M) := wX101_setNumber_0 S Z hS a0 a1 a2 M w z_a0
def lX92_setElsewhere : List Nat := [366, 368, 369, 371, 422, 1427, 1428]
theorem wX92_setElsewhere_108 (S Z : Nat → Prop) {hx N : Nat} (hS : ∀ x, fe_mem lX92_setElsewhere x = true → S x) (n : Nat) (a0 : Nat) (a1 : Int32) (M : FM) (w : WI Z hx N M) (z_a0 : Z a0) (i_a1 : a1.toNatClampNeg = hx) : pq (FX92_setElsewhere_108 n a0 a1 M) (QV S Z hx N M) := by
  have hN := w.2.2.1
  have w0 := wk_r (S := S) w
  delta FX92_setElsewhere_108 BX92_setElsewhere_108
  refine pq_g (fun g1 => ?_)
  have z2 := wk_z (i := 0) (f := 304) w0 rfl z_a0
  have f3 := sS_304 w0.1.1 g1
  refine pq_g (fun g4 => ?_)
  have z5 := wk_zx w0 z2 i_a1
  refine pq_g (fun g6 => ?_)
  refine pq_b (wX99_calm S Z (sb rfl hS) _ _ w0.1 z5) (fun r7 K8 => ?_)
  have w9 := wk_t w0 K8 hN
  exact pq_s w9
theorem wX92_setElsewhere_59 (S Z : Nat → Prop) {hx N : Nat} (hS : ∀ x, fe_mem lX92_setElsewhere x = true → S x) (n : Nat) (a0 : Nat) (a1 : Int32) (a2 : Int32) (a3 : Int64) (M : FM) (w : WI Z hx N M) (z_a0 : Z a0) (i_a1 : a1.toNatClampNeg = hx) : pq (FX92_setElsewhere_59 n a0 a1 a2 a3 M) (QV S Z hx N M) := by
  have hN := w.2.2.1
  have w0 := wk_r (S := S) w
  delta FX92_setElsewhere_59 BX92_setElsewhere_59
  refine pq_fi (fun _ => ?_) (fun _ => ?_)
  · refine pq_g (fun g1 => ?_)
    have z2 := wk_z (i := 0) (f := 306) w0 rfl z_a0
    have f3 := sS_306 w0.1.1 g1
    refine pq_g (fun g4 => ?_)
    have z5 := wk_zx w0 z2 i_a1
    refine pq_g (fun g6 => ?_)
    refine pq_b (wX101_setConfigs S Z (sb rfl hS) n _ _ _ w0.1 z5) (fun r7 K8 => ?_)
    have w9 := wk_t w0 K8 hN
    exact q_tV hN w9 (wX92_setElsewhere_108 S Z hS n _ _ _ w9.1 z_a0 i_a1)
  · refine pq_fi (fun _ => ?_) (fun _ => ?_)
    · exact q_tV hN w0 (wX92_setElsewhere_108 S Z hS n _ _ _ w0.1 z_a0 i_a1)
    · refine pq_fi (fun _ => ?_) (fun _ => ?_)
      · exact q_tV hN w0 (wX92_setElsewhere_108 S Z hS n _ _ _ w0.1 z_a0 i_a1)
      · refine pq_g (fun g10 => ?_)
        have z11 := wk_z (i := 0) (f := 306) w0 rfl z_a0
        have f12 := sS_306 w0.1.1 g10
        refine pq_g (fun g13 => ?_)
        have z14 := wk_zx w0 z11 i_a1
        refine pq_g (fun g15 => ?_)
        refine pq_b (wX101_setNumber S Z (sb rfl hS) _ _ _ _ w0.1 z14) (fun r16 K17 => ?_)
        have w18 := wk_t w0 K17 hN
        exact q_tV hN w18 (wX92_setElsewhere_108 S Z hS n _ _ _ w18.1 z_a0 i_a1)
theorem wX92_setElsewhere_52 (S Z : Nat → Prop) {hx N : Nat} (hS : ∀ x, fe_mem lX92_setElsewhere x = true → S x) (n : Nat) (a0 : Nat) (a1 : Int32) (a2 : Int32) (a3 : Int64) (s0 : Nat) (s1 : Int64) (M : FM) (w : WI Z hx N M) (z_a0 : Z a0) (z_s0 : Z s0) (i_a1 : a1.toNatClampNeg = hx) : pq (FX92_setElsewhere_52 n a0 a1 a2 a3 s0 s1 M) (QV S Z hx N M) := by
  have hN := w.2.2.1
  have w0 := wk_r (S := S) w
  delta FX92_setElsewhere_52 BX92_setElsewhere_52
  refine pq_g (fun g1 => ?_)
  refine pq_b (wX99_putMode S Z (sb rfl hS) _ _ _ w0.1 z_s0) (fun r2 K3 => ?_)
  have w4 := wk_t w0 K3 hN
  exact q_tV hN w4 (wX92_setElsewhere_59 S Z hS n _ _ _ _ _ w4.1 z_a0 i_a1)
theorem wX92_setElsewhere_34 (S Z : Nat → Prop) {hx N : Nat} (hS : ∀ x, fe_mem lX92_setElsewhere x = true → S x) (n : Nat) (a0 : Nat) (a1 : Int32) (a2 : Int32) (a3 : Int64) (M : FM) (w : WI Z hx N M) (z_a0 : Z a0) (i_a1 : a1.toNatClampNeg = hx) : pq (FX92_setElsewhere_34 n a0 a1 a2 a3 M) (QV S Z hx N M) := by
  have hN := w.2.2.1
  have w0 := wk_r (S := S) w
  delta FX92_setElsewhere_34 BX92_setElsewhere_34
  refine pq_g (fun g1 => ?_)
  have z2 := wk_z (i := 0) (f := 304) w0 rfl z_a0
  have f3 := sS_304 w0.1.1 g1
  refine pq_g (fun g4 => ?_)
  have z5 := wk_zx w0 z2 i_a1
  refine pq_fi (fun _ => ?_) (fun _ => ?_)
  · exact q_tV hN w0 (wX92_setElsewhere_52 S Z hS n _ _ _ _ _ _ _ w0.1 z_a0 z5 i_a1)
  · exact q_tV hN w0 (wX92_setElsewhere_52 S Z hS n _ _ _ _ _ _ _ w0.1 z_a0 z5 i_a1)
theorem wX92_setElsewhere_24 (S Z : Nat → Prop) {hx N : Nat} (hS : ∀ x, fe_mem lX92_setElsewhere x = true → S x) (n : Nat) (a0 : Nat) (a1 : Int32) (a2 : Int32) (a3 : Int64) (M : FM) (w : WI Z hx N M) (z_a0 : Z a0) (i_a1 : a1.toNatClampNeg = hx) : pq (FX92_setElsewhere_24 n a0 a1 a2 a3 M) (QV S Z hx N M) := by
  have hN := w.2.2.1
  have w0 := wk_r (S := S) w
  delta FX92_setElsewhere_24 BX92_setElsewhere_24
  refine pq_fi (fun _ => ?_) (fun _ => ?_)
  · exact q_tV hN w0 (wX92_setElsewhere_34 S Z hS n _ _ _ _ _ w0.1 z_a0 i_a1)
  · refine pq_fi (fun _ => ?_) (fun _ => ?_)
    · exact q_tV hN w0 (wX92_setElsewhere_34 S Z hS n _ _ _ _ _ w0.1 z_a0 i_a1)
    · exact q_tV hN w0 (wX92_setElsewhere_59 S Z hS n _ _ _ _ _ w0.1 z_a0 i_a1)
theorem wX92_setElsewhere_10 (S Z : Nat → Prop) {hx N : Nat} (hS : ∀ x, fe_mem lX92_setElsewhere x = true → S x) (n : Nat) (a0 : Nat) (a1 : Int32) (a2 : Int32) (a3 : Int64) (M : FM) (w : WI Z hx N M) (z_a0 : Z a0) (i_a1 : a1.toNatClampNeg = hx) : pq (FX92_setElsewhere_10 n a0 a1 a2 a3 M) (QV S Z hx N M) := by
  have hN := w.2.2.1
  have w0 := wk_r (S := S) w
  delta FX92_setElsewhere_10 BX92_setElsewhere_10
  refine pq_g (fun g1 => ?_)
  have z2 := wk_z (i := 0) (f := 304) w0 rfl z_a0
  have f3 := sS_304 w0.1.1 g1
  refine pq_g (fun g4 => ?_)
  have z5 := wk_zx w0 z2 i_a1
  refine pq_g (fun g6 => ?_)
  refine pq_b (wX99_putFlags S Z (sb rfl hS) _ _ _ w0.1 z5) (fun r7 K8 => ?_)
  have w9 := wk_t w0 K8 hN
  exact q_tV hN w9 (wX92_setElsewhere_24 S Z hS n _ _ _ _ _ w9.1 z_a0 i_a1)
theorem wX92_setElsewhere_0 (S Z : Nat → Prop) {hx N : Nat} (hS : ∀ x, fe_mem lX92_setElsewhere x = true → S x) (n : Nat) (a0 : Nat) (a1 : Int32) (a2 : Int32) (a3 : Int64) (M : FM) (w : WI Z hx N M) (z_a0 : Z a0) (i_a1 : a1.toNatClampNeg = hx) : pq (FX92_setElsewhere_0 n a0 a1 a2 a3 M) (QV S Z hx N M) := by
  have hN := w.2.2.1
  have w0 := wk_r (S := S) w
  delta FX92_setElsewhere_0 BX92_setElsewhere_0
  refine pq_fi (fun _ => ?_) (fun _ => ?_)
  · exact q_tV hN w0 (wX92_setElsewhere_10 S Z hS n _ _ _ _ _ w0.1 z_a0 i_a1)
  · refine pq_fi (fun _ => ?_) (fun _ => ?_)
    · exact q_tV hN w0 (wX92_setElsewhere_10 S Z hS n _ _ _ _ _ w0.1 z_a0 i_a1)
    · exact q_tV hN w0 (wX92_setElsewhere_24 S Z hS n _ _ _ _ _ w0.1 z_a0 i_a1)
theorem wX92_setElsewhere (S Z : Nat → Prop) {hx N : Nat} (hS : ∀ x, fe_mem lX92_setElsewhere x = true → S x) (n : Nat) (a0 : Nat) (a1 : Int32) (a2 : Int32) (a3 : Int64) (M : FM) (w : WI Z hx N M) (z_a0 : Z a0) (i_a1 : a1.toNatClampNeg = hx) : pq (FX92_setElsewhere n a0 a1 a2 a3 M) (QV S Z hx N M) := wX92_setElsewhere_0 S Z hS n a0 a1 a2 a3 M w z_a0 i_a1
def lX92_access : List Nat := [320, 321, 345, 347, 348, 353, 358, 364, 366, 368, 369, 371, 422, 1346, 1361, 1427, 1428]
theorem wX92_access_102 (S Z : Nat → Prop) {hx N : Nat} (hS : ∀ x, fe_mem lX92_access x = true → S x) (n : Nat) (a0 : Nat) (a1 : Int32) (a8 : Int64) (M : FM) (w : WI Z hx N M) (z_a0 : Z a0) (i_a1 : a1.toNatClampNeg = hx) : pq (FX92_access_102 n a0 a1 a8 M) (QA S Z hx N M) := by
  have hN := w.2.2.1
  have w0 := wk_r (S := S) w
  delta FX92_access_102 BX92_access_102
  refine pq_g (fun g1 => ?_)
  have z2 := wk_z (i := 0) (f := 303) w0 rfl z_a0
  have f3 := sS_303 w0.1.1 g1
  refine pq_g (fun g4 => ?_)
  have z5 := wk_zx w0 z2 i_a1
  refine pq_g (fun g6 => ?_)
  refine pq_b (wX98_finish S Z (sb rfl hS) _ _ _ _ w0.1 z5) (fun r7 K8 => ?_)
  have w9 := wk_t w0 K8 hN
  refine pq_g (fun _ => ?_)
  exact pq_s w9
theorem wX92_access_99 (S Z : Nat → Prop) {hx N : Nat} (hS : ∀ x, fe_mem lX92_access x = true → S x) (n : Nat) (a0 : Nat) (a1 : Int32) (a8 : Int64) (s0 : Nat) (s1 : Int32) (s2 : Int32) (s3 : Int64) (M : FM) (w : WI Z hx N M) (z_a0 : Z a0) (z_s0 : Z s0) (i_s1 : s1.toNatClampNeg = hx) (i_a1 : a1.toNatClampNeg = hx) : pq (FX92_access_99 n a0 a1 a8 s0 s1 s2 s3 M) (QA S Z hx N M) := by
  have hN := w.2.2.1
  have w0 := wk_r (S := S) w
  delta FX92_access_99 BX92_access_99
  refine pq_g (fun g1 => ?_)
  refine pq_b (wX92_setElsewhere S Z (sb rfl hS) n _ _ _ _ _ w0.1 z_s0 i_s1) (fun r2 K3 => ?_)
  have w4 := wk_t w0 K3 hN
  exact q_tA hN w4 (wX92_access_102 S Z hS n _ _ _ _ w4.1 z_a0 i_a1)
theorem wX92_access_51 (S Z : Nat → Prop) {hx N : Nat} (hS : ∀ x, fe_mem lX92_access x = true → S x) (n : Nat) (a0 : Nat) (a1 : Int32) (a2 : Int32) (a3 : Int32) (a4 : Int32) (a5 : Int64) (a7 : Int32) (s0 : Int64) (M : FM) (w : WI Z hx N M) (z_a0 : Z a0) (i_a1 : a1.toNatClampNeg = hx) : pq (FX92_access_51 n a0 a1 a2 a3 a4 a5 a7 s0 M) (QA S Z hx N M) := by
  have hN := w.2.2.1
  have w0 := wk_r (S := S) w
  delta FX92_access_51 BX92_access_51
  refine pq_fi (fun _ => ?_) (fun _ => ?_)
  · refine pq_fi (fun _ => ?_) (fun _ => ?_)
    · exact q_tA hN w0 (wX92_access_102 S Z hS n _ _ _ _ w0.1 z_a0 i_a1)
    · refine pq_fi (fun _ => ?_) (fun _ => ?_)
      · exact q_tA hN w0 (wX92_access_99 S Z hS n _ _ _ _ _ _ _ _ w0.1 z_a0 z_a0 i_a1 i_a1)
      · refine pq_fi (fun _ => ?_) (fun _ => ?_)
        · exact q_tA hN w0 (wX92_access_99 S Z hS n _ _ _ _ _ _ _ _ w0.1 z_a0 z_a0 i_a1 i_a1)
        · exact q_tA hN w0 (wX92_access_99 S Z hS n _ _ _ _ _ _ _ _ w0.1 z_a0 z_a0 i_a1 i_a1)
  · exact q_tA hN w0 (wX92_access_102 S Z hS n _ _ _ _ w0.1 z_a0 i_a1)
theorem wX92_access_0 (S Z : Nat → Prop) {hx N : Nat} (hS : ∀ x, fe_mem lX92_access x = true → S x) (n : Nat) (a0 : Nat) (a1 : Int32) (a2 : Int32) (a3 : Int32) (a4 : Int32) (a5 : Int64) (M : FM) (w : WI Z hx N M) (z_a0 : Z a0) (i_a1 : a1.toNatClampNeg = hx) : pq (FX92_access_0 n a0 a1 a2 a3 a4 a5 M) (QA S Z hx N M) := by
  have hN := w.2.2.1
  have w0 := wk_r (S := S) w
  delta FX92_access_0 BX92_access_0
  refine pq_g (fun g1 => ?_)
  have z2 := wk_z (i := 0) (f := 305) w0 rfl z_a0
  have f3 := sS_305 w0.1.1 g1
  refine pq_g (fun g4 => ?_)
  have z5 := wk_zx w0 z2 i_a1
  refine pq_g (fun g6 => ?_)
  refine pq_b (wX100_access S Z (sb rfl hS) n _ _ _ _ _ _ w0.1 z5) (fun r7 K8 => ?_)
  have w9 := wk_t w0 K8 hN
  refine pq_fi (fun _ => ?_) (fun _ => ?_)
  · refine pq_g (fun g10 => ?_)
    refine pq_b (wX92_illegal S Z (sb rfl hS) _ _ w9.1 z_a0) (fun r11 K12 => ?_)
    have w13 := wk_t w9 K12 hN
    refine pq_g (fun _ => ?_)
    exact pq_s w13
  · refine pq_fi (fun _ => ?_) (fun _ => ?_)
    · refine pq_g (fun g14 => ?_)
      have z15 := wk_z (i := 0) (f := 305) w9 rfl z_a0
      have f16 := sS_305 w9.1.1 g14
      refine pq_g (fun g17 => ?_)
      have z18 := wk_zx w9 z15 i_a1
      refine pq_g (fun g19 => ?_)
      refine pq_b (wX100_had S Z (sb rfl hS) _ _ w9.1 z18) (fun r20 K21 => ?_)
      have w22 := wk_t w9 K21 hN
      exact q_tA hN w22 (wX92_access_51 S Z hS n _ _ _ _ _ _ _ _ _ w22.1 z_a0 i_a1)
    · refine pq_g (fun g23 => ?_)
      refine pq_b (wX92_elsewhere S Z (sb rfl hS) n _ _ _ _ w9.1 z_a0 i_a1) (fun r24 K25 => ?_)
      have w26 := wk_t w9 K25 hN
      exact q_tA hN w26 (wX92_access_51 S Z hS n _ _ _ _ _ _ _ _ _ w26.1 z_a0 i_a1)
theorem wX92_access (S Z : Nat → Prop) {hx N : Nat} (hS : ∀ x, fe_mem lX92_access x = true → S x) (n : Nat) (a0 : Nat) (a1 : Int32) (a2 : Int32) (a3 : Int32) (a4 : Int32) (a5 : Int64) (M : FM) (w : WI Z hx N M) (z_a0 : Z a0) (i_a1 : a1.toNatClampNeg = hx) : pq (FX92_access n a0 a1 a2 a3 a4 a5 M) (QA S Z hx N M) := wX92_access_0 S Z hS n a0 a1 a2 a3 a4 a5 M w z_a0 i_a1
def lX92_carries : List Nat := [315, 316, 320, 321, 322, 324, 328, 329, 330, 331, 332, 333, 335, 336, 337, 338, 339, 343, 344, 345, 347, 348, 349, 350, 351, 352, 353, 354, 356, 357, 358, 360, 364, 365, 366, 368, 369, 370, 371, 381, 382, 383, 384, 385, 393, 394, 398, 407, 408, 409, 411, 413, 414, 422, 429, 430, 1307, 1323, 1327, 1334, 1340, 1341, 1342, 1346, 1355, 1361, 1367, 1375, 1376, 1377, 1378, 1379, 1380, 1388, 1389, 1390, 1391, 1392, 1396, 1397, 1399, 1400, 1401, 1402, 1403, 1404, 1405, 1406, 1410, 1412, 1427, 1428]
theorem wX92_carries_245 (S Z : Nat → Prop) {hx N : Nat} (hS : ∀ x, fe_mem lX92_carries x = true → S x) (n : Nat) (s0 : Int32) (M : FM) (w : WI Z hx N M) : pq (FX92_carries_245 n s0 M) (QA S Z hx N M) := by
  have hN := w.2.2.1
  have w0 := wk_r (S := S) w
  delta FX92_carries_245 BX92_carries_245
  refine pq_g (fun _ => ?_)
  exact pq_s w0
theorem wX92_carries_240 (S Z : Nat → Prop) {hx N : Nat} (hS : ∀ x, fe_mem lX92_carries x = true → S x) (n : Nat) (a7 : Int64) (s0 : Nat) (s1 : Int32) (s2 : Int32) (s3 : Int32) (s4 : Int32) (M : FM) (w : WI Z hx N M) (z_s0 : Z s0) (i_s1 : s1.toNatClampNeg = hx) : pq (FX92_carries_240 n a7 s0 s1 s2 s3 s4 M) (QA S Z hx N M) := by
  have hN := w.2.2.1
  have w0 := wk_r (S := S) w
  delta FX92_carries_240 BX92_carries_240
  refine pq_g (fun g1 => ?_)
  refine pq_b (wX92_access S Z (sb rfl hS) n _ _ _ _ _ _ _ w0.1 z_s0 i_s1) (fun r2 K3 => ?_)
  have w4 := wk_t w0 K3 hN
  exact q_tA hN w4 (wX92_carries_245 S Z hS n _ _ w4.1 )
theorem wX92_carries_235 (S Z : Nat → Prop) {hx N : Nat} (hS : ∀ x, fe_mem lX92_carries x = true → S x) (n : Nat) (a7 : Int64) (s0 : Nat) (s1 : Int32) (s2 : Int32) (s3 : Int32) (M : FM) (w : WI Z hx N M) (z_s0 : Z s0) (i_s1 : s1.toNatClampNeg = hx) : pq (FX92_carries_235 n a7 s0 s1 s2 s3 M) (QA S Z hx N M) := by
  have hN := w.2.2.1
  have w0 := wk_r (S := S) w
  delta FX92_carries_235 BX92_carries_235
  exact q_tA hN w0 (wX92_carries_240 S Z hS n _ _ _ _ _ _ _ w0.1 z_s0 i_s1)
theorem wX92_carries_29 (S Z : Nat → Prop) {hx N : Nat} (hS : ∀ x, fe_mem lX92_carries x = true → S x) (n : Nat) (M : FM) (w : WI Z hx N M) : pq (FX92_carries_29 n M) (QA S Z hx N M) := by
  have hN := w.2.2.1
  have w0 := wk_r (S := S) w
  delta FX92_carries_29 BX92_carries_29
  refine pq_g (fun _ => ?_)
  exact pq_s w0
theorem wX92_carries_0 (S Z : Nat → Prop) {hx N : Nat} (hS : ∀ x, fe_mem lX92_carries x = true → S x) (n : Nat) (a0 : Nat) (a1 : Int32) (M : FM) (w : WI Z hx N M) (z_a0 : Z a0) (i_a1 : a1.toNatClampNeg = hx) : pq (FX92_carries_0 n a0 a1 M) (QA S Z hx N M) := by
  have hN := w.2.2.1
  have w0 := wk_r (S := S) w
  delta FX92_carries_0 BX92_carries_0
  refine pq_g (fun g1 => ?_)
  have z2 := wk_z (i := 0) (f := 303) w0 rfl z_a0
  have f3 := sS_303 w0.1.1 g1
  refine pq_g (fun g4 => ?_)
  have z5 := wk_zx w0 z2 i_a1
  refine pq_g (fun g6 => ?_)
  refine pq_g (fun g7 => ?_)
  refine pq_g (fun g8 => ?_)
  refine pq_b (wX98_run S Z (sb rfl hS) n _ _ _ _ w0.1 z5) (fun r9 K10 => ?_)
  have w11 := wk_t w0 K10 hN
  refine pq_fi (fun _ => ?_) (fun _ => ?_)
  · exact q_tA hN w11 (wX92_carries_29 S Z hS n _ w11.1 )
  · refine pq_fi (fun _ => ?_) (fun _ => ?_)
    · exact q_tA hN w11 (wX92_carries_29 S Z hS n _ w11.1 )
    · refine pq_fi (fun _ => ?_) (fun _ => ?_)
      · refine pq_g (fun g12 => ?_)
        refine pq_b (wX92_illegal S Z (sb rfl hS) _ _ w11.1 z_a0) (fun r13 K14 => ?_)
        have w15 := wk_t w11 K14 hN
        refine pq_g (fun _ => ?_)
        exact pq_s w15
      · refine pq_g (fun g16 => ?_)
        refine pq_b (wX98_wanted S Z (sb rfl hS) _ _ _ w11.1 z5) (fun r17 K18 => ?_)
        have w19 := wk_t w11 K18 hN
        refine pq_g (fun g20 => ?_)
        refine pq_b (wX98_wanted S Z (sb rfl hS) _ _ _ w19.1 z5) (fun r21 K22 => ?_)
        have w23 := wk_t w19 K22 hN
        refine pq_g (fun g24 => ?_)
        refine pq_b (wX98_wanted S Z (sb rfl hS) _ _ _ w23.1 z5) (fun r25 K26 => ?_)
        have w27 := wk_t w23 K26 hN
        refine pq_g (fun g28 => ?_)
        refine pq_b (wX98_wanted S Z (sb rfl hS) _ _ _ w27.1 z5) (fun r29 K30 => ?_)
        have w31 := wk_t w27 K30 hN
        refine pq_g (fun g32 => ?_)
        refine pq_b (wX98_wanted S Z (sb rfl hS) _ _ _ w31.1 z5) (fun r33 K34 => ?_)
        have w35 := wk_t w31 K34 hN
        refine pq_fi (fun _ => ?_) (fun _ => ?_)
        · refine pq_g (fun g36 => ?_)
          refine pq_b (wX92_finds S Z (sb rfl hS) n _ _ _ _ _ _ w35.1 z_a0 i_a1) (fun r37 K38 => ?_)
          have w39 := wk_t w35 K38 hN
          refine pq_fi (fun _ => ?_) (fun _ => ?_)
          · refine pq_g (fun _ => ?_)
            exact pq_s w39
          · refine pq_g (fun g40 => ?_)
            refine pq_b (wX92_get S Z (sb rfl hS) n _ _ _ w39.1 z_a0) (fun r41 K42 => ?_)
            have w43 := wk_t w39 K42 hN
            refine pq_g (fun g44 => ?_)
            refine pq_b (wX98_finish S Z (sb rfl hS) _ _ _ _ w43.1 z5) (fun r45 K46 => ?_)
            have w47 := wk_t w43 K46 hN
            refine pq_g (fun _ => ?_)
            exact pq_s w47
        · refine pq_fi (fun _ => ?_) (fun _ => ?_)
          · refine pq_g (fun g48 => ?_)
            refine pq_b (wX92_store S Z (sb rfl hS) n _ _ _ _ _ _ w35.1 z_a0 i_a1) (fun r49 K50 => ?_)
            have w51 := wk_t w35 K50 hN
            refine pq_g (fun _ => ?_)
            exact pq_s w51
          · refine pq_fi (fun _ => ?_) (fun _ => ?_)
            · refine pq_g (fun g52 => ?_)
              refine pq_b (wX92_atomic S Z (sb rfl hS) n _ _ _ _ _ _ _ w35.1 z_a0 i_a1) (fun r53 K54 => ?_)
              have w55 := wk_t w35 K54 hN
              refine pq_g (fun _ => ?_)
              exact pq_s w55
            · refine pq_fi (fun _ => ?_) (fun _ => ?_)
              · refine pq_g (fun g56 => ?_)
                refine pq_b (wX92_floating S Z (sb rfl hS) n _ _ _ _ _ _ _ w35.1 z_a0 i_a1) (fun r57 K58 => ?_)
                have w59 := wk_t w35 K58 hN
                refine pq_g (fun _ => ?_)
                exact pq_s w59
              · refine pq_g (fun g60 => ?_)
                refine pq_fi (fun _ => ?_) (fun _ => ?_)
                · refine pq_g (fun g61 => ?_)
                  refine pq_b (wX92_system S Z (sb rfl hS) _ _ _ _ _ _ w35.1 z_a0 i_a1) (fun r62 K63 => ?_)
                  have w64 := wk_t w35 K63 hN
                  exact q_tA hN w64 (wX92_carries_245 S Z hS n _ _ w64.1 )
                · refine pq_n ?_
                  refine pq_n ?_
                  refine pq_fi (fun _ => ?_) (fun _ => ?_)
                  · exact q_tA hN w35 (wX92_carries_235 S Z hS n _ _ _ _ _ _ w35.1 z_a0 i_a1)
                  · refine pq_fi (fun _ => ?_) (fun _ => ?_)
                    · exact q_tA hN w35 (wX92_carries_240 S Z hS n _ _ _ _ _ _ _ w35.1 z_a0 i_a1)
                    · exact q_tA hN w35 (wX92_carries_235 S Z hS n _ _ _ _ _ _ w35.1 z_a0 i_a1)
theorem wX92_carries (S Z : Nat → Prop) {hx N : Nat} (hS : ∀ x, fe_mem lX92_carries x = true → S x) (n : Nat) (a0 : Nat) (a1 : Int32) (M : FM) (w : WI Z hx N M) (z_a0 : Z a0) (i_a1 : a1.toNatClampNeg = hx) : pq (FX92_carries n a0 a1 M) (QA S Z hx N M) := wX92_carries_0 S Z hS n a0 a1 M w z_a0 i_a1
def lX100_beginning : List Nat := []
theorem wX100_beginning_33 (S Z : Nat → Prop) {hx N : Nat} (hS : ∀ x, fe_mem lX100_beginning x = true → S x) (s0 : Int64) (M : FM) (w : WI Z hx N M) : pq (FX100_beginning_33 s0 M) (QA S Z hx N M) := by
  have hN := w.2.2.1
  have w0 := wk_r (S := S) w
  delta FX100_beginning_33 BX100_beginning_33
  exact pq_s w0
theorem wX100_beginning_31 (S Z : Nat → Prop) {hx N : Nat} (hS : ∀ x, fe_mem lX100_beginning x = true → S x) (a4 : Int64) (M : FM) (w : WI Z hx N M) : pq (FX100_beginning_31 a4 M) (QA S Z hx N M) := by
  have hN := w.2.2.1
  have w0 := wk_r (S := S) w
  delta FX100_beginning_31 BX100_beginning_31
  exact q_tA hN w0 (wX100_beginning_33 S Z hS _ _ w0.1 )
theorem wX100_beginning_0 (S Z : Nat → Prop) {hx N : Nat} (hS : ∀ x, fe_mem lX100_beginning x = true → S x) (a0 : Int64) (a2 : Int32) (a3 : Int32) (M : FM) (w : WI Z hx N M) : pq (FX100_beginning_0 a0 a2 a3 M) (QA S Z hx N M) := by
  have hN := w.2.2.1
  have w0 := wk_r (S := S) w
  delta FX100_beginning_0 BX100_beginning_0
  refine pq_fi (fun _ => ?_) (fun _ => ?_)
  · exact q_tA hN w0 (wX100_beginning_31 S Z hS _ _ w0.1 )
  · refine pq_fi (fun _ => ?_) (fun _ => ?_)
    · exact q_tA hN w0 (wX100_beginning_33 S Z hS _ _ w0.1 )
    · exact q_tA hN w0 (wX100_beginning_31 S Z hS _ _ w0.1 )
theorem wX100_beginning (S Z : Nat → Prop) {hx N : Nat} (hS : ∀ x, fe_mem lX100_beginning x = true → S x) (a0 : Int64) (a2 : Int32) (a3 : Int32) (M : FM) (w : WI Z hx N M) : pq (FX100_beginning a0 a2 a3 M) (QA S Z hx N M) := wX100_beginning_0 S Z hS a0 a2 a3 M w 
def lX100_trap : List Nat := [358, 360, 365, 1361]
theorem wX100_trap_243 (S Z : Nat → Prop) {hx N : Nat} (hS : ∀ x, fe_mem lX100_trap x = true → S x) (a0 : Nat) (a1 : Int32) (a2 : Int32) (s0 : Nat) (s1 : Nat) (s2 : Int32) (M : FM) (w : WI Z hx N M) (z_a0 : Z a0) (z_s0 : Z s0) (z_s1 : Z s1) : pq (FX100_trap_243 a0 a1 a2 s0 s1 s2 M) (QA S Z hx N M) := by
  have hN := w.2.2.1
  have w0 := wk_r (S := S) w
  delta FX100_trap_243 BX100_trap_243
  refine pq_g (fun g1 => ?_)
  refine pq_b (wX100_beginning S Z (sb rfl hS) _ _ _ _ w0.1 ) (fun r2 K3 => ?_)
  have w4 := wk_t w0 K3 hN
  refine pq_g (fun g5 => ?_)
  extract_lets +onlyGivenNames M7
  have w6 : Wk S Z hx N M M7 := wk_fL hN w4 rfl rfl g5 z_s0 (Or.inr (hS 365 rfl))
  refine pq_g (fun g8 => ?_)
  exact pq_s w6
theorem wX100_trap_224 (S Z : Nat → Prop) {hx N : Nat} (hS : ∀ x, fe_mem lX100_trap x = true → S x) (a0 : Nat) (a1 : Int32) (a2 : Int32) (a9 : Int32) (M : FM) (w : WI Z hx N M) (z_a0 : Z a0) : pq (FX100_trap_224 a0 a1 a2 a9 M) (QA S Z hx N M) := by
  have hN := w.2.2.1
  have w0 := wk_r (S := S) w
  delta FX100_trap_224 BX100_trap_224
  refine pq_g (fun g1 => ?_)
  have z2 := wk_z (i := 0) (f := 361) w0 rfl z_a0
  have f3 := sS_361 w0.1.1 g1
  refine pq_fi (fun _ => ?_) (fun _ => ?_)
  · exact q_tA hN w0 (wX100_trap_243 S Z hS _ _ _ _ _ _ _ w0.1 z_a0 z_a0 z2)
  · exact q_tA hN w0 (wX100_trap_243 S Z hS _ _ _ _ _ _ _ w0.1 z_a0 z_a0 z2)
theorem wX100_trap_139 (S Z : Nat → Prop) {hx N : Nat} (hS : ∀ x, fe_mem lX100_trap x = true → S x) (a0 : Nat) (a1 : Int32) (a2 : Int32) (a9 : Int32) (M : FM) (w : WI Z hx N M) (z_a0 : Z a0) : pq (FX100_trap_139 a0 a1 a2 a9 M) (QA S Z hx N M) := by
  have hN := w.2.2.1
  have w0 := wk_r (S := S) w
  delta FX100_trap_139 BX100_trap_139
  refine pq_fi (fun _ => ?_) (fun _ => ?_)
  · refine pq_g (fun g1 => ?_)
    refine pq_n ?_
    refine pq_g (fun g2 => ?_)
    refine pq_b (wX100_put S Z (sb rfl hS) _ _ _ _ w0.1 z_a0) (fun r3 K4 => ?_)
    have w5 := wk_t w0 K4 hN
    refine pq_g (fun g6 => ?_)
    refine pq_n ?_
    refine pq_g (fun g7 => ?_)
    refine pq_b (wX100_put S Z (sb rfl hS) _ _ _ _ w5.1 z_a0) (fun r8 K9 => ?_)
    have w10 := wk_t w5 K9 hN
    refine pq_g (fun g11 => ?_)
    refine pq_b (wX100_status S Z (sb rfl hS) _ _ _ w10.1 z_a0) (fun r12 K13 => ?_)
    have w14 := wk_t w10 K13 hN
    refine pq_g (fun g15 => ?_)
    refine pq_b (wX100_put S Z (sb rfl hS) _ _ _ _ w14.1 z_a0) (fun r16 K17 => ?_)
    have w18 := wk_t w14 K17 hN
    refine pq_g (fun g19 => ?_)
    refine pq_b (wX100_put S Z (sb rfl hS) _ _ _ _ w18.1 z_a0) (fun r20 K21 => ?_)
    have w22 := wk_t w18 K21 hN
    refine pq_g (fun g23 => ?_)
    extract_lets +onlyGivenNames M25
    have w24 : Wk S Z hx N M M25 := wk_fI hN w22 rfl rfl g23 z_a0 (Or.inr (hS 360 rfl))
    exact q_tA hN w24 (wX100_trap_224 S Z hS _ _ _ _ _ w24.1 z_a0)
  · refine pq_g (fun g26 => ?_)
    refine pq_g (fun g27 => ?_)
    refine pq_b (wX100_put S Z (sb rfl hS) _ _ _ _ w0.1 z_a0) (fun r28 K29 => ?_)
    have w30 := wk_t w0 K29 hN
    refine pq_g (fun g31 => ?_)
    refine pq_b (wX100_status S Z (sb rfl hS) _ _ _ w30.1 z_a0) (fun r32 K33 => ?_)
    have w34 := wk_t w30 K33 hN
    refine pq_g (fun g35 => ?_)
    refine pq_b (wX100_put S Z (sb rfl hS) _ _ _ _ w34.1 z_a0) (fun r36 K37 => ?_)
    have w38 := wk_t w34 K37 hN
    refine pq_g (fun g39 => ?_)
    refine pq_b (wX100_put S Z (sb rfl hS) _ _ _ _ w38.1 z_a0) (fun r40 K41 => ?_)
    have w42 := wk_t w38 K41 hN
    refine pq_g (fun g43 => ?_)
    extract_lets +onlyGivenNames M45
    have w44 : Wk S Z hx N M M45 := wk_fI hN w42 rfl rfl g43 z_a0 (Or.inr (hS 360 rfl))
    exact q_tA hN w44 (wX100_trap_224 S Z hS _ _ _ _ _ w44.1 z_a0)
theorem wX100_trap_129 (S Z : Nat → Prop) {hx N : Nat} (hS : ∀ x, fe_mem lX100_trap x = true → S x) (a0 : Nat) (a1 : Int32) (a2 : Int32) (a3 : Int64) (a9 : Int32) (a10 : Int32) (M : FM) (w : WI Z hx N M) (z_a0 : Z a0) : pq (FX100_trap_129 a0 a1 a2 a3 a9 a10 M) (QA S Z hx N M) := by
  have hN := w.2.2.1
  have w0 := wk_r (S := S) w
  delta FX100_trap_129 BX100_trap_129
  refine pq_g (fun g1 => ?_)
  have z2 := wk_z (i := 0) (f := 361) w0 rfl z_a0
  have f3 := sS_361 w0.1.1 g1
  refine pq_g (fun g4 => ?_)
  extract_lets +onlyGivenNames M6
  have w5 : Wk S Z hx N M M6 := wk_aL hN w0 rfl g4.1 z2 (sy_s f3 (hS 1361 rfl))
  exact q_tA hN w5 (wX100_trap_139 S Z hS _ _ _ _ _ w5.1 z_a0)
theorem wX100_trap_118 (S Z : Nat → Prop) {hx N : Nat} (hS : ∀ x, fe_mem lX100_trap x = true → S x) (a0 : Nat) (a1 : Int32) (a2 : Int32) (a3 : Int64) (a7 : Int64) (a9 : Int32) (a10 : Int32) (M : FM) (w : WI Z hx N M) (z_a0 : Z a0) : pq (FX100_trap_118 a0 a1 a2 a3 a7 a9 a10 M) (QA S Z hx N M) := by
  have hN := w.2.2.1
  have w0 := wk_r (S := S) w
  delta FX100_trap_118 BX100_trap_118
  refine pq_g (fun g1 => ?_)
  have z2 := wk_z (i := 0) (f := 361) w0 rfl z_a0
  have f3 := sS_361 w0.1.1 g1
  refine pq_g (fun g4 => ?_)
  extract_lets +onlyGivenNames M6
  have w5 : Wk S Z hx N M M6 := wk_aL hN w0 rfl g4.1 z2 (sy_s f3 (hS 1361 rfl))
  exact q_tA hN w5 (wX100_trap_129 S Z hS _ _ _ _ _ _ _ w5.1 z_a0)
theorem wX100_trap_101 (S Z : Nat → Prop) {hx N : Nat} (hS : ∀ x, fe_mem lX100_trap x = true → S x) (a0 : Nat) (a1 : Int32) (a2 : Int32) (a3 : Int64) (a5 : Int64) (a7 : Int64) (a9 : Int32) (s0 : Int32) (M : FM) (w : WI Z hx N M) (z_a0 : Z a0) : pq (FX100_trap_101 a0 a1 a2 a3 a5 a7 a9 s0 M) (QA S Z hx N M) := by
  have hN := w.2.2.1
  have w0 := wk_r (S := S) w
  delta FX100_trap_101 BX100_trap_101
  refine pq_g (fun g1 => ?_)
  have z2 := wk_z (i := 0) (f := 361) w0 rfl z_a0
  have f3 := sS_361 w0.1.1 g1
  refine pq_g (fun g4 => ?_)
  extract_lets +onlyGivenNames M6
  have w5 : Wk S Z hx N M M6 := wk_aL hN w0 rfl g4.1 z2 (sy_s f3 (hS 1361 rfl))
  exact q_tA hN w5 (wX100_trap_118 S Z hS _ _ _ _ _ _ _ _ w5.1 z_a0)
theorem wX100_trap_85 (S Z : Nat → Prop) {hx N : Nat} (hS : ∀ x, fe_mem lX100_trap x = true → S x) (a0 : Nat) (a1 : Int32) (a2 : Int32) (a3 : Int64) (a5 : Int64) (a7 : Int64) (s0 : Int32) (M : FM) (w : WI Z hx N M) (z_a0 : Z a0) : pq (FX100_trap_85 a0 a1 a2 a3 a5 a7 s0 M) (QA S Z hx N M) := by
  have hN := w.2.2.1
  have w0 := wk_r (S := S) w
  delta FX100_trap_85 BX100_trap_85
  refine pq_fi (fun _ => ?_) (fun _ => ?_)
  · exact q_tA hN w0 (wX100_trap_101 S Z hS _ _ _ _ _ _ _ _ _ w0.1 z_a0)
  · exact q_tA hN w0 (wX100_trap_101 S Z hS _ _ _ _ _ _ _ _ _ w0.1 z_a0)
theorem wX100_trap_84 (S Z : Nat → Prop) {hx N : Nat} (hS : ∀ x, fe_mem lX100_trap x = true → S x) (a0 : Nat) (a1 : Int32) (a2 : Int32) (a3 : Int64) (a5 : Int64) (a7 : Int64) (M : FM) (w : WI Z hx N M) (z_a0 : Z a0) : pq (FX100_trap_84 a0 a1 a2 a3 a5 a7 M) (QA S Z hx N M) := by
  have hN := w.2.2.1
  have w0 := wk_r (S := S) w
  delta FX100_trap_84 BX100_trap_84
  exact q_tA hN w0 (wX100_trap_85 S Z hS _ _ _ _ _ _ _ _ w0.1 z_a0)
theorem wX100_trap_70 (S Z : Nat → Prop) {hx N : Nat} (hS : ∀ x, fe_mem lX100_trap x = true → S x) (a0 : Nat) (a1 : Int32) (a2 : Int32) (a3 : Int64) (a5 : Int64) (a7 : Int64) (s0 : Nat) (s1 : Int32) (M : FM) (w : WI Z hx N M) (z_a0 : Z a0) (z_s0 : Z s0) : pq (FX100_trap_70 a0 a1 a2 a3 a5 a7 s0 s1 M) (QA S Z hx N M) := by
  have hN := w.2.2.1
  have w0 := wk_r (S := S) w
  delta FX100_trap_70 BX100_trap_70
  refine pq_g (fun g1 => ?_)
  refine pq_fi (fun _ => ?_) (fun _ => ?_)
  · exact q_tA hN w0 (wX100_trap_85 S Z hS _ _ _ _ _ _ _ _ w0.1 z_a0)
  · exact q_tA hN w0 (wX100_trap_84 S Z hS _ _ _ _ _ _ _ w0.1 z_a0)
theorem wX100_trap_43 (S Z : Nat → Prop) {hx N : Nat} (hS : ∀ x, fe_mem lX100_trap x = true → S x) (a0 : Nat) (a1 : Int32) (a2 : Int32) (a3 : Int64) (a5 : Int64) (s0 : Int64) (M : FM) (w : WI Z hx N M) (z_a0 : Z a0) : pq (FX100_trap_43 a0 a1 a2 a3 a5 s0 M) (QA S Z hx N M) := by
  have hN := w.2.2.1
  have w0 := wk_r (S := S) w
  delta FX100_trap_43 BX100_trap_43
  refine pq_g (fun g1 => ?_)
  refine pq_fi (fun _ => ?_) (fun _ => ?_)
  · exact q_tA hN w0 (wX100_trap_84 S Z hS _ _ _ _ _ _ _ w0.1 z_a0)
  · refine pq_g (fun g2 => ?_)
    have z3 := wk_z (i := 0) (f := 361) w0 rfl z_a0
    have f4 := sS_361 w0.1.1 g2
    refine pq_fi (fun _ => ?_) (fun _ => ?_)
    · exact q_tA hN w0 (wX100_trap_70 S Z hS _ _ _ _ _ _ _ _ _ w0.1 z_a0 z3)
    · exact q_tA hN w0 (wX100_trap_70 S Z hS _ _ _ _ _ _ _ _ _ w0.1 z_a0 z3)
theorem wX100_trap_16 (S Z : Nat → Prop) {hx N : Nat} (hS : ∀ x, fe_mem lX100_trap x = true → S x) (a0 : Nat) (a1 : Int32) (a2 : Int32) (a3 : Int64) (a5 : Int64) (s0 : Nat) (s1 : Int32) (M : FM) (w : WI Z hx N M) (z_a0 : Z a0) (z_s0 : Z s0) : pq (FX100_trap_16 a0 a1 a2 a3 a5 s0 s1 M) (QA S Z hx N M) := by
  have hN := w.2.2.1
  have w0 := wk_r (S := S) w
  delta FX100_trap_16 BX100_trap_16
  refine pq_g (fun g1 => ?_)
  extract_lets +onlyGivenNames M3
  have w2 : Wk S Z hx N M M3 := wk_fI hN w0 rfl rfl g1 z_s0 (Or.inr (hS 358 rfl))
  refine pq_g (fun g4 => ?_)
  refine pq_fi (fun _ => ?_) (fun _ => ?_)
  · refine pq_fi (fun _ => ?_) (fun _ => ?_)
    · exact q_tA hN w2 (wX100_trap_43 S Z hS _ _ _ _ _ _ _ w2.1 z_a0)
    · exact q_tA hN w2 (wX100_trap_43 S Z hS _ _ _ _ _ _ _ w2.1 z_a0)
  · exact pq_s w2
theorem wX100_trap_11 (S Z : Nat → Prop) {hx N : Nat} (hS : ∀ x, fe_mem lX100_trap x = true → S x) (a0 : Nat) (a1 : Int32) (a2 : Int32) (a3 : Int64) (a5 : Int64) (s0 : Nat) (M : FM) (w : WI Z hx N M) (z_a0 : Z a0) (z_s0 : Z s0) : pq (FX100_trap_11 a0 a1 a2 a3 a5 s0 M) (QA S Z hx N M) := by
  have hN := w.2.2.1
  have w0 := wk_r (S := S) w
  delta FX100_trap_11 BX100_trap_11
  exact q_tA hN w0 (wX100_trap_16 S Z hS _ _ _ _ _ _ _ _ w0.1 z_a0 z_s0)
theorem wX100_trap_0 (S Z : Nat → Prop) {hx N : Nat} (hS : ∀ x, fe_mem lX100_trap x = true → S x) (a0 : Nat) (a1 : Int32) (a2 : Int32) (a3 : Int64) (a5 : Int64) (M : FM) (w : WI Z hx N M) (z_a0 : Z a0) : pq (FX100_trap_0 a0 a1 a2 a3 a5 M) (QA S Z hx N M) := by
  have hN := w.2.2.1
  have w0 := wk_r (S := S) w
  delta FX100_trap_0 BX100_trap_0
  refine pq_fi (fun _ => ?_) (fun _ => ?_)
  · exact q_tA hN w0 (wX100_trap_11 S Z hS _ _ _ _ _ _ _ w0.1 z_a0 z_a0)
  · refine pq_fi (fun _ => ?_) (fun _ => ?_)
    · exact q_tA hN w0 (wX100_trap_16 S Z hS _ _ _ _ _ _ _ _ w0.1 z_a0 z_a0)
    · exact q_tA hN w0 (wX100_trap_11 S Z hS _ _ _ _ _ _ _ w0.1 z_a0 z_a0)
theorem wX100_trap (S Z : Nat → Prop) {hx N : Nat} (hS : ∀ x, fe_mem lX100_trap x = true → S x) (a0 : Nat) (a1 : Int32) (a2 : Int32) (a3 : Int64) (a5 : Int64) (M : FM) (w : WI Z hx N M) (z_a0 : Z a0) : pq (FX100_trap a0 a1 a2 a3 a5 M) (QA S Z hx N M) := wX100_trap_0 S Z hS a0 a1 a2 a3 a5 M w z_a0
def lX100_count : List Nat := [358, 1361]
theorem wX100_count_0 (S Z : Nat → Prop) {hx N : Nat} (hS : ∀ x, fe_mem lX100_count x = true → S x) (a0 : Nat) (a1 : Int64) (a3 : Int64) (M : FM) (w : WI Z hx N M) (z_a0 : Z a0) : pq (FX100_count_0 a0 a1 a3 M) (QV S Z hx N M) := by
  have hN := w.2.2.1
  have w0 := wk_r (S := S) w
  delta FX100_count_0 BX100_count_0
  refine pq_g (fun g1 => ?_)
  extract_lets +onlyGivenNames M3
  have w2 : Wk S Z hx N M M3 := wk_fI hN w0 rfl rfl g1 z_a0 (Or.inr (hS 358 rfl))
  refine pq_g (fun g4 => ?_)
  have z5 := wk_z (i := 0) (f := 361) w2 rfl z_a0
  have f6 := sS_361 w2.1.1 g4
  refine pq_g (fun g7 => ?_)
  have z8 := wk_z (i := 0) (f := 361) w2 rfl z_a0
  have f9 := sS_361 w2.1.1 g7
  refine pq_g (fun g10 => ?_)
  refine pq_g (fun g11 => ?_)
  extract_lets +onlyGivenNames M13
  have w12 : Wk S Z hx N M M13 := wk_aL hN w2 rfl g11.1 z5 (sy_s f6 (hS 1361 rfl))
  refine pq_g (fun g14 => ?_)
  have z15 := wk_z (i := 0) (f := 361) w12 rfl z_a0
  have f16 := sS_361 w12.1.1 g14
  refine pq_g (fun g17 => ?_)
  have z18 := wk_z (i := 0) (f := 361) w12 rfl z_a0
  have f19 := sS_361 w12.1.1 g17
  refine pq_g (fun g20 => ?_)
  refine pq_g (fun g21 => ?_)
  extract_lets +onlyGivenNames M23
  have w22 : Wk S Z hx N M M23 := wk_aL hN w12 rfl g21.1 z15 (sy_s f16 (hS 1361 rfl))
  exact pq_s w22
theorem wX100_count (S Z : Nat → Prop) {hx N : Nat} (hS : ∀ x, fe_mem lX100_count x = true → S x) (a0 : Nat) (a1 : Int64) (a3 : Int64) (M : FM) (w : WI Z hx N M) (z_a0 : Z a0) : pq (FX100_count a0 a1 a3 M) (QV S Z hx N M) := wX100_count_0 S Z hS a0 a1 a3 M w z_a0
def lX92_step : List Nat := [315, 316, 317, 318, 319, 320, 321, 322, 324, 328, 329, 330, 331, 332, 333, 335, 336, 337, 338, 339, 343, 344, 345, 347, 348, 349, 350, 351, 352, 353, 354, 356, 357, 358, 360, 363, 364, 365, 366, 368, 369, 370, 371, 381, 382, 383, 384, 385, 386, 387, 393, 394, 398, 407, 408, 409, 411, 413, 414, 422, 424, 425, 426, 429, 430, 1307, 1323, 1327, 1334, 1340, 1341, 1342, 1346, 1355, 1361, 1362, 1367, 1375, 1376, 1377, 1378, 1379, 1380, 1388, 1389, 1390, 1391, 1392, 1396, 1397, 1399, 1400, 1401, 1402, 1403, 1404, 1405, 1406, 1410, 1412, 1427, 1428]
theorem wX92_step_117 (S Z : Nat → Prop) {hx N : Nat} (hS : ∀ x, fe_mem lX92_step x = true → S x) (n : Nat) (M : FM) (w : WI Z hx N M) : pq (FX92_step_117 n M) (QV S Z hx N M) := by
  have hN := w.2.2.1
  have w0 := wk_r (S := S) w
  delta FX92_step_117 BX92_step_117
  exact pq_s w0
theorem wX92_step_96 (S Z : Nat → Prop) {hx N : Nat} (hS : ∀ x, fe_mem lX92_step x = true → S x) (n : Nat) (a0 : Nat) (a2 : Nat) (a3 : Nat) (M : FM) (w : WI Z hx N M) (z_a0 : Z a0) (z_a2 : Z a2) (z_a3 : Z a3) : pq (FX92_step_96 n a0 a2 a3 M) (QV S Z hx N M) := by
  have hN := w.2.2.1
  have w0 := wk_r (S := S) w
  delta FX92_step_96 BX92_step_96
  refine pq_g (fun g1 => ?_)
  refine pq_g (fun g2 => ?_)
  refine pq_g (fun g3 => ?_)
  refine pq_b (wX98_counter S Z (sb rfl hS) _ _ w0.1 z_a2) (fun r4 K5 => ?_)
  have w6 := wk_t w0 K5 hN
  refine pq_g (fun g7 => ?_)
  refine pq_b (wX100_trap S Z (sb rfl hS) _ _ _ _ _ _ w6.1 z_a3) (fun r8 K9 => ?_)
  have w10 := wk_t w6 K9 hN
  refine pq_g (fun g11 => ?_)
  refine pq_b (wX98_jump S Z (sb rfl hS) _ _ _ w10.1 z_a2) (fun r12 K13 => ?_)
  have w14 := wk_t w10 K13 hN
  exact q_tV hN w14 (wX92_step_117 S Z hS n _ w14.1 )
theorem wX92_step_36 (S Z : Nat → Prop) {hx N : Nat} (hS : ∀ x, fe_mem lX92_step x = true → S x) (n : Nat) (a0 : Nat) (a1 : Int32) (a2 : Nat) (a3 : Nat) (M : FM) (w : WI Z hx N M) (z_a0 : Z a0) (z_a2 : Z a2) (z_a3 : Z a3) (i_a1 : a1.toNatClampNeg = hx) : pq (FX92_step_36 n a0 a1 a2 a3 M) (QV S Z hx N M) := by
  have hN := w.2.2.1
  have w0 := wk_r (S := S) w
  delta FX92_step_36 BX92_step_36
  refine pq_g (fun g1 => ?_)
  have z2 := wk_z (i := 0) (f := 307) w0 rfl z_a0
  have f3 := sS_307 w0.1.1 g1
  refine pq_g (fun g4 => ?_)
  extract_lets +onlyGivenNames M6
  have w5 : Wk S Z hx N M M6 := wk_aI hN w0 rfl g4.1 z2 (sy_s f3 (hS 1307 rfl))
  refine pq_g (fun g7 => ?_)
  refine pq_b (wX100_taken S Z (sb rfl hS) n _ _ w5.1 z_a3) (fun r8 K9 => ?_)
  have w10 := wk_t w5 K9 hN
  refine pq_fi (fun _ => ?_) (fun _ => ?_)
  · refine pq_g (fun g11 => ?_)
    refine pq_b (wX92_fetch S Z (sb rfl hS) n _ _ _ w10.1 z_a0 i_a1) (fun r12 K13 => ?_)
    have w14 := wk_t w10 K13 hN
    refine pq_fi (fun _ => ?_) (fun _ => ?_)
    · exact q_tV hN w14 (wX92_step_96 S Z hS n _ _ _ _ w14.1 z_a0 z_a2 z_a3)
    · refine pq_g (fun g15 => ?_)
      refine pq_b (wX92_carries S Z (sb rfl hS) n _ _ _ w14.1 z_a0 i_a1) (fun r16 K17 => ?_)
      have w18 := wk_t w14 K17 hN
      refine pq_fi (fun _ => ?_) (fun _ => ?_)
      · exact q_tV hN w18 (wX92_step_96 S Z hS n _ _ _ _ w18.1 z_a0 z_a2 z_a3)
      · refine pq_g (fun g19 => ?_)
        refine pq_b (wX100_count S Z (sb rfl hS) _ _ _ _ w18.1 z_a3) (fun r20 K21 => ?_)
        have w22 := wk_t w18 K21 hN
        exact q_tV hN w22 (wX92_step_117 S Z hS n _ w22.1 )
  · refine pq_g (fun g23 => ?_)
    refine pq_b (wX98_counter S Z (sb rfl hS) _ _ w10.1 z_a2) (fun r24 K25 => ?_)
    have w26 := wk_t w10 K25 hN
    refine pq_g (fun g27 => ?_)
    refine pq_b (wX100_trap S Z (sb rfl hS) _ _ _ _ _ _ w26.1 z_a3) (fun r28 K29 => ?_)
    have w30 := wk_t w26 K29 hN
    refine pq_g (fun g31 => ?_)
    refine pq_b (wX98_jump S Z (sb rfl hS) _ _ _ w30.1 z_a2) (fun r32 K33 => ?_)
    have w34 := wk_t w30 K33 hN
    exact pq_s w34
theorem wX92_step_0 (S Z : Nat → Prop) {hx N : Nat} (hS : ∀ x, fe_mem lX92_step x = true → S x) (n : Nat) (a0 : Nat) (a1 : Int32) (M : FM) (w : WI Z hx N M) (z_a0 : Z a0) (i_a1 : a1.toNatClampNeg = hx) : pq (FX92_step_0 n a0 a1 M) (QV S Z hx N M) := by
  have hN := w.2.2.1
  have w0 := wk_r (S := S) w
  delta FX92_step_0 BX92_step_0
  refine pq_g (fun g1 => ?_)
  have z2 := wk_z (i := 0) (f := 303) w0 rfl z_a0
  have f3 := sS_303 w0.1.1 g1
  refine pq_g (fun g4 => ?_)
  have z5 := wk_zx w0 z2 i_a1
  refine pq_g (fun g6 => ?_)
  have z7 := wk_z (i := 0) (f := 305) w0 rfl z_a0
  have f8 := sS_305 w0.1.1 g6
  refine pq_g (fun g9 => ?_)
  have z10 := wk_zx w0 z7 i_a1
  refine pq_g (fun g11 => ?_)
  refine pq_b (wX92_tell S Z (sb rfl hS) n _ _ _ w0.1 z_a0 i_a1) (fun r12 K13 => ?_)
  have w14 := wk_t w0 K13 hN
  refine pq_g (fun g15 => ?_)
  have z16 := wk_z (i := 0) (f := 307) w14 rfl z_a0
  have f17 := sS_307 w14.1.1 g15
  refine pq_g (fun g18 => ?_)
  refine pq_fi (fun _ => ?_) (fun _ => ?_)
  · exact q_tV hN w14 (wX92_step_36 S Z hS n _ _ _ _ _ w14.1 z_a0 z5 z10 i_a1)
  · refine pq_g (fun g19 => ?_)
    refine pq_b (wX100_wakes S Z (sb rfl hS) n _ _ w14.1 z10) (fun r20 K21 => ?_)
    have w22 := wk_t w14 K21 hN
    refine pq_fi (fun _ => ?_) (fun _ => ?_)
    · exact pq_s w22
    · exact q_tV hN w22 (wX92_step_36 S Z hS n _ _ _ _ _ w22.1 z_a0 z5 z10 i_a1)
theorem wX92_step (S Z : Nat → Prop) {hx N : Nat} (hS : ∀ x, fe_mem lX92_step x = true → S x) (n : Nat) (a0 : Nat) (a1 : Int32) (M : FM) (w : WI Z hx N M) (z_a0 : Z a0) (i_a1 : a1.toNatClampNeg = hx) : pq (FX92_step n a0 a1 M) (QV S Z hx N M) := wX92_step_0 S Z hS n a0 a1 M w z_a0 i_a1
def lX98_get : List Nat := [345]
theorem wX98_get_33 (S Z : Nat → Prop) {hx N : Nat} (hS : ∀ x, fe_mem lX98_get x = true → S x) (s0 : Int64) (M : FM) (w : WI Z hx N M) : pq (FX98_get_33 s0 M) (QA S Z hx N M) := by
  have hN := w.2.2.1
  have w0 := wk_r (S := S) w
  delta FX98_get_33 BX98_get_33
  exact pq_s w0
theorem wX98_get_13 (S Z : Nat → Prop) {hx N : Nat} (hS : ∀ x, fe_mem lX98_get x = true → S x) (a0 : Nat) (a1 : Int32) (s0 : Nat) (s1 : Int32) (M : FM) (w : WI Z hx N M) (z_a0 : Z a0) (z_s0 : Z s0) : pq (FX98_get_13 a0 a1 s0 s1 M) (QA S Z hx N M) := by
  have hN := w.2.2.1
  have w0 := wk_r (S := S) w
  delta FX98_get_13 BX98_get_13
  refine pq_g (fun g1 => ?_)
  extract_lets +onlyGivenNames M3
  have w2 : Wk S Z hx N M M3 := wk_fI hN w0 rfl rfl g1 z_s0 (Or.inr (hS 345 rfl))
  refine pq_g (fun g4 => ?_)
  refine pq_fi (fun _ => ?_) (fun _ => ?_)
  · refine pq_g (fun g5 => ?_)
    have z6 := wk_z (i := 0) (f := 346) w2 rfl z_a0
    have f7 := sS_346 w2.1.1 g5
    refine pq_g (fun g8 => ?_)
    exact q_tA hN w2 (wX98_get_33 S Z hS _ _ w2.1 )
  · exact q_tA hN w2 (wX98_get_33 S Z hS _ _ w2.1 )
theorem wX98_get_0 (S Z : Nat → Prop) {hx N : Nat} (hS : ∀ x, fe_mem lX98_get x = true → S x) (a0 : Nat) (a1 : Int32) (M : FM) (w : WI Z hx N M) (z_a0 : Z a0) : pq (FX98_get_0 a0 a1 M) (QA S Z hx N M) := by
  have hN := w.2.2.1
  have w0 := wk_r (S := S) w
  delta FX98_get_0 BX98_get_0
  refine pq_b (wX98_isRegister S Z (sb rfl hS) _ _ w0.1 ) (fun r1 K2 => ?_)
  have w3 := wk_t w0 K2 hN
  refine pq_fi (fun _ => ?_) (fun _ => ?_)
  · exact q_tA hN w3 (wX98_get_13 S Z hS _ _ _ _ _ w3.1 z_a0 z_a0)
  · exact q_tA hN w3 (wX98_get_13 S Z hS _ _ _ _ _ w3.1 z_a0 z_a0)
theorem wX98_get (S Z : Nat → Prop) {hx N : Nat} (hS : ∀ x, fe_mem lX98_get x = true → S x) (a0 : Nat) (a1 : Int32) (M : FM) (w : WI Z hx N M) (z_a0 : Z a0) : pq (FX98_get a0 a1 M) (QA S Z hx N M) := wX98_get_0 S Z hS a0 a1 M w z_a0
def lX92_check : List Nat := [316, 345, 358]
theorem wX92_check_133 (S Z : Nat → Prop) {hx N : Nat} (hS : ∀ x, fe_mem lX92_check x = true → S x) (s0 : Nat) (s1 : Int64) (M : FM) (w : WI Z hx N M) (z_s0 : Z s0) : pq (FX92_check_133 s0 s1 M) (QV S Z hx N M) := by
  have hN := w.2.2.1
  have w0 := wk_r (S := S) w
  delta FX92_check_133 BX92_check_133
  refine pq_g (fun g1 => ?_)
  extract_lets +onlyGivenNames M3
  have w2 : Wk S Z hx N M M3 := wk_fL hN w0 rfl rfl g1 z_s0 (Or.inr (hS 316 rfl))
  exact pq_s w2
theorem wX92_check_103 (S Z : Nat → Prop) {hx N : Nat} (hS : ∀ x, fe_mem lX92_check x = true → S x) (a0 : Nat) (a1 : Int32) (s0 : Nat) (s1 : Int64) (M : FM) (w : WI Z hx N M) (z_a0 : Z a0) (z_s0 : Z s0) (i_a1 : a1.toNatClampNeg = hx) : pq (FX92_check_103 a0 a1 s0 s1 M) (QV S Z hx N M) := by
  have hN := w.2.2.1
  have w0 := wk_r (S := S) w
  delta FX92_check_103 BX92_check_103
  refine pq_g (fun g1 => ?_)
  extract_lets +onlyGivenNames M3
  have w2 : Wk S Z hx N M M3 := wk_fL hN w0 rfl rfl g1 z_s0 (Or.inr (hS 316 rfl))
  refine pq_g (fun g4 => ?_)
  have z5 := wk_z (i := 0) (f := 305) w2 rfl z_a0
  have f6 := sS_305 w2.1.1 g4
  refine pq_g (fun g7 => ?_)
  have z8 := wk_zx w2 z5 i_a1
  refine pq_g (fun g9 => ?_)
  refine pq_b (wX100_below S Z (sb rfl hS) _ _ w2.1 z8) (fun r10 K11 => ?_)
  have w12 := wk_t w2 K11 hN
  refine pq_fi (fun _ => ?_) (fun _ => ?_)
  · refine pq_g (fun g13 => ?_)
    exact q_tV hN w12 (wX92_check_133 S Z hS _ _ _ w12.1 z_a0)
  · refine pq_g (fun g14 => ?_)
    exact q_tV hN w12 (wX92_check_133 S Z hS _ _ _ w12.1 z_a0)
theorem wX92_check_99 (S Z : Nat → Prop) {hx N : Nat} (hS : ∀ x, fe_mem lX92_check x = true → S x) (a0 : Nat) (a1 : Int32) (s0 : Nat) (M : FM) (w : WI Z hx N M) (z_a0 : Z a0) (z_s0 : Z s0) (i_a1 : a1.toNatClampNeg = hx) : pq (FX92_check_99 a0 a1 s0 M) (QV S Z hx N M) := by
  have hN := w.2.2.1
  have w0 := wk_r (S := S) w
  delta FX92_check_99 BX92_check_99
  refine pq_g (fun g1 => ?_)
  exact q_tV hN w0 (wX92_check_103 S Z hS _ _ _ _ _ w0.1 z_a0 z_s0 i_a1)
theorem wX92_check_72 (S Z : Nat → Prop) {hx N : Nat} (hS : ∀ x, fe_mem lX92_check x = true → S x) (a0 : Nat) (a1 : Int32) (a2 : Int32) (s0 : Nat) (s1 : Int64) (M : FM) (w : WI Z hx N M) (z_a0 : Z a0) (z_s0 : Z s0) (i_a1 : a1.toNatClampNeg = hx) : pq (FX92_check_72 a0 a1 a2 s0 s1 M) (QV S Z hx N M) := by
  have hN := w.2.2.1
  have w0 := wk_r (S := S) w
  delta FX92_check_72 BX92_check_72
  refine pq_g (fun g1 => ?_)
  extract_lets +onlyGivenNames M3
  have w2 : Wk S Z hx N M M3 := wk_fL hN w0 rfl rfl g1 z_s0 (Or.inr (hS 316 rfl))
  refine pq_fi (fun _ => ?_) (fun _ => ?_)
  · exact q_tV hN w2 (wX92_check_99 S Z hS _ _ _ _ w2.1 z_a0 z_a0 i_a1)
  · refine pq_fi (fun _ => ?_) (fun _ => ?_)
    · exact q_tV hN w2 (wX92_check_99 S Z hS _ _ _ _ w2.1 z_a0 z_a0 i_a1)
    · refine pq_fi (fun _ => ?_) (fun _ => ?_)
      · exact q_tV hN w2 (wX92_check_99 S Z hS _ _ _ _ w2.1 z_a0 z_a0 i_a1)
      · refine pq_g (fun g4 => ?_)
        exact q_tV hN w2 (wX92_check_103 S Z hS _ _ _ _ _ w2.1 z_a0 z_a0 i_a1)
theorem wX92_check_39 (S Z : Nat → Prop) {hx N : Nat} (hS : ∀ x, fe_mem lX92_check x = true → S x) (a0 : Nat) (a1 : Int32) (a2 : Int32) (s0 : Nat) (s1 : Int64) (M : FM) (w : WI Z hx N M) (z_a0 : Z a0) (z_s0 : Z s0) (i_a1 : a1.toNatClampNeg = hx) : pq (FX92_check_39 a0 a1 a2 s0 s1 M) (QV S Z hx N M) := by
  have hN := w.2.2.1
  have w0 := wk_r (S := S) w
  delta FX92_check_39 BX92_check_39
  refine pq_g (fun g1 => ?_)
  extract_lets +onlyGivenNames M3
  have w2 : Wk S Z hx N M M3 := wk_fL hN w0 rfl rfl g1 z_s0 (Or.inr (hS 316 rfl))
  refine pq_g (fun g4 => ?_)
  have z5 := wk_z (i := 0) (f := 303) w2 rfl z_a0
  have f6 := sS_303 w2.1.1 g4
  refine pq_g (fun g7 => ?_)
  have z8 := wk_zx w2 z5 i_a1
  refine pq_g (fun g9 => ?_)
  refine pq_b (wX98_counter S Z (sb rfl hS) _ _ w2.1 z8) (fun r10 K11 => ?_)
  have w12 := wk_t w2 K11 hN
  refine pq_fi (fun _ => ?_) (fun _ => ?_)
  · refine pq_g (fun g13 => ?_)
    exact q_tV hN w12 (wX92_check_72 S Z hS _ _ _ _ _ _ w12.1 z_a0 z_a0 i_a1)
  · refine pq_g (fun g14 => ?_)
    exact q_tV hN w12 (wX92_check_72 S Z hS _ _ _ _ _ _ w12.1 z_a0 z_a0 i_a1)
theorem wX92_check_0 (S Z : Nat → Prop) {hx N : Nat} (hS : ∀ x, fe_mem lX92_check x = true → S x) (a0 : Nat) (a1 : Int32) (M : FM) (w : WI Z hx N M) (z_a0 : Z a0) (i_a1 : a1.toNatClampNeg = hx) : pq (FX92_check_0 a0 a1 M) (QV S Z hx N M) := by
  have hN := w.2.2.1
  have w0 := wk_r (S := S) w
  delta FX92_check_0 BX92_check_0
  refine pq_g (fun g1 => ?_)
  have z2 := wk_z (i := 0) (f := 305) w0 rfl z_a0
  have f3 := sS_305 w0.1.1 g1
  refine pq_g (fun g4 => ?_)
  have z5 := wk_zx w0 z2 i_a1
  refine pq_g (fun g6 => ?_)
  refine pq_b (wX100_mode S Z (sb rfl hS) _ _ w0.1 z5) (fun r7 K8 => ?_)
  have w9 := wk_t w0 K8 hN
  refine pq_g (fun g10 => ?_)
  have z11 := wk_z (i := 0) (f := 303) w9 rfl z_a0
  have f12 := sS_303 w9.1.1 g10
  refine pq_g (fun g13 => ?_)
  have z14 := wk_zx w9 z11 i_a1
  refine pq_g (fun g15 => ?_)
  refine pq_b (wX98_get S Z (sb rfl hS) _ _ _ w9.1 z14) (fun r16 K17 => ?_)
  have w18 := wk_t w9 K17 hN
  refine pq_fi (fun _ => ?_) (fun _ => ?_)
  · refine pq_g (fun g19 => ?_)
    exact q_tV hN w18 (wX92_check_39 S Z hS _ _ _ _ _ _ w18.1 z_a0 z_a0 i_a1)
  · refine pq_g (fun g20 => ?_)
    exact q_tV hN w18 (wX92_check_39 S Z hS _ _ _ _ _ _ w18.1 z_a0 z_a0 i_a1)
theorem wX92_check (S Z : Nat → Prop) {hx N : Nat} (hS : ∀ x, fe_mem lX92_check x = true → S x) (a0 : Nat) (a1 : Int32) (M : FM) (w : WI Z hx N M) (z_a0 : Z a0) (i_a1 : a1.toNatClampNeg = hx) : pq (FX92_check a0 a1 M) (QV S Z hx N M) := wX92_check_0 S Z hS a0 a1 M w z_a0 i_a1
def lX96_pass : List Nat := [394, 398]
theorem wX96_pass_0 (S Z : Nat → Prop) {hx N : Nat} (hS : ∀ x, fe_mem lX96_pass x = true → S x) (a0 : Nat) (a1 : Int64) (M : FM) (w : WI Z hx N M) (z_a0 : Z a0) : pq (FX96_pass_0 a0 a1 M) (QV S Z hx N M) := by
  have hN := w.2.2.1
  have w0 := wk_r (S := S) w
  delta FX96_pass_0 BX96_pass_0
  refine pq_g (fun g1 => ?_)
  extract_lets +onlyGivenNames M3
  have w2 : Wk S Z hx N M M3 := wk_fI hN w0 rfl rfl g1 z_a0 (Or.inr (hS 394 rfl))
  refine pq_g (fun g4 => ?_)
  refine pq_g (fun g5 => ?_)
  extract_lets +onlyGivenNames M7
  have w6 : Wk S Z hx N M M7 := wk_fL hN w2 rfl rfl g5 z_a0 (Or.inr (hS 398 rfl))
  exact pq_s w6
theorem wX96_pass (S Z : Nat → Prop) {hx N : Nat} (hS : ∀ x, fe_mem lX96_pass x = true → S x) (a0 : Nat) (a1 : Int64) (M : FM) (w : WI Z hx N M) (z_a0 : Z a0) : pq (FX96_pass a0 a1 M) (QV S Z hx N M) := wX96_pass_0 S Z hS a0 a1 M w z_a0
def lX96_room : List Nat := [394]
theorem wX96_room_0 (S Z : Nat → Prop) {hx N : Nat} (hS : ∀ x, fe_mem lX96_room x = true → S x) (a0 : Nat) (M : FM) (w : WI Z hx N M) (z_a0 : Z a0) : pq (FX96_room_0 a0 M) (QA S Z hx N M) := by
  have hN := w.2.2.1
  have w0 := wk_r (S := S) w
  delta FX96_room_0 BX96_room_0
  refine pq_g (fun g1 => ?_)
  extract_lets +onlyGivenNames M3
  have w2 : Wk S Z hx N M M3 := wk_fI hN w0 rfl rfl g1 z_a0 (Or.inr (hS 394 rfl))
  refine pq_g (fun g4 => ?_)
  refine pq_b (wX96_space S Z (sb rfl hS) _ _ w2.1 z_a0) (fun r5 K6 => ?_)
  have w7 := wk_t w2 K6 hN
  exact pq_s w7
theorem wX96_room (S Z : Nat → Prop) {hx N : Nat} (hS : ∀ x, fe_mem lX96_room x = true → S x) (a0 : Nat) (M : FM) (w : WI Z hx N M) (z_a0 : Z a0) : pq (FX96_room a0 M) (QA S Z hx N M) := wX96_room_0 S Z hS a0 M w z_a0
def lX96_come : List Nat := [394, 408, 411, 1399, 1400, 1410]
theorem wX96_come_0 (S Z : Nat → Prop) {hx N : Nat} (hS : ∀ x, fe_mem lX96_come x = true → S x) (n : Nat) (a0 : Nat) (a1 : Int32) (M : FM) (w : WI Z hx N M) (z_a0 : Z a0) : pq (FX96_come_0 n a0 a1 M) (QA S Z hx N M) := by
  have hN := w.2.2.1
  have w0 := wk_r (S := S) w
  delta FX96_come_0 BX96_come_0
  refine pq_g (fun g1 => ?_)
  extract_lets +onlyGivenNames M3
  have w2 : Wk S Z hx N M M3 := wk_fI hN w0 rfl rfl g1 z_a0 (Or.inr (hS 394 rfl))
  refine pq_g (fun g4 => ?_)
  refine pq_b (wX96_takeIn S Z (sb rfl hS) _ _ _ w2.1 z_a0) (fun r5 K6 => ?_)
  have w7 := wk_t w2 K6 hN
  refine pq_g (fun g8 => ?_)
  refine pq_b (wX96_settle S Z (sb rfl hS) n _ _ w7.1 z_a0) (fun r9 K10 => ?_)
  have w11 := wk_t w7 K10 hN
  refine pq_g (fun _ => ?_)
  exact pq_s w11
theorem wX96_come (S Z : Nat → Prop) {hx N : Nat} (hS : ∀ x, fe_mem lX96_come x = true → S x) (n : Nat) (a0 : Nat) (a1 : Int32) (M : FM) (w : WI Z hx N M) (z_a0 : Z a0) : pq (FX96_come n a0 a1 M) (QA S Z hx N M) := wX96_come_0 S Z hS n a0 a1 M w z_a0
def lX92_round : List Nat := [311, 312, 314, 315, 316, 317, 318, 319, 320, 321, 322, 324, 328, 329, 330, 331, 332, 333, 335, 336, 337, 338, 339, 343, 344, 345, 347, 348, 349, 350, 351, 352, 353, 354, 356, 357, 358, 360, 363, 364, 365, 366, 368, 369, 370, 371, 381, 382, 383, 384, 385, 386, 387, 393, 394, 398, 407, 408, 409, 411, 413, 414, 422, 424, 425, 426, 429, 430, 1307, 1323, 1327, 1334, 1340, 1341, 1342, 1346, 1355, 1361, 1362, 1367, 1375, 1376, 1377, 1378, 1379, 1380, 1388, 1389, 1390, 1391, 1392, 1396, 1397, 1399, 1400, 1401, 1402, 1403, 1404, 1405, 1406, 1410, 1412, 1427, 1428]
theorem wX92_round_177 (S Z : Nat → Prop) {hx N : Nat} (hS : ∀ x, fe_mem lX92_round x = true → S x) (n : Nat) (k2 : Nat → Int32 → FM → Option (FM)) (hk2 : ∀ (a0 : Nat) (a1 : Int32) (M : FM), WI Z hx N M → Z a0 → (∀ a, Z a) → pq (k2 a0 a1 M) (QV S Z hx N M)) (k45 : Nat → Int32 → FM → Option (FM)) (hk45 : ∀ (a0 : Nat) (a1 : Int32) (M : FM), WI Z hx N M → Z a0 → (∀ a, Z a) → pq (k45 a0 a1 M) (QV S Z hx N M)) (M : FM) (w : WI Z hx N M) : pq (FX92_round_177 n k2 k45 M) (QV S Z hx N M) := by
  have hN := w.2.2.1
  have w0 := wk_r (S := S) w
  delta FX92_round_177 BX92_round_177
  exact pq_s w0
theorem wX92_round_151 (S Z : Nat → Prop) {hx N : Nat} (hS : ∀ x, fe_mem lX92_round x = true → S x) (n : Nat) (k2 : Nat → Int32 → FM → Option (FM)) (hk2 : ∀ (a0 : Nat) (a1 : Int32) (M : FM), WI Z hx N M → Z a0 → (∀ a, Z a) → pq (k2 a0 a1 M) (QV S Z hx N M)) (k45 : Nat → Int32 → FM → Option (FM)) (hk45 : ∀ (a0 : Nat) (a1 : Int32) (M : FM), WI Z hx N M → Z a0 → (∀ a, Z a) → pq (k45 a0 a1 M) (QV S Z hx N M)) (a0 : Nat) (s0 : Nat) (s1 : Int64) (M : FM) (w : WI Z hx N M) (z_a0 : Z a0) (z_s0 : Z s0) : pq (FX92_round_151 n k2 k45 a0 s0 s1 M) (QV S Z hx N M) := by
  have hN := w.2.2.1
  have w0 := wk_r (S := S) w
  delta FX92_round_151 BX92_round_151
  refine pq_g (fun g1 => ?_)
  extract_lets +onlyGivenNames M3
  have w2 : Wk S Z hx N M M3 := wk_fL hN w0 rfl rfl g1 z_s0 (Or.inr (hS 316 rfl))
  refine pq_g (fun g4 => ?_)
  refine pq_n ?_
  refine pq_g (fun g5 => ?_)
  extract_lets +onlyGivenNames M7
  have w6 : Wk S Z hx N M M7 := wk_fI hN w2 rfl rfl g5 z_a0 (Or.inr (hS 311 rfl))
  refine pq_g (fun g8 => ?_)
  refine pq_g (fun g9 => ?_)
  extract_lets +onlyGivenNames M11
  have w10 : Wk S Z hx N M M11 := wk_fI hN w6 rfl rfl g9 z_a0 (Or.inr (hS 312 rfl))
  exact q_tV hN w10 (wX92_round_177 S Z hS n _ hk2 _ hk45 _ w10.1 )
theorem wX92_round_101 (S Z : Nat → Prop) {hx N : Nat} (hS : ∀ x, fe_mem lX92_round x = true → S x) (n : Nat) (k2 : Nat → Int32 → FM → Option (FM)) (hk2 : ∀ (a0 : Nat) (a1 : Int32) (M : FM), WI Z hx N M → Z a0 → (∀ a, Z a) → pq (k2 a0 a1 M) (QV S Z hx N M)) (k45 : Nat → Int32 → FM → Option (FM)) (hk45 : ∀ (a0 : Nat) (a1 : Int32) (M : FM), WI Z hx N M → Z a0 → (∀ a, Z a) → pq (k45 a0 a1 M) (QV S Z hx N M)) (a0 : Nat) (M : FM) (w : WI Z hx N M) (z_a0 : Z a0) : pq (FX92_round_101 n k2 k45 a0 M) (QV S Z hx N M) := by
  have hN := w.2.2.1
  have w0 := wk_r (S := S) w
  delta FX92_round_101 BX92_round_101
  refine pq_g (fun g1 => ?_)
  refine pq_fi (fun _ => ?_) (fun _ => ?_)
  · exact q_tV hN w0 (wX92_round_177 S Z hS n _ hk2 _ hk45 _ w0.1 )
  · refine pq_g (fun g2 => ?_)
    have z3 := wk_z (i := 0) (f := 301) w0 rfl z_a0
    refine pq_g (fun g4 => ?_)
    refine pq_b (wX96_room S Z (sb rfl hS) _ _ w0.1 z3) (fun r5 K6 => ?_)
    have w7 := wk_t w0 K6 hN
    refine pq_fi (fun _ => ?_) (fun _ => ?_)
    · exact q_tV hN w7 (wX92_round_177 S Z hS n _ hk2 _ hk45 _ w7.1 )
    · refine pq_g (fun g8 => ?_)
      have z9 := wk_z (i := 0) (f := 301) w7 rfl z_a0
      refine pq_g (fun g10 => ?_)
      have z11 := wk_z (i := 0) (f := 310) w7 rfl z_a0
      have f12 := sS_310 w7.1.1 g10
      refine pq_g (fun g13 => ?_)
      refine pq_g (fun g14 => ?_)
      refine pq_g (fun g15 => ?_)
      refine pq_b (wX96_come S Z (sb rfl hS) n _ _ _ w7.1 z9) (fun r16 K17 => ?_)
      have w18 := wk_t w7 K17 hN
      refine pq_fi (fun _ => ?_) (fun _ => ?_)
      · refine pq_g (fun g19 => ?_)
        exact q_tV hN w18 (wX92_round_151 S Z hS n _ hk2 _ hk45 _ _ _ _ w18.1 z_a0 z_a0)
      · refine pq_g (fun g20 => ?_)
        exact q_tV hN w18 (wX92_round_151 S Z hS n _ hk2 _ hk45 _ _ _ _ w18.1 z_a0 z_a0)
theorem wX92_round_45 (S Z : Nat → Prop) {hx N : Nat} (hS : ∀ x, fe_mem lX92_round x = true → S x) (n : Nat) (k2 : Nat → Int32 → FM → Option (FM)) (hk2 : ∀ (a0 : Nat) (a1 : Int32) (M : FM), WI Z hx N M → Z a0 → (∀ a, Z a) → pq (k2 a0 a1 M) (QV S Z hx N M)) (k45 : Nat → Int32 → FM → Option (FM)) (hk45 : ∀ (a0 : Nat) (a1 : Int32) (M : FM), WI Z hx N M → Z a0 → (∀ a, Z a) → pq (k45 a0 a1 M) (QV S Z hx N M)) (a0 : Nat) (a1 : Int32) (M : FM) (w : WI Z hx N M) (z_a0 : Z a0) (hA : (∀ a, Z a)) : pq (FX92_round_45 n k2 k45 a0 a1 M) (QV S Z hx N M) := by
  have hN := w.2.2.1
  have w0 := wk_r (S := S) w
  delta FX92_round_45 BX92_round_45
  refine pq_g (fun g1 => ?_)
  refine pq_fi (fun _ => ?_) (fun _ => ?_)
  · refine pq_g (fun g2 => ?_)
    refine pq_g (fun g3 => ?_)
    extract_lets +onlyGivenNames M5
    have w4 : Wk S Z hx N M M5 := wk_fL hN w0 rfl rfl g3 z_a0 (Or.inr (hS 314 rfl))
    refine pq_g (fun g6 => ?_)
    refine pq_n ?_
    refine pq_fi (fun _ => ?_) (fun _ => ?_)
    · refine pq_g (fun g7 => ?_)
      have z8 := wk_z (i := 0) (f := 301) w4 rfl z_a0
      refine pq_g (fun g9 => ?_)
      refine pq_b (wX96_pass S Z (sb rfl hS) _ _ _ w4.1 z8) (fun r10 K11 => ?_)
      have w12 := wk_t w4 K11 hN
      exact q_tV hN w12 (wX92_round_101 S Z hS n _ hk2 _ hk45 _ _ w12.1 z_a0)
    · exact q_tV hN w4 (wX92_round_101 S Z hS n _ hk2 _ hk45 _ _ w4.1 z_a0)
  · refine pq_g (fun g13 => ?_)
    have z14 := wk_z (i := 0) (f := 305) w0 rfl z_a0
    have f15 := sS_305 w0.1.1 g13
    refine pq_g (fun g16 => ?_)
    refine pq_g (fun g18 => ?_)
    refine pq_b (wX100_count S Z (sb rfl hS) _ _ _ _ w0.1 (hA _)) (fun r19 K20 => ?_)
    have w21 := wk_t w0 K20 hN
    exact q_tV hN w21 (hk45 _ _ _ w21.1 z_a0 hA)
theorem wX92_round_34 (S Z : Nat → Prop) {hx N : Nat} (hS : ∀ x, fe_mem lX92_round x = true → S x) (n : Nat) (k2 : Nat → Int32 → FM → Option (FM)) (hk2 : ∀ (a0 : Nat) (a1 : Int32) (M : FM), WI Z hx N M → Z a0 → (∀ a, Z a) → pq (k2 a0 a1 M) (QV S Z hx N M)) (k45 : Nat → Int32 → FM → Option (FM)) (hk45 : ∀ (a0 : Nat) (a1 : Int32) (M : FM), WI Z hx N M → Z a0 → (∀ a, Z a) → pq (k45 a0 a1 M) (QV S Z hx N M)) (a0 : Nat) (M : FM) (w : WI Z hx N M) (z_a0 : Z a0) (hA : (∀ a, Z a)) : pq (FX92_round_34 n k2 k45 a0 M) (QV S Z hx N M) := by
  have hN := w.2.2.1
  have w0 := wk_r (S := S) w
  delta FX92_round_34 BX92_round_34
  refine pq_g (fun g1 => ?_)
  refine pq_fi (fun _ => ?_) (fun _ => ?_)
  · exact q_tV hN w0 (hk45 _ _ _ w0.1 z_a0 hA)
  · exact pq_s w0
theorem wX92_round_2 (S Z : Nat → Prop) {hx N : Nat} (hS : ∀ x, fe_mem lX92_round x = true → S x) (n : Nat) (k2 : Nat → Int32 → FM → Option (FM)) (hk2 : ∀ (a0 : Nat) (a1 : Int32) (M : FM), WI Z hx N M → Z a0 → (∀ a, Z a) → pq (k2 a0 a1 M) (QV S Z hx N M)) (k45 : Nat → Int32 → FM → Option (FM)) (hk45 : ∀ (a0 : Nat) (a1 : Int32) (M : FM), WI Z hx N M → Z a0 → (∀ a, Z a) → pq (k45 a0 a1 M) (QV S Z hx N M)) (a0 : Nat) (a1 : Int32) (M : FM) (w : WI Z hx N M) (z_a0 : Z a0) (hA : (∀ a, Z a)) : pq (FX92_round_2 n k2 k45 a0 a1 M) (QV S Z hx N M) := by
  have hN := w.2.2.1
  have w0 := wk_r (S := S) w
  delta FX92_round_2 BX92_round_2
  refine pq_g (fun g1 => ?_)
  refine pq_fi (fun _ => ?_) (fun _ => ?_)
  · exact q_tV hN w0 (wX92_round_34 S Z hS n _ hk2 _ hk45 _ _ w0.1 z_a0 hA)
  · refine pq_g (fun g2 => ?_)
    refine pq_fi (fun _ => ?_) (fun _ => ?_)
    · refine pq_g (fun g3 => ?_)
      refine pq_b (q_AV (hx := hx) hA (wX92_step S Z (sb rfl hS) n _ _ _ (wi_A hA w0.1) z_a0 rfl)) (fun r4 K5 => ?_)
      have w6 := wk_t w0 K5 hN
      refine pq_g (fun g7 => ?_)
      refine pq_b (q_AV (hx := hx) hA (wX92_check S Z (sb rfl hS) _ _ _ (wi_A hA w6.1) z_a0 rfl)) (fun r8 K9 => ?_)
      have w10 := wk_t w6 K9 hN
      exact q_tV hN w10 (hk2 _ _ _ w10.1 z_a0 hA)
    · exact q_tV hN w0 (wX92_round_34 S Z hS n _ hk2 _ hk45 _ _ w0.1 z_a0 hA)
theorem wX92_round_0 (S Z : Nat → Prop) {hx N : Nat} (hS : ∀ x, fe_mem lX92_round x = true → S x) (n : Nat) (k2 : Nat → Int32 → FM → Option (FM)) (hk2 : ∀ (a0 : Nat) (a1 : Int32) (M : FM), WI Z hx N M → Z a0 → (∀ a, Z a) → pq (k2 a0 a1 M) (QV S Z hx N M)) (k45 : Nat → Int32 → FM → Option (FM)) (hk45 : ∀ (a0 : Nat) (a1 : Int32) (M : FM), WI Z hx N M → Z a0 → (∀ a, Z a) → pq (k45 a0 a1 M) (QV S Z hx N M)) (a0 : Nat) (M : FM) (w : WI Z hx N M) (z_a0 : Z a0) (hA : (∀ a, Z a)) : pq (FX92_round_0 n k2 k45 a0 M) (QV S Z hx N M) := by
  have hN := w.2.2.1
  have w0 := wk_r (S := S) w
  delta FX92_round_0 BX92_round_0
  exact q_tV hN w0 (hk2 _ _ _ w0.1 z_a0 hA)
theorem wX92_round_L (S Z : Nat → Prop) {hx N : Nat} (hS : ∀ x, fe_mem lX92_round x = true → S x) (n : Nat) : ∀ j : Nat, (∀ (a0 : Nat) (a1 : Int32) (M : FM), WI Z hx N M → Z a0 → (∀ a, Z a) → pq ((FX92_round_L n j).1 a0 a1 M) (QV S Z hx N M)) ∧ (∀ (a0 : Nat) (a1 : Int32) (M : FM), WI Z hx N M → Z a0 → (∀ a, Z a) → pq ((FX92_round_L n j).2 a0 a1 M) (QV S Z hx N M))
  | 0 => ⟨by intros; exact pq_0, by intros; exact pq_0⟩
  | j + 1 => ⟨fun a0 a1 M w => wX92_round_2 S Z hS n _ (wX92_round_L S Z hS n j).1 _ (wX92_round_L S Z hS n j).2 a0 a1 M w, fun a0 a1 M w => wX92_round_45 S Z hS n _ (wX92_round_L S Z hS n j).1 _ (wX92_round_L S Z hS n j).2 a0 a1 M w⟩
theorem wX92_round (S Z : Nat → Prop) {hx N : Nat} (hS : ∀ x, fe_mem lX92_round x = true → S x) (n : Nat) (a0 : Nat) (M : FM) (w : WI Z hx N M) (z_a0 : Z a0) (hA : (∀ a, Z a)) : pq (FX92_round n a0 M) (QV S Z hx N M) := wX92_round_0 S Z hS n _ (wX92_round_L S Z hS n n).1 _ (wX92_round_L S Z hS n n).2 a0 M w z_a0 hA
def lX92_run : List Nat := [296, 311, 312, 314, 315, 316, 317, 318, 319, 320, 321, 322, 324, 328, 329, 330, 331, 332, 333, 335, 336, 337, 338, 339, 343, 344, 345, 347, 348, 349, 350, 351, 352, 353, 354, 356, 357, 358, 360, 363, 364, 365, 366, 368, 369, 370, 371, 381, 382, 383, 384, 385, 386, 387, 393, 394, 398, 407, 408, 409, 411, 413, 414, 422, 424, 425, 426, 429, 430, 1307, 1323, 1327, 1334, 1340, 1341, 1342, 1346, 1355, 1361, 1362, 1367, 1375, 1376, 1377, 1378, 1379, 1380, 1388, 1389, 1390, 1391, 1392, 1396, 1397, 1399, 1400, 1401, 1402, 1403, 1404, 1405, 1406, 1410, 1412, 1427, 1428]
theorem wX92_run_52 (S Z : Nat → Prop) {hx N : Nat} (hS : ∀ x, fe_mem lX92_run x = true → S x) (n : Nat) (k22 : Nat → Int32 → Int32 → FM → Option (Int32 × FM)) (hk22 : ∀ (a0 : Nat) (a1 : Int32) (a2 : Int32) (M : FM), WI Z hx N M → Z a0 → (∀ a, Z a) → pq (k22 a0 a1 a2 M) (QA S Z hx N M)) (a2 : Int32) (M : FM) (w : WI Z hx N M) : pq (FX92_run_52 n k22 a2 M) (QA S Z hx N M) := by
  have hN := w.2.2.1
  have w0 := wk_r (S := S) w
  delta FX92_run_52 BX92_run_52
  exact pq_s w0
theorem wX92_run_22 (S Z : Nat → Prop) {hx N : Nat} (hS : ∀ x, fe_mem lX92_run x = true → S x) (n : Nat) (k22 : Nat → Int32 → Int32 → FM → Option (Int32 × FM)) (hk22 : ∀ (a0 : Nat) (a1 : Int32) (a2 : Int32) (M : FM), WI Z hx N M → Z a0 → (∀ a, Z a) → pq (k22 a0 a1 a2 M) (QA S Z hx N M)) (a0 : Nat) (a1 : Int32) (a2 : Int32) (M : FM) (w : WI Z hx N M) (z_a0 : Z a0) (hA : (∀ a, Z a)) : pq (FX92_run_22 n k22 a0 a1 a2 M) (QA S Z hx N M) := by
  have hN := w.2.2.1
  have w0 := wk_r (S := S) w
  delta FX92_run_22 BX92_run_22
  refine pq_g (fun g1 => ?_)
  refine pq_fi (fun _ => ?_) (fun _ => ?_)
  · refine pq_fi (fun _ => ?_) (fun _ => ?_)
    · exact q_tA hN w0 (wX92_run_52 S Z hS n _ hk22 _ _ w0.1 )
    · refine pq_g (fun g2 => ?_)
      refine pq_fi (fun _ => ?_) (fun _ => ?_)
      · refine pq_g (fun g3 => ?_)
        refine pq_b (wX92_round S Z (sb rfl hS) n _ _ w0.1 z_a0 hA) (fun r4 K5 => ?_)
        have w6 := wk_t w0 K5 hN
        exact q_tA hN w6 (hk22 _ _ _ _ w6.1 z_a0 hA)
      · exact q_tA hN w0 (wX92_run_52 S Z hS n _ hk22 _ _ w0.1 )
  · exact q_tA hN w0 (wX92_run_52 S Z hS n _ hk22 _ _ w0.1 )
theorem wX92_run_17 (S Z : Nat → Prop) {hx N : Nat} (hS : ∀ x, fe_mem lX92_run x = true → S x) (n : Nat) (k22 : Nat → Int32 → Int32 → FM → Option (Int32 × FM)) (hk22 : ∀ (a0 : Nat) (a1 : Int32) (a2 : Int32) (M : FM), WI Z hx N M → Z a0 → (∀ a, Z a) → pq (k22 a0 a1 a2 M) (QA S Z hx N M)) (a0 : Nat) (a1 : Int32) (s0 : Nat) (s1 : Int32) (M : FM) (w : WI Z hx N M) (z_a0 : Z a0) (z_s0 : Z s0) (hA : (∀ a, Z a)) : pq (FX92_run_17 n k22 a0 a1 s0 s1 M) (QA S Z hx N M) := by
  have hN := w.2.2.1
  have w0 := wk_r (S := S) w
  delta FX92_run_17 BX92_run_17
  refine pq_g (fun g1 => ?_)
  extract_lets +onlyGivenNames M3
  have w2 : Wk S Z hx N M M3 := wk_fI hN w0 rfl rfl g1 z_s0 (Or.inr (hS 296 rfl))
  exact q_tA hN w2 (hk22 _ _ _ _ w2.1 z_a0 hA)
theorem wX92_run_12 (S Z : Nat → Prop) {hx N : Nat} (hS : ∀ x, fe_mem lX92_run x = true → S x) (n : Nat) (k22 : Nat → Int32 → Int32 → FM → Option (Int32 × FM)) (hk22 : ∀ (a0 : Nat) (a1 : Int32) (a2 : Int32) (M : FM), WI Z hx N M → Z a0 → (∀ a, Z a) → pq (k22 a0 a1 a2 M) (QA S Z hx N M)) (a0 : Nat) (a1 : Int32) (s0 : Nat) (M : FM) (w : WI Z hx N M) (z_a0 : Z a0) (z_s0 : Z s0) (hA : (∀ a, Z a)) : pq (FX92_run_12 n k22 a0 a1 s0 M) (QA S Z hx N M) := by
  have hN := w.2.2.1
  have w0 := wk_r (S := S) w
  delta FX92_run_12 BX92_run_12
  exact q_tA hN w0 (wX92_run_17 S Z hS n _ hk22 _ _ _ _ _ w0.1 z_a0 z_s0 hA)
theorem wX92_run_0 (S Z : Nat → Prop) {hx N : Nat} (hS : ∀ x, fe_mem lX92_run x = true → S x) (n : Nat) (k22 : Nat → Int32 → Int32 → FM → Option (Int32 × FM)) (hk22 : ∀ (a0 : Nat) (a1 : Int32) (a2 : Int32) (M : FM), WI Z hx N M → Z a0 → (∀ a, Z a) → pq (k22 a0 a1 a2 M) (QA S Z hx N M)) (a0 : Nat) (a1 : Int32) (M : FM) (w : WI Z hx N M) (z_a0 : Z a0) (hA : (∀ a, Z a)) : pq (FX92_run_0 n k22 a0 a1 M) (QA S Z hx N M) := by
  have hN := w.2.2.1
  have w0 := wk_r (S := S) w
  delta FX92_run_0 BX92_run_0
  refine pq_fi (fun _ => ?_) (fun _ => ?_)
  · exact q_tA hN w0 (wX92_run_12 S Z hS n _ hk22 _ _ _ _ w0.1 z_a0 z_a0 hA)
  · refine pq_fi (fun _ => ?_) (fun _ => ?_)
    · exact q_tA hN w0 (wX92_run_17 S Z hS n _ hk22 _ _ _ _ _ w0.1 z_a0 z_a0 hA)
    · exact q_tA hN w0 (wX92_run_12 S Z hS n _ hk22 _ _ _ _ w0.1 z_a0 z_a0 hA)
theorem wX92_run_L (S Z : Nat → Prop) {hx N : Nat} (hS : ∀ x, fe_mem lX92_run x = true → S x) (n : Nat) : ∀ j : Nat, ∀ (a0 : Nat) (a1 : Int32) (a2 : Int32) (M : FM), WI Z hx N M → Z a0 → (∀ a, Z a) → pq (FX92_run_L22 n j a0 a1 a2 M) (QA S Z hx N M)
  | 0 => by intros; exact pq_0
  | j + 1 => fun a0 a1 a2 M w => wX92_run_22 S Z hS n _ (wX92_run_L S Z hS n j) a0 a1 a2 M w
theorem wX92_run (S Z : Nat → Prop) {hx N : Nat} (hS : ∀ x, fe_mem lX92_run x = true → S x) (n : Nat) (a0 : Nat) (a1 : Int32) (M : FM) (w : WI Z hx N M) (z_a0 : Z a0) (hA : (∀ a, Z a)) : pq (FX92_run n a0 a1 M) (QA S Z hx N M) := wX92_run_0 S Z hS n _ (wX92_run_L S Z hS n n) a0 a1 M w z_a0 hA
def lX92_code : List Nat := [296]
theorem wX92_code_0 (S Z : Nat → Prop) {hx N : Nat} (hS : ∀ x, fe_mem lX92_code x = true → S x) (a0 : Nat) (M : FM) (w : WI Z hx N M) (z_a0 : Z a0) : pq (FX92_code_0 a0 M) (QA S Z hx N M) := by
  have hN := w.2.2.1
  have w0 := wk_r (S := S) w
  delta FX92_code_0 BX92_code_0
  refine pq_g (fun g1 => ?_)
  extract_lets +onlyGivenNames M3
  have w2 : Wk S Z hx N M M3 := wk_fI hN w0 rfl rfl g1 z_a0 (Or.inr (hS 296 rfl))
  refine pq_g (fun g4 => ?_)
  exact pq_s w2
theorem wX92_code (S Z : Nat → Prop) {hx N : Nat} (hS : ∀ x, fe_mem lX92_code x = true → S x) (a0 : Nat) (M : FM) (w : WI Z hx N M) (z_a0 : Z a0) : pq (FX92_code a0 M) (QA S Z hx N M) := wX92_code_0 S Z hS a0 M w z_a0
def lX92_processors : List Nat := [296]
theorem wX92_processors_0 (S Z : Nat → Prop) {hx N : Nat} (hS : ∀ x, fe_mem lX92_processors x = true → S x) (a0 : Nat) (M : FM) (w : WI Z hx N M) (z_a0 : Z a0) : pq (FX92_processors_0 a0 M) (QA S Z hx N M) := by
  have hN := w.2.2.1
  have w0 := wk_r (S := S) w
  delta FX92_processors_0 BX92_processors_0
  refine pq_g (fun g1 => ?_)
  extract_lets +onlyGivenNames M3
  have w2 : Wk S Z hx N M M3 := wk_fI hN w0 rfl rfl g1 z_a0 (Or.inr (hS 296 rfl))
  refine pq_g (fun g4 => ?_)
  exact pq_s w2
theorem wX92_processors (S Z : Nat → Prop) {hx N : Nat} (hS : ∀ x, fe_mem lX92_processors x = true → S x) (a0 : Nat) (M : FM) (w : WI Z hx N M) (z_a0 : Z a0) : pq (FX92_processors a0 M) (QA S Z hx N M) := wX92_processors_0 S Z hS a0 M w z_a0
def lX92_isNone : List Nat := [296]
theorem wX92_isNone_33 (S Z : Nat → Prop) {hx N : Nat} (hS : ∀ x, fe_mem lX92_isNone x = true → S x) (s0 : Int32) (M : FM) (w : WI Z hx N M) : pq (FX92_isNone_33 s0 M) (QA S Z hx N M) := by
  have hN := w.2.2.1
  have w0 := wk_r (S := S) w
  delta FX92_isNone_33 BX92_isNone_33
  refine pq_g (fun _ => ?_)
  exact pq_s w0
theorem wX92_isNone_18 (S Z : Nat → Prop) {hx N : Nat} (hS : ∀ x, fe_mem lX92_isNone x = true → S x) (a0 : Nat) (s0 : Nat) (s1 : Int32) (M : FM) (w : WI Z hx N M) (z_a0 : Z a0) (z_s0 : Z s0) : pq (FX92_isNone_18 a0 s0 s1 M) (QA S Z hx N M) := by
  have hN := w.2.2.1
  have w0 := wk_r (S := S) w
  delta FX92_isNone_18 BX92_isNone_18
  refine pq_g (fun g1 => ?_)
  extract_lets +onlyGivenNames M3
  have w2 : Wk S Z hx N M M3 := wk_fI hN w0 rfl rfl g1 z_s0 (Or.inr (hS 296 rfl))
  refine pq_g (fun g4 => ?_)
  refine pq_fi (fun _ => ?_) (fun _ => ?_)
  · exact q_tA hN w2 (wX92_isNone_33 S Z hS _ _ w2.1 )
  · exact q_tA hN w2 (wX92_isNone_33 S Z hS _ _ w2.1 )
theorem wX92_isNone_13 (S Z : Nat → Prop) {hx N : Nat} (hS : ∀ x, fe_mem lX92_isNone x = true → S x) (a0 : Nat) (s0 : Nat) (M : FM) (w : WI Z hx N M) (z_a0 : Z a0) (z_s0 : Z s0) : pq (FX92_isNone_13 a0 s0 M) (QA S Z hx N M) := by
  have hN := w.2.2.1
  have w0 := wk_r (S := S) w
  delta FX92_isNone_13 BX92_isNone_13
  exact q_tA hN w0 (wX92_isNone_18 S Z hS _ _ _ _ w0.1 z_a0 z_s0)
theorem wX92_isNone_0 (S Z : Nat → Prop) {hx N : Nat} (hS : ∀ x, fe_mem lX92_isNone x = true → S x) (a0 : Nat) (a1 : Int32) (M : FM) (w : WI Z hx N M) (z_a0 : Z a0) : pq (FX92_isNone_0 a0 a1 M) (QA S Z hx N M) := by
  have hN := w.2.2.1
  have w0 := wk_r (S := S) w
  delta FX92_isNone_0 BX92_isNone_0
  refine pq_fi (fun _ => ?_) (fun _ => ?_)
  · exact q_tA hN w0 (wX92_isNone_13 S Z hS _ _ _ w0.1 z_a0 z_a0)
  · refine pq_g (fun g1 => ?_)
    refine pq_fi (fun _ => ?_) (fun _ => ?_)
    · exact q_tA hN w0 (wX92_isNone_18 S Z hS _ _ _ _ w0.1 z_a0 z_a0)
    · exact q_tA hN w0 (wX92_isNone_13 S Z hS _ _ _ w0.1 z_a0 z_a0)
theorem wX92_isNone (S Z : Nat → Prop) {hx N : Nat} (hS : ∀ x, fe_mem lX92_isNone x = true → S x) (a0 : Nat) (a1 : Int32) (M : FM) (w : WI Z hx N M) (z_a0 : Z a0) : pq (FX92_isNone a0 a1 M) (QA S Z hx N M) := wX92_isNone_0 S Z hS a0 a1 M w z_a0
def lX92_counter : List Nat := [296, 345]
theorem wX92_counter_21 (S Z : Nat → Prop) {hx N : Nat} (hS : ∀ x, fe_mem lX92_counter x = true → S x) (s0 : Int64) (M : FM) (w : WI Z hx N M) : pq (FX92_counter_21 s0 M) (QA S Z hx N M) := by
  have hN := w.2.2.1
  have w0 := wk_r (S := S) w
  delta FX92_counter_21 BX92_counter_21
  exact pq_s w0
theorem wX92_counter_0 (S Z : Nat → Prop) {hx N : Nat} (hS : ∀ x, fe_mem lX92_counter x = true → S x) (a0 : Nat) (a1 : Int32) (M : FM) (w : WI Z hx N M) (z_a0 : Z a0) (i_a1 : a1.toNatClampNeg = hx) : pq (FX92_counter_0 a0 a1 M) (QA S Z hx N M) := by
  have hN := w.2.2.1
  have w0 := wk_r (S := S) w
  delta FX92_counter_0 BX92_counter_0
  refine pq_g (fun g1 => ?_)
  refine pq_b (wX92_isNone S Z (sb rfl hS) _ _ _ w0.1 z_a0) (fun r2 K3 => ?_)
  have w4 := wk_t w0 K3 hN
  refine pq_fi (fun _ => ?_) (fun _ => ?_)
  · refine pq_g (fun g5 => ?_)
    have z6 := wk_z (i := 0) (f := 303) w4 rfl z_a0
    have f7 := sS_303 w4.1.1 g5
    refine pq_g (fun g8 => ?_)
    have z9 := wk_zx w4 z6 i_a1
    refine pq_g (fun g10 => ?_)
    refine pq_b (wX98_counter S Z (sb rfl hS) _ _ w4.1 z9) (fun r11 K12 => ?_)
    have w13 := wk_t w4 K12 hN
    exact q_tA hN w13 (wX92_counter_21 S Z hS _ _ w13.1 )
  · exact q_tA hN w4 (wX92_counter_21 S Z hS _ _ w4.1 )
theorem wX92_counter (S Z : Nat → Prop) {hx N : Nat} (hS : ∀ x, fe_mem lX92_counter x = true → S x) (a0 : Nat) (a1 : Int32) (M : FM) (w : WI Z hx N M) (z_a0 : Z a0) (i_a1 : a1.toNatClampNeg = hx) : pq (FX92_counter a0 a1 M) (QA S Z hx N M) := wX92_counter_0 S Z hS a0 a1 M w z_a0 i_a1
def lX92_register : List Nat := [296, 345]
theorem wX92_register_52 (S Z : Nat → Prop) {hx N : Nat} (hS : ∀ x, fe_mem lX92_register x = true → S x) (s0 : Int64) (M : FM) (w : WI Z hx N M) : pq (FX92_register_52 s0 M) (QA S Z hx N M) := by
  have hN := w.2.2.1
  have w0 := wk_r (S := S) w
  delta FX92_register_52 BX92_register_52
  exact pq_s w0
theorem wX92_register_28 (S Z : Nat → Prop) {hx N : Nat} (hS : ∀ x, fe_mem lX92_register x = true → S x) (a0 : Nat) (a1 : Int32) (a2 : Int32) (s0 : Nat) (s1 : Int32) (M : FM) (w : WI Z hx N M) (z_a0 : Z a0) (z_s0 : Z s0) (i_a1 : a1.toNatClampNeg = hx) : pq (FX92_register_28 a0 a1 a2 s0 s1 M) (QA S Z hx N M) := by
  have hN := w.2.2.1
  have w0 := wk_r (S := S) w
  delta FX92_register_28 BX92_register_28
  refine pq_g (fun g1 => ?_)
  extract_lets +onlyGivenNames M3
  have w2 : Wk S Z hx N M M3 := wk_fI hN w0 rfl rfl g1 z_s0 (Or.inr (hS 296 rfl))
  refine pq_g (fun g4 => ?_)
  refine pq_fi (fun _ => ?_) (fun _ => ?_)
  · refine pq_g (fun g5 => ?_)
    have z6 := wk_z (i := 0) (f := 303) w2 rfl z_a0
    have f7 := sS_303 w2.1.1 g5
    refine pq_g (fun g8 => ?_)
    have z9 := wk_zx w2 z6 i_a1
    refine pq_g (fun g10 => ?_)
    refine pq_b (wX98_get S Z (sb rfl hS) _ _ _ w2.1 z9) (fun r11 K12 => ?_)
    have w13 := wk_t w2 K12 hN
    exact q_tA hN w13 (wX92_register_52 S Z hS _ _ w13.1 )
  · exact q_tA hN w2 (wX92_register_52 S Z hS _ _ w2.1 )
theorem wX92_register_23 (S Z : Nat → Prop) {hx N : Nat} (hS : ∀ x, fe_mem lX92_register x = true → S x) (a0 : Nat) (a1 : Int32) (a2 : Int32) (s0 : Nat) (M : FM) (w : WI Z hx N M) (z_a0 : Z a0) (z_s0 : Z s0) (i_a1 : a1.toNatClampNeg = hx) : pq (FX92_register_23 a0 a1 a2 s0 M) (QA S Z hx N M) := by
  have hN := w.2.2.1
  have w0 := wk_r (S := S) w
  delta FX92_register_23 BX92_register_23
  exact q_tA hN w0 (wX92_register_28 S Z hS _ _ _ _ _ _ w0.1 z_a0 z_s0 i_a1)
theorem wX92_register_0 (S Z : Nat → Prop) {hx N : Nat} (hS : ∀ x, fe_mem lX92_register x = true → S x) (a0 : Nat) (a1 : Int32) (a2 : Int32) (M : FM) (w : WI Z hx N M) (z_a0 : Z a0) (i_a1 : a1.toNatClampNeg = hx) : pq (FX92_register_0 a0 a1 a2 M) (QA S Z hx N M) := by
  have hN := w.2.2.1
  have w0 := wk_r (S := S) w
  delta FX92_register_0 BX92_register_0
  refine pq_fi (fun _ => ?_) (fun _ => ?_)
  · exact q_tA hN w0 (wX92_register_23 S Z hS _ _ _ _ _ w0.1 z_a0 z_a0 i_a1)
  · refine pq_g (fun g1 => ?_)
    refine pq_fi (fun _ => ?_) (fun _ => ?_)
    · exact q_tA hN w0 (wX92_register_23 S Z hS _ _ _ _ _ w0.1 z_a0 z_a0 i_a1)
    · refine pq_fi (fun _ => ?_) (fun _ => ?_)
      · exact q_tA hN w0 (wX92_register_23 S Z hS _ _ _ _ _ w0.1 z_a0 z_a0 i_a1)
      · refine pq_fi (fun _ => ?_) (fun _ => ?_)
        · exact q_tA hN w0 (wX92_register_28 S Z hS _ _ _ _ _ _ w0.1 z_a0 z_a0 i_a1)
        · exact q_tA hN w0 (wX92_register_23 S Z hS _ _ _ _ _ w0.1 z_a0 z_a0 i_a1)
theorem wX92_register (S Z : Nat → Prop) {hx N : Nat} (hS : ∀ x, fe_mem lX92_register x = true → S x) (a0 : Nat) (a1 : Int32) (a2 : Int32) (M : FM) (w : WI Z hx N M) (z_a0 : Z a0) (i_a1 : a1.toNatClampNeg = hx) : pq (FX92_register a0 a1 a2 M) (QA S Z hx N M) := wX92_register_0 S Z hS a0 a1 a2 M w z_a0 i_a1
def lX92_floating_2 : List Nat := [296, 366]
theorem wX92_floating_2_52 (S Z : Nat → Prop) {hx N : Nat} (hS : ∀ x, fe_mem lX92_floating_2 x = true → S x) (s0 : Int64) (M : FM) (w : WI Z hx N M) : pq (FX92_floating_2_52 s0 M) (QA S Z hx N M) := by
  have hN := w.2.2.1
  have w0 := wk_r (S := S) w
  delta FX92_floating_2_52 BX92_floating_2_52
  exact pq_s w0
theorem wX92_floating_2_28 (S Z : Nat → Prop) {hx N : Nat} (hS : ∀ x, fe_mem lX92_floating_2 x = true → S x) (a0 : Nat) (a1 : Int32) (a2 : Int32) (s0 : Nat) (s1 : Int32) (M : FM) (w : WI Z hx N M) (z_a0 : Z a0) (z_s0 : Z s0) (i_a1 : a1.toNatClampNeg = hx) : pq (FX92_floating_2_28 a0 a1 a2 s0 s1 M) (QA S Z hx N M) := by
  have hN := w.2.2.1
  have w0 := wk_r (S := S) w
  delta FX92_floating_2_28 BX92_floating_2_28
  refine pq_g (fun g1 => ?_)
  extract_lets +onlyGivenNames M3
  have w2 : Wk S Z hx N M M3 := wk_fI hN w0 rfl rfl g1 z_s0 (Or.inr (hS 296 rfl))
  refine pq_g (fun g4 => ?_)
  refine pq_fi (fun _ => ?_) (fun _ => ?_)
  · refine pq_g (fun g5 => ?_)
    have z6 := wk_z (i := 0) (f := 304) w2 rfl z_a0
    have f7 := sS_304 w2.1.1 g5
    refine pq_g (fun g8 => ?_)
    have z9 := wk_zx w2 z6 i_a1
    refine pq_g (fun g10 => ?_)
    refine pq_b (wX99_get S Z (sb rfl hS) _ _ _ w2.1 z9) (fun r11 K12 => ?_)
    have w13 := wk_t w2 K12 hN
    exact q_tA hN w13 (wX92_floating_2_52 S Z hS _ _ w13.1 )
  · exact q_tA hN w2 (wX92_floating_2_52 S Z hS _ _ w2.1 )
theorem wX92_floating_2_23 (S Z : Nat → Prop) {hx N : Nat} (hS : ∀ x, fe_mem lX92_floating_2 x = true → S x) (a0 : Nat) (a1 : Int32) (a2 : Int32) (s0 : Nat) (M : FM) (w : WI Z hx N M) (z_a0 : Z a0) (z_s0 : Z s0) (i_a1 : a1.toNatClampNeg = hx) : pq (FX92_floating_2_23 a0 a1 a2 s0 M) (QA S Z hx N M) := by
  have hN := w.2.2.1
  have w0 := wk_r (S := S) w
  delta FX92_floating_2_23 BX92_floating_2_23
  exact q_tA hN w0 (wX92_floating_2_28 S Z hS _ _ _ _ _ _ w0.1 z_a0 z_s0 i_a1)
theorem wX92_floating_2_0 (S Z : Nat → Prop) {hx N : Nat} (hS : ∀ x, fe_mem lX92_floating_2 x = true → S x) (a0 : Nat) (a1 : Int32) (a2 : Int32) (M : FM) (w : WI Z hx N M) (z_a0 : Z a0) (i_a1 : a1.toNatClampNeg = hx) : pq (FX92_floating_2_0 a0 a1 a2 M) (QA S Z hx N M) := by
  have hN := w.2.2.1
  have w0 := wk_r (S := S) w
  delta FX92_floating_2_0 BX92_floating_2_0
  refine pq_fi (fun _ => ?_) (fun _ => ?_)
  · exact q_tA hN w0 (wX92_floating_2_23 S Z hS _ _ _ _ _ w0.1 z_a0 z_a0 i_a1)
  · refine pq_g (fun g1 => ?_)
    refine pq_fi (fun _ => ?_) (fun _ => ?_)
    · exact q_tA hN w0 (wX92_floating_2_23 S Z hS _ _ _ _ _ w0.1 z_a0 z_a0 i_a1)
    · refine pq_fi (fun _ => ?_) (fun _ => ?_)
      · exact q_tA hN w0 (wX92_floating_2_23 S Z hS _ _ _ _ _ w0.1 z_a0 z_a0 i_a1)
      · refine pq_fi (fun _ => ?_) (fun _ => ?_)
        · exact q_tA hN w0 (wX92_floating_2_28 S Z hS _ _ _ _ _ _ w0.1 z_a0 z_a0 i_a1)
        · exact q_tA hN w0 (wX92_floating_2_23 S Z hS _ _ _ _ _ w0.1 z_a0 z_a0 i_a1)
theorem wX92_floating_2 (S Z : Nat → Prop) {hx N : Nat} (hS : ∀ x, fe_mem lX92_floating_2 x = true → S x) (a0 : Nat) (a1 : Int32) (a2 : Int32) (M : FM) (w : WI Z hx N M) (z_a0 : Z a0) (i_a1 : a1.toNatClampNeg = hx) : pq (FX92_floating_2 a0 a1 a2 M) (QA S Z hx N M) := wX92_floating_2_0 S Z hS a0 a1 a2 M w z_a0 i_a1
def lX92_control : List Nat := [296, 358, 363, 366, 394, 422, 424, 425, 426, 1362]
theorem wX92_control_41 (S Z : Nat → Prop) {hx N : Nat} (hS : ∀ x, fe_mem lX92_control x = true → S x) (n : Nat) (s0 : Int64) (M : FM) (w : WI Z hx N M) : pq (FX92_control_41 n s0 M) (QA S Z hx N M) := by
  have hN := w.2.2.1
  have w0 := wk_r (S := S) w
  delta FX92_control_41 BX92_control_41
  exact pq_s w0
theorem wX92_control_0 (S Z : Nat → Prop) {hx N : Nat} (hS : ∀ x, fe_mem lX92_control x = true → S x) (n : Nat) (a0 : Nat) (a1 : Int32) (a2 : Int32) (M : FM) (w : WI Z hx N M) (z_a0 : Z a0) (i_a1 : a1.toNatClampNeg = hx) : pq (FX92_control_0 n a0 a1 a2 M) (QA S Z hx N M) := by
  have hN := w.2.2.1
  have w0 := wk_r (S := S) w
  delta FX92_control_0 BX92_control_0
  refine pq_g (fun g1 => ?_)
  refine pq_b (wX92_isNone S Z (sb rfl hS) _ _ _ w0.1 z_a0) (fun r2 K3 => ?_)
  have w4 := wk_t w0 K3 hN
  refine pq_fi (fun _ => ?_) (fun _ => ?_)
  · refine pq_g (fun g5 => ?_)
    refine pq_b (wX92_tell S Z (sb rfl hS) n _ _ _ w4.1 z_a0 i_a1) (fun r6 K7 => ?_)
    have w8 := wk_t w4 K7 hN
    refine pq_b (wX100_isElsewhere S Z (sb rfl hS) _ _ w8.1 ) (fun r9 K10 => ?_)
    have w11 := wk_t w8 K10 hN
    refine pq_fi (fun _ => ?_) (fun _ => ?_)
    · refine pq_g (fun g12 => ?_)
      have z13 := wk_z (i := 0) (f := 305) w11 rfl z_a0
      have f14 := sS_305 w11.1.1 g12
      refine pq_g (fun g15 => ?_)
      have z16 := wk_zx w11 z13 i_a1
      refine pq_g (fun g17 => ?_)
      refine pq_b (wX100_peek S Z (sb rfl hS) n _ _ _ w11.1 z16) (fun r18 K19 => ?_)
      have w20 := wk_t w11 K19 hN
      exact q_tA hN w20 (wX92_control_41 S Z hS n _ _ w20.1 )
    · refine pq_g (fun g21 => ?_)
      refine pq_b (wX92_elsewhere S Z (sb rfl hS) n _ _ _ _ w11.1 z_a0 i_a1) (fun r22 K23 => ?_)
      have w24 := wk_t w11 K23 hN
      exact q_tA hN w24 (wX92_control_41 S Z hS n _ _ w24.1 )
  · exact pq_s w4
theorem wX92_control (S Z : Nat → Prop) {hx N : Nat} (hS : ∀ x, fe_mem lX92_control x = true → S x) (n : Nat) (a0 : Nat) (a1 : Int32) (a2 : Int32) (M : FM) (w : WI Z hx N M) (z_a0 : Z a0) (i_a1 : a1.toNatClampNeg = hx) : pq (FX92_control n a0 a1 a2 M) (QA S Z hx N M) := wX92_control_0 S Z hS n a0 a1 a2 M w z_a0 i_a1
def lX92_mode : List Nat := [296, 358]
theorem wX92_mode_36 (S Z : Nat → Prop) {hx N : Nat} (hS : ∀ x, fe_mem lX92_mode x = true → S x) (s0 : Int32) (M : FM) (w : WI Z hx N M) : pq (FX92_mode_36 s0 M) (QA S Z hx N M) := by
  have hN := w.2.2.1
  have w0 := wk_r (S := S) w
  delta FX92_mode_36 BX92_mode_36
  exact pq_s w0
theorem wX92_mode_35 (S Z : Nat → Prop) {hx N : Nat} (hS : ∀ x, fe_mem lX92_mode x = true → S x) (s0 : Int32) (s1 : Int32) (M : FM) (w : WI Z hx N M) : pq (FX92_mode_35 s0 s1 M) (QA S Z hx N M) := by
  have hN := w.2.2.1
  have w0 := wk_r (S := S) w
  delta FX92_mode_35 BX92_mode_35
  exact q_tA hN w0 (wX92_mode_36 S Z hS _ _ w0.1 )
theorem wX92_mode_0 (S Z : Nat → Prop) {hx N : Nat} (hS : ∀ x, fe_mem lX92_mode x = true → S x) (a0 : Nat) (a1 : Int32) (M : FM) (w : WI Z hx N M) (z_a0 : Z a0) (i_a1 : a1.toNatClampNeg = hx) : pq (FX92_mode_0 a0 a1 M) (QA S Z hx N M) := by
  have hN := w.2.2.1
  have w0 := wk_r (S := S) w
  delta FX92_mode_0 BX92_mode_0
  refine pq_g (fun g1 => ?_)
  refine pq_b (wX92_isNone S Z (sb rfl hS) _ _ _ w0.1 z_a0) (fun r2 K3 => ?_)
  have w4 := wk_t w0 K3 hN
  refine pq_fi (fun _ => ?_) (fun _ => ?_)
  · refine pq_g (fun g5 => ?_)
    have z6 := wk_z (i := 0) (f := 305) w4 rfl z_a0
    have f7 := sS_305 w4.1.1 g5
    refine pq_g (fun g8 => ?_)
    have z9 := wk_zx w4 z6 i_a1
    refine pq_g (fun g10 => ?_)
    refine pq_b (wX100_mode S Z (sb rfl hS) _ _ w4.1 z9) (fun r11 K12 => ?_)
    have w13 := wk_t w4 K12 hN
    refine pq_g (fun g14 => ?_)
    have z15 := wk_z (i := 0) (f := 307) w13 rfl z_a0
    have f16 := sS_307 w13.1.1 g14
    refine pq_g (fun g17 => ?_)
    refine pq_fi (fun _ => ?_) (fun _ => ?_)
    · exact q_tA hN w13 (wX92_mode_35 S Z hS _ _ _ w13.1 )
    · exact q_tA hN w13 (wX92_mode_35 S Z hS _ _ _ w13.1 )
  · exact q_tA hN w4 (wX92_mode_36 S Z hS _ _ w4.1 )
theorem wX92_mode (S Z : Nat → Prop) {hx N : Nat} (hS : ∀ x, fe_mem lX92_mode x = true → S x) (a0 : Nat) (a1 : Int32) (M : FM) (w : WI Z hx N M) (z_a0 : Z a0) (i_a1 : a1.toNatClampNeg = hx) : pq (FX92_mode a0 a1 M) (QA S Z hx N M) := wX92_mode_0 S Z hS a0 a1 M w z_a0 i_a1
def lX92_word : List Nat := [296]
theorem wX92_word_40 (S Z : Nat → Prop) {hx N : Nat} (hS : ∀ x, fe_mem lX92_word x = true → S x) (n : Nat) (s0 : Int64) (M : FM) (w : WI Z hx N M) : pq (FX92_word_40 n s0 M) (QA S Z hx N M) := by
  have hN := w.2.2.1
  have w0 := wk_r (S := S) w
  delta FX92_word_40 BX92_word_40
  exact pq_s w0
theorem wX92_word_16 (S Z : Nat → Prop) {hx N : Nat} (hS : ∀ x, fe_mem lX92_word x = true → S x) (n : Nat) (a0 : Nat) (a1 : Int64) (s0 : Nat) (s1 : Int32) (M : FM) (w : WI Z hx N M) (z_a0 : Z a0) (z_s0 : Z s0) : pq (FX92_word_16 n a0 a1 s0 s1 M) (QA S Z hx N M) := by
  have hN := w.2.2.1
  have w0 := wk_r (S := S) w
  delta FX92_word_16 BX92_word_16
  refine pq_g (fun g1 => ?_)
  extract_lets +onlyGivenNames M3
  have w2 : Wk S Z hx N M M3 := wk_fI hN w0 rfl rfl g1 z_s0 (Or.inr (hS 296 rfl))
  refine pq_g (fun g4 => ?_)
  refine pq_fi (fun _ => ?_) (fun _ => ?_)
  · refine pq_g (fun g5 => ?_)
    have z6 := wk_z (i := 0) (f := 298) w2 rfl z_a0
    refine pq_g (fun g7 => ?_)
    refine pq_b (wX93_number S Z (sb rfl hS) n _ _ _ _ w2.1 z6) (fun r8 K9 => ?_)
    have w10 := wk_t w2 K9 hN
    exact q_tA hN w10 (wX92_word_40 S Z hS n _ _ w10.1 )
  · exact q_tA hN w2 (wX92_word_40 S Z hS n _ _ w2.1 )
theorem wX92_word_0 (S Z : Nat → Prop) {hx N : Nat} (hS : ∀ x, fe_mem lX92_word x = true → S x) (n : Nat) (a0 : Nat) (a1 : Int64) (M : FM) (w : WI Z hx N M) (z_a0 : Z a0) : pq (FX92_word_0 n a0 a1 M) (QA S Z hx N M) := by
  have hN := w.2.2.1
  have w0 := wk_r (S := S) w
  delta FX92_word_0 BX92_word_0
  refine pq_b (wX93_areBytes S Z (sb rfl hS) _ _ _ w0.1 ) (fun r1 K2 => ?_)
  have w3 := wk_t w0 K2 hN
  refine pq_fi (fun _ => ?_) (fun _ => ?_)
  · exact q_tA hN w3 (wX92_word_16 S Z hS n _ _ _ _ _ w3.1 z_a0 z_a0)
  · exact q_tA hN w3 (wX92_word_16 S Z hS n _ _ _ _ _ w3.1 z_a0 z_a0)
theorem wX92_word (S Z : Nat → Prop) {hx N : Nat} (hS : ∀ x, fe_mem lX92_word x = true → S x) (n : Nat) (a0 : Nat) (a1 : Int64) (M : FM) (w : WI Z hx N M) (z_a0 : Z a0) : pq (FX92_word n a0 a1 M) (QA S Z hx N M) := wX92_word_0 S Z hS n a0 a1 M w z_a0
