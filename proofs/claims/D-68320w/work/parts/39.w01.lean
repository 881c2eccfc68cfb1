set_option maxRecDepth 100000
def lJ5_min_2 : List Nat := []
theorem wJ5_min_2_11 (S Z : Nat → Prop) {hx N : Nat} (hS : ∀ x, fe_mem lJ5_min_2 x = true → S x) (s0 : Int64) (M : FM) (w : WI Z hx N M) : pq (FJ5_min_2_11 s0 M) (QA S Z hx N M) := by
  have hN := w.2.2.1
  have w0 := wk_r (S := S) w
  delta FJ5_min_2_11 BJ5_min_2_11
  exact pq_s w0
theorem wJ5_min_2_0 (S Z : Nat → Prop) {hx N : Nat} (hS : ∀ x, fe_mem lJ5_min_2 x = true → S x) (a0 : Int64) (a2 : Int64) (M : FM) (w : WI Z hx N M) : pq (FJ5_min_2_0 a0 a2 M) (QA S Z hx N M) := by
  have hN := w.2.2.1
  have w0 := wk_r (S := S) w
  delta FJ5_min_2_0 BJ5_min_2_0
  refine pq_fi (fun _ => ?_) (fun _ => ?_)
  · exact q_tA hN w0 (wJ5_min_2_11 S Z hS _ _ w0.1 )
  · exact q_tA hN w0 (wJ5_min_2_11 S Z hS _ _ w0.1 )
theorem wJ5_min_2 (S Z : Nat → Prop) {hx N : Nat} (hS : ∀ x, fe_mem lJ5_min_2 x = true → S x) (a0 : Int64) (a2 : Int64) (M : FM) (w : WI Z hx N M) : pq (FJ5_min_2 a0 a2 M) (QA S Z hx N M) := wJ5_min_2_0 S Z hS a0 a2 M w 
def lX91_fill : List Nat := [1201]
theorem wX91_fill_3 (S Z : Nat → Prop) {hx N : Nat} (hS : ∀ x, fe_mem lX91_fill x = true → S x) (n : Nat) (k3 : Nat → Int32 → Int32 → Int32 → FM → Option (FM)) (hk3 : ∀ (a0 : Nat) (a2 : Int32) (a3 : Int32) (a4 : Int32) (M : FM), WI Z hx N M → Z a0 → pq (k3 a0 a2 a3 a4 M) (QV S Z hx N M)) (a0 : Nat) (a2 : Int32) (a3 : Int32) (a4 : Int32) (M : FM) (w : WI Z hx N M) (z_a0 : Z a0) : pq (FX91_fill_3 n k3 a0 a2 a3 a4 M) (QV S Z hx N M) := by
  have hN := w.2.2.1
  have w0 := wk_r (S := S) w
  delta FX91_fill_3 BX91_fill_3
  refine pq_fi (fun _ => ?_) (fun _ => ?_)
  · exact pq_s w0
  · refine pq_g (fun g1 => ?_)
    refine pq_b (wX91_put S Z (sb rfl hS) _ _ _ _ _ w0.1 z_a0) (fun r2 K3 => ?_)
    have w4 := wk_t w0 K3 hN
    exact q_tV hN w4 (hk3 _ _ _ _ _ w4.1 z_a0)
theorem wX91_fill_0 (S Z : Nat → Prop) {hx N : Nat} (hS : ∀ x, fe_mem lX91_fill x = true → S x) (n : Nat) (k3 : Nat → Int32 → Int32 → Int32 → FM → Option (FM)) (hk3 : ∀ (a0 : Nat) (a2 : Int32) (a3 : Int32) (a4 : Int32) (M : FM), WI Z hx N M → Z a0 → pq (k3 a0 a2 a3 a4 M) (QV S Z hx N M)) (a0 : Nat) (a1 : Int32) (a2 : Int32) (a3 : Int32) (M : FM) (w : WI Z hx N M) (z_a0 : Z a0) : pq (FX91_fill_0 n k3 a0 a1 a2 a3 M) (QV S Z hx N M) := by
  have hN := w.2.2.1
  have w0 := wk_r (S := S) w
  delta FX91_fill_0 BX91_fill_0
  exact q_tV hN w0 (hk3 _ _ _ _ _ w0.1 z_a0)
theorem wX91_fill_L (S Z : Nat → Prop) {hx N : Nat} (hS : ∀ x, fe_mem lX91_fill x = true → S x) (n : Nat) : ∀ j : Nat, ∀ (a0 : Nat) (a2 : Int32) (a3 : Int32) (a4 : Int32) (M : FM), WI Z hx N M → Z a0 → pq (FX91_fill_L3 n j a0 a2 a3 a4 M) (QV S Z hx N M)
  | 0 => by intros; exact pq_0
  | j + 1 => fun a0 a2 a3 a4 M w => wX91_fill_3 S Z hS n _ (wX91_fill_L S Z hS n j) a0 a2 a3 a4 M w
theorem wX91_fill (S Z : Nat → Prop) {hx N : Nat} (hS : ∀ x, fe_mem lX91_fill x = true → S x) (n : Nat) (a0 : Nat) (a1 : Int32) (a2 : Int32) (a3 : Int32) (M : FM) (w : WI Z hx N M) (z_a0 : Z a0) : pq (FX91_fill n a0 a1 a2 a3 M) (QV S Z hx N M) := wX91_fill_0 S Z hS n _ (wX91_fill_L S Z hS n n) a0 a1 a2 a3 M w z_a0
def lX11_fill : List Nat := [208, 1201, 1203, 1204]
theorem wX11_fill_75 (S Z : Nat → Prop) {hx N : Nat} (hS : ∀ x, fe_mem lX11_fill x = true → S x) (n : Nat) (k3 : Nat → Int64 → Int64 → Int32 → Int64 → FM → Option (FM)) (hk3 : ∀ (a0 : Nat) (a1 : Int64) (a3 : Int64) (a5 : Int32) (a6 : Int64) (M : FM), WI Z hx N M → Z a0 → pq (k3 a0 a1 a3 a5 a6 M) (QV S Z hx N M)) (a0 : Nat) (a1 : Int64) (a3 : Int64) (a5 : Int32) (a6 : Int64) (a8 : Int32) (a9 : Int32) (a10 : Int32) (M : FM) (w : WI Z hx N M) (z_a0 : Z a0) : pq (FX11_fill_75 n k3 a0 a1 a3 a5 a6 a8 a9 a10 M) (QV S Z hx N M) := by
  have hN := w.2.2.1
  have w0 := wk_r (S := S) w
  delta FX11_fill_75 BX11_fill_75
  refine pq_g (fun g1 => ?_)
  have z2 := wk_z (i := 0) (f := 204) w0 rfl z_a0
  have f3 := sS_204 w0.1.1 g1
  refine pq_g (fun g4 => ?_)
  refine pq_g (fun g5 => ?_)
  extract_lets +onlyGivenNames M7
  have w6 : Wk S Z hx N M M7 := wk_aL hN w0 rfl g5.1 z2 (sy_s f3 (hS 1204 rfl))
  exact q_tV hN w6 (hk3 _ _ _ _ _ _ w6.1 z_a0)
theorem wX11_fill_60 (S Z : Nat → Prop) {hx N : Nat} (hS : ∀ x, fe_mem lX11_fill x = true → S x) (n : Nat) (k3 : Nat → Int64 → Int64 → Int32 → Int64 → FM → Option (FM)) (hk3 : ∀ (a0 : Nat) (a1 : Int64) (a3 : Int64) (a5 : Int32) (a6 : Int64) (M : FM), WI Z hx N M → Z a0 → pq (k3 a0 a1 a3 a5 a6 M) (QV S Z hx N M)) (a0 : Nat) (a1 : Int64) (a3 : Int64) (a5 : Int32) (a6 : Int64) (a8 : Int32) (a9 : Int32) (a10 : Int32) (M : FM) (w : WI Z hx N M) (z_a0 : Z a0) : pq (FX11_fill_60 n k3 a0 a1 a3 a5 a6 a8 a9 a10 M) (QV S Z hx N M) := by
  have hN := w.2.2.1
  have w0 := wk_r (S := S) w
  delta FX11_fill_60 BX11_fill_60
  refine pq_g (fun g1 => ?_)
  refine pq_b (wX11_made S Z (sb rfl hS) _ _ _ w0.1 z_a0) (fun r2 K3 => ?_)
  have w4 := wk_t w0 K3.1 hN
  refine pq_g (fun g5 => ?_)
  refine pq_b (wX91_fill S Z (sb rfl hS) n _ _ _ _ _ w4.1 K3.2) (fun r6 K7 => ?_)
  have w8 := wk_t w4 K7 hN
  exact q_tV hN w8 (wX11_fill_75 S Z hS n _ hk3 _ _ _ _ _ _ _ _ _ w8.1 z_a0)
theorem wX11_fill_3 (S Z : Nat → Prop) {hx N : Nat} (hS : ∀ x, fe_mem lX11_fill x = true → S x) (n : Nat) (k3 : Nat → Int64 → Int64 → Int32 → Int64 → FM → Option (FM)) (hk3 : ∀ (a0 : Nat) (a1 : Int64) (a3 : Int64) (a5 : Int32) (a6 : Int64) (M : FM), WI Z hx N M → Z a0 → pq (k3 a0 a1 a3 a5 a6 M) (QV S Z hx N M)) (a0 : Nat) (a1 : Int64) (a3 : Int64) (a5 : Int32) (a6 : Int64) (M : FM) (w : WI Z hx N M) (z_a0 : Z a0) : pq (FX11_fill_3 n k3 a0 a1 a3 a5 a6 M) (QV S Z hx N M) := by
  have hN := w.2.2.1
  have w0 := wk_r (S := S) w
  delta FX11_fill_3 BX11_fill_3
  refine pq_fi (fun _ => ?_) (fun _ => ?_)
  · refine pq_g (fun g1 => ?_)
    refine pq_b (wX11_touch S Z (sb rfl hS) n _ _ _ _ w0.1 z_a0) (fun r2 K3 => ?_)
    have w4 := wk_t w0 K3 hN
    exact pq_s w4
  · refine pq_b (wX11_pageOf S Z (sb rfl hS) _ _ w0.1 ) (fun r5 K6 => ?_)
    have w7 := wk_t w0 K6 hN
    refine pq_b (wX11_placeOf S Z (sb rfl hS) _ _ w7.1 ) (fun r8 K9 => ?_)
    have w10 := wk_t w7 K9 hN
    refine pq_b (wJ5_min_2 S Z (sb rfl hS) _ _ _ w10.1 ) (fun r11 K12 => ?_)
    have w13 := wk_t w10 K12 hN
    refine pq_fi (fun _ => ?_) (fun _ => ?_)
    · refine pq_g (fun g14 => ?_)
      have z15 := wk_z (i := 0) (f := 203) w13 rfl z_a0
      have f16 := sS_203 w13.1.1 g14
      refine pq_g (fun g17 => ?_)
      have z18 := fun i => wk_ze (i := i) w13 rfl g17.1 f16 rfl z15
      refine pq_fi (fun _ => ?_) (fun _ => ?_)
      · exact q_tV hN w13 (wX11_fill_75 S Z hS n _ hk3 _ _ _ _ _ _ _ _ _ w13.1 z_a0)
      · exact q_tV hN w13 (wX11_fill_60 S Z hS n _ hk3 _ _ _ _ _ _ _ _ _ w13.1 z_a0)
    · exact q_tV hN w13 (wX11_fill_60 S Z hS n _ hk3 _ _ _ _ _ _ _ _ _ w13.1 z_a0)
theorem wX11_fill_0 (S Z : Nat → Prop) {hx N : Nat} (hS : ∀ x, fe_mem lX11_fill x = true → S x) (n : Nat) (k3 : Nat → Int64 → Int64 → Int32 → Int64 → FM → Option (FM)) (hk3 : ∀ (a0 : Nat) (a1 : Int64) (a3 : Int64) (a5 : Int32) (a6 : Int64) (M : FM), WI Z hx N M → Z a0 → pq (k3 a0 a1 a3 a5 a6 M) (QV S Z hx N M)) (a0 : Nat) (a1 : Int64) (a3 : Int64) (a5 : Int32) (M : FM) (w : WI Z hx N M) (z_a0 : Z a0) : pq (FX11_fill_0 n k3 a0 a1 a3 a5 M) (QV S Z hx N M) := by
  have hN := w.2.2.1
  have w0 := wk_r (S := S) w
  delta FX11_fill_0 BX11_fill_0
  exact q_tV hN w0 (hk3 _ _ _ _ _ _ w0.1 z_a0)
theorem wX11_fill_L (S Z : Nat → Prop) {hx N : Nat} (hS : ∀ x, fe_mem lX11_fill x = true → S x) (n : Nat) : ∀ j : Nat, ∀ (a0 : Nat) (a1 : Int64) (a3 : Int64) (a5 : Int32) (a6 : Int64) (M : FM), WI Z hx N M → Z a0 → pq (FX11_fill_L3 n j a0 a1 a3 a5 a6 M) (QV S Z hx N M)
  | 0 => by intros; exact pq_0
  | j + 1 => fun a0 a1 a3 a5 a6 M w => wX11_fill_3 S Z hS n _ (wX11_fill_L S Z hS n j) a0 a1 a3 a5 a6 M w
theorem wX11_fill (S Z : Nat → Prop) {hx N : Nat} (hS : ∀ x, fe_mem lX11_fill x = true → S x) (n : Nat) (a0 : Nat) (a1 : Int64) (a3 : Int64) (a5 : Int32) (M : FM) (w : WI Z hx N M) (z_a0 : Z a0) : pq (FX11_fill n a0 a1 a3 a5 M) (QV S Z hx N M) := wX11_fill_0 S Z hS n _ (wX11_fill_L S Z hS n n) a0 a1 a3 a5 M w z_a0
def lX90_put : List Nat := [208, 1201, 1203, 1204]
theorem wX90_put_123 (S Z : Nat → Prop) {hx N : Nat} (hS : ∀ x, fe_mem lX90_put x = true → S x) (n : Nat) (k54 : Nat → Int64 → Int64 → Int64 → Int64 → Int64 → FM → Option (FM)) (hk54 : ∀ (a0 : Nat) (a3 : Int64) (a5 : Int64) (a7 : Int64) (a9 : Int64) (a11 : Int64) (M : FM), WI Z hx N M → Z a0 → pq (k54 a0 a3 a5 a7 a9 a11 M) (QV S Z hx N M)) (M : FM) (w : WI Z hx N M) : pq (FX90_put_123 n k54 M) (QV S Z hx N M) := by
  have hN := w.2.2.1
  have w0 := wk_r (S := S) w
  delta FX90_put_123 BX90_put_123
  exact pq_s w0
theorem wX90_put_54 (S Z : Nat → Prop) {hx N : Nat} (hS : ∀ x, fe_mem lX90_put x = true → S x) (n : Nat) (k54 : Nat → Int64 → Int64 → Int64 → Int64 → Int64 → FM → Option (FM)) (hk54 : ∀ (a0 : Nat) (a3 : Int64) (a5 : Int64) (a7 : Int64) (a9 : Int64) (a11 : Int64) (M : FM), WI Z hx N M → Z a0 → pq (k54 a0 a3 a5 a7 a9 a11 M) (QV S Z hx N M)) (a0 : Nat) (a3 : Int64) (a5 : Int64) (a7 : Int64) (a9 : Int64) (a11 : Int64) (M : FM) (w : WI Z hx N M) (z_a0 : Z a0) : pq (FX90_put_54 n k54 a0 a3 a5 a7 a9 a11 M) (QV S Z hx N M) := by
  have hN := w.2.2.1
  have w0 := wk_r (S := S) w
  delta FX90_put_54 BX90_put_54
  refine pq_fi (fun _ => ?_) (fun _ => ?_)
  · refine pq_fi (fun _ => ?_) (fun _ => ?_)
    · exact q_tV hN w0 (wX90_put_123 S Z hS n _ hk54 _ w0.1 )
    · refine pq_g (fun g1 => ?_)
      have z2 := wk_z (i := 0) (f := 187) w0 rfl z_a0
      refine pq_g (fun g3 => ?_)
      refine pq_b (wX11_fill S Z (sb rfl hS) n _ _ _ _ _ w0.1 z2) (fun r4 K5 => ?_)
      have w6 := wk_t w0 K5 hN
      exact q_tV hN w6 (wX90_put_123 S Z hS n _ hk54 _ w6.1 )
  · refine pq_g (fun g7 => ?_)
    have z8 := wk_z (i := 0) (f := 187) w0 rfl z_a0
    refine pq_g (fun g9 => ?_)
    have z10 := wk_z (i := 0) (f := 186) w0 rfl z_a0
    refine pq_g (fun g11 => ?_)
    refine pq_b (wX3_get S Z (sb rfl hS) _ _ _ w0.1 z10) (fun r12 K13 => ?_)
    have w14 := wk_t w0 K13 hN
    refine pq_g (fun g15 => ?_)
    refine pq_b (wX11_store S Z (sb rfl hS) n _ _ _ _ _ w14.1 z8) (fun r16 K17 => ?_)
    have w18 := wk_t w14 K17 hN
    exact q_tV hN w18 (hk54 _ _ _ _ _ _ _ w18.1 z_a0)
theorem wX90_put_0 (S Z : Nat → Prop) {hx N : Nat} (hS : ∀ x, fe_mem lX90_put x = true → S x) (n : Nat) (k54 : Nat → Int64 → Int64 → Int64 → Int64 → Int64 → FM → Option (FM)) (hk54 : ∀ (a0 : Nat) (a3 : Int64) (a5 : Int64) (a7 : Int64) (a9 : Int64) (a11 : Int64) (M : FM), WI Z hx N M → Z a0 → pq (k54 a0 a3 a5 a7 a9 a11 M) (QV S Z hx N M)) (a0 : Nat) (a1 : Int64) (M : FM) (w : WI Z hx N M) (z_a0 : Z a0) : pq (FX90_put_0 n k54 a0 a1 M) (QV S Z hx N M) := by
  have hN := w.2.2.1
  have w0 := wk_r (S := S) w
  delta FX90_put_0 BX90_put_0
  refine pq_g (fun g1 => ?_)
  refine pq_b (wX90_number S Z (sb rfl hS) n _ _ _ _ w0.1 z_a0) (fun r2 K3 => ?_)
  have w4 := wk_t w0 K3 hN
  refine pq_g (fun g5 => ?_)
  refine pq_b (wX90_number S Z (sb rfl hS) n _ _ _ _ w4.1 z_a0) (fun r6 K7 => ?_)
  have w8 := wk_t w4 K7 hN
  refine pq_g (fun g9 => ?_)
  refine pq_b (wX90_number S Z (sb rfl hS) n _ _ _ _ w8.1 z_a0) (fun r10 K11 => ?_)
  have w12 := wk_t w8 K11 hN
  refine pq_g (fun g13 => ?_)
  refine pq_b (wX90_number S Z (sb rfl hS) n _ _ _ _ w12.1 z_a0) (fun r14 K15 => ?_)
  have w16 := wk_t w12 K15 hN
  exact q_tV hN w16 (hk54 _ _ _ _ _ _ _ w16.1 z_a0)
theorem wX90_put_L (S Z : Nat → Prop) {hx N : Nat} (hS : ∀ x, fe_mem lX90_put x = true → S x) (n : Nat) : ∀ j : Nat, ∀ (a0 : Nat) (a3 : Int64) (a5 : Int64) (a7 : Int64) (a9 : Int64) (a11 : Int64) (M : FM), WI Z hx N M → Z a0 → pq (FX90_put_L54 n j a0 a3 a5 a7 a9 a11 M) (QV S Z hx N M)
  | 0 => by intros; exact pq_0
  | j + 1 => fun a0 a3 a5 a7 a9 a11 M w => wX90_put_54 S Z hS n _ (wX90_put_L S Z hS n j) a0 a3 a5 a7 a9 a11 M w
theorem wX90_put (S Z : Nat → Prop) {hx N : Nat} (hS : ∀ x, fe_mem lX90_put x = true → S x) (n : Nat) (a0 : Nat) (a1 : Int64) (M : FM) (w : WI Z hx N M) (z_a0 : Z a0) : pq (FX90_put n a0 a1 M) (QV S Z hx N M) := wX90_put_0 S Z hS n _ (wX90_put_L S Z hS n n) a0 a1 M w z_a0
def lX90_load : List Nat := [188, 208, 1201, 1203, 1204]
theorem wX90_load_81 (S Z : Nat → Prop) {hx N : Nat} (hS : ∀ x, fe_mem lX90_load x = true → S x) (n : Nat) (k33 : Nat → Int32 → Int64 → Int32 → Int32 → FM → Option (Int32 × FM)) (hk33 : ∀ (a0 : Nat) (a1 : Int32) (a2 : Int64) (a4 : Int32) (a5 : Int32) (M : FM), WI Z hx N M → Z a0 → pq (k33 a0 a1 a2 a4 a5 M) (QA S Z hx N M)) (a1 : Int32) (M : FM) (w : WI Z hx N M) : pq (FX90_load_81 n k33 a1 M) (QA S Z hx N M) := by
  have hN := w.2.2.1
  have w0 := wk_r (S := S) w
  delta FX90_load_81 BX90_load_81
  exact pq_s w0
theorem wX90_load_62 (S Z : Nat → Prop) {hx N : Nat} (hS : ∀ x, fe_mem lX90_load x = true → S x) (n : Nat) (k33 : Nat → Int32 → Int64 → Int32 → Int32 → FM → Option (Int32 × FM)) (hk33 : ∀ (a0 : Nat) (a1 : Int32) (a2 : Int64) (a4 : Int32) (a5 : Int32) (M : FM), WI Z hx N M → Z a0 → pq (k33 a0 a1 a2 a4 a5 M) (QA S Z hx N M)) (a0 : Nat) (a1 : Int32) (a2 : Int64) (a4 : Int32) (a5 : Int32) (M : FM) (w : WI Z hx N M) (z_a0 : Z a0) : pq (FX90_load_62 n k33 a0 a1 a2 a4 a5 M) (QA S Z hx N M) := by
  have hN := w.2.2.1
  have w0 := wk_r (S := S) w
  delta FX90_load_62 BX90_load_62
  exact q_tA hN w0 (hk33 _ _ _ _ _ _ w0.1 z_a0)
theorem wX90_load_33 (S Z : Nat → Prop) {hx N : Nat} (hS : ∀ x, fe_mem lX90_load x = true → S x) (n : Nat) (k33 : Nat → Int32 → Int64 → Int32 → Int32 → FM → Option (Int32 × FM)) (hk33 : ∀ (a0 : Nat) (a1 : Int32) (a2 : Int64) (a4 : Int32) (a5 : Int32) (M : FM), WI Z hx N M → Z a0 → pq (k33 a0 a1 a2 a4 a5 M) (QA S Z hx N M)) (a0 : Nat) (a1 : Int32) (a2 : Int64) (a4 : Int32) (a5 : Int32) (M : FM) (w : WI Z hx N M) (z_a0 : Z a0) : pq (FX90_load_33 n k33 a0 a1 a2 a4 a5 M) (QA S Z hx N M) := by
  have hN := w.2.2.1
  have w0 := wk_r (S := S) w
  delta FX90_load_33 BX90_load_33
  refine pq_fi (fun _ => ?_) (fun _ => ?_)
  · refine pq_g (fun g1 => ?_)
    refine pq_b (wX90_number S Z (sb rfl hS) n _ _ _ _ w0.1 z_a0) (fun r2 K3 => ?_)
    have w4 := wk_t w0 K3 hN
    refine pq_g (fun g5 => ?_)
    extract_lets +onlyGivenNames M7
    have w6 : Wk S Z hx N M M7 := wk_fL hN w4 rfl rfl g5 z_a0 (Or.inr (hS 188 rfl))
    exact q_tA hN w6 (wX90_load_81 S Z hS n _ hk33 _ _ w6.1 )
  · refine pq_g (fun g8 => ?_)
    refine pq_b (wX90_isSegment S Z (sb rfl hS) n _ _ _ _ w0.1 z_a0) (fun r9 K10 => ?_)
    have w11 := wk_t w0 K10 hN
    refine pq_fi (fun _ => ?_) (fun _ => ?_)
    · exact q_tA hN w11 (wX90_load_62 S Z hS n _ hk33 _ _ _ _ _ _ w11.1 z_a0)
    · refine pq_g (fun g12 => ?_)
      refine pq_b (wX90_put S Z (sb rfl hS) n _ _ _ w11.1 z_a0) (fun r13 K14 => ?_)
      have w15 := wk_t w11 K14 hN
      exact q_tA hN w15 (wX90_load_62 S Z hS n _ hk33 _ _ _ _ _ _ w15.1 z_a0)
theorem wX90_load_0 (S Z : Nat → Prop) {hx N : Nat} (hS : ∀ x, fe_mem lX90_load x = true → S x) (n : Nat) (k33 : Nat → Int32 → Int64 → Int32 → Int32 → FM → Option (Int32 × FM)) (hk33 : ∀ (a0 : Nat) (a1 : Int32) (a2 : Int64) (a4 : Int32) (a5 : Int32) (M : FM), WI Z hx N M → Z a0 → pq (k33 a0 a1 a2 a4 a5 M) (QA S Z hx N M)) (a0 : Nat) (M : FM) (w : WI Z hx N M) (z_a0 : Z a0) : pq (FX90_load_0 n k33 a0 M) (QA S Z hx N M) := by
  have hN := w.2.2.1
  have w0 := wk_r (S := S) w
  delta FX90_load_0 BX90_load_0
  refine pq_g (fun g1 => ?_)
  refine pq_b (wX90_fault S Z (sb rfl hS) n _ _ w0.1 z_a0) (fun r2 K3 => ?_)
  have w4 := wk_t w0 K3 hN
  refine pq_fi (fun _ => ?_) (fun _ => ?_)
  · refine pq_g (fun g5 => ?_)
    refine pq_b (wX90_number S Z (sb rfl hS) n _ _ _ _ w4.1 z_a0) (fun r6 K7 => ?_)
    have w8 := wk_t w4 K7 hN
    refine pq_g (fun g9 => ?_)
    refine pq_b (wX90_number S Z (sb rfl hS) n _ _ _ _ w8.1 z_a0) (fun r10 K11 => ?_)
    have w12 := wk_t w8 K11 hN
    exact q_tA hN w12 (hk33 _ _ _ _ _ _ w12.1 z_a0)
  · exact q_tA hN w4 (wX90_load_81 S Z hS n _ hk33 _ _ w4.1 )
theorem wX90_load_L (S Z : Nat → Prop) {hx N : Nat} (hS : ∀ x, fe_mem lX90_load x = true → S x) (n : Nat) : ∀ j : Nat, ∀ (a0 : Nat) (a1 : Int32) (a2 : Int64) (a4 : Int32) (a5 : Int32) (M : FM), WI Z hx N M → Z a0 → pq (FX90_load_L33 n j a0 a1 a2 a4 a5 M) (QA S Z hx N M)
  | 0 => by intros; exact pq_0
  | j + 1 => fun a0 a1 a2 a4 a5 M w => wX90_load_33 S Z hS n _ (wX90_load_L S Z hS n j) a0 a1 a2 a4 a5 M w
theorem wX90_load (S Z : Nat → Prop) {hx N : Nat} (hS : ∀ x, fe_mem lX90_load x = true → S x) (n : Nat) (a0 : Nat) (M : FM) (w : WI Z hx N M) (z_a0 : Z a0) : pq (FX90_load n a0 M) (QA S Z hx N M) := wX90_load_0 S Z hS n _ (wX90_load_L S Z hS n n) a0 M w z_a0
def lX2_image : List Nat := [188, 208, 262, 1201, 1203, 1204]
theorem wX2_image_0 (S Z : Nat → Prop) {hx N : Nat} (hS : ∀ x, fe_mem lX2_image x = true → S x) (n : Nat) (a0 : Nat) (M : FM) (w : WI Z hx N M) (z_a0 : Z a0) : pq (FX2_image_0 n a0 M) (QA S Z hx N M) := by
  have hN := w.2.2.1
  have w0 := wk_r (S := S) w
  delta FX2_image_0 BX2_image_0
  refine pq_g (fun g1 => ?_)
  have z2 := wk_z (i := 0) (f := 192) w0 rfl z_a0
  refine pq_g (fun g3 => ?_)
  refine pq_b (wX90_load S Z (sb rfl hS) n _ _ w0.1 z2) (fun r4 K5 => ?_)
  have w6 := wk_t w0 K5 hN
  refine pq_g (fun g7 => ?_)
  have z8 := wk_z (i := 0) (f := 191) w6 rfl z_a0
  refine pq_g (fun g9 => ?_)
  extract_lets +onlyGivenNames M11
  have w10 : Wk S Z hx N M M11 := wk_fI hN w6 rfl rfl g9 z8 (Or.inr (hS 262 rfl))
  exact pq_s w10
theorem wX2_image (S Z : Nat → Prop) {hx N : Nat} (hS : ∀ x, fe_mem lX2_image x = true → S x) (n : Nat) (a0 : Nat) (M : FM) (w : WI Z hx N M) (z_a0 : Z a0) : pq (FX2_image n a0 M) (QA S Z hx N M) := wX2_image_0 S Z hS n a0 M w z_a0
def lX2_typed : List Nat := [196, 262, 1194]
theorem wX2_typed_20 (S Z : Nat → Prop) {hx N : Nat} (hS : ∀ x, fe_mem lX2_typed x = true → S x) (n : Nat) (k20 : Nat → Int32 → Int32 → FM → Option (Int32 × FM)) (hk20 : ∀ (a0 : Nat) (a1 : Int32) (a2 : Int32) (M : FM), WI Z hx N M → Z a0 → pq (k20 a0 a1 a2 M) (QA S Z hx N M)) (a0 : Nat) (a1 : Int32) (a2 : Int32) (M : FM) (w : WI Z hx N M) (z_a0 : Z a0) : pq (FX2_typed_20 n k20 a0 a1 a2 M) (QA S Z hx N M) := by
  have hN := w.2.2.1
  have w0 := wk_r (S := S) w
  delta FX2_typed_20 BX2_typed_20
  refine pq_fi (fun _ => ?_) (fun _ => ?_)
  · refine pq_g (fun g1 => ?_)
    have z2 := wk_z (i := 0) (f := 191) w0 rfl z_a0
    refine pq_g (fun g3 => ?_)
    extract_lets +onlyGivenNames M5
    have w4 : Wk S Z hx N M M5 := wk_fI hN w0 rfl rfl g3 z2 (Or.inr (hS 262 rfl))
    exact pq_s w4
  · refine pq_g (fun g6 => ?_)
    have z7 := wk_z (i := 0) (f := 194) w0 rfl z_a0
    have f8 := sS_194 w0.1.1 g6
    refine pq_g (fun g9 => ?_)
    refine pq_g (fun g10 => ?_)
    refine pq_n ?_
    refine pq_g (fun g11 => ?_)
    have z12 := wk_z (i := 0) (f := 191) w0 rfl z_a0
    refine pq_g (fun g13 => ?_)
    have z14 := wk_z (i := 0) (f := 261) w0 rfl z12
    have f15 := sS_261 w0.1.1 g13
    refine pq_g (fun g16 => ?_)
    refine pq_g (fun g17 => ?_)
    extract_lets +onlyGivenNames M19
    have w18 : Wk S Z hx N M M19 := wk_aI hN w0 rfl g17.1 z7 (sy_s f8 (hS 1194 rfl))
    refine pq_g (fun g20 => ?_)
    refine pq_g (fun g21 => ?_)
    extract_lets +onlyGivenNames M23
    have w22 : Wk S Z hx N M M23 := wk_fI hN w18 rfl rfl g21 z_a0 (Or.inr (hS 196 rfl))
    exact q_tA hN w22 (hk20 _ _ _ _ w22.1 z_a0)
theorem wX2_typed_0 (S Z : Nat → Prop) {hx N : Nat} (hS : ∀ x, fe_mem lX2_typed x = true → S x) (n : Nat) (k20 : Nat → Int32 → Int32 → FM → Option (Int32 × FM)) (hk20 : ∀ (a0 : Nat) (a1 : Int32) (a2 : Int32) (M : FM), WI Z hx N M → Z a0 → pq (k20 a0 a1 a2 M) (QA S Z hx N M)) (a0 : Nat) (M : FM) (w : WI Z hx N M) (z_a0 : Z a0) : pq (FX2_typed_0 n k20 a0 M) (QA S Z hx N M) := by
  have hN := w.2.2.1
  have w0 := wk_r (S := S) w
  delta FX2_typed_0 BX2_typed_0
  refine pq_g (fun g1 => ?_)
  have z2 := wk_z (i := 0) (f := 191) w0 rfl z_a0
  refine pq_g (fun g3 => ?_)
  refine pq_g (fun g4 => ?_)
  refine pq_b (wJ5_min S Z (sb rfl hS) _ _ _ w0.1 ) (fun r5 K6 => ?_)
  have w7 := wk_t w0 K6 hN
  exact q_tA hN w7 (hk20 _ _ _ _ w7.1 z_a0)
theorem wX2_typed_L (S Z : Nat → Prop) {hx N : Nat} (hS : ∀ x, fe_mem lX2_typed x = true → S x) (n : Nat) : ∀ j : Nat, ∀ (a0 : Nat) (a1 : Int32) (a2 : Int32) (M : FM), WI Z hx N M → Z a0 → pq (FX2_typed_L20 n j a0 a1 a2 M) (QA S Z hx N M)
  | 0 => by intros; exact pq_0
  | j + 1 => fun a0 a1 a2 M w => wX2_typed_20 S Z hS n _ (wX2_typed_L S Z hS n j) a0 a1 a2 M w
theorem wX2_typed (S Z : Nat → Prop) {hx N : Nat} (hS : ∀ x, fe_mem lX2_typed x = true → S x) (n : Nat) (a0 : Nat) (M : FM) (w : WI Z hx N M) (z_a0 : Z a0) : pq (FX2_typed n a0 M) (QA S Z hx N M) := wX2_typed_0 S Z hS n _ (wX2_typed_L S Z hS n n) a0 M w z_a0
def lX1_there : List Nat := []
theorem wX1_there_0 (S Z : Nat → Prop) {hx N : Nat} (hS : ∀ x, fe_mem lX1_there x = true → S x) (a0 : Int32) (M : FM) (w : WI Z hx N M) : pq (FX1_there_0 a0 M) (QV S Z hx N M) := by
  have hN := w.2.2.1
  have w0 := wk_r (S := S) w
  delta FX1_there_0 BX1_there_0
  refine pq_fi (fun _ => ?_) (fun _ => ?_)
  · exact pq_0
  · exact pq_s w0
theorem wX1_there (S Z : Nat → Prop) {hx N : Nat} (hS : ∀ x, fe_mem lX1_there x = true → S x) (a0 : Int32) (M : FM) (w : WI Z hx N M) : pq (FX1_there a0 M) (QV S Z hx N M) := wX1_there_0 S Z hS a0 M w 
def lX2_bytes : List Nat := [208, 262, 1201, 1203, 1204]
theorem wX2_bytes_11 (S Z : Nat → Prop) {hx N : Nat} (hS : ∀ x, fe_mem lX2_bytes x = true → S x) (n : Nat) (k11 : Nat → Int64 → Int32 → Int32 → FM → Option (Int32 × FM)) (hk11 : ∀ (a0 : Nat) (a1 : Int64) (a3 : Int32) (a4 : Int32) (M : FM), WI Z hx N M → Z a0 → pq (k11 a0 a1 a3 a4 M) (QA S Z hx N M)) (a0 : Nat) (a1 : Int64) (a3 : Int32) (a4 : Int32) (M : FM) (w : WI Z hx N M) (z_a0 : Z a0) : pq (FX2_bytes_11 n k11 a0 a1 a3 a4 M) (QA S Z hx N M) := by
  have hN := w.2.2.1
  have w0 := wk_r (S := S) w
  delta FX2_bytes_11 BX2_bytes_11
  refine pq_fi (fun _ => ?_) (fun _ => ?_)
  · refine pq_g (fun g1 => ?_)
    have z2 := wk_z (i := 0) (f := 191) w0 rfl z_a0
    refine pq_g (fun g3 => ?_)
    extract_lets +onlyGivenNames M5
    have w4 : Wk S Z hx N M M5 := wk_fI hN w0 rfl rfl g3 z2 (Or.inr (hS 262 rfl))
    exact pq_s w4
  · refine pq_g (fun g6 => ?_)
    have z7 := wk_z (i := 0) (f := 189) w0 rfl z_a0
    refine pq_g (fun g8 => ?_)
    have z9 := wk_z (i := 0) (f := 18) w0 rfl z7
    refine pq_g (fun g10 => ?_)
    have z11 := wk_z (i := 0) (f := 191) w0 rfl z_a0
    refine pq_g (fun g12 => ?_)
    refine pq_b (wX3_get S Z (sb rfl hS) _ _ _ w0.1 z11) (fun r13 K14 => ?_)
    have w15 := wk_t w0 K14 hN
    refine pq_g (fun g16 => ?_)
    refine pq_b (wX11_store S Z (sb rfl hS) n _ _ _ _ _ w15.1 z9) (fun r17 K18 => ?_)
    have w19 := wk_t w15 K18 hN
    exact q_tA hN w19 (hk11 _ _ _ _ _ w19.1 z_a0)
theorem wX2_bytes_0 (S Z : Nat → Prop) {hx N : Nat} (hS : ∀ x, fe_mem lX2_bytes x = true → S x) (n : Nat) (k11 : Nat → Int64 → Int32 → Int32 → FM → Option (Int32 × FM)) (hk11 : ∀ (a0 : Nat) (a1 : Int64) (a3 : Int32) (a4 : Int32) (M : FM), WI Z hx N M → Z a0 → pq (k11 a0 a1 a3 a4 M) (QA S Z hx N M)) (a0 : Nat) (a1 : Int64) (M : FM) (w : WI Z hx N M) (z_a0 : Z a0) : pq (FX2_bytes_0 n k11 a0 a1 M) (QA S Z hx N M) := by
  have hN := w.2.2.1
  have w0 := wk_r (S := S) w
  delta FX2_bytes_0 BX2_bytes_0
  refine pq_g (fun g1 => ?_)
  have z2 := wk_z (i := 0) (f := 191) w0 rfl z_a0
  refine pq_g (fun g3 => ?_)
  exact q_tA hN w0 (hk11 _ _ _ _ _ w0.1 z_a0)
theorem wX2_bytes_L (S Z : Nat → Prop) {hx N : Nat} (hS : ∀ x, fe_mem lX2_bytes x = true → S x) (n : Nat) : ∀ j : Nat, ∀ (a0 : Nat) (a1 : Int64) (a3 : Int32) (a4 : Int32) (M : FM), WI Z hx N M → Z a0 → pq (FX2_bytes_L11 n j a0 a1 a3 a4 M) (QA S Z hx N M)
  | 0 => by intros; exact pq_0
  | j + 1 => fun a0 a1 a3 a4 M w => wX2_bytes_11 S Z hS n _ (wX2_bytes_L S Z hS n j) a0 a1 a3 a4 M w
theorem wX2_bytes (S Z : Nat → Prop) {hx N : Nat} (hS : ∀ x, fe_mem lX2_bytes x = true → S x) (n : Nat) (a0 : Nat) (a1 : Int64) (M : FM) (w : WI Z hx N M) (z_a0 : Z a0) : pq (FX2_bytes n a0 a1 M) (QA S Z hx N M) := wX2_bytes_0 S Z hS n _ (wX2_bytes_L S Z hS n n) a0 a1 M w z_a0
def lX23_put : List Nat := [1069]
theorem wX23_put_0 (S Z : Nat → Prop) {hx N : Nat} (hS : ∀ x, fe_mem lX23_put x = true → S x) (a0 : Nat) (a1 : Int32) (a2 : Int32) (M : FM) (w : WI Z hx N M) (z_a0 : Z a0) : pq (FX23_put_0 a0 a1 a2 M) (QV S Z hx N M) := by
  have hN := w.2.2.1
  have w0 := wk_r (S := S) w
  delta FX23_put_0 BX23_put_0
  refine pq_g (fun g1 => ?_)
  have z2 := wk_z (i := 0) (f := 69) w0 rfl z_a0
  have f3 := sS_69 w0.1.1 g1
  refine pq_g (fun g4 => ?_)
  have z5 := wk_z (i := 0) (f := 69) w0 rfl z_a0
  have f6 := sS_69 w0.1.1 g4
  refine pq_g (fun g7 => ?_)
  refine pq_g (fun g8 => ?_)
  extract_lets +onlyGivenNames M10
  have w9 : Wk S Z hx N M M10 := wk_aL hN w0 rfl g8.1 z2 (sy_s f3 (hS 1069 rfl))
  exact pq_s w9
theorem wX23_put (S Z : Nat → Prop) {hx N : Nat} (hS : ∀ x, fe_mem lX23_put x = true → S x) (a0 : Nat) (a1 : Int32) (a2 : Int32) (M : FM) (w : WI Z hx N M) (z_a0 : Z a0) : pq (FX23_put a0 a1 a2 M) (QV S Z hx N M) := wX23_put_0 S Z hS a0 a1 a2 M w z_a0
def lX2_sectors : List Nat := [262, 1069]
theorem wX2_sectors_11 (S Z : Nat → Prop) {hx N : Nat} (hS : ∀ x, fe_mem lX2_sectors x = true → S x) (n : Nat) (k11 : Nat → Int64 → Int32 → Int32 → FM → Option (Int32 × FM)) (hk11 : ∀ (a0 : Nat) (a1 : Int64) (a3 : Int32) (a4 : Int32) (M : FM), WI Z hx N M → Z a0 → pq (k11 a0 a1 a3 a4 M) (QA S Z hx N M)) (a0 : Nat) (a1 : Int64) (a3 : Int32) (a4 : Int32) (M : FM) (w : WI Z hx N M) (z_a0 : Z a0) : pq (FX2_sectors_11 n k11 a0 a1 a3 a4 M) (QA S Z hx N M) := by
  have hN := w.2.2.1
  have w0 := wk_r (S := S) w
  delta FX2_sectors_11 BX2_sectors_11
  refine pq_fi (fun _ => ?_) (fun _ => ?_)
  · refine pq_g (fun g1 => ?_)
    have z2 := wk_z (i := 0) (f := 191) w0 rfl z_a0
    refine pq_g (fun g3 => ?_)
    extract_lets +onlyGivenNames M5
    have w4 : Wk S Z hx N M M5 := wk_fI hN w0 rfl rfl g3 z2 (Or.inr (hS 262 rfl))
    exact pq_s w4
  · refine pq_g (fun g6 => ?_)
    have z7 := wk_z (i := 0) (f := 189) w0 rfl z_a0
    refine pq_g (fun g8 => ?_)
    have z9 := wk_z (i := 0) (f := 20) w0 rfl z7
    refine pq_g (fun g10 => ?_)
    have z11 := wk_z (i := 0) (f := 59) w0 rfl z9
    refine pq_g (fun g12 => ?_)
    have z13 := wk_z (i := 0) (f := 191) w0 rfl z_a0
    refine pq_g (fun g14 => ?_)
    refine pq_b (wX3_get S Z (sb rfl hS) _ _ _ w0.1 z13) (fun r15 K16 => ?_)
    have w17 := wk_t w0 K16 hN
    refine pq_g (fun g18 => ?_)
    refine pq_b (wX23_put S Z (sb rfl hS) _ _ _ _ w17.1 z11) (fun r19 K20 => ?_)
    have w21 := wk_t w17 K20 hN
    exact q_tA hN w21 (hk11 _ _ _ _ _ w21.1 z_a0)
theorem wX2_sectors_0 (S Z : Nat → Prop) {hx N : Nat} (hS : ∀ x, fe_mem lX2_sectors x = true → S x) (n : Nat) (k11 : Nat → Int64 → Int32 → Int32 → FM → Option (Int32 × FM)) (hk11 : ∀ (a0 : Nat) (a1 : Int64) (a3 : Int32) (a4 : Int32) (M : FM), WI Z hx N M → Z a0 → pq (k11 a0 a1 a3 a4 M) (QA S Z hx N M)) (a0 : Nat) (a1 : Int64) (M : FM) (w : WI Z hx N M) (z_a0 : Z a0) : pq (FX2_sectors_0 n k11 a0 a1 M) (QA S Z hx N M) := by
  have hN := w.2.2.1
  have w0 := wk_r (S := S) w
  delta FX2_sectors_0 BX2_sectors_0
  refine pq_g (fun g1 => ?_)
  have z2 := wk_z (i := 0) (f := 191) w0 rfl z_a0
  refine pq_g (fun g3 => ?_)
  exact q_tA hN w0 (hk11 _ _ _ _ _ w0.1 z_a0)
theorem wX2_sectors_L (S Z : Nat → Prop) {hx N : Nat} (hS : ∀ x, fe_mem lX2_sectors x = true → S x) (n : Nat) : ∀ j : Nat, ∀ (a0 : Nat) (a1 : Int64) (a3 : Int32) (a4 : Int32) (M : FM), WI Z hx N M → Z a0 → pq (FX2_sectors_L11 n j a0 a1 a3 a4 M) (QA S Z hx N M)
  | 0 => by intros; exact pq_0
  | j + 1 => fun a0 a1 a3 a4 M w => wX2_sectors_11 S Z hS n _ (wX2_sectors_L S Z hS n j) a0 a1 a3 a4 M w
theorem wX2_sectors (S Z : Nat → Prop) {hx N : Nat} (hS : ∀ x, fe_mem lX2_sectors x = true → S x) (n : Nat) (a0 : Nat) (a1 : Int64) (M : FM) (w : WI Z hx N M) (z_a0 : Z a0) : pq (FX2_sectors n a0 a1 M) (QA S Z hx N M) := wX2_sectors_0 S Z hS n _ (wX2_sectors_L S Z hS n n) a0 a1 M w z_a0
def lX1_load : List Nat := [188, 196, 208, 262, 1069, 1194, 1201, 1203, 1204]
theorem wX1_load_134 (S Z : Nat → Prop) {hx N : Nat} (hS : ∀ x, fe_mem lX1_load x = true → S x) (n : Nat) (a0 : Nat) (a2 : Int64) (s0 : Int32) (M : FM) (w : WI Z hx N M) (z_a0 : Z a0) : pq (FX1_load_134 n a0 a2 s0 M) (QA S Z hx N M) := by
  have hN := w.2.2.1
  have w0 := wk_r (S := S) w
  delta FX1_load_134 BX1_load_134
  refine pq_b (wX1_there S Z (sb rfl hS) _ _ w0.1 ) (fun r1 K2 => ?_)
  have w3 := wk_t w0 K2 hN
  refine pq_g (fun g4 => ?_)
  have z5 := wk_z (i := 0) (f := 17) w3 rfl z_a0
  refine pq_g (fun g6 => ?_)
  refine pq_b (wX2_sectors S Z (sb rfl hS) n _ _ _ w3.1 z5) (fun r7 K8 => ?_)
  have w9 := wk_t w3 K8 hN
  exact pq_s w9
theorem wX1_load_133 (S Z : Nat → Prop) {hx N : Nat} (hS : ∀ x, fe_mem lX1_load x = true → S x) (n : Nat) (a0 : Nat) (a2 : Int64) (M : FM) (w : WI Z hx N M) (z_a0 : Z a0) : pq (FX1_load_133 n a0 a2 M) (QA S Z hx N M) := by
  have hN := w.2.2.1
  have w0 := wk_r (S := S) w
  delta FX1_load_133 BX1_load_133
  exact q_tA hN w0 (wX1_load_134 S Z hS n _ _ _ _ w0.1 z_a0)
theorem wX1_load_129 (S Z : Nat → Prop) {hx N : Nat} (hS : ∀ x, fe_mem lX1_load x = true → S x) (n : Nat) (a0 : Nat) (a2 : Int64) (M : FM) (w : WI Z hx N M) (z_a0 : Z a0) : pq (FX1_load_129 n a0 a2 M) (QA S Z hx N M) := by
  have hN := w.2.2.1
  have w0 := wk_r (S := S) w
  delta FX1_load_129 BX1_load_129
  exact q_tA hN w0 (wX1_load_134 S Z hS n _ _ _ _ w0.1 z_a0)
theorem wX1_load_74 (S Z : Nat → Prop) {hx N : Nat} (hS : ∀ x, fe_mem lX1_load x = true → S x) (n : Nat) (a0 : Nat) (a2 : Int64) (s0 : Int32) (M : FM) (w : WI Z hx N M) (z_a0 : Z a0) : pq (FX1_load_74 n a0 a2 s0 M) (QA S Z hx N M) := by
  have hN := w.2.2.1
  have w0 := wk_r (S := S) w
  delta FX1_load_74 BX1_load_74
  refine pq_b (wX1_there S Z (sb rfl hS) _ _ w0.1 ) (fun r1 K2 => ?_)
  have w3 := wk_t w0 K2 hN
  refine pq_g (fun g4 => ?_)
  have z5 := wk_z (i := 0) (f := 17) w3 rfl z_a0
  refine pq_g (fun g6 => ?_)
  refine pq_b (wX2_bytes S Z (sb rfl hS) n _ _ _ w3.1 z5) (fun r7 K8 => ?_)
  have w9 := wk_t w3 K8 hN
  exact pq_s w9
theorem wX1_load_69 (S Z : Nat → Prop) {hx N : Nat} (hS : ∀ x, fe_mem lX1_load x = true → S x) (n : Nat) (a0 : Nat) (a2 : Int64) (M : FM) (w : WI Z hx N M) (z_a0 : Z a0) : pq (FX1_load_69 n a0 a2 M) (QA S Z hx N M) := by
  have hN := w.2.2.1
  have w0 := wk_r (S := S) w
  delta FX1_load_69 BX1_load_69
  exact q_tA hN w0 (wX1_load_74 S Z hS n _ _ _ _ w0.1 z_a0)
theorem wX1_load_0 (S Z : Nat → Prop) {hx N : Nat} (hS : ∀ x, fe_mem lX1_load x = true → S x) (n : Nat) (a0 : Nat) (a1 : Int32) (a2 : Int64) (M : FM) (w : WI Z hx N M) (z_a0 : Z a0) : pq (FX1_load_0 n a0 a1 a2 M) (QA S Z hx N M) := by
  have hN := w.2.2.1
  have w0 := wk_r (S := S) w
  delta FX1_load_0 BX1_load_0
  refine pq_g (fun g1 => ?_)
  have z2 := wk_z (i := 0) (f := 17) w0 rfl z_a0
  refine pq_g (fun g3 => ?_)
  have z4 := wk_z (i := 0) (f := 191) w0 rfl z2
  refine pq_g (fun g5 => ?_)
  refine pq_fi (fun _ => ?_) (fun _ => ?_)
  · refine pq_fi (fun _ => ?_) (fun _ => ?_)
    · exact q_tA hN w0 (wX1_load_69 S Z hS n _ _ _ w0.1 z_a0)
    · refine pq_g (fun g6 => ?_)
      have z7 := wk_z (i := 0) (f := 17) w0 rfl z_a0
      refine pq_g (fun g8 => ?_)
      have z9 := wk_z (i := 0) (f := 189) w0 rfl z7
      refine pq_g (fun g10 => ?_)
      have z11 := wk_z (i := 0) (f := 18) w0 rfl z9
      refine pq_g (fun g12 => ?_)
      refine pq_b (wX11_has S Z (sb rfl hS) _ _ _ _ w0.1 z11) (fun r13 K14 => ?_)
      have w15 := wk_t w0 K14 hN
      refine pq_fi (fun _ => ?_) (fun _ => ?_)
      · exact q_tA hN w15 (wX1_load_74 S Z hS n _ _ _ _ w15.1 z_a0)
      · exact q_tA hN w15 (wX1_load_69 S Z hS n _ _ _ w15.1 z_a0)
  · refine pq_fi (fun _ => ?_) (fun _ => ?_)
    · refine pq_g (fun g16 => ?_)
      have z17 := wk_z (i := 0) (f := 17) w0 rfl z_a0
      refine pq_g (fun g18 => ?_)
      refine pq_b (wX2_image S Z (sb rfl hS) n _ _ w0.1 z17) (fun r19 K20 => ?_)
      have w21 := wk_t w0 K20 hN
      exact pq_s w21
    · refine pq_fi (fun _ => ?_) (fun _ => ?_)
      · refine pq_fi (fun _ => ?_) (fun _ => ?_)
        · exact q_tA hN w0 (wX1_load_129 S Z hS n _ _ _ w0.1 z_a0)
        · refine pq_fi (fun _ => ?_) (fun _ => ?_)
          · exact q_tA hN w0 (wX1_load_133 S Z hS n _ _ _ w0.1 z_a0)
          · refine pq_fi (fun _ => ?_) (fun _ => ?_)
            · exact q_tA hN w0 (wX1_load_133 S Z hS n _ _ _ w0.1 z_a0)
            · refine pq_fi (fun _ => ?_) (fun _ => ?_)
              · exact q_tA hN w0 (wX1_load_133 S Z hS n _ _ _ w0.1 z_a0)
              · exact q_tA hN w0 (wX1_load_129 S Z hS n _ _ _ w0.1 z_a0)
      · refine pq_fi (fun _ => ?_) (fun _ => ?_)
        · refine pq_g (fun g22 => ?_)
          have z23 := wk_z (i := 0) (f := 17) w0 rfl z_a0
          refine pq_g (fun g24 => ?_)
          refine pq_b (wX2_typed S Z (sb rfl hS) n _ _ w0.1 z23) (fun r25 K26 => ?_)
          have w27 := wk_t w0 K26 hN
          exact pq_s w27
        · exact pq_0
theorem wX1_load (S Z : Nat → Prop) {hx N : Nat} (hS : ∀ x, fe_mem lX1_load x = true → S x) (n : Nat) (a0 : Nat) (a1 : Int32) (a2 : Int64) (M : FM) (w : WI Z hx N M) (z_a0 : Z a0) : pq (FX1_load n a0 a1 a2 M) (QA S Z hx N M) := wX1_load_0 S Z hS n a0 a1 a2 M w z_a0
def lX32_isDue : List Nat := []
theorem wX32_isDue_29 (S Z : Nat → Prop) {hx N : Nat} (hS : ∀ x, fe_mem lX32_isDue x = true → S x) (s0 : Int32) (M : FM) (w : WI Z hx N M) : pq (FX32_isDue_29 s0 M) (QA S Z hx N M) := by
  have hN := w.2.2.1
  have w0 := wk_r (S := S) w
  delta FX32_isDue_29 BX32_isDue_29
  refine pq_g (fun _ => ?_)
  exact pq_s w0
theorem wX32_isDue_0 (S Z : Nat → Prop) {hx N : Nat} (hS : ∀ x, fe_mem lX32_isDue x = true → S x) (a0 : Nat) (a1 : Int32) (M : FM) (w : WI Z hx N M) (z_a0 : Z a0) : pq (FX32_isDue_0 a0 a1 M) (QA S Z hx N M) := by
  have hN := w.2.2.1
  have w0 := wk_r (S := S) w
  delta FX32_isDue_0 BX32_isDue_0
  refine pq_g (fun g1 => ?_)
  have z2 := wk_z (i := 0) (f := 246) w0 rfl z_a0
  have f3 := sS_246 w0.1.1 g1
  refine pq_g (fun g4 => ?_)
  refine pq_g (fun g5 => ?_)
  have z6 := wk_z (i := 0) (f := 246) w0 rfl z_a0
  have f7 := sS_246 w0.1.1 g5
  refine pq_g (fun g8 => ?_)
  refine pq_fi (fun _ => ?_) (fun _ => ?_)
  · exact q_tA hN w0 (wX32_isDue_29 S Z hS _ _ w0.1 )
  · exact q_tA hN w0 (wX32_isDue_29 S Z hS _ _ w0.1 )
theorem wX32_isDue (S Z : Nat → Prop) {hx N : Nat} (hS : ∀ x, fe_mem lX32_isDue x = true → S x) (a0 : Nat) (a1 : Int32) (M : FM) (w : WI Z hx N M) (z_a0 : Z a0) : pq (FX32_isDue a0 a1 M) (QA S Z hx N M) := wX32_isDue_0 S Z hS a0 a1 M w z_a0
def lX33_best : List Nat := []
theorem wX33_best_49 (S Z : Nat → Prop) {hx N : Nat} (hS : ∀ x, fe_mem lX33_best x = true → S x) (n : Nat) (k8 : Nat → Int32 → Int32 → Int32 → Int32 → FM → Option (Int32 × FM)) (hk8 : ∀ (a0 : Nat) (a1 : Int32) (a3 : Int32) (a4 : Int32) (a5 : Int32) (M : FM), WI Z hx N M → Z a0 → pq (k8 a0 a1 a3 a4 a5 M) (QA S Z hx N M)) (a0 : Nat) (a1 : Int32) (a3 : Int32) (a4 : Int32) (a5 : Int32) (M : FM) (w : WI Z hx N M) (z_a0 : Z a0) : pq (FX33_best_49 n k8 a0 a1 a3 a4 a5 M) (QA S Z hx N M) := by
  have hN := w.2.2.1
  have w0 := wk_r (S := S) w
  delta FX33_best_49 BX33_best_49
  exact q_tA hN w0 (hk8 _ _ _ _ _ _ w0.1 z_a0)
theorem wX33_best_8 (S Z : Nat → Prop) {hx N : Nat} (hS : ∀ x, fe_mem lX33_best x = true → S x) (n : Nat) (k8 : Nat → Int32 → Int32 → Int32 → Int32 → FM → Option (Int32 × FM)) (hk8 : ∀ (a0 : Nat) (a1 : Int32) (a3 : Int32) (a4 : Int32) (a5 : Int32) (M : FM), WI Z hx N M → Z a0 → pq (k8 a0 a1 a3 a4 a5 M) (QA S Z hx N M)) (a0 : Nat) (a1 : Int32) (a3 : Int32) (a4 : Int32) (a5 : Int32) (M : FM) (w : WI Z hx N M) (z_a0 : Z a0) : pq (FX33_best_8 n k8 a0 a1 a3 a4 a5 M) (QA S Z hx N M) := by
  have hN := w.2.2.1
  have w0 := wk_r (S := S) w
  delta FX33_best_8 BX33_best_8
  refine pq_fi (fun _ => ?_) (fun _ => ?_)
  · exact pq_s w0
  · refine pq_fi (fun _ => ?_) (fun _ => ?_)
    · refine pq_g (fun g1 => ?_)
      have z2 := wk_z (i := 0) (f := 224) w0 rfl z_a0
      have f3 := sS_224 w0.1.1 g1
      refine pq_g (fun g4 => ?_)
      refine pq_fi (fun _ => ?_) (fun _ => ?_)
      · exact q_tA hN w0 (wX33_best_49 S Z hS n _ hk8 _ _ _ _ _ _ w0.1 z_a0)
      · refine pq_g (fun g5 => ?_)
        have z6 := wk_z (i := 0) (f := 224) w0 rfl z_a0
        have f7 := sS_224 w0.1.1 g5
        refine pq_g (fun g8 => ?_)
        exact q_tA hN w0 (wX33_best_49 S Z hS n _ hk8 _ _ _ _ _ _ w0.1 z_a0)
    · exact q_tA hN w0 (wX33_best_49 S Z hS n _ hk8 _ _ _ _ _ _ w0.1 z_a0)
theorem wX33_best_0 (S Z : Nat → Prop) {hx N : Nat} (hS : ∀ x, fe_mem lX33_best x = true → S x) (n : Nat) (k8 : Nat → Int32 → Int32 → Int32 → Int32 → FM → Option (Int32 × FM)) (hk8 : ∀ (a0 : Nat) (a1 : Int32) (a3 : Int32) (a4 : Int32) (a5 : Int32) (M : FM), WI Z hx N M → Z a0 → pq (k8 a0 a1 a3 a4 a5 M) (QA S Z hx N M)) (a0 : Nat) (a1 : Int32) (a2 : Int32) (M : FM) (w : WI Z hx N M) (z_a0 : Z a0) : pq (FX33_best_0 n k8 a0 a1 a2 M) (QA S Z hx N M) := by
  have hN := w.2.2.1
  have w0 := wk_r (S := S) w
  delta FX33_best_0 BX33_best_0
  exact q_tA hN w0 (hk8 _ _ _ _ _ _ w0.1 z_a0)
theorem wX33_best_L (S Z : Nat → Prop) {hx N : Nat} (hS : ∀ x, fe_mem lX33_best x = true → S x) (n : Nat) : ∀ j : Nat, ∀ (a0 : Nat) (a1 : Int32) (a3 : Int32) (a4 : Int32) (a5 : Int32) (M : FM), WI Z hx N M → Z a0 → pq (FX33_best_L8 n j a0 a1 a3 a4 a5 M) (QA S Z hx N M)
  | 0 => by intros; exact pq_0
  | j + 1 => fun a0 a1 a3 a4 a5 M w => wX33_best_8 S Z hS n _ (wX33_best_L S Z hS n j) a0 a1 a3 a4 a5 M w
theorem wX33_best (S Z : Nat → Prop) {hx N : Nat} (hS : ∀ x, fe_mem lX33_best x = true → S x) (n : Nat) (a0 : Nat) (a1 : Int32) (a2 : Int32) (M : FM) (w : WI Z hx N M) (z_a0 : Z a0) : pq (FX33_best n a0 a1 a2 M) (QA S Z hx N M) := wX33_best_0 S Z hS n _ (wX33_best_L S Z hS n n) a0 a1 a2 M w z_a0
def lX33_isOn : List Nat := []
theorem wX33_isOn_29 (S Z : Nat → Prop) {hx N : Nat} (hS : ∀ x, fe_mem lX33_isOn x = true → S x) (n : Nat) (s0 : Int32) (M : FM) (w : WI Z hx N M) : pq (FX33_isOn_29 n s0 M) (QA S Z hx N M) := by
  have hN := w.2.2.1
  have w0 := wk_r (S := S) w
  delta FX33_isOn_29 BX33_isOn_29
  refine pq_g (fun _ => ?_)
  exact pq_s w0
theorem wX33_isOn_0 (S Z : Nat → Prop) {hx N : Nat} (hS : ∀ x, fe_mem lX33_isOn x = true → S x) (n : Nat) (a0 : Nat) (a1 : Int32) (M : FM) (w : WI Z hx N M) (z_a0 : Z a0) : pq (FX33_isOn_0 n a0 a1 M) (QA S Z hx N M) := by
  have hN := w.2.2.1
  have w0 := wk_r (S := S) w
  delta FX33_isOn_0 BX33_isOn_0
  refine pq_g (fun g1 => ?_)
  refine pq_g (fun g2 => ?_)
  have z3 := wk_z (i := 0) (f := 225) w0 rfl z_a0
  have f4 := sS_225 w0.1.1 g2
  refine pq_g (fun g5 => ?_)
  refine pq_g (fun g6 => ?_)
  have z7 := wk_z (i := 0) (f := 226) w0 rfl z_a0
  have f8 := sS_226 w0.1.1 g6
  refine pq_g (fun g9 => ?_)
  refine pq_g (fun g10 => ?_)
  refine pq_b (wX33_best S Z (sb rfl hS) n _ _ _ _ w0.1 z_a0) (fun r11 K12 => ?_)
  have w13 := wk_t w0 K12 hN
  refine pq_fi (fun _ => ?_) (fun _ => ?_)
  · exact q_tA hN w13 (wX33_isOn_29 S Z hS n _ _ w13.1 )
  · exact q_tA hN w13 (wX33_isOn_29 S Z hS n _ _ w13.1 )
theorem wX33_isOn (S Z : Nat → Prop) {hx N : Nat} (hS : ∀ x, fe_mem lX33_isOn x = true → S x) (n : Nat) (a0 : Nat) (a1 : Int32) (M : FM) (w : WI Z hx N M) (z_a0 : Z a0) : pq (FX33_isOn n a0 a1 M) (QA S Z hx N M) := wX33_isOn_0 S Z hS n a0 a1 M w z_a0
def lX30_line : List Nat := []
theorem wX30_line_54 (S Z : Nat → Prop) {hx N : Nat} (hS : ∀ x, fe_mem lX30_line x = true → S x) (n : Nat) (s0 : Int32) (M : FM) (w : WI Z hx N M) : pq (FX30_line_54 n s0 M) (QA S Z hx N M) := by
  have hN := w.2.2.1
  have w0 := wk_r (S := S) w
  delta FX30_line_54 BX30_line_54
  refine pq_g (fun _ => ?_)
  exact pq_s w0
theorem wX30_line_0 (S Z : Nat → Prop) {hx N : Nat} (hS : ∀ x, fe_mem lX30_line x = true → S x) (n : Nat) (a0 : Nat) (a1 : Int32) (a2 : Int32) (M : FM) (w : WI Z hx N M) (z_a0 : Z a0) : pq (FX30_line_0 n a0 a1 a2 M) (QA S Z hx N M) := by
  have hN := w.2.2.1
  have w0 := wk_r (S := S) w
  delta FX30_line_0 BX30_line_0
  refine pq_fi (fun _ => ?_) (fun _ => ?_)
  · refine pq_g (fun g1 => ?_)
    have z2 := wk_z (i := 0) (f := 240) w0 rfl z_a0
    refine pq_g (fun g3 => ?_)
    have z4 := wk_z (i := 0) (f := 245) w0 rfl z2
    have f5 := sS_245 w0.1.1 g3
    refine pq_g (fun g6 => ?_)
    refine pq_fi (fun _ => ?_) (fun _ => ?_)
    · exact q_tA hN w0 (wX30_line_54 S Z hS n _ _ w0.1 )
    · exact q_tA hN w0 (wX30_line_54 S Z hS n _ _ w0.1 )
  · refine pq_fi (fun _ => ?_) (fun _ => ?_)
    · refine pq_g (fun g7 => ?_)
      have z8 := wk_z (i := 0) (f := 240) w0 rfl z_a0
      refine pq_g (fun g9 => ?_)
      refine pq_b (wX32_isDue S Z (sb rfl hS) _ _ _ w0.1 z8) (fun r10 K11 => ?_)
      have w12 := wk_t w0 K11 hN
      refine pq_g (fun _ => ?_)
      exact pq_s w12
    · refine pq_fi (fun _ => ?_) (fun _ => ?_)
      · refine pq_g (fun g13 => ?_)
        have z14 := wk_z (i := 0) (f := 241) w0 rfl z_a0
        refine pq_g (fun g15 => ?_)
        refine pq_b (wX33_isOn S Z (sb rfl hS) n _ _ _ w0.1 z14) (fun r16 K17 => ?_)
        have w18 := wk_t w0 K17 hN
        refine pq_g (fun _ => ?_)
        exact pq_s w18
      · refine pq_g (fun g19 => ?_)
        have z20 := wk_z (i := 0) (f := 241) w0 rfl z_a0
        refine pq_g (fun g21 => ?_)
        refine pq_b (wX33_isOn S Z (sb rfl hS) n _ _ _ w0.1 z20) (fun r22 K23 => ?_)
        have w24 := wk_t w0 K23 hN
        refine pq_g (fun _ => ?_)
        exact pq_s w24
theorem wX30_line (S Z : Nat → Prop) {hx N : Nat} (hS : ∀ x, fe_mem lX30_line x = true → S x) (n : Nat) (a0 : Nat) (a1 : Int32) (a2 : Int32) (M : FM) (w : WI Z hx N M) (z_a0 : Z a0) : pq (FX30_line n a0 a1 a2 M) (QA S Z hx N M) := wX30_line_0 S Z hS n a0 a1 a2 M w z_a0
def lX74_line : List Nat := [43]
theorem wX74_line_37 (S Z : Nat → Prop) {hx N : Nat} (hS : ∀ x, fe_mem lX74_line x = true → S x) (s0 : Nat) (s1 : Int64) (M : FM) (w : WI Z hx N M) (z_s0 : Z s0) : pq (FX74_line_37 s0 s1 M) (QV S Z hx N M) := by
  have hN := w.2.2.1
  have w0 := wk_r (S := S) w
  delta FX74_line_37 BX74_line_37
  refine pq_g (fun g1 => ?_)
  extract_lets +onlyGivenNames M3
  have w2 : Wk S Z hx N M M3 := wk_fL hN w0 rfl rfl g1 z_s0 (Or.inr (hS 43 rfl))
  exact pq_s w2
theorem wX74_line_0 (S Z : Nat → Prop) {hx N : Nat} (hS : ∀ x, fe_mem lX74_line x = true → S x) (a0 : Nat) (a1 : Int32) (a2 : Int32) (M : FM) (w : WI Z hx N M) (z_a0 : Z a0) : pq (FX74_line_0 a0 a1 a2 M) (QV S Z hx N M) := by
  have hN := w.2.2.1
  have w0 := wk_r (S := S) w
  delta FX74_line_0 BX74_line_0
  refine pq_g (fun g1 => ?_)
  have z2 := wk_z (i := 0) (f := 31) w0 rfl z_a0
  refine pq_fi (fun _ => ?_) (fun _ => ?_)
  · refine pq_g (fun g3 => ?_)
    have z4 := wk_z (i := 0) (f := 31) w0 rfl z_a0
    refine pq_g (fun g5 => ?_)
    exact q_tV hN w0 (wX74_line_37 S Z hS _ _ _ w0.1 z2)
  · refine pq_g (fun g6 => ?_)
    have z7 := wk_z (i := 0) (f := 31) w0 rfl z_a0
    refine pq_g (fun g8 => ?_)
    exact q_tV hN w0 (wX74_line_37 S Z hS _ _ _ w0.1 z2)
theorem wX74_line (S Z : Nat → Prop) {hx N : Nat} (hS : ∀ x, fe_mem lX74_line x = true → S x) (a0 : Nat) (a1 : Int32) (a2 : Int32) (M : FM) (w : WI Z hx N M) (z_a0 : Z a0) : pq (FX74_line a0 a1 a2 M) (QV S Z hx N M) := wX74_line_0 S Z hS a0 a1 a2 M w z_a0
def lX46_look : List Nat := [41, 43]
theorem wX46_look_0 (S Z : Nat → Prop) {hx N : Nat} (hS : ∀ x, fe_mem lX46_look x = true → S x) (n : Nat) (a0 : Nat) (M : FM) (w : WI Z hx N M) (z_a0 : Z a0) : pq (FX46_look_0 n a0 M) (QV S Z hx N M) := by
  have hN := w.2.2.1
  have w0 := wk_r (S := S) w
  delta FX46_look_0 BX46_look_0
  refine pq_g (fun g1 => ?_)
  have z2 := wk_z (i := 0) (f := 210) w0 rfl z_a0
  refine pq_g (fun g3 => ?_)
  have z4 := wk_z (i := 0) (f := 19) w0 rfl z2
  refine pq_g (fun g5 => ?_)
  have z6 := wk_z (i := 0) (f := 213) w0 rfl z_a0
  refine pq_g (fun g7 => ?_)
  refine pq_g (fun g8 => ?_)
  refine pq_b (wX30_line S Z (sb rfl hS) n _ _ _ _ w0.1 z4) (fun r9 K10 => ?_)
  have w11 := wk_t w0 K10 hN
  refine pq_g (fun g12 => ?_)
  refine pq_b (wX74_line S Z (sb rfl hS) _ _ _ _ w11.1 z6) (fun r13 K14 => ?_)
  have w15 := wk_t w11 K14 hN
  refine pq_g (fun g16 => ?_)
  have z17 := wk_z (i := 0) (f := 213) w15 rfl z_a0
  refine pq_g (fun g18 => ?_)
  refine pq_g (fun g19 => ?_)
  refine pq_b (wX30_line S Z (sb rfl hS) n _ _ _ _ w15.1 z4) (fun r20 K21 => ?_)
  have w22 := wk_t w15 K21 hN
  refine pq_g (fun g23 => ?_)
  refine pq_b (wX74_line S Z (sb rfl hS) _ _ _ _ w22.1 z17) (fun r24 K25 => ?_)
  have w26 := wk_t w22 K25 hN
  refine pq_g (fun g27 => ?_)
  have z28 := wk_z (i := 0) (f := 213) w26 rfl z_a0
  refine pq_g (fun g29 => ?_)
  refine pq_g (fun g30 => ?_)
  refine pq_b (wX30_line S Z (sb rfl hS) n _ _ _ _ w26.1 z4) (fun r31 K32 => ?_)
  have w33 := wk_t w26 K32 hN
  refine pq_g (fun g34 => ?_)
  refine pq_b (wX74_line S Z (sb rfl hS) _ _ _ _ w33.1 z28) (fun r35 K36 => ?_)
  have w37 := wk_t w33 K36 hN
  refine pq_g (fun g38 => ?_)
  have z39 := wk_z (i := 0) (f := 213) w37 rfl z_a0
  refine pq_g (fun g40 => ?_)
  refine pq_g (fun g41 => ?_)
  refine pq_b (wX30_line S Z (sb rfl hS) n _ _ _ _ w37.1 z4) (fun r42 K43 => ?_)
  have w44 := wk_t w37 K43 hN
  refine pq_g (fun g45 => ?_)
  refine pq_b (wX74_line S Z (sb rfl hS) _ _ _ _ w44.1 z39) (fun r46 K47 => ?_)
  have w48 := wk_t w44 K47 hN
  refine pq_g (fun g49 => ?_)
  have z50 := wk_z (i := 0) (f := 213) w48 rfl z_a0
  refine pq_g (fun g51 => ?_)
  have z52 := wk_z (i := 0) (f := 36) w48 rfl z50
  refine pq_g (fun g53 => ?_)
  have z54 := wk_z (i := 0) (f := 210) w48 rfl z_a0
  refine pq_g (fun g55 => ?_)
  refine pq_b (wX10_time S Z (sb rfl hS) _ _ w48.1 z54) (fun r56 K57 => ?_)
  have w58 := wk_t w48 K57 hN
  refine pq_g (fun g59 => ?_)
  extract_lets +onlyGivenNames M61
  have w60 : Wk S Z hx N M M61 := wk_fL hN w58 rfl rfl g59 z52 (Or.inr (hS 41 rfl))
  exact pq_s w60
theorem wX46_look (S Z : Nat → Prop) {hx N : Nat} (hS : ∀ x, fe_mem lX46_look x = true → S x) (n : Nat) (a0 : Nat) (M : FM) (w : WI Z hx N M) (z_a0 : Z a0) : pq (FX46_look n a0 M) (QV S Z hx N M) := wX46_look_0 S Z hS n a0 M w z_a0
def lX79_show : List Nat := []
theorem wX79_show_0 (S Z : Nat → Prop) {hx N : Nat} (hS : ∀ x, fe_mem lX79_show x = true → S x) (a0 : Nat) (M : FM) (w : WI Z hx N M) (z_a0 : Z a0) : pq (FX79_show_0 a0 M) (QA S Z hx N M) := by
  have hN := w.2.2.1
  have w0 := wk_r (S := S) w
  delta FX79_show_0 BX79_show_0
  refine pq_g (fun g1 => ?_)
  refine pq_g (fun g2 => ?_)
  exact pq_s w0
theorem wX79_show (S Z : Nat → Prop) {hx N : Nat} (hS : ∀ x, fe_mem lX79_show x = true → S x) (a0 : Nat) (M : FM) (w : WI Z hx N M) (z_a0 : Z a0) : pq (FX79_show a0 M) (QA S Z hx N M) := wX79_show_0 S Z hS a0 M w z_a0
def lX77_show : List Nat := []
theorem wX77_show_0 (S Z : Nat → Prop) {hx N : Nat} (hS : ∀ x, fe_mem lX77_show x = true → S x) (a0 : Nat) (M : FM) (w : WI Z hx N M) (z_a0 : Z a0) : pq (FX77_show_0 a0 M) (QA S Z hx N M) := by
  have hN := w.2.2.1
  have w0 := wk_r (S := S) w
  delta FX77_show_0 BX77_show_0
  refine pq_g (fun g1 => ?_)
  exact pq_s w0
theorem wX77_show (S Z : Nat → Prop) {hx N : Nat} (hS : ∀ x, fe_mem lX77_show x = true → S x) (a0 : Nat) (M : FM) (w : WI Z hx N M) (z_a0 : Z a0) : pq (FX77_show a0 M) (QA S Z hx N M) := wX77_show_0 S Z hS a0 M w z_a0
def lX78_two : List Nat := []
theorem wX78_two_0 (S Z : Nat → Prop) {hx N : Nat} (hS : ∀ x, fe_mem lX78_two x = true → S x) (a0 : Nat) (a1 : Int32) (M : FM) (w : WI Z hx N M) (z_a0 : Z a0) : pq (FX78_two_0 a0 a1 M) (QA S Z hx N M) := by
  have hN := w.2.2.1
  have w0 := wk_r (S := S) w
  delta FX78_two_0 BX78_two_0
  refine pq_g (fun g1 => ?_)
  exact pq_s w0
theorem wX78_two (S Z : Nat → Prop) {hx N : Nat} (hS : ∀ x, fe_mem lX78_two x = true → S x) (a0 : Nat) (a1 : Int32) (M : FM) (w : WI Z hx N M) (z_a0 : Z a0) : pq (FX78_two a0 a1 M) (QA S Z hx N M) := wX78_two_0 S Z hS a0 a1 M w z_a0
def lX78_summary : List Nat := []
theorem wX78_summary_17 (S Z : Nat → Prop) {hx N : Nat} (hS : ∀ x, fe_mem lX78_summary x = true → S x) (s0 : Int64) (M : FM) (w : WI Z hx N M) : pq (FX78_summary_17 s0 M) (QA S Z hx N M) := by
  have hN := w.2.2.1
  have w0 := wk_r (S := S) w
  delta FX78_summary_17 BX78_summary_17
  exact pq_s w0
theorem wX78_summary_0 (S Z : Nat → Prop) {hx N : Nat} (hS : ∀ x, fe_mem lX78_summary x = true → S x) (a0 : Nat) (M : FM) (w : WI Z hx N M) (z_a0 : Z a0) : pq (FX78_summary_0 a0 M) (QA S Z hx N M) := by
  have hN := w.2.2.1
  have w0 := wk_r (S := S) w
  delta FX78_summary_0 BX78_summary_0
  refine pq_g (fun g1 => ?_)
  refine pq_b (wX78_two S Z (sb rfl hS) _ _ _ w0.1 z_a0) (fun r2 K3 => ?_)
  have w4 := wk_t w0 K3 hN
  refine pq_fi (fun _ => ?_) (fun _ => ?_)
  · exact q_tA hN w4 (wX78_summary_17 S Z hS _ _ w4.1 )
  · exact q_tA hN w4 (wX78_summary_17 S Z hS _ _ w4.1 )
theorem wX78_summary (S Z : Nat → Prop) {hx N : Nat} (hS : ∀ x, fe_mem lX78_summary x = true → S x) (a0 : Nat) (M : FM) (w : WI Z hx N M) (z_a0 : Z a0) : pq (FX78_summary a0 M) (QA S Z hx N M) := wX78_summary_0 S Z hS a0 M w z_a0
def lX78_show : List Nat := []
theorem wX78_show_0 (S Z : Nat → Prop) {hx N : Nat} (hS : ∀ x, fe_mem lX78_show x = true → S x) (a0 : Nat) (M : FM) (w : WI Z hx N M) (z_a0 : Z a0) : pq (FX78_show_0 a0 M) (QA S Z hx N M) := by
  have hN := w.2.2.1
  have w0 := wk_r (S := S) w
  delta FX78_show_0 BX78_show_0
  refine pq_g (fun g1 => ?_)
  refine pq_g (fun g2 => ?_)
  refine pq_b (wX78_summary S Z (sb rfl hS) _ _ w0.1 z_a0) (fun r3 K4 => ?_)
  have w5 := wk_t w0 K4 hN
  exact pq_s w5
theorem wX78_show (S Z : Nat → Prop) {hx N : Nat} (hS : ∀ x, fe_mem lX78_show x = true → S x) (a0 : Nat) (M : FM) (w : WI Z hx N M) (z_a0 : Z a0) : pq (FX78_show a0 M) (QA S Z hx N M) := wX78_show_0 S Z hS a0 M w z_a0
def lX74_waiting : List Nat := []
theorem wX74_waiting_0 (S Z : Nat → Prop) {hx N : Nat} (hS : ∀ x, fe_mem lX74_waiting x = true → S x) (a0 : Nat) (M : FM) (w : WI Z hx N M) (z_a0 : Z a0) : pq (FX74_waiting_0 a0 M) (QA S Z hx N M) := by
  have hN := w.2.2.1
  have w0 := wk_r (S := S) w
  delta FX74_waiting_0 BX74_waiting_0
  refine pq_g (fun g1 => ?_)
  have z2 := wk_z (i := 0) (f := 31) w0 rfl z_a0
  refine pq_g (fun g3 => ?_)
  refine pq_b (wX79_show S Z (sb rfl hS) _ _ w0.1 z2) (fun r4 K5 => ?_)
  have w6 := wk_t w0 K5 hN
  refine pq_g (fun g7 => ?_)
  have z8 := wk_z (i := 0) (f := 30) w6 rfl z_a0
  refine pq_fi (fun _ => ?_) (fun _ => ?_)
  · refine pq_b (wX77_show S Z (sb rfl hS) _ _ w6.1 z8) (fun r9 K10 => ?_)
    have w11 := wk_t w6 K10 hN
    exact pq_s w11
  · refine pq_fi (fun _ => ?_) (fun _ => ?_)
    · refine pq_b (wX79_show S Z (sb rfl hS) _ _ w6.1 z8) (fun r12 K13 => ?_)
      have w14 := wk_t w6 K13 hN
      exact pq_s w14
    · refine pq_fi (fun _ => ?_) (fun _ => ?_)
      · refine pq_b (wX78_show S Z (sb rfl hS) _ _ w6.1 z8) (fun r15 K16 => ?_)
        have w17 := wk_t w6 K16 hN
        exact pq_s w17
      · refine pq_fi (fun _ => ?_) (fun _ => ?_)
        · refine pq_b (wX77_show S Z (sb rfl hS) _ _ w6.1 z8) (fun r18 K19 => ?_)
          have w20 := wk_t w6 K19 hN
          exact pq_s w20
        · exact pq_0
theorem wX74_waiting (S Z : Nat → Prop) {hx N : Nat} (hS : ∀ x, fe_mem lX74_waiting x = true → S x) (a0 : Nat) (M : FM) (w : WI Z hx N M) (z_a0 : Z a0) : pq (FX74_waiting a0 M) (QA S Z hx N M) := wX74_waiting_0 S Z hS a0 M w z_a0
def lX78_has : List Nat := []
theorem wX78_has_18 (S Z : Nat → Prop) {hx N : Nat} (hS : ∀ x, fe_mem lX78_has x = true → S x) (s0 : Int32) (M : FM) (w : WI Z hx N M) : pq (FX78_has_18 s0 M) (QA S Z hx N M) := by
  have hN := w.2.2.1
  have w0 := wk_r (S := S) w
  delta FX78_has_18 BX78_has_18
  refine pq_g (fun _ => ?_)
  exact pq_s w0
theorem wX78_has_0 (S Z : Nat → Prop) {hx N : Nat} (hS : ∀ x, fe_mem lX78_has x = true → S x) (a0 : Nat) (a1 : Int32) (M : FM) (w : WI Z hx N M) (z_a0 : Z a0) : pq (FX78_has_0 a0 a1 M) (QA S Z hx N M) := by
  have hN := w.2.2.1
  have w0 := wk_r (S := S) w
  delta FX78_has_0 BX78_has_0
  refine pq_g (fun g1 => ?_)
  refine pq_fi (fun _ => ?_) (fun _ => ?_)
  · exact q_tA hN w0 (wX78_has_18 S Z hS _ _ w0.1 )
  · exact q_tA hN w0 (wX78_has_18 S Z hS _ _ w0.1 )
theorem wX78_has (S Z : Nat → Prop) {hx N : Nat} (hS : ∀ x, fe_mem lX78_has x = true → S x) (a0 : Nat) (a1 : Int32) (M : FM) (w : WI Z hx N M) (z_a0 : Z a0) : pq (FX78_has a0 a1 M) (QA S Z hx N M) := wX78_has_0 S Z hS a0 a1 M w z_a0
def lX74_first : List Nat := []
theorem wX74_first_12 (S Z : Nat → Prop) {hx N : Nat} (hS : ∀ x, fe_mem lX74_first x = true → S x) (n : Nat) (k12 : Int64 → Nat → Int32 → Int32 → FM → Option (Int32 × FM)) (hk12 : ∀ (a1 : Int64) (a3 : Nat) (a4 : Int32) (a5 : Int32) (M : FM), WI Z hx N M → Z a3 → pq (k12 a1 a3 a4 a5 M) (QA S Z hx N M)) (a1 : Int64) (a3 : Nat) (a4 : Int32) (a5 : Int32) (M : FM) (w : WI Z hx N M) (z_a3 : Z a3) : pq (FX74_first_12 n k12 a1 a3 a4 a5 M) (QA S Z hx N M) := by
  have hN := w.2.2.1
  have w0 := wk_r (S := S) w
  delta FX74_first_12 BX74_first_12
  refine pq_fi (fun _ => ?_) (fun _ => ?_)
  · exact pq_s w0
  · refine pq_g (fun g1 => ?_)
    refine pq_fi (fun _ => ?_) (fun _ => ?_)
    · exact pq_s w0
    · exact q_tA hN w0 (hk12 _ _ _ _ _ w0.1 z_a3)
theorem wX74_first_0 (S Z : Nat → Prop) {hx N : Nat} (hS : ∀ x, fe_mem lX74_first x = true → S x) (n : Nat) (k12 : Int64 → Nat → Int32 → Int32 → FM → Option (Int32 × FM)) (hk12 : ∀ (a1 : Int64) (a3 : Nat) (a4 : Int32) (a5 : Int32) (M : FM), WI Z hx N M → Z a3 → pq (k12 a1 a3 a4 a5 M) (QA S Z hx N M)) (a0 : Nat) (a1 : Int64) (M : FM) (w : WI Z hx N M) (z_a0 : Z a0) : pq (FX74_first_0 n k12 a0 a1 M) (QA S Z hx N M) := by
  have hN := w.2.2.1
  have w0 := wk_r (S := S) w
  delta FX74_first_0 BX74_first_0
  refine pq_g (fun g1 => ?_)
  have z2 := wk_z (i := 0) (f := 24) w0 rfl z_a0
  have f3 := sS_24 w0.1.1 g1
  refine pq_g (fun g4 => ?_)
  exact q_tA hN w0 (hk12 _ _ _ _ _ w0.1 z2)
theorem wX74_first_L (S Z : Nat → Prop) {hx N : Nat} (hS : ∀ x, fe_mem lX74_first x = true → S x) (n : Nat) : ∀ j : Nat, ∀ (a1 : Int64) (a3 : Nat) (a4 : Int32) (a5 : Int32) (M : FM), WI Z hx N M → Z a3 → pq (FX74_first_L12 n j a1 a3 a4 a5 M) (QA S Z hx N M)
  | 0 => by intros; exact pq_0
  | j + 1 => fun a1 a3 a4 a5 M w => wX74_first_12 S Z hS n _ (wX74_first_L S Z hS n j) a1 a3 a4 a5 M w
theorem wX74_first (S Z : Nat → Prop) {hx N : Nat} (hS : ∀ x, fe_mem lX74_first x = true → S x) (n : Nat) (a0 : Nat) (a1 : Int64) (M : FM) (w : WI Z hx N M) (z_a0 : Z a0) : pq (FX74_first n a0 a1 M) (QA S Z hx N M) := wX74_first_0 S Z hS n _ (wX74_first_L S Z hS n n) a0 a1 M w z_a0
def lX74_taken : List Nat := []
theorem wX74_taken_115 (S Z : Nat → Prop) {hx N : Nat} (hS : ∀ x, fe_mem lX74_taken x = true → S x) (n : Nat) (s0 : Int32) (M : FM) (w : WI Z hx N M) : pq (FX74_taken_115 n s0 M) (QA S Z hx N M) := by
  have hN := w.2.2.1
  have w0 := wk_r (S := S) w
  delta FX74_taken_115 BX74_taken_115
  exact pq_s w0
theorem wX74_taken_100 (S Z : Nat → Prop) {hx N : Nat} (hS : ∀ x, fe_mem lX74_taken x = true → S x) (n : Nat) (a5 : Int32) (M : FM) (w : WI Z hx N M) : pq (FX74_taken_100 n a5 M) (QA S Z hx N M) := by
  have hN := w.2.2.1
  have w0 := wk_r (S := S) w
  delta FX74_taken_100 BX74_taken_100
  exact q_tA hN w0 (wX74_taken_115 S Z hS n _ _ w0.1 )
theorem wX74_taken_88 (S Z : Nat → Prop) {hx N : Nat} (hS : ∀ x, fe_mem lX74_taken x = true → S x) (n : Nat) (a0 : Nat) (a1 : Int64) (a4 : Int32) (s0 : Int32) (M : FM) (w : WI Z hx N M) (z_a0 : Z a0) : pq (FX74_taken_88 n a0 a1 a4 s0 M) (QA S Z hx N M) := by
  have hN := w.2.2.1
  have w0 := wk_r (S := S) w
  delta FX74_taken_88 BX74_taken_88
  refine pq_fi (fun _ => ?_) (fun _ => ?_)
  · exact q_tA hN w0 (wX74_taken_100 S Z hS n _ _ w0.1 )
  · refine pq_fi (fun _ => ?_) (fun _ => ?_)
    · exact q_tA hN w0 (wX74_taken_100 S Z hS n _ _ w0.1 )
    · refine pq_g (fun g1 => ?_)
      refine pq_b (wX74_waiting S Z (sb rfl hS) _ _ w0.1 z_a0) (fun r2 K3 => ?_)
      have w4 := wk_t w0 K3 hN
      refine pq_g (fun g5 => ?_)
      refine pq_b (wX74_first S Z (sb rfl hS) n _ _ _ w4.1 z_a0) (fun r6 K7 => ?_)
      have w8 := wk_t w4 K7 hN
      exact q_tA hN w8 (wX74_taken_115 S Z hS n _ _ w8.1 )
theorem wX74_taken_64 (S Z : Nat → Prop) {hx N : Nat} (hS : ∀ x, fe_mem lX74_taken x = true → S x) (n : Nat) (a0 : Nat) (a1 : Int64) (a3 : Int32) (s0 : Int32) (M : FM) (w : WI Z hx N M) (z_a0 : Z a0) : pq (FX74_taken_64 n a0 a1 a3 s0 M) (QA S Z hx N M) := by
  have hN := w.2.2.1
  have w0 := wk_r (S := S) w
  delta FX74_taken_64 BX74_taken_64
  refine pq_fi (fun _ => ?_) (fun _ => ?_)
  · exact q_tA hN w0 (wX74_taken_88 S Z hS n _ _ _ _ _ w0.1 z_a0)
  · refine pq_g (fun g1 => ?_)
    refine pq_b (wX74_waiting S Z (sb rfl hS) _ _ w0.1 z_a0) (fun r2 K3 => ?_)
    have w4 := wk_t w0 K3 hN
    refine pq_g (fun g5 => ?_)
    refine pq_b (wX74_first S Z (sb rfl hS) n _ _ _ w4.1 z_a0) (fun r6 K7 => ?_)
    have w8 := wk_t w4 K7 hN
    exact q_tA hN w8 (wX74_taken_88 S Z hS n _ _ _ _ _ w8.1 z_a0)
theorem wX74_taken_63 (S Z : Nat → Prop) {hx N : Nat} (hS : ∀ x, fe_mem lX74_taken x = true → S x) (n : Nat) (a0 : Nat) (a1 : Int64) (a3 : Int32) (M : FM) (w : WI Z hx N M) (z_a0 : Z a0) : pq (FX74_taken_63 n a0 a1 a3 M) (QA S Z hx N M) := by
  have hN := w.2.2.1
  have w0 := wk_r (S := S) w
  delta FX74_taken_63 BX74_taken_63
  exact q_tA hN w0 (wX74_taken_64 S Z hS n _ _ _ _ _ w0.1 z_a0)
theorem wX74_taken_59 (S Z : Nat → Prop) {hx N : Nat} (hS : ∀ x, fe_mem lX74_taken x = true → S x) (n : Nat) (a0 : Nat) (a1 : Int64) (a3 : Int32) (M : FM) (w : WI Z hx N M) (z_a0 : Z a0) : pq (FX74_taken_59 n a0 a1 a3 M) (QA S Z hx N M) := by
  have hN := w.2.2.1
  have w0 := wk_r (S := S) w
  delta FX74_taken_59 BX74_taken_59
  exact q_tA hN w0 (wX74_taken_64 S Z hS n _ _ _ _ _ w0.1 z_a0)
theorem wX74_taken_32 (S Z : Nat → Prop) {hx N : Nat} (hS : ∀ x, fe_mem lX74_taken x = true → S x) (n : Nat) (a0 : Nat) (a1 : Int64) (s0 : Int32) (M : FM) (w : WI Z hx N M) (z_a0 : Z a0) : pq (FX74_taken_32 n a0 a1 s0 M) (QA S Z hx N M) := by
  have hN := w.2.2.1
  have w0 := wk_r (S := S) w
  delta FX74_taken_32 BX74_taken_32
  refine pq_g (fun g1 => ?_)
  refine pq_fi (fun _ => ?_) (fun _ => ?_)
  · exact q_tA hN w0 (wX74_taken_59 S Z hS n _ _ _ _ w0.1 z_a0)
  · refine pq_g (fun g2 => ?_)
    refine pq_fi (fun _ => ?_) (fun _ => ?_)
    · refine pq_g (fun g3 => ?_)
      have z4 := wk_z (i := 0) (f := 27) w0 rfl z_a0
      refine pq_g (fun g5 => ?_)
      refine pq_b (wX78_has S Z (sb rfl hS) _ _ _ w0.1 z4) (fun r6 K7 => ?_)
      have w8 := wk_t w0 K7 hN
      refine pq_fi (fun _ => ?_) (fun _ => ?_)
      · exact q_tA hN w8 (wX74_taken_63 S Z hS n _ _ _ _ w8.1 z_a0)
      · exact q_tA hN w8 (wX74_taken_59 S Z hS n _ _ _ _ w8.1 z_a0)
    · exact q_tA hN w0 (wX74_taken_63 S Z hS n _ _ _ _ w0.1 z_a0)
theorem wX74_taken_27 (S Z : Nat → Prop) {hx N : Nat} (hS : ∀ x, fe_mem lX74_taken x = true → S x) (n : Nat) (a0 : Nat) (a1 : Int64) (M : FM) (w : WI Z hx N M) (z_a0 : Z a0) : pq (FX74_taken_27 n a0 a1 M) (QA S Z hx N M) := by
  have hN := w.2.2.1
  have w0 := wk_r (S := S) w
  delta FX74_taken_27 BX74_taken_27
  exact q_tA hN w0 (wX74_taken_32 S Z hS n _ _ _ _ w0.1 z_a0)
theorem wX74_taken_0 (S Z : Nat → Prop) {hx N : Nat} (hS : ∀ x, fe_mem lX74_taken x = true → S x) (n : Nat) (a0 : Nat) (M : FM) (w : WI Z hx N M) (z_a0 : Z a0) : pq (FX74_taken_0 n a0 M) (QA S Z hx N M) := by
  have hN := w.2.2.1
  have w0 := wk_r (S := S) w
  delta FX74_taken_0 BX74_taken_0
  refine pq_g (fun g1 => ?_)
  have z2 := wk_z (i := 0) (f := 29) w0 rfl z_a0
  refine pq_fi (fun _ => ?_) (fun _ => ?_)
  · refine pq_b (wX77_show S Z (sb rfl hS) _ _ w0.1 z2) (fun r3 K4 => ?_)
    have w5 := wk_t w0 K4 hN
    refine pq_g (fun g6 => ?_)
    refine pq_fi (fun _ => ?_) (fun _ => ?_)
    · refine pq_g (fun g7 => ?_)
      have z8 := wk_z (i := 0) (f := 27) w5 rfl z_a0
      refine pq_g (fun g9 => ?_)
      refine pq_b (wX78_has S Z (sb rfl hS) _ _ _ w5.1 z8) (fun r10 K11 => ?_)
      have w12 := wk_t w5 K11 hN
      refine pq_fi (fun _ => ?_) (fun _ => ?_)
      · exact q_tA hN w12 (wX74_taken_32 S Z hS n _ _ _ _ w12.1 z_a0)
      · exact q_tA hN w12 (wX74_taken_27 S Z hS n _ _ _ w12.1 z_a0)
    · exact q_tA hN w5 (wX74_taken_27 S Z hS n _ _ _ w5.1 z_a0)
  · refine pq_fi (fun _ => ?_) (fun _ => ?_)
    · refine pq_b (wX79_show S Z (sb rfl hS) _ _ w0.1 z2) (fun r13 K14 => ?_)
      have w15 := wk_t w0 K14 hN
      refine pq_g (fun g16 => ?_)
      refine pq_fi (fun _ => ?_) (fun _ => ?_)
      · refine pq_g (fun g17 => ?_)
        have z18 := wk_z (i := 0) (f := 27) w15 rfl z_a0
        refine pq_g (fun g19 => ?_)
        refine pq_b (wX78_has S Z (sb rfl hS) _ _ _ w15.1 z18) (fun r20 K21 => ?_)
        have w22 := wk_t w15 K21 hN
        refine pq_fi (fun _ => ?_) (fun _ => ?_)
        · exact q_tA hN w22 (wX74_taken_32 S Z hS n _ _ _ _ w22.1 z_a0)
        · exact q_tA hN w22 (wX74_taken_27 S Z hS n _ _ _ w22.1 z_a0)
      · exact q_tA hN w15 (wX74_taken_27 S Z hS n _ _ _ w15.1 z_a0)
    · refine pq_fi (fun _ => ?_) (fun _ => ?_)
      · refine pq_b (wX78_show S Z (sb rfl hS) _ _ w0.1 z2) (fun r23 K24 => ?_)
        have w25 := wk_t w0 K24 hN
        refine pq_g (fun g26 => ?_)
        refine pq_fi (fun _ => ?_) (fun _ => ?_)
        · refine pq_g (fun g27 => ?_)
          have z28 := wk_z (i := 0) (f := 27) w25 rfl z_a0
          refine pq_g (fun g29 => ?_)
          refine pq_b (wX78_has S Z (sb rfl hS) _ _ _ w25.1 z28) (fun r30 K31 => ?_)
          have w32 := wk_t w25 K31 hN
          refine pq_fi (fun _ => ?_) (fun _ => ?_)
          · exact q_tA hN w32 (wX74_taken_32 S Z hS n _ _ _ _ w32.1 z_a0)
          · exact q_tA hN w32 (wX74_taken_27 S Z hS n _ _ _ w32.1 z_a0)
        · exact q_tA hN w25 (wX74_taken_27 S Z hS n _ _ _ w25.1 z_a0)
      · refine pq_fi (fun _ => ?_) (fun _ => ?_)
        · refine pq_b (wX77_show S Z (sb rfl hS) _ _ w0.1 z2) (fun r33 K34 => ?_)
          have w35 := wk_t w0 K34 hN
          refine pq_g (fun g36 => ?_)
          refine pq_fi (fun _ => ?_) (fun _ => ?_)
          · refine pq_g (fun g37 => ?_)
            have z38 := wk_z (i := 0) (f := 27) w35 rfl z_a0
            refine pq_g (fun g39 => ?_)
            refine pq_b (wX78_has S Z (sb rfl hS) _ _ _ w35.1 z38) (fun r40 K41 => ?_)
            have w42 := wk_t w35 K41 hN
            refine pq_fi (fun _ => ?_) (fun _ => ?_)
            · exact q_tA hN w42 (wX74_taken_32 S Z hS n _ _ _ _ w42.1 z_a0)
            · exact q_tA hN w42 (wX74_taken_27 S Z hS n _ _ _ w42.1 z_a0)
          · exact q_tA hN w35 (wX74_taken_27 S Z hS n _ _ _ w35.1 z_a0)
        · exact pq_0
theorem wX74_taken (S Z : Nat → Prop) {hx N : Nat} (hS : ∀ x, fe_mem lX74_taken x = true → S x) (n : Nat) (a0 : Nat) (M : FM) (w : WI Z hx N M) (z_a0 : Z a0) : pq (FX74_taken n a0 M) (QA S Z hx N M) := wX74_taken_0 S Z hS n a0 M w z_a0
def lX46_counter : List Nat := []
theorem wX46_counter_0 (S Z : Nat → Prop) {hx N : Nat} (hS : ∀ x, fe_mem lX46_counter x = true → S x) (a0 : Nat) (M : FM) (w : WI Z hx N M) (z_a0 : Z a0) : pq (FX46_counter_0 a0 M) (QA S Z hx N M) := by
  have hN := w.2.2.1
  have w0 := wk_r (S := S) w
  delta FX46_counter_0 BX46_counter_0
  refine pq_g (fun g1 => ?_)
  have z2 := wk_z (i := 0) (f := 211) w0 rfl z_a0
  refine pq_g (fun g3 => ?_)
  have z4 := wk_z (i := 0) (f := 171) w0 rfl z2
  refine pq_g (fun g5 => ?_)
  exact pq_s w0
theorem wX46_counter (S Z : Nat → Prop) {hx N : Nat} (hS : ∀ x, fe_mem lX46_counter x = true → S x) (a0 : Nat) (M : FM) (w : WI Z hx N M) (z_a0 : Z a0) : pq (FX46_counter a0 M) (QA S Z hx N M) := wX46_counter_0 S Z hS a0 M w z_a0
def lX102_bits : List Nat := []
theorem wX102_bits_0 (S Z : Nat → Prop) {hx N : Nat} (hS : ∀ x, fe_mem lX102_bits x = true → S x) (a0 : Int64) (a2 : Int32) (a3 : Int32) (M : FM) (w : WI Z hx N M) : pq (FX102_bits_0 a0 a2 a3 M) (QA S Z hx N M) := by
  have hN := w.2.2.1
  have w0 := wk_r (S := S) w
  delta FX102_bits_0 BX102_bits_0
  exact pq_s w0
theorem wX102_bits (S Z : Nat → Prop) {hx N : Nat} (hS : ∀ x, fe_mem lX102_bits x = true → S x) (a0 : Int64) (a2 : Int32) (a3 : Int32) (M : FM) (w : WI Z hx N M) : pq (FX102_bits a0 a2 a3 M) (QA S Z hx N M) := wX102_bits_0 S Z hS a0 a2 a3 M w 
def lX84_fault : List Nat := []
theorem wX84_fault_0 (S Z : Nat → Prop) {hx N : Nat} (hS : ∀ x, fe_mem lX84_fault x = true → S x) (a0 : Nat) (a1 : Int32) (a2 : Int32) (M : FM) (w : WI Z hx N M) (z_a0 : Z a0) : pq (FX84_fault_0 a0 a1 a2 M) (QA S Z hx N M) := by
  have hN := w.2.2.1
  have w0 := wk_r (S := S) w
  delta FX84_fault_0 BX84_fault_0
  refine pq_g (fun g1 => ?_)
  have z2 := wk_z (i := 0) (f := 286) w0 rfl z_a0
  have f3 := sS_286 w0.1.1 g1
  refine pq_g (fun g4 => ?_)
  have z5 := fun i => wk_ze (i := i) w0 rfl g4.1 f3 rfl z2
  refine pq_g (fun g6 => ?_)
  exact pq_s w0
theorem wX84_fault (S Z : Nat → Prop) {hx N : Nat} (hS : ∀ x, fe_mem lX84_fault x = true → S x) (a0 : Nat) (a1 : Int32) (a2 : Int32) (M : FM) (w : WI Z hx N M) (z_a0 : Z a0) : pq (FX84_fault a0 a1 a2 M) (QA S Z hx N M) := wX84_fault_0 S Z hS a0 a1 a2 M w z_a0
def lX85_writes : List Nat := []
theorem wX85_writes_0 (S Z : Nat → Prop) {hx N : Nat} (hS : ∀ x, fe_mem lX85_writes x = true → S x) (a0 : Nat) (a1 : Int64) (M : FM) (w : WI Z hx N M) (z_a0 : Z a0) : pq (FX85_writes_0 a0 a1 M) (QA S Z hx N M) := by
  have hN := w.2.2.1
  have w0 := wk_r (S := S) w
  delta FX85_writes_0 BX85_writes_0
  refine pq_g (fun g1 => ?_)
  have z2 := wk_z (i := 0) (f := 247) w0 rfl z_a0
  refine pq_g (fun g3 => ?_)
  have z4 := wk_z (i := 0) (f := 204) w0 rfl z2
  have f5 := sS_204 w0.1.1 g3
  refine pq_b (wX11_pageOf S Z (sb rfl hS) _ _ w0.1 ) (fun r6 K7 => ?_)
  have w8 := wk_t w0 K7 hN
  have f9 := sf_k w0.1.1 K7 f5
  refine pq_g (fun g10 => ?_)
  exact pq_s w8
theorem wX85_writes (S Z : Nat → Prop) {hx N : Nat} (hS : ∀ x, fe_mem lX85_writes x = true → S x) (a0 : Nat) (a1 : Int64) (M : FM) (w : WI Z hx N M) (z_a0 : Z a0) : pq (FX85_writes a0 a1 M) (QA S Z hx N M) := wX85_writes_0 S Z hS a0 a1 M w z_a0
def lX88_holds : List Nat := []
theorem wX88_holds_2 (S Z : Nat → Prop) {hx N : Nat} (hS : ∀ x, fe_mem lX88_holds x = true → S x) (n : Nat) (k2 : Nat → Nat → Int32 → FM → Option (Int32 × FM)) (hk2 : ∀ (a0 : Nat) (a1 : Nat) (a2 : Int32) (M : FM), WI Z hx N M → Z a0 → Z a1 → pq (k2 a0 a1 a2 M) (QA S Z hx N M)) (a0 : Nat) (a1 : Nat) (a2 : Int32) (M : FM) (w : WI Z hx N M) (z_a0 : Z a0) (z_a1 : Z a1) : pq (FX88_holds_2 n k2 a0 a1 a2 M) (QA S Z hx N M) := by
  have hN := w.2.2.1
  have w0 := wk_r (S := S) w
  delta FX88_holds_2 BX88_holds_2
  refine pq_g (fun g1 => ?_)
  refine pq_fi (fun _ => ?_) (fun _ => ?_)
  · refine pq_g (fun _ => ?_)
    exact pq_s w0
  · refine pq_g (fun g2 => ?_)
    have z3 := wk_z (i := 0) (f := 278) w0 rfl z_a0
    have f4 := sS_278 w0.1.1 g2
    refine pq_g (fun g5 => ?_)
    refine pq_fi (fun _ => ?_) (fun _ => ?_)
    · refine pq_b (wX85_writes S Z (sb rfl hS) _ _ _ w0.1 z_a1) (fun r6 K7 => ?_)
      have w8 := wk_t w0 K7 hN
      refine pq_g (fun g9 => ?_)
      have z10 := wk_z (i := 0) (f := 279) w8 rfl z_a0
      have f11 := sS_279 w8.1.1 g9
      refine pq_g (fun g12 => ?_)
      refine pq_fi (fun _ => ?_) (fun _ => ?_)
      · exact q_tA hN w8 (hk2 _ _ _ _ w8.1 z_a0 z_a1)
      · refine pq_g (fun _ => ?_)
        exact pq_s w8
    · exact pq_0
theorem wX88_holds_0 (S Z : Nat → Prop) {hx N : Nat} (hS : ∀ x, fe_mem lX88_holds x = true → S x) (n : Nat) (k2 : Nat → Nat → Int32 → FM → Option (Int32 × FM)) (hk2 : ∀ (a0 : Nat) (a1 : Nat) (a2 : Int32) (M : FM), WI Z hx N M → Z a0 → Z a1 → pq (k2 a0 a1 a2 M) (QA S Z hx N M)) (a0 : Nat) (a1 : Nat) (M : FM) (w : WI Z hx N M) (z_a0 : Z a0) (z_a1 : Z a1) : pq (FX88_holds_0 n k2 a0 a1 M) (QA S Z hx N M) := by
  have hN := w.2.2.1
  have w0 := wk_r (S := S) w
  delta FX88_holds_0 BX88_holds_0
  exact q_tA hN w0 (hk2 _ _ _ _ w0.1 z_a0 z_a1)
theorem wX88_holds_L (S Z : Nat → Prop) {hx N : Nat} (hS : ∀ x, fe_mem lX88_holds x = true → S x) (n : Nat) : ∀ j : Nat, ∀ (a0 : Nat) (a1 : Nat) (a2 : Int32) (M : FM), WI Z hx N M → Z a0 → Z a1 → pq (FX88_holds_L2 n j a0 a1 a2 M) (QA S Z hx N M)
  | 0 => by intros; exact pq_0
  | j + 1 => fun a0 a1 a2 M w => wX88_holds_2 S Z hS n _ (wX88_holds_L S Z hS n j) a0 a1 a2 M w
theorem wX88_holds (S Z : Nat → Prop) {hx N : Nat} (hS : ∀ x, fe_mem lX88_holds x = true → S x) (n : Nat) (a0 : Nat) (a1 : Nat) (M : FM) (w : WI Z hx N M) (z_a0 : Z a0) (z_a1 : Z a1) : pq (FX88_holds n a0 a1 M) (QA S Z hx N M) := wX88_holds_0 S Z hS n _ (wX88_holds_L S Z hS n n) a0 a1 M w z_a0 z_a1
def lX85_has : List Nat := []
theorem wX85_has_29 (S Z : Nat → Prop) {hx N : Nat} (hS : ∀ x, fe_mem lX85_has x = true → S x) (s0 : Int32) (M : FM) (w : WI Z hx N M) : pq (FX85_has_29 s0 M) (QA S Z hx N M) := by
  have hN := w.2.2.1
  have w0 := wk_r (S := S) w
  delta FX85_has_29 BX85_has_29
  refine pq_g (fun _ => ?_)
  exact pq_s w0
theorem wX85_has_28 (S Z : Nat → Prop) {hx N : Nat} (hS : ∀ x, fe_mem lX85_has x = true → S x) (M : FM) (w : WI Z hx N M) : pq (FX85_has_28 M) (QA S Z hx N M) := by
  have hN := w.2.2.1
  have w0 := wk_r (S := S) w
  delta FX85_has_28 BX85_has_28
  exact q_tA hN w0 (wX85_has_29 S Z hS _ _ w0.1 )
theorem wX85_has_0 (S Z : Nat → Prop) {hx N : Nat} (hS : ∀ x, fe_mem lX85_has x = true → S x) (a0 : Nat) (a1 : Int64) (M : FM) (w : WI Z hx N M) (z_a0 : Z a0) : pq (FX85_has_0 a0 a1 M) (QA S Z hx N M) := by
  have hN := w.2.2.1
  have w0 := wk_r (S := S) w
  delta FX85_has_0 BX85_has_0
  refine pq_fi (fun _ => ?_) (fun _ => ?_)
  · refine pq_g (fun g1 => ?_)
    have z2 := wk_z (i := 0) (f := 247) w0 rfl z_a0
    refine pq_g (fun g3 => ?_)
    refine pq_b (wX11_has S Z (sb rfl hS) _ _ _ _ w0.1 z2) (fun r4 K5 => ?_)
    have w6 := wk_t w0 K5 hN
    refine pq_fi (fun _ => ?_) (fun _ => ?_)
    · exact q_tA hN w6 (wX85_has_28 S Z hS _ w6.1 )
    · exact q_tA hN w6 (wX85_has_29 S Z hS _ _ w6.1 )
  · exact q_tA hN w0 (wX85_has_28 S Z hS _ w0.1 )
theorem wX85_has (S Z : Nat → Prop) {hx N : Nat} (hS : ∀ x, fe_mem lX85_has x = true → S x) (a0 : Nat) (a1 : Int64) (M : FM) (w : WI Z hx N M) (z_a0 : Z a0) : pq (FX85_has a0 a1 M) (QA S Z hx N M) := wX85_has_0 S Z hS a0 a1 M w z_a0
def lX87_touches : List Nat := []
theorem wX87_touches_38 (S Z : Nat → Prop) {hx N : Nat} (hS : ∀ x, fe_mem lX87_touches x = true → S x) (s0 : Int32) (M : FM) (w : WI Z hx N M) : pq (FX87_touches_38 s0 M) (QA S Z hx N M) := by
  have hN := w.2.2.1
  have w0 := wk_r (S := S) w
  delta FX87_touches_38 BX87_touches_38
  refine pq_g (fun _ => ?_)
  exact pq_s w0
theorem wX87_touches_37 (S Z : Nat → Prop) {hx N : Nat} (hS : ∀ x, fe_mem lX87_touches x = true → S x) (M : FM) (w : WI Z hx N M) : pq (FX87_touches_37 M) (QA S Z hx N M) := by
  have hN := w.2.2.1
  have w0 := wk_r (S := S) w
  delta FX87_touches_37 BX87_touches_37
  exact q_tA hN w0 (wX87_touches_38 S Z hS _ _ w0.1 )
theorem wX87_touches_0 (S Z : Nat → Prop) {hx N : Nat} (hS : ∀ x, fe_mem lX87_touches x = true → S x) (a0 : Nat) (a1 : Int64) (a3 : Int32) (M : FM) (w : WI Z hx N M) (z_a0 : Z a0) : pq (FX87_touches_0 a0 a1 a3 M) (QA S Z hx N M) := by
  have hN := w.2.2.1
  have w0 := wk_r (S := S) w
  delta FX87_touches_0 BX87_touches_0
  refine pq_g (fun g1 => ?_)
  refine pq_g (fun g2 => ?_)
  refine pq_fi (fun _ => ?_) (fun _ => ?_)
  · exact q_tA hN w0 (wX87_touches_37 S Z hS _ w0.1 )
  · refine pq_g (fun g3 => ?_)
    refine pq_fi (fun _ => ?_) (fun _ => ?_)
    · exact q_tA hN w0 (wX87_touches_37 S Z hS _ w0.1 )
    · refine pq_g (fun g4 => ?_)
      refine pq_fi (fun _ => ?_) (fun _ => ?_)
      · exact q_tA hN w0 (wX87_touches_37 S Z hS _ w0.1 )
      · exact q_tA hN w0 (wX87_touches_38 S Z hS _ _ w0.1 )
theorem wX87_touches (S Z : Nat → Prop) {hx N : Nat} (hS : ∀ x, fe_mem lX87_touches x = true → S x) (a0 : Nat) (a1 : Int64) (a3 : Int32) (M : FM) (w : WI Z hx N M) (z_a0 : Z a0) : pq (FX87_touches a0 a1 a3 M) (QA S Z hx N M) := wX87_touches_0 S Z hS a0 a1 a3 M w z_a0
def lX87_isLocked : List Nat := []
theorem wX87_isLocked_16 (S Z : Nat → Prop) {hx N : Nat} (hS : ∀ x, fe_mem lX87_isLocked x = true → S x) (s0 : Int32) (M : FM) (w : WI Z hx N M) : pq (FX87_isLocked_16 s0 M) (QA S Z hx N M) := by
  have hN := w.2.2.1
  have w0 := wk_r (S := S) w
  delta FX87_isLocked_16 BX87_isLocked_16
  refine pq_g (fun _ => ?_)
  exact pq_s w0
theorem wX87_isLocked_0 (S Z : Nat → Prop) {hx N : Nat} (hS : ∀ x, fe_mem lX87_isLocked x = true → S x) (a0 : Nat) (M : FM) (w : WI Z hx N M) (z_a0 : Z a0) : pq (FX87_isLocked_0 a0 M) (QA S Z hx N M) := by
  have hN := w.2.2.1
  have w0 := wk_r (S := S) w
  delta FX87_isLocked_0 BX87_isLocked_0
  refine pq_g (fun g1 => ?_)
  refine pq_fi (fun _ => ?_) (fun _ => ?_)
  · exact q_tA hN w0 (wX87_isLocked_16 S Z hS _ _ w0.1 )
  · exact q_tA hN w0 (wX87_isLocked_16 S Z hS _ _ w0.1 )
theorem wX87_isLocked (S Z : Nat → Prop) {hx N : Nat} (hS : ∀ x, fe_mem lX87_isLocked x = true → S x) (a0 : Nat) (M : FM) (w : WI Z hx N M) (z_a0 : Z a0) : pq (FX87_isLocked a0 M) (QA S Z hx N M) := wX87_isLocked_0 S Z hS a0 M w z_a0
def lX87_lets : List Nat := []
theorem wX87_lets_83 (S Z : Nat → Prop) {hx N : Nat} (hS : ∀ x, fe_mem lX87_lets x = true → S x) (s0 : Int32) (M : FM) (w : WI Z hx N M) : pq (FX87_lets_83 s0 M) (QA S Z hx N M) := by
  have hN := w.2.2.1
  have w0 := wk_r (S := S) w
  delta FX87_lets_83 BX87_lets_83
  refine pq_g (fun _ => ?_)
  exact pq_s w0
theorem wX87_lets_82 (S Z : Nat → Prop) {hx N : Nat} (hS : ∀ x, fe_mem lX87_lets x = true → S x) (M : FM) (w : WI Z hx N M) : pq (FX87_lets_82 M) (QA S Z hx N M) := by
  have hN := w.2.2.1
  have w0 := wk_r (S := S) w
  delta FX87_lets_82 BX87_lets_82
  exact q_tA hN w0 (wX87_lets_83 S Z hS _ _ w0.1 )
theorem wX87_lets_78 (S Z : Nat → Prop) {hx N : Nat} (hS : ∀ x, fe_mem lX87_lets x = true → S x) (M : FM) (w : WI Z hx N M) : pq (FX87_lets_78 M) (QA S Z hx N M) := by
  have hN := w.2.2.1
  have w0 := wk_r (S := S) w
  delta FX87_lets_78 BX87_lets_78
  exact q_tA hN w0 (wX87_lets_83 S Z hS _ _ w0.1 )
theorem wX87_lets_68 (S Z : Nat → Prop) {hx N : Nat} (hS : ∀ x, fe_mem lX87_lets x = true → S x) (a0 : Nat) (a7 : Int32) (M : FM) (w : WI Z hx N M) (z_a0 : Z a0) : pq (FX87_lets_68 a0 a7 M) (QA S Z hx N M) := by
  have hN := w.2.2.1
  have w0 := wk_r (S := S) w
  delta FX87_lets_68 BX87_lets_68
  refine pq_g (fun g1 => ?_)
  refine pq_fi (fun _ => ?_) (fun _ => ?_)
  · exact q_tA hN w0 (wX87_lets_82 S Z hS _ w0.1 )
  · exact q_tA hN w0 (wX87_lets_78 S Z hS _ w0.1 )
theorem wX87_lets_48 (S Z : Nat → Prop) {hx N : Nat} (hS : ∀ x, fe_mem lX87_lets x = true → S x) (a0 : Nat) (a5 : Int32) (a6 : Int32) (s0 : Int32) (M : FM) (w : WI Z hx N M) (z_a0 : Z a0) : pq (FX87_lets_48 a0 a5 a6 s0 M) (QA S Z hx N M) := by
  have hN := w.2.2.1
  have w0 := wk_r (S := S) w
  delta FX87_lets_48 BX87_lets_48
  refine pq_fi (fun _ => ?_) (fun _ => ?_)
  · exact q_tA hN w0 (wX87_lets_82 S Z hS _ w0.1 )
  · refine pq_fi (fun _ => ?_) (fun _ => ?_)
    · refine pq_g (fun g1 => ?_)
      refine pq_b (wX87_isLocked S Z (sb rfl hS) _ _ w0.1 z_a0) (fun r2 K3 => ?_)
      have w4 := wk_t w0 K3 hN
      refine pq_fi (fun _ => ?_) (fun _ => ?_)
      · exact q_tA hN w4 (wX87_lets_78 S Z hS _ w4.1 )
      · exact q_tA hN w4 (wX87_lets_68 S Z hS _ _ _ w4.1 z_a0)
    · exact q_tA hN w0 (wX87_lets_68 S Z hS _ _ _ w0.1 z_a0)
theorem wX87_lets_26 (S Z : Nat → Prop) {hx N : Nat} (hS : ∀ x, fe_mem lX87_lets x = true → S x) (a0 : Nat) (a4 : Int32) (a5 : Int32) (s0 : Int32) (M : FM) (w : WI Z hx N M) (z_a0 : Z a0) : pq (FX87_lets_26 a0 a4 a5 s0 M) (QA S Z hx N M) := by
  have hN := w.2.2.1
  have w0 := wk_r (S := S) w
  delta FX87_lets_26 BX87_lets_26
  refine pq_fi (fun _ => ?_) (fun _ => ?_)
  · exact q_tA hN w0 (wX87_lets_48 S Z hS _ _ _ _ _ w0.1 z_a0)
  · refine pq_fi (fun _ => ?_) (fun _ => ?_)
    · exact q_tA hN w0 (wX87_lets_48 S Z hS _ _ _ _ _ w0.1 z_a0)
    · exact q_tA hN w0 (wX87_lets_48 S Z hS _ _ _ _ _ w0.1 z_a0)
theorem wX87_lets_25 (S Z : Nat → Prop) {hx N : Nat} (hS : ∀ x, fe_mem lX87_lets x = true → S x) (a0 : Nat) (a4 : Int32) (a5 : Int32) (M : FM) (w : WI Z hx N M) (z_a0 : Z a0) : pq (FX87_lets_25 a0 a4 a5 M) (QA S Z hx N M) := by
  have hN := w.2.2.1
  have w0 := wk_r (S := S) w
  delta FX87_lets_25 BX87_lets_25
  exact q_tA hN w0 (wX87_lets_26 S Z hS _ _ _ _ _ w0.1 z_a0)
theorem wX87_lets_0 (S Z : Nat → Prop) {hx N : Nat} (hS : ∀ x, fe_mem lX87_lets x = true → S x) (a0 : Nat) (a1 : Int64) (a3 : Int32) (a4 : Int32) (a5 : Int32) (M : FM) (w : WI Z hx N M) (z_a0 : Z a0) : pq (FX87_lets_0 a0 a1 a3 a4 a5 M) (QA S Z hx N M) := by
  have hN := w.2.2.1
  have w0 := wk_r (S := S) w
  delta FX87_lets_0 BX87_lets_0
  refine pq_g (fun g1 => ?_)
  refine pq_fi (fun _ => ?_) (fun _ => ?_)
  · exact q_tA hN w0 (wX87_lets_25 S Z hS _ _ _ _ w0.1 z_a0)
  · refine pq_g (fun g2 => ?_)
    refine pq_fi (fun _ => ?_) (fun _ => ?_)
    · exact q_tA hN w0 (wX87_lets_25 S Z hS _ _ _ _ w0.1 z_a0)
    · exact q_tA hN w0 (wX87_lets_26 S Z hS _ _ _ _ _ w0.1 z_a0)
theorem wX87_lets (S Z : Nat → Prop) {hx N : Nat} (hS : ∀ x, fe_mem lX87_lets x = true → S x) (a0 : Nat) (a1 : Int64) (a3 : Int32) (a4 : Int32) (a5 : Int32) (M : FM) (w : WI Z hx N M) (z_a0 : Z a0) : pq (FX87_lets a0 a1 a3 a4 a5 M) (QA S Z hx N M) := wX87_lets_0 S Z hS a0 a1 a3 a4 a5 M w z_a0
def lX86_let : List Nat := []
theorem wX86_let_67 (S Z : Nat → Prop) {hx N : Nat} (hS : ∀ x, fe_mem lX86_let x = true → S x) (n : Nat) (k14 : Int64 → Int32 → Int32 → Int32 → Nat → Int32 → Int32 → FM → Option (Int32 × FM)) (hk14 : ∀ (a1 : Int64) (a3 : Int32) (a4 : Int32) (a5 : Int32) (a6 : Nat) (a7 : Int32) (a8 : Int32) (M : FM), WI Z hx N M → Z a6 → Sf M a6 284 → pq (k14 a1 a3 a4 a5 a6 a7 a8 M) (QA S Z hx N M)) (s0 : Int32) (M : FM) (w : WI Z hx N M) : pq (FX86_let_67 n k14 s0 M) (QA S Z hx N M) := by
  have hN := w.2.2.1
  have w0 := wk_r (S := S) w
  delta FX86_let_67 BX86_let_67
  refine pq_g (fun _ => ?_)
  exact pq_s w0
theorem wX86_let_14 (S Z : Nat → Prop) {hx N : Nat} (hS : ∀ x, fe_mem lX86_let x = true → S x) (n : Nat) (k14 : Int64 → Int32 → Int32 → Int32 → Nat → Int32 → Int32 → FM → Option (Int32 × FM)) (hk14 : ∀ (a1 : Int64) (a3 : Int32) (a4 : Int32) (a5 : Int32) (a6 : Nat) (a7 : Int32) (a8 : Int32) (M : FM), WI Z hx N M → Z a6 → Sf M a6 284 → pq (k14 a1 a3 a4 a5 a6 a7 a8 M) (QA S Z hx N M)) (a1 : Int64) (a3 : Int32) (a4 : Int32) (a5 : Int32) (a6 : Nat) (a7 : Int32) (a8 : Int32) (M : FM) (w : WI Z hx N M) (z_a6 : Z a6) (s_a6 : Sf M a6 284) : pq (FX86_let_14 n k14 a1 a3 a4 a5 a6 a7 a8 M) (QA S Z hx N M) := by
  have hN := w.2.2.1
  have w0 := wk_r (S := S) w
  delta FX86_let_14 BX86_let_14
  refine pq_fi (fun _ => ?_) (fun _ => ?_)
  · refine pq_fi (fun _ => ?_) (fun _ => ?_)
    · exact q_tA hN w0 (wX86_let_67 S Z hS n _ hk14 _ _ w0.1 )
    · exact q_tA hN w0 (wX86_let_67 S Z hS n _ hk14 _ _ w0.1 )
  · refine pq_g (fun g1 => ?_)
    have z2 := fun i => wk_ze (i := i) w0 rfl g1.1 s_a6 rfl z_a6
    refine pq_g (fun g3 => ?_)
    refine pq_b (wX87_touches S Z (sb rfl hS) _ _ _ _ w0.1 (z2 _)) (fun r4 K5 => ?_)
    have w6 := wk_t w0 K5 hN
    have f7 := sf_k w0.1.1 K5 s_a6
    refine pq_fi (fun _ => ?_) (fun _ => ?_)
    · exact q_tA hN w6 (hk14 _ _ _ _ _ _ _ _ w6.1 z_a6 f7)
    · refine pq_g (fun g8 => ?_)
      refine pq_b (wX87_lets S Z (sb rfl hS) _ _ _ _ _ _ w6.1 (z2 _)) (fun r9 K10 => ?_)
      have w11 := wk_t w6 K10 hN
      have f12 := sf_k w6.1.1 K10 f7
      refine pq_g (fun _ => ?_)
      exact pq_s w11
theorem wX86_let_0 (S Z : Nat → Prop) {hx N : Nat} (hS : ∀ x, fe_mem lX86_let x = true → S x) (n : Nat) (k14 : Int64 → Int32 → Int32 → Int32 → Nat → Int32 → Int32 → FM → Option (Int32 × FM)) (hk14 : ∀ (a1 : Int64) (a3 : Int32) (a4 : Int32) (a5 : Int32) (a6 : Nat) (a7 : Int32) (a8 : Int32) (M : FM), WI Z hx N M → Z a6 → Sf M a6 284 → pq (k14 a1 a3 a4 a5 a6 a7 a8 M) (QA S Z hx N M)) (a0 : Nat) (a1 : Int64) (a3 : Int32) (a4 : Int32) (a5 : Int32) (M : FM) (w : WI Z hx N M) (z_a0 : Z a0) : pq (FX86_let_0 n k14 a0 a1 a3 a4 a5 M) (QA S Z hx N M) := by
  have hN := w.2.2.1
  have w0 := wk_r (S := S) w
  delta FX86_let_0 BX86_let_0
  refine pq_g (fun g1 => ?_)
  have z2 := wk_z (i := 0) (f := 284) w0 rfl z_a0
  have f3 := sS_284 w0.1.1 g1
  refine pq_g (fun g4 => ?_)
  exact q_tA hN w0 (hk14 _ _ _ _ _ _ _ _ w0.1 z2 f3)
theorem wX86_let_L (S Z : Nat → Prop) {hx N : Nat} (hS : ∀ x, fe_mem lX86_let x = true → S x) (n : Nat) : ∀ j : Nat, ∀ (a1 : Int64) (a3 : Int32) (a4 : Int32) (a5 : Int32) (a6 : Nat) (a7 : Int32) (a8 : Int32) (M : FM), WI Z hx N M → Z a6 → Sf M a6 284 → pq (FX86_let_L14 n j a1 a3 a4 a5 a6 a7 a8 M) (QA S Z hx N M)
  | 0 => by intros; exact pq_0
  | j + 1 => fun a1 a3 a4 a5 a6 a7 a8 M w => wX86_let_14 S Z hS n _ (wX86_let_L S Z hS n j) a1 a3 a4 a5 a6 a7 a8 M w
theorem wX86_let (S Z : Nat → Prop) {hx N : Nat} (hS : ∀ x, fe_mem lX86_let x = true → S x) (n : Nat) (a0 : Nat) (a1 : Int64) (a3 : Int32) (a4 : Int32) (a5 : Int32) (M : FM) (w : WI Z hx N M) (z_a0 : Z a0) : pq (FX86_let n a0 a1 a3 a4 a5 M) (QA S Z hx N M) := wX86_let_0 S Z hS n _ (wX86_let_L S Z hS n n) a0 a1 a3 a4 a5 M w z_a0
def lX91_get : List Nat := []
theorem wX91_get_55 (S Z : Nat → Prop) {hx N : Nat} (hS : ∀ x, fe_mem lX91_get x = true → S x) (a2 : Int32) (a5 : Int64) (M : FM) (w : WI Z hx N M) : pq (FX91_get_55 a2 a5 M) (QA S Z hx N M) := by
  have hN := w.2.2.1
  have w0 := wk_r (S := S) w
  delta FX91_get_55 BX91_get_55
  refine pq_b (wX91_mask S Z (sb rfl hS) _ _ w0.1 ) (fun r1 K2 => ?_)
  have w3 := wk_t w0 K2 hN
  exact pq_s w3
theorem wX91_get_0 (S Z : Nat → Prop) {hx N : Nat} (hS : ∀ x, fe_mem lX91_get x = true → S x) (a0 : Nat) (a1 : Int32) (a2 : Int32) (M : FM) (w : WI Z hx N M) (z_a0 : Z a0) : pq (FX91_get_0 a0 a1 a2 M) (QA S Z hx N M) := by
  have hN := w.2.2.1
  have w0 := wk_r (S := S) w
  delta FX91_get_0 BX91_get_0
  refine pq_g (fun g1 => ?_)
  have z2 := wk_z (i := 0) (f := 201) w0 rfl z_a0
  have f3 := sS_201 w0.1.1 g1
  refine pq_g (fun g4 => ?_)
  refine pq_fi (fun _ => ?_) (fun _ => ?_)
  · exact q_tA hN w0 (wX91_get_55 S Z hS _ _ _ w0.1 )
  · refine pq_g (fun g5 => ?_)
    have z6 := wk_z (i := 0) (f := 201) w0 rfl z_a0
    have f7 := sS_201 w0.1.1 g5
    refine pq_g (fun g8 => ?_)
    exact q_tA hN w0 (wX91_get_55 S Z hS _ _ _ w0.1 )
theorem wX91_get (S Z : Nat → Prop) {hx N : Nat} (hS : ∀ x, fe_mem lX91_get x = true → S x) (a0 : Nat) (a1 : Int32) (a2 : Int32) (M : FM) (w : WI Z hx N M) (z_a0 : Z a0) : pq (FX91_get a0 a1 a2 M) (QA S Z hx N M) := wX91_get_0 S Z hS a0 a1 a2 M w z_a0
def lX11_load : List Nat := []
theorem wX11_load_100 (S Z : Nat → Prop) {hx N : Nat} (hS : ∀ x, fe_mem lX11_load x = true → S x) (s0 : Int64) (M : FM) (w : WI Z hx N M) : pq (FX11_load_100 s0 M) (QA S Z hx N M) := by
  have hN := w.2.2.1
  have w0 := wk_r (S := S) w
  delta FX11_load_100 BX11_load_100
  exact pq_s w0
theorem wX11_load_47 (S Z : Nat → Prop) {hx N : Nat} (hS : ∀ x, fe_mem lX11_load x = true → S x) (a0 : Nat) (a1 : Int64) (a3 : Int32) (a5 : Int32) (s0 : Int64) (M : FM) (w : WI Z hx N M) (z_a0 : Z a0) : pq (FX11_load_47 a0 a1 a3 a5 s0 M) (QA S Z hx N M) := by
  have hN := w.2.2.1
  have w0 := wk_r (S := S) w
  delta FX11_load_47 BX11_load_47
  refine pq_fi (fun _ => ?_) (fun _ => ?_)
  · exact pq_s w0
  · refine pq_g (fun g1 => ?_)
    have z2 := wk_z (i := 0) (f := 203) w0 rfl z_a0
    have f3 := sS_203 w0.1.1 g1
    refine pq_b (wX11_pageOf S Z (sb rfl hS) _ _ w0.1 ) (fun r4 K5 => ?_)
    have w6 := wk_t w0 K5 hN
    have f7 := sf_k w0.1.1 K5 f3
    refine pq_g (fun g8 => ?_)
    have z9 := fun i => wk_ze (i := i) w6 rfl g8.1 f7 rfl z2
    refine pq_fi (fun _ => ?_) (fun _ => ?_)
    · exact q_tA hN w6 (wX11_load_100 S Z hS _ _ w6.1 )
    · refine pq_g (fun g10 => ?_)
      refine pq_b (wX91_get S Z (sb rfl hS) _ _ _ _ w6.1 (z9 _)) (fun r11 K12 => ?_)
      have w13 := wk_t w6 K12 hN
      exact q_tA hN w13 (wX11_load_100 S Z hS _ _ w13.1 )
theorem wX11_load_0 (S Z : Nat → Prop) {hx N : Nat} (hS : ∀ x, fe_mem lX11_load x = true → S x) (a0 : Nat) (a1 : Int64) (a3 : Int32) (M : FM) (w : WI Z hx N M) (z_a0 : Z a0) : pq (FX11_load_0 a0 a1 a3 M) (QA S Z hx N M) := by
  have hN := w.2.2.1
  have w0 := wk_r (S := S) w
  delta FX11_load_0 BX11_load_0
  refine pq_b (wX11_placeOf S Z (sb rfl hS) _ _ w0.1 ) (fun r1 K2 => ?_)
  have w3 := wk_t w0 K2 hN
  refine pq_b (wJ5_min S Z (sb rfl hS) _ _ _ w3.1 ) (fun r4 K5 => ?_)
  have w6 := wk_t w3 K5 hN
  refine pq_g (fun g7 => ?_)
  have z8 := wk_z (i := 0) (f := 203) w6 rfl z_a0
  have f9 := sS_203 w6.1.1 g7
  refine pq_b (wX11_pageOf S Z (sb rfl hS) _ _ w6.1 ) (fun r10 K11 => ?_)
  have w12 := wk_t w6 K11 hN
  have f13 := sf_k w6.1.1 K11 f9
  refine pq_g (fun g14 => ?_)
  have z15 := fun i => wk_ze (i := i) w12 rfl g14.1 f13 rfl z8
  refine pq_fi (fun _ => ?_) (fun _ => ?_)
  · exact q_tA hN w12 (wX11_load_47 S Z hS _ _ _ _ _ _ w12.1 z_a0)
  · refine pq_g (fun g16 => ?_)
    refine pq_b (wX91_get S Z (sb rfl hS) _ _ _ _ w12.1 (z15 _)) (fun r17 K18 => ?_)
    have w19 := wk_t w12 K18 hN
    exact q_tA hN w19 (wX11_load_47 S Z hS _ _ _ _ _ _ w19.1 z_a0)
theorem wX11_load (S Z : Nat → Prop) {hx N : Nat} (hS : ∀ x, fe_mem lX11_load x = true → S x) (a0 : Nat) (a1 : Int64) (a3 : Int32) (M : FM) (w : WI Z hx N M) (z_a0 : Z a0) : pq (FX11_load a0 a1 a3 M) (QA S Z hx N M) := wX11_load_0 S Z hS a0 a1 a3 M w z_a0
def lX85_get : List Nat := []
theorem wX85_get_0 (S Z : Nat → Prop) {hx N : Nat} (hS : ∀ x, fe_mem lX85_get x = true → S x) (a0 : Nat) (a1 : Int64) (M : FM) (w : WI Z hx N M) (z_a0 : Z a0) : pq (FX85_get_0 a0 a1 M) (QA S Z hx N M) := by
  have hN := w.2.2.1
  have w0 := wk_r (S := S) w
  delta FX85_get_0 BX85_get_0
  refine pq_g (fun g1 => ?_)
  have z2 := wk_z (i := 0) (f := 247) w0 rfl z_a0
  refine pq_g (fun g3 => ?_)
  refine pq_b (wX11_load S Z (sb rfl hS) _ _ _ _ w0.1 z2) (fun r4 K5 => ?_)
  have w6 := wk_t w0 K5 hN
  exact pq_s w6
theorem wX85_get (S Z : Nat → Prop) {hx N : Nat} (hS : ∀ x, fe_mem lX85_get x = true → S x) (a0 : Nat) (a1 : Int64) (M : FM) (w : WI Z hx N M) (z_a0 : Z a0) : pq (FX85_get a0 a1 M) (QA S Z hx N M) := wX85_get_0 S Z hS a0 a1 M w z_a0
def lX102_has : List Nat := []
theorem wX102_has_15 (S Z : Nat → Prop) {hx N : Nat} (hS : ∀ x, fe_mem lX102_has x = true → S x) (s0 : Int32) (M : FM) (w : WI Z hx N M) : pq (FX102_has_15 s0 M) (QA S Z hx N M) := by
  have hN := w.2.2.1
  have w0 := wk_r (S := S) w
  delta FX102_has_15 BX102_has_15
  refine pq_g (fun _ => ?_)
  exact pq_s w0
theorem wX102_has_0 (S Z : Nat → Prop) {hx N : Nat} (hS : ∀ x, fe_mem lX102_has x = true → S x) (a0 : Int64) (a2 : Int32) (M : FM) (w : WI Z hx N M) : pq (FX102_has_0 a0 a2 M) (QA S Z hx N M) := by
  have hN := w.2.2.1
  have w0 := wk_r (S := S) w
  delta FX102_has_0 BX102_has_0
  refine pq_fi (fun _ => ?_) (fun _ => ?_)
  · exact q_tA hN w0 (wX102_has_15 S Z hS _ _ w0.1 )
  · exact q_tA hN w0 (wX102_has_15 S Z hS _ _ w0.1 )
theorem wX102_has (S Z : Nat → Prop) {hx N : Nat} (hS : ∀ x, fe_mem lX102_has x = true → S x) (a0 : Int64) (a2 : Int32) (M : FM) (w : WI Z hx N M) : pq (FX102_has a0 a2 M) (QA S Z hx N M) := wX102_has_0 S Z hS a0 a2 M w 
def lX84_step : List Nat := [292, 293, 294, 1295]
theorem wX84_step_196 (S Z : Nat → Prop) {hx N : Nat} (hS : ∀ x, fe_mem lX84_step x = true → S x) (n : Nat) (s0 : Int32) (M : FM) (w : WI Z hx N M) : pq (FX84_step_196 n s0 M) (QA S Z hx N M) := by
  have hN := w.2.2.1
  have w0 := wk_r (S := S) w
  delta FX84_step_196 BX84_step_196
  exact pq_s w0
theorem wX84_step_191 (S Z : Nat → Prop) {hx N : Nat} (hS : ∀ x, fe_mem lX84_step x = true → S x) (n : Nat) (M : FM) (w : WI Z hx N M) : pq (FX84_step_191 n M) (QA S Z hx N M) := by
  have hN := w.2.2.1
  have w0 := wk_r (S := S) w
  delta FX84_step_191 BX84_step_191
  exact q_tA hN w0 (wX84_step_196 S Z hS n _ _ w0.1 )
theorem wX84_step_157 (S Z : Nat → Prop) {hx N : Nat} (hS : ∀ x, fe_mem lX84_step x = true → S x) (n : Nat) (a0 : Nat) (s0 : Int32) (M : FM) (w : WI Z hx N M) (z_a0 : Z a0) : pq (FX84_step_157 n a0 s0 M) (QA S Z hx N M) := by
  have hN := w.2.2.1
  have w0 := wk_r (S := S) w
  delta FX84_step_157 BX84_step_157
  refine pq_fi (fun _ => ?_) (fun _ => ?_)
  · refine pq_g (fun g1 => ?_)
    refine pq_b (wX102_has S Z (sb rfl hS) _ _ _ w0.1 ) (fun r2 K3 => ?_)
    have w4 := wk_t w0 K3 hN
    refine pq_fi (fun _ => ?_) (fun _ => ?_)
    · refine pq_g (fun g5 => ?_)
      refine pq_b (wX102_has S Z (sb rfl hS) _ _ _ w4.1 ) (fun r6 K7 => ?_)
      have w8 := wk_t w4 K7 hN
      refine pq_fi (fun _ => ?_) (fun _ => ?_)
      · exact q_tA hN w8 (wX84_step_196 S Z hS n _ _ w8.1 )
      · exact q_tA hN w8 (wX84_step_191 S Z hS n _ w8.1 )
    · exact q_tA hN w4 (wX84_step_191 S Z hS n _ w4.1 )
  · exact q_tA hN w0 (wX84_step_196 S Z hS n _ _ w0.1 )
theorem wX84_step_152 (S Z : Nat → Prop) {hx N : Nat} (hS : ∀ x, fe_mem lX84_step x = true → S x) (n : Nat) (a0 : Nat) (M : FM) (w : WI Z hx N M) (z_a0 : Z a0) : pq (FX84_step_152 n a0 M) (QA S Z hx N M) := by
  have hN := w.2.2.1
  have w0 := wk_r (S := S) w
  delta FX84_step_152 BX84_step_152
  exact q_tA hN w0 (wX84_step_157 S Z hS n _ _ _ w0.1 z_a0)
theorem wX84_step_136 (S Z : Nat → Prop) {hx N : Nat} (hS : ∀ x, fe_mem lX84_step x = true → S x) (n : Nat) (a0 : Nat) (M : FM) (w : WI Z hx N M) (z_a0 : Z a0) : pq (FX84_step_136 n a0 M) (QA S Z hx N M) := by
  have hN := w.2.2.1
  have w0 := wk_r (S := S) w
  delta FX84_step_136 BX84_step_136
  refine pq_g (fun g1 => ?_)
  refine pq_b (wX102_bits S Z (sb rfl hS) _ _ _ _ w0.1 ) (fun r2 K3 => ?_)
  have w4 := wk_t w0 K3 hN
  refine pq_fi (fun _ => ?_) (fun _ => ?_)
  · exact q_tA hN w4 (wX84_step_157 S Z hS n _ _ _ w4.1 z_a0)
  · exact q_tA hN w4 (wX84_step_152 S Z hS n _ _ w4.1 z_a0)
theorem wX84_step_61 (S Z : Nat → Prop) {hx N : Nat} (hS : ∀ x, fe_mem lX84_step x = true → S x) (n : Nat) (M : FM) (w : WI Z hx N M) : pq (FX84_step_61 n M) (QA S Z hx N M) := by
  have hN := w.2.2.1
  have w0 := wk_r (S := S) w
  delta FX84_step_61 BX84_step_61
  exact pq_s w0
theorem wX84_step_0 (S Z : Nat → Prop) {hx N : Nat} (hS : ∀ x, fe_mem lX84_step x = true → S x) (n : Nat) (a0 : Nat) (a1 : Int64) (a3 : Int64) (a5 : Int32) (M : FM) (w : WI Z hx N M) (z_a0 : Z a0) : pq (FX84_step_0 n a0 a1 a3 a5 M) (QA S Z hx N M) := by
  have hN := w.2.2.1
  have w0 := wk_r (S := S) w
  delta FX84_step_0 BX84_step_0
  refine pq_b (wX102_bits S Z (sb rfl hS) _ _ _ _ w0.1 ) (fun r1 K2 => ?_)
  have w3 := wk_t w0 K2 hN
  refine pq_g (fun g4 => ?_)
  extract_lets +onlyGivenNames M6
  have w5 : Wk S Z hx N M M6 := wk_fL hN w3 rfl rfl g4 z_a0 (Or.inr (hS 292 rfl))
  refine pq_g (fun g7 => ?_)
  have z8 := wk_z (i := 0) (f := 287) w5 rfl z_a0
  refine pq_g (fun g9 => ?_)
  refine pq_fi (fun _ => ?_) (fun _ => ?_)
  · refine pq_b (wX85_has S Z (sb rfl hS) _ _ _ w5.1 z8) (fun r10 K11 => ?_)
    have w12 := wk_t w5 K11 hN
    refine pq_fi (fun _ => ?_) (fun _ => ?_)
    · exact q_tA hN w12 (wX84_step_61 S Z hS n _ w12.1 )
    · refine pq_g (fun g13 => ?_)
      have z14 := wk_z (i := 0) (f := 288) w12 rfl z_a0
      refine pq_g (fun g15 => ?_)
      refine pq_g (fun g16 => ?_)
      refine pq_b (wX86_let S Z (sb rfl hS) n _ _ _ _ _ _ w12.1 z14) (fun r17 K18 => ?_)
      have w19 := wk_t w12 K18 hN
      refine pq_fi (fun _ => ?_) (fun _ => ?_)
      · exact q_tA hN w19 (wX84_step_61 S Z hS n _ w19.1 )
      · refine pq_g (fun g20 => ?_)
        have z21 := wk_z (i := 0) (f := 287) w19 rfl z_a0
        refine pq_g (fun g22 => ?_)
        refine pq_fi (fun _ => ?_) (fun _ => ?_)
        · refine pq_b (wX85_get S Z (sb rfl hS) _ _ _ w19.1 z21) (fun r23 K24 => ?_)
          have w25 := wk_t w19 K24 hN
          refine pq_g (fun g26 => ?_)
          extract_lets +onlyGivenNames M28
          have w27 : Wk S Z hx N M M28 := wk_fL hN w25 rfl rfl g26 z_a0 (Or.inr (hS 293 rfl))
          refine pq_g (fun g29 => ?_)
          have z30 := wk_z (i := 0) (f := 295) w27 rfl z_a0
          have f31 := sS_295 w27.1.1 g29
          refine pq_g (fun g32 => ?_)
          refine pq_g (fun g33 => ?_)
          refine pq_g (fun g34 => ?_)
          extract_lets +onlyGivenNames M36
          have w35 : Wk S Z hx N M M36 := wk_aL hN w27 rfl g34.1 z30 (sy_s f31 (hS 1295 rfl))
          refine pq_g (fun g37 => ?_)
          refine pq_g (fun g38 => ?_)
          extract_lets +onlyGivenNames M40
          have w39 : Wk S Z hx N M M40 := wk_fI hN w35 rfl rfl g38 z_a0 (Or.inr (hS 294 rfl))
          refine pq_g (fun g41 => ?_)
          refine pq_b (wX102_has S Z (sb rfl hS) _ _ _ w39.1 ) (fun r42 K43 => ?_)
          have w44 := wk_t w39 K43 hN
          refine pq_fi (fun _ => ?_) (fun _ => ?_)
          · exact q_tA hN w44 (wX84_step_152 S Z hS n _ _ w44.1 z_a0)
          · refine pq_g (fun g45 => ?_)
            refine pq_b (wX102_has S Z (sb rfl hS) _ _ _ w44.1 ) (fun r46 K47 => ?_)
            have w48 := wk_t w44 K47 hN
            refine pq_fi (fun _ => ?_) (fun _ => ?_)
            · exact q_tA hN w48 (wX84_step_136 S Z hS n _ _ w48.1 z_a0)
            · refine pq_g (fun g49 => ?_)
              refine pq_b (wX102_has S Z (sb rfl hS) _ _ _ w48.1 ) (fun r50 K51 => ?_)
              have w52 := wk_t w48 K51 hN
              refine pq_fi (fun _ => ?_) (fun _ => ?_)
              · exact q_tA hN w52 (wX84_step_152 S Z hS n _ _ w52.1 z_a0)
              · exact q_tA hN w52 (wX84_step_136 S Z hS n _ _ w52.1 z_a0)
        · exact pq_0
  · exact pq_0
theorem wX84_step (S Z : Nat → Prop) {hx N : Nat} (hS : ∀ x, fe_mem lX84_step x = true → S x) (n : Nat) (a0 : Nat) (a1 : Int64) (a3 : Int64) (a5 : Int32) (M : FM) (w : WI Z hx N M) (z_a0 : Z a0) : pq (FX84_step n a0 a1 a3 a5 M) (QA S Z hx N M) := wX84_step_0 S Z hS n a0 a1 a3 a5 M w z_a0
def lX84_may : List Nat := []
theorem wX84_may_107 (S Z : Nat → Prop) {hx N : Nat} (hS : ∀ x, fe_mem lX84_may x = true → S x) (s0 : Int32) (M : FM) (w : WI Z hx N M) : pq (FX84_may_107 s0 M) (QA S Z hx N M) := by
  have hN := w.2.2.1
  have w0 := wk_r (S := S) w
  delta FX84_may_107 BX84_may_107
  refine pq_g (fun _ => ?_)
  exact pq_s w0
theorem wX84_may_95 (S Z : Nat → Prop) {hx N : Nat} (hS : ∀ x, fe_mem lX84_may x = true → S x) (M : FM) (w : WI Z hx N M) : pq (FX84_may_95 M) (QA S Z hx N M) := by
  have hN := w.2.2.1
  have w0 := wk_r (S := S) w
  delta FX84_may_95 BX84_may_95
  exact q_tA hN w0 (wX84_may_107 S Z hS _ _ w0.1 )
theorem wX84_may_91 (S Z : Nat → Prop) {hx N : Nat} (hS : ∀ x, fe_mem lX84_may x = true → S x) (M : FM) (w : WI Z hx N M) : pq (FX84_may_91 M) (QA S Z hx N M) := by
  have hN := w.2.2.1
  have w0 := wk_r (S := S) w
  delta FX84_may_91 BX84_may_91
  exact q_tA hN w0 (wX84_may_107 S Z hS _ _ w0.1 )
theorem wX84_may_40 (S Z : Nat → Prop) {hx N : Nat} (hS : ∀ x, fe_mem lX84_may x = true → S x) (a0 : Nat) (a1 : Int32) (M : FM) (w : WI Z hx N M) (z_a0 : Z a0) : pq (FX84_may_40 a0 a1 M) (QA S Z hx N M) := by
  have hN := w.2.2.1
  have w0 := wk_r (S := S) w
  delta FX84_may_40 BX84_may_40
  refine pq_fi (fun _ => ?_) (fun _ => ?_)
  · refine pq_g (fun g1 => ?_)
    refine pq_b (wX102_has S Z (sb rfl hS) _ _ _ w0.1 ) (fun r2 K3 => ?_)
    have w4 := wk_t w0 K3 hN
    exact q_tA hN w4 (wX84_may_107 S Z hS _ _ w4.1 )
  · refine pq_fi (fun _ => ?_) (fun _ => ?_)
    · refine pq_g (fun g5 => ?_)
      refine pq_b (wX102_has S Z (sb rfl hS) _ _ _ w0.1 ) (fun r6 K7 => ?_)
      have w8 := wk_t w0 K7 hN
      refine pq_fi (fun _ => ?_) (fun _ => ?_)
      · refine pq_g (fun g9 => ?_)
        refine pq_fi (fun _ => ?_) (fun _ => ?_)
        · exact q_tA hN w8 (wX84_may_95 S Z hS _ w8.1 )
        · refine pq_g (fun g10 => ?_)
          refine pq_b (wX102_has S Z (sb rfl hS) _ _ _ w8.1 ) (fun r11 K12 => ?_)
          have w13 := wk_t w8 K12 hN
          refine pq_fi (fun _ => ?_) (fun _ => ?_)
          · exact q_tA hN w13 (wX84_may_95 S Z hS _ w13.1 )
          · exact q_tA hN w13 (wX84_may_91 S Z hS _ w13.1 )
      · exact q_tA hN w8 (wX84_may_91 S Z hS _ w8.1 )
    · refine pq_g (fun g14 => ?_)
      refine pq_b (wX102_has S Z (sb rfl hS) _ _ _ w0.1 ) (fun r15 K16 => ?_)
      have w17 := wk_t w0 K16 hN
      exact q_tA hN w17 (wX84_may_107 S Z hS _ _ w17.1 )
theorem wX84_may_38 (S Z : Nat → Prop) {hx N : Nat} (hS : ∀ x, fe_mem lX84_may x = true → S x) (M : FM) (w : WI Z hx N M) : pq (FX84_may_38 M) (QA S Z hx N M) := by
  have hN := w.2.2.1
  have w0 := wk_r (S := S) w
  delta FX84_may_38 BX84_may_38
  refine pq_g (fun _ => ?_)
  exact pq_s w0
theorem wX84_may_0 (S Z : Nat → Prop) {hx N : Nat} (hS : ∀ x, fe_mem lX84_may x = true → S x) (a0 : Nat) (a1 : Int32) (a2 : Int32) (M : FM) (w : WI Z hx N M) (z_a0 : Z a0) : pq (FX84_may_0 a0 a1 a2 M) (QA S Z hx N M) := by
  have hN := w.2.2.1
  have w0 := wk_r (S := S) w
  delta FX84_may_0 BX84_may_0
  refine pq_g (fun g1 => ?_)
  refine pq_b (wX102_has S Z (sb rfl hS) _ _ _ w0.1 ) (fun r2 K3 => ?_)
  have w4 := wk_t w0 K3 hN
  refine pq_fi (fun _ => ?_) (fun _ => ?_)
  · refine pq_fi (fun _ => ?_) (fun _ => ?_)
    · exact q_tA hN w4 (wX84_may_40 S Z hS _ _ _ w4.1 z_a0)
    · refine pq_fi (fun _ => ?_) (fun _ => ?_)
      · exact q_tA hN w4 (wX84_may_38 S Z hS _ w4.1 )
      · refine pq_g (fun g5 => ?_)
        refine pq_fi (fun _ => ?_) (fun _ => ?_)
        · exact q_tA hN w4 (wX84_may_38 S Z hS _ w4.1 )
        · exact q_tA hN w4 (wX84_may_40 S Z hS _ _ _ w4.1 z_a0)
  · refine pq_fi (fun _ => ?_) (fun _ => ?_)
    · exact q_tA hN w4 (wX84_may_38 S Z hS _ w4.1 )
    · exact q_tA hN w4 (wX84_may_40 S Z hS _ _ _ w4.1 z_a0)
theorem wX84_may (S Z : Nat → Prop) {hx N : Nat} (hS : ∀ x, fe_mem lX84_may x = true → S x) (a0 : Nat) (a1 : Int32) (a2 : Int32) (M : FM) (w : WI Z hx N M) (z_a0 : Z a0) : pq (FX84_may a0 a1 a2 M) (QA S Z hx N M) := wX84_may_0 S Z hS a0 a1 a2 M w z_a0
def lX85_put : List Nat := [208, 1201, 1203, 1204]
theorem wX85_put_0 (S Z : Nat → Prop) {hx N : Nat} (hS : ∀ x, fe_mem lX85_put x = true → S x) (n : Nat) (a0 : Nat) (a1 : Int64) (a3 : Int64) (M : FM) (w : WI Z hx N M) (z_a0 : Z a0) : pq (FX85_put_0 n a0 a1 a3 M) (QV S Z hx N M) := by
  have hN := w.2.2.1
  have w0 := wk_r (S := S) w
  delta FX85_put_0 BX85_put_0
  refine pq_g (fun g1 => ?_)
  have z2 := wk_z (i := 0) (f := 247) w0 rfl z_a0
  refine pq_g (fun g3 => ?_)
  refine pq_b (wX11_store S Z (sb rfl hS) n _ _ _ _ _ w0.1 z2) (fun r4 K5 => ?_)
  have w6 := wk_t w0 K5 hN
  exact pq_s w6
theorem wX85_put (S Z : Nat → Prop) {hx N : Nat} (hS : ∀ x, fe_mem lX85_put x = true → S x) (n : Nat) (a0 : Nat) (a1 : Int64) (a3 : Int64) (M : FM) (w : WI Z hx N M) (z_a0 : Z a0) : pq (FX85_put n a0 a1 a3 M) (QV S Z hx N M) := wX85_put_0 S Z hS n a0 a1 a3 M w z_a0
def lX84_last : List Nat := [208, 1201, 1203, 1204]
theorem wX84_last_120 (S Z : Nat → Prop) {hx N : Nat} (hS : ∀ x, fe_mem lX84_last x = true → S x) (n : Nat) (a1 : Int64) (a5 : Int32) (a6 : Int64) (M : FM) (w : WI Z hx N M) : pq (FX84_last_120 n a1 a5 a6 M) (QA S Z hx N M) := by
  have hN := w.2.2.1
  have w0 := wk_r (S := S) w
  delta FX84_last_120 BX84_last_120
  refine pq_b (wX102_bits S Z (sb rfl hS) _ _ _ _ w0.1 ) (fun r1 K2 => ?_)
  have w3 := wk_t w0 K2 hN
  exact pq_s w3
theorem wX84_last_60 (S Z : Nat → Prop) {hx N : Nat} (hS : ∀ x, fe_mem lX84_last x = true → S x) (n : Nat) (a0 : Nat) (a1 : Int64) (a3 : Int32) (a5 : Int32) (a6 : Int64) (s0 : Int64) (M : FM) (w : WI Z hx N M) (z_a0 : Z a0) : pq (FX84_last_60 n a0 a1 a3 a5 a6 s0 M) (QA S Z hx N M) := by
  have hN := w.2.2.1
  have w0 := wk_r (S := S) w
  delta FX84_last_60 BX84_last_60
  refine pq_g (fun g1 => ?_)
  refine pq_fi (fun _ => ?_) (fun _ => ?_)
  · exact q_tA hN w0 (wX84_last_120 S Z hS n _ _ _ _ w0.1 )
  · refine pq_g (fun g2 => ?_)
    have z3 := wk_z (i := 0) (f := 288) w0 rfl z_a0
    refine pq_g (fun g4 => ?_)
    refine pq_g (fun g5 => ?_)
    refine pq_b (wX86_let S Z (sb rfl hS) n _ _ _ _ _ _ w0.1 z3) (fun r6 K7 => ?_)
    have w8 := wk_t w0 K7 hN
    refine pq_fi (fun _ => ?_) (fun _ => ?_)
    · refine pq_g (fun g9 => ?_)
      refine pq_b (wX84_fault S Z (sb rfl hS) _ _ _ _ w8.1 z_a0) (fun r10 K11 => ?_)
      have w12 := wk_t w8 K11 hN
      exact pq_s w12
    · refine pq_g (fun g13 => ?_)
      have z14 := wk_z (i := 0) (f := 287) w8 rfl z_a0
      refine pq_g (fun g15 => ?_)
      refine pq_g (fun g16 => ?_)
      refine pq_fi (fun _ => ?_) (fun _ => ?_)
      · refine pq_b (wX85_put S Z (sb rfl hS) n _ _ _ _ w8.1 z14) (fun r17 K18 => ?_)
        have w19 := wk_t w8 K18 hN
        exact q_tA hN w19 (wX84_last_120 S Z hS n _ _ _ _ w19.1 )
      · exact pq_0
theorem wX84_last_39 (S Z : Nat → Prop) {hx N : Nat} (hS : ∀ x, fe_mem lX84_last x = true → S x) (n : Nat) (a0 : Nat) (a3 : Int32) (M : FM) (w : WI Z hx N M) (z_a0 : Z a0) : pq (FX84_last_39 n a0 a3 M) (QA S Z hx N M) := by
  have hN := w.2.2.1
  have w0 := wk_r (S := S) w
  delta FX84_last_39 BX84_last_39
  refine pq_g (fun g1 => ?_)
  refine pq_b (wX84_fault S Z (sb rfl hS) _ _ _ _ w0.1 z_a0) (fun r2 K3 => ?_)
  have w4 := wk_t w0 K3 hN
  exact pq_s w4
theorem wX84_last_0 (S Z : Nat → Prop) {hx N : Nat} (hS : ∀ x, fe_mem lX84_last x = true → S x) (n : Nat) (a0 : Nat) (a1 : Int64) (a3 : Int32) (a4 : Int32) (a5 : Int32) (M : FM) (w : WI Z hx N M) (z_a0 : Z a0) : pq (FX84_last_0 n a0 a1 a3 a4 a5 M) (QA S Z hx N M) := by
  have hN := w.2.2.1
  have w0 := wk_r (S := S) w
  delta FX84_last_0 BX84_last_0
  refine pq_g (fun g1 => ?_)
  refine pq_b (wX102_bits S Z (sb rfl hS) _ _ _ _ w0.1 ) (fun r2 K3 => ?_)
  have w4 := wk_t w0 K3 hN
  refine pq_b (wX102_bits S Z (sb rfl hS) _ _ _ _ w4.1 ) (fun r5 K6 => ?_)
  have w7 := wk_t w4 K6 hN
  refine pq_fi (fun _ => ?_) (fun _ => ?_)
  · refine pq_g (fun g8 => ?_)
    refine pq_b (wX84_may S Z (sb rfl hS) _ _ _ _ w7.1 z_a0) (fun r9 K10 => ?_)
    have w11 := wk_t w7 K10 hN
    refine pq_fi (fun _ => ?_) (fun _ => ?_)
    · exact q_tA hN w11 (wX84_last_39 S Z hS n _ _ _ w11.1 z_a0)
    · refine pq_fi (fun _ => ?_) (fun _ => ?_)
      · exact q_tA hN w11 (wX84_last_60 S Z hS n _ _ _ _ _ _ _ w11.1 z_a0)
      · exact q_tA hN w11 (wX84_last_60 S Z hS n _ _ _ _ _ _ _ w11.1 z_a0)
  · exact q_tA hN w7 (wX84_last_39 S Z hS n _ _ _ w7.1 z_a0)
theorem wX84_last (S Z : Nat → Prop) {hx N : Nat} (hS : ∀ x, fe_mem lX84_last x = true → S x) (n : Nat) (a0 : Nat) (a1 : Int64) (a3 : Int32) (a4 : Int32) (a5 : Int32) (M : FM) (w : WI Z hx N M) (z_a0 : Z a0) : pq (FX84_last n a0 a1 a3 a4 a5 M) (QA S Z hx N M) := wX84_last_0 S Z hS n a0 a1 a3 a4 a5 M w z_a0
def lX84_walk : List Nat := [208, 292, 293, 294, 1201, 1203, 1204, 1295]
theorem wX84_walk_203 (S Z : Nat → Prop) {hx N : Nat} (hS : ∀ x, fe_mem lX84_walk x = true → S x) (n : Nat) (k87 : Nat → Int64 → Int32 → Int32 → Int32 → Int32 → FM → Option (Int64 × FM)) (hk87 : ∀ (a0 : Nat) (a1 : Int64) (a3 : Int32) (a4 : Int32) (a9 : Int32) (a10 : Int32) (M : FM), WI Z hx N M → Z a0 → pq (k87 a0 a1 a3 a4 a9 a10 M) (QA S Z hx N M)) (s0 : Int64) (M : FM) (w : WI Z hx N M) : pq (FX84_walk_203 n k87 s0 M) (QA S Z hx N M) := by
  have hN := w.2.2.1
  have w0 := wk_r (S := S) w
  delta FX84_walk_203 BX84_walk_203
  exact pq_s w0
theorem wX84_walk_187 (S Z : Nat → Prop) {hx N : Nat} (hS : ∀ x, fe_mem lX84_walk x = true → S x) (n : Nat) (k87 : Nat → Int64 → Int32 → Int32 → Int32 → Int32 → FM → Option (Int64 × FM)) (hk87 : ∀ (a0 : Nat) (a1 : Int64) (a3 : Int32) (a4 : Int32) (a9 : Int32) (a10 : Int32) (M : FM), WI Z hx N M → Z a0 → pq (k87 a0 a1 a3 a4 a9 a10 M) (QA S Z hx N M)) (s0 : Nat) (s1 : Int32) (s2 : Int32) (M : FM) (w : WI Z hx N M) (z_s0 : Z s0) : pq (FX84_walk_187 n k87 s0 s1 s2 M) (QA S Z hx N M) := by
  have hN := w.2.2.1
  have w0 := wk_r (S := S) w
  delta FX84_walk_187 BX84_walk_187
  refine pq_g (fun g1 => ?_)
  refine pq_b (wX84_fault S Z (sb rfl hS) _ _ _ _ w0.1 z_s0) (fun r2 K3 => ?_)
  have w4 := wk_t w0 K3 hN
  exact q_tA hN w4 (wX84_walk_203 S Z hS n _ hk87 _ _ w4.1 )
theorem wX84_walk_132 (S Z : Nat → Prop) {hx N : Nat} (hS : ∀ x, fe_mem lX84_walk x = true → S x) (n : Nat) (k87 : Nat → Int64 → Int32 → Int32 → Int32 → Int32 → FM → Option (Int64 × FM)) (hk87 : ∀ (a0 : Nat) (a1 : Int64) (a3 : Int32) (a4 : Int32) (a9 : Int32) (a10 : Int32) (M : FM), WI Z hx N M → Z a0 → pq (k87 a0 a1 a3 a4 a9 a10 M) (QA S Z hx N M)) (a0 : Nat) (a3 : Int32) (M : FM) (w : WI Z hx N M) (z_a0 : Z a0) : pq (FX84_walk_132 n k87 a0 a3 M) (QA S Z hx N M) := by
  have hN := w.2.2.1
  have w0 := wk_r (S := S) w
  delta FX84_walk_132 BX84_walk_132
  refine pq_g (fun g1 => ?_)
  refine pq_b (wX84_fault S Z (sb rfl hS) _ _ _ _ w0.1 z_a0) (fun r2 K3 => ?_)
  have w4 := wk_t w0 K3 hN
  exact pq_s w4
theorem wX84_walk_87 (S Z : Nat → Prop) {hx N : Nat} (hS : ∀ x, fe_mem lX84_walk x = true → S x) (n : Nat) (k87 : Nat → Int64 → Int32 → Int32 → Int32 → Int32 → FM → Option (Int64 × FM)) (hk87 : ∀ (a0 : Nat) (a1 : Int64) (a3 : Int32) (a4 : Int32) (a9 : Int32) (a10 : Int32) (M : FM), WI Z hx N M → Z a0 → pq (k87 a0 a1 a3 a4 a9 a10 M) (QA S Z hx N M)) (a0 : Nat) (a1 : Int64) (a3 : Int32) (a4 : Int32) (a9 : Int32) (a10 : Int32) (M : FM) (w : WI Z hx N M) (z_a0 : Z a0) : pq (FX84_walk_87 n k87 a0 a1 a3 a4 a9 a10 M) (QA S Z hx N M) := by
  have hN := w.2.2.1
  have w0 := wk_r (S := S) w
  delta FX84_walk_87 BX84_walk_87
  refine pq_fi (fun _ => ?_) (fun _ => ?_)
  · refine pq_fi (fun _ => ?_) (fun _ => ?_)
    · exact q_tA hN w0 (wX84_walk_132 S Z hS n _ hk87 _ _ _ w0.1 z_a0)
    · refine pq_g (fun g1 => ?_)
      refine pq_b (wX102_has S Z (sb rfl hS) _ _ _ w0.1 ) (fun r2 K3 => ?_)
      have w4 := wk_t w0 K3 hN
      refine pq_fi (fun _ => ?_) (fun _ => ?_)
      · refine pq_g (fun g5 => ?_)
        refine pq_b (wX102_has S Z (sb rfl hS) _ _ _ w4.1 ) (fun r6 K7 => ?_)
        have w8 := wk_t w4 K7 hN
        refine pq_fi (fun _ => ?_) (fun _ => ?_)
        · refine pq_g (fun g9 => ?_)
          refine pq_b (wX102_has S Z (sb rfl hS) _ _ _ w8.1 ) (fun r10 K11 => ?_)
          have w12 := wk_t w8 K11 hN
          refine pq_fi (fun _ => ?_) (fun _ => ?_)
          · refine pq_g (fun g13 => ?_)
            refine pq_b (wX102_bits S Z (sb rfl hS) _ _ _ _ w12.1 ) (fun r14 K15 => ?_)
            have w16 := wk_t w12 K15 hN
            refine pq_g (fun g17 => ?_)
            refine pq_b (wX84_step S Z (sb rfl hS) n _ _ _ _ _ w16.1 z_a0) (fun r18 K19 => ?_)
            have w20 := wk_t w16 K19 hN
            exact q_tA hN w20 (hk87 _ _ _ _ _ _ _ w20.1 z_a0)
          · exact q_tA hN w12 (wX84_walk_132 S Z hS n _ hk87 _ _ _ w12.1 z_a0)
        · exact q_tA hN w8 (wX84_walk_132 S Z hS n _ hk87 _ _ _ w8.1 z_a0)
      · exact q_tA hN w4 (wX84_walk_132 S Z hS n _ hk87 _ _ _ w4.1 z_a0)
  · refine pq_fi (fun _ => ?_) (fun _ => ?_)
    · refine pq_g (fun g21 => ?_)
      refine pq_b (wX84_last S Z (sb rfl hS) n _ _ _ _ _ _ w0.1 z_a0) (fun r22 K23 => ?_)
      have w24 := wk_t w0 K23 hN
      exact q_tA hN w24 (wX84_walk_203 S Z hS n _ hk87 _ _ w24.1 )
    · refine pq_fi (fun _ => ?_) (fun _ => ?_)
      · exact q_tA hN w0 (wX84_walk_187 S Z hS n _ hk87 _ _ _ _ w0.1 z_a0)
      · exact q_tA hN w0 (wX84_walk_187 S Z hS n _ hk87 _ _ _ _ w0.1 z_a0)
theorem wX84_walk_22 (S Z : Nat → Prop) {hx N : Nat} (hS : ∀ x, fe_mem lX84_walk x = true → S x) (n : Nat) (k87 : Nat → Int64 → Int32 → Int32 → Int32 → Int32 → FM → Option (Int64 × FM)) (hk87 : ∀ (a0 : Nat) (a1 : Int64) (a3 : Int32) (a4 : Int32) (a9 : Int32) (a10 : Int32) (M : FM), WI Z hx N M → Z a0 → pq (k87 a0 a1 a3 a4 a9 a10 M) (QA S Z hx N M)) (a0 : Nat) (a1 : Int64) (a3 : Int32) (a4 : Int32) (s0 : Int32) (M : FM) (w : WI Z hx N M) (z_a0 : Z a0) : pq (FX84_walk_22 n k87 a0 a1 a3 a4 s0 M) (QA S Z hx N M) := by
  have hN := w.2.2.1
  have w0 := wk_r (S := S) w
  delta FX84_walk_22 BX84_walk_22
  refine pq_fi (fun _ => ?_) (fun _ => ?_)
  · refine pq_g (fun g1 => ?_)
    extract_lets +onlyGivenNames M3
    have w2 : Wk S Z hx N M M3 := wk_fI hN w0 rfl rfl g1 z_a0 (Or.inr (hS 294 rfl))
    refine pq_g (fun g4 => ?_)
    refine pq_b (wX102_bits S Z (sb rfl hS) _ _ _ _ w2.1 ) (fun r5 K6 => ?_)
    have w7 := wk_t w2 K6 hN
    refine pq_g (fun g8 => ?_)
    refine pq_b (wX84_step S Z (sb rfl hS) n _ _ _ _ _ w7.1 z_a0) (fun r9 K10 => ?_)
    have w11 := wk_t w7 K10 hN
    exact q_tA hN w11 (hk87 _ _ _ _ _ _ _ w11.1 z_a0)
  · refine pq_g (fun g12 => ?_)
    refine pq_b (wX84_fault S Z (sb rfl hS) _ _ _ _ w0.1 z_a0) (fun r13 K14 => ?_)
    have w15 := wk_t w0 K14 hN
    exact pq_s w15
theorem wX84_walk_0 (S Z : Nat → Prop) {hx N : Nat} (hS : ∀ x, fe_mem lX84_walk x = true → S x) (n : Nat) (k87 : Nat → Int64 → Int32 → Int32 → Int32 → Int32 → FM → Option (Int64 × FM)) (hk87 : ∀ (a0 : Nat) (a1 : Int64) (a3 : Int32) (a4 : Int32) (a9 : Int32) (a10 : Int32) (M : FM), WI Z hx N M → Z a0 → pq (k87 a0 a1 a3 a4 a9 a10 M) (QA S Z hx N M)) (a0 : Nat) (a1 : Int64) (a3 : Int32) (a4 : Int32) (M : FM) (w : WI Z hx N M) (z_a0 : Z a0) : pq (FX84_walk_0 n k87 a0 a1 a3 a4 M) (QA S Z hx N M) := by
  have hN := w.2.2.1
  have w0 := wk_r (S := S) w
  delta FX84_walk_0 BX84_walk_0
  refine pq_g (fun g1 => ?_)
  refine pq_b (wX102_bits S Z (sb rfl hS) _ _ _ _ w0.1 ) (fun r2 K3 => ?_)
  have w4 := wk_t w0 K3 hN
  refine pq_fi (fun _ => ?_) (fun _ => ?_)
  · exact q_tA hN w4 (wX84_walk_22 S Z hS n _ hk87 _ _ _ _ _ _ w4.1 z_a0)
  · exact q_tA hN w4 (wX84_walk_22 S Z hS n _ hk87 _ _ _ _ _ _ w4.1 z_a0)
theorem wX84_walk_L (S Z : Nat → Prop) {hx N : Nat} (hS : ∀ x, fe_mem lX84_walk x = true → S x) (n : Nat) : ∀ j : Nat, ∀ (a0 : Nat) (a1 : Int64) (a3 : Int32) (a4 : Int32) (a9 : Int32) (a10 : Int32) (M : FM), WI Z hx N M → Z a0 → pq (FX84_walk_L87 n j a0 a1 a3 a4 a9 a10 M) (QA S Z hx N M)
  | 0 => by intros; exact pq_0
  | j + 1 => fun a0 a1 a3 a4 a9 a10 M w => wX84_walk_87 S Z hS n _ (wX84_walk_L S Z hS n j) a0 a1 a3 a4 a9 a10 M w
theorem wX84_walk (S Z : Nat → Prop) {hx N : Nat} (hS : ∀ x, fe_mem lX84_walk x = true → S x) (n : Nat) (a0 : Nat) (a1 : Int64) (a3 : Int32) (a4 : Int32) (M : FM) (w : WI Z hx N M) (z_a0 : Z a0) : pq (FX84_walk n a0 a1 a3 a4 M) (QA S Z hx N M) := wX84_walk_0 S Z hS n _ (wX84_walk_L S Z hS n n) a0 a1 a3 a4 M w z_a0
def lX84_translate : List Nat := [208, 269, 270, 271, 272, 273, 274, 275, 276, 277, 292, 293, 294, 1201, 1203, 1204, 1278, 1279, 1295]
theorem wX84_translate_321 (S Z : Nat → Prop) {hx N : Nat} (hS : ∀ x, fe_mem lX84_translate x = true → S x) (n : Nat) (k267 : Nat → Nat → Int64 → Int32 → FM → Option (Int64 × FM)) (hk267 : ∀ (a0 : Nat) (a7 : Nat) (a9 : Int64) (a11 : Int32) (M : FM), WI Z hx N M → Z a0 → Z a7 → pq (k267 a0 a7 a9 a11 M) (QA S Z hx N M)) (a9 : Int64) (M : FM) (w : WI Z hx N M) : pq (FX84_translate_321 n k267 a9 M) (QA S Z hx N M) := by
  have hN := w.2.2.1
  have w0 := wk_r (S := S) w
  delta FX84_translate_321 BX84_translate_321
  exact pq_s w0
theorem wX84_translate_267 (S Z : Nat → Prop) {hx N : Nat} (hS : ∀ x, fe_mem lX84_translate x = true → S x) (n : Nat) (k267 : Nat → Nat → Int64 → Int32 → FM → Option (Int64 × FM)) (hk267 : ∀ (a0 : Nat) (a7 : Nat) (a9 : Int64) (a11 : Int32) (M : FM), WI Z hx N M → Z a0 → Z a7 → pq (k267 a0 a7 a9 a11 M) (QA S Z hx N M)) (a0 : Nat) (a7 : Nat) (a9 : Int64) (a11 : Int32) (M : FM) (w : WI Z hx N M) (z_a0 : Z a0) (z_a7 : Z a7) : pq (FX84_translate_267 n k267 a0 a7 a9 a11 M) (QA S Z hx N M) := by
  have hN := w.2.2.1
  have w0 := wk_r (S := S) w
  delta FX84_translate_267 BX84_translate_267
  refine pq_g (fun g1 => ?_)
  refine pq_fi (fun _ => ?_) (fun _ => ?_)
  · exact q_tA hN w0 (wX84_translate_321 S Z hS n _ hk267 _ _ w0.1 )
  · refine pq_g (fun g2 => ?_)
    have z3 := wk_z (i := 0) (f := 278) w0 rfl z_a7
    have f4 := sS_278 w0.1.1 g2
    refine pq_g (fun g5 => ?_)
    have z6 := wk_z (i := 0) (f := 295) w0 rfl z_a0
    have f7 := sS_295 w0.1.1 g5
    refine pq_g (fun g8 => ?_)
    refine pq_g (fun g9 => ?_)
    extract_lets +onlyGivenNames M11
    have w10 : Wk S Z hx N M M11 := wk_aL hN w0 rfl g9.1 z3 (sy_s f4 (hS 1278 rfl))
    refine pq_g (fun g12 => ?_)
    have z13 := wk_z (i := 0) (f := 279) w10 rfl z_a7
    have f14 := sS_279 w10.1.1 g12
    refine pq_g (fun g15 => ?_)
    have z16 := wk_z (i := 0) (f := 287) w10 rfl z_a0
    refine pq_g (fun g17 => ?_)
    have z18 := wk_z (i := 0) (f := 295) w10 rfl z_a0
    have f19 := sS_295 w10.1.1 g17
    refine pq_g (fun g20 => ?_)
    refine pq_fi (fun _ => ?_) (fun _ => ?_)
    · refine pq_b (wX85_writes S Z (sb rfl hS) _ _ _ w10.1 z16) (fun r21 K22 => ?_)
      have w23 := wk_t w10 K22 hN
      have f24 := sf_k w10.1.1 K22 f14
      refine pq_g (fun g25 => ?_)
      extract_lets +onlyGivenNames M27
      have w26 : Wk S Z hx N M M27 := wk_aL hN w23 rfl g25.1 z13 (sy_s f24 (hS 1279 rfl))
      exact q_tA hN w26 (hk267 _ _ _ _ _ w26.1 z_a0 z_a7)
    · exact pq_0
theorem wX84_translate_179 (S Z : Nat → Prop) {hx N : Nat} (hS : ∀ x, fe_mem lX84_translate x = true → S x) (n : Nat) (k267 : Nat → Nat → Int64 → Int32 → FM → Option (Int64 × FM)) (hk267 : ∀ (a0 : Nat) (a7 : Nat) (a9 : Int64) (a11 : Int32) (M : FM), WI Z hx N M → Z a0 → Z a7 → pq (k267 a0 a7 a9 a11 M) (QA S Z hx N M)) (a0 : Nat) (a1 : Int64) (a3 : Int32) (a4 : Int32) (a5 : Int64) (a7 : Nat) (a9 : Int64) (s0 : Nat) (s1 : Int32) (M : FM) (w : WI Z hx N M) (z_a0 : Z a0) (z_a7 : Z a7) (z_s0 : Z s0) : pq (FX84_translate_179 n k267 a0 a1 a3 a4 a5 a7 a9 s0 s1 M) (QA S Z hx N M) := by
  have hN := w.2.2.1
  have w0 := wk_r (S := S) w
  delta FX84_translate_179 BX84_translate_179
  refine pq_g (fun g1 => ?_)
  refine pq_g (fun _ => ?_)
  extract_lets +onlyGivenNames M3
  have w2 : Wk S Z hx N M M3 := wk_fI hN w0 rfl rfl g1 z_s0 (Or.inr (hS 269 rfl))
  refine pq_g (fun g4 => ?_)
  refine pq_fi (fun _ => ?_) (fun _ => ?_)
  · exact q_tA hN w2 (wX84_translate_321 S Z hS n _ hk267 _ _ w2.1 )
  · refine pq_g (fun g5 => ?_)
    extract_lets +onlyGivenNames M7
    have w6 : Wk S Z hx N M M7 := wk_fL hN w2 rfl rfl g5 z_a7 (Or.inr (hS 270 rfl))
    refine pq_g (fun g8 => ?_)
    extract_lets +onlyGivenNames M10
    have w9 : Wk S Z hx N M M10 := wk_fI hN w6 rfl rfl g8 z_a7 (Or.inr (hS 271 rfl))
    refine pq_g (fun g11 => ?_)
    extract_lets +onlyGivenNames M13
    have w12 : Wk S Z hx N M M13 := wk_fI hN w9 rfl rfl g11 z_a7 (Or.inr (hS 272 rfl))
    refine pq_g (fun g14 => ?_)
    refine pq_g (fun g15 => ?_)
    extract_lets +onlyGivenNames M17
    have w16 : Wk S Z hx N M M17 := wk_fL hN w12 rfl rfl g15 z_a7 (Or.inr (hS 273 rfl))
    refine pq_g (fun g18 => ?_)
    refine pq_g (fun g19 => ?_)
    extract_lets +onlyGivenNames M21
    have w20 : Wk S Z hx N M M21 := wk_fI hN w16 rfl rfl g19 z_a7 (Or.inr (hS 274 rfl))
    refine pq_g (fun g22 => ?_)
    have z23 := wk_z (i := 0) (f := 288) w20 rfl z_a0
    refine pq_g (fun g24 => ?_)
    refine pq_g (fun g25 => ?_)
    extract_lets +onlyGivenNames M27
    have w26 : Wk S Z hx N M M27 := wk_fI hN w20 rfl rfl g25 z_a7 (Or.inr (hS 275 rfl))
    refine pq_b (wX102_bits S Z (sb rfl hS) _ _ _ _ w26.1 ) (fun r28 K29 => ?_)
    have w30 := wk_t w26 K29 hN
    refine pq_g (fun g31 => ?_)
    extract_lets +onlyGivenNames M33
    have w32 : Wk S Z hx N M M33 := wk_fL hN w30 rfl rfl g31 z_a7 (Or.inr (hS 276 rfl))
    refine pq_g (fun g34 => ?_)
    refine pq_g (fun g35 => ?_)
    extract_lets +onlyGivenNames M37
    have w36 : Wk S Z hx N M M37 := wk_fI hN w32 rfl rfl g35 z_a7 (Or.inr (hS 277 rfl))
    exact q_tA hN w36 (hk267 _ _ _ _ _ w36.1 z_a0 z_a7)
theorem wX84_translate_155 (S Z : Nat → Prop) {hx N : Nat} (hS : ∀ x, fe_mem lX84_translate x = true → S x) (n : Nat) (k267 : Nat → Nat → Int64 → Int32 → FM → Option (Int64 × FM)) (hk267 : ∀ (a0 : Nat) (a7 : Nat) (a9 : Int64) (a11 : Int32) (M : FM), WI Z hx N M → Z a0 → Z a7 → pq (k267 a0 a7 a9 a11 M) (QA S Z hx N M)) (a0 : Nat) (a1 : Int64) (a3 : Int32) (a4 : Int32) (a5 : Int64) (a7 : Nat) (M : FM) (w : WI Z hx N M) (z_a0 : Z a0) (z_a7 : Z a7) : pq (FX84_translate_155 n k267 a0 a1 a3 a4 a5 a7 M) (QA S Z hx N M) := by
  have hN := w.2.2.1
  have w0 := wk_r (S := S) w
  delta FX84_translate_155 BX84_translate_155
  refine pq_g (fun g1 => ?_)
  refine pq_b (wX84_walk S Z (sb rfl hS) n _ _ _ _ _ w0.1 z_a0) (fun r2 K3 => ?_)
  have w4 := wk_t w0 K3 hN
  refine pq_fi (fun _ => ?_) (fun _ => ?_)
  · exact q_tA hN w4 (wX84_translate_179 S Z hS n _ hk267 _ _ _ _ _ _ _ _ _ _ w4.1 z_a0 z_a7 z_a7)
  · exact q_tA hN w4 (wX84_translate_179 S Z hS n _ hk267 _ _ _ _ _ _ _ _ _ _ w4.1 z_a0 z_a7 z_a7)
theorem wX84_translate_122 (S Z : Nat → Prop) {hx N : Nat} (hS : ∀ x, fe_mem lX84_translate x = true → S x) (n : Nat) (k267 : Nat → Nat → Int64 → Int32 → FM → Option (Int64 × FM)) (hk267 : ∀ (a0 : Nat) (a7 : Nat) (a9 : Int64) (a11 : Int32) (M : FM), WI Z hx N M → Z a0 → Z a7 → pq (k267 a0 a7 a9 a11 M) (QA S Z hx N M)) (a0 : Nat) (a1 : Int64) (a3 : Int32) (a4 : Int32) (a5 : Int64) (a7 : Nat) (s0 : Int32) (M : FM) (w : WI Z hx N M) (z_a0 : Z a0) (z_a7 : Z a7) : pq (FX84_translate_122 n k267 a0 a1 a3 a4 a5 a7 s0 M) (QA S Z hx N M) := by
  have hN := w.2.2.1
  have w0 := wk_r (S := S) w
  delta FX84_translate_122 BX84_translate_122
  refine pq_fi (fun _ => ?_) (fun _ => ?_)
  · exact q_tA hN w0 (wX84_translate_155 S Z hS n _ hk267 _ _ _ _ _ _ _ w0.1 z_a0 z_a7)
  · refine pq_g (fun g1 => ?_)
    have z2 := wk_z (i := 0) (f := 287) w0 rfl z_a0
    refine pq_g (fun g3 => ?_)
    refine pq_b (wX88_holds S Z (sb rfl hS) n _ _ _ w0.1 z_a7 z2) (fun r4 K5 => ?_)
    have w6 := wk_t w0 K5 hN
    refine pq_fi (fun _ => ?_) (fun _ => ?_)
    · exact q_tA hN w6 (wX84_translate_155 S Z hS n _ hk267 _ _ _ _ _ _ _ w6.1 z_a0 z_a7)
    · refine pq_g (fun g7 => ?_)
      refine pq_b (wX102_bits S Z (sb rfl hS) _ _ _ _ w6.1 ) (fun r8 K9 => ?_)
      have w10 := wk_t w6 K9 hN
      exact pq_s w10
theorem wX84_translate_121 (S Z : Nat → Prop) {hx N : Nat} (hS : ∀ x, fe_mem lX84_translate x = true → S x) (n : Nat) (k267 : Nat → Nat → Int64 → Int32 → FM → Option (Int64 × FM)) (hk267 : ∀ (a0 : Nat) (a7 : Nat) (a9 : Int64) (a11 : Int32) (M : FM), WI Z hx N M → Z a0 → Z a7 → pq (k267 a0 a7 a9 a11 M) (QA S Z hx N M)) (a0 : Nat) (a1 : Int64) (a3 : Int32) (a4 : Int32) (a5 : Int64) (a7 : Nat) (M : FM) (w : WI Z hx N M) (z_a0 : Z a0) (z_a7 : Z a7) : pq (FX84_translate_121 n k267 a0 a1 a3 a4 a5 a7 M) (QA S Z hx N M) := by
  have hN := w.2.2.1
  have w0 := wk_r (S := S) w
  delta FX84_translate_121 BX84_translate_121
  exact q_tA hN w0 (wX84_translate_122 S Z hS n _ hk267 _ _ _ _ _ _ _ _ w0.1 z_a0 z_a7)
theorem wX84_translate_0 (S Z : Nat → Prop) {hx N : Nat} (hS : ∀ x, fe_mem lX84_translate x = true → S x) (n : Nat) (k267 : Nat → Nat → Int64 → Int32 → FM → Option (Int64 × FM)) (hk267 : ∀ (a0 : Nat) (a7 : Nat) (a9 : Int64) (a11 : Int32) (M : FM), WI Z hx N M → Z a0 → Z a7 → pq (k267 a0 a7 a9 a11 M) (QA S Z hx N M)) (a0 : Nat) (a1 : Int64) (a3 : Int32) (a4 : Int32) (M : FM) (w : WI Z hx N M) (z_a0 : Z a0) : pq (FX84_translate_0 n k267 a0 a1 a3 a4 M) (QA S Z hx N M) := by
  have hN := w.2.2.1
  have w0 := wk_r (S := S) w
  delta FX84_translate_0 BX84_translate_0
  refine pq_g (fun g1 => ?_)
  have z2 := wk_z (i := 0) (f := 291) w0 rfl z_a0
  have f3 := sS_291 w0.1.1 g1
  refine pq_g (fun g4 => ?_)
  have z5 := fun i => wk_ze (i := i) w0 rfl g4.1 f3 rfl z2
  refine pq_g (fun g6 => ?_)
  refine pq_fi (fun _ => ?_) (fun _ => ?_)
  · exact q_tA hN w0 (wX84_translate_121 S Z hS n _ hk267 _ _ _ _ _ _ _ w0.1 z_a0 (z5 _))
  · refine pq_g (fun g7 => ?_)
    refine pq_fi (fun _ => ?_) (fun _ => ?_)
    · refine pq_g (fun g8 => ?_)
      refine pq_fi (fun _ => ?_) (fun _ => ?_)
      · refine pq_g (fun g9 => ?_)
        refine pq_fi (fun _ => ?_) (fun _ => ?_)
        · refine pq_g (fun g10 => ?_)
          refine pq_g (fun g11 => ?_)
          refine pq_fi (fun _ => ?_) (fun _ => ?_)
          · refine pq_g (fun g12 => ?_)
            refine pq_g (fun g13 => ?_)
            refine pq_fi (fun _ => ?_) (fun _ => ?_)
            · refine pq_g (fun g14 => ?_)
              refine pq_g (fun g15 => ?_)
              have z16 := wk_z (i := 0) (f := 288) w0 rfl z_a0
              refine pq_g (fun g17 => ?_)
              refine pq_fi (fun _ => ?_) (fun _ => ?_)
              · exact q_tA hN w0 (wX84_translate_122 S Z hS n _ hk267 _ _ _ _ _ _ _ _ w0.1 z_a0 (z5 _))
              · exact q_tA hN w0 (wX84_translate_121 S Z hS n _ hk267 _ _ _ _ _ _ _ w0.1 z_a0 (z5 _))
            · exact q_tA hN w0 (wX84_translate_121 S Z hS n _ hk267 _ _ _ _ _ _ _ w0.1 z_a0 (z5 _))
          · exact q_tA hN w0 (wX84_translate_121 S Z hS n _ hk267 _ _ _ _ _ _ _ w0.1 z_a0 (z5 _))
        · exact q_tA hN w0 (wX84_translate_121 S Z hS n _ hk267 _ _ _ _ _ _ _ w0.1 z_a0 (z5 _))
      · exact q_tA hN w0 (wX84_translate_121 S Z hS n _ hk267 _ _ _ _ _ _ _ w0.1 z_a0 (z5 _))
    · exact q_tA hN w0 (wX84_translate_121 S Z hS n _ hk267 _ _ _ _ _ _ _ w0.1 z_a0 (z5 _))
theorem wX84_translate_L (S Z : Nat → Prop) {hx N : Nat} (hS : ∀ x, fe_mem lX84_translate x = true → S x) (n : Nat) : ∀ j : Nat, ∀ (a0 : Nat) (a7 : Nat) (a9 : Int64) (a11 : Int32) (M : FM), WI Z hx N M → Z a0 → Z a7 → pq (FX84_translate_L267 n j a0 a7 a9 a11 M) (QA S Z hx N M)
  | 0 => by intros; exact pq_0
  | j + 1 => fun a0 a7 a9 a11 M w => wX84_translate_267 S Z hS n _ (wX84_translate_L S Z hS n j) a0 a7 a9 a11 M w
theorem wX84_translate (S Z : Nat → Prop) {hx N : Nat} (hS : ∀ x, fe_mem lX84_translate x = true → S x) (n : Nat) (a0 : Nat) (a1 : Int64) (a3 : Int32) (a4 : Int32) (M : FM) (w : WI Z hx N M) (z_a0 : Z a0) : pq (FX84_translate n a0 a1 a3 a4 M) (QA S Z hx N M) := wX84_translate_0 S Z hS n _ (wX84_translate_L S Z hS n n) a0 a1 a3 a4 M w z_a0
def lX84_find : List Nat := [208, 269, 270, 271, 272, 273, 274, 275, 276, 277, 292, 293, 294, 1201, 1203, 1204, 1278, 1279, 1295]
theorem wX84_find_90 (S Z : Nat → Prop) {hx N : Nat} (hS : ∀ x, fe_mem lX84_find x = true → S x) (n : Nat) (s0 : Int64) (M : FM) (w : WI Z hx N M) : pq (FX84_find_90 n s0 M) (QA S Z hx N M) := by
  have hN := w.2.2.1
  have w0 := wk_r (S := S) w
  delta FX84_find_90 BX84_find_90
  exact pq_s w0
theorem wX84_find_79 (S Z : Nat → Prop) {hx N : Nat} (hS : ∀ x, fe_mem lX84_find x = true → S x) (n : Nat) (a6 : Int64) (M : FM) (w : WI Z hx N M) : pq (FX84_find_79 n a6 M) (QA S Z hx N M) := by
  have hN := w.2.2.1
  have w0 := wk_r (S := S) w
  delta FX84_find_79 BX84_find_79
  exact q_tA hN w0 (wX84_find_90 S Z hS n _ _ w0.1 )
theorem wX84_find_55 (S Z : Nat → Prop) {hx N : Nat} (hS : ∀ x, fe_mem lX84_find x = true → S x) (n : Nat) (a0 : Nat) (a3 : Int32) (a4 : Int32) (a5 : Int32) (a6 : Int64) (M : FM) (w : WI Z hx N M) (z_a0 : Z a0) : pq (FX84_find_55 n a0 a3 a4 a5 a6 M) (QA S Z hx N M) := by
  have hN := w.2.2.1
  have w0 := wk_r (S := S) w
  delta FX84_find_55 BX84_find_55
  refine pq_fi (fun _ => ?_) (fun _ => ?_)
  · exact q_tA hN w0 (wX84_find_79 S Z hS n _ _ w0.1 )
  · refine pq_g (fun g1 => ?_)
    have z2 := wk_z (i := 0) (f := 288) w0 rfl z_a0
    refine pq_g (fun g3 => ?_)
    refine pq_b (wX86_let S Z (sb rfl hS) n _ _ _ _ _ _ w0.1 z2) (fun r4 K5 => ?_)
    have w6 := wk_t w0 K5 hN
    refine pq_fi (fun _ => ?_) (fun _ => ?_)
    · refine pq_g (fun g7 => ?_)
      refine pq_b (wX84_fault S Z (sb rfl hS) _ _ _ _ w6.1 z_a0) (fun r8 K9 => ?_)
      have w10 := wk_t w6 K9 hN
      exact q_tA hN w10 (wX84_find_90 S Z hS n _ _ w10.1 )
    · exact q_tA hN w6 (wX84_find_79 S Z hS n _ _ w6.1 )
theorem wX84_find_40 (S Z : Nat → Prop) {hx N : Nat} (hS : ∀ x, fe_mem lX84_find x = true → S x) (n : Nat) (a0 : Nat) (a3 : Int32) (a4 : Int32) (a5 : Int32) (s0 : Int64) (M : FM) (w : WI Z hx N M) (z_a0 : Z a0) : pq (FX84_find_40 n a0 a3 a4 a5 s0 M) (QA S Z hx N M) := by
  have hN := w.2.2.1
  have w0 := wk_r (S := S) w
  delta FX84_find_40 BX84_find_40
  exact q_tA hN w0 (wX84_find_55 S Z hS n _ _ _ _ _ _ w0.1 z_a0)
theorem wX84_find_21 (S Z : Nat → Prop) {hx N : Nat} (hS : ∀ x, fe_mem lX84_find x = true → S x) (n : Nat) (a0 : Nat) (a1 : Int64) (a3 : Int32) (a4 : Int32) (a5 : Int32) (M : FM) (w : WI Z hx N M) (z_a0 : Z a0) : pq (FX84_find_21 n a0 a1 a3 a4 a5 M) (QA S Z hx N M) := by
  have hN := w.2.2.1
  have w0 := wk_r (S := S) w
  delta FX84_find_21 BX84_find_21
  refine pq_fi (fun _ => ?_) (fun _ => ?_)
  · exact q_tA hN w0 (wX84_find_40 S Z hS n _ _ _ _ _ _ w0.1 z_a0)
  · refine pq_g (fun g1 => ?_)
    refine pq_b (wX84_fault S Z (sb rfl hS) _ _ _ _ w0.1 z_a0) (fun r2 K3 => ?_)
    have w4 := wk_t w0 K3 hN
    exact q_tA hN w4 (wX84_find_40 S Z hS n _ _ _ _ _ _ w4.1 z_a0)
theorem wX84_find_0 (S Z : Nat → Prop) {hx N : Nat} (hS : ∀ x, fe_mem lX84_find x = true → S x) (n : Nat) (a0 : Nat) (a1 : Int64) (a3 : Int32) (a4 : Int32) (a5 : Int32) (M : FM) (w : WI Z hx N M) (z_a0 : Z a0) : pq (FX84_find_0 n a0 a1 a3 a4 a5 M) (QA S Z hx N M) := by
  have hN := w.2.2.1
  have w0 := wk_r (S := S) w
  delta FX84_find_0 BX84_find_0
  refine pq_fi (fun _ => ?_) (fun _ => ?_)
  · exact q_tA hN w0 (wX84_find_21 S Z hS n _ _ _ _ _ _ w0.1 z_a0)
  · refine pq_g (fun g1 => ?_)
    refine pq_b (wX102_bits S Z (sb rfl hS) _ _ _ _ w0.1 ) (fun r2 K3 => ?_)
    have w4 := wk_t w0 K3 hN
    refine pq_fi (fun _ => ?_) (fun _ => ?_)
    · exact q_tA hN w4 (wX84_find_21 S Z hS n _ _ _ _ _ _ w4.1 z_a0)
    · refine pq_g (fun g5 => ?_)
      refine pq_b (wX84_translate S Z (sb rfl hS) n _ _ _ _ _ w4.1 z_a0) (fun r6 K7 => ?_)
      have w8 := wk_t w4 K7 hN
      exact q_tA hN w8 (wX84_find_55 S Z hS n _ _ _ _ _ _ w8.1 z_a0)
theorem wX84_find (S Z : Nat → Prop) {hx N : Nat} (hS : ∀ x, fe_mem lX84_find x = true → S x) (n : Nat) (a0 : Nat) (a1 : Int64) (a3 : Int32) (a4 : Int32) (a5 : Int32) (M : FM) (w : WI Z hx N M) (z_a0 : Z a0) : pq (FX84_find n a0 a1 a3 a4 a5 M) (QA S Z hx N M) := wX84_find_0 S Z hS n a0 a1 a3 a4 a5 M w z_a0
def lX46_find : List Nat := [208, 269, 270, 271, 272, 273, 274, 275, 276, 277, 289, 290, 292, 293, 294, 1201, 1203, 1204, 1278, 1279, 1295]
theorem wX46_find_0 (S Z : Nat → Prop) {hx N : Nat} (hS : ∀ x, fe_mem lX46_find x = true → S x) (n : Nat) (a0 : Nat) (a1 : Int64) (a3 : Int32) (a4 : Int32) (a5 : Int32) (M : FM) (w : WI Z hx N M) (z_a0 : Z a0) : pq (FX46_find_0 n a0 a1 a3 a4 a5 M) (QA S Z hx N M) := by
  have hN := w.2.2.1
  have w0 := wk_r (S := S) w
  delta FX46_find_0 BX46_find_0
  refine pq_g (fun g1 => ?_)
  have z2 := wk_z (i := 0) (f := 214) w0 rfl z_a0
  refine pq_g (fun g3 => ?_)
  refine pq_b (wX46_table S Z (sb rfl hS) _ _ w0.1 z_a0) (fun r4 K5 => ?_)
  have w6 := wk_t w0 K5.1 hN
  refine pq_g (fun g7 => ?_)
  refine pq_g (fun g8 => ?_)
  extract_lets +onlyGivenNames M10
  have w9 : Wk S Z hx N M M10 := wk_fL hN w6 rfl rfl g8 z2 (Or.inr (hS 289 rfl))
  refine pq_g (fun g11 => ?_)
  have z12 := wk_z (i := 0) (f := 214) w9 rfl z_a0
  refine pq_g (fun g13 => ?_)
  have z14 := wk_z (i := 0) (f := 213) w9 rfl z_a0
  refine pq_g (fun g15 => ?_)
  have z16 := wk_z (i := 0) (f := 27) w9 rfl z14
  refine pq_g (fun g17 => ?_)
  refine pq_g (fun g18 => ?_)
  extract_lets +onlyGivenNames M20
  have w19 : Wk S Z hx N M M20 := wk_fI hN w9 rfl rfl g18 z12 (Or.inr (hS 290 rfl))
  refine pq_g (fun g21 => ?_)
  have z22 := wk_z (i := 0) (f := 214) w19 rfl z_a0
  refine pq_g (fun g23 => ?_)
  refine pq_b (wX84_find S Z (sb rfl hS) n _ _ _ _ _ _ w19.1 z22) (fun r24 K25 => ?_)
  have w26 := wk_t w19 K25 hN
  exact pq_s w26
theorem wX46_find (S Z : Nat → Prop) {hx N : Nat} (hS : ∀ x, fe_mem lX46_find x = true → S x) (n : Nat) (a0 : Nat) (a1 : Int64) (a3 : Int32) (a4 : Int32) (a5 : Int32) (M : FM) (w : WI Z hx N M) (z_a0 : Z a0) : pq (FX46_find n a0 a1 a3 a4 a5 M) (QA S Z hx N M) := wX46_find_0 S Z hS n a0 a1 a3 a4 a5 M w z_a0
def lX77_write : List Nat := [41]
theorem wX77_write_0 (S Z : Nat → Prop) {hx N : Nat} (hS : ∀ x, fe_mem lX77_write x = true → S x) (a0 : Nat) (a1 : Int64) (M : FM) (w : WI Z hx N M) (z_a0 : Z a0) : pq (FX77_write_0 a0 a1 M) (QV S Z hx N M) := by
  have hN := w.2.2.1
  have w0 := wk_r (S := S) w
  delta FX77_write_0 BX77_write_0
  refine pq_g (fun g1 => ?_)
  refine pq_g (fun g2 => ?_)
  refine pq_g (fun g3 => ?_)
  refine pq_g (fun g4 => ?_)
  extract_lets +onlyGivenNames M6
  have w5 : Wk S Z hx N M M6 := wk_fL hN w0 rfl rfl g4 z_a0 (Or.inr (hS 41 rfl))
  exact pq_s w5
theorem wX77_write (S Z : Nat → Prop) {hx N : Nat} (hS : ∀ x, fe_mem lX77_write x = true → S x) (a0 : Nat) (a1 : Int64) (M : FM) (w : WI Z hx N M) (z_a0 : Z a0) : pq (FX77_write a0 a1 M) (QV S Z hx N M) := wX77_write_0 S Z hS a0 a1 M w z_a0
def lX78_putTwo : List Nat := [41]
theorem wX78_putTwo_0 (S Z : Nat → Prop) {hx N : Nat} (hS : ∀ x, fe_mem lX78_putTwo x = true → S x) (a0 : Nat) (a1 : Int32) (a2 : Int32) (M : FM) (w : WI Z hx N M) (z_a0 : Z a0) : pq (FX78_putTwo_0 a0 a1 a2 M) (QV S Z hx N M) := by
  have hN := w.2.2.1
  have w0 := wk_r (S := S) w
  delta FX78_putTwo_0 BX78_putTwo_0
  refine pq_g (fun g1 => ?_)
  refine pq_g (fun g2 => ?_)
  extract_lets +onlyGivenNames M4
  have w3 : Wk S Z hx N M M4 := wk_fL hN w0 rfl rfl g2 z_a0 (Or.inr (hS 41 rfl))
  exact pq_s w3
theorem wX78_putTwo (S Z : Nat → Prop) {hx N : Nat} (hS : ∀ x, fe_mem lX78_putTwo x = true → S x) (a0 : Nat) (a1 : Int32) (a2 : Int32) (M : FM) (w : WI Z hx N M) (z_a0 : Z a0) : pq (FX78_putTwo a0 a1 a2 M) (QV S Z hx N M) := wX78_putTwo_0 S Z hS a0 a1 a2 M w z_a0
def lX78_write : List Nat := [41]
theorem wX78_write_29 (S Z : Nat → Prop) {hx N : Nat} (hS : ∀ x, fe_mem lX78_write x = true → S x) (M : FM) (w : WI Z hx N M) : pq (FX78_write_29 M) (QV S Z hx N M) := by
  have hN := w.2.2.1
  have w0 := wk_r (S := S) w
  delta FX78_write_29 BX78_write_29
  exact pq_s w0
theorem wX78_write_0 (S Z : Nat → Prop) {hx N : Nat} (hS : ∀ x, fe_mem lX78_write x = true → S x) (a0 : Nat) (a1 : Int64) (M : FM) (w : WI Z hx N M) (z_a0 : Z a0) : pq (FX78_write_0 a0 a1 M) (QV S Z hx N M) := by
  have hN := w.2.2.1
  have w0 := wk_r (S := S) w
  delta FX78_write_0 BX78_write_0
  refine pq_g (fun g1 => ?_)
  refine pq_b (wX78_two S Z (sb rfl hS) _ _ _ w0.1 z_a0) (fun r2 K3 => ?_)
  have w4 := wk_t w0 K3 hN
  refine pq_g (fun g5 => ?_)
  refine pq_b (wX77_write S Z (sb rfl hS) _ _ _ w4.1 z_a0) (fun r6 K7 => ?_)
  have w8 := wk_t w4 K7 hN
  refine pq_g (fun g9 => ?_)
  refine pq_b (wX78_two S Z (sb rfl hS) _ _ _ w8.1 z_a0) (fun r10 K11 => ?_)
  have w12 := wk_t w8 K11 hN
  refine pq_fi (fun _ => ?_) (fun _ => ?_)
  · refine pq_g (fun g13 => ?_)
    refine pq_b (wX78_putTwo S Z (sb rfl hS) _ _ _ _ w12.1 z_a0) (fun r14 K15 => ?_)
    have w16 := wk_t w12 K15 hN
    exact q_tV hN w16 (wX78_write_29 S Z hS _ w16.1 )
  · exact q_tV hN w12 (wX78_write_29 S Z hS _ w12.1 )
theorem wX78_write (S Z : Nat → Prop) {hx N : Nat} (hS : ∀ x, fe_mem lX78_write x = true → S x) (a0 : Nat) (a1 : Int64) (M : FM) (w : WI Z hx N M) (z_a0 : Z a0) : pq (FX78_write a0 a1 M) (QV S Z hx N M) := wX78_write_0 S Z hS a0 a1 M w z_a0
def lX82_write : List Nat := [41]
theorem wX82_write_27 (S Z : Nat → Prop) {hx N : Nat} (hS : ∀ x, fe_mem lX82_write x = true → S x) (M : FM) (w : WI Z hx N M) : pq (FX82_write_27 M) (QV S Z hx N M) := by
  have hN := w.2.2.1
  have w0 := wk_r (S := S) w
  delta FX82_write_27 BX82_write_27
  exact pq_s w0
theorem wX82_write_22 (S Z : Nat → Prop) {hx N : Nat} (hS : ∀ x, fe_mem lX82_write x = true → S x) (a0 : Nat) (a1 : Int64) (M : FM) (w : WI Z hx N M) (z_a0 : Z a0) : pq (FX82_write_22 a0 a1 M) (QV S Z hx N M) := by
  have hN := w.2.2.1
  have w0 := wk_r (S := S) w
  delta FX82_write_22 BX82_write_22
  refine pq_g (fun g1 => ?_)
  refine pq_b (wX77_write S Z (sb rfl hS) _ _ _ w0.1 z_a0) (fun r2 K3 => ?_)
  have w4 := wk_t w0 K3 hN
  exact q_tV hN w4 (wX82_write_27 S Z hS _ w4.1 )
theorem wX82_write_0 (S Z : Nat → Prop) {hx N : Nat} (hS : ∀ x, fe_mem lX82_write x = true → S x) (a0 : Nat) (a1 : Int64) (M : FM) (w : WI Z hx N M) (z_a0 : Z a0) : pq (FX82_write_0 a0 a1 M) (QV S Z hx N M) := by
  have hN := w.2.2.1
  have w0 := wk_r (S := S) w
  delta FX82_write_0 BX82_write_0
  refine pq_fi (fun _ => ?_) (fun _ => ?_)
  · exact q_tV hN w0 (wX82_write_22 S Z hS _ _ _ w0.1 z_a0)
  · refine pq_fi (fun _ => ?_) (fun _ => ?_)
    · exact q_tV hN w0 (wX82_write_22 S Z hS _ _ _ w0.1 z_a0)
    · refine pq_fi (fun _ => ?_) (fun _ => ?_)
      · exact q_tV hN w0 (wX82_write_22 S Z hS _ _ _ w0.1 z_a0)
      · exact q_tV hN w0 (wX82_write_27 S Z hS _ w0.1 )
theorem wX82_write (S Z : Nat → Prop) {hx N : Nat} (hS : ∀ x, fe_mem lX82_write x = true → S x) (a0 : Nat) (a1 : Int64) (M : FM) (w : WI Z hx N M) (z_a0 : Z a0) : pq (FX82_write a0 a1 M) (QV S Z hx N M) := wX82_write_0 S Z hS a0 a1 M w z_a0
def lX80_take : List Nat := [41]
theorem wX80_take_84 (S Z : Nat → Prop) {hx N : Nat} (hS : ∀ x, fe_mem lX80_take x = true → S x) (s0 : Int64) (M : FM) (w : WI Z hx N M) : pq (FX80_take_84 s0 M) (QA S Z hx N M) := by
  have hN := w.2.2.1
  have w0 := wk_r (S := S) w
  delta FX80_take_84 BX80_take_84
  exact pq_s w0
theorem wX80_take_82 (S Z : Nat → Prop) {hx N : Nat} (hS : ∀ x, fe_mem lX80_take x = true → S x) (a7 : Int64) (M : FM) (w : WI Z hx N M) : pq (FX80_take_82 a7 M) (QA S Z hx N M) := by
  have hN := w.2.2.1
  have w0 := wk_r (S := S) w
  delta FX80_take_82 BX80_take_82
  exact q_tA hN w0 (wX80_take_84 S Z hS _ _ w0.1 )
theorem wX80_take_28 (S Z : Nat → Prop) {hx N : Nat} (hS : ∀ x, fe_mem lX80_take x = true → S x) (a0 : Nat) (a1 : Int32) (a2 : Int32) (a3 : Int64) (s0 : Nat) (s1 : Int64) (M : FM) (w : WI Z hx N M) (z_a0 : Z a0) (z_s0 : Z s0) : pq (FX80_take_28 a0 a1 a2 a3 s0 s1 M) (QA S Z hx N M) := by
  have hN := w.2.2.1
  have w0 := wk_r (S := S) w
  delta FX80_take_28 BX80_take_28
  refine pq_fi (fun _ => ?_) (fun _ => ?_)
  · refine pq_b (wX77_write S Z (sb rfl hS) _ _ _ w0.1 z_s0) (fun r1 K2 => ?_)
    have w3 := wk_t w0 K2 hN
    refine pq_g (fun g4 => ?_)
    have z5 := wk_z (i := 0) (f := 53) w3 rfl z_a0
    refine pq_fi (fun _ => ?_) (fun _ => ?_)
    · refine pq_b (wX77_write S Z (sb rfl hS) _ _ _ w3.1 z5) (fun r6 K7 => ?_)
      have w8 := wk_t w3 K7 hN
      refine pq_g (fun g9 => ?_)
      have z10 := wk_z (i := 0) (f := 49) w8 rfl z_a0
      refine pq_fi (fun _ => ?_) (fun _ => ?_)
      · refine pq_b (wX77_show S Z (sb rfl hS) _ _ w8.1 z10) (fun r11 K12 => ?_)
        have w13 := wk_t w8 K12 hN
        refine pq_fi (fun _ => ?_) (fun _ => ?_)
        · exact q_tA hN w13 (wX80_take_82 S Z hS _ _ w13.1 )
        · refine pq_g (fun g14 => ?_)
          have z15 := wk_z (i := 0) (f := 49) w13 rfl z_a0
          refine pq_fi (fun _ => ?_) (fun _ => ?_)
          · refine pq_b (wX77_show S Z (sb rfl hS) _ _ w13.1 z15) (fun r16 K17 => ?_)
            have w18 := wk_t w13 K17 hN
            refine pq_fi (fun _ => ?_) (fun _ => ?_)
            · exact q_tA hN w18 (wX80_take_84 S Z hS _ _ w18.1 )
            · exact q_tA hN w18 (wX80_take_82 S Z hS _ _ w18.1 )
          · refine pq_fi (fun _ => ?_) (fun _ => ?_)
            · refine pq_b (wX79_show S Z (sb rfl hS) _ _ w13.1 z15) (fun r19 K20 => ?_)
              have w21 := wk_t w13 K20 hN
              refine pq_fi (fun _ => ?_) (fun _ => ?_)
              · exact q_tA hN w21 (wX80_take_84 S Z hS _ _ w21.1 )
              · exact q_tA hN w21 (wX80_take_82 S Z hS _ _ w21.1 )
            · refine pq_fi (fun _ => ?_) (fun _ => ?_)
              · refine pq_b (wX78_show S Z (sb rfl hS) _ _ w13.1 z15) (fun r22 K23 => ?_)
                have w24 := wk_t w13 K23 hN
                refine pq_fi (fun _ => ?_) (fun _ => ?_)
                · exact q_tA hN w24 (wX80_take_84 S Z hS _ _ w24.1 )
                · exact q_tA hN w24 (wX80_take_82 S Z hS _ _ w24.1 )
              · refine pq_fi (fun _ => ?_) (fun _ => ?_)
                · refine pq_b (wX77_show S Z (sb rfl hS) _ _ w13.1 z15) (fun r25 K26 => ?_)
                  have w27 := wk_t w13 K26 hN
                  refine pq_fi (fun _ => ?_) (fun _ => ?_)
                  · exact q_tA hN w27 (wX80_take_84 S Z hS _ _ w27.1 )
                  · exact q_tA hN w27 (wX80_take_82 S Z hS _ _ w27.1 )
                · exact pq_0
      · refine pq_fi (fun _ => ?_) (fun _ => ?_)
        · refine pq_b (wX79_show S Z (sb rfl hS) _ _ w8.1 z10) (fun r28 K29 => ?_)
          have w30 := wk_t w8 K29 hN
          refine pq_fi (fun _ => ?_) (fun _ => ?_)
          · exact q_tA hN w30 (wX80_take_82 S Z hS _ _ w30.1 )
          · refine pq_g (fun g31 => ?_)
            have z32 := wk_z (i := 0) (f := 49) w30 rfl z_a0
            refine pq_fi (fun _ => ?_) (fun _ => ?_)
            · refine pq_b (wX77_show S Z (sb rfl hS) _ _ w30.1 z32) (fun r33 K34 => ?_)
              have w35 := wk_t w30 K34 hN
              refine pq_fi (fun _ => ?_) (fun _ => ?_)
              · exact q_tA hN w35 (wX80_take_84 S Z hS _ _ w35.1 )
              · exact q_tA hN w35 (wX80_take_82 S Z hS _ _ w35.1 )
            · refine pq_fi (fun _ => ?_) (fun _ => ?_)
              · refine pq_b (wX79_show S Z (sb rfl hS) _ _ w30.1 z32) (fun r36 K37 => ?_)
                have w38 := wk_t w30 K37 hN
                refine pq_fi (fun _ => ?_) (fun _ => ?_)
                · exact q_tA hN w38 (wX80_take_84 S Z hS _ _ w38.1 )
                · exact q_tA hN w38 (wX80_take_82 S Z hS _ _ w38.1 )
              · refine pq_fi (fun _ => ?_) (fun _ => ?_)
                · refine pq_b (wX78_show S Z (sb rfl hS) _ _ w30.1 z32) (fun r39 K40 => ?_)
                  have w41 := wk_t w30 K40 hN
                  refine pq_fi (fun _ => ?_) (fun _ => ?_)
                  · exact q_tA hN w41 (wX80_take_84 S Z hS _ _ w41.1 )
                  · exact q_tA hN w41 (wX80_take_82 S Z hS _ _ w41.1 )
                · refine pq_fi (fun _ => ?_) (fun _ => ?_)
                  · refine pq_b (wX77_show S Z (sb rfl hS) _ _ w30.1 z32) (fun r42 K43 => ?_)
                    have w44 := wk_t w30 K43 hN
                    refine pq_fi (fun _ => ?_) (fun _ => ?_)
                    · exact q_tA hN w44 (wX80_take_84 S Z hS _ _ w44.1 )
                    · exact q_tA hN w44 (wX80_take_82 S Z hS _ _ w44.1 )
                  · exact pq_0
        · refine pq_fi (fun _ => ?_) (fun _ => ?_)
          · refine pq_b (wX78_show S Z (sb rfl hS) _ _ w8.1 z10) (fun r45 K46 => ?_)
            have w47 := wk_t w8 K46 hN
            refine pq_fi (fun _ => ?_) (fun _ => ?_)
            · exact q_tA hN w47 (wX80_take_82 S Z hS _ _ w47.1 )
            · refine pq_g (fun g48 => ?_)
              have z49 := wk_z (i := 0) (f := 49) w47 rfl z_a0
              refine pq_fi (fun _ => ?_) (fun _ => ?_)
              · refine pq_b (wX77_show S Z (sb rfl hS) _ _ w47.1 z49) (fun r50 K51 => ?_)
                have w52 := wk_t w47 K51 hN
                refine pq_fi (fun _ => ?_) (fun _ => ?_)
                · exact q_tA hN w52 (wX80_take_84 S Z hS _ _ w52.1 )
                · exact q_tA hN w52 (wX80_take_82 S Z hS _ _ w52.1 )
              · refine pq_fi (fun _ => ?_) (fun _ => ?_)
                · refine pq_b (wX79_show S Z (sb rfl hS) _ _ w47.1 z49) (fun r53 K54 => ?_)
                  have w55 := wk_t w47 K54 hN
                  refine pq_fi (fun _ => ?_) (fun _ => ?_)
                  · exact q_tA hN w55 (wX80_take_84 S Z hS _ _ w55.1 )
                  · exact q_tA hN w55 (wX80_take_82 S Z hS _ _ w55.1 )
                · refine pq_fi (fun _ => ?_) (fun _ => ?_)
                  · refine pq_b (wX78_show S Z (sb rfl hS) _ _ w47.1 z49) (fun r56 K57 => ?_)
                    have w58 := wk_t w47 K57 hN
                    refine pq_fi (fun _ => ?_) (fun _ => ?_)
                    · exact q_tA hN w58 (wX80_take_84 S Z hS _ _ w58.1 )
                    · exact q_tA hN w58 (wX80_take_82 S Z hS _ _ w58.1 )
                  · refine pq_fi (fun _ => ?_) (fun _ => ?_)
                    · refine pq_b (wX77_show S Z (sb rfl hS) _ _ w47.1 z49) (fun r59 K60 => ?_)
                      have w61 := wk_t w47 K60 hN
                      refine pq_fi (fun _ => ?_) (fun _ => ?_)
                      · exact q_tA hN w61 (wX80_take_84 S Z hS _ _ w61.1 )
                      · exact q_tA hN w61 (wX80_take_82 S Z hS _ _ w61.1 )
                    · exact pq_0
          · refine pq_fi (fun _ => ?_) (fun _ => ?_)
            · refine pq_b (wX77_show S Z (sb rfl hS) _ _ w8.1 z10) (fun r62 K63 => ?_)
              have w64 := wk_t w8 K63 hN
              refine pq_fi (fun _ => ?_) (fun _ => ?_)
              · exact q_tA hN w64 (wX80_take_82 S Z hS _ _ w64.1 )
              · refine pq_g (fun g65 => ?_)
                have z66 := wk_z (i := 0) (f := 49) w64 rfl z_a0
                refine pq_fi (fun _ => ?_) (fun _ => ?_)
                · refine pq_b (wX77_show S Z (sb rfl hS) _ _ w64.1 z66) (fun r67 K68 => ?_)
                  have w69 := wk_t w64 K68 hN
                  refine pq_fi (fun _ => ?_) (fun _ => ?_)
                  · exact q_tA hN w69 (wX80_take_84 S Z hS _ _ w69.1 )
                  · exact q_tA hN w69 (wX80_take_82 S Z hS _ _ w69.1 )
                · refine pq_fi (fun _ => ?_) (fun _ => ?_)
                  · refine pq_b (wX79_show S Z (sb rfl hS) _ _ w64.1 z66) (fun r70 K71 => ?_)
                    have w72 := wk_t w64 K71 hN
                    refine pq_fi (fun _ => ?_) (fun _ => ?_)
                    · exact q_tA hN w72 (wX80_take_84 S Z hS _ _ w72.1 )
                    · exact q_tA hN w72 (wX80_take_82 S Z hS _ _ w72.1 )
                  · refine pq_fi (fun _ => ?_) (fun _ => ?_)
                    · refine pq_b (wX78_show S Z (sb rfl hS) _ _ w64.1 z66) (fun r73 K74 => ?_)
                      have w75 := wk_t w64 K74 hN
                      refine pq_fi (fun _ => ?_) (fun _ => ?_)
                      · exact q_tA hN w75 (wX80_take_84 S Z hS _ _ w75.1 )
                      · exact q_tA hN w75 (wX80_take_82 S Z hS _ _ w75.1 )
                    · refine pq_fi (fun _ => ?_) (fun _ => ?_)
                      · refine pq_b (wX77_show S Z (sb rfl hS) _ _ w64.1 z66) (fun r76 K77 => ?_)
                        have w78 := wk_t w64 K77 hN
                        refine pq_fi (fun _ => ?_) (fun _ => ?_)
                        · exact q_tA hN w78 (wX80_take_84 S Z hS _ _ w78.1 )
                        · exact q_tA hN w78 (wX80_take_82 S Z hS _ _ w78.1 )
                      · exact pq_0
            · exact pq_0
    · refine pq_fi (fun _ => ?_) (fun _ => ?_)
      · refine pq_b (wX77_write S Z (sb rfl hS) _ _ _ w3.1 z5) (fun r79 K80 => ?_)
        have w81 := wk_t w3 K80 hN
        refine pq_g (fun g82 => ?_)
        have z83 := wk_z (i := 0) (f := 49) w81 rfl z_a0
        refine pq_fi (fun _ => ?_) (fun _ => ?_)
        · refine pq_b (wX77_show S Z (sb rfl hS) _ _ w81.1 z83) (fun r84 K85 => ?_)
          have w86 := wk_t w81 K85 hN
          refine pq_fi (fun _ => ?_) (fun _ => ?_)
          · exact q_tA hN w86 (wX80_take_82 S Z hS _ _ w86.1 )
          · refine pq_g (fun g87 => ?_)
            have z88 := wk_z (i := 0) (f := 49) w86 rfl z_a0
            refine pq_fi (fun _ => ?_) (fun _ => ?_)
            · refine pq_b (wX77_show S Z (sb rfl hS) _ _ w86.1 z88) (fun r89 K90 => ?_)
              have w91 := wk_t w86 K90 hN
              refine pq_fi (fun _ => ?_) (fun _ => ?_)
              · exact q_tA hN w91 (wX80_take_84 S Z hS _ _ w91.1 )
              · exact q_tA hN w91 (wX80_take_82 S Z hS _ _ w91.1 )
            · refine pq_fi (fun _ => ?_) (fun _ => ?_)
              · refine pq_b (wX79_show S Z (sb rfl hS) _ _ w86.1 z88) (fun r92 K93 => ?_)
                have w94 := wk_t w86 K93 hN
                refine pq_fi (fun _ => ?_) (fun _ => ?_)
                · exact q_tA hN w94 (wX80_take_84 S Z hS _ _ w94.1 )
                · exact q_tA hN w94 (wX80_take_82 S Z hS _ _ w94.1 )
              · refine pq_fi (fun _ => ?_) (fun _ => ?_)
                · refine pq_b (wX78_show S Z (sb rfl hS) _ _ w86.1 z88) (fun r95 K96 => ?_)
                  have w97 := wk_t w86 K96 hN
                  refine pq_fi (fun _ => ?_) (fun _ => ?_)
                  · exact q_tA hN w97 (wX80_take_84 S Z hS _ _ w97.1 )
                  · exact q_tA hN w97 (wX80_take_82 S Z hS _ _ w97.1 )
                · refine pq_fi (fun _ => ?_) (fun _ => ?_)
                  · refine pq_b (wX77_show S Z (sb rfl hS) _ _ w86.1 z88) (fun r98 K99 => ?_)
                    have w100 := wk_t w86 K99 hN
                    refine pq_fi (fun _ => ?_) (fun _ => ?_)
                    · exact q_tA hN w100 (wX80_take_84 S Z hS _ _ w100.1 )
                    · exact q_tA hN w100 (wX80_take_82 S Z hS _ _ w100.1 )
                  · exact pq_0
        · refine pq_fi (fun _ => ?_) (fun _ => ?_)
          · refine pq_b (wX79_show S Z (sb rfl hS) _ _ w81.1 z83) (fun r101 K102 => ?_)
            have w103 := wk_t w81 K102 hN
            refine pq_fi (fun _ => ?_) (fun _ => ?_)
            · exact q_tA hN w103 (wX80_take_82 S Z hS _ _ w103.1 )
            · refine pq_g (fun g104 => ?_)
              have z105 := wk_z (i := 0) (f := 49) w103 rfl z_a0
              refine pq_fi (fun _ => ?_) (fun _ => ?_)
              · refine pq_b (wX77_show S Z (sb rfl hS) _ _ w103.1 z105) (fun r106 K107 => ?_)
                have w108 := wk_t w103 K107 hN
                refine pq_fi (fun _ => ?_) (fun _ => ?_)
                · exact q_tA hN w108 (wX80_take_84 S Z hS _ _ w108.1 )
                · exact q_tA hN w108 (wX80_take_82 S Z hS _ _ w108.1 )
              · refine pq_fi (fun _ => ?_) (fun _ => ?_)
                · refine pq_b (wX79_show S Z (sb rfl hS) _ _ w103.1 z105) (fun r109 K110 => ?_)
                  have w111 := wk_t w103 K110 hN
                  refine pq_fi (fun _ => ?_) (fun _ => ?_)
                  · exact q_tA hN w111 (wX80_take_84 S Z hS _ _ w111.1 )
                  · exact q_tA hN w111 (wX80_take_82 S Z hS _ _ w111.1 )
                · refine pq_fi (fun _ => ?_) (fun _ => ?_)
                  · refine pq_b (wX78_show S Z (sb rfl hS) _ _ w103.1 z105) (fun r112 K113 => ?_)
                    have w114 := wk_t w103 K113 hN
                    refine pq_fi (fun _ => ?_) (fun _ => ?_)
                    · exact q_tA hN w114 (wX80_take_84 S Z hS _ _ w114.1 )
                    · exact q_tA hN w114 (wX80_take_82 S Z hS _ _ w114.1 )
                  · refine pq_fi (fun _ => ?_) (fun _ => ?_)
                    · refine pq_b (wX77_show S Z (sb rfl hS) _ _ w103.1 z105) (fun r115 K116 => ?_)
                      have w117 := wk_t w103 K116 hN
                      refine pq_fi (fun _ => ?_) (fun _ => ?_)
                      · exact q_tA hN w117 (wX80_take_84 S Z hS _ _ w117.1 )
                      · exact q_tA hN w117 (wX80_take_82 S Z hS _ _ w117.1 )
                    · exact pq_0
          · refine pq_fi (fun _ => ?_) (fun _ => ?_)
            · refine pq_b (wX78_show S Z (sb rfl hS) _ _ w81.1 z83) (fun r118 K119 => ?_)
              have w120 := wk_t w81 K119 hN
              refine pq_fi (fun _ => ?_) (fun _ => ?_)
              · exact q_tA hN w120 (wX80_take_82 S Z hS _ _ w120.1 )
              · refine pq_g (fun g121 => ?_)
                have z122 := wk_z (i := 0) (f := 49) w120 rfl z_a0
                refine pq_fi (fun _ => ?_) (fun _ => ?_)
                · refine pq_b (wX77_show S Z (sb rfl hS) _ _ w120.1 z122) (fun r123 K124 => ?_)
                  have w125 := wk_t w120 K124 hN
                  refine pq_fi (fun _ => ?_) (fun _ => ?_)
                  · exact q_tA hN w125 (wX80_take_84 S Z hS _ _ w125.1 )
                  · exact q_tA hN w125 (wX80_take_82 S Z hS _ _ w125.1 )
                · refine pq_fi (fun _ => ?_) (fun _ => ?_)
                  · refine pq_b (wX79_show S Z (sb rfl hS) _ _ w120.1 z122) (fun r126 K127 => ?_)
                    have w128 := wk_t w120 K127 hN
                    refine pq_fi (fun _ => ?_) (fun _ => ?_)
                    · exact q_tA hN w128 (wX80_take_84 S Z hS _ _ w128.1 )
                    · exact q_tA hN w128 (wX80_take_82 S Z hS _ _ w128.1 )
                  · refine pq_fi (fun _ => ?_) (fun _ => ?_)
                    · refine pq_b (wX78_show S Z (sb rfl hS) _ _ w120.1 z122) (fun r129 K130 => ?_)
                      have w131 := wk_t w120 K130 hN
                      refine pq_fi (fun _ => ?_) (fun _ => ?_)
                      · exact q_tA hN w131 (wX80_take_84 S Z hS _ _ w131.1 )
                      · exact q_tA hN w131 (wX80_take_82 S Z hS _ _ w131.1 )
                    · refine pq_fi (fun _ => ?_) (fun _ => ?_)
                      · refine pq_b (wX77_show S Z (sb rfl hS) _ _ w120.1 z122) (fun r132 K133 => ?_)
                        have w134 := wk_t w120 K133 hN
                        refine pq_fi (fun _ => ?_) (fun _ => ?_)
                        · exact q_tA hN w134 (wX80_take_84 S Z hS _ _ w134.1 )
                        · exact q_tA hN w134 (wX80_take_82 S Z hS _ _ w134.1 )
                      · exact pq_0
            · refine pq_fi (fun _ => ?_) (fun _ => ?_)
              · refine pq_b (wX77_show S Z (sb rfl hS) _ _ w81.1 z83) (fun r135 K136 => ?_)
                have w137 := wk_t w81 K136 hN
                refine pq_fi (fun _ => ?_) (fun _ => ?_)
                · exact q_tA hN w137 (wX80_take_82 S Z hS _ _ w137.1 )
                · refine pq_g (fun g138 => ?_)
                  have z139 := wk_z (i := 0) (f := 49) w137 rfl z_a0
                  refine pq_fi (fun _ => ?_) (fun _ => ?_)
                  · refine pq_b (wX77_show S Z (sb rfl hS) _ _ w137.1 z139) (fun r140 K141 => ?_)
                    have w142 := wk_t w137 K141 hN
                    refine pq_fi (fun _ => ?_) (fun _ => ?_)
                    · exact q_tA hN w142 (wX80_take_84 S Z hS _ _ w142.1 )
                    · exact q_tA hN w142 (wX80_take_82 S Z hS _ _ w142.1 )
                  · refine pq_fi (fun _ => ?_) (fun _ => ?_)
                    · refine pq_b (wX79_show S Z (sb rfl hS) _ _ w137.1 z139) (fun r143 K144 => ?_)
                      have w145 := wk_t w137 K144 hN
                      refine pq_fi (fun _ => ?_) (fun _ => ?_)
                      · exact q_tA hN w145 (wX80_take_84 S Z hS _ _ w145.1 )
                      · exact q_tA hN w145 (wX80_take_82 S Z hS _ _ w145.1 )
                    · refine pq_fi (fun _ => ?_) (fun _ => ?_)
                      · refine pq_b (wX78_show S Z (sb rfl hS) _ _ w137.1 z139) (fun r146 K147 => ?_)
                        have w148 := wk_t w137 K147 hN
                        refine pq_fi (fun _ => ?_) (fun _ => ?_)
                        · exact q_tA hN w148 (wX80_take_84 S Z hS _ _ w148.1 )
                        · exact q_tA hN w148 (wX80_take_82 S Z hS _ _ w148.1 )
                      · refine pq_fi (fun _ => ?_) (fun _ => ?_)
                        · refine pq_b (wX77_show S Z (sb rfl hS) _ _ w137.1 z139) (fun r149 K150 => ?_)
                          have w151 := wk_t w137 K150 hN
                          refine pq_fi (fun _ => ?_) (fun _ => ?_)
                          · exact q_tA hN w151 (wX80_take_84 S Z hS _ _ w151.1 )
                          · exact q_tA hN w151 (wX80_take_82 S Z hS _ _ w151.1 )
                        · exact pq_0
              · exact pq_0
      · refine pq_fi (fun _ => ?_) (fun _ => ?_)
        · refine pq_b (wX78_write S Z (sb rfl hS) _ _ _ w3.1 z5) (fun r152 K153 => ?_)
          have w154 := wk_t w3 K153 hN
          refine pq_g (fun g155 => ?_)
          have z156 := wk_z (i := 0) (f := 49) w154 rfl z_a0
          refine pq_fi (fun _ => ?_) (fun _ => ?_)
          · refine pq_b (wX77_show S Z (sb rfl hS) _ _ w154.1 z156) (fun r157 K158 => ?_)
            have w159 := wk_t w154 K158 hN
            refine pq_fi (fun _ => ?_) (fun _ => ?_)
            · exact q_tA hN w159 (wX80_take_82 S Z hS _ _ w159.1 )
            · refine pq_g (fun g160 => ?_)
              have z161 := wk_z (i := 0) (f := 49) w159 rfl z_a0
              refine pq_fi (fun _ => ?_) (fun _ => ?_)
              · refine pq_b (wX77_show S Z (sb rfl hS) _ _ w159.1 z161) (fun r162 K163 => ?_)
                have w164 := wk_t w159 K163 hN
                refine pq_fi (fun _ => ?_) (fun _ => ?_)
                · exact q_tA hN w164 (wX80_take_84 S Z hS _ _ w164.1 )
                · exact q_tA hN w164 (wX80_take_82 S Z hS _ _ w164.1 )
              · refine pq_fi (fun _ => ?_) (fun _ => ?_)
                · refine pq_b (wX79_show S Z (sb rfl hS) _ _ w159.1 z161) (fun r165 K166 => ?_)
                  have w167 := wk_t w159 K166 hN
                  refine pq_fi (fun _ => ?_) (fun _ => ?_)
                  · exact q_tA hN w167 (wX80_take_84 S Z hS _ _ w167.1 )
                  · exact q_tA hN w167 (wX80_take_82 S Z hS _ _ w167.1 )
                · refine pq_fi (fun _ => ?_) (fun _ => ?_)
                  · refine pq_b (wX78_show S Z (sb rfl hS) _ _ w159.1 z161) (fun r168 K169 => ?_)
                    have w170 := wk_t w159 K169 hN
                    refine pq_fi (fun _ => ?_) (fun _ => ?_)
                    · exact q_tA hN w170 (wX80_take_84 S Z hS _ _ w170.1 )
                    · exact q_tA hN w170 (wX80_take_82 S Z hS _ _ w170.1 )
                  · refine pq_fi (fun _ => ?_) (fun _ => ?_)
                    · refine pq_b (wX77_show S Z (sb rfl hS) _ _ w159.1 z161) (fun r171 K172 => ?_)
                      have w173 := wk_t w159 K172 hN
                      refine pq_fi (fun _ => ?_) (fun _ => ?_)
                      · exact q_tA hN w173 (wX80_take_84 S Z hS _ _ w173.1 )
                      · exact q_tA hN w173 (wX80_take_82 S Z hS _ _ w173.1 )
                    · exact pq_0
          · refine pq_fi (fun _ => ?_) (fun _ => ?_)
            · refine pq_b (wX79_show S Z (sb rfl hS) _ _ w154.1 z156) (fun r174 K175 => ?_)
              have w176 := wk_t w154 K175 hN
              refine pq_fi (fun _ => ?_) (fun _ => ?_)
              · exact q_tA hN w176 (wX80_take_82 S Z hS _ _ w176.1 )
              · refine pq_g (fun g177 => ?_)
                have z178 := wk_z (i := 0) (f := 49) w176 rfl z_a0
                refine pq_fi (fun _ => ?_) (fun _ => ?_)
                · refine pq_b (wX77_show S Z (sb rfl hS) _ _ w176.1 z178) (fun r179 K180 => ?_)
                  have w181 := wk_t w176 K180 hN
                  refine pq_fi (fun _ => ?_) (fun _ => ?_)
                  · exact q_tA hN w181 (wX80_take_84 S Z hS _ _ w181.1 )
                  · exact q_tA hN w181 (wX80_take_82 S Z hS _ _ w181.1 )
                · refine pq_fi (fun _ => ?_) (fun _ => ?_)
                  · refine pq_b (wX79_show S Z (sb rfl hS) _ _ w176.1 z178) (fun r182 K183 => ?_)
                    have w184 := wk_t w176 K183 hN
                    refine pq_fi (fun _ => ?_) (fun _ => ?_)
                    · exact q_tA hN w184 (wX80_take_84 S Z hS _ _ w184.1 )
                    · exact q_tA hN w184 (wX80_take_82 S Z hS _ _ w184.1 )
                  · refine pq_fi (fun _ => ?_) (fun _ => ?_)
                    · refine pq_b (wX78_show S Z (sb rfl hS) _ _ w176.1 z178) (fun r185 K186 => ?_)
                      have w187 := wk_t w176 K186 hN
                      refine pq_fi (fun _ => ?_) (fun _ => ?_)
                      · exact q_tA hN w187 (wX80_take_84 S Z hS _ _ w187.1 )
                      · exact q_tA hN w187 (wX80_take_82 S Z hS _ _ w187.1 )
                    · refine pq_fi (fun _ => ?_) (fun _ => ?_)
                      · refine pq_b (wX77_show S Z (sb rfl hS) _ _ w176.1 z178) (fun r188 K189 => ?_)
                        have w190 := wk_t w176 K189 hN
                        refine pq_fi (fun _ => ?_) (fun _ => ?_)
                        · exact q_tA hN w190 (wX80_take_84 S Z hS _ _ w190.1 )
                        · exact q_tA hN w190 (wX80_take_82 S Z hS _ _ w190.1 )
                      · exact pq_0
            · refine pq_fi (fun _ => ?_) (fun _ => ?_)
              · refine pq_b (wX78_show S Z (sb rfl hS) _ _ w154.1 z156) (fun r191 K192 => ?_)
                have w193 := wk_t w154 K192 hN
                refine pq_fi (fun _ => ?_) (fun _ => ?_)
                · exact q_tA hN w193 (wX80_take_82 S Z hS _ _ w193.1 )
                · refine pq_g (fun g194 => ?_)
                  have z195 := wk_z (i := 0) (f := 49) w193 rfl z_a0
                  refine pq_fi (fun _ => ?_) (fun _ => ?_)
                  · refine pq_b (wX77_show S Z (sb rfl hS) _ _ w193.1 z195) (fun r196 K197 => ?_)
                    have w198 := wk_t w193 K197 hN
                    refine pq_fi (fun _ => ?_) (fun _ => ?_)
                    · exact q_tA hN w198 (wX80_take_84 S Z hS _ _ w198.1 )
                    · exact q_tA hN w198 (wX80_take_82 S Z hS _ _ w198.1 )
                  · refine pq_fi (fun _ => ?_) (fun _ => ?_)
                    · refine pq_b (wX79_show S Z (sb rfl hS) _ _ w193.1 z195) (fun r199 K200 => ?_)
                      have w201 := wk_t w193 K200 hN
                      refine pq_fi (fun _ => ?_) (fun _ => ?_)
                      · exact q_tA hN w201 (wX80_take_84 S Z hS _ _ w201.1 )
                      · exact q_tA hN w201 (wX80_take_82 S Z hS _ _ w201.1 )
                    · refine pq_fi (fun _ => ?_) (fun _ => ?_)
                      · refine pq_b (wX78_show S Z (sb rfl hS) _ _ w193.1 z195) (fun r202 K203 => ?_)
                        have w204 := wk_t w193 K203 hN
                        refine pq_fi (fun _ => ?_) (fun _ => ?_)
                        · exact q_tA hN w204 (wX80_take_84 S Z hS _ _ w204.1 )
                        · exact q_tA hN w204 (wX80_take_82 S Z hS _ _ w204.1 )
                      · refine pq_fi (fun _ => ?_) (fun _ => ?_)
                        · refine pq_b (wX77_show S Z (sb rfl hS) _ _ w193.1 z195) (fun r205 K206 => ?_)
                          have w207 := wk_t w193 K206 hN
                          refine pq_fi (fun _ => ?_) (fun _ => ?_)
                          · exact q_tA hN w207 (wX80_take_84 S Z hS _ _ w207.1 )
                          · exact q_tA hN w207 (wX80_take_82 S Z hS _ _ w207.1 )
                        · exact pq_0
              · refine pq_fi (fun _ => ?_) (fun _ => ?_)
                · refine pq_b (wX77_show S Z (sb rfl hS) _ _ w154.1 z156) (fun r208 K209 => ?_)
                  have w210 := wk_t w154 K209 hN
                  refine pq_fi (fun _ => ?_) (fun _ => ?_)
                  · exact q_tA hN w210 (wX80_take_82 S Z hS _ _ w210.1 )
                  · refine pq_g (fun g211 => ?_)
                    have z212 := wk_z (i := 0) (f := 49) w210 rfl z_a0
                    refine pq_fi (fun _ => ?_) (fun _ => ?_)
                    · refine pq_b (wX77_show S Z (sb rfl hS) _ _ w210.1 z212) (fun r213 K214 => ?_)
                      have w215 := wk_t w210 K214 hN
                      refine pq_fi (fun _ => ?_) (fun _ => ?_)
                      · exact q_tA hN w215 (wX80_take_84 S Z hS _ _ w215.1 )
                      · exact q_tA hN w215 (wX80_take_82 S Z hS _ _ w215.1 )
                    · refine pq_fi (fun _ => ?_) (fun _ => ?_)
                      · refine pq_b (wX79_show S Z (sb rfl hS) _ _ w210.1 z212) (fun r216 K217 => ?_)
                        have w218 := wk_t w210 K217 hN
                        refine pq_fi (fun _ => ?_) (fun _ => ?_)
                        · exact q_tA hN w218 (wX80_take_84 S Z hS _ _ w218.1 )
                        · exact q_tA hN w218 (wX80_take_82 S Z hS _ _ w218.1 )
                      · refine pq_fi (fun _ => ?_) (fun _ => ?_)
                        · refine pq_b (wX78_show S Z (sb rfl hS) _ _ w210.1 z212) (fun r219 K220 => ?_)
                          have w221 := wk_t w210 K220 hN
                          refine pq_fi (fun _ => ?_) (fun _ => ?_)
                          · exact q_tA hN w221 (wX80_take_84 S Z hS _ _ w221.1 )
                          · exact q_tA hN w221 (wX80_take_82 S Z hS _ _ w221.1 )
                        · refine pq_fi (fun _ => ?_) (fun _ => ?_)
                          · refine pq_b (wX77_show S Z (sb rfl hS) _ _ w210.1 z212) (fun r222 K223 => ?_)
                            have w224 := wk_t w210 K223 hN
                            refine pq_fi (fun _ => ?_) (fun _ => ?_)
                            · exact q_tA hN w224 (wX80_take_84 S Z hS _ _ w224.1 )
                            · exact q_tA hN w224 (wX80_take_82 S Z hS _ _ w224.1 )
                          · exact pq_0
                · exact pq_0
        · refine pq_fi (fun _ => ?_) (fun _ => ?_)
          · refine pq_b (wX82_write S Z (sb rfl hS) _ _ _ w3.1 z5) (fun r225 K226 => ?_)
            have w227 := wk_t w3 K226 hN
            refine pq_g (fun g228 => ?_)
            have z229 := wk_z (i := 0) (f := 49) w227 rfl z_a0
            refine pq_fi (fun _ => ?_) (fun _ => ?_)
            · refine pq_b (wX77_show S Z (sb rfl hS) _ _ w227.1 z229) (fun r230 K231 => ?_)
              have w232 := wk_t w227 K231 hN
              refine pq_fi (fun _ => ?_) (fun _ => ?_)
              · exact q_tA hN w232 (wX80_take_82 S Z hS _ _ w232.1 )
              · refine pq_g (fun g233 => ?_)
                have z234 := wk_z (i := 0) (f := 49) w232 rfl z_a0
                refine pq_fi (fun _ => ?_) (fun _ => ?_)
                · refine pq_b (wX77_show S Z (sb rfl hS) _ _ w232.1 z234) (fun r235 K236 => ?_)
                  have w237 := wk_t w232 K236 hN
                  refine pq_fi (fun _ => ?_) (fun _ => ?_)
                  · exact q_tA hN w237 (wX80_take_84 S Z hS _ _ w237.1 )
                  · exact q_tA hN w237 (wX80_take_82 S Z hS _ _ w237.1 )
                · refine pq_fi (fun _ => ?_) (fun _ => ?_)
                  · refine pq_b (wX79_show S Z (sb rfl hS) _ _ w232.1 z234) (fun r238 K239 => ?_)
                    have w240 := wk_t w232 K239 hN
                    refine pq_fi (fun _ => ?_) (fun _ => ?_)
                    · exact q_tA hN w240 (wX80_take_84 S Z hS _ _ w240.1 )
                    · exact q_tA hN w240 (wX80_take_82 S Z hS _ _ w240.1 )
                  · refine pq_fi (fun _ => ?_) (fun _ => ?_)
                    · refine pq_b (wX78_show S Z (sb rfl hS) _ _ w232.1 z234) (fun r241 K242 => ?_)
                      have w243 := wk_t w232 K242 hN
                      refine pq_fi (fun _ => ?_) (fun _ => ?_)
                      · exact q_tA hN w243 (wX80_take_84 S Z hS _ _ w243.1 )
                      · exact q_tA hN w243 (wX80_take_82 S Z hS _ _ w243.1 )
                    · refine pq_fi (fun _ => ?_) (fun _ => ?_)
                      · refine pq_b (wX77_show S Z (sb rfl hS) _ _ w232.1 z234) (fun r244 K245 => ?_)
                        have w246 := wk_t w232 K245 hN
                        refine pq_fi (fun _ => ?_) (fun _ => ?_)
                        · exact q_tA hN w246 (wX80_take_84 S Z hS _ _ w246.1 )
                        · exact q_tA hN w246 (wX80_take_82 S Z hS _ _ w246.1 )
                      · exact pq_0
            · refine pq_fi (fun _ => ?_) (fun _ => ?_)
              · refine pq_b (wX79_show S Z (sb rfl hS) _ _ w227.1 z229) (fun r247 K248 => ?_)
                have w249 := wk_t w227 K248 hN
                refine pq_fi (fun _ => ?_) (fun _ => ?_)
                · exact q_tA hN w249 (wX80_take_82 S Z hS _ _ w249.1 )
                · refine pq_g (fun g250 => ?_)
                  have z251 := wk_z (i := 0) (f := 49) w249 rfl z_a0
                  refine pq_fi (fun _ => ?_) (fun _ => ?_)
                  · refine pq_b (wX77_show S Z (sb rfl hS) _ _ w249.1 z251) (fun r252 K253 => ?_)
                    have w254 := wk_t w249 K253 hN
                    refine pq_fi (fun _ => ?_) (fun _ => ?_)
                    · exact q_tA hN w254 (wX80_take_84 S Z hS _ _ w254.1 )
                    · exact q_tA hN w254 (wX80_take_82 S Z hS _ _ w254.1 )
                  · refine pq_fi (fun _ => ?_) (fun _ => ?_)
                    · refine pq_b (wX79_show S Z (sb rfl hS) _ _ w249.1 z251) (fun r255 K256 => ?_)
                      have w257 := wk_t w249 K256 hN
                      refine pq_fi (fun _ => ?_) (fun _ => ?_)
                      · exact q_tA hN w257 (wX80_take_84 S Z hS _ _ w257.1 )
                      · exact q_tA hN w257 (wX80_take_82 S Z hS _ _ w257.1 )
                    · refine pq_fi (fun _ => ?_) (fun _ => ?_)
                      · refine pq_b (wX78_show S Z (sb rfl hS) _ _ w249.1 z251) (fun r258 K259 => ?_)
                        have w260 := wk_t w249 K259 hN
                        refine pq_fi (fun _ => ?_) (fun _ => ?_)
                        · exact q_tA hN w260 (wX80_take_84 S Z hS _ _ w260.1 )
                        · exact q_tA hN w260 (wX80_take_82 S Z hS _ _ w260.1 )
                      · refine pq_fi (fun _ => ?_) (fun _ => ?_)
                        · refine pq_b (wX77_show S Z (sb rfl hS) _ _ w249.1 z251) (fun r261 K262 => ?_)
                          have w263 := wk_t w249 K262 hN
                          refine pq_fi (fun _ => ?_) (fun _ => ?_)
                          · exact q_tA hN w263 (wX80_take_84 S Z hS _ _ w263.1 )
                          · exact q_tA hN w263 (wX80_take_82 S Z hS _ _ w263.1 )
                        · exact pq_0
              · refine pq_fi (fun _ => ?_) (fun _ => ?_)
                · refine pq_b (wX78_show S Z (sb rfl hS) _ _ w227.1 z229) (fun r264 K265 => ?_)
                  have w266 := wk_t w227 K265 hN
                  refine pq_fi (fun _ => ?_) (fun _ => ?_)
                  · exact q_tA hN w266 (wX80_take_82 S Z hS _ _ w266.1 )
                  · refine pq_g (fun g267 => ?_)
                    have z268 := wk_z (i := 0) (f := 49) w266 rfl z_a0
                    refine pq_fi (fun _ => ?_) (fun _ => ?_)
                    · refine pq_b (wX77_show S Z (sb rfl hS) _ _ w266.1 z268) (fun r269 K270 => ?_)
                      have w271 := wk_t w266 K270 hN
                      refine pq_fi (fun _ => ?_) (fun _ => ?_)
                      · exact q_tA hN w271 (wX80_take_84 S Z hS _ _ w271.1 )
                      · exact q_tA hN w271 (wX80_take_82 S Z hS _ _ w271.1 )
                    · refine pq_fi (fun _ => ?_) (fun _ => ?_)
                      · refine pq_b (wX79_show S Z (sb rfl hS) _ _ w266.1 z268) (fun r272 K273 => ?_)
                        have w274 := wk_t w266 K273 hN
                        refine pq_fi (fun _ => ?_) (fun _ => ?_)
                        · exact q_tA hN w274 (wX80_take_84 S Z hS _ _ w274.1 )
                        · exact q_tA hN w274 (wX80_take_82 S Z hS _ _ w274.1 )
                      · refine pq_fi (fun _ => ?_) (fun _ => ?_)
                        · refine pq_b (wX78_show S Z (sb rfl hS) _ _ w266.1 z268) (fun r275 K276 => ?_)
                          have w277 := wk_t w266 K276 hN
                          refine pq_fi (fun _ => ?_) (fun _ => ?_)
                          · exact q_tA hN w277 (wX80_take_84 S Z hS _ _ w277.1 )
                          · exact q_tA hN w277 (wX80_take_82 S Z hS _ _ w277.1 )
                        · refine pq_fi (fun _ => ?_) (fun _ => ?_)
                          · refine pq_b (wX77_show S Z (sb rfl hS) _ _ w266.1 z268) (fun r278 K279 => ?_)
                            have w280 := wk_t w266 K279 hN
                            refine pq_fi (fun _ => ?_) (fun _ => ?_)
                            · exact q_tA hN w280 (wX80_take_84 S Z hS _ _ w280.1 )
                            · exact q_tA hN w280 (wX80_take_82 S Z hS _ _ w280.1 )
                          · exact pq_0
                · refine pq_fi (fun _ => ?_) (fun _ => ?_)
                  · refine pq_b (wX77_show S Z (sb rfl hS) _ _ w227.1 z229) (fun r281 K282 => ?_)
                    have w283 := wk_t w227 K282 hN
                    refine pq_fi (fun _ => ?_) (fun _ => ?_)
                    · exact q_tA hN w283 (wX80_take_82 S Z hS _ _ w283.1 )
                    · refine pq_g (fun g284 => ?_)
                      have z285 := wk_z (i := 0) (f := 49) w283 rfl z_a0
                      refine pq_fi (fun _ => ?_) (fun _ => ?_)
                      · refine pq_b (wX77_show S Z (sb rfl hS) _ _ w283.1 z285) (fun r286 K287 => ?_)
                        have w288 := wk_t w283 K287 hN
                        refine pq_fi (fun _ => ?_) (fun _ => ?_)
                        · exact q_tA hN w288 (wX80_take_84 S Z hS _ _ w288.1 )
                        · exact q_tA hN w288 (wX80_take_82 S Z hS _ _ w288.1 )
                      · refine pq_fi (fun _ => ?_) (fun _ => ?_)
                        · refine pq_b (wX79_show S Z (sb rfl hS) _ _ w283.1 z285) (fun r289 K290 => ?_)
                          have w291 := wk_t w283 K290 hN
                          refine pq_fi (fun _ => ?_) (fun _ => ?_)
                          · exact q_tA hN w291 (wX80_take_84 S Z hS _ _ w291.1 )
                          · exact q_tA hN w291 (wX80_take_82 S Z hS _ _ w291.1 )
                        · refine pq_fi (fun _ => ?_) (fun _ => ?_)
                          · refine pq_b (wX78_show S Z (sb rfl hS) _ _ w283.1 z285) (fun r292 K293 => ?_)
                            have w294 := wk_t w283 K293 hN
                            refine pq_fi (fun _ => ?_) (fun _ => ?_)
                            · exact q_tA hN w294 (wX80_take_84 S Z hS _ _ w294.1 )
                            · exact q_tA hN w294 (wX80_take_82 S Z hS _ _ w294.1 )
                          · refine pq_fi (fun _ => ?_) (fun _ => ?_)
                            · refine pq_b (wX77_show S Z (sb rfl hS) _ _ w283.1 z285) (fun r295 K296 => ?_)
                              have w297 := wk_t w283 K296 hN
                              refine pq_fi (fun _ => ?_) (fun _ => ?_)
                              · exact q_tA hN w297 (wX80_take_84 S Z hS _ _ w297.1 )
                              · exact q_tA hN w297 (wX80_take_82 S Z hS _ _ w297.1 )
                            · exact pq_0
                  · exact pq_0
          · exact pq_0
  · refine pq_fi (fun _ => ?_) (fun _ => ?_)
    · refine pq_b (wX77_write S Z (sb rfl hS) _ _ _ w0.1 z_s0) (fun r298 K299 => ?_)
      have w300 := wk_t w0 K299 hN
      refine pq_g (fun g301 => ?_)
      have z302 := wk_z (i := 0) (f := 53) w300 rfl z_a0
      refine pq_fi (fun _ => ?_) (fun _ => ?_)
      · refine pq_b (wX77_write S Z (sb rfl hS) _ _ _ w300.1 z302) (fun r303 K304 => ?_)
        have w305 := wk_t w300 K304 hN
        refine pq_g (fun g306 => ?_)
        have z307 := wk_z (i := 0) (f := 49) w305 rfl z_a0
        refine pq_fi (fun _ => ?_) (fun _ => ?_)
        · refine pq_b (wX77_show S Z (sb rfl hS) _ _ w305.1 z307) (fun r308 K309 => ?_)
          have w310 := wk_t w305 K309 hN
          refine pq_fi (fun _ => ?_) (fun _ => ?_)
          · exact q_tA hN w310 (wX80_take_82 S Z hS _ _ w310.1 )
          · refine pq_g (fun g311 => ?_)
            have z312 := wk_z (i := 0) (f := 49) w310 rfl z_a0
            refine pq_fi (fun _ => ?_) (fun _ => ?_)
            · refine pq_b (wX77_show S Z (sb rfl hS) _ _ w310.1 z312) (fun r313 K314 => ?_)
              have w315 := wk_t w310 K314 hN
              refine pq_fi (fun _ => ?_) (fun _ => ?_)
              · exact q_tA hN w315 (wX80_take_84 S Z hS _ _ w315.1 )
              · exact q_tA hN w315 (wX80_take_82 S Z hS _ _ w315.1 )
            · refine pq_fi (fun _ => ?_) (fun _ => ?_)
              · refine pq_b (wX79_show S Z (sb rfl hS) _ _ w310.1 z312) (fun r316 K317 => ?_)
                have w318 := wk_t w310 K317 hN
                refine pq_fi (fun _ => ?_) (fun _ => ?_)
                · exact q_tA hN w318 (wX80_take_84 S Z hS _ _ w318.1 )
                · exact q_tA hN w318 (wX80_take_82 S Z hS _ _ w318.1 )
              · refine pq_fi (fun _ => ?_) (fun _ => ?_)
                · refine pq_b (wX78_show S Z (sb rfl hS) _ _ w310.1 z312) (fun r319 K320 => ?_)
                  have w321 := wk_t w310 K320 hN
                  refine pq_fi (fun _ => ?_) (fun _ => ?_)
                  · exact q_tA hN w321 (wX80_take_84 S Z hS _ _ w321.1 )
                  · exact q_tA hN w321 (wX80_take_82 S Z hS _ _ w321.1 )
                · refine pq_fi (fun _ => ?_) (fun _ => ?_)
                  · refine pq_b (wX77_show S Z (sb rfl hS) _ _ w310.1 z312) (fun r322 K323 => ?_)
                    have w324 := wk_t w310 K323 hN
                    refine pq_fi (fun _ => ?_) (fun _ => ?_)
                    · exact q_tA hN w324 (wX80_take_84 S Z hS _ _ w324.1 )
                    · exact q_tA hN w324 (wX80_take_82 S Z hS _ _ w324.1 )
                  · exact pq_0
        · refine pq_fi (fun _ => ?_) (fun _ => ?_)
          · refine pq_b (wX79_show S Z (sb rfl hS) _ _ w305.1 z307) (fun r325 K326 => ?_)
            have w327 := wk_t w305 K326 hN
            refine pq_fi (fun _ => ?_) (fun _ => ?_)
            · exact q_tA hN w327 (wX80_take_82 S Z hS _ _ w327.1 )
            · refine pq_g (fun g328 => ?_)
              have z329 := wk_z (i := 0) (f := 49) w327 rfl z_a0
              refine pq_fi (fun _ => ?_) (fun _ => ?_)
              · refine pq_b (wX77_show S Z (sb rfl hS) _ _ w327.1 z329) (fun r330 K331 => ?_)
                have w332 := wk_t w327 K331 hN
                refine pq_fi (fun _ => ?_) (fun _ => ?_)
                · exact q_tA hN w332 (wX80_take_84 S Z hS _ _ w332.1 )
                · exact q_tA hN w332 (wX80_take_82 S Z hS _ _ w332.1 )
              · refine pq_fi (fun _ => ?_) (fun _ => ?_)
                · refine pq_b (wX79_show S Z (sb rfl hS) _ _ w327.1 z329) (fun r333 K334 => ?_)
                  have w335 := wk_t w327 K334 hN
                  refine pq_fi (fun _ => ?_) (fun _ => ?_)
                  · exact q_tA hN w335 (wX80_take_84 S Z hS _ _ w335.1 )
                  · exact q_tA hN w335 (wX80_take_82 S Z hS _ _ w335.1 )
                · refine pq_fi (fun _ => ?_) (fun _ => ?_)
                  · refine pq_b (wX78_show S Z (sb rfl hS) _ _ w327.1 z329) (fun r336 K337 => ?_)
                    have w338 := wk_t w327 K337 hN
                    refine pq_fi (fun _ => ?_) (fun _ => ?_)
                    · exact q_tA hN w338 (wX80_take_84 S Z hS _ _ w338.1 )
                    · exact q_tA hN w338 (wX80_take_82 S Z hS _ _ w338.1 )
                  · refine pq_fi (fun _ => ?_) (fun _ => ?_)
                    · refine pq_b (wX77_show S Z (sb rfl hS) _ _ w327.1 z329) (fun r339 K340 => ?_)
                      have w341 := wk_t w327 K340 hN
                      refine pq_fi (fun _ => ?_) (fun _ => ?_)
                      · exact q_tA hN w341 (wX80_take_84 S Z hS _ _ w341.1 )
                      · exact q_tA hN w341 (wX80_take_82 S Z hS _ _ w341.1 )
                    · exact pq_0
          · refine pq_fi (fun _ => ?_) (fun _ => ?_)
            · refine pq_b (wX78_show S Z (sb rfl hS) _ _ w305.1 z307) (fun r342 K343 => ?_)
              have w344 := wk_t w305 K343 hN
              refine pq_fi (fun _ => ?_) (fun _ => ?_)
              · exact q_tA hN w344 (wX80_take_82 S Z hS _ _ w344.1 )
              · refine pq_g (fun g345 => ?_)
                have z346 := wk_z (i := 0) (f := 49) w344 rfl z_a0
                refine pq_fi (fun _ => ?_) (fun _ => ?_)
                · refine pq_b (wX77_show S Z (sb rfl hS) _ _ w344.1 z346) (fun r347 K348 => ?_)
                  have w349 := wk_t w344 K348 hN
                  refine pq_fi (fun _ => ?_) (fun _ => ?_)
                  · exact q_tA hN w349 (wX80_take_84 S Z hS _ _ w349.1 )
                  · exact q_tA hN w349 (wX80_take_82 S Z hS _ _ w349.1 )
                · refine pq_fi (fun _ => ?_) (fun _ => ?_)
                  · refine pq_b (wX79_show S Z (sb rfl hS) _ _ w344.1 z346) (fun r350 K351 => ?_)
                    have w352 := wk_t w344 K351 hN
                    refine pq_fi (fun _ => ?_) (fun _ => ?_)
                    · exact q_tA hN w352 (wX80_take_84 S Z hS _ _ w352.1 )
                    · exact q_tA hN w352 (wX80_take_82 S Z hS _ _ w352.1 )
                  · refine pq_fi (fun _ => ?_) (fun _ => ?_)
                    · refine pq_b (wX78_show S Z (sb rfl hS) _ _ w344.1 z346) (fun r353 K354 => ?_)
                      have w355 := wk_t w344 K354 hN
                      refine pq_fi (fun _ => ?_) (fun _ => ?_)
                      · exact q_tA hN w355 (wX80_take_84 S Z hS _ _ w355.1 )
                      · exact q_tA hN w355 (wX80_take_82 S Z hS _ _ w355.1 )
                    · refine pq_fi (fun _ => ?_) (fun _ => ?_)
                      · refine pq_b (wX77_show S Z (sb rfl hS) _ _ w344.1 z346) (fun r356 K357 => ?_)
                        have w358 := wk_t w344 K357 hN
                        refine pq_fi (fun _ => ?_) (fun _ => ?_)
                        · exact q_tA hN w358 (wX80_take_84 S Z hS _ _ w358.1 )
                        · exact q_tA hN w358 (wX80_take_82 S Z hS _ _ w358.1 )
                      · exact pq_0
            · refine pq_fi (fun _ => ?_) (fun _ => ?_)
              · refine pq_b (wX77_show S Z (sb rfl hS) _ _ w305.1 z307) (fun r359 K360 => ?_)
                have w361 := wk_t w305 K360 hN
                refine pq_fi (fun _ => ?_) (fun _ => ?_)
                · exact q_tA hN w361 (wX80_take_82 S Z hS _ _ w361.1 )
                · refine pq_g (fun g362 => ?_)
                  have z363 := wk_z (i := 0) (f := 49) w361 rfl z_a0
                  refine pq_fi (fun _ => ?_) (fun _ => ?_)
                  · refine pq_b (wX77_show S Z (sb rfl hS) _ _ w361.1 z363) (fun r364 K365 => ?_)
                    have w366 := wk_t w361 K365 hN
                    refine pq_fi (fun _ => ?_) (fun _ => ?_)
                    · exact q_tA hN w366 (wX80_take_84 S Z hS _ _ w366.1 )
                    · exact q_tA hN w366 (wX80_take_82 S Z hS _ _ w366.1 )
                  · refine pq_fi (fun _ => ?_) (fun _ => ?_)
                    · refine pq_b (wX79_show S Z (sb rfl hS) _ _ w361.1 z363) (fun r367 K368 => ?_)
                      have w369 := wk_t w361 K368 hN
                      refine pq_fi (fun _ => ?_) (fun _ => ?_)
                      · exact q_tA hN w369 (wX80_take_84 S Z hS _ _ w369.1 )
                      · exact q_tA hN w369 (wX80_take_82 S Z hS _ _ w369.1 )
                    · refine pq_fi (fun _ => ?_) (fun _ => ?_)
                      · refine pq_b (wX78_show S Z (sb rfl hS) _ _ w361.1 z363) (fun r370 K371 => ?_)
                        have w372 := wk_t w361 K371 hN
                        refine pq_fi (fun _ => ?_) (fun _ => ?_)
                        · exact q_tA hN w372 (wX80_take_84 S Z hS _ _ w372.1 )
                        · exact q_tA hN w372 (wX80_take_82 S Z hS _ _ w372.1 )
                      · refine pq_fi (fun _ => ?_) (fun _ => ?_)
                        · refine pq_b (wX77_show S Z (sb rfl hS) _ _ w361.1 z363) (fun r373 K374 => ?_)
                          have w375 := wk_t w361 K374 hN
                          refine pq_fi (fun _ => ?_) (fun _ => ?_)
                          · exact q_tA hN w375 (wX80_take_84 S Z hS _ _ w375.1 )
                          · exact q_tA hN w375 (wX80_take_82 S Z hS _ _ w375.1 )
                        · exact pq_0
              · exact pq_0
      · refine pq_fi (fun _ => ?_) (fun _ => ?_)
        · refine pq_b (wX77_write S Z (sb rfl hS) _ _ _ w300.1 z302) (fun r376 K377 => ?_)
          have w378 := wk_t w300 K377 hN
          refine pq_g (fun g379 => ?_)
          have z380 := wk_z (i := 0) (f := 49) w378 rfl z_a0
          refine pq_fi (fun _ => ?_) (fun _ => ?_)
          · refine pq_b (wX77_show S Z (sb rfl hS) _ _ w378.1 z380) (fun r381 K382 => ?_)
            have w383 := wk_t w378 K382 hN
            refine pq_fi (fun _ => ?_) (fun _ => ?_)
            · exact q_tA hN w383 (wX80_take_82 S Z hS _ _ w383.1 )
            · refine pq_g (fun g384 => ?_)
              have z385 := wk_z (i := 0) (f := 49) w383 rfl z_a0
              refine pq_fi (fun _ => ?_) (fun _ => ?_)
              · refine pq_b (wX77_show S Z (sb rfl hS) _ _ w383.1 z385) (fun r386 K387 => ?_)
                have w388 := wk_t w383 K387 hN
                refine pq_fi (fun _ => ?_) (fun _ => ?_)
                · exact q_tA hN w388 (wX80_take_84 S Z hS _ _ w388.1 )
                · exact q_tA hN w388 (wX80_take_82 S Z hS _ _ w388.1 )
              · refine pq_fi (fun _ => ?_) (fun _ => ?_)
                · refine pq_b (wX79_show S Z (sb rfl hS) _ _ w383.1 z385) (fun r389 K390 => ?_)
                  have w391 := wk_t w383 K390 hN
                  refine pq_fi (fun _ => ?_) (fun _ => ?_)
                  · exact q_tA hN w391 (wX80_take_84 S Z hS _ _ w391.1 )
                  · exact q_tA hN w391 (wX80_take_82 S Z hS _ _ w391.1 )
                · refine pq_fi (fun _ => ?_) (fun _ => ?_)
                  · refine pq_b (wX78_show S Z (sb rfl hS) _ _ w383.1 z385) (fun r392 K393 => ?_)
                    have w394 := wk_t w383 K393 hN
                    refine pq_fi (fun _ => ?_) (fun _ => ?_)
                    · exact q_tA hN w394 (wX80_take_84 S Z hS _ _ w394.1 )
                    · exact q_tA hN w394 (wX80_take_82 S Z hS _ _ w394.1 )
                  · refine pq_fi (fun _ => ?_) (fun _ => ?_)
                    · refine pq_b (wX77_show S Z (sb rfl hS) _ _ w383.1 z385) (fun r395 K396 => ?_)
                      have w397 := wk_t w383 K396 hN
                      refine pq_fi (fun _ => ?_) (fun _ => ?_)
                      · exact q_tA hN w397 (wX80_take_84 S Z hS _ _ w397.1 )
                      · exact q_tA hN w397 (wX80_take_82 S Z hS _ _ w397.1 )
                    · exact pq_0
          · refine pq_fi (fun _ => ?_) (fun _ => ?_)
            · refine pq_b (wX79_show S Z (sb rfl hS) _ _ w378.1 z380) (fun r398 K399 => ?_)
              have w400 := wk_t w378 K399 hN
              refine pq_fi (fun _ => ?_) (fun _ => ?_)
              · exact q_tA hN w400 (wX80_take_82 S Z hS _ _ w400.1 )
              · refine pq_g (fun g401 => ?_)
                have z402 := wk_z (i := 0) (f := 49) w400 rfl z_a0
                refine pq_fi (fun _ => ?_) (fun _ => ?_)
                · refine pq_b (wX77_show S Z (sb rfl hS) _ _ w400.1 z402) (fun r403 K404 => ?_)
                  have w405 := wk_t w400 K404 hN
                  refine pq_fi (fun _ => ?_) (fun _ => ?_)
                  · exact q_tA hN w405 (wX80_take_84 S Z hS _ _ w405.1 )
                  · exact q_tA hN w405 (wX80_take_82 S Z hS _ _ w405.1 )
                · refine pq_fi (fun _ => ?_) (fun _ => ?_)
                  · refine pq_b (wX79_show S Z (sb rfl hS) _ _ w400.1 z402) (fun r406 K407 => ?_)
                    have w408 := wk_t w400 K407 hN
                    refine pq_fi (fun _ => ?_) (fun _ => ?_)
                    · exact q_tA hN w408 (wX80_take_84 S Z hS _ _ w408.1 )
                    · exact q_tA hN w408 (wX80_take_82 S Z hS _ _ w408.1 )
                  · refine pq_fi (fun _ => ?_) (fun _ => ?_)
                    · refine pq_b (wX78_show S Z (sb rfl hS) _ _ w400.1 z402) (fun r409 K410 => ?_)
                      have w411 := wk_t w400 K410 hN
                      refine pq_fi (fun _ => ?_) (fun _ => ?_)
                      · exact q_tA hN w411 (wX80_take_84 S Z hS _ _ w411.1 )
                      · exact q_tA hN w411 (wX80_take_82 S Z hS _ _ w411.1 )
                    · refine pq_fi (fun _ => ?_) (fun _ => ?_)
                      · refine pq_b (wX77_show S Z (sb rfl hS) _ _ w400.1 z402) (fun r412 K413 => ?_)
                        have w414 := wk_t w400 K413 hN
                        refine pq_fi (fun _ => ?_) (fun _ => ?_)
                        · exact q_tA hN w414 (wX80_take_84 S Z hS _ _ w414.1 )
                        · exact q_tA hN w414 (wX80_take_82 S Z hS _ _ w414.1 )
                      · exact pq_0
            · refine pq_fi (fun _ => ?_) (fun _ => ?_)
              · refine pq_b (wX78_show S Z (sb rfl hS) _ _ w378.1 z380) (fun r415 K416 => ?_)
                have w417 := wk_t w378 K416 hN
                refine pq_fi (fun _ => ?_) (fun _ => ?_)
                · exact q_tA hN w417 (wX80_take_82 S Z hS _ _ w417.1 )
                · refine pq_g (fun g418 => ?_)
                  have z419 := wk_z (i := 0) (f := 49) w417 rfl z_a0
                  refine pq_fi (fun _ => ?_) (fun _ => ?_)
                  · refine pq_b (wX77_show S Z (sb rfl hS) _ _ w417.1 z419) (fun r420 K421 => ?_)
                    have w422 := wk_t w417 K421 hN
                    refine pq_fi (fun _ => ?_) (fun _ => ?_)
                    · exact q_tA hN w422 (wX80_take_84 S Z hS _ _ w422.1 )
                    · exact q_tA hN w422 (wX80_take_82 S Z hS _ _ w422.1 )
                  · refine pq_fi (fun _ => ?_) (fun _ => ?_)
                    · refine pq_b (wX79_show S Z (sb rfl hS) _ _ w417.1 z419) (fun r423 K424 => ?_)
                      have w425 := wk_t w417 K424 hN
                      refine pq_fi (fun _ => ?_) (fun _ => ?_)
                      · exact q_tA hN w425 (wX80_take_84 S Z hS _ _ w425.1 )
                      · exact q_tA hN w425 (wX80_take_82 S Z hS _ _ w425.1 )
                    · refine pq_fi (fun _ => ?_) (fun _ => ?_)
                      · refine pq_b (wX78_show S Z (sb rfl hS) _ _ w417.1 z419) (fun r426 K427 => ?_)
                        have w428 := wk_t w417 K427 hN
                        refine pq_fi (fun _ => ?_) (fun _ => ?_)
                        · exact q_tA hN w428 (wX80_take_84 S Z hS _ _ w428.1 )
                        · exact q_tA hN w428 (wX80_take_82 S Z hS _ _ w428.1 )
                      · refine pq_fi (fun _ => ?_) (fun _ => ?_)
                        · refine pq_b (wX77_show S Z (sb rfl hS) _ _ w417.1 z419) (fun r429 K430 => ?_)
                          have w431 := wk_t w417 K430 hN
                          refine pq_fi (fun _ => ?_) (fun _ => ?_)
                          · exact q_tA hN w431 (wX80_take_84 S Z hS _ _ w431.1 )
                          · exact q_tA hN w431 (wX80_take_82 S Z hS _ _ w431.1 )
                        · exact pq_0
              · refine pq_fi (fun _ => ?_) (fun _ => ?_)
                · refine pq_b (wX77_show S Z (sb rfl hS) _ _ w378.1 z380) (fun r432 K433 => ?_)
                  have w434 := wk_t w378 K433 hN
                  refine pq_fi (fun _ => ?_) (fun _ => ?_)
                  · exact q_tA hN w434 (wX80_take_82 S Z hS _ _ w434.1 )
                  · refine pq_g (fun g435 => ?_)
                    have z436 := wk_z (i := 0) (f := 49) w434 rfl z_a0
                    refine pq_fi (fun _ => ?_) (fun _ => ?_)
                    · refine pq_b (wX77_show S Z (sb rfl hS) _ _ w434.1 z436) (fun r437 K438 => ?_)
                      have w439 := wk_t w434 K438 hN
                      refine pq_fi (fun _ => ?_) (fun _ => ?_)
                      · exact q_tA hN w439 (wX80_take_84 S Z hS _ _ w439.1 )
                      · exact q_tA hN w439 (wX80_take_82 S Z hS _ _ w439.1 )
                    · refine pq_fi (fun _ => ?_) (fun _ => ?_)
                      · refine pq_b (wX79_show S Z (sb rfl hS) _ _ w434.1 z436) (fun r440 K441 => ?_)
                        have w442 := wk_t w434 K441 hN
                        refine pq_fi (fun _ => ?_) (fun _ => ?_)
                        · exact q_tA hN w442 (wX80_take_84 S Z hS _ _ w442.1 )
                        · exact q_tA hN w442 (wX80_take_82 S Z hS _ _ w442.1 )
                      · refine pq_fi (fun _ => ?_) (fun _ => ?_)
                        · refine pq_b (wX78_show S Z (sb rfl hS) _ _ w434.1 z436) (fun r443 K444 => ?_)
                          have w445 := wk_t w434 K444 hN
                          refine pq_fi (fun _ => ?_) (fun _ => ?_)
                          · exact q_tA hN w445 (wX80_take_84 S Z hS _ _ w445.1 )
                          · exact q_tA hN w445 (wX80_take_82 S Z hS _ _ w445.1 )
                        · refine pq_fi (fun _ => ?_) (fun _ => ?_)
                          · refine pq_b (wX77_show S Z (sb rfl hS) _ _ w434.1 z436) (fun r446 K447 => ?_)
                            have w448 := wk_t w434 K447 hN
                            refine pq_fi (fun _ => ?_) (fun _ => ?_)
                            · exact q_tA hN w448 (wX80_take_84 S Z hS _ _ w448.1 )
                            · exact q_tA hN w448 (wX80_take_82 S Z hS _ _ w448.1 )
                          · exact pq_0
                · exact pq_0
        · refine pq_fi (fun _ => ?_) (fun _ => ?_)
          · refine pq_b (wX78_write S Z (sb rfl hS) _ _ _ w300.1 z302) (fun r449 K450 => ?_)
            have w451 := wk_t w300 K450 hN
            refine pq_g (fun g452 => ?_)
            have z453 := wk_z (i := 0) (f := 49) w451 rfl z_a0
            refine pq_fi (fun _ => ?_) (fun _ => ?_)
            · refine pq_b (wX77_show S Z (sb rfl hS) _ _ w451.1 z453) (fun r454 K455 => ?_)
              have w456 := wk_t w451 K455 hN
              refine pq_fi (fun _ => ?_) (fun _ => ?_)
              · exact q_tA hN w456 (wX80_take_82 S Z hS _ _ w456.1 )
              · refine pq_g (fun g457 => ?_)
                have z458 := wk_z (i := 0) (f := 49) w456 rfl z_a0
                refine pq_fi (fun _ => ?_) (fun _ => ?_)
                · refine pq_b (wX77_show S Z (sb rfl hS) _ _ w456.1 z458) (fun r459 K460 => ?_)
                  have w461 := wk_t w456 K460 hN
                  refine pq_fi (fun _ => ?_) (fun _ => ?_)
                  · exact q_tA hN w461 (wX80_take_84 S Z hS _ _ w461.1 )
                  · exact q_tA hN w461 (wX80_take_82 S Z hS _ _ w461.1 )
                · refine pq_fi (fun _ => ?_) (fun _ => ?_)
                  · refine pq_b (wX79_show S Z (sb rfl hS) _ _ w456.1 z458) (fun r462 K463 => ?_)
                    have w464 := wk_t w456 K463 hN
                    refine pq_fi (fun _ => ?_) (fun _ => ?_)
                    · exact q_tA hN w464 (wX80_take_84 S Z hS _ _ w464.1 )
                    · exact q_tA hN w464 (wX80_take_82 S Z hS _ _ w464.1 )
                  · refine pq_fi (fun _ => ?_) (fun _ => ?_)
                    · refine pq_b (wX78_show S Z (sb rfl hS) _ _ w456.1 z458) (fun r465 K466 => ?_)
                      have w467 := wk_t w456 K466 hN
                      refine pq_fi (fun _ => ?_) (fun _ => ?_)
                      · exact q_tA hN w467 (wX80_take_84 S Z hS _ _ w467.1 )
                      · exact q_tA hN w467 (wX80_take_82 S Z hS _ _ w467.1 )
                    · refine pq_fi (fun _ => ?_) (fun _ => ?_)
                      · refine pq_b (wX77_show S Z (sb rfl hS) _ _ w456.1 z458) (fun r468 K469 => ?_)
                        have w470 := wk_t w456 K469 hN
                        refine pq_fi (fun _ => ?_) (fun _ => ?_)
                        · exact q_tA hN w470 (wX80_take_84 S Z hS _ _ w470.1 )
                        · exact q_tA hN w470 (wX80_take_82 S Z hS _ _ w470.1 )
                      · exact pq_0
            · refine pq_fi (fun _ => ?_) (fun _ => ?_)
              · refine pq_b (wX79_show S Z (sb rfl hS) _ _ w451.1 z453) (fun r471 K472 => ?_)
                have w473 := wk_t w451 K472 hN
                refine pq_fi (fun _ => ?_) (fun _ => ?_)
                · exact q_tA hN w473 (wX80_take_82 S Z hS _ _ w473.1 )
                · refine pq_g (fun g474 => ?_)
                  have z475 := wk_z (i := 0) (f := 49) w473 rfl z_a0
                  refine pq_fi (fun _ => ?_) (fun _ => ?_)
                  · refine pq_b (wX77_show S Z (sb rfl hS) _ _ w473.1 z475) (fun r476 K477 => ?_)
                    have w478 := wk_t w473 K477 hN
                    refine pq_fi (fun _ => ?_) (fun _ => ?_)
                    · exact q_tA hN w478 (wX80_take_84 S Z hS _ _ w478.1 )
                    · exact q_tA hN w478 (wX80_take_82 S Z hS _ _ w478.1 )
                  · refine pq_fi (fun _ => ?_) (fun _ => ?_)
                    · refine pq_b (wX79_show S Z (sb rfl hS) _ _ w473.1 z475) (fun r479 K480 => ?_)
                      have w481 := wk_t w473 K480 hN
                      refine pq_fi (fun _ => ?_) (fun _ => ?_)
                      · exact q_tA hN w481 (wX80_take_84 S Z hS _ _ w481.1 )
                      · exact q_tA hN w481 (wX80_take_82 S Z hS _ _ w481.1 )
                    · refine pq_fi (fun _ => ?_) (fun _ => ?_)
                      · refine pq_b (wX78_show S Z (sb rfl hS) _ _ w473.1 z475) (fun r482 K483 => ?_)
                        have w484 := wk_t w473 K483 hN
                        refine pq_fi (fun _ => ?_) (fun _ => ?_)
                        · exact q_tA hN w484 (wX80_take_84 S Z hS _ _ w484.1 )
                        · exact q_tA hN w484 (wX80_take_82 S Z hS _ _ w484.1 )
                      · refine pq_fi (fun _ => ?_) (fun _ => ?_)
                        · refine pq_b (wX77_show S Z (sb rfl hS) _ _ w473.1 z475) (fun r485 K486 => ?_)
                          have w487 := wk_t w473 K486 hN
                          refine pq_fi (fun _ => ?_) (fun _ => ?_)
                          · exact q_tA hN w487 (wX80_take_84 S Z hS _ _ w487.1 )
                          · exact q_tA hN w487 (wX80_take_82 S Z hS _ _ w487.1 )
                        · exact pq_0
              · refine pq_fi (fun _ => ?_) (fun _ => ?_)
                · refine pq_b (wX78_show S Z (sb rfl hS) _ _ w451.1 z453) (fun r488 K489 => ?_)
                  have w490 := wk_t w451 K489 hN
                  refine pq_fi (fun _ => ?_) (fun _ => ?_)
                  · exact q_tA hN w490 (wX80_take_82 S Z hS _ _ w490.1 )
                  · refine pq_g (fun g491 => ?_)
                    have z492 := wk_z (i := 0) (f := 49) w490 rfl z_a0
                    refine pq_fi (fun _ => ?_) (fun _ => ?_)
                    · refine pq_b (wX77_show S Z (sb rfl hS) _ _ w490.1 z492) (fun r493 K494 => ?_)
                      have w495 := wk_t w490 K494 hN
                      refine pq_fi (fun _ => ?_) (fun _ => ?_)
                      · exact q_tA hN w495 (wX80_take_84 S Z hS _ _ w495.1 )
                      · exact q_tA hN w495 (wX80_take_82 S Z hS _ _ w495.1 )
                    · refine pq_fi (fun _ => ?_) (fun _ => ?_)
                      · refine pq_b (wX79_show S Z (sb rfl hS) _ _ w490.1 z492) (fun r496 K497 => ?_)
                        have w498 := wk_t w490 K497 hN
                        refine pq_fi (fun _ => ?_) (fun _ => ?_)
                        · exact q_tA hN w498 (wX80_take_84 S Z hS _ _ w498.1 )
                        · exact q_tA hN w498 (wX80_take_82 S Z hS _ _ w498.1 )
                      · refine pq_fi (fun _ => ?_) (fun _ => ?_)
                        · refine pq_b (wX78_show S Z (sb rfl hS) _ _ w490.1 z492) (fun r499 K500 => ?_)
                          have w501 := wk_t w490 K500 hN
                          refine pq_fi (fun _ => ?_) (fun _ => ?_)
                          · exact q_tA hN w501 (wX80_take_84 S Z hS _ _ w501.1 )
                          · exact q_tA hN w501 (wX80_take_82 S Z hS _ _ w501.1 )
                        · refine pq_fi (fun _ => ?_) (fun _ => ?_)
                          · refine pq_b (wX77_show S Z (sb rfl hS) _ _ w490.1 z492) (fun r502 K503 => ?_)
                            have w504 := wk_t w490 K503 hN
                            refine pq_fi (fun _ => ?_) (fun _ => ?_)
                            · exact q_tA hN w504 (wX80_take_84 S Z hS _ _ w504.1 )
                            · exact q_tA hN w504 (wX80_take_82 S Z hS _ _ w504.1 )
                          · exact pq_0
                · refine pq_fi (fun _ => ?_) (fun _ => ?_)
                  · refine pq_b (wX77_show S Z (sb rfl hS) _ _ w451.1 z453) (fun r505 K506 => ?_)
                    have w507 := wk_t w451 K506 hN
                    refine pq_fi (fun _ => ?_) (fun _ => ?_)
                    · exact q_tA hN w507 (wX80_take_82 S Z hS _ _ w507.1 )
                    · refine pq_g (fun g508 => ?_)
                      have z509 := wk_z (i := 0) (f := 49) w507 rfl z_a0
                      refine pq_fi (fun _ => ?_) (fun _ => ?_)
                      · refine pq_b (wX77_show S Z (sb rfl hS) _ _ w507.1 z509) (fun r510 K511 => ?_)
                        have w512 := wk_t w507 K511 hN
                        refine pq_fi (fun _ => ?_) (fun _ => ?_)
                        · exact q_tA hN w512 (wX80_take_84 S Z hS _ _ w512.1 )
                        · exact q_tA hN w512 (wX80_take_82 S Z hS _ _ w512.1 )
                      · refine pq_fi (fun _ => ?_) (fun _ => ?_)
                        · refine pq_b (wX79_show S Z (sb rfl hS) _ _ w507.1 z509) (fun r513 K514 => ?_)
                          have w515 := wk_t w507 K514 hN
                          refine pq_fi (fun _ => ?_) (fun _ => ?_)
                          · exact q_tA hN w515 (wX80_take_84 S Z hS _ _ w515.1 )
                          · exact q_tA hN w515 (wX80_take_82 S Z hS _ _ w515.1 )
                        · refine pq_fi (fun _ => ?_) (fun _ => ?_)
                          · refine pq_b (wX78_show S Z (sb rfl hS) _ _ w507.1 z509) (fun r516 K517 => ?_)
                            have w518 := wk_t w507 K517 hN
                            refine pq_fi (fun _ => ?_) (fun _ => ?_)
                            · exact q_tA hN w518 (wX80_take_84 S Z hS _ _ w518.1 )
                            · exact q_tA hN w518 (wX80_take_82 S Z hS _ _ w518.1 )
                          · refine pq_fi (fun _ => ?_) (fun _ => ?_)
                            · refine pq_b (wX77_show S Z (sb rfl hS) _ _ w507.1 z509) (fun r519 K520 => ?_)
                              have w521 := wk_t w507 K520 hN
                              refine pq_fi (fun _ => ?_) (fun _ => ?_)
                              · exact q_tA hN w521 (wX80_take_84 S Z hS _ _ w521.1 )
                              · exact q_tA hN w521 (wX80_take_82 S Z hS _ _ w521.1 )
                            · exact pq_0
                  · exact pq_0
          · refine pq_fi (fun _ => ?_) (fun _ => ?_)
            · refine pq_b (wX82_write S Z (sb rfl hS) _ _ _ w300.1 z302) (fun r522 K523 => ?_)
              have w524 := wk_t w300 K523 hN
              refine pq_g (fun g525 => ?_)
              have z526 := wk_z (i := 0) (f := 49) w524 rfl z_a0
              refine pq_fi (fun _ => ?_) (fun _ => ?_)
              · refine pq_b (wX77_show S Z (sb rfl hS) _ _ w524.1 z526) (fun r527 K528 => ?_)
                have w529 := wk_t w524 K528 hN
                refine pq_fi (fun _ => ?_) (fun _ => ?_)
                · exact q_tA hN w529 (wX80_take_82 S Z hS _ _ w529.1 )
                · refine pq_g (fun g530 => ?_)
                  have z531 := wk_z (i := 0) (f := 49) w529 rfl z_a0
                  refine pq_fi (fun _ => ?_) (fun _ => ?_)
                  · refine pq_b (wX77_show S Z (sb rfl hS) _ _ w529.1 z531) (fun r532 K533 => ?_)
                    have w534 := wk_t w529 K533 hN
                    refine pq_fi (fun _ => ?_) (fun _ => ?_)
                    · exact q_tA hN w534 (wX80_take_84 S Z hS _ _ w534.1 )
                    · exact q_tA hN w534 (wX80_take_82 S Z hS _ _ w534.1 )
                  · refine pq_fi (fun _ => ?_) (fun _ => ?_)
                    · refine pq_b (wX79_show S Z (sb rfl hS) _ _ w529.1 z531) (fun r535 K536 => ?_)
                      have w537 := wk_t w529 K536 hN
                      refine pq_fi (fun _ => ?_) (fun _ => ?_)
                      · exact q_tA hN w537 (wX80_take_84 S Z hS _ _ w537.1 )
                      · exact q_tA hN w537 (wX80_take_82 S Z hS _ _ w537.1 )
                    · refine pq_fi (fun _ => ?_) (fun _ => ?_)
                      · refine pq_b (wX78_show S Z (sb rfl hS) _ _ w529.1 z531) (fun r538 K539 => ?_)
                        have w540 := wk_t w529 K539 hN
                        refine pq_fi (fun _ => ?_) (fun _ => ?_)
                        · exact q_tA hN w540 (wX80_take_84 S Z hS _ _ w540.1 )
                        · exact q_tA hN w540 (wX80_take_82 S Z hS _ _ w540.1 )
                      · refine pq_fi (fun _ => ?_) (fun _ => ?_)
                        · refine pq_b (wX77_show S Z (sb rfl hS) _ _ w529.1 z531) (fun r541 K542 => ?_)
                          have w543 := wk_t w529 K542 hN
                          refine pq_fi (fun _ => ?_) (fun _ => ?_)
                          · exact q_tA hN w543 (wX80_take_84 S Z hS _ _ w543.1 )
                          · exact q_tA hN w543 (wX80_take_82 S Z hS _ _ w543.1 )
                        · exact pq_0
              · refine pq_fi (fun _ => ?_) (fun _ => ?_)
                · refine pq_b (wX79_show S Z (sb rfl hS) _ _ w524.1 z526) (fun r544 K545 => ?_)
                  have w546 := wk_t w524 K545 hN
                  refine pq_fi (fun _ => ?_) (fun _ => ?_)
                  · exact q_tA hN w546 (wX80_take_82 S Z hS _ _ w546.1 )
                  · refine pq_g (fun g547 => ?_)
                    have z548 := wk_z (i := 0) (f := 49) w546 rfl z_a0
                    refine pq_fi (fun _ => ?_) (fun _ => ?_)
                    · refine pq_b (wX77_show S Z (sb rfl hS) _ _ w546.1 z548) (fun r549 K550 => ?_)
                      have w551 := wk_t w546 K550 hN
                      refine pq_fi (fun _ => ?_) (fun _ => ?_)
                      · exact q_tA hN w551 (wX80_take_84 S Z hS _ _ w551.1 )
                      · exact q_tA hN w551 (wX80_take_82 S Z hS _ _ w551.1 )
                    · refine pq_fi (fun _ => ?_) (fun _ => ?_)
                      · refine pq_b (wX79_show S Z (sb rfl hS) _ _ w546.1 z548) (fun r552 K553 => ?_)
                        have w554 := wk_t w546 K553 hN
                        refine pq_fi (fun _ => ?_) (fun _ => ?_)
                        · exact q_tA hN w554 (wX80_take_84 S Z hS _ _ w554.1 )
                        · exact q_tA hN w554 (wX80_take_82 S Z hS _ _ w554.1 )
                      · refine pq_fi (fun _ => ?_) (fun _ => ?_)
                        · refine pq_b (wX78_show S Z (sb rfl hS) _ _ w546.1 z548) (fun r555 K556 => ?_)
                          have w557 := wk_t w546 K556 hN
                          refine pq_fi (fun _ => ?_) (fun _ => ?_)
                          · exact q_tA hN w557 (wX80_take_84 S Z hS _ _ w557.1 )
                          · exact q_tA hN w557 (wX80_take_82 S Z hS _ _ w557.1 )
                        · refine pq_fi (fun _ => ?_) (fun _ => ?_)
                          · refine pq_b (wX77_show S Z (sb rfl hS) _ _ w546.1 z548) (fun r558 K559 => ?_)
                            have w560 := wk_t w546 K559 hN
                            refine pq_fi (fun _ => ?_) (fun _ => ?_)
                            · exact q_tA hN w560 (wX80_take_84 S Z hS _ _ w560.1 )
                            · exact q_tA hN w560 (wX80_take_82 S Z hS _ _ w560.1 )
                          · exact pq_0
                · refine pq_fi (fun _ => ?_) (fun _ => ?_)
                  · refine pq_b (wX78_show S Z (sb rfl hS) _ _ w524.1 z526) (fun r561 K562 => ?_)
                    have w563 := wk_t w524 K562 hN
                    refine pq_fi (fun _ => ?_) (fun _ => ?_)
                    · exact q_tA hN w563 (wX80_take_82 S Z hS _ _ w563.1 )
                    · refine pq_g (fun g564 => ?_)
                      have z565 := wk_z (i := 0) (f := 49) w563 rfl z_a0
                      refine pq_fi (fun _ => ?_) (fun _ => ?_)
                      · refine pq_b (wX77_show S Z (sb rfl hS) _ _ w563.1 z565) (fun r566 K567 => ?_)
                        have w568 := wk_t w563 K567 hN
                        refine pq_fi (fun _ => ?_) (fun _ => ?_)
                        · exact q_tA hN w568 (wX80_take_84 S Z hS _ _ w568.1 )
                        · exact q_tA hN w568 (wX80_take_82 S Z hS _ _ w568.1 )
                      · refine pq_fi (fun _ => ?_) (fun _ => ?_)
                        · refine pq_b (wX79_show S Z (sb rfl hS) _ _ w563.1 z565) (fun r569 K570 => ?_)
                          have w571 := wk_t w563 K570 hN
                          refine pq_fi (fun _ => ?_) (fun _ => ?_)
                          · exact q_tA hN w571 (wX80_take_84 S Z hS _ _ w571.1 )
                          · exact q_tA hN w571 (wX80_take_82 S Z hS _ _ w571.1 )
                        · refine pq_fi (fun _ => ?_) (fun _ => ?_)
                          · refine pq_b (wX78_show S Z (sb rfl hS) _ _ w563.1 z565) (fun r572 K573 => ?_)
                            have w574 := wk_t w563 K573 hN
                            refine pq_fi (fun _ => ?_) (fun _ => ?_)
                            · exact q_tA hN w574 (wX80_take_84 S Z hS _ _ w574.1 )
                            · exact q_tA hN w574 (wX80_take_82 S Z hS _ _ w574.1 )
                          · refine pq_fi (fun _ => ?_) (fun _ => ?_)
                            · refine pq_b (wX77_show S Z (sb rfl hS) _ _ w563.1 z565) (fun r575 K576 => ?_)
                              have w577 := wk_t w563 K576 hN
                              refine pq_fi (fun _ => ?_) (fun _ => ?_)
                              · exact q_tA hN w577 (wX80_take_84 S Z hS _ _ w577.1 )
                              · exact q_tA hN w577 (wX80_take_82 S Z hS _ _ w577.1 )
                            · exact pq_0
                  · refine pq_fi (fun _ => ?_) (fun _ => ?_)
                    · refine pq_b (wX77_show S Z (sb rfl hS) _ _ w524.1 z526) (fun r578 K579 => ?_)
                      have w580 := wk_t w524 K579 hN
                      refine pq_fi (fun _ => ?_) (fun _ => ?_)
                      · exact q_tA hN w580 (wX80_take_82 S Z hS _ _ w580.1 )
                      · refine pq_g (fun g581 => ?_)
                        have z582 := wk_z (i := 0) (f := 49) w580 rfl z_a0
                        refine pq_fi (fun _ => ?_) (fun _ => ?_)
                        · refine pq_b (wX77_show S Z (sb rfl hS) _ _ w580.1 z582) (fun r583 K584 => ?_)
                          have w585 := wk_t w580 K584 hN
                          refine pq_fi (fun _ => ?_) (fun _ => ?_)
                          · exact q_tA hN w585 (wX80_take_84 S Z hS _ _ w585.1 )
                          · exact q_tA hN w585 (wX80_take_82 S Z hS _ _ w585.1 )
                        · refine pq_fi (fun _ => ?_) (fun _ => ?_)
                          · refine pq_b (wX79_show S Z (sb rfl hS) _ _ w580.1 z582) (fun r586 K587 => ?_)
                            have w588 := wk_t w580 K587 hN
                            refine pq_fi (fun _ => ?_) (fun _ => ?_)
                            · exact q_tA hN w588 (wX80_take_84 S Z hS _ _ w588.1 )
                            · exact q_tA hN w588 (wX80_take_82 S Z hS _ _ w588.1 )
                          · refine pq_fi (fun _ => ?_) (fun _ => ?_)
                            · refine pq_b (wX78_show S Z (sb rfl hS) _ _ w580.1 z582) (fun r589 K590 => ?_)
                              have w591 := wk_t w580 K590 hN
                              refine pq_fi (fun _ => ?_) (fun _ => ?_)
                              · exact q_tA hN w591 (wX80_take_84 S Z hS _ _ w591.1 )
                              · exact q_tA hN w591 (wX80_take_82 S Z hS _ _ w591.1 )
                            · refine pq_fi (fun _ => ?_) (fun _ => ?_)
                              · refine pq_b (wX77_show S Z (sb rfl hS) _ _ w580.1 z582) (fun r592 K593 => ?_)
                                have w594 := wk_t w580 K593 hN
                                refine pq_fi (fun _ => ?_) (fun _ => ?_)
                                · exact q_tA hN w594 (wX80_take_84 S Z hS _ _ w594.1 )
                                · exact q_tA hN w594 (wX80_take_82 S Z hS _ _ w594.1 )
                              · exact pq_0
                    · exact pq_0
            · exact pq_0
    · refine pq_fi (fun _ => ?_) (fun _ => ?_)
      · refine pq_b (wX78_write S Z (sb rfl hS) _ _ _ w0.1 z_s0) (fun r595 K596 => ?_)
        have w597 := wk_t w0 K596 hN
        refine pq_g (fun g598 => ?_)
        have z599 := wk_z (i := 0) (f := 53) w597 rfl z_a0
        refine pq_fi (fun _ => ?_) (fun _ => ?_)
        · refine pq_b (wX77_write S Z (sb rfl hS) _ _ _ w597.1 z599) (fun r600 K601 => ?_)
          have w602 := wk_t w597 K601 hN
          refine pq_g (fun g603 => ?_)
          have z604 := wk_z (i := 0) (f := 49) w602 rfl z_a0
          refine pq_fi (fun _ => ?_) (fun _ => ?_)
          · refine pq_b (wX77_show S Z (sb rfl hS) _ _ w602.1 z604) (fun r605 K606 => ?_)
            have w607 := wk_t w602 K606 hN
            refine pq_fi (fun _ => ?_) (fun _ => ?_)
            · exact q_tA hN w607 (wX80_take_82 S Z hS _ _ w607.1 )
            · refine pq_g (fun g608 => ?_)
              have z609 := wk_z (i := 0) (f := 49) w607 rfl z_a0
              refine pq_fi (fun _ => ?_) (fun _ => ?_)
              · refine pq_b (wX77_show S Z (sb rfl hS) _ _ w607.1 z609) (fun r610 K611 => ?_)
                have w612 := wk_t w607 K611 hN
                refine pq_fi (fun _ => ?_) (fun _ => ?_)
                · exact q_tA hN w612 (wX80_take_84 S Z hS _ _ w612.1 )
                · exact q_tA hN w612 (wX80_take_82 S Z hS _ _ w612.1 )
              · refine pq_fi (fun _ => ?_) (fun _ => ?_)
                · refine pq_b (wX79_show S Z (sb rfl hS) _ _ w607.1 z609) (fun r613 K614 => ?_)
                  have w615 := wk_t w607 K614 hN
                  refine pq_fi (fun _ => ?_) (fun _ => ?_)
                  · exact q_tA hN w615 (wX80_take_84 S Z hS _ _ w615.1 )
                  · exact q_tA hN w615 (wX80_take_82 S Z hS _ _ w615.1 )
                · refine pq_fi (fun _ => ?_) (fun _ => ?_)
                  · refine pq_b (wX78_show S Z (sb rfl hS) _ _ w607.1 z609) (fun r616 K617 => ?_)
                    have w618 := wk_t w607 K617 hN
                    refine pq_fi (fun _ => ?_) (fun _ => ?_)
                    · exact q_tA hN w618 (wX80_take_84 S Z hS _ _ w618.1 )
                    · exact q_tA hN w618 (wX80_take_82 S Z hS _ _ w618.1 )
                  · refine pq_fi (fun _ => ?_) (fun _ => ?_)
                    · refine pq_b (wX77_show S Z (sb rfl hS) _ _ w607.1 z609) (fun r619 K620 => ?_)
                      have w621 := wk_t w607 K620 hN
                      refine pq_fi (fun _ => ?_) (fun _ => ?_)
                      · exact q_tA hN w621 (wX80_take_84 S Z hS _ _ w621.1 )
                      · exact q_tA hN w621 (wX80_take_82 S Z hS _ _ w621.1 )
                    · exact pq_0
          · refine pq_fi (fun _ => ?_) (fun _ => ?_)
            · refine pq_b (wX79_show S Z (sb rfl hS) _ _ w602.1 z604) (fun r622 K623 => ?_)
              have w624 := wk_t w602 K623 hN
              refine pq_fi (fun _ => ?_) (fun _ => ?_)
              · exact q_tA hN w624 (wX80_take_82 S Z hS _ _ w624.1 )
              · refine pq_g (fun g625 => ?_)
                have z626 := wk_z (i := 0) (f := 49) w624 rfl z_a0
                refine pq_fi (fun _ => ?_) (fun _ => ?_)
                · refine pq_b (wX77_show S Z (sb rfl hS) _ _ w624.1 z626) (fun r627 K628 => ?_)
                  have w629 := wk_t w624 K628 hN
                  refine pq_fi (fun _ => ?_) (fun _ => ?_)
                  · exact q_tA hN w629 (wX80_take_84 S Z hS _ _ w629.1 )
                  · exact q_tA hN w629 (wX80_take_82 S Z hS _ _ w629.1 )
                · refine pq_fi (fun _ => ?_) (fun _ => ?_)
                  · refine pq_b (wX79_show S Z (sb rfl hS) _ _ w624.1 z626) (fun r630 K631 => ?_)
                    have w632 := wk_t w624 K631 hN
                    refine pq_fi (fun _ => ?_) (fun _ => ?_)
                    · exact q_tA hN w632 (wX80_take_84 S Z hS _ _ w632.1 )
                    · exact q_tA hN w632 (wX80_take_82 S Z hS _ _ w632.1 )
                  · refine pq_fi (fun _ => ?_) (fun _ => ?_)
                    · refine pq_b (wX78_show S Z (sb rfl hS) _ _ w624.1 z626) (fun r633 K634 => ?_)
                      have w635 := wk_t w624 K634 hN
                      refine pq_fi (fun _ => ?_) (fun _ => ?_)
                      · exact q_tA hN w635 (wX80_take_84 S Z hS _ _ w635.1 )
                      · exact q_tA hN w635 (wX80_take_82 S Z hS _ _ w635.1 )
                    · refine pq_fi (fun _ => ?_) (fun _ => ?_)
                      · refine pq_b (wX77_show S Z (sb rfl hS) _ _ w624.1 z626) (fun r636 K637 => ?_)
                        have w638 := wk_t w624 K637 hN
                        refine pq_fi (fun _ => ?_) (fun _ => ?_)
                        · exact q_tA hN w638 (wX80_take_84 S Z hS _ _ w638.1 )
                        · exact q_tA hN w638 (wX80_take_82 S Z hS _ _ w638.1 )
                      · exact pq_0
            · refine pq_fi (fun _ => ?_) (fun _ => ?_)
              · refine pq_b (wX78_show S Z (sb rfl hS) _ _ w602.1 z604) (fun r639 K640 => ?_)
                have w641 := wk_t w602 K640 hN
                refine pq_fi (fun _ => ?_) (fun _ => ?_)
                · exact q_tA hN w641 (wX80_take_82 S Z hS _ _ w641.1 )
                · refine pq_g (fun g642 => ?_)
                  have z643 := wk_z (i := 0) (f := 49) w641 rfl z_a0
                  refine pq_fi (fun _ => ?_) (fun _ => ?_)
                  · refine pq_b (wX77_show S Z (sb rfl hS) _ _ w641.1 z643) (fun r644 K645 => ?_)
                    have w646 := wk_t w641 K645 hN
                    refine pq_fi (fun _ => ?_) (fun _ => ?_)
                    · exact q_tA hN w646 (wX80_take_84 S Z hS _ _ w646.1 )
                    · exact q_tA hN w646 (wX80_take_82 S Z hS _ _ w646.1 )
                  · refine pq_fi (fun _ => ?_) (fun _ => ?_)
                    · refine pq_b (wX79_show S Z (sb rfl hS) _ _ w641.1 z643) (fun r647 K648 => ?_)
                      have w649 := wk_t w641 K648 hN
                      refine pq_fi (fun _ => ?_) (fun _ => ?_)
                      · exact q_tA hN w649 (wX80_take_84 S Z hS _ _ w649.1 )
                      · exact q_tA hN w649 (wX80_take_82 S Z hS _ _ w649.1 )
                    · refine pq_fi (fun _ => ?_) (fun _ => ?_)
                      · refine pq_b (wX78_show S Z (sb rfl hS) _ _ w641.1 z643) (fun r650 K651 => ?_)
                        have w652 := wk_t w641 K651 hN
                        refine pq_fi (fun _ => ?_) (fun _ => ?_)
                        · exact q_tA hN w652 (wX80_take_84 S Z hS _ _ w652.1 )
                        · exact q_tA hN w652 (wX80_take_82 S Z hS _ _ w652.1 )
                      · refine pq_fi (fun _ => ?_) (fun _ => ?_)
                        · refine pq_b (wX77_show S Z (sb rfl hS) _ _ w641.1 z643) (fun r653 K654 => ?_)
                          have w655 := wk_t w641 K654 hN
                          refine pq_fi (fun _ => ?_) (fun _ => ?_)
                          · exact q_tA hN w655 (wX80_take_84 S Z hS _ _ w655.1 )
                          · exact q_tA hN w655 (wX80_take_82 S Z hS _ _ w655.1 )
                        · exact pq_0
              · refine pq_fi (fun _ => ?_) (fun _ => ?_)
                · refine pq_b (wX77_show S Z (sb rfl hS) _ _ w602.1 z604) (fun r656 K657 => ?_)
                  have w658 := wk_t w602 K657 hN
                  refine pq_fi (fun _ => ?_) (fun _ => ?_)
                  · exact q_tA hN w658 (wX80_take_82 S Z hS _ _ w658.1 )
                  · refine pq_g (fun g659 => ?_)
                    have z660 := wk_z (i := 0) (f := 49) w658 rfl z_a0
                    refine pq_fi (fun _ => ?_) (fun _ => ?_)
                    · refine pq_b (wX77_show S Z (sb rfl hS) _ _ w658.1 z660) (fun r661 K662 => ?_)
                      have w663 := wk_t w658 K662 hN
                      refine pq_fi (fun _ => ?_) (fun _ => ?_)
                      · exact q_tA hN w663 (wX80_take_84 S Z hS _ _ w663.1 )
                      · exact q_tA hN w663 (wX80_take_82 S Z hS _ _ w663.1 )
                    · refine pq_fi (fun _ => ?_) (fun _ => ?_)
                      · refine pq_b (wX79_show S Z (sb rfl hS) _ _ w658.1 z660) (fun r664 K665 => ?_)
                        have w666 := wk_t w658 K665 hN
                        refine pq_fi (fun _ => ?_) (fun _ => ?_)
                        · exact q_tA hN w666 (wX80_take_84 S Z hS _ _ w666.1 )
                        · exact q_tA hN w666 (wX80_take_82 S Z hS _ _ w666.1 )
                      · refine pq_fi (fun _ => ?_) (fun _ => ?_)
                        · refine pq_b (wX78_show S Z (sb rfl hS) _ _ w658.1 z660) (fun r667 K668 => ?_)
                          have w669 := wk_t w658 K668 hN
                          refine pq_fi (fun _ => ?_) (fun _ => ?_)
                          · exact q_tA hN w669 (wX80_take_84 S Z hS _ _ w669.1 )
                          · exact q_tA hN w669 (wX80_take_82 S Z hS _ _ w669.1 )
                        · refine pq_fi (fun _ => ?_) (fun _ => ?_)
                          · refine pq_b (wX77_show S Z (sb rfl hS) _ _ w658.1 z660) (fun r670 K671 => ?_)
                            have w672 := wk_t w658 K671 hN
                            refine pq_fi (fun _ => ?_) (fun _ => ?_)
                            · exact q_tA hN w672 (wX80_take_84 S Z hS _ _ w672.1 )
                            · exact q_tA hN w672 (wX80_take_82 S Z hS _ _ w672.1 )
                          · exact pq_0
                · exact pq_0
        · refine pq_fi (fun _ => ?_) (fun _ => ?_)
          · refine pq_b (wX77_write S Z (sb rfl hS) _ _ _ w597.1 z599) (fun r673 K674 => ?_)
            have w675 := wk_t w597 K674 hN
            refine pq_g (fun g676 => ?_)
            have z677 := wk_z (i := 0) (f := 49) w675 rfl z_a0
            refine pq_fi (fun _ => ?_) (fun _ => ?_)
            · refine pq_b (wX77_show S Z (sb rfl hS) _ _ w675.1 z677) (fun r678 K679 => ?_)
              have w680 := wk_t w675 K679 hN
              refine pq_fi (fun _ => ?_) (fun _ => ?_)
              · exact q_tA hN w680 (wX80_take_82 S Z hS _ _ w680.1 )
              · refine pq_g (fun g681 => ?_)
                have z682 := wk_z (i := 0) (f := 49) w680 rfl z_a0
                refine pq_fi (fun _ => ?_) (fun _ => ?_)
                · refine pq_b (wX77_show S Z (sb rfl hS) _ _ w680.1 z682) (fun r683 K684 => ?_)
                  have w685 := wk_t w680 K684 hN
                  refine pq_fi (fun _ => ?_) (fun _ => ?_)
                  · exact q_tA hN w685 (wX80_take_84 S Z hS _ _ w685.1 )
                  · exact q_tA hN w685 (wX80_take_82 S Z hS _ _ w685.1 )
                · refine pq_fi (fun _ => ?_) (fun _ => ?_)
                  · refine pq_b (wX79_show S Z (sb rfl hS) _ _ w680.1 z682) (fun r686 K687 => ?_)
                    have w688 := wk_t w680 K687 hN
                    refine pq_fi (fun _ => ?_) (fun _ => ?_)
                    · exact q_tA hN w688 (wX80_take_84 S Z hS _ _ w688.1 )
                    · exact q_tA hN w688 (wX80_take_82 S Z hS _ _ w688.1 )
                  · refine pq_fi (fun _ => ?_) (fun _ => ?_)
                    · refine pq_b (wX78_show S Z (sb rfl hS) _ _ w680.1 z682) (fun r689 K690 => ?_)
                      have w691 := wk_t w680 K690 hN
                      refine pq_fi (fun _ => ?_) (fun _ => ?_)
                      · exact q_tA hN w691 (wX80_take_84 S Z hS _ _ w691.1 )
                      · exact q_tA hN w691 (wX80_take_82 S Z hS _ _ w691.1 )
                    · refine pq_fi (fun _ => ?_) (fun _ => ?_)
                      · refine pq_b (wX77_show S Z (sb rfl hS) _ _ w680.1 z682) (fun r692 K693 => ?_)
                        have w694 := wk_t w680 K693 hN
                        refine pq_fi (fun _ => ?_) (fun _ => ?_)
                        · exact q_tA hN w694 (wX80_take_84 S Z hS _ _ w694.1 )
                        · exact q_tA hN w694 (wX80_take_82 S Z hS _ _ w694.1 )
                      · exact pq_0
            · refine pq_fi (fun _ => ?_) (fun _ => ?_)
              · refine pq_b (wX79_show S Z (sb rfl hS) _ _ w675.1 z677) (fun r695 K696 => ?_)
                have w697 := wk_t w675 K696 hN
                refine pq_fi (fun _ => ?_) (fun _ => ?_)
                · exact q_tA hN w697 (wX80_take_82 S Z hS _ _ w697.1 )
                · refine pq_g (fun g698 => ?_)
                  have z699 := wk_z (i := 0) (f := 49) w697 rfl z_a0
                  refine pq_fi (fun _ => ?_) (fun _ => ?_)
                  · refine pq_b (wX77_show S Z (sb rfl hS) _ _ w697.1 z699) (fun r700 K701 => ?_)
                    have w702 := wk_t w697 K701 hN
                    refine pq_fi (fun _ => ?_) (fun _ => ?_)
                    · exact q_tA hN w702 (wX80_take_84 S Z hS _ _ w702.1 )
                    · exact q_tA hN w702 (wX80_take_82 S Z hS _ _ w702.1 )
                  · refine pq_fi (fun _ => ?_) (fun _ => ?_)
                    · refine pq_b (wX79_show S Z (sb rfl hS) _ _ w697.1 z699) (fun r703 K704 => ?_)
                      have w705 := wk_t w697 K704 hN
                      refine pq_fi (fun _ => ?_) (fun _ => ?_)
                      · exact q_tA hN w705 (wX80_take_84 S Z hS _ _ w705.1 )
                      · exact q_tA hN w705 (wX80_take_82 S Z hS _ _ w705.1 )
                    · refine pq_fi (fun _ => ?_) (fun _ => ?_)
                      · refine pq_b (wX78_show S Z (sb rfl hS) _ _ w697.1 z699) (fun r706 K707 => ?_)
                        have w708 := wk_t w697 K707 hN
                        refine pq_fi (fun _ => ?_) (fun _ => ?_)
                        · exact q_tA hN w708 (wX80_take_84 S Z hS _ _ w708.1 )
                        · exact q_tA hN w708 (wX80_take_82 S Z hS _ _ w708.1 )
                      · refine pq_fi (fun _ => ?_) (fun _ => ?_)
                        · refine pq_b (wX77_show S Z (sb rfl hS) _ _ w697.1 z699) (fun r709 K710 => ?_)
                          have w711 := wk_t w697 K710 hN
                          refine pq_fi (fun _ => ?_) (fun _ => ?_)
                          · exact q_tA hN w711 (wX80_take_84 S Z hS _ _ w711.1 )
                          · exact q_tA hN w711 (wX80_take_82 S Z hS _ _ w711.1 )
                        · exact pq_0
              · refine pq_fi (fun _ => ?_) (fun _ => ?_)
                · refine pq_b (wX78_show S Z (sb rfl hS) _ _ w675.1 z677) (fun r712 K713 => ?_)
                  have w714 := wk_t w675 K713 hN
                  refine pq_fi (fun _ => ?_) (fun _ => ?_)
                  · exact q_tA hN w714 (wX80_take_82 S Z hS _ _ w714.1 )
                  · refine pq_g (fun g715 => ?_)
                    have z716 := wk_z (i := 0) (f := 49) w714 rfl z_a0
                    refine pq_fi (fun _ => ?_) (fun _ => ?_)
                    · refine pq_b (wX77_show S Z (sb rfl hS) _ _ w714.1 z716) (fun r717 K718 => ?_)
                      have w719 := wk_t w714 K718 hN
                      refine pq_fi (fun _ => ?_) (fun _ => ?_)
                      · exact q_tA hN w719 (wX80_take_84 S Z hS _ _ w719.1 )
                      · exact q_tA hN w719 (wX80_take_82 S Z hS _ _ w719.1 )
                    · refine pq_fi (fun _ => ?_) (fun _ => ?_)
                      · refine pq_b (wX79_show S Z (sb rfl hS) _ _ w714.1 z716) (fun r720 K721 => ?_)
                        have w722 := wk_t w714 K721 hN
                        refine pq_fi (fun _ => ?_) (fun _ => ?_)
                        · exact q_tA hN w722 (wX80_take_84 S Z hS _ _ w722.1 )
                        · exact q_tA hN w722 (wX80_take_82 S Z hS _ _ w722.1 )
                      · refine pq_fi (fun _ => ?_) (fun _ => ?_)
                        · refine pq_b (wX78_show S Z (sb rfl hS) _ _ w714.1 z716) (fun r723 K724 => ?_)
                          have w725 := wk_t w714 K724 hN
                          refine pq_fi (fun _ => ?_) (fun _ => ?_)
                          · exact q_tA hN w725 (wX80_take_84 S Z hS _ _ w725.1 )
                          · exact q_tA hN w725 (wX80_take_82 S Z hS _ _ w725.1 )
                        · refine pq_fi (fun _ => ?_) (fun _ => ?_)
                          · refine pq_b (wX77_show S Z (sb rfl hS) _ _ w714.1 z716) (fun r726 K727 => ?_)
                            have w728 := wk_t w714 K727 hN
                            refine pq_fi (fun _ => ?_) (fun _ => ?_)
                            · exact q_tA hN w728 (wX80_take_84 S Z hS _ _ w728.1 )
                            · exact q_tA hN w728 (wX80_take_82 S Z hS _ _ w728.1 )
                          · exact pq_0
                · refine pq_fi (fun _ => ?_) (fun _ => ?_)
                  · refine pq_b (wX77_show S Z (sb rfl hS) _ _ w675.1 z677) (fun r729 K730 => ?_)
                    have w731 := wk_t w675 K730 hN
                    refine pq_fi (fun _ => ?_) (fun _ => ?_)
                    · exact q_tA hN w731 (wX80_take_82 S Z hS _ _ w731.1 )
                    · refine pq_g (fun g732 => ?_)
                      have z733 := wk_z (i := 0) (f := 49) w731 rfl z_a0
                      refine pq_fi (fun _ => ?_) (fun _ => ?_)
                      · refine pq_b (wX77_show S Z (sb rfl hS) _ _ w731.1 z733) (fun r734 K735 => ?_)
                        have w736 := wk_t w731 K735 hN
                        refine pq_fi (fun _ => ?_) (fun _ => ?_)
                        · exact q_tA hN w736 (wX80_take_84 S Z hS _ _ w736.1 )
                        · exact q_tA hN w736 (wX80_take_82 S Z hS _ _ w736.1 )
                      · refine pq_fi (fun _ => ?_) (fun _ => ?_)
                        · refine pq_b (wX79_show S Z (sb rfl hS) _ _ w731.1 z733) (fun r737 K738 => ?_)
                          have w739 := wk_t w731 K738 hN
                          refine pq_fi (fun _ => ?_) (fun _ => ?_)
                          · exact q_tA hN w739 (wX80_take_84 S Z hS _ _ w739.1 )
                          · exact q_tA hN w739 (wX80_take_82 S Z hS _ _ w739.1 )
                        · refine pq_fi (fun _ => ?_) (fun _ => ?_)
                          · refine pq_b (wX78_show S Z (sb rfl hS) _ _ w731.1 z733) (fun r740 K741 => ?_)
                            have w742 := wk_t w731 K741 hN
                            refine pq_fi (fun _ => ?_) (fun _ => ?_)
                            · exact q_tA hN w742 (wX80_take_84 S Z hS _ _ w742.1 )
                            · exact q_tA hN w742 (wX80_take_82 S Z hS _ _ w742.1 )
                          · refine pq_fi (fun _ => ?_) (fun _ => ?_)
                            · refine pq_b (wX77_show S Z (sb rfl hS) _ _ w731.1 z733) (fun r743 K744 => ?_)
                              have w745 := wk_t w731 K744 hN
                              refine pq_fi (fun _ => ?_) (fun _ => ?_)
                              · exact q_tA hN w745 (wX80_take_84 S Z hS _ _ w745.1 )
                              · exact q_tA hN w745 (wX80_take_82 S Z hS _ _ w745.1 )
                            · exact pq_0
                  · exact pq_0
          · refine pq_fi (fun _ => ?_) (fun _ => ?_)
            · refine pq_b (wX78_write S Z (sb rfl hS) _ _ _ w597.1 z599) (fun r746 K747 => ?_)
              have w748 := wk_t w597 K747 hN
              refine pq_g (fun g749 => ?_)
              have z750 := wk_z (i := 0) (f := 49) w748 rfl z_a0
              refine pq_fi (fun _ => ?_) (fun _ => ?_)
              · refine pq_b (wX77_show S Z (sb rfl hS) _ _ w748.1 z750) (fun r751 K752 => ?_)
                have w753 := wk_t w748 K752 hN
                refine pq_fi (fun _ => ?_) (fun _ => ?_)
                · exact q_tA hN w753 (wX80_take_82 S Z hS _ _ w753.1 )
                · refine pq_g (fun g754 => ?_)
                  have z755 := wk_z (i := 0) (f := 49) w753 rfl z_a0
                  refine pq_fi (fun _ => ?_) (fun _ => ?_)
                  · refine pq_b (wX77_show S Z (sb rfl hS) _ _ w753.1 z755) (fun r756 K757 => ?_)
                    have w758 := wk_t w753 K757 hN
                    refine pq_fi (fun _ => ?_) (fun _ => ?_)
                    · exact q_tA hN w758 (wX80_take_84 S Z hS _ _ w758.1 )
                    · exact q_tA hN w758 (wX80_take_82 S Z hS _ _ w758.1 )
                  · refine pq_fi (fun _ => ?_) (fun _ => ?_)
                    · refine pq_b (wX79_show S Z (sb rfl hS) _ _ w753.1 z755) (fun r759 K760 => ?_)
                      have w761 := wk_t w753 K760 hN
                      refine pq_fi (fun _ => ?_) (fun _ => ?_)
                      · exact q_tA hN w761 (wX80_take_84 S Z hS _ _ w761.1 )
                      · exact q_tA hN w761 (wX80_take_82 S Z hS _ _ w761.1 )
                    · refine pq_fi (fun _ => ?_) (fun _ => ?_)
                      · refine pq_b (wX78_show S Z (sb rfl hS) _ _ w753.1 z755) (fun r762 K763 => ?_)
                        have w764 := wk_t w753 K763 hN
                        refine pq_fi (fun _ => ?_) (fun _ => ?_)
                        · exact q_tA hN w764 (wX80_take_84 S Z hS _ _ w764.1 )
                        · exact q_tA hN w764 (wX80_take_82 S Z hS _ _ w764.1 )
                      · refine pq_fi (fun _ => ?_) (fun _ => ?_)
                        · refine pq_b (wX77_show S Z (sb rfl hS) _ _ w753.1 z755) (fun r765 K766 => ?_)
                          have w767 := wk_t w753 K766 hN
                          refine pq_fi (fun _ => ?_) (fun _ => ?_)
                          · exact q_tA hN w767 (wX80_take_84 S Z hS _ _ w767.1 )
                          · exact q_tA hN w767 (wX80_take_82 S Z hS _ _ w767.1 )
                        · exact pq_0
              · refine pq_fi (fun _ => ?_) (fun _ => ?_)
                · refine pq_b (wX79_show S Z (sb rfl hS) _ _ w748.1 z750) (fun r768 K769 => ?_)
                  have w770 := wk_t w748 K769 hN
                  refine pq_fi (fun _ => ?_) (fun _ => ?_)
                  · exact q_tA hN w770 (wX80_take_82 S Z hS _ _ w770.1 )
                  · refine pq_g (fun g771 => ?_)
                    have z772 := wk_z (i := 0) (f := 49) w770 rfl z_a0
                    refine pq_fi (fun _ => ?_) (fun _ => ?_)
                    · refine pq_b (wX77_show S Z (sb rfl hS) _ _ w770.1 z772) (fun r773 K774 => ?_)
                      have w775 := wk_t w770 K774 hN
                      refine pq_fi (fun _ => ?_) (fun _ => ?_)
                      · exact q_tA hN w775 (wX80_take_84 S Z hS _ _ w775.1 )
                      · exact q_tA hN w775 (wX80_take_82 S Z hS _ _ w775.1 )
                    · refine pq_fi (fun _ => ?_) (fun _ => ?_)
                      · refine pq_b (wX79_show S Z (sb rfl hS) _ _ w770.1 z772) (fun r776 K777 => ?_)
                        have w778 := wk_t w770 K777 hN
                        refine pq_fi (fun _ => ?_) (fun _ => ?_)
                        · exact q_tA hN w778 (wX80_take_84 S Z hS _ _ w778.1 )
                        · exact q_tA hN w778 (wX80_take_82 S Z hS _ _ w778.1 )
                      · refine pq_fi (fun _ => ?_) (fun _ => ?_)
                        · refine pq_b (wX78_show S Z (sb rfl hS) _ _ w770.1 z772) (fun r779 K780 => ?_)
                          have w781 := wk_t w770 K780 hN
                          refine pq_fi (fun _ => ?_) (fun _ => ?_)
                          · exact q_tA hN w781 (wX80_take_84 S Z hS _ _ w781.1 )
                          · exact q_tA hN w781 (wX80_take_82 S Z hS _ _ w781.1 )
                        · refine pq_fi (fun _ => ?_) (fun _ => ?_)
                          · refine pq_b (wX77_show S Z (sb rfl hS) _ _ w770.1 z772) (fun r782 K783 => ?_)
                            have w784 := wk_t w770 K783 hN
                            refine pq_fi (fun _ => ?_) (fun _ => ?_)
                            · exact q_tA hN w784 (wX80_take_84 S Z hS _ _ w784.1 )
                            · exact q_tA hN w784 (wX80_take_82 S Z hS _ _ w784.1 )
                          · exact pq_0
                · refine pq_fi (fun _ => ?_) (fun _ => ?_)
                  · refine pq_b (wX78_show S Z (sb rfl hS) _ _ w748.1 z750) (fun r785 K786 => ?_)
                    have w787 := wk_t w748 K786 hN
                    refine pq_fi (fun _ => ?_) (fun _ => ?_)
                    · exact q_tA hN w787 (wX80_take_82 S Z hS _ _ w787.1 )
                    · refine pq_g (fun g788 => ?_)
                      have z789 := wk_z (i := 0) (f := 49) w787 rfl z_a0
                      refine pq_fi (fun _ => ?_) (fun _ => ?_)
                      · refine pq_b (wX77_show S Z (sb rfl hS) _ _ w787.1 z789) (fun r790 K791 => ?_)
                        have w792 := wk_t w787 K791 hN
                        refine pq_fi (fun _ => ?_) (fun _ => ?_)
                        · exact q_tA hN w792 (wX80_take_84 S Z hS _ _ w792.1 )
                        · exact q_tA hN w792 (wX80_take_82 S Z hS _ _ w792.1 )
                      · refine pq_fi (fun _ => ?_) (fun _ => ?_)
                        · refine pq_b (wX79_show S Z (sb rfl hS) _ _ w787.1 z789) (fun r793 K794 => ?_)
                          have w795 := wk_t w787 K794 hN
                          refine pq_fi (fun _ => ?_) (fun _ => ?_)
                          · exact q_tA hN w795 (wX80_take_84 S Z hS _ _ w795.1 )
                          · exact q_tA hN w795 (wX80_take_82 S Z hS _ _ w795.1 )
                        · refine pq_fi (fun _ => ?_) (fun _ => ?_)
                          · refine pq_b (wX78_show S Z (sb rfl hS) _ _ w787.1 z789) (fun r796 K797 => ?_)
                            have w798 := wk_t w787 K797 hN
                            refine pq_fi (fun _ => ?_) (fun _ => ?_)
                            · exact q_tA hN w798 (wX80_take_84 S Z hS _ _ w798.1 )
                            · exact q_tA hN w798 (wX80_take_82 S Z hS _ _ w798.1 )
                          · refine pq_fi (fun _ => ?_) (fun _ => ?_)
                            · refine pq_b (wX77_show S Z (sb rfl hS) _ _ w787.1 z789) (fun r799 K800 => ?_)
                              have w801 := wk_t w787 K800 hN
                              refine pq_fi (fun _ => ?_) (fun _ => ?_)
                              · exact q_tA hN w801 (wX80_take_84 S Z hS _ _ w801.1 )
                              · exact q_tA hN w801 (wX80_take_82 S Z hS _ _ w801.1 )
                            · exact pq_0
                  · refine pq_fi (fun _ => ?_) (fun _ => ?_)
                    · refine pq_b (wX77_show S Z (sb rfl hS) _ _ w748.1 z750) (fun r802 K803 => ?_)
                      have w804 := wk_t w748 K803 hN
                      refine pq_fi (fun _ => ?_) (fun _ => ?_)
                      · exact q_tA hN w804 (wX80_take_82 S Z hS _ _ w804.1 )
                      · refine pq_g (fun g805 => ?_)
                        have z806 := wk_z (i := 0) (f := 49) w804 rfl z_a0
                        refine pq_fi (fun _ => ?_) (fun _ => ?_)
                        · refine pq_b (wX77_show S Z (sb rfl hS) _ _ w804.1 z806) (fun r807 K808 => ?_)
                          have w809 := wk_t w804 K808 hN
                          refine pq_fi (fun _ => ?_) (fun _ => ?_)
                          · exact q_tA hN w809 (wX80_take_84 S Z hS _ _ w809.1 )
                          · exact q_tA hN w809 (wX80_take_82 S Z hS _ _ w809.1 )
                        · refine pq_fi (fun _ => ?_) (fun _ => ?_)
                          · refine pq_b (wX79_show S Z (sb rfl hS) _ _ w804.1 z806) (fun r810 K811 => ?_)
                            have w812 := wk_t w804 K811 hN
                            refine pq_fi (fun _ => ?_) (fun _ => ?_)
                            · exact q_tA hN w812 (wX80_take_84 S Z hS _ _ w812.1 )
                            · exact q_tA hN w812 (wX80_take_82 S Z hS _ _ w812.1 )
                          · refine pq_fi (fun _ => ?_) (fun _ => ?_)
                            · refine pq_b (wX78_show S Z (sb rfl hS) _ _ w804.1 z806) (fun r813 K814 => ?_)
                              have w815 := wk_t w804 K814 hN
                              refine pq_fi (fun _ => ?_) (fun _ => ?_)
                              · exact q_tA hN w815 (wX80_take_84 S Z hS _ _ w815.1 )
                              · exact q_tA hN w815 (wX80_take_82 S Z hS _ _ w815.1 )
                            · refine pq_fi (fun _ => ?_) (fun _ => ?_)
                              · refine pq_b (wX77_show S Z (sb rfl hS) _ _ w804.1 z806) (fun r816 K817 => ?_)
                                have w818 := wk_t w804 K817 hN
                                refine pq_fi (fun _ => ?_) (fun _ => ?_)
                                · exact q_tA hN w818 (wX80_take_84 S Z hS _ _ w818.1 )
                                · exact q_tA hN w818 (wX80_take_82 S Z hS _ _ w818.1 )
                              · exact pq_0
                    · exact pq_0
            · refine pq_fi (fun _ => ?_) (fun _ => ?_)
              · refine pq_b (wX82_write S Z (sb rfl hS) _ _ _ w597.1 z599) (fun r819 K820 => ?_)
                have w821 := wk_t w597 K820 hN
                refine pq_g (fun g822 => ?_)
                have z823 := wk_z (i := 0) (f := 49) w821 rfl z_a0
                refine pq_fi (fun _ => ?_) (fun _ => ?_)
                · refine pq_b (wX77_show S Z (sb rfl hS) _ _ w821.1 z823) (fun r824 K825 => ?_)
                  have w826 := wk_t w821 K825 hN
                  refine pq_fi (fun _ => ?_) (fun _ => ?_)
                  · exact q_tA hN w826 (wX80_take_82 S Z hS _ _ w826.1 )
                  · refine pq_g (fun g827 => ?_)
                    have z828 := wk_z (i := 0) (f := 49) w826 rfl z_a0
                    refine pq_fi (fun _ => ?_) (fun _ => ?_)
                    · refine pq_b (wX77_show S Z (sb rfl hS) _ _ w826.1 z828) (fun r829 K830 => ?_)
                      have w831 := wk_t w826 K830 hN
                      refine pq_fi (fun _ => ?_) (fun _ => ?_)
                      · exact q_tA hN w831 (wX80_take_84 S Z hS _ _ w831.1 )
                      · exact q_tA hN w831 (wX80_take_82 S Z hS _ _ w831.1 )
                    · refine pq_fi (fun _ => ?_) (fun _ => ?_)
                      · refine pq_b (wX79_show S Z (sb rfl hS) _ _ w826.1 z828) (fun r832 K833 => ?_)
                        have w834 := wk_t w826 K833 hN
                        refine pq_fi (fun _ => ?_) (fun _ => ?_)
                        · exact q_tA hN w834 (wX80_take_84 S Z hS _ _ w834.1 )
                        · exact q_tA hN w834 (wX80_take_82 S Z hS _ _ w834.1 )
                      · refine pq_fi (fun _ => ?_) (fun _ => ?_)
                        · refine pq_b (wX78_show S Z (sb rfl hS) _ _ w826.1 z828) (fun r835 K836 => ?_)
                          have w837 := wk_t w826 K836 hN
                          refine pq_fi (fun _ => ?_) (fun _ => ?_)
                          · exact q_tA hN w837 (wX80_take_84 S Z hS _ _ w837.1 )
                          · exact q_tA hN w837 (wX80_take_82 S Z hS _ _ w837.1 )
                        · refine pq_fi (fun _ => ?_) (fun _ => ?_)
                          · refine pq_b (wX77_show S Z (sb rfl hS) _ _ w826.1 z828) (fun r838 K839 => ?_)
                            have w840 := wk_t w826 K839 hN
                            refine pq_fi (fun _ => ?_) (fun _ => ?_)
                            · exact q_tA hN w840 (wX80_take_84 S Z hS _ _ w840.1 )
                            · exact q_tA hN w840 (wX80_take_82 S Z hS _ _ w840.1 )
                          · exact pq_0
                · refine pq_fi (fun _ => ?_) (fun _ => ?_)
                  · refine pq_b (wX79_show S Z (sb rfl hS) _ _ w821.1 z823) (fun r841 K842 => ?_)
                    have w843 := wk_t w821 K842 hN
                    refine pq_fi (fun _ => ?_) (fun _ => ?_)
                    · exact q_tA hN w843 (wX80_take_82 S Z hS _ _ w843.1 )
                    · refine pq_g (fun g844 => ?_)
                      have z845 := wk_z (i := 0) (f := 49) w843 rfl z_a0
                      refine pq_fi (fun _ => ?_) (fun _ => ?_)
                      · refine pq_b (wX77_show S Z (sb rfl hS) _ _ w843.1 z845) (fun r846 K847 => ?_)
                        have w848 := wk_t w843 K847 hN
                        refine pq_fi (fun _ => ?_) (fun _ => ?_)
                        · exact q_tA hN w848 (wX80_take_84 S Z hS _ _ w848.1 )
                        · exact q_tA hN w848 (wX80_take_82 S Z hS _ _ w848.1 )
                      · refine pq_fi (fun _ => ?_) (fun _ => ?_)
                        · refine pq_b (wX79_show S Z (sb rfl hS) _ _ w843.1 z845) (fun r849 K850 => ?_)
                          have w851 := wk_t w843 K850 hN
                          refine pq_fi (fun _ => ?_) (fun _ => ?_)
                          · exact q_tA hN w851 (wX80_take_84 S Z hS _ _ w851.1 )
                          · exact q_tA hN w851 (wX80_take_82 S Z hS _ _ w851.1 )
                        · refine pq_fi (fun _ => ?_) (fun _ => ?_)
                          · refine pq_b (wX78_show S Z (sb rfl hS) _ _ w843.1 z845) (fun r852 K853 => ?_)
                            have w854 := wk_t w843 K853 hN
                            refine pq_fi (fun _ => ?_) (fun _ => ?_)
                            · exact q_tA hN w854 (wX80_take_84 S Z hS _ _ w854.1 )
                            · exact q_tA hN w854 (wX80_take_82 S Z hS _ _ w854.1 )
                          · refine pq_fi (fun _ => ?_) (fun _ => ?_)
                            · refine pq_b (wX77_show S Z (sb rfl hS) _ _ w843.1 z845) (fun r855 K856 => ?_)
                              have w857 := wk_t w843 K856 hN
                              refine pq_fi (fun _ => ?_) (fun _ => ?_)
                              · exact q_tA hN w857 (wX80_take_84 S Z hS _ _ w857.1 )
                              · exact q_tA hN w857 (wX80_take_82 S Z hS _ _ w857.1 )
                            · exact pq_0
                  · refine pq_fi (fun _ => ?_) (fun _ => ?_)
                    · refine pq_b (wX78_show S Z (sb rfl hS) _ _ w821.1 z823) (fun r858 K859 => ?_)
                      have w860 := wk_t w821 K859 hN
                      refine pq_fi (fun _ => ?_) (fun _ => ?_)
                      · exact q_tA hN w860 (wX80_take_82 S Z hS _ _ w860.1 )
                      · refine pq_g (fun g861 => ?_)
                        have z862 := wk_z (i := 0) (f := 49) w860 rfl z_a0
                        refine pq_fi (fun _ => ?_) (fun _ => ?_)
                        · refine pq_b (wX77_show S Z (sb rfl hS) _ _ w860.1 z862) (fun r863 K864 => ?_)
                          have w865 := wk_t w860 K864 hN
                          refine pq_fi (fun _ => ?_) (fun _ => ?_)
                          · exact q_tA hN w865 (wX80_take_84 S Z hS _ _ w865.1 )
                          · exact q_tA hN w865 (wX80_take_82 S Z hS _ _ w865.1 )
                        · refine pq_fi (fun _ => ?_) (fun _ => ?_)
                          · refine pq_b (wX79_show S Z (sb rfl hS) _ _ w860.1 z862) (fun r866 K867 => ?_)
                            have w868 := wk_t w860 K867 hN
                            refine pq_fi (fun _ => ?_) (fun _ => ?_)
                            · exact q_tA hN w868 (wX80_take_84 S Z hS _ _ w868.1 )
                            · exact q_tA hN w868 (wX80_take_82 S Z hS _ _ w868.1 )
                          · refine pq_fi (fun _ => ?_) (fun _ => ?_)
                            · refine pq_b (wX78_show S Z (sb rfl hS) _ _ w860.1 z862) (fun r869 K870 => ?_)
                              have w871 := wk_t w860 K870 hN
                              refine pq_fi (fun _ => ?_) (fun _ => ?_)
                              · exact q_tA hN w871 (wX80_take_84 S Z hS _ _ w871.1 )
                              · exact q_tA hN w871 (wX80_take_82 S Z hS _ _ w871.1 )
                            · refine pq_fi (fun _ => ?_) (fun _ => ?_)
                              · refine pq_b (wX77_show S Z (sb rfl hS) _ _ w860.1 z862) (fun r872 K873 => ?_)
                                have w874 := wk_t w860 K873 hN
                                refine pq_fi (fun _ => ?_) (fun _ => ?_)
                                · exact q_tA hN w874 (wX80_take_84 S Z hS _ _ w874.1 )
                                · exact q_tA hN w874 (wX80_take_82 S Z hS _ _ w874.1 )
                              · exact pq_0
                    · refine pq_fi (fun _ => ?_) (fun _ => ?_)
                      · refine pq_b (wX77_show S Z (sb rfl hS) _ _ w821.1 z823) (fun r875 K876 => ?_)
                        have w877 := wk_t w821 K876 hN
                        refine pq_fi (fun _ => ?_) (fun _ => ?_)
                        · exact q_tA hN w877 (wX80_take_82 S Z hS _ _ w877.1 )
                        · refine pq_g (fun g878 => ?_)
                          have z879 := wk_z (i := 0) (f := 49) w877 rfl z_a0
                          refine pq_fi (fun _ => ?_) (fun _ => ?_)
                          · refine pq_b (wX77_show S Z (sb rfl hS) _ _ w877.1 z879) (fun r880 K881 => ?_)
                            have w882 := wk_t w877 K881 hN
                            refine pq_fi (fun _ => ?_) (fun _ => ?_)
                            · exact q_tA hN w882 (wX80_take_84 S Z hS _ _ w882.1 )
                            · exact q_tA hN w882 (wX80_take_82 S Z hS _ _ w882.1 )
                          · refine pq_fi (fun _ => ?_) (fun _ => ?_)
                            · refine pq_b (wX79_show S Z (sb rfl hS) _ _ w877.1 z879) (fun r883 K884 => ?_)
                              have w885 := wk_t w877 K884 hN
                              refine pq_fi (fun _ => ?_) (fun _ => ?_)
                              · exact q_tA hN w885 (wX80_take_84 S Z hS _ _ w885.1 )
                              · exact q_tA hN w885 (wX80_take_82 S Z hS _ _ w885.1 )
                            · refine pq_fi (fun _ => ?_) (fun _ => ?_)
                              · refine pq_b (wX78_show S Z (sb rfl hS) _ _ w877.1 z879) (fun r886 K887 => ?_)
                                have w888 := wk_t w877 K887 hN
                                refine pq_fi (fun _ => ?_) (fun _ => ?_)
                                · exact q_tA hN w888 (wX80_take_84 S Z hS _ _ w888.1 )
                                · exact q_tA hN w888 (wX80_take_82 S Z hS _ _ w888.1 )
                              · refine pq_fi (fun _ => ?_) (fun _ => ?_)
                                · refine pq_b (wX77_show S Z (sb rfl hS) _ _ w877.1 z879) (fun r889 K890 => ?_)
                                  have w891 := wk_t w877 K890 hN
                                  refine pq_fi (fun _ => ?_) (fun _ => ?_)
                                  · exact q_tA hN w891 (wX80_take_84 S Z hS _ _ w891.1 )
                                  · exact q_tA hN w891 (wX80_take_82 S Z hS _ _ w891.1 )
                                · exact pq_0
                      · exact pq_0
              · exact pq_0
      · refine pq_fi (fun _ => ?_) (fun _ => ?_)
        · refine pq_b (wX82_write S Z (sb rfl hS) _ _ _ w0.1 z_s0) (fun r892 K893 => ?_)
          have w894 := wk_t w0 K893 hN
          refine pq_g (fun g895 => ?_)
          have z896 := wk_z (i := 0) (f := 53) w894 rfl z_a0
          refine pq_fi (fun _ => ?_) (fun _ => ?_)
          · refine pq_b (wX77_write S Z (sb rfl hS) _ _ _ w894.1 z896) (fun r897 K898 => ?_)
            have w899 := wk_t w894 K898 hN
            refine pq_g (fun g900 => ?_)
            have z901 := wk_z (i := 0) (f := 49) w899 rfl z_a0
            refine pq_fi (fun _ => ?_) (fun _ => ?_)
            · refine pq_b (wX77_show S Z (sb rfl hS) _ _ w899.1 z901) (fun r902 K903 => ?_)
              have w904 := wk_t w899 K903 hN
              refine pq_fi (fun _ => ?_) (fun _ => ?_)
              · exact q_tA hN w904 (wX80_take_82 S Z hS _ _ w904.1 )
              · refine pq_g (fun g905 => ?_)
                have z906 := wk_z (i := 0) (f := 49) w904 rfl z_a0
                refine pq_fi (fun _ => ?_) (fun _ => ?_)
                · refine pq_b (wX77_show S Z (sb rfl hS) _ _ w904.1 z906) (fun r907 K908 => ?_)
                  have w909 := wk_t w904 K908 hN
                  refine pq_fi (fun _ => ?_) (fun _ => ?_)
                  · exact q_tA hN w909 (wX80_take_84 S Z hS _ _ w909.1 )
                  · exact q_tA hN w909 (wX80_take_82 S Z hS _ _ w909.1 )
                · refine pq_fi (fun _ => ?_) (fun _ => ?_)
                  · refine pq_b (wX79_show S Z (sb rfl hS) _ _ w904.1 z906) (fun r910 K911 => ?_)
                    have w912 := wk_t w904 K911 hN
                    refine pq_fi (fun _ => ?_) (fun _ => ?_)
                    · exact q_tA hN w912 (wX80_take_84 S Z hS _ _ w912.1 )
                    · exact q_tA hN w912 (wX80_take_82 S Z hS _ _ w912.1 )
                  · refine pq_fi (fun _ => ?_) (fun _ => ?_)
                    · refine pq_b (wX78_show S Z (sb rfl hS) _ _ w904.1 z906) (fun r913 K914 => ?_)
                      have w915 := wk_t w904 K914 hN
                      refine pq_fi (fun _ => ?_) (fun _ => ?_)
                      · exact q_tA hN w915 (wX80_take_84 S Z hS _ _ w915.1 )
                      · exact q_tA hN w915 (wX80_take_82 S Z hS _ _ w915.1 )
                    · refine pq_fi (fun _ => ?_) (fun _ => ?_)
                      · refine pq_b (wX77_show S Z (sb rfl hS) _ _ w904.1 z906) (fun r916 K917 => ?_)
                        have w918 := wk_t w904 K917 hN
                        refine pq_fi (fun _ => ?_) (fun _ => ?_)
                        · exact q_tA hN w918 (wX80_take_84 S Z hS _ _ w918.1 )
                        · exact q_tA hN w918 (wX80_take_82 S Z hS _ _ w918.1 )
                      · exact pq_0
            · refine pq_fi (fun _ => ?_) (fun _ => ?_)
              · refine pq_b (wX79_show S Z (sb rfl hS) _ _ w899.1 z901) (fun r919 K920 => ?_)
                have w921 := wk_t w899 K920 hN
                refine pq_fi (fun _ => ?_) (fun _ => ?_)
                · exact q_tA hN w921 (wX80_take_82 S Z hS _ _ w921.1 )
                · refine pq_g (fun g922 => ?_)
                  have z923 := wk_z (i := 0) (f := 49) w921 rfl z_a0
                  refine pq_fi (fun _ => ?_) (fun _ => ?_)
                  · refine pq_b (wX77_show S Z (sb rfl hS) _ _ w921.1 z923) (fun r924 K925 => ?_)
                    have w926 := wk_t w921 K925 hN
                    refine pq_fi (fun _ => ?_) (fun _ => ?_)
                    · exact q_tA hN w926 (wX80_take_84 S Z hS _ _ w926.1 )
                    · exact q_tA hN w926 (wX80_take_82 S Z hS _ _ w926.1 )
                  · refine pq_fi (fun _ => ?_) (fun _ => ?_)
                    · refine pq_b (wX79_show S Z (sb rfl hS) _ _ w921.1 z923) (fun r927 K928 => ?_)
                      have w929 := wk_t w921 K928 hN
                      refine pq_fi (fun _ => ?_) (fun _ => ?_)
                      · exact q_tA hN w929 (wX80_take_84 S Z hS _ _ w929.1 )
                      · exact q_tA hN w929 (wX80_take_82 S Z hS _ _ w929.1 )
                    · refine pq_fi (fun _ => ?_) (fun _ => ?_)
                      · refine pq_b (wX78_show S Z (sb rfl hS) _ _ w921.1 z923) (fun r930 K931 => ?_)
                        have w932 := wk_t w921 K931 hN
                        refine pq_fi (fun _ => ?_) (fun _ => ?_)
                        · exact q_tA hN w932 (wX80_take_84 S Z hS _ _ w932.1 )
                        · exact q_tA hN w932 (wX80_take_82 S Z hS _ _ w932.1 )
                      · refine pq_fi (fun _ => ?_) (fun _ => ?_)
                        · refine pq_b (wX77_show S Z (sb rfl hS) _ _ w921.1 z923) (fun r933 K934 => ?_)
                          have w935 := wk_t w921 K934 hN
                          refine pq_fi (fun _ => ?_) (fun _ => ?_)
                          · exact q_tA hN w935 (wX80_take_84 S Z hS _ _ w935.1 )
                          · exact q_tA hN w935 (wX80_take_82 S Z hS _ _ w935.1 )
                        · exact pq_0
              · refine pq_fi (fun _ => ?_) (fun _ => ?_)
                · refine pq_b (wX78_show S Z (sb rfl hS) _ _ w899.1 z901) (fun r936 K937 => ?_)
                  have w938 := wk_t w899 K937 hN
                  refine pq_fi (fun _ => ?_) (fun _ => ?_)
                  · exact q_tA hN w938 (wX80_take_82 S Z hS _ _ w938.1 )
                  · refine pq_g (fun g939 => ?_)
                    have z940 := wk_z (i := 0) (f := 49) w938 rfl z_a0
                    refine pq_fi (fun _ => ?_) (fun _ => ?_)
                    · refine pq_b (wX77_show S Z (sb rfl hS) _ _ w938.1 z940) (fun r941 K942 => ?_)
                      have w943 := wk_t w938 K942 hN
                      refine pq_fi (fun _ => ?_) (fun _ => ?_)
                      · exact q_tA hN w943 (wX80_take_84 S Z hS _ _ w943.1 )
                      · exact q_tA hN w943 (wX80_take_82 S Z hS _ _ w943.1 )
                    · refine pq_fi (fun _ => ?_) (fun _ => ?_)
                      · refine pq_b (wX79_show S Z (sb rfl hS) _ _ w938.1 z940) (fun r944 K945 => ?_)
                        have w946 := wk_t w938 K945 hN
                        refine pq_fi (fun _ => ?_) (fun _ => ?_)
                        · exact q_tA hN w946 (wX80_take_84 S Z hS _ _ w946.1 )
                        · exact q_tA hN w946 (wX80_take_82 S Z hS _ _ w946.1 )
                      · refine pq_fi (fun _ => ?_) (fun _ => ?_)
                        · refine pq_b (wX78_show S Z (sb rfl hS) _ _ w938.1 z940) (fun r947 K948 => ?_)
                          have w949 := wk_t w938 K948 hN
                          refine pq_fi (fun _ => ?_) (fun _ => ?_)
                          · exact q_tA hN w949 (wX80_take_84 S Z hS _ _ w949.1 )
                          · exact q_tA hN w949 (wX80_take_82 S Z hS _ _ w949.1 )
                        · refine pq_fi (fun _ => ?_) (fun _ => ?_)
                          · refine pq_b (wX77_show S Z (sb rfl hS) _ _ w938.1 z940) (fun r950 K951 => ?_)
                            have w952 := wk_t w938 K951 hN
                            refine pq_fi (fun _ => ?_) (fun _ => ?_)
                            · exact q_tA hN w952 (wX80_take_84 S Z hS _ _ w952.1 )
                            · exact q_tA hN w952 (wX80_take_82 S Z hS _ _ w952.1 )
                          · exact pq_0
                · refine pq_fi (fun _ => ?_) (fun _ => ?_)
                  · refine pq_b (wX77_show S Z (sb rfl hS) _ _ w899.1 z901) (fun r953 K954 => ?_)
                    have w955 := wk_t w899 K954 hN
                    refine pq_fi (fun _ => ?_) (fun _ => ?_)
                    · exact q_tA hN w955 (wX80_take_82 S Z hS _ _ w955.1 )
                    · refine pq_g (fun g956 => ?_)
                      have z957 := wk_z (i := 0) (f := 49) w955 rfl z_a0
                      refine pq_fi (fun _ => ?_) (fun _ => ?_)
                      · refine pq_b (wX77_show S Z (sb rfl hS) _ _ w955.1 z957) (fun r958 K959 => ?_)
                        have w960 := wk_t w955 K959 hN
                        refine pq_fi (fun _ => ?_) (fun _ => ?_)
                        · exact q_tA hN w960 (wX80_take_84 S Z hS _ _ w960.1 )
                        · exact q_tA hN w960 (wX80_take_82 S Z hS _ _ w960.1 )
                      · refine pq_fi (fun _ => ?_) (fun _ => ?_)
                        · refine pq_b (wX79_show S Z (sb rfl hS) _ _ w955.1 z957) (fun r961 K962 => ?_)
                          have w963 := wk_t w955 K962 hN
                          refine pq_fi (fun _ => ?_) (fun _ => ?_)
                          · exact q_tA hN w963 (wX80_take_84 S Z hS _ _ w963.1 )
                          · exact q_tA hN w963 (wX80_take_82 S Z hS _ _ w963.1 )
                        · refine pq_fi (fun _ => ?_) (fun _ => ?_)
                          · refine pq_b (wX78_show S Z (sb rfl hS) _ _ w955.1 z957) (fun r964 K965 => ?_)
                            have w966 := wk_t w955 K965 hN
                            refine pq_fi (fun _ => ?_) (fun _ => ?_)
                            · exact q_tA hN w966 (wX80_take_84 S Z hS _ _ w966.1 )
                            · exact q_tA hN w966 (wX80_take_82 S Z hS _ _ w966.1 )
                          · refine pq_fi (fun _ => ?_) (fun _ => ?_)
                            · refine pq_b (wX77_show S Z (sb rfl hS) _ _ w955.1 z957) (fun r967 K968 => ?_)
                              have w969 := wk_t w955 K968 hN
                              refine pq_fi (fun _ => ?_) (fun _ => ?_)
                              · exact q_tA hN w969 (wX80_take_84 S Z hS _ _ w969.1 )
                              · exact q_tA hN w969 (wX80_take_82 S Z hS _ _ w969.1 )
                            · exact pq_0
                  · exact pq_0
          · refine pq_fi (fun _ => ?_) (fun _ => ?_)
            · refine pq_b (wX77_write S Z (sb rfl hS) _ _ _ w894.1 z896) (fun r970 K971 => ?_)
              have w972 := wk_t w894 K971 hN
              refine pq_g (fun g973 => ?_)
              have z974 := wk_z (i := 0) (f := 49) w972 rfl z_a0
              refine pq_fi (fun _ => ?_) (fun _ => ?_)
              · refine pq_b (wX77_show S Z (sb rfl hS) _ _ w972.1 z974) (fun r975 K976 => ?_)
                have w977 := wk_t w972 K976 hN
                refine pq_fi (fun _ => ?_) (fun _ => ?_)
                · exact q_tA hN w977 (wX80_take_82 S Z hS _ _ w977.1 )
                · refine pq_g (fun g978 => ?_)
                  have z979 := wk_z (i := 0) (f := 49) w977 rfl z_a0
                  refine pq_fi (fun _ => ?_) (fun _ => ?_)
                  · refine pq_b (wX77_show S Z (sb rfl hS) _ _ w977.1 z979) (fun r980 K981 => ?_)
                    have w982 := wk_t w977 K981 hN
                    refine pq_fi (fun _ => ?_) (fun _ => ?_)
                    · exact q_tA hN w982 (wX80_take_84 S Z hS _ _ w982.1 )
                    · exact q_tA hN w982 (wX80_take_82 S Z hS _ _ w982.1 )
                  · refine pq_fi (fun _ => ?_) (fun _ => ?_)
                    · refine pq_b (wX79_show S Z (sb rfl hS) _ _ w977.1 z979) (fun r983 K984 => ?_)
                      have w985 := wk_t w977 K984 hN
                      refine pq_fi (fun _ => ?_) (fun _ => ?_)
                      · exact q_tA hN w985 (wX80_take_84 S Z hS _ _ w985.1 )
                      · exact q_tA hN w985 (wX80_take_82 S Z hS _ _ w985.1 )
                    · refine pq_fi (fun _ => ?_) (fun _ => ?_)
                      · refine pq_b (wX78_show S Z (sb rfl hS) _ _ w977.1 z979) (fun r986 K987 => ?_)
                        have w988 := wk_t w977 K987 hN
                        refine pq_fi (fun _ => ?_) (fun _ => ?_)
                        · exact q_tA hN w988 (wX80_take_84 S Z hS _ _ w988.1 )
                        · exact q_tA hN w988 (wX80_take_82 S Z hS _ _ w988.1 )
                      · refine pq_fi (fun _ => ?_) (fun _ => ?_)
                        · refine pq_b (wX77_show S Z (sb rfl hS) _ _ w977.1 z979) (fun r989 K990 => ?_)
                          have w991 := wk_t w977 K990 hN
                          refine pq_fi (fun _ => ?_) (fun _ => ?_)
                          · exact q_tA hN w991 (wX80_take_84 S Z hS _ _ w991.1 )
                          · exact q_tA hN w991 (wX80_take_82 S Z hS _ _ w991.1 )
                        · exact pq_0
              · refine pq_fi (fun _ => ?_) (fun _ => ?_)
                · refine pq_b (wX79_show S Z (sb rfl hS) _ _ w972.1 z974) (fun r992 K993 => ?_)
                  have w994 := wk_t w972 K993 hN
                  refine pq_fi (fun _ => ?_) (fun _ => ?_)
                  · exact q_tA hN w994 (wX80_take_82 S Z hS _ _ w994.1 )
                  · refine pq_g (fun g995 => ?_)
                    have z996 := wk_z (i := 0) (f := 49) w994 rfl z_a0
                    refine pq_fi (fun _ => ?_) (fun _ => ?_)
                    · refine pq_b (wX77_show S Z (sb rfl hS) _ _ w994.1 z996) (fun r997 K998 => ?_)
                      have w999 := wk_t w994 K998 hN
                      refine pq_fi (fun _ => ?_) (fun _ => ?_)
                      · exact q_tA hN w999 (wX80_take_84 S Z hS _ _ w999.1 )
                      · exact q_tA hN w999 (wX80_take_82 S Z hS _ _ w999.1 )
                    · refine pq_fi (fun _ => ?_) (fun _ => ?_)
                      · refine pq_b (wX79_show S Z (sb rfl hS) _ _ w994.1 z996) (fun r1000 K1001 => ?_)
                        have w1002 := wk_t w994 K1001 hN
                        refine pq_fi (fun _ => ?_) (fun _ => ?_)
                        · exact q_tA hN w1002 (wX80_take_84 S Z hS _ _ w1002.1 )
                        · exact q_tA hN w1002 (wX80_take_82 S Z hS _ _ w1002.1 )
                      · refine pq_fi (fun _ => ?_) (fun _ => ?_)
                        · refine pq_b (wX78_show S Z (sb rfl hS) _ _ w994.1 z996) (fun r1003 K1004 => ?_)
                          have w1005 := wk_t w994 K1004 hN
                          refine pq_fi (fun _ => ?_) (fun _ => ?_)
                          · exact q_tA hN w1005 (wX80_take_84 S Z hS _ _ w1005.1 )
                          · exact q_tA hN w1005 (wX80_take_82 S Z hS _ _ w1005.1 )
                        · refine pq_fi (fun _ => ?_) (fun _ => ?_)
                          · refine pq_b (wX77_show S Z (sb rfl hS) _ _ w994.1 z996) (fun r1006 K1007 => ?_)
                            have w1008 := wk_t w994 K1007 hN
                            refine pq_fi (fun _ => ?_) (fun _ => ?_)
                            · exact q_tA hN w1008 (wX80_take_84 S Z hS _ _ w1008.1 )
                            · exact q_tA hN w1008 (wX80_take_82 S Z hS _ _ w1008.1 )
                          · exact pq_0
                · refine pq_fi (fun _ => ?_) (fun _ => ?_)
                  · refine pq_b (wX78_show S Z (sb rfl hS) _ _ w972.1 z974) (fun r1009 K1010 => ?_)
                    have w1011 := wk_t w972 K1010 hN
                    refine pq_fi (fun _ => ?_) (fun _ => ?_)
                    · exact q_tA hN w1011 (wX80_take_82 S Z hS _ _ w1011.1 )
                    · refine pq_g (fun g1012 => ?_)
                      have z1013 := wk_z (i := 0) (f := 49) w1011 rfl z_a0
                      refine pq_fi (fun _ => ?_) (fun _ => ?_)
                      · refine pq_b (wX77_show S Z (sb rfl hS) _ _ w1011.1 z1013) (fun r1014 K1015 => ?_)
                        have w1016 := wk_t w1011 K1015 hN
                        refine pq_fi (fun _ => ?_) (fun _ => ?_)
                        · exact q_tA hN w1016 (wX80_take_84 S Z hS _ _ w1016.1 )
                        · exact q_tA hN w1016 (wX80_take_82 S Z hS _ _ w1016.1 )
                      · refine pq_fi (fun _ => ?_) (fun _ => ?_)
                        · refine pq_b (wX79_show S Z (sb rfl hS) _ _ w1011.1 z1013) (fun r1017 K1018 => ?_)
                          have w1019 := wk_t w1011 K1018 hN
                          refine pq_fi (fun _ => ?_) (fun _ => ?_)
                          · exact q_tA hN w1019 (wX80_take_84 S Z hS _ _ w1019.1 )
                          · exact q_tA hN w1019 (wX80_take_82 S Z hS _ _ w1019.1 )
                        · refine pq_fi (fun _ => ?_) (fun _ => ?_)
                          · refine pq_b (wX78_show S Z (sb rfl hS) _ _ w1011.1 z1013) (fun r1020 K1021 => ?_)
                            have w1022 := wk_t w1011 K1021 hN
                            refine pq_fi (fun _ => ?_) (fun _ => ?_)
                            · exact q_tA hN w1022 (wX80_take_84 S Z hS _ _ w1022.1 )
                            · exact q_tA hN w1022 (wX80_take_82 S Z hS _ _ w1022.1 )
                          · refine pq_fi (fun _ => ?_) (fun _ => ?_)
                            · refine pq_b (wX77_show S Z (sb rfl hS) _ _ w1011.1 z1013) (fun r1023 K1024 => ?_)
                              have w1025 := wk_t w1011 K1024 hN
                              refine pq_fi (fun _ => ?_) (fun _ => ?_)
                              · exact q_tA hN w1025 (wX80_take_84 S Z hS _ _ w1025.1 )
                              · exact q_tA hN w1025 (wX80_take_82 S Z hS _ _ w1025.1 )
                            · exact pq_0
                  · refine pq_fi (fun _ => ?_) (fun _ => ?_)
                    · refine pq_b (wX77_show S Z (sb rfl hS) _ _ w972.1 z974) (fun r1026 K1027 => ?_)
                      have w1028 := wk_t w972 K1027 hN
                      refine pq_fi (fun _ => ?_) (fun _ => ?_)
                      · exact q_tA hN w1028 (wX80_take_82 S Z hS _ _ w1028.1 )
                      · refine pq_g (fun g1029 => ?_)
                        have z1030 := wk_z (i := 0) (f := 49) w1028 rfl z_a0
                        refine pq_fi (fun _ => ?_) (fun _ => ?_)
                        · refine pq_b (wX77_show S Z (sb rfl hS) _ _ w1028.1 z1030) (fun r1031 K1032 => ?_)
                          have w1033 := wk_t w1028 K1032 hN
                          refine pq_fi (fun _ => ?_) (fun _ => ?_)
                          · exact q_tA hN w1033 (wX80_take_84 S Z hS _ _ w1033.1 )
                          · exact q_tA hN w1033 (wX80_take_82 S Z hS _ _ w1033.1 )
                        · refine pq_fi (fun _ => ?_) (fun _ => ?_)
                          · refine pq_b (wX79_show S Z (sb rfl hS) _ _ w1028.1 z1030) (fun r1034 K1035 => ?_)
                            have w1036 := wk_t w1028 K1035 hN
                            refine pq_fi (fun _ => ?_) (fun _ => ?_)
                            · exact q_tA hN w1036 (wX80_take_84 S Z hS _ _ w1036.1 )
                            · exact q_tA hN w1036 (wX80_take_82 S Z hS _ _ w1036.1 )
                          · refine pq_fi (fun _ => ?_) (fun _ => ?_)
                            · refine pq_b (wX78_show S Z (sb rfl hS) _ _ w1028.1 z1030) (fun r1037 K1038 => ?_)
                              have w1039 := wk_t w1028 K1038 hN
                              refine pq_fi (fun _ => ?_) (fun _ => ?_)
                              · exact q_tA hN w1039 (wX80_take_84 S Z hS _ _ w1039.1 )
                              · exact q_tA hN w1039 (wX80_take_82 S Z hS _ _ w1039.1 )
                            · refine pq_fi (fun _ => ?_) (fun _ => ?_)
                              · refine pq_b (wX77_show S Z (sb rfl hS) _ _ w1028.1 z1030) (fun r1040 K1041 => ?_)
                                have w1042 := wk_t w1028 K1041 hN
                                refine pq_fi (fun _ => ?_) (fun _ => ?_)
                                · exact q_tA hN w1042 (wX80_take_84 S Z hS _ _ w1042.1 )
                                · exact q_tA hN w1042 (wX80_take_82 S Z hS _ _ w1042.1 )
                              · exact pq_0
                    · exact pq_0
            · refine pq_fi (fun _ => ?_) (fun _ => ?_)
              · refine pq_b (wX78_write S Z (sb rfl hS) _ _ _ w894.1 z896) (fun r1043 K1044 => ?_)
                have w1045 := wk_t w894 K1044 hN
                refine pq_g (fun g1046 => ?_)
                have z1047 := wk_z (i := 0) (f := 49) w1045 rfl z_a0
                refine pq_fi (fun _ => ?_) (fun _ => ?_)
                · refine pq_b (wX77_show S Z (sb rfl hS) _ _ w1045.1 z1047) (fun r1048 K1049 => ?_)
                  have w1050 := wk_t w1045 K1049 hN
                  refine pq_fi (fun _ => ?_) (fun _ => ?_)
                  · exact q_tA hN w1050 (wX80_take_82 S Z hS _ _ w1050.1 )
                  · refine pq_g (fun g1051 => ?_)
                    have z1052 := wk_z (i := 0) (f := 49) w1050 rfl z_a0
                    refine pq_fi (fun _ => ?_) (fun _ => ?_)
                    · refine pq_b (wX77_show S Z (sb rfl hS) _ _ w1050.1 z1052) (fun r1053 K1054 => ?_)
                      have w1055 := wk_t w1050 K1054 hN
                      refine pq_fi (fun _ => ?_) (fun _ => ?_)
                      · exact q_tA hN w1055 (wX80_take_84 S Z hS _ _ w1055.1 )
                      · exact q_tA hN w1055 (wX80_take_82 S Z hS _ _ w1055.1 )
                    · refine pq_fi (fun _ => ?_) (fun _ => ?_)
                      · refine pq_b (wX79_show S Z (sb rfl hS) _ _ w1050.1 z1052) (fun r1056 K1057 => ?_)
                        have w1058 := wk_t w1050 K1057 hN
                        refine pq_fi (fun _ => ?_) (fun _ => ?_)
                        · exact q_tA hN w1058 (wX80_take_84 S Z hS _ _ w1058.1 )
                        · exact q_tA hN w1058 (wX80_take_82 S Z hS _ _ w1058.1 )
                      · refine pq_fi (fun _ => ?_) (fun _ => ?_)
                        · refine pq_b (wX78_show S Z (sb rfl hS) _ _ w1050.1 z1052) (fun r1059 K1060 => ?_)
                          have w1061 := wk_t w1050 K1060 hN
                          refine pq_fi (fun _ => ?_) (fun _ => ?_)
                          · exact q_tA hN w1061 (wX80_take_84 S Z hS _ _ w1061.1 )
                          · exact q_tA hN w1061 (wX80_take_82 S Z hS _ _ w1061.1 )
                        · refine pq_fi (fun _ => ?_) (fun _ => ?_)
                          · refine pq_b (wX77_show S Z (sb rfl hS) _ _ w1050.1 z1052) (fun r1062 K1063 => ?_)
                            have w1064 := wk_t w1050 K1063 hN
                            refine pq_fi (fun _ => ?_) (fun _ => ?_)
                            · exact q_tA hN w1064 (wX80_take_84 S Z hS _ _ w1064.1 )
                            · exact q_tA hN w1064 (wX80_take_82 S Z hS _ _ w1064.1 )
                          · exact pq_0
                · refine pq_fi (fun _ => ?_) (fun _ => ?_)
                  · refine pq_b (wX79_show S Z (sb rfl hS) _ _ w1045.1 z1047) (fun r1065 K1066 => ?_)
                    have w1067 := wk_t w1045 K1066 hN
                    refine pq_fi (fun _ => ?_) (fun _ => ?_)
                    · exact q_tA hN w1067 (wX80_take_82 S Z hS _ _ w1067.1 )
                    · refine pq_g (fun g1068 => ?_)
                      have z1069 := wk_z (i := 0) (f := 49) w1067 rfl z_a0
                      refine pq_fi (fun _ => ?_) (fun _ => ?_)
                      · refine pq_b (wX77_show S Z (sb rfl hS) _ _ w1067.1 z1069) (fun r1070 K1071 => ?_)
                        have w1072 := wk_t w1067 K1071 hN
                        refine pq_fi (fun _ => ?_) (fun _ => ?_)
                        · exact q_tA hN w1072 (wX80_take_84 S Z hS _ _ w1072.1 )
                        · exact q_tA hN w1072 (wX80_take_82 S Z hS _ _ w1072.1 )
                      · refine pq_fi (fun _ => ?_) (fun _ => ?_)
                        · refine pq_b (wX79_show S Z (sb rfl hS) _ _ w1067.1 z1069) (fun r1073 K1074 => ?_)
                          have w1075 := wk_t w1067 K1074 hN
                          refine pq_fi (fun _ => ?_) (fun _ => ?_)
                          · exact q_tA hN w1075 (wX80_take_84 S Z hS _ _ w1075.1 )
                          · exact q_tA hN w1075 (wX80_take_82 S Z hS _ _ w1075.1 )
                        · refine pq_fi (fun _ => ?_) (fun _ => ?_)
                          · refine pq_b (wX78_show S Z (sb rfl hS) _ _ w1067.1 z1069) (fun r1076 K1077 => ?_)
                            have w1078 := wk_t w1067 K1077 hN
                            refine pq_fi (fun _ => ?_) (fun _ => ?_)
                            · exact q_tA hN w1078 (wX80_take_84 S Z hS _ _ w1078.1 )
                            · exact q_tA hN w1078 (wX80_take_82 S Z hS _ _ w1078.1 )
                          · refine pq_fi (fun _ => ?_) (fun _ => ?_)
                            · refine pq_b (wX77_show S Z (sb rfl hS) _ _ w1067.1 z1069) (fun r1079 K1080 => ?_)
                              have w1081 := wk_t w1067 K1080 hN
                              refine pq_fi (fun _ => ?_) (fun _ => ?_)
                              · exact q_tA hN w1081 (wX80_take_84 S Z hS _ _ w1081.1 )
                              · exact q_tA hN w1081 (wX80_take_82 S Z hS _ _ w1081.1 )
                            · exact pq_0
                  · refine pq_fi (fun _ => ?_) (fun _ => ?_)
                    · refine pq_b (wX78_show S Z (sb rfl hS) _ _ w1045.1 z1047) (fun r1082 K1083 => ?_)
                      have w1084 := wk_t w1045 K1083 hN
                      refine pq_fi (fun _ => ?_) (fun _ => ?_)
                      · exact q_tA hN w1084 (wX80_take_82 S Z hS _ _ w1084.1 )
                      · refine pq_g (fun g1085 => ?_)
                        have z1086 := wk_z (i := 0) (f := 49) w1084 rfl z_a0
                        refine pq_fi (fun _ => ?_) (fun _ => ?_)
                        · refine pq_b (wX77_show S Z (sb rfl hS) _ _ w1084.1 z1086) (fun r1087 K1088 => ?_)
                          have w1089 := wk_t w1084 K1088 hN
                          refine pq_fi (fun _ => ?_) (fun _ => ?_)
                          · exact q_tA hN w1089 (wX80_take_84 S Z hS _ _ w1089.1 )
                          · exact q_tA hN w1089 (wX80_take_82 S Z hS _ _ w1089.1 )
                        · refine pq_fi (fun _ => ?_) (fun _ => ?_)
                          · refine pq_b (wX79_show S Z (sb rfl hS) _ _ w1084.1 z1086) (fun r1090 K1091 => ?_)
                            have w1092 := wk_t w1084 K1091 hN
                            refine pq_fi (fun _ => ?_) (fun _ => ?_)
                            · exact q_tA hN w1092 (wX80_take_84 S Z hS _ _ w1092.1 )
                            · exact q_tA hN w1092 (wX80_take_82 S Z hS _ _ w1092.1 )
                          · refine pq_fi (fun _ => ?_) (fun _ => ?_)
                            · refine pq_b (wX78_show S Z (sb rfl hS) _ _ w1084.1 z1086) (fun r1093 K1094 => ?_)
                              have w1095 := wk_t w1084 K1094 hN
                              refine pq_fi (fun _ => ?_) (fun _ => ?_)
                              · exact q_tA hN w1095 (wX80_take_84 S Z hS _ _ w1095.1 )
                              · exact q_tA hN w1095 (wX80_take_82 S Z hS _ _ w1095.1 )
                            · refine pq_fi (fun _ => ?_) (fun _ => ?_)
                              · refine pq_b (wX77_show S Z (sb rfl hS) _ _ w1084.1 z1086) (fun r1096 K1097 => ?_)
                                have w1098 := wk_t w1084 K1097 hN
                                refine pq_fi (fun _ => ?_) (fun _ => ?_)
                                · exact q_tA hN w1098 (wX80_take_84 S Z hS _ _ w1098.1 )
                                · exact q_tA hN w1098 (wX80_take_82 S Z hS _ _ w1098.1 )
                              · exact pq_0
                    · refine pq_fi (fun _ => ?_) (fun _ => ?_)
                      · refine pq_b (wX77_show S Z (sb rfl hS) _ _ w1045.1 z1047) (fun r1099 K1100 => ?_)
                        have w1101 := wk_t w1045 K1100 hN
                        refine pq_fi (fun _ => ?_) (fun _ => ?_)
                        · exact q_tA hN w1101 (wX80_take_82 S Z hS _ _ w1101.1 )
                        · refine pq_g (fun g1102 => ?_)
                          have z1103 := wk_z (i := 0) (f := 49) w1101 rfl z_a0
                          refine pq_fi (fun _ => ?_) (fun _ => ?_)
                          · refine pq_b (wX77_show S Z (sb rfl hS) _ _ w1101.1 z1103) (fun r1104 K1105 => ?_)
                            have w1106 := wk_t w1101 K1105 hN
                            refine pq_fi (fun _ => ?_) (fun _ => ?_)
                            · exact q_tA hN w1106 (wX80_take_84 S Z hS _ _ w1106.1 )
                            · exact q_tA hN w1106 (wX80_take_82 S Z hS _ _ w1106.1 )
                          · refine pq_fi (fun _ => ?_) (fun _ => ?_)
                            · refine pq_b (wX79_show S Z (sb rfl hS) _ _ w1101.1 z1103) (fun r1107 K1108 => ?_)
                              have w1109 := wk_t w1101 K1108 hN
                              refine pq_fi (fun _ => ?_) (fun _ => ?_)
                              · exact q_tA hN w1109 (wX80_take_84 S Z hS _ _ w1109.1 )
                              · exact q_tA hN w1109 (wX80_take_82 S Z hS _ _ w1109.1 )
                            · refine pq_fi (fun _ => ?_) (fun _ => ?_)
                              · refine pq_b (wX78_show S Z (sb rfl hS) _ _ w1101.1 z1103) (fun r1110 K1111 => ?_)
                                have w1112 := wk_t w1101 K1111 hN
                                refine pq_fi (fun _ => ?_) (fun _ => ?_)
                                · exact q_tA hN w1112 (wX80_take_84 S Z hS _ _ w1112.1 )
                                · exact q_tA hN w1112 (wX80_take_82 S Z hS _ _ w1112.1 )
                              · refine pq_fi (fun _ => ?_) (fun _ => ?_)
                                · refine pq_b (wX77_show S Z (sb rfl hS) _ _ w1101.1 z1103) (fun r1113 K1114 => ?_)
                                  have w1115 := wk_t w1101 K1114 hN
                                  refine pq_fi (fun _ => ?_) (fun _ => ?_)
                                  · exact q_tA hN w1115 (wX80_take_84 S Z hS _ _ w1115.1 )
                                  · exact q_tA hN w1115 (wX80_take_82 S Z hS _ _ w1115.1 )
                                · exact pq_0
                      · exact pq_0
              · refine pq_fi (fun _ => ?_) (fun _ => ?_)
                · refine pq_b (wX82_write S Z (sb rfl hS) _ _ _ w894.1 z896) (fun r1116 K1117 => ?_)
                  have w1118 := wk_t w894 K1117 hN
                  refine pq_g (fun g1119 => ?_)
                  have z1120 := wk_z (i := 0) (f := 49) w1118 rfl z_a0
                  refine pq_fi (fun _ => ?_) (fun _ => ?_)
                  · refine pq_b (wX77_show S Z (sb rfl hS) _ _ w1118.1 z1120) (fun r1121 K1122 => ?_)
                    have w1123 := wk_t w1118 K1122 hN
                    refine pq_fi (fun _ => ?_) (fun _ => ?_)
                    · exact q_tA hN w1123 (wX80_take_82 S Z hS _ _ w1123.1 )
                    · refine pq_g (fun g1124 => ?_)
                      have z1125 := wk_z (i := 0) (f := 49) w1123 rfl z_a0
                      refine pq_fi (fun _ => ?_) (fun _ => ?_)
                      · refine pq_b (wX77_show S Z (sb rfl hS) _ _ w1123.1 z1125) (fun r1126 K1127 => ?_)
                        have w1128 := wk_t w1123 K1127 hN
                        refine pq_fi (fun _ => ?_) (fun _ => ?_)
                        · exact q_tA hN w1128 (wX80_take_84 S Z hS _ _ w1128.1 )
                        · exact q_tA hN w1128 (wX80_take_82 S Z hS _ _ w1128.1 )
                      · refine pq_fi (fun _ => ?_) (fun _ => ?_)
                        · refine pq_b (wX79_show S Z (sb rfl hS) _ _ w1123.1 z1125) (fun r1129 K1130 => ?_)
                          have w1131 := wk_t w1123 K1130 hN
                          refine pq_fi (fun _ => ?_) (fun _ => ?_)
                          · exact q_tA hN w1131 (wX80_take_84 S Z hS _ _ w1131.1 )
                          · exact q_tA hN w1131 (wX80_take_82 S Z hS _ _ w1131.1 )
                        · refine pq_fi (fun _ => ?_) (fun _ => ?_)
                          · refine pq_b (wX78_show S Z (sb rfl hS) _ _ w1123.1 z1125) (fun r1132 K1133 => ?_)
                            have w1134 := wk_t w1123 K1133 hN
                            refine pq_fi (fun _ => ?_) (fun _ => ?_)
                            · exact q_tA hN w1134 (wX80_take_84 S Z hS _ _ w1134.1 )
                            · exact q_tA hN w1134 (wX80_take_82 S Z hS _ _ w1134.1 )
                          · refine pq_fi (fun _ => ?_) (fun _ => ?_)
                            · refine pq_b (wX77_show S Z (sb rfl hS) _ _ w1123.1 z1125) (fun r1135 K1136 => ?_)
                              have w1137 := wk_t w1123 K1136 hN
                              refine pq_fi (fun _ => ?_) (fun _ => ?_)
                              · exact q_tA hN w1137 (wX80_take_84 S Z hS _ _ w1137.1 )
                              · exact q_tA hN w1137 (wX80_take_82 S Z hS _ _ w1137.1 )
                            · exact pq_0
                  · refine pq_fi (fun _ => ?_) (fun _ => ?_)
                    · refine pq_b (wX79_show S Z (sb rfl hS) _ _ w1118.1 z1120) (fun r1138 K1139 => ?_)
                      have w1140 := wk_t w1118 K1139 hN
                      refine pq_fi (fun _ => ?_) (fun _ => ?_)
                      · exact q_tA hN w1140 (wX80_take_82 S Z hS _ _ w1140.1 )
                      · refine pq_g (fun g1141 => ?_)
                        have z1142 := wk_z (i := 0) (f := 49) w1140 rfl z_a0
                        refine pq_fi (fun _ => ?_) (fun _ => ?_)
                        · refine pq_b (wX77_show S Z (sb rfl hS) _ _ w1140.1 z1142) (fun r1143 K1144 => ?_)
                          have w1145 := wk_t w1140 K1144 hN
                          refine pq_fi (fun _ => ?_) (fun _ => ?_)
                          · exact q_tA hN w1145 (wX80_take_84 S Z hS _ _ w1145.1 )
                          · exact q_tA hN w1145 (wX80_take_82 S Z hS _ _ w1145.1 )
                        · refine pq_fi (fun _ => ?_) (fun _ => ?_)
                          · refine pq_b (wX79_show S Z (sb rfl hS) _ _ w1140.1 z1142) (fun r1146 K1147 => ?_)
                            have w1148 := wk_t w1140 K1147 hN
                            refine pq_fi (fun _ => ?_) (fun _ => ?_)
                            · exact q_tA hN w1148 (wX80_take_84 S Z hS _ _ w1148.1 )
                            · exact q_tA hN w1148 (wX80_take_82 S Z hS _ _ w1148.1 )
                          · refine pq_fi (fun _ => ?_) (fun _ => ?_)
                            · refine pq_b (wX78_show S Z (sb rfl hS) _ _ w1140.1 z1142) (fun r1149 K1150 => ?_)
                              have w1151 := wk_t w1140 K1150 hN
                              refine pq_fi (fun _ => ?_) (fun _ => ?_)
                              · exact q_tA hN w1151 (wX80_take_84 S Z hS _ _ w1151.1 )
                              · exact q_tA hN w1151 (wX80_take_82 S Z hS _ _ w1151.1 )
                            · refine pq_fi (fun _ => ?_) (fun _ => ?_)
                              · refine pq_b (wX77_show S Z (sb rfl hS) _ _ w1140.1 z1142) (fun r1152 K1153 => ?_)
                                have w1154 := wk_t w1140 K1153 hN
                                refine pq_fi (fun _ => ?_) (fun _ => ?_)
                                · exact q_tA hN w1154 (wX80_take_84 S Z hS _ _ w1154.1 )
                                · exact q_tA hN w1154 (wX80_take_82 S Z hS _ _ w1154.1 )
                              · exact pq_0
                    · refine pq_fi (fun _ => ?_) (fun _ => ?_)
                      · refine pq_b (wX78_show S Z (sb rfl hS) _ _ w1118.1 z1120) (fun r1155 K1156 => ?_)
                        have w1157 := wk_t w1118 K1156 hN
                        refine pq_fi (fun _ => ?_) (fun _ => ?_)
                        · exact q_tA hN w1157 (wX80_take_82 S Z hS _ _ w1157.1 )
                        · refine pq_g (fun g1158 => ?_)
                          have z1159 := wk_z (i := 0) (f := 49) w1157 rfl z_a0
                          refine pq_fi (fun _ => ?_) (fun _ => ?_)
                          · refine pq_b (wX77_show S Z (sb rfl hS) _ _ w1157.1 z1159) (fun r1160 K1161 => ?_)
                            have w1162 := wk_t w1157 K1161 hN
                            refine pq_fi (fun _ => ?_) (fun _ => ?_)
                            · exact q_tA hN w1162 (wX80_take_84 S Z hS _ _ w1162.1 )
                            · exact q_tA hN w1162 (wX80_take_82 S Z hS _ _ w1162.1 )
                          · refine pq_fi (fun _ => ?_) (fun _ => ?_)
                            · refine pq_b (wX79_show S Z (sb rfl hS) _ _ w1157.1 z1159) (fun r1163 K1164 => ?_)
                              have w1165 := wk_t w1157 K1164 hN
                              refine pq_fi (fun _ => ?_) (fun _ => ?_)
                              · exact q_tA hN w1165 (wX80_take_84 S Z hS _ _ w1165.1 )
                              · exact q_tA hN w1165 (wX80_take_82 S Z hS _ _ w1165.1 )
                            · refine pq_fi (fun _ => ?_) (fun _ => ?_)
                              · refine pq_b (wX78_show S Z (sb rfl hS) _ _ w1157.1 z1159) (fun r1166 K1167 => ?_)
                                have w1168 := wk_t w1157 K1167 hN
                                refine pq_fi (fun _ => ?_) (fun _ => ?_)
                                · exact q_tA hN w1168 (wX80_take_84 S Z hS _ _ w1168.1 )
                                · exact q_tA hN w1168 (wX80_take_82 S Z hS _ _ w1168.1 )
                              · refine pq_fi (fun _ => ?_) (fun _ => ?_)
                                · refine pq_b (wX77_show S Z (sb rfl hS) _ _ w1157.1 z1159) (fun r1169 K1170 => ?_)
                                  have w1171 := wk_t w1157 K1170 hN
                                  refine pq_fi (fun _ => ?_) (fun _ => ?_)
                                  · exact q_tA hN w1171 (wX80_take_84 S Z hS _ _ w1171.1 )
                                  · exact q_tA hN w1171 (wX80_take_82 S Z hS _ _ w1171.1 )
                                · exact pq_0
                      · refine pq_fi (fun _ => ?_) (fun _ => ?_)
                        · refine pq_b (wX77_show S Z (sb rfl hS) _ _ w1118.1 z1120) (fun r1172 K1173 => ?_)
                          have w1174 := wk_t w1118 K1173 hN
                          refine pq_fi (fun _ => ?_) (fun _ => ?_)
                          · exact q_tA hN w1174 (wX80_take_82 S Z hS _ _ w1174.1 )
                          · refine pq_g (fun g1175 => ?_)
                            have z1176 := wk_z (i := 0) (f := 49) w1174 rfl z_a0
                            refine pq_fi (fun _ => ?_) (fun _ => ?_)
                            · refine pq_b (wX77_show S Z (sb rfl hS) _ _ w1174.1 z1176) (fun r1177 K1178 => ?_)
                              have w1179 := wk_t w1174 K1178 hN
                              refine pq_fi (fun _ => ?_) (fun _ => ?_)
                              · exact q_tA hN w1179 (wX80_take_84 S Z hS _ _ w1179.1 )
                              · exact q_tA hN w1179 (wX80_take_82 S Z hS _ _ w1179.1 )
                            · refine pq_fi (fun _ => ?_) (fun _ => ?_)
                              · refine pq_b (wX79_show S Z (sb rfl hS) _ _ w1174.1 z1176) (fun r1180 K1181 => ?_)
                                have w1182 := wk_t w1174 K1181 hN
                                refine pq_fi (fun _ => ?_) (fun _ => ?_)
                                · exact q_tA hN w1182 (wX80_take_84 S Z hS _ _ w1182.1 )
                                · exact q_tA hN w1182 (wX80_take_82 S Z hS _ _ w1182.1 )
                              · refine pq_fi (fun _ => ?_) (fun _ => ?_)
                                · refine pq_b (wX78_show S Z (sb rfl hS) _ _ w1174.1 z1176) (fun r1183 K1184 => ?_)
                                  have w1185 := wk_t w1174 K1184 hN
                                  refine pq_fi (fun _ => ?_) (fun _ => ?_)
                                  · exact q_tA hN w1185 (wX80_take_84 S Z hS _ _ w1185.1 )
                                  · exact q_tA hN w1185 (wX80_take_82 S Z hS _ _ w1185.1 )
                                · refine pq_fi (fun _ => ?_) (fun _ => ?_)
                                  · refine pq_b (wX77_show S Z (sb rfl hS) _ _ w1174.1 z1176) (fun r1186 K1187 => ?_)
                                    have w1188 := wk_t w1174 K1187 hN
                                    refine pq_fi (fun _ => ?_) (fun _ => ?_)
                                    · exact q_tA hN w1188 (wX80_take_84 S Z hS _ _ w1188.1 )
                                    · exact q_tA hN w1188 (wX80_take_82 S Z hS _ _ w1188.1 )
                                  · exact pq_0
                        · exact pq_0
                · exact pq_0
        · exact pq_0
theorem wX80_take_0 (S Z : Nat → Prop) {hx N : Nat} (hS : ∀ x, fe_mem lX80_take x = true → S x) (a0 : Nat) (a1 : Int32) (a2 : Int32) (a3 : Int64) (a5 : Int64) (M : FM) (w : WI Z hx N M) (z_a0 : Z a0) : pq (FX80_take_0 a0 a1 a2 a3 a5 M) (QA S Z hx N M) := by
  have hN := w.2.2.1
  have w0 := wk_r (S := S) w
  delta FX80_take_0 BX80_take_0
  refine pq_g (fun g1 => ?_)
  have z2 := wk_z (i := 0) (f := 51) w0 rfl z_a0
  refine pq_fi (fun _ => ?_) (fun _ => ?_)
  · refine pq_b (wX77_write S Z (sb rfl hS) _ _ _ w0.1 z2) (fun r3 K4 => ?_)
    have w5 := wk_t w0 K4 hN
    refine pq_g (fun g6 => ?_)
    have z7 := wk_z (i := 0) (f := 52) w5 rfl z_a0
    refine pq_fi (fun _ => ?_) (fun _ => ?_)
    · exact q_tA hN w5 (wX80_take_28 S Z hS _ _ _ _ _ _ _ w5.1 z_a0 z7)
    · exact q_tA hN w5 (wX80_take_28 S Z hS _ _ _ _ _ _ _ w5.1 z_a0 z7)
  · refine pq_fi (fun _ => ?_) (fun _ => ?_)
    · refine pq_b (wX77_write S Z (sb rfl hS) _ _ _ w0.1 z2) (fun r8 K9 => ?_)
      have w10 := wk_t w0 K9 hN
      refine pq_g (fun g11 => ?_)
      have z12 := wk_z (i := 0) (f := 52) w10 rfl z_a0
      refine pq_fi (fun _ => ?_) (fun _ => ?_)
      · exact q_tA hN w10 (wX80_take_28 S Z hS _ _ _ _ _ _ _ w10.1 z_a0 z12)
      · exact q_tA hN w10 (wX80_take_28 S Z hS _ _ _ _ _ _ _ w10.1 z_a0 z12)
    · refine pq_fi (fun _ => ?_) (fun _ => ?_)
      · refine pq_b (wX78_write S Z (sb rfl hS) _ _ _ w0.1 z2) (fun r13 K14 => ?_)
        have w15 := wk_t w0 K14 hN
        refine pq_g (fun g16 => ?_)
        have z17 := wk_z (i := 0) (f := 52) w15 rfl z_a0
        refine pq_fi (fun _ => ?_) (fun _ => ?_)
        · exact q_tA hN w15 (wX80_take_28 S Z hS _ _ _ _ _ _ _ w15.1 z_a0 z17)
        · exact q_tA hN w15 (wX80_take_28 S Z hS _ _ _ _ _ _ _ w15.1 z_a0 z17)
      · refine pq_fi (fun _ => ?_) (fun _ => ?_)
        · refine pq_b (wX82_write S Z (sb rfl hS) _ _ _ w0.1 z2) (fun r18 K19 => ?_)
          have w20 := wk_t w0 K19 hN
          refine pq_g (fun g21 => ?_)
          have z22 := wk_z (i := 0) (f := 52) w20 rfl z_a0
          refine pq_fi (fun _ => ?_) (fun _ => ?_)
          · exact q_tA hN w20 (wX80_take_28 S Z hS _ _ _ _ _ _ _ w20.1 z_a0 z22)
          · exact q_tA hN w20 (wX80_take_28 S Z hS _ _ _ _ _ _ _ w20.1 z_a0 z22)
        · exact pq_0
theorem wX80_take (S Z : Nat → Prop) {hx N : Nat} (hS : ∀ x, fe_mem lX80_take x = true → S x) (a0 : Nat) (a1 : Int32) (a2 : Int32) (a3 : Int64) (a5 : Int64) (M : FM) (w : WI Z hx N M) (z_a0 : Z a0) : pq (FX80_take a0 a1 a2 a3 a5 M) (QA S Z hx N M) := wX80_take_0 S Z hS a0 a1 a2 a3 a5 M w z_a0
