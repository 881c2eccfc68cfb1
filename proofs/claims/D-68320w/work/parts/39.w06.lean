set_option maxRecDepth 100000
def lX100_statusSeen : List Nat := []
theorem wX100_statusSeen_134 (S Z : Nat → Prop) {hx N : Nat} (hS : ∀ x, fe_mem lX100_statusSeen x = true → S x) (n : Nat) (k4 : Int32 → Int64 → Int32 → FM → Option (Int64 × FM)) (hk4 : ∀ (a0 : Int32) (a1 : Int64) (a3 : Int32) (M : FM), WI Z hx N M → pq (k4 a0 a1 a3 M) (QA S Z hx N M)) (a0 : Int32) (a3 : Int32) (s0 : Int64) (M : FM) (w : WI Z hx N M) : pq (FX100_statusSeen_134 n k4 a0 a3 s0 M) (QA S Z hx N M) := by
  have hN := w.2.2.1
  have w0 := wk_r (S := S) w
  delta FX100_statusSeen_134 BX100_statusSeen_134
  exact q_tA hN w0 (hk4 _ _ _ _ w0.1 )
theorem wX100_statusSeen_133 (S Z : Nat → Prop) {hx N : Nat} (hS : ∀ x, fe_mem lX100_statusSeen x = true → S x) (n : Nat) (k4 : Int32 → Int64 → Int32 → FM → Option (Int64 × FM)) (hk4 : ∀ (a0 : Int32) (a1 : Int64) (a3 : Int32) (M : FM), WI Z hx N M → pq (k4 a0 a1 a3 M) (QA S Z hx N M)) (a0 : Int32) (a1 : Int64) (a3 : Int32) (M : FM) (w : WI Z hx N M) : pq (FX100_statusSeen_133 n k4 a0 a1 a3 M) (QA S Z hx N M) := by
  have hN := w.2.2.1
  have w0 := wk_r (S := S) w
  delta FX100_statusSeen_133 BX100_statusSeen_133
  exact q_tA hN w0 (wX100_statusSeen_134 S Z hS n _ hk4 _ _ _ _ w0.1 )
theorem wX100_statusSeen_125 (S Z : Nat → Prop) {hx N : Nat} (hS : ∀ x, fe_mem lX100_statusSeen x = true → S x) (n : Nat) (k4 : Int32 → Int64 → Int32 → FM → Option (Int64 × FM)) (hk4 : ∀ (a0 : Int32) (a1 : Int64) (a3 : Int32) (M : FM), WI Z hx N M → pq (k4 a0 a1 a3 M) (QA S Z hx N M)) (a0 : Int32) (a1 : Int64) (a3 : Int32) (M : FM) (w : WI Z hx N M) : pq (FX100_statusSeen_125 n k4 a0 a1 a3 M) (QA S Z hx N M) := by
  have hN := w.2.2.1
  have w0 := wk_r (S := S) w
  delta FX100_statusSeen_125 BX100_statusSeen_125
  exact q_tA hN w0 (wX100_statusSeen_134 S Z hS n _ hk4 _ _ _ _ w0.1 )
theorem wX100_statusSeen_109 (S Z : Nat → Prop) {hx N : Nat} (hS : ∀ x, fe_mem lX100_statusSeen x = true → S x) (n : Nat) (k4 : Int32 → Int64 → Int32 → FM → Option (Int64 × FM)) (hk4 : ∀ (a0 : Int32) (a1 : Int64) (a3 : Int32) (M : FM), WI Z hx N M → pq (k4 a0 a1 a3 M) (QA S Z hx N M)) (a0 : Int32) (a1 : Int64) (a3 : Int32) (a4 : Int32) (s0 : Int32) (M : FM) (w : WI Z hx N M) : pq (FX100_statusSeen_109 n k4 a0 a1 a3 a4 s0 M) (QA S Z hx N M) := by
  have hN := w.2.2.1
  have w0 := wk_r (S := S) w
  delta FX100_statusSeen_109 BX100_statusSeen_109
  refine pq_fi (fun _ => ?_) (fun _ => ?_)
  · refine pq_fi (fun _ => ?_) (fun _ => ?_)
    · exact q_tA hN w0 (wX100_statusSeen_133 S Z hS n _ hk4 _ _ _ _ w0.1 )
    · refine pq_fi (fun _ => ?_) (fun _ => ?_)
      · exact q_tA hN w0 (wX100_statusSeen_133 S Z hS n _ hk4 _ _ _ _ w0.1 )
      · exact q_tA hN w0 (wX100_statusSeen_125 S Z hS n _ hk4 _ _ _ _ w0.1 )
  · exact q_tA hN w0 (wX100_statusSeen_125 S Z hS n _ hk4 _ _ _ _ w0.1 )
theorem wX100_statusSeen_104 (S Z : Nat → Prop) {hx N : Nat} (hS : ∀ x, fe_mem lX100_statusSeen x = true → S x) (n : Nat) (k4 : Int32 → Int64 → Int32 → FM → Option (Int64 × FM)) (hk4 : ∀ (a0 : Int32) (a1 : Int64) (a3 : Int32) (M : FM), WI Z hx N M → pq (k4 a0 a1 a3 M) (QA S Z hx N M)) (a0 : Int32) (a1 : Int64) (a3 : Int32) (a4 : Int32) (M : FM) (w : WI Z hx N M) : pq (FX100_statusSeen_104 n k4 a0 a1 a3 a4 M) (QA S Z hx N M) := by
  have hN := w.2.2.1
  have w0 := wk_r (S := S) w
  delta FX100_statusSeen_104 BX100_statusSeen_104
  exact q_tA hN w0 (wX100_statusSeen_109 S Z hS n _ hk4 _ _ _ _ _ _ w0.1 )
theorem wX100_statusSeen_55 (S Z : Nat → Prop) {hx N : Nat} (hS : ∀ x, fe_mem lX100_statusSeen x = true → S x) (n : Nat) (k4 : Int32 → Int64 → Int32 → FM → Option (Int64 × FM)) (hk4 : ∀ (a0 : Int32) (a1 : Int64) (a3 : Int32) (M : FM), WI Z hx N M → pq (k4 a0 a1 a3 M) (QA S Z hx N M)) (a0 : Int32) (a1 : Int64) (a3 : Int32) (s0 : Int32) (M : FM) (w : WI Z hx N M) : pq (FX100_statusSeen_55 n k4 a0 a1 a3 s0 M) (QA S Z hx N M) := by
  have hN := w.2.2.1
  have w0 := wk_r (S := S) w
  delta FX100_statusSeen_55 BX100_statusSeen_55
  refine pq_fi (fun _ => ?_) (fun _ => ?_)
  · exact q_tA hN w0 (wX100_statusSeen_104 S Z hS n _ hk4 _ _ _ _ _ w0.1 )
  · refine pq_fi (fun _ => ?_) (fun _ => ?_)
    · exact q_tA hN w0 (wX100_statusSeen_104 S Z hS n _ hk4 _ _ _ _ _ w0.1 )
    · refine pq_fi (fun _ => ?_) (fun _ => ?_)
      · exact q_tA hN w0 (wX100_statusSeen_104 S Z hS n _ hk4 _ _ _ _ _ w0.1 )
      · refine pq_fi (fun _ => ?_) (fun _ => ?_)
        · exact q_tA hN w0 (wX100_statusSeen_104 S Z hS n _ hk4 _ _ _ _ _ w0.1 )
        · refine pq_fi (fun _ => ?_) (fun _ => ?_)
          · exact q_tA hN w0 (wX100_statusSeen_104 S Z hS n _ hk4 _ _ _ _ _ w0.1 )
          · refine pq_fi (fun _ => ?_) (fun _ => ?_)
            · exact q_tA hN w0 (wX100_statusSeen_104 S Z hS n _ hk4 _ _ _ _ _ w0.1 )
            · refine pq_fi (fun _ => ?_) (fun _ => ?_)
              · exact q_tA hN w0 (wX100_statusSeen_104 S Z hS n _ hk4 _ _ _ _ _ w0.1 )
              · refine pq_fi (fun _ => ?_) (fun _ => ?_)
                · exact q_tA hN w0 (wX100_statusSeen_104 S Z hS n _ hk4 _ _ _ _ _ w0.1 )
                · exact q_tA hN w0 (wX100_statusSeen_109 S Z hS n _ hk4 _ _ _ _ _ _ w0.1 )
theorem wX100_statusSeen_50 (S Z : Nat → Prop) {hx N : Nat} (hS : ∀ x, fe_mem lX100_statusSeen x = true → S x) (n : Nat) (k4 : Int32 → Int64 → Int32 → FM → Option (Int64 × FM)) (hk4 : ∀ (a0 : Int32) (a1 : Int64) (a3 : Int32) (M : FM), WI Z hx N M → pq (k4 a0 a1 a3 M) (QA S Z hx N M)) (a0 : Int32) (a1 : Int64) (a3 : Int32) (M : FM) (w : WI Z hx N M) : pq (FX100_statusSeen_50 n k4 a0 a1 a3 M) (QA S Z hx N M) := by
  have hN := w.2.2.1
  have w0 := wk_r (S := S) w
  delta FX100_statusSeen_50 BX100_statusSeen_50
  exact q_tA hN w0 (wX100_statusSeen_55 S Z hS n _ hk4 _ _ _ _ _ w0.1 )
theorem wX100_statusSeen_4 (S Z : Nat → Prop) {hx N : Nat} (hS : ∀ x, fe_mem lX100_statusSeen x = true → S x) (n : Nat) (k4 : Int32 → Int64 → Int32 → FM → Option (Int64 × FM)) (hk4 : ∀ (a0 : Int32) (a1 : Int64) (a3 : Int32) (M : FM), WI Z hx N M → pq (k4 a0 a1 a3 M) (QA S Z hx N M)) (a0 : Int32) (a1 : Int64) (a3 : Int32) (M : FM) (w : WI Z hx N M) : pq (FX100_statusSeen_4 n k4 a0 a1 a3 M) (QA S Z hx N M) := by
  have hN := w.2.2.1
  have w0 := wk_r (S := S) w
  delta FX100_statusSeen_4 BX100_statusSeen_4
  refine pq_fi (fun _ => ?_) (fun _ => ?_)
  · exact pq_s w0
  · refine pq_fi (fun _ => ?_) (fun _ => ?_)
    · exact q_tA hN w0 (wX100_statusSeen_50 S Z hS n _ hk4 _ _ _ _ w0.1 )
    · refine pq_fi (fun _ => ?_) (fun _ => ?_)
      · exact q_tA hN w0 (wX100_statusSeen_50 S Z hS n _ hk4 _ _ _ _ w0.1 )
      · refine pq_fi (fun _ => ?_) (fun _ => ?_)
        · exact q_tA hN w0 (wX100_statusSeen_50 S Z hS n _ hk4 _ _ _ _ w0.1 )
        · refine pq_fi (fun _ => ?_) (fun _ => ?_)
          · exact q_tA hN w0 (wX100_statusSeen_50 S Z hS n _ hk4 _ _ _ _ w0.1 )
          · refine pq_fi (fun _ => ?_) (fun _ => ?_)
            · exact q_tA hN w0 (wX100_statusSeen_50 S Z hS n _ hk4 _ _ _ _ w0.1 )
            · refine pq_fi (fun _ => ?_) (fun _ => ?_)
              · exact q_tA hN w0 (wX100_statusSeen_50 S Z hS n _ hk4 _ _ _ _ w0.1 )
              · refine pq_fi (fun _ => ?_) (fun _ => ?_)
                · exact q_tA hN w0 (wX100_statusSeen_50 S Z hS n _ hk4 _ _ _ _ w0.1 )
                · exact q_tA hN w0 (wX100_statusSeen_55 S Z hS n _ hk4 _ _ _ _ _ w0.1 )
theorem wX100_statusSeen_0 (S Z : Nat → Prop) {hx N : Nat} (hS : ∀ x, fe_mem lX100_statusSeen x = true → S x) (n : Nat) (k4 : Int32 → Int64 → Int32 → FM → Option (Int64 × FM)) (hk4 : ∀ (a0 : Int32) (a1 : Int64) (a3 : Int32) (M : FM), WI Z hx N M → pq (k4 a0 a1 a3 M) (QA S Z hx N M)) (a0 : Int32) (M : FM) (w : WI Z hx N M) : pq (FX100_statusSeen_0 n k4 a0 M) (QA S Z hx N M) := by
  have hN := w.2.2.1
  have w0 := wk_r (S := S) w
  delta FX100_statusSeen_0 BX100_statusSeen_0
  exact q_tA hN w0 (hk4 _ _ _ _ w0.1 )
theorem wX100_statusSeen_L (S Z : Nat → Prop) {hx N : Nat} (hS : ∀ x, fe_mem lX100_statusSeen x = true → S x) (n : Nat) : ∀ j : Nat, ∀ (a0 : Int32) (a1 : Int64) (a3 : Int32) (M : FM), WI Z hx N M → pq (FX100_statusSeen_L4 n j a0 a1 a3 M) (QA S Z hx N M)
  | 0 => by intros; exact pq_0
  | j + 1 => fun a0 a1 a3 M w => wX100_statusSeen_4 S Z hS n _ (wX100_statusSeen_L S Z hS n j) a0 a1 a3 M w
theorem wX100_statusSeen (S Z : Nat → Prop) {hx N : Nat} (hS : ∀ x, fe_mem lX100_statusSeen x = true → S x) (n : Nat) (a0 : Int32) (M : FM) (w : WI Z hx N M) : pq (FX100_statusSeen n a0 M) (QA S Z hx N M) := wX100_statusSeen_0 S Z hS n _ (wX100_statusSeen_L S Z hS n n) a0 M w 
def lX100_lineBits : List Nat := []
theorem wX100_lineBits_28 (S Z : Nat → Prop) {hx N : Nat} (hS : ∀ x, fe_mem lX100_lineBits x = true → S x) (n : Nat) (k4 : Nat → Int64 → Int32 → FM → Option (Int64 × FM)) (hk4 : ∀ (a0 : Nat) (a1 : Int64) (a3 : Int32) (M : FM), WI Z hx N M → Z a0 → pq (k4 a0 a1 a3 M) (QA S Z hx N M)) (a0 : Nat) (a3 : Int32) (s0 : Int64) (M : FM) (w : WI Z hx N M) (z_a0 : Z a0) : pq (FX100_lineBits_28 n k4 a0 a3 s0 M) (QA S Z hx N M) := by
  have hN := w.2.2.1
  have w0 := wk_r (S := S) w
  delta FX100_lineBits_28 BX100_lineBits_28
  exact q_tA hN w0 (hk4 _ _ _ _ w0.1 z_a0)
theorem wX100_lineBits_4 (S Z : Nat → Prop) {hx N : Nat} (hS : ∀ x, fe_mem lX100_lineBits x = true → S x) (n : Nat) (k4 : Nat → Int64 → Int32 → FM → Option (Int64 × FM)) (hk4 : ∀ (a0 : Nat) (a1 : Int64) (a3 : Int32) (M : FM), WI Z hx N M → Z a0 → pq (k4 a0 a1 a3 M) (QA S Z hx N M)) (a0 : Nat) (a1 : Int64) (a3 : Int32) (M : FM) (w : WI Z hx N M) (z_a0 : Z a0) : pq (FX100_lineBits_4 n k4 a0 a1 a3 M) (QA S Z hx N M) := by
  have hN := w.2.2.1
  have w0 := wk_r (S := S) w
  delta FX100_lineBits_4 BX100_lineBits_4
  refine pq_fi (fun _ => ?_) (fun _ => ?_)
  · exact pq_s w0
  · refine pq_g (fun g1 => ?_)
    have z2 := wk_z (i := 0) (f := 362) w0 rfl z_a0
    have f3 := sS_362 w0.1.1 g1
    refine pq_g (fun g4 => ?_)
    refine pq_fi (fun _ => ?_) (fun _ => ?_)
    · exact q_tA hN w0 (wX100_lineBits_28 S Z hS n _ hk4 _ _ _ _ w0.1 z_a0)
    · exact q_tA hN w0 (wX100_lineBits_28 S Z hS n _ hk4 _ _ _ _ w0.1 z_a0)
theorem wX100_lineBits_0 (S Z : Nat → Prop) {hx N : Nat} (hS : ∀ x, fe_mem lX100_lineBits x = true → S x) (n : Nat) (k4 : Nat → Int64 → Int32 → FM → Option (Int64 × FM)) (hk4 : ∀ (a0 : Nat) (a1 : Int64) (a3 : Int32) (M : FM), WI Z hx N M → Z a0 → pq (k4 a0 a1 a3 M) (QA S Z hx N M)) (a0 : Nat) (M : FM) (w : WI Z hx N M) (z_a0 : Z a0) : pq (FX100_lineBits_0 n k4 a0 M) (QA S Z hx N M) := by
  have hN := w.2.2.1
  have w0 := wk_r (S := S) w
  delta FX100_lineBits_0 BX100_lineBits_0
  exact q_tA hN w0 (hk4 _ _ _ _ w0.1 z_a0)
theorem wX100_lineBits_L (S Z : Nat → Prop) {hx N : Nat} (hS : ∀ x, fe_mem lX100_lineBits x = true → S x) (n : Nat) : ∀ j : Nat, ∀ (a0 : Nat) (a1 : Int64) (a3 : Int32) (M : FM), WI Z hx N M → Z a0 → pq (FX100_lineBits_L4 n j a0 a1 a3 M) (QA S Z hx N M)
  | 0 => by intros; exact pq_0
  | j + 1 => fun a0 a1 a3 M w => wX100_lineBits_4 S Z hS n _ (wX100_lineBits_L S Z hS n j) a0 a1 a3 M w
theorem wX100_lineBits (S Z : Nat → Prop) {hx N : Nat} (hS : ∀ x, fe_mem lX100_lineBits x = true → S x) (n : Nat) (a0 : Nat) (M : FM) (w : WI Z hx N M) (z_a0 : Z a0) : pq (FX100_lineBits n a0 M) (QA S Z hx N M) := wX100_lineBits_0 S Z hS n _ (wX100_lineBits_L S Z hS n n) a0 M w z_a0
def lX100_shown : List Nat := []
theorem wX100_shown_255 (S Z : Nat → Prop) {hx N : Nat} (hS : ∀ x, fe_mem lX100_shown x = true → S x) (n : Nat) (s0 : Int64) (M : FM) (w : WI Z hx N M) : pq (FX100_shown_255 n s0 M) (QA S Z hx N M) := by
  have hN := w.2.2.1
  have w0 := wk_r (S := S) w
  delta FX100_shown_255 BX100_shown_255
  exact pq_s w0
theorem wX100_shown_254 (S Z : Nat → Prop) {hx N : Nat} (hS : ∀ x, fe_mem lX100_shown x = true → S x) (n : Nat) (M : FM) (w : WI Z hx N M) : pq (FX100_shown_254 n M) (QA S Z hx N M) := by
  have hN := w.2.2.1
  have w0 := wk_r (S := S) w
  delta FX100_shown_254 BX100_shown_254
  exact q_tA hN w0 (wX100_shown_255 S Z hS n _ _ w0.1 )
theorem wX100_shown_15 (S Z : Nat → Prop) {hx N : Nat} (hS : ∀ x, fe_mem lX100_shown x = true → S x) (n : Nat) (a0 : Nat) (a1 : Int32) (s0 : Int64) (M : FM) (w : WI Z hx N M) (z_a0 : Z a0) : pq (FX100_shown_15 n a0 a1 s0 M) (QA S Z hx N M) := by
  have hN := w.2.2.1
  have w0 := wk_r (S := S) w
  delta FX100_shown_15 BX100_shown_15
  refine pq_fi (fun _ => ?_) (fun _ => ?_)
  · refine pq_g (fun g1 => ?_)
    have z2 := wk_z (i := 0) (f := 361) w0 rfl z_a0
    have f3 := sS_361 w0.1.1 g1
    refine pq_g (fun g4 => ?_)
    refine pq_b (wX100_statusSeen S Z (sb rfl hS) n _ _ w0.1 ) (fun r5 K6 => ?_)
    have w7 := wk_t w0 K6 hN
    exact pq_s w7
  · refine pq_fi (fun _ => ?_) (fun _ => ?_)
    · refine pq_g (fun g8 => ?_)
      have z9 := wk_z (i := 0) (f := 361) w0 rfl z_a0
      have f10 := sS_361 w0.1.1 g8
      refine pq_g (fun g11 => ?_)
      refine pq_g (fun g12 => ?_)
      have z13 := wk_z (i := 0) (f := 361) w0 rfl z_a0
      have f14 := sS_361 w0.1.1 g12
      refine pq_g (fun g15 => ?_)
      exact pq_s w0
    · refine pq_fi (fun _ => ?_) (fun _ => ?_)
      · refine pq_g (fun g16 => ?_)
        have z17 := wk_z (i := 0) (f := 361) w0 rfl z_a0
        have f18 := sS_361 w0.1.1 g16
        refine pq_g (fun g19 => ?_)
        refine pq_g (fun g20 => ?_)
        refine pq_b (wX100_lineBits S Z (sb rfl hS) n _ _ w0.1 z_a0) (fun r21 K22 => ?_)
        have w23 := wk_t w0 K22 hN
        refine pq_g (fun g24 => ?_)
        have z25 := wk_z (i := 0) (f := 361) w23 rfl z_a0
        have f26 := sS_361 w23.1.1 g24
        refine pq_g (fun g27 => ?_)
        exact pq_s w23
      · refine pq_fi (fun _ => ?_) (fun _ => ?_)
        · refine pq_g (fun g28 => ?_)
          have z29 := wk_z (i := 0) (f := 361) w0 rfl z_a0
          have f30 := sS_361 w0.1.1 g28
          refine pq_g (fun g31 => ?_)
          exact pq_s w0
        · refine pq_fi (fun _ => ?_) (fun _ => ?_)
          · exact pq_s w0
          · refine pq_fi (fun _ => ?_) (fun _ => ?_)
            · refine pq_g (fun g32 => ?_)
              have z33 := wk_z (i := 0) (f := 361) w0 rfl z_a0
              have f34 := sS_361 w0.1.1 g32
              refine pq_g (fun g35 => ?_)
              refine pq_g (fun g36 => ?_)
              refine pq_b (wX100_lineBits S Z (sb rfl hS) n _ _ w0.1 z_a0) (fun r37 K38 => ?_)
              have w39 := wk_t w0 K38 hN
              exact pq_s w39
            · refine pq_fi (fun _ => ?_) (fun _ => ?_)
              · refine pq_g (fun g40 => ?_)
                have z41 := wk_z (i := 0) (f := 361) w0 rfl z_a0
                have f42 := sS_361 w0.1.1 g40
                refine pq_g (fun g43 => ?_)
                exact pq_s w0
              · refine pq_fi (fun _ => ?_) (fun _ => ?_)
                · refine pq_g (fun g44 => ?_)
                  exact pq_s w0
                · refine pq_fi (fun _ => ?_) (fun _ => ?_)
                  · refine pq_g (fun g45 => ?_)
                    have z46 := wk_z (i := 0) (f := 361) w0 rfl z_a0
                    have f47 := sS_361 w0.1.1 g45
                    refine pq_g (fun g48 => ?_)
                    exact pq_s w0
                  · refine pq_fi (fun _ => ?_) (fun _ => ?_)
                    · refine pq_g (fun g49 => ?_)
                      exact pq_s w0
                    · refine pq_b (wX100_isThere S Z (sb rfl hS) _ _ w0.1 ) (fun r50 K51 => ?_)
                      have w52 := wk_t w0 K51 hN
                      refine pq_fi (fun _ => ?_) (fun _ => ?_)
                      · exact q_tA hN w52 (wX100_shown_254 S Z hS n _ w52.1 )
                      · refine pq_b (wX100_isElsewhere S Z (sb rfl hS) _ _ w52.1 ) (fun r53 K54 => ?_)
                        have w55 := wk_t w52 K54 hN
                        refine pq_fi (fun _ => ?_) (fun _ => ?_)
                        · refine pq_g (fun g56 => ?_)
                          have z57 := wk_z (i := 0) (f := 361) w55 rfl z_a0
                          have f58 := sS_361 w55.1.1 g56
                          refine pq_g (fun g59 => ?_)
                          exact q_tA hN w55 (wX100_shown_255 S Z hS n _ _ w55.1 )
                        · exact q_tA hN w55 (wX100_shown_254 S Z hS n _ w55.1 )
theorem wX100_shown_0 (S Z : Nat → Prop) {hx N : Nat} (hS : ∀ x, fe_mem lX100_shown x = true → S x) (n : Nat) (a0 : Nat) (a1 : Int32) (M : FM) (w : WI Z hx N M) (z_a0 : Z a0) : pq (FX100_shown_0 n a0 a1 M) (QA S Z hx N M) := by
  have hN := w.2.2.1
  have w0 := wk_r (S := S) w
  delta FX100_shown_0 BX100_shown_0
  refine pq_g (fun g1 => ?_)
  refine pq_b (wX100_floating S Z (sb rfl hS) _ _ w0.1 z_a0) (fun r2 K3 => ?_)
  have w4 := wk_t w0 K3 hN
  refine pq_fi (fun _ => ?_) (fun _ => ?_)
  · exact q_tA hN w4 (wX100_shown_15 S Z hS n _ _ _ _ w4.1 z_a0)
  · exact q_tA hN w4 (wX100_shown_15 S Z hS n _ _ _ _ w4.1 z_a0)
theorem wX100_shown (S Z : Nat → Prop) {hx N : Nat} (hS : ∀ x, fe_mem lX100_shown x = true → S x) (n : Nat) (a0 : Nat) (a1 : Int32) (M : FM) (w : WI Z hx N M) (z_a0 : Z a0) : pq (FX100_shown n a0 a1 M) (QA S Z hx N M) := wX100_shown_0 S Z hS n a0 a1 M w z_a0
def lX100_peek : List Nat := [358]
theorem wX100_peek_25 (S Z : Nat → Prop) {hx N : Nat} (hS : ∀ x, fe_mem lX100_peek x = true → S x) (n : Nat) (s0 : Int64) (M : FM) (w : WI Z hx N M) : pq (FX100_peek_25 n s0 M) (QA S Z hx N M) := by
  have hN := w.2.2.1
  have w0 := wk_r (S := S) w
  delta FX100_peek_25 BX100_peek_25
  exact pq_s w0
theorem wX100_peek_16 (S Z : Nat → Prop) {hx N : Nat} (hS : ∀ x, fe_mem lX100_peek x = true → S x) (n : Nat) (M : FM) (w : WI Z hx N M) : pq (FX100_peek_16 n M) (QA S Z hx N M) := by
  have hN := w.2.2.1
  have w0 := wk_r (S := S) w
  delta FX100_peek_16 BX100_peek_16
  exact q_tA hN w0 (wX100_peek_25 S Z hS n _ _ w0.1 )
theorem wX100_peek_0 (S Z : Nat → Prop) {hx N : Nat} (hS : ∀ x, fe_mem lX100_peek x = true → S x) (n : Nat) (a0 : Nat) (a1 : Int32) (M : FM) (w : WI Z hx N M) (z_a0 : Z a0) : pq (FX100_peek_0 n a0 a1 M) (QA S Z hx N M) := by
  have hN := w.2.2.1
  have w0 := wk_r (S := S) w
  delta FX100_peek_0 BX100_peek_0
  refine pq_g (fun g1 => ?_)
  extract_lets +onlyGivenNames M3
  have w2 : Wk S Z hx N M M3 := wk_fI hN w0 rfl rfl g1 z_a0 (Or.inr (hS 358 rfl))
  refine pq_fi (fun _ => ?_) (fun _ => ?_)
  · exact q_tA hN w2 (wX100_peek_16 S Z hS n _ w2.1 )
  · refine pq_fi (fun _ => ?_) (fun _ => ?_)
    · refine pq_g (fun g4 => ?_)
      refine pq_b (wX100_shown S Z (sb rfl hS) n _ _ _ w2.1 z_a0) (fun r5 K6 => ?_)
      have w7 := wk_t w2 K6 hN
      exact q_tA hN w7 (wX100_peek_25 S Z hS n _ _ w7.1 )
    · exact q_tA hN w2 (wX100_peek_16 S Z hS n _ w2.1 )
theorem wX100_peek (S Z : Nat → Prop) {hx N : Nat} (hS : ∀ x, fe_mem lX100_peek x = true → S x) (n : Nat) (a0 : Nat) (a1 : Int32) (M : FM) (w : WI Z hx N M) (z_a0 : Z a0) : pq (FX100_peek n a0 a1 M) (QA S Z hx N M) := wX100_peek_0 S Z hS n a0 a1 M w z_a0
def lX101_sortOf : List Nat := []
theorem wX101_sortOf_0 (S Z : Nat → Prop) {hx N : Nat} (hS : ∀ x, fe_mem lX101_sortOf x = true → S x) (a0 : Int64) (M : FM) (w : WI Z hx N M) : pq (FX101_sortOf_0 a0 M) (QA S Z hx N M) := by
  have hN := w.2.2.1
  have w0 := wk_r (S := S) w
  delta FX101_sortOf_0 BX101_sortOf_0
  exact pq_s w0
theorem wX101_sortOf (S Z : Nat → Prop) {hx N : Nat} (hS : ∀ x, fe_mem lX101_sortOf x = true → S x) (a0 : Int64) (M : FM) (w : WI Z hx N M) : pq (FX101_sortOf a0 M) (QA S Z hx N M) := wX101_sortOf_0 S Z hS a0 M w 
def lX101_setTable : List Nat := [422, 424]
theorem wX101_setTable_48 (S Z : Nat → Prop) {hx N : Nat} (hS : ∀ x, fe_mem lX101_setTable x = true → S x) (M : FM) (w : WI Z hx N M) : pq (FX101_setTable_48 M) (QV S Z hx N M) := by
  have hN := w.2.2.1
  have w0 := wk_r (S := S) w
  delta FX101_setTable_48 BX101_setTable_48
  exact pq_s w0
theorem wX101_setTable_33 (S Z : Nat → Prop) {hx N : Nat} (hS : ∀ x, fe_mem lX101_setTable x = true → S x) (a0 : Nat) (a1 : Int64) (s0 : Nat) (s1 : Int32) (M : FM) (w : WI Z hx N M) (z_a0 : Z a0) (z_s0 : Z s0) : pq (FX101_setTable_33 a0 a1 s0 s1 M) (QV S Z hx N M) := by
  have hN := w.2.2.1
  have w0 := wk_r (S := S) w
  delta FX101_setTable_33 BX101_setTable_33
  refine pq_g (fun g1 => ?_)
  extract_lets +onlyGivenNames M3
  have w2 : Wk S Z hx N M M3 := wk_fI hN w0 rfl rfl g1 z_s0 (Or.inr (hS 422 rfl))
  refine pq_g (fun g4 => ?_)
  refine pq_fi (fun _ => ?_) (fun _ => ?_)
  · refine pq_g (fun g5 => ?_)
    extract_lets +onlyGivenNames M7
    have w6 : Wk S Z hx N M M7 := wk_fL hN w2 rfl rfl g5 z_a0 (Or.inr (hS 424 rfl))
    exact q_tV hN w6 (wX101_setTable_48 S Z hS _ w6.1 )
  · exact q_tV hN w2 (wX101_setTable_48 S Z hS _ w2.1 )
theorem wX101_setTable_28 (S Z : Nat → Prop) {hx N : Nat} (hS : ∀ x, fe_mem lX101_setTable x = true → S x) (a0 : Nat) (a1 : Int64) (s0 : Nat) (M : FM) (w : WI Z hx N M) (z_a0 : Z a0) (z_s0 : Z s0) : pq (FX101_setTable_28 a0 a1 s0 M) (QV S Z hx N M) := by
  have hN := w.2.2.1
  have w0 := wk_r (S := S) w
  delta FX101_setTable_28 BX101_setTable_28
  exact q_tV hN w0 (wX101_setTable_33 S Z hS _ _ _ _ _ w0.1 z_a0 z_s0)
theorem wX101_setTable_0 (S Z : Nat → Prop) {hx N : Nat} (hS : ∀ x, fe_mem lX101_setTable x = true → S x) (a0 : Nat) (a1 : Int64) (M : FM) (w : WI Z hx N M) (z_a0 : Z a0) : pq (FX101_setTable_0 a0 a1 M) (QV S Z hx N M) := by
  have hN := w.2.2.1
  have w0 := wk_r (S := S) w
  delta FX101_setTable_0 BX101_setTable_0
  refine pq_b (wX101_sortOf S Z (sb rfl hS) _ _ w0.1 ) (fun r1 K2 => ?_)
  have w3 := wk_t w0 K2 hN
  refine pq_fi (fun _ => ?_) (fun _ => ?_)
  · exact q_tV hN w3 (wX101_setTable_28 S Z hS _ _ _ _ w3.1 z_a0 z_a0)
  · refine pq_fi (fun _ => ?_) (fun _ => ?_)
    · exact q_tV hN w3 (wX101_setTable_28 S Z hS _ _ _ _ w3.1 z_a0 z_a0)
    · refine pq_fi (fun _ => ?_) (fun _ => ?_)
      · exact q_tV hN w3 (wX101_setTable_28 S Z hS _ _ _ _ w3.1 z_a0 z_a0)
      · exact q_tV hN w3 (wX101_setTable_33 S Z hS _ _ _ _ _ w3.1 z_a0 z_a0)
theorem wX101_setTable (S Z : Nat → Prop) {hx N : Nat} (hS : ∀ x, fe_mem lX101_setTable x = true → S x) (a0 : Nat) (a1 : Int64) (M : FM) (w : WI Z hx N M) (z_a0 : Z a0) : pq (FX101_setTable a0 a1 M) (QV S Z hx N M) := wX101_setTable_0 S Z hS a0 a1 M w z_a0
def lX101_rights : List Nat := [422, 425, 426]
theorem wX101_rights_0 (S Z : Nat → Prop) {hx N : Nat} (hS : ∀ x, fe_mem lX101_rights x = true → S x) (a0 : Nat) (a1 : Int32) (a2 : Int32) (M : FM) (w : WI Z hx N M) (z_a0 : Z a0) : pq (FX101_rights_0 a0 a1 a2 M) (QV S Z hx N M) := by
  have hN := w.2.2.1
  have w0 := wk_r (S := S) w
  delta FX101_rights_0 BX101_rights_0
  refine pq_g (fun g1 => ?_)
  extract_lets +onlyGivenNames M3
  have w2 : Wk S Z hx N M M3 := wk_fI hN w0 rfl rfl g1 z_a0 (Or.inr (hS 422 rfl))
  refine pq_g (fun g4 => ?_)
  refine pq_g (fun _ => ?_)
  extract_lets +onlyGivenNames M6
  have w5 : Wk S Z hx N M M6 := wk_fI hN w2 rfl rfl g4 z_a0 (Or.inr (hS 425 rfl))
  refine pq_g (fun g7 => ?_)
  refine pq_g (fun _ => ?_)
  extract_lets +onlyGivenNames M9
  have w8 : Wk S Z hx N M M9 := wk_fI hN w5 rfl rfl g7 z_a0 (Or.inr (hS 426 rfl))
  exact pq_s w8
theorem wX101_rights (S Z : Nat → Prop) {hx N : Nat} (hS : ∀ x, fe_mem lX101_rights x = true → S x) (a0 : Nat) (a1 : Int32) (a2 : Int32) (M : FM) (w : WI Z hx N M) (z_a0 : Z a0) : pq (FX101_rights a0 a1 a2 M) (QV S Z hx N M) := wX101_rights_0 S Z hS a0 a1 a2 M w z_a0
def lX92_tell : List Nat := [358, 363, 394, 422, 424, 425, 426, 1362]
theorem wX92_tell_119 (S Z : Nat → Prop) {hx N : Nat} (hS : ∀ x, fe_mem lX92_tell x = true → S x) (n : Nat) (k9 : Nat → Int32 → Nat → Int32 → FM → Option (FM)) (hk9 : ∀ (a0 : Nat) (a1 : Int32) (a2 : Nat) (a3 : Int32) (M : FM), WI Z hx N M → Z a0 → Z a2 → a1.toNatClampNeg = hx → pq (k9 a0 a1 a2 a3 M) (QV S Z hx N M)) (s0 : Nat) (s1 : Int32) (s2 : Int32) (M : FM) (w : WI Z hx N M) (z_s0 : Z s0) : pq (FX92_tell_119 n k9 s0 s1 s2 M) (QV S Z hx N M) := by
  have hN := w.2.2.1
  have w0 := wk_r (S := S) w
  delta FX92_tell_119 BX92_tell_119
  refine pq_g (fun g1 => ?_)
  refine pq_b (wX101_rights S Z (sb rfl hS) _ _ _ _ w0.1 z_s0) (fun r2 K3 => ?_)
  have w4 := wk_t w0 K3 hN
  exact pq_s w4
theorem wX92_tell_103 (S Z : Nat → Prop) {hx N : Nat} (hS : ∀ x, fe_mem lX92_tell x = true → S x) (n : Nat) (k9 : Nat → Int32 → Nat → Int32 → FM → Option (FM)) (hk9 : ∀ (a0 : Nat) (a1 : Int32) (a2 : Nat) (a3 : Int32) (M : FM), WI Z hx N M → Z a0 → Z a2 → a1.toNatClampNeg = hx → pq (k9 a0 a1 a2 a3 M) (QV S Z hx N M)) (a3 : Int64) (s0 : Nat) (s1 : Int32) (M : FM) (w : WI Z hx N M) (z_s0 : Z s0) : pq (FX92_tell_103 n k9 a3 s0 s1 M) (QV S Z hx N M) := by
  have hN := w.2.2.1
  have w0 := wk_r (S := S) w
  delta FX92_tell_103 BX92_tell_103
  refine pq_fi (fun _ => ?_) (fun _ => ?_)
  · exact q_tV hN w0 (wX92_tell_119 S Z hS n _ hk9 _ _ _ _ w0.1 z_s0)
  · exact q_tV hN w0 (wX92_tell_119 S Z hS n _ hk9 _ _ _ _ w0.1 z_s0)
theorem wX92_tell_42 (S Z : Nat → Prop) {hx N : Nat} (hS : ∀ x, fe_mem lX92_tell x = true → S x) (n : Nat) (k9 : Nat → Int32 → Nat → Int32 → FM → Option (FM)) (hk9 : ∀ (a0 : Nat) (a1 : Int32) (a2 : Nat) (a3 : Int32) (M : FM), WI Z hx N M → Z a0 → Z a2 → a1.toNatClampNeg = hx → pq (k9 a0 a1 a2 a3 M) (QV S Z hx N M)) (a0 : Nat) (a1 : Int32) (a2 : Nat) (s0 : Int32) (M : FM) (w : WI Z hx N M) (z_a0 : Z a0) (z_a2 : Z a2) (i_a1 : a1.toNatClampNeg = hx) : pq (FX92_tell_42 n k9 a0 a1 a2 s0 M) (QV S Z hx N M) := by
  have hN := w.2.2.1
  have w0 := wk_r (S := S) w
  delta FX92_tell_42 BX92_tell_42
  exact q_tV hN w0 (hk9 _ _ _ _ _ w0.1 z_a0 z_a2 i_a1)
theorem wX92_tell_9 (S Z : Nat → Prop) {hx N : Nat} (hS : ∀ x, fe_mem lX92_tell x = true → S x) (n : Nat) (k9 : Nat → Int32 → Nat → Int32 → FM → Option (FM)) (hk9 : ∀ (a0 : Nat) (a1 : Int32) (a2 : Nat) (a3 : Int32) (M : FM), WI Z hx N M → Z a0 → Z a2 → a1.toNatClampNeg = hx → pq (k9 a0 a1 a2 a3 M) (QV S Z hx N M)) (a0 : Nat) (a1 : Int32) (a2 : Nat) (a3 : Int32) (M : FM) (w : WI Z hx N M) (z_a0 : Z a0) (z_a2 : Z a2) (i_a1 : a1.toNatClampNeg = hx) : pq (FX92_tell_9 n k9 a0 a1 a2 a3 M) (QV S Z hx N M) := by
  have hN := w.2.2.1
  have w0 := wk_r (S := S) w
  delta FX92_tell_9 BX92_tell_9
  refine pq_fi (fun _ => ?_) (fun _ => ?_)
  · refine pq_g (fun g1 => ?_)
    have z2 := wk_z (i := 0) (f := 301) w0 rfl z_a0
    refine pq_g (fun g3 => ?_)
    refine pq_g (fun g4 => ?_)
    refine pq_b (wX100_time S Z (sb rfl hS) _ _ _ w0.1 z_a2) (fun r5 K6 => ?_)
    have w7 := wk_t w0 K6 hN
    refine pq_g (fun g8 => ?_)
    have z9 := wk_z (i := 0) (f := 306) w7 rfl z_a0
    have f10 := sS_306 w7.1.1 g8
    refine pq_g (fun g11 => ?_)
    have z12 := wk_zx w7 z9 i_a1
    refine pq_g (fun g13 => ?_)
    refine pq_b (wX100_peek S Z (sb rfl hS) n _ _ _ w7.1 z_a2) (fun r14 K15 => ?_)
    have w16 := wk_t w7 K15 hN
    refine pq_g (fun g17 => ?_)
    refine pq_b (wX101_setTable S Z (sb rfl hS) _ _ _ w16.1 z12) (fun r18 K19 => ?_)
    have w20 := wk_t w16 K19 hN
    refine pq_g (fun g21 => ?_)
    refine pq_b (wX100_peek S Z (sb rfl hS) n _ _ _ w20.1 z_a2) (fun r22 K23 => ?_)
    have w24 := wk_t w20 K23 hN
    refine pq_g (fun g25 => ?_)
    have z26 := wk_z (i := 0) (f := 306) w24 rfl z_a0
    have f27 := sS_306 w24.1.1 g25
    refine pq_g (fun g28 => ?_)
    have z29 := wk_zx w24 z26 i_a1
    refine pq_fi (fun _ => ?_) (fun _ => ?_)
    · exact q_tV hN w24 (wX92_tell_103 S Z hS n _ hk9 _ _ _ _ w24.1 z29)
    · exact q_tV hN w24 (wX92_tell_103 S Z hS n _ hk9 _ _ _ _ w24.1 z29)
  · refine pq_g (fun g30 => ?_)
    have z31 := wk_z (i := 0) (f := 301) w0 rfl z_a0
    refine pq_g (fun g32 => ?_)
    refine pq_b (wX96_line S Z (sb rfl hS) n _ _ _ _ w0.1 z31) (fun r33 K34 => ?_)
    have w35 := wk_t w0 K34 hN
    refine pq_g (fun g36 => ?_)
    refine pq_b (wX100_line S Z (sb rfl hS) _ _ _ _ w35.1 z_a2) (fun r37 K38 => ?_)
    have w39 := wk_t w35 K38 hN
    refine pq_fi (fun _ => ?_) (fun _ => ?_)
    · exact q_tV hN w39 (wX92_tell_42 S Z hS n _ hk9 _ _ _ _ _ w39.1 z_a0 z_a2 i_a1)
    · exact q_tV hN w39 (wX92_tell_42 S Z hS n _ hk9 _ _ _ _ _ w39.1 z_a0 z_a2 i_a1)
theorem wX92_tell_0 (S Z : Nat → Prop) {hx N : Nat} (hS : ∀ x, fe_mem lX92_tell x = true → S x) (n : Nat) (k9 : Nat → Int32 → Nat → Int32 → FM → Option (FM)) (hk9 : ∀ (a0 : Nat) (a1 : Int32) (a2 : Nat) (a3 : Int32) (M : FM), WI Z hx N M → Z a0 → Z a2 → a1.toNatClampNeg = hx → pq (k9 a0 a1 a2 a3 M) (QV S Z hx N M)) (a0 : Nat) (a1 : Int32) (M : FM) (w : WI Z hx N M) (z_a0 : Z a0) (i_a1 : a1.toNatClampNeg = hx) : pq (FX92_tell_0 n k9 a0 a1 M) (QV S Z hx N M) := by
  have hN := w.2.2.1
  have w0 := wk_r (S := S) w
  delta FX92_tell_0 BX92_tell_0
  refine pq_g (fun g1 => ?_)
  have z2 := wk_z (i := 0) (f := 305) w0 rfl z_a0
  have f3 := sS_305 w0.1.1 g1
  refine pq_g (fun g4 => ?_)
  have z5 := wk_zx w0 z2 i_a1
  exact q_tV hN w0 (hk9 _ _ _ _ _ w0.1 z_a0 z5 i_a1)
theorem wX92_tell_L (S Z : Nat → Prop) {hx N : Nat} (hS : ∀ x, fe_mem lX92_tell x = true → S x) (n : Nat) : ∀ j : Nat, ∀ (a0 : Nat) (a1 : Int32) (a2 : Nat) (a3 : Int32) (M : FM), WI Z hx N M → Z a0 → Z a2 → a1.toNatClampNeg = hx → pq (FX92_tell_L9 n j a0 a1 a2 a3 M) (QV S Z hx N M)
  | 0 => by intros; exact pq_0
  | j + 1 => fun a0 a1 a2 a3 M w => wX92_tell_9 S Z hS n _ (wX92_tell_L S Z hS n j) a0 a1 a2 a3 M w
theorem wX92_tell (S Z : Nat → Prop) {hx N : Nat} (hS : ∀ x, fe_mem lX92_tell x = true → S x) (n : Nat) (a0 : Nat) (a1 : Int32) (M : FM) (w : WI Z hx N M) (z_a0 : Z a0) (i_a1 : a1.toNatClampNeg = hx) : pq (FX92_tell n a0 a1 M) (QV S Z hx N M) := wX92_tell_0 S Z hS n _ (wX92_tell_L S Z hS n n) a0 a1 M w z_a0 i_a1
def lX100_wakes : List Nat := [358]
theorem wX100_wakes_31 (S Z : Nat → Prop) {hx N : Nat} (hS : ∀ x, fe_mem lX100_wakes x = true → S x) (n : Nat) (s0 : Int32) (M : FM) (w : WI Z hx N M) : pq (FX100_wakes_31 n s0 M) (QA S Z hx N M) := by
  have hN := w.2.2.1
  have w0 := wk_r (S := S) w
  delta FX100_wakes_31 BX100_wakes_31
  refine pq_g (fun _ => ?_)
  exact pq_s w0
theorem wX100_wakes_0 (S Z : Nat → Prop) {hx N : Nat} (hS : ∀ x, fe_mem lX100_wakes x = true → S x) (n : Nat) (a0 : Nat) (M : FM) (w : WI Z hx N M) (z_a0 : Z a0) : pq (FX100_wakes_0 n a0 M) (QA S Z hx N M) := by
  have hN := w.2.2.1
  have w0 := wk_r (S := S) w
  delta FX100_wakes_0 BX100_wakes_0
  refine pq_g (fun g1 => ?_)
  extract_lets +onlyGivenNames M3
  have w2 : Wk S Z hx N M M3 := wk_fI hN w0 rfl rfl g1 z_a0 (Or.inr (hS 358 rfl))
  refine pq_g (fun g4 => ?_)
  refine pq_b (wX100_shown S Z (sb rfl hS) n _ _ _ w2.1 z_a0) (fun r5 K6 => ?_)
  have w7 := wk_t w2 K6 hN
  refine pq_g (fun g8 => ?_)
  have z9 := wk_z (i := 0) (f := 361) w7 rfl z_a0
  have f10 := sS_361 w7.1.1 g8
  refine pq_g (fun g11 => ?_)
  refine pq_fi (fun _ => ?_) (fun _ => ?_)
  · exact q_tA hN w7 (wX100_wakes_31 S Z hS n _ _ w7.1 )
  · exact q_tA hN w7 (wX100_wakes_31 S Z hS n _ _ w7.1 )
theorem wX100_wakes (S Z : Nat → Prop) {hx N : Nat} (hS : ∀ x, fe_mem lX100_wakes x = true → S x) (n : Nat) (a0 : Nat) (M : FM) (w : WI Z hx N M) (z_a0 : Z a0) : pq (FX100_wakes n a0 M) (QA S Z hx N M) := wX100_wakes_0 S Z hS n a0 M w z_a0
def lX100_isPending : List Nat := []
theorem wX100_isPending_30 (S Z : Nat → Prop) {hx N : Nat} (hS : ∀ x, fe_mem lX100_isPending x = true → S x) (n : Nat) (s0 : Int32) (M : FM) (w : WI Z hx N M) : pq (FX100_isPending_30 n s0 M) (QA S Z hx N M) := by
  have hN := w.2.2.1
  have w0 := wk_r (S := S) w
  delta FX100_isPending_30 BX100_isPending_30
  refine pq_g (fun _ => ?_)
  exact pq_s w0
theorem wX100_isPending_0 (S Z : Nat → Prop) {hx N : Nat} (hS : ∀ x, fe_mem lX100_isPending x = true → S x) (n : Nat) (a0 : Nat) (a1 : Int32) (M : FM) (w : WI Z hx N M) (z_a0 : Z a0) : pq (FX100_isPending_0 n a0 a1 M) (QA S Z hx N M) := by
  have hN := w.2.2.1
  have w0 := wk_r (S := S) w
  delta FX100_isPending_0 BX100_isPending_0
  refine pq_g (fun g1 => ?_)
  refine pq_b (wX100_shown S Z (sb rfl hS) n _ _ _ w0.1 z_a0) (fun r2 K3 => ?_)
  have w4 := wk_t w0 K3 hN
  refine pq_g (fun g5 => ?_)
  have z6 := wk_z (i := 0) (f := 361) w4 rfl z_a0
  have f7 := sS_361 w4.1.1 g5
  refine pq_g (fun g8 => ?_)
  refine pq_fi (fun _ => ?_) (fun _ => ?_)
  · exact q_tA hN w4 (wX100_isPending_30 S Z hS n _ _ w4.1 )
  · exact q_tA hN w4 (wX100_isPending_30 S Z hS n _ _ w4.1 )
theorem wX100_isPending (S Z : Nat → Prop) {hx N : Nat} (hS : ∀ x, fe_mem lX100_isPending x = true → S x) (n : Nat) (a0 : Nat) (a1 : Int32) (M : FM) (w : WI Z hx N M) (z_a0 : Z a0) : pq (FX100_isPending n a0 a1 M) (QA S Z hx N M) := wX100_isPending_0 S Z hS n a0 a1 M w z_a0
def lX100_mayBe : List Nat := []
theorem wX100_mayBe_106 (S Z : Nat → Prop) {hx N : Nat} (hS : ∀ x, fe_mem lX100_mayBe x = true → S x) (n : Nat) (s0 : Int32) (M : FM) (w : WI Z hx N M) : pq (FX100_mayBe_106 n s0 M) (QA S Z hx N M) := by
  have hN := w.2.2.1
  have w0 := wk_r (S := S) w
  delta FX100_mayBe_106 BX100_mayBe_106
  refine pq_g (fun _ => ?_)
  exact pq_s w0
theorem wX100_mayBe_105 (S Z : Nat → Prop) {hx N : Nat} (hS : ∀ x, fe_mem lX100_mayBe x = true → S x) (n : Nat) (M : FM) (w : WI Z hx N M) : pq (FX100_mayBe_105 n M) (QA S Z hx N M) := by
  have hN := w.2.2.1
  have w0 := wk_r (S := S) w
  delta FX100_mayBe_105 BX100_mayBe_105
  exact q_tA hN w0 (wX100_mayBe_106 S Z hS n _ _ w0.1 )
theorem wX100_mayBe_81 (S Z : Nat → Prop) {hx N : Nat} (hS : ∀ x, fe_mem lX100_mayBe x = true → S x) (n : Nat) (a0 : Nat) (a1 : Int32) (a2 : Int32) (a3 : Int32) (s0 : Int32) (M : FM) (w : WI Z hx N M) (z_a0 : Z a0) : pq (FX100_mayBe_81 n a0 a1 a2 a3 s0 M) (QA S Z hx N M) := by
  have hN := w.2.2.1
  have w0 := wk_r (S := S) w
  delta FX100_mayBe_81 BX100_mayBe_81
  refine pq_g (fun g1 => ?_)
  refine pq_b (wX100_isPending S Z (sb rfl hS) n _ _ _ w0.1 z_a0) (fun r2 K3 => ?_)
  have w4 := wk_t w0 K3 hN
  refine pq_fi (fun _ => ?_) (fun _ => ?_)
  · exact q_tA hN w4 (wX100_mayBe_105 S Z hS n _ w4.1 )
  · refine pq_fi (fun _ => ?_) (fun _ => ?_)
    · refine pq_fi (fun _ => ?_) (fun _ => ?_)
      · exact q_tA hN w4 (wX100_mayBe_105 S Z hS n _ w4.1 )
      · exact q_tA hN w4 (wX100_mayBe_106 S Z hS n _ _ w4.1 )
    · exact q_tA hN w4 (wX100_mayBe_105 S Z hS n _ w4.1 )
theorem wX100_mayBe_76 (S Z : Nat → Prop) {hx N : Nat} (hS : ∀ x, fe_mem lX100_mayBe x = true → S x) (n : Nat) (a0 : Nat) (a1 : Int32) (a2 : Int32) (a3 : Int32) (M : FM) (w : WI Z hx N M) (z_a0 : Z a0) : pq (FX100_mayBe_76 n a0 a1 a2 a3 M) (QA S Z hx N M) := by
  have hN := w.2.2.1
  have w0 := wk_r (S := S) w
  delta FX100_mayBe_76 BX100_mayBe_76
  exact q_tA hN w0 (wX100_mayBe_81 S Z hS n _ _ _ _ _ _ w0.1 z_a0)
theorem wX100_mayBe_55 (S Z : Nat → Prop) {hx N : Nat} (hS : ∀ x, fe_mem lX100_mayBe x = true → S x) (n : Nat) (a0 : Nat) (a1 : Int32) (a2 : Int32) (a3 : Int32) (M : FM) (w : WI Z hx N M) (z_a0 : Z a0) : pq (FX100_mayBe_55 n a0 a1 a2 a3 M) (QA S Z hx N M) := by
  have hN := w.2.2.1
  have w0 := wk_r (S := S) w
  delta FX100_mayBe_55 BX100_mayBe_55
  exact q_tA hN w0 (wX100_mayBe_81 S Z hS n _ _ _ _ _ _ w0.1 z_a0)
theorem wX100_mayBe_51 (S Z : Nat → Prop) {hx N : Nat} (hS : ∀ x, fe_mem lX100_mayBe x = true → S x) (n : Nat) (a0 : Nat) (a1 : Int32) (a2 : Int32) (a3 : Int32) (M : FM) (w : WI Z hx N M) (z_a0 : Z a0) : pq (FX100_mayBe_51 n a0 a1 a2 a3 M) (QA S Z hx N M) := by
  have hN := w.2.2.1
  have w0 := wk_r (S := S) w
  delta FX100_mayBe_51 BX100_mayBe_51
  exact q_tA hN w0 (wX100_mayBe_81 S Z hS n _ _ _ _ _ _ w0.1 z_a0)
theorem wX100_mayBe_22 (S Z : Nat → Prop) {hx N : Nat} (hS : ∀ x, fe_mem lX100_mayBe x = true → S x) (n : Nat) (a0 : Nat) (a1 : Int32) (a2 : Int32) (s0 : Int32) (M : FM) (w : WI Z hx N M) (z_a0 : Z a0) : pq (FX100_mayBe_22 n a0 a1 a2 s0 M) (QA S Z hx N M) := by
  have hN := w.2.2.1
  have w0 := wk_r (S := S) w
  delta FX100_mayBe_22 BX100_mayBe_22
  refine pq_fi (fun _ => ?_) (fun _ => ?_)
  · refine pq_g (fun g1 => ?_)
    refine pq_fi (fun _ => ?_) (fun _ => ?_)
    · exact q_tA hN w0 (wX100_mayBe_76 S Z hS n _ _ _ _ _ w0.1 z_a0)
    · refine pq_g (fun g2 => ?_)
      refine pq_b (wX100_status S Z (sb rfl hS) _ _ _ w0.1 z_a0) (fun r3 K4 => ?_)
      have w5 := wk_t w0 K4 hN
      refine pq_fi (fun _ => ?_) (fun _ => ?_)
      · exact q_tA hN w5 (wX100_mayBe_76 S Z hS n _ _ _ _ _ w5.1 z_a0)
      · exact q_tA hN w5 (wX100_mayBe_81 S Z hS n _ _ _ _ _ _ w5.1 z_a0)
  · refine pq_g (fun g6 => ?_)
    refine pq_fi (fun _ => ?_) (fun _ => ?_)
    · exact q_tA hN w0 (wX100_mayBe_51 S Z hS n _ _ _ _ _ w0.1 z_a0)
    · refine pq_g (fun g7 => ?_)
      refine pq_fi (fun _ => ?_) (fun _ => ?_)
      · refine pq_g (fun g8 => ?_)
        refine pq_b (wX100_status S Z (sb rfl hS) _ _ _ w0.1 z_a0) (fun r9 K10 => ?_)
        have w11 := wk_t w0 K10 hN
        refine pq_fi (fun _ => ?_) (fun _ => ?_)
        · exact q_tA hN w11 (wX100_mayBe_51 S Z hS n _ _ _ _ _ w11.1 z_a0)
        · exact q_tA hN w11 (wX100_mayBe_55 S Z hS n _ _ _ _ _ w11.1 z_a0)
      · exact q_tA hN w0 (wX100_mayBe_55 S Z hS n _ _ _ _ _ w0.1 z_a0)
theorem wX100_mayBe_0 (S Z : Nat → Prop) {hx N : Nat} (hS : ∀ x, fe_mem lX100_mayBe x = true → S x) (n : Nat) (a0 : Nat) (a1 : Int32) (a2 : Int32) (M : FM) (w : WI Z hx N M) (z_a0 : Z a0) : pq (FX100_mayBe_0 n a0 a1 a2 M) (QA S Z hx N M) := by
  have hN := w.2.2.1
  have w0 := wk_r (S := S) w
  delta FX100_mayBe_0 BX100_mayBe_0
  refine pq_g (fun g1 => ?_)
  have z2 := wk_z (i := 0) (f := 361) w0 rfl z_a0
  have f3 := sS_361 w0.1.1 g1
  refine pq_g (fun g4 => ?_)
  refine pq_fi (fun _ => ?_) (fun _ => ?_)
  · exact q_tA hN w0 (wX100_mayBe_22 S Z hS n _ _ _ _ _ w0.1 z_a0)
  · exact q_tA hN w0 (wX100_mayBe_22 S Z hS n _ _ _ _ _ w0.1 z_a0)
theorem wX100_mayBe (S Z : Nat → Prop) {hx N : Nat} (hS : ∀ x, fe_mem lX100_mayBe x = true → S x) (n : Nat) (a0 : Nat) (a1 : Int32) (a2 : Int32) (M : FM) (w : WI Z hx N M) (z_a0 : Z a0) : pq (FX100_mayBe n a0 a1 a2 M) (QA S Z hx N M) := wX100_mayBe_0 S Z hS n a0 a1 a2 M w z_a0
def lX100_first : List Nat := []
theorem wX100_first_56 (S Z : Nat → Prop) {hx N : Nat} (hS : ∀ x, fe_mem lX100_first x = true → S x) (n : Nat) (k2 : Nat → Int32 → Int32 → FM → Option (Int32 × FM)) (hk2 : ∀ (a0 : Nat) (a1 : Int32) (a2 : Int32) (M : FM), WI Z hx N M → Z a0 → pq (k2 a0 a1 a2 M) (QA S Z hx N M)) (a0 : Nat) (a1 : Int32) (a2 : Int32) (s0 : Int32) (M : FM) (w : WI Z hx N M) (z_a0 : Z a0) : pq (FX100_first_56 n k2 a0 a1 a2 s0 M) (QA S Z hx N M) := by
  have hN := w.2.2.1
  have w0 := wk_r (S := S) w
  delta FX100_first_56 BX100_first_56
  refine pq_g (fun g1 => ?_)
  refine pq_b (wX100_mayBe S Z (sb rfl hS) n _ _ _ _ w0.1 z_a0) (fun r2 K3 => ?_)
  have w4 := wk_t w0 K3 hN
  refine pq_fi (fun _ => ?_) (fun _ => ?_)
  · exact q_tA hN w4 (hk2 _ _ _ _ w4.1 z_a0)
  · exact pq_s w4
theorem wX100_first_2 (S Z : Nat → Prop) {hx N : Nat} (hS : ∀ x, fe_mem lX100_first x = true → S x) (n : Nat) (k2 : Nat → Int32 → Int32 → FM → Option (Int32 × FM)) (hk2 : ∀ (a0 : Nat) (a1 : Int32) (a2 : Int32) (M : FM), WI Z hx N M → Z a0 → pq (k2 a0 a1 a2 M) (QA S Z hx N M)) (a0 : Nat) (a1 : Int32) (a2 : Int32) (M : FM) (w : WI Z hx N M) (z_a0 : Z a0) : pq (FX100_first_2 n k2 a0 a1 a2 M) (QA S Z hx N M) := by
  have hN := w.2.2.1
  have w0 := wk_r (S := S) w
  delta FX100_first_2 BX100_first_2
  refine pq_fi (fun _ => ?_) (fun _ => ?_)
  · exact pq_s w0
  · refine pq_fi (fun _ => ?_) (fun _ => ?_)
    · exact q_tA hN w0 (wX100_first_56 S Z hS n _ hk2 _ _ _ _ _ w0.1 z_a0)
    · refine pq_fi (fun _ => ?_) (fun _ => ?_)
      · exact q_tA hN w0 (wX100_first_56 S Z hS n _ hk2 _ _ _ _ _ w0.1 z_a0)
      · refine pq_fi (fun _ => ?_) (fun _ => ?_)
        · exact q_tA hN w0 (wX100_first_56 S Z hS n _ hk2 _ _ _ _ _ w0.1 z_a0)
        · refine pq_fi (fun _ => ?_) (fun _ => ?_)
          · exact q_tA hN w0 (wX100_first_56 S Z hS n _ hk2 _ _ _ _ _ w0.1 z_a0)
          · refine pq_fi (fun _ => ?_) (fun _ => ?_)
            · exact q_tA hN w0 (wX100_first_56 S Z hS n _ hk2 _ _ _ _ _ w0.1 z_a0)
            · exact q_tA hN w0 (wX100_first_56 S Z hS n _ hk2 _ _ _ _ _ w0.1 z_a0)
theorem wX100_first_0 (S Z : Nat → Prop) {hx N : Nat} (hS : ∀ x, fe_mem lX100_first x = true → S x) (n : Nat) (k2 : Nat → Int32 → Int32 → FM → Option (Int32 × FM)) (hk2 : ∀ (a0 : Nat) (a1 : Int32) (a2 : Int32) (M : FM), WI Z hx N M → Z a0 → pq (k2 a0 a1 a2 M) (QA S Z hx N M)) (a0 : Nat) (a1 : Int32) (M : FM) (w : WI Z hx N M) (z_a0 : Z a0) : pq (FX100_first_0 n k2 a0 a1 M) (QA S Z hx N M) := by
  have hN := w.2.2.1
  have w0 := wk_r (S := S) w
  delta FX100_first_0 BX100_first_0
  exact q_tA hN w0 (hk2 _ _ _ _ w0.1 z_a0)
theorem wX100_first_L (S Z : Nat → Prop) {hx N : Nat} (hS : ∀ x, fe_mem lX100_first x = true → S x) (n : Nat) : ∀ j : Nat, ∀ (a0 : Nat) (a1 : Int32) (a2 : Int32) (M : FM), WI Z hx N M → Z a0 → pq (FX100_first_L2 n j a0 a1 a2 M) (QA S Z hx N M)
  | 0 => by intros; exact pq_0
  | j + 1 => fun a0 a1 a2 M w => wX100_first_2 S Z hS n _ (wX100_first_L S Z hS n j) a0 a1 a2 M w
theorem wX100_first (S Z : Nat → Prop) {hx N : Nat} (hS : ∀ x, fe_mem lX100_first x = true → S x) (n : Nat) (a0 : Nat) (a1 : Int32) (M : FM) (w : WI Z hx N M) (z_a0 : Z a0) : pq (FX100_first n a0 a1 M) (QA S Z hx N M) := wX100_first_0 S Z hS n _ (wX100_first_L S Z hS n n) a0 a1 M w z_a0
def lX100_taken : List Nat := [358]
theorem wX100_taken_24 (S Z : Nat → Prop) {hx N : Nat} (hS : ∀ x, fe_mem lX100_taken x = true → S x) (n : Nat) (s0 : Int32) (M : FM) (w : WI Z hx N M) : pq (FX100_taken_24 n s0 M) (QA S Z hx N M) := by
  have hN := w.2.2.1
  have w0 := wk_r (S := S) w
  delta FX100_taken_24 BX100_taken_24
  exact pq_s w0
theorem wX100_taken_0 (S Z : Nat → Prop) {hx N : Nat} (hS : ∀ x, fe_mem lX100_taken x = true → S x) (n : Nat) (a0 : Nat) (M : FM) (w : WI Z hx N M) (z_a0 : Z a0) : pq (FX100_taken_0 n a0 M) (QA S Z hx N M) := by
  have hN := w.2.2.1
  have w0 := wk_r (S := S) w
  delta FX100_taken_0 BX100_taken_0
  refine pq_g (fun g1 => ?_)
  extract_lets +onlyGivenNames M3
  have w2 : Wk S Z hx N M M3 := wk_fI hN w0 rfl rfl g1 z_a0 (Or.inr (hS 358 rfl))
  refine pq_g (fun g4 => ?_)
  refine pq_b (wX100_first S Z (sb rfl hS) n _ _ _ w2.1 z_a0) (fun r5 K6 => ?_)
  have w7 := wk_t w2 K6 hN
  refine pq_fi (fun _ => ?_) (fun _ => ?_)
  · refine pq_g (fun g8 => ?_)
    refine pq_b (wX100_first S Z (sb rfl hS) n _ _ _ w7.1 z_a0) (fun r9 K10 => ?_)
    have w11 := wk_t w7 K10 hN
    exact q_tA hN w11 (wX100_taken_24 S Z hS n _ _ w11.1 )
  · exact q_tA hN w7 (wX100_taken_24 S Z hS n _ _ w7.1 )
theorem wX100_taken (S Z : Nat → Prop) {hx N : Nat} (hS : ∀ x, fe_mem lX100_taken x = true → S x) (n : Nat) (a0 : Nat) (M : FM) (w : WI Z hx N M) (z_a0 : Z a0) : pq (FX100_taken n a0 M) (QA S Z hx N M) := wX100_taken_0 S Z hS n a0 M w z_a0
def lX98_counter : List Nat := [345]
theorem wX98_counter_0 (S Z : Nat → Prop) {hx N : Nat} (hS : ∀ x, fe_mem lX98_counter x = true → S x) (a0 : Nat) (M : FM) (w : WI Z hx N M) (z_a0 : Z a0) : pq (FX98_counter_0 a0 M) (QA S Z hx N M) := by
  have hN := w.2.2.1
  have w0 := wk_r (S := S) w
  delta FX98_counter_0 BX98_counter_0
  refine pq_g (fun g1 => ?_)
  extract_lets +onlyGivenNames M3
  have w2 : Wk S Z hx N M M3 := wk_fI hN w0 rfl rfl g1 z_a0 (Or.inr (hS 345 rfl))
  refine pq_g (fun g4 => ?_)
  exact pq_s w2
theorem wX98_counter (S Z : Nat → Prop) {hx N : Nat} (hS : ∀ x, fe_mem lX98_counter x = true → S x) (a0 : Nat) (M : FM) (w : WI Z hx N M) (z_a0 : Z a0) : pq (FX98_counter a0 M) (QA S Z hx N M) := wX98_counter_0 S Z hS a0 M w z_a0
def lX100_mode : List Nat := [358]
theorem wX100_mode_0 (S Z : Nat → Prop) {hx N : Nat} (hS : ∀ x, fe_mem lX100_mode x = true → S x) (a0 : Nat) (M : FM) (w : WI Z hx N M) (z_a0 : Z a0) : pq (FX100_mode_0 a0 M) (QA S Z hx N M) := by
  have hN := w.2.2.1
  have w0 := wk_r (S := S) w
  delta FX100_mode_0 BX100_mode_0
  refine pq_g (fun g1 => ?_)
  extract_lets +onlyGivenNames M3
  have w2 : Wk S Z hx N M M3 := wk_fI hN w0 rfl rfl g1 z_a0 (Or.inr (hS 358 rfl))
  refine pq_g (fun g4 => ?_)
  exact pq_s w2
theorem wX100_mode (S Z : Nat → Prop) {hx N : Nat} (hS : ∀ x, fe_mem lX100_mode x = true → S x) (a0 : Nat) (M : FM) (w : WI Z hx N M) (z_a0 : Z a0) : pq (FX100_mode a0 M) (QA S Z hx N M) := wX100_mode_0 S Z hS a0 M w z_a0
def lX101_isAccess : List Nat := []
theorem wX101_isAccess_59 (S Z : Nat → Prop) {hx N : Nat} (hS : ∀ x, fe_mem lX101_isAccess x = true → S x) (s0 : Int32) (M : FM) (w : WI Z hx N M) : pq (FX101_isAccess_59 s0 M) (QA S Z hx N M) := by
  have hN := w.2.2.1
  have w0 := wk_r (S := S) w
  delta FX101_isAccess_59 BX101_isAccess_59
  refine pq_g (fun _ => ?_)
  exact pq_s w0
theorem wX101_isAccess_58 (S Z : Nat → Prop) {hx N : Nat} (hS : ∀ x, fe_mem lX101_isAccess x = true → S x) (M : FM) (w : WI Z hx N M) : pq (FX101_isAccess_58 M) (QA S Z hx N M) := by
  have hN := w.2.2.1
  have w0 := wk_r (S := S) w
  delta FX101_isAccess_58 BX101_isAccess_58
  exact q_tA hN w0 (wX101_isAccess_59 S Z hS _ _ w0.1 )
theorem wX101_isAccess_50 (S Z : Nat → Prop) {hx N : Nat} (hS : ∀ x, fe_mem lX101_isAccess x = true → S x) (a3 : Int32) (M : FM) (w : WI Z hx N M) : pq (FX101_isAccess_50 a3 M) (QA S Z hx N M) := by
  have hN := w.2.2.1
  have w0 := wk_r (S := S) w
  delta FX101_isAccess_50 BX101_isAccess_50
  refine pq_fi (fun _ => ?_) (fun _ => ?_)
  · exact q_tA hN w0 (wX101_isAccess_58 S Z hS _ w0.1 )
  · exact q_tA hN w0 (wX101_isAccess_59 S Z hS _ _ w0.1 )
theorem wX101_isAccess_26 (S Z : Nat → Prop) {hx N : Nat} (hS : ∀ x, fe_mem lX101_isAccess x = true → S x) (a0 : Int32) (a1 : Int32) (s0 : Int32) (M : FM) (w : WI Z hx N M) : pq (FX101_isAccess_26 a0 a1 s0 M) (QA S Z hx N M) := by
  have hN := w.2.2.1
  have w0 := wk_r (S := S) w
  delta FX101_isAccess_26 BX101_isAccess_26
  refine pq_fi (fun _ => ?_) (fun _ => ?_)
  · exact q_tA hN w0 (wX101_isAccess_58 S Z hS _ w0.1 )
  · refine pq_fi (fun _ => ?_) (fun _ => ?_)
    · exact q_tA hN w0 (wX101_isAccess_58 S Z hS _ w0.1 )
    · refine pq_fi (fun _ => ?_) (fun _ => ?_)
      · exact q_tA hN w0 (wX101_isAccess_50 S Z hS _ _ w0.1 )
      · refine pq_fi (fun _ => ?_) (fun _ => ?_)
        · exact q_tA hN w0 (wX101_isAccess_50 S Z hS _ _ w0.1 )
        · refine pq_fi (fun _ => ?_) (fun _ => ?_)
          · exact q_tA hN w0 (wX101_isAccess_50 S Z hS _ _ w0.1 )
          · exact q_tA hN w0 (wX101_isAccess_58 S Z hS _ w0.1 )
theorem wX101_isAccess_21 (S Z : Nat → Prop) {hx N : Nat} (hS : ∀ x, fe_mem lX101_isAccess x = true → S x) (a0 : Int32) (a1 : Int32) (M : FM) (w : WI Z hx N M) : pq (FX101_isAccess_21 a0 a1 M) (QA S Z hx N M) := by
  have hN := w.2.2.1
  have w0 := wk_r (S := S) w
  delta FX101_isAccess_21 BX101_isAccess_21
  exact q_tA hN w0 (wX101_isAccess_26 S Z hS _ _ _ _ w0.1 )
theorem wX101_isAccess_0 (S Z : Nat → Prop) {hx N : Nat} (hS : ∀ x, fe_mem lX101_isAccess x = true → S x) (a0 : Int32) (a1 : Int32) (a2 : Int32) (M : FM) (w : WI Z hx N M) : pq (FX101_isAccess_0 a0 a1 a2 M) (QA S Z hx N M) := by
  have hN := w.2.2.1
  have w0 := wk_r (S := S) w
  delta FX101_isAccess_0 BX101_isAccess_0
  refine pq_fi (fun _ => ?_) (fun _ => ?_)
  · exact q_tA hN w0 (wX101_isAccess_21 S Z hS _ _ _ w0.1 )
  · refine pq_fi (fun _ => ?_) (fun _ => ?_)
    · exact q_tA hN w0 (wX101_isAccess_21 S Z hS _ _ _ w0.1 )
    · refine pq_fi (fun _ => ?_) (fun _ => ?_)
      · exact q_tA hN w0 (wX101_isAccess_21 S Z hS _ _ _ w0.1 )
      · refine pq_fi (fun _ => ?_) (fun _ => ?_)
        · exact q_tA hN w0 (wX101_isAccess_21 S Z hS _ _ _ w0.1 )
        · exact q_tA hN w0 (wX101_isAccess_26 S Z hS _ _ _ _ w0.1 )
theorem wX101_isAccess (S Z : Nat → Prop) {hx N : Nat} (hS : ∀ x, fe_mem lX101_isAccess x = true → S x) (a0 : Int32) (a1 : Int32) (a2 : Int32) (M : FM) (w : WI Z hx N M) : pq (FX101_isAccess a0 a1 a2 M) (QA S Z hx N M) := wX101_isAccess_0 S Z hS a0 a1 a2 M w 
def lX101_isWithin : List Nat := []
theorem wX101_isWithin_20 (S Z : Nat → Prop) {hx N : Nat} (hS : ∀ x, fe_mem lX101_isWithin x = true → S x) (s0 : Int32) (M : FM) (w : WI Z hx N M) : pq (FX101_isWithin_20 s0 M) (QA S Z hx N M) := by
  have hN := w.2.2.1
  have w0 := wk_r (S := S) w
  delta FX101_isWithin_20 BX101_isWithin_20
  refine pq_g (fun _ => ?_)
  exact pq_s w0
theorem wX101_isWithin_0 (S Z : Nat → Prop) {hx N : Nat} (hS : ∀ x, fe_mem lX101_isWithin x = true → S x) (a0 : Int64) (a2 : Int32) (M : FM) (w : WI Z hx N M) : pq (FX101_isWithin_0 a0 a2 M) (QA S Z hx N M) := by
  have hN := w.2.2.1
  have w0 := wk_r (S := S) w
  delta FX101_isWithin_0 BX101_isWithin_0
  refine pq_fi (fun _ => ?_) (fun _ => ?_)
  · exact q_tA hN w0 (wX101_isWithin_20 S Z hS _ _ w0.1 )
  · exact q_tA hN w0 (wX101_isWithin_20 S Z hS _ _ w0.1 )
theorem wX101_isWithin (S Z : Nat → Prop) {hx N : Nat} (hS : ∀ x, fe_mem lX101_isWithin x = true → S x) (a0 : Int64) (a2 : Int32) (M : FM) (w : WI Z hx N M) : pq (FX101_isWithin a0 a2 M) (QA S Z hx N M) := wX101_isWithin_0 S Z hS a0 a2 M w 
def lX101_pageFault : List Nat := []
theorem wX101_pageFault_24 (S Z : Nat → Prop) {hx N : Nat} (hS : ∀ x, fe_mem lX101_pageFault x = true → S x) (s0 : Int64) (M : FM) (w : WI Z hx N M) : pq (FX101_pageFault_24 s0 M) (QA S Z hx N M) := by
  have hN := w.2.2.1
  have w0 := wk_r (S := S) w
  delta FX101_pageFault_24 BX101_pageFault_24
  exact pq_s w0
theorem wX101_pageFault_0 (S Z : Nat → Prop) {hx N : Nat} (hS : ∀ x, fe_mem lX101_pageFault x = true → S x) (a0 : Int32) (M : FM) (w : WI Z hx N M) : pq (FX101_pageFault_0 a0 M) (QA S Z hx N M) := by
  have hN := w.2.2.1
  have w0 := wk_r (S := S) w
  delta FX101_pageFault_0 BX101_pageFault_0
  refine pq_fi (fun _ => ?_) (fun _ => ?_)
  · exact q_tA hN w0 (wX101_pageFault_24 S Z hS _ _ w0.1 )
  · refine pq_fi (fun _ => ?_) (fun _ => ?_)
    · exact q_tA hN w0 (wX101_pageFault_24 S Z hS _ _ w0.1 )
    · exact q_tA hN w0 (wX101_pageFault_24 S Z hS _ _ w0.1 )
theorem wX101_pageFault (S Z : Nat → Prop) {hx N : Nat} (hS : ∀ x, fe_mem lX101_pageFault x = true → S x) (a0 : Int32) (M : FM) (w : WI Z hx N M) : pq (FX101_pageFault a0 M) (QA S Z hx N M) := wX101_pageFault_0 S Z hS a0 M w 
def lX101_accessFault : List Nat := []
theorem wX101_accessFault_24 (S Z : Nat → Prop) {hx N : Nat} (hS : ∀ x, fe_mem lX101_accessFault x = true → S x) (s0 : Int64) (M : FM) (w : WI Z hx N M) : pq (FX101_accessFault_24 s0 M) (QA S Z hx N M) := by
  have hN := w.2.2.1
  have w0 := wk_r (S := S) w
  delta FX101_accessFault_24 BX101_accessFault_24
  exact pq_s w0
theorem wX101_accessFault_0 (S Z : Nat → Prop) {hx N : Nat} (hS : ∀ x, fe_mem lX101_accessFault x = true → S x) (a0 : Int32) (M : FM) (w : WI Z hx N M) : pq (FX101_accessFault_0 a0 M) (QA S Z hx N M) := by
  have hN := w.2.2.1
  have w0 := wk_r (S := S) w
  delta FX101_accessFault_0 BX101_accessFault_0
  refine pq_fi (fun _ => ?_) (fun _ => ?_)
  · exact q_tA hN w0 (wX101_accessFault_24 S Z hS _ _ w0.1 )
  · refine pq_fi (fun _ => ?_) (fun _ => ?_)
    · exact q_tA hN w0 (wX101_accessFault_24 S Z hS _ _ w0.1 )
    · exact q_tA hN w0 (wX101_accessFault_24 S Z hS _ _ w0.1 )
theorem wX101_accessFault (S Z : Nat → Prop) {hx N : Nat} (hS : ∀ x, fe_mem lX101_accessFault x = true → S x) (a0 : Int32) (M : FM) (w : WI Z hx N M) : pq (FX101_accessFault a0 M) (QA S Z hx N M) := wX101_accessFault_0 S Z hS a0 M w 
def lX101_kind : List Nat := []
theorem wX101_kind_0 (S Z : Nat → Prop) {hx N : Nat} (hS : ∀ x, fe_mem lX101_kind x = true → S x) (a0 : Nat) (a1 : Int32) (M : FM) (w : WI Z hx N M) (z_a0 : Z a0) : pq (FX101_kind_0 a0 a1 M) (QA S Z hx N M) := by
  have hN := w.2.2.1
  have w0 := wk_r (S := S) w
  delta FX101_kind_0 BX101_kind_0
  refine pq_g (fun g1 => ?_)
  have z2 := wk_z (i := 0) (f := 427) w0 rfl z_a0
  have f3 := sS_427 w0.1.1 g1
  refine pq_g (fun g4 => ?_)
  exact pq_s w0
theorem wX101_kind (S Z : Nat → Prop) {hx N : Nat} (hS : ∀ x, fe_mem lX101_kind x = true → S x) (a0 : Nat) (a1 : Int32) (M : FM) (w : WI Z hx N M) (z_a0 : Z a0) : pq (FX101_kind a0 a1 M) (QA S Z hx N M) := wX101_kind_0 S Z hS a0 a1 M w z_a0
def lX101_cover : List Nat := [429, 430]
theorem wX101_cover_154 (S Z : Nat → Prop) {hx N : Nat} (hS : ∀ x, fe_mem lX101_cover x = true → S x) (n : Nat) (k91 : Nat → Int64 → Int64 → Int64 → FM → Option (FM)) (hk91 : ∀ (a0 : Nat) (a3 : Int64) (a5 : Int64) (a7 : Int64) (M : FM), WI Z hx N M → Z a0 → pq (k91 a0 a3 a5 a7 M) (QV S Z hx N M)) (M : FM) (w : WI Z hx N M) : pq (FX101_cover_154 n k91 M) (QV S Z hx N M) := by
  have hN := w.2.2.1
  have w0 := wk_r (S := S) w
  delta FX101_cover_154 BX101_cover_154
  exact pq_s w0
theorem wX101_cover_134 (S Z : Nat → Prop) {hx N : Nat} (hS : ∀ x, fe_mem lX101_cover x = true → S x) (n : Nat) (k91 : Nat → Int64 → Int64 → Int64 → FM → Option (FM)) (hk91 : ∀ (a0 : Nat) (a3 : Int64) (a5 : Int64) (a7 : Int64) (M : FM), WI Z hx N M → Z a0 → pq (k91 a0 a3 a5 a7 M) (QV S Z hx N M)) (a0 : Nat) (a3 : Int64) (a5 : Int64) (M : FM) (w : WI Z hx N M) (z_a0 : Z a0) : pq (FX101_cover_134 n k91 a0 a3 a5 M) (QV S Z hx N M) := by
  have hN := w.2.2.1
  have w0 := wk_r (S := S) w
  delta FX101_cover_134 BX101_cover_134
  refine pq_g (fun g1 => ?_)
  extract_lets +onlyGivenNames M3
  have w2 : Wk S Z hx N M M3 := wk_fL hN w0 rfl rfl g1 z_a0 (Or.inr (hS 429 rfl))
  refine pq_g (fun g4 => ?_)
  refine pq_g (fun g5 => ?_)
  extract_lets +onlyGivenNames M7
  have w6 : Wk S Z hx N M M7 := wk_fL hN w2 rfl rfl g5 z_a0 (Or.inr (hS 430 rfl))
  exact q_tV hN w6 (wX101_cover_154 S Z hS n _ hk91 _ w6.1 )
theorem wX101_cover_91 (S Z : Nat → Prop) {hx N : Nat} (hS : ∀ x, fe_mem lX101_cover x = true → S x) (n : Nat) (k91 : Nat → Int64 → Int64 → Int64 → FM → Option (FM)) (hk91 : ∀ (a0 : Nat) (a3 : Int64) (a5 : Int64) (a7 : Int64) (M : FM), WI Z hx N M → Z a0 → pq (k91 a0 a3 a5 a7 M) (QV S Z hx N M)) (a0 : Nat) (a3 : Int64) (a5 : Int64) (a7 : Int64) (M : FM) (w : WI Z hx N M) (z_a0 : Z a0) : pq (FX101_cover_91 n k91 a0 a3 a5 a7 M) (QV S Z hx N M) := by
  have hN := w.2.2.1
  have w0 := wk_r (S := S) w
  delta FX101_cover_91 BX101_cover_91
  refine pq_fi (fun _ => ?_) (fun _ => ?_)
  · exact q_tV hN w0 (wX101_cover_134 S Z hS n _ hk91 _ _ _ _ w0.1 z_a0)
  · refine pq_fi (fun _ => ?_) (fun _ => ?_)
    · exact q_tV hN w0 (wX101_cover_134 S Z hS n _ hk91 _ _ _ _ w0.1 z_a0)
    · exact q_tV hN w0 (hk91 _ _ _ _ _ w0.1 z_a0)
theorem wX101_cover_42 (S Z : Nat → Prop) {hx N : Nat} (hS : ∀ x, fe_mem lX101_cover x = true → S x) (n : Nat) (k91 : Nat → Int64 → Int64 → Int64 → FM → Option (FM)) (hk91 : ∀ (a0 : Nat) (a3 : Int64) (a5 : Int64) (a7 : Int64) (M : FM), WI Z hx N M → Z a0 → pq (k91 a0 a3 a5 a7 M) (QV S Z hx N M)) (a0 : Nat) (a1 : Int32) (s0 : Nat) (s1 : Int64) (M : FM) (w : WI Z hx N M) (z_a0 : Z a0) (z_s0 : Z s0) : pq (FX101_cover_42 n k91 a0 a1 s0 s1 M) (QV S Z hx N M) := by
  have hN := w.2.2.1
  have w0 := wk_r (S := S) w
  delta FX101_cover_42 BX101_cover_42
  refine pq_g (fun g1 => ?_)
  extract_lets +onlyGivenNames M3
  have w2 : Wk S Z hx N M M3 := wk_fL hN w0 rfl rfl g1 z_s0 (Or.inr (hS 429 rfl))
  refine pq_g (fun g4 => ?_)
  have z5 := wk_z (i := 0) (f := 428) w2 rfl z_a0
  have f6 := sS_428 w2.1.1 g4
  refine pq_g (fun g7 => ?_)
  refine pq_g (fun g8 => ?_)
  extract_lets +onlyGivenNames M10
  have w9 : Wk S Z hx N M M10 := wk_fL hN w2 rfl rfl g8 z_a0 (Or.inr (hS 430 rfl))
  exact q_tV hN w9 (wX101_cover_154 S Z hS n _ hk91 _ w9.1 )
theorem wX101_cover_0 (S Z : Nat → Prop) {hx N : Nat} (hS : ∀ x, fe_mem lX101_cover x = true → S x) (n : Nat) (k91 : Nat → Int64 → Int64 → Int64 → FM → Option (FM)) (hk91 : ∀ (a0 : Nat) (a3 : Int64) (a5 : Int64) (a7 : Int64) (M : FM), WI Z hx N M → Z a0 → pq (k91 a0 a3 a5 a7 M) (QV S Z hx N M)) (a0 : Nat) (a1 : Int32) (M : FM) (w : WI Z hx N M) (z_a0 : Z a0) : pq (FX101_cover_0 n k91 a0 a1 M) (QV S Z hx N M) := by
  have hN := w.2.2.1
  have w0 := wk_r (S := S) w
  delta FX101_cover_0 BX101_cover_0
  refine pq_g (fun g1 => ?_)
  refine pq_b (wX101_kind S Z (sb rfl hS) _ _ _ w0.1 z_a0) (fun r2 K3 => ?_)
  have w4 := wk_t w0 K3 hN
  refine pq_g (fun g5 => ?_)
  extract_lets +onlyGivenNames M7
  have w6 : Wk S Z hx N M M7 := wk_fL hN w4 rfl rfl g5 z_a0 (Or.inr (hS 429 rfl))
  refine pq_g (fun g8 => ?_)
  extract_lets +onlyGivenNames M10
  have w9 : Wk S Z hx N M M10 := wk_fL hN w6 rfl rfl g8 z_a0 (Or.inr (hS 430 rfl))
  refine pq_fi (fun _ => ?_) (fun _ => ?_)
  · refine pq_fi (fun _ => ?_) (fun _ => ?_)
    · exact q_tV hN w9 (wX101_cover_42 S Z hS n _ hk91 _ _ _ _ _ w9.1 z_a0 z_a0)
    · refine pq_g (fun g11 => ?_)
      have z12 := wk_z (i := 0) (f := 428) w9 rfl z_a0
      have f13 := sS_428 w9.1.1 g11
      refine pq_g (fun g14 => ?_)
      exact q_tV hN w9 (wX101_cover_42 S Z hS n _ hk91 _ _ _ _ _ w9.1 z_a0 z_a0)
  · refine pq_fi (fun _ => ?_) (fun _ => ?_)
    · exact q_tV hN w9 (wX101_cover_154 S Z hS n _ hk91 _ w9.1 )
    · refine pq_g (fun g15 => ?_)
      have z16 := wk_z (i := 0) (f := 428) w9 rfl z_a0
      have f17 := sS_428 w9.1.1 g15
      refine pq_g (fun g18 => ?_)
      refine pq_fi (fun _ => ?_) (fun _ => ?_)
      · exact q_tV hN w9 (hk91 _ _ _ _ _ w9.1 z_a0)
      · exact q_tV hN w9 (wX101_cover_134 S Z hS n _ hk91 _ _ _ _ w9.1 z_a0)
theorem wX101_cover_L (S Z : Nat → Prop) {hx N : Nat} (hS : ∀ x, fe_mem lX101_cover x = true → S x) (n : Nat) : ∀ j : Nat, ∀ (a0 : Nat) (a3 : Int64) (a5 : Int64) (a7 : Int64) (M : FM), WI Z hx N M → Z a0 → pq (FX101_cover_L91 n j a0 a3 a5 a7 M) (QV S Z hx N M)
  | 0 => by intros; exact pq_0
  | j + 1 => fun a0 a3 a5 a7 M w => wX101_cover_91 S Z hS n _ (wX101_cover_L S Z hS n j) a0 a3 a5 a7 M w
theorem wX101_cover (S Z : Nat → Prop) {hx N : Nat} (hS : ∀ x, fe_mem lX101_cover x = true → S x) (n : Nat) (a0 : Nat) (a1 : Int32) (M : FM) (w : WI Z hx N M) (z_a0 : Z a0) : pq (FX101_cover n a0 a1 M) (QV S Z hx N M) := wX101_cover_0 S Z hS n _ (wX101_cover_L S Z hS n n) a0 a1 M w z_a0
def lX101_has : List Nat := []
theorem wX101_has_19 (S Z : Nat → Prop) {hx N : Nat} (hS : ∀ x, fe_mem lX101_has x = true → S x) (s0 : Int32) (M : FM) (w : WI Z hx N M) : pq (FX101_has_19 s0 M) (QA S Z hx N M) := by
  have hN := w.2.2.1
  have w0 := wk_r (S := S) w
  delta FX101_has_19 BX101_has_19
  refine pq_g (fun _ => ?_)
  exact pq_s w0
theorem wX101_has_0 (S Z : Nat → Prop) {hx N : Nat} (hS : ∀ x, fe_mem lX101_has x = true → S x) (a0 : Nat) (a1 : Int32) (a2 : Int32) (M : FM) (w : WI Z hx N M) (z_a0 : Z a0) : pq (FX101_has_0 a0 a1 a2 M) (QA S Z hx N M) := by
  have hN := w.2.2.1
  have w0 := wk_r (S := S) w
  delta FX101_has_0 BX101_has_0
  refine pq_g (fun g1 => ?_)
  have z2 := wk_z (i := 0) (f := 427) w0 rfl z_a0
  have f3 := sS_427 w0.1.1 g1
  refine pq_g (fun g4 => ?_)
  refine pq_fi (fun _ => ?_) (fun _ => ?_)
  · exact q_tA hN w0 (wX101_has_19 S Z hS _ _ w0.1 )
  · exact q_tA hN w0 (wX101_has_19 S Z hS _ _ w0.1 )
theorem wX101_has (S Z : Nat → Prop) {hx N : Nat} (hS : ∀ x, fe_mem lX101_has x = true → S x) (a0 : Nat) (a1 : Int32) (a2 : Int32) (M : FM) (w : WI Z hx N M) (z_a0 : Z a0) : pq (FX101_has a0 a1 a2 M) (QA S Z hx N M) := wX101_has_0 S Z hS a0 a1 a2 M w z_a0
def lX101_isLet : List Nat := [429, 430]
theorem wX101_isLet_155 (S Z : Nat → Prop) {hx N : Nat} (hS : ∀ x, fe_mem lX101_isLet x = true → S x) (n : Nat) (k3 : Nat → Int64 → Int32 → Int32 → Int32 → Int32 → FM → Option (Int32 × FM)) (hk3 : ∀ (a0 : Nat) (a1 : Int64) (a3 : Int32) (a4 : Int32) (a5 : Int32) (a6 : Int32) (M : FM), WI Z hx N M → Z a0 → pq (k3 a0 a1 a3 a4 a5 a6 M) (QA S Z hx N M)) (k22 : Nat → Int64 → Int32 → Int32 → Int32 → Int32 → Int32 → Int32 → FM → Option (Int32 × FM)) (hk22 : ∀ (a0 : Nat) (a1 : Int64) (a3 : Int32) (a4 : Int32) (a5 : Int32) (a6 : Int32) (a7 : Int32) (a8 : Int32) (M : FM), WI Z hx N M → Z a0 → pq (k22 a0 a1 a3 a4 a5 a6 a7 a8 M) (QA S Z hx N M)) (s0 : Int32) (M : FM) (w : WI Z hx N M) : pq (FX101_isLet_155 n k3 k22 s0 M) (QA S Z hx N M) := by
  have hN := w.2.2.1
  have w0 := wk_r (S := S) w
  delta FX101_isLet_155 BX101_isLet_155
  refine pq_g (fun _ => ?_)
  exact pq_s w0
theorem wX101_isLet_137 (S Z : Nat → Prop) {hx N : Nat} (hS : ∀ x, fe_mem lX101_isLet x = true → S x) (n : Nat) (k3 : Nat → Int64 → Int32 → Int32 → Int32 → Int32 → FM → Option (Int32 × FM)) (hk3 : ∀ (a0 : Nat) (a1 : Int64) (a3 : Int32) (a4 : Int32) (a5 : Int32) (a6 : Int32) (M : FM), WI Z hx N M → Z a0 → pq (k3 a0 a1 a3 a4 a5 a6 M) (QA S Z hx N M)) (k22 : Nat → Int64 → Int32 → Int32 → Int32 → Int32 → Int32 → Int32 → FM → Option (Int32 × FM)) (hk22 : ∀ (a0 : Nat) (a1 : Int64) (a3 : Int32) (a4 : Int32) (a5 : Int32) (a6 : Int32) (a7 : Int32) (a8 : Int32) (M : FM), WI Z hx N M → Z a0 → pq (k22 a0 a1 a3 a4 a5 a6 a7 a8 M) (QA S Z hx N M)) (s0 : Int32) (M : FM) (w : WI Z hx N M) : pq (FX101_isLet_137 n k3 k22 s0 M) (QA S Z hx N M) := by
  have hN := w.2.2.1
  have w0 := wk_r (S := S) w
  delta FX101_isLet_137 BX101_isLet_137
  refine pq_g (fun _ => ?_)
  exact pq_s w0
theorem wX101_isLet_136 (S Z : Nat → Prop) {hx N : Nat} (hS : ∀ x, fe_mem lX101_isLet x = true → S x) (n : Nat) (k3 : Nat → Int64 → Int32 → Int32 → Int32 → Int32 → FM → Option (Int32 × FM)) (hk3 : ∀ (a0 : Nat) (a1 : Int64) (a3 : Int32) (a4 : Int32) (a5 : Int32) (a6 : Int32) (M : FM), WI Z hx N M → Z a0 → pq (k3 a0 a1 a3 a4 a5 a6 M) (QA S Z hx N M)) (k22 : Nat → Int64 → Int32 → Int32 → Int32 → Int32 → Int32 → Int32 → FM → Option (Int32 × FM)) (hk22 : ∀ (a0 : Nat) (a1 : Int64) (a3 : Int32) (a4 : Int32) (a5 : Int32) (a6 : Int32) (a7 : Int32) (a8 : Int32) (M : FM), WI Z hx N M → Z a0 → pq (k22 a0 a1 a3 a4 a5 a6 a7 a8 M) (QA S Z hx N M)) (M : FM) (w : WI Z hx N M) : pq (FX101_isLet_136 n k3 k22 M) (QA S Z hx N M) := by
  have hN := w.2.2.1
  have w0 := wk_r (S := S) w
  delta FX101_isLet_136 BX101_isLet_136
  exact q_tA hN w0 (wX101_isLet_137 S Z hS n _ hk3 _ hk22 _ _ w0.1 )
theorem wX101_isLet_132 (S Z : Nat → Prop) {hx N : Nat} (hS : ∀ x, fe_mem lX101_isLet x = true → S x) (n : Nat) (k3 : Nat → Int64 → Int32 → Int32 → Int32 → Int32 → FM → Option (Int32 × FM)) (hk3 : ∀ (a0 : Nat) (a1 : Int64) (a3 : Int32) (a4 : Int32) (a5 : Int32) (a6 : Int32) (M : FM), WI Z hx N M → Z a0 → pq (k3 a0 a1 a3 a4 a5 a6 M) (QA S Z hx N M)) (k22 : Nat → Int64 → Int32 → Int32 → Int32 → Int32 → Int32 → Int32 → FM → Option (Int32 × FM)) (hk22 : ∀ (a0 : Nat) (a1 : Int64) (a3 : Int32) (a4 : Int32) (a5 : Int32) (a6 : Int32) (a7 : Int32) (a8 : Int32) (M : FM), WI Z hx N M → Z a0 → pq (k22 a0 a1 a3 a4 a5 a6 a7 a8 M) (QA S Z hx N M)) (M : FM) (w : WI Z hx N M) : pq (FX101_isLet_132 n k3 k22 M) (QA S Z hx N M) := by
  have hN := w.2.2.1
  have w0 := wk_r (S := S) w
  delta FX101_isLet_132 BX101_isLet_132
  exact q_tA hN w0 (wX101_isLet_137 S Z hS n _ hk3 _ hk22 _ _ w0.1 )
theorem wX101_isLet_121 (S Z : Nat → Prop) {hx N : Nat} (hS : ∀ x, fe_mem lX101_isLet x = true → S x) (n : Nat) (k3 : Nat → Int64 → Int32 → Int32 → Int32 → Int32 → FM → Option (Int32 × FM)) (hk3 : ∀ (a0 : Nat) (a1 : Int64) (a3 : Int32) (a4 : Int32) (a5 : Int32) (a6 : Int32) (M : FM), WI Z hx N M → Z a0 → pq (k3 a0 a1 a3 a4 a5 a6 M) (QA S Z hx N M)) (k22 : Nat → Int64 → Int32 → Int32 → Int32 → Int32 → Int32 → Int32 → FM → Option (Int32 × FM)) (hk22 : ∀ (a0 : Nat) (a1 : Int64) (a3 : Int32) (a4 : Int32) (a5 : Int32) (a6 : Int32) (a7 : Int32) (a8 : Int32) (M : FM), WI Z hx N M → Z a0 → pq (k22 a0 a1 a3 a4 a5 a6 a7 a8 M) (QA S Z hx N M)) (a0 : Nat) (a6 : Int32) (a8 : Int32) (M : FM) (w : WI Z hx N M) (z_a0 : Z a0) : pq (FX101_isLet_121 n k3 k22 a0 a6 a8 M) (QA S Z hx N M) := by
  have hN := w.2.2.1
  have w0 := wk_r (S := S) w
  delta FX101_isLet_121 BX101_isLet_121
  refine pq_g (fun g1 => ?_)
  refine pq_b (wX101_has S Z (sb rfl hS) _ _ _ _ w0.1 z_a0) (fun r2 K3 => ?_)
  have w4 := wk_t w0 K3 hN
  refine pq_fi (fun _ => ?_) (fun _ => ?_)
  · exact q_tA hN w4 (wX101_isLet_136 S Z hS n _ hk3 _ hk22 _ w4.1 )
  · exact q_tA hN w4 (wX101_isLet_132 S Z hS n _ hk3 _ hk22 _ w4.1 )
theorem wX101_isLet_95 (S Z : Nat → Prop) {hx N : Nat} (hS : ∀ x, fe_mem lX101_isLet x = true → S x) (n : Nat) (k3 : Nat → Int64 → Int32 → Int32 → Int32 → Int32 → FM → Option (Int32 × FM)) (hk3 : ∀ (a0 : Nat) (a1 : Int64) (a3 : Int32) (a4 : Int32) (a5 : Int32) (a6 : Int32) (M : FM), WI Z hx N M → Z a0 → pq (k3 a0 a1 a3 a4 a5 a6 M) (QA S Z hx N M)) (k22 : Nat → Int64 → Int32 → Int32 → Int32 → Int32 → Int32 → Int32 → FM → Option (Int32 × FM)) (hk22 : ∀ (a0 : Nat) (a1 : Int64) (a3 : Int32) (a4 : Int32) (a5 : Int32) (a6 : Int32) (a7 : Int32) (a8 : Int32) (M : FM), WI Z hx N M → Z a0 → pq (k22 a0 a1 a3 a4 a5 a6 a7 a8 M) (QA S Z hx N M)) (a0 : Nat) (a4 : Int32) (a5 : Int32) (a6 : Int32) (a7 : Int32) (s0 : Int32) (M : FM) (w : WI Z hx N M) (z_a0 : Z a0) : pq (FX101_isLet_95 n k3 k22 a0 a4 a5 a6 a7 s0 M) (QA S Z hx N M) := by
  have hN := w.2.2.1
  have w0 := wk_r (S := S) w
  delta FX101_isLet_95 BX101_isLet_95
  refine pq_fi (fun _ => ?_) (fun _ => ?_)
  · refine pq_fi (fun _ => ?_) (fun _ => ?_)
    · refine pq_g (fun g1 => ?_)
      refine pq_b (wX101_has S Z (sb rfl hS) _ _ _ _ w0.1 z_a0) (fun r2 K3 => ?_)
      have w4 := wk_t w0 K3 hN
      refine pq_fi (fun _ => ?_) (fun _ => ?_)
      · exact q_tA hN w4 (wX101_isLet_132 S Z hS n _ hk3 _ hk22 _ w4.1 )
      · exact q_tA hN w4 (wX101_isLet_121 S Z hS n _ hk3 _ hk22 _ _ _ _ w4.1 z_a0)
    · exact q_tA hN w0 (wX101_isLet_121 S Z hS n _ hk3 _ hk22 _ _ _ _ w0.1 z_a0)
  · exact q_tA hN w0 (wX101_isLet_136 S Z hS n _ hk3 _ hk22 _ w0.1 )
theorem wX101_isLet_64 (S Z : Nat → Prop) {hx N : Nat} (hS : ∀ x, fe_mem lX101_isLet x = true → S x) (n : Nat) (k3 : Nat → Int64 → Int32 → Int32 → Int32 → Int32 → FM → Option (Int32 × FM)) (hk3 : ∀ (a0 : Nat) (a1 : Int64) (a3 : Int32) (a4 : Int32) (a5 : Int32) (a6 : Int32) (M : FM), WI Z hx N M → Z a0 → pq (k3 a0 a1 a3 a4 a5 a6 M) (QA S Z hx N M)) (k22 : Nat → Int64 → Int32 → Int32 → Int32 → Int32 → Int32 → Int32 → FM → Option (Int32 × FM)) (hk22 : ∀ (a0 : Nat) (a1 : Int64) (a3 : Int32) (a4 : Int32) (a5 : Int32) (a6 : Int32) (a7 : Int32) (a8 : Int32) (M : FM), WI Z hx N M → Z a0 → pq (k22 a0 a1 a3 a4 a5 a6 a7 a8 M) (QA S Z hx N M)) (a0 : Nat) (a1 : Int64) (a3 : Int32) (a4 : Int32) (a5 : Int32) (a6 : Int32) (a8 : Int32) (s0 : Int32) (M : FM) (w : WI Z hx N M) (z_a0 : Z a0) : pq (FX101_isLet_64 n k3 k22 a0 a1 a3 a4 a5 a6 a8 s0 M) (QA S Z hx N M) := by
  have hN := w.2.2.1
  have w0 := wk_r (S := S) w
  delta FX101_isLet_64 BX101_isLet_64
  exact q_tA hN w0 (hk22 _ _ _ _ _ _ _ _ _ w0.1 z_a0)
theorem wX101_isLet_62 (S Z : Nat → Prop) {hx N : Nat} (hS : ∀ x, fe_mem lX101_isLet x = true → S x) (n : Nat) (k3 : Nat → Int64 → Int32 → Int32 → Int32 → Int32 → FM → Option (Int32 × FM)) (hk3 : ∀ (a0 : Nat) (a1 : Int64) (a3 : Int32) (a4 : Int32) (a5 : Int32) (a6 : Int32) (M : FM), WI Z hx N M → Z a0 → pq (k3 a0 a1 a3 a4 a5 a6 M) (QA S Z hx N M)) (k22 : Nat → Int64 → Int32 → Int32 → Int32 → Int32 → Int32 → Int32 → FM → Option (Int32 × FM)) (hk22 : ∀ (a0 : Nat) (a1 : Int64) (a3 : Int32) (a4 : Int32) (a5 : Int32) (a6 : Int32) (a7 : Int32) (a8 : Int32) (M : FM), WI Z hx N M → Z a0 → pq (k22 a0 a1 a3 a4 a5 a6 a7 a8 M) (QA S Z hx N M)) (a0 : Nat) (a1 : Int64) (a3 : Int32) (a4 : Int32) (a5 : Int32) (a6 : Int32) (a7 : Int32) (a8 : Int32) (M : FM) (w : WI Z hx N M) (z_a0 : Z a0) : pq (FX101_isLet_62 n k3 k22 a0 a1 a3 a4 a5 a6 a7 a8 M) (QA S Z hx N M) := by
  have hN := w.2.2.1
  have w0 := wk_r (S := S) w
  delta FX101_isLet_62 BX101_isLet_62
  exact q_tA hN w0 (wX101_isLet_64 S Z hS n _ hk3 _ hk22 _ _ _ _ _ _ _ _ _ w0.1 z_a0)
theorem wX101_isLet_22 (S Z : Nat → Prop) {hx N : Nat} (hS : ∀ x, fe_mem lX101_isLet x = true → S x) (n : Nat) (k3 : Nat → Int64 → Int32 → Int32 → Int32 → Int32 → FM → Option (Int32 × FM)) (hk3 : ∀ (a0 : Nat) (a1 : Int64) (a3 : Int32) (a4 : Int32) (a5 : Int32) (a6 : Int32) (M : FM), WI Z hx N M → Z a0 → pq (k3 a0 a1 a3 a4 a5 a6 M) (QA S Z hx N M)) (k22 : Nat → Int64 → Int32 → Int32 → Int32 → Int32 → Int32 → Int32 → FM → Option (Int32 × FM)) (hk22 : ∀ (a0 : Nat) (a1 : Int64) (a3 : Int32) (a4 : Int32) (a5 : Int32) (a6 : Int32) (a7 : Int32) (a8 : Int32) (M : FM), WI Z hx N M → Z a0 → pq (k22 a0 a1 a3 a4 a5 a6 a7 a8 M) (QA S Z hx N M)) (a0 : Nat) (a1 : Int64) (a3 : Int32) (a4 : Int32) (a5 : Int32) (a6 : Int32) (a7 : Int32) (a8 : Int32) (M : FM) (w : WI Z hx N M) (z_a0 : Z a0) : pq (FX101_isLet_22 n k3 k22 a0 a1 a3 a4 a5 a6 a7 a8 M) (QA S Z hx N M) := by
  have hN := w.2.2.1
  have w0 := wk_r (S := S) w
  delta FX101_isLet_22 BX101_isLet_22
  refine pq_fi (fun _ => ?_) (fun _ => ?_)
  · refine pq_fi (fun _ => ?_) (fun _ => ?_)
    · exact q_tA hN w0 (hk3 _ _ _ _ _ _ _ w0.1 z_a0)
    · refine pq_fi (fun _ => ?_) (fun _ => ?_)
      · exact q_tA hN w0 (wX101_isLet_95 S Z hS n _ hk3 _ hk22 _ _ _ _ _ _ _ w0.1 z_a0)
      · refine pq_fi (fun _ => ?_) (fun _ => ?_)
        · exact q_tA hN w0 (wX101_isLet_95 S Z hS n _ hk3 _ hk22 _ _ _ _ _ _ _ w0.1 z_a0)
        · exact q_tA hN w0 (wX101_isLet_95 S Z hS n _ hk3 _ hk22 _ _ _ _ _ _ _ w0.1 z_a0)
  · refine pq_g (fun g1 => ?_)
    refine pq_fi (fun _ => ?_) (fun _ => ?_)
    · exact q_tA hN w0 (wX101_isLet_62 S Z hS n _ hk3 _ hk22 _ _ _ _ _ _ _ _ _ w0.1 z_a0)
    · refine pq_g (fun g2 => ?_)
      refine pq_fi (fun _ => ?_) (fun _ => ?_)
      · exact q_tA hN w0 (wX101_isLet_62 S Z hS n _ hk3 _ hk22 _ _ _ _ _ _ _ _ _ w0.1 z_a0)
      · exact q_tA hN w0 (wX101_isLet_64 S Z hS n _ hk3 _ hk22 _ _ _ _ _ _ _ _ _ w0.1 z_a0)
theorem wX101_isLet_3 (S Z : Nat → Prop) {hx N : Nat} (hS : ∀ x, fe_mem lX101_isLet x = true → S x) (n : Nat) (k3 : Nat → Int64 → Int32 → Int32 → Int32 → Int32 → FM → Option (Int32 × FM)) (hk3 : ∀ (a0 : Nat) (a1 : Int64) (a3 : Int32) (a4 : Int32) (a5 : Int32) (a6 : Int32) (M : FM), WI Z hx N M → Z a0 → pq (k3 a0 a1 a3 a4 a5 a6 M) (QA S Z hx N M)) (k22 : Nat → Int64 → Int32 → Int32 → Int32 → Int32 → Int32 → Int32 → FM → Option (Int32 × FM)) (hk22 : ∀ (a0 : Nat) (a1 : Int64) (a3 : Int32) (a4 : Int32) (a5 : Int32) (a6 : Int32) (a7 : Int32) (a8 : Int32) (M : FM), WI Z hx N M → Z a0 → pq (k22 a0 a1 a3 a4 a5 a6 a7 a8 M) (QA S Z hx N M)) (a0 : Nat) (a1 : Int64) (a3 : Int32) (a4 : Int32) (a5 : Int32) (a6 : Int32) (M : FM) (w : WI Z hx N M) (z_a0 : Z a0) : pq (FX101_isLet_3 n k3 k22 a0 a1 a3 a4 a5 a6 M) (QA S Z hx N M) := by
  have hN := w.2.2.1
  have w0 := wk_r (S := S) w
  delta FX101_isLet_3 BX101_isLet_3
  refine pq_fi (fun _ => ?_) (fun _ => ?_)
  · refine pq_fi (fun _ => ?_) (fun _ => ?_)
    · exact q_tA hN w0 (wX101_isLet_155 S Z hS n _ hk3 _ hk22 _ _ w0.1 )
    · exact q_tA hN w0 (wX101_isLet_155 S Z hS n _ hk3 _ hk22 _ _ w0.1 )
  · refine pq_g (fun g1 => ?_)
    refine pq_b (wX101_cover S Z (sb rfl hS) n _ _ _ w0.1 z_a0) (fun r2 K3 => ?_)
    have w4 := wk_t w0 K3 hN
    exact q_tA hN w4 (hk22 _ _ _ _ _ _ _ _ _ w4.1 z_a0)
theorem wX101_isLet_0 (S Z : Nat → Prop) {hx N : Nat} (hS : ∀ x, fe_mem lX101_isLet x = true → S x) (n : Nat) (k3 : Nat → Int64 → Int32 → Int32 → Int32 → Int32 → FM → Option (Int32 × FM)) (hk3 : ∀ (a0 : Nat) (a1 : Int64) (a3 : Int32) (a4 : Int32) (a5 : Int32) (a6 : Int32) (M : FM), WI Z hx N M → Z a0 → pq (k3 a0 a1 a3 a4 a5 a6 M) (QA S Z hx N M)) (k22 : Nat → Int64 → Int32 → Int32 → Int32 → Int32 → Int32 → Int32 → FM → Option (Int32 × FM)) (hk22 : ∀ (a0 : Nat) (a1 : Int64) (a3 : Int32) (a4 : Int32) (a5 : Int32) (a6 : Int32) (a7 : Int32) (a8 : Int32) (M : FM), WI Z hx N M → Z a0 → pq (k22 a0 a1 a3 a4 a5 a6 a7 a8 M) (QA S Z hx N M)) (a0 : Nat) (a1 : Int64) (a3 : Int32) (a4 : Int32) (a5 : Int32) (M : FM) (w : WI Z hx N M) (z_a0 : Z a0) : pq (FX101_isLet_0 n k3 k22 a0 a1 a3 a4 a5 M) (QA S Z hx N M) := by
  have hN := w.2.2.1
  have w0 := wk_r (S := S) w
  delta FX101_isLet_0 BX101_isLet_0
  exact q_tA hN w0 (hk3 _ _ _ _ _ _ _ w0.1 z_a0)
theorem wX101_isLet_L (S Z : Nat → Prop) {hx N : Nat} (hS : ∀ x, fe_mem lX101_isLet x = true → S x) (n : Nat) : ∀ j : Nat, (∀ (a0 : Nat) (a1 : Int64) (a3 : Int32) (a4 : Int32) (a5 : Int32) (a6 : Int32) (M : FM), WI Z hx N M → Z a0 → pq ((FX101_isLet_L n j).1 a0 a1 a3 a4 a5 a6 M) (QA S Z hx N M)) ∧ (∀ (a0 : Nat) (a1 : Int64) (a3 : Int32) (a4 : Int32) (a5 : Int32) (a6 : Int32) (a7 : Int32) (a8 : Int32) (M : FM), WI Z hx N M → Z a0 → pq ((FX101_isLet_L n j).2 a0 a1 a3 a4 a5 a6 a7 a8 M) (QA S Z hx N M))
  | 0 => ⟨by intros; exact pq_0, by intros; exact pq_0⟩
  | j + 1 => ⟨fun a0 a1 a3 a4 a5 a6 M w => wX101_isLet_3 S Z hS n _ (wX101_isLet_L S Z hS n j).1 _ (wX101_isLet_L S Z hS n j).2 a0 a1 a3 a4 a5 a6 M w, fun a0 a1 a3 a4 a5 a6 a7 a8 M w => wX101_isLet_22 S Z hS n _ (wX101_isLet_L S Z hS n j).1 _ (wX101_isLet_L S Z hS n j).2 a0 a1 a3 a4 a5 a6 a7 a8 M w⟩
theorem wX101_isLet (S Z : Nat → Prop) {hx N : Nat} (hS : ∀ x, fe_mem lX101_isLet x = true → S x) (n : Nat) (a0 : Nat) (a1 : Int64) (a3 : Int32) (a4 : Int32) (a5 : Int32) (M : FM) (w : WI Z hx N M) (z_a0 : Z a0) : pq (FX101_isLet n a0 a1 a3 a4 a5 M) (QA S Z hx N M) := wX101_isLet_0 S Z hS n _ (wX101_isLet_L S Z hS n n).1 _ (wX101_isLet_L S Z hS n n).2 a0 a1 a3 a4 a5 M w z_a0
def lX93_get : List Nat := []
theorem wX93_get_0 (S Z : Nat → Prop) {hx N : Nat} (hS : ∀ x, fe_mem lX93_get x = true → S x) (a0 : Nat) (a1 : Int64) (M : FM) (w : WI Z hx N M) (z_a0 : Z a0) : pq (FX93_get_0 a0 a1 M) (QA S Z hx N M) := by
  have hN := w.2.2.1
  have w0 := wk_r (S := S) w
  delta FX93_get_0 BX93_get_0
  refine pq_g (fun g1 => ?_)
  have z2 := wk_z (i := 0) (f := 388) w0 rfl z_a0
  have f3 := sS_388 w0.1.1 g1
  refine pq_n ?_
  refine pq_g (fun g4 => ?_)
  refine pq_n ?_
  exact pq_s w0
theorem wX93_get (S Z : Nat → Prop) {hx N : Nat} (hS : ∀ x, fe_mem lX93_get x = true → S x) (a0 : Nat) (a1 : Int64) (M : FM) (w : WI Z hx N M) (z_a0 : Z a0) : pq (FX93_get a0 a1 M) (QA S Z hx N M) := wX93_get_0 S Z hS a0 a1 M w z_a0
def lX93_number : List Nat := []
theorem wX93_number_8 (S Z : Nat → Prop) {hx N : Nat} (hS : ∀ x, fe_mem lX93_number x = true → S x) (n : Nat) (k8 : Nat → Int64 → Int64 → Int32 → FM → Option (Int64 × FM)) (hk8 : ∀ (a0 : Nat) (a1 : Int64) (a4 : Int64) (a6 : Int32) (M : FM), WI Z hx N M → Z a0 → pq (k8 a0 a1 a4 a6 M) (QA S Z hx N M)) (a0 : Nat) (a1 : Int64) (a4 : Int64) (a6 : Int32) (M : FM) (w : WI Z hx N M) (z_a0 : Z a0) : pq (FX93_number_8 n k8 a0 a1 a4 a6 M) (QA S Z hx N M) := by
  have hN := w.2.2.1
  have w0 := wk_r (S := S) w
  delta FX93_number_8 BX93_number_8
  refine pq_fi (fun _ => ?_) (fun _ => ?_)
  · exact pq_s w0
  · refine pq_g (fun g1 => ?_)
    refine pq_b (wX93_get S Z (sb rfl hS) _ _ _ w0.1 z_a0) (fun r2 K3 => ?_)
    have w4 := wk_t w0 K3 hN
    exact q_tA hN w4 (hk8 _ _ _ _ _ w4.1 z_a0)
theorem wX93_number_0 (S Z : Nat → Prop) {hx N : Nat} (hS : ∀ x, fe_mem lX93_number x = true → S x) (n : Nat) (k8 : Nat → Int64 → Int64 → Int32 → FM → Option (Int64 × FM)) (hk8 : ∀ (a0 : Nat) (a1 : Int64) (a4 : Int64) (a6 : Int32) (M : FM), WI Z hx N M → Z a0 → pq (k8 a0 a1 a4 a6 M) (QA S Z hx N M)) (a0 : Nat) (a1 : Int64) (a3 : Int32) (M : FM) (w : WI Z hx N M) (z_a0 : Z a0) : pq (FX93_number_0 n k8 a0 a1 a3 M) (QA S Z hx N M) := by
  have hN := w.2.2.1
  have w0 := wk_r (S := S) w
  delta FX93_number_0 BX93_number_0
  exact q_tA hN w0 (hk8 _ _ _ _ _ w0.1 z_a0)
theorem wX93_number_L (S Z : Nat → Prop) {hx N : Nat} (hS : ∀ x, fe_mem lX93_number x = true → S x) (n : Nat) : ∀ j : Nat, ∀ (a0 : Nat) (a1 : Int64) (a4 : Int64) (a6 : Int32) (M : FM), WI Z hx N M → Z a0 → pq (FX93_number_L8 n j a0 a1 a4 a6 M) (QA S Z hx N M)
  | 0 => by intros; exact pq_0
  | j + 1 => fun a0 a1 a4 a6 M w => wX93_number_8 S Z hS n _ (wX93_number_L S Z hS n j) a0 a1 a4 a6 M w
theorem wX93_number (S Z : Nat → Prop) {hx N : Nat} (hS : ∀ x, fe_mem lX93_number x = true → S x) (n : Nat) (a0 : Nat) (a1 : Int64) (a3 : Int32) (M : FM) (w : WI Z hx N M) (z_a0 : Z a0) : pq (FX93_number n a0 a1 a3 M) (QA S Z hx N M) := wX93_number_0 S Z hS n _ (wX93_number_L S Z hS n n) a0 a1 a3 M w z_a0
def lX101_bit : List Nat := []
theorem wX101_bit_15 (S Z : Nat → Prop) {hx N : Nat} (hS : ∀ x, fe_mem lX101_bit x = true → S x) (s0 : Int32) (M : FM) (w : WI Z hx N M) : pq (FX101_bit_15 s0 M) (QA S Z hx N M) := by
  have hN := w.2.2.1
  have w0 := wk_r (S := S) w
  delta FX101_bit_15 BX101_bit_15
  refine pq_g (fun _ => ?_)
  exact pq_s w0
theorem wX101_bit_0 (S Z : Nat → Prop) {hx N : Nat} (hS : ∀ x, fe_mem lX101_bit x = true → S x) (a0 : Int64) (a2 : Int32) (M : FM) (w : WI Z hx N M) : pq (FX101_bit_0 a0 a2 M) (QA S Z hx N M) := by
  have hN := w.2.2.1
  have w0 := wk_r (S := S) w
  delta FX101_bit_0 BX101_bit_0
  refine pq_fi (fun _ => ?_) (fun _ => ?_)
  · exact q_tA hN w0 (wX101_bit_15 S Z hS _ _ w0.1 )
  · exact q_tA hN w0 (wX101_bit_15 S Z hS _ _ w0.1 )
theorem wX101_bit (S Z : Nat → Prop) {hx N : Nat} (hS : ∀ x, fe_mem lX101_bit x = true → S x) (a0 : Int64) (a2 : Int32) (M : FM) (w : WI Z hx N M) : pq (FX101_bit a0 a2 M) (QA S Z hx N M) := wX101_bit_0 S Z hS a0 a2 M w 
def lX101_isBroken : List Nat := []
theorem wX101_isBroken_38 (S Z : Nat → Prop) {hx N : Nat} (hS : ∀ x, fe_mem lX101_isBroken x = true → S x) (s0 : Int32) (M : FM) (w : WI Z hx N M) : pq (FX101_isBroken_38 s0 M) (QA S Z hx N M) := by
  have hN := w.2.2.1
  have w0 := wk_r (S := S) w
  delta FX101_isBroken_38 BX101_isBroken_38
  refine pq_g (fun _ => ?_)
  exact pq_s w0
theorem wX101_isBroken_33 (S Z : Nat → Prop) {hx N : Nat} (hS : ∀ x, fe_mem lX101_isBroken x = true → S x) (M : FM) (w : WI Z hx N M) : pq (FX101_isBroken_33 M) (QA S Z hx N M) := by
  have hN := w.2.2.1
  have w0 := wk_r (S := S) w
  delta FX101_isBroken_33 BX101_isBroken_33
  exact q_tA hN w0 (wX101_isBroken_38 S Z hS _ _ w0.1 )
theorem wX101_isBroken_24 (S Z : Nat → Prop) {hx N : Nat} (hS : ∀ x, fe_mem lX101_isBroken x = true → S x) (a0 : Int64) (M : FM) (w : WI Z hx N M) : pq (FX101_isBroken_24 a0 M) (QA S Z hx N M) := by
  have hN := w.2.2.1
  have w0 := wk_r (S := S) w
  delta FX101_isBroken_24 BX101_isBroken_24
  refine pq_fi (fun _ => ?_) (fun _ => ?_)
  · exact q_tA hN w0 (wX101_isBroken_38 S Z hS _ _ w0.1 )
  · exact q_tA hN w0 (wX101_isBroken_33 S Z hS _ w0.1 )
theorem wX101_isBroken_0 (S Z : Nat → Prop) {hx N : Nat} (hS : ∀ x, fe_mem lX101_isBroken x = true → S x) (a0 : Int64) (M : FM) (w : WI Z hx N M) : pq (FX101_isBroken_0 a0 M) (QA S Z hx N M) := by
  have hN := w.2.2.1
  have w0 := wk_r (S := S) w
  delta FX101_isBroken_0 BX101_isBroken_0
  refine pq_b (wX101_bit S Z (sb rfl hS) _ _ _ w0.1 ) (fun r1 K2 => ?_)
  have w3 := wk_t w0 K2 hN
  refine pq_fi (fun _ => ?_) (fun _ => ?_)
  · exact q_tA hN w3 (wX101_isBroken_33 S Z hS _ w3.1 )
  · refine pq_b (wX101_bit S Z (sb rfl hS) _ _ _ w3.1 ) (fun r4 K5 => ?_)
    have w6 := wk_t w3 K5 hN
    refine pq_fi (fun _ => ?_) (fun _ => ?_)
    · exact q_tA hN w6 (wX101_isBroken_24 S Z hS _ _ w6.1 )
    · refine pq_b (wX101_bit S Z (sb rfl hS) _ _ _ w6.1 ) (fun r7 K8 => ?_)
      have w9 := wk_t w6 K8 hN
      refine pq_fi (fun _ => ?_) (fun _ => ?_)
      · exact q_tA hN w9 (wX101_isBroken_33 S Z hS _ w9.1 )
      · exact q_tA hN w9 (wX101_isBroken_24 S Z hS _ _ w9.1 )
theorem wX101_isBroken (S Z : Nat → Prop) {hx N : Nat} (hS : ∀ x, fe_mem lX101_isBroken x = true → S x) (a0 : Int64) (M : FM) (w : WI Z hx N M) : pq (FX101_isBroken a0 M) (QA S Z hx N M) := wX101_isBroken_0 S Z hS a0 M w 
def lX101_numberIn : List Nat := []
theorem wX101_numberIn_0 (S Z : Nat → Prop) {hx N : Nat} (hS : ∀ x, fe_mem lX101_numberIn x = true → S x) (a0 : Int64) (M : FM) (w : WI Z hx N M) : pq (FX101_numberIn_0 a0 M) (QA S Z hx N M) := by
  have hN := w.2.2.1
  have w0 := wk_r (S := S) w
  delta FX101_numberIn_0 BX101_numberIn_0
  exact pq_s w0
theorem wX101_numberIn (S Z : Nat → Prop) {hx N : Nat} (hS : ∀ x, fe_mem lX101_numberIn x = true → S x) (a0 : Int64) (M : FM) (w : WI Z hx N M) : pq (FX101_numberIn a0 M) (QA S Z hx N M) := wX101_numberIn_0 S Z hS a0 M w 
def lX101_refuses : List Nat := []
theorem wX101_refuses_108 (S Z : Nat → Prop) {hx N : Nat} (hS : ∀ x, fe_mem lX101_refuses x = true → S x) (s0 : Int32) (M : FM) (w : WI Z hx N M) : pq (FX101_refuses_108 s0 M) (QA S Z hx N M) := by
  have hN := w.2.2.1
  have w0 := wk_r (S := S) w
  delta FX101_refuses_108 BX101_refuses_108
  refine pq_g (fun _ => ?_)
  exact pq_s w0
theorem wX101_refuses_91 (S Z : Nat → Prop) {hx N : Nat} (hS : ∀ x, fe_mem lX101_refuses x = true → S x) (M : FM) (w : WI Z hx N M) : pq (FX101_refuses_91 M) (QA S Z hx N M) := by
  have hN := w.2.2.1
  have w0 := wk_r (S := S) w
  delta FX101_refuses_91 BX101_refuses_91
  exact q_tA hN w0 (wX101_refuses_108 S Z hS _ _ w0.1 )
theorem wX101_refuses_87 (S Z : Nat → Prop) {hx N : Nat} (hS : ∀ x, fe_mem lX101_refuses x = true → S x) (M : FM) (w : WI Z hx N M) : pq (FX101_refuses_87 M) (QA S Z hx N M) := by
  have hN := w.2.2.1
  have w0 := wk_r (S := S) w
  delta FX101_refuses_87 BX101_refuses_87
  exact q_tA hN w0 (wX101_refuses_108 S Z hS _ _ w0.1 )
theorem wX101_refuses_58 (S Z : Nat → Prop) {hx N : Nat} (hS : ∀ x, fe_mem lX101_refuses x = true → S x) (s0 : Int32) (M : FM) (w : WI Z hx N M) : pq (FX101_refuses_58 s0 M) (QA S Z hx N M) := by
  have hN := w.2.2.1
  have w0 := wk_r (S := S) w
  delta FX101_refuses_58 BX101_refuses_58
  refine pq_g (fun _ => ?_)
  exact pq_s w0
theorem wX101_refuses_41 (S Z : Nat → Prop) {hx N : Nat} (hS : ∀ x, fe_mem lX101_refuses x = true → S x) (a0 : Nat) (a1 : Int64) (a3 : Int32) (M : FM) (w : WI Z hx N M) (z_a0 : Z a0) : pq (FX101_refuses_41 a0 a1 a3 M) (QA S Z hx N M) := by
  have hN := w.2.2.1
  have w0 := wk_r (S := S) w
  delta FX101_refuses_41 BX101_refuses_41
  refine pq_fi (fun _ => ?_) (fun _ => ?_)
  · refine pq_b (wX101_bit S Z (sb rfl hS) _ _ _ w0.1 ) (fun r1 K2 => ?_)
    have w3 := wk_t w0 K2 hN
    refine pq_fi (fun _ => ?_) (fun _ => ?_)
    · exact q_tA hN w3 (wX101_refuses_58 S Z hS _ _ w3.1 )
    · exact q_tA hN w3 (wX101_refuses_58 S Z hS _ _ w3.1 )
  · refine pq_fi (fun _ => ?_) (fun _ => ?_)
    · refine pq_b (wX101_bit S Z (sb rfl hS) _ _ _ w0.1 ) (fun r4 K5 => ?_)
      have w6 := wk_t w0 K5 hN
      refine pq_fi (fun _ => ?_) (fun _ => ?_)
      · refine pq_g (fun g7 => ?_)
        refine pq_fi (fun _ => ?_) (fun _ => ?_)
        · exact q_tA hN w6 (wX101_refuses_87 S Z hS _ w6.1 )
        · refine pq_b (wX101_bit S Z (sb rfl hS) _ _ _ w6.1 ) (fun r8 K9 => ?_)
          have w10 := wk_t w6 K9 hN
          refine pq_fi (fun _ => ?_) (fun _ => ?_)
          · exact q_tA hN w10 (wX101_refuses_87 S Z hS _ w10.1 )
          · exact q_tA hN w10 (wX101_refuses_91 S Z hS _ w10.1 )
      · exact q_tA hN w6 (wX101_refuses_91 S Z hS _ w6.1 )
    · refine pq_b (wX101_bit S Z (sb rfl hS) _ _ _ w0.1 ) (fun r11 K12 => ?_)
      have w13 := wk_t w0 K12 hN
      refine pq_fi (fun _ => ?_) (fun _ => ?_)
      · exact q_tA hN w13 (wX101_refuses_108 S Z hS _ _ w13.1 )
      · exact q_tA hN w13 (wX101_refuses_108 S Z hS _ _ w13.1 )
theorem wX101_refuses_39 (S Z : Nat → Prop) {hx N : Nat} (hS : ∀ x, fe_mem lX101_refuses x = true → S x) (M : FM) (w : WI Z hx N M) : pq (FX101_refuses_39 M) (QA S Z hx N M) := by
  have hN := w.2.2.1
  have w0 := wk_r (S := S) w
  delta FX101_refuses_39 BX101_refuses_39
  refine pq_g (fun _ => ?_)
  exact pq_s w0
theorem wX101_refuses_17 (S Z : Nat → Prop) {hx N : Nat} (hS : ∀ x, fe_mem lX101_refuses x = true → S x) (a0 : Nat) (a1 : Int64) (a3 : Int32) (a4 : Int32) (a5 : Int32) (M : FM) (w : WI Z hx N M) (z_a0 : Z a0) : pq (FX101_refuses_17 a0 a1 a3 a4 a5 M) (QA S Z hx N M) := by
  have hN := w.2.2.1
  have w0 := wk_r (S := S) w
  delta FX101_refuses_17 BX101_refuses_17
  refine pq_fi (fun _ => ?_) (fun _ => ?_)
  · refine pq_fi (fun _ => ?_) (fun _ => ?_)
    · exact q_tA hN w0 (wX101_refuses_41 S Z hS _ _ _ _ w0.1 z_a0)
    · refine pq_fi (fun _ => ?_) (fun _ => ?_)
      · exact q_tA hN w0 (wX101_refuses_39 S Z hS _ w0.1 )
      · refine pq_g (fun g1 => ?_)
        refine pq_fi (fun _ => ?_) (fun _ => ?_)
        · exact q_tA hN w0 (wX101_refuses_39 S Z hS _ w0.1 )
        · exact q_tA hN w0 (wX101_refuses_41 S Z hS _ _ _ _ w0.1 z_a0)
  · exact q_tA hN w0 (wX101_refuses_41 S Z hS _ _ _ _ w0.1 z_a0)
theorem wX101_refuses_0 (S Z : Nat → Prop) {hx N : Nat} (hS : ∀ x, fe_mem lX101_refuses x = true → S x) (a0 : Nat) (a1 : Int64) (a3 : Int32) (a4 : Int32) (M : FM) (w : WI Z hx N M) (z_a0 : Z a0) : pq (FX101_refuses_0 a0 a1 a3 a4 M) (QA S Z hx N M) := by
  have hN := w.2.2.1
  have w0 := wk_r (S := S) w
  delta FX101_refuses_0 BX101_refuses_0
  refine pq_b (wX101_bit S Z (sb rfl hS) _ _ _ w0.1 ) (fun r1 K2 => ?_)
  have w3 := wk_t w0 K2 hN
  refine pq_fi (fun _ => ?_) (fun _ => ?_)
  · refine pq_fi (fun _ => ?_) (fun _ => ?_)
    · exact q_tA hN w3 (wX101_refuses_39 S Z hS _ w3.1 )
    · exact q_tA hN w3 (wX101_refuses_17 S Z hS _ _ _ _ _ _ w3.1 z_a0)
  · exact q_tA hN w3 (wX101_refuses_17 S Z hS _ _ _ _ _ _ w3.1 z_a0)
theorem wX101_refuses (S Z : Nat → Prop) {hx N : Nat} (hS : ∀ x, fe_mem lX101_refuses x = true → S x) (a0 : Nat) (a1 : Int64) (a3 : Int32) (a4 : Int32) (M : FM) (w : WI Z hx N M) (z_a0 : Z a0) : pq (FX101_refuses a0 a1 a3 a4 M) (QA S Z hx N M) := wX101_refuses_0 S Z hS a0 a1 a3 a4 M w z_a0
def lX93_keep : List Nat := [1388, 1389, 1391]
theorem wX93_keep_3 (S Z : Nat → Prop) {hx N : Nat} (hS : ∀ x, fe_mem lX93_keep x = true → S x) (n : Nat) (k3 : Nat → Int64 → Int32 → Int64 → Int32 → FM → Option (FM)) (hk3 : ∀ (a0 : Nat) (a1 : Int64) (a3 : Int32) (a4 : Int64) (a6 : Int32) (M : FM), WI Z hx N M → Z a0 → pq (k3 a0 a1 a3 a4 a6 M) (QV S Z hx N M)) (a0 : Nat) (a1 : Int64) (a3 : Int32) (a4 : Int64) (a6 : Int32) (M : FM) (w : WI Z hx N M) (z_a0 : Z a0) : pq (FX93_keep_3 n k3 a0 a1 a3 a4 a6 M) (QV S Z hx N M) := by
  have hN := w.2.2.1
  have w0 := wk_r (S := S) w
  delta FX93_keep_3 BX93_keep_3
  refine pq_fi (fun _ => ?_) (fun _ => ?_)
  · exact pq_s w0
  · refine pq_g (fun g1 => ?_)
    refine pq_b (wX93_put S Z (sb rfl hS) n _ _ _ _ w0.1 z_a0) (fun r2 K3 => ?_)
    have w4 := wk_t w0 K3 hN
    exact q_tV hN w4 (hk3 _ _ _ _ _ _ w4.1 z_a0)
theorem wX93_keep_0 (S Z : Nat → Prop) {hx N : Nat} (hS : ∀ x, fe_mem lX93_keep x = true → S x) (n : Nat) (k3 : Nat → Int64 → Int32 → Int64 → Int32 → FM → Option (FM)) (hk3 : ∀ (a0 : Nat) (a1 : Int64) (a3 : Int32) (a4 : Int64) (a6 : Int32) (M : FM), WI Z hx N M → Z a0 → pq (k3 a0 a1 a3 a4 a6 M) (QV S Z hx N M)) (a0 : Nat) (a1 : Int64) (a3 : Int32) (a4 : Int64) (M : FM) (w : WI Z hx N M) (z_a0 : Z a0) : pq (FX93_keep_0 n k3 a0 a1 a3 a4 M) (QV S Z hx N M) := by
  have hN := w.2.2.1
  have w0 := wk_r (S := S) w
  delta FX93_keep_0 BX93_keep_0
  exact q_tV hN w0 (hk3 _ _ _ _ _ _ w0.1 z_a0)
theorem wX93_keep_L (S Z : Nat → Prop) {hx N : Nat} (hS : ∀ x, fe_mem lX93_keep x = true → S x) (n : Nat) : ∀ j : Nat, ∀ (a0 : Nat) (a1 : Int64) (a3 : Int32) (a4 : Int64) (a6 : Int32) (M : FM), WI Z hx N M → Z a0 → pq (FX93_keep_L3 n j a0 a1 a3 a4 a6 M) (QV S Z hx N M)
  | 0 => by intros; exact pq_0
  | j + 1 => fun a0 a1 a3 a4 a6 M w => wX93_keep_3 S Z hS n _ (wX93_keep_L S Z hS n j) a0 a1 a3 a4 a6 M w
theorem wX93_keep (S Z : Nat → Prop) {hx N : Nat} (hS : ∀ x, fe_mem lX93_keep x = true → S x) (n : Nat) (a0 : Nat) (a1 : Int64) (a3 : Int32) (a4 : Int64) (M : FM) (w : WI Z hx N M) (z_a0 : Z a0) : pq (FX93_keep n a0 a1 a3 a4 M) (QV S Z hx N M) := wX93_keep_0 S Z hS n _ (wX93_keep_L S Z hS n n) a0 a1 a3 a4 M w z_a0
def lX101_last : List Nat := [429, 430, 1388, 1389, 1391]
theorem wX101_last_125 (S Z : Nat → Prop) {hx N : Nat} (hS : ∀ x, fe_mem lX101_last x = true → S x) (n : Nat) (a1 : Int64) (a8 : Int64) (a10 : Int64) (M : FM) (w : WI Z hx N M) : pq (FX101_last_125 n a1 a8 a10 M) (QA S Z hx N M) := by
  have hN := w.2.2.1
  have w0 := wk_r (S := S) w
  delta FX101_last_125 BX101_last_125
  refine pq_b (wX101_numberIn S Z (sb rfl hS) _ _ w0.1 ) (fun r1 K2 => ?_)
  have w3 := wk_t w0 K2 hN
  exact pq_s w3
theorem wX101_last_121 (S Z : Nat → Prop) {hx N : Nat} (hS : ∀ x, fe_mem lX101_last x = true → S x) (n : Nat) (a1 : Int64) (a8 : Int64) (a10 : Int64) (s0 : Nat) (s1 : Int64) (s2 : Int32) (s3 : Int64) (s4 : Int64) (M : FM) (w : WI Z hx N M) (z_s0 : Z s0) : pq (FX101_last_121 n a1 a8 a10 s0 s1 s2 s3 s4 M) (QA S Z hx N M) := by
  have hN := w.2.2.1
  have w0 := wk_r (S := S) w
  delta FX101_last_121 BX101_last_121
  refine pq_g (fun g1 => ?_)
  refine pq_b (wX93_keep S Z (sb rfl hS) n _ _ _ _ _ w0.1 z_s0) (fun r2 K3 => ?_)
  have w4 := wk_t w0 K3 hN
  exact q_tA hN w4 (wX101_last_125 S Z hS n _ _ _ _ w4.1 )
theorem wX101_last_79 (S Z : Nat → Prop) {hx N : Nat} (hS : ∀ x, fe_mem lX101_last x = true → S x) (n : Nat) (a0 : Nat) (a1 : Int64) (a3 : Int32) (a5 : Int64) (a8 : Int64) (a10 : Int64) (M : FM) (w : WI Z hx N M) (z_a0 : Z a0) : pq (FX101_last_79 n a0 a1 a3 a5 a8 a10 M) (QA S Z hx N M) := by
  have hN := w.2.2.1
  have w0 := wk_r (S := S) w
  delta FX101_last_79 BX101_last_79
  refine pq_g (fun g1 => ?_)
  refine pq_b (wX101_isLet S Z (sb rfl hS) n _ _ _ _ _ _ w0.1 z_a0) (fun r2 K3 => ?_)
  have w4 := wk_t w0 K3 hN
  refine pq_fi (fun _ => ?_) (fun _ => ?_)
  · refine pq_b (wX101_accessFault S Z (sb rfl hS) _ _ w4.1 ) (fun r5 K6 => ?_)
    have w7 := wk_t w4 K6 hN
    exact pq_s w7
  · refine pq_g (fun g8 => ?_)
    have z9 := wk_z (i := 0) (f := 423) w4 rfl z_a0
    refine pq_fi (fun _ => ?_) (fun _ => ?_)
    · exact q_tA hN w4 (wX101_last_121 S Z hS n _ _ _ _ _ _ _ _ _ w4.1 z9)
    · exact q_tA hN w4 (wX101_last_121 S Z hS n _ _ _ _ _ _ _ _ _ w4.1 z9)
theorem wX101_last_49 (S Z : Nat → Prop) {hx N : Nat} (hS : ∀ x, fe_mem lX101_last x = true → S x) (n : Nat) (a3 : Int32) (M : FM) (w : WI Z hx N M) : pq (FX101_last_49 n a3 M) (QA S Z hx N M) := by
  have hN := w.2.2.1
  have w0 := wk_r (S := S) w
  delta FX101_last_49 BX101_last_49
  refine pq_b (wX101_pageFault S Z (sb rfl hS) _ _ w0.1 ) (fun r1 K2 => ?_)
  have w3 := wk_t w0 K2 hN
  exact pq_s w3
theorem wX101_last_0 (S Z : Nat → Prop) {hx N : Nat} (hS : ∀ x, fe_mem lX101_last x = true → S x) (n : Nat) (a0 : Nat) (a1 : Int64) (a3 : Int32) (a4 : Int32) (a5 : Int64) (a7 : Int32) (M : FM) (w : WI Z hx N M) (z_a0 : Z a0) : pq (FX101_last_0 n a0 a1 a3 a4 a5 a7 M) (QA S Z hx N M) := by
  have hN := w.2.2.1
  have w0 := wk_r (S := S) w
  delta FX101_last_0 BX101_last_0
  refine pq_g (fun g1 => ?_)
  have z2 := wk_z (i := 0) (f := 423) w0 rfl z_a0
  refine pq_g (fun g3 => ?_)
  refine pq_b (wX93_number S Z (sb rfl hS) n _ _ _ _ w0.1 z2) (fun r4 K5 => ?_)
  have w6 := wk_t w0 K5 hN
  refine pq_b (wX101_numberIn S Z (sb rfl hS) _ _ w6.1 ) (fun r7 K8 => ?_)
  have w9 := wk_t w6 K8 hN
  refine pq_fi (fun _ => ?_) (fun _ => ?_)
  · refine pq_g (fun g10 => ?_)
    refine pq_b (wX101_refuses S Z (sb rfl hS) _ _ _ _ _ w9.1 z_a0) (fun r11 K12 => ?_)
    have w13 := wk_t w9 K12 hN
    refine pq_fi (fun _ => ?_) (fun _ => ?_)
    · refine pq_b (wX101_bit S Z (sb rfl hS) _ _ _ w13.1 ) (fun r14 K15 => ?_)
      have w16 := wk_t w13 K15 hN
      refine pq_fi (fun _ => ?_) (fun _ => ?_)
      · exact q_tA hN w16 (wX101_last_79 S Z hS n _ _ _ _ _ _ _ w16.1 z_a0)
      · refine pq_fi (fun _ => ?_) (fun _ => ?_)
        · refine pq_b (wX101_bit S Z (sb rfl hS) _ _ _ w16.1 ) (fun r17 K18 => ?_)
          have w19 := wk_t w16 K18 hN
          refine pq_fi (fun _ => ?_) (fun _ => ?_)
          · exact q_tA hN w19 (wX101_last_79 S Z hS n _ _ _ _ _ _ _ w19.1 z_a0)
          · exact q_tA hN w19 (wX101_last_125 S Z hS n _ _ _ _ w19.1 )
        · exact q_tA hN w16 (wX101_last_125 S Z hS n _ _ _ _ w16.1 )
    · exact q_tA hN w13 (wX101_last_49 S Z hS n _ _ w13.1 )
  · exact q_tA hN w9 (wX101_last_49 S Z hS n _ _ w9.1 )
theorem wX101_last (S Z : Nat → Prop) {hx N : Nat} (hS : ∀ x, fe_mem lX101_last x = true → S x) (n : Nat) (a0 : Nat) (a1 : Int64) (a3 : Int32) (a4 : Int32) (a5 : Int64) (a7 : Int32) (M : FM) (w : WI Z hx N M) (z_a0 : Z a0) : pq (FX101_last n a0 a1 a3 a4 a5 a7 M) (QA S Z hx N M) := wX101_last_0 S Z hS n a0 a1 a3 a4 a5 a7 M w z_a0
def lX101_walk : List Nat := [429, 430, 1388, 1389, 1391]
theorem wX101_walk_222 (S Z : Nat → Prop) {hx N : Nat} (hS : ∀ x, fe_mem lX101_walk x = true → S x) (n : Nat) (k70 : Nat → Int64 → Int32 → Int32 → Int64 → Int32 → FM → Option (Int64 × FM)) (hk70 : ∀ (a0 : Nat) (a1 : Int64) (a3 : Int32) (a4 : Int32) (a8 : Int64) (a10 : Int32) (M : FM), WI Z hx N M → Z a0 → pq (k70 a0 a1 a3 a4 a8 a10 M) (QA S Z hx N M)) (a3 : Int32) (M : FM) (w : WI Z hx N M) : pq (FX101_walk_222 n k70 a3 M) (QA S Z hx N M) := by
  have hN := w.2.2.1
  have w0 := wk_r (S := S) w
  delta FX101_walk_222 BX101_walk_222
  refine pq_b (wX101_pageFault S Z (sb rfl hS) _ _ w0.1 ) (fun r1 K2 => ?_)
  have w3 := wk_t w0 K2 hN
  exact pq_s w3
theorem wX101_walk_175 (S Z : Nat → Prop) {hx N : Nat} (hS : ∀ x, fe_mem lX101_walk x = true → S x) (n : Nat) (k70 : Nat → Int64 → Int32 → Int32 → Int64 → Int32 → FM → Option (Int64 × FM)) (hk70 : ∀ (a0 : Nat) (a1 : Int64) (a3 : Int32) (a4 : Int32) (a8 : Int64) (a10 : Int32) (M : FM), WI Z hx N M → Z a0 → pq (k70 a0 a1 a3 a4 a8 a10 M) (QA S Z hx N M)) (a0 : Nat) (a1 : Int64) (a3 : Int32) (a4 : Int32) (a10 : Int32) (a11 : Int64) (M : FM) (w : WI Z hx N M) (z_a0 : Z a0) : pq (FX101_walk_175 n k70 a0 a1 a3 a4 a10 a11 M) (QA S Z hx N M) := by
  have hN := w.2.2.1
  have w0 := wk_r (S := S) w
  delta FX101_walk_175 BX101_walk_175
  refine pq_g (fun g1 => ?_)
  refine pq_b (wX101_last S Z (sb rfl hS) n _ _ _ _ _ _ _ w0.1 z_a0) (fun r2 K3 => ?_)
  have w4 := wk_t w0 K3 hN
  exact pq_s w4
theorem wX101_walk_126 (S Z : Nat → Prop) {hx N : Nat} (hS : ∀ x, fe_mem lX101_walk x = true → S x) (n : Nat) (k70 : Nat → Int64 → Int32 → Int32 → Int64 → Int32 → FM → Option (Int64 × FM)) (hk70 : ∀ (a0 : Nat) (a1 : Int64) (a3 : Int32) (a4 : Int32) (a8 : Int64) (a10 : Int32) (M : FM), WI Z hx N M → Z a0 → pq (k70 a0 a1 a3 a4 a8 a10 M) (QA S Z hx N M)) (a3 : Int32) (M : FM) (w : WI Z hx N M) : pq (FX101_walk_126 n k70 a3 M) (QA S Z hx N M) := by
  have hN := w.2.2.1
  have w0 := wk_r (S := S) w
  delta FX101_walk_126 BX101_walk_126
  refine pq_b (wX101_accessFault S Z (sb rfl hS) _ _ w0.1 ) (fun r1 K2 => ?_)
  have w3 := wk_t w0 K2 hN
  exact pq_s w3
theorem wX101_walk_70 (S Z : Nat → Prop) {hx N : Nat} (hS : ∀ x, fe_mem lX101_walk x = true → S x) (n : Nat) (k70 : Nat → Int64 → Int32 → Int32 → Int64 → Int32 → FM → Option (Int64 × FM)) (hk70 : ∀ (a0 : Nat) (a1 : Int64) (a3 : Int32) (a4 : Int32) (a8 : Int64) (a10 : Int32) (M : FM), WI Z hx N M → Z a0 → pq (k70 a0 a1 a3 a4 a8 a10 M) (QA S Z hx N M)) (a0 : Nat) (a1 : Int64) (a3 : Int32) (a4 : Int32) (a8 : Int64) (a10 : Int32) (M : FM) (w : WI Z hx N M) (z_a0 : Z a0) : pq (FX101_walk_70 n k70 a0 a1 a3 a4 a8 a10 M) (QA S Z hx N M) := by
  have hN := w.2.2.1
  have w0 := wk_r (S := S) w
  delta FX101_walk_70 BX101_walk_70
  refine pq_fi (fun _ => ?_) (fun _ => ?_)
  · refine pq_b (wX101_pageFault S Z (sb rfl hS) _ _ w0.1 ) (fun r1 K2 => ?_)
    have w3 := wk_t w0 K2 hN
    exact pq_s w3
  · refine pq_b (wX93_areBytes S Z (sb rfl hS) _ _ _ w0.1 ) (fun r4 K5 => ?_)
    have w6 := wk_t w0 K5 hN
    refine pq_fi (fun _ => ?_) (fun _ => ?_)
    · exact q_tA hN w6 (wX101_walk_126 S Z hS n _ hk70 _ _ w6.1 )
    · refine pq_g (fun g7 => ?_)
      refine pq_b (wX101_isLet S Z (sb rfl hS) n _ _ _ _ _ _ w6.1 z_a0) (fun r8 K9 => ?_)
      have w10 := wk_t w6 K9 hN
      refine pq_fi (fun _ => ?_) (fun _ => ?_)
      · exact q_tA hN w10 (wX101_walk_126 S Z hS n _ hk70 _ _ w10.1 )
      · refine pq_g (fun g11 => ?_)
        have z12 := wk_z (i := 0) (f := 423) w10 rfl z_a0
        refine pq_g (fun g13 => ?_)
        refine pq_b (wX93_number S Z (sb rfl hS) n _ _ _ _ w10.1 z12) (fun r14 K15 => ?_)
        have w16 := wk_t w10 K15 hN
        refine pq_b (wX101_isBroken S Z (sb rfl hS) _ _ w16.1 ) (fun r17 K18 => ?_)
        have w19 := wk_t w16 K18 hN
        refine pq_fi (fun _ => ?_) (fun _ => ?_)
        · refine pq_b (wX101_bit S Z (sb rfl hS) _ _ _ w19.1 ) (fun r20 K21 => ?_)
          have w22 := wk_t w19 K21 hN
          refine pq_fi (fun _ => ?_) (fun _ => ?_)
          · refine pq_b (wX101_bit S Z (sb rfl hS) _ _ _ w22.1 ) (fun r23 K24 => ?_)
            have w25 := wk_t w22 K24 hN
            refine pq_fi (fun _ => ?_) (fun _ => ?_)
            · refine pq_fi (fun _ => ?_) (fun _ => ?_)
              · exact q_tA hN w25 (wX101_walk_222 S Z hS n _ hk70 _ _ w25.1 )
              · refine pq_b (wX101_bit S Z (sb rfl hS) _ _ _ w25.1 ) (fun r26 K27 => ?_)
                have w28 := wk_t w25 K27 hN
                refine pq_fi (fun _ => ?_) (fun _ => ?_)
                · refine pq_b (wX101_bit S Z (sb rfl hS) _ _ _ w28.1 ) (fun r29 K30 => ?_)
                  have w31 := wk_t w28 K30 hN
                  refine pq_fi (fun _ => ?_) (fun _ => ?_)
                  · refine pq_b (wX101_bit S Z (sb rfl hS) _ _ _ w31.1 ) (fun r32 K33 => ?_)
                    have w34 := wk_t w31 K33 hN
                    refine pq_fi (fun _ => ?_) (fun _ => ?_)
                    · refine pq_b (wX101_numberIn S Z (sb rfl hS) _ _ w34.1 ) (fun r35 K36 => ?_)
                      have w37 := wk_t w34 K36 hN
                      exact q_tA hN w37 (hk70 _ _ _ _ _ _ _ w37.1 z_a0)
                    · exact q_tA hN w34 (wX101_walk_222 S Z hS n _ hk70 _ _ w34.1 )
                  · exact q_tA hN w31 (wX101_walk_222 S Z hS n _ hk70 _ _ w31.1 )
                · exact q_tA hN w28 (wX101_walk_222 S Z hS n _ hk70 _ _ w28.1 )
            · exact q_tA hN w25 (wX101_walk_175 S Z hS n _ hk70 _ _ _ _ _ _ _ w25.1 z_a0)
          · exact q_tA hN w22 (wX101_walk_175 S Z hS n _ hk70 _ _ _ _ _ _ _ w22.1 z_a0)
        · refine pq_b (wX101_pageFault S Z (sb rfl hS) _ _ w19.1 ) (fun r38 K39 => ?_)
          have w40 := wk_t w19 K39 hN
          exact pq_s w40
theorem wX101_walk_54 (S Z : Nat → Prop) {hx N : Nat} (hS : ∀ x, fe_mem lX101_walk x = true → S x) (n : Nat) (k70 : Nat → Int64 → Int32 → Int32 → Int64 → Int32 → FM → Option (Int64 × FM)) (hk70 : ∀ (a0 : Nat) (a1 : Int64) (a3 : Int32) (a4 : Int32) (a8 : Int64) (a10 : Int32) (M : FM), WI Z hx N M → Z a0 → pq (k70 a0 a1 a3 a4 a8 a10 M) (QA S Z hx N M)) (a0 : Nat) (a1 : Int64) (a3 : Int32) (a4 : Int32) (a5 : Int32) (M : FM) (w : WI Z hx N M) (z_a0 : Z a0) : pq (FX101_walk_54 n k70 a0 a1 a3 a4 a5 M) (QA S Z hx N M) := by
  have hN := w.2.2.1
  have w0 := wk_r (S := S) w
  delta FX101_walk_54 BX101_walk_54
  refine pq_g (fun g1 => ?_)
  exact q_tA hN w0 (hk70 _ _ _ _ _ _ _ w0.1 z_a0)
theorem wX101_walk_19 (S Z : Nat → Prop) {hx N : Nat} (hS : ∀ x, fe_mem lX101_walk x = true → S x) (n : Nat) (k70 : Nat → Int64 → Int32 → Int32 → Int64 → Int32 → FM → Option (Int64 × FM)) (hk70 : ∀ (a0 : Nat) (a1 : Int64) (a3 : Int32) (a4 : Int32) (a8 : Int64) (a10 : Int32) (M : FM), WI Z hx N M → Z a0 → pq (k70 a0 a1 a3 a4 a8 a10 M) (QA S Z hx N M)) (a0 : Nat) (a1 : Int64) (a3 : Int32) (a4 : Int32) (s0 : Int32) (M : FM) (w : WI Z hx N M) (z_a0 : Z a0) : pq (FX101_walk_19 n k70 a0 a1 a3 a4 s0 M) (QA S Z hx N M) := by
  have hN := w.2.2.1
  have w0 := wk_r (S := S) w
  delta FX101_walk_19 BX101_walk_19
  refine pq_fi (fun _ => ?_) (fun _ => ?_)
  · exact q_tA hN w0 (wX101_walk_54 S Z hS n _ hk70 _ _ _ _ _ _ w0.1 z_a0)
  · refine pq_fi (fun _ => ?_) (fun _ => ?_)
    · exact q_tA hN w0 (wX101_walk_54 S Z hS n _ hk70 _ _ _ _ _ _ w0.1 z_a0)
    · refine pq_b (wX101_pageFault S Z (sb rfl hS) _ _ w0.1 ) (fun r1 K2 => ?_)
      have w3 := wk_t w0 K2 hN
      exact pq_s w3
theorem wX101_walk_0 (S Z : Nat → Prop) {hx N : Nat} (hS : ∀ x, fe_mem lX101_walk x = true → S x) (n : Nat) (k70 : Nat → Int64 → Int32 → Int32 → Int64 → Int32 → FM → Option (Int64 × FM)) (hk70 : ∀ (a0 : Nat) (a1 : Int64) (a3 : Int32) (a4 : Int32) (a8 : Int64) (a10 : Int32) (M : FM), WI Z hx N M → Z a0 → pq (k70 a0 a1 a3 a4 a8 a10 M) (QA S Z hx N M)) (a0 : Nat) (a1 : Int64) (a3 : Int32) (a4 : Int32) (M : FM) (w : WI Z hx N M) (z_a0 : Z a0) : pq (FX101_walk_0 n k70 a0 a1 a3 a4 M) (QA S Z hx N M) := by
  have hN := w.2.2.1
  have w0 := wk_r (S := S) w
  delta FX101_walk_0 BX101_walk_0
  refine pq_g (fun g1 => ?_)
  refine pq_b (wX101_sortOf S Z (sb rfl hS) _ _ w0.1 ) (fun r2 K3 => ?_)
  have w4 := wk_t w0 K3 hN
  refine pq_fi (fun _ => ?_) (fun _ => ?_)
  · exact q_tA hN w4 (wX101_walk_19 S Z hS n _ hk70 _ _ _ _ _ _ w4.1 z_a0)
  · exact q_tA hN w4 (wX101_walk_19 S Z hS n _ hk70 _ _ _ _ _ _ w4.1 z_a0)
theorem wX101_walk_L (S Z : Nat → Prop) {hx N : Nat} (hS : ∀ x, fe_mem lX101_walk x = true → S x) (n : Nat) : ∀ j : Nat, ∀ (a0 : Nat) (a1 : Int64) (a3 : Int32) (a4 : Int32) (a8 : Int64) (a10 : Int32) (M : FM), WI Z hx N M → Z a0 → pq (FX101_walk_L70 n j a0 a1 a3 a4 a8 a10 M) (QA S Z hx N M)
  | 0 => by intros; exact pq_0
  | j + 1 => fun a0 a1 a3 a4 a8 a10 M w => wX101_walk_70 S Z hS n _ (wX101_walk_L S Z hS n j) a0 a1 a3 a4 a8 a10 M w
theorem wX101_walk (S Z : Nat → Prop) {hx N : Nat} (hS : ∀ x, fe_mem lX101_walk x = true → S x) (n : Nat) (a0 : Nat) (a1 : Int64) (a3 : Int32) (a4 : Int32) (M : FM) (w : WI Z hx N M) (z_a0 : Z a0) : pq (FX101_walk n a0 a1 a3 a4 M) (QA S Z hx N M) := wX101_walk_0 S Z hS n _ (wX101_walk_L S Z hS n n) a0 a1 a3 a4 M w z_a0
def lX101_find : List Nat := [422, 429, 430, 1388, 1389, 1391]
theorem wX101_find_131 (S Z : Nat → Prop) {hx N : Nat} (hS : ∀ x, fe_mem lX101_find x = true → S x) (n : Nat) (s0 : Int64) (M : FM) (w : WI Z hx N M) : pq (FX101_find_131 n s0 M) (QA S Z hx N M) := by
  have hN := w.2.2.1
  have w0 := wk_r (S := S) w
  delta FX101_find_131 BX101_find_131
  exact pq_s w0
theorem wX101_find_122 (S Z : Nat → Prop) {hx N : Nat} (hS : ∀ x, fe_mem lX101_find x = true → S x) (n : Nat) (a7 : Int64) (M : FM) (w : WI Z hx N M) : pq (FX101_find_122 n a7 M) (QA S Z hx N M) := by
  have hN := w.2.2.1
  have w0 := wk_r (S := S) w
  delta FX101_find_122 BX101_find_122
  exact q_tA hN w0 (wX101_find_131 S Z hS n _ _ w0.1 )
theorem wX101_find_99 (S Z : Nat → Prop) {hx N : Nat} (hS : ∀ x, fe_mem lX101_find x = true → S x) (n : Nat) (a0 : Nat) (a3 : Int32) (a4 : Int32) (a5 : Int32) (s0 : Int64) (M : FM) (w : WI Z hx N M) (z_a0 : Z a0) : pq (FX101_find_99 n a0 a3 a4 a5 s0 M) (QA S Z hx N M) := by
  have hN := w.2.2.1
  have w0 := wk_r (S := S) w
  delta FX101_find_99 BX101_find_99
  refine pq_fi (fun _ => ?_) (fun _ => ?_)
  · exact q_tA hN w0 (wX101_find_122 S Z hS n _ _ w0.1 )
  · refine pq_g (fun g1 => ?_)
    refine pq_b (wX101_isLet S Z (sb rfl hS) n _ _ _ _ _ _ w0.1 z_a0) (fun r2 K3 => ?_)
    have w4 := wk_t w0 K3 hN
    refine pq_fi (fun _ => ?_) (fun _ => ?_)
    · refine pq_b (wX101_accessFault S Z (sb rfl hS) _ _ w4.1 ) (fun r5 K6 => ?_)
      have w7 := wk_t w4 K6 hN
      exact q_tA hN w7 (wX101_find_131 S Z hS n _ _ w7.1 )
    · exact q_tA hN w4 (wX101_find_122 S Z hS n _ _ w4.1 )
theorem wX101_find_82 (S Z : Nat → Prop) {hx N : Nat} (hS : ∀ x, fe_mem lX101_find x = true → S x) (n : Nat) (a0 : Nat) (a1 : Int64) (a3 : Int32) (a4 : Int32) (a5 : Int32) (a6 : Int32) (M : FM) (w : WI Z hx N M) (z_a0 : Z a0) : pq (FX101_find_82 n a0 a1 a3 a4 a5 a6 M) (QA S Z hx N M) := by
  have hN := w.2.2.1
  have w0 := wk_r (S := S) w
  delta FX101_find_82 BX101_find_82
  refine pq_fi (fun _ => ?_) (fun _ => ?_)
  · refine pq_g (fun g1 => ?_)
    refine pq_b (wX101_walk S Z (sb rfl hS) n _ _ _ _ _ w0.1 z_a0) (fun r2 K3 => ?_)
    have w4 := wk_t w0 K3 hN
    exact q_tA hN w4 (wX101_find_99 S Z hS n _ _ _ _ _ _ w4.1 z_a0)
  · exact q_tA hN w0 (wX101_find_99 S Z hS n _ _ _ _ _ _ w0.1 z_a0)
theorem wX101_find_61 (S Z : Nat → Prop) {hx N : Nat} (hS : ∀ x, fe_mem lX101_find x = true → S x) (n : Nat) (a0 : Nat) (a1 : Int64) (a3 : Int32) (a4 : Int32) (a5 : Int32) (s0 : Int32) (M : FM) (w : WI Z hx N M) (z_a0 : Z a0) : pq (FX101_find_61 n a0 a1 a3 a4 a5 s0 M) (QA S Z hx N M) := by
  have hN := w.2.2.1
  have w0 := wk_r (S := S) w
  delta FX101_find_61 BX101_find_61
  refine pq_fi (fun _ => ?_) (fun _ => ?_)
  · exact q_tA hN w0 (wX101_find_82 S Z hS n _ _ _ _ _ _ _ w0.1 z_a0)
  · refine pq_fi (fun _ => ?_) (fun _ => ?_)
    · exact q_tA hN w0 (wX101_find_82 S Z hS n _ _ _ _ _ _ _ w0.1 z_a0)
    · refine pq_b (wX101_accessFault S Z (sb rfl hS) _ _ w0.1 ) (fun r1 K2 => ?_)
      have w3 := wk_t w0 K2 hN
      exact pq_s w3
theorem wX101_find_56 (S Z : Nat → Prop) {hx N : Nat} (hS : ∀ x, fe_mem lX101_find x = true → S x) (n : Nat) (a0 : Nat) (a1 : Int64) (a3 : Int32) (a4 : Int32) (a5 : Int32) (M : FM) (w : WI Z hx N M) (z_a0 : Z a0) : pq (FX101_find_56 n a0 a1 a3 a4 a5 M) (QA S Z hx N M) := by
  have hN := w.2.2.1
  have w0 := wk_r (S := S) w
  delta FX101_find_56 BX101_find_56
  exact q_tA hN w0 (wX101_find_61 S Z hS n _ _ _ _ _ _ _ w0.1 z_a0)
theorem wX101_find_26 (S Z : Nat → Prop) {hx N : Nat} (hS : ∀ x, fe_mem lX101_find x = true → S x) (n : Nat) (a0 : Nat) (a1 : Int64) (a3 : Int32) (a4 : Int32) (a5 : Int32) (s0 : Nat) (s1 : Int32) (M : FM) (w : WI Z hx N M) (z_a0 : Z a0) (z_s0 : Z s0) : pq (FX101_find_26 n a0 a1 a3 a4 a5 s0 s1 M) (QA S Z hx N M) := by
  have hN := w.2.2.1
  have w0 := wk_r (S := S) w
  delta FX101_find_26 BX101_find_26
  refine pq_g (fun g1 => ?_)
  extract_lets +onlyGivenNames M3
  have w2 : Wk S Z hx N M M3 := wk_fI hN w0 rfl rfl g1 z_s0 (Or.inr (hS 422 rfl))
  refine pq_g (fun g4 => ?_)
  refine pq_fi (fun _ => ?_) (fun _ => ?_)
  · refine pq_fi (fun _ => ?_) (fun _ => ?_)
    · exact q_tA hN w2 (wX101_find_56 S Z hS n _ _ _ _ _ _ w2.1 z_a0)
    · refine pq_g (fun g5 => ?_)
      refine pq_b (wX101_sortOf S Z (sb rfl hS) _ _ w2.1 ) (fun r6 K7 => ?_)
      have w8 := wk_t w2 K7 hN
      refine pq_fi (fun _ => ?_) (fun _ => ?_)
      · exact q_tA hN w8 (wX101_find_56 S Z hS n _ _ _ _ _ _ w8.1 z_a0)
      · exact q_tA hN w8 (wX101_find_61 S Z hS n _ _ _ _ _ _ _ w8.1 z_a0)
  · exact pq_s w2
theorem wX101_find_25 (S Z : Nat → Prop) {hx N : Nat} (hS : ∀ x, fe_mem lX101_find x = true → S x) (n : Nat) (a0 : Nat) (a1 : Int64) (a3 : Int32) (a4 : Int32) (a5 : Int32) (s0 : Nat) (M : FM) (w : WI Z hx N M) (z_a0 : Z a0) (z_s0 : Z s0) : pq (FX101_find_25 n a0 a1 a3 a4 a5 s0 M) (QA S Z hx N M) := by
  have hN := w.2.2.1
  have w0 := wk_r (S := S) w
  delta FX101_find_25 BX101_find_25
  exact q_tA hN w0 (wX101_find_26 S Z hS n _ _ _ _ _ _ _ _ w0.1 z_a0 z_s0)
theorem wX101_find_0 (S Z : Nat → Prop) {hx N : Nat} (hS : ∀ x, fe_mem lX101_find x = true → S x) (n : Nat) (a0 : Nat) (a1 : Int64) (a3 : Int32) (a4 : Int32) (a5 : Int32) (M : FM) (w : WI Z hx N M) (z_a0 : Z a0) : pq (FX101_find_0 n a0 a1 a3 a4 a5 M) (QA S Z hx N M) := by
  have hN := w.2.2.1
  have w0 := wk_r (S := S) w
  delta FX101_find_0 BX101_find_0
  refine pq_b (wX101_isAccess S Z (sb rfl hS) _ _ _ _ w0.1 ) (fun r1 K2 => ?_)
  have w3 := wk_t w0 K2 hN
  refine pq_fi (fun _ => ?_) (fun _ => ?_)
  · exact q_tA hN w3 (wX101_find_25 S Z hS n _ _ _ _ _ _ _ w3.1 z_a0 z_a0)
  · refine pq_b (wX101_isWithin S Z (sb rfl hS) _ _ _ w3.1 ) (fun r4 K5 => ?_)
    have w6 := wk_t w3 K5 hN
    refine pq_fi (fun _ => ?_) (fun _ => ?_)
    · exact q_tA hN w6 (wX101_find_25 S Z hS n _ _ _ _ _ _ _ w6.1 z_a0 z_a0)
    · exact q_tA hN w6 (wX101_find_26 S Z hS n _ _ _ _ _ _ _ _ w6.1 z_a0 z_a0)
theorem wX101_find (S Z : Nat → Prop) {hx N : Nat} (hS : ∀ x, fe_mem lX101_find x = true → S x) (n : Nat) (a0 : Nat) (a1 : Int64) (a3 : Int32) (a4 : Int32) (a5 : Int32) (M : FM) (w : WI Z hx N M) (z_a0 : Z a0) : pq (FX101_find n a0 a1 a3 a4 a5 M) (QA S Z hx N M) := wX101_find_0 S Z hS n a0 a1 a3 a4 a5 M w z_a0
def lX92_fail : List Nat := [320, 321]
theorem wX92_fail_0 (S Z : Nat → Prop) {hx N : Nat} (hS : ∀ x, fe_mem lX92_fail x = true → S x) (a0 : Nat) (a1 : Int32) (a2 : Int64) (M : FM) (w : WI Z hx N M) (z_a0 : Z a0) : pq (FX92_fail_0 a0 a1 a2 M) (QA S Z hx N M) := by
  have hN := w.2.2.1
  have w0 := wk_r (S := S) w
  delta FX92_fail_0 BX92_fail_0
  refine pq_g (fun g1 => ?_)
  extract_lets +onlyGivenNames M3
  have w2 : Wk S Z hx N M M3 := wk_fI hN w0 rfl rfl g1 z_a0 (Or.inr (hS 320 rfl))
  refine pq_g (fun g4 => ?_)
  extract_lets +onlyGivenNames M6
  have w5 : Wk S Z hx N M M6 := wk_fL hN w2 rfl rfl g4 z_a0 (Or.inr (hS 321 rfl))
  refine pq_g (fun _ => ?_)
  exact pq_s w5
theorem wX92_fail (S Z : Nat → Prop) {hx N : Nat} (hS : ∀ x, fe_mem lX92_fail x = true → S x) (a0 : Nat) (a1 : Int32) (a2 : Int64) (M : FM) (w : WI Z hx N M) (z_a0 : Z a0) : pq (FX92_fail a0 a1 a2 M) (QA S Z hx N M) := wX92_fail_0 S Z hS a0 a1 a2 M w z_a0
def lX92_half : List Nat := [320, 321, 358, 422, 429, 430, 1388, 1389, 1391]
theorem wX92_half_89 (S Z : Nat → Prop) {hx N : Nat} (hS : ∀ x, fe_mem lX92_half x = true → S x) (n : Nat) (s0 : Int32) (M : FM) (w : WI Z hx N M) : pq (FX92_half_89 n s0 M) (QA S Z hx N M) := by
  have hN := w.2.2.1
  have w0 := wk_r (S := S) w
  delta FX92_half_89 BX92_half_89
  exact pq_s w0
theorem wX92_half_67 (S Z : Nat → Prop) {hx N : Nat} (hS : ∀ x, fe_mem lX92_half x = true → S x) (n : Nat) (a0 : Nat) (a4 : Int64) (s0 : Int32) (M : FM) (w : WI Z hx N M) (z_a0 : Z a0) : pq (FX92_half_67 n a0 a4 s0 M) (QA S Z hx N M) := by
  have hN := w.2.2.1
  have w0 := wk_r (S := S) w
  delta FX92_half_67 BX92_half_67
  refine pq_fi (fun _ => ?_) (fun _ => ?_)
  · exact q_tA hN w0 (wX92_half_89 S Z hS n _ _ w0.1 )
  · refine pq_g (fun g1 => ?_)
    have z2 := wk_z (i := 0) (f := 298) w0 rfl z_a0
    refine pq_g (fun g3 => ?_)
    refine pq_b (wX93_number S Z (sb rfl hS) n _ _ _ _ w0.1 z2) (fun r4 K5 => ?_)
    have w6 := wk_t w0 K5 hN
    exact q_tA hN w6 (wX92_half_89 S Z hS n _ _ w6.1 )
theorem wX92_half_62 (S Z : Nat → Prop) {hx N : Nat} (hS : ∀ x, fe_mem lX92_half x = true → S x) (n : Nat) (a0 : Nat) (a4 : Int64) (M : FM) (w : WI Z hx N M) (z_a0 : Z a0) : pq (FX92_half_62 n a0 a4 M) (QA S Z hx N M) := by
  have hN := w.2.2.1
  have w0 := wk_r (S := S) w
  delta FX92_half_62 BX92_half_62
  exact q_tA hN w0 (wX92_half_67 S Z hS n _ _ _ _ w0.1 z_a0)
theorem wX92_half_0 (S Z : Nat → Prop) {hx N : Nat} (hS : ∀ x, fe_mem lX92_half x = true → S x) (n : Nat) (a0 : Nat) (a1 : Int32) (a2 : Int64) (M : FM) (w : WI Z hx N M) (z_a0 : Z a0) (i_a1 : a1.toNatClampNeg = hx) : pq (FX92_half_0 n a0 a1 a2 M) (QA S Z hx N M) := by
  have hN := w.2.2.1
  have w0 := wk_r (S := S) w
  delta FX92_half_0 BX92_half_0
  refine pq_g (fun g1 => ?_)
  have z2 := wk_z (i := 0) (f := 306) w0 rfl z_a0
  have f3 := sS_306 w0.1.1 g1
  refine pq_g (fun g4 => ?_)
  have z5 := wk_zx w0 z2 i_a1
  refine pq_g (fun g6 => ?_)
  have z7 := wk_z (i := 0) (f := 305) w0 rfl z_a0
  have f8 := sS_305 w0.1.1 g6
  refine pq_g (fun g9 => ?_)
  have z10 := wk_zx w0 z7 i_a1
  refine pq_g (fun g11 => ?_)
  refine pq_b (wX100_mode S Z (sb rfl hS) _ _ w0.1 z10) (fun r12 K13 => ?_)
  have w14 := wk_t w0 K13 hN
  refine pq_g (fun g15 => ?_)
  refine pq_b (wX101_find S Z (sb rfl hS) n _ _ _ _ _ _ w14.1 z5) (fun r16 K17 => ?_)
  have w18 := wk_t w14 K17 hN
  refine pq_fi (fun _ => ?_) (fun _ => ?_)
  · refine pq_b (wX93_areBytes S Z (sb rfl hS) _ _ _ w18.1 ) (fun r19 K20 => ?_)
    have w21 := wk_t w18 K20 hN
    refine pq_fi (fun _ => ?_) (fun _ => ?_)
    · refine pq_g (fun g22 => ?_)
      refine pq_b (wX92_fail S Z (sb rfl hS) _ _ _ _ w21.1 z_a0) (fun r23 K24 => ?_)
      have w25 := wk_t w21 K24 hN
      refine pq_fi (fun _ => ?_) (fun _ => ?_)
      · exact q_tA hN w25 (wX92_half_67 S Z hS n _ _ _ _ w25.1 z_a0)
      · exact q_tA hN w25 (wX92_half_62 S Z hS n _ _ _ w25.1 z_a0)
    · exact q_tA hN w21 (wX92_half_62 S Z hS n _ _ _ w21.1 z_a0)
  · refine pq_g (fun g26 => ?_)
    refine pq_b (wX92_fail S Z (sb rfl hS) _ _ _ _ w18.1 z_a0) (fun r27 K28 => ?_)
    have w29 := wk_t w18 K28 hN
    exact q_tA hN w29 (wX92_half_67 S Z hS n _ _ _ _ w29.1 z_a0)
theorem wX92_half (S Z : Nat → Prop) {hx N : Nat} (hS : ∀ x, fe_mem lX92_half x = true → S x) (n : Nat) (a0 : Nat) (a1 : Int32) (a2 : Int64) (M : FM) (w : WI Z hx N M) (z_a0 : Z a0) (i_a1 : a1.toNatClampNeg = hx) : pq (FX92_half n a0 a1 a2 M) (QA S Z hx N M) := wX92_half_0 S Z hS n a0 a1 a2 M w z_a0 i_a1
def lX94_bits : List Nat := []
theorem wX94_bits_5 (S Z : Nat → Prop) {hx N : Nat} (hS : ∀ x, fe_mem lX94_bits x = true → S x) (n : Nat) (k5 : Nat → Int32 → Int32 → Int32 → FM → Option (Int32 × FM)) (hk5 : ∀ (a0 : Nat) (a2 : Int32) (a3 : Int32) (a4 : Int32) (M : FM), WI Z hx N M → Z a0 → pq (k5 a0 a2 a3 a4 M) (QA S Z hx N M)) (a0 : Nat) (a2 : Int32) (a3 : Int32) (a4 : Int32) (M : FM) (w : WI Z hx N M) (z_a0 : Z a0) : pq (FX94_bits_5 n k5 a0 a2 a3 a4 M) (QA S Z hx N M) := by
  have hN := w.2.2.1
  have w0 := wk_r (S := S) w
  delta FX94_bits_5 BX94_bits_5
  refine pq_fi (fun _ => ?_) (fun _ => ?_)
  · exact pq_s w0
  · refine pq_g (fun g1 => ?_)
    exact q_tA hN w0 (hk5 _ _ _ _ _ w0.1 z_a0)
theorem wX94_bits_0 (S Z : Nat → Prop) {hx N : Nat} (hS : ∀ x, fe_mem lX94_bits x = true → S x) (n : Nat) (k5 : Nat → Int32 → Int32 → Int32 → FM → Option (Int32 × FM)) (hk5 : ∀ (a0 : Nat) (a2 : Int32) (a3 : Int32) (a4 : Int32) (M : FM), WI Z hx N M → Z a0 → pq (k5 a0 a2 a3 a4 M) (QA S Z hx N M)) (a0 : Nat) (a1 : Int32) (a2 : Int32) (M : FM) (w : WI Z hx N M) (z_a0 : Z a0) : pq (FX94_bits_0 n k5 a0 a1 a2 M) (QA S Z hx N M) := by
  have hN := w.2.2.1
  have w0 := wk_r (S := S) w
  delta FX94_bits_0 BX94_bits_0
  exact q_tA hN w0 (hk5 _ _ _ _ _ w0.1 z_a0)
theorem wX94_bits_L (S Z : Nat → Prop) {hx N : Nat} (hS : ∀ x, fe_mem lX94_bits x = true → S x) (n : Nat) : ∀ j : Nat, ∀ (a0 : Nat) (a2 : Int32) (a3 : Int32) (a4 : Int32) (M : FM), WI Z hx N M → Z a0 → pq (FX94_bits_L5 n j a0 a2 a3 a4 M) (QA S Z hx N M)
  | 0 => by intros; exact pq_0
  | j + 1 => fun a0 a2 a3 a4 M w => wX94_bits_5 S Z hS n _ (wX94_bits_L S Z hS n j) a0 a2 a3 a4 M w
theorem wX94_bits (S Z : Nat → Prop) {hx N : Nat} (hS : ∀ x, fe_mem lX94_bits x = true → S x) (n : Nat) (a0 : Nat) (a1 : Int32) (a2 : Int32) (M : FM) (w : WI Z hx N M) (z_a0 : Z a0) : pq (FX94_bits n a0 a1 a2 M) (QA S Z hx N M) := wX94_bits_0 S Z hS n _ (wX94_bits_L S Z hS n n) a0 a1 a2 M w z_a0
def lX94_eights : List Nat := []
theorem wX94_eights_0 (S Z : Nat → Prop) {hx N : Nat} (hS : ∀ x, fe_mem lX94_eights x = true → S x) (n : Nat) (a0 : Nat) (M : FM) (w : WI Z hx N M) (z_a0 : Z a0) : pq (FX94_eights_0 n a0 M) (QA S Z hx N M) := by
  have hN := w.2.2.1
  have w0 := wk_r (S := S) w
  delta FX94_eights_0 BX94_eights_0
  refine pq_g (fun g1 => ?_)
  refine pq_b (wX94_bits S Z (sb rfl hS) n _ _ _ _ w0.1 z_a0) (fun r2 K3 => ?_)
  have w4 := wk_t w0 K3 hN
  refine pq_g (fun g5 => ?_)
  refine pq_b (wX94_bits S Z (sb rfl hS) n _ _ _ _ w4.1 z_a0) (fun r6 K7 => ?_)
  have w8 := wk_t w4 K7 hN
  exact pq_s w8
theorem wX94_eights (S Z : Nat → Prop) {hx N : Nat} (hS : ∀ x, fe_mem lX94_eights x = true → S x) (n : Nat) (a0 : Nat) (M : FM) (w : WI Z hx N M) (z_a0 : Z a0) : pq (FX94_eights n a0 M) (QA S Z hx N M) := wX94_eights_0 S Z hS n a0 M w z_a0
def lX94_fours : List Nat := []
theorem wX94_fours_0 (S Z : Nat → Prop) {hx N : Nat} (hS : ∀ x, fe_mem lX94_fours x = true → S x) (n : Nat) (a0 : Nat) (M : FM) (w : WI Z hx N M) (z_a0 : Z a0) : pq (FX94_fours_0 n a0 M) (QA S Z hx N M) := by
  have hN := w.2.2.1
  have w0 := wk_r (S := S) w
  delta FX94_fours_0 BX94_fours_0
  refine pq_g (fun g1 => ?_)
  refine pq_b (wX94_bits S Z (sb rfl hS) n _ _ _ _ w0.1 z_a0) (fun r2 K3 => ?_)
  have w4 := wk_t w0 K3 hN
  refine pq_g (fun g5 => ?_)
  refine pq_b (wX94_bits S Z (sb rfl hS) n _ _ _ _ w4.1 z_a0) (fun r6 K7 => ?_)
  have w8 := wk_t w4 K7 hN
  refine pq_g (fun g9 => ?_)
  refine pq_b (wX94_bits S Z (sb rfl hS) n _ _ _ _ w8.1 z_a0) (fun r10 K11 => ?_)
  have w12 := wk_t w8 K11 hN
  exact pq_s w12
theorem wX94_fours (S Z : Nat → Prop) {hx N : Nat} (hS : ∀ x, fe_mem lX94_fours x = true → S x) (n : Nat) (a0 : Nat) (M : FM) (w : WI Z hx N M) (z_a0 : Z a0) : pq (FX94_fours n a0 M) (QA S Z hx N M) := wX94_fours_0 S Z hS n a0 M w z_a0
def lX94_wordI : List Nat := []
theorem wX94_wordI_0 (S Z : Nat → Prop) {hx N : Nat} (hS : ∀ x, fe_mem lX94_wordI x = true → S x) (a0 : Int32) (a1 : Int32) (a2 : Int32) (a3 : Int32) (a4 : Int32) (M : FM) (w : WI Z hx N M) : pq (FX94_wordI_0 a0 a1 a2 a3 a4 M) (QA S Z hx N M) := by
  have hN := w.2.2.1
  have w0 := wk_r (S := S) w
  delta FX94_wordI_0 BX94_wordI_0
  exact pq_s w0
theorem wX94_wordI (S Z : Nat → Prop) {hx N : Nat} (hS : ∀ x, fe_mem lX94_wordI x = true → S x) (a0 : Int32) (a1 : Int32) (a2 : Int32) (a3 : Int32) (a4 : Int32) (M : FM) (w : WI Z hx N M) : pq (FX94_wordI a0 a1 a2 a3 a4 M) (QA S Z hx N M) := wX94_wordI_0 S Z hS a0 a1 a2 a3 a4 M w 
def lX94_wordS : List Nat := []
theorem wX94_wordS_0 (S Z : Nat → Prop) {hx N : Nat} (hS : ∀ x, fe_mem lX94_wordS x = true → S x) (a0 : Int32) (a1 : Int32) (a2 : Int32) (a3 : Int32) (a4 : Int32) (M : FM) (w : WI Z hx N M) : pq (FX94_wordS_0 a0 a1 a2 a3 a4 M) (QA S Z hx N M) := by
  have hN := w.2.2.1
  have w0 := wk_r (S := S) w
  delta FX94_wordS_0 BX94_wordS_0
  exact pq_s w0
theorem wX94_wordS (S Z : Nat → Prop) {hx N : Nat} (hS : ∀ x, fe_mem lX94_wordS x = true → S x) (a0 : Int32) (a1 : Int32) (a2 : Int32) (a3 : Int32) (a4 : Int32) (M : FM) (w : WI Z hx N M) : pq (FX94_wordS a0 a1 a2 a3 a4 M) (QA S Z hx N M) := wX94_wordS_0 S Z hS a0 a1 a2 a3 a4 M w 
def lX94_quadrant0 : List Nat := []
theorem wX94_quadrant0_215 (S Z : Nat → Prop) {hx N : Nat} (hS : ∀ x, fe_mem lX94_quadrant0 x = true → S x) (n : Nat) (M : FM) (w : WI Z hx N M) : pq (FX94_quadrant0_215 n M) (QA S Z hx N M) := by
  have hN := w.2.2.1
  have w0 := wk_r (S := S) w
  delta FX94_quadrant0_215 BX94_quadrant0_215
  exact pq_s w0
theorem wX94_quadrant0_138 (S Z : Nat → Prop) {hx N : Nat} (hS : ∀ x, fe_mem lX94_quadrant0 x = true → S x) (n : Nat) (s0 : Int32) (M : FM) (w : WI Z hx N M) : pq (FX94_quadrant0_138 n s0 M) (QA S Z hx N M) := by
  have hN := w.2.2.1
  have w0 := wk_r (S := S) w
  delta FX94_quadrant0_138 BX94_quadrant0_138
  exact pq_s w0
theorem wX94_quadrant0_0 (S Z : Nat → Prop) {hx N : Nat} (hS : ∀ x, fe_mem lX94_quadrant0 x = true → S x) (n : Nat) (a0 : Nat) (M : FM) (w : WI Z hx N M) (z_a0 : Z a0) : pq (FX94_quadrant0_0 n a0 M) (QA S Z hx N M) := by
  have hN := w.2.2.1
  have w0 := wk_r (S := S) w
  delta FX94_quadrant0_0 BX94_quadrant0_0
  refine pq_g (fun g1 => ?_)
  refine pq_b (wX94_bits S Z (sb rfl hS) n _ _ _ _ w0.1 z_a0) (fun r2 K3 => ?_)
  have w4 := wk_t w0 K3 hN
  refine pq_g (fun g5 => ?_)
  refine pq_b (wX94_bits S Z (sb rfl hS) n _ _ _ _ w4.1 z_a0) (fun r6 K7 => ?_)
  have w8 := wk_t w4 K7 hN
  refine pq_g (fun g9 => ?_)
  refine pq_b (wX94_bits S Z (sb rfl hS) n _ _ _ _ w8.1 z_a0) (fun r10 K11 => ?_)
  have w12 := wk_t w8 K11 hN
  refine pq_fi (fun _ => ?_) (fun _ => ?_)
  · refine pq_g (fun g13 => ?_)
    refine pq_b (wX94_bits S Z (sb rfl hS) n _ _ _ _ w12.1 z_a0) (fun r14 K15 => ?_)
    have w16 := wk_t w12 K15 hN
    refine pq_g (fun g17 => ?_)
    refine pq_b (wX94_bits S Z (sb rfl hS) n _ _ _ _ w16.1 z_a0) (fun r18 K19 => ?_)
    have w20 := wk_t w16 K19 hN
    refine pq_g (fun g21 => ?_)
    refine pq_b (wX94_bits S Z (sb rfl hS) n _ _ _ _ w20.1 z_a0) (fun r22 K23 => ?_)
    have w24 := wk_t w20 K23 hN
    refine pq_g (fun g25 => ?_)
    refine pq_b (wX94_bits S Z (sb rfl hS) n _ _ _ _ w24.1 z_a0) (fun r26 K27 => ?_)
    have w28 := wk_t w24 K27 hN
    refine pq_fi (fun _ => ?_) (fun _ => ?_)
    · exact q_tA hN w28 (wX94_quadrant0_138 S Z hS n _ _ w28.1 )
    · refine pq_b (wX94_wordI S Z (sb rfl hS) _ _ _ _ _ _ w28.1 ) (fun r29 K30 => ?_)
      have w31 := wk_t w28 K30 hN
      exact q_tA hN w31 (wX94_quadrant0_138 S Z hS n _ _ w31.1 )
  · refine pq_fi (fun _ => ?_) (fun _ => ?_)
    · refine pq_g (fun g32 => ?_)
      refine pq_b (wX94_eights S Z (sb rfl hS) n _ _ w12.1 z_a0) (fun r33 K34 => ?_)
      have w35 := wk_t w12 K34 hN
      refine pq_b (wX94_wordI S Z (sb rfl hS) _ _ _ _ _ _ w35.1 ) (fun r36 K37 => ?_)
      have w38 := wk_t w35 K37 hN
      exact pq_s w38
    · refine pq_fi (fun _ => ?_) (fun _ => ?_)
      · refine pq_g (fun g39 => ?_)
        refine pq_b (wX94_fours S Z (sb rfl hS) n _ _ w12.1 z_a0) (fun r40 K41 => ?_)
        have w42 := wk_t w12 K41 hN
        refine pq_b (wX94_wordI S Z (sb rfl hS) _ _ _ _ _ _ w42.1 ) (fun r43 K44 => ?_)
        have w45 := wk_t w42 K44 hN
        exact pq_s w45
      · refine pq_fi (fun _ => ?_) (fun _ => ?_)
        · refine pq_g (fun g46 => ?_)
          refine pq_b (wX94_eights S Z (sb rfl hS) n _ _ w12.1 z_a0) (fun r47 K48 => ?_)
          have w49 := wk_t w12 K48 hN
          refine pq_b (wX94_wordI S Z (sb rfl hS) _ _ _ _ _ _ w49.1 ) (fun r50 K51 => ?_)
          have w52 := wk_t w49 K51 hN
          exact pq_s w52
        · refine pq_fi (fun _ => ?_) (fun _ => ?_)
          · exact q_tA hN w12 (wX94_quadrant0_215 S Z hS n _ w12.1 )
          · refine pq_fi (fun _ => ?_) (fun _ => ?_)
            · refine pq_g (fun g53 => ?_)
              refine pq_b (wX94_eights S Z (sb rfl hS) n _ _ w12.1 z_a0) (fun r54 K55 => ?_)
              have w56 := wk_t w12 K55 hN
              refine pq_b (wX94_wordS S Z (sb rfl hS) _ _ _ _ _ _ w56.1 ) (fun r57 K58 => ?_)
              have w59 := wk_t w56 K58 hN
              exact pq_s w59
            · refine pq_fi (fun _ => ?_) (fun _ => ?_)
              · refine pq_g (fun g60 => ?_)
                refine pq_b (wX94_fours S Z (sb rfl hS) n _ _ w12.1 z_a0) (fun r61 K62 => ?_)
                have w63 := wk_t w12 K62 hN
                refine pq_b (wX94_wordS S Z (sb rfl hS) _ _ _ _ _ _ w63.1 ) (fun r64 K65 => ?_)
                have w66 := wk_t w63 K65 hN
                exact pq_s w66
              · refine pq_fi (fun _ => ?_) (fun _ => ?_)
                · refine pq_g (fun g67 => ?_)
                  refine pq_b (wX94_eights S Z (sb rfl hS) n _ _ w12.1 z_a0) (fun r68 K69 => ?_)
                  have w70 := wk_t w12 K69 hN
                  refine pq_b (wX94_wordS S Z (sb rfl hS) _ _ _ _ _ _ w70.1 ) (fun r71 K72 => ?_)
                  have w73 := wk_t w70 K72 hN
                  exact pq_s w73
                · exact q_tA hN w12 (wX94_quadrant0_215 S Z hS n _ w12.1 )
theorem wX94_quadrant0 (S Z : Nat → Prop) {hx N : Nat} (hS : ∀ x, fe_mem lX94_quadrant0 x = true → S x) (n : Nat) (a0 : Nat) (M : FM) (w : WI Z hx N M) (z_a0 : Z a0) : pq (FX94_quadrant0 n a0 M) (QA S Z hx N M) := wX94_quadrant0_0 S Z hS n a0 M w z_a0
def lX94_plain : List Nat := []
theorem wX94_plain_0 (S Z : Nat → Prop) {hx N : Nat} (hS : ∀ x, fe_mem lX94_plain x = true → S x) (n : Nat) (a0 : Nat) (M : FM) (w : WI Z hx N M) (z_a0 : Z a0) : pq (FX94_plain_0 n a0 M) (QA S Z hx N M) := by
  have hN := w.2.2.1
  have w0 := wk_r (S := S) w
  delta FX94_plain_0 BX94_plain_0
  refine pq_g (fun g1 => ?_)
  refine pq_b (wX94_bits S Z (sb rfl hS) n _ _ _ _ w0.1 z_a0) (fun r2 K3 => ?_)
  have w4 := wk_t w0 K3 hN
  refine pq_g (fun g5 => ?_)
  refine pq_b (wX94_bits S Z (sb rfl hS) n _ _ _ _ w4.1 z_a0) (fun r6 K7 => ?_)
  have w8 := wk_t w4 K7 hN
  exact pq_s w8
theorem wX94_plain (S Z : Nat → Prop) {hx N : Nat} (hS : ∀ x, fe_mem lX94_plain x = true → S x) (n : Nat) (a0 : Nat) (M : FM) (w : WI Z hx N M) (z_a0 : Z a0) : pq (FX94_plain n a0 M) (QA S Z hx N M) := wX94_plain_0 S Z hS n a0 M w z_a0
def lX94_signed : List Nat := []
theorem wX94_signed_0 (S Z : Nat → Prop) {hx N : Nat} (hS : ∀ x, fe_mem lX94_signed x = true → S x) (n : Nat) (a0 : Nat) (M : FM) (w : WI Z hx N M) (z_a0 : Z a0) : pq (FX94_signed_0 n a0 M) (QA S Z hx N M) := by
  have hN := w.2.2.1
  have w0 := wk_r (S := S) w
  delta FX94_signed_0 BX94_signed_0
  refine pq_g (fun g1 => ?_)
  refine pq_b (wX94_plain S Z (sb rfl hS) n _ _ w0.1 z_a0) (fun r2 K3 => ?_)
  have w4 := wk_t w0 K3 hN
  refine pq_g (fun g5 => ?_)
  refine pq_b (wX94_bits S Z (sb rfl hS) n _ _ _ _ w4.1 z_a0) (fun r6 K7 => ?_)
  have w8 := wk_t w4 K7 hN
  exact pq_s w8
theorem wX94_signed (S Z : Nat → Prop) {hx N : Nat} (hS : ∀ x, fe_mem lX94_signed x = true → S x) (n : Nat) (a0 : Nat) (M : FM) (w : WI Z hx N M) (z_a0 : Z a0) : pq (FX94_signed n a0 M) (QA S Z hx N M) := wX94_signed_0 S Z hS n a0 M w z_a0
def lX94_wordR : List Nat := []
theorem wX94_wordR_0 (S Z : Nat → Prop) {hx N : Nat} (hS : ∀ x, fe_mem lX94_wordR x = true → S x) (a0 : Int32) (a1 : Int32) (a2 : Int32) (a3 : Int32) (a4 : Int32) (a5 : Int32) (M : FM) (w : WI Z hx N M) : pq (FX94_wordR_0 a0 a1 a2 a3 a4 a5 M) (QA S Z hx N M) := by
  have hN := w.2.2.1
  have w0 := wk_r (S := S) w
  delta FX94_wordR_0 BX94_wordR_0
  refine pq_b (wX94_wordI S Z (sb rfl hS) _ _ _ _ _ _ w0.1 ) (fun r1 K2 => ?_)
  have w3 := wk_t w0 K2 hN
  exact pq_s w3
theorem wX94_wordR (S Z : Nat → Prop) {hx N : Nat} (hS : ∀ x, fe_mem lX94_wordR x = true → S x) (a0 : Int32) (a1 : Int32) (a2 : Int32) (a3 : Int32) (a4 : Int32) (a5 : Int32) (M : FM) (w : WI Z hx N M) : pq (FX94_wordR a0 a1 a2 a3 a4 a5 M) (QA S Z hx N M) := wX94_wordR_0 S Z hS a0 a1 a2 a3 a4 a5 M w 
def lX94_arithmetic : List Nat := []
theorem wX94_arithmetic_0 (S Z : Nat → Prop) {hx N : Nat} (hS : ∀ x, fe_mem lX94_arithmetic x = true → S x) (n : Nat) (a0 : Nat) (M : FM) (w : WI Z hx N M) (z_a0 : Z a0) : pq (FX94_arithmetic_0 n a0 M) (QA S Z hx N M) := by
  have hN := w.2.2.1
  have w0 := wk_r (S := S) w
  delta FX94_arithmetic_0 BX94_arithmetic_0
  refine pq_g (fun g1 => ?_)
  refine pq_b (wX94_bits S Z (sb rfl hS) n _ _ _ _ w0.1 z_a0) (fun r2 K3 => ?_)
  have w4 := wk_t w0 K3 hN
  refine pq_g (fun g5 => ?_)
  refine pq_b (wX94_bits S Z (sb rfl hS) n _ _ _ _ w4.1 z_a0) (fun r6 K7 => ?_)
  have w8 := wk_t w4 K7 hN
  refine pq_g (fun g9 => ?_)
  refine pq_b (wX94_bits S Z (sb rfl hS) n _ _ _ _ w8.1 z_a0) (fun r10 K11 => ?_)
  have w12 := wk_t w8 K11 hN
  refine pq_fi (fun _ => ?_) (fun _ => ?_)
  · refine pq_fi (fun _ => ?_) (fun _ => ?_)
    · refine pq_g (fun g13 => ?_)
      refine pq_b (wX94_signed S Z (sb rfl hS) n _ _ w12.1 z_a0) (fun r14 K15 => ?_)
      have w16 := wk_t w12 K15 hN
      refine pq_b (wX94_wordI S Z (sb rfl hS) _ _ _ _ _ _ w16.1 ) (fun r17 K18 => ?_)
      have w19 := wk_t w16 K18 hN
      exact pq_s w19
    · refine pq_g (fun g20 => ?_)
      refine pq_b (wX94_bits S Z (sb rfl hS) n _ _ _ _ w12.1 z_a0) (fun r21 K22 => ?_)
      have w23 := wk_t w12 K22 hN
      refine pq_g (fun g24 => ?_)
      refine pq_b (wX94_bits S Z (sb rfl hS) n _ _ _ _ w23.1 z_a0) (fun r25 K26 => ?_)
      have w27 := wk_t w23 K26 hN
      refine pq_fi (fun _ => ?_) (fun _ => ?_)
      · refine pq_b (wX94_wordR S Z (sb rfl hS) _ _ _ _ _ _ _ w27.1 ) (fun r28 K29 => ?_)
        have w30 := wk_t w27 K29 hN
        exact pq_s w30
      · refine pq_fi (fun _ => ?_) (fun _ => ?_)
        · refine pq_b (wX94_wordR S Z (sb rfl hS) _ _ _ _ _ _ _ w27.1 ) (fun r31 K32 => ?_)
          have w33 := wk_t w27 K32 hN
          exact pq_s w33
        · refine pq_fi (fun _ => ?_) (fun _ => ?_)
          · refine pq_b (wX94_wordR S Z (sb rfl hS) _ _ _ _ _ _ _ w27.1 ) (fun r34 K35 => ?_)
            have w36 := wk_t w27 K35 hN
            exact pq_s w36
          · refine pq_fi (fun _ => ?_) (fun _ => ?_)
            · refine pq_b (wX94_wordR S Z (sb rfl hS) _ _ _ _ _ _ _ w27.1 ) (fun r37 K38 => ?_)
              have w39 := wk_t w27 K38 hN
              exact pq_s w39
            · refine pq_fi (fun _ => ?_) (fun _ => ?_)
              · refine pq_b (wX94_wordR S Z (sb rfl hS) _ _ _ _ _ _ _ w27.1 ) (fun r40 K41 => ?_)
                have w42 := wk_t w27 K41 hN
                exact pq_s w42
              · refine pq_fi (fun _ => ?_) (fun _ => ?_)
                · refine pq_b (wX94_wordR S Z (sb rfl hS) _ _ _ _ _ _ _ w27.1 ) (fun r43 K44 => ?_)
                  have w45 := wk_t w27 K44 hN
                  exact pq_s w45
                · exact pq_s w27
  · refine pq_g (fun g46 => ?_)
    refine pq_b (wX94_plain S Z (sb rfl hS) n _ _ w12.1 z_a0) (fun r47 K48 => ?_)
    have w49 := wk_t w12 K48 hN
    refine pq_b (wX94_wordI S Z (sb rfl hS) _ _ _ _ _ _ w49.1 ) (fun r50 K51 => ?_)
    have w52 := wk_t w49 K51 hN
    exact pq_s w52
theorem wX94_arithmetic (S Z : Nat → Prop) {hx N : Nat} (hS : ∀ x, fe_mem lX94_arithmetic x = true → S x) (n : Nat) (a0 : Nat) (M : FM) (w : WI Z hx N M) (z_a0 : Z a0) : pq (FX94_arithmetic n a0 M) (QA S Z hx N M) := wX94_arithmetic_0 S Z hS n a0 M w z_a0
def lX94_upper : List Nat := []
theorem wX94_upper_107 (S Z : Nat → Prop) {hx N : Nat} (hS : ∀ x, fe_mem lX94_upper x = true → S x) (n : Nat) (s0 : Int32) (M : FM) (w : WI Z hx N M) : pq (FX94_upper_107 n s0 M) (QA S Z hx N M) := by
  have hN := w.2.2.1
  have w0 := wk_r (S := S) w
  delta FX94_upper_107 BX94_upper_107
  exact pq_s w0
theorem wX94_upper_78 (S Z : Nat → Prop) {hx N : Nat} (hS : ∀ x, fe_mem lX94_upper x = true → S x) (n : Nat) (s0 : Int32) (M : FM) (w : WI Z hx N M) : pq (FX94_upper_78 n s0 M) (QA S Z hx N M) := by
  have hN := w.2.2.1
  have w0 := wk_r (S := S) w
  delta FX94_upper_78 BX94_upper_78
  exact pq_s w0
theorem wX94_upper_0 (S Z : Nat → Prop) {hx N : Nat} (hS : ∀ x, fe_mem lX94_upper x = true → S x) (n : Nat) (a0 : Nat) (a1 : Int32) (M : FM) (w : WI Z hx N M) (z_a0 : Z a0) : pq (FX94_upper_0 n a0 a1 M) (QA S Z hx N M) := by
  have hN := w.2.2.1
  have w0 := wk_r (S := S) w
  delta FX94_upper_0 BX94_upper_0
  refine pq_fi (fun _ => ?_) (fun _ => ?_)
  · refine pq_g (fun g1 => ?_)
    refine pq_b (wX94_bits S Z (sb rfl hS) n _ _ _ _ w0.1 z_a0) (fun r2 K3 => ?_)
    have w4 := wk_t w0 K3 hN
    refine pq_g (fun g5 => ?_)
    refine pq_b (wX94_bits S Z (sb rfl hS) n _ _ _ _ w4.1 z_a0) (fun r6 K7 => ?_)
    have w8 := wk_t w4 K7 hN
    refine pq_g (fun g9 => ?_)
    refine pq_b (wX94_bits S Z (sb rfl hS) n _ _ _ _ w8.1 z_a0) (fun r10 K11 => ?_)
    have w12 := wk_t w8 K11 hN
    refine pq_g (fun g13 => ?_)
    refine pq_b (wX94_bits S Z (sb rfl hS) n _ _ _ _ w12.1 z_a0) (fun r14 K15 => ?_)
    have w16 := wk_t w12 K15 hN
    refine pq_g (fun g17 => ?_)
    refine pq_b (wX94_bits S Z (sb rfl hS) n _ _ _ _ w16.1 z_a0) (fun r18 K19 => ?_)
    have w20 := wk_t w16 K19 hN
    refine pq_fi (fun _ => ?_) (fun _ => ?_)
    · exact q_tA hN w20 (wX94_upper_78 S Z hS n _ _ w20.1 )
    · refine pq_b (wX94_wordI S Z (sb rfl hS) _ _ _ _ _ _ w20.1 ) (fun r21 K22 => ?_)
      have w23 := wk_t w20 K22 hN
      exact q_tA hN w23 (wX94_upper_78 S Z hS n _ _ w23.1 )
  · refine pq_g (fun g24 => ?_)
    refine pq_b (wX94_signed S Z (sb rfl hS) n _ _ w0.1 z_a0) (fun r25 K26 => ?_)
    have w27 := wk_t w0 K26 hN
    refine pq_fi (fun _ => ?_) (fun _ => ?_)
    · exact q_tA hN w27 (wX94_upper_107 S Z hS n _ _ w27.1 )
    · refine pq_g (fun g28 => ?_)
      refine pq_b (wX94_signed S Z (sb rfl hS) n _ _ w27.1 z_a0) (fun r29 K30 => ?_)
      have w31 := wk_t w27 K30 hN
      exact q_tA hN w31 (wX94_upper_107 S Z hS n _ _ w31.1 )
theorem wX94_upper (S Z : Nat → Prop) {hx N : Nat} (hS : ∀ x, fe_mem lX94_upper x = true → S x) (n : Nat) (a0 : Nat) (a1 : Int32) (M : FM) (w : WI Z hx N M) (z_a0 : Z a0) : pq (FX94_upper n a0 a1 M) (QA S Z hx N M) := wX94_upper_0 S Z hS n a0 a1 M w z_a0
def lX94_bit : List Nat := []
theorem wX94_bit_0 (S Z : Nat → Prop) {hx N : Nat} (hS : ∀ x, fe_mem lX94_bit x = true → S x) (a0 : Int32) (a1 : Int32) (a2 : Int32) (M : FM) (w : WI Z hx N M) : pq (FX94_bit_0 a0 a1 a2 M) (QA S Z hx N M) := by
  have hN := w.2.2.1
  have w0 := wk_r (S := S) w
  delta FX94_bit_0 BX94_bit_0
  exact pq_s w0
theorem wX94_bit (S Z : Nat → Prop) {hx N : Nat} (hS : ∀ x, fe_mem lX94_bit x = true → S x) (a0 : Int32) (a1 : Int32) (a2 : Int32) (M : FM) (w : WI Z hx N M) : pq (FX94_bit a0 a1 a2 M) (QA S Z hx N M) := wX94_bit_0 S Z hS a0 a1 a2 M w 
def lX94_wordB : List Nat := []
theorem wX94_wordB_65 (S Z : Nat → Prop) {hx N : Nat} (hS : ∀ x, fe_mem lX94_wordB x = true → S x) (n : Nat) (k35 : Int32 → Int32 → Int32 → FM → Option (Int32 × FM)) (hk35 : ∀ (a2 : Int32) (a3 : Int32) (a4 : Int32) (M : FM), WI Z hx N M → pq (k35 a2 a3 a4 M) (QA S Z hx N M)) (a2 : Int32) (a4 : Int32) (s0 : Int32) (s1 : Int32) (s2 : Int32) (s3 : Int32) (M : FM) (w : WI Z hx N M) : pq (FX94_wordB_65 n k35 a2 a4 s0 s1 s2 s3 M) (QA S Z hx N M) := by
  have hN := w.2.2.1
  have w0 := wk_r (S := S) w
  delta FX94_wordB_65 BX94_wordB_65
  refine pq_b (wX94_bit S Z (sb rfl hS) _ _ _ _ w0.1 ) (fun r1 K2 => ?_)
  have w3 := wk_t w0 K2 hN
  exact q_tA hN w3 (hk35 _ _ _ _ w3.1 )
theorem wX94_wordB_35 (S Z : Nat → Prop) {hx N : Nat} (hS : ∀ x, fe_mem lX94_wordB x = true → S x) (n : Nat) (k35 : Int32 → Int32 → Int32 → FM → Option (Int32 × FM)) (hk35 : ∀ (a2 : Int32) (a3 : Int32) (a4 : Int32) (M : FM), WI Z hx N M → pq (k35 a2 a3 a4 M) (QA S Z hx N M)) (a2 : Int32) (a3 : Int32) (a4 : Int32) (M : FM) (w : WI Z hx N M) : pq (FX94_wordB_35 n k35 a2 a3 a4 M) (QA S Z hx N M) := by
  have hN := w.2.2.1
  have w0 := wk_r (S := S) w
  delta FX94_wordB_35 BX94_wordB_35
  refine pq_fi (fun _ => ?_) (fun _ => ?_)
  · exact pq_s w0
  · refine pq_fi (fun _ => ?_) (fun _ => ?_)
    · exact q_tA hN w0 (wX94_wordB_65 S Z hS n _ hk35 _ _ _ _ _ _ _ w0.1 )
    · exact q_tA hN w0 (wX94_wordB_65 S Z hS n _ hk35 _ _ _ _ _ _ _ w0.1 )
theorem wX94_wordB_0 (S Z : Nat → Prop) {hx N : Nat} (hS : ∀ x, fe_mem lX94_wordB x = true → S x) (n : Nat) (k35 : Int32 → Int32 → Int32 → FM → Option (Int32 × FM)) (hk35 : ∀ (a2 : Int32) (a3 : Int32) (a4 : Int32) (M : FM), WI Z hx N M → pq (k35 a2 a3 a4 M) (QA S Z hx N M)) (a0 : Int32) (a1 : Int32) (a2 : Int32) (M : FM) (w : WI Z hx N M) : pq (FX94_wordB_0 n k35 a0 a1 a2 M) (QA S Z hx N M) := by
  have hN := w.2.2.1
  have w0 := wk_r (S := S) w
  delta FX94_wordB_0 BX94_wordB_0
  refine pq_b (wX94_bit S Z (sb rfl hS) _ _ _ _ w0.1 ) (fun r1 K2 => ?_)
  have w3 := wk_t w0 K2 hN
  refine pq_b (wX94_bit S Z (sb rfl hS) _ _ _ _ w3.1 ) (fun r4 K5 => ?_)
  have w6 := wk_t w3 K5 hN
  exact q_tA hN w6 (hk35 _ _ _ _ w6.1 )
theorem wX94_wordB_L (S Z : Nat → Prop) {hx N : Nat} (hS : ∀ x, fe_mem lX94_wordB x = true → S x) (n : Nat) : ∀ j : Nat, ∀ (a2 : Int32) (a3 : Int32) (a4 : Int32) (M : FM), WI Z hx N M → pq (FX94_wordB_L35 n j a2 a3 a4 M) (QA S Z hx N M)
  | 0 => by intros; exact pq_0
  | j + 1 => fun a2 a3 a4 M w => wX94_wordB_35 S Z hS n _ (wX94_wordB_L S Z hS n j) a2 a3 a4 M w
theorem wX94_wordB (S Z : Nat → Prop) {hx N : Nat} (hS : ∀ x, fe_mem lX94_wordB x = true → S x) (n : Nat) (a0 : Int32) (a1 : Int32) (a2 : Int32) (M : FM) (w : WI Z hx N M) : pq (FX94_wordB n a0 a1 a2 M) (QA S Z hx N M) := wX94_wordB_0 S Z hS n _ (wX94_wordB_L S Z hS n n) a0 a1 a2 M w 
def lX94_wordJ : List Nat := []
theorem wX94_wordJ_60 (S Z : Nat → Prop) {hx N : Nat} (hS : ∀ x, fe_mem lX94_wordJ x = true → S x) (n : Nat) (k23 : Int32 → Int32 → Int32 → FM → Option (Int32 × FM)) (hk23 : ∀ (a0 : Int32) (a1 : Int32) (a2 : Int32) (M : FM), WI Z hx N M → pq (k23 a0 a1 a2 M) (QA S Z hx N M)) (a0 : Int32) (a2 : Int32) (s0 : Int32) (M : FM) (w : WI Z hx N M) : pq (FX94_wordJ_60 n k23 a0 a2 s0 M) (QA S Z hx N M) := by
  have hN := w.2.2.1
  have w0 := wk_r (S := S) w
  delta FX94_wordJ_60 BX94_wordJ_60
  exact q_tA hN w0 (hk23 _ _ _ _ w0.1 )
theorem wX94_wordJ_56 (S Z : Nat → Prop) {hx N : Nat} (hS : ∀ x, fe_mem lX94_wordJ x = true → S x) (n : Nat) (k23 : Int32 → Int32 → Int32 → FM → Option (Int32 × FM)) (hk23 : ∀ (a0 : Int32) (a1 : Int32) (a2 : Int32) (M : FM), WI Z hx N M → pq (k23 a0 a1 a2 M) (QA S Z hx N M)) (a0 : Int32) (a2 : Int32) (s0 : Int32) (s1 : Int32) (s2 : Int32) (s3 : Int32) (M : FM) (w : WI Z hx N M) : pq (FX94_wordJ_56 n k23 a0 a2 s0 s1 s2 s3 M) (QA S Z hx N M) := by
  have hN := w.2.2.1
  have w0 := wk_r (S := S) w
  delta FX94_wordJ_56 BX94_wordJ_56
  refine pq_b (wX94_bit S Z (sb rfl hS) _ _ _ _ w0.1 ) (fun r1 K2 => ?_)
  have w3 := wk_t w0 K2 hN
  exact q_tA hN w3 (wX94_wordJ_60 S Z hS n _ hk23 _ _ _ _ w3.1 )
theorem wX94_wordJ_23 (S Z : Nat → Prop) {hx N : Nat} (hS : ∀ x, fe_mem lX94_wordJ x = true → S x) (n : Nat) (k23 : Int32 → Int32 → Int32 → FM → Option (Int32 × FM)) (hk23 : ∀ (a0 : Int32) (a1 : Int32) (a2 : Int32) (M : FM), WI Z hx N M → pq (k23 a0 a1 a2 M) (QA S Z hx N M)) (a0 : Int32) (a1 : Int32) (a2 : Int32) (M : FM) (w : WI Z hx N M) : pq (FX94_wordJ_23 n k23 a0 a1 a2 M) (QA S Z hx N M) := by
  have hN := w.2.2.1
  have w0 := wk_r (S := S) w
  delta FX94_wordJ_23 BX94_wordJ_23
  refine pq_fi (fun _ => ?_) (fun _ => ?_)
  · exact pq_s w0
  · refine pq_fi (fun _ => ?_) (fun _ => ?_)
    · exact q_tA hN w0 (wX94_wordJ_60 S Z hS n _ hk23 _ _ _ _ w0.1 )
    · refine pq_fi (fun _ => ?_) (fun _ => ?_)
      · exact q_tA hN w0 (wX94_wordJ_56 S Z hS n _ hk23 _ _ _ _ _ _ _ w0.1 )
      · exact q_tA hN w0 (wX94_wordJ_56 S Z hS n _ hk23 _ _ _ _ _ _ _ w0.1 )
theorem wX94_wordJ_0 (S Z : Nat → Prop) {hx N : Nat} (hS : ∀ x, fe_mem lX94_wordJ x = true → S x) (n : Nat) (k23 : Int32 → Int32 → Int32 → FM → Option (Int32 × FM)) (hk23 : ∀ (a0 : Int32) (a1 : Int32) (a2 : Int32) (M : FM), WI Z hx N M → pq (k23 a0 a1 a2 M) (QA S Z hx N M)) (a0 : Int32) (M : FM) (w : WI Z hx N M) : pq (FX94_wordJ_0 n k23 a0 M) (QA S Z hx N M) := by
  have hN := w.2.2.1
  have w0 := wk_r (S := S) w
  delta FX94_wordJ_0 BX94_wordJ_0
  refine pq_b (wX94_bit S Z (sb rfl hS) _ _ _ _ w0.1 ) (fun r1 K2 => ?_)
  have w3 := wk_t w0 K2 hN
  refine pq_b (wX94_bit S Z (sb rfl hS) _ _ _ _ w3.1 ) (fun r4 K5 => ?_)
  have w6 := wk_t w3 K5 hN
  exact q_tA hN w6 (hk23 _ _ _ _ w6.1 )
theorem wX94_wordJ_L (S Z : Nat → Prop) {hx N : Nat} (hS : ∀ x, fe_mem lX94_wordJ x = true → S x) (n : Nat) : ∀ j : Nat, ∀ (a0 : Int32) (a1 : Int32) (a2 : Int32) (M : FM), WI Z hx N M → pq (FX94_wordJ_L23 n j a0 a1 a2 M) (QA S Z hx N M)
  | 0 => by intros; exact pq_0
  | j + 1 => fun a0 a1 a2 M w => wX94_wordJ_23 S Z hS n _ (wX94_wordJ_L S Z hS n j) a0 a1 a2 M w
theorem wX94_wordJ (S Z : Nat → Prop) {hx N : Nat} (hS : ∀ x, fe_mem lX94_wordJ x = true → S x) (n : Nat) (a0 : Int32) (M : FM) (w : WI Z hx N M) : pq (FX94_wordJ n a0 M) (QA S Z hx N M) := wX94_wordJ_0 S Z hS n _ (wX94_wordJ_L S Z hS n n) a0 M w 
def lX94_quadrant1 : List Nat := []
theorem wX94_quadrant1_149 (S Z : Nat → Prop) {hx N : Nat} (hS : ∀ x, fe_mem lX94_quadrant1 x = true → S x) (n : Nat) (s0 : Int32) (M : FM) (w : WI Z hx N M) : pq (FX94_quadrant1_149 n s0 M) (QA S Z hx N M) := by
  have hN := w.2.2.1
  have w0 := wk_r (S := S) w
  delta FX94_quadrant1_149 BX94_quadrant1_149
  exact pq_s w0
theorem wX94_quadrant1_0 (S Z : Nat → Prop) {hx N : Nat} (hS : ∀ x, fe_mem lX94_quadrant1 x = true → S x) (n : Nat) (a0 : Nat) (M : FM) (w : WI Z hx N M) (z_a0 : Z a0) : pq (FX94_quadrant1_0 n a0 M) (QA S Z hx N M) := by
  have hN := w.2.2.1
  have w0 := wk_r (S := S) w
  delta FX94_quadrant1_0 BX94_quadrant1_0
  refine pq_g (fun g1 => ?_)
  refine pq_b (wX94_bits S Z (sb rfl hS) n _ _ _ _ w0.1 z_a0) (fun r2 K3 => ?_)
  have w4 := wk_t w0 K3 hN
  refine pq_g (fun g5 => ?_)
  refine pq_b (wX94_bits S Z (sb rfl hS) n _ _ _ _ w4.1 z_a0) (fun r6 K7 => ?_)
  have w8 := wk_t w4 K7 hN
  refine pq_g (fun g9 => ?_)
  refine pq_b (wX94_bits S Z (sb rfl hS) n _ _ _ _ w8.1 z_a0) (fun r10 K11 => ?_)
  have w12 := wk_t w8 K11 hN
  refine pq_g (fun g13 => ?_)
  refine pq_b (wX94_bits S Z (sb rfl hS) n _ _ _ _ w12.1 z_a0) (fun r14 K15 => ?_)
  have w16 := wk_t w12 K15 hN
  refine pq_g (fun g17 => ?_)
  refine pq_b (wX94_bits S Z (sb rfl hS) n _ _ _ _ w16.1 z_a0) (fun r18 K19 => ?_)
  have w20 := wk_t w16 K19 hN
  refine pq_g (fun g21 => ?_)
  refine pq_b (wX94_bits S Z (sb rfl hS) n _ _ _ _ w20.1 z_a0) (fun r22 K23 => ?_)
  have w24 := wk_t w20 K23 hN
  refine pq_g (fun g25 => ?_)
  refine pq_b (wX94_bits S Z (sb rfl hS) n _ _ _ _ w24.1 z_a0) (fun r26 K27 => ?_)
  have w28 := wk_t w24 K27 hN
  refine pq_fi (fun _ => ?_) (fun _ => ?_)
  · refine pq_g (fun g29 => ?_)
    refine pq_b (wX94_signed S Z (sb rfl hS) n _ _ w28.1 z_a0) (fun r30 K31 => ?_)
    have w32 := wk_t w28 K31 hN
    refine pq_b (wX94_wordI S Z (sb rfl hS) _ _ _ _ _ _ w32.1 ) (fun r33 K34 => ?_)
    have w35 := wk_t w32 K34 hN
    exact pq_s w35
  · refine pq_fi (fun _ => ?_) (fun _ => ?_)
    · refine pq_fi (fun _ => ?_) (fun _ => ?_)
      · exact q_tA hN w28 (wX94_quadrant1_149 S Z hS n _ _ w28.1 )
      · refine pq_g (fun g36 => ?_)
        refine pq_b (wX94_signed S Z (sb rfl hS) n _ _ w28.1 z_a0) (fun r37 K38 => ?_)
        have w39 := wk_t w28 K38 hN
        refine pq_b (wX94_wordI S Z (sb rfl hS) _ _ _ _ _ _ w39.1 ) (fun r40 K41 => ?_)
        have w42 := wk_t w39 K41 hN
        exact q_tA hN w42 (wX94_quadrant1_149 S Z hS n _ _ w42.1 )
    · refine pq_fi (fun _ => ?_) (fun _ => ?_)
      · refine pq_g (fun g43 => ?_)
        refine pq_b (wX94_signed S Z (sb rfl hS) n _ _ w28.1 z_a0) (fun r44 K45 => ?_)
        have w46 := wk_t w28 K45 hN
        refine pq_b (wX94_wordI S Z (sb rfl hS) _ _ _ _ _ _ w46.1 ) (fun r47 K48 => ?_)
        have w49 := wk_t w46 K48 hN
        exact pq_s w49
      · refine pq_fi (fun _ => ?_) (fun _ => ?_)
        · refine pq_g (fun g50 => ?_)
          refine pq_b (wX94_upper S Z (sb rfl hS) n _ _ _ w28.1 z_a0) (fun r51 K52 => ?_)
          have w53 := wk_t w28 K52 hN
          exact pq_s w53
        · refine pq_fi (fun _ => ?_) (fun _ => ?_)
          · refine pq_g (fun g54 => ?_)
            refine pq_b (wX94_arithmetic S Z (sb rfl hS) n _ _ w28.1 z_a0) (fun r55 K56 => ?_)
            have w57 := wk_t w28 K56 hN
            exact pq_s w57
          · refine pq_fi (fun _ => ?_) (fun _ => ?_)
            · refine pq_g (fun g58 => ?_)
              refine pq_b (wX94_bits S Z (sb rfl hS) n _ _ _ _ w28.1 z_a0) (fun r59 K60 => ?_)
              have w61 := wk_t w28 K60 hN
              refine pq_g (fun g62 => ?_)
              refine pq_b (wX94_bits S Z (sb rfl hS) n _ _ _ _ w61.1 z_a0) (fun r63 K64 => ?_)
              have w65 := wk_t w61 K64 hN
              refine pq_g (fun g66 => ?_)
              refine pq_b (wX94_bits S Z (sb rfl hS) n _ _ _ _ w65.1 z_a0) (fun r67 K68 => ?_)
              have w69 := wk_t w65 K68 hN
              refine pq_g (fun g70 => ?_)
              refine pq_b (wX94_bits S Z (sb rfl hS) n _ _ _ _ w69.1 z_a0) (fun r71 K72 => ?_)
              have w73 := wk_t w69 K72 hN
              refine pq_g (fun g74 => ?_)
              refine pq_b (wX94_bits S Z (sb rfl hS) n _ _ _ _ w73.1 z_a0) (fun r75 K76 => ?_)
              have w77 := wk_t w73 K76 hN
              refine pq_g (fun g78 => ?_)
              refine pq_b (wX94_bits S Z (sb rfl hS) n _ _ _ _ w77.1 z_a0) (fun r79 K80 => ?_)
              have w81 := wk_t w77 K80 hN
              refine pq_g (fun g82 => ?_)
              refine pq_b (wX94_bits S Z (sb rfl hS) n _ _ _ _ w81.1 z_a0) (fun r83 K84 => ?_)
              have w85 := wk_t w81 K84 hN
              refine pq_g (fun g86 => ?_)
              refine pq_b (wX94_bits S Z (sb rfl hS) n _ _ _ _ w85.1 z_a0) (fun r87 K88 => ?_)
              have w89 := wk_t w85 K88 hN
              refine pq_b (wX94_wordJ S Z (sb rfl hS) n _ _ w89.1 ) (fun r90 K91 => ?_)
              have w92 := wk_t w89 K91 hN
              exact pq_s w92
            · refine pq_fi (fun _ => ?_) (fun _ => ?_)
              · refine pq_g (fun g93 => ?_)
                refine pq_b (wX94_bits S Z (sb rfl hS) n _ _ _ _ w28.1 z_a0) (fun r94 K95 => ?_)
                have w96 := wk_t w28 K95 hN
                refine pq_b (wX94_wordB S Z (sb rfl hS) n _ _ _ _ w96.1 ) (fun r97 K98 => ?_)
                have w99 := wk_t w96 K98 hN
                exact pq_s w99
              · refine pq_g (fun g100 => ?_)
                refine pq_b (wX94_bits S Z (sb rfl hS) n _ _ _ _ w28.1 z_a0) (fun r101 K102 => ?_)
                have w103 := wk_t w28 K102 hN
                refine pq_b (wX94_wordB S Z (sb rfl hS) n _ _ _ _ w103.1 ) (fun r104 K105 => ?_)
                have w106 := wk_t w103 K105 hN
                exact pq_s w106
theorem wX94_quadrant1 (S Z : Nat → Prop) {hx N : Nat} (hS : ∀ x, fe_mem lX94_quadrant1 x = true → S x) (n : Nat) (a0 : Nat) (M : FM) (w : WI Z hx N M) (z_a0 : Z a0) : pq (FX94_quadrant1 n a0 M) (QA S Z hx N M) := wX94_quadrant1_0 S Z hS n a0 M w z_a0
def lX94_jumps : List Nat := []
theorem wX94_jumps_83 (S Z : Nat → Prop) {hx N : Nat} (hS : ∀ x, fe_mem lX94_jumps x = true → S x) (n : Nat) (a2 : Int32) (s0 : Int32) (s1 : Int32) (s2 : Int32) (s3 : Int32) (M : FM) (w : WI Z hx N M) : pq (FX94_jumps_83 n a2 s0 s1 s2 s3 M) (QA S Z hx N M) := by
  have hN := w.2.2.1
  have w0 := wk_r (S := S) w
  delta FX94_jumps_83 BX94_jumps_83
  refine pq_b (wX94_wordR S Z (sb rfl hS) _ _ _ _ _ _ _ w0.1 ) (fun r1 K2 => ?_)
  have w3 := wk_t w0 K2 hN
  exact pq_s w3
theorem wX94_jumps_62 (S Z : Nat → Prop) {hx N : Nat} (hS : ∀ x, fe_mem lX94_jumps x = true → S x) (n : Nat) (s0 : Int32) (M : FM) (w : WI Z hx N M) : pq (FX94_jumps_62 n s0 M) (QA S Z hx N M) := by
  have hN := w.2.2.1
  have w0 := wk_r (S := S) w
  delta FX94_jumps_62 BX94_jumps_62
  exact pq_s w0
theorem wX94_jumps_33 (S Z : Nat → Prop) {hx N : Nat} (hS : ∀ x, fe_mem lX94_jumps x = true → S x) (n : Nat) (a0 : Nat) (a1 : Int32) (a2 : Int32) (M : FM) (w : WI Z hx N M) (z_a0 : Z a0) : pq (FX94_jumps_33 n a0 a1 a2 M) (QA S Z hx N M) := by
  have hN := w.2.2.1
  have w0 := wk_r (S := S) w
  delta FX94_jumps_33 BX94_jumps_33
  refine pq_fi (fun _ => ?_) (fun _ => ?_)
  · refine pq_fi (fun _ => ?_) (fun _ => ?_)
    · refine pq_b (wX94_wordI S Z (sb rfl hS) _ _ _ _ _ _ w0.1 ) (fun r1 K2 => ?_)
      have w3 := wk_t w0 K2 hN
      exact q_tA hN w3 (wX94_jumps_62 S Z hS n _ _ w3.1 )
    · refine pq_b (wX94_wordI S Z (sb rfl hS) _ _ _ _ _ _ w0.1 ) (fun r4 K5 => ?_)
      have w6 := wk_t w0 K5 hN
      exact q_tA hN w6 (wX94_jumps_62 S Z hS n _ _ w6.1 )
  · refine pq_g (fun g7 => ?_)
    refine pq_b (wX94_bits S Z (sb rfl hS) n _ _ _ _ w0.1 z_a0) (fun r8 K9 => ?_)
    have w10 := wk_t w0 K9 hN
    refine pq_fi (fun _ => ?_) (fun _ => ?_)
    · exact q_tA hN w10 (wX94_jumps_83 S Z hS n _ _ _ _ _ _ w10.1 )
    · exact q_tA hN w10 (wX94_jumps_83 S Z hS n _ _ _ _ _ _ w10.1 )
theorem wX94_jumps_32 (S Z : Nat → Prop) {hx N : Nat} (hS : ∀ x, fe_mem lX94_jumps x = true → S x) (n : Nat) (s0 : Int32) (M : FM) (w : WI Z hx N M) : pq (FX94_jumps_32 n s0 M) (QA S Z hx N M) := by
  have hN := w.2.2.1
  have w0 := wk_r (S := S) w
  delta FX94_jumps_32 BX94_jumps_32
  exact pq_s w0
theorem wX94_jumps_0 (S Z : Nat → Prop) {hx N : Nat} (hS : ∀ x, fe_mem lX94_jumps x = true → S x) (n : Nat) (a0 : Nat) (a1 : Int32) (a2 : Int32) (M : FM) (w : WI Z hx N M) (z_a0 : Z a0) : pq (FX94_jumps_0 n a0 a1 a2 M) (QA S Z hx N M) := by
  have hN := w.2.2.1
  have w0 := wk_r (S := S) w
  delta FX94_jumps_0 BX94_jumps_0
  refine pq_fi (fun _ => ?_) (fun _ => ?_)
  · refine pq_g (fun g1 => ?_)
    refine pq_b (wX94_bits S Z (sb rfl hS) n _ _ _ _ w0.1 z_a0) (fun r2 K3 => ?_)
    have w4 := wk_t w0 K3 hN
    refine pq_fi (fun _ => ?_) (fun _ => ?_)
    · refine pq_fi (fun _ => ?_) (fun _ => ?_)
      · exact q_tA hN w4 (wX94_jumps_32 S Z hS n _ _ w4.1 )
      · refine pq_b (wX94_wordI S Z (sb rfl hS) _ _ _ _ _ _ w4.1 ) (fun r5 K6 => ?_)
        have w7 := wk_t w4 K6 hN
        exact q_tA hN w7 (wX94_jumps_32 S Z hS n _ _ w7.1 )
    · exact q_tA hN w4 (wX94_jumps_33 S Z hS n _ _ _ _ w4.1 z_a0)
  · exact q_tA hN w0 (wX94_jumps_33 S Z hS n _ _ _ _ w0.1 z_a0)
theorem wX94_jumps (S Z : Nat → Prop) {hx N : Nat} (hS : ∀ x, fe_mem lX94_jumps x = true → S x) (n : Nat) (a0 : Nat) (a1 : Int32) (a2 : Int32) (M : FM) (w : WI Z hx N M) (z_a0 : Z a0) : pq (FX94_jumps n a0 a1 a2 M) (QA S Z hx N M) := wX94_jumps_0 S Z hS n a0 a1 a2 M w z_a0
def lX94_quadrant2 : List Nat := []
theorem wX94_quadrant2_210 (S Z : Nat → Prop) {hx N : Nat} (hS : ∀ x, fe_mem lX94_quadrant2 x = true → S x) (n : Nat) (s0 : Int32) (M : FM) (w : WI Z hx N M) : pq (FX94_quadrant2_210 n s0 M) (QA S Z hx N M) := by
  have hN := w.2.2.1
  have w0 := wk_r (S := S) w
  delta FX94_quadrant2_210 BX94_quadrant2_210
  exact pq_s w0
theorem wX94_quadrant2_193 (S Z : Nat → Prop) {hx N : Nat} (hS : ∀ x, fe_mem lX94_quadrant2 x = true → S x) (n : Nat) (s0 : Int32) (M : FM) (w : WI Z hx N M) : pq (FX94_quadrant2_193 n s0 M) (QA S Z hx N M) := by
  have hN := w.2.2.1
  have w0 := wk_r (S := S) w
  delta FX94_quadrant2_193 BX94_quadrant2_193
  exact pq_s w0
theorem wX94_quadrant2_0 (S Z : Nat → Prop) {hx N : Nat} (hS : ∀ x, fe_mem lX94_quadrant2 x = true → S x) (n : Nat) (a0 : Nat) (M : FM) (w : WI Z hx N M) (z_a0 : Z a0) : pq (FX94_quadrant2_0 n a0 M) (QA S Z hx N M) := by
  have hN := w.2.2.1
  have w0 := wk_r (S := S) w
  delta FX94_quadrant2_0 BX94_quadrant2_0
  refine pq_g (fun g1 => ?_)
  refine pq_b (wX94_bits S Z (sb rfl hS) n _ _ _ _ w0.1 z_a0) (fun r2 K3 => ?_)
  have w4 := wk_t w0 K3 hN
  refine pq_g (fun g5 => ?_)
  refine pq_b (wX94_bits S Z (sb rfl hS) n _ _ _ _ w4.1 z_a0) (fun r6 K7 => ?_)
  have w8 := wk_t w4 K7 hN
  refine pq_g (fun g9 => ?_)
  refine pq_b (wX94_bits S Z (sb rfl hS) n _ _ _ _ w8.1 z_a0) (fun r10 K11 => ?_)
  have w12 := wk_t w8 K11 hN
  refine pq_g (fun g13 => ?_)
  refine pq_b (wX94_bits S Z (sb rfl hS) n _ _ _ _ w12.1 z_a0) (fun r14 K15 => ?_)
  have w16 := wk_t w12 K15 hN
  refine pq_g (fun g17 => ?_)
  refine pq_b (wX94_bits S Z (sb rfl hS) n _ _ _ _ w16.1 z_a0) (fun r18 K19 => ?_)
  have w20 := wk_t w16 K19 hN
  refine pq_g (fun g21 => ?_)
  refine pq_b (wX94_bits S Z (sb rfl hS) n _ _ _ _ w20.1 z_a0) (fun r22 K23 => ?_)
  have w24 := wk_t w20 K23 hN
  refine pq_g (fun g25 => ?_)
  refine pq_b (wX94_bits S Z (sb rfl hS) n _ _ _ _ w24.1 z_a0) (fun r26 K27 => ?_)
  have w28 := wk_t w24 K27 hN
  refine pq_g (fun g29 => ?_)
  refine pq_b (wX94_bits S Z (sb rfl hS) n _ _ _ _ w28.1 z_a0) (fun r30 K31 => ?_)
  have w32 := wk_t w28 K31 hN
  refine pq_fi (fun _ => ?_) (fun _ => ?_)
  · refine pq_g (fun g33 => ?_)
    refine pq_b (wX94_plain S Z (sb rfl hS) n _ _ w32.1 z_a0) (fun r34 K35 => ?_)
    have w36 := wk_t w32 K35 hN
    refine pq_b (wX94_wordI S Z (sb rfl hS) _ _ _ _ _ _ w36.1 ) (fun r37 K38 => ?_)
    have w39 := wk_t w36 K38 hN
    exact pq_s w39
  · refine pq_fi (fun _ => ?_) (fun _ => ?_)
    · refine pq_b (wX94_wordI S Z (sb rfl hS) _ _ _ _ _ _ w32.1 ) (fun r40 K41 => ?_)
      have w42 := wk_t w32 K41 hN
      exact pq_s w42
    · refine pq_fi (fun _ => ?_) (fun _ => ?_)
      · refine pq_fi (fun _ => ?_) (fun _ => ?_)
        · exact q_tA hN w32 (wX94_quadrant2_193 S Z hS n _ _ w32.1 )
        · refine pq_g (fun g43 => ?_)
          refine pq_b (wX94_bits S Z (sb rfl hS) n _ _ _ _ w32.1 z_a0) (fun r44 K45 => ?_)
          have w46 := wk_t w32 K45 hN
          refine pq_g (fun g47 => ?_)
          refine pq_b (wX94_bits S Z (sb rfl hS) n _ _ _ _ w46.1 z_a0) (fun r48 K49 => ?_)
          have w50 := wk_t w46 K49 hN
          refine pq_g (fun g51 => ?_)
          refine pq_b (wX94_bits S Z (sb rfl hS) n _ _ _ _ w50.1 z_a0) (fun r52 K53 => ?_)
          have w54 := wk_t w50 K53 hN
          refine pq_b (wX94_wordI S Z (sb rfl hS) _ _ _ _ _ _ w54.1 ) (fun r55 K56 => ?_)
          have w57 := wk_t w54 K56 hN
          exact q_tA hN w57 (wX94_quadrant2_193 S Z hS n _ _ w57.1 )
      · refine pq_fi (fun _ => ?_) (fun _ => ?_)
        · refine pq_fi (fun _ => ?_) (fun _ => ?_)
          · exact q_tA hN w32 (wX94_quadrant2_210 S Z hS n _ _ w32.1 )
          · refine pq_b (wX94_wordI S Z (sb rfl hS) _ _ _ _ _ _ w32.1 ) (fun r58 K59 => ?_)
            have w60 := wk_t w32 K59 hN
            exact q_tA hN w60 (wX94_quadrant2_210 S Z hS n _ _ w60.1 )
        · refine pq_fi (fun _ => ?_) (fun _ => ?_)
          · refine pq_g (fun g61 => ?_)
            refine pq_b (wX94_jumps S Z (sb rfl hS) n _ _ _ _ w32.1 z_a0) (fun r62 K63 => ?_)
            have w64 := wk_t w32 K63 hN
            exact pq_s w64
          · refine pq_fi (fun _ => ?_) (fun _ => ?_)
            · refine pq_b (wX94_wordS S Z (sb rfl hS) _ _ _ _ _ _ w32.1 ) (fun r65 K66 => ?_)
              have w67 := wk_t w32 K66 hN
              exact pq_s w67
            · refine pq_fi (fun _ => ?_) (fun _ => ?_)
              · refine pq_g (fun g68 => ?_)
                refine pq_b (wX94_bits S Z (sb rfl hS) n _ _ _ _ w32.1 z_a0) (fun r69 K70 => ?_)
                have w71 := wk_t w32 K70 hN
                refine pq_g (fun g72 => ?_)
                refine pq_b (wX94_bits S Z (sb rfl hS) n _ _ _ _ w71.1 z_a0) (fun r73 K74 => ?_)
                have w75 := wk_t w71 K74 hN
                refine pq_b (wX94_wordS S Z (sb rfl hS) _ _ _ _ _ _ w75.1 ) (fun r76 K77 => ?_)
                have w78 := wk_t w75 K77 hN
                exact pq_s w78
              · refine pq_b (wX94_wordS S Z (sb rfl hS) _ _ _ _ _ _ w32.1 ) (fun r79 K80 => ?_)
                have w81 := wk_t w32 K80 hN
                exact pq_s w81
theorem wX94_quadrant2 (S Z : Nat → Prop) {hx N : Nat} (hS : ∀ x, fe_mem lX94_quadrant2 x = true → S x) (n : Nat) (a0 : Nat) (M : FM) (w : WI Z hx N M) (z_a0 : Z a0) : pq (FX94_quadrant2 n a0 M) (QA S Z hx N M) := wX94_quadrant2_0 S Z hS n a0 M w z_a0
def lX94_wordOf : List Nat := [387]
theorem wX94_wordOf_0 (S Z : Nat → Prop) {hx N : Nat} (hS : ∀ x, fe_mem lX94_wordOf x = true → S x) (n : Nat) (a0 : Nat) (a1 : Int32) (M : FM) (w : WI Z hx N M) (z_a0 : Z a0) : pq (FX94_wordOf_0 n a0 a1 M) (QA S Z hx N M) := by
  have hN := w.2.2.1
  have w0 := wk_r (S := S) w
  delta FX94_wordOf_0 BX94_wordOf_0
  refine pq_g (fun g1 => ?_)
  extract_lets +onlyGivenNames M3
  have w2 : Wk S Z hx N M M3 := wk_fI hN w0 rfl rfl g1 z_a0 (Or.inr (hS 387 rfl))
  refine pq_fi (fun _ => ?_) (fun _ => ?_)
  · refine pq_g (fun g4 => ?_)
    refine pq_b (wX94_quadrant0 S Z (sb rfl hS) n _ _ w2.1 z_a0) (fun r5 K6 => ?_)
    have w7 := wk_t w2 K6 hN
    exact pq_s w7
  · refine pq_fi (fun _ => ?_) (fun _ => ?_)
    · refine pq_g (fun g8 => ?_)
      refine pq_b (wX94_quadrant1 S Z (sb rfl hS) n _ _ w2.1 z_a0) (fun r9 K10 => ?_)
      have w11 := wk_t w2 K10 hN
      exact pq_s w11
    · refine pq_fi (fun _ => ?_) (fun _ => ?_)
      · refine pq_g (fun g12 => ?_)
        refine pq_b (wX94_quadrant2 S Z (sb rfl hS) n _ _ w2.1 z_a0) (fun r13 K14 => ?_)
        have w15 := wk_t w2 K14 hN
        exact pq_s w15
      · exact pq_s w2
theorem wX94_wordOf (S Z : Nat → Prop) {hx N : Nat} (hS : ∀ x, fe_mem lX94_wordOf x = true → S x) (n : Nat) (a0 : Nat) (a1 : Int32) (M : FM) (w : WI Z hx N M) (z_a0 : Z a0) : pq (FX94_wordOf n a0 a1 M) (QA S Z hx N M) := wX94_wordOf_0 S Z hS n a0 a1 M w z_a0
def lX94_expand : List Nat := [386, 387]
theorem wX94_expand_35 (S Z : Nat → Prop) {hx N : Nat} (hS : ∀ x, fe_mem lX94_expand x = true → S x) (n : Nat) (s0 : Int32) (M : FM) (w : WI Z hx N M) : pq (FX94_expand_35 n s0 M) (QA S Z hx N M) := by
  have hN := w.2.2.1
  have w0 := wk_r (S := S) w
  delta FX94_expand_35 BX94_expand_35
  exact pq_s w0
theorem wX94_expand_16 (S Z : Nat → Prop) {hx N : Nat} (hS : ∀ x, fe_mem lX94_expand x = true → S x) (n : Nat) (a0 : Nat) (a1 : Int32) (s0 : Nat) (s1 : Int32) (M : FM) (w : WI Z hx N M) (z_a0 : Z a0) (z_s0 : Z s0) : pq (FX94_expand_16 n a0 a1 s0 s1 M) (QA S Z hx N M) := by
  have hN := w.2.2.1
  have w0 := wk_r (S := S) w
  delta FX94_expand_16 BX94_expand_16
  refine pq_g (fun g1 => ?_)
  extract_lets +onlyGivenNames M3
  have w2 : Wk S Z hx N M M3 := wk_fI hN w0 rfl rfl g1 z_s0 (Or.inr (hS 386 rfl))
  refine pq_g (fun g4 => ?_)
  refine pq_fi (fun _ => ?_) (fun _ => ?_)
  · refine pq_g (fun g5 => ?_)
    refine pq_b (wX94_wordOf S Z (sb rfl hS) n _ _ _ w2.1 z_a0) (fun r6 K7 => ?_)
    have w8 := wk_t w2 K7 hN
    exact q_tA hN w8 (wX94_expand_35 S Z hS n _ _ w8.1 )
  · exact q_tA hN w2 (wX94_expand_35 S Z hS n _ _ w2.1 )
theorem wX94_expand_11 (S Z : Nat → Prop) {hx N : Nat} (hS : ∀ x, fe_mem lX94_expand x = true → S x) (n : Nat) (a0 : Nat) (a1 : Int32) (s0 : Nat) (M : FM) (w : WI Z hx N M) (z_a0 : Z a0) (z_s0 : Z s0) : pq (FX94_expand_11 n a0 a1 s0 M) (QA S Z hx N M) := by
  have hN := w.2.2.1
  have w0 := wk_r (S := S) w
  delta FX94_expand_11 BX94_expand_11
  exact q_tA hN w0 (wX94_expand_16 S Z hS n _ _ _ _ _ w0.1 z_a0 z_s0)
theorem wX94_expand_0 (S Z : Nat → Prop) {hx N : Nat} (hS : ∀ x, fe_mem lX94_expand x = true → S x) (n : Nat) (a0 : Nat) (a1 : Int32) (M : FM) (w : WI Z hx N M) (z_a0 : Z a0) : pq (FX94_expand_0 n a0 a1 M) (QA S Z hx N M) := by
  have hN := w.2.2.1
  have w0 := wk_r (S := S) w
  delta FX94_expand_0 BX94_expand_0
  refine pq_fi (fun _ => ?_) (fun _ => ?_)
  · exact q_tA hN w0 (wX94_expand_11 S Z hS n _ _ _ _ w0.1 z_a0 z_a0)
  · refine pq_fi (fun _ => ?_) (fun _ => ?_)
    · exact q_tA hN w0 (wX94_expand_16 S Z hS n _ _ _ _ _ w0.1 z_a0 z_a0)
    · exact q_tA hN w0 (wX94_expand_11 S Z hS n _ _ _ _ w0.1 z_a0 z_a0)
theorem wX94_expand (S Z : Nat → Prop) {hx N : Nat} (hS : ∀ x, fe_mem lX94_expand x = true → S x) (n : Nat) (a0 : Nat) (a1 : Int32) (M : FM) (w : WI Z hx N M) (z_a0 : Z a0) : pq (FX94_expand n a0 a1 M) (QA S Z hx N M) := wX94_expand_0 S Z hS n a0 a1 M w z_a0
def lX92_illegal : List Nat := [320, 321]
theorem wX92_illegal_0 (S Z : Nat → Prop) {hx N : Nat} (hS : ∀ x, fe_mem lX92_illegal x = true → S x) (a0 : Nat) (M : FM) (w : WI Z hx N M) (z_a0 : Z a0) : pq (FX92_illegal_0 a0 M) (QA S Z hx N M) := by
  have hN := w.2.2.1
  have w0 := wk_r (S := S) w
  delta FX92_illegal_0 BX92_illegal_0
  refine pq_g (fun g1 => ?_)
  refine pq_g (fun g2 => ?_)
  refine pq_b (wX92_fail S Z (sb rfl hS) _ _ _ _ w0.1 z_a0) (fun r3 K4 => ?_)
  have w5 := wk_t w0 K4 hN
  refine pq_g (fun _ => ?_)
  exact pq_s w5
theorem wX92_illegal (S Z : Nat → Prop) {hx N : Nat} (hS : ∀ x, fe_mem lX92_illegal x = true → S x) (a0 : Nat) (M : FM) (w : WI Z hx N M) (z_a0 : Z a0) : pq (FX92_illegal a0 M) (QA S Z hx N M) := wX92_illegal_0 S Z hS a0 M w z_a0
def lX92_fetch : List Nat := [317, 318, 319, 320, 321, 345, 358, 386, 387, 422, 429, 430, 1388, 1389, 1391]
theorem wX92_fetch_77 (S Z : Nat → Prop) {hx N : Nat} (hS : ∀ x, fe_mem lX92_fetch x = true → S x) (n : Nat) (s0 : Int32) (M : FM) (w : WI Z hx N M) : pq (FX92_fetch_77 n s0 M) (QA S Z hx N M) := by
  have hN := w.2.2.1
  have w0 := wk_r (S := S) w
  delta FX92_fetch_77 BX92_fetch_77
  refine pq_g (fun _ => ?_)
  exact pq_s w0
theorem wX92_fetch_72 (S Z : Nat → Prop) {hx N : Nat} (hS : ∀ x, fe_mem lX92_fetch x = true → S x) (n : Nat) (M : FM) (w : WI Z hx N M) : pq (FX92_fetch_72 n M) (QA S Z hx N M) := by
  have hN := w.2.2.1
  have w0 := wk_r (S := S) w
  delta FX92_fetch_72 BX92_fetch_72
  exact q_tA hN w0 (wX92_fetch_77 S Z hS n _ _ w0.1 )
theorem wX92_fetch_0 (S Z : Nat → Prop) {hx N : Nat} (hS : ∀ x, fe_mem lX92_fetch x = true → S x) (n : Nat) (a0 : Nat) (a1 : Int32) (M : FM) (w : WI Z hx N M) (z_a0 : Z a0) (i_a1 : a1.toNatClampNeg = hx) : pq (FX92_fetch_0 n a0 a1 M) (QA S Z hx N M) := by
  have hN := w.2.2.1
  have w0 := wk_r (S := S) w
  delta FX92_fetch_0 BX92_fetch_0
  refine pq_g (fun g1 => ?_)
  have z2 := wk_z (i := 0) (f := 303) w0 rfl z_a0
  have f3 := sS_303 w0.1.1 g1
  refine pq_g (fun g4 => ?_)
  have z5 := wk_zx w0 z2 i_a1
  refine pq_g (fun g6 => ?_)
  refine pq_b (wX98_counter S Z (sb rfl hS) _ _ w0.1 z5) (fun r7 K8 => ?_)
  have w9 := wk_t w0 K8 hN
  refine pq_g (fun g10 => ?_)
  refine pq_b (wX92_half S Z (sb rfl hS) n _ _ _ _ w9.1 z_a0 i_a1) (fun r11 K12 => ?_)
  have w13 := wk_t w9 K12 hN
  refine pq_fi (fun _ => ?_) (fun _ => ?_)
  · refine pq_g (fun g14 => ?_)
    extract_lets +onlyGivenNames M16
    have w15 : Wk S Z hx N M M16 := wk_fL hN w13 rfl rfl g14 z_a0 (Or.inr (hS 319 rfl))
    refine pq_g (fun g17 => ?_)
    extract_lets +onlyGivenNames M19
    have w18 : Wk S Z hx N M M19 := wk_fI hN w15 rfl rfl g17 z_a0 (Or.inr (hS 318 rfl))
    refine pq_fi (fun _ => ?_) (fun _ => ?_)
    · refine pq_g (fun g20 => ?_)
      refine pq_b (wX92_half S Z (sb rfl hS) n _ _ _ _ w18.1 z_a0 i_a1) (fun r21 K22 => ?_)
      have w23 := wk_t w18 K22 hN
      refine pq_fi (fun _ => ?_) (fun _ => ?_)
      · refine pq_g (fun g24 => ?_)
        extract_lets +onlyGivenNames M26
        have w25 : Wk S Z hx N M M26 := wk_fI hN w23 rfl rfl g24 z_a0 (Or.inr (hS 318 rfl))
        refine pq_g (fun g27 => ?_)
        extract_lets +onlyGivenNames M29
        have w28 : Wk S Z hx N M M29 := wk_fI hN w25 rfl rfl g27 z_a0 (Or.inr (hS 317 rfl))
        refine pq_g (fun g30 => ?_)
        refine pq_g (fun g31 => ?_)
        extract_lets +onlyGivenNames M33
        have w32 : Wk S Z hx N M M33 := wk_fL hN w28 rfl rfl g31 z_a0 (Or.inr (hS 319 rfl))
        refine pq_g (fun _ => ?_)
        exact pq_s w32
      · refine pq_g (fun _ => ?_)
        exact pq_s w23
    · refine pq_g (fun g34 => ?_)
      have z35 := wk_z (i := 0) (f := 299) w18 rfl z_a0
      refine pq_g (fun g36 => ?_)
      refine pq_b (wX94_expand S Z (sb rfl hS) n _ _ _ w18.1 z35) (fun r37 K38 => ?_)
      have w39 := wk_t w18 K38 hN
      refine pq_g (fun g40 => ?_)
      extract_lets +onlyGivenNames M42
      have w41 : Wk S Z hx N M M42 := wk_fI hN w39 rfl rfl g40 z_a0 (Or.inr (hS 317 rfl))
      refine pq_g (fun g43 => ?_)
      refine pq_fi (fun _ => ?_) (fun _ => ?_)
      · refine pq_g (fun g44 => ?_)
        refine pq_b (wX92_illegal S Z (sb rfl hS) _ _ w41.1 z_a0) (fun r45 K46 => ?_)
        have w47 := wk_t w41 K46 hN
        refine pq_fi (fun _ => ?_) (fun _ => ?_)
        · exact q_tA hN w47 (wX92_fetch_77 S Z hS n _ _ w47.1 )
        · exact q_tA hN w47 (wX92_fetch_72 S Z hS n _ w47.1 )
      · exact q_tA hN w41 (wX92_fetch_72 S Z hS n _ w41.1 )
  · refine pq_g (fun _ => ?_)
    exact pq_s w13
theorem wX92_fetch (S Z : Nat → Prop) {hx N : Nat} (hS : ∀ x, fe_mem lX92_fetch x = true → S x) (n : Nat) (a0 : Nat) (a1 : Int32) (M : FM) (w : WI Z hx N M) (z_a0 : Z a0) (i_a1 : a1.toNatClampNeg = hx) : pq (FX92_fetch n a0 a1 M) (QA S Z hx N M) := wX92_fetch_0 S Z hS n a0 a1 M w z_a0 i_a1
def lX98_bits : List Nat := []
theorem wX98_bits_5 (S Z : Nat → Prop) {hx N : Nat} (hS : ∀ x, fe_mem lX98_bits x = true → S x) (n : Nat) (k5 : Nat → Int32 → Int32 → Int32 → FM → Option (Int32 × FM)) (hk5 : ∀ (a0 : Nat) (a2 : Int32) (a3 : Int32) (a4 : Int32) (M : FM), WI Z hx N M → Z a0 → pq (k5 a0 a2 a3 a4 M) (QA S Z hx N M)) (a0 : Nat) (a2 : Int32) (a3 : Int32) (a4 : Int32) (M : FM) (w : WI Z hx N M) (z_a0 : Z a0) : pq (FX98_bits_5 n k5 a0 a2 a3 a4 M) (QA S Z hx N M) := by
  have hN := w.2.2.1
  have w0 := wk_r (S := S) w
  delta FX98_bits_5 BX98_bits_5
  refine pq_fi (fun _ => ?_) (fun _ => ?_)
  · exact pq_s w0
  · refine pq_g (fun g1 => ?_)
    exact q_tA hN w0 (hk5 _ _ _ _ _ w0.1 z_a0)
theorem wX98_bits_0 (S Z : Nat → Prop) {hx N : Nat} (hS : ∀ x, fe_mem lX98_bits x = true → S x) (n : Nat) (k5 : Nat → Int32 → Int32 → Int32 → FM → Option (Int32 × FM)) (hk5 : ∀ (a0 : Nat) (a2 : Int32) (a3 : Int32) (a4 : Int32) (M : FM), WI Z hx N M → Z a0 → pq (k5 a0 a2 a3 a4 M) (QA S Z hx N M)) (a0 : Nat) (a1 : Int32) (a2 : Int32) (M : FM) (w : WI Z hx N M) (z_a0 : Z a0) : pq (FX98_bits_0 n k5 a0 a1 a2 M) (QA S Z hx N M) := by
  have hN := w.2.2.1
  have w0 := wk_r (S := S) w
  delta FX98_bits_0 BX98_bits_0
  exact q_tA hN w0 (hk5 _ _ _ _ _ w0.1 z_a0)
theorem wX98_bits_L (S Z : Nat → Prop) {hx N : Nat} (hS : ∀ x, fe_mem lX98_bits x = true → S x) (n : Nat) : ∀ j : Nat, ∀ (a0 : Nat) (a2 : Int32) (a3 : Int32) (a4 : Int32) (M : FM), WI Z hx N M → Z a0 → pq (FX98_bits_L5 n j a0 a2 a3 a4 M) (QA S Z hx N M)
  | 0 => by intros; exact pq_0
  | j + 1 => fun a0 a2 a3 a4 M w => wX98_bits_5 S Z hS n _ (wX98_bits_L S Z hS n j) a0 a2 a3 a4 M w
theorem wX98_bits (S Z : Nat → Prop) {hx N : Nat} (hS : ∀ x, fe_mem lX98_bits x = true → S x) (n : Nat) (a0 : Nat) (a1 : Int32) (a2 : Int32) (M : FM) (w : WI Z hx N M) (z_a0 : Z a0) : pq (FX98_bits n a0 a1 a2 M) (QA S Z hx N M) := wX98_bits_0 S Z hS n _ (wX98_bits_L S Z hS n n) a0 a1 a2 M w z_a0
def lX98_isLess : List Nat := []
theorem wX98_isLess_50 (S Z : Nat → Prop) {hx N : Nat} (hS : ∀ x, fe_mem lX98_isLess x = true → S x) (s0 : Int32) (M : FM) (w : WI Z hx N M) : pq (FX98_isLess_50 s0 M) (QA S Z hx N M) := by
  have hN := w.2.2.1
  have w0 := wk_r (S := S) w
  delta FX98_isLess_50 BX98_isLess_50
  refine pq_g (fun _ => ?_)
  exact pq_s w0
theorem wX98_isLess_22 (S Z : Nat → Prop) {hx N : Nat} (hS : ∀ x, fe_mem lX98_isLess x = true → S x) (a0 : Int64) (a2 : Int64) (s0 : Int32) (s1 : Int32) (M : FM) (w : WI Z hx N M) : pq (FX98_isLess_22 a0 a2 s0 s1 M) (QA S Z hx N M) := by
  have hN := w.2.2.1
  have w0 := wk_r (S := S) w
  delta FX98_isLess_22 BX98_isLess_22
  refine pq_fi (fun _ => ?_) (fun _ => ?_)
  · refine pq_fi (fun _ => ?_) (fun _ => ?_)
    · exact q_tA hN w0 (wX98_isLess_50 S Z hS _ _ w0.1 )
    · exact q_tA hN w0 (wX98_isLess_50 S Z hS _ _ w0.1 )
  · refine pq_fi (fun _ => ?_) (fun _ => ?_)
    · exact q_tA hN w0 (wX98_isLess_50 S Z hS _ _ w0.1 )
    · exact q_tA hN w0 (wX98_isLess_50 S Z hS _ _ w0.1 )
theorem wX98_isLess_11 (S Z : Nat → Prop) {hx N : Nat} (hS : ∀ x, fe_mem lX98_isLess x = true → S x) (a0 : Int64) (a2 : Int64) (s0 : Int32) (M : FM) (w : WI Z hx N M) : pq (FX98_isLess_11 a0 a2 s0 M) (QA S Z hx N M) := by
  have hN := w.2.2.1
  have w0 := wk_r (S := S) w
  delta FX98_isLess_11 BX98_isLess_11
  refine pq_fi (fun _ => ?_) (fun _ => ?_)
  · exact q_tA hN w0 (wX98_isLess_22 S Z hS _ _ _ _ _ w0.1 )
  · exact q_tA hN w0 (wX98_isLess_22 S Z hS _ _ _ _ _ w0.1 )
theorem wX98_isLess_0 (S Z : Nat → Prop) {hx N : Nat} (hS : ∀ x, fe_mem lX98_isLess x = true → S x) (a0 : Int64) (a2 : Int64) (M : FM) (w : WI Z hx N M) : pq (FX98_isLess_0 a0 a2 M) (QA S Z hx N M) := by
  have hN := w.2.2.1
  have w0 := wk_r (S := S) w
  delta FX98_isLess_0 BX98_isLess_0
  refine pq_fi (fun _ => ?_) (fun _ => ?_)
  · exact q_tA hN w0 (wX98_isLess_11 S Z hS _ _ _ _ w0.1 )
  · exact q_tA hN w0 (wX98_isLess_11 S Z hS _ _ _ _ w0.1 )
theorem wX98_isLess (S Z : Nat → Prop) {hx N : Nat} (hS : ∀ x, fe_mem lX98_isLess x = true → S x) (a0 : Int64) (a2 : Int64) (M : FM) (w : WI Z hx N M) : pq (FX98_isLess a0 a2 M) (QA S Z hx N M) := wX98_isLess_0 S Z hS a0 a2 M w 
def lX98_sign : List Nat := []
theorem wX98_sign_13 (S Z : Nat → Prop) {hx N : Nat} (hS : ∀ x, fe_mem lX98_sign x = true → S x) (s0 : Int64) (M : FM) (w : WI Z hx N M) : pq (FX98_sign_13 s0 M) (QA S Z hx N M) := by
  have hN := w.2.2.1
  have w0 := wk_r (S := S) w
  delta FX98_sign_13 BX98_sign_13
  exact pq_s w0
theorem wX98_sign_0 (S Z : Nat → Prop) {hx N : Nat} (hS : ∀ x, fe_mem lX98_sign x = true → S x) (a0 : Nat) (a1 : Int64) (M : FM) (w : WI Z hx N M) (z_a0 : Z a0) : pq (FX98_sign_0 a0 a1 M) (QA S Z hx N M) := by
  have hN := w.2.2.1
  have w0 := wk_r (S := S) w
  delta FX98_sign_0 BX98_sign_0
  refine pq_g (fun g1 => ?_)
  refine pq_fi (fun _ => ?_) (fun _ => ?_)
  · exact q_tA hN w0 (wX98_sign_13 S Z hS _ _ w0.1 )
  · exact q_tA hN w0 (wX98_sign_13 S Z hS _ _ w0.1 )
theorem wX98_sign (S Z : Nat → Prop) {hx N : Nat} (hS : ∀ x, fe_mem lX98_sign x = true → S x) (a0 : Nat) (a1 : Int64) (M : FM) (w : WI Z hx N M) (z_a0 : Z a0) : pq (FX98_sign a0 a1 M) (QA S Z hx N M) := wX98_sign_0 S Z hS a0 a1 M w z_a0
def lX98_immediateB : List Nat := []
theorem wX98_immediateB_0 (S Z : Nat → Prop) {hx N : Nat} (hS : ∀ x, fe_mem lX98_immediateB x = true → S x) (n : Nat) (a0 : Nat) (M : FM) (w : WI Z hx N M) (z_a0 : Z a0) : pq (FX98_immediateB_0 n a0 M) (QA S Z hx N M) := by
  have hN := w.2.2.1
  have w0 := wk_r (S := S) w
  delta FX98_immediateB_0 BX98_immediateB_0
  refine pq_g (fun g1 => ?_)
  refine pq_b (wX98_sign S Z (sb rfl hS) _ _ _ w0.1 z_a0) (fun r2 K3 => ?_)
  have w4 := wk_t w0 K3 hN
  refine pq_g (fun g5 => ?_)
  refine pq_b (wX98_bits S Z (sb rfl hS) n _ _ _ _ w4.1 z_a0) (fun r6 K7 => ?_)
  have w8 := wk_t w4 K7 hN
  refine pq_g (fun g9 => ?_)
  refine pq_b (wX98_bits S Z (sb rfl hS) n _ _ _ _ w8.1 z_a0) (fun r10 K11 => ?_)
  have w12 := wk_t w8 K11 hN
  refine pq_g (fun g13 => ?_)
  refine pq_b (wX98_bits S Z (sb rfl hS) n _ _ _ _ w12.1 z_a0) (fun r14 K15 => ?_)
  have w16 := wk_t w12 K15 hN
  exact pq_s w16
theorem wX98_immediateB (S Z : Nat → Prop) {hx N : Nat} (hS : ∀ x, fe_mem lX98_immediateB x = true → S x) (n : Nat) (a0 : Nat) (M : FM) (w : WI Z hx N M) (z_a0 : Z a0) : pq (FX98_immediateB n a0 M) (QA S Z hx N M) := wX98_immediateB_0 S Z hS n a0 M w z_a0
def lX98_go : List Nat := [347, 348]
theorem wX98_go_0 (S Z : Nat → Prop) {hx N : Nat} (hS : ∀ x, fe_mem lX98_go x = true → S x) (a0 : Nat) (a1 : Int64) (M : FM) (w : WI Z hx N M) (z_a0 : Z a0) : pq (FX98_go_0 a0 a1 M) (QA S Z hx N M) := by
  have hN := w.2.2.1
  have w0 := wk_r (S := S) w
  delta FX98_go_0 BX98_go_0
  refine pq_g (fun g1 => ?_)
  extract_lets +onlyGivenNames M3
  have w2 : Wk S Z hx N M M3 := wk_fL hN w0 rfl rfl g1 z_a0 (Or.inr (hS 347 rfl))
  refine pq_g (fun g4 => ?_)
  refine pq_g (fun g5 => ?_)
  extract_lets +onlyGivenNames M7
  have w6 : Wk S Z hx N M M7 := wk_fL hN w2 rfl rfl g5 z_a0 (Or.inr (hS 348 rfl))
  exact pq_s w6
theorem wX98_go (S Z : Nat → Prop) {hx N : Nat} (hS : ∀ x, fe_mem lX98_go x = true → S x) (a0 : Nat) (a1 : Int64) (M : FM) (w : WI Z hx N M) (z_a0 : Z a0) : pq (FX98_go a0 a1 M) (QA S Z hx N M) := wX98_go_0 S Z hS a0 a1 M w z_a0
def lX98_branch : List Nat := [347, 348]
theorem wX98_branch_132 (S Z : Nat → Prop) {hx N : Nat} (hS : ∀ x, fe_mem lX98_branch x = true → S x) (n : Nat) (s0 : Nat) (s1 : Int64) (M : FM) (w : WI Z hx N M) (z_s0 : Z s0) : pq (FX98_branch_132 n s0 s1 M) (QA S Z hx N M) := by
  have hN := w.2.2.1
  have w0 := wk_r (S := S) w
  delta FX98_branch_132 BX98_branch_132
  refine pq_g (fun g1 => ?_)
  refine pq_b (wX98_go S Z (sb rfl hS) _ _ _ w0.1 z_s0) (fun r2 K3 => ?_)
  have w4 := wk_t w0 K3 hN
  exact pq_s w4
theorem wX98_branch_104 (S Z : Nat → Prop) {hx N : Nat} (hS : ∀ x, fe_mem lX98_branch x = true → S x) (n : Nat) (a0 : Nat) (s0 : Int32) (M : FM) (w : WI Z hx N M) (z_a0 : Z a0) : pq (FX98_branch_104 n a0 s0 M) (QA S Z hx N M) := by
  have hN := w.2.2.1
  have w0 := wk_r (S := S) w
  delta FX98_branch_104 BX98_branch_104
  refine pq_fi (fun _ => ?_) (fun _ => ?_)
  · refine pq_g (fun g1 => ?_)
    refine pq_g (fun g2 => ?_)
    exact q_tA hN w0 (wX98_branch_132 S Z hS n _ _ _ w0.1 z_a0)
  · refine pq_g (fun g3 => ?_)
    refine pq_g (fun g4 => ?_)
    refine pq_b (wX98_immediateB S Z (sb rfl hS) n _ _ w0.1 z_a0) (fun r5 K6 => ?_)
    have w7 := wk_t w0 K6 hN
    exact q_tA hN w7 (wX98_branch_132 S Z hS n _ _ _ w7.1 z_a0)
theorem wX98_branch_96 (S Z : Nat → Prop) {hx N : Nat} (hS : ∀ x, fe_mem lX98_branch x = true → S x) (n : Nat) (a0 : Nat) (s0 : Int32) (s1 : Int32) (M : FM) (w : WI Z hx N M) (z_a0 : Z a0) : pq (FX98_branch_96 n a0 s0 s1 M) (QA S Z hx N M) := by
  have hN := w.2.2.1
  have w0 := wk_r (S := S) w
  delta FX98_branch_96 BX98_branch_96
  refine pq_fi (fun _ => ?_) (fun _ => ?_)
  · exact q_tA hN w0 (wX98_branch_104 S Z hS n _ _ _ w0.1 z_a0)
  · exact q_tA hN w0 (wX98_branch_104 S Z hS n _ _ _ w0.1 z_a0)
theorem wX98_branch_91 (S Z : Nat → Prop) {hx N : Nat} (hS : ∀ x, fe_mem lX98_branch x = true → S x) (n : Nat) (a0 : Nat) (s0 : Int32) (M : FM) (w : WI Z hx N M) (z_a0 : Z a0) : pq (FX98_branch_91 n a0 s0 M) (QA S Z hx N M) := by
  have hN := w.2.2.1
  have w0 := wk_r (S := S) w
  delta FX98_branch_91 BX98_branch_91
  exact q_tA hN w0 (wX98_branch_96 S Z hS n _ _ _ _ w0.1 z_a0)
theorem wX98_branch_74 (S Z : Nat → Prop) {hx N : Nat} (hS : ∀ x, fe_mem lX98_branch x = true → S x) (n : Nat) (a0 : Nat) (a1 : Int32) (s0 : Int32) (M : FM) (w : WI Z hx N M) (z_a0 : Z a0) : pq (FX98_branch_74 n a0 a1 s0 M) (QA S Z hx N M) := by
  have hN := w.2.2.1
  have w0 := wk_r (S := S) w
  delta FX98_branch_74 BX98_branch_74
  refine pq_fi (fun _ => ?_) (fun _ => ?_)
  · exact q_tA hN w0 (wX98_branch_91 S Z hS n _ _ _ w0.1 z_a0)
  · refine pq_fi (fun _ => ?_) (fun _ => ?_)
    · exact q_tA hN w0 (wX98_branch_91 S Z hS n _ _ _ w0.1 z_a0)
    · refine pq_fi (fun _ => ?_) (fun _ => ?_)
      · exact q_tA hN w0 (wX98_branch_91 S Z hS n _ _ _ w0.1 z_a0)
      · exact q_tA hN w0 (wX98_branch_96 S Z hS n _ _ _ _ w0.1 z_a0)
theorem wX98_branch_10 (S Z : Nat → Prop) {hx N : Nat} (hS : ∀ x, fe_mem lX98_branch x = true → S x) (n : Nat) (M : FM) (w : WI Z hx N M) : pq (FX98_branch_10 n M) (QA S Z hx N M) := by
  have hN := w.2.2.1
  have w0 := wk_r (S := S) w
  delta FX98_branch_10 BX98_branch_10
  exact pq_s w0
theorem wX98_branch_0 (S Z : Nat → Prop) {hx N : Nat} (hS : ∀ x, fe_mem lX98_branch x = true → S x) (n : Nat) (a0 : Nat) (a1 : Int32) (M : FM) (w : WI Z hx N M) (z_a0 : Z a0) : pq (FX98_branch_0 n a0 a1 M) (QA S Z hx N M) := by
  have hN := w.2.2.1
  have w0 := wk_r (S := S) w
  delta FX98_branch_0 BX98_branch_0
  refine pq_fi (fun _ => ?_) (fun _ => ?_)
  · exact q_tA hN w0 (wX98_branch_10 S Z hS n _ w0.1 )
  · refine pq_fi (fun _ => ?_) (fun _ => ?_)
    · exact q_tA hN w0 (wX98_branch_10 S Z hS n _ w0.1 )
    · refine pq_fi (fun _ => ?_) (fun _ => ?_)
      · refine pq_fi (fun _ => ?_) (fun _ => ?_)
        · refine pq_g (fun g1 => ?_)
          refine pq_g (fun g2 => ?_)
          refine pq_b (wX98_isLess S Z (sb rfl hS) _ _ _ w0.1 ) (fun r3 K4 => ?_)
          have w5 := wk_t w0 K4 hN
          exact q_tA hN w5 (wX98_branch_74 S Z hS n _ _ _ _ w5.1 z_a0)
        · refine pq_g (fun g6 => ?_)
          refine pq_g (fun g7 => ?_)
          refine pq_fi (fun _ => ?_) (fun _ => ?_)
          · exact q_tA hN w0 (wX98_branch_74 S Z hS n _ _ _ _ w0.1 z_a0)
          · exact q_tA hN w0 (wX98_branch_74 S Z hS n _ _ _ _ w0.1 z_a0)
      · refine pq_g (fun g8 => ?_)
        refine pq_g (fun g9 => ?_)
        refine pq_fi (fun _ => ?_) (fun _ => ?_)
        · exact q_tA hN w0 (wX98_branch_74 S Z hS n _ _ _ _ w0.1 z_a0)
        · exact q_tA hN w0 (wX98_branch_74 S Z hS n _ _ _ _ w0.1 z_a0)
theorem wX98_branch (S Z : Nat → Prop) {hx N : Nat} (hS : ∀ x, fe_mem lX98_branch x = true → S x) (n : Nat) (a0 : Nat) (a1 : Int32) (M : FM) (w : WI Z hx N M) (z_a0 : Z a0) : pq (FX98_branch n a0 a1 M) (QA S Z hx N M) := wX98_branch_0 S Z hS n a0 a1 M w z_a0
def lX98_immediateI : List Nat := []
theorem wX98_immediateI_0 (S Z : Nat → Prop) {hx N : Nat} (hS : ∀ x, fe_mem lX98_immediateI x = true → S x) (n : Nat) (a0 : Nat) (M : FM) (w : WI Z hx N M) (z_a0 : Z a0) : pq (FX98_immediateI_0 n a0 M) (QA S Z hx N M) := by
  have hN := w.2.2.1
  have w0 := wk_r (S := S) w
  delta FX98_immediateI_0 BX98_immediateI_0
  refine pq_g (fun g1 => ?_)
  refine pq_b (wX98_sign S Z (sb rfl hS) _ _ _ w0.1 z_a0) (fun r2 K3 => ?_)
  have w4 := wk_t w0 K3 hN
  refine pq_g (fun g5 => ?_)
  refine pq_b (wX98_bits S Z (sb rfl hS) n _ _ _ _ w4.1 z_a0) (fun r6 K7 => ?_)
  have w8 := wk_t w4 K7 hN
  exact pq_s w8
theorem wX98_immediateI (S Z : Nat → Prop) {hx N : Nat} (hS : ∀ x, fe_mem lX98_immediateI x = true → S x) (n : Nat) (a0 : Nat) (M : FM) (w : WI Z hx N M) (z_a0 : Z a0) : pq (FX98_immediateI n a0 M) (QA S Z hx N M) := wX98_immediateI_0 S Z hS n a0 M w z_a0
def lX98_truth : List Nat := []
theorem wX98_truth_9 (S Z : Nat → Prop) {hx N : Nat} (hS : ∀ x, fe_mem lX98_truth x = true → S x) (s0 : Int64) (M : FM) (w : WI Z hx N M) : pq (FX98_truth_9 s0 M) (QA S Z hx N M) := by
  have hN := w.2.2.1
  have w0 := wk_r (S := S) w
  delta FX98_truth_9 BX98_truth_9
  exact pq_s w0
theorem wX98_truth_0 (S Z : Nat → Prop) {hx N : Nat} (hS : ∀ x, fe_mem lX98_truth x = true → S x) (a0 : Int32) (M : FM) (w : WI Z hx N M) : pq (FX98_truth_0 a0 M) (QA S Z hx N M) := by
  have hN := w.2.2.1
  have w0 := wk_r (S := S) w
  delta FX98_truth_0 BX98_truth_0
  refine pq_fi (fun _ => ?_) (fun _ => ?_)
  · exact q_tA hN w0 (wX98_truth_9 S Z hS _ _ w0.1 )
  · exact q_tA hN w0 (wX98_truth_9 S Z hS _ _ w0.1 )
theorem wX98_truth (S Z : Nat → Prop) {hx N : Nat} (hS : ∀ x, fe_mem lX98_truth x = true → S x) (a0 : Int32) (M : FM) (w : WI Z hx N M) : pq (FX98_truth a0 M) (QA S Z hx N M) := wX98_truth_0 S Z hS a0 M w 
def lX98_plain : List Nat := []
theorem wX98_plain_64 (S Z : Nat → Prop) {hx N : Nat} (hS : ∀ x, fe_mem lX98_plain x = true → S x) (s0 : Int32) (M : FM) (w : WI Z hx N M) : pq (FX98_plain_64 s0 M) (QA S Z hx N M) := by
  have hN := w.2.2.1
  have w0 := wk_r (S := S) w
  delta FX98_plain_64 BX98_plain_64
  refine pq_b (wX98_truth S Z (sb rfl hS) _ _ w0.1 ) (fun r1 K2 => ?_)
  have w3 := wk_t w0 K2 hN
  exact pq_s w3
theorem wX98_plain_0 (S Z : Nat → Prop) {hx N : Nat} (hS : ∀ x, fe_mem lX98_plain x = true → S x) (a0 : Int32) (a1 : Int64) (a3 : Int64) (a5 : Int32) (M : FM) (w : WI Z hx N M) : pq (FX98_plain_0 a0 a1 a3 a5 M) (QA S Z hx N M) := by
  have hN := w.2.2.1
  have w0 := wk_r (S := S) w
  delta FX98_plain_0 BX98_plain_0
  refine pq_fi (fun _ => ?_) (fun _ => ?_)
  · exact pq_s w0
  · refine pq_fi (fun _ => ?_) (fun _ => ?_)
    · exact pq_s w0
    · refine pq_fi (fun _ => ?_) (fun _ => ?_)
      · refine pq_fi (fun _ => ?_) (fun _ => ?_)
        · exact q_tA hN w0 (wX98_plain_64 S Z hS _ _ w0.1 )
        · exact q_tA hN w0 (wX98_plain_64 S Z hS _ _ w0.1 )
      · refine pq_fi (fun _ => ?_) (fun _ => ?_)
        · refine pq_b (wX98_isLess S Z (sb rfl hS) _ _ _ w0.1 ) (fun r1 K2 => ?_)
          have w3 := wk_t w0 K2 hN
          refine pq_b (wX98_truth S Z (sb rfl hS) _ _ w3.1 ) (fun r4 K5 => ?_)
          have w6 := wk_t w3 K5 hN
          exact pq_s w6
        · refine pq_fi (fun _ => ?_) (fun _ => ?_)
          · exact pq_s w0
          · refine pq_fi (fun _ => ?_) (fun _ => ?_)
            · exact pq_s w0
            · refine pq_fi (fun _ => ?_) (fun _ => ?_)
              · exact pq_s w0
              · exact pq_s w0
theorem wX98_plain (S Z : Nat → Prop) {hx N : Nat} (hS : ∀ x, fe_mem lX98_plain x = true → S x) (a0 : Int32) (a1 : Int64) (a3 : Int64) (a5 : Int32) (M : FM) (w : WI Z hx N M) : pq (FX98_plain a0 a1 a3 a5 M) (QA S Z hx N M) := wX98_plain_0 S Z hS a0 a1 a3 a5 M w 
def lX98_done : List Nat := [347, 348, 1346]
theorem wX98_done_0 (S Z : Nat → Prop) {hx N : Nat} (hS : ∀ x, fe_mem lX98_done x = true → S x) (a0 : Nat) (a1 : Int32) (a2 : Int64) (M : FM) (w : WI Z hx N M) (z_a0 : Z a0) : pq (FX98_done_0 a0 a1 a2 M) (QA S Z hx N M) := by
  have hN := w.2.2.1
  have w0 := wk_r (S := S) w
  delta FX98_done_0 BX98_done_0
  refine pq_g (fun g1 => ?_)
  refine pq_b (wX98_put S Z (sb rfl hS) _ _ _ _ w0.1 z_a0) (fun r2 K3 => ?_)
  have w4 := wk_t w0 K3 hN
  refine pq_g (fun g5 => ?_)
  refine pq_g (fun g6 => ?_)
  refine pq_g (fun g7 => ?_)
  extract_lets +onlyGivenNames M9
  have w8 : Wk S Z hx N M M9 := wk_fL hN w4 rfl rfl g7 z_a0 (Or.inr (hS 347 rfl))
  refine pq_g (fun g10 => ?_)
  refine pq_g (fun g11 => ?_)
  extract_lets +onlyGivenNames M13
  have w12 : Wk S Z hx N M M13 := wk_fL hN w8 rfl rfl g11 z_a0 (Or.inr (hS 348 rfl))
  exact pq_s w12
theorem wX98_done (S Z : Nat → Prop) {hx N : Nat} (hS : ∀ x, fe_mem lX98_done x = true → S x) (a0 : Nat) (a1 : Int32) (a2 : Int64) (M : FM) (w : WI Z hx N M) (z_a0 : Z a0) : pq (FX98_done a0 a1 a2 M) (QA S Z hx N M) := wX98_done_0 S Z hS a0 a1 a2 M w z_a0
def lX98_withImmediate : List Nat := [347, 348, 1346]
theorem wX98_withImmediate_82 (S Z : Nat → Prop) {hx N : Nat} (hS : ∀ x, fe_mem lX98_withImmediate x = true → S x) (n : Nat) (s0 : Nat) (s1 : Int32) (s2 : Int64) (M : FM) (w : WI Z hx N M) (z_s0 : Z s0) : pq (FX98_withImmediate_82 n s0 s1 s2 M) (QA S Z hx N M) := by
  have hN := w.2.2.1
  have w0 := wk_r (S := S) w
  delta FX98_withImmediate_82 BX98_withImmediate_82
  refine pq_g (fun g1 => ?_)
  refine pq_b (wX98_done S Z (sb rfl hS) _ _ _ _ w0.1 z_s0) (fun r2 K3 => ?_)
  have w4 := wk_t w0 K3 hN
  exact pq_s w4
theorem wX98_withImmediate_68 (S Z : Nat → Prop) {hx N : Nat} (hS : ∀ x, fe_mem lX98_withImmediate x = true → S x) (n : Nat) (a0 : Nat) (a2 : Int32) (a4 : Int32) (s0 : Nat) (s1 : Int32) (M : FM) (w : WI Z hx N M) (z_a0 : Z a0) (z_s0 : Z s0) : pq (FX98_withImmediate_68 n a0 a2 a4 s0 s1 M) (QA S Z hx N M) := by
  have hN := w.2.2.1
  have w0 := wk_r (S := S) w
  delta FX98_withImmediate_68 BX98_withImmediate_68
  refine pq_g (fun g1 => ?_)
  refine pq_g (fun g2 => ?_)
  refine pq_b (wX98_immediateI S Z (sb rfl hS) n _ _ w0.1 z_a0) (fun r3 K4 => ?_)
  have w5 := wk_t w0 K4 hN
  refine pq_b (wX98_plain S Z (sb rfl hS) _ _ _ _ _ w5.1 ) (fun r6 K7 => ?_)
  have w8 := wk_t w5 K7 hN
  exact q_tA hN w8 (wX98_withImmediate_82 S Z hS n _ _ _ _ w8.1 z_s0)
theorem wX98_withImmediate_35 (S Z : Nat → Prop) {hx N : Nat} (hS : ∀ x, fe_mem lX98_withImmediate x = true → S x) (n : Nat) (a0 : Nat) (a1 : Int32) (a2 : Int32) (a3 : Int32) (M : FM) (w : WI Z hx N M) (z_a0 : Z a0) : pq (FX98_withImmediate_35 n a0 a1 a2 a3 M) (QA S Z hx N M) := by
  have hN := w.2.2.1
  have w0 := wk_r (S := S) w
  delta FX98_withImmediate_35 BX98_withImmediate_35
  refine pq_g (fun g1 => ?_)
  refine pq_b (wX98_bits S Z (sb rfl hS) n _ _ _ _ w0.1 z_a0) (fun r2 K3 => ?_)
  have w4 := wk_t w0 K3 hN
  refine pq_fi (fun _ => ?_) (fun _ => ?_)
  · refine pq_fi (fun _ => ?_) (fun _ => ?_)
    · refine pq_g (fun g5 => ?_)
      exact q_tA hN w4 (wX98_withImmediate_82 S Z hS n _ _ _ _ w4.1 z_a0)
    · exact q_tA hN w4 (wX98_withImmediate_68 S Z hS n _ _ _ _ _ _ w4.1 z_a0 z_a0)
  · exact q_tA hN w4 (wX98_withImmediate_68 S Z hS n _ _ _ _ _ _ w4.1 z_a0 z_a0)
theorem wX98_withImmediate_33 (S Z : Nat → Prop) {hx N : Nat} (hS : ∀ x, fe_mem lX98_withImmediate x = true → S x) (n : Nat) (M : FM) (w : WI Z hx N M) : pq (FX98_withImmediate_33 n M) (QA S Z hx N M) := by
  have hN := w.2.2.1
  have w0 := wk_r (S := S) w
  delta FX98_withImmediate_33 BX98_withImmediate_33
  exact pq_s w0
theorem wX98_withImmediate_18 (S Z : Nat → Prop) {hx N : Nat} (hS : ∀ x, fe_mem lX98_withImmediate x = true → S x) (n : Nat) (a0 : Nat) (a1 : Int32) (a2 : Int32) (a3 : Int32) (M : FM) (w : WI Z hx N M) (z_a0 : Z a0) : pq (FX98_withImmediate_18 n a0 a1 a2 a3 M) (QA S Z hx N M) := by
  have hN := w.2.2.1
  have w0 := wk_r (S := S) w
  delta FX98_withImmediate_18 BX98_withImmediate_18
  refine pq_fi (fun _ => ?_) (fun _ => ?_)
  · refine pq_fi (fun _ => ?_) (fun _ => ?_)
    · exact q_tA hN w0 (wX98_withImmediate_35 S Z hS n _ _ _ _ _ w0.1 z_a0)
    · refine pq_fi (fun _ => ?_) (fun _ => ?_)
      · exact q_tA hN w0 (wX98_withImmediate_35 S Z hS n _ _ _ _ _ w0.1 z_a0)
      · exact q_tA hN w0 (wX98_withImmediate_33 S Z hS n _ w0.1 )
  · exact q_tA hN w0 (wX98_withImmediate_35 S Z hS n _ _ _ _ _ w0.1 z_a0)
theorem wX98_withImmediate_0 (S Z : Nat → Prop) {hx N : Nat} (hS : ∀ x, fe_mem lX98_withImmediate x = true → S x) (n : Nat) (a0 : Nat) (a1 : Int32) (a2 : Int32) (M : FM) (w : WI Z hx N M) (z_a0 : Z a0) : pq (FX98_withImmediate_0 n a0 a1 a2 M) (QA S Z hx N M) := by
  have hN := w.2.2.1
  have w0 := wk_r (S := S) w
  delta FX98_withImmediate_0 BX98_withImmediate_0
  refine pq_g (fun g1 => ?_)
  refine pq_b (wX98_bits S Z (sb rfl hS) n _ _ _ _ w0.1 z_a0) (fun r2 K3 => ?_)
  have w4 := wk_t w0 K3 hN
  refine pq_fi (fun _ => ?_) (fun _ => ?_)
  · refine pq_fi (fun _ => ?_) (fun _ => ?_)
    · exact q_tA hN w4 (wX98_withImmediate_18 S Z hS n _ _ _ _ _ w4.1 z_a0)
    · exact q_tA hN w4 (wX98_withImmediate_33 S Z hS n _ w4.1 )
  · exact q_tA hN w4 (wX98_withImmediate_18 S Z hS n _ _ _ _ _ w4.1 z_a0)
theorem wX98_withImmediate (S Z : Nat → Prop) {hx N : Nat} (hS : ∀ x, fe_mem lX98_withImmediate x = true → S x) (n : Nat) (a0 : Nat) (a1 : Int32) (a2 : Int32) (M : FM) (w : WI Z hx N M) (z_a0 : Z a0) : pq (FX98_withImmediate n a0 a1 a2 M) (QA S Z hx N M) := wX98_withImmediate_0 S Z hS n a0 a1 a2 M w z_a0
def lX98_immediateU : List Nat := []
theorem wX98_immediateU_0 (S Z : Nat → Prop) {hx N : Nat} (hS : ∀ x, fe_mem lX98_immediateU x = true → S x) (n : Nat) (a0 : Nat) (M : FM) (w : WI Z hx N M) (z_a0 : Z a0) : pq (FX98_immediateU_0 n a0 M) (QA S Z hx N M) := by
  have hN := w.2.2.1
  have w0 := wk_r (S := S) w
  delta FX98_immediateU_0 BX98_immediateU_0
  refine pq_g (fun g1 => ?_)
  refine pq_b (wX98_sign S Z (sb rfl hS) _ _ _ w0.1 z_a0) (fun r2 K3 => ?_)
  have w4 := wk_t w0 K3 hN
  refine pq_g (fun g5 => ?_)
  refine pq_b (wX98_bits S Z (sb rfl hS) n _ _ _ _ w4.1 z_a0) (fun r6 K7 => ?_)
  have w8 := wk_t w4 K7 hN
  exact pq_s w8
theorem wX98_immediateU (S Z : Nat → Prop) {hx N : Nat} (hS : ∀ x, fe_mem lX98_immediateU x = true → S x) (n : Nat) (a0 : Nat) (M : FM) (w : WI Z hx N M) (z_a0 : Z a0) : pq (FX98_immediateU n a0 M) (QA S Z hx N M) := wX98_immediateU_0 S Z hS n a0 M w z_a0
def lX98_power : List Nat := []
theorem wX98_power_33 (S Z : Nat → Prop) {hx N : Nat} (hS : ∀ x, fe_mem lX98_power x = true → S x) (s0 : Int64) (M : FM) (w : WI Z hx N M) : pq (FX98_power_33 s0 M) (QA S Z hx N M) := by
  have hN := w.2.2.1
  have w0 := wk_r (S := S) w
  delta FX98_power_33 BX98_power_33
  exact pq_s w0
theorem wX98_power_0 (S Z : Nat → Prop) {hx N : Nat} (hS : ∀ x, fe_mem lX98_power x = true → S x) (a0 : Int32) (M : FM) (w : WI Z hx N M) : pq (FX98_power_0 a0 M) (QA S Z hx N M) := by
  have hN := w.2.2.1
  have w0 := wk_r (S := S) w
  delta FX98_power_0 BX98_power_0
  refine pq_fi (fun _ => ?_) (fun _ => ?_)
  · exact q_tA hN w0 (wX98_power_33 S Z hS _ _ w0.1 )
  · refine pq_fi (fun _ => ?_) (fun _ => ?_)
    · exact q_tA hN w0 (wX98_power_33 S Z hS _ _ w0.1 )
    · refine pq_fi (fun _ => ?_) (fun _ => ?_)
      · exact q_tA hN w0 (wX98_power_33 S Z hS _ _ w0.1 )
      · exact q_tA hN w0 (wX98_power_33 S Z hS _ _ w0.1 )
theorem wX98_power (S Z : Nat → Prop) {hx N : Nat} (hS : ∀ x, fe_mem lX98_power x = true → S x) (a0 : Int32) (M : FM) (w : WI Z hx N M) : pq (FX98_power a0 M) (QA S Z hx N M) := wX98_power_0 S Z hS a0 M w 
def lX98_want : List Nat := [353, 354, 1355]
theorem wX98_want_0 (S Z : Nat → Prop) {hx N : Nat} (hS : ∀ x, fe_mem lX98_want x = true → S x) (a0 : Nat) (a1 : Int32) (a2 : Int64) (a4 : Int64) (a6 : Int64) (a8 : Int64) (a10 : Int32) (M : FM) (w : WI Z hx N M) (z_a0 : Z a0) : pq (FX98_want_0 a0 a1 a2 a4 a6 a8 a10 M) (QA S Z hx N M) := by
  have hN := w.2.2.1
  have w0 := wk_r (S := S) w
  delta FX98_want_0 BX98_want_0
  refine pq_g (fun g1 => ?_)
  extract_lets +onlyGivenNames M3
  have w2 : Wk S Z hx N M M3 := wk_fI hN w0 rfl rfl g1 z_a0 (Or.inr (hS 353 rfl))
  refine pq_g (fun g4 => ?_)
  refine pq_g (fun g5 => ?_)
  extract_lets +onlyGivenNames M7
  have w6 : Wk S Z hx N M M7 := wk_fI hN w2 rfl rfl g5 z_a0 (Or.inr (hS 354 rfl))
  refine pq_g (fun g8 => ?_)
  have z9 := wk_z (i := 0) (f := 355) w6 rfl z_a0
  have f10 := sS_355 w6.1.1 g8
  refine pq_g (fun g11 => ?_)
  extract_lets +onlyGivenNames M13
  have w12 : Wk S Z hx N M M13 := wk_aL hN w6 rfl g11.1 z9 (sy_s f10 (hS 1355 rfl))
  refine pq_g (fun g14 => ?_)
  have z15 := wk_z (i := 0) (f := 355) w12 rfl z_a0
  have f16 := sS_355 w12.1.1 g14
  refine pq_g (fun g17 => ?_)
  extract_lets +onlyGivenNames M19
  have w18 : Wk S Z hx N M M19 := wk_aL hN w12 rfl g17.1 z15 (sy_s f16 (hS 1355 rfl))
  refine pq_g (fun g20 => ?_)
  have z21 := wk_z (i := 0) (f := 355) w18 rfl z_a0
  have f22 := sS_355 w18.1.1 g20
  refine pq_g (fun g23 => ?_)
  extract_lets +onlyGivenNames M25
  have w24 : Wk S Z hx N M M25 := wk_aL hN w18 rfl g23.1 z21 (sy_s f22 (hS 1355 rfl))
  refine pq_g (fun g26 => ?_)
  have z27 := wk_z (i := 0) (f := 355) w24 rfl z_a0
  have f28 := sS_355 w24.1.1 g26
  refine pq_g (fun g29 => ?_)
  extract_lets +onlyGivenNames M31
  have w30 : Wk S Z hx N M M31 := wk_aL hN w24 rfl g29.1 z27 (sy_s f28 (hS 1355 rfl))
  refine pq_g (fun g32 => ?_)
  have z33 := wk_z (i := 0) (f := 355) w30 rfl z_a0
  have f34 := sS_355 w30.1.1 g32
  refine pq_g (fun g35 => ?_)
  extract_lets +onlyGivenNames M37
  have w36 : Wk S Z hx N M M37 := wk_aL hN w30 rfl g35.1 z33 (sy_s f34 (hS 1355 rfl))
  exact pq_s w36
theorem wX98_want (S Z : Nat → Prop) {hx N : Nat} (hS : ∀ x, fe_mem lX98_want x = true → S x) (a0 : Nat) (a1 : Int32) (a2 : Int64) (a4 : Int64) (a6 : Int64) (a8 : Int64) (a10 : Int32) (M : FM) (w : WI Z hx N M) (z_a0 : Z a0) : pq (FX98_want a0 a1 a2 a4 a6 a8 a10 M) (QA S Z hx N M) := wX98_want_0 S Z hS a0 a1 a2 a4 a6 a8 a10 M w z_a0
def lX98_atomic : List Nat := [353, 354, 1355]
theorem wX98_atomic_96 (S Z : Nat → Prop) {hx N : Nat} (hS : ∀ x, fe_mem lX98_atomic x = true → S x) (n : Nat) (s0 : Int32) (M : FM) (w : WI Z hx N M) : pq (FX98_atomic_96 n s0 M) (QA S Z hx N M) := by
  have hN := w.2.2.1
  have w0 := wk_r (S := S) w
  delta FX98_atomic_96 BX98_atomic_96
  exact pq_s w0
theorem wX98_atomic_95 (S Z : Nat → Prop) {hx N : Nat} (hS : ∀ x, fe_mem lX98_atomic x = true → S x) (n : Nat) (M : FM) (w : WI Z hx N M) : pq (FX98_atomic_95 n M) (QA S Z hx N M) := by
  have hN := w.2.2.1
  have w0 := wk_r (S := S) w
  delta FX98_atomic_95 BX98_atomic_95
  exact q_tA hN w0 (wX98_atomic_96 S Z hS n _ _ w0.1 )
theorem wX98_atomic_72 (S Z : Nat → Prop) {hx N : Nat} (hS : ∀ x, fe_mem lX98_atomic x = true → S x) (n : Nat) (a0 : Nat) (a1 : Int32) (a2 : Int32) (a3 : Int32) (M : FM) (w : WI Z hx N M) (z_a0 : Z a0) : pq (FX98_atomic_72 n a0 a1 a2 a3 M) (QA S Z hx N M) := by
  have hN := w.2.2.1
  have w0 := wk_r (S := S) w
  delta FX98_atomic_72 BX98_atomic_72
  refine pq_g (fun g1 => ?_)
  refine pq_b (wX98_power S Z (sb rfl hS) _ _ w0.1 ) (fun r2 K3 => ?_)
  have w4 := wk_t w0 K3 hN
  refine pq_g (fun g5 => ?_)
  refine pq_g (fun g6 => ?_)
  refine pq_b (wX98_want S Z (sb rfl hS) _ _ _ _ _ _ _ _ w4.1 z_a0) (fun r7 K8 => ?_)
  have w9 := wk_t w4 K8 hN
  exact q_tA hN w9 (wX98_atomic_96 S Z hS n _ _ w9.1 )
theorem wX98_atomic_55 (S Z : Nat → Prop) {hx N : Nat} (hS : ∀ x, fe_mem lX98_atomic x = true → S x) (n : Nat) (a0 : Nat) (a1 : Int32) (a2 : Int32) (a3 : Int32) (s0 : Int32) (M : FM) (w : WI Z hx N M) (z_a0 : Z a0) : pq (FX98_atomic_55 n a0 a1 a2 a3 s0 M) (QA S Z hx N M) := by
  have hN := w.2.2.1
  have w0 := wk_r (S := S) w
  delta FX98_atomic_55 BX98_atomic_55
  refine pq_fi (fun _ => ?_) (fun _ => ?_)
  · exact q_tA hN w0 (wX98_atomic_95 S Z hS n _ w0.1 )
  · refine pq_fi (fun _ => ?_) (fun _ => ?_)
    · exact q_tA hN w0 (wX98_atomic_72 S Z hS n _ _ _ _ _ w0.1 z_a0)
    · refine pq_fi (fun _ => ?_) (fun _ => ?_)
      · exact q_tA hN w0 (wX98_atomic_72 S Z hS n _ _ _ _ _ w0.1 z_a0)
      · exact q_tA hN w0 (wX98_atomic_95 S Z hS n _ w0.1 )
theorem wX98_atomic_54 (S Z : Nat → Prop) {hx N : Nat} (hS : ∀ x, fe_mem lX98_atomic x = true → S x) (n : Nat) (a0 : Nat) (a1 : Int32) (a2 : Int32) (a3 : Int32) (M : FM) (w : WI Z hx N M) (z_a0 : Z a0) : pq (FX98_atomic_54 n a0 a1 a2 a3 M) (QA S Z hx N M) := by
  have hN := w.2.2.1
  have w0 := wk_r (S := S) w
  delta FX98_atomic_54 BX98_atomic_54
  exact q_tA hN w0 (wX98_atomic_55 S Z hS n _ _ _ _ _ _ w0.1 z_a0)
theorem wX98_atomic_30 (S Z : Nat → Prop) {hx N : Nat} (hS : ∀ x, fe_mem lX98_atomic x = true → S x) (n : Nat) (a0 : Nat) (a1 : Int32) (a2 : Int32) (a3 : Int32) (M : FM) (w : WI Z hx N M) (z_a0 : Z a0) : pq (FX98_atomic_30 n a0 a1 a2 a3 M) (QA S Z hx N M) := by
  have hN := w.2.2.1
  have w0 := wk_r (S := S) w
  delta FX98_atomic_30 BX98_atomic_30
  exact q_tA hN w0 (wX98_atomic_55 S Z hS n _ _ _ _ _ _ w0.1 z_a0)
theorem wX98_atomic_0 (S Z : Nat → Prop) {hx N : Nat} (hS : ∀ x, fe_mem lX98_atomic x = true → S x) (n : Nat) (a0 : Nat) (a1 : Int32) (a2 : Int32) (M : FM) (w : WI Z hx N M) (z_a0 : Z a0) : pq (FX98_atomic_0 n a0 a1 a2 M) (QA S Z hx N M) := by
  have hN := w.2.2.1
  have w0 := wk_r (S := S) w
  delta FX98_atomic_0 BX98_atomic_0
  refine pq_g (fun g1 => ?_)
  refine pq_b (wX98_bits S Z (sb rfl hS) n _ _ _ _ w0.1 z_a0) (fun r2 K3 => ?_)
  have w4 := wk_t w0 K3 hN
  refine pq_fi (fun _ => ?_) (fun _ => ?_)
  · refine pq_n ?_
    refine pq_fi (fun _ => ?_) (fun _ => ?_)
    · refine pq_fi (fun _ => ?_) (fun _ => ?_)
      · exact q_tA hN w4 (wX98_atomic_54 S Z hS n _ _ _ _ _ w4.1 z_a0)
      · exact q_tA hN w4 (wX98_atomic_55 S Z hS n _ _ _ _ _ _ w4.1 z_a0)
    · exact q_tA hN w4 (wX98_atomic_54 S Z hS n _ _ _ _ _ w4.1 z_a0)
  · refine pq_fi (fun _ => ?_) (fun _ => ?_)
    · refine pq_g (fun g5 => ?_)
      refine pq_b (wX98_bits S Z (sb rfl hS) n _ _ _ _ w4.1 z_a0) (fun r6 K7 => ?_)
      have w8 := wk_t w4 K7 hN
      refine pq_fi (fun _ => ?_) (fun _ => ?_)
      · exact q_tA hN w8 (wX98_atomic_30 S Z hS n _ _ _ _ _ w8.1 z_a0)
      · exact q_tA hN w8 (wX98_atomic_55 S Z hS n _ _ _ _ _ _ w8.1 z_a0)
    · exact q_tA hN w4 (wX98_atomic_30 S Z hS n _ _ _ _ _ w4.1 z_a0)
theorem wX98_atomic (S Z : Nat → Prop) {hx N : Nat} (hS : ∀ x, fe_mem lX98_atomic x = true → S x) (n : Nat) (a0 : Nat) (a1 : Int32) (a2 : Int32) (M : FM) (w : WI Z hx N M) (z_a0 : Z a0) : pq (FX98_atomic n a0 a1 a2 M) (QA S Z hx N M) := wX98_atomic_0 S Z hS n a0 a1 a2 M w z_a0
def lX98_control : List Nat := [353, 354, 1355]
theorem wX98_control_41 (S Z : Nat → Prop) {hx N : Nat} (hS : ∀ x, fe_mem lX98_control x = true → S x) (n : Nat) (a1 : Int32) (a2 : Int32) (s0 : Nat) (s1 : Int32) (s2 : Int64) (s3 : Int64) (s4 : Int64) (M : FM) (w : WI Z hx N M) (z_s0 : Z s0) : pq (FX98_control_41 n a1 a2 s0 s1 s2 s3 s4 M) (QA S Z hx N M) := by
  have hN := w.2.2.1
  have w0 := wk_r (S := S) w
  delta FX98_control_41 BX98_control_41
  refine pq_g (fun g1 => ?_)
  refine pq_b (wX98_want S Z (sb rfl hS) _ _ _ _ _ _ _ _ w0.1 z_s0) (fun r2 K3 => ?_)
  have w4 := wk_t w0 K3 hN
  exact pq_s w4
theorem wX98_control_0 (S Z : Nat → Prop) {hx N : Nat} (hS : ∀ x, fe_mem lX98_control x = true → S x) (n : Nat) (a0 : Nat) (a1 : Int32) (a2 : Int32) (M : FM) (w : WI Z hx N M) (z_a0 : Z a0) : pq (FX98_control_0 n a0 a1 a2 M) (QA S Z hx N M) := by
  have hN := w.2.2.1
  have w0 := wk_r (S := S) w
  delta FX98_control_0 BX98_control_0
  refine pq_fi (fun _ => ?_) (fun _ => ?_)
  · exact pq_s w0
  · refine pq_g (fun g1 => ?_)
    refine pq_b (wX98_bits S Z (sb rfl hS) n _ _ _ _ w0.1 z_a0) (fun r2 K3 => ?_)
    have w4 := wk_t w0 K3 hN
    refine pq_fi (fun _ => ?_) (fun _ => ?_)
    · refine pq_g (fun g5 => ?_)
      exact q_tA hN w4 (wX98_control_41 S Z hS n _ _ _ _ _ _ _ _ w4.1 z_a0)
    · refine pq_g (fun g6 => ?_)
      refine pq_b (wX98_bits S Z (sb rfl hS) n _ _ _ _ w4.1 z_a0) (fun r7 K8 => ?_)
      have w9 := wk_t w4 K8 hN
      exact q_tA hN w9 (wX98_control_41 S Z hS n _ _ _ _ _ _ _ _ w9.1 z_a0)
theorem wX98_control (S Z : Nat → Prop) {hx N : Nat} (hS : ∀ x, fe_mem lX98_control x = true → S x) (n : Nat) (a0 : Nat) (a1 : Int32) (a2 : Int32) (M : FM) (w : WI Z hx N M) (z_a0 : Z a0) : pq (FX98_control n a0 a1 a2 M) (QA S Z hx N M) := wX98_control_0 S Z hS n a0 a1 a2 M w z_a0
def lX98_immediateS : List Nat := []
theorem wX98_immediateS_0 (S Z : Nat → Prop) {hx N : Nat} (hS : ∀ x, fe_mem lX98_immediateS x = true → S x) (n : Nat) (a0 : Nat) (M : FM) (w : WI Z hx N M) (z_a0 : Z a0) : pq (FX98_immediateS_0 n a0 M) (QA S Z hx N M) := by
  have hN := w.2.2.1
  have w0 := wk_r (S := S) w
  delta FX98_immediateS_0 BX98_immediateS_0
  refine pq_g (fun g1 => ?_)
  refine pq_b (wX98_sign S Z (sb rfl hS) _ _ _ w0.1 z_a0) (fun r2 K3 => ?_)
  have w4 := wk_t w0 K3 hN
  refine pq_g (fun g5 => ?_)
  refine pq_b (wX98_bits S Z (sb rfl hS) n _ _ _ _ w4.1 z_a0) (fun r6 K7 => ?_)
  have w8 := wk_t w4 K7 hN
  refine pq_g (fun g9 => ?_)
  refine pq_b (wX98_bits S Z (sb rfl hS) n _ _ _ _ w8.1 z_a0) (fun r10 K11 => ?_)
  have w12 := wk_t w8 K11 hN
  exact pq_s w12
theorem wX98_immediateS (S Z : Nat → Prop) {hx N : Nat} (hS : ∀ x, fe_mem lX98_immediateS x = true → S x) (n : Nat) (a0 : Nat) (M : FM) (w : WI Z hx N M) (z_a0 : Z a0) : pq (FX98_immediateS n a0 M) (QA S Z hx N M) := wX98_immediateS_0 S Z hS n a0 M w z_a0
def lX98_others : List Nat := [347, 348, 353, 354, 1346, 1355]
theorem wX98_others_286 (S Z : Nat → Prop) {hx N : Nat} (hS : ∀ x, fe_mem lX98_others x = true → S x) (n : Nat) (a0 : Nat) (a1 : Int32) (a2 : Int32) (M : FM) (w : WI Z hx N M) (z_a0 : Z a0) : pq (FX98_others_286 n a0 a1 a2 M) (QA S Z hx N M) := by
  have hN := w.2.2.1
  have w0 := wk_r (S := S) w
  delta FX98_others_286 BX98_others_286
  refine pq_g (fun g1 => ?_)
  refine pq_g (fun g2 => ?_)
  refine pq_b (wX98_want S Z (sb rfl hS) _ _ _ _ _ _ _ _ w0.1 z_a0) (fun r3 K4 => ?_)
  have w5 := wk_t w0 K4 hN
  exact pq_s w5
theorem wX98_others_285 (S Z : Nat → Prop) {hx N : Nat} (hS : ∀ x, fe_mem lX98_others x = true → S x) (n : Nat) (s0 : Int32) (M : FM) (w : WI Z hx N M) : pq (FX98_others_285 n s0 M) (QA S Z hx N M) := by
  have hN := w.2.2.1
  have w0 := wk_r (S := S) w
  delta FX98_others_285 BX98_others_285
  exact pq_s w0
theorem wX98_others_258 (S Z : Nat → Prop) {hx N : Nat} (hS : ∀ x, fe_mem lX98_others x = true → S x) (n : Nat) (a0 : Nat) (a3 : Int32) (M : FM) (w : WI Z hx N M) (z_a0 : Z a0) : pq (FX98_others_258 n a0 a3 M) (QA S Z hx N M) := by
  have hN := w.2.2.1
  have w0 := wk_r (S := S) w
  delta FX98_others_258 BX98_others_258
  refine pq_g (fun g1 => ?_)
  refine pq_g (fun g2 => ?_)
  refine pq_b (wX98_immediateS S Z (sb rfl hS) n _ _ w0.1 z_a0) (fun r3 K4 => ?_)
  have w5 := wk_t w0 K4 hN
  refine pq_b (wX98_power S Z (sb rfl hS) _ _ w5.1 ) (fun r6 K7 => ?_)
  have w8 := wk_t w5 K7 hN
  refine pq_g (fun g9 => ?_)
  refine pq_b (wX98_want S Z (sb rfl hS) _ _ _ _ _ _ _ _ w8.1 z_a0) (fun r10 K11 => ?_)
  have w12 := wk_t w8 K11 hN
  exact q_tA hN w12 (wX98_others_285 S Z hS n _ _ w12.1 )
theorem wX98_others_247 (S Z : Nat → Prop) {hx N : Nat} (hS : ∀ x, fe_mem lX98_others x = true → S x) (n : Nat) (s0 : Int32) (M : FM) (w : WI Z hx N M) : pq (FX98_others_247 n s0 M) (QA S Z hx N M) := by
  have hN := w.2.2.1
  have w0 := wk_r (S := S) w
  delta FX98_others_247 BX98_others_247
  exact pq_s w0
theorem wX98_others_220 (S Z : Nat → Prop) {hx N : Nat} (hS : ∀ x, fe_mem lX98_others x = true → S x) (n : Nat) (a0 : Nat) (a2 : Int32) (a3 : Int32) (M : FM) (w : WI Z hx N M) (z_a0 : Z a0) : pq (FX98_others_220 n a0 a2 a3 M) (QA S Z hx N M) := by
  have hN := w.2.2.1
  have w0 := wk_r (S := S) w
  delta FX98_others_220 BX98_others_220
  refine pq_g (fun g1 => ?_)
  refine pq_g (fun g2 => ?_)
  refine pq_b (wX98_immediateI S Z (sb rfl hS) n _ _ w0.1 z_a0) (fun r3 K4 => ?_)
  have w5 := wk_t w0 K4 hN
  refine pq_b (wX98_power S Z (sb rfl hS) _ _ w5.1 ) (fun r6 K7 => ?_)
  have w8 := wk_t w5 K7 hN
  refine pq_g (fun g9 => ?_)
  refine pq_b (wX98_want S Z (sb rfl hS) _ _ _ _ _ _ _ _ w8.1 z_a0) (fun r10 K11 => ?_)
  have w12 := wk_t w8 K11 hN
  exact q_tA hN w12 (wX98_others_247 S Z hS n _ _ w12.1 )
theorem wX98_others_202 (S Z : Nat → Prop) {hx N : Nat} (hS : ∀ x, fe_mem lX98_others x = true → S x) (n : Nat) (s0 : Int32) (M : FM) (w : WI Z hx N M) : pq (FX98_others_202 n s0 M) (QA S Z hx N M) := by
  have hN := w.2.2.1
  have w0 := wk_r (S := S) w
  delta FX98_others_202 BX98_others_202
  exact pq_s w0
theorem wX98_others_168 (S Z : Nat → Prop) {hx N : Nat} (hS : ∀ x, fe_mem lX98_others x = true → S x) (n : Nat) (s0 : Int32) (M : FM) (w : WI Z hx N M) : pq (FX98_others_168 n s0 M) (QA S Z hx N M) := by
  have hN := w.2.2.1
  have w0 := wk_r (S := S) w
  delta FX98_others_168 BX98_others_168
  exact pq_s w0
theorem wX98_others_160 (S Z : Nat → Prop) {hx N : Nat} (hS : ∀ x, fe_mem lX98_others x = true → S x) (n : Nat) (a2 : Int32) (s0 : Nat) (s1 : Int32) (s2 : Int64) (s3 : Int64) (s4 : Int64) (s5 : Int64) (M : FM) (w : WI Z hx N M) (z_s0 : Z s0) : pq (FX98_others_160 n a2 s0 s1 s2 s3 s4 s5 M) (QA S Z hx N M) := by
  have hN := w.2.2.1
  have w0 := wk_r (S := S) w
  delta FX98_others_160 BX98_others_160
  refine pq_g (fun g1 => ?_)
  refine pq_b (wX98_want S Z (sb rfl hS) _ _ _ _ _ _ _ _ w0.1 z_s0) (fun r2 K3 => ?_)
  have w4 := wk_t w0 K3 hN
  exact q_tA hN w4 (wX98_others_168 S Z hS n _ _ w4.1 )
theorem wX98_others_125 (S Z : Nat → Prop) {hx N : Nat} (hS : ∀ x, fe_mem lX98_others x = true → S x) (n : Nat) (s0 : Int32) (M : FM) (w : WI Z hx N M) : pq (FX98_others_125 n s0 M) (QA S Z hx N M) := by
  have hN := w.2.2.1
  have w0 := wk_r (S := S) w
  delta FX98_others_125 BX98_others_125
  exact pq_s w0
theorem wX98_others_0 (S Z : Nat → Prop) {hx N : Nat} (hS : ∀ x, fe_mem lX98_others x = true → S x) (n : Nat) (a0 : Nat) (a1 : Int32) (a2 : Int32) (a3 : Int32) (M : FM) (w : WI Z hx N M) (z_a0 : Z a0) : pq (FX98_others_0 n a0 a1 a2 a3 M) (QA S Z hx N M) := by
  have hN := w.2.2.1
  have w0 := wk_r (S := S) w
  delta FX98_others_0 BX98_others_0
  refine pq_fi (fun _ => ?_) (fun _ => ?_)
  · refine pq_fi (fun _ => ?_) (fun _ => ?_)
    · exact q_tA hN w0 (wX98_others_168 S Z hS n _ _ w0.1 )
    · refine pq_g (fun g1 => ?_)
      refine pq_g (fun g2 => ?_)
      refine pq_b (wX98_immediateI S Z (sb rfl hS) n _ _ w0.1 z_a0) (fun r3 K4 => ?_)
      have w5 := wk_t w0 K4 hN
      refine pq_n ?_
      refine pq_b (wX98_power S Z (sb rfl hS) _ _ w5.1 ) (fun r6 K7 => ?_)
      have w8 := wk_t w5 K7 hN
      refine pq_fi (fun _ => ?_) (fun _ => ?_)
      · exact q_tA hN w8 (wX98_others_160 S Z hS n _ _ _ _ _ _ _ _ w8.1 z_a0)
      · exact q_tA hN w8 (wX98_others_160 S Z hS n _ _ _ _ _ _ _ _ w8.1 z_a0)
  · refine pq_fi (fun _ => ?_) (fun _ => ?_)
    · refine pq_fi (fun _ => ?_) (fun _ => ?_)
      · exact q_tA hN w0 (wX98_others_220 S Z hS n _ _ _ _ w0.1 z_a0)
      · refine pq_fi (fun _ => ?_) (fun _ => ?_)
        · exact q_tA hN w0 (wX98_others_220 S Z hS n _ _ _ _ w0.1 z_a0)
        · exact q_tA hN w0 (wX98_others_247 S Z hS n _ _ w0.1 )
    · refine pq_fi (fun _ => ?_) (fun _ => ?_)
      · refine pq_fi (fun _ => ?_) (fun _ => ?_)
        · exact q_tA hN w0 (wX98_others_125 S Z hS n _ _ w0.1 )
        · refine pq_g (fun g9 => ?_)
          refine pq_b (wX98_done S Z (sb rfl hS) _ _ _ _ w0.1 z_a0) (fun r10 K11 => ?_)
          have w12 := wk_t w0 K11 hN
          exact q_tA hN w12 (wX98_others_125 S Z hS n _ _ w12.1 )
      · refine pq_fi (fun _ => ?_) (fun _ => ?_)
        · refine pq_fi (fun _ => ?_) (fun _ => ?_)
          · exact q_tA hN w0 (wX98_others_202 S Z hS n _ _ w0.1 )
          · refine pq_g (fun g13 => ?_)
            refine pq_g (fun g14 => ?_)
            refine pq_b (wX98_immediateS S Z (sb rfl hS) n _ _ w0.1 z_a0) (fun r15 K16 => ?_)
            have w17 := wk_t w0 K16 hN
            refine pq_b (wX98_power S Z (sb rfl hS) _ _ w17.1 ) (fun r18 K19 => ?_)
            have w20 := wk_t w17 K19 hN
            refine pq_g (fun g21 => ?_)
            refine pq_g (fun g22 => ?_)
            refine pq_b (wX98_want S Z (sb rfl hS) _ _ _ _ _ _ _ _ w20.1 z_a0) (fun r23 K24 => ?_)
            have w25 := wk_t w20 K24 hN
            exact q_tA hN w25 (wX98_others_202 S Z hS n _ _ w25.1 )
        · refine pq_fi (fun _ => ?_) (fun _ => ?_)
          · refine pq_fi (fun _ => ?_) (fun _ => ?_)
            · exact q_tA hN w0 (wX98_others_258 S Z hS n _ _ _ w0.1 z_a0)
            · refine pq_fi (fun _ => ?_) (fun _ => ?_)
              · exact q_tA hN w0 (wX98_others_258 S Z hS n _ _ _ w0.1 z_a0)
              · exact q_tA hN w0 (wX98_others_285 S Z hS n _ _ w0.1 )
          · refine pq_fi (fun _ => ?_) (fun _ => ?_)
            · refine pq_g (fun g26 => ?_)
              refine pq_b (wX98_atomic S Z (sb rfl hS) n _ _ _ _ w0.1 z_a0) (fun r27 K28 => ?_)
              have w29 := wk_t w0 K28 hN
              exact pq_s w29
            · refine pq_fi (fun _ => ?_) (fun _ => ?_)
              · exact q_tA hN w0 (wX98_others_286 S Z hS n _ _ _ _ w0.1 z_a0)
              · refine pq_fi (fun _ => ?_) (fun _ => ?_)
                · exact q_tA hN w0 (wX98_others_286 S Z hS n _ _ _ _ w0.1 z_a0)
                · refine pq_fi (fun _ => ?_) (fun _ => ?_)
                  · exact q_tA hN w0 (wX98_others_286 S Z hS n _ _ _ _ w0.1 z_a0)
                  · refine pq_fi (fun _ => ?_) (fun _ => ?_)
                    · exact q_tA hN w0 (wX98_others_286 S Z hS n _ _ _ _ w0.1 z_a0)
                    · refine pq_fi (fun _ => ?_) (fun _ => ?_)
                      · exact q_tA hN w0 (wX98_others_286 S Z hS n _ _ _ _ w0.1 z_a0)
                      · refine pq_fi (fun _ => ?_) (fun _ => ?_)
                        · refine pq_g (fun g30 => ?_)
                          refine pq_b (wX98_control S Z (sb rfl hS) n _ _ _ _ w0.1 z_a0) (fun r31 K32 => ?_)
                          have w33 := wk_t w0 K32 hN
                          exact pq_s w33
                        · exact pq_s w0
theorem wX98_others (S Z : Nat → Prop) {hx N : Nat} (hS : ∀ x, fe_mem lX98_others x = true → S x) (n : Nat) (a0 : Nat) (a1 : Int32) (a2 : Int32) (a3 : Int32) (M : FM) (w : WI Z hx N M) (z_a0 : Z a0) : pq (FX98_others n a0 a1 a2 a3 M) (QA S Z hx N M) := wX98_others_0 S Z hS n a0 a1 a2 a3 M w z_a0
def lX98_intImmediate : List Nat := [347, 348, 1346]
theorem wX98_intImmediate_99 (S Z : Nat → Prop) {hx N : Nat} (hS : ∀ x, fe_mem lX98_intImmediate x = true → S x) (n : Nat) (s0 : Nat) (s1 : Int32) (s2 : Int64) (M : FM) (w : WI Z hx N M) (z_s0 : Z s0) : pq (FX98_intImmediate_99 n s0 s1 s2 M) (QA S Z hx N M) := by
  have hN := w.2.2.1
  have w0 := wk_r (S := S) w
  delta FX98_intImmediate_99 BX98_intImmediate_99
  refine pq_g (fun g1 => ?_)
  refine pq_b (wX98_done S Z (sb rfl hS) _ _ _ _ w0.1 z_s0) (fun r2 K3 => ?_)
  have w4 := wk_t w0 K3 hN
  exact pq_s w4
theorem wX98_intImmediate_72 (S Z : Nat → Prop) {hx N : Nat} (hS : ∀ x, fe_mem lX98_intImmediate x = true → S x) (n : Nat) (a0 : Nat) (a1 : Int32) (a3 : Int32) (a4 : Int32) (M : FM) (w : WI Z hx N M) (z_a0 : Z a0) : pq (FX98_intImmediate_72 n a0 a1 a3 a4 M) (QA S Z hx N M) := by
  have hN := w.2.2.1
  have w0 := wk_r (S := S) w
  delta FX98_intImmediate_72 BX98_intImmediate_72
  refine pq_fi (fun _ => ?_) (fun _ => ?_)
  · refine pq_g (fun g1 => ?_)
    exact q_tA hN w0 (wX98_intImmediate_99 S Z hS n _ _ _ _ w0.1 z_a0)
  · refine pq_g (fun g2 => ?_)
    exact q_tA hN w0 (wX98_intImmediate_99 S Z hS n _ _ _ _ w0.1 z_a0)
theorem wX98_intImmediate_70 (S Z : Nat → Prop) {hx N : Nat} (hS : ∀ x, fe_mem lX98_intImmediate x = true → S x) (n : Nat) (M : FM) (w : WI Z hx N M) : pq (FX98_intImmediate_70 n M) (QA S Z hx N M) := by
  have hN := w.2.2.1
  have w0 := wk_r (S := S) w
  delta FX98_intImmediate_70 BX98_intImmediate_70
  exact pq_s w0
theorem wX98_intImmediate_55 (S Z : Nat → Prop) {hx N : Nat} (hS : ∀ x, fe_mem lX98_intImmediate x = true → S x) (n : Nat) (a0 : Nat) (a1 : Int32) (a2 : Int32) (a3 : Int32) (a4 : Int32) (M : FM) (w : WI Z hx N M) (z_a0 : Z a0) : pq (FX98_intImmediate_55 n a0 a1 a2 a3 a4 M) (QA S Z hx N M) := by
  have hN := w.2.2.1
  have w0 := wk_r (S := S) w
  delta FX98_intImmediate_55 BX98_intImmediate_55
  refine pq_fi (fun _ => ?_) (fun _ => ?_)
  · refine pq_fi (fun _ => ?_) (fun _ => ?_)
    · exact q_tA hN w0 (wX98_intImmediate_72 S Z hS n _ _ _ _ _ w0.1 z_a0)
    · refine pq_fi (fun _ => ?_) (fun _ => ?_)
      · exact q_tA hN w0 (wX98_intImmediate_72 S Z hS n _ _ _ _ _ w0.1 z_a0)
      · exact q_tA hN w0 (wX98_intImmediate_70 S Z hS n _ w0.1 )
  · exact q_tA hN w0 (wX98_intImmediate_70 S Z hS n _ w0.1 )
theorem wX98_intImmediate_0 (S Z : Nat → Prop) {hx N : Nat} (hS : ∀ x, fe_mem lX98_intImmediate x = true → S x) (n : Nat) (a0 : Nat) (a1 : Int32) (a2 : Int32) (a3 : Int32) (M : FM) (w : WI Z hx N M) (z_a0 : Z a0) : pq (FX98_intImmediate_0 n a0 a1 a2 a3 M) (QA S Z hx N M) := by
  have hN := w.2.2.1
  have w0 := wk_r (S := S) w
  delta FX98_intImmediate_0 BX98_intImmediate_0
  refine pq_g (fun g1 => ?_)
  refine pq_b (wX98_bits S Z (sb rfl hS) n _ _ _ _ w0.1 z_a0) (fun r2 K3 => ?_)
  have w4 := wk_t w0 K3 hN
  refine pq_fi (fun _ => ?_) (fun _ => ?_)
  · refine pq_g (fun g5 => ?_)
    refine pq_g (fun g6 => ?_)
    refine pq_b (wX98_immediateI S Z (sb rfl hS) n _ _ w4.1 z_a0) (fun r7 K8 => ?_)
    have w9 := wk_t w4 K8 hN
    refine pq_g (fun g10 => ?_)
    refine pq_b (wX98_done S Z (sb rfl hS) _ _ _ _ w9.1 z_a0) (fun r11 K12 => ?_)
    have w13 := wk_t w9 K12 hN
    exact pq_s w13
  · refine pq_fi (fun _ => ?_) (fun _ => ?_)
    · refine pq_fi (fun _ => ?_) (fun _ => ?_)
      · refine pq_g (fun g14 => ?_)
        refine pq_g (fun g15 => ?_)
        refine pq_b (wX98_done S Z (sb rfl hS) _ _ _ _ w4.1 z_a0) (fun r16 K17 => ?_)
        have w18 := wk_t w4 K17 hN
        exact pq_s w18
      · exact q_tA hN w4 (wX98_intImmediate_55 S Z hS n _ _ _ _ _ _ w4.1 z_a0)
    · exact q_tA hN w4 (wX98_intImmediate_55 S Z hS n _ _ _ _ _ _ w4.1 z_a0)
theorem wX98_intImmediate (S Z : Nat → Prop) {hx N : Nat} (hS : ∀ x, fe_mem lX98_intImmediate x = true → S x) (n : Nat) (a0 : Nat) (a1 : Int32) (a2 : Int32) (a3 : Int32) (M : FM) (w : WI Z hx N M) (z_a0 : Z a0) : pq (FX98_intImmediate n a0 a1 a2 a3 M) (QA S Z hx N M) := wX98_intImmediate_0 S Z hS n a0 a1 a2 a3 M w z_a0
def lX98_upper : List Nat := []
theorem wX98_upper_86 (S Z : Nat → Prop) {hx N : Nat} (hS : ∀ x, fe_mem lX98_upper x = true → S x) (n : Nat) (k10 : Int64 → Int64 → Int64 → Int64 → Int32 → FM → Option (Int64 × FM)) (hk10 : ∀ (a0 : Int64) (a2 : Int64) (a4 : Int64) (a6 : Int64) (a8 : Int32) (M : FM), WI Z hx N M → pq (k10 a0 a2 a4 a6 a8 M) (QA S Z hx N M)) (a0 : Int64) (a2 : Int64) (a4 : Int64) (a6 : Int64) (a8 : Int32) (M : FM) (w : WI Z hx N M) : pq (FX98_upper_86 n k10 a0 a2 a4 a6 a8 M) (QA S Z hx N M) := by
  have hN := w.2.2.1
  have w0 := wk_r (S := S) w
  delta FX98_upper_86 BX98_upper_86
  exact q_tA hN w0 (hk10 _ _ _ _ _ _ w0.1 )
theorem wX98_upper_80 (S Z : Nat → Prop) {hx N : Nat} (hS : ∀ x, fe_mem lX98_upper x = true → S x) (n : Nat) (k10 : Int64 → Int64 → Int64 → Int64 → Int32 → FM → Option (Int64 × FM)) (hk10 : ∀ (a0 : Int64) (a2 : Int64) (a4 : Int64) (a6 : Int64) (a8 : Int32) (M : FM), WI Z hx N M → pq (k10 a0 a2 a4 a6 a8 M) (QA S Z hx N M)) (a0 : Int64) (a2 : Int64) (a8 : Int32) (a9 : Int64) (s0 : Int64) (M : FM) (w : WI Z hx N M) : pq (FX98_upper_80 n k10 a0 a2 a8 a9 s0 M) (QA S Z hx N M) := by
  have hN := w.2.2.1
  have w0 := wk_r (S := S) w
  delta FX98_upper_80 BX98_upper_80
  exact q_tA hN w0 (wX98_upper_86 S Z hS n _ hk10 _ _ _ _ _ _ w0.1 )
theorem wX98_upper_33 (S Z : Nat → Prop) {hx N : Nat} (hS : ∀ x, fe_mem lX98_upper x = true → S x) (n : Nat) (k10 : Int64 → Int64 → Int64 → Int64 → Int32 → FM → Option (Int64 × FM)) (hk10 : ∀ (a0 : Int64) (a2 : Int64) (a4 : Int64) (a6 : Int64) (a8 : Int32) (M : FM), WI Z hx N M → pq (k10 a0 a2 a4 a6 a8 M) (QA S Z hx N M)) (a0 : Int64) (a2 : Int64) (a6 : Int64) (a8 : Int32) (s0 : Int64) (s1 : Int64) (M : FM) (w : WI Z hx N M) : pq (FX98_upper_33 n k10 a0 a2 a6 a8 s0 s1 M) (QA S Z hx N M) := by
  have hN := w.2.2.1
  have w0 := wk_r (S := S) w
  delta FX98_upper_33 BX98_upper_33
  refine pq_fi (fun _ => ?_) (fun _ => ?_)
  · refine pq_b (wX98_isLess S Z (sb rfl hS) _ _ _ w0.1 ) (fun r1 K2 => ?_)
    have w3 := wk_t w0 K2 hN
    refine pq_fi (fun _ => ?_) (fun _ => ?_)
    · exact q_tA hN w3 (wX98_upper_80 S Z hS n _ hk10 _ _ _ _ _ _ w3.1 )
    · exact q_tA hN w3 (wX98_upper_80 S Z hS n _ hk10 _ _ _ _ _ _ w3.1 )
  · exact q_tA hN w0 (wX98_upper_86 S Z hS n _ hk10 _ _ _ _ _ _ w0.1 )
theorem wX98_upper_10 (S Z : Nat → Prop) {hx N : Nat} (hS : ∀ x, fe_mem lX98_upper x = true → S x) (n : Nat) (k10 : Int64 → Int64 → Int64 → Int64 → Int32 → FM → Option (Int64 × FM)) (hk10 : ∀ (a0 : Int64) (a2 : Int64) (a4 : Int64) (a6 : Int64) (a8 : Int32) (M : FM), WI Z hx N M → pq (k10 a0 a2 a4 a6 a8 M) (QA S Z hx N M)) (a0 : Int64) (a2 : Int64) (a4 : Int64) (a6 : Int64) (a8 : Int32) (M : FM) (w : WI Z hx N M) : pq (FX98_upper_10 n k10 a0 a2 a4 a6 a8 M) (QA S Z hx N M) := by
  have hN := w.2.2.1
  have w0 := wk_r (S := S) w
  delta FX98_upper_10 BX98_upper_10
  refine pq_fi (fun _ => ?_) (fun _ => ?_)
  · exact pq_s w0
  · refine pq_fi (fun _ => ?_) (fun _ => ?_)
    · exact q_tA hN w0 (wX98_upper_33 S Z hS n _ hk10 _ _ _ _ _ _ _ w0.1 )
    · exact q_tA hN w0 (wX98_upper_33 S Z hS n _ hk10 _ _ _ _ _ _ _ w0.1 )
theorem wX98_upper_0 (S Z : Nat → Prop) {hx N : Nat} (hS : ∀ x, fe_mem lX98_upper x = true → S x) (n : Nat) (k10 : Int64 → Int64 → Int64 → Int64 → Int32 → FM → Option (Int64 × FM)) (hk10 : ∀ (a0 : Int64) (a2 : Int64) (a4 : Int64) (a6 : Int64) (a8 : Int32) (M : FM), WI Z hx N M → pq (k10 a0 a2 a4 a6 a8 M) (QA S Z hx N M)) (a0 : Int64) (a2 : Int64) (M : FM) (w : WI Z hx N M) : pq (FX98_upper_0 n k10 a0 a2 M) (QA S Z hx N M) := by
  have hN := w.2.2.1
  have w0 := wk_r (S := S) w
  delta FX98_upper_0 BX98_upper_0
  exact q_tA hN w0 (hk10 _ _ _ _ _ _ w0.1 )
theorem wX98_upper_L (S Z : Nat → Prop) {hx N : Nat} (hS : ∀ x, fe_mem lX98_upper x = true → S x) (n : Nat) : ∀ j : Nat, ∀ (a0 : Int64) (a2 : Int64) (a4 : Int64) (a6 : Int64) (a8 : Int32) (M : FM), WI Z hx N M → pq (FX98_upper_L10 n j a0 a2 a4 a6 a8 M) (QA S Z hx N M)
  | 0 => by intros; exact pq_0
  | j + 1 => fun a0 a2 a4 a6 a8 M w => wX98_upper_10 S Z hS n _ (wX98_upper_L S Z hS n j) a0 a2 a4 a6 a8 M w
theorem wX98_upper (S Z : Nat → Prop) {hx N : Nat} (hS : ∀ x, fe_mem lX98_upper x = true → S x) (n : Nat) (a0 : Int64) (a2 : Int64) (M : FM) (w : WI Z hx N M) : pq (FX98_upper n a0 a2 M) (QA S Z hx N M) := wX98_upper_0 S Z hS n _ (wX98_upper_L S Z hS n n) a0 a2 M w 
def lX98_divide : List Nat := [356, 357]
theorem wX98_divide_102 (S Z : Nat → Prop) {hx N : Nat} (hS : ∀ x, fe_mem lX98_divide x = true → S x) (n : Nat) (k14 : Nat → Int64 → Int64 → Int32 → FM → Option (FM)) (hk14 : ∀ (a0 : Nat) (a1 : Int64) (a3 : Int64) (a5 : Int32) (M : FM), WI Z hx N M → Z a0 → pq (k14 a0 a1 a3 a5 M) (QV S Z hx N M)) (a0 : Nat) (a1 : Int64) (a3 : Int64) (a5 : Int32) (M : FM) (w : WI Z hx N M) (z_a0 : Z a0) : pq (FX98_divide_102 n k14 a0 a1 a3 a5 M) (QV S Z hx N M) := by
  have hN := w.2.2.1
  have w0 := wk_r (S := S) w
  delta FX98_divide_102 BX98_divide_102
  exact q_tV hN w0 (hk14 _ _ _ _ _ w0.1 z_a0)
theorem wX98_divide_82 (S Z : Nat → Prop) {hx N : Nat} (hS : ∀ x, fe_mem lX98_divide x = true → S x) (n : Nat) (k14 : Nat → Int64 → Int64 → Int32 → FM → Option (FM)) (hk14 : ∀ (a0 : Nat) (a1 : Int64) (a3 : Int64) (a5 : Int32) (M : FM), WI Z hx N M → Z a0 → pq (k14 a0 a1 a3 a5 M) (QV S Z hx N M)) (a0 : Nat) (a1 : Int64) (a3 : Int64) (a5 : Int32) (M : FM) (w : WI Z hx N M) (z_a0 : Z a0) : pq (FX98_divide_82 n k14 a0 a1 a3 a5 M) (QV S Z hx N M) := by
  have hN := w.2.2.1
  have w0 := wk_r (S := S) w
  delta FX98_divide_82 BX98_divide_82
  refine pq_g (fun g1 => ?_)
  refine pq_g (fun g2 => ?_)
  extract_lets +onlyGivenNames M4
  have w3 : Wk S Z hx N M M4 := wk_fL hN w0 rfl rfl g2 z_a0 (Or.inr (hS 357 rfl))
  refine pq_g (fun g5 => ?_)
  refine pq_g (fun g6 => ?_)
  extract_lets +onlyGivenNames M8
  have w7 : Wk S Z hx N M M8 := wk_fL hN w3 rfl rfl g6 z_a0 (Or.inr (hS 356 rfl))
  exact q_tV hN w7 (wX98_divide_102 S Z hS n _ hk14 _ _ _ _ _ w7.1 z_a0)
theorem wX98_divide_33 (S Z : Nat → Prop) {hx N : Nat} (hS : ∀ x, fe_mem lX98_divide x = true → S x) (n : Nat) (k14 : Nat → Int64 → Int64 → Int32 → FM → Option (FM)) (hk14 : ∀ (a0 : Nat) (a1 : Int64) (a3 : Int64) (a5 : Int32) (M : FM), WI Z hx N M → Z a0 → pq (k14 a0 a1 a3 a5 M) (QV S Z hx N M)) (a0 : Nat) (a1 : Int64) (a3 : Int64) (a5 : Int32) (s0 : Int32) (M : FM) (w : WI Z hx N M) (z_a0 : Z a0) : pq (FX98_divide_33 n k14 a0 a1 a3 a5 s0 M) (QV S Z hx N M) := by
  have hN := w.2.2.1
  have w0 := wk_r (S := S) w
  delta FX98_divide_33 BX98_divide_33
  refine pq_g (fun g1 => ?_)
  refine pq_g (fun g2 => ?_)
  extract_lets +onlyGivenNames M4
  have w3 : Wk S Z hx N M M4 := wk_fL hN w0 rfl rfl g2 z_a0 (Or.inr (hS 357 rfl))
  refine pq_g (fun g5 => ?_)
  refine pq_g (fun g6 => ?_)
  extract_lets +onlyGivenNames M8
  have w7 : Wk S Z hx N M M8 := wk_fL hN w3 rfl rfl g6 z_a0 (Or.inr (hS 356 rfl))
  refine pq_fi (fun _ => ?_) (fun _ => ?_)
  · refine pq_g (fun g9 => ?_)
    refine pq_b (wX98_isLess S Z (sb rfl hS) _ _ _ w7.1 ) (fun r10 K11 => ?_)
    have w12 := wk_t w7 K11 hN
    refine pq_fi (fun _ => ?_) (fun _ => ?_)
    · exact q_tV hN w12 (wX98_divide_82 S Z hS n _ hk14 _ _ _ _ _ w12.1 z_a0)
    · exact q_tV hN w12 (wX98_divide_102 S Z hS n _ hk14 _ _ _ _ _ w12.1 z_a0)
  · exact q_tV hN w7 (wX98_divide_82 S Z hS n _ hk14 _ _ _ _ _ w7.1 z_a0)
theorem wX98_divide_14 (S Z : Nat → Prop) {hx N : Nat} (hS : ∀ x, fe_mem lX98_divide x = true → S x) (n : Nat) (k14 : Nat → Int64 → Int64 → Int32 → FM → Option (FM)) (hk14 : ∀ (a0 : Nat) (a1 : Int64) (a3 : Int64) (a5 : Int32) (M : FM), WI Z hx N M → Z a0 → pq (k14 a0 a1 a3 a5 M) (QV S Z hx N M)) (a0 : Nat) (a1 : Int64) (a3 : Int64) (a5 : Int32) (M : FM) (w : WI Z hx N M) (z_a0 : Z a0) : pq (FX98_divide_14 n k14 a0 a1 a3 a5 M) (QV S Z hx N M) := by
  have hN := w.2.2.1
  have w0 := wk_r (S := S) w
  delta FX98_divide_14 BX98_divide_14
  refine pq_fi (fun _ => ?_) (fun _ => ?_)
  · exact pq_s w0
  · refine pq_g (fun g1 => ?_)
    refine pq_fi (fun _ => ?_) (fun _ => ?_)
    · exact q_tV hN w0 (wX98_divide_33 S Z hS n _ hk14 _ _ _ _ _ _ w0.1 z_a0)
    · exact q_tV hN w0 (wX98_divide_33 S Z hS n _ hk14 _ _ _ _ _ _ w0.1 z_a0)
theorem wX98_divide_0 (S Z : Nat → Prop) {hx N : Nat} (hS : ∀ x, fe_mem lX98_divide x = true → S x) (n : Nat) (k14 : Nat → Int64 → Int64 → Int32 → FM → Option (FM)) (hk14 : ∀ (a0 : Nat) (a1 : Int64) (a3 : Int64) (a5 : Int32) (M : FM), WI Z hx N M → Z a0 → pq (k14 a0 a1 a3 a5 M) (QV S Z hx N M)) (a0 : Nat) (a1 : Int64) (a3 : Int64) (M : FM) (w : WI Z hx N M) (z_a0 : Z a0) : pq (FX98_divide_0 n k14 a0 a1 a3 M) (QV S Z hx N M) := by
  have hN := w.2.2.1
  have w0 := wk_r (S := S) w
  delta FX98_divide_0 BX98_divide_0
  refine pq_g (fun g1 => ?_)
  extract_lets +onlyGivenNames M3
  have w2 : Wk S Z hx N M M3 := wk_fL hN w0 rfl rfl g1 z_a0 (Or.inr (hS 356 rfl))
  refine pq_g (fun g4 => ?_)
  extract_lets +onlyGivenNames M6
  have w5 : Wk S Z hx N M M6 := wk_fL hN w2 rfl rfl g4 z_a0 (Or.inr (hS 357 rfl))
  exact q_tV hN w5 (hk14 _ _ _ _ _ w5.1 z_a0)
theorem wX98_divide_L (S Z : Nat → Prop) {hx N : Nat} (hS : ∀ x, fe_mem lX98_divide x = true → S x) (n : Nat) : ∀ j : Nat, ∀ (a0 : Nat) (a1 : Int64) (a3 : Int64) (a5 : Int32) (M : FM), WI Z hx N M → Z a0 → pq (FX98_divide_L14 n j a0 a1 a3 a5 M) (QV S Z hx N M)
  | 0 => by intros; exact pq_0
  | j + 1 => fun a0 a1 a3 a5 M w => wX98_divide_14 S Z hS n _ (wX98_divide_L S Z hS n j) a0 a1 a3 a5 M w
theorem wX98_divide (S Z : Nat → Prop) {hx N : Nat} (hS : ∀ x, fe_mem lX98_divide x = true → S x) (n : Nat) (a0 : Nat) (a1 : Int64) (a3 : Int64) (M : FM) (w : WI Z hx N M) (z_a0 : Z a0) : pq (FX98_divide n a0 a1 a3 M) (QV S Z hx N M) := wX98_divide_0 S Z hS n _ (wX98_divide_L S Z hS n n) a0 a1 a3 M w z_a0
def lX98_divideAll : List Nat := [356, 357]
theorem wX98_divideAll_122 (S Z : Nat → Prop) {hx N : Nat} (hS : ∀ x, fe_mem lX98_divideAll x = true → S x) (n : Nat) (s0 : Nat) (s1 : Int64) (M : FM) (w : WI Z hx N M) (z_s0 : Z s0) : pq (FX98_divideAll_122 n s0 s1 M) (QV S Z hx N M) := by
  have hN := w.2.2.1
  have w0 := wk_r (S := S) w
  delta FX98_divideAll_122 BX98_divideAll_122
  refine pq_g (fun g1 => ?_)
  extract_lets +onlyGivenNames M3
  have w2 : Wk S Z hx N M M3 := wk_fL hN w0 rfl rfl g1 z_s0 (Or.inr (hS 357 rfl))
  exact pq_s w2
theorem wX98_divideAll_101 (S Z : Nat → Prop) {hx N : Nat} (hS : ∀ x, fe_mem lX98_divideAll x = true → S x) (n : Nat) (a0 : Nat) (a6 : Int32) (s0 : Nat) (s1 : Int64) (M : FM) (w : WI Z hx N M) (z_a0 : Z a0) (z_s0 : Z s0) : pq (FX98_divideAll_101 n a0 a6 s0 s1 M) (QV S Z hx N M) := by
  have hN := w.2.2.1
  have w0 := wk_r (S := S) w
  delta FX98_divideAll_101 BX98_divideAll_101
  refine pq_g (fun g1 => ?_)
  extract_lets +onlyGivenNames M3
  have w2 : Wk S Z hx N M M3 := wk_fL hN w0 rfl rfl g1 z_s0 (Or.inr (hS 356 rfl))
  refine pq_fi (fun _ => ?_) (fun _ => ?_)
  · refine pq_g (fun g4 => ?_)
    exact q_tV hN w2 (wX98_divideAll_122 S Z hS n _ _ _ w2.1 z_a0)
  · refine pq_g (fun g5 => ?_)
    exact q_tV hN w2 (wX98_divideAll_122 S Z hS n _ _ _ w2.1 z_a0)
theorem wX98_divideAll_78 (S Z : Nat → Prop) {hx N : Nat} (hS : ∀ x, fe_mem lX98_divideAll x = true → S x) (n : Nat) (a0 : Nat) (a6 : Int32) (a7 : Int32) (s0 : Nat) (s1 : Int64) (s2 : Int64) (M : FM) (w : WI Z hx N M) (z_a0 : Z a0) (z_s0 : Z s0) : pq (FX98_divideAll_78 n a0 a6 a7 s0 s1 s2 M) (QV S Z hx N M) := by
  have hN := w.2.2.1
  have w0 := wk_r (S := S) w
  delta FX98_divideAll_78 BX98_divideAll_78
  refine pq_g (fun g1 => ?_)
  refine pq_b (wX98_divide S Z (sb rfl hS) n _ _ _ _ w0.1 z_s0) (fun r2 K3 => ?_)
  have w4 := wk_t w0 K3 hN
  refine pq_fi (fun _ => ?_) (fun _ => ?_)
  · refine pq_g (fun g5 => ?_)
    exact q_tV hN w4 (wX98_divideAll_101 S Z hS n _ _ _ _ _ w4.1 z_a0 z_a0)
  · refine pq_g (fun g6 => ?_)
    exact q_tV hN w4 (wX98_divideAll_101 S Z hS n _ _ _ _ _ w4.1 z_a0 z_a0)
theorem wX98_divideAll_67 (S Z : Nat → Prop) {hx N : Nat} (hS : ∀ x, fe_mem lX98_divideAll x = true → S x) (n : Nat) (a0 : Nat) (a3 : Int64) (a6 : Int32) (a7 : Int32) (s0 : Nat) (s1 : Int64) (M : FM) (w : WI Z hx N M) (z_a0 : Z a0) (z_s0 : Z s0) : pq (FX98_divideAll_67 n a0 a3 a6 a7 s0 s1 M) (QV S Z hx N M) := by
  have hN := w.2.2.1
  have w0 := wk_r (S := S) w
  delta FX98_divideAll_67 BX98_divideAll_67
  refine pq_fi (fun _ => ?_) (fun _ => ?_)
  · exact q_tV hN w0 (wX98_divideAll_78 S Z hS n _ _ _ _ _ _ _ w0.1 z_a0 z_s0)
  · exact q_tV hN w0 (wX98_divideAll_78 S Z hS n _ _ _ _ _ _ _ w0.1 z_a0 z_s0)
theorem wX98_divideAll_53 (S Z : Nat → Prop) {hx N : Nat} (hS : ∀ x, fe_mem lX98_divideAll x = true → S x) (n : Nat) (a0 : Nat) (a1 : Int64) (a3 : Int64) (a6 : Int32) (s0 : Int32) (M : FM) (w : WI Z hx N M) (z_a0 : Z a0) : pq (FX98_divideAll_53 n a0 a1 a3 a6 s0 M) (QV S Z hx N M) := by
  have hN := w.2.2.1
  have w0 := wk_r (S := S) w
  delta FX98_divideAll_53 BX98_divideAll_53
  refine pq_fi (fun _ => ?_) (fun _ => ?_)
  · exact q_tV hN w0 (wX98_divideAll_67 S Z hS n _ _ _ _ _ _ _ w0.1 z_a0 z_a0)
  · exact q_tV hN w0 (wX98_divideAll_67 S Z hS n _ _ _ _ _ _ _ w0.1 z_a0 z_a0)
theorem wX98_divideAll_52 (S Z : Nat → Prop) {hx N : Nat} (hS : ∀ x, fe_mem lX98_divideAll x = true → S x) (n : Nat) (a0 : Nat) (a1 : Int64) (a3 : Int64) (a6 : Int32) (M : FM) (w : WI Z hx N M) (z_a0 : Z a0) : pq (FX98_divideAll_52 n a0 a1 a3 a6 M) (QV S Z hx N M) := by
  have hN := w.2.2.1
  have w0 := wk_r (S := S) w
  delta FX98_divideAll_52 BX98_divideAll_52
  exact q_tV hN w0 (wX98_divideAll_53 S Z hS n _ _ _ _ _ _ w0.1 z_a0)
theorem wX98_divideAll_35 (S Z : Nat → Prop) {hx N : Nat} (hS : ∀ x, fe_mem lX98_divideAll x = true → S x) (n : Nat) (a0 : Nat) (a1 : Int64) (a3 : Int64) (a5 : Int32) (s0 : Int32) (M : FM) (w : WI Z hx N M) (z_a0 : Z a0) : pq (FX98_divideAll_35 n a0 a1 a3 a5 s0 M) (QV S Z hx N M) := by
  have hN := w.2.2.1
  have w0 := wk_r (S := S) w
  delta FX98_divideAll_35 BX98_divideAll_35
  refine pq_fi (fun _ => ?_) (fun _ => ?_)
  · exact q_tV hN w0 (wX98_divideAll_52 S Z hS n _ _ _ _ _ w0.1 z_a0)
  · refine pq_fi (fun _ => ?_) (fun _ => ?_)
    · exact q_tV hN w0 (wX98_divideAll_52 S Z hS n _ _ _ _ _ w0.1 z_a0)
    · exact q_tV hN w0 (wX98_divideAll_53 S Z hS n _ _ _ _ _ _ w0.1 z_a0)
theorem wX98_divideAll_34 (S Z : Nat → Prop) {hx N : Nat} (hS : ∀ x, fe_mem lX98_divideAll x = true → S x) (n : Nat) (a0 : Nat) (a1 : Int64) (a3 : Int64) (a5 : Int32) (M : FM) (w : WI Z hx N M) (z_a0 : Z a0) : pq (FX98_divideAll_34 n a0 a1 a3 a5 M) (QV S Z hx N M) := by
  have hN := w.2.2.1
  have w0 := wk_r (S := S) w
  delta FX98_divideAll_34 BX98_divideAll_34
  exact q_tV hN w0 (wX98_divideAll_35 S Z hS n _ _ _ _ _ _ w0.1 z_a0)
theorem wX98_divideAll_0 (S Z : Nat → Prop) {hx N : Nat} (hS : ∀ x, fe_mem lX98_divideAll x = true → S x) (n : Nat) (a0 : Nat) (a1 : Int64) (a3 : Int64) (a5 : Int32) (M : FM) (w : WI Z hx N M) (z_a0 : Z a0) : pq (FX98_divideAll_0 n a0 a1 a3 a5 M) (QV S Z hx N M) := by
  have hN := w.2.2.1
  have w0 := wk_r (S := S) w
  delta FX98_divideAll_0 BX98_divideAll_0
  refine pq_fi (fun _ => ?_) (fun _ => ?_)
  · refine pq_g (fun g1 => ?_)
    extract_lets +onlyGivenNames M3
    have w2 : Wk S Z hx N M M3 := wk_fL hN w0 rfl rfl g1 z_a0 (Or.inr (hS 356 rfl))
    refine pq_g (fun g4 => ?_)
    extract_lets +onlyGivenNames M6
    have w5 : Wk S Z hx N M M6 := wk_fL hN w2 rfl rfl g4 z_a0 (Or.inr (hS 357 rfl))
    exact pq_s w5
  · refine pq_fi (fun _ => ?_) (fun _ => ?_)
    · exact q_tV hN w0 (wX98_divideAll_34 S Z hS n _ _ _ _ _ w0.1 z_a0)
    · refine pq_fi (fun _ => ?_) (fun _ => ?_)
      · exact q_tV hN w0 (wX98_divideAll_34 S Z hS n _ _ _ _ _ w0.1 z_a0)
      · exact q_tV hN w0 (wX98_divideAll_35 S Z hS n _ _ _ _ _ _ w0.1 z_a0)
theorem wX98_divideAll (S Z : Nat → Prop) {hx N : Nat} (hS : ∀ x, fe_mem lX98_divideAll x = true → S x) (n : Nat) (a0 : Nat) (a1 : Int64) (a3 : Int64) (a5 : Int32) (M : FM) (w : WI Z hx N M) (z_a0 : Z a0) : pq (FX98_divideAll n a0 a1 a3 a5 M) (QV S Z hx N M) := wX98_divideAll_0 S Z hS n a0 a1 a3 a5 M w z_a0
