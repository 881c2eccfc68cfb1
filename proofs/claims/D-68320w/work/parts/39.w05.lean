set_option maxRecDepth 100000
def lX75_access : List Nat := [41]
theorem wX75_access_34 (S Z : Nat → Prop) {hx N : Nat} (hS : ∀ x, fe_mem lX75_access x = true → S x) (s0 : Nat) (s1 : Int64) (M : FM) (w : WI Z hx N M) (z_s0 : Z s0) : pq (FX75_access_34 s0 s1 M) (QV S Z hx N M) := by
  have hN := w.2.2.1
  have w0 := wk_r (S := S) w
  delta FX75_access_34 BX75_access_34
  refine pq_fi (fun _ => ?_) (fun _ => ?_)
  · refine pq_b (wX76_write S Z (sb rfl hS) _ _ _ w0.1 z_s0) (fun r1 K2 => ?_)
    have w3 := wk_t w0 K2 hN
    exact pq_s w3
  · refine pq_fi (fun _ => ?_) (fun _ => ?_)
    · refine pq_b (wX77_write S Z (sb rfl hS) _ _ _ w0.1 z_s0) (fun r4 K5 => ?_)
      have w6 := wk_t w0 K5 hN
      exact pq_s w6
    · refine pq_fi (fun _ => ?_) (fun _ => ?_)
      · refine pq_b (wX77_write S Z (sb rfl hS) _ _ _ w0.1 z_s0) (fun r7 K8 => ?_)
        have w9 := wk_t w0 K8 hN
        exact pq_s w9
      · refine pq_fi (fun _ => ?_) (fun _ => ?_)
        · refine pq_b (wX78_write S Z (sb rfl hS) _ _ _ w0.1 z_s0) (fun r10 K11 => ?_)
          have w12 := wk_t w0 K11 hN
          exact pq_s w12
        · refine pq_fi (fun _ => ?_) (fun _ => ?_)
          · refine pq_b (wX82_write S Z (sb rfl hS) _ _ _ w0.1 z_s0) (fun r13 K14 => ?_)
            have w15 := wk_t w0 K14 hN
            exact pq_s w15
          · refine pq_fi (fun _ => ?_) (fun _ => ?_)
            · refine pq_b (wX83_write S Z (sb rfl hS) _ _ _ w0.1 z_s0) (fun r16 K17 => ?_)
              have w18 := wk_t w0 K17 hN
              exact pq_s w18
            · refine pq_fi (fun _ => ?_) (fun _ => ?_)
              · refine pq_b (wX81_write S Z (sb rfl hS) _ _ _ w0.1 z_s0) (fun r19 K20 => ?_)
                have w21 := wk_t w0 K20 hN
                exact pq_s w21
              · exact pq_0
theorem wX75_access_0 (S Z : Nat → Prop) {hx N : Nat} (hS : ∀ x, fe_mem lX75_access x = true → S x) (a0 : Nat) (a1 : Int32) (a2 : Int64) (M : FM) (w : WI Z hx N M) (z_a0 : Z a0) : pq (FX75_access_0 a0 a1 a2 M) (QV S Z hx N M) := by
  have hN := w.2.2.1
  have w0 := wk_r (S := S) w
  delta FX75_access_0 BX75_access_0
  refine pq_fi (fun _ => ?_) (fun _ => ?_)
  · exact q_tV hN w0 (wX75_access_34 S Z hS _ _ _ w0.1 z_a0)
  · refine pq_fi (fun _ => ?_) (fun _ => ?_)
    · refine pq_fi (fun _ => ?_) (fun _ => ?_)
      · refine pq_b (wX75_base S Z (sb rfl hS) _ _ w0.1 z_a0) (fun r1 K2 => ?_)
        have w3 := wk_t w0 K2 hN
        exact q_tV hN w3 (wX75_access_34 S Z hS _ _ _ w3.1 z_a0)
      · refine pq_fi (fun _ => ?_) (fun _ => ?_)
        · refine pq_b (wX75_base S Z (sb rfl hS) _ _ w0.1 z_a0) (fun r4 K5 => ?_)
          have w6 := wk_t w0 K5 hN
          exact q_tV hN w6 (wX75_access_34 S Z hS _ _ _ w6.1 z_a0)
        · refine pq_fi (fun _ => ?_) (fun _ => ?_)
          · refine pq_b (wX79_base S Z (sb rfl hS) _ _ w0.1 z_a0) (fun r7 K8 => ?_)
            have w9 := wk_t w0 K8 hN
            exact q_tV hN w9 (wX75_access_34 S Z hS _ _ _ w9.1 z_a0)
          · refine pq_fi (fun _ => ?_) (fun _ => ?_)
            · refine pq_b (wX75_base S Z (sb rfl hS) _ _ w0.1 z_a0) (fun r10 K11 => ?_)
              have w12 := wk_t w0 K11 hN
              exact q_tV hN w12 (wX75_access_34 S Z hS _ _ _ w12.1 z_a0)
            · refine pq_fi (fun _ => ?_) (fun _ => ?_)
              · refine pq_b (wX75_base S Z (sb rfl hS) _ _ w0.1 z_a0) (fun r13 K14 => ?_)
                have w15 := wk_t w0 K14 hN
                exact q_tV hN w15 (wX75_access_34 S Z hS _ _ _ w15.1 z_a0)
              · refine pq_fi (fun _ => ?_) (fun _ => ?_)
                · refine pq_b (wX75_base S Z (sb rfl hS) _ _ w0.1 z_a0) (fun r16 K17 => ?_)
                  have w18 := wk_t w0 K17 hN
                  exact q_tV hN w18 (wX75_access_34 S Z hS _ _ _ w18.1 z_a0)
                · refine pq_fi (fun _ => ?_) (fun _ => ?_)
                  · refine pq_b (wX75_base S Z (sb rfl hS) _ _ w0.1 z_a0) (fun r19 K20 => ?_)
                    have w21 := wk_t w0 K20 hN
                    exact q_tV hN w21 (wX75_access_34 S Z hS _ _ _ w21.1 z_a0)
                  · exact pq_0
    · refine pq_fi (fun _ => ?_) (fun _ => ?_)
      · refine pq_b (wX75_base S Z (sb rfl hS) _ _ w0.1 z_a0) (fun r22 K23 => ?_)
        have w24 := wk_t w0 K23 hN
        exact q_tV hN w24 (wX75_access_34 S Z hS _ _ _ w24.1 z_a0)
      · refine pq_fi (fun _ => ?_) (fun _ => ?_)
        · refine pq_b (wX75_base S Z (sb rfl hS) _ _ w0.1 z_a0) (fun r25 K26 => ?_)
          have w27 := wk_t w0 K26 hN
          exact q_tV hN w27 (wX75_access_34 S Z hS _ _ _ w27.1 z_a0)
        · refine pq_fi (fun _ => ?_) (fun _ => ?_)
          · refine pq_b (wX79_base S Z (sb rfl hS) _ _ w0.1 z_a0) (fun r28 K29 => ?_)
            have w30 := wk_t w0 K29 hN
            exact q_tV hN w30 (wX75_access_34 S Z hS _ _ _ w30.1 z_a0)
          · refine pq_fi (fun _ => ?_) (fun _ => ?_)
            · refine pq_b (wX75_base S Z (sb rfl hS) _ _ w0.1 z_a0) (fun r31 K32 => ?_)
              have w33 := wk_t w0 K32 hN
              exact q_tV hN w33 (wX75_access_34 S Z hS _ _ _ w33.1 z_a0)
            · refine pq_fi (fun _ => ?_) (fun _ => ?_)
              · refine pq_b (wX75_base S Z (sb rfl hS) _ _ w0.1 z_a0) (fun r34 K35 => ?_)
                have w36 := wk_t w0 K35 hN
                exact q_tV hN w36 (wX75_access_34 S Z hS _ _ _ w36.1 z_a0)
              · refine pq_fi (fun _ => ?_) (fun _ => ?_)
                · refine pq_b (wX75_base S Z (sb rfl hS) _ _ w0.1 z_a0) (fun r37 K38 => ?_)
                  have w39 := wk_t w0 K38 hN
                  exact q_tV hN w39 (wX75_access_34 S Z hS _ _ _ w39.1 z_a0)
                · refine pq_fi (fun _ => ?_) (fun _ => ?_)
                  · refine pq_b (wX75_base S Z (sb rfl hS) _ _ w0.1 z_a0) (fun r40 K41 => ?_)
                    have w42 := wk_t w0 K41 hN
                    exact q_tV hN w42 (wX75_access_34 S Z hS _ _ _ w42.1 z_a0)
                  · exact pq_0
theorem wX75_access (S Z : Nat → Prop) {hx N : Nat} (hS : ∀ x, fe_mem lX75_access x = true → S x) (a0 : Nat) (a1 : Int32) (a2 : Int64) (M : FM) (w : WI Z hx N M) (z_a0 : Z a0) : pq (FX75_access a0 a1 a2 M) (QV S Z hx N M) := wX75_access_0 S Z hS a0 a1 a2 M w z_a0
def lX74_access : List Nat := [38, 41]
theorem wX74_access_70 (S Z : Nat → Prop) {hx N : Nat} (hS : ∀ x, fe_mem lX74_access x = true → S x) (M : FM) (w : WI Z hx N M) : pq (FX74_access_70 M) (QA S Z hx N M) := by
  have hN := w.2.2.1
  have w0 := wk_r (S := S) w
  delta FX74_access_70 BX74_access_70
  exact pq_s w0
theorem wX74_access_47 (S Z : Nat → Prop) {hx N : Nat} (hS : ∀ x, fe_mem lX74_access x = true → S x) (M : FM) (w : WI Z hx N M) : pq (FX74_access_47 M) (QA S Z hx N M) := by
  have hN := w.2.2.1
  have w0 := wk_r (S := S) w
  delta FX74_access_47 BX74_access_47
  exact pq_s w0
theorem wX74_access_0 (S Z : Nat → Prop) {hx N : Nat} (hS : ∀ x, fe_mem lX74_access x = true → S x) (a0 : Nat) (a1 : Int32) (a2 : Int32) (a3 : Int32) (a4 : Int64) (M : FM) (w : WI Z hx N M) (z_a0 : Z a0) : pq (FX74_access_0 a0 a1 a2 a3 a4 M) (QA S Z hx N M) := by
  have hN := w.2.2.1
  have w0 := wk_r (S := S) w
  delta FX74_access_0 BX74_access_0
  refine pq_g (fun g1 => ?_)
  refine pq_b (wX74_isIllegal S Z (sb rfl hS) _ _ _ _ w0.1 z_a0) (fun r2 K3 => ?_)
  have w4 := wk_t w0 K3 hN
  refine pq_fi (fun _ => ?_) (fun _ => ?_)
  · refine pq_g (fun g5 => ?_)
    have z6 := wk_z (i := 0) (f := 25) w4 rfl z_a0
    have f7 := sS_25 w4.1.1 g5
    refine pq_g (fun g8 => ?_)
    have z9 := fun i => wk_ze (i := i) w4 rfl g8.1 f7 rfl z6
    refine pq_g (fun g10 => ?_)
    have z11 := wk_z (i := 0) (f := 26) w4 rfl z_a0
    refine pq_g (fun _ => ?_)
    refine pq_fi (fun _ => ?_) (fun _ => ?_)
    · refine pq_fi (fun _ => ?_) (fun _ => ?_)
      · exact q_tA hN w4 (wX74_access_47 S Z hS _ w4.1 )
      · refine pq_fi (fun _ => ?_) (fun _ => ?_)
        · exact q_tA hN w4 (wX74_access_47 S Z hS _ w4.1 )
        · refine pq_g (fun g12 => ?_)
          have z13 := wk_z (i := 0) (f := 27) w4 rfl z_a0
          refine pq_g (fun g14 => ?_)
          refine pq_b (wX78_putTwo S Z (sb rfl hS) _ _ _ _ w4.1 z13) (fun r15 K16 => ?_)
          have w17 := wk_t w4 K16 hN
          exact q_tA hN w17 (wX74_access_47 S Z hS _ w17.1 )
    · refine pq_fi (fun _ => ?_) (fun _ => ?_)
      · refine pq_b (wX76_show S Z (sb rfl hS) _ _ w4.1 (z9 _)) (fun r18 K19 => ?_)
        have w20 := wk_t w4 K19 hN
        refine pq_g (fun g21 => ?_)
        extract_lets +onlyGivenNames M23
        have w22 : Wk S Z hx N M M23 := wk_fL hN w20 rfl rfl g21 z_a0 (Or.inr (hS 38 rfl))
        refine pq_fi (fun _ => ?_) (fun _ => ?_)
        · exact q_tA hN w22 (wX74_access_70 S Z hS _ w22.1 )
        · refine pq_g (fun g24 => ?_)
          refine pq_b (wX75_access S Z (sb rfl hS) _ _ _ _ w22.1 (z9 _)) (fun r25 K26 => ?_)
          have w27 := wk_t w22 K26 hN
          exact q_tA hN w27 (wX74_access_70 S Z hS _ w27.1 )
      · refine pq_fi (fun _ => ?_) (fun _ => ?_)
        · refine pq_b (wX77_show S Z (sb rfl hS) _ _ w4.1 (z9 _)) (fun r28 K29 => ?_)
          have w30 := wk_t w4 K29 hN
          refine pq_g (fun g31 => ?_)
          extract_lets +onlyGivenNames M33
          have w32 : Wk S Z hx N M M33 := wk_fL hN w30 rfl rfl g31 z_a0 (Or.inr (hS 38 rfl))
          refine pq_fi (fun _ => ?_) (fun _ => ?_)
          · exact q_tA hN w32 (wX74_access_70 S Z hS _ w32.1 )
          · refine pq_g (fun g34 => ?_)
            refine pq_b (wX75_access S Z (sb rfl hS) _ _ _ _ w32.1 (z9 _)) (fun r35 K36 => ?_)
            have w37 := wk_t w32 K36 hN
            exact q_tA hN w37 (wX74_access_70 S Z hS _ w37.1 )
        · refine pq_fi (fun _ => ?_) (fun _ => ?_)
          · refine pq_b (wX79_show S Z (sb rfl hS) _ _ w4.1 (z9 _)) (fun r38 K39 => ?_)
            have w40 := wk_t w4 K39 hN
            refine pq_g (fun g41 => ?_)
            extract_lets +onlyGivenNames M43
            have w42 : Wk S Z hx N M M43 := wk_fL hN w40 rfl rfl g41 z_a0 (Or.inr (hS 38 rfl))
            refine pq_fi (fun _ => ?_) (fun _ => ?_)
            · exact q_tA hN w42 (wX74_access_70 S Z hS _ w42.1 )
            · refine pq_g (fun g44 => ?_)
              refine pq_b (wX75_access S Z (sb rfl hS) _ _ _ _ w42.1 (z9 _)) (fun r45 K46 => ?_)
              have w47 := wk_t w42 K46 hN
              exact q_tA hN w47 (wX74_access_70 S Z hS _ w47.1 )
          · refine pq_fi (fun _ => ?_) (fun _ => ?_)
            · refine pq_b (wX78_show S Z (sb rfl hS) _ _ w4.1 (z9 _)) (fun r48 K49 => ?_)
              have w50 := wk_t w4 K49 hN
              refine pq_g (fun g51 => ?_)
              extract_lets +onlyGivenNames M53
              have w52 : Wk S Z hx N M M53 := wk_fL hN w50 rfl rfl g51 z_a0 (Or.inr (hS 38 rfl))
              refine pq_fi (fun _ => ?_) (fun _ => ?_)
              · exact q_tA hN w52 (wX74_access_70 S Z hS _ w52.1 )
              · refine pq_g (fun g54 => ?_)
                refine pq_b (wX75_access S Z (sb rfl hS) _ _ _ _ w52.1 (z9 _)) (fun r55 K56 => ?_)
                have w57 := wk_t w52 K56 hN
                exact q_tA hN w57 (wX74_access_70 S Z hS _ w57.1 )
            · refine pq_fi (fun _ => ?_) (fun _ => ?_)
              · refine pq_b (wX77_show S Z (sb rfl hS) _ _ w4.1 (z9 _)) (fun r58 K59 => ?_)
                have w60 := wk_t w4 K59 hN
                refine pq_g (fun g61 => ?_)
                extract_lets +onlyGivenNames M63
                have w62 : Wk S Z hx N M M63 := wk_fL hN w60 rfl rfl g61 z_a0 (Or.inr (hS 38 rfl))
                refine pq_fi (fun _ => ?_) (fun _ => ?_)
                · exact q_tA hN w62 (wX74_access_70 S Z hS _ w62.1 )
                · refine pq_g (fun g64 => ?_)
                  refine pq_b (wX75_access S Z (sb rfl hS) _ _ _ _ w62.1 (z9 _)) (fun r65 K66 => ?_)
                  have w67 := wk_t w62 K66 hN
                  exact q_tA hN w67 (wX74_access_70 S Z hS _ w67.1 )
              · refine pq_fi (fun _ => ?_) (fun _ => ?_)
                · refine pq_b (wX83_show S Z (sb rfl hS) _ _ w4.1 (z9 _)) (fun r68 K69 => ?_)
                  have w70 := wk_t w4 K69 hN
                  refine pq_g (fun g71 => ?_)
                  extract_lets +onlyGivenNames M73
                  have w72 : Wk S Z hx N M M73 := wk_fL hN w70 rfl rfl g71 z_a0 (Or.inr (hS 38 rfl))
                  refine pq_fi (fun _ => ?_) (fun _ => ?_)
                  · exact q_tA hN w72 (wX74_access_70 S Z hS _ w72.1 )
                  · refine pq_g (fun g74 => ?_)
                    refine pq_b (wX75_access S Z (sb rfl hS) _ _ _ _ w72.1 (z9 _)) (fun r75 K76 => ?_)
                    have w77 := wk_t w72 K76 hN
                    exact q_tA hN w77 (wX74_access_70 S Z hS _ w77.1 )
                · refine pq_fi (fun _ => ?_) (fun _ => ?_)
                  · refine pq_b (wX81_show S Z (sb rfl hS) _ _ w4.1 (z9 _)) (fun r78 K79 => ?_)
                    have w80 := wk_t w4 K79 hN
                    refine pq_g (fun g81 => ?_)
                    extract_lets +onlyGivenNames M83
                    have w82 : Wk S Z hx N M M83 := wk_fL hN w80 rfl rfl g81 z_a0 (Or.inr (hS 38 rfl))
                    refine pq_fi (fun _ => ?_) (fun _ => ?_)
                    · exact q_tA hN w82 (wX74_access_70 S Z hS _ w82.1 )
                    · refine pq_g (fun g84 => ?_)
                      refine pq_b (wX75_access S Z (sb rfl hS) _ _ _ _ w82.1 (z9 _)) (fun r85 K86 => ?_)
                      have w87 := wk_t w82 K86 hN
                      exact q_tA hN w87 (wX74_access_70 S Z hS _ w87.1 )
                  · exact pq_0
  · exact pq_s w4
theorem wX74_access (S Z : Nat → Prop) {hx N : Nat} (hS : ∀ x, fe_mem lX74_access x = true → S x) (a0 : Nat) (a1 : Int32) (a2 : Int32) (a3 : Int32) (a4 : Int64) (M : FM) (w : WI Z hx N M) (z_a0 : Z a0) : pq (FX74_access a0 a1 a2 a3 a4 M) (QA S Z hx N M) := wX74_access_0 S Z hS a0 a1 a2 a3 a4 M w z_a0
def lX86_configs : List Nat := []
theorem wX86_configs_5 (S Z : Nat → Prop) {hx N : Nat} (hS : ∀ x, fe_mem lX86_configs x = true → S x) (n : Nat) (k5 : Nat → Int64 → Int32 → FM → Option (Int64 × FM)) (hk5 : ∀ (a0 : Nat) (a1 : Int64) (a3 : Int32) (M : FM), WI Z hx N M → Z a0 → pq (k5 a0 a1 a3 M) (QA S Z hx N M)) (a0 : Nat) (a1 : Int64) (a3 : Int32) (M : FM) (w : WI Z hx N M) (z_a0 : Z a0) : pq (FX86_configs_5 n k5 a0 a1 a3 M) (QA S Z hx N M) := by
  have hN := w.2.2.1
  have w0 := wk_r (S := S) w
  delta FX86_configs_5 BX86_configs_5
  refine pq_fi (fun _ => ?_) (fun _ => ?_)
  · exact pq_s w0
  · refine pq_g (fun g1 => ?_)
    have z2 := wk_z (i := 0) (f := 284) w0 rfl z_a0
    have f3 := sS_284 w0.1.1 g1
    refine pq_g (fun g4 => ?_)
    have z5 := fun i => wk_ze (i := i) w0 rfl g4.1 f3 rfl z2
    refine pq_g (fun g6 => ?_)
    exact q_tA hN w0 (hk5 _ _ _ _ w0.1 z_a0)
theorem wX86_configs_0 (S Z : Nat → Prop) {hx N : Nat} (hS : ∀ x, fe_mem lX86_configs x = true → S x) (n : Nat) (k5 : Nat → Int64 → Int32 → FM → Option (Int64 × FM)) (hk5 : ∀ (a0 : Nat) (a1 : Int64) (a3 : Int32) (M : FM), WI Z hx N M → Z a0 → pq (k5 a0 a1 a3 M) (QA S Z hx N M)) (a0 : Nat) (M : FM) (w : WI Z hx N M) (z_a0 : Z a0) : pq (FX86_configs_0 n k5 a0 M) (QA S Z hx N M) := by
  have hN := w.2.2.1
  have w0 := wk_r (S := S) w
  delta FX86_configs_0 BX86_configs_0
  exact q_tA hN w0 (hk5 _ _ _ _ w0.1 z_a0)
theorem wX86_configs_L (S Z : Nat → Prop) {hx N : Nat} (hS : ∀ x, fe_mem lX86_configs x = true → S x) (n : Nat) : ∀ j : Nat, ∀ (a0 : Nat) (a1 : Int64) (a3 : Int32) (M : FM), WI Z hx N M → Z a0 → pq (FX86_configs_L5 n j a0 a1 a3 M) (QA S Z hx N M)
  | 0 => by intros; exact pq_0
  | j + 1 => fun a0 a1 a3 M w => wX86_configs_5 S Z hS n _ (wX86_configs_L S Z hS n j) a0 a1 a3 M w
theorem wX86_configs (S Z : Nat → Prop) {hx N : Nat} (hS : ∀ x, fe_mem lX86_configs x = true → S x) (n : Nat) (a0 : Nat) (M : FM) (w : WI Z hx N M) (z_a0 : Z a0) : pq (FX86_configs n a0 M) (QA S Z hx N M) := wX86_configs_0 S Z hS n _ (wX86_configs_L S Z hS n n) a0 M w z_a0
def lX46_elsewhere : List Nat := []
theorem wX46_elsewhere_109 (S Z : Nat → Prop) {hx N : Nat} (hS : ∀ x, fe_mem lX46_elsewhere x = true → S x) (n : Nat) (s0 : Int64) (M : FM) (w : WI Z hx N M) : pq (FX46_elsewhere_109 n s0 M) (QA S Z hx N M) := by
  have hN := w.2.2.1
  have w0 := wk_r (S := S) w
  delta FX46_elsewhere_109 BX46_elsewhere_109
  exact pq_s w0
theorem wX46_elsewhere_108 (S Z : Nat → Prop) {hx N : Nat} (hS : ∀ x, fe_mem lX46_elsewhere x = true → S x) (n : Nat) (M : FM) (w : WI Z hx N M) : pq (FX46_elsewhere_108 n M) (QA S Z hx N M) := by
  have hN := w.2.2.1
  have w0 := wk_r (S := S) w
  delta FX46_elsewhere_108 BX46_elsewhere_108
  exact q_tA hN w0 (wX46_elsewhere_109 S Z hS n _ _ w0.1 )
theorem wX46_elsewhere_53 (S Z : Nat → Prop) {hx N : Nat} (hS : ∀ x, fe_mem lX46_elsewhere x = true → S x) (n : Nat) (s0 : Int64) (M : FM) (w : WI Z hx N M) : pq (FX46_elsewhere_53 n s0 M) (QA S Z hx N M) := by
  have hN := w.2.2.1
  have w0 := wk_r (S := S) w
  delta FX46_elsewhere_53 BX46_elsewhere_53
  exact pq_s w0
theorem wX46_elsewhere_0 (S Z : Nat → Prop) {hx N : Nat} (hS : ∀ x, fe_mem lX46_elsewhere x = true → S x) (n : Nat) (a0 : Nat) (a1 : Int32) (M : FM) (w : WI Z hx N M) (z_a0 : Z a0) : pq (FX46_elsewhere_0 n a0 a1 M) (QA S Z hx N M) := by
  have hN := w.2.2.1
  have w0 := wk_r (S := S) w
  delta FX46_elsewhere_0 BX46_elsewhere_0
  refine pq_fi (fun _ => ?_) (fun _ => ?_)
  · refine pq_fi (fun _ => ?_) (fun _ => ?_)
    · refine pq_g (fun g1 => ?_)
      have z2 := wk_z (i := 0) (f := 214) w0 rfl z_a0
      refine pq_g (fun g3 => ?_)
      have z4 := wk_z (i := 0) (f := 288) w0 rfl z2
      refine pq_g (fun g5 => ?_)
      refine pq_b (wX86_configs S Z (sb rfl hS) n _ _ w0.1 z4) (fun r6 K7 => ?_)
      have w8 := wk_t w0 K7 hN
      exact pq_s w8
    · refine pq_fi (fun _ => ?_) (fun _ => ?_)
      · exact q_tA hN w0 (wX46_elsewhere_108 S Z hS n _ w0.1 )
      · refine pq_fi (fun _ => ?_) (fun _ => ?_)
        · exact q_tA hN w0 (wX46_elsewhere_108 S Z hS n _ w0.1 )
        · refine pq_g (fun g9 => ?_)
          have z10 := wk_z (i := 0) (f := 214) w0 rfl z_a0
          refine pq_g (fun g11 => ?_)
          have z12 := wk_z (i := 0) (f := 288) w0 rfl z10
          refine pq_g (fun g13 => ?_)
          have z14 := wk_z (i := 0) (f := 284) w0 rfl z12
          have f15 := sS_284 w0.1.1 g13
          refine pq_g (fun g16 => ?_)
          have z17 := fun i => wk_ze (i := i) w0 rfl g16.1 f15 rfl z14
          refine pq_g (fun g18 => ?_)
          exact q_tA hN w0 (wX46_elsewhere_109 S Z hS n _ _ w0.1 )
  · refine pq_g (fun g19 => ?_)
    have z20 := wk_z (i := 0) (f := 212) w0 rfl z_a0
    refine pq_g (fun g21 => ?_)
    have z22 := wk_z (i := 0) (f := 94) w0 rfl z20
    refine pq_g (fun g23 => ?_)
    refine pq_g (fun g24 => ?_)
    have z25 := wk_z (i := 0) (f := 212) w0 rfl z_a0
    refine pq_g (fun g26 => ?_)
    refine pq_fi (fun _ => ?_) (fun _ => ?_)
    · exact q_tA hN w0 (wX46_elsewhere_53 S Z hS n _ _ w0.1 )
    · refine pq_fi (fun _ => ?_) (fun _ => ?_)
      · exact q_tA hN w0 (wX46_elsewhere_53 S Z hS n _ _ w0.1 )
      · exact q_tA hN w0 (wX46_elsewhere_53 S Z hS n _ _ w0.1 )
theorem wX46_elsewhere (S Z : Nat → Prop) {hx N : Nat} (hS : ∀ x, fe_mem lX46_elsewhere x = true → S x) (n : Nat) (a0 : Nat) (a1 : Int32) (M : FM) (w : WI Z hx N M) (z_a0 : Z a0) : pq (FX46_elsewhere n a0 a1 M) (QA S Z hx N M) := wX46_elsewhere_0 S Z hS n a0 a1 M w z_a0
def lX87_configure : List Nat := [280]
theorem wX87_configure_22 (S Z : Nat → Prop) {hx N : Nat} (hS : ∀ x, fe_mem lX87_configure x = true → S x) (s0 : Nat) (s1 : Int32) (M : FM) (w : WI Z hx N M) (z_s0 : Z s0) : pq (FX87_configure_22 s0 s1 M) (QV S Z hx N M) := by
  have hN := w.2.2.1
  have w0 := wk_r (S := S) w
  delta FX87_configure_22 BX87_configure_22
  refine pq_g (fun g1 => ?_)
  extract_lets +onlyGivenNames M3
  have w2 : Wk S Z hx N M M3 := wk_fI hN w0 rfl rfl g1 z_s0 (Or.inr (hS 280 rfl))
  exact pq_s w2
theorem wX87_configure_0 (S Z : Nat → Prop) {hx N : Nat} (hS : ∀ x, fe_mem lX87_configure x = true → S x) (a0 : Nat) (a1 : Int32) (M : FM) (w : WI Z hx N M) (z_a0 : Z a0) : pq (FX87_configure_0 a0 a1 M) (QV S Z hx N M) := by
  have hN := w.2.2.1
  have w0 := wk_r (S := S) w
  delta FX87_configure_0 BX87_configure_0
  refine pq_fi (fun _ => ?_) (fun _ => ?_)
  · exact q_tV hN w0 (wX87_configure_22 S Z hS _ _ _ w0.1 z_a0)
  · exact q_tV hN w0 (wX87_configure_22 S Z hS _ _ _ w0.1 z_a0)
theorem wX87_configure (S Z : Nat → Prop) {hx N : Nat} (hS : ∀ x, fe_mem lX87_configure x = true → S x) (a0 : Nat) (a1 : Int32) (M : FM) (w : WI Z hx N M) (z_a0 : Z a0) : pq (FX87_configure a0 a1 M) (QV S Z hx N M) := wX87_configure_0 S Z hS a0 a1 M w z_a0
def lX86_configure : List Nat := [280, 282, 283, 285]
theorem wX86_configure_40 (S Z : Nat → Prop) {hx N : Nat} (hS : ∀ x, fe_mem lX86_configure x = true → S x) (n : Nat) (k2 : Nat → Int64 → Int32 → FM → Option (FM)) (hk2 : ∀ (a0 : Nat) (a1 : Int64) (a3 : Int32) (M : FM), WI Z hx N M → Z a0 → pq (k2 a0 a1 a3 M) (QV S Z hx N M)) (a0 : Nat) (a1 : Int64) (a3 : Int32) (M : FM) (w : WI Z hx N M) (z_a0 : Z a0) : pq (FX86_configure_40 n k2 a0 a1 a3 M) (QV S Z hx N M) := by
  have hN := w.2.2.1
  have w0 := wk_r (S := S) w
  delta FX86_configure_40 BX86_configure_40
  exact q_tV hN w0 (hk2 _ _ _ _ w0.1 z_a0)
theorem wX86_configure_2 (S Z : Nat → Prop) {hx N : Nat} (hS : ∀ x, fe_mem lX86_configure x = true → S x) (n : Nat) (k2 : Nat → Int64 → Int32 → FM → Option (FM)) (hk2 : ∀ (a0 : Nat) (a1 : Int64) (a3 : Int32) (M : FM), WI Z hx N M → Z a0 → pq (k2 a0 a1 a3 M) (QV S Z hx N M)) (a0 : Nat) (a1 : Int64) (a3 : Int32) (M : FM) (w : WI Z hx N M) (z_a0 : Z a0) : pq (FX86_configure_2 n k2 a0 a1 a3 M) (QV S Z hx N M) := by
  have hN := w.2.2.1
  have w0 := wk_r (S := S) w
  delta FX86_configure_2 BX86_configure_2
  refine pq_fi (fun _ => ?_) (fun _ => ?_)
  · refine pq_g (fun g1 => ?_)
    refine pq_b (wX86_lay S Z (sb rfl hS) n _ _ w0.1 z_a0) (fun r2 K3 => ?_)
    have w4 := wk_t w0 K3 hN
    exact pq_s w4
  · refine pq_g (fun g5 => ?_)
    have z6 := wk_z (i := 0) (f := 284) w0 rfl z_a0
    have f7 := sS_284 w0.1.1 g5
    refine pq_g (fun g8 => ?_)
    have z9 := fun i => wk_ze (i := i) w0 rfl g8.1 f7 rfl z6
    refine pq_g (fun g10 => ?_)
    refine pq_b (wX87_isLocked S Z (sb rfl hS) _ _ w0.1 (z9 _)) (fun r11 K12 => ?_)
    have w13 := wk_t w0 K12 hN
    refine pq_fi (fun _ => ?_) (fun _ => ?_)
    · refine pq_g (fun g14 => ?_)
      have z15 := wk_z (i := 0) (f := 284) w13 rfl z_a0
      have f16 := sS_284 w13.1.1 g14
      refine pq_g (fun g17 => ?_)
      have z18 := fun i => wk_ze (i := i) w13 rfl g17.1 f16 rfl z15
      refine pq_b (wX102_bits S Z (sb rfl hS) _ _ _ _ w13.1 ) (fun r19 K20 => ?_)
      have w21 := wk_t w13 K20 hN
      refine pq_g (fun g22 => ?_)
      refine pq_b (wX87_configure S Z (sb rfl hS) _ _ _ w21.1 (z18 _)) (fun r23 K24 => ?_)
      have w25 := wk_t w21 K24 hN
      exact q_tV hN w25 (wX86_configure_40 S Z hS n _ hk2 _ _ _ _ w25.1 z_a0)
    · exact q_tV hN w13 (wX86_configure_40 S Z hS n _ hk2 _ _ _ _ w13.1 z_a0)
theorem wX86_configure_0 (S Z : Nat → Prop) {hx N : Nat} (hS : ∀ x, fe_mem lX86_configure x = true → S x) (n : Nat) (k2 : Nat → Int64 → Int32 → FM → Option (FM)) (hk2 : ∀ (a0 : Nat) (a1 : Int64) (a3 : Int32) (M : FM), WI Z hx N M → Z a0 → pq (k2 a0 a1 a3 M) (QV S Z hx N M)) (a0 : Nat) (a1 : Int64) (M : FM) (w : WI Z hx N M) (z_a0 : Z a0) : pq (FX86_configure_0 n k2 a0 a1 M) (QV S Z hx N M) := by
  have hN := w.2.2.1
  have w0 := wk_r (S := S) w
  delta FX86_configure_0 BX86_configure_0
  exact q_tV hN w0 (hk2 _ _ _ _ w0.1 z_a0)
theorem wX86_configure_L (S Z : Nat → Prop) {hx N : Nat} (hS : ∀ x, fe_mem lX86_configure x = true → S x) (n : Nat) : ∀ j : Nat, ∀ (a0 : Nat) (a1 : Int64) (a3 : Int32) (M : FM), WI Z hx N M → Z a0 → pq (FX86_configure_L2 n j a0 a1 a3 M) (QV S Z hx N M)
  | 0 => by intros; exact pq_0
  | j + 1 => fun a0 a1 a3 M w => wX86_configure_2 S Z hS n _ (wX86_configure_L S Z hS n j) a0 a1 a3 M w
theorem wX86_configure (S Z : Nat → Prop) {hx N : Nat} (hS : ∀ x, fe_mem lX86_configure x = true → S x) (n : Nat) (a0 : Nat) (a1 : Int64) (M : FM) (w : WI Z hx N M) (z_a0 : Z a0) : pq (FX86_configure n a0 a1 M) (QV S Z hx N M) := wX86_configure_0 S Z hS n _ (wX86_configure_L S Z hS n n) a0 a1 M w z_a0
def lX86_number : List Nat := [281, 282, 283, 285]
theorem wX86_number_83 (S Z : Nat → Prop) {hx N : Nat} (hS : ∀ x, fe_mem lX86_number x = true → S x) (n : Nat) (M : FM) (w : WI Z hx N M) : pq (FX86_number_83 n M) (QV S Z hx N M) := by
  have hN := w.2.2.1
  have w0 := wk_r (S := S) w
  delta FX86_number_83 BX86_number_83
  exact pq_s w0
theorem wX86_number_44 (S Z : Nat → Prop) {hx N : Nat} (hS : ∀ x, fe_mem lX86_number x = true → S x) (n : Nat) (a0 : Nat) (a1 : Int32) (a2 : Int64) (s0 : Int32) (M : FM) (w : WI Z hx N M) (z_a0 : Z a0) : pq (FX86_number_44 n a0 a1 a2 s0 M) (QV S Z hx N M) := by
  have hN := w.2.2.1
  have w0 := wk_r (S := S) w
  delta FX86_number_44 BX86_number_44
  refine pq_g (fun g1 => ?_)
  have z2 := wk_z (i := 0) (f := 284) w0 rfl z_a0
  have f3 := sS_284 w0.1.1 g1
  refine pq_g (fun g4 => ?_)
  have z5 := fun i => wk_ze (i := i) w0 rfl g4.1 f3 rfl z2
  refine pq_g (fun g6 => ?_)
  refine pq_b (wX87_isLocked S Z (sb rfl hS) _ _ w0.1 (z5 _)) (fun r7 K8 => ?_)
  have w9 := wk_t w0 K8 hN
  refine pq_fi (fun _ => ?_) (fun _ => ?_)
  · refine pq_fi (fun _ => ?_) (fun _ => ?_)
    · refine pq_g (fun g10 => ?_)
      have z11 := wk_z (i := 0) (f := 284) w9 rfl z_a0
      have f12 := sS_284 w9.1.1 g10
      refine pq_g (fun g13 => ?_)
      have z14 := fun i => wk_ze (i := i) w9 rfl g13.1 f12 rfl z11
      refine pq_b (wX102_bits S Z (sb rfl hS) _ _ _ _ w9.1 ) (fun r15 K16 => ?_)
      have w17 := wk_t w9 K16 hN
      refine pq_g (fun g18 => ?_)
      extract_lets +onlyGivenNames M20
      have w19 : Wk S Z hx N M M20 := wk_fL hN w17 rfl rfl g18 (z14 _) (Or.inr (hS 281 rfl))
      refine pq_g (fun g21 => ?_)
      refine pq_b (wX86_lay S Z (sb rfl hS) n _ _ w19.1 z_a0) (fun r22 K23 => ?_)
      have w24 := wk_t w19 K23 hN
      exact q_tV hN w24 (wX86_number_83 S Z hS n _ w24.1 )
    · exact q_tV hN w9 (wX86_number_83 S Z hS n _ w9.1 )
  · exact q_tV hN w9 (wX86_number_83 S Z hS n _ w9.1 )
theorem wX86_number_43 (S Z : Nat → Prop) {hx N : Nat} (hS : ∀ x, fe_mem lX86_number x = true → S x) (n : Nat) (a0 : Nat) (a1 : Int32) (a2 : Int64) (M : FM) (w : WI Z hx N M) (z_a0 : Z a0) : pq (FX86_number_43 n a0 a1 a2 M) (QV S Z hx N M) := by
  have hN := w.2.2.1
  have w0 := wk_r (S := S) w
  delta FX86_number_43 BX86_number_43
  exact q_tV hN w0 (wX86_number_44 S Z hS n _ _ _ _ _ w0.1 z_a0)
theorem wX86_number_0 (S Z : Nat → Prop) {hx N : Nat} (hS : ∀ x, fe_mem lX86_number x = true → S x) (n : Nat) (a0 : Nat) (a1 : Int32) (a2 : Int64) (M : FM) (w : WI Z hx N M) (z_a0 : Z a0) : pq (FX86_number_0 n a0 a1 a2 M) (QV S Z hx N M) := by
  have hN := w.2.2.1
  have w0 := wk_r (S := S) w
  delta FX86_number_0 BX86_number_0
  refine pq_fi (fun _ => ?_) (fun _ => ?_)
  · exact q_tV hN w0 (wX86_number_43 S Z hS n _ _ _ _ w0.1 z_a0)
  · refine pq_g (fun g1 => ?_)
    have z2 := wk_z (i := 0) (f := 284) w0 rfl z_a0
    have f3 := sS_284 w0.1.1 g1
    refine pq_g (fun g4 => ?_)
    have z5 := fun i => wk_ze (i := i) w0 rfl g4.1 f3 rfl z2
    refine pq_g (fun g6 => ?_)
    refine pq_b (wX87_isLocked S Z (sb rfl hS) _ _ w0.1 (z5 _)) (fun r7 K8 => ?_)
    have w9 := wk_t w0 K8 hN
    refine pq_fi (fun _ => ?_) (fun _ => ?_)
    · exact q_tV hN w9 (wX86_number_43 S Z hS n _ _ _ _ w9.1 z_a0)
    · refine pq_g (fun g10 => ?_)
      have z11 := wk_z (i := 0) (f := 284) w9 rfl z_a0
      have f12 := sS_284 w9.1.1 g10
      refine pq_g (fun g13 => ?_)
      have z14 := fun i => wk_ze (i := i) w9 rfl g13.1 f12 rfl z11
      refine pq_g (fun g15 => ?_)
      refine pq_b (wX87_span S Z (sb rfl hS) _ _ w9.1 (z14 _)) (fun r16 K17 => ?_)
      have w18 := wk_t w9 K17.1 hN
      refine pq_g (fun _ => ?_)
      refine pq_fi (fun _ => ?_) (fun _ => ?_)
      · exact q_tV hN w18 (wX86_number_44 S Z hS n _ _ _ _ _ w18.1 z_a0)
      · exact q_tV hN w18 (wX86_number_43 S Z hS n _ _ _ _ w18.1 z_a0)
theorem wX86_number (S Z : Nat → Prop) {hx N : Nat} (hS : ∀ x, fe_mem lX86_number x = true → S x) (n : Nat) (a0 : Nat) (a1 : Int32) (a2 : Int64) (M : FM) (w : WI Z hx N M) (z_a0 : Z a0) : pq (FX86_number n a0 a1 a2 M) (QV S Z hx N M) := wX86_number_0 S Z hS n a0 a1 a2 M w z_a0
def lX46_putElsewhere : List Nat := [91, 92, 95, 96, 280, 281, 282, 283, 285]
theorem wX46_putElsewhere_105 (S Z : Nat → Prop) {hx N : Nat} (hS : ∀ x, fe_mem lX46_putElsewhere x = true → S x) (n : Nat) (M : FM) (w : WI Z hx N M) : pq (FX46_putElsewhere_105 n M) (QV S Z hx N M) := by
  have hN := w.2.2.1
  have w0 := wk_r (S := S) w
  delta FX46_putElsewhere_105 BX46_putElsewhere_105
  exact pq_s w0
theorem wX46_putElsewhere_98 (S Z : Nat → Prop) {hx N : Nat} (hS : ∀ x, fe_mem lX46_putElsewhere x = true → S x) (n : Nat) (a0 : Nat) (M : FM) (w : WI Z hx N M) (z_a0 : Z a0) : pq (FX46_putElsewhere_98 n a0 M) (QV S Z hx N M) := by
  have hN := w.2.2.1
  have w0 := wk_r (S := S) w
  delta FX46_putElsewhere_98 BX46_putElsewhere_98
  refine pq_g (fun g1 => ?_)
  have z2 := wk_z (i := 0) (f := 212) w0 rfl z_a0
  refine pq_g (fun g3 => ?_)
  refine pq_b (wX59_calm S Z (sb rfl hS) _ _ w0.1 z2) (fun r4 K5 => ?_)
  have w6 := wk_t w0 K5 hN
  exact q_tV hN w6 (wX46_putElsewhere_105 S Z hS n _ w6.1 )
theorem wX46_putElsewhere_94 (S Z : Nat → Prop) {hx N : Nat} (hS : ∀ x, fe_mem lX46_putElsewhere x = true → S x) (n : Nat) (a0 : Nat) (s0 : Nat) (s1 : Int64) (M : FM) (w : WI Z hx N M) (z_a0 : Z a0) (z_s0 : Z s0) : pq (FX46_putElsewhere_94 n a0 s0 s1 M) (QV S Z hx N M) := by
  have hN := w.2.2.1
  have w0 := wk_r (S := S) w
  delta FX46_putElsewhere_94 BX46_putElsewhere_94
  refine pq_g (fun g1 => ?_)
  refine pq_b (wX59_putMode S Z (sb rfl hS) _ _ _ w0.1 z_s0) (fun r2 K3 => ?_)
  have w4 := wk_t w0 K3 hN
  exact q_tV hN w4 (wX46_putElsewhere_98 S Z hS n _ _ w4.1 z_a0)
theorem wX46_putElsewhere_73 (S Z : Nat → Prop) {hx N : Nat} (hS : ∀ x, fe_mem lX46_putElsewhere x = true → S x) (n : Nat) (a0 : Nat) (a1 : Int32) (a2 : Int64) (M : FM) (w : WI Z hx N M) (z_a0 : Z a0) : pq (FX46_putElsewhere_73 n a0 a1 a2 M) (QV S Z hx N M) := by
  have hN := w.2.2.1
  have w0 := wk_r (S := S) w
  delta FX46_putElsewhere_73 BX46_putElsewhere_73
  refine pq_fi (fun _ => ?_) (fun _ => ?_)
  · exact q_tV hN w0 (wX46_putElsewhere_98 S Z hS n _ _ w0.1 z_a0)
  · refine pq_g (fun g1 => ?_)
    have z2 := wk_z (i := 0) (f := 212) w0 rfl z_a0
    refine pq_fi (fun _ => ?_) (fun _ => ?_)
    · exact q_tV hN w0 (wX46_putElsewhere_94 S Z hS n _ _ _ _ w0.1 z_a0 z2)
    · exact q_tV hN w0 (wX46_putElsewhere_94 S Z hS n _ _ _ _ w0.1 z_a0 z2)
theorem wX46_putElsewhere_54 (S Z : Nat → Prop) {hx N : Nat} (hS : ∀ x, fe_mem lX46_putElsewhere x = true → S x) (n : Nat) (a0 : Nat) (a1 : Int32) (a2 : Int64) (M : FM) (w : WI Z hx N M) (z_a0 : Z a0) : pq (FX46_putElsewhere_54 n a0 a1 a2 M) (QV S Z hx N M) := by
  have hN := w.2.2.1
  have w0 := wk_r (S := S) w
  delta FX46_putElsewhere_54 BX46_putElsewhere_54
  refine pq_fi (fun _ => ?_) (fun _ => ?_)
  · exact q_tV hN w0 (wX46_putElsewhere_105 S Z hS n _ w0.1 )
  · refine pq_fi (fun _ => ?_) (fun _ => ?_)
    · exact q_tV hN w0 (wX46_putElsewhere_73 S Z hS n _ _ _ _ w0.1 z_a0)
    · refine pq_g (fun g1 => ?_)
      have z2 := wk_z (i := 0) (f := 212) w0 rfl z_a0
      refine pq_g (fun g3 => ?_)
      refine pq_b (wX59_putFlags S Z (sb rfl hS) _ _ _ w0.1 z2) (fun r4 K5 => ?_)
      have w6 := wk_t w0 K5 hN
      exact q_tV hN w6 (wX46_putElsewhere_73 S Z hS n _ _ _ _ w6.1 z_a0)
theorem wX46_putElsewhere_0 (S Z : Nat → Prop) {hx N : Nat} (hS : ∀ x, fe_mem lX46_putElsewhere x = true → S x) (n : Nat) (a0 : Nat) (a1 : Int32) (a2 : Int64) (M : FM) (w : WI Z hx N M) (z_a0 : Z a0) : pq (FX46_putElsewhere_0 n a0 a1 a2 M) (QV S Z hx N M) := by
  have hN := w.2.2.1
  have w0 := wk_r (S := S) w
  delta FX46_putElsewhere_0 BX46_putElsewhere_0
  refine pq_fi (fun _ => ?_) (fun _ => ?_)
  · refine pq_g (fun g1 => ?_)
    have z2 := wk_z (i := 0) (f := 214) w0 rfl z_a0
    refine pq_g (fun g3 => ?_)
    have z4 := wk_z (i := 0) (f := 288) w0 rfl z2
    refine pq_g (fun g5 => ?_)
    refine pq_b (wX86_configure S Z (sb rfl hS) n _ _ _ w0.1 z4) (fun r6 K7 => ?_)
    have w8 := wk_t w0 K7 hN
    exact q_tV hN w8 (wX46_putElsewhere_105 S Z hS n _ w8.1 )
  · refine pq_fi (fun _ => ?_) (fun _ => ?_)
    · exact q_tV hN w0 (wX46_putElsewhere_54 S Z hS n _ _ _ _ w0.1 z_a0)
    · refine pq_fi (fun _ => ?_) (fun _ => ?_)
      · exact q_tV hN w0 (wX46_putElsewhere_54 S Z hS n _ _ _ _ w0.1 z_a0)
      · refine pq_g (fun g9 => ?_)
        have z10 := wk_z (i := 0) (f := 214) w0 rfl z_a0
        refine pq_g (fun g11 => ?_)
        have z12 := wk_z (i := 0) (f := 288) w0 rfl z10
        refine pq_g (fun g13 => ?_)
        refine pq_b (wX86_number S Z (sb rfl hS) n _ _ _ _ w0.1 z12) (fun r14 K15 => ?_)
        have w16 := wk_t w0 K15 hN
        exact q_tV hN w16 (wX46_putElsewhere_105 S Z hS n _ w16.1 )
theorem wX46_putElsewhere (S Z : Nat → Prop) {hx N : Nat} (hS : ∀ x, fe_mem lX46_putElsewhere x = true → S x) (n : Nat) (a0 : Nat) (a1 : Int32) (a2 : Int64) (M : FM) (w : WI Z hx N M) (z_a0 : Z a0) : pq (FX46_putElsewhere n a0 a1 a2 M) (QV S Z hx N M) := wX46_putElsewhere_0 S Z hS n a0 a1 a2 M w z_a0
def lX46_access : List Nat := [37, 38, 39, 41, 91, 92, 95, 96, 174, 177, 179, 280, 281, 282, 283, 285, 1178]
theorem wX46_access_111 (S Z : Nat → Prop) {hx N : Nat} (hS : ∀ x, fe_mem lX46_access x = true → S x) (n : Nat) (a0 : Nat) (a7 : Int64) (M : FM) (w : WI Z hx N M) (z_a0 : Z a0) : pq (FX46_access_111 n a0 a7 M) (QA S Z hx N M) := by
  have hN := w.2.2.1
  have w0 := wk_r (S := S) w
  delta FX46_access_111 BX46_access_111
  refine pq_g (fun g1 => ?_)
  have z2 := wk_z (i := 0) (f := 211) w0 rfl z_a0
  refine pq_g (fun g3 => ?_)
  refine pq_b (wX47_finish S Z (sb rfl hS) _ _ _ _ w0.1 z2) (fun r4 K5 => ?_)
  have w6 := wk_t w0 K5 hN
  refine pq_g (fun _ => ?_)
  exact pq_s w6
theorem wX46_access_108 (S Z : Nat → Prop) {hx N : Nat} (hS : ∀ x, fe_mem lX46_access x = true → S x) (n : Nat) (a0 : Nat) (a7 : Int64) (s0 : Nat) (s1 : Int32) (s2 : Int64) (M : FM) (w : WI Z hx N M) (z_a0 : Z a0) (z_s0 : Z s0) : pq (FX46_access_108 n a0 a7 s0 s1 s2 M) (QA S Z hx N M) := by
  have hN := w.2.2.1
  have w0 := wk_r (S := S) w
  delta FX46_access_108 BX46_access_108
  refine pq_g (fun g1 => ?_)
  refine pq_b (wX46_putElsewhere S Z (sb rfl hS) n _ _ _ _ w0.1 z_s0) (fun r2 K3 => ?_)
  have w4 := wk_t w0 K3 hN
  exact q_tA hN w4 (wX46_access_111 S Z hS n _ _ _ w4.1 z_a0)
theorem wX46_access_23 (S Z : Nat → Prop) {hx N : Nat} (hS : ∀ x, fe_mem lX46_access x = true → S x) (n : Nat) (a0 : Nat) (a1 : Int32) (a2 : Int32) (a3 : Int64) (s0 : Int32) (M : FM) (w : WI Z hx N M) (z_a0 : Z a0) : pq (FX46_access_23 n a0 a1 a2 a3 s0 M) (QA S Z hx N M) := by
  have hN := w.2.2.1
  have w0 := wk_r (S := S) w
  delta FX46_access_23 BX46_access_23
  refine pq_g (fun g1 => ?_)
  have z2 := wk_z (i := 0) (f := 213) w0 rfl z_a0
  refine pq_g (fun g3 => ?_)
  refine pq_b (wX74_access S Z (sb rfl hS) _ _ _ _ _ _ w0.1 z2) (fun r4 K5 => ?_)
  have w6 := wk_t w0 K5 hN
  refine pq_fi (fun _ => ?_) (fun _ => ?_)
  · refine pq_g (fun g7 => ?_)
    refine pq_b (wX46_illegal S Z (sb rfl hS) _ _ w6.1 z_a0) (fun r8 K9 => ?_)
    have w10 := wk_t w6 K9 hN
    refine pq_g (fun _ => ?_)
    exact pq_s w10
  · refine pq_g (fun g11 => ?_)
    have z12 := wk_z (i := 0) (f := 213) w6 rfl z_a0
    refine pq_g (fun g13 => ?_)
    refine pq_fi (fun _ => ?_) (fun _ => ?_)
    · refine pq_g (fun g14 => ?_)
      refine pq_b (wX46_elsewhere S Z (sb rfl hS) n _ _ _ w6.1 z_a0) (fun r15 K16 => ?_)
      have w17 := wk_t w6 K16 hN
      refine pq_fi (fun _ => ?_) (fun _ => ?_)
      · exact q_tA hN w17 (wX46_access_111 S Z hS n _ _ _ w17.1 z_a0)
      · refine pq_fi (fun _ => ?_) (fun _ => ?_)
        · exact q_tA hN w17 (wX46_access_108 S Z hS n _ _ _ _ _ _ w17.1 z_a0 z_a0)
        · refine pq_fi (fun _ => ?_) (fun _ => ?_)
          · exact q_tA hN w17 (wX46_access_108 S Z hS n _ _ _ _ _ _ w17.1 z_a0 z_a0)
          · exact q_tA hN w17 (wX46_access_108 S Z hS n _ _ _ _ _ _ w17.1 z_a0 z_a0)
    · exact q_tA hN w6 (wX46_access_111 S Z hS n _ _ _ w6.1 z_a0)
theorem wX46_access_18 (S Z : Nat → Prop) {hx N : Nat} (hS : ∀ x, fe_mem lX46_access x = true → S x) (n : Nat) (a0 : Nat) (a1 : Int32) (a2 : Int32) (a3 : Int64) (M : FM) (w : WI Z hx N M) (z_a0 : Z a0) : pq (FX46_access_18 n a0 a1 a2 a3 M) (QA S Z hx N M) := by
  have hN := w.2.2.1
  have w0 := wk_r (S := S) w
  delta FX46_access_18 BX46_access_18
  exact q_tA hN w0 (wX46_access_23 S Z hS n _ _ _ _ _ _ w0.1 z_a0)
theorem wX46_access_0 (S Z : Nat → Prop) {hx N : Nat} (hS : ∀ x, fe_mem lX46_access x = true → S x) (n : Nat) (a0 : Nat) (a1 : Int32) (a2 : Int32) (a3 : Int64) (M : FM) (w : WI Z hx N M) (z_a0 : Z a0) : pq (FX46_access_0 n a0 a1 a2 a3 M) (QA S Z hx N M) := by
  have hN := w.2.2.1
  have w0 := wk_r (S := S) w
  delta FX46_access_0 BX46_access_0
  refine pq_fi (fun _ => ?_) (fun _ => ?_)
  · exact q_tA hN w0 (wX46_access_18 S Z hS n _ _ _ _ _ w0.1 z_a0)
  · refine pq_g (fun g1 => ?_)
    refine pq_fi (fun _ => ?_) (fun _ => ?_)
    · exact q_tA hN w0 (wX46_access_23 S Z hS n _ _ _ _ _ _ w0.1 z_a0)
    · exact q_tA hN w0 (wX46_access_18 S Z hS n _ _ _ _ _ w0.1 z_a0)
theorem wX46_access (S Z : Nat → Prop) {hx N : Nat} (hS : ∀ x, fe_mem lX46_access x = true → S x) (n : Nat) (a0 : Nat) (a1 : Int32) (a2 : Int32) (a3 : Int64) (M : FM) (w : WI Z hx N M) (z_a0 : Z a0) : pq (FX46_access n a0 a1 a2 a3 M) (QA S Z hx N M) := wX46_access_0 S Z hS n a0 a1 a2 a3 M w z_a0
def lX46_control : List Nat := [37, 38, 39, 41, 91, 92, 95, 96, 174, 177, 179, 218, 280, 281, 282, 283, 285, 1178]
theorem wX46_control_48 (S Z : Nat → Prop) {hx N : Nat} (hS : ∀ x, fe_mem lX46_control x = true → S x) (n : Nat) (s0 : Int32) (M : FM) (w : WI Z hx N M) : pq (FX46_control_48 n s0 M) (QA S Z hx N M) := by
  have hN := w.2.2.1
  have w0 := wk_r (S := S) w
  delta FX46_control_48 BX46_control_48
  refine pq_g (fun _ => ?_)
  exact pq_s w0
theorem wX46_control_0 (S Z : Nat → Prop) {hx N : Nat} (hS : ∀ x, fe_mem lX46_control x = true → S x) (n : Nat) (a0 : Nat) (M : FM) (w : WI Z hx N M) (z_a0 : Z a0) : pq (FX46_control_0 n a0 M) (QA S Z hx N M) := by
  have hN := w.2.2.1
  have w0 := wk_r (S := S) w
  delta FX46_control_0 BX46_control_0
  refine pq_g (fun g1 => ?_)
  have z2 := wk_z (i := 0) (f := 211) w0 rfl z_a0
  refine pq_g (fun g3 => ?_)
  refine pq_b (wX47_wanted S Z (sb rfl hS) _ _ _ w0.1 z2) (fun r4 K5 => ?_)
  have w6 := wk_t w0 K5 hN
  refine pq_g (fun g7 => ?_)
  have z8 := wk_z (i := 0) (f := 211) w6 rfl z_a0
  refine pq_g (fun g9 => ?_)
  refine pq_b (wX47_wanted S Z (sb rfl hS) _ _ _ w6.1 z8) (fun r10 K11 => ?_)
  have w12 := wk_t w6 K11 hN
  refine pq_fi (fun _ => ?_) (fun _ => ?_)
  · refine pq_g (fun g13 => ?_)
    refine pq_b (wX46_system S Z (sb rfl hS) _ _ _ w12.1 z_a0) (fun r14 K15 => ?_)
    have w16 := wk_t w12 K15 hN
    exact q_tA hN w16 (wX46_control_48 S Z hS n _ _ w16.1 )
  · refine pq_g (fun g17 => ?_)
    have z18 := wk_z (i := 0) (f := 211) w12 rfl z_a0
    refine pq_g (fun g19 => ?_)
    refine pq_b (wX47_wanted S Z (sb rfl hS) _ _ _ w12.1 z18) (fun r20 K21 => ?_)
    have w22 := wk_t w12 K21 hN
    refine pq_g (fun g23 => ?_)
    refine pq_b (wX46_access S Z (sb rfl hS) n _ _ _ _ _ w22.1 z_a0) (fun r24 K25 => ?_)
    have w26 := wk_t w22 K25 hN
    exact q_tA hN w26 (wX46_control_48 S Z hS n _ _ w26.1 )
theorem wX46_control (S Z : Nat → Prop) {hx N : Nat} (hS : ∀ x, fe_mem lX46_control x = true → S x) (n : Nat) (a0 : Nat) (M : FM) (w : WI Z hx N M) (z_a0 : Z a0) : pq (FX46_control n a0 M) (QA S Z hx N M) := wX46_control_0 S Z hS n a0 M w z_a0
def lX46_execute : List Nat := [22, 23, 37, 38, 39, 41, 63, 64, 65, 66, 67, 70, 71, 72, 73, 74, 75, 76, 77, 80, 81, 82, 83, 84, 87, 88, 89, 90, 91, 92, 95, 96, 97, 114, 115, 116, 118, 119, 120, 122, 123, 124, 149, 150, 151, 152, 153, 154, 155, 156, 157, 158, 159, 160, 174, 176, 177, 179, 207, 208, 218, 227, 228, 229, 231, 232, 234, 236, 237, 238, 269, 270, 271, 272, 273, 274, 275, 276, 277, 280, 281, 282, 283, 285, 289, 290, 292, 293, 294, 1069, 1085, 1086, 1093, 1121, 1173, 1175, 1178, 1201, 1203, 1204, 1224, 1225, 1226, 1230, 1233, 1235, 1245, 1246, 1278, 1279, 1295]
theorem wX46_execute_110 (S Z : Nat → Prop) {hx N : Nat} (hS : ∀ x, fe_mem lX46_execute x = true → S x) (n : Nat) (M : FM) (w : WI Z hx N M) : pq (FX46_execute_110 n M) (QA S Z hx N M) := by
  have hN := w.2.2.1
  have w0 := wk_r (S := S) w
  delta FX46_execute_110 BX46_execute_110
  refine pq_g (fun _ => ?_)
  exact pq_s w0
theorem wX46_execute_20 (S Z : Nat → Prop) {hx N : Nat} (hS : ∀ x, fe_mem lX46_execute x = true → S x) (n : Nat) (a0 : Nat) (M : FM) (w : WI Z hx N M) (z_a0 : Z a0) : pq (FX46_execute_20 n a0 M) (QA S Z hx N M) := by
  have hN := w.2.2.1
  have w0 := wk_r (S := S) w
  delta FX46_execute_20 BX46_execute_20
  refine pq_g (fun g1 => ?_)
  have z2 := wk_z (i := 0) (f := 211) w0 rfl z_a0
  refine pq_g (fun g3 => ?_)
  refine pq_g (fun g4 => ?_)
  refine pq_g (fun g5 => ?_)
  refine pq_b (wX47_run S Z (sb rfl hS) n _ _ _ _ w0.1 z2) (fun r6 K7 => ?_)
  have w8 := wk_t w0 K7 hN
  refine pq_fi (fun _ => ?_) (fun _ => ?_)
  · refine pq_g (fun g9 => ?_)
    refine pq_b (wX46_illegal S Z (sb rfl hS) _ _ w8.1 z_a0) (fun r10 K11 => ?_)
    have w12 := wk_t w8 K11 hN
    refine pq_g (fun _ => ?_)
    exact pq_s w12
  · refine pq_fi (fun _ => ?_) (fun _ => ?_)
    · exact q_tA hN w8 (wX46_execute_110 S Z hS n _ w8.1 )
    · refine pq_fi (fun _ => ?_) (fun _ => ?_)
      · exact q_tA hN w8 (wX46_execute_110 S Z hS n _ w8.1 )
      · refine pq_fi (fun _ => ?_) (fun _ => ?_)
        · refine pq_g (fun g13 => ?_)
          refine pq_b (wX46_load S Z (sb rfl hS) n _ _ w8.1 z_a0) (fun r14 K15 => ?_)
          have w16 := wk_t w8 K15 hN
          refine pq_g (fun _ => ?_)
          exact pq_s w16
        · refine pq_fi (fun _ => ?_) (fun _ => ?_)
          · refine pq_g (fun g17 => ?_)
            refine pq_b (wX46_store S Z (sb rfl hS) n _ _ w8.1 z_a0) (fun r18 K19 => ?_)
            have w20 := wk_t w8 K19 hN
            refine pq_g (fun _ => ?_)
            exact pq_s w20
          · refine pq_fi (fun _ => ?_) (fun _ => ?_)
            · refine pq_g (fun g21 => ?_)
              refine pq_b (wX46_atomic S Z (sb rfl hS) n _ _ w8.1 z_a0) (fun r22 K23 => ?_)
              have w24 := wk_t w8 K23 hN
              refine pq_g (fun _ => ?_)
              exact pq_s w24
            · refine pq_fi (fun _ => ?_) (fun _ => ?_)
              · refine pq_g (fun g25 => ?_)
                refine pq_b (wX46_floating S Z (sb rfl hS) n _ _ w8.1 z_a0) (fun r26 K27 => ?_)
                have w28 := wk_t w8 K27 hN
                refine pq_g (fun _ => ?_)
                exact pq_s w28
              · refine pq_fi (fun _ => ?_) (fun _ => ?_)
                · refine pq_g (fun g29 => ?_)
                  refine pq_b (wX46_control S Z (sb rfl hS) n _ _ w8.1 z_a0) (fun r30 K31 => ?_)
                  have w32 := wk_t w8 K31 hN
                  refine pq_g (fun _ => ?_)
                  exact pq_s w32
                · exact q_tA hN w8 (wX46_execute_110 S Z hS n _ w8.1 )
theorem wX46_execute_0 (S Z : Nat → Prop) {hx N : Nat} (hS : ∀ x, fe_mem lX46_execute x = true → S x) (n : Nat) (a0 : Nat) (M : FM) (w : WI Z hx N M) (z_a0 : Z a0) : pq (FX46_execute_0 n a0 M) (QA S Z hx N M) := by
  have hN := w.2.2.1
  have w0 := wk_r (S := S) w
  delta FX46_execute_0 BX46_execute_0
  refine pq_g (fun g1 => ?_)
  refine pq_fi (fun _ => ?_) (fun _ => ?_)
  · refine pq_g (fun g2 => ?_)
    refine pq_fi (fun _ => ?_) (fun _ => ?_)
    · refine pq_g (fun g3 => ?_)
      refine pq_b (wX46_illegal S Z (sb rfl hS) _ _ w0.1 z_a0) (fun r4 K5 => ?_)
      have w6 := wk_t w0 K5 hN
      refine pq_g (fun _ => ?_)
      exact pq_s w6
    · exact q_tA hN w0 (wX46_execute_20 S Z hS n _ _ w0.1 z_a0)
  · exact q_tA hN w0 (wX46_execute_20 S Z hS n _ _ w0.1 z_a0)
theorem wX46_execute (S Z : Nat → Prop) {hx N : Nat} (hS : ∀ x, fe_mem lX46_execute x = true → S x) (n : Nat) (a0 : Nat) (M : FM) (w : WI Z hx N M) (z_a0 : Z a0) : pq (FX46_execute n a0 M) (QA S Z hx N M) := wX46_execute_0 S Z hS n a0 M w z_a0
def lX46_step : List Nat := [22, 23, 37, 38, 39, 41, 43, 63, 64, 65, 66, 67, 70, 71, 72, 73, 74, 75, 76, 77, 80, 81, 82, 83, 84, 87, 88, 89, 90, 91, 92, 95, 96, 97, 114, 115, 116, 118, 119, 120, 122, 123, 124, 149, 150, 151, 152, 153, 154, 155, 156, 157, 158, 159, 160, 174, 176, 177, 179, 180, 181, 182, 183, 184, 185, 207, 208, 218, 219, 220, 221, 227, 228, 229, 231, 232, 234, 236, 237, 238, 269, 270, 271, 272, 273, 274, 275, 276, 277, 280, 281, 282, 283, 285, 289, 290, 292, 293, 294, 1069, 1085, 1086, 1093, 1121, 1173, 1175, 1178, 1201, 1203, 1204, 1224, 1225, 1226, 1230, 1233, 1235, 1245, 1246, 1278, 1279, 1295]
theorem wX46_step_95 (S Z : Nat → Prop) {hx N : Nat} (hS : ∀ x, fe_mem lX46_step x = true → S x) (n : Nat) (M : FM) (w : WI Z hx N M) : pq (FX46_step_95 n M) (QV S Z hx N M) := by
  have hN := w.2.2.1
  have w0 := wk_r (S := S) w
  delta FX46_step_95 BX46_step_95
  exact pq_s w0
theorem wX46_step_24 (S Z : Nat → Prop) {hx N : Nat} (hS : ∀ x, fe_mem lX46_step x = true → S x) (n : Nat) (a0 : Nat) (M : FM) (w : WI Z hx N M) (z_a0 : Z a0) : pq (FX46_step_24 n a0 M) (QV S Z hx N M) := by
  have hN := w.2.2.1
  have w0 := wk_r (S := S) w
  delta FX46_step_24 BX46_step_24
  refine pq_g (fun g1 => ?_)
  refine pq_g (fun _ => ?_)
  extract_lets +onlyGivenNames M3
  have w2 : Wk S Z hx N M M3 := wk_fI hN w0 rfl rfl g1 z_a0 (Or.inr (hS 218 rfl))
  refine pq_g (fun g4 => ?_)
  have z5 := wk_z (i := 0) (f := 213) w2 rfl z_a0
  refine pq_g (fun g6 => ?_)
  refine pq_b (wX74_taken S Z (sb rfl hS) n _ _ w2.1 z5) (fun r7 K8 => ?_)
  have w9 := wk_t w2 K8 hN
  refine pq_fi (fun _ => ?_) (fun _ => ?_)
  · refine pq_g (fun g10 => ?_)
    refine pq_b (wX46_fetch S Z (sb rfl hS) n _ _ w9.1 z_a0) (fun r11 K12 => ?_)
    have w13 := wk_t w9 K12 hN
    refine pq_fi (fun _ => ?_) (fun _ => ?_)
    · exact q_tV hN w13 (wX46_step_95 S Z hS n _ w13.1 )
    · refine pq_g (fun g14 => ?_)
      refine pq_b (wX46_execute S Z (sb rfl hS) n _ _ w13.1 z_a0) (fun r15 K16 => ?_)
      have w17 := wk_t w13 K16 hN
      refine pq_fi (fun _ => ?_) (fun _ => ?_)
      · exact q_tV hN w17 (wX46_step_95 S Z hS n _ w17.1 )
      · refine pq_g (fun g18 => ?_)
        have z19 := wk_z (i := 0) (f := 213) w17 rfl z_a0
        refine pq_g (fun g20 => ?_)
        have z21 := wk_z (i := 0) (f := 35) w17 rfl z19
        refine pq_g (fun g22 => ?_)
        refine pq_g (fun g23 => ?_)
        extract_lets +onlyGivenNames M25
        have w24 : Wk S Z hx N M M25 := wk_fL hN w17 rfl rfl g23 z21 (Or.inr (hS 41 rfl))
        exact q_tV hN w24 (wX46_step_95 S Z hS n _ w24.1 )
  · refine pq_g (fun g26 => ?_)
    have z27 := wk_z (i := 0) (f := 211) w9 rfl z_a0
    refine pq_g (fun g28 => ?_)
    have z29 := wk_z (i := 0) (f := 213) w9 rfl z_a0
    refine pq_g (fun g30 => ?_)
    refine pq_b (wX46_counter S Z (sb rfl hS) _ _ w9.1 z_a0) (fun r31 K32 => ?_)
    have w33 := wk_t w9 K32 hN
    refine pq_g (fun g34 => ?_)
    refine pq_b (wX74_trap S Z (sb rfl hS) _ _ _ _ _ _ w33.1 z29) (fun r35 K36 => ?_)
    have w37 := wk_t w33 K36 hN
    refine pq_g (fun g38 => ?_)
    refine pq_b (wX47_jump S Z (sb rfl hS) _ _ _ w37.1 z27) (fun r39 K40 => ?_)
    have w41 := wk_t w37 K40 hN
    exact q_tV hN w41 (wX46_step_95 S Z hS n _ w41.1 )
theorem wX46_step_0 (S Z : Nat → Prop) {hx N : Nat} (hS : ∀ x, fe_mem lX46_step x = true → S x) (n : Nat) (a0 : Nat) (M : FM) (w : WI Z hx N M) (z_a0 : Z a0) : pq (FX46_step_0 n a0 M) (QV S Z hx N M) := by
  have hN := w.2.2.1
  have w0 := wk_r (S := S) w
  delta FX46_step_0 BX46_step_0
  refine pq_g (fun g1 => ?_)
  refine pq_b (wX46_look S Z (sb rfl hS) n _ _ w0.1 z_a0) (fun r2 K3 => ?_)
  have w4 := wk_t w0 K3 hN
  refine pq_g (fun g5 => ?_)
  refine pq_fi (fun _ => ?_) (fun _ => ?_)
  · exact q_tV hN w4 (wX46_step_24 S Z hS n _ _ w4.1 z_a0)
  · refine pq_g (fun g6 => ?_)
    have z7 := wk_z (i := 0) (f := 213) w4 rfl z_a0
    refine pq_g (fun g8 => ?_)
    refine pq_b (wX74_waiting S Z (sb rfl hS) _ _ w4.1 z7) (fun r9 K10 => ?_)
    have w11 := wk_t w4 K10 hN
    refine pq_fi (fun _ => ?_) (fun _ => ?_)
    · exact pq_s w11
    · exact q_tV hN w11 (wX46_step_24 S Z hS n _ _ w11.1 z_a0)
theorem wX46_step (S Z : Nat → Prop) {hx N : Nat} (hS : ∀ x, fe_mem lX46_step x = true → S x) (n : Nat) (a0 : Nat) (M : FM) (w : WI Z hx N M) (z_a0 : Z a0) : pq (FX46_step n a0 M) (QV S Z hx N M) := wX46_step_0 S Z hS n a0 M w z_a0
def lX30_come : List Nat := [227, 228, 232, 237, 1230]
theorem wX30_come_0 (S Z : Nat → Prop) {hx N : Nat} (hS : ∀ x, fe_mem lX30_come x = true → S x) (a0 : Nat) (a1 : Int32) (M : FM) (w : WI Z hx N M) (z_a0 : Z a0) : pq (FX30_come_0 a0 a1 M) (QA S Z hx N M) := by
  have hN := w.2.2.1
  have w0 := wk_r (S := S) w
  delta FX30_come_0 BX30_come_0
  refine pq_g (fun g1 => ?_)
  have z2 := wk_z (i := 0) (f := 242) w0 rfl z_a0
  refine pq_g (fun g3 => ?_)
  refine pq_b (wX31_come S Z (sb rfl hS) _ _ _ w0.1 z2) (fun r4 K5 => ?_)
  have w6 := wk_t w0 K5 hN
  refine pq_g (fun g7 => ?_)
  refine pq_b (wX30_look S Z (sb rfl hS) _ _ w6.1 z_a0) (fun r8 K9 => ?_)
  have w10 := wk_t w6 K9 hN
  refine pq_g (fun _ => ?_)
  exact pq_s w10
theorem wX30_come (S Z : Nat → Prop) {hx N : Nat} (hS : ∀ x, fe_mem lX30_come x = true → S x) (a0 : Nat) (a1 : Int32) (M : FM) (w : WI Z hx N M) (z_a0 : Z a0) : pq (FX30_come a0 a1 M) (QA S Z hx N M) := wX30_come_0 S Z hS a0 a1 M w z_a0
def lX2_come : List Nat := [195, 196, 227, 228, 232, 237, 1230]
theorem wX2_come_66 (S Z : Nat → Prop) {hx N : Nat} (hS : ∀ x, fe_mem lX2_come x = true → S x) (M : FM) (w : WI Z hx N M) : pq (FX2_come_66 M) (QV S Z hx N M) := by
  have hN := w.2.2.1
  have w0 := wk_r (S := S) w
  delta FX2_come_66 BX2_come_66
  exact pq_s w0
theorem wX2_come_0 (S Z : Nat → Prop) {hx N : Nat} (hS : ∀ x, fe_mem lX2_come x = true → S x) (a0 : Nat) (M : FM) (w : WI Z hx N M) (z_a0 : Z a0) : pq (FX2_come_0 a0 M) (QV S Z hx N M) := by
  have hN := w.2.2.1
  have w0 := wk_r (S := S) w
  delta FX2_come_0 BX2_come_0
  refine pq_g (fun g1 => ?_)
  refine pq_fi (fun _ => ?_) (fun _ => ?_)
  · exact q_tV hN w0 (wX2_come_66 S Z hS _ w0.1 )
  · refine pq_g (fun g2 => ?_)
    have z3 := wk_z (i := 0) (f := 189) w0 rfl z_a0
    refine pq_g (fun g4 => ?_)
    have z5 := wk_z (i := 0) (f := 19) w0 rfl z3
    refine pq_g (fun g6 => ?_)
    have z7 := wk_z (i := 0) (f := 242) w0 rfl z5
    refine pq_g (fun g8 => ?_)
    refine pq_b (wX31_room S Z (sb rfl hS) _ _ w0.1 z7) (fun r9 K10 => ?_)
    have w11 := wk_t w0 K10 hN
    refine pq_fi (fun _ => ?_) (fun _ => ?_)
    · exact q_tV hN w11 (wX2_come_66 S Z hS _ w11.1 )
    · refine pq_g (fun g12 => ?_)
      have z13 := wk_z (i := 0) (f := 189) w11 rfl z_a0
      refine pq_g (fun g14 => ?_)
      have z15 := wk_z (i := 0) (f := 19) w11 rfl z13
      refine pq_g (fun g16 => ?_)
      have z17 := wk_z (i := 0) (f := 194) w11 rfl z_a0
      have f18 := sS_194 w11.1.1 g16
      refine pq_g (fun g19 => ?_)
      refine pq_g (fun g20 => ?_)
      refine pq_g (fun g21 => ?_)
      refine pq_b (wX30_come S Z (sb rfl hS) _ _ _ w11.1 z15) (fun r22 K23 => ?_)
      have w24 := wk_t w11 K23 hN
      refine pq_g (fun g25 => ?_)
      refine pq_n ?_
      refine pq_g (fun g26 => ?_)
      extract_lets +onlyGivenNames M28
      have w27 : Wk S Z hx N M M28 := wk_fI hN w24 rfl rfl g26 z_a0 (Or.inr (hS 195 rfl))
      refine pq_g (fun g29 => ?_)
      refine pq_g (fun g30 => ?_)
      extract_lets +onlyGivenNames M32
      have w31 : Wk S Z hx N M M32 := wk_fI hN w27 rfl rfl g30 z_a0 (Or.inr (hS 196 rfl))
      exact q_tV hN w31 (wX2_come_66 S Z hS _ w31.1 )
theorem wX2_come (S Z : Nat → Prop) {hx N : Nat} (hS : ∀ x, fe_mem lX2_come x = true → S x) (a0 : Nat) (M : FM) (w : WI Z hx N M) (z_a0 : Z a0) : pq (FX2_come a0 M) (QV S Z hx N M) := wX2_come_0 S Z hS a0 M w z_a0
def lX10_pass : List Nat := [1246]
theorem wX10_pass_0 (S Z : Nat → Prop) {hx N : Nat} (hS : ∀ x, fe_mem lX10_pass x = true → S x) (a0 : Nat) (M : FM) (w : WI Z hx N M) (z_a0 : Z a0) : pq (FX10_pass_0 a0 M) (QV S Z hx N M) := by
  have hN := w.2.2.1
  have w0 := wk_r (S := S) w
  delta FX10_pass_0 BX10_pass_0
  refine pq_g (fun g1 => ?_)
  have z2 := wk_z (i := 0) (f := 19) w0 rfl z_a0
  refine pq_g (fun g3 => ?_)
  have z4 := wk_z (i := 0) (f := 240) w0 rfl z2
  refine pq_g (fun g5 => ?_)
  have z6 := wk_z (i := 0) (f := 246) w0 rfl z4
  have f7 := sS_246 w0.1.1 g5
  refine pq_g (fun g8 => ?_)
  refine pq_g (fun g9 => ?_)
  extract_lets +onlyGivenNames M11
  have w10 : Wk S Z hx N M M11 := wk_aL hN w0 rfl g9.1 z6 (sy_s f7 (hS 1246 rfl))
  exact pq_s w10
theorem wX10_pass (S Z : Nat → Prop) {hx N : Nat} (hS : ∀ x, fe_mem lX10_pass x = true → S x) (a0 : Nat) (M : FM) (w : WI Z hx N M) (z_a0 : Z a0) : pq (FX10_pass a0 M) (QV S Z hx N M) := wX10_pass_0 S Z hS a0 M w z_a0
def lX2_round : List Nat := [22, 23, 37, 38, 39, 41, 43, 63, 64, 65, 66, 67, 70, 71, 72, 73, 74, 75, 76, 77, 80, 81, 82, 83, 84, 87, 88, 89, 90, 91, 92, 95, 96, 97, 114, 115, 116, 118, 119, 120, 122, 123, 124, 149, 150, 151, 152, 153, 154, 155, 156, 157, 158, 159, 160, 174, 176, 177, 179, 180, 181, 182, 183, 184, 185, 195, 196, 197, 207, 208, 218, 219, 220, 221, 227, 228, 229, 231, 232, 234, 236, 237, 238, 269, 270, 271, 272, 273, 274, 275, 276, 277, 280, 281, 282, 283, 285, 289, 290, 292, 293, 294, 1069, 1085, 1086, 1093, 1121, 1173, 1175, 1178, 1201, 1203, 1204, 1224, 1225, 1226, 1230, 1233, 1235, 1245, 1246, 1278, 1279, 1295]
theorem wX2_round_120 (S Z : Nat → Prop) {hx N : Nat} (hS : ∀ x, fe_mem lX2_round x = true → S x) (n : Nat) (k2 : Nat → Int32 → FM → Option (FM)) (hk2 : ∀ (a0 : Nat) (a1 : Int32) (M : FM), WI Z hx N M → Z a0 → (∀ a, Z a) → pq (k2 a0 a1 M) (QV S Z hx N M)) (k56 : Nat → Nat → Int32 → Int32 → FM → Option (FM)) (hk56 : ∀ (a0 : Nat) (a1 : Nat) (a2 : Int32) (a3 : Int32) (M : FM), WI Z hx N M → Z a0 → Z a1 → (∀ a, Z a) → pq (k56 a0 a1 a2 a3 M) (QV S Z hx N M)) (M : FM) (w : WI Z hx N M) : pq (FX2_round_120 n k2 k56 M) (QV S Z hx N M) := by
  have hN := w.2.2.1
  have w0 := wk_r (S := S) w
  delta FX2_round_120 BX2_round_120
  exact pq_s w0
theorem wX2_round_116 (S Z : Nat → Prop) {hx N : Nat} (hS : ∀ x, fe_mem lX2_round x = true → S x) (n : Nat) (k2 : Nat → Int32 → FM → Option (FM)) (hk2 : ∀ (a0 : Nat) (a1 : Int32) (M : FM), WI Z hx N M → Z a0 → (∀ a, Z a) → pq (k2 a0 a1 M) (QV S Z hx N M)) (k56 : Nat → Nat → Int32 → Int32 → FM → Option (FM)) (hk56 : ∀ (a0 : Nat) (a1 : Nat) (a2 : Int32) (a3 : Int32) (M : FM), WI Z hx N M → Z a0 → Z a1 → (∀ a, Z a) → pq (k56 a0 a1 a2 a3 M) (QV S Z hx N M)) (a0 : Nat) (M : FM) (w : WI Z hx N M) (z_a0 : Z a0) : pq (FX2_round_116 n k2 k56 a0 M) (QV S Z hx N M) := by
  have hN := w.2.2.1
  have w0 := wk_r (S := S) w
  delta FX2_round_116 BX2_round_116
  refine pq_g (fun g1 => ?_)
  refine pq_b (wX2_come S Z (sb rfl hS) _ _ w0.1 z_a0) (fun r2 K3 => ?_)
  have w4 := wk_t w0 K3 hN
  exact q_tV hN w4 (wX2_round_120 S Z hS n _ hk2 _ hk56 _ w4.1 )
theorem wX2_round_56 (S Z : Nat → Prop) {hx N : Nat} (hS : ∀ x, fe_mem lX2_round x = true → S x) (n : Nat) (k2 : Nat → Int32 → FM → Option (FM)) (hk2 : ∀ (a0 : Nat) (a1 : Int32) (M : FM), WI Z hx N M → Z a0 → (∀ a, Z a) → pq (k2 a0 a1 M) (QV S Z hx N M)) (k56 : Nat → Nat → Int32 → Int32 → FM → Option (FM)) (hk56 : ∀ (a0 : Nat) (a1 : Nat) (a2 : Int32) (a3 : Int32) (M : FM), WI Z hx N M → Z a0 → Z a1 → (∀ a, Z a) → pq (k56 a0 a1 a2 a3 M) (QV S Z hx N M)) (a0 : Nat) (a1 : Nat) (a2 : Int32) (a3 : Int32) (M : FM) (w : WI Z hx N M) (z_a0 : Z a0) (z_a1 : Z a1) (hA : (∀ a, Z a)) : pq (FX2_round_56 n k2 k56 a0 a1 a2 a3 M) (QV S Z hx N M) := by
  have hN := w.2.2.1
  have w0 := wk_r (S := S) w
  delta FX2_round_56 BX2_round_56
  refine pq_fi (fun _ => ?_) (fun _ => ?_)
  · refine pq_g (fun g1 => ?_)
    refine pq_n ?_
    refine pq_g (fun g2 => ?_)
    extract_lets +onlyGivenNames M4
    have w3 : Wk S Z hx N M M4 := wk_fI hN w0 rfl rfl g2 z_a0 (Or.inr (hS 197 rfl))
    refine pq_g (fun g5 => ?_)
    refine pq_fi (fun _ => ?_) (fun _ => ?_)
    · refine pq_g (fun g6 => ?_)
      have z7 := wk_z (i := 0) (f := 189) w3 rfl z_a0
      refine pq_g (fun g8 => ?_)
      refine pq_b (wX10_pass S Z (sb rfl hS) _ _ w3.1 z7) (fun r9 K10 => ?_)
      have w11 := wk_t w3 K10 hN
      exact q_tV hN w11 (wX2_round_116 S Z hS n _ hk2 _ hk56 _ _ w11.1 z_a0)
    · exact q_tV hN w3 (wX2_round_116 S Z hS n _ hk2 _ hk56 _ _ w3.1 z_a0)
  · refine pq_g (fun g12 => ?_)
    refine pq_g (fun g14 => ?_)
    have z15 := fun j => wk_z (i := 0) (f := 213) w0 rfl (hA j)
    refine pq_g (fun g16 => ?_)
    have z17 := fun j => wk_z (i := 0) (f := 34) w0 rfl (z15 j)
    refine pq_g (fun g18 => ?_)
    refine pq_g (fun g19 => ?_)
    extract_lets +onlyGivenNames M21
    have w20 : Wk S Z hx N M M21 := wk_fL hN w0 rfl rfl g19 (z17 _) (Or.inr (hS 41 rfl))
    exact q_tV hN w20 (hk56 _ _ _ _ _ w20.1 z_a0 z_a1 hA)
theorem wX2_round_36 (S Z : Nat → Prop) {hx N : Nat} (hS : ∀ x, fe_mem lX2_round x = true → S x) (n : Nat) (k2 : Nat → Int32 → FM → Option (FM)) (hk2 : ∀ (a0 : Nat) (a1 : Int32) (M : FM), WI Z hx N M → Z a0 → (∀ a, Z a) → pq (k2 a0 a1 M) (QV S Z hx N M)) (k56 : Nat → Nat → Int32 → Int32 → FM → Option (FM)) (hk56 : ∀ (a0 : Nat) (a1 : Nat) (a2 : Int32) (a3 : Int32) (M : FM), WI Z hx N M → Z a0 → Z a1 → (∀ a, Z a) → pq (k56 a0 a1 a2 a3 M) (QV S Z hx N M)) (a0 : Nat) (M : FM) (w : WI Z hx N M) (z_a0 : Z a0) (hA : (∀ a, Z a)) : pq (FX2_round_36 n k2 k56 a0 M) (QV S Z hx N M) := by
  have hN := w.2.2.1
  have w0 := wk_r (S := S) w
  delta FX2_round_36 BX2_round_36
  refine pq_g (fun g1 => ?_)
  have z2 := wk_z (i := 0) (f := 189) w0 rfl z_a0
  refine pq_g (fun g3 => ?_)
  refine pq_fi (fun _ => ?_) (fun _ => ?_)
  · refine pq_g (fun g4 => ?_)
    have z5 := wk_z (i := 0) (f := 190) w0 rfl z_a0
    have f6 := sS_190 w0.1.1 g4
    refine pq_g (fun g7 => ?_)
    exact q_tV hN w0 (hk56 _ _ _ _ _ w0.1 z_a0 z5 hA)
  · exact q_tV hN w0 (wX2_round_120 S Z hS n _ hk2 _ hk56 _ w0.1 )
theorem wX2_round_2 (S Z : Nat → Prop) {hx N : Nat} (hS : ∀ x, fe_mem lX2_round x = true → S x) (n : Nat) (k2 : Nat → Int32 → FM → Option (FM)) (hk2 : ∀ (a0 : Nat) (a1 : Int32) (M : FM), WI Z hx N M → Z a0 → (∀ a, Z a) → pq (k2 a0 a1 M) (QV S Z hx N M)) (k56 : Nat → Nat → Int32 → Int32 → FM → Option (FM)) (hk56 : ∀ (a0 : Nat) (a1 : Nat) (a2 : Int32) (a3 : Int32) (M : FM), WI Z hx N M → Z a0 → Z a1 → (∀ a, Z a) → pq (k56 a0 a1 a2 a3 M) (QV S Z hx N M)) (a0 : Nat) (a1 : Int32) (M : FM) (w : WI Z hx N M) (z_a0 : Z a0) (hA : (∀ a, Z a)) : pq (FX2_round_2 n k2 k56 a0 a1 M) (QV S Z hx N M) := by
  have hN := w.2.2.1
  have w0 := wk_r (S := S) w
  delta FX2_round_2 BX2_round_2
  refine pq_g (fun g1 => ?_)
  have z2 := wk_z (i := 0) (f := 190) w0 rfl z_a0
  have f3 := sS_190 w0.1.1 g1
  refine pq_g (fun g4 => ?_)
  refine pq_fi (fun _ => ?_) (fun _ => ?_)
  · exact q_tV hN w0 (wX2_round_36 S Z hS n _ hk2 _ hk56 _ _ w0.1 z_a0 hA)
  · refine pq_g (fun g5 => ?_)
    have z6 := wk_z (i := 0) (f := 189) w0 rfl z_a0
    refine pq_g (fun g7 => ?_)
    refine pq_fi (fun _ => ?_) (fun _ => ?_)
    · refine pq_g (fun g8 => ?_)
      have z9 := wk_z (i := 0) (f := 190) w0 rfl z_a0
      have f10 := sS_190 w0.1.1 g8
      refine pq_g (fun g11 => ?_)
      refine pq_g (fun g13 => ?_)
      refine pq_b (wX46_step S Z (sb rfl hS) n _ _ w0.1 (hA _)) (fun r14 K15 => ?_)
      have w16 := wk_t w0 K15 hN
      exact q_tV hN w16 (hk2 _ _ _ w16.1 z_a0 hA)
    · exact q_tV hN w0 (wX2_round_36 S Z hS n _ hk2 _ hk56 _ _ w0.1 z_a0 hA)
theorem wX2_round_0 (S Z : Nat → Prop) {hx N : Nat} (hS : ∀ x, fe_mem lX2_round x = true → S x) (n : Nat) (k2 : Nat → Int32 → FM → Option (FM)) (hk2 : ∀ (a0 : Nat) (a1 : Int32) (M : FM), WI Z hx N M → Z a0 → (∀ a, Z a) → pq (k2 a0 a1 M) (QV S Z hx N M)) (k56 : Nat → Nat → Int32 → Int32 → FM → Option (FM)) (hk56 : ∀ (a0 : Nat) (a1 : Nat) (a2 : Int32) (a3 : Int32) (M : FM), WI Z hx N M → Z a0 → Z a1 → (∀ a, Z a) → pq (k56 a0 a1 a2 a3 M) (QV S Z hx N M)) (a0 : Nat) (M : FM) (w : WI Z hx N M) (z_a0 : Z a0) (hA : (∀ a, Z a)) : pq (FX2_round_0 n k2 k56 a0 M) (QV S Z hx N M) := by
  have hN := w.2.2.1
  have w0 := wk_r (S := S) w
  delta FX2_round_0 BX2_round_0
  exact q_tV hN w0 (hk2 _ _ _ w0.1 z_a0 hA)
theorem wX2_round_L (S Z : Nat → Prop) {hx N : Nat} (hS : ∀ x, fe_mem lX2_round x = true → S x) (n : Nat) : ∀ j : Nat, (∀ (a0 : Nat) (a1 : Int32) (M : FM), WI Z hx N M → Z a0 → (∀ a, Z a) → pq ((FX2_round_L n j).1 a0 a1 M) (QV S Z hx N M)) ∧ (∀ (a0 : Nat) (a1 : Nat) (a2 : Int32) (a3 : Int32) (M : FM), WI Z hx N M → Z a0 → Z a1 → (∀ a, Z a) → pq ((FX2_round_L n j).2 a0 a1 a2 a3 M) (QV S Z hx N M))
  | 0 => ⟨by intros; exact pq_0, by intros; exact pq_0⟩
  | j + 1 => ⟨fun a0 a1 M w => wX2_round_2 S Z hS n _ (wX2_round_L S Z hS n j).1 _ (wX2_round_L S Z hS n j).2 a0 a1 M w, fun a0 a1 a2 a3 M w => wX2_round_56 S Z hS n _ (wX2_round_L S Z hS n j).1 _ (wX2_round_L S Z hS n j).2 a0 a1 a2 a3 M w⟩
theorem wX2_round (S Z : Nat → Prop) {hx N : Nat} (hS : ∀ x, fe_mem lX2_round x = true → S x) (n : Nat) (a0 : Nat) (M : FM) (w : WI Z hx N M) (z_a0 : Z a0) (hA : (∀ a, Z a)) : pq (FX2_round n a0 M) (QV S Z hx N M) := wX2_round_0 S Z hS n _ (wX2_round_L S Z hS n n).1 _ (wX2_round_L S Z hS n n).2 a0 M w z_a0 hA
def lX2_run : List Nat := [22, 23, 37, 38, 39, 41, 43, 63, 64, 65, 66, 67, 70, 71, 72, 73, 74, 75, 76, 77, 80, 81, 82, 83, 84, 87, 88, 89, 90, 91, 92, 95, 96, 97, 114, 115, 116, 118, 119, 120, 122, 123, 124, 149, 150, 151, 152, 153, 154, 155, 156, 157, 158, 159, 160, 174, 176, 177, 179, 180, 181, 182, 183, 184, 185, 195, 196, 197, 207, 208, 218, 219, 220, 221, 227, 228, 229, 231, 232, 234, 236, 237, 238, 269, 270, 271, 272, 273, 274, 275, 276, 277, 280, 281, 282, 283, 285, 289, 290, 292, 293, 294, 1069, 1085, 1086, 1093, 1121, 1173, 1175, 1178, 1201, 1203, 1204, 1224, 1225, 1226, 1230, 1233, 1235, 1245, 1246, 1278, 1279, 1295]
theorem wX2_run_27 (S Z : Nat → Prop) {hx N : Nat} (hS : ∀ x, fe_mem lX2_run x = true → S x) (n : Nat) (k2 : Nat → Int32 → Int32 → FM → Option (Int32 × FM)) (hk2 : ∀ (a0 : Nat) (a1 : Int32) (a2 : Int32) (M : FM), WI Z hx N M → Z a0 → (∀ a, Z a) → pq (k2 a0 a1 a2 M) (QA S Z hx N M)) (a2 : Int32) (M : FM) (w : WI Z hx N M) : pq (FX2_run_27 n k2 a2 M) (QA S Z hx N M) := by
  have hN := w.2.2.1
  have w0 := wk_r (S := S) w
  delta FX2_run_27 BX2_run_27
  exact pq_s w0
theorem wX2_run_2 (S Z : Nat → Prop) {hx N : Nat} (hS : ∀ x, fe_mem lX2_run x = true → S x) (n : Nat) (k2 : Nat → Int32 → Int32 → FM → Option (Int32 × FM)) (hk2 : ∀ (a0 : Nat) (a1 : Int32) (a2 : Int32) (M : FM), WI Z hx N M → Z a0 → (∀ a, Z a) → pq (k2 a0 a1 a2 M) (QA S Z hx N M)) (a0 : Nat) (a1 : Int32) (a2 : Int32) (M : FM) (w : WI Z hx N M) (z_a0 : Z a0) (hA : (∀ a, Z a)) : pq (FX2_run_2 n k2 a0 a1 a2 M) (QA S Z hx N M) := by
  have hN := w.2.2.1
  have w0 := wk_r (S := S) w
  delta FX2_run_2 BX2_run_2
  refine pq_fi (fun _ => ?_) (fun _ => ?_)
  · exact q_tA hN w0 (wX2_run_27 S Z hS n _ hk2 _ _ w0.1 )
  · refine pq_g (fun g1 => ?_)
    have z2 := wk_z (i := 0) (f := 189) w0 rfl z_a0
    refine pq_g (fun g3 => ?_)
    refine pq_fi (fun _ => ?_) (fun _ => ?_)
    · refine pq_g (fun g4 => ?_)
      refine pq_b (wX2_round S Z (sb rfl hS) n _ _ w0.1 z_a0 hA) (fun r5 K6 => ?_)
      have w7 := wk_t w0 K6 hN
      exact q_tA hN w7 (hk2 _ _ _ _ w7.1 z_a0 hA)
    · exact q_tA hN w0 (wX2_run_27 S Z hS n _ hk2 _ _ w0.1 )
theorem wX2_run_0 (S Z : Nat → Prop) {hx N : Nat} (hS : ∀ x, fe_mem lX2_run x = true → S x) (n : Nat) (k2 : Nat → Int32 → Int32 → FM → Option (Int32 × FM)) (hk2 : ∀ (a0 : Nat) (a1 : Int32) (a2 : Int32) (M : FM), WI Z hx N M → Z a0 → (∀ a, Z a) → pq (k2 a0 a1 a2 M) (QA S Z hx N M)) (a0 : Nat) (a1 : Int32) (M : FM) (w : WI Z hx N M) (z_a0 : Z a0) (hA : (∀ a, Z a)) : pq (FX2_run_0 n k2 a0 a1 M) (QA S Z hx N M) := by
  have hN := w.2.2.1
  have w0 := wk_r (S := S) w
  delta FX2_run_0 BX2_run_0
  exact q_tA hN w0 (hk2 _ _ _ _ w0.1 z_a0 hA)
theorem wX2_run_L (S Z : Nat → Prop) {hx N : Nat} (hS : ∀ x, fe_mem lX2_run x = true → S x) (n : Nat) : ∀ j : Nat, ∀ (a0 : Nat) (a1 : Int32) (a2 : Int32) (M : FM), WI Z hx N M → Z a0 → (∀ a, Z a) → pq (FX2_run_L2 n j a0 a1 a2 M) (QA S Z hx N M)
  | 0 => by intros; exact pq_0
  | j + 1 => fun a0 a1 a2 M w => wX2_run_2 S Z hS n _ (wX2_run_L S Z hS n j) a0 a1 a2 M w
theorem wX2_run (S Z : Nat → Prop) {hx N : Nat} (hS : ∀ x, fe_mem lX2_run x = true → S x) (n : Nat) (a0 : Nat) (a1 : Int32) (M : FM) (w : WI Z hx N M) (z_a0 : Z a0) (hA : (∀ a, Z a)) : pq (FX2_run n a0 a1 M) (QA S Z hx N M) := wX2_run_0 S Z hS n _ (wX2_run_L S Z hS n n) a0 a1 M w z_a0 hA
def lX1_run : List Nat := [22, 23, 37, 38, 39, 41, 43, 63, 64, 65, 66, 67, 70, 71, 72, 73, 74, 75, 76, 77, 80, 81, 82, 83, 84, 87, 88, 89, 90, 91, 92, 95, 96, 97, 114, 115, 116, 118, 119, 120, 122, 123, 124, 149, 150, 151, 152, 153, 154, 155, 156, 157, 158, 159, 160, 174, 176, 177, 179, 180, 181, 182, 183, 184, 185, 195, 196, 197, 207, 208, 218, 219, 220, 221, 227, 228, 229, 231, 232, 234, 236, 237, 238, 269, 270, 271, 272, 273, 274, 275, 276, 277, 280, 281, 282, 283, 285, 289, 290, 292, 293, 294, 1069, 1085, 1086, 1093, 1121, 1173, 1175, 1178, 1201, 1203, 1204, 1224, 1225, 1226, 1230, 1233, 1235, 1245, 1246, 1278, 1279, 1295]
theorem wX1_run_16 (S Z : Nat → Prop) {hx N : Nat} (hS : ∀ x, fe_mem lX1_run x = true → S x) (n : Nat) (a0 : Nat) (a1 : Int32) (s0 : Int32) (M : FM) (w : WI Z hx N M) (z_a0 : Z a0) (hA : (∀ a, Z a)) : pq (FX1_run_16 n a0 a1 s0 M) (QA S Z hx N M) := by
  have hN := w.2.2.1
  have w0 := wk_r (S := S) w
  delta FX1_run_16 BX1_run_16
  refine pq_b (wX1_proper S Z (sb rfl hS) _ _ w0.1 ) (fun r1 K2 => ?_)
  have w3 := wk_t w0 K2 hN
  refine pq_g (fun g4 => ?_)
  have z5 := wk_z (i := 0) (f := 17) w3 rfl z_a0
  refine pq_g (fun g6 => ?_)
  refine pq_b (wX2_run S Z (sb rfl hS) n _ _ _ w3.1 z5 hA) (fun r7 K8 => ?_)
  have w9 := wk_t w3 K8 hN
  exact pq_s w9
theorem wX1_run_15 (S Z : Nat → Prop) {hx N : Nat} (hS : ∀ x, fe_mem lX1_run x = true → S x) (n : Nat) (a0 : Nat) (a1 : Int32) (M : FM) (w : WI Z hx N M) (z_a0 : Z a0) (hA : (∀ a, Z a)) : pq (FX1_run_15 n a0 a1 M) (QA S Z hx N M) := by
  have hN := w.2.2.1
  have w0 := wk_r (S := S) w
  delta FX1_run_15 BX1_run_15
  exact q_tA hN w0 (wX1_run_16 S Z hS n _ _ _ _ w0.1 z_a0 hA)
theorem wX1_run_0 (S Z : Nat → Prop) {hx N : Nat} (hS : ∀ x, fe_mem lX1_run x = true → S x) (n : Nat) (a0 : Nat) (a1 : Int32) (M : FM) (w : WI Z hx N M) (z_a0 : Z a0) (hA : (∀ a, Z a)) : pq (FX1_run_0 n a0 a1 M) (QA S Z hx N M) := by
  have hN := w.2.2.1
  have w0 := wk_r (S := S) w
  delta FX1_run_0 BX1_run_0
  refine pq_fi (fun _ => ?_) (fun _ => ?_)
  · exact q_tA hN w0 (wX1_run_15 S Z hS n _ _ _ w0.1 z_a0 hA)
  · refine pq_fi (fun _ => ?_) (fun _ => ?_)
    · exact q_tA hN w0 (wX1_run_15 S Z hS n _ _ _ w0.1 z_a0 hA)
    · exact q_tA hN w0 (wX1_run_16 S Z hS n _ _ _ _ w0.1 z_a0 hA)
theorem wX1_run (S Z : Nat → Prop) {hx N : Nat} (hS : ∀ x, fe_mem lX1_run x = true → S x) (n : Nat) (a0 : Nat) (a1 : Int32) (M : FM) (w : WI Z hx N M) (z_a0 : Z a0) (hA : (∀ a, Z a)) : pq (FX1_run n a0 a1 M) (QA S Z hx N M) := wX1_run_0 S Z hS n a0 a1 M w z_a0 hA
def lX1_at : List Nat := []
theorem wX1_at_21 (S Z : Nat → Prop) {hx N : Nat} (hS : ∀ x, fe_mem lX1_at x = true → S x) (a0 : Nat) (a1 : Int32) (s0 : Int32) (M : FM) (w : WI Z hx N M) (z_a0 : Z a0) (hA : (∀ a, Z a)) : pq (FX1_at_21 a0 a1 s0 M) (QR S Z hx N M) := by
  have hN := w.2.2.1
  have w0 := wk_r (S := S) w
  delta FX1_at_21 BX1_at_21
  refine pq_b (wX1_there S Z (sb rfl hS) _ _ w0.1 ) (fun r1 K2 => ?_)
  have w3 := wk_t w0 K2 hN
  refine pq_g (fun g4 => ?_)
  have z5 := wk_z (i := 0) (f := 17) w3 rfl z_a0
  refine pq_g (fun g6 => ?_)
  have z7 := wk_z (i := 0) (f := 190) w3 rfl z5
  have f8 := sS_190 w3.1.1 g6
  refine pq_g (fun g9 => ?_)
  exact pq_s ⟨w3, (hA _)⟩
theorem wX1_at_20 (S Z : Nat → Prop) {hx N : Nat} (hS : ∀ x, fe_mem lX1_at x = true → S x) (a0 : Nat) (a1 : Int32) (M : FM) (w : WI Z hx N M) (z_a0 : Z a0) (hA : (∀ a, Z a)) : pq (FX1_at_20 a0 a1 M) (QR S Z hx N M) := by
  have hN := w.2.2.1
  have w0 := wk_r (S := S) w
  delta FX1_at_20 BX1_at_20
  exact q_tR hN w0 (wX1_at_21 S Z hS _ _ _ _ w0.1 z_a0 hA)
theorem wX1_at_0 (S Z : Nat → Prop) {hx N : Nat} (hS : ∀ x, fe_mem lX1_at x = true → S x) (a0 : Nat) (a1 : Int32) (M : FM) (w : WI Z hx N M) (z_a0 : Z a0) (hA : (∀ a, Z a)) : pq (FX1_at_0 a0 a1 M) (QR S Z hx N M) := by
  have hN := w.2.2.1
  have w0 := wk_r (S := S) w
  delta FX1_at_0 BX1_at_0
  refine pq_fi (fun _ => ?_) (fun _ => ?_)
  · exact q_tR hN w0 (wX1_at_20 S Z hS _ _ _ w0.1 z_a0 hA)
  · refine pq_g (fun g1 => ?_)
    have z2 := wk_z (i := 0) (f := 17) w0 rfl z_a0
    refine pq_g (fun g3 => ?_)
    have z4 := wk_z (i := 0) (f := 190) w0 rfl z2
    have f5 := sS_190 w0.1.1 g3
    refine pq_g (fun g6 => ?_)
    refine pq_fi (fun _ => ?_) (fun _ => ?_)
    · exact q_tR hN w0 (wX1_at_20 S Z hS _ _ _ w0.1 z_a0 hA)
    · exact q_tR hN w0 (wX1_at_21 S Z hS _ _ _ _ w0.1 z_a0 hA)
theorem wX1_at (S Z : Nat → Prop) {hx N : Nat} (hS : ∀ x, fe_mem lX1_at x = true → S x) (a0 : Nat) (a1 : Int32) (M : FM) (w : WI Z hx N M) (z_a0 : Z a0) (hA : (∀ a, Z a)) : pq (FX1_at a0 a1 M) (QR S Z hx N M) := wX1_at_0 S Z hS a0 a1 M w z_a0 hA
def lX1_counter : List Nat := []
theorem wX1_counter_0 (S Z : Nat → Prop) {hx N : Nat} (hS : ∀ x, fe_mem lX1_counter x = true → S x) (a0 : Nat) (a1 : Int32) (M : FM) (w : WI Z hx N M) (z_a0 : Z a0) (hA : (∀ a, Z a)) : pq (FX1_counter_0 a0 a1 M) (QA S Z hx N M) := by
  have hN := w.2.2.1
  have w0 := wk_r (S := S) w
  delta FX1_counter_0 BX1_counter_0
  refine pq_g (fun g1 => ?_)
  refine pq_b (wX1_at S Z (sb rfl hS) _ _ _ w0.1 z_a0 hA) (fun r2 K3 => ?_)
  have w4 := wk_t w0 K3.1 hN
  refine pq_g (fun g5 => ?_)
  refine pq_b (wX46_counter S Z (sb rfl hS) _ _ w4.1 K3.2) (fun r6 K7 => ?_)
  have w8 := wk_t w4 K7 hN
  exact pq_s w8
theorem wX1_counter (S Z : Nat → Prop) {hx N : Nat} (hS : ∀ x, fe_mem lX1_counter x = true → S x) (a0 : Nat) (a1 : Int32) (M : FM) (w : WI Z hx N M) (z_a0 : Z a0) (hA : (∀ a, Z a)) : pq (FX1_counter a0 a1 M) (QA S Z hx N M) := wX1_counter_0 S Z hS a0 a1 M w z_a0 hA
def lX1_register : List Nat := []
theorem wX1_register_21 (S Z : Nat → Prop) {hx N : Nat} (hS : ∀ x, fe_mem lX1_register x = true → S x) (a2 : Int32) (a3 : Nat) (s0 : Int32) (M : FM) (w : WI Z hx N M) (z_a3 : Z a3) : pq (FX1_register_21 a2 a3 s0 M) (QA S Z hx N M) := by
  have hN := w.2.2.1
  have w0 := wk_r (S := S) w
  delta FX1_register_21 BX1_register_21
  refine pq_b (wX1_there S Z (sb rfl hS) _ _ w0.1 ) (fun r1 K2 => ?_)
  have w3 := wk_t w0 K2 hN
  refine pq_g (fun g4 => ?_)
  have z5 := wk_z (i := 0) (f := 211) w3 rfl z_a3
  refine pq_g (fun g6 => ?_)
  have z7 := wk_z (i := 0) (f := 171) w3 rfl z5
  refine pq_g (fun g8 => ?_)
  have z9 := wk_z (i := 0) (f := 178) w3 rfl z7
  have f10 := sS_178 w3.1.1 g8
  refine pq_g (fun g11 => ?_)
  exact pq_s w3
theorem wX1_register_20 (S Z : Nat → Prop) {hx N : Nat} (hS : ∀ x, fe_mem lX1_register x = true → S x) (a2 : Int32) (a3 : Nat) (M : FM) (w : WI Z hx N M) (z_a3 : Z a3) : pq (FX1_register_20 a2 a3 M) (QA S Z hx N M) := by
  have hN := w.2.2.1
  have w0 := wk_r (S := S) w
  delta FX1_register_20 BX1_register_20
  exact q_tA hN w0 (wX1_register_21 S Z hS _ _ _ _ w0.1 z_a3)
theorem wX1_register_0 (S Z : Nat → Prop) {hx N : Nat} (hS : ∀ x, fe_mem lX1_register x = true → S x) (a0 : Nat) (a1 : Int32) (a2 : Int32) (M : FM) (w : WI Z hx N M) (z_a0 : Z a0) (hA : (∀ a, Z a)) : pq (FX1_register_0 a0 a1 a2 M) (QA S Z hx N M) := by
  have hN := w.2.2.1
  have w0 := wk_r (S := S) w
  delta FX1_register_0 BX1_register_0
  refine pq_g (fun g1 => ?_)
  refine pq_b (wX1_at S Z (sb rfl hS) _ _ _ w0.1 z_a0 hA) (fun r2 K3 => ?_)
  have w4 := wk_t w0 K3.1 hN
  refine pq_fi (fun _ => ?_) (fun _ => ?_)
  · exact q_tA hN w4 (wX1_register_20 S Z hS _ _ _ w4.1 K3.2)
  · refine pq_fi (fun _ => ?_) (fun _ => ?_)
    · exact q_tA hN w4 (wX1_register_20 S Z hS _ _ _ w4.1 K3.2)
    · exact q_tA hN w4 (wX1_register_21 S Z hS _ _ _ _ w4.1 K3.2)
theorem wX1_register (S Z : Nat → Prop) {hx N : Nat} (hS : ∀ x, fe_mem lX1_register x = true → S x) (a0 : Nat) (a1 : Int32) (a2 : Int32) (M : FM) (w : WI Z hx N M) (z_a0 : Z a0) (hA : (∀ a, Z a)) : pq (FX1_register a0 a1 a2 M) (QA S Z hx N M) := wX1_register_0 S Z hS a0 a1 a2 M w z_a0 hA
def lX1_floating : List Nat := []
theorem wX1_floating_21 (S Z : Nat → Prop) {hx N : Nat} (hS : ∀ x, fe_mem lX1_floating x = true → S x) (a2 : Int32) (a3 : Nat) (s0 : Int32) (M : FM) (w : WI Z hx N M) (z_a3 : Z a3) : pq (FX1_floating_21 a2 a3 s0 M) (QA S Z hx N M) := by
  have hN := w.2.2.1
  have w0 := wk_r (S := S) w
  delta FX1_floating_21 BX1_floating_21
  refine pq_b (wX1_there S Z (sb rfl hS) _ _ w0.1 ) (fun r1 K2 => ?_)
  have w3 := wk_t w0 K2 hN
  refine pq_g (fun g4 => ?_)
  have z5 := wk_z (i := 0) (f := 212) w3 rfl z_a3
  refine pq_g (fun g6 => ?_)
  have z7 := wk_z (i := 0) (f := 93) w3 rfl z5
  have f8 := sS_93 w3.1.1 g6
  refine pq_g (fun g9 => ?_)
  exact pq_s w3
theorem wX1_floating_20 (S Z : Nat → Prop) {hx N : Nat} (hS : ∀ x, fe_mem lX1_floating x = true → S x) (a2 : Int32) (a3 : Nat) (M : FM) (w : WI Z hx N M) (z_a3 : Z a3) : pq (FX1_floating_20 a2 a3 M) (QA S Z hx N M) := by
  have hN := w.2.2.1
  have w0 := wk_r (S := S) w
  delta FX1_floating_20 BX1_floating_20
  exact q_tA hN w0 (wX1_floating_21 S Z hS _ _ _ _ w0.1 z_a3)
theorem wX1_floating_0 (S Z : Nat → Prop) {hx N : Nat} (hS : ∀ x, fe_mem lX1_floating x = true → S x) (a0 : Nat) (a1 : Int32) (a2 : Int32) (M : FM) (w : WI Z hx N M) (z_a0 : Z a0) (hA : (∀ a, Z a)) : pq (FX1_floating_0 a0 a1 a2 M) (QA S Z hx N M) := by
  have hN := w.2.2.1
  have w0 := wk_r (S := S) w
  delta FX1_floating_0 BX1_floating_0
  refine pq_g (fun g1 => ?_)
  refine pq_b (wX1_at S Z (sb rfl hS) _ _ _ w0.1 z_a0 hA) (fun r2 K3 => ?_)
  have w4 := wk_t w0 K3.1 hN
  refine pq_fi (fun _ => ?_) (fun _ => ?_)
  · exact q_tA hN w4 (wX1_floating_20 S Z hS _ _ _ w4.1 K3.2)
  · refine pq_fi (fun _ => ?_) (fun _ => ?_)
    · exact q_tA hN w4 (wX1_floating_20 S Z hS _ _ _ w4.1 K3.2)
    · exact q_tA hN w4 (wX1_floating_21 S Z hS _ _ _ _ w4.1 K3.2)
theorem wX1_floating (S Z : Nat → Prop) {hx N : Nat} (hS : ∀ x, fe_mem lX1_floating x = true → S x) (a0 : Nat) (a1 : Int32) (a2 : Int32) (M : FM) (w : WI Z hx N M) (z_a0 : Z a0) (hA : (∀ a, Z a)) : pq (FX1_floating a0 a1 a2 M) (QA S Z hx N M) := wX1_floating_0 S Z hS a0 a1 a2 M w z_a0 hA
def lX74_peek : List Nat := []
theorem wX74_peek_33 (S Z : Nat → Prop) {hx N : Nat} (hS : ∀ x, fe_mem lX74_peek x = true → S x) (s0 : Int64) (M : FM) (w : WI Z hx N M) : pq (FX74_peek_33 s0 M) (QA S Z hx N M) := by
  have hN := w.2.2.1
  have w0 := wk_r (S := S) w
  delta FX74_peek_33 BX74_peek_33
  exact pq_s w0
theorem wX74_peek_20 (S Z : Nat → Prop) {hx N : Nat} (hS : ∀ x, fe_mem lX74_peek x = true → S x) (M : FM) (w : WI Z hx N M) : pq (FX74_peek_20 M) (QA S Z hx N M) := by
  have hN := w.2.2.1
  have w0 := wk_r (S := S) w
  delta FX74_peek_20 BX74_peek_20
  exact q_tA hN w0 (wX74_peek_33 S Z hS _ _ w0.1 )
theorem wX74_peek_0 (S Z : Nat → Prop) {hx N : Nat} (hS : ∀ x, fe_mem lX74_peek x = true → S x) (a0 : Nat) (a1 : Int32) (M : FM) (w : WI Z hx N M) (z_a0 : Z a0) : pq (FX74_peek_0 a0 a1 M) (QA S Z hx N M) := by
  have hN := w.2.2.1
  have w0 := wk_r (S := S) w
  delta FX74_peek_0 BX74_peek_0
  refine pq_fi (fun _ => ?_) (fun _ => ?_)
  · exact q_tA hN w0 (wX74_peek_20 S Z hS _ w0.1 )
  · refine pq_fi (fun _ => ?_) (fun _ => ?_)
    · exact q_tA hN w0 (wX74_peek_20 S Z hS _ w0.1 )
    · refine pq_g (fun g1 => ?_)
      have z2 := wk_z (i := 0) (f := 25) w0 rfl z_a0
      have f3 := sS_25 w0.1.1 g1
      refine pq_g (fun g4 => ?_)
      have z5 := fun i => wk_ze (i := i) w0 rfl g4.1 f3 rfl z2
      refine pq_fi (fun _ => ?_) (fun _ => ?_)
      · exact q_tA hN w0 (wX74_peek_20 S Z hS _ w0.1 )
      · refine pq_g (fun g6 => ?_)
        have z7 := wk_z (i := 0) (f := 25) w0 rfl z_a0
        have f8 := sS_25 w0.1.1 g6
        refine pq_g (fun g9 => ?_)
        have z10 := fun i => wk_ze (i := i) w0 rfl g9.1 f8 rfl z7
        refine pq_fi (fun _ => ?_) (fun _ => ?_)
        · refine pq_b (wX76_show S Z (sb rfl hS) _ _ w0.1 (z10 _)) (fun r11 K12 => ?_)
          have w13 := wk_t w0 K12 hN
          exact q_tA hN w13 (wX74_peek_33 S Z hS _ _ w13.1 )
        · refine pq_fi (fun _ => ?_) (fun _ => ?_)
          · refine pq_b (wX77_show S Z (sb rfl hS) _ _ w0.1 (z10 _)) (fun r14 K15 => ?_)
            have w16 := wk_t w0 K15 hN
            exact q_tA hN w16 (wX74_peek_33 S Z hS _ _ w16.1 )
          · refine pq_fi (fun _ => ?_) (fun _ => ?_)
            · refine pq_b (wX79_show S Z (sb rfl hS) _ _ w0.1 (z10 _)) (fun r17 K18 => ?_)
              have w19 := wk_t w0 K18 hN
              exact q_tA hN w19 (wX74_peek_33 S Z hS _ _ w19.1 )
            · refine pq_fi (fun _ => ?_) (fun _ => ?_)
              · refine pq_b (wX78_show S Z (sb rfl hS) _ _ w0.1 (z10 _)) (fun r20 K21 => ?_)
                have w22 := wk_t w0 K21 hN
                exact q_tA hN w22 (wX74_peek_33 S Z hS _ _ w22.1 )
              · refine pq_fi (fun _ => ?_) (fun _ => ?_)
                · refine pq_b (wX77_show S Z (sb rfl hS) _ _ w0.1 (z10 _)) (fun r23 K24 => ?_)
                  have w25 := wk_t w0 K24 hN
                  exact q_tA hN w25 (wX74_peek_33 S Z hS _ _ w25.1 )
                · refine pq_fi (fun _ => ?_) (fun _ => ?_)
                  · refine pq_b (wX83_show S Z (sb rfl hS) _ _ w0.1 (z10 _)) (fun r26 K27 => ?_)
                    have w28 := wk_t w0 K27 hN
                    exact q_tA hN w28 (wX74_peek_33 S Z hS _ _ w28.1 )
                  · refine pq_fi (fun _ => ?_) (fun _ => ?_)
                    · refine pq_b (wX81_show S Z (sb rfl hS) _ _ w0.1 (z10 _)) (fun r29 K30 => ?_)
                      have w31 := wk_t w0 K30 hN
                      exact q_tA hN w31 (wX74_peek_33 S Z hS _ _ w31.1 )
                    · exact pq_0
theorem wX74_peek (S Z : Nat → Prop) {hx N : Nat} (hS : ∀ x, fe_mem lX74_peek x = true → S x) (a0 : Nat) (a1 : Int32) (M : FM) (w : WI Z hx N M) (z_a0 : Z a0) : pq (FX74_peek a0 a1 M) (QA S Z hx N M) := wX74_peek_0 S Z hS a0 a1 M w z_a0
def lX1_control : List Nat := [41, 43]
theorem wX1_control_68 (S Z : Nat → Prop) {hx N : Nat} (hS : ∀ x, fe_mem lX1_control x = true → S x) (n : Nat) (s0 : Int64) (M : FM) (w : WI Z hx N M) : pq (FX1_control_68 n s0 M) (QA S Z hx N M) := by
  have hN := w.2.2.1
  have w0 := wk_r (S := S) w
  delta FX1_control_68 BX1_control_68
  exact pq_s w0
theorem wX1_control_45 (S Z : Nat → Prop) {hx N : Nat} (hS : ∀ x, fe_mem lX1_control x = true → S x) (n : Nat) (a2 : Int32) (a3 : Nat) (s0 : Int32) (M : FM) (w : WI Z hx N M) (z_a3 : Z a3) : pq (FX1_control_45 n a2 a3 s0 M) (QA S Z hx N M) := by
  have hN := w.2.2.1
  have w0 := wk_r (S := S) w
  delta FX1_control_45 BX1_control_45
  refine pq_fi (fun _ => ?_) (fun _ => ?_)
  · refine pq_g (fun g1 => ?_)
    have z2 := wk_z (i := 0) (f := 213) w0 rfl z_a3
    refine pq_g (fun g3 => ?_)
    refine pq_b (wX74_peek S Z (sb rfl hS) _ _ _ w0.1 z2) (fun r4 K5 => ?_)
    have w6 := wk_t w0 K5 hN
    exact q_tA hN w6 (wX1_control_68 S Z hS n _ _ w6.1 )
  · refine pq_g (fun g7 => ?_)
    refine pq_b (wX46_elsewhere S Z (sb rfl hS) n _ _ _ w0.1 z_a3) (fun r8 K9 => ?_)
    have w10 := wk_t w0 K9 hN
    exact q_tA hN w10 (wX1_control_68 S Z hS n _ _ w10.1 )
theorem wX1_control_44 (S Z : Nat → Prop) {hx N : Nat} (hS : ∀ x, fe_mem lX1_control x = true → S x) (n : Nat) (a2 : Int32) (a3 : Nat) (M : FM) (w : WI Z hx N M) (z_a3 : Z a3) : pq (FX1_control_44 n a2 a3 M) (QA S Z hx N M) := by
  have hN := w.2.2.1
  have w0 := wk_r (S := S) w
  delta FX1_control_44 BX1_control_44
  exact q_tA hN w0 (wX1_control_45 S Z hS n _ _ _ _ w0.1 z_a3)
theorem wX1_control_0 (S Z : Nat → Prop) {hx N : Nat} (hS : ∀ x, fe_mem lX1_control x = true → S x) (n : Nat) (a0 : Nat) (a1 : Int32) (a2 : Int32) (M : FM) (w : WI Z hx N M) (z_a0 : Z a0) (hA : (∀ a, Z a)) : pq (FX1_control_0 n a0 a1 a2 M) (QA S Z hx N M) := by
  have hN := w.2.2.1
  have w0 := wk_r (S := S) w
  delta FX1_control_0 BX1_control_0
  refine pq_g (fun g1 => ?_)
  refine pq_b (wX1_at S Z (sb rfl hS) _ _ _ w0.1 z_a0 hA) (fun r2 K3 => ?_)
  have w4 := wk_t w0 K3.1 hN
  refine pq_g (fun g5 => ?_)
  refine pq_b (wX46_look S Z (sb rfl hS) n _ _ w4.1 K3.2) (fun r6 K7 => ?_)
  have w8 := wk_t w4 K7 hN
  refine pq_fi (fun _ => ?_) (fun _ => ?_)
  · exact q_tA hN w8 (wX1_control_44 S Z hS n _ _ _ w8.1 K3.2)
  · refine pq_fi (fun _ => ?_) (fun _ => ?_)
    · exact q_tA hN w8 (wX1_control_44 S Z hS n _ _ _ w8.1 K3.2)
    · refine pq_g (fun g9 => ?_)
      have z10 := wk_z (i := 0) (f := 213) w8 rfl K3.2
      refine pq_g (fun g11 => ?_)
      have z12 := wk_z (i := 0) (f := 25) w8 rfl z10
      have f13 := sS_25 w8.1.1 g11
      refine pq_g (fun g14 => ?_)
      have z15 := fun i => wk_ze (i := i) w8 rfl g14.1 f13 rfl z12
      refine pq_g (fun g16 => ?_)
      have z17 := wk_z (i := 0) (f := 213) w8 rfl K3.2
      refine pq_g (fun g18 => ?_)
      have z19 := wk_z (i := 0) (f := 26) w8 rfl z17
      refine pq_g (fun _ => ?_)
      refine pq_fi (fun _ => ?_) (fun _ => ?_)
      · exact q_tA hN w8 (wX1_control_45 S Z hS n _ _ _ _ w8.1 K3.2)
      · exact q_tA hN w8 (wX1_control_44 S Z hS n _ _ _ w8.1 K3.2)
theorem wX1_control (S Z : Nat → Prop) {hx N : Nat} (hS : ∀ x, fe_mem lX1_control x = true → S x) (n : Nat) (a0 : Nat) (a1 : Int32) (a2 : Int32) (M : FM) (w : WI Z hx N M) (z_a0 : Z a0) (hA : (∀ a, Z a)) : pq (FX1_control n a0 a1 a2 M) (QA S Z hx N M) := wX1_control_0 S Z hS n a0 a1 a2 M w z_a0 hA
def lX1_mode : List Nat := []
theorem wX1_mode_25 (S Z : Nat → Prop) {hx N : Nat} (hS : ∀ x, fe_mem lX1_mode x = true → S x) (s0 : Int32) (s1 : Int32) (M : FM) (w : WI Z hx N M) : pq (FX1_mode_25 s0 s1 M) (QA S Z hx N M) := by
  have hN := w.2.2.1
  have w0 := wk_r (S := S) w
  delta FX1_mode_25 BX1_mode_25
  exact pq_s w0
theorem wX1_mode_0 (S Z : Nat → Prop) {hx N : Nat} (hS : ∀ x, fe_mem lX1_mode x = true → S x) (a0 : Nat) (a1 : Int32) (M : FM) (w : WI Z hx N M) (z_a0 : Z a0) (hA : (∀ a, Z a)) : pq (FX1_mode_0 a0 a1 M) (QA S Z hx N M) := by
  have hN := w.2.2.1
  have w0 := wk_r (S := S) w
  delta FX1_mode_0 BX1_mode_0
  refine pq_g (fun g1 => ?_)
  refine pq_b (wX1_at S Z (sb rfl hS) _ _ _ w0.1 z_a0 hA) (fun r2 K3 => ?_)
  have w4 := wk_t w0 K3.1 hN
  refine pq_g (fun g5 => ?_)
  have z6 := wk_z (i := 0) (f := 213) w4 rfl K3.2
  refine pq_g (fun g7 => ?_)
  refine pq_g (fun g8 => ?_)
  refine pq_fi (fun _ => ?_) (fun _ => ?_)
  · exact q_tA hN w4 (wX1_mode_25 S Z hS _ _ _ w4.1 )
  · exact q_tA hN w4 (wX1_mode_25 S Z hS _ _ _ w4.1 )
theorem wX1_mode (S Z : Nat → Prop) {hx N : Nat} (hS : ∀ x, fe_mem lX1_mode x = true → S x) (a0 : Nat) (a1 : Int32) (M : FM) (w : WI Z hx N M) (z_a0 : Z a0) (hA : (∀ a, Z a)) : pq (FX1_mode a0 a1 M) (QA S Z hx N M) := wX1_mode_0 S Z hS a0 a1 M w z_a0 hA
def lX1_word : List Nat := []
theorem wX1_word_0 (S Z : Nat → Prop) {hx N : Nat} (hS : ∀ x, fe_mem lX1_word x = true → S x) (a0 : Nat) (a1 : Int64) (M : FM) (w : WI Z hx N M) (z_a0 : Z a0) : pq (FX1_word_0 a0 a1 M) (QA S Z hx N M) := by
  have hN := w.2.2.1
  have w0 := wk_r (S := S) w
  delta FX1_word_0 BX1_word_0
  refine pq_g (fun g1 => ?_)
  have z2 := wk_z (i := 0) (f := 17) w0 rfl z_a0
  refine pq_g (fun g3 => ?_)
  have z4 := wk_z (i := 0) (f := 189) w0 rfl z2
  refine pq_g (fun g5 => ?_)
  have z6 := wk_z (i := 0) (f := 18) w0 rfl z4
  refine pq_g (fun g7 => ?_)
  refine pq_b (wX11_has S Z (sb rfl hS) _ _ _ _ w0.1 z6) (fun r8 K9 => ?_)
  have w10 := wk_t w0 K9 hN
  refine pq_b (wX1_there S Z (sb rfl hS) _ _ w10.1 ) (fun r11 K12 => ?_)
  have w13 := wk_t w10 K12 hN
  refine pq_g (fun g14 => ?_)
  have z15 := wk_z (i := 0) (f := 17) w13 rfl z_a0
  refine pq_g (fun g16 => ?_)
  have z17 := wk_z (i := 0) (f := 189) w13 rfl z15
  refine pq_g (fun g18 => ?_)
  have z19 := wk_z (i := 0) (f := 18) w13 rfl z17
  refine pq_g (fun g20 => ?_)
  refine pq_b (wX11_load S Z (sb rfl hS) _ _ _ _ w13.1 z19) (fun r21 K22 => ?_)
  have w23 := wk_t w13 K22 hN
  exact pq_s w23
theorem wX1_word (S Z : Nat → Prop) {hx N : Nat} (hS : ∀ x, fe_mem lX1_word x = true → S x) (a0 : Nat) (a1 : Int64) (M : FM) (w : WI Z hx N M) (z_a0 : Z a0) : pq (FX1_word a0 a1 M) (QA S Z hx N M) := wX1_word_0 S Z hS a0 a1 M w z_a0
def lX1_sum : List Nat := []
theorem wX1_sum_72 (S Z : Nat → Prop) {hx N : Nat} (hS : ∀ x, fe_mem lX1_sum x = true → S x) (n : Nat) (k72 : Nat → Int64 → Int64 → Int64 → FM → Option (Int64 × FM)) (hk72 : ∀ (a0 : Nat) (a3 : Int64) (a5 : Int64) (a7 : Int64) (M : FM), WI Z hx N M → Z a0 → pq (k72 a0 a3 a5 a7 M) (QA S Z hx N M)) (a0 : Nat) (a3 : Int64) (a5 : Int64) (a7 : Int64) (M : FM) (w : WI Z hx N M) (z_a0 : Z a0) : pq (FX1_sum_72 n k72 a0 a3 a5 a7 M) (QA S Z hx N M) := by
  have hN := w.2.2.1
  have w0 := wk_r (S := S) w
  delta FX1_sum_72 BX1_sum_72
  refine pq_fi (fun _ => ?_) (fun _ => ?_)
  · exact pq_s w0
  · refine pq_g (fun g1 => ?_)
    have z2 := wk_z (i := 0) (f := 17) w0 rfl z_a0
    refine pq_g (fun g3 => ?_)
    have z4 := wk_z (i := 0) (f := 189) w0 rfl z2
    refine pq_g (fun g5 => ?_)
    have z6 := wk_z (i := 0) (f := 18) w0 rfl z4
    refine pq_g (fun g7 => ?_)
    refine pq_b (wX11_load S Z (sb rfl hS) _ _ _ _ w0.1 z6) (fun r8 K9 => ?_)
    have w10 := wk_t w0 K9 hN
    exact q_tA hN w10 (hk72 _ _ _ _ _ w10.1 z_a0)
theorem wX1_sum_63 (S Z : Nat → Prop) {hx N : Nat} (hS : ∀ x, fe_mem lX1_sum x = true → S x) (n : Nat) (k72 : Nat → Int64 → Int64 → Int64 → FM → Option (Int64 × FM)) (hk72 : ∀ (a0 : Nat) (a3 : Int64) (a5 : Int64) (a7 : Int64) (M : FM), WI Z hx N M → Z a0 → pq (k72 a0 a3 a5 a7 M) (QA S Z hx N M)) (a0 : Nat) (a1 : Int64) (a3 : Int64) (s0 : Int32) (M : FM) (w : WI Z hx N M) (z_a0 : Z a0) : pq (FX1_sum_63 n k72 a0 a1 a3 s0 M) (QA S Z hx N M) := by
  have hN := w.2.2.1
  have w0 := wk_r (S := S) w
  delta FX1_sum_63 BX1_sum_63
  refine pq_b (wX1_there S Z (sb rfl hS) _ _ w0.1 ) (fun r1 K2 => ?_)
  have w3 := wk_t w0 K2 hN
  exact q_tA hN w3 (hk72 _ _ _ _ _ w3.1 z_a0)
theorem wX1_sum_58 (S Z : Nat → Prop) {hx N : Nat} (hS : ∀ x, fe_mem lX1_sum x = true → S x) (n : Nat) (k72 : Nat → Int64 → Int64 → Int64 → FM → Option (Int64 × FM)) (hk72 : ∀ (a0 : Nat) (a3 : Int64) (a5 : Int64) (a7 : Int64) (M : FM), WI Z hx N M → Z a0 → pq (k72 a0 a3 a5 a7 M) (QA S Z hx N M)) (a0 : Nat) (a1 : Int64) (a3 : Int64) (M : FM) (w : WI Z hx N M) (z_a0 : Z a0) : pq (FX1_sum_58 n k72 a0 a1 a3 M) (QA S Z hx N M) := by
  have hN := w.2.2.1
  have w0 := wk_r (S := S) w
  delta FX1_sum_58 BX1_sum_58
  exact q_tA hN w0 (wX1_sum_63 S Z hS n _ hk72 _ _ _ _ _ w0.1 z_a0)
theorem wX1_sum_29 (S Z : Nat → Prop) {hx N : Nat} (hS : ∀ x, fe_mem lX1_sum x = true → S x) (n : Nat) (k72 : Nat → Int64 → Int64 → Int64 → FM → Option (Int64 × FM)) (hk72 : ∀ (a0 : Nat) (a3 : Int64) (a5 : Int64) (a7 : Int64) (M : FM), WI Z hx N M → Z a0 → pq (k72 a0 a3 a5 a7 M) (QA S Z hx N M)) (a0 : Nat) (a1 : Int64) (a3 : Int64) (s0 : Int32) (M : FM) (w : WI Z hx N M) (z_a0 : Z a0) : pq (FX1_sum_29 n k72 a0 a1 a3 s0 M) (QA S Z hx N M) := by
  have hN := w.2.2.1
  have w0 := wk_r (S := S) w
  delta FX1_sum_29 BX1_sum_29
  refine pq_b (wX1_proper S Z (sb rfl hS) _ _ w0.1 ) (fun r1 K2 => ?_)
  have w3 := wk_t w0 K2 hN
  refine pq_fi (fun _ => ?_) (fun _ => ?_)
  · exact q_tA hN w3 (wX1_sum_58 S Z hS n _ hk72 _ _ _ _ w3.1 z_a0)
  · refine pq_g (fun g4 => ?_)
    have z5 := wk_z (i := 0) (f := 17) w3 rfl z_a0
    refine pq_g (fun g6 => ?_)
    have z7 := wk_z (i := 0) (f := 189) w3 rfl z5
    refine pq_g (fun g8 => ?_)
    have z9 := wk_z (i := 0) (f := 18) w3 rfl z7
    refine pq_g (fun g10 => ?_)
    refine pq_b (wX11_has S Z (sb rfl hS) _ _ _ _ w3.1 z9) (fun r11 K12 => ?_)
    have w13 := wk_t w3 K12 hN
    refine pq_fi (fun _ => ?_) (fun _ => ?_)
    · exact q_tA hN w13 (wX1_sum_63 S Z hS n _ hk72 _ _ _ _ _ w13.1 z_a0)
    · exact q_tA hN w13 (wX1_sum_58 S Z hS n _ hk72 _ _ _ _ w13.1 z_a0)
theorem wX1_sum_28 (S Z : Nat → Prop) {hx N : Nat} (hS : ∀ x, fe_mem lX1_sum x = true → S x) (n : Nat) (k72 : Nat → Int64 → Int64 → Int64 → FM → Option (Int64 × FM)) (hk72 : ∀ (a0 : Nat) (a3 : Int64) (a5 : Int64) (a7 : Int64) (M : FM), WI Z hx N M → Z a0 → pq (k72 a0 a3 a5 a7 M) (QA S Z hx N M)) (a0 : Nat) (a1 : Int64) (a3 : Int64) (M : FM) (w : WI Z hx N M) (z_a0 : Z a0) : pq (FX1_sum_28 n k72 a0 a1 a3 M) (QA S Z hx N M) := by
  have hN := w.2.2.1
  have w0 := wk_r (S := S) w
  delta FX1_sum_28 BX1_sum_28
  exact q_tA hN w0 (wX1_sum_29 S Z hS n _ hk72 _ _ _ _ _ w0.1 z_a0)
theorem wX1_sum_0 (S Z : Nat → Prop) {hx N : Nat} (hS : ∀ x, fe_mem lX1_sum x = true → S x) (n : Nat) (k72 : Nat → Int64 → Int64 → Int64 → FM → Option (Int64 × FM)) (hk72 : ∀ (a0 : Nat) (a3 : Int64) (a5 : Int64) (a7 : Int64) (M : FM), WI Z hx N M → Z a0 → pq (k72 a0 a3 a5 a7 M) (QA S Z hx N M)) (a0 : Nat) (a1 : Int64) (a3 : Int64) (M : FM) (w : WI Z hx N M) (z_a0 : Z a0) : pq (FX1_sum_0 n k72 a0 a1 a3 M) (QA S Z hx N M) := by
  have hN := w.2.2.1
  have w0 := wk_r (S := S) w
  delta FX1_sum_0 BX1_sum_0
  refine pq_fi (fun _ => ?_) (fun _ => ?_)
  · exact q_tA hN w0 (wX1_sum_28 S Z hS n _ hk72 _ _ _ _ w0.1 z_a0)
  · refine pq_fi (fun _ => ?_) (fun _ => ?_)
    · exact q_tA hN w0 (wX1_sum_28 S Z hS n _ hk72 _ _ _ _ w0.1 z_a0)
    · refine pq_fi (fun _ => ?_) (fun _ => ?_)
      · exact q_tA hN w0 (wX1_sum_28 S Z hS n _ hk72 _ _ _ _ w0.1 z_a0)
      · exact q_tA hN w0 (wX1_sum_29 S Z hS n _ hk72 _ _ _ _ _ w0.1 z_a0)
theorem wX1_sum_L (S Z : Nat → Prop) {hx N : Nat} (hS : ∀ x, fe_mem lX1_sum x = true → S x) (n : Nat) : ∀ j : Nat, ∀ (a0 : Nat) (a3 : Int64) (a5 : Int64) (a7 : Int64) (M : FM), WI Z hx N M → Z a0 → pq (FX1_sum_L72 n j a0 a3 a5 a7 M) (QA S Z hx N M)
  | 0 => by intros; exact pq_0
  | j + 1 => fun a0 a3 a5 a7 M w => wX1_sum_72 S Z hS n _ (wX1_sum_L S Z hS n j) a0 a3 a5 a7 M w
theorem wX1_sum (S Z : Nat → Prop) {hx N : Nat} (hS : ∀ x, fe_mem lX1_sum x = true → S x) (n : Nat) (a0 : Nat) (a1 : Int64) (a3 : Int64) (M : FM) (w : WI Z hx N M) (z_a0 : Z a0) : pq (FX1_sum n a0 a1 a3 M) (QA S Z hx N M) := wX1_sum_0 S Z hS n _ (wX1_sum_L S Z hS n n) a0 a1 a3 M w z_a0
def lX23_isPlace : List Nat := []
theorem wX23_isPlace_21 (S Z : Nat → Prop) {hx N : Nat} (hS : ∀ x, fe_mem lX23_isPlace x = true → S x) (s0 : Int32) (M : FM) (w : WI Z hx N M) : pq (FX23_isPlace_21 s0 M) (QA S Z hx N M) := by
  have hN := w.2.2.1
  have w0 := wk_r (S := S) w
  delta FX23_isPlace_21 BX23_isPlace_21
  refine pq_g (fun _ => ?_)
  exact pq_s w0
theorem wX23_isPlace_20 (S Z : Nat → Prop) {hx N : Nat} (hS : ∀ x, fe_mem lX23_isPlace x = true → S x) (M : FM) (w : WI Z hx N M) : pq (FX23_isPlace_20 M) (QA S Z hx N M) := by
  have hN := w.2.2.1
  have w0 := wk_r (S := S) w
  delta FX23_isPlace_20 BX23_isPlace_20
  exact q_tA hN w0 (wX23_isPlace_21 S Z hS _ _ w0.1 )
theorem wX23_isPlace_0 (S Z : Nat → Prop) {hx N : Nat} (hS : ∀ x, fe_mem lX23_isPlace x = true → S x) (a0 : Nat) (a1 : Int32) (M : FM) (w : WI Z hx N M) (z_a0 : Z a0) : pq (FX23_isPlace_0 a0 a1 M) (QA S Z hx N M) := by
  have hN := w.2.2.1
  have w0 := wk_r (S := S) w
  delta FX23_isPlace_0 BX23_isPlace_0
  refine pq_fi (fun _ => ?_) (fun _ => ?_)
  · exact q_tA hN w0 (wX23_isPlace_20 S Z hS _ w0.1 )
  · refine pq_g (fun g1 => ?_)
    refine pq_fi (fun _ => ?_) (fun _ => ?_)
    · exact q_tA hN w0 (wX23_isPlace_20 S Z hS _ w0.1 )
    · exact q_tA hN w0 (wX23_isPlace_21 S Z hS _ _ w0.1 )
theorem wX23_isPlace (S Z : Nat → Prop) {hx N : Nat} (hS : ∀ x, fe_mem lX23_isPlace x = true → S x) (a0 : Nat) (a1 : Int32) (M : FM) (w : WI Z hx N M) (z_a0 : Z a0) : pq (FX23_isPlace a0 a1 M) (QA S Z hx N M) := wX23_isPlace_0 S Z hS a0 a1 M w z_a0
def lX1_disk : List Nat := []
theorem wX1_disk_0 (S Z : Nat → Prop) {hx N : Nat} (hS : ∀ x, fe_mem lX1_disk x = true → S x) (a0 : Nat) (a1 : Int32) (M : FM) (w : WI Z hx N M) (z_a0 : Z a0) : pq (FX1_disk_0 a0 a1 M) (QA S Z hx N M) := by
  have hN := w.2.2.1
  have w0 := wk_r (S := S) w
  delta FX1_disk_0 BX1_disk_0
  refine pq_g (fun g1 => ?_)
  have z2 := wk_z (i := 0) (f := 17) w0 rfl z_a0
  refine pq_g (fun g3 => ?_)
  have z4 := wk_z (i := 0) (f := 189) w0 rfl z2
  refine pq_g (fun g5 => ?_)
  have z6 := wk_z (i := 0) (f := 20) w0 rfl z4
  refine pq_g (fun g7 => ?_)
  have z8 := wk_z (i := 0) (f := 59) w0 rfl z6
  refine pq_g (fun g9 => ?_)
  refine pq_b (wX23_isPlace S Z (sb rfl hS) _ _ _ w0.1 z8) (fun r10 K11 => ?_)
  have w12 := wk_t w0 K11 hN
  refine pq_b (wX1_there S Z (sb rfl hS) _ _ w12.1 ) (fun r13 K14 => ?_)
  have w15 := wk_t w12 K14 hN
  refine pq_g (fun g16 => ?_)
  have z17 := wk_z (i := 0) (f := 17) w15 rfl z_a0
  refine pq_g (fun g18 => ?_)
  have z19 := wk_z (i := 0) (f := 189) w15 rfl z17
  refine pq_g (fun g20 => ?_)
  have z21 := wk_z (i := 0) (f := 20) w15 rfl z19
  refine pq_g (fun g22 => ?_)
  have z23 := wk_z (i := 0) (f := 59) w15 rfl z21
  refine pq_g (fun g24 => ?_)
  refine pq_b (wX23_get S Z (sb rfl hS) _ _ _ w15.1 z23) (fun r25 K26 => ?_)
  have w27 := wk_t w15 K26 hN
  exact pq_s w27
theorem wX1_disk (S Z : Nat → Prop) {hx N : Nat} (hS : ∀ x, fe_mem lX1_disk x = true → S x) (a0 : Nat) (a1 : Int32) (M : FM) (w : WI Z hx N M) (z_a0 : Z a0) : pq (FX1_disk a0 a1 M) (QA S Z hx N M) := wX1_disk_0 S Z hS a0 a1 M w z_a0
def lX98_reset : List Nat := [347, 353, 1346]
theorem wX98_reset_2 (S Z : Nat → Prop) {hx N : Nat} (hS : ∀ x, fe_mem lX98_reset x = true → S x) (n : Nat) (k2 : Nat → Int64 → Int32 → FM → Option (FM)) (hk2 : ∀ (a0 : Nat) (a1 : Int64) (a3 : Int32) (M : FM), WI Z hx N M → Z a0 → pq (k2 a0 a1 a3 M) (QV S Z hx N M)) (a0 : Nat) (a1 : Int64) (a3 : Int32) (M : FM) (w : WI Z hx N M) (z_a0 : Z a0) : pq (FX98_reset_2 n k2 a0 a1 a3 M) (QV S Z hx N M) := by
  have hN := w.2.2.1
  have w0 := wk_r (S := S) w
  delta FX98_reset_2 BX98_reset_2
  refine pq_fi (fun _ => ?_) (fun _ => ?_)
  · refine pq_g (fun g1 => ?_)
    extract_lets +onlyGivenNames M3
    have w2 : Wk S Z hx N M M3 := wk_fL hN w0 rfl rfl g1 z_a0 (Or.inr (hS 347 rfl))
    refine pq_g (fun g4 => ?_)
    extract_lets +onlyGivenNames M6
    have w5 : Wk S Z hx N M M6 := wk_fI hN w2 rfl rfl g4 z_a0 (Or.inr (hS 353 rfl))
    exact pq_s w5
  · refine pq_g (fun g7 => ?_)
    have z8 := wk_z (i := 0) (f := 346) w0 rfl z_a0
    have f9 := sS_346 w0.1.1 g7
    refine pq_g (fun g10 => ?_)
    extract_lets +onlyGivenNames M12
    have w11 : Wk S Z hx N M M12 := wk_aL hN w0 rfl g10.1 z8 (sy_s f9 (hS 1346 rfl))
    exact q_tV hN w11 (hk2 _ _ _ _ w11.1 z_a0)
theorem wX98_reset_0 (S Z : Nat → Prop) {hx N : Nat} (hS : ∀ x, fe_mem lX98_reset x = true → S x) (n : Nat) (k2 : Nat → Int64 → Int32 → FM → Option (FM)) (hk2 : ∀ (a0 : Nat) (a1 : Int64) (a3 : Int32) (M : FM), WI Z hx N M → Z a0 → pq (k2 a0 a1 a3 M) (QV S Z hx N M)) (a0 : Nat) (a1 : Int64) (M : FM) (w : WI Z hx N M) (z_a0 : Z a0) : pq (FX98_reset_0 n k2 a0 a1 M) (QV S Z hx N M) := by
  have hN := w.2.2.1
  have w0 := wk_r (S := S) w
  delta FX98_reset_0 BX98_reset_0
  exact q_tV hN w0 (hk2 _ _ _ _ w0.1 z_a0)
theorem wX98_reset_L (S Z : Nat → Prop) {hx N : Nat} (hS : ∀ x, fe_mem lX98_reset x = true → S x) (n : Nat) : ∀ j : Nat, ∀ (a0 : Nat) (a1 : Int64) (a3 : Int32) (M : FM), WI Z hx N M → Z a0 → pq (FX98_reset_L2 n j a0 a1 a3 M) (QV S Z hx N M)
  | 0 => by intros; exact pq_0
  | j + 1 => fun a0 a1 a3 M w => wX98_reset_2 S Z hS n _ (wX98_reset_L S Z hS n j) a0 a1 a3 M w
theorem wX98_reset (S Z : Nat → Prop) {hx N : Nat} (hS : ∀ x, fe_mem lX98_reset x = true → S x) (n : Nat) (a0 : Nat) (a1 : Int64) (M : FM) (w : WI Z hx N M) (z_a0 : Z a0) : pq (FX98_reset n a0 a1 M) (QV S Z hx N M) := wX98_reset_0 S Z hS n _ (wX98_reset_L S Z hS n n) a0 a1 M w z_a0
def lX99_reset : List Nat := [368, 369, 370, 371, 1367]
theorem wX99_reset_2 (S Z : Nat → Prop) {hx N : Nat} (hS : ∀ x, fe_mem lX99_reset x = true → S x) (n : Nat) (k2 : Nat → Int32 → FM → Option (FM)) (hk2 : ∀ (a0 : Nat) (a1 : Int32) (M : FM), WI Z hx N M → Z a0 → pq (k2 a0 a1 M) (QV S Z hx N M)) (a0 : Nat) (a1 : Int32) (M : FM) (w : WI Z hx N M) (z_a0 : Z a0) : pq (FX99_reset_2 n k2 a0 a1 M) (QV S Z hx N M) := by
  have hN := w.2.2.1
  have w0 := wk_r (S := S) w
  delta FX99_reset_2 BX99_reset_2
  refine pq_fi (fun _ => ?_) (fun _ => ?_)
  · refine pq_g (fun g1 => ?_)
    extract_lets +onlyGivenNames M3
    have w2 : Wk S Z hx N M M3 := wk_fI hN w0 rfl rfl g1 z_a0 (Or.inr (hS 368 rfl))
    refine pq_g (fun g4 => ?_)
    extract_lets +onlyGivenNames M6
    have w5 : Wk S Z hx N M M6 := wk_fI hN w2 rfl rfl g4 z_a0 (Or.inr (hS 369 rfl))
    refine pq_g (fun g7 => ?_)
    extract_lets +onlyGivenNames M9
    have w8 : Wk S Z hx N M M9 := wk_fL hN w5 rfl rfl g7 z_a0 (Or.inr (hS 370 rfl))
    refine pq_g (fun g10 => ?_)
    refine pq_g (fun _ => ?_)
    extract_lets +onlyGivenNames M12
    have w11 : Wk S Z hx N M M12 := wk_fI hN w8 rfl rfl g10 z_a0 (Or.inr (hS 371 rfl))
    exact pq_s w11
  · refine pq_g (fun g13 => ?_)
    have z14 := wk_z (i := 0) (f := 367) w0 rfl z_a0
    have f15 := sS_367 w0.1.1 g13
    refine pq_g (fun g16 => ?_)
    extract_lets +onlyGivenNames M18
    have w17 : Wk S Z hx N M M18 := wk_aL hN w0 rfl g16.1 z14 (sy_s f15 (hS 1367 rfl))
    exact q_tV hN w17 (hk2 _ _ _ w17.1 z_a0)
theorem wX99_reset_0 (S Z : Nat → Prop) {hx N : Nat} (hS : ∀ x, fe_mem lX99_reset x = true → S x) (n : Nat) (k2 : Nat → Int32 → FM → Option (FM)) (hk2 : ∀ (a0 : Nat) (a1 : Int32) (M : FM), WI Z hx N M → Z a0 → pq (k2 a0 a1 M) (QV S Z hx N M)) (a0 : Nat) (M : FM) (w : WI Z hx N M) (z_a0 : Z a0) : pq (FX99_reset_0 n k2 a0 M) (QV S Z hx N M) := by
  have hN := w.2.2.1
  have w0 := wk_r (S := S) w
  delta FX99_reset_0 BX99_reset_0
  exact q_tV hN w0 (hk2 _ _ _ w0.1 z_a0)
theorem wX99_reset_L (S Z : Nat → Prop) {hx N : Nat} (hS : ∀ x, fe_mem lX99_reset x = true → S x) (n : Nat) : ∀ j : Nat, ∀ (a0 : Nat) (a1 : Int32) (M : FM), WI Z hx N M → Z a0 → pq (FX99_reset_L2 n j a0 a1 M) (QV S Z hx N M)
  | 0 => by intros; exact pq_0
  | j + 1 => fun a0 a1 M w => wX99_reset_2 S Z hS n _ (wX99_reset_L S Z hS n j) a0 a1 M w
theorem wX99_reset (S Z : Nat → Prop) {hx N : Nat} (hS : ∀ x, fe_mem lX99_reset x = true → S x) (n : Nat) (a0 : Nat) (M : FM) (w : WI Z hx N M) (z_a0 : Z a0) : pq (FX99_reset n a0 M) (QV S Z hx N M) := wX99_reset_0 S Z hS n _ (wX99_reset_L S Z hS n n) a0 M w z_a0
def lX100_reset : List Nat := [360, 364, 365, 1361]
theorem wX100_reset_2 (S Z : Nat → Prop) {hx N : Nat} (hS : ∀ x, fe_mem lX100_reset x = true → S x) (n : Nat) (k2 : Nat → Int32 → FM → Option (FM)) (hk2 : ∀ (a0 : Nat) (a1 : Int32) (M : FM), WI Z hx N M → Z a0 → pq (k2 a0 a1 M) (QV S Z hx N M)) (a0 : Nat) (a1 : Int32) (M : FM) (w : WI Z hx N M) (z_a0 : Z a0) : pq (FX100_reset_2 n k2 a0 a1 M) (QV S Z hx N M) := by
  have hN := w.2.2.1
  have w0 := wk_r (S := S) w
  delta FX100_reset_2 BX100_reset_2
  refine pq_fi (fun _ => ?_) (fun _ => ?_)
  · refine pq_g (fun g1 => ?_)
    extract_lets +onlyGivenNames M3
    have w2 : Wk S Z hx N M M3 := wk_fI hN w0 rfl rfl g1 z_a0 (Or.inr (hS 360 rfl))
    refine pq_g (fun g4 => ?_)
    extract_lets +onlyGivenNames M6
    have w5 : Wk S Z hx N M M6 := wk_fL hN w2 rfl rfl g4 z_a0 (Or.inr (hS 364 rfl))
    refine pq_g (fun g7 => ?_)
    extract_lets +onlyGivenNames M9
    have w8 : Wk S Z hx N M M9 := wk_fL hN w5 rfl rfl g7 z_a0 (Or.inr (hS 365 rfl))
    exact pq_s w8
  · refine pq_g (fun g10 => ?_)
    have z11 := wk_z (i := 0) (f := 361) w0 rfl z_a0
    have f12 := sS_361 w0.1.1 g10
    refine pq_g (fun g13 => ?_)
    extract_lets +onlyGivenNames M15
    have w14 : Wk S Z hx N M M15 := wk_aL hN w0 rfl g13.1 z11 (sy_s f12 (hS 1361 rfl))
    exact q_tV hN w14 (hk2 _ _ _ w14.1 z_a0)
theorem wX100_reset_0 (S Z : Nat → Prop) {hx N : Nat} (hS : ∀ x, fe_mem lX100_reset x = true → S x) (n : Nat) (k2 : Nat → Int32 → FM → Option (FM)) (hk2 : ∀ (a0 : Nat) (a1 : Int32) (M : FM), WI Z hx N M → Z a0 → pq (k2 a0 a1 M) (QV S Z hx N M)) (a0 : Nat) (M : FM) (w : WI Z hx N M) (z_a0 : Z a0) : pq (FX100_reset_0 n k2 a0 M) (QV S Z hx N M) := by
  have hN := w.2.2.1
  have w0 := wk_r (S := S) w
  delta FX100_reset_0 BX100_reset_0
  exact q_tV hN w0 (hk2 _ _ _ w0.1 z_a0)
theorem wX100_reset_L (S Z : Nat → Prop) {hx N : Nat} (hS : ∀ x, fe_mem lX100_reset x = true → S x) (n : Nat) : ∀ j : Nat, ∀ (a0 : Nat) (a1 : Int32) (M : FM), WI Z hx N M → Z a0 → pq (FX100_reset_L2 n j a0 a1 M) (QV S Z hx N M)
  | 0 => by intros; exact pq_0
  | j + 1 => fun a0 a1 M w => wX100_reset_2 S Z hS n _ (wX100_reset_L S Z hS n j) a0 a1 M w
theorem wX100_reset (S Z : Nat → Prop) {hx N : Nat} (hS : ∀ x, fe_mem lX100_reset x = true → S x) (n : Nat) (a0 : Nat) (M : FM) (w : WI Z hx N M) (z_a0 : Z a0) : pq (FX100_reset n a0 M) (QV S Z hx N M) := wX100_reset_0 S Z hS n _ (wX100_reset_L S Z hS n n) a0 M w z_a0
def lX93_put : List Nat := [1388, 1389, 1391]
theorem wX93_put_131 (S Z : Nat → Prop) {hx N : Nat} (hS : ∀ x, fe_mem lX93_put x = true → S x) (n : Nat) (k76 : Nat → Int64 → Int32 → FM → Option (FM)) (hk76 : ∀ (a0 : Nat) (a1 : Int64) (a6 : Int32) (M : FM), WI Z hx N M → Z a0 → pq (k76 a0 a1 a6 M) (QV S Z hx N M)) (a0 : Nat) (a1 : Int64) (a6 : Int32) (s0 : Nat) (s1 : Int32) (s2 : Int64) (M : FM) (w : WI Z hx N M) (z_a0 : Z a0) (z_s0 : Z s0) (y_s0 : Sy S N M s0) : pq (FX93_put_131 n k76 a0 a1 a6 s0 s1 s2 M) (QV S Z hx N M) := by
  have hN := w.2.2.1
  have w0 := wk_r (S := S) w
  delta FX93_put_131 BX93_put_131
  refine pq_g (fun g1 => ?_)
  extract_lets +onlyGivenNames M3
  have w2 : Wk S Z hx N M M3 := wk_aL hN w0 rfl g1.1 z_s0 y_s0
  exact q_tV hN w2 (hk76 _ _ _ _ w2.1 z_a0)
theorem wX93_put_124 (S Z : Nat → Prop) {hx N : Nat} (hS : ∀ x, fe_mem lX93_put x = true → S x) (n : Nat) (k76 : Nat → Int64 → Int32 → FM → Option (FM)) (hk76 : ∀ (a0 : Nat) (a1 : Int64) (a6 : Int32) (M : FM), WI Z hx N M → Z a0 → pq (k76 a0 a1 a6 M) (QV S Z hx N M)) (a0 : Nat) (a1 : Int64) (a6 : Int32) (s0 : Nat) (s1 : Int32) (M : FM) (w : WI Z hx N M) (z_a0 : Z a0) (z_s0 : Z s0) (y_s0 : Sy S N M s0) : pq (FX93_put_124 n k76 a0 a1 a6 s0 s1 M) (QV S Z hx N M) := by
  have hN := w.2.2.1
  have w0 := wk_r (S := S) w
  delta FX93_put_124 BX93_put_124
  refine pq_g (fun g1 => ?_)
  have z2 := wk_z (i := 0) (f := 389) w0 rfl z_a0
  have f3 := sS_389 w0.1.1 g1
  refine pq_g (fun g4 => ?_)
  exact q_tV hN w0 (wX93_put_131 S Z hS n _ hk76 _ _ _ _ _ _ _ w0.1 z_a0 z_s0 y_s0)
theorem wX93_put_76 (S Z : Nat → Prop) {hx N : Nat} (hS : ∀ x, fe_mem lX93_put x = true → S x) (n : Nat) (k76 : Nat → Int64 → Int32 → FM → Option (FM)) (hk76 : ∀ (a0 : Nat) (a1 : Int64) (a6 : Int32) (M : FM), WI Z hx N M → Z a0 → pq (k76 a0 a1 a6 M) (QV S Z hx N M)) (a0 : Nat) (a1 : Int64) (a6 : Int32) (M : FM) (w : WI Z hx N M) (z_a0 : Z a0) : pq (FX93_put_76 n k76 a0 a1 a6 M) (QV S Z hx N M) := by
  have hN := w.2.2.1
  have w0 := wk_r (S := S) w
  delta FX93_put_76 BX93_put_76
  refine pq_fi (fun _ => ?_) (fun _ => ?_)
  · exact pq_s w0
  · refine pq_g (fun g1 => ?_)
    have z2 := wk_z (i := 0) (f := 389) w0 rfl z_a0
    have f3 := sS_389 w0.1.1 g1
    refine pq_g (fun g4 => ?_)
    have z5 := wk_z (i := 0) (f := 389) w0 rfl z_a0
    have f6 := sS_389 w0.1.1 g4
    refine pq_g (fun g7 => ?_)
    refine pq_fi (fun _ => ?_) (fun _ => ?_)
    · exact q_tV hN w0 (wX93_put_124 S Z hS n _ hk76 _ _ _ _ _ _ w0.1 z_a0 z2 (sy_s f3 (hS 1389 rfl)))
    · refine pq_g (fun g8 => ?_)
      have z9 := wk_z (i := 0) (f := 389) w0 rfl z_a0
      have f10 := sS_389 w0.1.1 g8
      refine pq_g (fun g11 => ?_)
      refine pq_n ?_
      refine pq_n ?_
      refine pq_fi (fun _ => ?_) (fun _ => ?_)
      · exact q_tV hN w0 (wX93_put_131 S Z hS n _ hk76 _ _ _ _ _ _ _ w0.1 z_a0 z2 (sy_s f3 (hS 1389 rfl)))
      · exact q_tV hN w0 (wX93_put_124 S Z hS n _ hk76 _ _ _ _ _ _ w0.1 z_a0 z2 (sy_s f3 (hS 1389 rfl)))
theorem wX93_put_0 (S Z : Nat → Prop) {hx N : Nat} (hS : ∀ x, fe_mem lX93_put x = true → S x) (n : Nat) (k76 : Nat → Int64 → Int32 → FM → Option (FM)) (hk76 : ∀ (a0 : Nat) (a1 : Int64) (a6 : Int32) (M : FM), WI Z hx N M → Z a0 → pq (k76 a0 a1 a6 M) (QV S Z hx N M)) (a0 : Nat) (a1 : Int64) (a3 : Int32) (M : FM) (w : WI Z hx N M) (z_a0 : Z a0) : pq (FX93_put_0 n k76 a0 a1 a3 M) (QV S Z hx N M) := by
  have hN := w.2.2.1
  have w0 := wk_r (S := S) w
  delta FX93_put_0 BX93_put_0
  refine pq_n ?_
  refine pq_g (fun g1 => ?_)
  have z2 := wk_z (i := 0) (f := 388) w0 rfl z_a0
  have f3 := sS_388 w0.1.1 g1
  refine pq_n ?_
  refine pq_g (fun g4 => ?_)
  have z5 := wk_z (i := 0) (f := 388) w0 rfl z_a0
  have f6 := sS_388 w0.1.1 g4
  refine pq_n ?_
  refine pq_g (fun g7 => ?_)
  refine pq_g (fun g8 => ?_)
  extract_lets +onlyGivenNames M10
  have w9 : Wk S Z hx N M M10 := wk_aL hN w0 rfl g8.1 z2 (sy_s f3 (hS 1388 rfl))
  refine pq_g (fun g11 => ?_)
  have z12 := wk_z (i := 0) (f := 391) w9 rfl z_a0
  have f13 := sS_391 w9.1.1 g11
  refine pq_n ?_
  refine pq_g (fun g14 => ?_)
  refine pq_g (fun g15 => ?_)
  extract_lets +onlyGivenNames M17
  have w16 : Wk S Z hx N M M17 := wk_aI hN w9 rfl g15.1 z12 (sy_s f13 (hS 1391 rfl))
  exact q_tV hN w16 (hk76 _ _ _ _ w16.1 z_a0)
theorem wX93_put_L (S Z : Nat → Prop) {hx N : Nat} (hS : ∀ x, fe_mem lX93_put x = true → S x) (n : Nat) : ∀ j : Nat, ∀ (a0 : Nat) (a1 : Int64) (a6 : Int32) (M : FM), WI Z hx N M → Z a0 → pq (FX93_put_L76 n j a0 a1 a6 M) (QV S Z hx N M)
  | 0 => by intros; exact pq_0
  | j + 1 => fun a0 a1 a6 M w => wX93_put_76 S Z hS n _ (wX93_put_L S Z hS n j) a0 a1 a6 M w
theorem wX93_put (S Z : Nat → Prop) {hx N : Nat} (hS : ∀ x, fe_mem lX93_put x = true → S x) (n : Nat) (a0 : Nat) (a1 : Int64) (a3 : Int32) (M : FM) (w : WI Z hx N M) (z_a0 : Z a0) : pq (FX93_put n a0 a1 a3 M) (QV S Z hx N M) := wX93_put_0 S Z hS n _ (wX93_put_L S Z hS n n) a0 a1 a3 M w z_a0
def lX98_isRegister : List Nat := []
theorem wX98_isRegister_15 (S Z : Nat → Prop) {hx N : Nat} (hS : ∀ x, fe_mem lX98_isRegister x = true → S x) (s0 : Int32) (M : FM) (w : WI Z hx N M) : pq (FX98_isRegister_15 s0 M) (QA S Z hx N M) := by
  have hN := w.2.2.1
  have w0 := wk_r (S := S) w
  delta FX98_isRegister_15 BX98_isRegister_15
  refine pq_g (fun _ => ?_)
  exact pq_s w0
theorem wX98_isRegister_14 (S Z : Nat → Prop) {hx N : Nat} (hS : ∀ x, fe_mem lX98_isRegister x = true → S x) (M : FM) (w : WI Z hx N M) : pq (FX98_isRegister_14 M) (QA S Z hx N M) := by
  have hN := w.2.2.1
  have w0 := wk_r (S := S) w
  delta FX98_isRegister_14 BX98_isRegister_14
  exact q_tA hN w0 (wX98_isRegister_15 S Z hS _ _ w0.1 )
theorem wX98_isRegister_0 (S Z : Nat → Prop) {hx N : Nat} (hS : ∀ x, fe_mem lX98_isRegister x = true → S x) (a0 : Int32) (M : FM) (w : WI Z hx N M) : pq (FX98_isRegister_0 a0 M) (QA S Z hx N M) := by
  have hN := w.2.2.1
  have w0 := wk_r (S := S) w
  delta FX98_isRegister_0 BX98_isRegister_0
  refine pq_fi (fun _ => ?_) (fun _ => ?_)
  · exact q_tA hN w0 (wX98_isRegister_14 S Z hS _ w0.1 )
  · refine pq_fi (fun _ => ?_) (fun _ => ?_)
    · exact q_tA hN w0 (wX98_isRegister_14 S Z hS _ w0.1 )
    · exact q_tA hN w0 (wX98_isRegister_15 S Z hS _ _ w0.1 )
theorem wX98_isRegister (S Z : Nat → Prop) {hx N : Nat} (hS : ∀ x, fe_mem lX98_isRegister x = true → S x) (a0 : Int32) (M : FM) (w : WI Z hx N M) : pq (FX98_isRegister a0 M) (QA S Z hx N M) := wX98_isRegister_0 S Z hS a0 M w 
def lX98_put : List Nat := [1346]
theorem wX98_put_11 (S Z : Nat → Prop) {hx N : Nat} (hS : ∀ x, fe_mem lX98_put x = true → S x) (M : FM) (w : WI Z hx N M) : pq (FX98_put_11 M) (QV S Z hx N M) := by
  have hN := w.2.2.1
  have w0 := wk_r (S := S) w
  delta FX98_put_11 BX98_put_11
  exact pq_s w0
theorem wX98_put_0 (S Z : Nat → Prop) {hx N : Nat} (hS : ∀ x, fe_mem lX98_put x = true → S x) (a0 : Nat) (a1 : Int32) (a2 : Int64) (M : FM) (w : WI Z hx N M) (z_a0 : Z a0) : pq (FX98_put_0 a0 a1 a2 M) (QV S Z hx N M) := by
  have hN := w.2.2.1
  have w0 := wk_r (S := S) w
  delta FX98_put_0 BX98_put_0
  refine pq_fi (fun _ => ?_) (fun _ => ?_)
  · exact q_tV hN w0 (wX98_put_11 S Z hS _ w0.1 )
  · refine pq_g (fun g1 => ?_)
    have z2 := wk_z (i := 0) (f := 346) w0 rfl z_a0
    have f3 := sS_346 w0.1.1 g1
    refine pq_g (fun g4 => ?_)
    extract_lets +onlyGivenNames M6
    have w5 : Wk S Z hx N M M6 := wk_aL hN w0 rfl g4.1 z2 (sy_s f3 (hS 1346 rfl))
    exact q_tV hN w5 (wX98_put_11 S Z hS _ w5.1 )
theorem wX98_put (S Z : Nat → Prop) {hx N : Nat} (hS : ∀ x, fe_mem lX98_put x = true → S x) (a0 : Nat) (a1 : Int32) (a2 : Int64) (M : FM) (w : WI Z hx N M) (z_a0 : Z a0) : pq (FX98_put a0 a1 a2 M) (QV S Z hx N M) := wX98_put_0 S Z hS a0 a1 a2 M w z_a0
def lX98_set : List Nat := [345, 1346]
theorem wX98_set_29 (S Z : Nat → Prop) {hx N : Nat} (hS : ∀ x, fe_mem lX98_set x = true → S x) (M : FM) (w : WI Z hx N M) : pq (FX98_set_29 M) (QV S Z hx N M) := by
  have hN := w.2.2.1
  have w0 := wk_r (S := S) w
  delta FX98_set_29 BX98_set_29
  exact pq_s w0
theorem wX98_set_13 (S Z : Nat → Prop) {hx N : Nat} (hS : ∀ x, fe_mem lX98_set x = true → S x) (a0 : Nat) (a1 : Int32) (a2 : Int64) (s0 : Nat) (s1 : Int32) (M : FM) (w : WI Z hx N M) (z_a0 : Z a0) (z_s0 : Z s0) : pq (FX98_set_13 a0 a1 a2 s0 s1 M) (QV S Z hx N M) := by
  have hN := w.2.2.1
  have w0 := wk_r (S := S) w
  delta FX98_set_13 BX98_set_13
  refine pq_g (fun g1 => ?_)
  extract_lets +onlyGivenNames M3
  have w2 : Wk S Z hx N M M3 := wk_fI hN w0 rfl rfl g1 z_s0 (Or.inr (hS 345 rfl))
  refine pq_g (fun g4 => ?_)
  refine pq_fi (fun _ => ?_) (fun _ => ?_)
  · refine pq_g (fun g5 => ?_)
    refine pq_b (wX98_put S Z (sb rfl hS) _ _ _ _ w2.1 z_a0) (fun r6 K7 => ?_)
    have w8 := wk_t w2 K7 hN
    exact q_tV hN w8 (wX98_set_29 S Z hS _ w8.1 )
  · exact q_tV hN w2 (wX98_set_29 S Z hS _ w2.1 )
theorem wX98_set_0 (S Z : Nat → Prop) {hx N : Nat} (hS : ∀ x, fe_mem lX98_set x = true → S x) (a0 : Nat) (a1 : Int32) (a2 : Int64) (M : FM) (w : WI Z hx N M) (z_a0 : Z a0) : pq (FX98_set_0 a0 a1 a2 M) (QV S Z hx N M) := by
  have hN := w.2.2.1
  have w0 := wk_r (S := S) w
  delta FX98_set_0 BX98_set_0
  refine pq_b (wX98_isRegister S Z (sb rfl hS) _ _ w0.1 ) (fun r1 K2 => ?_)
  have w3 := wk_t w0 K2 hN
  refine pq_fi (fun _ => ?_) (fun _ => ?_)
  · exact q_tV hN w3 (wX98_set_13 S Z hS _ _ _ _ _ _ w3.1 z_a0 z_a0)
  · exact q_tV hN w3 (wX98_set_13 S Z hS _ _ _ _ _ _ w3.1 z_a0 z_a0)
theorem wX98_set (S Z : Nat → Prop) {hx N : Nat} (hS : ∀ x, fe_mem lX98_set x = true → S x) (a0 : Nat) (a1 : Int32) (a2 : Int64) (M : FM) (w : WI Z hx N M) (z_a0 : Z a0) : pq (FX98_set a0 a1 a2 M) (QV S Z hx N M) := wX98_set_0 S Z hS a0 a1 a2 M w z_a0
def lX101_reset : List Nat := [1427, 1428]
theorem wX101_reset_2 (S Z : Nat → Prop) {hx N : Nat} (hS : ∀ x, fe_mem lX101_reset x = true → S x) (n : Nat) (k2 : Nat → Int32 → FM → Option (FM)) (hk2 : ∀ (a0 : Nat) (a1 : Int32) (M : FM), WI Z hx N M → Z a0 → pq (k2 a0 a1 M) (QV S Z hx N M)) (a0 : Nat) (a1 : Int32) (M : FM) (w : WI Z hx N M) (z_a0 : Z a0) : pq (FX101_reset_2 n k2 a0 a1 M) (QV S Z hx N M) := by
  have hN := w.2.2.1
  have w0 := wk_r (S := S) w
  delta FX101_reset_2 BX101_reset_2
  refine pq_fi (fun _ => ?_) (fun _ => ?_)
  · exact pq_s w0
  · refine pq_g (fun g1 => ?_)
    have z2 := wk_z (i := 0) (f := 427) w0 rfl z_a0
    have f3 := sS_427 w0.1.1 g1
    refine pq_g (fun g4 => ?_)
    extract_lets +onlyGivenNames M6
    have w5 : Wk S Z hx N M M6 := wk_aI hN w0 rfl g4.1 z2 (sy_s f3 (hS 1427 rfl))
    refine pq_g (fun g7 => ?_)
    have z8 := wk_z (i := 0) (f := 428) w5 rfl z_a0
    have f9 := sS_428 w5.1.1 g7
    refine pq_g (fun g10 => ?_)
    extract_lets +onlyGivenNames M12
    have w11 : Wk S Z hx N M M12 := wk_aL hN w5 rfl g10.1 z8 (sy_s f9 (hS 1428 rfl))
    exact q_tV hN w11 (hk2 _ _ _ w11.1 z_a0)
theorem wX101_reset_0 (S Z : Nat → Prop) {hx N : Nat} (hS : ∀ x, fe_mem lX101_reset x = true → S x) (n : Nat) (k2 : Nat → Int32 → FM → Option (FM)) (hk2 : ∀ (a0 : Nat) (a1 : Int32) (M : FM), WI Z hx N M → Z a0 → pq (k2 a0 a1 M) (QV S Z hx N M)) (a0 : Nat) (M : FM) (w : WI Z hx N M) (z_a0 : Z a0) : pq (FX101_reset_0 n k2 a0 M) (QV S Z hx N M) := by
  have hN := w.2.2.1
  have w0 := wk_r (S := S) w
  delta FX101_reset_0 BX101_reset_0
  exact q_tV hN w0 (hk2 _ _ _ w0.1 z_a0)
theorem wX101_reset_L (S Z : Nat → Prop) {hx N : Nat} (hS : ∀ x, fe_mem lX101_reset x = true → S x) (n : Nat) : ∀ j : Nat, ∀ (a0 : Nat) (a1 : Int32) (M : FM), WI Z hx N M → Z a0 → pq (FX101_reset_L2 n j a0 a1 M) (QV S Z hx N M)
  | 0 => by intros; exact pq_0
  | j + 1 => fun a0 a1 M w => wX101_reset_2 S Z hS n _ (wX101_reset_L S Z hS n j) a0 a1 M w
theorem wX101_reset (S Z : Nat → Prop) {hx N : Nat} (hS : ∀ x, fe_mem lX101_reset x = true → S x) (n : Nat) (a0 : Nat) (M : FM) (w : WI Z hx N M) (z_a0 : Z a0) : pq (FX101_reset n a0 M) (QV S Z hx N M) := wX101_reset_0 S Z hS n _ (wX101_reset_L S Z hS n n) a0 M w z_a0
def lX93_drop : List Nat := [1389]
theorem wX93_drop_0 (S Z : Nat → Prop) {hx N : Nat} (hS : ∀ x, fe_mem lX93_drop x = true → S x) (a0 : Nat) (a1 : Int32) (M : FM) (w : WI Z hx N M) (z_a0 : Z a0) : pq (FX93_drop_0 a0 a1 M) (QV S Z hx N M) := by
  have hN := w.2.2.1
  have w0 := wk_r (S := S) w
  delta FX93_drop_0 BX93_drop_0
  refine pq_g (fun g1 => ?_)
  have z2 := wk_z (i := 0) (f := 389) w0 rfl z_a0
  have f3 := sS_389 w0.1.1 g1
  refine pq_g (fun g4 => ?_)
  extract_lets +onlyGivenNames M6
  have w5 : Wk S Z hx N M M6 := wk_aL hN w0 rfl g4.1 z2 (sy_s f3 (hS 1389 rfl))
  exact pq_s w5
theorem wX93_drop (S Z : Nat → Prop) {hx N : Nat} (hS : ∀ x, fe_mem lX93_drop x = true → S x) (a0 : Nat) (a1 : Int32) (M : FM) (w : WI Z hx N M) (z_a0 : Z a0) : pq (FX93_drop a0 a1 M) (QV S Z hx N M) := wX93_drop_0 S Z hS a0 a1 M w z_a0
def lX92_begin : List Nat := [315, 345, 347, 353, 360, 364, 365, 368, 369, 370, 371, 1307, 1346, 1361, 1367, 1388, 1389, 1391, 1427, 1428]
theorem wX92_begin_114 (S Z : Nat → Prop) {hx N : Nat} (hS : ∀ x, fe_mem lX92_begin x = true → S x) (n : Nat) (k2 : Nat → Int32 → FM → Option (Int32 × FM)) (hk2 : ∀ (a0 : Nat) (a1 : Int32) (M : FM), WI Z hx N M → Z a0 → (∀ a, Z a) → pq (k2 a0 a1 M) (QA S Z hx N M)) (k73 : Nat → Int32 → FM → Option (Int32 × FM)) (hk73 : ∀ (a0 : Nat) (a1 : Int32) (M : FM), WI Z hx N M → Z a0 → (∀ a, Z a) → pq (k73 a0 a1 M) (QA S Z hx N M)) (k114 : Nat → Int32 → FM → Option (Int32 × FM)) (hk114 : ∀ (a0 : Nat) (a1 : Int32) (M : FM), WI Z hx N M → Z a0 → (∀ a, Z a) → pq (k114 a0 a1 M) (QA S Z hx N M)) (a0 : Nat) (a1 : Int32) (M : FM) (w : WI Z hx N M) (z_a0 : Z a0) (hA : (∀ a, Z a)) : pq (FX92_begin_114 n k2 k73 k114 a0 a1 M) (QA S Z hx N M) := by
  have hN := w.2.2.1
  have w0 := wk_r (S := S) w
  delta FX92_begin_114 BX92_begin_114
  refine pq_g (fun g1 => ?_)
  refine pq_fi (fun _ => ?_) (fun _ => ?_)
  · refine pq_g (fun g2 => ?_)
    extract_lets +onlyGivenNames M4
    have w3 : Wk S Z hx N M M4 := wk_fI hN w0 rfl rfl g2 z_a0 (Or.inr (hS 315 rfl))
    refine pq_g (fun g5 => ?_)
    have z6 := wk_z (i := 0) (f := 302) w3 rfl z_a0
    refine pq_g (fun g7 => ?_)
    exact pq_s w3
  · refine pq_g (fun g8 => ?_)
    have z9 := wk_z (i := 0) (f := 303) w0 rfl z_a0
    have f10 := sS_303 w0.1.1 g8
    refine pq_g (fun g11 => ?_)
    refine pq_g (fun g13 => ?_)
    refine pq_b (wX98_set S Z (sb rfl hS) _ _ _ _ w0.1 (hA _)) (fun r14 K15 => ?_)
    have w16 := wk_t w0 K15 hN
    refine pq_g (fun g17 => ?_)
    have z18 := wk_z (i := 0) (f := 303) w16 rfl z_a0
    have f19 := sS_303 w16.1.1 g17
    refine pq_g (fun g20 => ?_)
    refine pq_g (fun g22 => ?_)
    refine pq_b (wX98_set S Z (sb rfl hS) _ _ _ _ w16.1 (hA _)) (fun r23 K24 => ?_)
    have w25 := wk_t w16 K24 hN
    exact q_tA hN w25 (hk114 _ _ _ w25.1 z_a0 hA)
theorem wX92_begin_73 (S Z : Nat → Prop) {hx N : Nat} (hS : ∀ x, fe_mem lX92_begin x = true → S x) (n : Nat) (k2 : Nat → Int32 → FM → Option (Int32 × FM)) (hk2 : ∀ (a0 : Nat) (a1 : Int32) (M : FM), WI Z hx N M → Z a0 → (∀ a, Z a) → pq (k2 a0 a1 M) (QA S Z hx N M)) (k73 : Nat → Int32 → FM → Option (Int32 × FM)) (hk73 : ∀ (a0 : Nat) (a1 : Int32) (M : FM), WI Z hx N M → Z a0 → (∀ a, Z a) → pq (k73 a0 a1 M) (QA S Z hx N M)) (k114 : Nat → Int32 → FM → Option (Int32 × FM)) (hk114 : ∀ (a0 : Nat) (a1 : Int32) (M : FM), WI Z hx N M → Z a0 → (∀ a, Z a) → pq (k114 a0 a1 M) (QA S Z hx N M)) (a0 : Nat) (a1 : Int32) (M : FM) (w : WI Z hx N M) (z_a0 : Z a0) (hA : (∀ a, Z a)) : pq (FX92_begin_73 n k2 k73 k114 a0 a1 M) (QA S Z hx N M) := by
  have hN := w.2.2.1
  have w0 := wk_r (S := S) w
  delta FX92_begin_73 BX92_begin_73
  refine pq_g (fun g1 => ?_)
  have z2 := wk_z (i := 0) (f := 302) w0 rfl z_a0
  refine pq_g (fun g3 => ?_)
  refine pq_fi (fun _ => ?_) (fun _ => ?_)
  · exact q_tA hN w0 (hk114 _ _ _ w0.1 z_a0 hA)
  · refine pq_g (fun g4 => ?_)
    have z5 := wk_z (i := 0) (f := 298) w0 rfl z_a0
    refine pq_g (fun g6 => ?_)
    have z7 := wk_z (i := 0) (f := 302) w0 rfl z_a0
    refine pq_g (fun g8 => ?_)
    have z9 := wk_z (i := 0) (f := 415) w0 rfl z7
    have f10 := sS_415 w0.1.1 g8
    refine pq_g (fun g11 => ?_)
    refine pq_g (fun g12 => ?_)
    refine pq_b (wX93_put S Z (sb rfl hS) n _ _ _ _ w0.1 z5) (fun r13 K14 => ?_)
    have w15 := wk_t w0 K14 hN
    exact q_tA hN w15 (hk73 _ _ _ w15.1 z_a0 hA)
theorem wX92_begin_2 (S Z : Nat → Prop) {hx N : Nat} (hS : ∀ x, fe_mem lX92_begin x = true → S x) (n : Nat) (k2 : Nat → Int32 → FM → Option (Int32 × FM)) (hk2 : ∀ (a0 : Nat) (a1 : Int32) (M : FM), WI Z hx N M → Z a0 → (∀ a, Z a) → pq (k2 a0 a1 M) (QA S Z hx N M)) (k73 : Nat → Int32 → FM → Option (Int32 × FM)) (hk73 : ∀ (a0 : Nat) (a1 : Int32) (M : FM), WI Z hx N M → Z a0 → (∀ a, Z a) → pq (k73 a0 a1 M) (QA S Z hx N M)) (k114 : Nat → Int32 → FM → Option (Int32 × FM)) (hk114 : ∀ (a0 : Nat) (a1 : Int32) (M : FM), WI Z hx N M → Z a0 → (∀ a, Z a) → pq (k114 a0 a1 M) (QA S Z hx N M)) (a0 : Nat) (a1 : Int32) (M : FM) (w : WI Z hx N M) (z_a0 : Z a0) (hA : (∀ a, Z a)) : pq (FX92_begin_2 n k2 k73 k114 a0 a1 M) (QA S Z hx N M) := by
  have hN := w.2.2.1
  have w0 := wk_r (S := S) w
  delta FX92_begin_2 BX92_begin_2
  refine pq_g (fun g1 => ?_)
  refine pq_fi (fun _ => ?_) (fun _ => ?_)
  · exact q_tA hN w0 (hk73 _ _ _ w0.1 z_a0 hA)
  · refine pq_g (fun g2 => ?_)
    have z3 := wk_z (i := 0) (f := 303) w0 rfl z_a0
    have f4 := sS_303 w0.1.1 g2
    refine pq_g (fun g5 => ?_)
    refine pq_g (fun g7 => ?_)
    refine pq_g (fun g8 => ?_)
    refine pq_b (wX98_reset S Z (sb rfl hS) n _ _ _ w0.1 (hA _)) (fun r9 K10 => ?_)
    have w11 := wk_t w0 K10 hN
    refine pq_g (fun g12 => ?_)
    have z13 := wk_z (i := 0) (f := 304) w11 rfl z_a0
    have f14 := sS_304 w11.1.1 g12
    refine pq_g (fun g15 => ?_)
    refine pq_g (fun g17 => ?_)
    refine pq_b (wX99_reset S Z (sb rfl hS) n _ _ w11.1 (hA _)) (fun r18 K19 => ?_)
    have w20 := wk_t w11 K19 hN
    refine pq_g (fun g21 => ?_)
    have z22 := wk_z (i := 0) (f := 305) w20 rfl z_a0
    have f23 := sS_305 w20.1.1 g21
    refine pq_g (fun g24 => ?_)
    refine pq_g (fun g26 => ?_)
    refine pq_b (wX100_reset S Z (sb rfl hS) n _ _ w20.1 (hA _)) (fun r27 K28 => ?_)
    have w29 := wk_t w20 K28 hN
    refine pq_g (fun g30 => ?_)
    have z31 := wk_z (i := 0) (f := 306) w29 rfl z_a0
    have f32 := sS_306 w29.1.1 g30
    refine pq_g (fun g33 => ?_)
    refine pq_g (fun g35 => ?_)
    refine pq_b (wX101_reset S Z (sb rfl hS) n _ _ w29.1 (hA _)) (fun r36 K37 => ?_)
    have w38 := wk_t w29 K37 hN
    refine pq_g (fun g39 => ?_)
    have z40 := wk_z (i := 0) (f := 298) w38 rfl z_a0
    refine pq_g (fun g41 => ?_)
    refine pq_b (wX93_drop S Z (sb rfl hS) _ _ _ w38.1 z40) (fun r42 K43 => ?_)
    have w44 := wk_t w38 K43 hN
    refine pq_g (fun g45 => ?_)
    have z46 := wk_z (i := 0) (f := 307) w44 rfl z_a0
    have f47 := sS_307 w44.1.1 g45
    refine pq_g (fun g48 => ?_)
    extract_lets +onlyGivenNames M50
    have w49 : Wk S Z hx N M M50 := wk_aI hN w44 rfl g48.1 z46 (sy_s f47 (hS 1307 rfl))
    exact q_tA hN w49 (hk2 _ _ _ w49.1 z_a0 hA)
theorem wX92_begin_0 (S Z : Nat → Prop) {hx N : Nat} (hS : ∀ x, fe_mem lX92_begin x = true → S x) (n : Nat) (k2 : Nat → Int32 → FM → Option (Int32 × FM)) (hk2 : ∀ (a0 : Nat) (a1 : Int32) (M : FM), WI Z hx N M → Z a0 → (∀ a, Z a) → pq (k2 a0 a1 M) (QA S Z hx N M)) (k73 : Nat → Int32 → FM → Option (Int32 × FM)) (hk73 : ∀ (a0 : Nat) (a1 : Int32) (M : FM), WI Z hx N M → Z a0 → (∀ a, Z a) → pq (k73 a0 a1 M) (QA S Z hx N M)) (k114 : Nat → Int32 → FM → Option (Int32 × FM)) (hk114 : ∀ (a0 : Nat) (a1 : Int32) (M : FM), WI Z hx N M → Z a0 → (∀ a, Z a) → pq (k114 a0 a1 M) (QA S Z hx N M)) (a0 : Nat) (M : FM) (w : WI Z hx N M) (z_a0 : Z a0) (hA : (∀ a, Z a)) : pq (FX92_begin_0 n k2 k73 k114 a0 M) (QA S Z hx N M) := by
  have hN := w.2.2.1
  have w0 := wk_r (S := S) w
  delta FX92_begin_0 BX92_begin_0
  exact q_tA hN w0 (hk2 _ _ _ w0.1 z_a0 hA)
theorem wX92_begin_L (S Z : Nat → Prop) {hx N : Nat} (hS : ∀ x, fe_mem lX92_begin x = true → S x) (n : Nat) : ∀ j : Nat, (∀ (a0 : Nat) (a1 : Int32) (M : FM), WI Z hx N M → Z a0 → (∀ a, Z a) → pq ((FX92_begin_L n j).1 a0 a1 M) (QA S Z hx N M)) ∧ (∀ (a0 : Nat) (a1 : Int32) (M : FM), WI Z hx N M → Z a0 → (∀ a, Z a) → pq ((FX92_begin_L n j).2.1 a0 a1 M) (QA S Z hx N M)) ∧ (∀ (a0 : Nat) (a1 : Int32) (M : FM), WI Z hx N M → Z a0 → (∀ a, Z a) → pq ((FX92_begin_L n j).2.2 a0 a1 M) (QA S Z hx N M))
  | 0 => ⟨by intros; exact pq_0, by intros; exact pq_0, by intros; exact pq_0⟩
  | j + 1 => ⟨fun a0 a1 M w => wX92_begin_2 S Z hS n _ (wX92_begin_L S Z hS n j).1 _ (wX92_begin_L S Z hS n j).2.1 _ (wX92_begin_L S Z hS n j).2.2 a0 a1 M w, fun a0 a1 M w => wX92_begin_73 S Z hS n _ (wX92_begin_L S Z hS n j).1 _ (wX92_begin_L S Z hS n j).2.1 _ (wX92_begin_L S Z hS n j).2.2 a0 a1 M w, fun a0 a1 M w => wX92_begin_114 S Z hS n _ (wX92_begin_L S Z hS n j).1 _ (wX92_begin_L S Z hS n j).2.1 _ (wX92_begin_L S Z hS n j).2.2 a0 a1 M w⟩
theorem wX92_begin (S Z : Nat → Prop) {hx N : Nat} (hS : ∀ x, fe_mem lX92_begin x = true → S x) (n : Nat) (a0 : Nat) (M : FM) (w : WI Z hx N M) (z_a0 : Z a0) (hA : (∀ a, Z a)) : pq (FX92_begin n a0 M) (QA S Z hx N M) := wX92_begin_0 S Z hS n _ (wX92_begin_L S Z hS n n).1 _ (wX92_begin_L S Z hS n n).2.1 _ (wX92_begin_L S Z hS n n).2.2 a0 M w z_a0 hA
def lX92_thrown : List Nat := []
theorem wX92_thrown_0 (S Z : Nat → Prop) {hx N : Nat} (hS : ∀ x, fe_mem lX92_thrown x = true → S x) (a0 : Nat) (M : FM) (w : WI Z hx N M) (z_a0 : Z a0) : pq (FX92_thrown_0 a0 M) (QA S Z hx N M) := by
  have hN := w.2.2.1
  have w0 := wk_r (S := S) w
  delta FX92_thrown_0 BX92_thrown_0
  refine pq_g (fun g1 => ?_)
  exact pq_s w0
theorem wX92_thrown (S Z : Nat → Prop) {hx N : Nat} (hS : ∀ x, fe_mem lX92_thrown x = true → S x) (a0 : Nat) (M : FM) (w : WI Z hx N M) (z_a0 : Z a0) : pq (FX92_thrown a0 M) (QA S Z hx N M) := wX92_thrown_0 S Z hS a0 M w z_a0
def lX92_feed : List Nat := [296, 309, 1308]
theorem wX92_feed_86 (S Z : Nat → Prop) {hx N : Nat} (hS : ∀ x, fe_mem lX92_feed x = true → S x) (n : Nat) (k33 : Nat → Int32 → Int32 → Int32 → Int32 → Int32 → Int32 → FM → Option (Int32 × FM)) (hk33 : ∀ (a0 : Nat) (a1 : Int32) (a2 : Int32) (a3 : Int32) (a4 : Int32) (a5 : Int32) (a6 : Int32) (M : FM), WI Z hx N M → Z a0 → pq (k33 a0 a1 a2 a3 a4 a5 a6 M) (QA S Z hx N M)) (a0 : Nat) (a1 : Int32) (a2 : Int32) (a3 : Int32) (a4 : Int32) (a5 : Int32) (a6 : Int32) (s0 : Int32) (M : FM) (w : WI Z hx N M) (z_a0 : Z a0) : pq (FX92_feed_86 n k33 a0 a1 a2 a3 a4 a5 a6 s0 M) (QA S Z hx N M) := by
  have hN := w.2.2.1
  have w0 := wk_r (S := S) w
  delta FX92_feed_86 BX92_feed_86
  refine pq_g (fun g1 => ?_)
  have z2 := wk_z (i := 0) (f := 308) w0 rfl z_a0
  have f3 := sS_308 w0.1.1 g1
  refine pq_g (fun g4 => ?_)
  refine pq_n ?_
  refine pq_g (fun g5 => ?_)
  extract_lets +onlyGivenNames M7
  have w6 : Wk S Z hx N M M7 := wk_aI hN w0 rfl g5.1 z2 (sy_s f3 (hS 1308 rfl))
  refine pq_g (fun g8 => ?_)
  refine pq_g (fun g9 => ?_)
  extract_lets +onlyGivenNames M11
  have w10 : Wk S Z hx N M M11 := wk_fI hN w6 rfl rfl g9 z_a0 (Or.inr (hS 309 rfl))
  exact q_tA hN w10 (hk33 _ _ _ _ _ _ _ _ w10.1 z_a0)
theorem wX92_feed_33 (S Z : Nat → Prop) {hx N : Nat} (hS : ∀ x, fe_mem lX92_feed x = true → S x) (n : Nat) (k33 : Nat → Int32 → Int32 → Int32 → Int32 → Int32 → Int32 → FM → Option (Int32 × FM)) (hk33 : ∀ (a0 : Nat) (a1 : Int32) (a2 : Int32) (a3 : Int32) (a4 : Int32) (a5 : Int32) (a6 : Int32) (M : FM), WI Z hx N M → Z a0 → pq (k33 a0 a1 a2 a3 a4 a5 a6 M) (QA S Z hx N M)) (a0 : Nat) (a1 : Int32) (a2 : Int32) (a3 : Int32) (a4 : Int32) (a5 : Int32) (a6 : Int32) (M : FM) (w : WI Z hx N M) (z_a0 : Z a0) : pq (FX92_feed_33 n k33 a0 a1 a2 a3 a4 a5 a6 M) (QA S Z hx N M) := by
  have hN := w.2.2.1
  have w0 := wk_r (S := S) w
  delta FX92_feed_33 BX92_feed_33
  refine pq_fi (fun _ => ?_) (fun _ => ?_)
  · refine pq_g (fun g1 => ?_)
    exact pq_s w0
  · refine pq_fi (fun _ => ?_) (fun _ => ?_)
    · refine pq_fi (fun _ => ?_) (fun _ => ?_)
      · refine pq_fi (fun _ => ?_) (fun _ => ?_)
        · refine pq_fi (fun _ => ?_) (fun _ => ?_)
          · exact q_tA hN w0 (wX92_feed_86 S Z hS n _ hk33 _ _ _ _ _ _ _ _ _ w0.1 z_a0)
          · exact q_tA hN w0 (wX92_feed_86 S Z hS n _ hk33 _ _ _ _ _ _ _ _ _ w0.1 z_a0)
        · exact q_tA hN w0 (wX92_feed_86 S Z hS n _ hk33 _ _ _ _ _ _ _ _ _ w0.1 z_a0)
      · exact q_tA hN w0 (wX92_feed_86 S Z hS n _ hk33 _ _ _ _ _ _ _ _ _ w0.1 z_a0)
    · exact q_tA hN w0 (wX92_feed_86 S Z hS n _ hk33 _ _ _ _ _ _ _ _ _ w0.1 z_a0)
theorem wX92_feed_18 (S Z : Nat → Prop) {hx N : Nat} (hS : ∀ x, fe_mem lX92_feed x = true → S x) (n : Nat) (k33 : Nat → Int32 → Int32 → Int32 → Int32 → Int32 → Int32 → FM → Option (Int32 × FM)) (hk33 : ∀ (a0 : Nat) (a1 : Int32) (a2 : Int32) (a3 : Int32) (a4 : Int32) (a5 : Int32) (a6 : Int32) (M : FM), WI Z hx N M → Z a0 → pq (k33 a0 a1 a2 a3 a4 a5 a6 M) (QA S Z hx N M)) (a0 : Nat) (a1 : Int32) (a2 : Int32) (a3 : Int32) (a4 : Int32) (a5 : Int32) (s0 : Nat) (s1 : Int32) (M : FM) (w : WI Z hx N M) (z_a0 : Z a0) (z_s0 : Z s0) : pq (FX92_feed_18 n k33 a0 a1 a2 a3 a4 a5 s0 s1 M) (QA S Z hx N M) := by
  have hN := w.2.2.1
  have w0 := wk_r (S := S) w
  delta FX92_feed_18 BX92_feed_18
  refine pq_g (fun g1 => ?_)
  extract_lets +onlyGivenNames M3
  have w2 : Wk S Z hx N M M3 := wk_fI hN w0 rfl rfl g1 z_s0 (Or.inr (hS 296 rfl))
  refine pq_g (fun g4 => ?_)
  refine pq_fi (fun _ => ?_) (fun _ => ?_)
  · exact q_tA hN w2 (hk33 _ _ _ _ _ _ _ _ w2.1 z_a0)
  · exact pq_s w2
theorem wX92_feed_0 (S Z : Nat → Prop) {hx N : Nat} (hS : ∀ x, fe_mem lX92_feed x = true → S x) (n : Nat) (k33 : Nat → Int32 → Int32 → Int32 → Int32 → Int32 → Int32 → FM → Option (Int32 × FM)) (hk33 : ∀ (a0 : Nat) (a1 : Int32) (a2 : Int32) (a3 : Int32) (a4 : Int32) (a5 : Int32) (a6 : Int32) (M : FM), WI Z hx N M → Z a0 → pq (k33 a0 a1 a2 a3 a4 a5 a6 M) (QA S Z hx N M)) (a0 : Nat) (a1 : Int32) (a2 : Int32) (a3 : Int32) (a4 : Int32) (a5 : Int32) (M : FM) (w : WI Z hx N M) (z_a0 : Z a0) : pq (FX92_feed_0 n k33 a0 a1 a2 a3 a4 a5 M) (QA S Z hx N M) := by
  have hN := w.2.2.1
  have w0 := wk_r (S := S) w
  delta FX92_feed_0 BX92_feed_0
  refine pq_g (fun g1 => ?_)
  refine pq_fi (fun _ => ?_) (fun _ => ?_)
  · exact q_tA hN w0 (wX92_feed_18 S Z hS n _ hk33 _ _ _ _ _ _ _ _ _ w0.1 z_a0 z_a0)
  · exact q_tA hN w0 (wX92_feed_18 S Z hS n _ hk33 _ _ _ _ _ _ _ _ _ w0.1 z_a0 z_a0)
theorem wX92_feed_L (S Z : Nat → Prop) {hx N : Nat} (hS : ∀ x, fe_mem lX92_feed x = true → S x) (n : Nat) : ∀ j : Nat, ∀ (a0 : Nat) (a1 : Int32) (a2 : Int32) (a3 : Int32) (a4 : Int32) (a5 : Int32) (a6 : Int32) (M : FM), WI Z hx N M → Z a0 → pq (FX92_feed_L33 n j a0 a1 a2 a3 a4 a5 a6 M) (QA S Z hx N M)
  | 0 => by intros; exact pq_0
  | j + 1 => fun a0 a1 a2 a3 a4 a5 a6 M w => wX92_feed_33 S Z hS n _ (wX92_feed_L S Z hS n j) a0 a1 a2 a3 a4 a5 a6 M w
theorem wX92_feed (S Z : Nat → Prop) {hx N : Nat} (hS : ∀ x, fe_mem lX92_feed x = true → S x) (n : Nat) (a0 : Nat) (a1 : Int32) (a2 : Int32) (a3 : Int32) (a4 : Int32) (a5 : Int32) (M : FM) (w : WI Z hx N M) (z_a0 : Z a0) : pq (FX92_feed n a0 a1 a2 a3 a4 a5 M) (QA S Z hx N M) := wX92_feed_0 S Z hS n _ (wX92_feed_L S Z hS n n) a0 a1 a2 a3 a4 a5 M w z_a0
def lX92_end : List Nat := [296, 309]
theorem wX92_end_37 (S Z : Nat → Prop) {hx N : Nat} (hS : ∀ x, fe_mem lX92_end x = true → S x) (s0 : Nat) (s1 : Int32) (M : FM) (w : WI Z hx N M) (z_s0 : Z s0) : pq (FX92_end_37 s0 s1 M) (QV S Z hx N M) := by
  have hN := w.2.2.1
  have w0 := wk_r (S := S) w
  delta FX92_end_37 BX92_end_37
  refine pq_g (fun g1 => ?_)
  extract_lets +onlyGivenNames M3
  have w2 : Wk S Z hx N M M3 := wk_fI hN w0 rfl rfl g1 z_s0 (Or.inr (hS 309 rfl))
  exact pq_s w2
theorem wX92_end_18 (S Z : Nat → Prop) {hx N : Nat} (hS : ∀ x, fe_mem lX92_end x = true → S x) (a0 : Nat) (a1 : Int32) (s0 : Nat) (s1 : Int32) (M : FM) (w : WI Z hx N M) (z_a0 : Z a0) (z_s0 : Z s0) : pq (FX92_end_18 a0 a1 s0 s1 M) (QV S Z hx N M) := by
  have hN := w.2.2.1
  have w0 := wk_r (S := S) w
  delta FX92_end_18 BX92_end_18
  refine pq_g (fun g1 => ?_)
  extract_lets +onlyGivenNames M3
  have w2 : Wk S Z hx N M M3 := wk_fI hN w0 rfl rfl g1 z_s0 (Or.inr (hS 296 rfl))
  refine pq_g (fun g4 => ?_)
  refine pq_fi (fun _ => ?_) (fun _ => ?_)
  · exact q_tV hN w2 (wX92_end_37 S Z hS _ _ _ w2.1 z_a0)
  · refine pq_g (fun g5 => ?_)
    exact q_tV hN w2 (wX92_end_37 S Z hS _ _ _ w2.1 z_a0)
theorem wX92_end_13 (S Z : Nat → Prop) {hx N : Nat} (hS : ∀ x, fe_mem lX92_end x = true → S x) (a0 : Nat) (a1 : Int32) (s0 : Nat) (M : FM) (w : WI Z hx N M) (z_a0 : Z a0) (z_s0 : Z s0) : pq (FX92_end_13 a0 a1 s0 M) (QV S Z hx N M) := by
  have hN := w.2.2.1
  have w0 := wk_r (S := S) w
  delta FX92_end_13 BX92_end_13
  exact q_tV hN w0 (wX92_end_18 S Z hS _ _ _ _ _ w0.1 z_a0 z_s0)
theorem wX92_end_0 (S Z : Nat → Prop) {hx N : Nat} (hS : ∀ x, fe_mem lX92_end x = true → S x) (a0 : Nat) (a1 : Int32) (M : FM) (w : WI Z hx N M) (z_a0 : Z a0) : pq (FX92_end_0 a0 a1 M) (QV S Z hx N M) := by
  have hN := w.2.2.1
  have w0 := wk_r (S := S) w
  delta FX92_end_0 BX92_end_0
  refine pq_fi (fun _ => ?_) (fun _ => ?_)
  · exact q_tV hN w0 (wX92_end_13 S Z hS _ _ _ _ w0.1 z_a0 z_a0)
  · refine pq_g (fun g1 => ?_)
    refine pq_fi (fun _ => ?_) (fun _ => ?_)
    · exact q_tV hN w0 (wX92_end_18 S Z hS _ _ _ _ _ w0.1 z_a0 z_a0)
    · exact q_tV hN w0 (wX92_end_13 S Z hS _ _ _ _ w0.1 z_a0 z_a0)
theorem wX92_end (S Z : Nat → Prop) {hx N : Nat} (hS : ∀ x, fe_mem lX92_end x = true → S x) (a0 : Nat) (a1 : Int32) (M : FM) (w : WI Z hx N M) (z_a0 : Z a0) : pq (FX92_end a0 a1 M) (QV S Z hx N M) := wX92_end_0 S Z hS a0 a1 M w z_a0
def lX93_isByte : List Nat := []
theorem wX93_isByte_21 (S Z : Nat → Prop) {hx N : Nat} (hS : ∀ x, fe_mem lX93_isByte x = true → S x) (s0 : Int32) (M : FM) (w : WI Z hx N M) : pq (FX93_isByte_21 s0 M) (QA S Z hx N M) := by
  have hN := w.2.2.1
  have w0 := wk_r (S := S) w
  delta FX93_isByte_21 BX93_isByte_21
  refine pq_g (fun _ => ?_)
  exact pq_s w0
theorem wX93_isByte_20 (S Z : Nat → Prop) {hx N : Nat} (hS : ∀ x, fe_mem lX93_isByte x = true → S x) (M : FM) (w : WI Z hx N M) : pq (FX93_isByte_20 M) (QA S Z hx N M) := by
  have hN := w.2.2.1
  have w0 := wk_r (S := S) w
  delta FX93_isByte_20 BX93_isByte_20
  exact q_tA hN w0 (wX93_isByte_21 S Z hS _ _ w0.1 )
theorem wX93_isByte_0 (S Z : Nat → Prop) {hx N : Nat} (hS : ∀ x, fe_mem lX93_isByte x = true → S x) (a0 : Int64) (M : FM) (w : WI Z hx N M) : pq (FX93_isByte_0 a0 M) (QA S Z hx N M) := by
  have hN := w.2.2.1
  have w0 := wk_r (S := S) w
  delta FX93_isByte_0 BX93_isByte_0
  refine pq_fi (fun _ => ?_) (fun _ => ?_)
  · exact q_tA hN w0 (wX93_isByte_20 S Z hS _ w0.1 )
  · refine pq_fi (fun _ => ?_) (fun _ => ?_)
    · exact q_tA hN w0 (wX93_isByte_20 S Z hS _ w0.1 )
    · exact q_tA hN w0 (wX93_isByte_21 S Z hS _ _ w0.1 )
theorem wX93_isByte (S Z : Nat → Prop) {hx N : Nat} (hS : ∀ x, fe_mem lX93_isByte x = true → S x) (a0 : Int64) (M : FM) (w : WI Z hx N M) : pq (FX93_isByte a0 M) (QA S Z hx N M) := wX93_isByte_0 S Z hS a0 M w 
def lX93_areBytes : List Nat := []
theorem wX93_areBytes_22 (S Z : Nat → Prop) {hx N : Nat} (hS : ∀ x, fe_mem lX93_areBytes x = true → S x) (s0 : Int32) (M : FM) (w : WI Z hx N M) : pq (FX93_areBytes_22 s0 M) (QA S Z hx N M) := by
  have hN := w.2.2.1
  have w0 := wk_r (S := S) w
  delta FX93_areBytes_22 BX93_areBytes_22
  refine pq_g (fun _ => ?_)
  exact pq_s w0
theorem wX93_areBytes_21 (S Z : Nat → Prop) {hx N : Nat} (hS : ∀ x, fe_mem lX93_areBytes x = true → S x) (M : FM) (w : WI Z hx N M) : pq (FX93_areBytes_21 M) (QA S Z hx N M) := by
  have hN := w.2.2.1
  have w0 := wk_r (S := S) w
  delta FX93_areBytes_21 BX93_areBytes_21
  exact q_tA hN w0 (wX93_areBytes_22 S Z hS _ _ w0.1 )
theorem wX93_areBytes_0 (S Z : Nat → Prop) {hx N : Nat} (hS : ∀ x, fe_mem lX93_areBytes x = true → S x) (a0 : Int64) (a2 : Int64) (M : FM) (w : WI Z hx N M) : pq (FX93_areBytes_0 a0 a2 M) (QA S Z hx N M) := by
  have hN := w.2.2.1
  have w0 := wk_r (S := S) w
  delta FX93_areBytes_0 BX93_areBytes_0
  refine pq_b (wX93_isByte S Z (sb rfl hS) _ _ w0.1 ) (fun r1 K2 => ?_)
  have w3 := wk_t w0 K2 hN
  refine pq_fi (fun _ => ?_) (fun _ => ?_)
  · exact q_tA hN w3 (wX93_areBytes_21 S Z hS _ w3.1 )
  · refine pq_fi (fun _ => ?_) (fun _ => ?_)
    · exact q_tA hN w3 (wX93_areBytes_21 S Z hS _ w3.1 )
    · exact q_tA hN w3 (wX93_areBytes_22 S Z hS _ _ w3.1 )
theorem wX93_areBytes (S Z : Nat → Prop) {hx N : Nat} (hS : ∀ x, fe_mem lX93_areBytes x = true → S x) (a0 : Int64) (a2 : Int64) (M : FM) (w : WI Z hx N M) : pq (FX93_areBytes a0 a2 M) (QA S Z hx N M) := wX93_areBytes_0 S Z hS a0 a2 M w 
def lX92_begins : List Nat := []
theorem wX92_begins_80 (S Z : Nat → Prop) {hx N : Nat} (hS : ∀ x, fe_mem lX92_begins x = true → S x) (s0 : Int32) (M : FM) (w : WI Z hx N M) : pq (FX92_begins_80 s0 M) (QA S Z hx N M) := by
  have hN := w.2.2.1
  have w0 := wk_r (S := S) w
  delta FX92_begins_80 BX92_begins_80
  refine pq_g (fun _ => ?_)
  exact pq_s w0
theorem wX92_begins_79 (S Z : Nat → Prop) {hx N : Nat} (hS : ∀ x, fe_mem lX92_begins x = true → S x) (M : FM) (w : WI Z hx N M) : pq (FX92_begins_79 M) (QA S Z hx N M) := by
  have hN := w.2.2.1
  have w0 := wk_r (S := S) w
  delta FX92_begins_79 BX92_begins_79
  exact q_tA hN w0 (wX92_begins_80 S Z hS _ _ w0.1 )
theorem wX92_begins_0 (S Z : Nat → Prop) {hx N : Nat} (hS : ∀ x, fe_mem lX92_begins x = true → S x) (a0 : Nat) (M : FM) (w : WI Z hx N M) (z_a0 : Z a0) : pq (FX92_begins_0 a0 M) (QA S Z hx N M) := by
  have hN := w.2.2.1
  have w0 := wk_r (S := S) w
  delta FX92_begins_0 BX92_begins_0
  refine pq_g (fun g1 => ?_)
  have z2 := wk_z (i := 0) (f := 308) w0 rfl z_a0
  have f3 := sS_308 w0.1.1 g1
  refine pq_g (fun g4 => ?_)
  refine pq_fi (fun _ => ?_) (fun _ => ?_)
  · refine pq_g (fun g5 => ?_)
    have z6 := wk_z (i := 0) (f := 308) w0 rfl z_a0
    have f7 := sS_308 w0.1.1 g5
    refine pq_g (fun g8 => ?_)
    refine pq_fi (fun _ => ?_) (fun _ => ?_)
    · refine pq_g (fun g9 => ?_)
      have z10 := wk_z (i := 0) (f := 308) w0 rfl z_a0
      have f11 := sS_308 w0.1.1 g9
      refine pq_g (fun g12 => ?_)
      refine pq_fi (fun _ => ?_) (fun _ => ?_)
      · refine pq_g (fun g13 => ?_)
        have z14 := wk_z (i := 0) (f := 308) w0 rfl z_a0
        have f15 := sS_308 w0.1.1 g13
        refine pq_g (fun g16 => ?_)
        refine pq_fi (fun _ => ?_) (fun _ => ?_)
        · refine pq_g (fun g17 => ?_)
          have z18 := wk_z (i := 0) (f := 308) w0 rfl z_a0
          have f19 := sS_308 w0.1.1 g17
          refine pq_g (fun g20 => ?_)
          refine pq_fi (fun _ => ?_) (fun _ => ?_)
          · refine pq_g (fun g21 => ?_)
            have z22 := wk_z (i := 0) (f := 308) w0 rfl z_a0
            have f23 := sS_308 w0.1.1 g21
            refine pq_g (fun g24 => ?_)
            refine pq_fi (fun _ => ?_) (fun _ => ?_)
            · refine pq_g (fun g25 => ?_)
              have z26 := wk_z (i := 0) (f := 308) w0 rfl z_a0
              have f27 := sS_308 w0.1.1 g25
              refine pq_g (fun g28 => ?_)
              refine pq_fi (fun _ => ?_) (fun _ => ?_)
              · exact q_tA hN w0 (wX92_begins_80 S Z hS _ _ w0.1 )
              · exact q_tA hN w0 (wX92_begins_79 S Z hS _ w0.1 )
            · exact q_tA hN w0 (wX92_begins_79 S Z hS _ w0.1 )
          · exact q_tA hN w0 (wX92_begins_79 S Z hS _ w0.1 )
        · exact q_tA hN w0 (wX92_begins_79 S Z hS _ w0.1 )
      · exact q_tA hN w0 (wX92_begins_79 S Z hS _ w0.1 )
    · exact q_tA hN w0 (wX92_begins_79 S Z hS _ w0.1 )
  · exact q_tA hN w0 (wX92_begins_79 S Z hS _ w0.1 )
theorem wX92_begins (S Z : Nat → Prop) {hx N : Nat} (hS : ∀ x, fe_mem lX92_begins x = true → S x) (a0 : Nat) (M : FM) (w : WI Z hx N M) (z_a0 : Z a0) : pq (FX92_begins a0 M) (QA S Z hx N M) := wX92_begins_0 S Z hS a0 M w z_a0
def lX92_number : List Nat := []
theorem wX92_number_7 (S Z : Nat → Prop) {hx N : Nat} (hS : ∀ x, fe_mem lX92_number x = true → S x) (n : Nat) (k7 : Nat → Int32 → Int64 → Int32 → FM → Option (Int64 × FM)) (hk7 : ∀ (a0 : Nat) (a1 : Int32) (a3 : Int64) (a5 : Int32) (M : FM), WI Z hx N M → Z a0 → pq (k7 a0 a1 a3 a5 M) (QA S Z hx N M)) (a0 : Nat) (a1 : Int32) (a3 : Int64) (a5 : Int32) (M : FM) (w : WI Z hx N M) (z_a0 : Z a0) : pq (FX92_number_7 n k7 a0 a1 a3 a5 M) (QA S Z hx N M) := by
  have hN := w.2.2.1
  have w0 := wk_r (S := S) w
  delta FX92_number_7 BX92_number_7
  refine pq_fi (fun _ => ?_) (fun _ => ?_)
  · exact pq_s w0
  · refine pq_g (fun g1 => ?_)
    have z2 := wk_z (i := 0) (f := 308) w0 rfl z_a0
    have f3 := sS_308 w0.1.1 g1
    refine pq_g (fun g4 => ?_)
    exact q_tA hN w0 (hk7 _ _ _ _ _ w0.1 z_a0)
theorem wX92_number_0 (S Z : Nat → Prop) {hx N : Nat} (hS : ∀ x, fe_mem lX92_number x = true → S x) (n : Nat) (k7 : Nat → Int32 → Int64 → Int32 → FM → Option (Int64 × FM)) (hk7 : ∀ (a0 : Nat) (a1 : Int32) (a3 : Int64) (a5 : Int32) (M : FM), WI Z hx N M → Z a0 → pq (k7 a0 a1 a3 a5 M) (QA S Z hx N M)) (a0 : Nat) (a1 : Int32) (a2 : Int32) (M : FM) (w : WI Z hx N M) (z_a0 : Z a0) : pq (FX92_number_0 n k7 a0 a1 a2 M) (QA S Z hx N M) := by
  have hN := w.2.2.1
  have w0 := wk_r (S := S) w
  delta FX92_number_0 BX92_number_0
  exact q_tA hN w0 (hk7 _ _ _ _ _ w0.1 z_a0)
theorem wX92_number_L (S Z : Nat → Prop) {hx N : Nat} (hS : ∀ x, fe_mem lX92_number x = true → S x) (n : Nat) : ∀ j : Nat, ∀ (a0 : Nat) (a1 : Int32) (a3 : Int64) (a5 : Int32) (M : FM), WI Z hx N M → Z a0 → pq (FX92_number_L7 n j a0 a1 a3 a5 M) (QA S Z hx N M)
  | 0 => by intros; exact pq_0
  | j + 1 => fun a0 a1 a3 a5 M w => wX92_number_7 S Z hS n _ (wX92_number_L S Z hS n j) a0 a1 a3 a5 M w
theorem wX92_number (S Z : Nat → Prop) {hx N : Nat} (hS : ∀ x, fe_mem lX92_number x = true → S x) (n : Nat) (a0 : Nat) (a1 : Int32) (a2 : Int32) (M : FM) (w : WI Z hx N M) (z_a0 : Z a0) : pq (FX92_number n a0 a1 a2 M) (QA S Z hx N M) := wX92_number_0 S Z hS n _ (wX92_number_L S Z hS n n) a0 a1 a2 M w z_a0
def lX92_isOnTape : List Nat := []
theorem wX92_isOnTape_39 (S Z : Nat → Prop) {hx N : Nat} (hS : ∀ x, fe_mem lX92_isOnTape x = true → S x) (s0 : Int32) (M : FM) (w : WI Z hx N M) : pq (FX92_isOnTape_39 s0 M) (QA S Z hx N M) := by
  have hN := w.2.2.1
  have w0 := wk_r (S := S) w
  delta FX92_isOnTape_39 BX92_isOnTape_39
  refine pq_g (fun _ => ?_)
  exact pq_s w0
theorem wX92_isOnTape_38 (S Z : Nat → Prop) {hx N : Nat} (hS : ∀ x, fe_mem lX92_isOnTape x = true → S x) (M : FM) (w : WI Z hx N M) : pq (FX92_isOnTape_38 M) (QA S Z hx N M) := by
  have hN := w.2.2.1
  have w0 := wk_r (S := S) w
  delta FX92_isOnTape_38 BX92_isOnTape_38
  exact q_tA hN w0 (wX92_isOnTape_39 S Z hS _ _ w0.1 )
theorem wX92_isOnTape_0 (S Z : Nat → Prop) {hx N : Nat} (hS : ∀ x, fe_mem lX92_isOnTape x = true → S x) (a0 : Nat) (a1 : Int64) (a3 : Int64) (M : FM) (w : WI Z hx N M) (z_a0 : Z a0) : pq (FX92_isOnTape_0 a0 a1 a3 M) (QA S Z hx N M) := by
  have hN := w.2.2.1
  have w0 := wk_r (S := S) w
  delta FX92_isOnTape_0 BX92_isOnTape_0
  refine pq_fi (fun _ => ?_) (fun _ => ?_)
  · exact q_tA hN w0 (wX92_isOnTape_38 S Z hS _ w0.1 )
  · refine pq_fi (fun _ => ?_) (fun _ => ?_)
    · exact q_tA hN w0 (wX92_isOnTape_38 S Z hS _ w0.1 )
    · refine pq_g (fun g1 => ?_)
      refine pq_fi (fun _ => ?_) (fun _ => ?_)
      · exact q_tA hN w0 (wX92_isOnTape_38 S Z hS _ w0.1 )
      · refine pq_g (fun g2 => ?_)
        refine pq_fi (fun _ => ?_) (fun _ => ?_)
        · exact q_tA hN w0 (wX92_isOnTape_38 S Z hS _ w0.1 )
        · exact q_tA hN w0 (wX92_isOnTape_39 S Z hS _ _ w0.1 )
theorem wX92_isOnTape (S Z : Nat → Prop) {hx N : Nat} (hS : ∀ x, fe_mem lX92_isOnTape x = true → S x) (a0 : Nat) (a1 : Int64) (a3 : Int64) (M : FM) (w : WI Z hx N M) (z_a0 : Z a0) : pq (FX92_isOnTape a0 a1 a3 M) (QA S Z hx N M) := wX92_isOnTape_0 S Z hS a0 a1 a3 M w z_a0
def lX92_isAbove : List Nat := []
theorem wX92_isAbove_50 (S Z : Nat → Prop) {hx N : Nat} (hS : ∀ x, fe_mem lX92_isAbove x = true → S x) (s0 : Int32) (M : FM) (w : WI Z hx N M) : pq (FX92_isAbove_50 s0 M) (QA S Z hx N M) := by
  have hN := w.2.2.1
  have w0 := wk_r (S := S) w
  delta FX92_isAbove_50 BX92_isAbove_50
  refine pq_g (fun _ => ?_)
  exact pq_s w0
theorem wX92_isAbove_22 (S Z : Nat → Prop) {hx N : Nat} (hS : ∀ x, fe_mem lX92_isAbove x = true → S x) (a0 : Int64) (a2 : Int64) (s0 : Int32) (s1 : Int32) (M : FM) (w : WI Z hx N M) : pq (FX92_isAbove_22 a0 a2 s0 s1 M) (QA S Z hx N M) := by
  have hN := w.2.2.1
  have w0 := wk_r (S := S) w
  delta FX92_isAbove_22 BX92_isAbove_22
  refine pq_fi (fun _ => ?_) (fun _ => ?_)
  · refine pq_fi (fun _ => ?_) (fun _ => ?_)
    · exact q_tA hN w0 (wX92_isAbove_50 S Z hS _ _ w0.1 )
    · exact q_tA hN w0 (wX92_isAbove_50 S Z hS _ _ w0.1 )
  · refine pq_fi (fun _ => ?_) (fun _ => ?_)
    · exact q_tA hN w0 (wX92_isAbove_50 S Z hS _ _ w0.1 )
    · exact q_tA hN w0 (wX92_isAbove_50 S Z hS _ _ w0.1 )
theorem wX92_isAbove_11 (S Z : Nat → Prop) {hx N : Nat} (hS : ∀ x, fe_mem lX92_isAbove x = true → S x) (a0 : Int64) (a2 : Int64) (s0 : Int32) (M : FM) (w : WI Z hx N M) : pq (FX92_isAbove_11 a0 a2 s0 M) (QA S Z hx N M) := by
  have hN := w.2.2.1
  have w0 := wk_r (S := S) w
  delta FX92_isAbove_11 BX92_isAbove_11
  refine pq_fi (fun _ => ?_) (fun _ => ?_)
  · exact q_tA hN w0 (wX92_isAbove_22 S Z hS _ _ _ _ _ w0.1 )
  · exact q_tA hN w0 (wX92_isAbove_22 S Z hS _ _ _ _ _ w0.1 )
theorem wX92_isAbove_0 (S Z : Nat → Prop) {hx N : Nat} (hS : ∀ x, fe_mem lX92_isAbove x = true → S x) (a0 : Int64) (a2 : Int64) (M : FM) (w : WI Z hx N M) : pq (FX92_isAbove_0 a0 a2 M) (QA S Z hx N M) := by
  have hN := w.2.2.1
  have w0 := wk_r (S := S) w
  delta FX92_isAbove_0 BX92_isAbove_0
  refine pq_fi (fun _ => ?_) (fun _ => ?_)
  · exact q_tA hN w0 (wX92_isAbove_11 S Z hS _ _ _ _ w0.1 )
  · exact q_tA hN w0 (wX92_isAbove_11 S Z hS _ _ _ _ w0.1 )
theorem wX92_isAbove (S Z : Nat → Prop) {hx N : Nat} (hS : ∀ x, fe_mem lX92_isAbove x = true → S x) (a0 : Int64) (a2 : Int64) (M : FM) (w : WI Z hx N M) : pq (FX92_isAbove a0 a2 M) (QA S Z hx N M) := wX92_isAbove_0 S Z hS a0 a2 M w 
def lX92_partFault : List Nat := []
theorem wX92_partFault_234 (S Z : Nat → Prop) {hx N : Nat} (hS : ∀ x, fe_mem lX92_partFault x = true → S x) (n : Nat) (k111 : Nat → Int32 → Int64 → Int64 → Int32 → Int32 → FM → Option (Int32 × FM)) (hk111 : ∀ (a0 : Nat) (a2 : Int32) (a3 : Int64) (a7 : Int64) (a9 : Int32) (a10 : Int32) (M : FM), WI Z hx N M → Z a0 → pq (k111 a0 a2 a3 a7 a9 a10 M) (QA S Z hx N M)) (s0 : Int32) (M : FM) (w : WI Z hx N M) : pq (FX92_partFault_234 n k111 s0 M) (QA S Z hx N M) := by
  have hN := w.2.2.1
  have w0 := wk_r (S := S) w
  delta FX92_partFault_234 BX92_partFault_234
  exact pq_s w0
theorem wX92_partFault_211 (S Z : Nat → Prop) {hx N : Nat} (hS : ∀ x, fe_mem lX92_partFault x = true → S x) (n : Nat) (k111 : Nat → Int32 → Int64 → Int64 → Int32 → Int32 → FM → Option (Int32 × FM)) (hk111 : ∀ (a0 : Nat) (a2 : Int32) (a3 : Int64) (a7 : Int64) (a9 : Int32) (a10 : Int32) (M : FM), WI Z hx N M → Z a0 → pq (k111 a0 a2 a3 a7 a9 a10 M) (QA S Z hx N M)) (a0 : Nat) (a2 : Int32) (a3 : Int64) (a7 : Int64) (a10 : Int32) (s0 : Int32) (M : FM) (w : WI Z hx N M) (z_a0 : Z a0) : pq (FX92_partFault_211 n k111 a0 a2 a3 a7 a10 s0 M) (QA S Z hx N M) := by
  have hN := w.2.2.1
  have w0 := wk_r (S := S) w
  delta FX92_partFault_211 BX92_partFault_211
  exact q_tA hN w0 (hk111 _ _ _ _ _ _ _ w0.1 z_a0)
theorem wX92_partFault_210 (S Z : Nat → Prop) {hx N : Nat} (hS : ∀ x, fe_mem lX92_partFault x = true → S x) (n : Nat) (k111 : Nat → Int32 → Int64 → Int64 → Int32 → Int32 → FM → Option (Int32 × FM)) (hk111 : ∀ (a0 : Nat) (a2 : Int32) (a3 : Int64) (a7 : Int64) (a9 : Int32) (a10 : Int32) (M : FM), WI Z hx N M → Z a0 → pq (k111 a0 a2 a3 a7 a9 a10 M) (QA S Z hx N M)) (a0 : Nat) (a2 : Int32) (a3 : Int64) (a7 : Int64) (a10 : Int32) (M : FM) (w : WI Z hx N M) (z_a0 : Z a0) : pq (FX92_partFault_210 n k111 a0 a2 a3 a7 a10 M) (QA S Z hx N M) := by
  have hN := w.2.2.1
  have w0 := wk_r (S := S) w
  delta FX92_partFault_210 BX92_partFault_210
  exact q_tA hN w0 (wX92_partFault_211 S Z hS n _ hk111 _ _ _ _ _ _ _ w0.1 z_a0)
theorem wX92_partFault_206 (S Z : Nat → Prop) {hx N : Nat} (hS : ∀ x, fe_mem lX92_partFault x = true → S x) (n : Nat) (k111 : Nat → Int32 → Int64 → Int64 → Int32 → Int32 → FM → Option (Int32 × FM)) (hk111 : ∀ (a0 : Nat) (a2 : Int32) (a3 : Int64) (a7 : Int64) (a9 : Int32) (a10 : Int32) (M : FM), WI Z hx N M → Z a0 → pq (k111 a0 a2 a3 a7 a9 a10 M) (QA S Z hx N M)) (a0 : Nat) (a2 : Int32) (a3 : Int64) (a7 : Int64) (a10 : Int32) (M : FM) (w : WI Z hx N M) (z_a0 : Z a0) : pq (FX92_partFault_206 n k111 a0 a2 a3 a7 a10 M) (QA S Z hx N M) := by
  have hN := w.2.2.1
  have w0 := wk_r (S := S) w
  delta FX92_partFault_206 BX92_partFault_206
  exact q_tA hN w0 (wX92_partFault_211 S Z hS n _ hk111 _ _ _ _ _ _ _ w0.1 z_a0)
theorem wX92_partFault_174 (S Z : Nat → Prop) {hx N : Nat} (hS : ∀ x, fe_mem lX92_partFault x = true → S x) (n : Nat) (k111 : Nat → Int32 → Int64 → Int64 → Int32 → Int32 → FM → Option (Int32 × FM)) (hk111 : ∀ (a0 : Nat) (a2 : Int32) (a3 : Int64) (a7 : Int64) (a9 : Int32) (a10 : Int32) (M : FM), WI Z hx N M → Z a0 → pq (k111 a0 a2 a3 a7 a9 a10 M) (QA S Z hx N M)) (a0 : Nat) (a2 : Int32) (a3 : Int64) (a7 : Int64) (a9 : Int32) (a10 : Int32) (a11 : Int64) (a13 : Int64) (s0 : Int32) (M : FM) (w : WI Z hx N M) (z_a0 : Z a0) : pq (FX92_partFault_174 n k111 a0 a2 a3 a7 a9 a10 a11 a13 s0 M) (QA S Z hx N M) := by
  have hN := w.2.2.1
  have w0 := wk_r (S := S) w
  delta FX92_partFault_174 BX92_partFault_174
  refine pq_fi (fun _ => ?_) (fun _ => ?_)
  · exact q_tA hN w0 (wX92_partFault_210 S Z hS n _ hk111 _ _ _ _ _ _ w0.1 z_a0)
  · refine pq_fi (fun _ => ?_) (fun _ => ?_)
    · exact q_tA hN w0 (wX92_partFault_206 S Z hS n _ hk111 _ _ _ _ _ _ w0.1 z_a0)
    · refine pq_fi (fun _ => ?_) (fun _ => ?_)
      · exact q_tA hN w0 (wX92_partFault_206 S Z hS n _ hk111 _ _ _ _ _ _ w0.1 z_a0)
      · refine pq_fi (fun _ => ?_) (fun _ => ?_)
        · exact q_tA hN w0 (wX92_partFault_210 S Z hS n _ hk111 _ _ _ _ _ _ w0.1 z_a0)
        · exact q_tA hN w0 (wX92_partFault_206 S Z hS n _ hk111 _ _ _ _ _ _ w0.1 z_a0)
theorem wX92_partFault_173 (S Z : Nat → Prop) {hx N : Nat} (hS : ∀ x, fe_mem lX92_partFault x = true → S x) (n : Nat) (k111 : Nat → Int32 → Int64 → Int64 → Int32 → Int32 → FM → Option (Int32 × FM)) (hk111 : ∀ (a0 : Nat) (a2 : Int32) (a3 : Int64) (a7 : Int64) (a9 : Int32) (a10 : Int32) (M : FM), WI Z hx N M → Z a0 → pq (k111 a0 a2 a3 a7 a9 a10 M) (QA S Z hx N M)) (a0 : Nat) (a2 : Int32) (a3 : Int64) (a7 : Int64) (a9 : Int32) (a10 : Int32) (a11 : Int64) (a13 : Int64) (M : FM) (w : WI Z hx N M) (z_a0 : Z a0) : pq (FX92_partFault_173 n k111 a0 a2 a3 a7 a9 a10 a11 a13 M) (QA S Z hx N M) := by
  have hN := w.2.2.1
  have w0 := wk_r (S := S) w
  delta FX92_partFault_173 BX92_partFault_173
  exact q_tA hN w0 (wX92_partFault_174 S Z hS n _ hk111 _ _ _ _ _ _ _ _ _ _ w0.1 z_a0)
theorem wX92_partFault_111 (S Z : Nat → Prop) {hx N : Nat} (hS : ∀ x, fe_mem lX92_partFault x = true → S x) (n : Nat) (k111 : Nat → Int32 → Int64 → Int64 → Int32 → Int32 → FM → Option (Int32 × FM)) (hk111 : ∀ (a0 : Nat) (a2 : Int32) (a3 : Int64) (a7 : Int64) (a9 : Int32) (a10 : Int32) (M : FM), WI Z hx N M → Z a0 → pq (k111 a0 a2 a3 a7 a9 a10 M) (QA S Z hx N M)) (a0 : Nat) (a2 : Int32) (a3 : Int64) (a7 : Int64) (a9 : Int32) (a10 : Int32) (M : FM) (w : WI Z hx N M) (z_a0 : Z a0) : pq (FX92_partFault_111 n k111 a0 a2 a3 a7 a9 a10 M) (QA S Z hx N M) := by
  have hN := w.2.2.1
  have w0 := wk_r (S := S) w
  delta FX92_partFault_111 BX92_partFault_111
  refine pq_fi (fun _ => ?_) (fun _ => ?_)
  · refine pq_fi (fun _ => ?_) (fun _ => ?_)
    · exact q_tA hN w0 (wX92_partFault_234 S Z hS n _ hk111 _ _ w0.1 )
    · exact q_tA hN w0 (wX92_partFault_234 S Z hS n _ hk111 _ _ w0.1 )
  · refine pq_g (fun g1 => ?_)
    refine pq_b (wX92_number S Z (sb rfl hS) n _ _ _ _ w0.1 z_a0) (fun r2 K3 => ?_)
    have w4 := wk_t w0 K3 hN
    refine pq_g (fun g5 => ?_)
    refine pq_b (wX92_number S Z (sb rfl hS) n _ _ _ _ w4.1 z_a0) (fun r6 K7 => ?_)
    have w8 := wk_t w4 K7 hN
    refine pq_g (fun g9 => ?_)
    refine pq_b (wX92_number S Z (sb rfl hS) n _ _ _ _ w8.1 z_a0) (fun r10 K11 => ?_)
    have w12 := wk_t w8 K11 hN
    refine pq_fi (fun _ => ?_) (fun _ => ?_)
    · refine pq_fi (fun _ => ?_) (fun _ => ?_)
      · exact q_tA hN w12 (wX92_partFault_173 S Z hS n _ hk111 _ _ _ _ _ _ _ _ _ w12.1 z_a0)
      · refine pq_fi (fun _ => ?_) (fun _ => ?_)
        · exact q_tA hN w12 (wX92_partFault_173 S Z hS n _ hk111 _ _ _ _ _ _ _ _ _ w12.1 z_a0)
        · exact q_tA hN w12 (wX92_partFault_174 S Z hS n _ hk111 _ _ _ _ _ _ _ _ _ _ w12.1 z_a0)
    · exact q_tA hN w12 (wX92_partFault_173 S Z hS n _ hk111 _ _ _ _ _ _ _ _ _ w12.1 z_a0)
theorem wX92_partFault_105 (S Z : Nat → Prop) {hx N : Nat} (hS : ∀ x, fe_mem lX92_partFault x = true → S x) (n : Nat) (k111 : Nat → Int32 → Int64 → Int64 → Int32 → Int32 → FM → Option (Int32 × FM)) (hk111 : ∀ (a0 : Nat) (a2 : Int32) (a3 : Int64) (a7 : Int64) (a9 : Int32) (a10 : Int32) (M : FM), WI Z hx N M → Z a0 → pq (k111 a0 a2 a3 a7 a9 a10 M) (QA S Z hx N M)) (a0 : Nat) (a1 : Int32) (a2 : Int32) (a3 : Int64) (a7 : Int64) (M : FM) (w : WI Z hx N M) (z_a0 : Z a0) : pq (FX92_partFault_105 n k111 a0 a1 a2 a3 a7 M) (QA S Z hx N M) := by
  have hN := w.2.2.1
  have w0 := wk_r (S := S) w
  delta FX92_partFault_105 BX92_partFault_105
  exact q_tA hN w0 (hk111 _ _ _ _ _ _ _ w0.1 z_a0)
theorem wX92_partFault_102 (S Z : Nat → Prop) {hx N : Nat} (hS : ∀ x, fe_mem lX92_partFault x = true → S x) (n : Nat) (k111 : Nat → Int32 → Int64 → Int64 → Int32 → Int32 → FM → Option (Int32 × FM)) (hk111 : ∀ (a0 : Nat) (a2 : Int32) (a3 : Int64) (a7 : Int64) (a9 : Int32) (a10 : Int32) (M : FM), WI Z hx N M → Z a0 → pq (k111 a0 a2 a3 a7 a9 a10 M) (QA S Z hx N M)) (M : FM) (w : WI Z hx N M) : pq (FX92_partFault_102 n k111 M) (QA S Z hx N M) := by
  have hN := w.2.2.1
  have w0 := wk_r (S := S) w
  delta FX92_partFault_102 BX92_partFault_102
  exact pq_s w0
theorem wX92_partFault_77 (S Z : Nat → Prop) {hx N : Nat} (hS : ∀ x, fe_mem lX92_partFault x = true → S x) (n : Nat) (k111 : Nat → Int32 → Int64 → Int64 → Int32 → Int32 → FM → Option (Int32 × FM)) (hk111 : ∀ (a0 : Nat) (a2 : Int32) (a3 : Int64) (a7 : Int64) (a9 : Int32) (a10 : Int32) (M : FM), WI Z hx N M → Z a0 → pq (k111 a0 a2 a3 a7 a9 a10 M) (QA S Z hx N M)) (M : FM) (w : WI Z hx N M) : pq (FX92_partFault_77 n k111 M) (QA S Z hx N M) := by
  have hN := w.2.2.1
  have w0 := wk_r (S := S) w
  delta FX92_partFault_77 BX92_partFault_77
  exact pq_s w0
theorem wX92_partFault_0 (S Z : Nat → Prop) {hx N : Nat} (hS : ∀ x, fe_mem lX92_partFault x = true → S x) (n : Nat) (k111 : Nat → Int32 → Int64 → Int64 → Int32 → Int32 → FM → Option (Int32 × FM)) (hk111 : ∀ (a0 : Nat) (a2 : Int32) (a3 : Int64) (a7 : Int64) (a9 : Int32) (a10 : Int32) (M : FM), WI Z hx N M → Z a0 → pq (k111 a0 a2 a3 a7 a9 a10 M) (QA S Z hx N M)) (a0 : Nat) (a1 : Int32) (a2 : Int32) (M : FM) (w : WI Z hx N M) (z_a0 : Z a0) : pq (FX92_partFault_0 n k111 a0 a1 a2 M) (QA S Z hx N M) := by
  have hN := w.2.2.1
  have w0 := wk_r (S := S) w
  delta FX92_partFault_0 BX92_partFault_0
  refine pq_g (fun g1 => ?_)
  refine pq_b (wX92_number S Z (sb rfl hS) n _ _ _ _ w0.1 z_a0) (fun r2 K3 => ?_)
  have w4 := wk_t w0 K3 hN
  refine pq_fi (fun _ => ?_) (fun _ => ?_)
  · refine pq_g (fun g5 => ?_)
    refine pq_b (wX92_number S Z (sb rfl hS) n _ _ _ _ w4.1 z_a0) (fun r6 K7 => ?_)
    have w8 := wk_t w4 K7 hN
    refine pq_g (fun g9 => ?_)
    refine pq_b (wX92_number S Z (sb rfl hS) n _ _ _ _ w8.1 z_a0) (fun r10 K11 => ?_)
    have w12 := wk_t w8 K11 hN
    refine pq_g (fun g13 => ?_)
    refine pq_b (wX92_number S Z (sb rfl hS) n _ _ _ _ w12.1 z_a0) (fun r14 K15 => ?_)
    have w16 := wk_t w12 K15 hN
    refine pq_g (fun g17 => ?_)
    refine pq_b (wX92_number S Z (sb rfl hS) n _ _ _ _ w16.1 z_a0) (fun r18 K19 => ?_)
    have w20 := wk_t w16 K19 hN
    refine pq_g (fun g21 => ?_)
    refine pq_b (wX92_isOnTape S Z (sb rfl hS) _ _ _ _ w20.1 z_a0) (fun r22 K23 => ?_)
    have w24 := wk_t w20 K23 hN
    refine pq_fi (fun _ => ?_) (fun _ => ?_)
    · exact q_tA hN w24 (wX92_partFault_77 S Z hS n _ hk111 _ w24.1 )
    · refine pq_b (wX92_isAbove S Z (sb rfl hS) _ _ _ w24.1 ) (fun r25 K26 => ?_)
      have w27 := wk_t w24 K26 hN
      refine pq_fi (fun _ => ?_) (fun _ => ?_)
      · refine pq_fi (fun _ => ?_) (fun _ => ?_)
        · exact q_tA hN w27 (wX92_partFault_105 S Z hS n _ hk111 _ _ _ _ _ _ w27.1 z_a0)
        · refine pq_fi (fun _ => ?_) (fun _ => ?_)
          · exact q_tA hN w27 (wX92_partFault_102 S Z hS n _ hk111 _ w27.1 )
          · refine pq_b (wX93_areBytes S Z (sb rfl hS) _ _ _ w27.1 ) (fun r28 K29 => ?_)
            have w30 := wk_t w27 K29 hN
            refine pq_fi (fun _ => ?_) (fun _ => ?_)
            · exact q_tA hN w30 (wX92_partFault_102 S Z hS n _ hk111 _ w30.1 )
            · exact q_tA hN w30 (wX92_partFault_105 S Z hS n _ hk111 _ _ _ _ _ _ w30.1 z_a0)
      · exact q_tA hN w27 (wX92_partFault_77 S Z hS n _ hk111 _ w27.1 )
  · exact pq_s w4
theorem wX92_partFault_L (S Z : Nat → Prop) {hx N : Nat} (hS : ∀ x, fe_mem lX92_partFault x = true → S x) (n : Nat) : ∀ j : Nat, ∀ (a0 : Nat) (a2 : Int32) (a3 : Int64) (a7 : Int64) (a9 : Int32) (a10 : Int32) (M : FM), WI Z hx N M → Z a0 → pq (FX92_partFault_L111 n j a0 a2 a3 a7 a9 a10 M) (QA S Z hx N M)
  | 0 => by intros; exact pq_0
  | j + 1 => fun a0 a2 a3 a7 a9 a10 M w => wX92_partFault_111 S Z hS n _ (wX92_partFault_L S Z hS n j) a0 a2 a3 a7 a9 a10 M w
theorem wX92_partFault (S Z : Nat → Prop) {hx N : Nat} (hS : ∀ x, fe_mem lX92_partFault x = true → S x) (n : Nat) (a0 : Nat) (a1 : Int32) (a2 : Int32) (M : FM) (w : WI Z hx N M) (z_a0 : Z a0) : pq (FX92_partFault n a0 a1 a2 M) (QA S Z hx N M) := wX92_partFault_0 S Z hS n _ (wX92_partFault_L S Z hS n n) a0 a1 a2 M w z_a0
def lX92_imageFault : List Nat := []
theorem wX92_imageFault_222 (S Z : Nat → Prop) {hx N : Nat} (hS : ∀ x, fe_mem lX92_imageFault x = true → S x) (n : Nat) (k142 : Nat → Int64 → Int64 → Int32 → Int32 → FM → Option (Int32 × FM)) (hk142 : ∀ (a0 : Nat) (a1 : Int64) (a3 : Int64) (a5 : Int32) (a6 : Int32) (M : FM), WI Z hx N M → Z a0 → pq (k142 a0 a1 a3 a5 a6 M) (QA S Z hx N M)) (s0 : Int32) (M : FM) (w : WI Z hx N M) : pq (FX92_imageFault_222 n k142 s0 M) (QA S Z hx N M) := by
  have hN := w.2.2.1
  have w0 := wk_r (S := S) w
  delta FX92_imageFault_222 BX92_imageFault_222
  exact pq_s w0
theorem wX92_imageFault_220 (S Z : Nat → Prop) {hx N : Nat} (hS : ∀ x, fe_mem lX92_imageFault x = true → S x) (n : Nat) (k142 : Nat → Int64 → Int64 → Int32 → Int32 → FM → Option (Int32 × FM)) (hk142 : ∀ (a0 : Nat) (a1 : Int64) (a3 : Int64) (a5 : Int32) (a6 : Int32) (M : FM), WI Z hx N M → Z a0 → pq (k142 a0 a1 a3 a5 a6 M) (QA S Z hx N M)) (M : FM) (w : WI Z hx N M) : pq (FX92_imageFault_220 n k142 M) (QA S Z hx N M) := by
  have hN := w.2.2.1
  have w0 := wk_r (S := S) w
  delta FX92_imageFault_220 BX92_imageFault_220
  exact q_tA hN w0 (wX92_imageFault_222 S Z hS n _ hk142 _ _ w0.1 )
theorem wX92_imageFault_177 (S Z : Nat → Prop) {hx N : Nat} (hS : ∀ x, fe_mem lX92_imageFault x = true → S x) (n : Nat) (k142 : Nat → Int64 → Int64 → Int32 → Int32 → FM → Option (Int32 × FM)) (hk142 : ∀ (a0 : Nat) (a1 : Int64) (a3 : Int64) (a5 : Int32) (a6 : Int32) (M : FM), WI Z hx N M → Z a0 → pq (k142 a0 a1 a3 a5 a6 M) (QA S Z hx N M)) (a0 : Nat) (a5 : Int32) (M : FM) (w : WI Z hx N M) (z_a0 : Z a0) : pq (FX92_imageFault_177 n k142 a0 a5 M) (QA S Z hx N M) := by
  have hN := w.2.2.1
  have w0 := wk_r (S := S) w
  delta FX92_imageFault_177 BX92_imageFault_177
  refine pq_g (fun g1 => ?_)
  refine pq_b (wX92_number S Z (sb rfl hS) n _ _ _ _ w0.1 z_a0) (fun r2 K3 => ?_)
  have w4 := wk_t w0 K3 hN
  refine pq_fi (fun _ => ?_) (fun _ => ?_)
  · refine pq_n ?_
    refine pq_fi (fun _ => ?_) (fun _ => ?_)
    · refine pq_b (wX93_isByte S Z (sb rfl hS) _ _ w4.1 ) (fun r5 K6 => ?_)
      have w7 := wk_t w4 K6 hN
      refine pq_fi (fun _ => ?_) (fun _ => ?_)
      · exact q_tA hN w7 (wX92_imageFault_220 S Z hS n _ hk142 _ w7.1 )
      · exact q_tA hN w7 (wX92_imageFault_222 S Z hS n _ hk142 _ _ w7.1 )
    · exact q_tA hN w4 (wX92_imageFault_220 S Z hS n _ hk142 _ w4.1 )
  · exact q_tA hN w4 (wX92_imageFault_222 S Z hS n _ hk142 _ _ w4.1 )
theorem wX92_imageFault_142 (S Z : Nat → Prop) {hx N : Nat} (hS : ∀ x, fe_mem lX92_imageFault x = true → S x) (n : Nat) (k142 : Nat → Int64 → Int64 → Int32 → Int32 → FM → Option (Int32 × FM)) (hk142 : ∀ (a0 : Nat) (a1 : Int64) (a3 : Int64) (a5 : Int32) (a6 : Int32) (M : FM), WI Z hx N M → Z a0 → pq (k142 a0 a1 a3 a5 a6 M) (QA S Z hx N M)) (a0 : Nat) (a1 : Int64) (a3 : Int64) (a5 : Int32) (a6 : Int32) (M : FM) (w : WI Z hx N M) (z_a0 : Z a0) : pq (FX92_imageFault_142 n k142 a0 a1 a3 a5 a6 M) (QA S Z hx N M) := by
  have hN := w.2.2.1
  have w0 := wk_r (S := S) w
  delta FX92_imageFault_142 BX92_imageFault_142
  refine pq_fi (fun _ => ?_) (fun _ => ?_)
  · exact q_tA hN w0 (wX92_imageFault_177 S Z hS n _ hk142 _ _ _ w0.1 z_a0)
  · refine pq_fi (fun _ => ?_) (fun _ => ?_)
    · refine pq_g (fun g1 => ?_)
      refine pq_b (wX92_partFault S Z (sb rfl hS) n _ _ _ _ w0.1 z_a0) (fun r2 K3 => ?_)
      have w4 := wk_t w0 K3 hN
      exact q_tA hN w4 (hk142 _ _ _ _ _ _ w4.1 z_a0)
    · exact q_tA hN w0 (wX92_imageFault_177 S Z hS n _ hk142 _ _ _ w0.1 z_a0)
theorem wX92_imageFault_134 (S Z : Nat → Prop) {hx N : Nat} (hS : ∀ x, fe_mem lX92_imageFault x = true → S x) (n : Nat) (k142 : Nat → Int64 → Int64 → Int32 → Int32 → FM → Option (Int32 × FM)) (hk142 : ∀ (a0 : Nat) (a1 : Int64) (a3 : Int64) (a5 : Int32) (a6 : Int32) (M : FM), WI Z hx N M → Z a0 → pq (k142 a0 a1 a3 a5 a6 M) (QA S Z hx N M)) (M : FM) (w : WI Z hx N M) : pq (FX92_imageFault_134 n k142 M) (QA S Z hx N M) := by
  have hN := w.2.2.1
  have w0 := wk_r (S := S) w
  delta FX92_imageFault_134 BX92_imageFault_134
  exact pq_s w0
theorem wX92_imageFault_60 (S Z : Nat → Prop) {hx N : Nat} (hS : ∀ x, fe_mem lX92_imageFault x = true → S x) (n : Nat) (k142 : Nat → Int64 → Int64 → Int32 → Int32 → FM → Option (Int32 × FM)) (hk142 : ∀ (a0 : Nat) (a1 : Int64) (a3 : Int64) (a5 : Int32) (a6 : Int32) (M : FM), WI Z hx N M → Z a0 → pq (k142 a0 a1 a3 a5 a6 M) (QA S Z hx N M)) (M : FM) (w : WI Z hx N M) : pq (FX92_imageFault_60 n k142 M) (QA S Z hx N M) := by
  have hN := w.2.2.1
  have w0 := wk_r (S := S) w
  delta FX92_imageFault_60 BX92_imageFault_60
  exact pq_s w0
theorem wX92_imageFault_0 (S Z : Nat → Prop) {hx N : Nat} (hS : ∀ x, fe_mem lX92_imageFault x = true → S x) (n : Nat) (k142 : Nat → Int64 → Int64 → Int32 → Int32 → FM → Option (Int32 × FM)) (hk142 : ∀ (a0 : Nat) (a1 : Int64) (a3 : Int64) (a5 : Int32) (a6 : Int32) (M : FM), WI Z hx N M → Z a0 → pq (k142 a0 a1 a3 a5 a6 M) (QA S Z hx N M)) (a0 : Nat) (M : FM) (w : WI Z hx N M) (z_a0 : Z a0) : pq (FX92_imageFault_0 n k142 a0 M) (QA S Z hx N M) := by
  have hN := w.2.2.1
  have w0 := wk_r (S := S) w
  delta FX92_imageFault_0 BX92_imageFault_0
  refine pq_g (fun g1 => ?_)
  refine pq_fi (fun _ => ?_) (fun _ => ?_)
  · refine pq_g (fun g2 => ?_)
    refine pq_b (wX92_begins S Z (sb rfl hS) _ _ w0.1 z_a0) (fun r3 K4 => ?_)
    have w5 := wk_t w0 K4 hN
    refine pq_fi (fun _ => ?_) (fun _ => ?_)
    · exact pq_s w5
    · refine pq_g (fun g6 => ?_)
      refine pq_b (wX92_number S Z (sb rfl hS) n _ _ _ _ w5.1 z_a0) (fun r7 K8 => ?_)
      have w9 := wk_t w5 K8 hN
      refine pq_fi (fun _ => ?_) (fun _ => ?_)
      · refine pq_g (fun g10 => ?_)
        refine pq_b (wX92_number S Z (sb rfl hS) n _ _ _ _ w9.1 z_a0) (fun r11 K12 => ?_)
        have w13 := wk_t w9 K12 hN
        refine pq_fi (fun _ => ?_) (fun _ => ?_)
        · refine pq_g (fun g14 => ?_)
          refine pq_b (wX92_number S Z (sb rfl hS) n _ _ _ _ w13.1 z_a0) (fun r15 K16 => ?_)
          have w17 := wk_t w13 K16 hN
          refine pq_fi (fun _ => ?_) (fun _ => ?_)
          · refine pq_g (fun g18 => ?_)
            refine pq_b (wX92_number S Z (sb rfl hS) n _ _ _ _ w17.1 z_a0) (fun r19 K20 => ?_)
            have w21 := wk_t w17 K20 hN
            refine pq_g (fun g22 => ?_)
            refine pq_b (wX92_number S Z (sb rfl hS) n _ _ _ _ w21.1 z_a0) (fun r23 K24 => ?_)
            have w25 := wk_t w21 K24 hN
            refine pq_g (fun g26 => ?_)
            refine pq_b (wX92_number S Z (sb rfl hS) n _ _ _ _ w25.1 z_a0) (fun r27 K28 => ?_)
            have w29 := wk_t w25 K28 hN
            refine pq_fi (fun _ => ?_) (fun _ => ?_)
            · refine pq_g (fun g30 => ?_)
              refine pq_b (wX92_number S Z (sb rfl hS) n _ _ _ _ w29.1 z_a0) (fun r31 K32 => ?_)
              have w33 := wk_t w29 K32 hN
              refine pq_fi (fun _ => ?_) (fun _ => ?_)
              · refine pq_fi (fun _ => ?_) (fun _ => ?_)
                · exact q_tA hN w33 (wX92_imageFault_134 S Z hS n _ hk142 _ w33.1 )
                · refine pq_fi (fun _ => ?_) (fun _ => ?_)
                  · exact q_tA hN w33 (wX92_imageFault_134 S Z hS n _ hk142 _ w33.1 )
                  · refine pq_g (fun g34 => ?_)
                    refine pq_b (wX92_isOnTape S Z (sb rfl hS) _ _ _ _ w33.1 z_a0) (fun r35 K36 => ?_)
                    have w37 := wk_t w33 K36 hN
                    refine pq_fi (fun _ => ?_) (fun _ => ?_)
                    · exact q_tA hN w37 (wX92_imageFault_134 S Z hS n _ hk142 _ w37.1 )
                    · exact q_tA hN w37 (hk142 _ _ _ _ _ _ w37.1 z_a0)
              · exact q_tA hN w33 (wX92_imageFault_134 S Z hS n _ hk142 _ w33.1 )
            · exact q_tA hN w29 (wX92_imageFault_134 S Z hS n _ hk142 _ w29.1 )
          · exact q_tA hN w17 (wX92_imageFault_60 S Z hS n _ hk142 _ w17.1 )
        · exact q_tA hN w13 (wX92_imageFault_60 S Z hS n _ hk142 _ w13.1 )
      · exact q_tA hN w9 (wX92_imageFault_60 S Z hS n _ hk142 _ w9.1 )
  · exact pq_s w0
theorem wX92_imageFault_L (S Z : Nat → Prop) {hx N : Nat} (hS : ∀ x, fe_mem lX92_imageFault x = true → S x) (n : Nat) : ∀ j : Nat, ∀ (a0 : Nat) (a1 : Int64) (a3 : Int64) (a5 : Int32) (a6 : Int32) (M : FM), WI Z hx N M → Z a0 → pq (FX92_imageFault_L142 n j a0 a1 a3 a5 a6 M) (QA S Z hx N M)
  | 0 => by intros; exact pq_0
  | j + 1 => fun a0 a1 a3 a5 a6 M w => wX92_imageFault_142 S Z hS n _ (wX92_imageFault_L S Z hS n j) a0 a1 a3 a5 a6 M w
theorem wX92_imageFault (S Z : Nat → Prop) {hx N : Nat} (hS : ∀ x, fe_mem lX92_imageFault x = true → S x) (n : Nat) (a0 : Nat) (M : FM) (w : WI Z hx N M) (z_a0 : Z a0) : pq (FX92_imageFault n a0 M) (QA S Z hx N M) := wX92_imageFault_0 S Z hS n _ (wX92_imageFault_L S Z hS n n) a0 M w z_a0
def lX92_loadImage : List Nat := [313, 1388, 1389, 1391]
theorem wX92_loadImage_156 (S Z : Nat → Prop) {hx N : Nat} (hS : ∀ x, fe_mem lX92_loadImage x = true → S x) (n : Nat) (k33 : Nat → Int32 → Int32 → Int32 → FM → Option (Int32 × FM)) (hk33 : ∀ (a0 : Nat) (a2 : Int32) (a3 : Int32) (a4 : Int32) (M : FM), WI Z hx N M → Z a0 → pq (k33 a0 a2 a3 a4 M) (QA S Z hx N M)) (k116 : Nat → Int32 → Int32 → Int32 → Int32 → Int64 → Int64 → Int64 → Int64 → FM → Option (Int32 × FM)) (hk116 : ∀ (a0 : Nat) (a2 : Int32) (a3 : Int32) (a4 : Int32) (a5 : Int32) (a6 : Int64) (a8 : Int64) (a10 : Int64) (a12 : Int64) (M : FM), WI Z hx N M → Z a0 → pq (k116 a0 a2 a3 a4 a5 a6 a8 a10 a12 M) (QA S Z hx N M)) (a0 : Nat) (a2 : Int32) (a3 : Int32) (a4 : Int32) (a5 : Int32) (a6 : Int64) (a8 : Int64) (a10 : Int64) (a12 : Int64) (s0 : Nat) (s1 : Int64) (s2 : Int32) (M : FM) (w : WI Z hx N M) (z_a0 : Z a0) (z_s0 : Z s0) : pq (FX92_loadImage_156 n k33 k116 a0 a2 a3 a4 a5 a6 a8 a10 a12 s0 s1 s2 M) (QA S Z hx N M) := by
  have hN := w.2.2.1
  have w0 := wk_r (S := S) w
  delta FX92_loadImage_156 BX92_loadImage_156
  refine pq_g (fun g1 => ?_)
  refine pq_b (wX93_put S Z (sb rfl hS) n _ _ _ _ w0.1 z_s0) (fun r2 K3 => ?_)
  have w4 := wk_t w0 K3 hN
  exact q_tA hN w4 (hk116 _ _ _ _ _ _ _ _ _ _ w4.1 z_a0)
theorem wX92_loadImage_116 (S Z : Nat → Prop) {hx N : Nat} (hS : ∀ x, fe_mem lX92_loadImage x = true → S x) (n : Nat) (k33 : Nat → Int32 → Int32 → Int32 → FM → Option (Int32 × FM)) (hk33 : ∀ (a0 : Nat) (a2 : Int32) (a3 : Int32) (a4 : Int32) (M : FM), WI Z hx N M → Z a0 → pq (k33 a0 a2 a3 a4 M) (QA S Z hx N M)) (k116 : Nat → Int32 → Int32 → Int32 → Int32 → Int64 → Int64 → Int64 → Int64 → FM → Option (Int32 × FM)) (hk116 : ∀ (a0 : Nat) (a2 : Int32) (a3 : Int32) (a4 : Int32) (a5 : Int32) (a6 : Int64) (a8 : Int64) (a10 : Int64) (a12 : Int64) (M : FM), WI Z hx N M → Z a0 → pq (k116 a0 a2 a3 a4 a5 a6 a8 a10 a12 M) (QA S Z hx N M)) (a0 : Nat) (a2 : Int32) (a3 : Int32) (a4 : Int32) (a5 : Int32) (a6 : Int64) (a8 : Int64) (a10 : Int64) (a12 : Int64) (M : FM) (w : WI Z hx N M) (z_a0 : Z a0) : pq (FX92_loadImage_116 n k33 k116 a0 a2 a3 a4 a5 a6 a8 a10 a12 M) (QA S Z hx N M) := by
  have hN := w.2.2.1
  have w0 := wk_r (S := S) w
  delta FX92_loadImage_116 BX92_loadImage_116
  refine pq_fi (fun _ => ?_) (fun _ => ?_)
  · exact q_tA hN w0 (hk33 _ _ _ _ _ w0.1 z_a0)
  · refine pq_g (fun g1 => ?_)
    have z2 := wk_z (i := 0) (f := 298) w0 rfl z_a0
    refine pq_fi (fun _ => ?_) (fun _ => ?_)
    · exact q_tA hN w0 (wX92_loadImage_156 S Z hS n _ hk33 _ hk116 _ _ _ _ _ _ _ _ _ _ _ _ _ w0.1 z_a0 z2)
    · refine pq_g (fun g3 => ?_)
      have z4 := wk_z (i := 0) (f := 308) w0 rfl z_a0
      have f5 := sS_308 w0.1.1 g3
      refine pq_g (fun g6 => ?_)
      exact q_tA hN w0 (wX92_loadImage_156 S Z hS n _ hk33 _ hk116 _ _ _ _ _ _ _ _ _ _ _ _ _ w0.1 z_a0 z2)
theorem wX92_loadImage_111 (S Z : Nat → Prop) {hx N : Nat} (hS : ∀ x, fe_mem lX92_loadImage x = true → S x) (n : Nat) (k33 : Nat → Int32 → Int32 → Int32 → FM → Option (Int32 × FM)) (hk33 : ∀ (a0 : Nat) (a2 : Int32) (a3 : Int32) (a4 : Int32) (M : FM), WI Z hx N M → Z a0 → pq (k33 a0 a2 a3 a4 M) (QA S Z hx N M)) (k116 : Nat → Int32 → Int32 → Int32 → Int32 → Int64 → Int64 → Int64 → Int64 → FM → Option (Int32 × FM)) (hk116 : ∀ (a0 : Nat) (a2 : Int32) (a3 : Int32) (a4 : Int32) (a5 : Int32) (a6 : Int64) (a8 : Int64) (a10 : Int64) (a12 : Int64) (M : FM), WI Z hx N M → Z a0 → pq (k116 a0 a2 a3 a4 a5 a6 a8 a10 a12 M) (QA S Z hx N M)) (a0 : Nat) (a2 : Int32) (a3 : Int32) (a4 : Int32) (a5 : Int32) (a6 : Int64) (a8 : Int64) (s0 : Int64) (M : FM) (w : WI Z hx N M) (z_a0 : Z a0) : pq (FX92_loadImage_111 n k33 k116 a0 a2 a3 a4 a5 a6 a8 s0 M) (QA S Z hx N M) := by
  have hN := w.2.2.1
  have w0 := wk_r (S := S) w
  delta FX92_loadImage_111 BX92_loadImage_111
  exact q_tA hN w0 (hk116 _ _ _ _ _ _ _ _ _ _ w0.1 z_a0)
theorem wX92_loadImage_33 (S Z : Nat → Prop) {hx N : Nat} (hS : ∀ x, fe_mem lX92_loadImage x = true → S x) (n : Nat) (k33 : Nat → Int32 → Int32 → Int32 → FM → Option (Int32 × FM)) (hk33 : ∀ (a0 : Nat) (a2 : Int32) (a3 : Int32) (a4 : Int32) (M : FM), WI Z hx N M → Z a0 → pq (k33 a0 a2 a3 a4 M) (QA S Z hx N M)) (k116 : Nat → Int32 → Int32 → Int32 → Int32 → Int64 → Int64 → Int64 → Int64 → FM → Option (Int32 × FM)) (hk116 : ∀ (a0 : Nat) (a2 : Int32) (a3 : Int32) (a4 : Int32) (a5 : Int32) (a6 : Int64) (a8 : Int64) (a10 : Int64) (a12 : Int64) (M : FM), WI Z hx N M → Z a0 → pq (k116 a0 a2 a3 a4 a5 a6 a8 a10 a12 M) (QA S Z hx N M)) (a0 : Nat) (a2 : Int32) (a3 : Int32) (a4 : Int32) (M : FM) (w : WI Z hx N M) (z_a0 : Z a0) : pq (FX92_loadImage_33 n k33 k116 a0 a2 a3 a4 M) (QA S Z hx N M) := by
  have hN := w.2.2.1
  have w0 := wk_r (S := S) w
  delta FX92_loadImage_33 BX92_loadImage_33
  refine pq_fi (fun _ => ?_) (fun _ => ?_)
  · refine pq_g (fun g1 => ?_)
    refine pq_b (wX92_number S Z (sb rfl hS) n _ _ _ _ w0.1 z_a0) (fun r2 K3 => ?_)
    have w4 := wk_t w0 K3 hN
    refine pq_g (fun g5 => ?_)
    extract_lets +onlyGivenNames M7
    have w6 : Wk S Z hx N M M7 := wk_fL hN w4 rfl rfl g5 z_a0 (Or.inr (hS 313 rfl))
    exact pq_s w6
  · refine pq_g (fun g8 => ?_)
    refine pq_b (wX92_number S Z (sb rfl hS) n _ _ _ _ w0.1 z_a0) (fun r9 K10 => ?_)
    have w11 := wk_t w0 K10 hN
    refine pq_g (fun g12 => ?_)
    refine pq_b (wX92_number S Z (sb rfl hS) n _ _ _ _ w11.1 z_a0) (fun r13 K14 => ?_)
    have w15 := wk_t w11 K14 hN
    refine pq_g (fun g16 => ?_)
    refine pq_b (wX92_number S Z (sb rfl hS) n _ _ _ _ w15.1 z_a0) (fun r17 K18 => ?_)
    have w19 := wk_t w15 K18 hN
    refine pq_g (fun g20 => ?_)
    refine pq_b (wX92_number S Z (sb rfl hS) n _ _ _ _ w19.1 z_a0) (fun r21 K22 => ?_)
    have w23 := wk_t w19 K22 hN
    refine pq_fi (fun _ => ?_) (fun _ => ?_)
    · refine pq_g (fun g24 => ?_)
      refine pq_b (wX92_number S Z (sb rfl hS) n _ _ _ _ w23.1 z_a0) (fun r25 K26 => ?_)
      have w27 := wk_t w23 K26 hN
      exact q_tA hN w27 (wX92_loadImage_111 S Z hS n _ hk33 _ hk116 _ _ _ _ _ _ _ _ _ w27.1 z_a0)
    · exact q_tA hN w23 (wX92_loadImage_111 S Z hS n _ hk33 _ hk116 _ _ _ _ _ _ _ _ _ w23.1 z_a0)
theorem wX92_loadImage_0 (S Z : Nat → Prop) {hx N : Nat} (hS : ∀ x, fe_mem lX92_loadImage x = true → S x) (n : Nat) (k33 : Nat → Int32 → Int32 → Int32 → FM → Option (Int32 × FM)) (hk33 : ∀ (a0 : Nat) (a2 : Int32) (a3 : Int32) (a4 : Int32) (M : FM), WI Z hx N M → Z a0 → pq (k33 a0 a2 a3 a4 M) (QA S Z hx N M)) (k116 : Nat → Int32 → Int32 → Int32 → Int32 → Int64 → Int64 → Int64 → Int64 → FM → Option (Int32 × FM)) (hk116 : ∀ (a0 : Nat) (a2 : Int32) (a3 : Int32) (a4 : Int32) (a5 : Int32) (a6 : Int64) (a8 : Int64) (a10 : Int64) (a12 : Int64) (M : FM), WI Z hx N M → Z a0 → pq (k116 a0 a2 a3 a4 a5 a6 a8 a10 a12 M) (QA S Z hx N M)) (a0 : Nat) (M : FM) (w : WI Z hx N M) (z_a0 : Z a0) : pq (FX92_loadImage_0 n k33 k116 a0 M) (QA S Z hx N M) := by
  have hN := w.2.2.1
  have w0 := wk_r (S := S) w
  delta FX92_loadImage_0 BX92_loadImage_0
  refine pq_g (fun g1 => ?_)
  refine pq_b (wX92_imageFault S Z (sb rfl hS) n _ _ w0.1 z_a0) (fun r2 K3 => ?_)
  have w4 := wk_t w0 K3 hN
  refine pq_fi (fun _ => ?_) (fun _ => ?_)
  · refine pq_g (fun g5 => ?_)
    refine pq_b (wX92_number S Z (sb rfl hS) n _ _ _ _ w4.1 z_a0) (fun r6 K7 => ?_)
    have w8 := wk_t w4 K7 hN
    refine pq_g (fun g9 => ?_)
    refine pq_b (wX92_number S Z (sb rfl hS) n _ _ _ _ w8.1 z_a0) (fun r10 K11 => ?_)
    have w12 := wk_t w8 K11 hN
    exact q_tA hN w12 (hk33 _ _ _ _ _ w12.1 z_a0)
  · exact pq_s w4
theorem wX92_loadImage_L (S Z : Nat → Prop) {hx N : Nat} (hS : ∀ x, fe_mem lX92_loadImage x = true → S x) (n : Nat) : ∀ j : Nat, (∀ (a0 : Nat) (a2 : Int32) (a3 : Int32) (a4 : Int32) (M : FM), WI Z hx N M → Z a0 → pq ((FX92_loadImage_L n j).1 a0 a2 a3 a4 M) (QA S Z hx N M)) ∧ (∀ (a0 : Nat) (a2 : Int32) (a3 : Int32) (a4 : Int32) (a5 : Int32) (a6 : Int64) (a8 : Int64) (a10 : Int64) (a12 : Int64) (M : FM), WI Z hx N M → Z a0 → pq ((FX92_loadImage_L n j).2 a0 a2 a3 a4 a5 a6 a8 a10 a12 M) (QA S Z hx N M))
  | 0 => ⟨by intros; exact pq_0, by intros; exact pq_0⟩
  | j + 1 => ⟨fun a0 a2 a3 a4 M w => wX92_loadImage_33 S Z hS n _ (wX92_loadImage_L S Z hS n j).1 _ (wX92_loadImage_L S Z hS n j).2 a0 a2 a3 a4 M w, fun a0 a2 a3 a4 a5 a6 a8 a10 a12 M w => wX92_loadImage_116 S Z hS n _ (wX92_loadImage_L S Z hS n j).1 _ (wX92_loadImage_L S Z hS n j).2 a0 a2 a3 a4 a5 a6 a8 a10 a12 M w⟩
theorem wX92_loadImage (S Z : Nat → Prop) {hx N : Nat} (hS : ∀ x, fe_mem lX92_loadImage x = true → S x) (n : Nat) (a0 : Nat) (M : FM) (w : WI Z hx N M) (z_a0 : Z a0) : pq (FX92_loadImage n a0 M) (QA S Z hx N M) := wX92_loadImage_0 S Z hS n _ (wX92_loadImage_L S Z hS n n).1 _ (wX92_loadImage_L S Z hS n n).2 a0 M w z_a0
def lX92_loadInput : List Nat := [312, 1310]
theorem wX92_loadInput_58 (S Z : Nat → Prop) {hx N : Nat} (hS : ∀ x, fe_mem lX92_loadInput x = true → S x) (n : Nat) (k2 : Nat → Int32 → FM → Option (Int32 × FM)) (hk2 : ∀ (a0 : Nat) (a1 : Int32) (M : FM), WI Z hx N M → Z a0 → pq (k2 a0 a1 M) (QA S Z hx N M)) (a1 : Int32) (M : FM) (w : WI Z hx N M) : pq (FX92_loadInput_58 n k2 a1 M) (QA S Z hx N M) := by
  have hN := w.2.2.1
  have w0 := wk_r (S := S) w
  delta FX92_loadInput_58 BX92_loadInput_58
  exact pq_s w0
theorem wX92_loadInput_2 (S Z : Nat → Prop) {hx N : Nat} (hS : ∀ x, fe_mem lX92_loadInput x = true → S x) (n : Nat) (k2 : Nat → Int32 → FM → Option (Int32 × FM)) (hk2 : ∀ (a0 : Nat) (a1 : Int32) (M : FM), WI Z hx N M → Z a0 → pq (k2 a0 a1 M) (QA S Z hx N M)) (a0 : Nat) (a1 : Int32) (M : FM) (w : WI Z hx N M) (z_a0 : Z a0) : pq (FX92_loadInput_2 n k2 a0 a1 M) (QA S Z hx N M) := by
  have hN := w.2.2.1
  have w0 := wk_r (S := S) w
  delta FX92_loadInput_2 BX92_loadInput_2
  refine pq_g (fun g1 => ?_)
  refine pq_fi (fun _ => ?_) (fun _ => ?_)
  · exact q_tA hN w0 (wX92_loadInput_58 S Z hS n _ hk2 _ _ w0.1 )
  · refine pq_g (fun g2 => ?_)
    refine pq_fi (fun _ => ?_) (fun _ => ?_)
    · exact q_tA hN w0 (wX92_loadInput_58 S Z hS n _ hk2 _ _ w0.1 )
    · refine pq_g (fun g3 => ?_)
      have z4 := wk_z (i := 0) (f := 310) w0 rfl z_a0
      have f5 := sS_310 w0.1.1 g3
      refine pq_g (fun g6 => ?_)
      refine pq_g (fun g7 => ?_)
      refine pq_n ?_
      refine pq_g (fun g8 => ?_)
      have z9 := wk_z (i := 0) (f := 308) w0 rfl z_a0
      have f10 := sS_308 w0.1.1 g8
      refine pq_g (fun g11 => ?_)
      refine pq_g (fun g12 => ?_)
      extract_lets +onlyGivenNames M14
      have w13 : Wk S Z hx N M M14 := wk_aI hN w0 rfl g12.1 z4 (sy_s f5 (hS 1310 rfl))
      refine pq_g (fun g15 => ?_)
      refine pq_g (fun g16 => ?_)
      extract_lets +onlyGivenNames M18
      have w17 : Wk S Z hx N M M18 := wk_fI hN w13 rfl rfl g16 z_a0 (Or.inr (hS 312 rfl))
      exact q_tA hN w17 (hk2 _ _ _ w17.1 z_a0)
theorem wX92_loadInput_0 (S Z : Nat → Prop) {hx N : Nat} (hS : ∀ x, fe_mem lX92_loadInput x = true → S x) (n : Nat) (k2 : Nat → Int32 → FM → Option (Int32 × FM)) (hk2 : ∀ (a0 : Nat) (a1 : Int32) (M : FM), WI Z hx N M → Z a0 → pq (k2 a0 a1 M) (QA S Z hx N M)) (a0 : Nat) (M : FM) (w : WI Z hx N M) (z_a0 : Z a0) : pq (FX92_loadInput_0 n k2 a0 M) (QA S Z hx N M) := by
  have hN := w.2.2.1
  have w0 := wk_r (S := S) w
  delta FX92_loadInput_0 BX92_loadInput_0
  exact q_tA hN w0 (hk2 _ _ _ w0.1 z_a0)
theorem wX92_loadInput_L (S Z : Nat → Prop) {hx N : Nat} (hS : ∀ x, fe_mem lX92_loadInput x = true → S x) (n : Nat) : ∀ j : Nat, ∀ (a0 : Nat) (a1 : Int32) (M : FM), WI Z hx N M → Z a0 → pq (FX92_loadInput_L2 n j a0 a1 M) (QA S Z hx N M)
  | 0 => by intros; exact pq_0
  | j + 1 => fun a0 a1 M w => wX92_loadInput_2 S Z hS n _ (wX92_loadInput_L S Z hS n j) a0 a1 M w
theorem wX92_loadInput (S Z : Nat → Prop) {hx N : Nat} (hS : ∀ x, fe_mem lX92_loadInput x = true → S x) (n : Nat) (a0 : Nat) (M : FM) (w : WI Z hx N M) (z_a0 : Z a0) : pq (FX92_loadInput n a0 M) (QA S Z hx N M) := wX92_loadInput_0 S Z hS n _ (wX92_loadInput_L S Z hS n n) a0 M w z_a0
def lX95_noPlace : List Nat := [324]
theorem wX95_noPlace_37 (S Z : Nat → Prop) {hx N : Nat} (hS : ∀ x, fe_mem lX95_noPlace x = true → S x) (s0 : Int32) (M : FM) (w : WI Z hx N M) : pq (FX95_noPlace_37 s0 M) (QA S Z hx N M) := by
  have hN := w.2.2.1
  have w0 := wk_r (S := S) w
  delta FX95_noPlace_37 BX95_noPlace_37
  refine pq_g (fun _ => ?_)
  exact pq_s w0
theorem wX95_noPlace_22 (S Z : Nat → Prop) {hx N : Nat} (hS : ∀ x, fe_mem lX95_noPlace x = true → S x) (a0 : Nat) (s0 : Nat) (s1 : Int32) (M : FM) (w : WI Z hx N M) (z_a0 : Z a0) (z_s0 : Z s0) : pq (FX95_noPlace_22 a0 s0 s1 M) (QA S Z hx N M) := by
  have hN := w.2.2.1
  have w0 := wk_r (S := S) w
  delta FX95_noPlace_22 BX95_noPlace_22
  refine pq_g (fun g1 => ?_)
  extract_lets +onlyGivenNames M3
  have w2 : Wk S Z hx N M M3 := wk_fI hN w0 rfl rfl g1 z_s0 (Or.inr (hS 324 rfl))
  refine pq_g (fun g4 => ?_)
  refine pq_fi (fun _ => ?_) (fun _ => ?_)
  · exact q_tA hN w2 (wX95_noPlace_37 S Z hS _ _ w2.1 )
  · exact q_tA hN w2 (wX95_noPlace_37 S Z hS _ _ w2.1 )
theorem wX95_noPlace_17 (S Z : Nat → Prop) {hx N : Nat} (hS : ∀ x, fe_mem lX95_noPlace x = true → S x) (a0 : Nat) (s0 : Nat) (M : FM) (w : WI Z hx N M) (z_a0 : Z a0) (z_s0 : Z s0) : pq (FX95_noPlace_17 a0 s0 M) (QA S Z hx N M) := by
  have hN := w.2.2.1
  have w0 := wk_r (S := S) w
  delta FX95_noPlace_17 BX95_noPlace_17
  exact q_tA hN w0 (wX95_noPlace_22 S Z hS _ _ _ _ w0.1 z_a0 z_s0)
theorem wX95_noPlace_0 (S Z : Nat → Prop) {hx N : Nat} (hS : ∀ x, fe_mem lX95_noPlace x = true → S x) (a0 : Nat) (a1 : Int32) (M : FM) (w : WI Z hx N M) (z_a0 : Z a0) : pq (FX95_noPlace_0 a0 a1 M) (QA S Z hx N M) := by
  have hN := w.2.2.1
  have w0 := wk_r (S := S) w
  delta FX95_noPlace_0 BX95_noPlace_0
  refine pq_fi (fun _ => ?_) (fun _ => ?_)
  · exact q_tA hN w0 (wX95_noPlace_17 S Z hS _ _ _ w0.1 z_a0 z_a0)
  · refine pq_g (fun g1 => ?_)
    refine pq_fi (fun _ => ?_) (fun _ => ?_)
    · exact q_tA hN w0 (wX95_noPlace_22 S Z hS _ _ _ _ w0.1 z_a0 z_a0)
    · exact q_tA hN w0 (wX95_noPlace_17 S Z hS _ _ _ w0.1 z_a0 z_a0)
theorem wX95_noPlace (S Z : Nat → Prop) {hx N : Nat} (hS : ∀ x, fe_mem lX95_noPlace x = true → S x) (a0 : Nat) (a1 : Int32) (M : FM) (w : WI Z hx N M) (z_a0 : Z a0) : pq (FX95_noPlace a0 a1 M) (QA S Z hx N M) := wX95_noPlace_0 S Z hS a0 a1 M w z_a0
def lX95_putByte : List Nat := []
theorem wX95_putByte_0 (S Z : Nat → Prop) {hx N : Nat} (hS : ∀ x, fe_mem lX95_putByte x = true → S x) (a0 : Nat) (a1 : Int32) (a2 : Int32) (M : FM) (w : WI Z hx N M) (z_a0 : Z a0) (y_a0 : Sy S N M a0) : pq (FX95_putByte_0 a0 a1 a2 M) (QV S Z hx N M) := by
  have hN := w.2.2.1
  have w0 := wk_r (S := S) w
  delta FX95_putByte_0 BX95_putByte_0
  refine pq_n ?_
  refine pq_n ?_
  refine pq_n ?_
  refine pq_g (fun g1 => ?_)
  refine pq_g (fun g2 => ?_)
  extract_lets +onlyGivenNames M4
  have w3 : Wk S Z hx N M M4 := wk_aL hN w0 rfl g2.1 z_a0 y_a0
  exact pq_s w3
theorem wX95_putByte (S Z : Nat → Prop) {hx N : Nat} (hS : ∀ x, fe_mem lX95_putByte x = true → S x) (a0 : Nat) (a1 : Int32) (a2 : Int32) (M : FM) (w : WI Z hx N M) (z_a0 : Z a0) (y_a0 : Sy S N M a0) : pq (FX95_putByte a0 a1 a2 M) (QV S Z hx N M) := wX95_putByte_0 S Z hS a0 a1 a2 M w z_a0 y_a0
def lX95_setDisk : List Nat := [324, 1327]
theorem wX95_setDisk_17 (S Z : Nat → Prop) {hx N : Nat} (hS : ∀ x, fe_mem lX95_setDisk x = true → S x) (M : FM) (w : WI Z hx N M) : pq (FX95_setDisk_17 M) (QV S Z hx N M) := by
  have hN := w.2.2.1
  have w0 := wk_r (S := S) w
  delta FX95_setDisk_17 BX95_setDisk_17
  exact pq_s w0
theorem wX95_setDisk_0 (S Z : Nat → Prop) {hx N : Nat} (hS : ∀ x, fe_mem lX95_setDisk x = true → S x) (a0 : Nat) (a1 : Int32) (a2 : Int32) (M : FM) (w : WI Z hx N M) (z_a0 : Z a0) : pq (FX95_setDisk_0 a0 a1 a2 M) (QV S Z hx N M) := by
  have hN := w.2.2.1
  have w0 := wk_r (S := S) w
  delta FX95_setDisk_0 BX95_setDisk_0
  refine pq_g (fun g1 => ?_)
  refine pq_b (wX95_noPlace S Z (sb rfl hS) _ _ _ w0.1 z_a0) (fun r2 K3 => ?_)
  have w4 := wk_t w0 K3 hN
  refine pq_fi (fun _ => ?_) (fun _ => ?_)
  · refine pq_g (fun g5 => ?_)
    have z6 := wk_z (i := 0) (f := 327) w4 rfl z_a0
    have f7 := sS_327 w4.1.1 g5
    refine pq_b (wX95_putByte S Z (sb rfl hS) _ _ _ _ w4.1 z6 (sy_s f7 (hS 1327 rfl))) (fun r8 K9 => ?_)
    have w10 := wk_t w4 K9 hN
    exact q_tV hN w10 (wX95_setDisk_17 S Z hS _ w10.1 )
  · exact q_tV hN w4 (wX95_setDisk_17 S Z hS _ w4.1 )
theorem wX95_setDisk (S Z : Nat → Prop) {hx N : Nat} (hS : ∀ x, fe_mem lX95_setDisk x = true → S x) (a0 : Nat) (a1 : Int32) (a2 : Int32) (M : FM) (w : WI Z hx N M) (z_a0 : Z a0) : pq (FX95_setDisk a0 a1 a2 M) (QV S Z hx N M) := wX95_setDisk_0 S Z hS a0 a1 a2 M w z_a0
def lX92_load : List Nat := [296, 309, 312, 313, 324, 1310, 1327, 1388, 1389, 1391]
theorem wX92_load_220 (S Z : Nat → Prop) {hx N : Nat} (hS : ∀ x, fe_mem lX92_load x = true → S x) (n : Nat) (k156 : Nat → Int32 → Int64 → Int32 → Int32 → FM → Option (Int32 × FM)) (hk156 : ∀ (a0 : Nat) (a1 : Int32) (a2 : Int64) (a6 : Int32) (a7 : Int32) (M : FM), WI Z hx N M → Z a0 → pq (k156 a0 a1 a2 a6 a7 M) (QA S Z hx N M)) (a0 : Nat) (a6 : Int32) (M : FM) (w : WI Z hx N M) (z_a0 : Z a0) : pq (FX92_load_220 n k156 a0 a6 M) (QA S Z hx N M) := by
  have hN := w.2.2.1
  have w0 := wk_r (S := S) w
  delta FX92_load_220 BX92_load_220
  refine pq_g (fun g1 => ?_)
  extract_lets +onlyGivenNames M3
  have w2 : Wk S Z hx N M M3 := wk_fI hN w0 rfl rfl g1 z_a0 (Or.inr (hS 309 rfl))
  exact pq_s w2
theorem wX92_load_214 (S Z : Nat → Prop) {hx N : Nat} (hS : ∀ x, fe_mem lX92_load x = true → S x) (n : Nat) (k156 : Nat → Int32 → Int64 → Int32 → Int32 → FM → Option (Int32 × FM)) (hk156 : ∀ (a0 : Nat) (a1 : Int32) (a2 : Int64) (a6 : Int32) (a7 : Int32) (M : FM), WI Z hx N M → Z a0 → pq (k156 a0 a1 a2 a6 a7 M) (QA S Z hx N M)) (a0 : Nat) (a1 : Int32) (a2 : Int64) (a6 : Int32) (a7 : Int32) (M : FM) (w : WI Z hx N M) (z_a0 : Z a0) : pq (FX92_load_214 n k156 a0 a1 a2 a6 a7 M) (QA S Z hx N M) := by
  have hN := w.2.2.1
  have w0 := wk_r (S := S) w
  delta FX92_load_214 BX92_load_214
  exact q_tA hN w0 (hk156 _ _ _ _ _ _ w0.1 z_a0)
theorem wX92_load_156 (S Z : Nat → Prop) {hx N : Nat} (hS : ∀ x, fe_mem lX92_load x = true → S x) (n : Nat) (k156 : Nat → Int32 → Int64 → Int32 → Int32 → FM → Option (Int32 × FM)) (hk156 : ∀ (a0 : Nat) (a1 : Int32) (a2 : Int64) (a6 : Int32) (a7 : Int32) (M : FM), WI Z hx N M → Z a0 → pq (k156 a0 a1 a2 a6 a7 M) (QA S Z hx N M)) (a0 : Nat) (a1 : Int32) (a2 : Int64) (a6 : Int32) (a7 : Int32) (M : FM) (w : WI Z hx N M) (z_a0 : Z a0) : pq (FX92_load_156 n k156 a0 a1 a2 a6 a7 M) (QA S Z hx N M) := by
  have hN := w.2.2.1
  have w0 := wk_r (S := S) w
  delta FX92_load_156 BX92_load_156
  refine pq_g (fun g1 => ?_)
  refine pq_fi (fun _ => ?_) (fun _ => ?_)
  · exact q_tA hN w0 (wX92_load_220 S Z hS n _ hk156 _ _ _ w0.1 z_a0)
  · refine pq_fi (fun _ => ?_) (fun _ => ?_)
    · refine pq_g (fun g2 => ?_)
      have z3 := wk_z (i := 0) (f := 298) w0 rfl z_a0
      refine pq_g (fun g4 => ?_)
      have z5 := wk_z (i := 0) (f := 308) w0 rfl z_a0
      have f6 := sS_308 w0.1.1 g4
      refine pq_g (fun g7 => ?_)
      refine pq_g (fun g8 => ?_)
      refine pq_b (wX93_put S Z (sb rfl hS) n _ _ _ _ w0.1 z3) (fun r9 K10 => ?_)
      have w11 := wk_t w0 K10 hN
      exact q_tA hN w11 (wX92_load_214 S Z hS n _ hk156 _ _ _ _ _ _ w11.1 z_a0)
    · refine pq_g (fun g12 => ?_)
      have z13 := wk_z (i := 0) (f := 300) w0 rfl z_a0
      refine pq_g (fun g14 => ?_)
      have z15 := wk_z (i := 0) (f := 308) w0 rfl z_a0
      have f16 := sS_308 w0.1.1 g14
      refine pq_g (fun g17 => ?_)
      refine pq_g (fun g18 => ?_)
      refine pq_b (wX95_setDisk S Z (sb rfl hS) _ _ _ _ w0.1 z13) (fun r19 K20 => ?_)
      have w21 := wk_t w0 K20 hN
      exact q_tA hN w21 (wX92_load_214 S Z hS n _ hk156 _ _ _ _ _ _ w21.1 z_a0)
theorem wX92_load_107 (S Z : Nat → Prop) {hx N : Nat} (hS : ∀ x, fe_mem lX92_load x = true → S x) (n : Nat) (k156 : Nat → Int32 → Int64 → Int32 → Int32 → FM → Option (Int32 × FM)) (hk156 : ∀ (a0 : Nat) (a1 : Int32) (a2 : Int64) (a6 : Int32) (a7 : Int32) (M : FM), WI Z hx N M → Z a0 → pq (k156 a0 a1 a2 a6 a7 M) (QA S Z hx N M)) (a0 : Nat) (a1 : Int32) (a2 : Int64) (s0 : Nat) (s1 : Int32) (M : FM) (w : WI Z hx N M) (z_a0 : Z a0) (z_s0 : Z s0) : pq (FX92_load_107 n k156 a0 a1 a2 s0 s1 M) (QA S Z hx N M) := by
  have hN := w.2.2.1
  have w0 := wk_r (S := S) w
  delta FX92_load_107 BX92_load_107
  refine pq_g (fun g1 => ?_)
  extract_lets +onlyGivenNames M3
  have w2 : Wk S Z hx N M M3 := wk_fI hN w0 rfl rfl g1 z_s0 (Or.inr (hS 296 rfl))
  refine pq_g (fun g4 => ?_)
  refine pq_fi (fun _ => ?_) (fun _ => ?_)
  · refine pq_g (fun g5 => ?_)
    refine pq_fi (fun _ => ?_) (fun _ => ?_)
    · refine pq_g (fun g6 => ?_)
      refine pq_b (wX92_loadImage S Z (sb rfl hS) n _ _ w2.1 z_a0) (fun r7 K8 => ?_)
      have w9 := wk_t w2 K8 hN
      exact q_tA hN w9 (wX92_load_220 S Z hS n _ hk156 _ _ _ w9.1 z_a0)
    · refine pq_fi (fun _ => ?_) (fun _ => ?_)
      · refine pq_g (fun g10 => ?_)
        refine pq_b (wX92_loadInput S Z (sb rfl hS) n _ _ w2.1 z_a0) (fun r11 K12 => ?_)
        have w13 := wk_t w2 K12 hN
        exact q_tA hN w13 (wX92_load_220 S Z hS n _ hk156 _ _ _ w13.1 z_a0)
      · exact q_tA hN w2 (hk156 _ _ _ _ _ _ w2.1 z_a0)
  · exact pq_s w2
theorem wX92_load_93 (S Z : Nat → Prop) {hx N : Nat} (hS : ∀ x, fe_mem lX92_load x = true → S x) (n : Nat) (k156 : Nat → Int32 → Int64 → Int32 → Int32 → FM → Option (Int32 × FM)) (hk156 : ∀ (a0 : Nat) (a1 : Int32) (a2 : Int64) (a6 : Int32) (a7 : Int32) (M : FM), WI Z hx N M → Z a0 → pq (k156 a0 a1 a2 a6 a7 M) (QA S Z hx N M)) (a0 : Nat) (a1 : Int32) (a2 : Int64) (s0 : Nat) (M : FM) (w : WI Z hx N M) (z_a0 : Z a0) (z_s0 : Z s0) : pq (FX92_load_93 n k156 a0 a1 a2 s0 M) (QA S Z hx N M) := by
  have hN := w.2.2.1
  have w0 := wk_r (S := S) w
  delta FX92_load_93 BX92_load_93
  exact q_tA hN w0 (wX92_load_107 S Z hS n _ hk156 _ _ _ _ _ _ w0.1 z_a0 z_s0)
theorem wX92_load_81 (S Z : Nat → Prop) {hx N : Nat} (hS : ∀ x, fe_mem lX92_load x = true → S x) (n : Nat) (k156 : Nat → Int32 → Int64 → Int32 → Int32 → FM → Option (Int32 × FM)) (hk156 : ∀ (a0 : Nat) (a1 : Int32) (a2 : Int64) (a6 : Int32) (a7 : Int32) (M : FM), WI Z hx N M → Z a0 → pq (k156 a0 a1 a2 a6 a7 M) (QA S Z hx N M)) (a0 : Nat) (a1 : Int32) (a2 : Int64) (s0 : Int32) (M : FM) (w : WI Z hx N M) (z_a0 : Z a0) : pq (FX92_load_81 n k156 a0 a1 a2 s0 M) (QA S Z hx N M) := by
  have hN := w.2.2.1
  have w0 := wk_r (S := S) w
  delta FX92_load_81 BX92_load_81
  refine pq_fi (fun _ => ?_) (fun _ => ?_)
  · exact q_tA hN w0 (wX92_load_93 S Z hS n _ hk156 _ _ _ _ _ w0.1 z_a0 z_a0)
  · refine pq_fi (fun _ => ?_) (fun _ => ?_)
    · refine pq_fi (fun _ => ?_) (fun _ => ?_)
      · exact q_tA hN w0 (wX92_load_107 S Z hS n _ hk156 _ _ _ _ _ _ w0.1 z_a0 z_a0)
      · exact q_tA hN w0 (wX92_load_107 S Z hS n _ hk156 _ _ _ _ _ _ w0.1 z_a0 z_a0)
    · exact q_tA hN w0 (wX92_load_93 S Z hS n _ hk156 _ _ _ _ _ w0.1 z_a0 z_a0)
theorem wX92_load_80 (S Z : Nat → Prop) {hx N : Nat} (hS : ∀ x, fe_mem lX92_load x = true → S x) (n : Nat) (k156 : Nat → Int32 → Int64 → Int32 → Int32 → FM → Option (Int32 × FM)) (hk156 : ∀ (a0 : Nat) (a1 : Int32) (a2 : Int64) (a6 : Int32) (a7 : Int32) (M : FM), WI Z hx N M → Z a0 → pq (k156 a0 a1 a2 a6 a7 M) (QA S Z hx N M)) (a0 : Nat) (a1 : Int32) (a2 : Int64) (M : FM) (w : WI Z hx N M) (z_a0 : Z a0) : pq (FX92_load_80 n k156 a0 a1 a2 M) (QA S Z hx N M) := by
  have hN := w.2.2.1
  have w0 := wk_r (S := S) w
  delta FX92_load_80 BX92_load_80
  exact q_tA hN w0 (wX92_load_81 S Z hS n _ hk156 _ _ _ _ _ w0.1 z_a0)
theorem wX92_load_76 (S Z : Nat → Prop) {hx N : Nat} (hS : ∀ x, fe_mem lX92_load x = true → S x) (n : Nat) (k156 : Nat → Int32 → Int64 → Int32 → Int32 → FM → Option (Int32 × FM)) (hk156 : ∀ (a0 : Nat) (a1 : Int32) (a2 : Int64) (a6 : Int32) (a7 : Int32) (M : FM), WI Z hx N M → Z a0 → pq (k156 a0 a1 a2 a6 a7 M) (QA S Z hx N M)) (a0 : Nat) (a1 : Int32) (a2 : Int64) (M : FM) (w : WI Z hx N M) (z_a0 : Z a0) : pq (FX92_load_76 n k156 a0 a1 a2 M) (QA S Z hx N M) := by
  have hN := w.2.2.1
  have w0 := wk_r (S := S) w
  delta FX92_load_76 BX92_load_76
  exact q_tA hN w0 (wX92_load_81 S Z hS n _ hk156 _ _ _ _ _ w0.1 z_a0)
theorem wX92_load_53 (S Z : Nat → Prop) {hx N : Nat} (hS : ∀ x, fe_mem lX92_load x = true → S x) (n : Nat) (k156 : Nat → Int32 → Int64 → Int32 → Int32 → FM → Option (Int32 × FM)) (hk156 : ∀ (a0 : Nat) (a1 : Int32) (a2 : Int64) (a6 : Int32) (a7 : Int32) (M : FM), WI Z hx N M → Z a0 → pq (k156 a0 a1 a2 a6 a7 M) (QA S Z hx N M)) (a0 : Nat) (a1 : Int32) (a2 : Int64) (s0 : Int32) (M : FM) (w : WI Z hx N M) (z_a0 : Z a0) : pq (FX92_load_53 n k156 a0 a1 a2 s0 M) (QA S Z hx N M) := by
  have hN := w.2.2.1
  have w0 := wk_r (S := S) w
  delta FX92_load_53 BX92_load_53
  refine pq_g (fun g1 => ?_)
  refine pq_fi (fun _ => ?_) (fun _ => ?_)
  · exact q_tA hN w0 (wX92_load_80 S Z hS n _ hk156 _ _ _ _ w0.1 z_a0)
  · refine pq_fi (fun _ => ?_) (fun _ => ?_)
    · refine pq_fi (fun _ => ?_) (fun _ => ?_)
      · exact q_tA hN w0 (wX92_load_76 S Z hS n _ hk156 _ _ _ _ w0.1 z_a0)
      · refine pq_fi (fun _ => ?_) (fun _ => ?_)
        · exact q_tA hN w0 (wX92_load_76 S Z hS n _ hk156 _ _ _ _ w0.1 z_a0)
        · exact q_tA hN w0 (wX92_load_80 S Z hS n _ hk156 _ _ _ _ w0.1 z_a0)
    · exact q_tA hN w0 (wX92_load_80 S Z hS n _ hk156 _ _ _ _ w0.1 z_a0)
theorem wX92_load_52 (S Z : Nat → Prop) {hx N : Nat} (hS : ∀ x, fe_mem lX92_load x = true → S x) (n : Nat) (k156 : Nat → Int32 → Int64 → Int32 → Int32 → FM → Option (Int32 × FM)) (hk156 : ∀ (a0 : Nat) (a1 : Int32) (a2 : Int64) (a6 : Int32) (a7 : Int32) (M : FM), WI Z hx N M → Z a0 → pq (k156 a0 a1 a2 a6 a7 M) (QA S Z hx N M)) (a0 : Nat) (a1 : Int32) (a2 : Int64) (M : FM) (w : WI Z hx N M) (z_a0 : Z a0) : pq (FX92_load_52 n k156 a0 a1 a2 M) (QA S Z hx N M) := by
  have hN := w.2.2.1
  have w0 := wk_r (S := S) w
  delta FX92_load_52 BX92_load_52
  exact q_tA hN w0 (wX92_load_53 S Z hS n _ hk156 _ _ _ _ _ w0.1 z_a0)
theorem wX92_load_0 (S Z : Nat → Prop) {hx N : Nat} (hS : ∀ x, fe_mem lX92_load x = true → S x) (n : Nat) (k156 : Nat → Int32 → Int64 → Int32 → Int32 → FM → Option (Int32 × FM)) (hk156 : ∀ (a0 : Nat) (a1 : Int32) (a2 : Int64) (a6 : Int32) (a7 : Int32) (M : FM), WI Z hx N M → Z a0 → pq (k156 a0 a1 a2 a6 a7 M) (QA S Z hx N M)) (a0 : Nat) (a1 : Int32) (a2 : Int64) (M : FM) (w : WI Z hx N M) (z_a0 : Z a0) : pq (FX92_load_0 n k156 a0 a1 a2 M) (QA S Z hx N M) := by
  have hN := w.2.2.1
  have w0 := wk_r (S := S) w
  delta FX92_load_0 BX92_load_0
  refine pq_fi (fun _ => ?_) (fun _ => ?_)
  · refine pq_g (fun g1 => ?_)
    refine pq_b (wX93_areBytes S Z (sb rfl hS) _ _ _ w0.1 ) (fun r2 K3 => ?_)
    have w4 := wk_t w0 K3 hN
    exact q_tA hN w4 (wX92_load_53 S Z hS n _ hk156 _ _ _ _ _ w4.1 z_a0)
  · refine pq_fi (fun _ => ?_) (fun _ => ?_)
    · exact q_tA hN w0 (wX92_load_52 S Z hS n _ hk156 _ _ _ _ w0.1 z_a0)
    · refine pq_fi (fun _ => ?_) (fun _ => ?_)
      · exact q_tA hN w0 (wX92_load_52 S Z hS n _ hk156 _ _ _ _ w0.1 z_a0)
      · refine pq_g (fun g5 => ?_)
        refine pq_fi (fun _ => ?_) (fun _ => ?_)
        · exact q_tA hN w0 (wX92_load_52 S Z hS n _ hk156 _ _ _ _ w0.1 z_a0)
        · exact q_tA hN w0 (wX92_load_53 S Z hS n _ hk156 _ _ _ _ _ w0.1 z_a0)
theorem wX92_load_L (S Z : Nat → Prop) {hx N : Nat} (hS : ∀ x, fe_mem lX92_load x = true → S x) (n : Nat) : ∀ j : Nat, ∀ (a0 : Nat) (a1 : Int32) (a2 : Int64) (a6 : Int32) (a7 : Int32) (M : FM), WI Z hx N M → Z a0 → pq (FX92_load_L156 n j a0 a1 a2 a6 a7 M) (QA S Z hx N M)
  | 0 => by intros; exact pq_0
  | j + 1 => fun a0 a1 a2 a6 a7 M w => wX92_load_156 S Z hS n _ (wX92_load_L S Z hS n j) a0 a1 a2 a6 a7 M w
theorem wX92_load (S Z : Nat → Prop) {hx N : Nat} (hS : ∀ x, fe_mem lX92_load x = true → S x) (n : Nat) (a0 : Nat) (a1 : Int32) (a2 : Int64) (M : FM) (w : WI Z hx N M) (z_a0 : Z a0) : pq (FX92_load n a0 a1 a2 M) (QA S Z hx N M) := wX92_load_0 S Z hS n _ (wX92_load_L S Z hS n n) a0 a1 a2 M w z_a0
def lX92_start : List Nat := [296, 315, 345, 347, 353, 360, 364, 365, 368, 369, 370, 371, 1307, 1346, 1361, 1367, 1388, 1389, 1391, 1427, 1428]
theorem wX92_start_0 (S Z : Nat → Prop) {hx N : Nat} (hS : ∀ x, fe_mem lX92_start x = true → S x) (n : Nat) (a0 : Nat) (M : FM) (w : WI Z hx N M) (z_a0 : Z a0) (hA : (∀ a, Z a)) : pq (FX92_start_0 n a0 M) (QA S Z hx N M) := by
  have hN := w.2.2.1
  have w0 := wk_r (S := S) w
  delta FX92_start_0 BX92_start_0
  refine pq_g (fun g1 => ?_)
  extract_lets +onlyGivenNames M3
  have w2 : Wk S Z hx N M M3 := wk_fI hN w0 rfl rfl g1 z_a0 (Or.inr (hS 296 rfl))
  refine pq_g (fun g4 => ?_)
  refine pq_b (wX92_begin S Z (sb rfl hS) n _ _ w2.1 z_a0 hA) (fun r5 K6 => ?_)
  have w7 := wk_t w2 K6 hN
  exact pq_s w7
theorem wX92_start (S Z : Nat → Prop) {hx N : Nat} (hS : ∀ x, fe_mem lX92_start x = true → S x) (n : Nat) (a0 : Nat) (M : FM) (w : WI Z hx N M) (z_a0 : Z a0) (hA : (∀ a, Z a)) : pq (FX92_start n a0 M) (QA S Z hx N M) := wX92_start_0 S Z hS n a0 M w z_a0 hA
def lX100_time : List Nat := [358, 363]
theorem wX100_time_0 (S Z : Nat → Prop) {hx N : Nat} (hS : ∀ x, fe_mem lX100_time x = true → S x) (a0 : Nat) (a1 : Int64) (M : FM) (w : WI Z hx N M) (z_a0 : Z a0) : pq (FX100_time_0 a0 a1 M) (QV S Z hx N M) := by
  have hN := w.2.2.1
  have w0 := wk_r (S := S) w
  delta FX100_time_0 BX100_time_0
  refine pq_g (fun g1 => ?_)
  extract_lets +onlyGivenNames M3
  have w2 : Wk S Z hx N M M3 := wk_fI hN w0 rfl rfl g1 z_a0 (Or.inr (hS 358 rfl))
  refine pq_g (fun g4 => ?_)
  extract_lets +onlyGivenNames M6
  have w5 : Wk S Z hx N M M6 := wk_fL hN w2 rfl rfl g4 z_a0 (Or.inr (hS 363 rfl))
  exact pq_s w5
theorem wX100_time (S Z : Nat → Prop) {hx N : Nat} (hS : ∀ x, fe_mem lX100_time x = true → S x) (a0 : Nat) (a1 : Int64) (M : FM) (w : WI Z hx N M) (z_a0 : Z a0) : pq (FX100_time a0 a1 M) (QV S Z hx N M) := wX100_time_0 S Z hS a0 a1 M w z_a0
def lX96_isLess : List Nat := []
theorem wX96_isLess_50 (S Z : Nat → Prop) {hx N : Nat} (hS : ∀ x, fe_mem lX96_isLess x = true → S x) (s0 : Int32) (M : FM) (w : WI Z hx N M) : pq (FX96_isLess_50 s0 M) (QA S Z hx N M) := by
  have hN := w.2.2.1
  have w0 := wk_r (S := S) w
  delta FX96_isLess_50 BX96_isLess_50
  refine pq_g (fun _ => ?_)
  exact pq_s w0
theorem wX96_isLess_22 (S Z : Nat → Prop) {hx N : Nat} (hS : ∀ x, fe_mem lX96_isLess x = true → S x) (a0 : Int64) (a2 : Int64) (s0 : Int32) (s1 : Int32) (M : FM) (w : WI Z hx N M) : pq (FX96_isLess_22 a0 a2 s0 s1 M) (QA S Z hx N M) := by
  have hN := w.2.2.1
  have w0 := wk_r (S := S) w
  delta FX96_isLess_22 BX96_isLess_22
  refine pq_fi (fun _ => ?_) (fun _ => ?_)
  · refine pq_fi (fun _ => ?_) (fun _ => ?_)
    · exact q_tA hN w0 (wX96_isLess_50 S Z hS _ _ w0.1 )
    · exact q_tA hN w0 (wX96_isLess_50 S Z hS _ _ w0.1 )
  · refine pq_fi (fun _ => ?_) (fun _ => ?_)
    · exact q_tA hN w0 (wX96_isLess_50 S Z hS _ _ w0.1 )
    · exact q_tA hN w0 (wX96_isLess_50 S Z hS _ _ w0.1 )
theorem wX96_isLess_11 (S Z : Nat → Prop) {hx N : Nat} (hS : ∀ x, fe_mem lX96_isLess x = true → S x) (a0 : Int64) (a2 : Int64) (s0 : Int32) (M : FM) (w : WI Z hx N M) : pq (FX96_isLess_11 a0 a2 s0 M) (QA S Z hx N M) := by
  have hN := w.2.2.1
  have w0 := wk_r (S := S) w
  delta FX96_isLess_11 BX96_isLess_11
  refine pq_fi (fun _ => ?_) (fun _ => ?_)
  · exact q_tA hN w0 (wX96_isLess_22 S Z hS _ _ _ _ _ w0.1 )
  · exact q_tA hN w0 (wX96_isLess_22 S Z hS _ _ _ _ _ w0.1 )
theorem wX96_isLess_0 (S Z : Nat → Prop) {hx N : Nat} (hS : ∀ x, fe_mem lX96_isLess x = true → S x) (a0 : Int64) (a2 : Int64) (M : FM) (w : WI Z hx N M) : pq (FX96_isLess_0 a0 a2 M) (QA S Z hx N M) := by
  have hN := w.2.2.1
  have w0 := wk_r (S := S) w
  delta FX96_isLess_0 BX96_isLess_0
  refine pq_fi (fun _ => ?_) (fun _ => ?_)
  · exact q_tA hN w0 (wX96_isLess_11 S Z hS _ _ _ _ w0.1 )
  · exact q_tA hN w0 (wX96_isLess_11 S Z hS _ _ _ _ w0.1 )
theorem wX96_isLess (S Z : Nat → Prop) {hx N : Nat} (hS : ∀ x, fe_mem lX96_isLess x = true → S x) (a0 : Int64) (a2 : Int64) (M : FM) (w : WI Z hx N M) : pq (FX96_isLess a0 a2 M) (QA S Z hx N M) := wX96_isLess_0 S Z hS a0 a2 M w 
def lX96_enables : List Nat := []
theorem wX96_enables_19 (S Z : Nat → Prop) {hx N : Nat} (hS : ∀ x, fe_mem lX96_enables x = true → S x) (s0 : Int32) (M : FM) (w : WI Z hx N M) : pq (FX96_enables_19 s0 M) (QA S Z hx N M) := by
  have hN := w.2.2.1
  have w0 := wk_r (S := S) w
  delta FX96_enables_19 BX96_enables_19
  refine pq_g (fun _ => ?_)
  exact pq_s w0
theorem wX96_enables_0 (S Z : Nat → Prop) {hx N : Nat} (hS : ∀ x, fe_mem lX96_enables x = true → S x) (a0 : Nat) (a1 : Int32) (a2 : Int32) (M : FM) (w : WI Z hx N M) (z_a0 : Z a0) : pq (FX96_enables_0 a0 a1 a2 M) (QA S Z hx N M) := by
  have hN := w.2.2.1
  have w0 := wk_r (S := S) w
  delta FX96_enables_0 BX96_enables_0
  refine pq_g (fun g1 => ?_)
  have z2 := wk_z (i := 0) (f := 403) w0 rfl z_a0
  have f3 := sS_403 w0.1.1 g1
  refine pq_g (fun g4 => ?_)
  refine pq_fi (fun _ => ?_) (fun _ => ?_)
  · exact q_tA hN w0 (wX96_enables_19 S Z hS _ _ w0.1 )
  · exact q_tA hN w0 (wX96_enables_19 S Z hS _ _ w0.1 )
theorem wX96_enables (S Z : Nat → Prop) {hx N : Nat} (hS : ∀ x, fe_mem lX96_enables x = true → S x) (a0 : Nat) (a1 : Int32) (a2 : Int32) (M : FM) (w : WI Z hx N M) (z_a0 : Z a0) : pq (FX96_enables a0 a1 a2 M) (QA S Z hx N M) := wX96_enables_0 S Z hS a0 a1 a2 M w z_a0
def lX96_above : List Nat := []
theorem wX96_above_52 (S Z : Nat → Prop) {hx N : Nat} (hS : ∀ x, fe_mem lX96_above x = true → S x) (n : Nat) (k4 : Nat → Int32 → Int32 → Int32 → FM → Option (Int32 × FM)) (hk4 : ∀ (a0 : Nat) (a1 : Int32) (a2 : Int32) (a3 : Int32) (M : FM), WI Z hx N M → Z a0 → pq (k4 a0 a1 a2 a3 M) (QA S Z hx N M)) (a0 : Nat) (a1 : Int32) (a3 : Int32) (s0 : Int32) (M : FM) (w : WI Z hx N M) (z_a0 : Z a0) : pq (FX96_above_52 n k4 a0 a1 a3 s0 M) (QA S Z hx N M) := by
  have hN := w.2.2.1
  have w0 := wk_r (S := S) w
  delta FX96_above_52 BX96_above_52
  exact q_tA hN w0 (hk4 _ _ _ _ _ w0.1 z_a0)
theorem wX96_above_51 (S Z : Nat → Prop) {hx N : Nat} (hS : ∀ x, fe_mem lX96_above x = true → S x) (n : Nat) (k4 : Nat → Int32 → Int32 → Int32 → FM → Option (Int32 × FM)) (hk4 : ∀ (a0 : Nat) (a1 : Int32) (a2 : Int32) (a3 : Int32) (M : FM), WI Z hx N M → Z a0 → pq (k4 a0 a1 a2 a3 M) (QA S Z hx N M)) (a0 : Nat) (a1 : Int32) (a3 : Int32) (M : FM) (w : WI Z hx N M) (z_a0 : Z a0) : pq (FX96_above_51 n k4 a0 a1 a3 M) (QA S Z hx N M) := by
  have hN := w.2.2.1
  have w0 := wk_r (S := S) w
  delta FX96_above_51 BX96_above_51
  exact q_tA hN w0 (wX96_above_52 S Z hS n _ hk4 _ _ _ _ _ w0.1 z_a0)
theorem wX96_above_47 (S Z : Nat → Prop) {hx N : Nat} (hS : ∀ x, fe_mem lX96_above x = true → S x) (n : Nat) (k4 : Nat → Int32 → Int32 → Int32 → FM → Option (Int32 × FM)) (hk4 : ∀ (a0 : Nat) (a1 : Int32) (a2 : Int32) (a3 : Int32) (M : FM), WI Z hx N M → Z a0 → pq (k4 a0 a1 a2 a3 M) (QA S Z hx N M)) (a0 : Nat) (a1 : Int32) (a3 : Int32) (M : FM) (w : WI Z hx N M) (z_a0 : Z a0) : pq (FX96_above_47 n k4 a0 a1 a3 M) (QA S Z hx N M) := by
  have hN := w.2.2.1
  have w0 := wk_r (S := S) w
  delta FX96_above_47 BX96_above_47
  exact q_tA hN w0 (wX96_above_52 S Z hS n _ hk4 _ _ _ _ _ w0.1 z_a0)
theorem wX96_above_4 (S Z : Nat → Prop) {hx N : Nat} (hS : ∀ x, fe_mem lX96_above x = true → S x) (n : Nat) (k4 : Nat → Int32 → Int32 → Int32 → FM → Option (Int32 × FM)) (hk4 : ∀ (a0 : Nat) (a1 : Int32) (a2 : Int32) (a3 : Int32) (M : FM), WI Z hx N M → Z a0 → pq (k4 a0 a1 a2 a3 M) (QA S Z hx N M)) (a0 : Nat) (a1 : Int32) (a2 : Int32) (a3 : Int32) (M : FM) (w : WI Z hx N M) (z_a0 : Z a0) : pq (FX96_above_4 n k4 a0 a1 a2 a3 M) (QA S Z hx N M) := by
  have hN := w.2.2.1
  have w0 := wk_r (S := S) w
  delta FX96_above_4 BX96_above_4
  refine pq_fi (fun _ => ?_) (fun _ => ?_)
  · refine pq_g (fun _ => ?_)
    exact pq_s w0
  · refine pq_fi (fun _ => ?_) (fun _ => ?_)
    · refine pq_g (fun g1 => ?_)
      have z2 := wk_z (i := 0) (f := 400) w0 rfl z_a0
      have f3 := sS_400 w0.1.1 g1
      refine pq_g (fun g4 => ?_)
      refine pq_fi (fun _ => ?_) (fun _ => ?_)
      · exact q_tA hN w0 (wX96_above_51 S Z hS n _ hk4 _ _ _ _ w0.1 z_a0)
      · refine pq_g (fun g5 => ?_)
        refine pq_b (wX96_enables S Z (sb rfl hS) _ _ _ _ w0.1 z_a0) (fun r6 K7 => ?_)
        have w8 := wk_t w0 K7 hN
        refine pq_fi (fun _ => ?_) (fun _ => ?_)
        · exact q_tA hN w8 (wX96_above_51 S Z hS n _ hk4 _ _ _ _ w8.1 z_a0)
        · refine pq_g (fun g9 => ?_)
          have z10 := wk_z (i := 0) (f := 402) w8 rfl z_a0
          have f11 := sS_402 w8.1.1 g9
          refine pq_g (fun g12 => ?_)
          refine pq_g (fun g13 => ?_)
          have z14 := wk_z (i := 0) (f := 404) w8 rfl z_a0
          have f15 := sS_404 w8.1.1 g13
          refine pq_g (fun g16 => ?_)
          refine pq_fi (fun _ => ?_) (fun _ => ?_)
          · exact q_tA hN w8 (wX96_above_51 S Z hS n _ hk4 _ _ _ _ w8.1 z_a0)
          · exact q_tA hN w8 (wX96_above_47 S Z hS n _ hk4 _ _ _ _ w8.1 z_a0)
    · exact q_tA hN w0 (wX96_above_47 S Z hS n _ hk4 _ _ _ _ w0.1 z_a0)
theorem wX96_above_0 (S Z : Nat → Prop) {hx N : Nat} (hS : ∀ x, fe_mem lX96_above x = true → S x) (n : Nat) (k4 : Nat → Int32 → Int32 → Int32 → FM → Option (Int32 × FM)) (hk4 : ∀ (a0 : Nat) (a1 : Int32) (a2 : Int32) (a3 : Int32) (M : FM), WI Z hx N M → Z a0 → pq (k4 a0 a1 a2 a3 M) (QA S Z hx N M)) (a0 : Nat) (a1 : Int32) (M : FM) (w : WI Z hx N M) (z_a0 : Z a0) : pq (FX96_above_0 n k4 a0 a1 M) (QA S Z hx N M) := by
  have hN := w.2.2.1
  have w0 := wk_r (S := S) w
  delta FX96_above_0 BX96_above_0
  exact q_tA hN w0 (hk4 _ _ _ _ _ w0.1 z_a0)
theorem wX96_above_L (S Z : Nat → Prop) {hx N : Nat} (hS : ∀ x, fe_mem lX96_above x = true → S x) (n : Nat) : ∀ j : Nat, ∀ (a0 : Nat) (a1 : Int32) (a2 : Int32) (a3 : Int32) (M : FM), WI Z hx N M → Z a0 → pq (FX96_above_L4 n j a0 a1 a2 a3 M) (QA S Z hx N M)
  | 0 => by intros; exact pq_0
  | j + 1 => fun a0 a1 a2 a3 M w => wX96_above_4 S Z hS n _ (wX96_above_L S Z hS n j) a0 a1 a2 a3 M w
theorem wX96_above (S Z : Nat → Prop) {hx N : Nat} (hS : ∀ x, fe_mem lX96_above x = true → S x) (n : Nat) (a0 : Nat) (a1 : Int32) (M : FM) (w : WI Z hx N M) (z_a0 : Z a0) : pq (FX96_above n a0 a1 M) (QA S Z hx N M) := wX96_above_0 S Z hS n _ (wX96_above_L S Z hS n n) a0 a1 M w z_a0
def lX96_line : List Nat := [394]
theorem wX96_line_116 (S Z : Nat → Prop) {hx N : Nat} (hS : ∀ x, fe_mem lX96_line x = true → S x) (n : Nat) (s0 : Int32) (M : FM) (w : WI Z hx N M) : pq (FX96_line_116 n s0 M) (QA S Z hx N M) := by
  have hN := w.2.2.1
  have w0 := wk_r (S := S) w
  delta FX96_line_116 BX96_line_116
  refine pq_g (fun _ => ?_)
  exact pq_s w0
theorem wX96_line_112 (S Z : Nat → Prop) {hx N : Nat} (hS : ∀ x, fe_mem lX96_line x = true → S x) (n : Nat) (s0 : Nat) (s1 : Int32) (s2 : Int32) (M : FM) (w : WI Z hx N M) (z_s0 : Z s0) : pq (FX96_line_112 n s0 s1 s2 M) (QA S Z hx N M) := by
  have hN := w.2.2.1
  have w0 := wk_r (S := S) w
  delta FX96_line_112 BX96_line_112
  refine pq_g (fun g1 => ?_)
  refine pq_b (wX96_above S Z (sb rfl hS) n _ _ _ w0.1 z_s0) (fun r2 K3 => ?_)
  have w4 := wk_t w0 K3 hN
  exact q_tA hN w4 (wX96_line_116 S Z hS n _ _ w4.1 )
theorem wX96_line_41 (S Z : Nat → Prop) {hx N : Nat} (hS : ∀ x, fe_mem lX96_line x = true → S x) (n : Nat) (a0 : Nat) (a1 : Int32) (a2 : Int32) (s0 : Nat) (s1 : Int32) (M : FM) (w : WI Z hx N M) (z_a0 : Z a0) (z_s0 : Z s0) : pq (FX96_line_41 n a0 a1 a2 s0 s1 M) (QA S Z hx N M) := by
  have hN := w.2.2.1
  have w0 := wk_r (S := S) w
  delta FX96_line_41 BX96_line_41
  refine pq_g (fun g1 => ?_)
  extract_lets +onlyGivenNames M3
  have w2 : Wk S Z hx N M M3 := wk_fI hN w0 rfl rfl g1 z_s0 (Or.inr (hS 394 rfl))
  refine pq_g (fun g4 => ?_)
  refine pq_fi (fun _ => ?_) (fun _ => ?_)
  · refine pq_fi (fun _ => ?_) (fun _ => ?_)
    · refine pq_g (fun g5 => ?_)
      have z6 := wk_z (i := 0) (f := 396) w2 rfl z_a0
      have f7 := sS_396 w2.1.1 g5
      refine pq_g (fun g8 => ?_)
      exact q_tA hN w2 (wX96_line_116 S Z hS n _ _ w2.1 )
    · refine pq_fi (fun _ => ?_) (fun _ => ?_)
      · refine pq_g (fun g9 => ?_)
        refine pq_g (fun g10 => ?_)
        have z11 := wk_z (i := 0) (f := 397) w2 rfl z_a0
        have f12 := sS_397 w2.1.1 g10
        refine pq_g (fun g13 => ?_)
        refine pq_b (wX96_isLess S Z (sb rfl hS) _ _ _ w2.1 ) (fun r14 K15 => ?_)
        have w16 := wk_t w2 K15 hN
        refine pq_fi (fun _ => ?_) (fun _ => ?_)
        · exact q_tA hN w16 (wX96_line_116 S Z hS n _ _ w16.1 )
        · exact q_tA hN w16 (wX96_line_116 S Z hS n _ _ w16.1 )
      · refine pq_fi (fun _ => ?_) (fun _ => ?_)
        · exact q_tA hN w2 (wX96_line_112 S Z hS n _ _ _ _ w2.1 z_a0)
        · exact q_tA hN w2 (wX96_line_112 S Z hS n _ _ _ _ w2.1 z_a0)
  · refine pq_g (fun _ => ?_)
    exact pq_s w2
theorem wX96_line_40 (S Z : Nat → Prop) {hx N : Nat} (hS : ∀ x, fe_mem lX96_line x = true → S x) (n : Nat) (a0 : Nat) (a1 : Int32) (a2 : Int32) (s0 : Nat) (M : FM) (w : WI Z hx N M) (z_a0 : Z a0) (z_s0 : Z s0) : pq (FX96_line_40 n a0 a1 a2 s0 M) (QA S Z hx N M) := by
  have hN := w.2.2.1
  have w0 := wk_r (S := S) w
  delta FX96_line_40 BX96_line_40
  exact q_tA hN w0 (wX96_line_41 S Z hS n _ _ _ _ _ _ w0.1 z_a0 z_s0)
theorem wX96_line_36 (S Z : Nat → Prop) {hx N : Nat} (hS : ∀ x, fe_mem lX96_line x = true → S x) (n : Nat) (a0 : Nat) (a1 : Int32) (a2 : Int32) (s0 : Nat) (M : FM) (w : WI Z hx N M) (z_a0 : Z a0) (z_s0 : Z s0) : pq (FX96_line_36 n a0 a1 a2 s0 M) (QA S Z hx N M) := by
  have hN := w.2.2.1
  have w0 := wk_r (S := S) w
  delta FX96_line_36 BX96_line_36
  exact q_tA hN w0 (wX96_line_41 S Z hS n _ _ _ _ _ _ w0.1 z_a0 z_s0)
theorem wX96_line_0 (S Z : Nat → Prop) {hx N : Nat} (hS : ∀ x, fe_mem lX96_line x = true → S x) (n : Nat) (a0 : Nat) (a1 : Int32) (a2 : Int32) (M : FM) (w : WI Z hx N M) (z_a0 : Z a0) : pq (FX96_line_0 n a0 a1 a2 M) (QA S Z hx N M) := by
  have hN := w.2.2.1
  have w0 := wk_r (S := S) w
  delta FX96_line_0 BX96_line_0
  refine pq_fi (fun _ => ?_) (fun _ => ?_)
  · exact q_tA hN w0 (wX96_line_36 S Z hS n _ _ _ _ _ w0.1 z_a0 z_a0)
  · refine pq_g (fun g1 => ?_)
    refine pq_fi (fun _ => ?_) (fun _ => ?_)
    · exact q_tA hN w0 (wX96_line_36 S Z hS n _ _ _ _ _ w0.1 z_a0 z_a0)
    · refine pq_fi (fun _ => ?_) (fun _ => ?_)
      · exact q_tA hN w0 (wX96_line_40 S Z hS n _ _ _ _ _ w0.1 z_a0 z_a0)
      · refine pq_fi (fun _ => ?_) (fun _ => ?_)
        · exact q_tA hN w0 (wX96_line_40 S Z hS n _ _ _ _ _ w0.1 z_a0 z_a0)
        · refine pq_fi (fun _ => ?_) (fun _ => ?_)
          · exact q_tA hN w0 (wX96_line_40 S Z hS n _ _ _ _ _ w0.1 z_a0 z_a0)
          · refine pq_fi (fun _ => ?_) (fun _ => ?_)
            · exact q_tA hN w0 (wX96_line_40 S Z hS n _ _ _ _ _ w0.1 z_a0 z_a0)
            · exact q_tA hN w0 (wX96_line_36 S Z hS n _ _ _ _ _ w0.1 z_a0 z_a0)
theorem wX96_line (S Z : Nat → Prop) {hx N : Nat} (hS : ∀ x, fe_mem lX96_line x = true → S x) (n : Nat) (a0 : Nat) (a1 : Int32) (a2 : Int32) (M : FM) (w : WI Z hx N M) (z_a0 : Z a0) : pq (FX96_line n a0 a1 a2 M) (QA S Z hx N M) := wX96_line_0 S Z hS n a0 a1 a2 M w z_a0
def lX100_line : List Nat := [358, 1362]
theorem wX100_line_46 (S Z : Nat → Prop) {hx N : Nat} (hS : ∀ x, fe_mem lX100_line x = true → S x) (M : FM) (w : WI Z hx N M) : pq (FX100_line_46 M) (QV S Z hx N M) := by
  have hN := w.2.2.1
  have w0 := wk_r (S := S) w
  delta FX100_line_46 BX100_line_46
  exact pq_s w0
theorem wX100_line_29 (S Z : Nat → Prop) {hx N : Nat} (hS : ∀ x, fe_mem lX100_line x = true → S x) (a0 : Nat) (a1 : Int32) (a2 : Int32) (s0 : Nat) (s1 : Int32) (M : FM) (w : WI Z hx N M) (z_a0 : Z a0) (z_s0 : Z s0) : pq (FX100_line_29 a0 a1 a2 s0 s1 M) (QV S Z hx N M) := by
  have hN := w.2.2.1
  have w0 := wk_r (S := S) w
  delta FX100_line_29 BX100_line_29
  refine pq_g (fun g1 => ?_)
  extract_lets +onlyGivenNames M3
  have w2 : Wk S Z hx N M M3 := wk_fI hN w0 rfl rfl g1 z_s0 (Or.inr (hS 358 rfl))
  refine pq_g (fun g4 => ?_)
  refine pq_fi (fun _ => ?_) (fun _ => ?_)
  · refine pq_g (fun g5 => ?_)
    have z6 := wk_z (i := 0) (f := 362) w2 rfl z_a0
    have f7 := sS_362 w2.1.1 g5
    refine pq_g (fun g8 => ?_)
    extract_lets +onlyGivenNames M10
    have w9 : Wk S Z hx N M M10 := wk_aI hN w2 rfl g8.1 z6 (sy_s f7 (hS 1362 rfl))
    exact q_tV hN w9 (wX100_line_46 S Z hS _ w9.1 )
  · exact q_tV hN w2 (wX100_line_46 S Z hS _ w2.1 )
theorem wX100_line_24 (S Z : Nat → Prop) {hx N : Nat} (hS : ∀ x, fe_mem lX100_line x = true → S x) (a0 : Nat) (a1 : Int32) (a2 : Int32) (s0 : Nat) (M : FM) (w : WI Z hx N M) (z_a0 : Z a0) (z_s0 : Z s0) : pq (FX100_line_24 a0 a1 a2 s0 M) (QV S Z hx N M) := by
  have hN := w.2.2.1
  have w0 := wk_r (S := S) w
  delta FX100_line_24 BX100_line_24
  exact q_tV hN w0 (wX100_line_29 S Z hS _ _ _ _ _ _ w0.1 z_a0 z_s0)
theorem wX100_line_0 (S Z : Nat → Prop) {hx N : Nat} (hS : ∀ x, fe_mem lX100_line x = true → S x) (a0 : Nat) (a1 : Int32) (a2 : Int32) (M : FM) (w : WI Z hx N M) (z_a0 : Z a0) : pq (FX100_line_0 a0 a1 a2 M) (QV S Z hx N M) := by
  have hN := w.2.2.1
  have w0 := wk_r (S := S) w
  delta FX100_line_0 BX100_line_0
  refine pq_fi (fun _ => ?_) (fun _ => ?_)
  · exact q_tV hN w0 (wX100_line_24 S Z hS _ _ _ _ _ w0.1 z_a0 z_a0)
  · refine pq_fi (fun _ => ?_) (fun _ => ?_)
    · exact q_tV hN w0 (wX100_line_24 S Z hS _ _ _ _ _ w0.1 z_a0 z_a0)
    · refine pq_fi (fun _ => ?_) (fun _ => ?_)
      · exact q_tV hN w0 (wX100_line_24 S Z hS _ _ _ _ _ w0.1 z_a0 z_a0)
      · refine pq_fi (fun _ => ?_) (fun _ => ?_)
        · exact q_tV hN w0 (wX100_line_24 S Z hS _ _ _ _ _ w0.1 z_a0 z_a0)
        · exact q_tV hN w0 (wX100_line_29 S Z hS _ _ _ _ _ _ w0.1 z_a0 z_a0)
theorem wX100_line (S Z : Nat → Prop) {hx N : Nat} (hS : ∀ x, fe_mem lX100_line x = true → S x) (a0 : Nat) (a1 : Int32) (a2 : Int32) (M : FM) (w : WI Z hx N M) (z_a0 : Z a0) : pq (FX100_line a0 a1 a2 M) (QV S Z hx N M) := wX100_line_0 S Z hS a0 a1 a2 M w z_a0
def lX100_status : List Nat := []
theorem wX100_status_0 (S Z : Nat → Prop) {hx N : Nat} (hS : ∀ x, fe_mem lX100_status x = true → S x) (a0 : Nat) (a1 : Int32) (M : FM) (w : WI Z hx N M) (z_a0 : Z a0) : pq (FX100_status_0 a0 a1 M) (QA S Z hx N M) := by
  have hN := w.2.2.1
  have w0 := wk_r (S := S) w
  delta FX100_status_0 BX100_status_0
  refine pq_g (fun g1 => ?_)
  have z2 := wk_z (i := 0) (f := 361) w0 rfl z_a0
  have f3 := sS_361 w0.1.1 g1
  refine pq_g (fun g4 => ?_)
  exact pq_s w0
theorem wX100_status (S Z : Nat → Prop) {hx N : Nat} (hS : ∀ x, fe_mem lX100_status x = true → S x) (a0 : Nat) (a1 : Int32) (M : FM) (w : WI Z hx N M) (z_a0 : Z a0) : pq (FX100_status a0 a1 M) (QA S Z hx N M) := wX100_status_0 S Z hS a0 a1 M w z_a0
def lX100_floating : List Nat := []
theorem wX100_floating_0 (S Z : Nat → Prop) {hx N : Nat} (hS : ∀ x, fe_mem lX100_floating x = true → S x) (a0 : Nat) (M : FM) (w : WI Z hx N M) (z_a0 : Z a0) : pq (FX100_floating_0 a0 M) (QA S Z hx N M) := by
  have hN := w.2.2.1
  have w0 := wk_r (S := S) w
  delta FX100_floating_0 BX100_floating_0
  refine pq_g (fun g1 => ?_)
  refine pq_b (wX100_status S Z (sb rfl hS) _ _ _ w0.1 z_a0) (fun r2 K3 => ?_)
  have w4 := wk_t w0 K3 hN
  refine pq_g (fun g5 => ?_)
  refine pq_b (wX100_status S Z (sb rfl hS) _ _ _ w4.1 z_a0) (fun r6 K7 => ?_)
  have w8 := wk_t w4 K7 hN
  exact pq_s w8
theorem wX100_floating (S Z : Nat → Prop) {hx N : Nat} (hS : ∀ x, fe_mem lX100_floating x = true → S x) (a0 : Nat) (M : FM) (w : WI Z hx N M) (z_a0 : Z a0) : pq (FX100_floating a0 M) (QA S Z hx N M) := wX100_floating_0 S Z hS a0 M w z_a0
def lX100_isCount : List Nat := []
theorem wX100_isCount_19 (S Z : Nat → Prop) {hx N : Nat} (hS : ∀ x, fe_mem lX100_isCount x = true → S x) (s0 : Int32) (M : FM) (w : WI Z hx N M) : pq (FX100_isCount_19 s0 M) (QA S Z hx N M) := by
  have hN := w.2.2.1
  have w0 := wk_r (S := S) w
  delta FX100_isCount_19 BX100_isCount_19
  refine pq_g (fun _ => ?_)
  exact pq_s w0
theorem wX100_isCount_18 (S Z : Nat → Prop) {hx N : Nat} (hS : ∀ x, fe_mem lX100_isCount x = true → S x) (M : FM) (w : WI Z hx N M) : pq (FX100_isCount_18 M) (QA S Z hx N M) := by
  have hN := w.2.2.1
  have w0 := wk_r (S := S) w
  delta FX100_isCount_18 BX100_isCount_18
  exact q_tA hN w0 (wX100_isCount_19 S Z hS _ _ w0.1 )
theorem wX100_isCount_0 (S Z : Nat → Prop) {hx N : Nat} (hS : ∀ x, fe_mem lX100_isCount x = true → S x) (a0 : Int32) (M : FM) (w : WI Z hx N M) : pq (FX100_isCount_0 a0 M) (QA S Z hx N M) := by
  have hN := w.2.2.1
  have w0 := wk_r (S := S) w
  delta FX100_isCount_0 BX100_isCount_0
  refine pq_fi (fun _ => ?_) (fun _ => ?_)
  · exact q_tA hN w0 (wX100_isCount_18 S Z hS _ w0.1 )
  · refine pq_fi (fun _ => ?_) (fun _ => ?_)
    · exact q_tA hN w0 (wX100_isCount_18 S Z hS _ w0.1 )
    · exact q_tA hN w0 (wX100_isCount_19 S Z hS _ _ w0.1 )
theorem wX100_isCount (S Z : Nat → Prop) {hx N : Nat} (hS : ∀ x, fe_mem lX100_isCount x = true → S x) (a0 : Int32) (M : FM) (w : WI Z hx N M) : pq (FX100_isCount a0 M) (QA S Z hx N M) := wX100_isCount_0 S Z hS a0 M w 
def lX100_isElsewhere : List Nat := []
theorem wX100_isElsewhere_42 (S Z : Nat → Prop) {hx N : Nat} (hS : ∀ x, fe_mem lX100_isElsewhere x = true → S x) (s0 : Int32) (M : FM) (w : WI Z hx N M) : pq (FX100_isElsewhere_42 s0 M) (QA S Z hx N M) := by
  have hN := w.2.2.1
  have w0 := wk_r (S := S) w
  delta FX100_isElsewhere_42 BX100_isElsewhere_42
  refine pq_g (fun _ => ?_)
  exact pq_s w0
theorem wX100_isElsewhere_41 (S Z : Nat → Prop) {hx N : Nat} (hS : ∀ x, fe_mem lX100_isElsewhere x = true → S x) (M : FM) (w : WI Z hx N M) : pq (FX100_isElsewhere_41 M) (QA S Z hx N M) := by
  have hN := w.2.2.1
  have w0 := wk_r (S := S) w
  delta FX100_isElsewhere_41 BX100_isElsewhere_41
  exact q_tA hN w0 (wX100_isElsewhere_42 S Z hS _ _ w0.1 )
theorem wX100_isElsewhere_37 (S Z : Nat → Prop) {hx N : Nat} (hS : ∀ x, fe_mem lX100_isElsewhere x = true → S x) (M : FM) (w : WI Z hx N M) : pq (FX100_isElsewhere_37 M) (QA S Z hx N M) := by
  have hN := w.2.2.1
  have w0 := wk_r (S := S) w
  delta FX100_isElsewhere_37 BX100_isElsewhere_37
  exact q_tA hN w0 (wX100_isElsewhere_42 S Z hS _ _ w0.1 )
theorem wX100_isElsewhere_9 (S Z : Nat → Prop) {hx N : Nat} (hS : ∀ x, fe_mem lX100_isElsewhere x = true → S x) (a0 : Int32) (M : FM) (w : WI Z hx N M) : pq (FX100_isElsewhere_9 a0 M) (QA S Z hx N M) := by
  have hN := w.2.2.1
  have w0 := wk_r (S := S) w
  delta FX100_isElsewhere_9 BX100_isElsewhere_9
  refine pq_fi (fun _ => ?_) (fun _ => ?_)
  · exact q_tA hN w0 (wX100_isElsewhere_37 S Z hS _ w0.1 )
  · refine pq_fi (fun _ => ?_) (fun _ => ?_)
    · exact q_tA hN w0 (wX100_isElsewhere_37 S Z hS _ w0.1 )
    · refine pq_fi (fun _ => ?_) (fun _ => ?_)
      · exact q_tA hN w0 (wX100_isElsewhere_41 S Z hS _ w0.1 )
      · refine pq_fi (fun _ => ?_) (fun _ => ?_)
        · exact q_tA hN w0 (wX100_isElsewhere_41 S Z hS _ w0.1 )
        · exact q_tA hN w0 (wX100_isElsewhere_37 S Z hS _ w0.1 )
theorem wX100_isElsewhere_0 (S Z : Nat → Prop) {hx N : Nat} (hS : ∀ x, fe_mem lX100_isElsewhere x = true → S x) (a0 : Int32) (M : FM) (w : WI Z hx N M) : pq (FX100_isElsewhere_0 a0 M) (QA S Z hx N M) := by
  have hN := w.2.2.1
  have w0 := wk_r (S := S) w
  delta FX100_isElsewhere_0 BX100_isElsewhere_0
  refine pq_fi (fun _ => ?_) (fun _ => ?_)
  · exact q_tA hN w0 (wX100_isElsewhere_9 S Z hS _ _ w0.1 )
  · refine pq_fi (fun _ => ?_) (fun _ => ?_)
    · exact q_tA hN w0 (wX100_isElsewhere_37 S Z hS _ w0.1 )
    · exact q_tA hN w0 (wX100_isElsewhere_9 S Z hS _ _ w0.1 )
theorem wX100_isElsewhere (S Z : Nat → Prop) {hx N : Nat} (hS : ∀ x, fe_mem lX100_isElsewhere x = true → S x) (a0 : Int32) (M : FM) (w : WI Z hx N M) : pq (FX100_isElsewhere a0 M) (QA S Z hx N M) := wX100_isElsewhere_0 S Z hS a0 M w 
def lX100_isThere : List Nat := []
theorem wX100_isThere_137 (S Z : Nat → Prop) {hx N : Nat} (hS : ∀ x, fe_mem lX100_isThere x = true → S x) (s0 : Int32) (M : FM) (w : WI Z hx N M) : pq (FX100_isThere_137 s0 M) (QA S Z hx N M) := by
  have hN := w.2.2.1
  have w0 := wk_r (S := S) w
  delta FX100_isThere_137 BX100_isThere_137
  refine pq_g (fun _ => ?_)
  exact pq_s w0
theorem wX100_isThere_132 (S Z : Nat → Prop) {hx N : Nat} (hS : ∀ x, fe_mem lX100_isThere x = true → S x) (M : FM) (w : WI Z hx N M) : pq (FX100_isThere_132 M) (QA S Z hx N M) := by
  have hN := w.2.2.1
  have w0 := wk_r (S := S) w
  delta FX100_isThere_132 BX100_isThere_132
  exact q_tA hN w0 (wX100_isThere_137 S Z hS _ _ w0.1 )
theorem wX100_isThere_109 (S Z : Nat → Prop) {hx N : Nat} (hS : ∀ x, fe_mem lX100_isThere x = true → S x) (a0 : Int32) (a1 : Int32) (s0 : Int32) (M : FM) (w : WI Z hx N M) : pq (FX100_isThere_109 a0 a1 s0 M) (QA S Z hx N M) := by
  have hN := w.2.2.1
  have w0 := wk_r (S := S) w
  delta FX100_isThere_109 BX100_isThere_109
  refine pq_fi (fun _ => ?_) (fun _ => ?_)
  · refine pq_fi (fun _ => ?_) (fun _ => ?_)
    · refine pq_b (wX100_isCount S Z (sb rfl hS) _ _ w0.1 ) (fun r1 K2 => ?_)
      have w3 := wk_t w0 K2 hN
      refine pq_fi (fun _ => ?_) (fun _ => ?_)
      · refine pq_b (wX100_isElsewhere S Z (sb rfl hS) _ _ w3.1 ) (fun r4 K5 => ?_)
        have w6 := wk_t w3 K5 hN
        refine pq_fi (fun _ => ?_) (fun _ => ?_)
        · exact q_tA hN w6 (wX100_isThere_137 S Z hS _ _ w6.1 )
        · exact q_tA hN w6 (wX100_isThere_132 S Z hS _ w6.1 )
      · exact q_tA hN w3 (wX100_isThere_132 S Z hS _ w3.1 )
    · exact q_tA hN w0 (wX100_isThere_132 S Z hS _ w0.1 )
  · exact q_tA hN w0 (wX100_isThere_132 S Z hS _ w0.1 )
theorem wX100_isThere_104 (S Z : Nat → Prop) {hx N : Nat} (hS : ∀ x, fe_mem lX100_isThere x = true → S x) (a0 : Int32) (a1 : Int32) (M : FM) (w : WI Z hx N M) : pq (FX100_isThere_104 a0 a1 M) (QA S Z hx N M) := by
  have hN := w.2.2.1
  have w0 := wk_r (S := S) w
  delta FX100_isThere_104 BX100_isThere_104
  exact q_tA hN w0 (wX100_isThere_109 S Z hS _ _ _ _ w0.1 )
theorem wX100_isThere_97 (S Z : Nat → Prop) {hx N : Nat} (hS : ∀ x, fe_mem lX100_isThere x = true → S x) (a0 : Int32) (a1 : Int32) (M : FM) (w : WI Z hx N M) : pq (FX100_isThere_97 a0 a1 M) (QA S Z hx N M) := by
  have hN := w.2.2.1
  have w0 := wk_r (S := S) w
  delta FX100_isThere_97 BX100_isThere_97
  refine pq_fi (fun _ => ?_) (fun _ => ?_)
  · exact q_tA hN w0 (wX100_isThere_104 S Z hS _ _ _ w0.1 )
  · exact q_tA hN w0 (wX100_isThere_109 S Z hS _ _ _ _ w0.1 )
theorem wX100_isThere_83 (S Z : Nat → Prop) {hx N : Nat} (hS : ∀ x, fe_mem lX100_isThere x = true → S x) (a0 : Int32) (a1 : Int32) (M : FM) (w : WI Z hx N M) : pq (FX100_isThere_83 a0 a1 M) (QA S Z hx N M) := by
  have hN := w.2.2.1
  have w0 := wk_r (S := S) w
  delta FX100_isThere_83 BX100_isThere_83
  refine pq_fi (fun _ => ?_) (fun _ => ?_)
  · exact q_tA hN w0 (wX100_isThere_97 S Z hS _ _ _ w0.1 )
  · refine pq_fi (fun _ => ?_) (fun _ => ?_)
    · exact q_tA hN w0 (wX100_isThere_104 S Z hS _ _ _ w0.1 )
    · exact q_tA hN w0 (wX100_isThere_97 S Z hS _ _ _ w0.1 )
theorem wX100_isThere_61 (S Z : Nat → Prop) {hx N : Nat} (hS : ∀ x, fe_mem lX100_isThere x = true → S x) (a0 : Int32) (s0 : Int32) (M : FM) (w : WI Z hx N M) : pq (FX100_isThere_61 a0 s0 M) (QA S Z hx N M) := by
  have hN := w.2.2.1
  have w0 := wk_r (S := S) w
  delta FX100_isThere_61 BX100_isThere_61
  refine pq_fi (fun _ => ?_) (fun _ => ?_)
  · exact q_tA hN w0 (wX100_isThere_104 S Z hS _ _ _ w0.1 )
  · refine pq_fi (fun _ => ?_) (fun _ => ?_)
    · exact q_tA hN w0 (wX100_isThere_83 S Z hS _ _ _ w0.1 )
    · refine pq_fi (fun _ => ?_) (fun _ => ?_)
      · exact q_tA hN w0 (wX100_isThere_104 S Z hS _ _ _ w0.1 )
      · exact q_tA hN w0 (wX100_isThere_83 S Z hS _ _ _ w0.1 )
theorem wX100_isThere_60 (S Z : Nat → Prop) {hx N : Nat} (hS : ∀ x, fe_mem lX100_isThere x = true → S x) (a0 : Int32) (M : FM) (w : WI Z hx N M) : pq (FX100_isThere_60 a0 M) (QA S Z hx N M) := by
  have hN := w.2.2.1
  have w0 := wk_r (S := S) w
  delta FX100_isThere_60 BX100_isThere_60
  exact q_tA hN w0 (wX100_isThere_61 S Z hS _ _ _ w0.1 )
theorem wX100_isThere_56 (S Z : Nat → Prop) {hx N : Nat} (hS : ∀ x, fe_mem lX100_isThere x = true → S x) (a0 : Int32) (M : FM) (w : WI Z hx N M) : pq (FX100_isThere_56 a0 M) (QA S Z hx N M) := by
  have hN := w.2.2.1
  have w0 := wk_r (S := S) w
  delta FX100_isThere_56 BX100_isThere_56
  exact q_tA hN w0 (wX100_isThere_61 S Z hS _ _ _ w0.1 )
theorem wX100_isThere_28 (S Z : Nat → Prop) {hx N : Nat} (hS : ∀ x, fe_mem lX100_isThere x = true → S x) (a0 : Int32) (M : FM) (w : WI Z hx N M) : pq (FX100_isThere_28 a0 M) (QA S Z hx N M) := by
  have hN := w.2.2.1
  have w0 := wk_r (S := S) w
  delta FX100_isThere_28 BX100_isThere_28
  refine pq_fi (fun _ => ?_) (fun _ => ?_)
  · exact q_tA hN w0 (wX100_isThere_56 S Z hS _ _ w0.1 )
  · refine pq_fi (fun _ => ?_) (fun _ => ?_)
    · exact q_tA hN w0 (wX100_isThere_56 S Z hS _ _ w0.1 )
    · refine pq_fi (fun _ => ?_) (fun _ => ?_)
      · exact q_tA hN w0 (wX100_isThere_60 S Z hS _ _ w0.1 )
      · refine pq_fi (fun _ => ?_) (fun _ => ?_)
        · exact q_tA hN w0 (wX100_isThere_60 S Z hS _ _ w0.1 )
        · exact q_tA hN w0 (wX100_isThere_56 S Z hS _ _ w0.1 )
theorem wX100_isThere_14 (S Z : Nat → Prop) {hx N : Nat} (hS : ∀ x, fe_mem lX100_isThere x = true → S x) (a0 : Int32) (M : FM) (w : WI Z hx N M) : pq (FX100_isThere_14 a0 M) (QA S Z hx N M) := by
  have hN := w.2.2.1
  have w0 := wk_r (S := S) w
  delta FX100_isThere_14 BX100_isThere_14
  refine pq_fi (fun _ => ?_) (fun _ => ?_)
  · exact q_tA hN w0 (wX100_isThere_28 S Z hS _ _ w0.1 )
  · refine pq_fi (fun _ => ?_) (fun _ => ?_)
    · exact q_tA hN w0 (wX100_isThere_56 S Z hS _ _ w0.1 )
    · exact q_tA hN w0 (wX100_isThere_28 S Z hS _ _ w0.1 )
theorem wX100_isThere_0 (S Z : Nat → Prop) {hx N : Nat} (hS : ∀ x, fe_mem lX100_isThere x = true → S x) (a0 : Int32) (M : FM) (w : WI Z hx N M) : pq (FX100_isThere_0 a0 M) (QA S Z hx N M) := by
  have hN := w.2.2.1
  have w0 := wk_r (S := S) w
  delta FX100_isThere_0 BX100_isThere_0
  refine pq_fi (fun _ => ?_) (fun _ => ?_)
  · exact q_tA hN w0 (wX100_isThere_14 S Z hS _ _ w0.1 )
  · refine pq_fi (fun _ => ?_) (fun _ => ?_)
    · exact q_tA hN w0 (wX100_isThere_56 S Z hS _ _ w0.1 )
    · exact q_tA hN w0 (wX100_isThere_14 S Z hS _ _ w0.1 )
theorem wX100_isThere (S Z : Nat → Prop) {hx N : Nat} (hS : ∀ x, fe_mem lX100_isThere x = true → S x) (a0 : Int32) (M : FM) (w : WI Z hx N M) : pq (FX100_isThere a0 M) (QA S Z hx N M) := wX100_isThere_0 S Z hS a0 M w 
