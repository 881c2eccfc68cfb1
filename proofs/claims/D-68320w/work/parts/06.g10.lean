/-! functions without guards, printed by gen/gg.py -/
set_option maxRecDepth 100000
noncomputable def GX94_plain_0 (a0 : Nat) (M : FM) : Int32 × FM :=
  let r1 : Int32 × FM := GX94_bits a0 (Int32.ofInt 12) (Int32.ofInt 12) M
  let r2 : Int32 × FM := GX94_bits a0 (Int32.ofInt 6) (Int32.ofInt 2) r1.2
  ((((Int32.ofInt 32) * r1.1) + r2.1), r2.2)
def HX94_plain_0 (a0 : Nat) (M : FM) : Prop := (HX94_bits a0 (Int32.ofInt 12) (Int32.ofInt 12) M ∧ let r1 : Int32 × FM := GX94_bits a0 (Int32.ofInt 12) (Int32.ofInt 12) M; (HX94_bits a0 (Int32.ofInt 6) (Int32.ofInt 2) r1.2 ∧ True))
theorem gX94_plain_0 (a0 : Nat) (M : FM) (T : Ty M) (n_a0 : fm_is M 97 97 a0 = true) (h : HX94_plain_0 a0 M) : gd (FX94_plain_0 fN a0 M) (GX94_plain_0 a0 M) (OkR M) := by
  delta FX94_plain_0 BX94_plain_0
  refine gd_c n_a0 ?_
  refine gd_b (gX94_bits _ _ _ _ h.1) (fun K0 => ?_)
  have f1 := (ext_is K0.2 (Nat.zero_lt_succ _) n_a0)
  refine gd_c f1 ?_
  refine gd_b (gX94_bits _ _ _ _ h.2.1) (fun K2 => ?_)
  exact ⟨rfl, ⟨K2.1.1, K2.1.2⟩, (ext_tr K0.2 K2.2)⟩
noncomputable def GX94_plain (a0 : Nat) (M : FM) : Int32 × FM := GX94_plain_0 a0 M
def HX94_plain (a0 : Nat) (M : FM) : Prop := HX94_plain_0 a0 M
theorem gX94_plain (a0 : Nat) (M : FM) (T : Ty M) (n_a0 : fm_is M 97 97 a0 = true) (h : HX94_plain a0 M) : gd (FX94_plain fN a0 M) (GX94_plain a0 M) (OkR M) := gX94_plain_0 a0 M T n_a0 h
noncomputable def GX94_signed_0 (a0 : Nat) (M : FM) : Int32 × FM :=
  let r1 : Int32 × FM := GX94_plain a0 M
  let r2 : Int32 × FM := GX94_bits a0 (Int32.ofInt 12) (Int32.ofInt 12) r1.2
  ((r1.1 - ((Int32.ofInt 64) * r2.1)), r2.2)
def HX94_signed_0 (a0 : Nat) (M : FM) : Prop := (HX94_plain a0 M ∧ let r1 : Int32 × FM := GX94_plain a0 M; (HX94_bits a0 (Int32.ofInt 12) (Int32.ofInt 12) r1.2 ∧ True))
theorem gX94_signed_0 (a0 : Nat) (M : FM) (T : Ty M) (n_a0 : fm_is M 97 97 a0 = true) (h : HX94_signed_0 a0 M) : gd (FX94_signed_0 fN a0 M) (GX94_signed_0 a0 M) (OkR M) := by
  delta FX94_signed_0 BX94_signed_0
  refine gd_c n_a0 ?_
  refine gd_b (gX94_plain _ _ ⟨T.1, T.2⟩ n_a0 h.1) (fun K0 => ?_)
  have f1 := (ext_is K0.2 (Nat.zero_lt_succ _) n_a0)
  refine gd_c f1 ?_
  refine gd_b (gX94_bits _ _ _ _ h.2.1) (fun K2 => ?_)
  exact ⟨rfl, ⟨K2.1.1, K2.1.2⟩, (ext_tr K0.2 K2.2)⟩
noncomputable def GX94_signed (a0 : Nat) (M : FM) : Int32 × FM := GX94_signed_0 a0 M
def HX94_signed (a0 : Nat) (M : FM) : Prop := HX94_signed_0 a0 M
theorem gX94_signed (a0 : Nat) (M : FM) (T : Ty M) (n_a0 : fm_is M 97 97 a0 = true) (h : HX94_signed a0 M) : gd (FX94_signed fN a0 M) (GX94_signed a0 M) (OkR M) := gX94_signed_0 a0 M T n_a0 h
noncomputable def GX94_wordR_0 (a0 : Int32) (a1 : Int32) (a2 : Int32) (a3 : Int32) (a4 : Int32) (a5 : Int32) (M : FM) : Int32 × FM :=
  let r1 : Int32 × FM := GX94_wordI a0 a1 a2 a3 (a4 + ((Int32.ofInt 32) * a5)) M
  (r1.1, r1.2)
theorem gX94_wordR_0 (a0 : Int32) (a1 : Int32) (a2 : Int32) (a3 : Int32) (a4 : Int32) (a5 : Int32) (M : FM) (T : Ty M) : gd (FX94_wordR_0 a0 a1 a2 a3 a4 a5 M) (GX94_wordR_0 a0 a1 a2 a3 a4 a5 M) (OkR M) := by
  delta FX94_wordR_0 BX94_wordR_0
  refine gd_b (gX94_wordI _ _ _ _ _ _ ⟨T.1, T.2⟩  ) (fun K0 => ?_)
  exact ⟨rfl, ⟨K0.1.1, K0.1.2⟩, K0.2⟩
noncomputable def GX94_wordR (a0 : Int32) (a1 : Int32) (a2 : Int32) (a3 : Int32) (a4 : Int32) (a5 : Int32) (M : FM) : Int32 × FM := GX94_wordR_0 a0 a1 a2 a3 a4 a5 M
theorem gX94_wordR (a0 : Int32) (a1 : Int32) (a2 : Int32) (a3 : Int32) (a4 : Int32) (a5 : Int32) (M : FM) (T : Ty M) : gd (FX94_wordR a0 a1 a2 a3 a4 a5 M) (GX94_wordR a0 a1 a2 a3 a4 a5 M) (OkR M) := gX94_wordR_0 a0 a1 a2 a3 a4 a5 M T 
noncomputable def GX94_arithmetic_0 (a0 : Nat) (M : FM) : Int32 × FM :=
  let r1 : Int32 × FM := GX94_bits a0 (Int32.ofInt 9) (Int32.ofInt 7) M
  let x2 : Int32 := ((Int32.ofInt 8) + r1.1)
  let r3 : Int32 × FM := GX94_bits a0 (Int32.ofInt 4) (Int32.ofInt 2) r1.2
  let x4 : Int32 := ((Int32.ofInt 8) + r3.1)
  let r5 : Int32 × FM := GX94_bits a0 (Int32.ofInt 11) (Int32.ofInt 10) r3.2
  fi ((Int32.ofInt 2) ≤ r5.1) (
    fi (r5.1 = (Int32.ofInt 2)) (
      let r6 : Int32 × FM := GX94_signed a0 r5.2
      let r7 : Int32 × FM := GX94_wordI (Int32.ofInt 19) x2 (Int32.ofInt 7) x2 r6.1 r6.2
      (r7.1, r7.2)) (
      let r8 : Int32 × FM := GX94_bits a0 (Int32.ofInt 12) (Int32.ofInt 12) r5.2
      let r9 : Int32 × FM := GX94_bits a0 (Int32.ofInt 6) (Int32.ofInt 5) r8.2
      let x10 : Int32 := (((Int32.ofInt 4) * r8.1) + r9.1)
      fi (x10 = (Int32.ofInt 0)) (
        let r11 : Int32 × FM := GX94_wordR (Int32.ofInt 51) x2 (Int32.ofInt 0) x2 x4 (Int32.ofInt 32) r9.2
        (r11.1, r11.2)) (
        fi (x10 = (Int32.ofInt 1)) (
          let r12 : Int32 × FM := GX94_wordR (Int32.ofInt 51) x2 (Int32.ofInt 4) x2 x4 (Int32.ofInt 0) r9.2
          (r12.1, r12.2)) (
          fi (x10 = (Int32.ofInt 2)) (
            let r13 : Int32 × FM := GX94_wordR (Int32.ofInt 51) x2 (Int32.ofInt 6) x2 x4 (Int32.ofInt 0) r9.2
            (r13.1, r13.2)) (
            fi (x10 = (Int32.ofInt 3)) (
              let r14 : Int32 × FM := GX94_wordR (Int32.ofInt 51) x2 (Int32.ofInt 7) x2 x4 (Int32.ofInt 0) r9.2
              (r14.1, r14.2)) (
              fi (x10 = (Int32.ofInt 4)) (
                let r15 : Int32 × FM := GX94_wordR (Int32.ofInt 59) x2 (Int32.ofInt 0) x2 x4 (Int32.ofInt 32) r9.2
                (r15.1, r15.2)) (
                fi (x10 = (Int32.ofInt 5)) (
                  let r16 : Int32 × FM := GX94_wordR (Int32.ofInt 59) x2 (Int32.ofInt 0) x2 x4 (Int32.ofInt 0) r9.2
                  (r16.1, r16.2)) (
                  ((Int32.ofInt 0), r9.2))))))))) (
    let r17 : Int32 × FM := GX94_plain a0 r5.2
    let r18 : Int32 × FM := GX94_wordI (Int32.ofInt 19) x2 (Int32.ofInt 5) x2 (r17.1 + ((Int32.ofInt 1024) * r5.1)) r17.2
    (r18.1, r18.2))
def HX94_arithmetic_0 (a0 : Nat) (M : FM) : Prop := (HX94_bits a0 (Int32.ofInt 9) (Int32.ofInt 7) M ∧ let r1 : Int32 × FM := GX94_bits a0 (Int32.ofInt 9) (Int32.ofInt 7) M; let x2 : Int32 := ((Int32.ofInt 8) + r1.1); (HX94_bits a0 (Int32.ofInt 4) (Int32.ofInt 2) r1.2 ∧ let r3 : Int32 × FM := GX94_bits a0 (Int32.ofInt 4) (Int32.ofInt 2) r1.2; let x4 : Int32 := ((Int32.ofInt 8) + r3.1); (HX94_bits a0 (Int32.ofInt 11) (Int32.ofInt 10) r3.2 ∧ let r5 : Int32 × FM := GX94_bits a0 (Int32.ofInt 11) (Int32.ofInt 10) r3.2; (((Int32.ofInt 2) ≤ r5.1 → ((r5.1 = (Int32.ofInt 2) → (HX94_signed a0 r5.2 ∧ True)) ∧ (¬ (r5.1 = (Int32.ofInt 2)) → (HX94_bits a0 (Int32.ofInt 12) (Int32.ofInt 12) r5.2 ∧ let r8 : Int32 × FM := GX94_bits a0 (Int32.ofInt 12) (Int32.ofInt 12) r5.2; (HX94_bits a0 (Int32.ofInt 6) (Int32.ofInt 5) r8.2 ∧ True))))) ∧ (¬ ((Int32.ofInt 2) ≤ r5.1) → (HX94_plain a0 r5.2 ∧ True))))))
theorem gX94_arithmetic_0 (a0 : Nat) (M : FM) (T : Ty M) (n_a0 : fm_is M 97 97 a0 = true) (h : HX94_arithmetic_0 a0 M) : gd (FX94_arithmetic_0 fN a0 M) (GX94_arithmetic_0 a0 M) (OkR M) := by
  delta FX94_arithmetic_0 BX94_arithmetic_0
  refine gd_c n_a0 ?_
  refine gd_b (gX94_bits _ _ _ _ h.1) (fun K0 => ?_)
  have f1 := (ext_is K0.2 (Nat.zero_lt_succ _) n_a0)
  refine gd_c f1 ?_
  refine gd_b (gX94_bits _ _ _ _ h.2.1) (fun K2 => ?_)
  have f3 := (ext_is K2.2 (Nat.zero_lt_succ _) (ext_is K0.2 (Nat.zero_lt_succ _) n_a0))
  refine gd_c f3 ?_
  refine gd_b (gX94_bits _ _ _ _ h.2.2.1) (fun K4 => ?_)
  refine gd_fi (fun c5_0 => ?_) (fun c5_0 => ?_)
  · refine gd_fi (fun c6_0 => ?_) (fun c6_0 => ?_)
    · have f7 := (ext_is K4.2 (Nat.zero_lt_succ _) (ext_is K2.2 (Nat.zero_lt_succ _) (ext_is K0.2 (Nat.zero_lt_succ _) n_a0)))
      refine gd_c f7 ?_
      have f10 := (ext_is K4.2 (Nat.zero_lt_succ _) (ext_is K2.2 (Nat.zero_lt_succ _) (ext_is K0.2 (Nat.zero_lt_succ _) n_a0)))
      refine gd_b (gX94_signed _ _ ⟨K4.1.1, K4.1.2⟩ f10 ((h.2.2.2.1 c5_0).1 c6_0).1) (fun K8 => ?_)
      refine gd_b (gX94_wordI _ _ _ _ _ _ ⟨K8.1.1, K8.1.2⟩  ) (fun K9 => ?_)
      exact ⟨rfl, ⟨K9.1.1, K9.1.2⟩, (ext_tr K0.2 (ext_tr K2.2 (ext_tr K4.2 (ext_tr K8.2 K9.2))))⟩
    · have f11 := (ext_is K4.2 (Nat.zero_lt_succ _) (ext_is K2.2 (Nat.zero_lt_succ _) (ext_is K0.2 (Nat.zero_lt_succ _) n_a0)))
      refine gd_c f11 ?_
      refine gd_b (gX94_bits _ _ _ _ ((h.2.2.2.1 c5_0).2 c6_0).1) (fun K12 => ?_)
      have f13 := (ext_is K12.2 (Nat.zero_lt_succ _) (ext_is K4.2 (Nat.zero_lt_succ _) (ext_is K2.2 (Nat.zero_lt_succ _) (ext_is K0.2 (Nat.zero_lt_succ _) n_a0))))
      refine gd_c f13 ?_
      refine gd_b (gX94_bits _ _ _ _ ((h.2.2.2.1 c5_0).2 c6_0).2.1) (fun K14 => ?_)
      refine gd_fi (fun c15_0 => ?_) (fun c15_0 => ?_)
      · refine gd_b (gX94_wordR _ _ _ _ _ _ _ ⟨K14.1.1, K14.1.2⟩  ) (fun K16 => ?_)
        exact ⟨rfl, ⟨K16.1.1, K16.1.2⟩, (ext_tr K0.2 (ext_tr K2.2 (ext_tr K4.2 (ext_tr K12.2 (ext_tr K14.2 K16.2)))))⟩
      · refine gd_fi (fun c17_1 => ?_) (fun c17_1 => ?_)
        · refine gd_b (gX94_wordR _ _ _ _ _ _ _ ⟨K14.1.1, K14.1.2⟩  ) (fun K18 => ?_)
          exact ⟨rfl, ⟨K18.1.1, K18.1.2⟩, (ext_tr K0.2 (ext_tr K2.2 (ext_tr K4.2 (ext_tr K12.2 (ext_tr K14.2 K18.2)))))⟩
        · refine gd_fi (fun c19_2 => ?_) (fun c19_2 => ?_)
          · refine gd_b (gX94_wordR _ _ _ _ _ _ _ ⟨K14.1.1, K14.1.2⟩  ) (fun K20 => ?_)
            exact ⟨rfl, ⟨K20.1.1, K20.1.2⟩, (ext_tr K0.2 (ext_tr K2.2 (ext_tr K4.2 (ext_tr K12.2 (ext_tr K14.2 K20.2)))))⟩
          · refine gd_fi (fun c21_3 => ?_) (fun c21_3 => ?_)
            · refine gd_b (gX94_wordR _ _ _ _ _ _ _ ⟨K14.1.1, K14.1.2⟩  ) (fun K22 => ?_)
              exact ⟨rfl, ⟨K22.1.1, K22.1.2⟩, (ext_tr K0.2 (ext_tr K2.2 (ext_tr K4.2 (ext_tr K12.2 (ext_tr K14.2 K22.2)))))⟩
            · refine gd_fi (fun c23_4 => ?_) (fun c23_4 => ?_)
              · refine gd_b (gX94_wordR _ _ _ _ _ _ _ ⟨K14.1.1, K14.1.2⟩  ) (fun K24 => ?_)
                exact ⟨rfl, ⟨K24.1.1, K24.1.2⟩, (ext_tr K0.2 (ext_tr K2.2 (ext_tr K4.2 (ext_tr K12.2 (ext_tr K14.2 K24.2)))))⟩
              · refine gd_fi (fun c25_5 => ?_) (fun c25_5 => ?_)
                · refine gd_b (gX94_wordR _ _ _ _ _ _ _ ⟨K14.1.1, K14.1.2⟩  ) (fun K26 => ?_)
                  exact ⟨rfl, ⟨K26.1.1, K26.1.2⟩, (ext_tr K0.2 (ext_tr K2.2 (ext_tr K4.2 (ext_tr K12.2 (ext_tr K14.2 K26.2)))))⟩
                · exact ⟨rfl, ⟨K14.1.1, K14.1.2⟩, (ext_tr K0.2 (ext_tr K2.2 (ext_tr K4.2 (ext_tr K12.2 K14.2))))⟩
  · have f27 := (ext_is K4.2 (Nat.zero_lt_succ _) (ext_is K2.2 (Nat.zero_lt_succ _) (ext_is K0.2 (Nat.zero_lt_succ _) n_a0)))
    refine gd_c f27 ?_
    have f30 := (ext_is K4.2 (Nat.zero_lt_succ _) (ext_is K2.2 (Nat.zero_lt_succ _) (ext_is K0.2 (Nat.zero_lt_succ _) n_a0)))
    refine gd_b (gX94_plain _ _ ⟨K4.1.1, K4.1.2⟩ f30 (h.2.2.2.2 c5_0).1) (fun K28 => ?_)
    refine gd_b (gX94_wordI _ _ _ _ _ _ ⟨K28.1.1, K28.1.2⟩  ) (fun K29 => ?_)
    exact ⟨rfl, ⟨K29.1.1, K29.1.2⟩, (ext_tr K0.2 (ext_tr K2.2 (ext_tr K4.2 (ext_tr K28.2 K29.2))))⟩
noncomputable def GX94_arithmetic (a0 : Nat) (M : FM) : Int32 × FM := GX94_arithmetic_0 a0 M
def HX94_arithmetic (a0 : Nat) (M : FM) : Prop := HX94_arithmetic_0 a0 M
theorem gX94_arithmetic (a0 : Nat) (M : FM) (T : Ty M) (n_a0 : fm_is M 97 97 a0 = true) (h : HX94_arithmetic a0 M) : gd (FX94_arithmetic fN a0 M) (GX94_arithmetic a0 M) (OkR M) := gX94_arithmetic_0 a0 M T n_a0 h
noncomputable def GX94_upper_107 (s0 : Int32) (M : FM) : Int32 × FM :=
  (s0, M)
theorem gX94_upper_107 (s0 : Int32) (M : FM) (T : Ty M) : gd (FX94_upper_107 fN s0 M) (GX94_upper_107 s0 M) (OkR M) := by
  delta FX94_upper_107 BX94_upper_107
  exact ⟨rfl, ⟨T.1, T.2⟩, (ext_r _)⟩
noncomputable def GX94_upper_78 (s0 : Int32) (M : FM) : Int32 × FM :=
  (s0, M)
theorem gX94_upper_78 (s0 : Int32) (M : FM) (T : Ty M) : gd (FX94_upper_78 fN s0 M) (GX94_upper_78 s0 M) (OkR M) := by
  delta FX94_upper_78 BX94_upper_78
  exact ⟨rfl, ⟨T.1, T.2⟩, (ext_r _)⟩
noncomputable def GX94_upper_0 (a0 : Nat) (a1 : Int32) (M : FM) : Int32 × FM :=
  fi (a1 = (Int32.ofInt 2)) (
    let r1 : Int32 × FM := GX94_bits a0 (Int32.ofInt 4) (Int32.ofInt 3) M
    let r2 : Int32 × FM := GX94_bits a0 (Int32.ofInt 5) (Int32.ofInt 5) r1.2
    let r3 : Int32 × FM := GX94_bits a0 (Int32.ofInt 2) (Int32.ofInt 2) r2.2
    let r4 : Int32 × FM := GX94_bits a0 (Int32.ofInt 6) (Int32.ofInt 6) r3.2
    let r5 : Int32 × FM := GX94_bits a0 (Int32.ofInt 12) (Int32.ofInt 12) r4.2
    let x6 : Int32 := ((((((Int32.ofInt 128) * r1.1) + ((Int32.ofInt 64) * r2.1)) + ((Int32.ofInt 32) * r3.1)) + ((Int32.ofInt 16) * r4.1)) - ((Int32.ofInt 512) * r5.1))
    fi (x6 = 0) (
      GX94_upper_78 (Int32.ofInt 0) r5.2) (
      let r7 : Int32 × FM := GX94_wordI (Int32.ofInt 19) (Int32.ofInt 2) (Int32.ofInt 0) (Int32.ofInt 2) x6 r5.2
      GX94_upper_78 r7.1 r7.2)) (
    let r8 : Int32 × FM := GX94_signed a0 M
    fi (r8.1 = 0) (
      GX94_upper_107 (Int32.ofInt 0) r8.2) (
      let r9 : Int32 × FM := GX94_signed a0 r8.2
      GX94_upper_107 (((Int32.ofInt 55) + ((Int32.ofInt 128) * a1)) + ((Int32.ofInt 4096) * r9.1)) r9.2))
def HX94_upper_0 (a0 : Nat) (a1 : Int32) (M : FM) : Prop := ((a1 = (Int32.ofInt 2) → (HX94_bits a0 (Int32.ofInt 4) (Int32.ofInt 3) M ∧ let r1 : Int32 × FM := GX94_bits a0 (Int32.ofInt 4) (Int32.ofInt 3) M; (HX94_bits a0 (Int32.ofInt 5) (Int32.ofInt 5) r1.2 ∧ let r2 : Int32 × FM := GX94_bits a0 (Int32.ofInt 5) (Int32.ofInt 5) r1.2; (HX94_bits a0 (Int32.ofInt 2) (Int32.ofInt 2) r2.2 ∧ let r3 : Int32 × FM := GX94_bits a0 (Int32.ofInt 2) (Int32.ofInt 2) r2.2; (HX94_bits a0 (Int32.ofInt 6) (Int32.ofInt 6) r3.2 ∧ let r4 : Int32 × FM := GX94_bits a0 (Int32.ofInt 6) (Int32.ofInt 6) r3.2; (HX94_bits a0 (Int32.ofInt 12) (Int32.ofInt 12) r4.2 ∧ True)))))) ∧ (¬ (a1 = (Int32.ofInt 2)) → (HX94_signed a0 M ∧ let r8 : Int32 × FM := GX94_signed a0 M; ((r8.1 = 0 → True) ∧ (¬ (r8.1 = 0) → (HX94_signed a0 r8.2 ∧ True))))))
theorem gX94_upper_0 (a0 : Nat) (a1 : Int32) (M : FM) (T : Ty M) (n_a0 : fm_is M 97 97 a0 = true) (h : HX94_upper_0 a0 a1 M) : gd (FX94_upper_0 fN a0 a1 M) (GX94_upper_0 a0 a1 M) (OkR M) := by
  delta FX94_upper_0 BX94_upper_0
  refine gd_fi (fun c0_0 => ?_) (fun c0_0 => ?_)
  · refine gd_c n_a0 ?_
    refine gd_b (gX94_bits _ _ _ _ (h.1 c0_0).1) (fun K1 => ?_)
    have f2 := (ext_is K1.2 (Nat.zero_lt_succ _) n_a0)
    refine gd_c f2 ?_
    refine gd_b (gX94_bits _ _ _ _ (h.1 c0_0).2.1) (fun K3 => ?_)
    have f4 := (ext_is K3.2 (Nat.zero_lt_succ _) (ext_is K1.2 (Nat.zero_lt_succ _) n_a0))
    refine gd_c f4 ?_
    refine gd_b (gX94_bits _ _ _ _ (h.1 c0_0).2.2.1) (fun K5 => ?_)
    have f6 := (ext_is K5.2 (Nat.zero_lt_succ _) (ext_is K3.2 (Nat.zero_lt_succ _) (ext_is K1.2 (Nat.zero_lt_succ _) n_a0)))
    refine gd_c f6 ?_
    refine gd_b (gX94_bits _ _ _ _ (h.1 c0_0).2.2.2.1) (fun K7 => ?_)
    have f8 := (ext_is K7.2 (Nat.zero_lt_succ _) (ext_is K5.2 (Nat.zero_lt_succ _) (ext_is K3.2 (Nat.zero_lt_succ _) (ext_is K1.2 (Nat.zero_lt_succ _) n_a0))))
    refine gd_c f8 ?_
    refine gd_b (gX94_bits _ _ _ _ (h.1 c0_0).2.2.2.2.1) (fun K9 => ?_)
    refine gd_fi (fun c10_0 => ?_) (fun c10_0 => ?_)
    · exact gd_tR (ext_tr K1.2 (ext_tr K3.2 (ext_tr K5.2 (ext_tr K7.2 K9.2)))) (gX94_upper_78 _ _ ⟨K9.1.1, K9.1.2⟩  )
    · refine gd_b (gX94_wordI _ _ _ _ _ _ ⟨K9.1.1, K9.1.2⟩  ) (fun K11 => ?_)
      exact gd_tR (ext_tr K1.2 (ext_tr K3.2 (ext_tr K5.2 (ext_tr K7.2 (ext_tr K9.2 K11.2))))) (gX94_upper_78 _ _ ⟨K11.1.1, K11.1.2⟩  )
  · refine gd_c n_a0 ?_
    refine gd_b (gX94_signed _ _ ⟨T.1, T.2⟩ n_a0 (h.2 c0_0).1) (fun K12 => ?_)
    refine gd_fi (fun c13_0 => ?_) (fun c13_0 => ?_)
    · exact gd_tR K12.2 (gX94_upper_107 _ _ ⟨K12.1.1, K12.1.2⟩  )
    · have f14 := (ext_is K12.2 (Nat.zero_lt_succ _) n_a0)
      refine gd_c f14 ?_
      have f16 := (ext_is K12.2 (Nat.zero_lt_succ _) n_a0)
      refine gd_b (gX94_signed _ _ ⟨K12.1.1, K12.1.2⟩ f16 ((h.2 c0_0).2.2 c13_0).1) (fun K15 => ?_)
      exact gd_tR (ext_tr K12.2 K15.2) (gX94_upper_107 _ _ ⟨K15.1.1, K15.1.2⟩  )
noncomputable def GX94_upper (a0 : Nat) (a1 : Int32) (M : FM) : Int32 × FM := GX94_upper_0 a0 a1 M
def HX94_upper (a0 : Nat) (a1 : Int32) (M : FM) : Prop := HX94_upper_0 a0 a1 M
theorem gX94_upper (a0 : Nat) (a1 : Int32) (M : FM) (T : Ty M) (n_a0 : fm_is M 97 97 a0 = true) (h : HX94_upper a0 a1 M) : gd (FX94_upper fN a0 a1 M) (GX94_upper a0 a1 M) (OkR M) := gX94_upper_0 a0 a1 M T n_a0 h
noncomputable def GX94_bit_0 (a0 : Int32) (a1 : Int32) (a2 : Int32) (M : FM) : Int32 × FM :=
  ((((a0 >>> (a1 &&& 31)) &&& (Int32.ofInt 1)) <<< (a2 &&& 31)), M)
theorem gX94_bit_0 (a0 : Int32) (a1 : Int32) (a2 : Int32) (M : FM) (T : Ty M) : gd (FX94_bit_0 a0 a1 a2 M) (GX94_bit_0 a0 a1 a2 M) (OkR M) := by
  delta FX94_bit_0 BX94_bit_0
  exact ⟨rfl, ⟨T.1, T.2⟩, (ext_r _)⟩
noncomputable def GX94_bit (a0 : Int32) (a1 : Int32) (a2 : Int32) (M : FM) : Int32 × FM := GX94_bit_0 a0 a1 a2 M
theorem gX94_bit (a0 : Int32) (a1 : Int32) (a2 : Int32) (M : FM) (T : Ty M) : gd (FX94_bit a0 a1 a2 M) (GX94_bit a0 a1 a2 M) (OkR M) := gX94_bit_0 a0 a1 a2 M T 
def kX94_wordB (k35 : Int32 → Int32 → Int32 → FM → Option (Int32 × FM)) : (Int32 × Int32 × Int32 × FM) ⊕ (Int32 × FM) → Option (Int32 × FM)
  | .inl (v0, v1, v2, M') => k35 v0 v1 v2 M'
  | .inr (r) => some r
def pX94_wordB (M : FM) : (Int32 × Int32 × Int32 × FM) ⊕ (Int32 × FM) → Prop
  | .inl (_, _, _, M') => OkV M M'
  | .inr (r) => OkR M r
theorem pX94_wordB_t {M M1 : FM} (e : Ext M M1) : ∀ y, pX94_wordB M1 y → pX94_wordB M y
  | .inl (_, _, _, _), h => ⟨h.1, ext_tr e h.2⟩
  | .inr (r), h => ⟨h.1, ext_tr e h.2⟩
noncomputable def GX94_wordB_65 (a2 : Int32) (a4 : Int32) (s0 : Int32) (s1 : Int32) (s2 : Int32) (s3 : Int32) (M : FM) : (Int32 × Int32 × Int32 × FM) ⊕ (Int32 × FM) :=
  let r1 : Int32 × FM := GX94_bit s1 s2 s3 M
  let x2 : Int32 := (s0 + r1.1)
  let x3 : Int32 := a4 + (Int32.ofInt 1)
  (.inl (a2, x2, x3, r1.2))
theorem gX94_wordB_65 (k35 : Int32 → Int32 → Int32 → FM → Option (Int32 × FM)) (a2 : Int32) (a4 : Int32) (s0 : Int32) (s1 : Int32) (s2 : Int32) (s3 : Int32) (M : FM) (T : Ty M) : gs (FX94_wordB_65 fN k35 a2 a4 s0 s1 s2 s3 M) (GX94_wordB_65 a2 a4 s0 s1 s2 s3 M) (kX94_wordB k35) (pX94_wordB M) := by
  delta FX94_wordB_65 BX94_wordB_65
  refine gs_b (gX94_bit _ _ _ _ ⟨T.1, T.2⟩  ) (fun K0 => ?_)
  exact And.intro rfl (And.intro (And.intro K0.1.1 K0.1.2) K0.2)
noncomputable def GX94_wordB_0 (a0 : Int32) (a1 : Int32) (a2 : Int32) (M : FM) : (Int32 × Int32 × Int32 × FM) ⊕ (Int32 × FM) :=
  let r1 : Int32 × FM := GX94_bit a2 (Int32.ofInt 11) (Int32.ofInt 7) M
  let r2 : Int32 × FM := GX94_bit a2 (Int32.ofInt 12) (Int32.ofInt 31) r1.2
  let x3 : Int32 := (((((Int32.ofInt 99) + ((Int32.ofInt 4096) * a0)) + ((Int32.ofInt 32768) * a1)) + r1.1) + r2.1)
  (.inl (a2, x3, (Int32.ofInt 1), r2.2))
theorem gX94_wordB_0 (k35 : Int32 → Int32 → Int32 → FM → Option (Int32 × FM)) (a0 : Int32) (a1 : Int32) (a2 : Int32) (M : FM) (T : Ty M) : gs (FX94_wordB_0 fN k35 a0 a1 a2 M) (GX94_wordB_0 a0 a1 a2 M) (kX94_wordB k35) (pX94_wordB M) := by
  delta FX94_wordB_0 BX94_wordB_0
  refine gs_b (gX94_bit _ _ _ _ ⟨T.1, T.2⟩  ) (fun K0 => ?_)
  refine gs_b (gX94_bit _ _ _ _ ⟨K0.1.1, K0.1.2⟩  ) (fun K1 => ?_)
  exact And.intro rfl (And.intro (And.intro K1.1.1 K1.1.2) ((ext_tr K0.2 K1.2)))
noncomputable def GX94_wordB_35 (a2 : Int32) (a3 : Int32) (a4 : Int32) (M : FM) : (Int32 × Int32 × Int32 × FM) ⊕ (Int32 × FM) :=
  fi ((Int32.ofInt 11) ≤ a4) (
    (.inr (a3, M))) (
    fi ((Int32.ofInt 5) ≤ a4) (
      GX94_wordB_65 a2 a4 a3 a2 a4 (a4 + (Int32.ofInt 20)) M) (
      GX94_wordB_65 a2 a4 a3 a2 a4 (a4 + (Int32.ofInt 7)) M))
theorem gX94_wordB_35 (k35 : Int32 → Int32 → Int32 → FM → Option (Int32 × FM)) (a2 : Int32) (a3 : Int32) (a4 : Int32) (M : FM) (T : Ty M) : gs (FX94_wordB_35 fN k35 a2 a3 a4 M) (GX94_wordB_35 a2 a3 a4 M) (kX94_wordB k35) (pX94_wordB M) := by
  delta FX94_wordB_35 BX94_wordB_35
  refine gs_fi (fun c0_0 => ?_) (fun c0_0 => ?_)
  · exact And.intro rfl (And.intro (And.intro T.1 T.2) ((ext_r _)))
  · refine gs_fi (fun c1_0 => ?_) (fun c1_0 => ?_)
    · exact gs_t (pX94_wordB_t (ext_r _)) (gX94_wordB_65 k35 _ _ _ _ _ _ _ ⟨T.1, T.2⟩  )
    · exact gs_t (pX94_wordB_t (ext_r _)) (gX94_wordB_65 k35 _ _ _ _ _ _ _ ⟨T.1, T.2⟩  )
noncomputable def GX94_wordB (a0 : Int32) (a1 : Int32) (a2 : Int32) (M : FM) : Int32 × FM := (FX94_wordB fN a0 a1 a2 M).getD (0, M)
def HX94_wordB (a0 : Int32) (a1 : Int32) (a2 : Int32) (M : FM) : Prop := ∃ r, FX94_wordB fN a0 a1 a2 M = some r ∧ OkR M r
theorem gX94_wordB (a0 : Int32) (a1 : Int32) (a2 : Int32) (M : FM) (h : HX94_wordB a0 a1 a2 M) : gd (FX94_wordB fN a0 a1 a2 M) (GX94_wordB a0 a1 a2 M) (OkR M) := gd_op h
def kX94_wordJ (k23 : Int32 → Int32 → Int32 → FM → Option (Int32 × FM)) : (Int32 × Int32 × Int32 × FM) ⊕ (Int32 × FM) → Option (Int32 × FM)
  | .inl (v0, v1, v2, M') => k23 v0 v1 v2 M'
  | .inr (r) => some r
def pX94_wordJ (M : FM) : (Int32 × Int32 × Int32 × FM) ⊕ (Int32 × FM) → Prop
  | .inl (_, _, _, M') => OkV M M'
  | .inr (r) => OkR M r
theorem pX94_wordJ_t {M M1 : FM} (e : Ext M M1) : ∀ y, pX94_wordJ M1 y → pX94_wordJ M y
  | .inl (_, _, _, _), h => ⟨h.1, ext_tr e h.2⟩
  | .inr (r), h => ⟨h.1, ext_tr e h.2⟩
noncomputable def GX94_wordJ_60 (a0 : Int32) (a2 : Int32) (s0 : Int32) (M : FM) : (Int32 × Int32 × Int32 × FM) ⊕ (Int32 × FM) :=
  let x1 : Int32 := a2 + (Int32.ofInt 1)
  (.inl (a0, s0, x1, M))
theorem gX94_wordJ_60 (k23 : Int32 → Int32 → Int32 → FM → Option (Int32 × FM)) (a0 : Int32) (a2 : Int32) (s0 : Int32) (M : FM) (T : Ty M) : gs (FX94_wordJ_60 fN k23 a0 a2 s0 M) (GX94_wordJ_60 a0 a2 s0 M) (kX94_wordJ k23) (pX94_wordJ M) := by
  delta FX94_wordJ_60 BX94_wordJ_60
  exact And.intro rfl (And.intro (And.intro T.1 T.2) ((ext_r _)))
noncomputable def GX94_wordJ_56 (a0 : Int32) (a2 : Int32) (s0 : Int32) (s1 : Int32) (s2 : Int32) (s3 : Int32) (M : FM) : (Int32 × Int32 × Int32 × FM) ⊕ (Int32 × FM) :=
  let r1 : Int32 × FM := GX94_bit s1 s2 s3 M
  GX94_wordJ_60 a0 a2 (s0 + r1.1) r1.2
theorem gX94_wordJ_56 (k23 : Int32 → Int32 → Int32 → FM → Option (Int32 × FM)) (a0 : Int32) (a2 : Int32) (s0 : Int32) (s1 : Int32) (s2 : Int32) (s3 : Int32) (M : FM) (T : Ty M) : gs (FX94_wordJ_56 fN k23 a0 a2 s0 s1 s2 s3 M) (GX94_wordJ_56 a0 a2 s0 s1 s2 s3 M) (kX94_wordJ k23) (pX94_wordJ M) := by
  delta FX94_wordJ_56 BX94_wordJ_56
  refine gs_b (gX94_bit _ _ _ _ ⟨T.1, T.2⟩  ) (fun K0 => ?_)
  exact gs_t (pX94_wordJ_t K0.2) (gX94_wordJ_60 k23 _ _ _ _ ⟨K0.1.1, K0.1.2⟩  )
noncomputable def GX94_wordJ_0 (a0 : Int32) (M : FM) : (Int32 × Int32 × Int32 × FM) ⊕ (Int32 × FM) :=
  let r1 : Int32 × FM := GX94_bit a0 (Int32.ofInt 11) (Int32.ofInt 20) M
  let r2 : Int32 × FM := GX94_bit a0 (Int32.ofInt 20) (Int32.ofInt 31) r1.2
  let x3 : Int32 := (((Int32.ofInt 111) + r1.1) + r2.1)
  (.inl (a0, x3, (Int32.ofInt 1), r2.2))
theorem gX94_wordJ_0 (k23 : Int32 → Int32 → Int32 → FM → Option (Int32 × FM)) (a0 : Int32) (M : FM) (T : Ty M) : gs (FX94_wordJ_0 fN k23 a0 M) (GX94_wordJ_0 a0 M) (kX94_wordJ k23) (pX94_wordJ M) := by
  delta FX94_wordJ_0 BX94_wordJ_0
  refine gs_b (gX94_bit _ _ _ _ ⟨T.1, T.2⟩  ) (fun K0 => ?_)
  refine gs_b (gX94_bit _ _ _ _ ⟨K0.1.1, K0.1.2⟩  ) (fun K1 => ?_)
  exact And.intro rfl (And.intro (And.intro K1.1.1 K1.1.2) ((ext_tr K0.2 K1.2)))
noncomputable def GX94_wordJ_23 (a0 : Int32) (a1 : Int32) (a2 : Int32) (M : FM) : (Int32 × Int32 × Int32 × FM) ⊕ (Int32 × FM) :=
  fi ((Int32.ofInt 20) ≤ a2) (
    (.inr (a1, M))) (
    fi (a2 = (Int32.ofInt 11)) (
      GX94_wordJ_60 a0 a2 a1 M) (
      fi ((Int32.ofInt 11) ≤ a2) (
        GX94_wordJ_56 a0 a2 a1 a0 a2 a2 M) (
        GX94_wordJ_56 a0 a2 a1 a0 a2 (a2 + (Int32.ofInt 20)) M)))
theorem gX94_wordJ_23 (k23 : Int32 → Int32 → Int32 → FM → Option (Int32 × FM)) (a0 : Int32) (a1 : Int32) (a2 : Int32) (M : FM) (T : Ty M) : gs (FX94_wordJ_23 fN k23 a0 a1 a2 M) (GX94_wordJ_23 a0 a1 a2 M) (kX94_wordJ k23) (pX94_wordJ M) := by
  delta FX94_wordJ_23 BX94_wordJ_23
  refine gs_fi (fun c0_0 => ?_) (fun c0_0 => ?_)
  · exact And.intro rfl (And.intro (And.intro T.1 T.2) ((ext_r _)))
  · refine gs_fi (fun c1_0 => ?_) (fun c1_0 => ?_)
    · exact gs_t (pX94_wordJ_t (ext_r _)) (gX94_wordJ_60 k23 _ _ _ _ ⟨T.1, T.2⟩  )
    · refine gs_fi (fun c2_0 => ?_) (fun c2_0 => ?_)
      · exact gs_t (pX94_wordJ_t (ext_r _)) (gX94_wordJ_56 k23 _ _ _ _ _ _ _ ⟨T.1, T.2⟩  )
      · exact gs_t (pX94_wordJ_t (ext_r _)) (gX94_wordJ_56 k23 _ _ _ _ _ _ _ ⟨T.1, T.2⟩  )
noncomputable def GX94_wordJ (a0 : Int32) (M : FM) : Int32 × FM := (FX94_wordJ fN a0 M).getD (0, M)
def HX94_wordJ (a0 : Int32) (M : FM) : Prop := ∃ r, FX94_wordJ fN a0 M = some r ∧ OkR M r
theorem gX94_wordJ (a0 : Int32) (M : FM) (h : HX94_wordJ a0 M) : gd (FX94_wordJ fN a0 M) (GX94_wordJ a0 M) (OkR M) := gd_op h
noncomputable def GX94_quadrant1_149 (s0 : Int32) (M : FM) : Int32 × FM :=
  (s0, M)
theorem gX94_quadrant1_149 (s0 : Int32) (M : FM) (T : Ty M) : gd (FX94_quadrant1_149 fN s0 M) (GX94_quadrant1_149 s0 M) (OkR M) := by
  delta FX94_quadrant1_149 BX94_quadrant1_149
  exact ⟨rfl, ⟨T.1, T.2⟩, (ext_r _)⟩
noncomputable def GX94_quadrant1_0 (a0 : Nat) (M : FM) : Int32 × FM :=
  let r1 : Int32 × FM := GX94_bits a0 (Int32.ofInt 11) (Int32.ofInt 7) M
  let r2 : Int32 × FM := GX94_bits a0 (Int32.ofInt 6) (Int32.ofInt 5) r1.2
  let r3 : Int32 × FM := GX94_bits a0 (Int32.ofInt 2) (Int32.ofInt 2) r2.2
  let r4 : Int32 × FM := GX94_bits a0 (Int32.ofInt 11) (Int32.ofInt 10) r3.2
  let r5 : Int32 × FM := GX94_bits a0 (Int32.ofInt 4) (Int32.ofInt 3) r4.2
  let r6 : Int32 × FM := GX94_bits a0 (Int32.ofInt 12) (Int32.ofInt 12) r5.2
  let x7 : Int32 := ((((((Int32.ofInt 64) * r2.1) + ((Int32.ofInt 32) * r3.1)) + ((Int32.ofInt 8) * r4.1)) + ((Int32.ofInt 2) * r5.1)) - ((Int32.ofInt 256) * r6.1))
  let r8 : Int32 × FM := GX94_bits a0 (Int32.ofInt 15) (Int32.ofInt 13) r6.2
  fi (r8.1 = (Int32.ofInt 0)) (
    let r9 : Int32 × FM := GX94_signed a0 r8.2
    let r10 : Int32 × FM := GX94_wordI (Int32.ofInt 19) r1.1 (Int32.ofInt 0) r1.1 r9.1 r9.2
    (r10.1, r10.2)) (
    fi (r8.1 = (Int32.ofInt 1)) (
      fi (r1.1 = 0) (
        GX94_quadrant1_149 (Int32.ofInt 0) r8.2) (
        let r11 : Int32 × FM := GX94_signed a0 r8.2
        let r12 : Int32 × FM := GX94_wordI (Int32.ofInt 27) r1.1 (Int32.ofInt 0) r1.1 r11.1 r11.2
        GX94_quadrant1_149 r12.1 r12.2)) (
      fi (r8.1 = (Int32.ofInt 2)) (
        let r13 : Int32 × FM := GX94_signed a0 r8.2
        let r14 : Int32 × FM := GX94_wordI (Int32.ofInt 19) r1.1 (Int32.ofInt 0) (Int32.ofInt 0) r13.1 r13.2
        (r14.1, r14.2)) (
        fi (r8.1 = (Int32.ofInt 3)) (
          let r15 : Int32 × FM := GX94_upper a0 r1.1 r8.2
          (r15.1, r15.2)) (
          fi (r8.1 = (Int32.ofInt 4)) (
            let r16 : Int32 × FM := GX94_arithmetic a0 r8.2
            (r16.1, r16.2)) (
            fi (r8.1 = (Int32.ofInt 5)) (
              let r17 : Int32 × FM := GX94_bits a0 (Int32.ofInt 8) (Int32.ofInt 8) r8.2
              let r18 : Int32 × FM := GX94_bits a0 (Int32.ofInt 10) (Int32.ofInt 9) r17.2
              let r19 : Int32 × FM := GX94_bits a0 (Int32.ofInt 6) (Int32.ofInt 6) r18.2
              let r20 : Int32 × FM := GX94_bits a0 (Int32.ofInt 7) (Int32.ofInt 7) r19.2
              let r21 : Int32 × FM := GX94_bits a0 (Int32.ofInt 2) (Int32.ofInt 2) r20.2
              let r22 : Int32 × FM := GX94_bits a0 (Int32.ofInt 11) (Int32.ofInt 11) r21.2
              let r23 : Int32 × FM := GX94_bits a0 (Int32.ofInt 5) (Int32.ofInt 3) r22.2
              let r24 : Int32 × FM := GX94_bits a0 (Int32.ofInt 12) (Int32.ofInt 12) r23.2
              let r25 : Int32 × FM := GX94_wordJ (((((((((Int32.ofInt 1024) * r17.1) + ((Int32.ofInt 256) * r18.1)) + ((Int32.ofInt 128) * r19.1)) + ((Int32.ofInt 64) * r20.1)) + ((Int32.ofInt 32) * r21.1)) + ((Int32.ofInt 16) * r22.1)) + ((Int32.ofInt 2) * r23.1)) - ((Int32.ofInt 2048) * r24.1)) r24.2
              (r25.1, r25.2)) (
              fi (r8.1 = (Int32.ofInt 6)) (
                let r26 : Int32 × FM := GX94_bits a0 (Int32.ofInt 9) (Int32.ofInt 7) r8.2
                let r27 : Int32 × FM := GX94_wordB (Int32.ofInt 0) ((Int32.ofInt 8) + r26.1) x7 r26.2
                (r27.1, r27.2)) (
                let r28 : Int32 × FM := GX94_bits a0 (Int32.ofInt 9) (Int32.ofInt 7) r8.2
                let r29 : Int32 × FM := GX94_wordB (Int32.ofInt 1) ((Int32.ofInt 8) + r28.1) x7 r28.2
                (r29.1, r29.2))))))))
def HX94_quadrant1_0 (a0 : Nat) (M : FM) : Prop := (HX94_bits a0 (Int32.ofInt 11) (Int32.ofInt 7) M ∧ let r1 : Int32 × FM := GX94_bits a0 (Int32.ofInt 11) (Int32.ofInt 7) M; (HX94_bits a0 (Int32.ofInt 6) (Int32.ofInt 5) r1.2 ∧ let r2 : Int32 × FM := GX94_bits a0 (Int32.ofInt 6) (Int32.ofInt 5) r1.2; (HX94_bits a0 (Int32.ofInt 2) (Int32.ofInt 2) r2.2 ∧ let r3 : Int32 × FM := GX94_bits a0 (Int32.ofInt 2) (Int32.ofInt 2) r2.2; (HX94_bits a0 (Int32.ofInt 11) (Int32.ofInt 10) r3.2 ∧ let r4 : Int32 × FM := GX94_bits a0 (Int32.ofInt 11) (Int32.ofInt 10) r3.2; (HX94_bits a0 (Int32.ofInt 4) (Int32.ofInt 3) r4.2 ∧ let r5 : Int32 × FM := GX94_bits a0 (Int32.ofInt 4) (Int32.ofInt 3) r4.2; (HX94_bits a0 (Int32.ofInt 12) (Int32.ofInt 12) r5.2 ∧ let r6 : Int32 × FM := GX94_bits a0 (Int32.ofInt 12) (Int32.ofInt 12) r5.2; let x7 : Int32 := ((((((Int32.ofInt 64) * r2.1) + ((Int32.ofInt 32) * r3.1)) + ((Int32.ofInt 8) * r4.1)) + ((Int32.ofInt 2) * r5.1)) - ((Int32.ofInt 256) * r6.1)); (HX94_bits a0 (Int32.ofInt 15) (Int32.ofInt 13) r6.2 ∧ let r8 : Int32 × FM := GX94_bits a0 (Int32.ofInt 15) (Int32.ofInt 13) r6.2; ((r8.1 = (Int32.ofInt 0) → (HX94_signed a0 r8.2 ∧ True)) ∧ (¬ (r8.1 = (Int32.ofInt 0)) → ((r8.1 = (Int32.ofInt 1) → ((r1.1 = 0 → True) ∧ (¬ (r1.1 = 0) → (HX94_signed a0 r8.2 ∧ True)))) ∧ (¬ (r8.1 = (Int32.ofInt 1)) → ((r8.1 = (Int32.ofInt 2) → (HX94_signed a0 r8.2 ∧ True)) ∧ (¬ (r8.1 = (Int32.ofInt 2)) → ((r8.1 = (Int32.ofInt 3) → (HX94_upper a0 r1.1 r8.2 ∧ True)) ∧ (¬ (r8.1 = (Int32.ofInt 3)) → ((r8.1 = (Int32.ofInt 4) → (HX94_arithmetic a0 r8.2 ∧ True)) ∧ (¬ (r8.1 = (Int32.ofInt 4)) → ((r8.1 = (Int32.ofInt 5) → (HX94_bits a0 (Int32.ofInt 8) (Int32.ofInt 8) r8.2 ∧ let r17 : Int32 × FM := GX94_bits a0 (Int32.ofInt 8) (Int32.ofInt 8) r8.2; (HX94_bits a0 (Int32.ofInt 10) (Int32.ofInt 9) r17.2 ∧ let r18 : Int32 × FM := GX94_bits a0 (Int32.ofInt 10) (Int32.ofInt 9) r17.2; (HX94_bits a0 (Int32.ofInt 6) (Int32.ofInt 6) r18.2 ∧ let r19 : Int32 × FM := GX94_bits a0 (Int32.ofInt 6) (Int32.ofInt 6) r18.2; (HX94_bits a0 (Int32.ofInt 7) (Int32.ofInt 7) r19.2 ∧ let r20 : Int32 × FM := GX94_bits a0 (Int32.ofInt 7) (Int32.ofInt 7) r19.2; (HX94_bits a0 (Int32.ofInt 2) (Int32.ofInt 2) r20.2 ∧ let r21 : Int32 × FM := GX94_bits a0 (Int32.ofInt 2) (Int32.ofInt 2) r20.2; (HX94_bits a0 (Int32.ofInt 11) (Int32.ofInt 11) r21.2 ∧ let r22 : Int32 × FM := GX94_bits a0 (Int32.ofInt 11) (Int32.ofInt 11) r21.2; (HX94_bits a0 (Int32.ofInt 5) (Int32.ofInt 3) r22.2 ∧ let r23 : Int32 × FM := GX94_bits a0 (Int32.ofInt 5) (Int32.ofInt 3) r22.2; (HX94_bits a0 (Int32.ofInt 12) (Int32.ofInt 12) r23.2 ∧ let r24 : Int32 × FM := GX94_bits a0 (Int32.ofInt 12) (Int32.ofInt 12) r23.2; (HX94_wordJ (((((((((Int32.ofInt 1024) * r17.1) + ((Int32.ofInt 256) * r18.1)) + ((Int32.ofInt 128) * r19.1)) + ((Int32.ofInt 64) * r20.1)) + ((Int32.ofInt 32) * r21.1)) + ((Int32.ofInt 16) * r22.1)) + ((Int32.ofInt 2) * r23.1)) - ((Int32.ofInt 2048) * r24.1)) r24.2 ∧ True)))))))))) ∧ (¬ (r8.1 = (Int32.ofInt 5)) → ((r8.1 = (Int32.ofInt 6) → (HX94_bits a0 (Int32.ofInt 9) (Int32.ofInt 7) r8.2 ∧ let r26 : Int32 × FM := GX94_bits a0 (Int32.ofInt 9) (Int32.ofInt 7) r8.2; (HX94_wordB (Int32.ofInt 0) ((Int32.ofInt 8) + r26.1) x7 r26.2 ∧ True))) ∧ (¬ (r8.1 = (Int32.ofInt 6)) → (HX94_bits a0 (Int32.ofInt 9) (Int32.ofInt 7) r8.2 ∧ let r28 : Int32 × FM := GX94_bits a0 (Int32.ofInt 9) (Int32.ofInt 7) r8.2; (HX94_wordB (Int32.ofInt 1) ((Int32.ofInt 8) + r28.1) x7 r28.2 ∧ True)))))))))))))))))))))))
theorem gX94_quadrant1_0 (a0 : Nat) (M : FM) (T : Ty M) (n_a0 : fm_is M 97 97 a0 = true) (h : HX94_quadrant1_0 a0 M) : gd (FX94_quadrant1_0 fN a0 M) (GX94_quadrant1_0 a0 M) (OkR M) := by
  delta FX94_quadrant1_0 BX94_quadrant1_0
  refine gd_c n_a0 ?_
  refine gd_b (gX94_bits _ _ _ _ h.1) (fun K0 => ?_)
  have f1 := (ext_is K0.2 (Nat.zero_lt_succ _) n_a0)
  refine gd_c f1 ?_
  refine gd_b (gX94_bits _ _ _ _ h.2.1) (fun K2 => ?_)
  have f3 := (ext_is K2.2 (Nat.zero_lt_succ _) (ext_is K0.2 (Nat.zero_lt_succ _) n_a0))
  refine gd_c f3 ?_
  refine gd_b (gX94_bits _ _ _ _ h.2.2.1) (fun K4 => ?_)
  have f5 := (ext_is K4.2 (Nat.zero_lt_succ _) (ext_is K2.2 (Nat.zero_lt_succ _) (ext_is K0.2 (Nat.zero_lt_succ _) n_a0)))
  refine gd_c f5 ?_
  refine gd_b (gX94_bits _ _ _ _ h.2.2.2.1) (fun K6 => ?_)
  have f7 := (ext_is K6.2 (Nat.zero_lt_succ _) (ext_is K4.2 (Nat.zero_lt_succ _) (ext_is K2.2 (Nat.zero_lt_succ _) (ext_is K0.2 (Nat.zero_lt_succ _) n_a0))))
  refine gd_c f7 ?_
  refine gd_b (gX94_bits _ _ _ _ h.2.2.2.2.1) (fun K8 => ?_)
  have f9 := (ext_is K8.2 (Nat.zero_lt_succ _) (ext_is K6.2 (Nat.zero_lt_succ _) (ext_is K4.2 (Nat.zero_lt_succ _) (ext_is K2.2 (Nat.zero_lt_succ _) (ext_is K0.2 (Nat.zero_lt_succ _) n_a0)))))
  refine gd_c f9 ?_
  refine gd_b (gX94_bits _ _ _ _ h.2.2.2.2.2.1) (fun K10 => ?_)
  have f11 := (ext_is K10.2 (Nat.zero_lt_succ _) (ext_is K8.2 (Nat.zero_lt_succ _) (ext_is K6.2 (Nat.zero_lt_succ _) (ext_is K4.2 (Nat.zero_lt_succ _) (ext_is K2.2 (Nat.zero_lt_succ _) (ext_is K0.2 (Nat.zero_lt_succ _) n_a0))))))
  refine gd_c f11 ?_
  refine gd_b (gX94_bits _ _ _ _ h.2.2.2.2.2.2.1) (fun K12 => ?_)
  refine gd_fi (fun c13_0 => ?_) (fun c13_0 => ?_)
  · have f14 := (ext_is K12.2 (Nat.zero_lt_succ _) (ext_is K10.2 (Nat.zero_lt_succ _) (ext_is K8.2 (Nat.zero_lt_succ _) (ext_is K6.2 (Nat.zero_lt_succ _) (ext_is K4.2 (Nat.zero_lt_succ _) (ext_is K2.2 (Nat.zero_lt_succ _) (ext_is K0.2 (Nat.zero_lt_succ _) n_a0)))))))
    refine gd_c f14 ?_
    have f17 := (ext_is K12.2 (Nat.zero_lt_succ _) (ext_is K10.2 (Nat.zero_lt_succ _) (ext_is K8.2 (Nat.zero_lt_succ _) (ext_is K6.2 (Nat.zero_lt_succ _) (ext_is K4.2 (Nat.zero_lt_succ _) (ext_is K2.2 (Nat.zero_lt_succ _) (ext_is K0.2 (Nat.zero_lt_succ _) n_a0)))))))
    refine gd_b (gX94_signed _ _ ⟨K12.1.1, K12.1.2⟩ f17 (h.2.2.2.2.2.2.2.1 c13_0).1) (fun K15 => ?_)
    refine gd_b (gX94_wordI _ _ _ _ _ _ ⟨K15.1.1, K15.1.2⟩  ) (fun K16 => ?_)
    exact ⟨rfl, ⟨K16.1.1, K16.1.2⟩, (ext_tr K0.2 (ext_tr K2.2 (ext_tr K4.2 (ext_tr K6.2 (ext_tr K8.2 (ext_tr K10.2 (ext_tr K12.2 (ext_tr K15.2 K16.2))))))))⟩
  · refine gd_fi (fun c18_1 => ?_) (fun c18_1 => ?_)
    · refine gd_fi (fun c19_0 => ?_) (fun c19_0 => ?_)
      · exact gd_tR (ext_tr K0.2 (ext_tr K2.2 (ext_tr K4.2 (ext_tr K6.2 (ext_tr K8.2 (ext_tr K10.2 K12.2)))))) (gX94_quadrant1_149 _ _ ⟨K12.1.1, K12.1.2⟩  )
      · have f20 := (ext_is K12.2 (Nat.zero_lt_succ _) (ext_is K10.2 (Nat.zero_lt_succ _) (ext_is K8.2 (Nat.zero_lt_succ _) (ext_is K6.2 (Nat.zero_lt_succ _) (ext_is K4.2 (Nat.zero_lt_succ _) (ext_is K2.2 (Nat.zero_lt_succ _) (ext_is K0.2 (Nat.zero_lt_succ _) n_a0)))))))
        refine gd_c f20 ?_
        have f23 := (ext_is K12.2 (Nat.zero_lt_succ _) (ext_is K10.2 (Nat.zero_lt_succ _) (ext_is K8.2 (Nat.zero_lt_succ _) (ext_is K6.2 (Nat.zero_lt_succ _) (ext_is K4.2 (Nat.zero_lt_succ _) (ext_is K2.2 (Nat.zero_lt_succ _) (ext_is K0.2 (Nat.zero_lt_succ _) n_a0)))))))
        refine gd_b (gX94_signed _ _ ⟨K12.1.1, K12.1.2⟩ f23 (((h.2.2.2.2.2.2.2.2 c13_0).1 c18_1).2 c19_0).1) (fun K21 => ?_)
        refine gd_b (gX94_wordI _ _ _ _ _ _ ⟨K21.1.1, K21.1.2⟩  ) (fun K22 => ?_)
        exact gd_tR (ext_tr K0.2 (ext_tr K2.2 (ext_tr K4.2 (ext_tr K6.2 (ext_tr K8.2 (ext_tr K10.2 (ext_tr K12.2 (ext_tr K21.2 K22.2)))))))) (gX94_quadrant1_149 _ _ ⟨K22.1.1, K22.1.2⟩  )
    · refine gd_fi (fun c24_2 => ?_) (fun c24_2 => ?_)
      · have f25 := (ext_is K12.2 (Nat.zero_lt_succ _) (ext_is K10.2 (Nat.zero_lt_succ _) (ext_is K8.2 (Nat.zero_lt_succ _) (ext_is K6.2 (Nat.zero_lt_succ _) (ext_is K4.2 (Nat.zero_lt_succ _) (ext_is K2.2 (Nat.zero_lt_succ _) (ext_is K0.2 (Nat.zero_lt_succ _) n_a0)))))))
        refine gd_c f25 ?_
        have f28 := (ext_is K12.2 (Nat.zero_lt_succ _) (ext_is K10.2 (Nat.zero_lt_succ _) (ext_is K8.2 (Nat.zero_lt_succ _) (ext_is K6.2 (Nat.zero_lt_succ _) (ext_is K4.2 (Nat.zero_lt_succ _) (ext_is K2.2 (Nat.zero_lt_succ _) (ext_is K0.2 (Nat.zero_lt_succ _) n_a0)))))))
        refine gd_b (gX94_signed _ _ ⟨K12.1.1, K12.1.2⟩ f28 (((h.2.2.2.2.2.2.2.2 c13_0).2 c18_1).1 c24_2).1) (fun K26 => ?_)
        refine gd_b (gX94_wordI _ _ _ _ _ _ ⟨K26.1.1, K26.1.2⟩  ) (fun K27 => ?_)
        exact ⟨rfl, ⟨K27.1.1, K27.1.2⟩, (ext_tr K0.2 (ext_tr K2.2 (ext_tr K4.2 (ext_tr K6.2 (ext_tr K8.2 (ext_tr K10.2 (ext_tr K12.2 (ext_tr K26.2 K27.2))))))))⟩
      · refine gd_fi (fun c29_3 => ?_) (fun c29_3 => ?_)
        · have f30 := (ext_is K12.2 (Nat.zero_lt_succ _) (ext_is K10.2 (Nat.zero_lt_succ _) (ext_is K8.2 (Nat.zero_lt_succ _) (ext_is K6.2 (Nat.zero_lt_succ _) (ext_is K4.2 (Nat.zero_lt_succ _) (ext_is K2.2 (Nat.zero_lt_succ _) (ext_is K0.2 (Nat.zero_lt_succ _) n_a0)))))))
          refine gd_c f30 ?_
          have f32 := (ext_is K12.2 (Nat.zero_lt_succ _) (ext_is K10.2 (Nat.zero_lt_succ _) (ext_is K8.2 (Nat.zero_lt_succ _) (ext_is K6.2 (Nat.zero_lt_succ _) (ext_is K4.2 (Nat.zero_lt_succ _) (ext_is K2.2 (Nat.zero_lt_succ _) (ext_is K0.2 (Nat.zero_lt_succ _) n_a0)))))))
          refine gd_b (gX94_upper _ _ _ ⟨K12.1.1, K12.1.2⟩ f32 ((((h.2.2.2.2.2.2.2.2 c13_0).2 c18_1).2 c24_2).1 c29_3).1) (fun K31 => ?_)
          exact ⟨rfl, ⟨K31.1.1, K31.1.2⟩, (ext_tr K0.2 (ext_tr K2.2 (ext_tr K4.2 (ext_tr K6.2 (ext_tr K8.2 (ext_tr K10.2 (ext_tr K12.2 K31.2)))))))⟩
        · refine gd_fi (fun c33_4 => ?_) (fun c33_4 => ?_)
          · have f34 := (ext_is K12.2 (Nat.zero_lt_succ _) (ext_is K10.2 (Nat.zero_lt_succ _) (ext_is K8.2 (Nat.zero_lt_succ _) (ext_is K6.2 (Nat.zero_lt_succ _) (ext_is K4.2 (Nat.zero_lt_succ _) (ext_is K2.2 (Nat.zero_lt_succ _) (ext_is K0.2 (Nat.zero_lt_succ _) n_a0)))))))
            refine gd_c f34 ?_
            have f36 := (ext_is K12.2 (Nat.zero_lt_succ _) (ext_is K10.2 (Nat.zero_lt_succ _) (ext_is K8.2 (Nat.zero_lt_succ _) (ext_is K6.2 (Nat.zero_lt_succ _) (ext_is K4.2 (Nat.zero_lt_succ _) (ext_is K2.2 (Nat.zero_lt_succ _) (ext_is K0.2 (Nat.zero_lt_succ _) n_a0)))))))
            refine gd_b (gX94_arithmetic _ _ ⟨K12.1.1, K12.1.2⟩ f36 (((((h.2.2.2.2.2.2.2.2 c13_0).2 c18_1).2 c24_2).2 c29_3).1 c33_4).1) (fun K35 => ?_)
            exact ⟨rfl, ⟨K35.1.1, K35.1.2⟩, (ext_tr K0.2 (ext_tr K2.2 (ext_tr K4.2 (ext_tr K6.2 (ext_tr K8.2 (ext_tr K10.2 (ext_tr K12.2 K35.2)))))))⟩
          · refine gd_fi (fun c37_5 => ?_) (fun c37_5 => ?_)
            · have f38 := (ext_is K12.2 (Nat.zero_lt_succ _) (ext_is K10.2 (Nat.zero_lt_succ _) (ext_is K8.2 (Nat.zero_lt_succ _) (ext_is K6.2 (Nat.zero_lt_succ _) (ext_is K4.2 (Nat.zero_lt_succ _) (ext_is K2.2 (Nat.zero_lt_succ _) (ext_is K0.2 (Nat.zero_lt_succ _) n_a0)))))))
              refine gd_c f38 ?_
              refine gd_b (gX94_bits _ _ _ _ ((((((h.2.2.2.2.2.2.2.2 c13_0).2 c18_1).2 c24_2).2 c29_3).2 c33_4).1 c37_5).1) (fun K39 => ?_)
              have f40 := (ext_is K39.2 (Nat.zero_lt_succ _) (ext_is K12.2 (Nat.zero_lt_succ _) (ext_is K10.2 (Nat.zero_lt_succ _) (ext_is K8.2 (Nat.zero_lt_succ _) (ext_is K6.2 (Nat.zero_lt_succ _) (ext_is K4.2 (Nat.zero_lt_succ _) (ext_is K2.2 (Nat.zero_lt_succ _) (ext_is K0.2 (Nat.zero_lt_succ _) n_a0))))))))
              refine gd_c f40 ?_
              refine gd_b (gX94_bits _ _ _ _ ((((((h.2.2.2.2.2.2.2.2 c13_0).2 c18_1).2 c24_2).2 c29_3).2 c33_4).1 c37_5).2.1) (fun K41 => ?_)
              have f42 := (ext_is K41.2 (Nat.zero_lt_succ _) (ext_is K39.2 (Nat.zero_lt_succ _) (ext_is K12.2 (Nat.zero_lt_succ _) (ext_is K10.2 (Nat.zero_lt_succ _) (ext_is K8.2 (Nat.zero_lt_succ _) (ext_is K6.2 (Nat.zero_lt_succ _) (ext_is K4.2 (Nat.zero_lt_succ _) (ext_is K2.2 (Nat.zero_lt_succ _) (ext_is K0.2 (Nat.zero_lt_succ _) n_a0)))))))))
              refine gd_c f42 ?_
              refine gd_b (gX94_bits _ _ _ _ ((((((h.2.2.2.2.2.2.2.2 c13_0).2 c18_1).2 c24_2).2 c29_3).2 c33_4).1 c37_5).2.2.1) (fun K43 => ?_)
              have f44 := (ext_is K43.2 (Nat.zero_lt_succ _) (ext_is K41.2 (Nat.zero_lt_succ _) (ext_is K39.2 (Nat.zero_lt_succ _) (ext_is K12.2 (Nat.zero_lt_succ _) (ext_is K10.2 (Nat.zero_lt_succ _) (ext_is K8.2 (Nat.zero_lt_succ _) (ext_is K6.2 (Nat.zero_lt_succ _) (ext_is K4.2 (Nat.zero_lt_succ _) (ext_is K2.2 (Nat.zero_lt_succ _) (ext_is K0.2 (Nat.zero_lt_succ _) n_a0))))))))))
              refine gd_c f44 ?_
              refine gd_b (gX94_bits _ _ _ _ ((((((h.2.2.2.2.2.2.2.2 c13_0).2 c18_1).2 c24_2).2 c29_3).2 c33_4).1 c37_5).2.2.2.1) (fun K45 => ?_)
              have f46 := (ext_is K45.2 (Nat.zero_lt_succ _) (ext_is K43.2 (Nat.zero_lt_succ _) (ext_is K41.2 (Nat.zero_lt_succ _) (ext_is K39.2 (Nat.zero_lt_succ _) (ext_is K12.2 (Nat.zero_lt_succ _) (ext_is K10.2 (Nat.zero_lt_succ _) (ext_is K8.2 (Nat.zero_lt_succ _) (ext_is K6.2 (Nat.zero_lt_succ _) (ext_is K4.2 (Nat.zero_lt_succ _) (ext_is K2.2 (Nat.zero_lt_succ _) (ext_is K0.2 (Nat.zero_lt_succ _) n_a0)))))))))))
              refine gd_c f46 ?_
              refine gd_b (gX94_bits _ _ _ _ ((((((h.2.2.2.2.2.2.2.2 c13_0).2 c18_1).2 c24_2).2 c29_3).2 c33_4).1 c37_5).2.2.2.2.1) (fun K47 => ?_)
              have f48 := (ext_is K47.2 (Nat.zero_lt_succ _) (ext_is K45.2 (Nat.zero_lt_succ _) (ext_is K43.2 (Nat.zero_lt_succ _) (ext_is K41.2 (Nat.zero_lt_succ _) (ext_is K39.2 (Nat.zero_lt_succ _) (ext_is K12.2 (Nat.zero_lt_succ _) (ext_is K10.2 (Nat.zero_lt_succ _) (ext_is K8.2 (Nat.zero_lt_succ _) (ext_is K6.2 (Nat.zero_lt_succ _) (ext_is K4.2 (Nat.zero_lt_succ _) (ext_is K2.2 (Nat.zero_lt_succ _) (ext_is K0.2 (Nat.zero_lt_succ _) n_a0))))))))))))
              refine gd_c f48 ?_
              refine gd_b (gX94_bits _ _ _ _ ((((((h.2.2.2.2.2.2.2.2 c13_0).2 c18_1).2 c24_2).2 c29_3).2 c33_4).1 c37_5).2.2.2.2.2.1) (fun K49 => ?_)
              have f50 := (ext_is K49.2 (Nat.zero_lt_succ _) (ext_is K47.2 (Nat.zero_lt_succ _) (ext_is K45.2 (Nat.zero_lt_succ _) (ext_is K43.2 (Nat.zero_lt_succ _) (ext_is K41.2 (Nat.zero_lt_succ _) (ext_is K39.2 (Nat.zero_lt_succ _) (ext_is K12.2 (Nat.zero_lt_succ _) (ext_is K10.2 (Nat.zero_lt_succ _) (ext_is K8.2 (Nat.zero_lt_succ _) (ext_is K6.2 (Nat.zero_lt_succ _) (ext_is K4.2 (Nat.zero_lt_succ _) (ext_is K2.2 (Nat.zero_lt_succ _) (ext_is K0.2 (Nat.zero_lt_succ _) n_a0)))))))))))))
              refine gd_c f50 ?_
              refine gd_b (gX94_bits _ _ _ _ ((((((h.2.2.2.2.2.2.2.2 c13_0).2 c18_1).2 c24_2).2 c29_3).2 c33_4).1 c37_5).2.2.2.2.2.2.1) (fun K51 => ?_)
              have f52 := (ext_is K51.2 (Nat.zero_lt_succ _) (ext_is K49.2 (Nat.zero_lt_succ _) (ext_is K47.2 (Nat.zero_lt_succ _) (ext_is K45.2 (Nat.zero_lt_succ _) (ext_is K43.2 (Nat.zero_lt_succ _) (ext_is K41.2 (Nat.zero_lt_succ _) (ext_is K39.2 (Nat.zero_lt_succ _) (ext_is K12.2 (Nat.zero_lt_succ _) (ext_is K10.2 (Nat.zero_lt_succ _) (ext_is K8.2 (Nat.zero_lt_succ _) (ext_is K6.2 (Nat.zero_lt_succ _) (ext_is K4.2 (Nat.zero_lt_succ _) (ext_is K2.2 (Nat.zero_lt_succ _) (ext_is K0.2 (Nat.zero_lt_succ _) n_a0))))))))))))))
              refine gd_c f52 ?_
              refine gd_b (gX94_bits _ _ _ _ ((((((h.2.2.2.2.2.2.2.2 c13_0).2 c18_1).2 c24_2).2 c29_3).2 c33_4).1 c37_5).2.2.2.2.2.2.2.1) (fun K53 => ?_)
              refine gd_b (gX94_wordJ _ _ ((((((h.2.2.2.2.2.2.2.2 c13_0).2 c18_1).2 c24_2).2 c29_3).2 c33_4).1 c37_5).2.2.2.2.2.2.2.2.1) (fun K54 => ?_)
              exact ⟨rfl, ⟨K54.1.1, K54.1.2⟩, (ext_tr K0.2 (ext_tr K2.2 (ext_tr K4.2 (ext_tr K6.2 (ext_tr K8.2 (ext_tr K10.2 (ext_tr K12.2 (ext_tr K39.2 (ext_tr K41.2 (ext_tr K43.2 (ext_tr K45.2 (ext_tr K47.2 (ext_tr K49.2 (ext_tr K51.2 (ext_tr K53.2 K54.2)))))))))))))))⟩
            · refine gd_fi (fun c55_6 => ?_) (fun c55_6 => ?_)
              · have f56 := (ext_is K12.2 (Nat.zero_lt_succ _) (ext_is K10.2 (Nat.zero_lt_succ _) (ext_is K8.2 (Nat.zero_lt_succ _) (ext_is K6.2 (Nat.zero_lt_succ _) (ext_is K4.2 (Nat.zero_lt_succ _) (ext_is K2.2 (Nat.zero_lt_succ _) (ext_is K0.2 (Nat.zero_lt_succ _) n_a0)))))))
                refine gd_c f56 ?_
                refine gd_b (gX94_bits _ _ _ _ (((((((h.2.2.2.2.2.2.2.2 c13_0).2 c18_1).2 c24_2).2 c29_3).2 c33_4).2 c37_5).1 c55_6).1) (fun K57 => ?_)
                refine gd_b (gX94_wordB _ _ _ _ (((((((h.2.2.2.2.2.2.2.2 c13_0).2 c18_1).2 c24_2).2 c29_3).2 c33_4).2 c37_5).1 c55_6).2.1) (fun K58 => ?_)
                exact ⟨rfl, ⟨K58.1.1, K58.1.2⟩, (ext_tr K0.2 (ext_tr K2.2 (ext_tr K4.2 (ext_tr K6.2 (ext_tr K8.2 (ext_tr K10.2 (ext_tr K12.2 (ext_tr K57.2 K58.2))))))))⟩
              · have f59 := (ext_is K12.2 (Nat.zero_lt_succ _) (ext_is K10.2 (Nat.zero_lt_succ _) (ext_is K8.2 (Nat.zero_lt_succ _) (ext_is K6.2 (Nat.zero_lt_succ _) (ext_is K4.2 (Nat.zero_lt_succ _) (ext_is K2.2 (Nat.zero_lt_succ _) (ext_is K0.2 (Nat.zero_lt_succ _) n_a0)))))))
                refine gd_c f59 ?_
                refine gd_b (gX94_bits _ _ _ _ (((((((h.2.2.2.2.2.2.2.2 c13_0).2 c18_1).2 c24_2).2 c29_3).2 c33_4).2 c37_5).2 c55_6).1) (fun K60 => ?_)
                refine gd_b (gX94_wordB _ _ _ _ (((((((h.2.2.2.2.2.2.2.2 c13_0).2 c18_1).2 c24_2).2 c29_3).2 c33_4).2 c37_5).2 c55_6).2.1) (fun K61 => ?_)
                exact ⟨rfl, ⟨K61.1.1, K61.1.2⟩, (ext_tr K0.2 (ext_tr K2.2 (ext_tr K4.2 (ext_tr K6.2 (ext_tr K8.2 (ext_tr K10.2 (ext_tr K12.2 (ext_tr K60.2 K61.2))))))))⟩
noncomputable def GX94_quadrant1 (a0 : Nat) (M : FM) : Int32 × FM := GX94_quadrant1_0 a0 M
def HX94_quadrant1 (a0 : Nat) (M : FM) : Prop := HX94_quadrant1_0 a0 M
theorem gX94_quadrant1 (a0 : Nat) (M : FM) (T : Ty M) (n_a0 : fm_is M 97 97 a0 = true) (h : HX94_quadrant1 a0 M) : gd (FX94_quadrant1 fN a0 M) (GX94_quadrant1 a0 M) (OkR M) := gX94_quadrant1_0 a0 M T n_a0 h
noncomputable def GX94_jumps_83 (a2 : Int32) (s0 : Int32) (s1 : Int32) (s2 : Int32) (s3 : Int32) (M : FM) : Int32 × FM :=
  let r1 : Int32 × FM := GX94_wordR s0 s1 s2 s3 a2 (Int32.ofInt 0) M
  (r1.1, r1.2)
theorem gX94_jumps_83 (a2 : Int32) (s0 : Int32) (s1 : Int32) (s2 : Int32) (s3 : Int32) (M : FM) (T : Ty M) : gd (FX94_jumps_83 fN a2 s0 s1 s2 s3 M) (GX94_jumps_83 a2 s0 s1 s2 s3 M) (OkR M) := by
  delta FX94_jumps_83 BX94_jumps_83
  refine gd_b (gX94_wordR _ _ _ _ _ _ _ ⟨T.1, T.2⟩  ) (fun K0 => ?_)
  exact ⟨rfl, ⟨K0.1.1, K0.1.2⟩, K0.2⟩
noncomputable def GX94_jumps_62 (s0 : Int32) (M : FM) : Int32 × FM :=
  (s0, M)
theorem gX94_jumps_62 (s0 : Int32) (M : FM) (T : Ty M) : gd (FX94_jumps_62 fN s0 M) (GX94_jumps_62 s0 M) (OkR M) := by
  delta FX94_jumps_62 BX94_jumps_62
  exact ⟨rfl, ⟨T.1, T.2⟩, (ext_r _)⟩
noncomputable def GX94_jumps_33 (a0 : Nat) (a1 : Int32) (a2 : Int32) (M : FM) : Int32 × FM :=
  fi (a2 = 0) (
    fi (a1 = 0) (
      let r1 : Int32 × FM := GX94_wordI (Int32.ofInt 115) (Int32.ofInt 0) (Int32.ofInt 0) (Int32.ofInt 0) (Int32.ofInt 1) M
      GX94_jumps_62 r1.1 r1.2) (
      let r2 : Int32 × FM := GX94_wordI (Int32.ofInt 103) (Int32.ofInt 1) (Int32.ofInt 0) a1 (Int32.ofInt 0) M
      GX94_jumps_62 r2.1 r2.2)) (
    let r3 : Int32 × FM := GX94_bits a0 (Int32.ofInt 12) (Int32.ofInt 12) M
    fi (r3.1 = 0) (
      GX94_jumps_83 a2 (Int32.ofInt 51) a1 (Int32.ofInt 0) (Int32.ofInt 0) r3.2) (
      GX94_jumps_83 a2 (Int32.ofInt 51) a1 (Int32.ofInt 0) a1 r3.2))
def HX94_jumps_33 (a0 : Nat) (a1 : Int32) (a2 : Int32) (M : FM) : Prop := ((a2 = 0 → True) ∧ (¬ (a2 = 0) → (HX94_bits a0 (Int32.ofInt 12) (Int32.ofInt 12) M ∧ True)))
theorem gX94_jumps_33 (a0 : Nat) (a1 : Int32) (a2 : Int32) (M : FM) (T : Ty M) (n_a0 : fm_is M 97 97 a0 = true) (h : HX94_jumps_33 a0 a1 a2 M) : gd (FX94_jumps_33 fN a0 a1 a2 M) (GX94_jumps_33 a0 a1 a2 M) (OkR M) := by
  delta FX94_jumps_33 BX94_jumps_33
  refine gd_fi (fun c0_0 => ?_) (fun c0_0 => ?_)
  · refine gd_fi (fun c1_0 => ?_) (fun c1_0 => ?_)
    · refine gd_b (gX94_wordI _ _ _ _ _ _ ⟨T.1, T.2⟩  ) (fun K2 => ?_)
      exact gd_tR K2.2 (gX94_jumps_62 _ _ ⟨K2.1.1, K2.1.2⟩  )
    · refine gd_b (gX94_wordI _ _ _ _ _ _ ⟨T.1, T.2⟩  ) (fun K3 => ?_)
      exact gd_tR K3.2 (gX94_jumps_62 _ _ ⟨K3.1.1, K3.1.2⟩  )
  · refine gd_c n_a0 ?_
    refine gd_b (gX94_bits _ _ _ _ (h.2 c0_0).1) (fun K4 => ?_)
    refine gd_fi (fun c5_0 => ?_) (fun c5_0 => ?_)
    · exact gd_tR K4.2 (gX94_jumps_83 _ _ _ _ _ _ ⟨K4.1.1, K4.1.2⟩  )
    · exact gd_tR K4.2 (gX94_jumps_83 _ _ _ _ _ _ ⟨K4.1.1, K4.1.2⟩  )
noncomputable def GX94_jumps_32 (s0 : Int32) (M : FM) : Int32 × FM :=
  (s0, M)
theorem gX94_jumps_32 (s0 : Int32) (M : FM) (T : Ty M) : gd (FX94_jumps_32 fN s0 M) (GX94_jumps_32 s0 M) (OkR M) := by
  delta FX94_jumps_32 BX94_jumps_32
  exact ⟨rfl, ⟨T.1, T.2⟩, (ext_r _)⟩
noncomputable def GX94_jumps_0 (a0 : Nat) (a1 : Int32) (a2 : Int32) (M : FM) : Int32 × FM :=
  fi (a2 = 0) (
    let r1 : Int32 × FM := GX94_bits a0 (Int32.ofInt 12) (Int32.ofInt 12) M
    fi (r1.1 = 0) (
      fi (a1 = 0) (
        GX94_jumps_32 (Int32.ofInt 0) r1.2) (
        let r2 : Int32 × FM := GX94_wordI (Int32.ofInt 103) (Int32.ofInt 0) (Int32.ofInt 0) a1 (Int32.ofInt 0) r1.2
        GX94_jumps_32 r2.1 r2.2)) (
      GX94_jumps_33 a0 a1 a2 r1.2)) (
    GX94_jumps_33 a0 a1 a2 M)
def HX94_jumps_0 (a0 : Nat) (a1 : Int32) (a2 : Int32) (M : FM) : Prop := ((a2 = 0 → (HX94_bits a0 (Int32.ofInt 12) (Int32.ofInt 12) M ∧ let r1 : Int32 × FM := GX94_bits a0 (Int32.ofInt 12) (Int32.ofInt 12) M; ((r1.1 = 0 → True) ∧ (¬ (r1.1 = 0) → HX94_jumps_33 a0 a1 a2 r1.2)))) ∧ (¬ (a2 = 0) → HX94_jumps_33 a0 a1 a2 M))
theorem gX94_jumps_0 (a0 : Nat) (a1 : Int32) (a2 : Int32) (M : FM) (T : Ty M) (n_a0 : fm_is M 97 97 a0 = true) (h : HX94_jumps_0 a0 a1 a2 M) : gd (FX94_jumps_0 fN a0 a1 a2 M) (GX94_jumps_0 a0 a1 a2 M) (OkR M) := by
  delta FX94_jumps_0 BX94_jumps_0
  refine gd_fi (fun c0_0 => ?_) (fun c0_0 => ?_)
  · refine gd_c n_a0 ?_
    refine gd_b (gX94_bits _ _ _ _ (h.1 c0_0).1) (fun K1 => ?_)
    refine gd_fi (fun c2_0 => ?_) (fun c2_0 => ?_)
    · refine gd_fi (fun c3_0 => ?_) (fun c3_0 => ?_)
      · exact gd_tR K1.2 (gX94_jumps_32 _ _ ⟨K1.1.1, K1.1.2⟩  )
      · refine gd_b (gX94_wordI _ _ _ _ _ _ ⟨K1.1.1, K1.1.2⟩  ) (fun K4 => ?_)
        exact gd_tR (ext_tr K1.2 K4.2) (gX94_jumps_32 _ _ ⟨K4.1.1, K4.1.2⟩  )
    · have f5 := (ext_is K1.2 (Nat.zero_lt_succ _) n_a0)
      exact gd_tR K1.2 (gX94_jumps_33 _ _ _ _ ⟨K1.1.1, K1.1.2⟩ f5 ((h.1 c0_0).2.2 c2_0))
  · exact gd_tR (ext_r _) (gX94_jumps_33 _ _ _ _ ⟨T.1, T.2⟩ n_a0 (h.2 c0_0))
noncomputable def GX94_jumps (a0 : Nat) (a1 : Int32) (a2 : Int32) (M : FM) : Int32 × FM := GX94_jumps_0 a0 a1 a2 M
def HX94_jumps (a0 : Nat) (a1 : Int32) (a2 : Int32) (M : FM) : Prop := HX94_jumps_0 a0 a1 a2 M
theorem gX94_jumps (a0 : Nat) (a1 : Int32) (a2 : Int32) (M : FM) (T : Ty M) (n_a0 : fm_is M 97 97 a0 = true) (h : HX94_jumps a0 a1 a2 M) : gd (FX94_jumps fN a0 a1 a2 M) (GX94_jumps a0 a1 a2 M) (OkR M) := gX94_jumps_0 a0 a1 a2 M T n_a0 h
noncomputable def GX94_quadrant2_210 (s0 : Int32) (M : FM) : Int32 × FM :=
  (s0, M)
theorem gX94_quadrant2_210 (s0 : Int32) (M : FM) (T : Ty M) : gd (FX94_quadrant2_210 fN s0 M) (GX94_quadrant2_210 s0 M) (OkR M) := by
  delta FX94_quadrant2_210 BX94_quadrant2_210
  exact ⟨rfl, ⟨T.1, T.2⟩, (ext_r _)⟩
noncomputable def GX94_quadrant2_193 (s0 : Int32) (M : FM) : Int32 × FM :=
  (s0, M)
theorem gX94_quadrant2_193 (s0 : Int32) (M : FM) (T : Ty M) : gd (FX94_quadrant2_193 fN s0 M) (GX94_quadrant2_193 s0 M) (OkR M) := by
  delta FX94_quadrant2_193 BX94_quadrant2_193
  exact ⟨rfl, ⟨T.1, T.2⟩, (ext_r _)⟩
noncomputable def GX94_quadrant2_0 (a0 : Nat) (M : FM) : Int32 × FM :=
  let r1 : Int32 × FM := GX94_bits a0 (Int32.ofInt 11) (Int32.ofInt 7) M
  let r2 : Int32 × FM := GX94_bits a0 (Int32.ofInt 6) (Int32.ofInt 2) r1.2
  let r3 : Int32 × FM := GX94_bits a0 (Int32.ofInt 4) (Int32.ofInt 2) r2.2
  let r4 : Int32 × FM := GX94_bits a0 (Int32.ofInt 12) (Int32.ofInt 12) r3.2
  let r5 : Int32 × FM := GX94_bits a0 (Int32.ofInt 6) (Int32.ofInt 5) r4.2
  let x6 : Int32 := ((((Int32.ofInt 64) * r3.1) + ((Int32.ofInt 32) * r4.1)) + ((Int32.ofInt 8) * r5.1))
  let r7 : Int32 × FM := GX94_bits a0 (Int32.ofInt 9) (Int32.ofInt 7) r5.2
  let r8 : Int32 × FM := GX94_bits a0 (Int32.ofInt 12) (Int32.ofInt 10) r7.2
  let x9 : Int32 := (((Int32.ofInt 64) * r7.1) + ((Int32.ofInt 8) * r8.1))
  let r10 : Int32 × FM := GX94_bits a0 (Int32.ofInt 15) (Int32.ofInt 13) r8.2
  fi (r10.1 = (Int32.ofInt 0)) (
    let r11 : Int32 × FM := GX94_plain a0 r10.2
    let r12 : Int32 × FM := GX94_wordI (Int32.ofInt 19) r1.1 (Int32.ofInt 1) r1.1 r11.1 r11.2
    (r12.1, r12.2)) (
    fi (r10.1 = (Int32.ofInt 1)) (
      let r13 : Int32 × FM := GX94_wordI (Int32.ofInt 7) r1.1 (Int32.ofInt 3) (Int32.ofInt 2) x6 r10.2
      (r13.1, r13.2)) (
      fi (r10.1 = (Int32.ofInt 2)) (
        fi (r1.1 = 0) (
          GX94_quadrant2_193 (Int32.ofInt 0) r10.2) (
          let r14 : Int32 × FM := GX94_bits a0 (Int32.ofInt 3) (Int32.ofInt 2) r10.2
          let r15 : Int32 × FM := GX94_bits a0 (Int32.ofInt 12) (Int32.ofInt 12) r14.2
          let r16 : Int32 × FM := GX94_bits a0 (Int32.ofInt 6) (Int32.ofInt 4) r15.2
          let r17 : Int32 × FM := GX94_wordI (Int32.ofInt 3) r1.1 (Int32.ofInt 2) (Int32.ofInt 2) ((((Int32.ofInt 64) * r14.1) + ((Int32.ofInt 32) * r15.1)) + ((Int32.ofInt 4) * r16.1)) r16.2
          GX94_quadrant2_193 r17.1 r17.2)) (
        fi (r10.1 = (Int32.ofInt 3)) (
          fi (r1.1 = 0) (
            GX94_quadrant2_210 (Int32.ofInt 0) r10.2) (
            let r18 : Int32 × FM := GX94_wordI (Int32.ofInt 3) r1.1 (Int32.ofInt 3) (Int32.ofInt 2) x6 r10.2
            GX94_quadrant2_210 r18.1 r18.2)) (
          fi (r10.1 = (Int32.ofInt 4)) (
            let r19 : Int32 × FM := GX94_jumps a0 r1.1 r2.1 r10.2
            (r19.1, r19.2)) (
            fi (r10.1 = (Int32.ofInt 5)) (
              let r20 : Int32 × FM := GX94_wordS (Int32.ofInt 39) (Int32.ofInt 3) (Int32.ofInt 2) r2.1 x9 r10.2
              (r20.1, r20.2)) (
              fi (r10.1 = (Int32.ofInt 6)) (
                let r21 : Int32 × FM := GX94_bits a0 (Int32.ofInt 8) (Int32.ofInt 7) r10.2
                let r22 : Int32 × FM := GX94_bits a0 (Int32.ofInt 12) (Int32.ofInt 9) r21.2
                let r23 : Int32 × FM := GX94_wordS (Int32.ofInt 35) (Int32.ofInt 2) (Int32.ofInt 2) r2.1 (((Int32.ofInt 64) * r21.1) + ((Int32.ofInt 4) * r22.1)) r22.2
                (r23.1, r23.2)) (
                let r24 : Int32 × FM := GX94_wordS (Int32.ofInt 35) (Int32.ofInt 3) (Int32.ofInt 2) r2.1 x9 r10.2
                (r24.1, r24.2))))))))
def HX94_quadrant2_0 (a0 : Nat) (M : FM) : Prop := (HX94_bits a0 (Int32.ofInt 11) (Int32.ofInt 7) M ∧ let r1 : Int32 × FM := GX94_bits a0 (Int32.ofInt 11) (Int32.ofInt 7) M; (HX94_bits a0 (Int32.ofInt 6) (Int32.ofInt 2) r1.2 ∧ let r2 : Int32 × FM := GX94_bits a0 (Int32.ofInt 6) (Int32.ofInt 2) r1.2; (HX94_bits a0 (Int32.ofInt 4) (Int32.ofInt 2) r2.2 ∧ let r3 : Int32 × FM := GX94_bits a0 (Int32.ofInt 4) (Int32.ofInt 2) r2.2; (HX94_bits a0 (Int32.ofInt 12) (Int32.ofInt 12) r3.2 ∧ let r4 : Int32 × FM := GX94_bits a0 (Int32.ofInt 12) (Int32.ofInt 12) r3.2; (HX94_bits a0 (Int32.ofInt 6) (Int32.ofInt 5) r4.2 ∧ let r5 : Int32 × FM := GX94_bits a0 (Int32.ofInt 6) (Int32.ofInt 5) r4.2; let x6 : Int32 := ((((Int32.ofInt 64) * r3.1) + ((Int32.ofInt 32) * r4.1)) + ((Int32.ofInt 8) * r5.1)); (HX94_bits a0 (Int32.ofInt 9) (Int32.ofInt 7) r5.2 ∧ let r7 : Int32 × FM := GX94_bits a0 (Int32.ofInt 9) (Int32.ofInt 7) r5.2; (HX94_bits a0 (Int32.ofInt 12) (Int32.ofInt 10) r7.2 ∧ let r8 : Int32 × FM := GX94_bits a0 (Int32.ofInt 12) (Int32.ofInt 10) r7.2; let x9 : Int32 := (((Int32.ofInt 64) * r7.1) + ((Int32.ofInt 8) * r8.1)); (HX94_bits a0 (Int32.ofInt 15) (Int32.ofInt 13) r8.2 ∧ let r10 : Int32 × FM := GX94_bits a0 (Int32.ofInt 15) (Int32.ofInt 13) r8.2; ((r10.1 = (Int32.ofInt 0) → (HX94_plain a0 r10.2 ∧ True)) ∧ (¬ (r10.1 = (Int32.ofInt 0)) → ((r10.1 = (Int32.ofInt 1) → True) ∧ (¬ (r10.1 = (Int32.ofInt 1)) → ((r10.1 = (Int32.ofInt 2) → ((r1.1 = 0 → True) ∧ (¬ (r1.1 = 0) → (HX94_bits a0 (Int32.ofInt 3) (Int32.ofInt 2) r10.2 ∧ let r14 : Int32 × FM := GX94_bits a0 (Int32.ofInt 3) (Int32.ofInt 2) r10.2; (HX94_bits a0 (Int32.ofInt 12) (Int32.ofInt 12) r14.2 ∧ let r15 : Int32 × FM := GX94_bits a0 (Int32.ofInt 12) (Int32.ofInt 12) r14.2; (HX94_bits a0 (Int32.ofInt 6) (Int32.ofInt 4) r15.2 ∧ True)))))) ∧ (¬ (r10.1 = (Int32.ofInt 2)) → ((r10.1 = (Int32.ofInt 3) → True) ∧ (¬ (r10.1 = (Int32.ofInt 3)) → ((r10.1 = (Int32.ofInt 4) → (HX94_jumps a0 r1.1 r2.1 r10.2 ∧ True)) ∧ (¬ (r10.1 = (Int32.ofInt 4)) → ((r10.1 = (Int32.ofInt 5) → True) ∧ (¬ (r10.1 = (Int32.ofInt 5)) → ((r10.1 = (Int32.ofInt 6) → (HX94_bits a0 (Int32.ofInt 8) (Int32.ofInt 7) r10.2 ∧ let r21 : Int32 × FM := GX94_bits a0 (Int32.ofInt 8) (Int32.ofInt 7) r10.2; (HX94_bits a0 (Int32.ofInt 12) (Int32.ofInt 9) r21.2 ∧ True))) ∧ (¬ (r10.1 = (Int32.ofInt 6)) → True))))))))))))))))))))))
theorem gX94_quadrant2_0 (a0 : Nat) (M : FM) (T : Ty M) (n_a0 : fm_is M 97 97 a0 = true) (h : HX94_quadrant2_0 a0 M) : gd (FX94_quadrant2_0 fN a0 M) (GX94_quadrant2_0 a0 M) (OkR M) := by
  delta FX94_quadrant2_0 BX94_quadrant2_0
  refine gd_c n_a0 ?_
  refine gd_b (gX94_bits _ _ _ _ h.1) (fun K0 => ?_)
  have f1 := (ext_is K0.2 (Nat.zero_lt_succ _) n_a0)
  refine gd_c f1 ?_
  refine gd_b (gX94_bits _ _ _ _ h.2.1) (fun K2 => ?_)
  have f3 := (ext_is K2.2 (Nat.zero_lt_succ _) (ext_is K0.2 (Nat.zero_lt_succ _) n_a0))
  refine gd_c f3 ?_
  refine gd_b (gX94_bits _ _ _ _ h.2.2.1) (fun K4 => ?_)
  have f5 := (ext_is K4.2 (Nat.zero_lt_succ _) (ext_is K2.2 (Nat.zero_lt_succ _) (ext_is K0.2 (Nat.zero_lt_succ _) n_a0)))
  refine gd_c f5 ?_
  refine gd_b (gX94_bits _ _ _ _ h.2.2.2.1) (fun K6 => ?_)
  have f7 := (ext_is K6.2 (Nat.zero_lt_succ _) (ext_is K4.2 (Nat.zero_lt_succ _) (ext_is K2.2 (Nat.zero_lt_succ _) (ext_is K0.2 (Nat.zero_lt_succ _) n_a0))))
  refine gd_c f7 ?_
  refine gd_b (gX94_bits _ _ _ _ h.2.2.2.2.1) (fun K8 => ?_)
  have f9 := (ext_is K8.2 (Nat.zero_lt_succ _) (ext_is K6.2 (Nat.zero_lt_succ _) (ext_is K4.2 (Nat.zero_lt_succ _) (ext_is K2.2 (Nat.zero_lt_succ _) (ext_is K0.2 (Nat.zero_lt_succ _) n_a0)))))
  refine gd_c f9 ?_
  refine gd_b (gX94_bits _ _ _ _ h.2.2.2.2.2.1) (fun K10 => ?_)
  have f11 := (ext_is K10.2 (Nat.zero_lt_succ _) (ext_is K8.2 (Nat.zero_lt_succ _) (ext_is K6.2 (Nat.zero_lt_succ _) (ext_is K4.2 (Nat.zero_lt_succ _) (ext_is K2.2 (Nat.zero_lt_succ _) (ext_is K0.2 (Nat.zero_lt_succ _) n_a0))))))
  refine gd_c f11 ?_
  refine gd_b (gX94_bits _ _ _ _ h.2.2.2.2.2.2.1) (fun K12 => ?_)
  have f13 := (ext_is K12.2 (Nat.zero_lt_succ _) (ext_is K10.2 (Nat.zero_lt_succ _) (ext_is K8.2 (Nat.zero_lt_succ _) (ext_is K6.2 (Nat.zero_lt_succ _) (ext_is K4.2 (Nat.zero_lt_succ _) (ext_is K2.2 (Nat.zero_lt_succ _) (ext_is K0.2 (Nat.zero_lt_succ _) n_a0)))))))
  refine gd_c f13 ?_
  refine gd_b (gX94_bits _ _ _ _ h.2.2.2.2.2.2.2.1) (fun K14 => ?_)
  refine gd_fi (fun c15_0 => ?_) (fun c15_0 => ?_)
  · have f16 := (ext_is K14.2 (Nat.zero_lt_succ _) (ext_is K12.2 (Nat.zero_lt_succ _) (ext_is K10.2 (Nat.zero_lt_succ _) (ext_is K8.2 (Nat.zero_lt_succ _) (ext_is K6.2 (Nat.zero_lt_succ _) (ext_is K4.2 (Nat.zero_lt_succ _) (ext_is K2.2 (Nat.zero_lt_succ _) (ext_is K0.2 (Nat.zero_lt_succ _) n_a0))))))))
    refine gd_c f16 ?_
    have f19 := (ext_is K14.2 (Nat.zero_lt_succ _) (ext_is K12.2 (Nat.zero_lt_succ _) (ext_is K10.2 (Nat.zero_lt_succ _) (ext_is K8.2 (Nat.zero_lt_succ _) (ext_is K6.2 (Nat.zero_lt_succ _) (ext_is K4.2 (Nat.zero_lt_succ _) (ext_is K2.2 (Nat.zero_lt_succ _) (ext_is K0.2 (Nat.zero_lt_succ _) n_a0))))))))
    refine gd_b (gX94_plain _ _ ⟨K14.1.1, K14.1.2⟩ f19 (h.2.2.2.2.2.2.2.2.1 c15_0).1) (fun K17 => ?_)
    refine gd_b (gX94_wordI _ _ _ _ _ _ ⟨K17.1.1, K17.1.2⟩  ) (fun K18 => ?_)
    exact ⟨rfl, ⟨K18.1.1, K18.1.2⟩, (ext_tr K0.2 (ext_tr K2.2 (ext_tr K4.2 (ext_tr K6.2 (ext_tr K8.2 (ext_tr K10.2 (ext_tr K12.2 (ext_tr K14.2 (ext_tr K17.2 K18.2)))))))))⟩
  · refine gd_fi (fun c20_1 => ?_) (fun c20_1 => ?_)
    · refine gd_b (gX94_wordI _ _ _ _ _ _ ⟨K14.1.1, K14.1.2⟩  ) (fun K21 => ?_)
      exact ⟨rfl, ⟨K21.1.1, K21.1.2⟩, (ext_tr K0.2 (ext_tr K2.2 (ext_tr K4.2 (ext_tr K6.2 (ext_tr K8.2 (ext_tr K10.2 (ext_tr K12.2 (ext_tr K14.2 K21.2))))))))⟩
    · refine gd_fi (fun c22_2 => ?_) (fun c22_2 => ?_)
      · refine gd_fi (fun c23_0 => ?_) (fun c23_0 => ?_)
        · exact gd_tR (ext_tr K0.2 (ext_tr K2.2 (ext_tr K4.2 (ext_tr K6.2 (ext_tr K8.2 (ext_tr K10.2 (ext_tr K12.2 K14.2))))))) (gX94_quadrant2_193 _ _ ⟨K14.1.1, K14.1.2⟩  )
        · have f24 := (ext_is K14.2 (Nat.zero_lt_succ _) (ext_is K12.2 (Nat.zero_lt_succ _) (ext_is K10.2 (Nat.zero_lt_succ _) (ext_is K8.2 (Nat.zero_lt_succ _) (ext_is K6.2 (Nat.zero_lt_succ _) (ext_is K4.2 (Nat.zero_lt_succ _) (ext_is K2.2 (Nat.zero_lt_succ _) (ext_is K0.2 (Nat.zero_lt_succ _) n_a0))))))))
          refine gd_c f24 ?_
          refine gd_b (gX94_bits _ _ _ _ ((((h.2.2.2.2.2.2.2.2.2 c15_0).2 c20_1).1 c22_2).2 c23_0).1) (fun K25 => ?_)
          have f26 := (ext_is K25.2 (Nat.zero_lt_succ _) (ext_is K14.2 (Nat.zero_lt_succ _) (ext_is K12.2 (Nat.zero_lt_succ _) (ext_is K10.2 (Nat.zero_lt_succ _) (ext_is K8.2 (Nat.zero_lt_succ _) (ext_is K6.2 (Nat.zero_lt_succ _) (ext_is K4.2 (Nat.zero_lt_succ _) (ext_is K2.2 (Nat.zero_lt_succ _) (ext_is K0.2 (Nat.zero_lt_succ _) n_a0)))))))))
          refine gd_c f26 ?_
          refine gd_b (gX94_bits _ _ _ _ ((((h.2.2.2.2.2.2.2.2.2 c15_0).2 c20_1).1 c22_2).2 c23_0).2.1) (fun K27 => ?_)
          have f28 := (ext_is K27.2 (Nat.zero_lt_succ _) (ext_is K25.2 (Nat.zero_lt_succ _) (ext_is K14.2 (Nat.zero_lt_succ _) (ext_is K12.2 (Nat.zero_lt_succ _) (ext_is K10.2 (Nat.zero_lt_succ _) (ext_is K8.2 (Nat.zero_lt_succ _) (ext_is K6.2 (Nat.zero_lt_succ _) (ext_is K4.2 (Nat.zero_lt_succ _) (ext_is K2.2 (Nat.zero_lt_succ _) (ext_is K0.2 (Nat.zero_lt_succ _) n_a0))))))))))
          refine gd_c f28 ?_
          refine gd_b (gX94_bits _ _ _ _ ((((h.2.2.2.2.2.2.2.2.2 c15_0).2 c20_1).1 c22_2).2 c23_0).2.2.1) (fun K29 => ?_)
          refine gd_b (gX94_wordI _ _ _ _ _ _ ⟨K29.1.1, K29.1.2⟩  ) (fun K30 => ?_)
          exact gd_tR (ext_tr K0.2 (ext_tr K2.2 (ext_tr K4.2 (ext_tr K6.2 (ext_tr K8.2 (ext_tr K10.2 (ext_tr K12.2 (ext_tr K14.2 (ext_tr K25.2 (ext_tr K27.2 (ext_tr K29.2 K30.2))))))))))) (gX94_quadrant2_193 _ _ ⟨K30.1.1, K30.1.2⟩  )
      · refine gd_fi (fun c31_3 => ?_) (fun c31_3 => ?_)
        · refine gd_fi (fun c32_0 => ?_) (fun c32_0 => ?_)
          · exact gd_tR (ext_tr K0.2 (ext_tr K2.2 (ext_tr K4.2 (ext_tr K6.2 (ext_tr K8.2 (ext_tr K10.2 (ext_tr K12.2 K14.2))))))) (gX94_quadrant2_210 _ _ ⟨K14.1.1, K14.1.2⟩  )
          · refine gd_b (gX94_wordI _ _ _ _ _ _ ⟨K14.1.1, K14.1.2⟩  ) (fun K33 => ?_)
            exact gd_tR (ext_tr K0.2 (ext_tr K2.2 (ext_tr K4.2 (ext_tr K6.2 (ext_tr K8.2 (ext_tr K10.2 (ext_tr K12.2 (ext_tr K14.2 K33.2)))))))) (gX94_quadrant2_210 _ _ ⟨K33.1.1, K33.1.2⟩  )
        · refine gd_fi (fun c34_4 => ?_) (fun c34_4 => ?_)
          · have f35 := (ext_is K14.2 (Nat.zero_lt_succ _) (ext_is K12.2 (Nat.zero_lt_succ _) (ext_is K10.2 (Nat.zero_lt_succ _) (ext_is K8.2 (Nat.zero_lt_succ _) (ext_is K6.2 (Nat.zero_lt_succ _) (ext_is K4.2 (Nat.zero_lt_succ _) (ext_is K2.2 (Nat.zero_lt_succ _) (ext_is K0.2 (Nat.zero_lt_succ _) n_a0))))))))
            refine gd_c f35 ?_
            have f37 := (ext_is K14.2 (Nat.zero_lt_succ _) (ext_is K12.2 (Nat.zero_lt_succ _) (ext_is K10.2 (Nat.zero_lt_succ _) (ext_is K8.2 (Nat.zero_lt_succ _) (ext_is K6.2 (Nat.zero_lt_succ _) (ext_is K4.2 (Nat.zero_lt_succ _) (ext_is K2.2 (Nat.zero_lt_succ _) (ext_is K0.2 (Nat.zero_lt_succ _) n_a0))))))))
            refine gd_b (gX94_jumps _ _ _ _ ⟨K14.1.1, K14.1.2⟩ f37 (((((h.2.2.2.2.2.2.2.2.2 c15_0).2 c20_1).2 c22_2).2 c31_3).1 c34_4).1) (fun K36 => ?_)
            exact ⟨rfl, ⟨K36.1.1, K36.1.2⟩, (ext_tr K0.2 (ext_tr K2.2 (ext_tr K4.2 (ext_tr K6.2 (ext_tr K8.2 (ext_tr K10.2 (ext_tr K12.2 (ext_tr K14.2 K36.2))))))))⟩
          · refine gd_fi (fun c38_5 => ?_) (fun c38_5 => ?_)
            · refine gd_b (gX94_wordS _ _ _ _ _ _ ⟨K14.1.1, K14.1.2⟩  ) (fun K39 => ?_)
              exact ⟨rfl, ⟨K39.1.1, K39.1.2⟩, (ext_tr K0.2 (ext_tr K2.2 (ext_tr K4.2 (ext_tr K6.2 (ext_tr K8.2 (ext_tr K10.2 (ext_tr K12.2 (ext_tr K14.2 K39.2))))))))⟩
            · refine gd_fi (fun c40_6 => ?_) (fun c40_6 => ?_)
              · have f41 := (ext_is K14.2 (Nat.zero_lt_succ _) (ext_is K12.2 (Nat.zero_lt_succ _) (ext_is K10.2 (Nat.zero_lt_succ _) (ext_is K8.2 (Nat.zero_lt_succ _) (ext_is K6.2 (Nat.zero_lt_succ _) (ext_is K4.2 (Nat.zero_lt_succ _) (ext_is K2.2 (Nat.zero_lt_succ _) (ext_is K0.2 (Nat.zero_lt_succ _) n_a0))))))))
                refine gd_c f41 ?_
                refine gd_b (gX94_bits _ _ _ _ (((((((h.2.2.2.2.2.2.2.2.2 c15_0).2 c20_1).2 c22_2).2 c31_3).2 c34_4).2 c38_5).1 c40_6).1) (fun K42 => ?_)
                have f43 := (ext_is K42.2 (Nat.zero_lt_succ _) (ext_is K14.2 (Nat.zero_lt_succ _) (ext_is K12.2 (Nat.zero_lt_succ _) (ext_is K10.2 (Nat.zero_lt_succ _) (ext_is K8.2 (Nat.zero_lt_succ _) (ext_is K6.2 (Nat.zero_lt_succ _) (ext_is K4.2 (Nat.zero_lt_succ _) (ext_is K2.2 (Nat.zero_lt_succ _) (ext_is K0.2 (Nat.zero_lt_succ _) n_a0)))))))))
                refine gd_c f43 ?_
                refine gd_b (gX94_bits _ _ _ _ (((((((h.2.2.2.2.2.2.2.2.2 c15_0).2 c20_1).2 c22_2).2 c31_3).2 c34_4).2 c38_5).1 c40_6).2.1) (fun K44 => ?_)
                refine gd_b (gX94_wordS _ _ _ _ _ _ ⟨K44.1.1, K44.1.2⟩  ) (fun K45 => ?_)
                exact ⟨rfl, ⟨K45.1.1, K45.1.2⟩, (ext_tr K0.2 (ext_tr K2.2 (ext_tr K4.2 (ext_tr K6.2 (ext_tr K8.2 (ext_tr K10.2 (ext_tr K12.2 (ext_tr K14.2 (ext_tr K42.2 (ext_tr K44.2 K45.2))))))))))⟩
              · refine gd_b (gX94_wordS _ _ _ _ _ _ ⟨K14.1.1, K14.1.2⟩  ) (fun K46 => ?_)
                exact ⟨rfl, ⟨K46.1.1, K46.1.2⟩, (ext_tr K0.2 (ext_tr K2.2 (ext_tr K4.2 (ext_tr K6.2 (ext_tr K8.2 (ext_tr K10.2 (ext_tr K12.2 (ext_tr K14.2 K46.2))))))))⟩
noncomputable def GX94_quadrant2 (a0 : Nat) (M : FM) : Int32 × FM := GX94_quadrant2_0 a0 M
def HX94_quadrant2 (a0 : Nat) (M : FM) : Prop := HX94_quadrant2_0 a0 M
theorem gX94_quadrant2 (a0 : Nat) (M : FM) (T : Ty M) (n_a0 : fm_is M 97 97 a0 = true) (h : HX94_quadrant2 a0 M) : gd (FX94_quadrant2 fN a0 M) (GX94_quadrant2 a0 M) (OkR M) := gX94_quadrant2_0 a0 M T n_a0 h
noncomputable def GX94_wordOf_0 (a0 : Nat) (a1 : Int32) (M : FM) : Int32 × FM :=
  let M1 : FM := fm_sI M 387 a0 0 a1
  let x2 : Int32 := (a1 &&& (Int32.ofInt 3))
  fi (x2 = (Int32.ofInt 0)) (
    let r3 : Int32 × FM := GX94_quadrant0 a0 M1
    (r3.1, r3.2)) (
    fi (x2 = (Int32.ofInt 1)) (
      let r4 : Int32 × FM := GX94_quadrant1 a0 M1
      (r4.1, r4.2)) (
      fi (x2 = (Int32.ofInt 2)) (
        let r5 : Int32 × FM := GX94_quadrant2 a0 M1
        (r5.1, r5.2)) (
        ((Int32.ofInt 0), M1))))
def HX94_wordOf_0 (a0 : Nat) (a1 : Int32) (M : FM) : Prop := let M1 : FM := fm_sI M 387 a0 0 a1; let x2 : Int32 := (a1 &&& (Int32.ofInt 3)); ((x2 = (Int32.ofInt 0) → (HX94_quadrant0 a0 M1 ∧ True)) ∧ (¬ (x2 = (Int32.ofInt 0)) → ((x2 = (Int32.ofInt 1) → (HX94_quadrant1 a0 M1 ∧ True)) ∧ (¬ (x2 = (Int32.ofInt 1)) → ((x2 = (Int32.ofInt 2) → (HX94_quadrant2 a0 M1 ∧ True)) ∧ (¬ (x2 = (Int32.ofInt 2)) → True))))))
theorem gX94_wordOf_0 (a0 : Nat) (a1 : Int32) (M : FM) (T : Ty M) (n_a0 : fm_is M 97 97 a0 = true) (h : HX94_wordOf_0 a0 a1 M) : gd (FX94_wordOf_0 fN a0 a1 M) (GX94_wordOf_0 a0 a1 M) (OkR M) := by
  delta FX94_wordOf_0 BX94_wordOf_0
  refine gd_c n_a0 ?_
  refine gd_fi (fun c0_0 => ?_) (fun c0_0 => ?_)
  · refine gd_c n_a0 ?_
    refine gd_b (gX94_quadrant0 _ _ ⟨T.1, (tyb_sI (f := 387) rfl T.2)⟩ n_a0 (h.1 c0_0).1) (fun K1 => ?_)
    exact ⟨rfl, ⟨K1.1.1, K1.1.2⟩, (ext_dI K1.2)⟩
  · refine gd_fi (fun c2_1 => ?_) (fun c2_1 => ?_)
    · refine gd_c n_a0 ?_
      refine gd_b (gX94_quadrant1 _ _ ⟨T.1, (tyb_sI (f := 387) rfl T.2)⟩ n_a0 ((h.2 c0_0).1 c2_1).1) (fun K3 => ?_)
      exact ⟨rfl, ⟨K3.1.1, K3.1.2⟩, (ext_dI K3.2)⟩
    · refine gd_fi (fun c4_2 => ?_) (fun c4_2 => ?_)
      · refine gd_c n_a0 ?_
        refine gd_b (gX94_quadrant2 _ _ ⟨T.1, (tyb_sI (f := 387) rfl T.2)⟩ n_a0 (((h.2 c0_0).2 c2_1).1 c4_2).1) (fun K5 => ?_)
        exact ⟨rfl, ⟨K5.1.1, K5.1.2⟩, (ext_dI K5.2)⟩
      · exact ⟨rfl, ⟨T.1, (tyb_sI (f := 387) rfl T.2)⟩, (ext_dI (ext_r _))⟩
noncomputable def GX94_wordOf (a0 : Nat) (a1 : Int32) (M : FM) : Int32 × FM := GX94_wordOf_0 a0 a1 M
def HX94_wordOf (a0 : Nat) (a1 : Int32) (M : FM) : Prop := HX94_wordOf_0 a0 a1 M
theorem gX94_wordOf (a0 : Nat) (a1 : Int32) (M : FM) (T : Ty M) (n_a0 : fm_is M 97 97 a0 = true) (h : HX94_wordOf a0 a1 M) : gd (FX94_wordOf fN a0 a1 M) (GX94_wordOf a0 a1 M) (OkR M) := gX94_wordOf_0 a0 a1 M T n_a0 h
noncomputable def GX94_expand_35 (s0 : Int32) (M : FM) : Int32 × FM :=
  (s0, M)
theorem gX94_expand_35 (s0 : Int32) (M : FM) (T : Ty M) : gd (FX94_expand_35 fN s0 M) (GX94_expand_35 s0 M) (OkR M) := by
  delta FX94_expand_35 BX94_expand_35
  exact ⟨rfl, ⟨T.1, T.2⟩, (ext_r _)⟩
noncomputable def GX94_expand_16 (a0 : Nat) (a1 : Int32) (s0 : Nat) (s1 : Int32) (M : FM) : Int32 × FM :=
  let M1 : FM := fm_sI M 386 s0 0 s1
  fi ((M1.1 386 a0 0) ≤ 0) (
    let r2 : Int32 × FM := GX94_wordOf a0 a1 M1
    GX94_expand_35 r2.1 r2.2) (
    GX94_expand_35 (Int32.ofInt 0) M1)
def HX94_expand_16 (a0 : Nat) (a1 : Int32) (s0 : Nat) (s1 : Int32) (M : FM) : Prop := let M1 : FM := fm_sI M 386 s0 0 s1; (((M1.1 386 a0 0) ≤ 0 → (HX94_wordOf a0 a1 M1 ∧ True)) ∧ (¬ ((M1.1 386 a0 0) ≤ 0) → True))
theorem gX94_expand_16 (a0 : Nat) (a1 : Int32) (s0 : Nat) (s1 : Int32) (M : FM) (T : Ty M) (n_s0 : fm_is M 97 97 s0 = true) (n_a0 : fm_is M 97 97 a0 = true) (h : HX94_expand_16 a0 a1 s0 s1 M) : gd (FX94_expand_16 fN a0 a1 s0 s1 M) (GX94_expand_16 a0 a1 s0 s1 M) (OkR M) := by
  delta FX94_expand_16 BX94_expand_16
  refine gd_c n_s0 ?_
  refine gd_c n_a0 ?_
  refine gd_fi (fun c0_0 => ?_) (fun c0_0 => ?_)
  · refine gd_c n_a0 ?_
    refine gd_b (gX94_wordOf _ _ _ ⟨T.1, (tyb_sI (f := 386) rfl T.2)⟩ n_a0 (h.1 c0_0).1) (fun K1 => ?_)
    exact gd_tR (ext_dI K1.2) (gX94_expand_35 _ _ ⟨K1.1.1, K1.1.2⟩  )
  · exact gd_tR (ext_dI (ext_r _)) (gX94_expand_35 _ _ ⟨T.1, (tyb_sI (f := 386) rfl T.2)⟩  )
noncomputable def GX94_expand_11 (a0 : Nat) (a1 : Int32) (s0 : Nat) (M : FM) : Int32 × FM :=
  GX94_expand_16 a0 a1 s0 (Int32.ofInt 1) M
def HX94_expand_11 (a0 : Nat) (a1 : Int32) (s0 : Nat) (M : FM) : Prop := HX94_expand_16 a0 a1 s0 (Int32.ofInt 1) M
theorem gX94_expand_11 (a0 : Nat) (a1 : Int32) (s0 : Nat) (M : FM) (T : Ty M) (n_s0 : fm_is M 97 97 s0 = true) (n_a0 : fm_is M 97 97 a0 = true) (h : HX94_expand_11 a0 a1 s0 M) : gd (FX94_expand_11 fN a0 a1 s0 M) (GX94_expand_11 a0 a1 s0 M) (OkR M) := by
  delta FX94_expand_11 BX94_expand_11
  exact gd_tR (ext_r _) (gX94_expand_16 _ _ _ _ _ ⟨T.1, T.2⟩ n_s0 n_a0 h)
noncomputable def GX94_expand_0 (a0 : Nat) (a1 : Int32) (M : FM) : Int32 × FM :=
  fi (a1 < 0) (
    GX94_expand_11 a0 a1 a0 M) (
    fi (a1 ≤ (Int32.ofInt 65535)) (
      GX94_expand_16 a0 a1 a0 (Int32.ofInt 0) M) (
      GX94_expand_11 a0 a1 a0 M))
def HX94_expand_0 (a0 : Nat) (a1 : Int32) (M : FM) : Prop := ((a1 < 0 → HX94_expand_11 a0 a1 a0 M) ∧ (¬ (a1 < 0) → ((a1 ≤ (Int32.ofInt 65535) → HX94_expand_16 a0 a1 a0 (Int32.ofInt 0) M) ∧ (¬ (a1 ≤ (Int32.ofInt 65535)) → HX94_expand_11 a0 a1 a0 M))))
theorem gX94_expand_0 (a0 : Nat) (a1 : Int32) (M : FM) (T : Ty M) (n_a0 : fm_is M 97 97 a0 = true) (h : HX94_expand_0 a0 a1 M) : gd (FX94_expand_0 fN a0 a1 M) (GX94_expand_0 a0 a1 M) (OkR M) := by
  delta FX94_expand_0 BX94_expand_0
  refine gd_fi (fun c0_0 => ?_) (fun c0_0 => ?_)
  · exact gd_tR (ext_r _) (gX94_expand_11 _ _ _ _ ⟨T.1, T.2⟩ n_a0 n_a0 (h.1 c0_0))
  · refine gd_fi (fun c1_0 => ?_) (fun c1_0 => ?_)
    · exact gd_tR (ext_r _) (gX94_expand_16 _ _ _ _ _ ⟨T.1, T.2⟩ n_a0 n_a0 ((h.2 c0_0).1 c1_0))
    · exact gd_tR (ext_r _) (gX94_expand_11 _ _ _ _ ⟨T.1, T.2⟩ n_a0 n_a0 ((h.2 c0_0).2 c1_0))
noncomputable def GX94_expand (a0 : Nat) (a1 : Int32) (M : FM) : Int32 × FM := GX94_expand_0 a0 a1 M
def HX94_expand (a0 : Nat) (a1 : Int32) (M : FM) : Prop := HX94_expand_0 a0 a1 M
theorem gX94_expand (a0 : Nat) (a1 : Int32) (M : FM) (T : Ty M) (n_a0 : fm_is M 97 97 a0 = true) (h : HX94_expand a0 a1 M) : gd (FX94_expand fN a0 a1 M) (GX94_expand a0 a1 M) (OkR M) := gX94_expand_0 a0 a1 M T n_a0 h
noncomputable def GX92_illegal_0 (a0 : Nat) (M : FM) : Int32 × FM :=
  let r1 : Int32 × FM := GX92_fail a0 (Int32.ofInt 2) (M.2.1 319 a0 0) M
  (r1.1, r1.2)
theorem gX92_illegal_0 (a0 : Nat) (M : FM) (T : Ty M) (n_a0 : fm_is M 92 92 a0 = true) : gd (FX92_illegal_0 a0 M) (GX92_illegal_0 a0 M) (OkZ M) := by
  delta FX92_illegal_0 BX92_illegal_0
  refine gd_c n_a0 ?_
  refine gd_c n_a0 ?_
  refine gd_b (gX92_fail _ _ _ _ ⟨T.1, T.2⟩ n_a0 ) (fun K0 => ?_)
  exact gd_z K0.2.2 ⟨K0.1.1, K0.1.2⟩ K0.2.1 rfl
noncomputable def GX92_illegal (a0 : Nat) (M : FM) : Int32 × FM := GX92_illegal_0 a0 M
theorem gX92_illegal (a0 : Nat) (M : FM) (T : Ty M) (n_a0 : fm_is M 92 92 a0 = true) : gd (FX92_illegal a0 M) (GX92_illegal a0 M) (OkZ M) := gX92_illegal_0 a0 M T n_a0 
noncomputable def GX92_fetch_77 (s0 : Int32) (M : FM) : Int32 × FM :=
  (s0, M)
theorem gX92_fetch_77 (s0 : Int32) (M : FM) (T : Ty M) (z_s0 : s0 = 0 ∨ s0 = 1) : gd (FX92_fetch_77 fN s0 M) (GX92_fetch_77 s0 M) (OkZ M) := by
  delta FX92_fetch_77 BX92_fetch_77
  exact gd_z z_s0 ⟨T.1, T.2⟩ (ext_r _) rfl
noncomputable def GX92_fetch_72 (M : FM) : Int32 × FM :=
  GX92_fetch_77 (Int32.ofInt 1) M
theorem gX92_fetch_72 (M : FM) (T : Ty M) : gd (FX92_fetch_72 fN M) (GX92_fetch_72 M) (OkZ M) := by
  delta FX92_fetch_72 BX92_fetch_72
  exact gd_tZ (ext_r _) (gX92_fetch_77 _ _ ⟨T.1, T.2⟩ fz_1 )
noncomputable def GX92_fetch_0 (a0 : Nat) (a1 : Int32) (M : FM) : Int32 × FM :=
  let x1 : Nat := (M.2.2 303 a0 0)
  let x2 : Nat := (M.2.2 3 x1 a1.toNatClampNeg)
  let r3 : Int64 × FM := GX98_counter x2 M
  let r4 : Int32 × FM := GX92_half a0 a1 r3.1 r3.2
  fi (0 ≤ r4.1) (
    let M5 : FM := fm_sL r4.2 319 a0 0 r4.1.toInt64
    let M6 : FM := fm_sI M5 318 a0 0 (Int32.ofInt 2)
    fi ((r4.1 &&& (Int32.ofInt 3)) = (Int32.ofInt 3)) (
      let r7 : Int32 × FM := GX92_half a0 a1 (r3.1 + (Int64.ofInt 2)) M6
      fi (0 ≤ r7.1) (
        let M8 : FM := fm_sI r7.2 318 a0 0 (Int32.ofInt 4)
        let M9 : FM := fm_sI M8 317 a0 0 ((r7.1 <<< ((Int32.ofInt 16) &&& 31)) ||| r4.1)
        let M10 : FM := fm_sL M9 319 a0 0 ((M9.1 317 a0 0).toInt64 &&& (Int64.ofInt 4294967295))
        ((Int32.ofInt 1), M10)) (
        ((Int32.ofInt 0), r7.2))) (
      let x11 : Nat := (M6.2.2 299 a0 0)
      let r12 : Int32 × FM := GX94_expand x11 r4.1 M6
      let M13 : FM := fm_sI r12.2 317 a0 0 r12.1
      fi ((M13.1 317 a0 0) = 0) (
        let r14 : Int32 × FM := GX92_illegal a0 M13
        fi (r14.1 = 0) (
          GX92_fetch_77 (Int32.ofInt 0) r14.2) (
          GX92_fetch_72 r14.2)) (
        GX92_fetch_72 M13))) (
    ((Int32.ofInt 0), r4.2))
def HX92_fetch_0 (a0 : Nat) (a1 : Int32) (M : FM) : Prop := let x1 : Nat := (M.2.2 303 a0 0); (fm_in M x1 a1 = true ∧ let x2 : Nat := (M.2.2 3 x1 a1.toNatClampNeg); (fm_is M 94 94 x2 = true ∧ let r3 : Int64 × FM := GX98_counter x2 M; (HX92_half a0 a1 r3.1 r3.2 ∧ let r4 : Int32 × FM := GX92_half a0 a1 r3.1 r3.2; ((0 ≤ r4.1 → let M5 : FM := fm_sL r4.2 319 a0 0 r4.1.toInt64; let M6 : FM := fm_sI M5 318 a0 0 (Int32.ofInt 2); (((r4.1 &&& (Int32.ofInt 3)) = (Int32.ofInt 3) → (HX92_half a0 a1 (r3.1 + (Int64.ofInt 2)) M6 ∧ True)) ∧ (¬ ((r4.1 &&& (Int32.ofInt 3)) = (Int32.ofInt 3)) → let x11 : Nat := (M6.2.2 299 a0 0); (HX94_expand x11 r4.1 M6 ∧ True)))) ∧ (¬ (0 ≤ r4.1) → True)))))
theorem gX92_fetch_0 (a0 : Nat) (a1 : Int32) (M : FM) (T : Ty M) (n_a0 : fm_is M 92 92 a0 = true) (h : HX92_fetch_0 a0 a1 M) : gd (FX92_fetch_0 fN a0 a1 M) (GX92_fetch_0 a0 a1 M) (OkZ M) := by
  delta FX92_fetch_0 BX92_fetch_0
  refine gd_c n_a0 ?_
  have f27 := (fm_w (lo' := 910) (hi' := 990) rfl rfl (tN_303 T.1 n_a0))
  refine gd_c ⟨f27, h.1⟩ ?_
  refine gd_c h.2.1 ?_
  refine gd_b (gX98_counter _ _ ⟨T.1, T.2⟩ h.2.1 ) (fun K0 => ?_)
  have f1 := (ext_is K0.2 (Nat.zero_lt_succ _) n_a0)
  refine gd_c f1 ?_
  have f26 := (ext_is K0.2 (Nat.zero_lt_succ _) n_a0)
  refine gd_b (gX92_half _ _ _ _ ⟨K0.1.1, K0.1.2⟩ f26 h.2.2.1) (fun K2 => ?_)
  refine gd_fi (fun c3_0 => ?_) (fun c3_0 => ?_)
  · have f4 := (ext_is K2.2 (Nat.zero_lt_succ _) (ext_is K0.2 (Nat.zero_lt_succ _) n_a0))
    refine gd_c f4 ?_
    have f5 := (ext_is K2.2 (Nat.zero_lt_succ _) (ext_is K0.2 (Nat.zero_lt_succ _) n_a0))
    refine gd_c f5 ?_
    refine gd_fi (fun c6_0 => ?_) (fun c6_0 => ?_)
    · have f7 := (ext_is K2.2 (Nat.zero_lt_succ _) (ext_is K0.2 (Nat.zero_lt_succ _) n_a0))
      refine gd_c f7 ?_
      have f14 := (ext_is K2.2 (Nat.zero_lt_succ _) (ext_is K0.2 (Nat.zero_lt_succ _) n_a0))
      refine gd_b (gX92_half _ _ _ _ ⟨K2.1.1, (tyb_sI (f := 318) rfl K2.1.2)⟩ f14 ((h.2.2.2.1 c3_0).1 c6_0).1) (fun K8 => ?_)
      refine gd_fi (fun c9_0 => ?_) (fun c9_0 => ?_)
      · have f10 := (ext_is K8.2 (Nat.zero_lt_succ _) (ext_is K2.2 (Nat.zero_lt_succ _) (ext_is K0.2 (Nat.zero_lt_succ _) n_a0)))
        refine gd_c f10 ?_
        have f11 := (ext_is K8.2 (Nat.zero_lt_succ _) (ext_is K2.2 (Nat.zero_lt_succ _) (ext_is K0.2 (Nat.zero_lt_succ _) n_a0)))
        refine gd_c f11 ?_
        have f12 := (ext_is K8.2 (Nat.zero_lt_succ _) (ext_is K2.2 (Nat.zero_lt_succ _) (ext_is K0.2 (Nat.zero_lt_succ _) n_a0)))
        refine gd_c f12 ?_
        have f13 := (ext_is K8.2 (Nat.zero_lt_succ _) (ext_is K2.2 (Nat.zero_lt_succ _) (ext_is K0.2 (Nat.zero_lt_succ _) n_a0)))
        refine gd_c f13 ?_
        exact gd_z fz_1 ⟨K8.1.1, (tyb_sI (f := 317) rfl (tyb_sI (f := 318) rfl K8.1.2))⟩ (ext_tr K0.2 (ext_tr K2.2 (ext_dL (ext_dI (ext_tr K8.2 (ext_dI (ext_dI (ext_dL (ext_r _))))))))) rfl
      · exact gd_z fz_0 ⟨K8.1.1, K8.1.2⟩ (ext_tr K0.2 (ext_tr K2.2 (ext_dL (ext_dI K8.2)))) rfl
    · have f15 := (ext_is K2.2 (Nat.zero_lt_succ _) (ext_is K0.2 (Nat.zero_lt_succ _) n_a0))
      refine gd_c f15 ?_
      have f16 := (tN_299 K2.1.1 (ext_is K2.2 (Nat.zero_lt_succ _) (ext_is K0.2 (Nat.zero_lt_succ _) n_a0)))
      refine gd_c f16 ?_
      have f25 := (tN_299 K2.1.1 (ext_is K2.2 (Nat.zero_lt_succ _) (ext_is K0.2 (Nat.zero_lt_succ _) n_a0)))
      refine gd_b (gX94_expand _ _ _ ⟨K2.1.1, (tyb_sI (f := 318) rfl K2.1.2)⟩ f25 ((h.2.2.2.1 c3_0).2 c6_0).1) (fun K17 => ?_)
      have f18 := (ext_is K17.2 (Nat.zero_lt_succ _) (ext_is K2.2 (Nat.zero_lt_succ _) (ext_is K0.2 (Nat.zero_lt_succ _) n_a0)))
      refine gd_c f18 ?_
      have f19 := (ext_is K17.2 (Nat.zero_lt_succ _) (ext_is K2.2 (Nat.zero_lt_succ _) (ext_is K0.2 (Nat.zero_lt_succ _) n_a0)))
      refine gd_c f19 ?_
      refine gd_fi (fun c20_0 => ?_) (fun c20_0 => ?_)
      · have f21 := (ext_is K17.2 (Nat.zero_lt_succ _) (ext_is K2.2 (Nat.zero_lt_succ _) (ext_is K0.2 (Nat.zero_lt_succ _) n_a0)))
        refine gd_c f21 ?_
        have f24 := (ext_is K17.2 (Nat.zero_lt_succ _) (ext_is K2.2 (Nat.zero_lt_succ _) (ext_is K0.2 (Nat.zero_lt_succ _) n_a0)))
        refine gd_b (gX92_illegal _ _ ⟨K17.1.1, (tyb_sI (f := 317) rfl K17.1.2)⟩ f24 ) (fun K22 => ?_)
        refine gd_fi (fun c23_0 => ?_) (fun c23_0 => ?_)
        · exact gd_tZ (ext_tr K0.2 (ext_tr K2.2 (ext_dL (ext_dI (ext_tr K17.2 (ext_dI K22.2.1)))))) (gX92_fetch_77 _ _ ⟨K22.1.1, K22.1.2⟩ fz_0 )
        · exact gd_tZ (ext_tr K0.2 (ext_tr K2.2 (ext_dL (ext_dI (ext_tr K17.2 (ext_dI K22.2.1)))))) (gX92_fetch_72  _ ⟨K22.1.1, K22.1.2⟩  )
      · exact gd_tZ (ext_tr K0.2 (ext_tr K2.2 (ext_dL (ext_dI (ext_tr K17.2 (ext_dI (ext_r _))))))) (gX92_fetch_72  _ ⟨K17.1.1, (tyb_sI (f := 317) rfl K17.1.2)⟩  )
  · exact gd_z fz_0 ⟨K2.1.1, K2.1.2⟩ (ext_tr K0.2 K2.2) rfl
noncomputable def GX92_fetch (a0 : Nat) (a1 : Int32) (M : FM) : Int32 × FM := GX92_fetch_0 a0 a1 M
def HX92_fetch (a0 : Nat) (a1 : Int32) (M : FM) : Prop := HX92_fetch_0 a0 a1 M
theorem gX92_fetch (a0 : Nat) (a1 : Int32) (M : FM) (T : Ty M) (n_a0 : fm_is M 92 92 a0 = true) (h : HX92_fetch a0 a1 M) : gd (FX92_fetch fN a0 a1 M) (GX92_fetch a0 a1 M) (OkZ M) := gX92_fetch_0 a0 a1 M T n_a0 h
def kX98_bits (k5 : Nat → Int32 → Int32 → Int32 → FM → Option (Int32 × FM)) : (Nat × Int32 × Int32 × Int32 × FM) ⊕ (Int32 × FM) → Option (Int32 × FM)
  | .inl (v0, v1, v2, v3, M') => k5 v0 v1 v2 v3 M'
  | .inr (r) => some r
def pX98_bits (M : FM) : (Nat × Int32 × Int32 × Int32 × FM) ⊕ (Int32 × FM) → Prop
  | .inl (_, _, _, _, M') => OkV M M'
  | .inr (r) => OkR M r
theorem pX98_bits_t {M M1 : FM} (e : Ext M M1) : ∀ y, pX98_bits M1 y → pX98_bits M y
  | .inl (_, _, _, _, _), h => ⟨h.1, ext_tr e h.2⟩
  | .inr (r), h => ⟨h.1, ext_tr e h.2⟩
noncomputable def GX98_bits_0 (a0 : Nat) (a1 : Int32) (a2 : Int32) (M : FM) : (Nat × Int32 × Int32 × Int32 × FM) ⊕ (Int32 × FM) :=
  (.inl (a0, a2, (Int32.ofInt 0), a1, M))
theorem gX98_bits_0 (k5 : Nat → Int32 → Int32 → Int32 → FM → Option (Int32 × FM)) (a0 : Nat) (a1 : Int32) (a2 : Int32) (M : FM) (T : Ty M) : gs (FX98_bits_0 fN k5 a0 a1 a2 M) (GX98_bits_0 a0 a1 a2 M) (kX98_bits k5) (pX98_bits M) := by
  delta FX98_bits_0 BX98_bits_0
  exact And.intro rfl (And.intro (And.intro T.1 T.2) ((ext_r _)))
noncomputable def GX98_bits_5 (a0 : Nat) (a2 : Int32) (a3 : Int32) (a4 : Int32) (M : FM) : (Nat × Int32 × Int32 × Int32 × FM) ⊕ (Int32 × FM) :=
  fi (a4 < a2) (
    (.inr (a3, M))) (
    let x1 : Int32 := (((Int32.ofInt 2) * a3) + (((M.1 349 a0 0) >>> (a4 &&& 31)) &&& (Int32.ofInt 1)))
    let x2 : Int32 := a4 + (Int32.ofInt (-1))
    (.inl (a0, a2, x1, x2, M)))
theorem gX98_bits_5 (k5 : Nat → Int32 → Int32 → Int32 → FM → Option (Int32 × FM)) (a0 : Nat) (a2 : Int32) (a3 : Int32) (a4 : Int32) (M : FM) (T : Ty M) (n_a0 : fm_is M 94 94 a0 = true) : gs (FX98_bits_5 fN k5 a0 a2 a3 a4 M) (GX98_bits_5 a0 a2 a3 a4 M) (kX98_bits k5) (pX98_bits M) := by
  delta FX98_bits_5 BX98_bits_5
  refine gs_fi (fun c0_0 => ?_) (fun c0_0 => ?_)
  · exact And.intro rfl (And.intro (And.intro T.1 T.2) ((ext_r _)))
  · refine gs_c n_a0 ?_
    exact And.intro rfl (And.intro (And.intro T.1 T.2) ((ext_r _)))
noncomputable def GX98_bits (a0 : Nat) (a1 : Int32) (a2 : Int32) (M : FM) : Int32 × FM := (FX98_bits fN a0 a1 a2 M).getD (0, M)
def HX98_bits (a0 : Nat) (a1 : Int32) (a2 : Int32) (M : FM) : Prop := ∃ r, FX98_bits fN a0 a1 a2 M = some r ∧ OkR M r
theorem gX98_bits (a0 : Nat) (a1 : Int32) (a2 : Int32) (M : FM) (h : HX98_bits a0 a1 a2 M) : gd (FX98_bits fN a0 a1 a2 M) (GX98_bits a0 a1 a2 M) (OkR M) := gd_op h
noncomputable def GX98_isLess_50 (s0 : Int32) (M : FM) : Int32 × FM :=
  (s0, M)
theorem gX98_isLess_50 (s0 : Int32) (M : FM) (T : Ty M) (z_s0 : s0 = 0 ∨ s0 = 1) : gd (FX98_isLess_50 s0 M) (GX98_isLess_50 s0 M) (OkZ M) := by
  delta FX98_isLess_50 BX98_isLess_50
  exact gd_z z_s0 ⟨T.1, T.2⟩ (ext_r _) rfl
noncomputable def GX98_isLess_22 (a0 : Int64) (a2 : Int64) (s0 : Int32) (s1 : Int32) (M : FM) : Int32 × FM :=
  fi (s0 = s1) (
    fi (0 ≤ (lg_cmp a0 a2)) (
      GX98_isLess_50 (Int32.ofInt 0) M) (
      GX98_isLess_50 (Int32.ofInt 1) M)) (
    fi (0 ≤ (lg_cmp a2 (Int64.ofInt 0))) (
      GX98_isLess_50 (Int32.ofInt 0) M) (
      GX98_isLess_50 (Int32.ofInt 1) M))
theorem gX98_isLess_22 (a0 : Int64) (a2 : Int64) (s0 : Int32) (s1 : Int32) (M : FM) (T : Ty M) : gd (FX98_isLess_22 a0 a2 s0 s1 M) (GX98_isLess_22 a0 a2 s0 s1 M) (OkZ M) := by
  delta FX98_isLess_22 BX98_isLess_22
  refine gd_fi (fun c0_0 => ?_) (fun c0_0 => ?_)
  · refine gd_fi (fun c1_0 => ?_) (fun c1_0 => ?_)
    · exact gd_tZ (ext_r _) (gX98_isLess_50 _ _ ⟨T.1, T.2⟩ fz_0 )
    · exact gd_tZ (ext_r _) (gX98_isLess_50 _ _ ⟨T.1, T.2⟩ fz_1 )
  · refine gd_fi (fun c2_0 => ?_) (fun c2_0 => ?_)
    · exact gd_tZ (ext_r _) (gX98_isLess_50 _ _ ⟨T.1, T.2⟩ fz_0 )
    · exact gd_tZ (ext_r _) (gX98_isLess_50 _ _ ⟨T.1, T.2⟩ fz_1 )
noncomputable def GX98_isLess_11 (a0 : Int64) (a2 : Int64) (s0 : Int32) (M : FM) : Int32 × FM :=
  fi (0 ≤ (lg_cmp a2 (Int64.ofInt 0))) (
    GX98_isLess_22 a0 a2 s0 (Int32.ofInt 0) M) (
    GX98_isLess_22 a0 a2 s0 (Int32.ofInt 1) M)
theorem gX98_isLess_11 (a0 : Int64) (a2 : Int64) (s0 : Int32) (M : FM) (T : Ty M) : gd (FX98_isLess_11 a0 a2 s0 M) (GX98_isLess_11 a0 a2 s0 M) (OkZ M) := by
  delta FX98_isLess_11 BX98_isLess_11
  refine gd_fi (fun c0_0 => ?_) (fun c0_0 => ?_)
  · exact gd_tZ (ext_r _) (gX98_isLess_22 _ _ _ _ _ ⟨T.1, T.2⟩  )
  · exact gd_tZ (ext_r _) (gX98_isLess_22 _ _ _ _ _ ⟨T.1, T.2⟩  )
noncomputable def GX98_isLess_0 (a0 : Int64) (a2 : Int64) (M : FM) : Int32 × FM :=
  fi (0 ≤ (lg_cmp a0 (Int64.ofInt 0))) (
    GX98_isLess_11 a0 a2 (Int32.ofInt 0) M) (
    GX98_isLess_11 a0 a2 (Int32.ofInt 1) M)
theorem gX98_isLess_0 (a0 : Int64) (a2 : Int64) (M : FM) (T : Ty M) : gd (FX98_isLess_0 a0 a2 M) (GX98_isLess_0 a0 a2 M) (OkZ M) := by
  delta FX98_isLess_0 BX98_isLess_0
  refine gd_fi (fun c0_0 => ?_) (fun c0_0 => ?_)
  · exact gd_tZ (ext_r _) (gX98_isLess_11 _ _ _ _ ⟨T.1, T.2⟩  )
  · exact gd_tZ (ext_r _) (gX98_isLess_11 _ _ _ _ ⟨T.1, T.2⟩  )
noncomputable def GX98_isLess (a0 : Int64) (a2 : Int64) (M : FM) : Int32 × FM := GX98_isLess_0 a0 a2 M
theorem gX98_isLess (a0 : Int64) (a2 : Int64) (M : FM) (T : Ty M) : gd (FX98_isLess a0 a2 M) (GX98_isLess a0 a2 M) (OkZ M) := gX98_isLess_0 a0 a2 M T 
noncomputable def GX98_sign_13 (s0 : Int64) (M : FM) : Int64 × FM :=
  (s0, M)
theorem gX98_sign_13 (s0 : Int64) (M : FM) (T : Ty M) : gd (FX98_sign_13 s0 M) (GX98_sign_13 s0 M) (OkR M) := by
  delta FX98_sign_13 BX98_sign_13
  exact ⟨rfl, ⟨T.1, T.2⟩, (ext_r _)⟩
noncomputable def GX98_sign_0 (a0 : Nat) (a1 : Int64) (M : FM) : Int64 × FM :=
  fi (0 ≤ (M.1 349 a0 0)) (
    GX98_sign_13 (Int64.ofInt 0) M) (
    GX98_sign_13 (-a1) M)
theorem gX98_sign_0 (a0 : Nat) (a1 : Int64) (M : FM) (T : Ty M) (n_a0 : fm_is M 94 94 a0 = true) : gd (FX98_sign_0 a0 a1 M) (GX98_sign_0 a0 a1 M) (OkR M) := by
  delta FX98_sign_0 BX98_sign_0
  refine gd_c n_a0 ?_
  refine gd_fi (fun c0_0 => ?_) (fun c0_0 => ?_)
  · exact gd_tR (ext_r _) (gX98_sign_13 _ _ ⟨T.1, T.2⟩  )
  · exact gd_tR (ext_r _) (gX98_sign_13 _ _ ⟨T.1, T.2⟩  )
noncomputable def GX98_sign (a0 : Nat) (a1 : Int64) (M : FM) : Int64 × FM := GX98_sign_0 a0 a1 M
theorem gX98_sign (a0 : Nat) (a1 : Int64) (M : FM) (T : Ty M) (n_a0 : fm_is M 94 94 a0 = true) : gd (FX98_sign a0 a1 M) (GX98_sign a0 a1 M) (OkR M) := gX98_sign_0 a0 a1 M T n_a0 
noncomputable def GX98_immediateB_0 (a0 : Nat) (M : FM) : Int64 × FM :=
  let r1 : Int64 × FM := GX98_sign a0 (Int64.ofInt 4096) M
  let r2 : Int32 × FM := GX98_bits a0 (Int32.ofInt 7) (Int32.ofInt 7) r1.2
  let r3 : Int32 × FM := GX98_bits a0 (Int32.ofInt 30) (Int32.ofInt 25) r2.2
  let r4 : Int32 × FM := GX98_bits a0 (Int32.ofInt 11) (Int32.ofInt 8) r3.2
  ((((r1.1 + ((Int32.ofInt 2048) * r2.1).toInt64) + ((Int32.ofInt 32) * r3.1).toInt64) + ((Int32.ofInt 2) * r4.1).toInt64), r4.2)
def HX98_immediateB_0 (a0 : Nat) (M : FM) : Prop := let r1 : Int64 × FM := GX98_sign a0 (Int64.ofInt 4096) M; (HX98_bits a0 (Int32.ofInt 7) (Int32.ofInt 7) r1.2 ∧ let r2 : Int32 × FM := GX98_bits a0 (Int32.ofInt 7) (Int32.ofInt 7) r1.2; (HX98_bits a0 (Int32.ofInt 30) (Int32.ofInt 25) r2.2 ∧ let r3 : Int32 × FM := GX98_bits a0 (Int32.ofInt 30) (Int32.ofInt 25) r2.2; (HX98_bits a0 (Int32.ofInt 11) (Int32.ofInt 8) r3.2 ∧ True)))
theorem gX98_immediateB_0 (a0 : Nat) (M : FM) (T : Ty M) (n_a0 : fm_is M 94 94 a0 = true) (h : HX98_immediateB_0 a0 M) : gd (FX98_immediateB_0 fN a0 M) (GX98_immediateB_0 a0 M) (OkR M) := by
  delta FX98_immediateB_0 BX98_immediateB_0
  refine gd_c n_a0 ?_
  refine gd_b (gX98_sign _ _ _ ⟨T.1, T.2⟩ n_a0 ) (fun K0 => ?_)
  have f1 := (ext_is K0.2 (Nat.zero_lt_succ _) n_a0)
  refine gd_c f1 ?_
  refine gd_b (gX98_bits _ _ _ _ h.1) (fun K2 => ?_)
  have f3 := (ext_is K2.2 (Nat.zero_lt_succ _) (ext_is K0.2 (Nat.zero_lt_succ _) n_a0))
  refine gd_c f3 ?_
  refine gd_b (gX98_bits _ _ _ _ h.2.1) (fun K4 => ?_)
  have f5 := (ext_is K4.2 (Nat.zero_lt_succ _) (ext_is K2.2 (Nat.zero_lt_succ _) (ext_is K0.2 (Nat.zero_lt_succ _) n_a0)))
  refine gd_c f5 ?_
  refine gd_b (gX98_bits _ _ _ _ h.2.2.1) (fun K6 => ?_)
  exact ⟨rfl, ⟨K6.1.1, K6.1.2⟩, (ext_tr K0.2 (ext_tr K2.2 (ext_tr K4.2 K6.2)))⟩
noncomputable def GX98_immediateB (a0 : Nat) (M : FM) : Int64 × FM := GX98_immediateB_0 a0 M
def HX98_immediateB (a0 : Nat) (M : FM) : Prop := HX98_immediateB_0 a0 M
theorem gX98_immediateB (a0 : Nat) (M : FM) (T : Ty M) (n_a0 : fm_is M 94 94 a0 = true) (h : HX98_immediateB a0 M) : gd (FX98_immediateB fN a0 M) (GX98_immediateB a0 M) (OkR M) := gX98_immediateB_0 a0 M T n_a0 h
noncomputable def GX98_go_0 (a0 : Nat) (a1 : Int64) (M : FM) : Int32 × FM :=
  let M1 : FM := fm_sL M 347 a0 0 a1
  let M2 : FM := fm_sL M1 348 a0 0 ((M1.2.1 348 a0 0) + (Int64.ofInt 1))
  ((Int32.ofInt 0), M2)
theorem gX98_go_0 (a0 : Nat) (a1 : Int64) (M : FM) (T : Ty M) (n_a0 : fm_is M 94 94 a0 = true) : gd (FX98_go_0 a0 a1 M) (GX98_go_0 a0 a1 M) (OkR M) := by
  delta FX98_go_0 BX98_go_0
  refine gd_c n_a0 ?_
  refine gd_c n_a0 ?_
  refine gd_c n_a0 ?_
  exact ⟨rfl, ⟨T.1, T.2⟩, (ext_dL (ext_dL (ext_r _)))⟩
noncomputable def GX98_go (a0 : Nat) (a1 : Int64) (M : FM) : Int32 × FM := GX98_go_0 a0 a1 M
theorem gX98_go (a0 : Nat) (a1 : Int64) (M : FM) (T : Ty M) (n_a0 : fm_is M 94 94 a0 = true) : gd (FX98_go a0 a1 M) (GX98_go a0 a1 M) (OkR M) := gX98_go_0 a0 a1 M T n_a0 
noncomputable def GX98_branch_132 (s0 : Nat) (s1 : Int64) (M : FM) : Int32 × FM :=
  let r1 : Int32 × FM := GX98_go s0 s1 M
  (r1.1, r1.2)
theorem gX98_branch_132 (s0 : Nat) (s1 : Int64) (M : FM) (T : Ty M) (n_s0 : fm_is M 94 94 s0 = true) : gd (FX98_branch_132 fN s0 s1 M) (GX98_branch_132 s0 s1 M) (OkR M) := by
  delta FX98_branch_132 BX98_branch_132
  refine gd_c n_s0 ?_
  refine gd_b (gX98_go _ _ _ ⟨T.1, T.2⟩ n_s0 ) (fun K0 => ?_)
  exact ⟨rfl, ⟨K0.1.1, K0.1.2⟩, K0.2⟩
noncomputable def GX98_branch_104 (a0 : Nat) (s0 : Int32) (M : FM) : Int32 × FM :=
  fi (s0 = 0) (
    GX98_branch_132 a0 ((M.2.1 347 a0 0) + (M.1 350 a0 0).toInt64) M) (
    let r1 : Int64 × FM := GX98_immediateB a0 M
    GX98_branch_132 a0 ((M.2.1 347 a0 0) + r1.1) r1.2)
def HX98_branch_104 (a0 : Nat) (s0 : Int32) (M : FM) : Prop := ((s0 = 0 → True) ∧ (¬ (s0 = 0) → (HX98_immediateB a0 M ∧ True)))
theorem gX98_branch_104 (a0 : Nat) (s0 : Int32) (M : FM) (T : Ty M) (n_a0 : fm_is M 94 94 a0 = true) (h : HX98_branch_104 a0 s0 M) : gd (FX98_branch_104 fN a0 s0 M) (GX98_branch_104 a0 s0 M) (OkR M) := by
  delta FX98_branch_104 BX98_branch_104
  refine gd_fi (fun c0_0 => ?_) (fun c0_0 => ?_)
  · refine gd_c n_a0 ?_
    refine gd_c n_a0 ?_
    exact gd_tR (ext_r _) (gX98_branch_132 _ _ _ ⟨T.1, T.2⟩ n_a0 )
  · refine gd_c n_a0 ?_
    refine gd_c n_a0 ?_
    refine gd_b (gX98_immediateB _ _ ⟨T.1, T.2⟩ n_a0 (h.2 c0_0).1) (fun K1 => ?_)
    have f2 := (ext_is K1.2 (Nat.zero_lt_succ _) n_a0)
    exact gd_tR K1.2 (gX98_branch_132 _ _ _ ⟨K1.1.1, K1.1.2⟩ f2 )
noncomputable def GX98_branch_96 (a0 : Nat) (s0 : Int32) (s1 : Int32) (M : FM) : Int32 × FM :=
  fi (s0 = s1) (
    GX98_branch_104 a0 (Int32.ofInt 1) M) (
    GX98_branch_104 a0 (Int32.ofInt 0) M)
def HX98_branch_96 (a0 : Nat) (s0 : Int32) (s1 : Int32) (M : FM) : Prop := ((s0 = s1 → HX98_branch_104 a0 (Int32.ofInt 1) M) ∧ (¬ (s0 = s1) → HX98_branch_104 a0 (Int32.ofInt 0) M))
theorem gX98_branch_96 (a0 : Nat) (s0 : Int32) (s1 : Int32) (M : FM) (T : Ty M) (n_a0 : fm_is M 94 94 a0 = true) (h : HX98_branch_96 a0 s0 s1 M) : gd (FX98_branch_96 fN a0 s0 s1 M) (GX98_branch_96 a0 s0 s1 M) (OkR M) := by
  delta FX98_branch_96 BX98_branch_96
  refine gd_fi (fun c0_0 => ?_) (fun c0_0 => ?_)
  · exact gd_tR (ext_r _) (gX98_branch_104 _ _ _ ⟨T.1, T.2⟩ n_a0 (h.1 c0_0))
  · exact gd_tR (ext_r _) (gX98_branch_104 _ _ _ ⟨T.1, T.2⟩ n_a0 (h.2 c0_0))
noncomputable def GX98_branch_91 (a0 : Nat) (s0 : Int32) (M : FM) : Int32 × FM :=
  GX98_branch_96 a0 s0 (Int32.ofInt 1) M
def HX98_branch_91 (a0 : Nat) (s0 : Int32) (M : FM) : Prop := HX98_branch_96 a0 s0 (Int32.ofInt 1) M
theorem gX98_branch_91 (a0 : Nat) (s0 : Int32) (M : FM) (T : Ty M) (n_a0 : fm_is M 94 94 a0 = true) (h : HX98_branch_91 a0 s0 M) : gd (FX98_branch_91 fN a0 s0 M) (GX98_branch_91 a0 s0 M) (OkR M) := by
  delta FX98_branch_91 BX98_branch_91
  exact gd_tR (ext_r _) (gX98_branch_96 _ _ _ _ ⟨T.1, T.2⟩ n_a0 h)
noncomputable def GX98_branch_74 (a0 : Nat) (a1 : Int32) (s0 : Int32) (M : FM) : Int32 × FM :=
  fi (a1 = 0) (
    GX98_branch_91 a0 s0 M) (
    fi (a1 = (Int32.ofInt 4)) (
      GX98_branch_91 a0 s0 M) (
      fi (a1 = (Int32.ofInt 6)) (
        GX98_branch_91 a0 s0 M) (
        GX98_branch_96 a0 s0 (Int32.ofInt 0) M)))
def HX98_branch_74 (a0 : Nat) (a1 : Int32) (s0 : Int32) (M : FM) : Prop := ((a1 = 0 → HX98_branch_91 a0 s0 M) ∧ (¬ (a1 = 0) → ((a1 = (Int32.ofInt 4) → HX98_branch_91 a0 s0 M) ∧ (¬ (a1 = (Int32.ofInt 4)) → ((a1 = (Int32.ofInt 6) → HX98_branch_91 a0 s0 M) ∧ (¬ (a1 = (Int32.ofInt 6)) → HX98_branch_96 a0 s0 (Int32.ofInt 0) M))))))
theorem gX98_branch_74 (a0 : Nat) (a1 : Int32) (s0 : Int32) (M : FM) (T : Ty M) (n_a0 : fm_is M 94 94 a0 = true) (h : HX98_branch_74 a0 a1 s0 M) : gd (FX98_branch_74 fN a0 a1 s0 M) (GX98_branch_74 a0 a1 s0 M) (OkR M) := by
  delta FX98_branch_74 BX98_branch_74
  refine gd_fi (fun c0_0 => ?_) (fun c0_0 => ?_)
  · exact gd_tR (ext_r _) (gX98_branch_91 _ _ _ ⟨T.1, T.2⟩ n_a0 (h.1 c0_0))
  · refine gd_fi (fun c1_0 => ?_) (fun c1_0 => ?_)
    · exact gd_tR (ext_r _) (gX98_branch_91 _ _ _ ⟨T.1, T.2⟩ n_a0 ((h.2 c0_0).1 c1_0))
    · refine gd_fi (fun c2_0 => ?_) (fun c2_0 => ?_)
      · exact gd_tR (ext_r _) (gX98_branch_91 _ _ _ ⟨T.1, T.2⟩ n_a0 (((h.2 c0_0).2 c1_0).1 c2_0))
      · exact gd_tR (ext_r _) (gX98_branch_96 _ _ _ _ ⟨T.1, T.2⟩ n_a0 (((h.2 c0_0).2 c1_0).2 c2_0))
noncomputable def GX98_branch_10 (M : FM) : Int32 × FM :=
  ((Int32.ofInt (-1)), M)
theorem gX98_branch_10 (M : FM) (T : Ty M) : gd (FX98_branch_10 fN M) (GX98_branch_10 M) (OkR M) := by
  delta FX98_branch_10 BX98_branch_10
  exact ⟨rfl, ⟨T.1, T.2⟩, (ext_r _)⟩
noncomputable def GX98_branch_0 (a0 : Nat) (a1 : Int32) (M : FM) : Int32 × FM :=
  fi (a1 = (Int32.ofInt 2)) (
    GX98_branch_10 M) (
    fi (a1 = (Int32.ofInt 3)) (
      GX98_branch_10 M) (
      fi ((Int32.ofInt 2) ≤ a1) (
        fi ((Int32.ofInt 6) ≤ a1) (
          let r1 : Int32 × FM := GX98_isLess (M.2.1 351 a0 0) (M.2.1 352 a0 0) M
          GX98_branch_74 a0 a1 r1.1 r1.2) (
          fi (0 ≤ (lg_cmp (M.2.1 351 a0 0) (M.2.1 352 a0 0))) (
            GX98_branch_74 a0 a1 (Int32.ofInt 0) M) (
            GX98_branch_74 a0 a1 (Int32.ofInt 1) M))) (
        fi ((lg_cmp (M.2.1 351 a0 0) (M.2.1 352 a0 0)) = 0) (
          GX98_branch_74 a0 a1 (Int32.ofInt 1) M) (
          GX98_branch_74 a0 a1 (Int32.ofInt 0) M))))
def HX98_branch_0 (a0 : Nat) (a1 : Int32) (M : FM) : Prop := ((a1 = (Int32.ofInt 2) → True) ∧ (¬ (a1 = (Int32.ofInt 2)) → ((a1 = (Int32.ofInt 3) → True) ∧ (¬ (a1 = (Int32.ofInt 3)) → (((Int32.ofInt 2) ≤ a1 → (((Int32.ofInt 6) ≤ a1 → let r1 : Int32 × FM := GX98_isLess (M.2.1 351 a0 0) (M.2.1 352 a0 0) M; HX98_branch_74 a0 a1 r1.1 r1.2) ∧ (¬ ((Int32.ofInt 6) ≤ a1) → ((0 ≤ (lg_cmp (M.2.1 351 a0 0) (M.2.1 352 a0 0)) → HX98_branch_74 a0 a1 (Int32.ofInt 0) M) ∧ (¬ (0 ≤ (lg_cmp (M.2.1 351 a0 0) (M.2.1 352 a0 0))) → HX98_branch_74 a0 a1 (Int32.ofInt 1) M))))) ∧ (¬ ((Int32.ofInt 2) ≤ a1) → (((lg_cmp (M.2.1 351 a0 0) (M.2.1 352 a0 0)) = 0 → HX98_branch_74 a0 a1 (Int32.ofInt 1) M) ∧ (¬ ((lg_cmp (M.2.1 351 a0 0) (M.2.1 352 a0 0)) = 0) → HX98_branch_74 a0 a1 (Int32.ofInt 0) M))))))))
theorem gX98_branch_0 (a0 : Nat) (a1 : Int32) (M : FM) (T : Ty M) (n_a0 : fm_is M 94 94 a0 = true) (h : HX98_branch_0 a0 a1 M) : gd (FX98_branch_0 fN a0 a1 M) (GX98_branch_0 a0 a1 M) (OkR M) := by
  delta FX98_branch_0 BX98_branch_0
  refine gd_fi (fun c0_0 => ?_) (fun c0_0 => ?_)
  · exact gd_tR (ext_r _) (gX98_branch_10  _ ⟨T.1, T.2⟩  )
  · refine gd_fi (fun c1_0 => ?_) (fun c1_0 => ?_)
    · exact gd_tR (ext_r _) (gX98_branch_10  _ ⟨T.1, T.2⟩  )
    · refine gd_fi (fun c2_0 => ?_) (fun c2_0 => ?_)
      · refine gd_fi (fun c3_0 => ?_) (fun c3_0 => ?_)
        · refine gd_c n_a0 ?_
          refine gd_c n_a0 ?_
          refine gd_b (gX98_isLess _ _ _ ⟨T.1, T.2⟩  ) (fun K4 => ?_)
          have f5 := (ext_is K4.2.1 (Nat.zero_lt_succ _) n_a0)
          exact gd_tR K4.2.1 (gX98_branch_74 _ _ _ _ ⟨K4.1.1, K4.1.2⟩ f5 ((((h.2 c0_0).2 c1_0).1 c2_0).1 c3_0))
        · refine gd_c n_a0 ?_
          refine gd_c n_a0 ?_
          refine gd_fi (fun c6_0 => ?_) (fun c6_0 => ?_)
          · exact gd_tR (ext_r _) (gX98_branch_74 _ _ _ _ ⟨T.1, T.2⟩ n_a0 (((((h.2 c0_0).2 c1_0).1 c2_0).2 c3_0).1 c6_0))
          · exact gd_tR (ext_r _) (gX98_branch_74 _ _ _ _ ⟨T.1, T.2⟩ n_a0 (((((h.2 c0_0).2 c1_0).1 c2_0).2 c3_0).2 c6_0))
      · refine gd_c n_a0 ?_
        refine gd_c n_a0 ?_
        refine gd_fi (fun c7_0 => ?_) (fun c7_0 => ?_)
        · exact gd_tR (ext_r _) (gX98_branch_74 _ _ _ _ ⟨T.1, T.2⟩ n_a0 ((((h.2 c0_0).2 c1_0).2 c2_0).1 c7_0))
        · exact gd_tR (ext_r _) (gX98_branch_74 _ _ _ _ ⟨T.1, T.2⟩ n_a0 ((((h.2 c0_0).2 c1_0).2 c2_0).2 c7_0))
noncomputable def GX98_branch (a0 : Nat) (a1 : Int32) (M : FM) : Int32 × FM := GX98_branch_0 a0 a1 M
def HX98_branch (a0 : Nat) (a1 : Int32) (M : FM) : Prop := HX98_branch_0 a0 a1 M
theorem gX98_branch (a0 : Nat) (a1 : Int32) (M : FM) (T : Ty M) (n_a0 : fm_is M 94 94 a0 = true) (h : HX98_branch a0 a1 M) : gd (FX98_branch fN a0 a1 M) (GX98_branch a0 a1 M) (OkR M) := gX98_branch_0 a0 a1 M T n_a0 h
noncomputable def GX98_immediateI_0 (a0 : Nat) (M : FM) : Int64 × FM :=
  let r1 : Int64 × FM := GX98_sign a0 (Int64.ofInt 2048) M
  let r2 : Int32 × FM := GX98_bits a0 (Int32.ofInt 30) (Int32.ofInt 20) r1.2
  ((r1.1 + r2.1.toInt64), r2.2)
def HX98_immediateI_0 (a0 : Nat) (M : FM) : Prop := let r1 : Int64 × FM := GX98_sign a0 (Int64.ofInt 2048) M; (HX98_bits a0 (Int32.ofInt 30) (Int32.ofInt 20) r1.2 ∧ True)
theorem gX98_immediateI_0 (a0 : Nat) (M : FM) (T : Ty M) (n_a0 : fm_is M 94 94 a0 = true) (h : HX98_immediateI_0 a0 M) : gd (FX98_immediateI_0 fN a0 M) (GX98_immediateI_0 a0 M) (OkR M) := by
  delta FX98_immediateI_0 BX98_immediateI_0
  refine gd_c n_a0 ?_
  refine gd_b (gX98_sign _ _ _ ⟨T.1, T.2⟩ n_a0 ) (fun K0 => ?_)
  have f1 := (ext_is K0.2 (Nat.zero_lt_succ _) n_a0)
  refine gd_c f1 ?_
  refine gd_b (gX98_bits _ _ _ _ h.1) (fun K2 => ?_)
  exact ⟨rfl, ⟨K2.1.1, K2.1.2⟩, (ext_tr K0.2 K2.2)⟩
noncomputable def GX98_immediateI (a0 : Nat) (M : FM) : Int64 × FM := GX98_immediateI_0 a0 M
def HX98_immediateI (a0 : Nat) (M : FM) : Prop := HX98_immediateI_0 a0 M
theorem gX98_immediateI (a0 : Nat) (M : FM) (T : Ty M) (n_a0 : fm_is M 94 94 a0 = true) (h : HX98_immediateI a0 M) : gd (FX98_immediateI fN a0 M) (GX98_immediateI a0 M) (OkR M) := gX98_immediateI_0 a0 M T n_a0 h
noncomputable def GX98_truth_9 (s0 : Int64) (M : FM) : Int64 × FM :=
  (s0, M)
theorem gX98_truth_9 (s0 : Int64) (M : FM) (T : Ty M) : gd (FX98_truth_9 s0 M) (GX98_truth_9 s0 M) (OkR M) := by
  delta FX98_truth_9 BX98_truth_9
  exact ⟨rfl, ⟨T.1, T.2⟩, (ext_r _)⟩
noncomputable def GX98_truth_0 (a0 : Int32) (M : FM) : Int64 × FM :=
  fi (a0 = 0) (
    GX98_truth_9 (Int64.ofInt 0) M) (
    GX98_truth_9 (Int64.ofInt 1) M)
theorem gX98_truth_0 (a0 : Int32) (M : FM) (T : Ty M) : gd (FX98_truth_0 a0 M) (GX98_truth_0 a0 M) (OkR M) := by
  delta FX98_truth_0 BX98_truth_0
  refine gd_fi (fun c0_0 => ?_) (fun c0_0 => ?_)
  · exact gd_tR (ext_r _) (gX98_truth_9 _ _ ⟨T.1, T.2⟩  )
  · exact gd_tR (ext_r _) (gX98_truth_9 _ _ ⟨T.1, T.2⟩  )
noncomputable def GX98_truth (a0 : Int32) (M : FM) : Int64 × FM := GX98_truth_0 a0 M
theorem gX98_truth (a0 : Int32) (M : FM) (T : Ty M) : gd (FX98_truth a0 M) (GX98_truth a0 M) (OkR M) := gX98_truth_0 a0 M T 
noncomputable def GX98_plain_64 (s0 : Int32) (M : FM) : Int64 × FM :=
  let r1 : Int64 × FM := GX98_truth s0 M
  (r1.1, r1.2)
theorem gX98_plain_64 (s0 : Int32) (M : FM) (T : Ty M) : gd (FX98_plain_64 s0 M) (GX98_plain_64 s0 M) (OkR M) := by
  delta FX98_plain_64 BX98_plain_64
  refine gd_b (gX98_truth _ _ ⟨T.1, T.2⟩  ) (fun K0 => ?_)
  exact ⟨rfl, ⟨K0.1.1, K0.1.2⟩, K0.2⟩
noncomputable def GX98_plain_0 (a0 : Int32) (a1 : Int64) (a3 : Int64) (a5 : Int32) (M : FM) : Int64 × FM :=
  fi (a0 = (Int32.ofInt 0)) (
    ((a1 + a3), M)) (
    fi (a0 = (Int32.ofInt 1)) (
      ((a1 <<< (a5.toInt64 &&& 63)), M)) (
      fi (a0 = (Int32.ofInt 2)) (
        fi (0 ≤ (lg_cmp a1 a3)) (
          GX98_plain_64 (Int32.ofInt 0) M) (
          GX98_plain_64 (Int32.ofInt 1) M)) (
        fi (a0 = (Int32.ofInt 3)) (
          let r1 : Int32 × FM := GX98_isLess a1 a3 M
          let r2 : Int64 × FM := GX98_truth r1.1 r1.2
          (r2.1, r2.2)) (
          fi (a0 = (Int32.ofInt 4)) (
            ((a1 ^^^ a3), M)) (
            fi (a0 = (Int32.ofInt 5)) (
              ((a1.toUInt64 >>> (a5.toInt64.toUInt64 &&& Int64.toUInt64 63)).toInt64, M)) (
              fi (a0 = (Int32.ofInt 6)) (
                ((a1 ||| a3), M)) (
                ((a1 &&& a3), M))))))))
theorem gX98_plain_0 (a0 : Int32) (a1 : Int64) (a3 : Int64) (a5 : Int32) (M : FM) (T : Ty M) : gd (FX98_plain_0 a0 a1 a3 a5 M) (GX98_plain_0 a0 a1 a3 a5 M) (OkR M) := by
  delta FX98_plain_0 BX98_plain_0
  refine gd_fi (fun c0_0 => ?_) (fun c0_0 => ?_)
  · exact ⟨rfl, ⟨T.1, T.2⟩, (ext_r _)⟩
  · refine gd_fi (fun c1_1 => ?_) (fun c1_1 => ?_)
    · exact ⟨rfl, ⟨T.1, T.2⟩, (ext_r _)⟩
    · refine gd_fi (fun c2_2 => ?_) (fun c2_2 => ?_)
      · refine gd_fi (fun c3_0 => ?_) (fun c3_0 => ?_)
        · exact gd_tR (ext_r _) (gX98_plain_64 _ _ ⟨T.1, T.2⟩  )
        · exact gd_tR (ext_r _) (gX98_plain_64 _ _ ⟨T.1, T.2⟩  )
      · refine gd_fi (fun c4_3 => ?_) (fun c4_3 => ?_)
        · refine gd_b (gX98_isLess _ _ _ ⟨T.1, T.2⟩  ) (fun K5 => ?_)
          refine gd_b (gX98_truth _ _ ⟨K5.1.1, K5.1.2⟩  ) (fun K6 => ?_)
          exact ⟨rfl, ⟨K6.1.1, K6.1.2⟩, (ext_tr K5.2.1 K6.2)⟩
        · refine gd_fi (fun c7_4 => ?_) (fun c7_4 => ?_)
          · exact ⟨rfl, ⟨T.1, T.2⟩, (ext_r _)⟩
          · refine gd_fi (fun c8_5 => ?_) (fun c8_5 => ?_)
            · exact ⟨rfl, ⟨T.1, T.2⟩, (ext_r _)⟩
            · refine gd_fi (fun c9_6 => ?_) (fun c9_6 => ?_)
              · exact ⟨rfl, ⟨T.1, T.2⟩, (ext_r _)⟩
              · exact ⟨rfl, ⟨T.1, T.2⟩, (ext_r _)⟩
noncomputable def GX98_plain (a0 : Int32) (a1 : Int64) (a3 : Int64) (a5 : Int32) (M : FM) : Int64 × FM := GX98_plain_0 a0 a1 a3 a5 M
theorem gX98_plain (a0 : Int32) (a1 : Int64) (a3 : Int64) (a5 : Int32) (M : FM) (T : Ty M) : gd (FX98_plain a0 a1 a3 a5 M) (GX98_plain a0 a1 a3 a5 M) (OkR M) := gX98_plain_0 a0 a1 a3 a5 M T 
noncomputable def GX98_done_0 (a0 : Nat) (a1 : Int32) (a2 : Int64) (M : FM) : Int32 × FM :=
  let M1 : FM := GX98_put a0 a1 a2 M
  let M2 : FM := fm_sL M1 347 a0 0 ((M1.2.1 347 a0 0) + (M1.1 350 a0 0).toInt64)
  let M3 : FM := fm_sL M2 348 a0 0 ((M2.2.1 348 a0 0) + (Int64.ofInt 1))
  ((Int32.ofInt 0), M3)
def HX98_done_0 (a0 : Nat) (a1 : Int32) (a2 : Int64) (M : FM) : Prop := (HX98_put a0 a1 a2 M ∧ True)
theorem gX98_done_0 (a0 : Nat) (a1 : Int32) (a2 : Int64) (M : FM) (T : Ty M) (n_a0 : fm_is M 94 94 a0 = true) (h : HX98_done_0 a0 a1 a2 M) : gd (FX98_done_0 a0 a1 a2 M) (GX98_done_0 a0 a1 a2 M) (OkR M) := by
  delta FX98_done_0 BX98_done_0
  refine gd_c n_a0 ?_
  refine gd_b (gX98_put _ _ _ _ ⟨T.1, T.2⟩ n_a0 h.1) (fun K0 => ?_)
  have f1 := (ext_is K0.2 (Nat.zero_lt_succ _) n_a0)
  refine gd_c f1 ?_
  have f2 := (ext_is K0.2 (Nat.zero_lt_succ _) n_a0)
  refine gd_c f2 ?_
  have f3 := (ext_is K0.2 (Nat.zero_lt_succ _) n_a0)
  refine gd_c f3 ?_
  have f4 := (ext_is K0.2 (Nat.zero_lt_succ _) n_a0)
  refine gd_c f4 ?_
  have f5 := (ext_is K0.2 (Nat.zero_lt_succ _) n_a0)
  refine gd_c f5 ?_
  exact ⟨rfl, ⟨K0.1.1, K0.1.2⟩, (ext_tr K0.2 (ext_dL (ext_dL (ext_r _))))⟩
noncomputable def GX98_done (a0 : Nat) (a1 : Int32) (a2 : Int64) (M : FM) : Int32 × FM := GX98_done_0 a0 a1 a2 M
def HX98_done (a0 : Nat) (a1 : Int32) (a2 : Int64) (M : FM) : Prop := HX98_done_0 a0 a1 a2 M
theorem gX98_done (a0 : Nat) (a1 : Int32) (a2 : Int64) (M : FM) (T : Ty M) (n_a0 : fm_is M 94 94 a0 = true) (h : HX98_done a0 a1 a2 M) : gd (FX98_done a0 a1 a2 M) (GX98_done a0 a1 a2 M) (OkR M) := gX98_done_0 a0 a1 a2 M T n_a0 h
noncomputable def GX98_withImmediate_82 (s0 : Nat) (s1 : Int32) (s2 : Int64) (M : FM) : Int32 × FM :=
  let r1 : Int32 × FM := GX98_done s0 s1 s2 M
  (r1.1, r1.2)
def HX98_withImmediate_82 (s0 : Nat) (s1 : Int32) (s2 : Int64) (M : FM) : Prop := (HX98_done s0 s1 s2 M ∧ True)
theorem gX98_withImmediate_82 (s0 : Nat) (s1 : Int32) (s2 : Int64) (M : FM) (T : Ty M) (n_s0 : fm_is M 94 94 s0 = true) (h : HX98_withImmediate_82 s0 s1 s2 M) : gd (FX98_withImmediate_82 fN s0 s1 s2 M) (GX98_withImmediate_82 s0 s1 s2 M) (OkR M) := by
  delta FX98_withImmediate_82 BX98_withImmediate_82
  refine gd_c n_s0 ?_
  refine gd_b (gX98_done _ _ _ _ ⟨T.1, T.2⟩ n_s0 h.1) (fun K0 => ?_)
  exact ⟨rfl, ⟨K0.1.1, K0.1.2⟩, K0.2⟩
noncomputable def GX98_withImmediate_68 (a0 : Nat) (a2 : Int32) (a4 : Int32) (s0 : Nat) (s1 : Int32) (M : FM) : Int32 × FM :=
  let r1 : Int64 × FM := GX98_immediateI a0 M
  let r2 : Int64 × FM := GX98_plain a2 (M.2.1 351 a0 0) r1.1 a4 r1.2
  GX98_withImmediate_82 s0 s1 r2.1 r2.2
def HX98_withImmediate_68 (a0 : Nat) (a2 : Int32) (a4 : Int32) (s0 : Nat) (s1 : Int32) (M : FM) : Prop := (HX98_immediateI a0 M ∧ let r1 : Int64 × FM := GX98_immediateI a0 M; let r2 : Int64 × FM := GX98_plain a2 (M.2.1 351 a0 0) r1.1 a4 r1.2; HX98_withImmediate_82 s0 s1 r2.1 r2.2)
theorem gX98_withImmediate_68 (a0 : Nat) (a2 : Int32) (a4 : Int32) (s0 : Nat) (s1 : Int32) (M : FM) (T : Ty M) (n_a0 : fm_is M 94 94 a0 = true) (n_s0 : fm_is M 94 94 s0 = true) (h : HX98_withImmediate_68 a0 a2 a4 s0 s1 M) : gd (FX98_withImmediate_68 fN a0 a2 a4 s0 s1 M) (GX98_withImmediate_68 a0 a2 a4 s0 s1 M) (OkR M) := by
  delta FX98_withImmediate_68 BX98_withImmediate_68
  refine gd_c n_a0 ?_
  refine gd_c n_a0 ?_
  refine gd_b (gX98_immediateI _ _ ⟨T.1, T.2⟩ n_a0 h.1) (fun K0 => ?_)
  refine gd_b (gX98_plain _ _ _ _ _ ⟨K0.1.1, K0.1.2⟩  ) (fun K1 => ?_)
  have f2 := (ext_is K1.2 (Nat.zero_lt_succ _) (ext_is K0.2 (Nat.zero_lt_succ _) n_s0))
  exact gd_tR (ext_tr K0.2 K1.2) (gX98_withImmediate_82 _ _ _ _ ⟨K1.1.1, K1.1.2⟩ f2 h.2)
noncomputable def GX98_withImmediate_35 (a0 : Nat) (a1 : Int32) (a2 : Int32) (a3 : Int32) (M : FM) : Int32 × FM :=
  let r1 : Int32 × FM := GX98_bits a0 (Int32.ofInt 25) (Int32.ofInt 20) M
  fi (a2 = (Int32.ofInt 5)) (
    fi (a3 = (Int32.ofInt 16)) (
      GX98_withImmediate_82 a0 a1 ((r1.2.2.1 351 a0 0) >>> (r1.1.toInt64 &&& 63)) r1.2) (
      GX98_withImmediate_68 a0 a2 r1.1 a0 a1 r1.2)) (
    GX98_withImmediate_68 a0 a2 r1.1 a0 a1 r1.2)
def HX98_withImmediate_35 (a0 : Nat) (a1 : Int32) (a2 : Int32) (a3 : Int32) (M : FM) : Prop := (HX98_bits a0 (Int32.ofInt 25) (Int32.ofInt 20) M ∧ let r1 : Int32 × FM := GX98_bits a0 (Int32.ofInt 25) (Int32.ofInt 20) M; ((a2 = (Int32.ofInt 5) → ((a3 = (Int32.ofInt 16) → HX98_withImmediate_82 a0 a1 ((r1.2.2.1 351 a0 0) >>> (r1.1.toInt64 &&& 63)) r1.2) ∧ (¬ (a3 = (Int32.ofInt 16)) → HX98_withImmediate_68 a0 a2 r1.1 a0 a1 r1.2))) ∧ (¬ (a2 = (Int32.ofInt 5)) → HX98_withImmediate_68 a0 a2 r1.1 a0 a1 r1.2)))
theorem gX98_withImmediate_35 (a0 : Nat) (a1 : Int32) (a2 : Int32) (a3 : Int32) (M : FM) (T : Ty M) (n_a0 : fm_is M 94 94 a0 = true) (h : HX98_withImmediate_35 a0 a1 a2 a3 M) : gd (FX98_withImmediate_35 fN a0 a1 a2 a3 M) (GX98_withImmediate_35 a0 a1 a2 a3 M) (OkR M) := by
  delta FX98_withImmediate_35 BX98_withImmediate_35
  refine gd_c n_a0 ?_
  refine gd_b (gX98_bits _ _ _ _ h.1) (fun K0 => ?_)
  refine gd_fi (fun c1_0 => ?_) (fun c1_0 => ?_)
  · refine gd_fi (fun c2_0 => ?_) (fun c2_0 => ?_)
    · have f3 := (ext_is K0.2 (Nat.zero_lt_succ _) n_a0)
      refine gd_c f3 ?_
      have f4 := (ext_is K0.2 (Nat.zero_lt_succ _) n_a0)
      exact gd_tR K0.2 (gX98_withImmediate_82 _ _ _ _ ⟨K0.1.1, K0.1.2⟩ f4 ((h.2.1 c1_0).1 c2_0))
    · have f5 := (ext_is K0.2 (Nat.zero_lt_succ _) n_a0)
      have f6 := (ext_is K0.2 (Nat.zero_lt_succ _) n_a0)
      exact gd_tR K0.2 (gX98_withImmediate_68 _ _ _ _ _ _ ⟨K0.1.1, K0.1.2⟩ f5 f6 ((h.2.1 c1_0).2 c2_0))
  · have f7 := (ext_is K0.2 (Nat.zero_lt_succ _) n_a0)
    have f8 := (ext_is K0.2 (Nat.zero_lt_succ _) n_a0)
    exact gd_tR K0.2 (gX98_withImmediate_68 _ _ _ _ _ _ ⟨K0.1.1, K0.1.2⟩ f7 f8 (h.2.2 c1_0))
noncomputable def GX98_withImmediate_33 (M : FM) : Int32 × FM :=
  ((Int32.ofInt (-1)), M)
theorem gX98_withImmediate_33 (M : FM) (T : Ty M) : gd (FX98_withImmediate_33 fN M) (GX98_withImmediate_33 M) (OkR M) := by
  delta FX98_withImmediate_33 BX98_withImmediate_33
  exact ⟨rfl, ⟨T.1, T.2⟩, (ext_r _)⟩
noncomputable def GX98_withImmediate_18 (a0 : Nat) (a1 : Int32) (a2 : Int32) (a3 : Int32) (M : FM) : Int32 × FM :=
  fi (a2 = (Int32.ofInt 5)) (
    fi (a3 = 0) (
      GX98_withImmediate_35 a0 a1 a2 a3 M) (
      fi (a3 = (Int32.ofInt 16)) (
        GX98_withImmediate_35 a0 a1 a2 a3 M) (
        GX98_withImmediate_33 M))) (
    GX98_withImmediate_35 a0 a1 a2 a3 M)
def HX98_withImmediate_18 (a0 : Nat) (a1 : Int32) (a2 : Int32) (a3 : Int32) (M : FM) : Prop := ((a2 = (Int32.ofInt 5) → ((a3 = 0 → HX98_withImmediate_35 a0 a1 a2 a3 M) ∧ (¬ (a3 = 0) → ((a3 = (Int32.ofInt 16) → HX98_withImmediate_35 a0 a1 a2 a3 M) ∧ (¬ (a3 = (Int32.ofInt 16)) → True))))) ∧ (¬ (a2 = (Int32.ofInt 5)) → HX98_withImmediate_35 a0 a1 a2 a3 M))
theorem gX98_withImmediate_18 (a0 : Nat) (a1 : Int32) (a2 : Int32) (a3 : Int32) (M : FM) (T : Ty M) (n_a0 : fm_is M 94 94 a0 = true) (h : HX98_withImmediate_18 a0 a1 a2 a3 M) : gd (FX98_withImmediate_18 fN a0 a1 a2 a3 M) (GX98_withImmediate_18 a0 a1 a2 a3 M) (OkR M) := by
  delta FX98_withImmediate_18 BX98_withImmediate_18
  refine gd_fi (fun c0_0 => ?_) (fun c0_0 => ?_)
  · refine gd_fi (fun c1_0 => ?_) (fun c1_0 => ?_)
    · exact gd_tR (ext_r _) (gX98_withImmediate_35 _ _ _ _ _ ⟨T.1, T.2⟩ n_a0 ((h.1 c0_0).1 c1_0))
    · refine gd_fi (fun c2_0 => ?_) (fun c2_0 => ?_)
      · exact gd_tR (ext_r _) (gX98_withImmediate_35 _ _ _ _ _ ⟨T.1, T.2⟩ n_a0 (((h.1 c0_0).2 c1_0).1 c2_0))
      · exact gd_tR (ext_r _) (gX98_withImmediate_33  _ ⟨T.1, T.2⟩  )
  · exact gd_tR (ext_r _) (gX98_withImmediate_35 _ _ _ _ _ ⟨T.1, T.2⟩ n_a0 (h.2 c0_0))
noncomputable def GX98_withImmediate_0 (a0 : Nat) (a1 : Int32) (a2 : Int32) (M : FM) : Int32 × FM :=
  let r1 : Int32 × FM := GX98_bits a0 (Int32.ofInt 31) (Int32.ofInt 26) M
  fi (a2 = (Int32.ofInt 1)) (
    fi (r1.1 = 0) (
      GX98_withImmediate_18 a0 a1 a2 r1.1 r1.2) (
      GX98_withImmediate_33 r1.2)) (
    GX98_withImmediate_18 a0 a1 a2 r1.1 r1.2)
def HX98_withImmediate_0 (a0 : Nat) (a1 : Int32) (a2 : Int32) (M : FM) : Prop := (HX98_bits a0 (Int32.ofInt 31) (Int32.ofInt 26) M ∧ let r1 : Int32 × FM := GX98_bits a0 (Int32.ofInt 31) (Int32.ofInt 26) M; ((a2 = (Int32.ofInt 1) → ((r1.1 = 0 → HX98_withImmediate_18 a0 a1 a2 r1.1 r1.2) ∧ (¬ (r1.1 = 0) → True))) ∧ (¬ (a2 = (Int32.ofInt 1)) → HX98_withImmediate_18 a0 a1 a2 r1.1 r1.2)))
theorem gX98_withImmediate_0 (a0 : Nat) (a1 : Int32) (a2 : Int32) (M : FM) (T : Ty M) (n_a0 : fm_is M 94 94 a0 = true) (h : HX98_withImmediate_0 a0 a1 a2 M) : gd (FX98_withImmediate_0 fN a0 a1 a2 M) (GX98_withImmediate_0 a0 a1 a2 M) (OkR M) := by
  delta FX98_withImmediate_0 BX98_withImmediate_0
  refine gd_c n_a0 ?_
  refine gd_b (gX98_bits _ _ _ _ h.1) (fun K0 => ?_)
  refine gd_fi (fun c1_0 => ?_) (fun c1_0 => ?_)
  · refine gd_fi (fun c2_0 => ?_) (fun c2_0 => ?_)
    · have f3 := (ext_is K0.2 (Nat.zero_lt_succ _) n_a0)
      exact gd_tR K0.2 (gX98_withImmediate_18 _ _ _ _ _ ⟨K0.1.1, K0.1.2⟩ f3 ((h.2.1 c1_0).1 c2_0))
    · exact gd_tR K0.2 (gX98_withImmediate_33  _ ⟨K0.1.1, K0.1.2⟩  )
  · have f4 := (ext_is K0.2 (Nat.zero_lt_succ _) n_a0)
    exact gd_tR K0.2 (gX98_withImmediate_18 _ _ _ _ _ ⟨K0.1.1, K0.1.2⟩ f4 (h.2.2 c1_0))
noncomputable def GX98_withImmediate (a0 : Nat) (a1 : Int32) (a2 : Int32) (M : FM) : Int32 × FM := GX98_withImmediate_0 a0 a1 a2 M
def HX98_withImmediate (a0 : Nat) (a1 : Int32) (a2 : Int32) (M : FM) : Prop := HX98_withImmediate_0 a0 a1 a2 M
theorem gX98_withImmediate (a0 : Nat) (a1 : Int32) (a2 : Int32) (M : FM) (T : Ty M) (n_a0 : fm_is M 94 94 a0 = true) (h : HX98_withImmediate a0 a1 a2 M) : gd (FX98_withImmediate fN a0 a1 a2 M) (GX98_withImmediate a0 a1 a2 M) (OkR M) := gX98_withImmediate_0 a0 a1 a2 M T n_a0 h
noncomputable def GX98_immediateU_0 (a0 : Nat) (M : FM) : Int64 × FM :=
  let r1 : Int64 × FM := GX98_sign a0 (Int64.ofInt 2147483648) M
  let r2 : Int32 × FM := GX98_bits a0 (Int32.ofInt 30) (Int32.ofInt 12) r1.2
  ((r1.1 + ((Int64.ofInt 4096) * r2.1.toInt64)), r2.2)
def HX98_immediateU_0 (a0 : Nat) (M : FM) : Prop := let r1 : Int64 × FM := GX98_sign a0 (Int64.ofInt 2147483648) M; (HX98_bits a0 (Int32.ofInt 30) (Int32.ofInt 12) r1.2 ∧ True)
theorem gX98_immediateU_0 (a0 : Nat) (M : FM) (T : Ty M) (n_a0 : fm_is M 94 94 a0 = true) (h : HX98_immediateU_0 a0 M) : gd (FX98_immediateU_0 fN a0 M) (GX98_immediateU_0 a0 M) (OkR M) := by
  delta FX98_immediateU_0 BX98_immediateU_0
  refine gd_c n_a0 ?_
  refine gd_b (gX98_sign _ _ _ ⟨T.1, T.2⟩ n_a0 ) (fun K0 => ?_)
  have f1 := (ext_is K0.2 (Nat.zero_lt_succ _) n_a0)
  refine gd_c f1 ?_
  refine gd_b (gX98_bits _ _ _ _ h.1) (fun K2 => ?_)
  exact ⟨rfl, ⟨K2.1.1, K2.1.2⟩, (ext_tr K0.2 K2.2)⟩
noncomputable def GX98_immediateU (a0 : Nat) (M : FM) : Int64 × FM := GX98_immediateU_0 a0 M
def HX98_immediateU (a0 : Nat) (M : FM) : Prop := HX98_immediateU_0 a0 M
theorem gX98_immediateU (a0 : Nat) (M : FM) (T : Ty M) (n_a0 : fm_is M 94 94 a0 = true) (h : HX98_immediateU a0 M) : gd (FX98_immediateU fN a0 M) (GX98_immediateU a0 M) (OkR M) := gX98_immediateU_0 a0 M T n_a0 h
noncomputable def GX98_power_33 (s0 : Int64) (M : FM) : Int64 × FM :=
  (s0, M)
theorem gX98_power_33 (s0 : Int64) (M : FM) (T : Ty M) : gd (FX98_power_33 s0 M) (GX98_power_33 s0 M) (OkR M) := by
  delta FX98_power_33 BX98_power_33
  exact ⟨rfl, ⟨T.1, T.2⟩, (ext_r _)⟩
noncomputable def GX98_power_0 (a0 : Int32) (M : FM) : Int64 × FM :=
  fi (a0 = 0) (
    GX98_power_33 (Int64.ofInt 1) M) (
    fi (a0 = (Int32.ofInt 1)) (
      GX98_power_33 (Int64.ofInt 2) M) (
      fi (a0 = (Int32.ofInt 2)) (
        GX98_power_33 (Int64.ofInt 4) M) (
        GX98_power_33 (Int64.ofInt 8) M)))
theorem gX98_power_0 (a0 : Int32) (M : FM) (T : Ty M) : gd (FX98_power_0 a0 M) (GX98_power_0 a0 M) (OkR M) := by
  delta FX98_power_0 BX98_power_0
  refine gd_fi (fun c0_0 => ?_) (fun c0_0 => ?_)
  · exact gd_tR (ext_r _) (gX98_power_33 _ _ ⟨T.1, T.2⟩  )
  · refine gd_fi (fun c1_0 => ?_) (fun c1_0 => ?_)
    · exact gd_tR (ext_r _) (gX98_power_33 _ _ ⟨T.1, T.2⟩  )
    · refine gd_fi (fun c2_0 => ?_) (fun c2_0 => ?_)
      · exact gd_tR (ext_r _) (gX98_power_33 _ _ ⟨T.1, T.2⟩  )
      · exact gd_tR (ext_r _) (gX98_power_33 _ _ ⟨T.1, T.2⟩  )
noncomputable def GX98_power (a0 : Int32) (M : FM) : Int64 × FM := GX98_power_0 a0 M
theorem gX98_power (a0 : Int32) (M : FM) (T : Ty M) : gd (FX98_power a0 M) (GX98_power a0 M) (OkR M) := gX98_power_0 a0 M T 
noncomputable def GX98_want_0 (a0 : Nat) (a1 : Int32) (a2 : Int64) (a4 : Int64) (a6 : Int64) (a8 : Int64) (a10 : Int32) (M : FM) : Int32 × FM :=
  let M1 : FM := fm_sI M 353 a0 0 a1
  let M2 : FM := fm_sI M1 354 a0 0 (M1.1 350 a0 0)
  let x3 : Nat := (M2.2.2 355 a0 0)
  let M4 : FM := fm_sL M2 3 x3 (Int32.ofInt 0).toNatClampNeg a2
  let x5 : Nat := (M4.2.2 355 a0 0)
  let M6 : FM := fm_sL M4 3 x5 (Int32.ofInt 1).toNatClampNeg a4
  let x7 : Nat := (M6.2.2 355 a0 0)
  let M8 : FM := fm_sL M6 3 x7 (Int32.ofInt 2).toNatClampNeg a6
  let x9 : Nat := (M8.2.2 355 a0 0)
  let M10 : FM := fm_sL M8 3 x9 (Int32.ofInt 3).toNatClampNeg a8
  let x11 : Nat := (M10.2.2 355 a0 0)
  let M12 : FM := fm_sL M10 3 x11 (Int32.ofInt 4).toNatClampNeg a10.toInt64
  (a1, M12)
theorem gX98_want_0 (a0 : Nat) (a1 : Int32) (a2 : Int64) (a4 : Int64) (a6 : Int64) (a8 : Int64) (a10 : Int32) (M : FM) (T : Ty M) (n_a0 : fm_is M 94 94 a0 = true) : gd (FX98_want_0 a0 a1 a2 a4 a6 a8 a10 M) (GX98_want_0 a0 a1 a2 a4 a6 a8 a10 M) (OkR M) := by
  delta FX98_want_0 BX98_want_0
  refine gd_c n_a0 ?_
  refine gd_c n_a0 ?_
  refine gd_c n_a0 ?_
  refine gd_c n_a0 ?_
  have f0 := (tN_355 T.1 n_a0)
  have f1 := (fm_inl (i := (Int32.ofInt 0)) (tL_355 T.1 n_a0) (by decide))
  refine gd_c ⟨f0, f1⟩ ?_
  refine gd_c n_a0 ?_
  have f2 := (tN_355 T.1 n_a0)
  have f3 := (fm_inl (i := (Int32.ofInt 1)) (tL_355 T.1 n_a0) (by decide))
  refine gd_c ⟨f2, f3⟩ ?_
  refine gd_c n_a0 ?_
  have f4 := (tN_355 T.1 n_a0)
  have f5 := (fm_inl (i := (Int32.ofInt 2)) (tL_355 T.1 n_a0) (by decide))
  refine gd_c ⟨f4, f5⟩ ?_
  refine gd_c n_a0 ?_
  have f6 := (tN_355 T.1 n_a0)
  have f7 := (fm_inl (i := (Int32.ofInt 3)) (tL_355 T.1 n_a0) (by decide))
  refine gd_c ⟨f6, f7⟩ ?_
  refine gd_c n_a0 ?_
  have f8 := (tN_355 T.1 n_a0)
  have f9 := (fm_inl (i := (Int32.ofInt 4)) (tL_355 T.1 n_a0) (by decide))
  refine gd_c ⟨f8, f9⟩ ?_
  exact ⟨rfl, ⟨T.1, (tyb_sI (f := 354) rfl (tyb_sI (f := 353) rfl T.2))⟩, (ext_dI (ext_dI (ext_dL (ext_dL (ext_dL (ext_dL (ext_dL (ext_r _))))))))⟩
noncomputable def GX98_want (a0 : Nat) (a1 : Int32) (a2 : Int64) (a4 : Int64) (a6 : Int64) (a8 : Int64) (a10 : Int32) (M : FM) : Int32 × FM := GX98_want_0 a0 a1 a2 a4 a6 a8 a10 M
theorem gX98_want (a0 : Nat) (a1 : Int32) (a2 : Int64) (a4 : Int64) (a6 : Int64) (a8 : Int64) (a10 : Int32) (M : FM) (T : Ty M) (n_a0 : fm_is M 94 94 a0 = true) : gd (FX98_want a0 a1 a2 a4 a6 a8 a10 M) (GX98_want a0 a1 a2 a4 a6 a8 a10 M) (OkR M) := gX98_want_0 a0 a1 a2 a4 a6 a8 a10 M T n_a0 
noncomputable def GX98_atomic_96 (s0 : Int32) (M : FM) : Int32 × FM :=
  (s0, M)
theorem gX98_atomic_96 (s0 : Int32) (M : FM) (T : Ty M) : gd (FX98_atomic_96 fN s0 M) (GX98_atomic_96 s0 M) (OkR M) := by
  delta FX98_atomic_96 BX98_atomic_96
  exact ⟨rfl, ⟨T.1, T.2⟩, (ext_r _)⟩
noncomputable def GX98_atomic_95 (M : FM) : Int32 × FM :=
  GX98_atomic_96 (Int32.ofInt (-1)) M
theorem gX98_atomic_95 (M : FM) (T : Ty M) : gd (FX98_atomic_95 fN M) (GX98_atomic_95 M) (OkR M) := by
  delta FX98_atomic_95 BX98_atomic_95
  exact gd_tR (ext_r _) (gX98_atomic_96 _ _ ⟨T.1, T.2⟩  )
noncomputable def GX98_atomic_72 (a0 : Nat) (a1 : Int32) (a2 : Int32) (a3 : Int32) (M : FM) : Int32 × FM :=
  let r1 : Int64 × FM := GX98_power a2 M
  let r2 : Int32 × FM := GX98_want a0 (Int32.ofInt 4) (M.2.1 351 a0 0) r1.1 (r1.2.2.1 352 a0 0) a3.toInt64 a1 r1.2
  GX98_atomic_96 r2.1 r2.2
theorem gX98_atomic_72 (a0 : Nat) (a1 : Int32) (a2 : Int32) (a3 : Int32) (M : FM) (T : Ty M) (n_a0 : fm_is M 94 94 a0 = true) : gd (FX98_atomic_72 fN a0 a1 a2 a3 M) (GX98_atomic_72 a0 a1 a2 a3 M) (OkR M) := by
  delta FX98_atomic_72 BX98_atomic_72
  refine gd_c n_a0 ?_
  refine gd_b (gX98_power _ _ ⟨T.1, T.2⟩  ) (fun K0 => ?_)
  have f1 := (ext_is K0.2 (Nat.zero_lt_succ _) n_a0)
  refine gd_c f1 ?_
  have f2 := (ext_is K0.2 (Nat.zero_lt_succ _) n_a0)
  refine gd_c f2 ?_
  have f4 := (ext_is K0.2 (Nat.zero_lt_succ _) n_a0)
  refine gd_b (gX98_want _ _ _ _ _ _ _ _ ⟨K0.1.1, K0.1.2⟩ f4 ) (fun K3 => ?_)
  exact gd_tR (ext_tr K0.2 K3.2) (gX98_atomic_96 _ _ ⟨K3.1.1, K3.1.2⟩  )
noncomputable def GX98_atomic_55 (a0 : Nat) (a1 : Int32) (a2 : Int32) (a3 : Int32) (s0 : Int32) (M : FM) : Int32 × FM :=
  fi (s0 = 0) (
    GX98_atomic_95 M) (
    fi (a2 = (Int32.ofInt 2)) (
      GX98_atomic_72 a0 a1 a2 a3 M) (
      fi (a2 = (Int32.ofInt 3)) (
        GX98_atomic_72 a0 a1 a2 a3 M) (
        GX98_atomic_95 M)))
theorem gX98_atomic_55 (a0 : Nat) (a1 : Int32) (a2 : Int32) (a3 : Int32) (s0 : Int32) (M : FM) (T : Ty M) (n_a0 : fm_is M 94 94 a0 = true) : gd (FX98_atomic_55 fN a0 a1 a2 a3 s0 M) (GX98_atomic_55 a0 a1 a2 a3 s0 M) (OkR M) := by
  delta FX98_atomic_55 BX98_atomic_55
  refine gd_fi (fun c0_0 => ?_) (fun c0_0 => ?_)
  · exact gd_tR (ext_r _) (gX98_atomic_95  _ ⟨T.1, T.2⟩  )
  · refine gd_fi (fun c1_0 => ?_) (fun c1_0 => ?_)
    · exact gd_tR (ext_r _) (gX98_atomic_72 _ _ _ _ _ ⟨T.1, T.2⟩ n_a0 )
    · refine gd_fi (fun c2_0 => ?_) (fun c2_0 => ?_)
      · exact gd_tR (ext_r _) (gX98_atomic_72 _ _ _ _ _ ⟨T.1, T.2⟩ n_a0 )
      · exact gd_tR (ext_r _) (gX98_atomic_95  _ ⟨T.1, T.2⟩  )
noncomputable def GX98_atomic_54 (a0 : Nat) (a1 : Int32) (a2 : Int32) (a3 : Int32) (M : FM) : Int32 × FM :=
  GX98_atomic_55 a0 a1 a2 a3 (Int32.ofInt 0) M
theorem gX98_atomic_54 (a0 : Nat) (a1 : Int32) (a2 : Int32) (a3 : Int32) (M : FM) (T : Ty M) (n_a0 : fm_is M 94 94 a0 = true) : gd (FX98_atomic_54 fN a0 a1 a2 a3 M) (GX98_atomic_54 a0 a1 a2 a3 M) (OkR M) := by
  delta FX98_atomic_54 BX98_atomic_54
  exact gd_tR (ext_r _) (gX98_atomic_55 _ _ _ _ _ _ ⟨T.1, T.2⟩ n_a0 )
noncomputable def GX98_atomic_30 (a0 : Nat) (a1 : Int32) (a2 : Int32) (a3 : Int32) (M : FM) : Int32 × FM :=
  GX98_atomic_55 a0 a1 a2 a3 (Int32.ofInt 1) M
theorem gX98_atomic_30 (a0 : Nat) (a1 : Int32) (a2 : Int32) (a3 : Int32) (M : FM) (T : Ty M) (n_a0 : fm_is M 94 94 a0 = true) : gd (FX98_atomic_30 fN a0 a1 a2 a3 M) (GX98_atomic_30 a0 a1 a2 a3 M) (OkR M) := by
  delta FX98_atomic_30 BX98_atomic_30
  exact gd_tR (ext_r _) (gX98_atomic_55 _ _ _ _ _ _ ⟨T.1, T.2⟩ n_a0 )
noncomputable def GX98_atomic_0 (a0 : Nat) (a1 : Int32) (a2 : Int32) (M : FM) : Int32 × FM :=
  let r1 : Int32 × FM := GX98_bits a0 (Int32.ofInt 31) (Int32.ofInt 27) M
  fi ((Int32.ofInt 5) ≤ r1.1) (
    fi ((r1.1 - r1.1 / (Int32.ofInt 4) * (Int32.ofInt 4)) = 0) (
      fi ((Int32.ofInt 29) ≤ r1.1) (
        GX98_atomic_54 a0 a1 a2 r1.1 r1.2) (
        GX98_atomic_55 a0 a1 a2 r1.1 (Int32.ofInt 1) r1.2)) (
      GX98_atomic_54 a0 a1 a2 r1.1 r1.2)) (
    fi (r1.1 = (Int32.ofInt 2)) (
      let r2 : Int32 × FM := GX98_bits a0 (Int32.ofInt 24) (Int32.ofInt 20) r1.2
      fi (r2.1 = 0) (
        GX98_atomic_30 a0 a1 a2 r1.1 r2.2) (
        GX98_atomic_55 a0 a1 a2 r1.1 (Int32.ofInt 0) r2.2)) (
      GX98_atomic_30 a0 a1 a2 r1.1 r1.2))
def HX98_atomic_0 (a0 : Nat) (a1 : Int32) (a2 : Int32) (M : FM) : Prop := (HX98_bits a0 (Int32.ofInt 31) (Int32.ofInt 27) M ∧ let r1 : Int32 × FM := GX98_bits a0 (Int32.ofInt 31) (Int32.ofInt 27) M; (((Int32.ofInt 5) ≤ r1.1 → True) ∧ (¬ ((Int32.ofInt 5) ≤ r1.1) → ((r1.1 = (Int32.ofInt 2) → (HX98_bits a0 (Int32.ofInt 24) (Int32.ofInt 20) r1.2 ∧ True)) ∧ (¬ (r1.1 = (Int32.ofInt 2)) → True)))))
theorem gX98_atomic_0 (a0 : Nat) (a1 : Int32) (a2 : Int32) (M : FM) (T : Ty M) (n_a0 : fm_is M 94 94 a0 = true) (h : HX98_atomic_0 a0 a1 a2 M) : gd (FX98_atomic_0 fN a0 a1 a2 M) (GX98_atomic_0 a0 a1 a2 M) (OkR M) := by
  delta FX98_atomic_0 BX98_atomic_0
  refine gd_c n_a0 ?_
  refine gd_b (gX98_bits _ _ _ _ h.1) (fun K0 => ?_)
  refine gd_fi (fun c1_0 => ?_) (fun c1_0 => ?_)
  · refine gd_n (by decide) ?_
    refine gd_fi (fun c2_0 => ?_) (fun c2_0 => ?_)
    · refine gd_fi (fun c3_0 => ?_) (fun c3_0 => ?_)
      · have f4 := (ext_is K0.2 (Nat.zero_lt_succ _) n_a0)
        exact gd_tR K0.2 (gX98_atomic_54 _ _ _ _ _ ⟨K0.1.1, K0.1.2⟩ f4 )
      · have f5 := (ext_is K0.2 (Nat.zero_lt_succ _) n_a0)
        exact gd_tR K0.2 (gX98_atomic_55 _ _ _ _ _ _ ⟨K0.1.1, K0.1.2⟩ f5 )
    · have f6 := (ext_is K0.2 (Nat.zero_lt_succ _) n_a0)
      exact gd_tR K0.2 (gX98_atomic_54 _ _ _ _ _ ⟨K0.1.1, K0.1.2⟩ f6 )
  · refine gd_fi (fun c7_0 => ?_) (fun c7_0 => ?_)
    · have f8 := (ext_is K0.2 (Nat.zero_lt_succ _) n_a0)
      refine gd_c f8 ?_
      refine gd_b (gX98_bits _ _ _ _ ((h.2.2 c1_0).1 c7_0).1) (fun K9 => ?_)
      refine gd_fi (fun c10_0 => ?_) (fun c10_0 => ?_)
      · have f11 := (ext_is K9.2 (Nat.zero_lt_succ _) (ext_is K0.2 (Nat.zero_lt_succ _) n_a0))
        exact gd_tR (ext_tr K0.2 K9.2) (gX98_atomic_30 _ _ _ _ _ ⟨K9.1.1, K9.1.2⟩ f11 )
      · have f12 := (ext_is K9.2 (Nat.zero_lt_succ _) (ext_is K0.2 (Nat.zero_lt_succ _) n_a0))
        exact gd_tR (ext_tr K0.2 K9.2) (gX98_atomic_55 _ _ _ _ _ _ ⟨K9.1.1, K9.1.2⟩ f12 )
    · have f13 := (ext_is K0.2 (Nat.zero_lt_succ _) n_a0)
      exact gd_tR K0.2 (gX98_atomic_30 _ _ _ _ _ ⟨K0.1.1, K0.1.2⟩ f13 )
noncomputable def GX98_atomic (a0 : Nat) (a1 : Int32) (a2 : Int32) (M : FM) : Int32 × FM := GX98_atomic_0 a0 a1 a2 M
def HX98_atomic (a0 : Nat) (a1 : Int32) (a2 : Int32) (M : FM) : Prop := HX98_atomic_0 a0 a1 a2 M
theorem gX98_atomic (a0 : Nat) (a1 : Int32) (a2 : Int32) (M : FM) (T : Ty M) (n_a0 : fm_is M 94 94 a0 = true) (h : HX98_atomic a0 a1 a2 M) : gd (FX98_atomic fN a0 a1 a2 M) (GX98_atomic a0 a1 a2 M) (OkR M) := gX98_atomic_0 a0 a1 a2 M T n_a0 h
noncomputable def GX98_control_41 (a1 : Int32) (a2 : Int32) (s0 : Nat) (s1 : Int32) (s2 : Int64) (s3 : Int64) (s4 : Int64) (M : FM) : Int32 × FM :=
  let r1 : Int32 × FM := GX98_want s0 s1 s2 s3 s4 a2.toInt64 a1 M
  (r1.1, r1.2)
theorem gX98_control_41 (a1 : Int32) (a2 : Int32) (s0 : Nat) (s1 : Int32) (s2 : Int64) (s3 : Int64) (s4 : Int64) (M : FM) (T : Ty M) (n_s0 : fm_is M 94 94 s0 = true) : gd (FX98_control_41 fN a1 a2 s0 s1 s2 s3 s4 M) (GX98_control_41 a1 a2 s0 s1 s2 s3 s4 M) (OkR M) := by
  delta FX98_control_41 BX98_control_41
  refine gd_c n_s0 ?_
  refine gd_b (gX98_want _ _ _ _ _ _ _ _ ⟨T.1, T.2⟩ n_s0 ) (fun K0 => ?_)
  exact ⟨rfl, ⟨K0.1.1, K0.1.2⟩, K0.2⟩
noncomputable def GX98_control_0 (a0 : Nat) (a1 : Int32) (a2 : Int32) (M : FM) : Int32 × FM :=
  fi (a2 = (Int32.ofInt 4)) (
    ((Int32.ofInt (-1)), M)) (
    let r1 : Int32 × FM := GX98_bits a0 (Int32.ofInt 31) (Int32.ofInt 20) M
    fi (a2 ≤ (Int32.ofInt 4)) (
      GX98_control_41 a1 a2 a0 (Int32.ofInt 6) r1.1.toInt64 (Int64.ofInt 0) (r1.2.2.1 351 a0 0) r1.2) (
      let r2 : Int32 × FM := GX98_bits a0 (Int32.ofInt 19) (Int32.ofInt 15) r1.2
      GX98_control_41 a1 a2 a0 (Int32.ofInt 6) r1.1.toInt64 (Int64.ofInt 0) r2.1.toInt64 r2.2))
def HX98_control_0 (a0 : Nat) (a1 : Int32) (a2 : Int32) (M : FM) : Prop := ((a2 = (Int32.ofInt 4) → True) ∧ (¬ (a2 = (Int32.ofInt 4)) → (HX98_bits a0 (Int32.ofInt 31) (Int32.ofInt 20) M ∧ let r1 : Int32 × FM := GX98_bits a0 (Int32.ofInt 31) (Int32.ofInt 20) M; ((a2 ≤ (Int32.ofInt 4) → True) ∧ (¬ (a2 ≤ (Int32.ofInt 4)) → (HX98_bits a0 (Int32.ofInt 19) (Int32.ofInt 15) r1.2 ∧ True))))))
theorem gX98_control_0 (a0 : Nat) (a1 : Int32) (a2 : Int32) (M : FM) (T : Ty M) (n_a0 : fm_is M 94 94 a0 = true) (h : HX98_control_0 a0 a1 a2 M) : gd (FX98_control_0 fN a0 a1 a2 M) (GX98_control_0 a0 a1 a2 M) (OkR M) := by
  delta FX98_control_0 BX98_control_0
  refine gd_fi (fun c0_0 => ?_) (fun c0_0 => ?_)
  · exact ⟨rfl, ⟨T.1, T.2⟩, (ext_r _)⟩
  · refine gd_c n_a0 ?_
    refine gd_b (gX98_bits _ _ _ _ (h.2 c0_0).1) (fun K1 => ?_)
    refine gd_fi (fun c2_0 => ?_) (fun c2_0 => ?_)
    · have f3 := (ext_is K1.2 (Nat.zero_lt_succ _) n_a0)
      refine gd_c f3 ?_
      have f4 := (ext_is K1.2 (Nat.zero_lt_succ _) n_a0)
      exact gd_tR K1.2 (gX98_control_41 _ _ _ _ _ _ _ _ ⟨K1.1.1, K1.1.2⟩ f4 )
    · have f5 := (ext_is K1.2 (Nat.zero_lt_succ _) n_a0)
      refine gd_c f5 ?_
      refine gd_b (gX98_bits _ _ _ _ ((h.2 c0_0).2.2 c2_0).1) (fun K6 => ?_)
      have f7 := (ext_is K6.2 (Nat.zero_lt_succ _) (ext_is K1.2 (Nat.zero_lt_succ _) n_a0))
      exact gd_tR (ext_tr K1.2 K6.2) (gX98_control_41 _ _ _ _ _ _ _ _ ⟨K6.1.1, K6.1.2⟩ f7 )
noncomputable def GX98_control (a0 : Nat) (a1 : Int32) (a2 : Int32) (M : FM) : Int32 × FM := GX98_control_0 a0 a1 a2 M
def HX98_control (a0 : Nat) (a1 : Int32) (a2 : Int32) (M : FM) : Prop := HX98_control_0 a0 a1 a2 M
theorem gX98_control (a0 : Nat) (a1 : Int32) (a2 : Int32) (M : FM) (T : Ty M) (n_a0 : fm_is M 94 94 a0 = true) (h : HX98_control a0 a1 a2 M) : gd (FX98_control fN a0 a1 a2 M) (GX98_control a0 a1 a2 M) (OkR M) := gX98_control_0 a0 a1 a2 M T n_a0 h
noncomputable def GX98_immediateS_0 (a0 : Nat) (M : FM) : Int64 × FM :=
  let r1 : Int64 × FM := GX98_sign a0 (Int64.ofInt 2048) M
  let r2 : Int32 × FM := GX98_bits a0 (Int32.ofInt 30) (Int32.ofInt 25) r1.2
  let r3 : Int32 × FM := GX98_bits a0 (Int32.ofInt 11) (Int32.ofInt 7) r2.2
  (((r1.1 + ((Int32.ofInt 32) * r2.1).toInt64) + r3.1.toInt64), r3.2)
def HX98_immediateS_0 (a0 : Nat) (M : FM) : Prop := let r1 : Int64 × FM := GX98_sign a0 (Int64.ofInt 2048) M; (HX98_bits a0 (Int32.ofInt 30) (Int32.ofInt 25) r1.2 ∧ let r2 : Int32 × FM := GX98_bits a0 (Int32.ofInt 30) (Int32.ofInt 25) r1.2; (HX98_bits a0 (Int32.ofInt 11) (Int32.ofInt 7) r2.2 ∧ True))
theorem gX98_immediateS_0 (a0 : Nat) (M : FM) (T : Ty M) (n_a0 : fm_is M 94 94 a0 = true) (h : HX98_immediateS_0 a0 M) : gd (FX98_immediateS_0 fN a0 M) (GX98_immediateS_0 a0 M) (OkR M) := by
  delta FX98_immediateS_0 BX98_immediateS_0
  refine gd_c n_a0 ?_
  refine gd_b (gX98_sign _ _ _ ⟨T.1, T.2⟩ n_a0 ) (fun K0 => ?_)
  have f1 := (ext_is K0.2 (Nat.zero_lt_succ _) n_a0)
  refine gd_c f1 ?_
  refine gd_b (gX98_bits _ _ _ _ h.1) (fun K2 => ?_)
  have f3 := (ext_is K2.2 (Nat.zero_lt_succ _) (ext_is K0.2 (Nat.zero_lt_succ _) n_a0))
  refine gd_c f3 ?_
  refine gd_b (gX98_bits _ _ _ _ h.2.1) (fun K4 => ?_)
  exact ⟨rfl, ⟨K4.1.1, K4.1.2⟩, (ext_tr K0.2 (ext_tr K2.2 K4.2))⟩
noncomputable def GX98_immediateS (a0 : Nat) (M : FM) : Int64 × FM := GX98_immediateS_0 a0 M
def HX98_immediateS (a0 : Nat) (M : FM) : Prop := HX98_immediateS_0 a0 M
theorem gX98_immediateS (a0 : Nat) (M : FM) (T : Ty M) (n_a0 : fm_is M 94 94 a0 = true) (h : HX98_immediateS a0 M) : gd (FX98_immediateS fN a0 M) (GX98_immediateS a0 M) (OkR M) := gX98_immediateS_0 a0 M T n_a0 h
noncomputable def GX98_others_286 (a0 : Nat) (a1 : Int32) (a2 : Int32) (M : FM) : Int32 × FM :=
  let r1 : Int32 × FM := GX98_want a0 (Int32.ofInt 5) (Int64.ofInt 0) (Int64.ofInt 0) (M.2.1 351 a0 0) a1.toInt64 a2 M
  (r1.1, r1.2)
theorem gX98_others_286 (a0 : Nat) (a1 : Int32) (a2 : Int32) (M : FM) (T : Ty M) (n_a0 : fm_is M 94 94 a0 = true) : gd (FX98_others_286 fN a0 a1 a2 M) (GX98_others_286 a0 a1 a2 M) (OkR M) := by
  delta FX98_others_286 BX98_others_286
  refine gd_c n_a0 ?_
  refine gd_c n_a0 ?_
  refine gd_b (gX98_want _ _ _ _ _ _ _ _ ⟨T.1, T.2⟩ n_a0 ) (fun K0 => ?_)
  exact ⟨rfl, ⟨K0.1.1, K0.1.2⟩, K0.2⟩
noncomputable def GX98_others_285 (s0 : Int32) (M : FM) : Int32 × FM :=
  (s0, M)
theorem gX98_others_285 (s0 : Int32) (M : FM) (T : Ty M) : gd (FX98_others_285 fN s0 M) (GX98_others_285 s0 M) (OkR M) := by
  delta FX98_others_285 BX98_others_285
  exact ⟨rfl, ⟨T.1, T.2⟩, (ext_r _)⟩
noncomputable def GX98_others_258 (a0 : Nat) (a3 : Int32) (M : FM) : Int32 × FM :=
  let r1 : Int64 × FM := GX98_immediateS a0 M
  let r2 : Int64 × FM := GX98_power a3 r1.2
  let r3 : Int32 × FM := GX98_want a0 (Int32.ofInt 5) ((M.2.1 351 a0 0) + r1.1) r2.1 (Int64.ofInt 0) (Int64.ofInt 39) (Int32.ofInt 0) r2.2
  GX98_others_285 r3.1 r3.2
def HX98_others_258 (a0 : Nat) (a3 : Int32) (M : FM) : Prop := (HX98_immediateS a0 M ∧ True)
theorem gX98_others_258 (a0 : Nat) (a3 : Int32) (M : FM) (T : Ty M) (n_a0 : fm_is M 94 94 a0 = true) (h : HX98_others_258 a0 a3 M) : gd (FX98_others_258 fN a0 a3 M) (GX98_others_258 a0 a3 M) (OkR M) := by
  delta FX98_others_258 BX98_others_258
  refine gd_c n_a0 ?_
  refine gd_c n_a0 ?_
  refine gd_b (gX98_immediateS _ _ ⟨T.1, T.2⟩ n_a0 h.1) (fun K0 => ?_)
  refine gd_b (gX98_power _ _ ⟨K0.1.1, K0.1.2⟩  ) (fun K1 => ?_)
  have f2 := (ext_is K1.2 (Nat.zero_lt_succ _) (ext_is K0.2 (Nat.zero_lt_succ _) n_a0))
  refine gd_c f2 ?_
  have f4 := (ext_is K1.2 (Nat.zero_lt_succ _) (ext_is K0.2 (Nat.zero_lt_succ _) n_a0))
  refine gd_b (gX98_want _ _ _ _ _ _ _ _ ⟨K1.1.1, K1.1.2⟩ f4 ) (fun K3 => ?_)
  exact gd_tR (ext_tr K0.2 (ext_tr K1.2 K3.2)) (gX98_others_285 _ _ ⟨K3.1.1, K3.1.2⟩  )
noncomputable def GX98_others_247 (s0 : Int32) (M : FM) : Int32 × FM :=
  (s0, M)
theorem gX98_others_247 (s0 : Int32) (M : FM) (T : Ty M) : gd (FX98_others_247 fN s0 M) (GX98_others_247 s0 M) (OkR M) := by
  delta FX98_others_247 BX98_others_247
  exact ⟨rfl, ⟨T.1, T.2⟩, (ext_r _)⟩
noncomputable def GX98_others_220 (a0 : Nat) (a2 : Int32) (a3 : Int32) (M : FM) : Int32 × FM :=
  let r1 : Int64 × FM := GX98_immediateI a0 M
  let r2 : Int64 × FM := GX98_power a3 r1.2
  let r3 : Int32 × FM := GX98_want a0 (Int32.ofInt 5) ((M.2.1 351 a0 0) + r1.1) r2.1 (Int64.ofInt 0) (Int64.ofInt 7) a2 r2.2
  GX98_others_247 r3.1 r3.2
def HX98_others_220 (a0 : Nat) (a2 : Int32) (a3 : Int32) (M : FM) : Prop := (HX98_immediateI a0 M ∧ True)
theorem gX98_others_220 (a0 : Nat) (a2 : Int32) (a3 : Int32) (M : FM) (T : Ty M) (n_a0 : fm_is M 94 94 a0 = true) (h : HX98_others_220 a0 a2 a3 M) : gd (FX98_others_220 fN a0 a2 a3 M) (GX98_others_220 a0 a2 a3 M) (OkR M) := by
  delta FX98_others_220 BX98_others_220
  refine gd_c n_a0 ?_
  refine gd_c n_a0 ?_
  refine gd_b (gX98_immediateI _ _ ⟨T.1, T.2⟩ n_a0 h.1) (fun K0 => ?_)
  refine gd_b (gX98_power _ _ ⟨K0.1.1, K0.1.2⟩  ) (fun K1 => ?_)
  have f2 := (ext_is K1.2 (Nat.zero_lt_succ _) (ext_is K0.2 (Nat.zero_lt_succ _) n_a0))
  refine gd_c f2 ?_
  have f4 := (ext_is K1.2 (Nat.zero_lt_succ _) (ext_is K0.2 (Nat.zero_lt_succ _) n_a0))
  refine gd_b (gX98_want _ _ _ _ _ _ _ _ ⟨K1.1.1, K1.1.2⟩ f4 ) (fun K3 => ?_)
  exact gd_tR (ext_tr K0.2 (ext_tr K1.2 K3.2)) (gX98_others_247 _ _ ⟨K3.1.1, K3.1.2⟩  )
noncomputable def GX98_others_202 (s0 : Int32) (M : FM) : Int32 × FM :=
  (s0, M)
theorem gX98_others_202 (s0 : Int32) (M : FM) (T : Ty M) : gd (FX98_others_202 fN s0 M) (GX98_others_202 s0 M) (OkR M) := by
  delta FX98_others_202 BX98_others_202
  exact ⟨rfl, ⟨T.1, T.2⟩, (ext_r _)⟩
noncomputable def GX98_others_168 (s0 : Int32) (M : FM) : Int32 × FM :=
  (s0, M)
theorem gX98_others_168 (s0 : Int32) (M : FM) (T : Ty M) : gd (FX98_others_168 fN s0 M) (GX98_others_168 s0 M) (OkR M) := by
  delta FX98_others_168 BX98_others_168
  exact ⟨rfl, ⟨T.1, T.2⟩, (ext_r _)⟩
noncomputable def GX98_others_160 (a2 : Int32) (s0 : Nat) (s1 : Int32) (s2 : Int64) (s3 : Int64) (s4 : Int64) (s5 : Int64) (M : FM) : Int32 × FM :=
  let r1 : Int32 × FM := GX98_want s0 s1 s2 s3 s4 s5 a2 M
  GX98_others_168 r1.1 r1.2
theorem gX98_others_160 (a2 : Int32) (s0 : Nat) (s1 : Int32) (s2 : Int64) (s3 : Int64) (s4 : Int64) (s5 : Int64) (M : FM) (T : Ty M) (n_s0 : fm_is M 94 94 s0 = true) : gd (FX98_others_160 fN a2 s0 s1 s2 s3 s4 s5 M) (GX98_others_160 a2 s0 s1 s2 s3 s4 s5 M) (OkR M) := by
  delta FX98_others_160 BX98_others_160
  refine gd_c n_s0 ?_
  refine gd_b (gX98_want _ _ _ _ _ _ _ _ ⟨T.1, T.2⟩ n_s0 ) (fun K0 => ?_)
  exact gd_tR K0.2 (gX98_others_168 _ _ ⟨K0.1.1, K0.1.2⟩  )
noncomputable def GX98_others_125 (s0 : Int32) (M : FM) : Int32 × FM :=
  (s0, M)
theorem gX98_others_125 (s0 : Int32) (M : FM) (T : Ty M) : gd (FX98_others_125 fN s0 M) (GX98_others_125 s0 M) (OkR M) := by
  delta FX98_others_125 BX98_others_125
  exact ⟨rfl, ⟨T.1, T.2⟩, (ext_r _)⟩
noncomputable def GX98_others_0 (a0 : Nat) (a1 : Int32) (a2 : Int32) (a3 : Int32) (M : FM) : Int32 × FM :=
  fi (a1 = (Int32.ofInt 3)) (
    fi ((Int32.ofInt 7) ≤ a3) (
      GX98_others_168 (Int32.ofInt (-1)) M) (
      let r1 : Int64 × FM := GX98_immediateI a0 M
      let r2 : Int64 × FM := GX98_power (a3 - a3 / (Int32.ofInt 4) * (Int32.ofInt 4)) r1.2
      fi (a3 ≤ (Int32.ofInt 3)) (
        GX98_others_160 a2 a0 (Int32.ofInt 2) ((M.2.1 351 a0 0) + r1.1) r2.1 (Int64.ofInt 0) (Int64.ofInt 0) r2.2) (
        GX98_others_160 a2 a0 (Int32.ofInt 2) ((M.2.1 351 a0 0) + r1.1) r2.1 (Int64.ofInt 0) (Int64.ofInt 1) r2.2))) (
    fi (a1 = (Int32.ofInt 7)) (
      fi (a3 = (Int32.ofInt 2)) (
        GX98_others_220 a0 a2 a3 M) (
        fi (a3 = (Int32.ofInt 3)) (
          GX98_others_220 a0 a2 a3 M) (
          GX98_others_247 (Int32.ofInt (-1)) M))) (
      fi (a1 = (Int32.ofInt 15)) (
        fi ((Int32.ofInt 2) ≤ a3) (
          GX98_others_125 (Int32.ofInt (-1)) M) (
          let r3 : Int32 × FM := GX98_done a0 (Int32.ofInt 0) (Int64.ofInt 0) M
          GX98_others_125 (r3.1 + (Int32.ofInt 1)) r3.2)) (
        fi (a1 = (Int32.ofInt 35)) (
          fi ((Int32.ofInt 4) ≤ a3) (
            GX98_others_202 (Int32.ofInt (-1)) M) (
            let r4 : Int64 × FM := GX98_immediateS a0 M
            let r5 : Int64 × FM := GX98_power a3 r4.2
            let r6 : Int32 × FM := GX98_want a0 (Int32.ofInt 3) ((M.2.1 351 a0 0) + r4.1) r5.1 (r5.2.2.1 352 a0 0) (Int64.ofInt 0) (Int32.ofInt 0) r5.2
            GX98_others_202 r6.1 r6.2)) (
          fi (a1 = (Int32.ofInt 39)) (
            fi (a3 = (Int32.ofInt 2)) (
              GX98_others_258 a0 a3 M) (
              fi (a3 = (Int32.ofInt 3)) (
                GX98_others_258 a0 a3 M) (
                GX98_others_285 (Int32.ofInt (-1)) M))) (
            fi (a1 = (Int32.ofInt 47)) (
              let r7 : Int32 × FM := GX98_atomic a0 a2 a3 M
              (r7.1, r7.2)) (
              fi (a1 = (Int32.ofInt 67)) (
                GX98_others_286 a0 a1 a2 M) (
                fi (a1 = (Int32.ofInt 71)) (
                  GX98_others_286 a0 a1 a2 M) (
                  fi (a1 = (Int32.ofInt 75)) (
                    GX98_others_286 a0 a1 a2 M) (
                    fi (a1 = (Int32.ofInt 79)) (
                      GX98_others_286 a0 a1 a2 M) (
                      fi (a1 = (Int32.ofInt 83)) (
                        GX98_others_286 a0 a1 a2 M) (
                        fi (a1 = (Int32.ofInt 115)) (
                          let r8 : Int32 × FM := GX98_control a0 a2 a3 M
                          (r8.1, r8.2)) (
                          ((Int32.ofInt (-1)), M)))))))))))))
def HX98_others_0 (a0 : Nat) (a1 : Int32) (a2 : Int32) (a3 : Int32) (M : FM) : Prop := ((a1 = (Int32.ofInt 3) → (((Int32.ofInt 7) ≤ a3 → True) ∧ (¬ ((Int32.ofInt 7) ≤ a3) → (HX98_immediateI a0 M ∧ True)))) ∧ (¬ (a1 = (Int32.ofInt 3)) → ((a1 = (Int32.ofInt 7) → ((a3 = (Int32.ofInt 2) → HX98_others_220 a0 a2 a3 M) ∧ (¬ (a3 = (Int32.ofInt 2)) → ((a3 = (Int32.ofInt 3) → HX98_others_220 a0 a2 a3 M) ∧ (¬ (a3 = (Int32.ofInt 3)) → True))))) ∧ (¬ (a1 = (Int32.ofInt 7)) → ((a1 = (Int32.ofInt 15) → (((Int32.ofInt 2) ≤ a3 → True) ∧ (¬ ((Int32.ofInt 2) ≤ a3) → (HX98_done a0 (Int32.ofInt 0) (Int64.ofInt 0) M ∧ True)))) ∧ (¬ (a1 = (Int32.ofInt 15)) → ((a1 = (Int32.ofInt 35) → (((Int32.ofInt 4) ≤ a3 → True) ∧ (¬ ((Int32.ofInt 4) ≤ a3) → (HX98_immediateS a0 M ∧ True)))) ∧ (¬ (a1 = (Int32.ofInt 35)) → ((a1 = (Int32.ofInt 39) → ((a3 = (Int32.ofInt 2) → HX98_others_258 a0 a3 M) ∧ (¬ (a3 = (Int32.ofInt 2)) → ((a3 = (Int32.ofInt 3) → HX98_others_258 a0 a3 M) ∧ (¬ (a3 = (Int32.ofInt 3)) → True))))) ∧ (¬ (a1 = (Int32.ofInt 39)) → ((a1 = (Int32.ofInt 47) → (HX98_atomic a0 a2 a3 M ∧ True)) ∧ (¬ (a1 = (Int32.ofInt 47)) → ((a1 = (Int32.ofInt 67) → True) ∧ (¬ (a1 = (Int32.ofInt 67)) → ((a1 = (Int32.ofInt 71) → True) ∧ (¬ (a1 = (Int32.ofInt 71)) → ((a1 = (Int32.ofInt 75) → True) ∧ (¬ (a1 = (Int32.ofInt 75)) → ((a1 = (Int32.ofInt 79) → True) ∧ (¬ (a1 = (Int32.ofInt 79)) → ((a1 = (Int32.ofInt 83) → True) ∧ (¬ (a1 = (Int32.ofInt 83)) → ((a1 = (Int32.ofInt 115) → (HX98_control a0 a2 a3 M ∧ True)) ∧ (¬ (a1 = (Int32.ofInt 115)) → True))))))))))))))))))))))))
theorem gX98_others_0 (a0 : Nat) (a1 : Int32) (a2 : Int32) (a3 : Int32) (M : FM) (T : Ty M) (n_a0 : fm_is M 94 94 a0 = true) (h : HX98_others_0 a0 a1 a2 a3 M) : gd (FX98_others_0 fN a0 a1 a2 a3 M) (GX98_others_0 a0 a1 a2 a3 M) (OkR M) := by
  delta FX98_others_0 BX98_others_0
  refine gd_fi (fun c0_0 => ?_) (fun c0_0 => ?_)
  · refine gd_fi (fun c1_0 => ?_) (fun c1_0 => ?_)
    · exact gd_tR (ext_r _) (gX98_others_168 _ _ ⟨T.1, T.2⟩  )
    · refine gd_c n_a0 ?_
      refine gd_c n_a0 ?_
      refine gd_b (gX98_immediateI _ _ ⟨T.1, T.2⟩ n_a0 ((h.1 c0_0).2 c1_0).1) (fun K2 => ?_)
      refine gd_n (by decide) ?_
      refine gd_b (gX98_power _ _ ⟨K2.1.1, K2.1.2⟩  ) (fun K3 => ?_)
      refine gd_fi (fun c4_0 => ?_) (fun c4_0 => ?_)
      · have f5 := (ext_is K3.2 (Nat.zero_lt_succ _) (ext_is K2.2 (Nat.zero_lt_succ _) n_a0))
        exact gd_tR (ext_tr K2.2 K3.2) (gX98_others_160 _ _ _ _ _ _ _ _ ⟨K3.1.1, K3.1.2⟩ f5 )
      · have f6 := (ext_is K3.2 (Nat.zero_lt_succ _) (ext_is K2.2 (Nat.zero_lt_succ _) n_a0))
        exact gd_tR (ext_tr K2.2 K3.2) (gX98_others_160 _ _ _ _ _ _ _ _ ⟨K3.1.1, K3.1.2⟩ f6 )
  · refine gd_fi (fun c7_1 => ?_) (fun c7_1 => ?_)
    · refine gd_fi (fun c8_0 => ?_) (fun c8_0 => ?_)
      · exact gd_tR (ext_r _) (gX98_others_220 _ _ _ _ ⟨T.1, T.2⟩ n_a0 (((h.2 c0_0).1 c7_1).1 c8_0))
      · refine gd_fi (fun c9_0 => ?_) (fun c9_0 => ?_)
        · exact gd_tR (ext_r _) (gX98_others_220 _ _ _ _ ⟨T.1, T.2⟩ n_a0 ((((h.2 c0_0).1 c7_1).2 c8_0).1 c9_0))
        · exact gd_tR (ext_r _) (gX98_others_247 _ _ ⟨T.1, T.2⟩  )
    · refine gd_fi (fun c10_2 => ?_) (fun c10_2 => ?_)
      · refine gd_fi (fun c11_0 => ?_) (fun c11_0 => ?_)
        · exact gd_tR (ext_r _) (gX98_others_125 _ _ ⟨T.1, T.2⟩  )
        · refine gd_c n_a0 ?_
          refine gd_b (gX98_done _ _ _ _ ⟨T.1, T.2⟩ n_a0 ((((h.2 c0_0).2 c7_1).1 c10_2).2 c11_0).1) (fun K12 => ?_)
          exact gd_tR K12.2 (gX98_others_125 _ _ ⟨K12.1.1, K12.1.2⟩  )
      · refine gd_fi (fun c13_3 => ?_) (fun c13_3 => ?_)
        · refine gd_fi (fun c14_0 => ?_) (fun c14_0 => ?_)
          · exact gd_tR (ext_r _) (gX98_others_202 _ _ ⟨T.1, T.2⟩  )
          · refine gd_c n_a0 ?_
            refine gd_c n_a0 ?_
            refine gd_b (gX98_immediateS _ _ ⟨T.1, T.2⟩ n_a0 (((((h.2 c0_0).2 c7_1).2 c10_2).1 c13_3).2 c14_0).1) (fun K15 => ?_)
            refine gd_b (gX98_power _ _ ⟨K15.1.1, K15.1.2⟩  ) (fun K16 => ?_)
            have f17 := (ext_is K16.2 (Nat.zero_lt_succ _) (ext_is K15.2 (Nat.zero_lt_succ _) n_a0))
            refine gd_c f17 ?_
            have f18 := (ext_is K16.2 (Nat.zero_lt_succ _) (ext_is K15.2 (Nat.zero_lt_succ _) n_a0))
            refine gd_c f18 ?_
            have f20 := (ext_is K16.2 (Nat.zero_lt_succ _) (ext_is K15.2 (Nat.zero_lt_succ _) n_a0))
            refine gd_b (gX98_want _ _ _ _ _ _ _ _ ⟨K16.1.1, K16.1.2⟩ f20 ) (fun K19 => ?_)
            exact gd_tR (ext_tr K15.2 (ext_tr K16.2 K19.2)) (gX98_others_202 _ _ ⟨K19.1.1, K19.1.2⟩  )
        · refine gd_fi (fun c21_4 => ?_) (fun c21_4 => ?_)
          · refine gd_fi (fun c22_0 => ?_) (fun c22_0 => ?_)
            · exact gd_tR (ext_r _) (gX98_others_258 _ _ _ ⟨T.1, T.2⟩ n_a0 ((((((h.2 c0_0).2 c7_1).2 c10_2).2 c13_3).1 c21_4).1 c22_0))
            · refine gd_fi (fun c23_0 => ?_) (fun c23_0 => ?_)
              · exact gd_tR (ext_r _) (gX98_others_258 _ _ _ ⟨T.1, T.2⟩ n_a0 (((((((h.2 c0_0).2 c7_1).2 c10_2).2 c13_3).1 c21_4).2 c22_0).1 c23_0))
              · exact gd_tR (ext_r _) (gX98_others_285 _ _ ⟨T.1, T.2⟩  )
          · refine gd_fi (fun c24_5 => ?_) (fun c24_5 => ?_)
            · refine gd_c n_a0 ?_
              refine gd_b (gX98_atomic _ _ _ _ ⟨T.1, T.2⟩ n_a0 ((((((h.2 c0_0).2 c7_1).2 c10_2).2 c13_3).2 c21_4).1 c24_5).1) (fun K25 => ?_)
              exact ⟨rfl, ⟨K25.1.1, K25.1.2⟩, K25.2⟩
            · refine gd_fi (fun c26_6 => ?_) (fun c26_6 => ?_)
              · exact gd_tR (ext_r _) (gX98_others_286 _ _ _ _ ⟨T.1, T.2⟩ n_a0 )
              · refine gd_fi (fun c27_7 => ?_) (fun c27_7 => ?_)
                · exact gd_tR (ext_r _) (gX98_others_286 _ _ _ _ ⟨T.1, T.2⟩ n_a0 )
                · refine gd_fi (fun c28_8 => ?_) (fun c28_8 => ?_)
                  · exact gd_tR (ext_r _) (gX98_others_286 _ _ _ _ ⟨T.1, T.2⟩ n_a0 )
                  · refine gd_fi (fun c29_9 => ?_) (fun c29_9 => ?_)
                    · exact gd_tR (ext_r _) (gX98_others_286 _ _ _ _ ⟨T.1, T.2⟩ n_a0 )
                    · refine gd_fi (fun c30_10 => ?_) (fun c30_10 => ?_)
                      · exact gd_tR (ext_r _) (gX98_others_286 _ _ _ _ ⟨T.1, T.2⟩ n_a0 )
                      · refine gd_fi (fun c31_11 => ?_) (fun c31_11 => ?_)
                        · refine gd_c n_a0 ?_
                          refine gd_b (gX98_control _ _ _ _ ⟨T.1, T.2⟩ n_a0 ((((((((((((h.2 c0_0).2 c7_1).2 c10_2).2 c13_3).2 c21_4).2 c24_5).2 c26_6).2 c27_7).2 c28_8).2 c29_9).2 c30_10).1 c31_11).1) (fun K32 => ?_)
                          exact ⟨rfl, ⟨K32.1.1, K32.1.2⟩, K32.2⟩
                        · exact ⟨rfl, ⟨T.1, T.2⟩, (ext_r _)⟩
noncomputable def GX98_others (a0 : Nat) (a1 : Int32) (a2 : Int32) (a3 : Int32) (M : FM) : Int32 × FM := GX98_others_0 a0 a1 a2 a3 M
def HX98_others (a0 : Nat) (a1 : Int32) (a2 : Int32) (a3 : Int32) (M : FM) : Prop := HX98_others_0 a0 a1 a2 a3 M
theorem gX98_others (a0 : Nat) (a1 : Int32) (a2 : Int32) (a3 : Int32) (M : FM) (T : Ty M) (n_a0 : fm_is M 94 94 a0 = true) (h : HX98_others a0 a1 a2 a3 M) : gd (FX98_others fN a0 a1 a2 a3 M) (GX98_others a0 a1 a2 a3 M) (OkR M) := gX98_others_0 a0 a1 a2 a3 M T n_a0 h
noncomputable def GX98_intImmediate_99 (s0 : Nat) (s1 : Int32) (s2 : Int64) (M : FM) : Int32 × FM :=
  let r1 : Int32 × FM := GX98_done s0 s1 s2 M
  (r1.1, r1.2)
def HX98_intImmediate_99 (s0 : Nat) (s1 : Int32) (s2 : Int64) (M : FM) : Prop := (HX98_done s0 s1 s2 M ∧ True)
theorem gX98_intImmediate_99 (s0 : Nat) (s1 : Int32) (s2 : Int64) (M : FM) (T : Ty M) (n_s0 : fm_is M 94 94 s0 = true) (h : HX98_intImmediate_99 s0 s1 s2 M) : gd (FX98_intImmediate_99 fN s0 s1 s2 M) (GX98_intImmediate_99 s0 s1 s2 M) (OkR M) := by
  delta FX98_intImmediate_99 BX98_intImmediate_99
  refine gd_c n_s0 ?_
  refine gd_b (gX98_done _ _ _ _ ⟨T.1, T.2⟩ n_s0 h.1) (fun K0 => ?_)
  exact ⟨rfl, ⟨K0.1.1, K0.1.2⟩, K0.2⟩
noncomputable def GX98_intImmediate_72 (a0 : Nat) (a1 : Int32) (a3 : Int32) (a4 : Int32) (M : FM) : Int32 × FM :=
  fi (a3 = 0) (
    GX98_intImmediate_99 a0 a1 (((((M.2.1 351 a0 0).toInt32).toUInt32 >>> (a4.toUInt32 &&& Int32.toUInt32 31)).toInt32).toInt64) M) (
    GX98_intImmediate_99 a0 a1 (((M.2.1 351 a0 0).toInt32 >>> (a4 &&& 31)).toInt64) M)
def HX98_intImmediate_72 (a0 : Nat) (a1 : Int32) (a3 : Int32) (a4 : Int32) (M : FM) : Prop := ((a3 = 0 → HX98_intImmediate_99 a0 a1 (((((M.2.1 351 a0 0).toInt32).toUInt32 >>> (a4.toUInt32 &&& Int32.toUInt32 31)).toInt32).toInt64) M) ∧ (¬ (a3 = 0) → HX98_intImmediate_99 a0 a1 (((M.2.1 351 a0 0).toInt32 >>> (a4 &&& 31)).toInt64) M))
theorem gX98_intImmediate_72 (a0 : Nat) (a1 : Int32) (a3 : Int32) (a4 : Int32) (M : FM) (T : Ty M) (n_a0 : fm_is M 94 94 a0 = true) (h : HX98_intImmediate_72 a0 a1 a3 a4 M) : gd (FX98_intImmediate_72 fN a0 a1 a3 a4 M) (GX98_intImmediate_72 a0 a1 a3 a4 M) (OkR M) := by
  delta FX98_intImmediate_72 BX98_intImmediate_72
  refine gd_fi (fun c0_0 => ?_) (fun c0_0 => ?_)
  · refine gd_c n_a0 ?_
    exact gd_tR (ext_r _) (gX98_intImmediate_99 _ _ _ _ ⟨T.1, T.2⟩ n_a0 (h.1 c0_0))
  · refine gd_c n_a0 ?_
    exact gd_tR (ext_r _) (gX98_intImmediate_99 _ _ _ _ ⟨T.1, T.2⟩ n_a0 (h.2 c0_0))
noncomputable def GX98_intImmediate_70 (M : FM) : Int32 × FM :=
  ((Int32.ofInt (-1)), M)
theorem gX98_intImmediate_70 (M : FM) (T : Ty M) : gd (FX98_intImmediate_70 fN M) (GX98_intImmediate_70 M) (OkR M) := by
  delta FX98_intImmediate_70 BX98_intImmediate_70
  exact ⟨rfl, ⟨T.1, T.2⟩, (ext_r _)⟩
noncomputable def GX98_intImmediate_55 (a0 : Nat) (a1 : Int32) (a2 : Int32) (a3 : Int32) (a4 : Int32) (M : FM) : Int32 × FM :=
  fi (a2 = (Int32.ofInt 5)) (
    fi (a3 = 0) (
      GX98_intImmediate_72 a0 a1 a3 a4 M) (
      fi (a3 = (Int32.ofInt 32)) (
        GX98_intImmediate_72 a0 a1 a3 a4 M) (
        GX98_intImmediate_70 M))) (
    GX98_intImmediate_70 M)
def HX98_intImmediate_55 (a0 : Nat) (a1 : Int32) (a2 : Int32) (a3 : Int32) (a4 : Int32) (M : FM) : Prop := ((a2 = (Int32.ofInt 5) → ((a3 = 0 → HX98_intImmediate_72 a0 a1 a3 a4 M) ∧ (¬ (a3 = 0) → ((a3 = (Int32.ofInt 32) → HX98_intImmediate_72 a0 a1 a3 a4 M) ∧ (¬ (a3 = (Int32.ofInt 32)) → True))))) ∧ (¬ (a2 = (Int32.ofInt 5)) → True))
theorem gX98_intImmediate_55 (a0 : Nat) (a1 : Int32) (a2 : Int32) (a3 : Int32) (a4 : Int32) (M : FM) (T : Ty M) (n_a0 : fm_is M 94 94 a0 = true) (h : HX98_intImmediate_55 a0 a1 a2 a3 a4 M) : gd (FX98_intImmediate_55 fN a0 a1 a2 a3 a4 M) (GX98_intImmediate_55 a0 a1 a2 a3 a4 M) (OkR M) := by
  delta FX98_intImmediate_55 BX98_intImmediate_55
  refine gd_fi (fun c0_0 => ?_) (fun c0_0 => ?_)
  · refine gd_fi (fun c1_0 => ?_) (fun c1_0 => ?_)
    · exact gd_tR (ext_r _) (gX98_intImmediate_72 _ _ _ _ _ ⟨T.1, T.2⟩ n_a0 ((h.1 c0_0).1 c1_0))
    · refine gd_fi (fun c2_0 => ?_) (fun c2_0 => ?_)
      · exact gd_tR (ext_r _) (gX98_intImmediate_72 _ _ _ _ _ ⟨T.1, T.2⟩ n_a0 (((h.1 c0_0).2 c1_0).1 c2_0))
      · exact gd_tR (ext_r _) (gX98_intImmediate_70  _ ⟨T.1, T.2⟩  )
  · exact gd_tR (ext_r _) (gX98_intImmediate_70  _ ⟨T.1, T.2⟩  )
noncomputable def GX98_intImmediate_0 (a0 : Nat) (a1 : Int32) (a2 : Int32) (a3 : Int32) (M : FM) : Int32 × FM :=
  let r1 : Int32 × FM := GX98_bits a0 (Int32.ofInt 24) (Int32.ofInt 20) M
  fi (a2 = 0) (
    let r2 : Int64 × FM := GX98_immediateI a0 r1.2
    let r3 : Int32 × FM := GX98_done a0 a1 ((((r1.2.2.1 351 a0 0) + r2.1).toInt32).toInt64) r2.2
    (r3.1, r3.2)) (
    fi (a2 = (Int32.ofInt 1)) (
      fi (a3 = 0) (
        let r4 : Int32 × FM := GX98_done a0 a1 ((((r1.2.2.1 351 a0 0) <<< (r1.1.toInt64 &&& 63)).toInt32).toInt64) r1.2
        (r4.1, r4.2)) (
        GX98_intImmediate_55 a0 a1 a2 a3 r1.1 r1.2)) (
      GX98_intImmediate_55 a0 a1 a2 a3 r1.1 r1.2))
def HX98_intImmediate_0 (a0 : Nat) (a1 : Int32) (a2 : Int32) (a3 : Int32) (M : FM) : Prop := (HX98_bits a0 (Int32.ofInt 24) (Int32.ofInt 20) M ∧ let r1 : Int32 × FM := GX98_bits a0 (Int32.ofInt 24) (Int32.ofInt 20) M; ((a2 = 0 → (HX98_immediateI a0 r1.2 ∧ let r2 : Int64 × FM := GX98_immediateI a0 r1.2; (HX98_done a0 a1 ((((r1.2.2.1 351 a0 0) + r2.1).toInt32).toInt64) r2.2 ∧ True))) ∧ (¬ (a2 = 0) → ((a2 = (Int32.ofInt 1) → ((a3 = 0 → (HX98_done a0 a1 ((((r1.2.2.1 351 a0 0) <<< (r1.1.toInt64 &&& 63)).toInt32).toInt64) r1.2 ∧ True)) ∧ (¬ (a3 = 0) → HX98_intImmediate_55 a0 a1 a2 a3 r1.1 r1.2))) ∧ (¬ (a2 = (Int32.ofInt 1)) → HX98_intImmediate_55 a0 a1 a2 a3 r1.1 r1.2)))))
theorem gX98_intImmediate_0 (a0 : Nat) (a1 : Int32) (a2 : Int32) (a3 : Int32) (M : FM) (T : Ty M) (n_a0 : fm_is M 94 94 a0 = true) (h : HX98_intImmediate_0 a0 a1 a2 a3 M) : gd (FX98_intImmediate_0 fN a0 a1 a2 a3 M) (GX98_intImmediate_0 a0 a1 a2 a3 M) (OkR M) := by
  delta FX98_intImmediate_0 BX98_intImmediate_0
  refine gd_c n_a0 ?_
  refine gd_b (gX98_bits _ _ _ _ h.1) (fun K0 => ?_)
  refine gd_fi (fun c1_0 => ?_) (fun c1_0 => ?_)
  · have f2 := (ext_is K0.2 (Nat.zero_lt_succ _) n_a0)
    refine gd_c f2 ?_
    have f3 := (ext_is K0.2 (Nat.zero_lt_succ _) n_a0)
    refine gd_c f3 ?_
    have f8 := (ext_is K0.2 (Nat.zero_lt_succ _) n_a0)
    refine gd_b (gX98_immediateI _ _ ⟨K0.1.1, K0.1.2⟩ f8 (h.2.1 c1_0).1) (fun K4 => ?_)
    have f5 := (ext_is K4.2 (Nat.zero_lt_succ _) (ext_is K0.2 (Nat.zero_lt_succ _) n_a0))
    refine gd_c f5 ?_
    have f7 := (ext_is K4.2 (Nat.zero_lt_succ _) (ext_is K0.2 (Nat.zero_lt_succ _) n_a0))
    refine gd_b (gX98_done _ _ _ _ ⟨K4.1.1, K4.1.2⟩ f7 (h.2.1 c1_0).2.1) (fun K6 => ?_)
    exact ⟨rfl, ⟨K6.1.1, K6.1.2⟩, (ext_tr K0.2 (ext_tr K4.2 K6.2))⟩
  · refine gd_fi (fun c9_0 => ?_) (fun c9_0 => ?_)
    · refine gd_fi (fun c10_0 => ?_) (fun c10_0 => ?_)
      · have f11 := (ext_is K0.2 (Nat.zero_lt_succ _) n_a0)
        refine gd_c f11 ?_
        have f12 := (ext_is K0.2 (Nat.zero_lt_succ _) n_a0)
        refine gd_c f12 ?_
        have f14 := (ext_is K0.2 (Nat.zero_lt_succ _) n_a0)
        refine gd_b (gX98_done _ _ _ _ ⟨K0.1.1, K0.1.2⟩ f14 (((h.2.2 c1_0).1 c9_0).1 c10_0).1) (fun K13 => ?_)
        exact ⟨rfl, ⟨K13.1.1, K13.1.2⟩, (ext_tr K0.2 K13.2)⟩
      · have f15 := (ext_is K0.2 (Nat.zero_lt_succ _) n_a0)
        exact gd_tR K0.2 (gX98_intImmediate_55 _ _ _ _ _ _ ⟨K0.1.1, K0.1.2⟩ f15 (((h.2.2 c1_0).1 c9_0).2 c10_0))
    · have f16 := (ext_is K0.2 (Nat.zero_lt_succ _) n_a0)
      exact gd_tR K0.2 (gX98_intImmediate_55 _ _ _ _ _ _ ⟨K0.1.1, K0.1.2⟩ f16 ((h.2.2 c1_0).2 c9_0))
noncomputable def GX98_intImmediate (a0 : Nat) (a1 : Int32) (a2 : Int32) (a3 : Int32) (M : FM) : Int32 × FM := GX98_intImmediate_0 a0 a1 a2 a3 M
def HX98_intImmediate (a0 : Nat) (a1 : Int32) (a2 : Int32) (a3 : Int32) (M : FM) : Prop := HX98_intImmediate_0 a0 a1 a2 a3 M
theorem gX98_intImmediate (a0 : Nat) (a1 : Int32) (a2 : Int32) (a3 : Int32) (M : FM) (T : Ty M) (n_a0 : fm_is M 94 94 a0 = true) (h : HX98_intImmediate a0 a1 a2 a3 M) : gd (FX98_intImmediate fN a0 a1 a2 a3 M) (GX98_intImmediate a0 a1 a2 a3 M) (OkR M) := gX98_intImmediate_0 a0 a1 a2 a3 M T n_a0 h
def kX98_upper (k10 : Int64 → Int64 → Int64 → Int64 → Int32 → FM → Option (Int64 × FM)) : (Int64 × Int64 × Int64 × Int64 × Int32 × FM) ⊕ (Int64 × FM) → Option (Int64 × FM)
  | .inl (v0, v1, v2, v3, v4, M') => k10 v0 v1 v2 v3 v4 M'
  | .inr (r) => some r
def pX98_upper (M : FM) : (Int64 × Int64 × Int64 × Int64 × Int32 × FM) ⊕ (Int64 × FM) → Prop
  | .inl (_, _, _, _, _, M') => OkV M M'
  | .inr (r) => OkR M r
theorem pX98_upper_t {M M1 : FM} (e : Ext M M1) : ∀ y, pX98_upper M1 y → pX98_upper M y
  | .inl (_, _, _, _, _, _), h => ⟨h.1, ext_tr e h.2⟩
  | .inr (r), h => ⟨h.1, ext_tr e h.2⟩
noncomputable def GX98_upper_86 (a0 : Int64) (a2 : Int64) (a4 : Int64) (a6 : Int64) (a8 : Int32) (M : FM) : (Int64 × Int64 × Int64 × Int64 × Int32 × FM) ⊕ (Int64 × FM) :=
  let x1 : Int32 := a8 + (Int32.ofInt (-1))
  (.inl (a0, a2, a4, a6, x1, M))
theorem gX98_upper_86 (k10 : Int64 → Int64 → Int64 → Int64 → Int32 → FM → Option (Int64 × FM)) (a0 : Int64) (a2 : Int64) (a4 : Int64) (a6 : Int64) (a8 : Int32) (M : FM) (T : Ty M) : gs (FX98_upper_86 fN k10 a0 a2 a4 a6 a8 M) (GX98_upper_86 a0 a2 a4 a6 a8 M) (kX98_upper k10) (pX98_upper M) := by
  delta FX98_upper_86 BX98_upper_86
  exact And.intro rfl (And.intro (And.intro T.1 T.2) ((ext_r _)))
noncomputable def GX98_upper_80 (a0 : Int64) (a2 : Int64) (a8 : Int32) (a9 : Int64) (s0 : Int64) (M : FM) : (Int64 × Int64 × Int64 × Int64 × Int32 × FM) ⊕ (Int64 × FM) :=
  GX98_upper_86 a0 a2 s0 a9 a8 M
theorem gX98_upper_80 (k10 : Int64 → Int64 → Int64 → Int64 → Int32 → FM → Option (Int64 × FM)) (a0 : Int64) (a2 : Int64) (a8 : Int32) (a9 : Int64) (s0 : Int64) (M : FM) (T : Ty M) : gs (FX98_upper_80 fN k10 a0 a2 a8 a9 s0 M) (GX98_upper_80 a0 a2 a8 a9 s0 M) (kX98_upper k10) (pX98_upper M) := by
  delta FX98_upper_80 BX98_upper_80
  exact gs_t (pX98_upper_t (ext_r _)) (gX98_upper_86 k10 _ _ _ _ _ _ ⟨T.1, T.2⟩  )
noncomputable def GX98_upper_33 (a0 : Int64) (a2 : Int64) (a6 : Int64) (a8 : Int32) (s0 : Int64) (s1 : Int64) (M : FM) : (Int64 × Int64 × Int64 × Int64 × Int32 × FM) ⊕ (Int64 × FM) :=
  let x1 : Int64 := (s0 + s1)
  let x2 : Int64 := ((Int64.ofInt 2) * a6)
  fi ((lg_cmp ((a2 >>> (a8.toInt64 &&& 63)) &&& (Int64.ofInt 1)) (Int64.ofInt 1)) = 0) (
    let x3 : Int64 := (x2 + a0)
    let r4 : Int32 × FM := GX98_isLess x3 x2 M
    fi (r4.1 = 0) (
      GX98_upper_80 a0 a2 a8 x3 x1 r4.2) (
      GX98_upper_80 a0 a2 a8 x3 (x1 + (Int64.ofInt 1)) r4.2)) (
    GX98_upper_86 a0 a2 x1 x2 a8 M)
theorem gX98_upper_33 (k10 : Int64 → Int64 → Int64 → Int64 → Int32 → FM → Option (Int64 × FM)) (a0 : Int64) (a2 : Int64) (a6 : Int64) (a8 : Int32) (s0 : Int64) (s1 : Int64) (M : FM) (T : Ty M) : gs (FX98_upper_33 fN k10 a0 a2 a6 a8 s0 s1 M) (GX98_upper_33 a0 a2 a6 a8 s0 s1 M) (kX98_upper k10) (pX98_upper M) := by
  delta FX98_upper_33 BX98_upper_33
  refine gs_fi (fun c0_0 => ?_) (fun c0_0 => ?_)
  · refine gs_b (gX98_isLess _ _ _ ⟨T.1, T.2⟩  ) (fun K1 => ?_)
    refine gs_fi (fun c2_0 => ?_) (fun c2_0 => ?_)
    · exact gs_t (pX98_upper_t K1.2.1) (gX98_upper_80 k10 _ _ _ _ _ _ ⟨K1.1.1, K1.1.2⟩  )
    · exact gs_t (pX98_upper_t K1.2.1) (gX98_upper_80 k10 _ _ _ _ _ _ ⟨K1.1.1, K1.1.2⟩  )
  · exact gs_t (pX98_upper_t (ext_r _)) (gX98_upper_86 k10 _ _ _ _ _ _ ⟨T.1, T.2⟩  )
noncomputable def GX98_upper_0 (a0 : Int64) (a2 : Int64) (M : FM) : (Int64 × Int64 × Int64 × Int64 × Int32 × FM) ⊕ (Int64 × FM) :=
  (.inl (a0, a2, (Int64.ofInt 0), (Int64.ofInt 0), (Int32.ofInt 63), M))
theorem gX98_upper_0 (k10 : Int64 → Int64 → Int64 → Int64 → Int32 → FM → Option (Int64 × FM)) (a0 : Int64) (a2 : Int64) (M : FM) (T : Ty M) : gs (FX98_upper_0 fN k10 a0 a2 M) (GX98_upper_0 a0 a2 M) (kX98_upper k10) (pX98_upper M) := by
  delta FX98_upper_0 BX98_upper_0
  exact And.intro rfl (And.intro (And.intro T.1 T.2) ((ext_r _)))
noncomputable def GX98_upper_10 (a0 : Int64) (a2 : Int64) (a4 : Int64) (a6 : Int64) (a8 : Int32) (M : FM) : (Int64 × Int64 × Int64 × Int64 × Int32 × FM) ⊕ (Int64 × FM) :=
  fi (a8 < 0) (
    (.inr (a4, M))) (
    fi (0 ≤ (lg_cmp a6 (Int64.ofInt 0))) (
      GX98_upper_33 a0 a2 a6 a8 ((Int64.ofInt 2) * a4) (Int64.ofInt 0) M) (
      GX98_upper_33 a0 a2 a6 a8 ((Int64.ofInt 2) * a4) (Int64.ofInt 1) M))
theorem gX98_upper_10 (k10 : Int64 → Int64 → Int64 → Int64 → Int32 → FM → Option (Int64 × FM)) (a0 : Int64) (a2 : Int64) (a4 : Int64) (a6 : Int64) (a8 : Int32) (M : FM) (T : Ty M) : gs (FX98_upper_10 fN k10 a0 a2 a4 a6 a8 M) (GX98_upper_10 a0 a2 a4 a6 a8 M) (kX98_upper k10) (pX98_upper M) := by
  delta FX98_upper_10 BX98_upper_10
  refine gs_fi (fun c0_0 => ?_) (fun c0_0 => ?_)
  · exact And.intro rfl (And.intro (And.intro T.1 T.2) ((ext_r _)))
  · refine gs_fi (fun c1_0 => ?_) (fun c1_0 => ?_)
    · exact gs_t (pX98_upper_t (ext_r _)) (gX98_upper_33 k10 _ _ _ _ _ _ _ ⟨T.1, T.2⟩  )
    · exact gs_t (pX98_upper_t (ext_r _)) (gX98_upper_33 k10 _ _ _ _ _ _ _ ⟨T.1, T.2⟩  )
noncomputable def GX98_upper (a0 : Int64) (a1 : Int64) (M : FM) : Int64 × FM := (FX98_upper fN a0 a1 M).getD (0, M)
def HX98_upper (a0 : Int64) (a1 : Int64) (M : FM) : Prop := ∃ r, FX98_upper fN a0 a1 M = some r ∧ OkR M r
theorem gX98_upper (a0 : Int64) (a1 : Int64) (M : FM) (h : HX98_upper a0 a1 M) : gd (FX98_upper fN a0 a1 M) (GX98_upper a0 a1 M) (OkR M) := gd_op h
def kX98_divide (k14 : Nat → Int64 → Int64 → Int32 → FM → Option (FM)) : (Nat × Int64 × Int64 × Int32 × FM) ⊕ (FM) → Option (FM)
  | .inl (v0, v1, v2, v3, M') => k14 v0 v1 v2 v3 M'
  | .inr (r) => some r
def pX98_divide (M : FM) : (Nat × Int64 × Int64 × Int32 × FM) ⊕ (FM) → Prop
  | .inl (_, _, _, _, M') => OkV M M'
  | .inr (r) => OkV M r
theorem pX98_divide_t {M M1 : FM} (e : Ext M M1) : ∀ y, pX98_divide M1 y → pX98_divide M y
  | .inl (_, _, _, _, _), h => ⟨h.1, ext_tr e h.2⟩
  | .inr (r), h => ⟨h.1, ext_tr e h.2⟩
noncomputable def GX98_divide_102 (a0 : Nat) (a1 : Int64) (a3 : Int64) (a5 : Int32) (M : FM) : (Nat × Int64 × Int64 × Int32 × FM) ⊕ (FM) :=
  let x1 : Int32 := a5 + (Int32.ofInt (-1))
  (.inl (a0, a1, a3, x1, M))
theorem gX98_divide_102 (k14 : Nat → Int64 → Int64 → Int32 → FM → Option (FM)) (a0 : Nat) (a1 : Int64) (a3 : Int64) (a5 : Int32) (M : FM) (T : Ty M) : gs (FX98_divide_102 fN k14 a0 a1 a3 a5 M) (GX98_divide_102 a0 a1 a3 a5 M) (kX98_divide k14) (pX98_divide M) := by
  delta FX98_divide_102 BX98_divide_102
  exact And.intro rfl (And.intro (And.intro T.1 T.2) ((ext_r _)))
noncomputable def GX98_divide_82 (a0 : Nat) (a1 : Int64) (a3 : Int64) (a5 : Int32) (M : FM) : (Nat × Int64 × Int64 × Int32 × FM) ⊕ (FM) :=
  let M1 : FM := fm_sL M 357 a0 0 ((M.2.1 357 a0 0) - a3)
  let M2 : FM := fm_sL M1 356 a0 0 ((M1.2.1 356 a0 0) + (Int64.ofInt 1))
  GX98_divide_102 a0 a1 a3 a5 M2
theorem gX98_divide_82 (k14 : Nat → Int64 → Int64 → Int32 → FM → Option (FM)) (a0 : Nat) (a1 : Int64) (a3 : Int64) (a5 : Int32) (M : FM) (T : Ty M) (n_a0 : fm_is M 94 94 a0 = true) : gs (FX98_divide_82 fN k14 a0 a1 a3 a5 M) (GX98_divide_82 a0 a1 a3 a5 M) (kX98_divide k14) (pX98_divide M) := by
  delta FX98_divide_82 BX98_divide_82
  refine gs_c n_a0 ?_
  refine gs_c n_a0 ?_
  refine gs_c n_a0 ?_
  refine gs_c n_a0 ?_
  exact gs_t (pX98_divide_t (ext_dL (ext_dL (ext_r _)))) (gX98_divide_102 k14 _ _ _ _ _ ⟨T.1, T.2⟩  )
noncomputable def GX98_divide_33 (a0 : Nat) (a1 : Int64) (a3 : Int64) (a5 : Int32) (s0 : Int32) (M : FM) : (Nat × Int64 × Int64 × Int32 × FM) ⊕ (FM) :=
  let M1 : FM := fm_sL M 357 a0 0 (((Int64.ofInt 2) * (M.2.1 357 a0 0)) + ((a1 >>> (a5.toInt64 &&& 63)) &&& (Int64.ofInt 1)))
  let M2 : FM := fm_sL M1 356 a0 0 ((Int64.ofInt 2) * (M1.2.1 356 a0 0))
  fi (s0 = 0) (
    let r3 : Int32 × FM := GX98_isLess (M2.2.1 357 a0 0) a3 M2
    fi (r3.1 = 0) (
      GX98_divide_82 a0 a1 a3 a5 r3.2) (
      GX98_divide_102 a0 a1 a3 a5 r3.2)) (
    GX98_divide_82 a0 a1 a3 a5 M2)
theorem gX98_divide_33 (k14 : Nat → Int64 → Int64 → Int32 → FM → Option (FM)) (a0 : Nat) (a1 : Int64) (a3 : Int64) (a5 : Int32) (s0 : Int32) (M : FM) (T : Ty M) (n_a0 : fm_is M 94 94 a0 = true) : gs (FX98_divide_33 fN k14 a0 a1 a3 a5 s0 M) (GX98_divide_33 a0 a1 a3 a5 s0 M) (kX98_divide k14) (pX98_divide M) := by
  delta FX98_divide_33 BX98_divide_33
  refine gs_c n_a0 ?_
  refine gs_c n_a0 ?_
  refine gs_c n_a0 ?_
  refine gs_c n_a0 ?_
  refine gs_fi (fun c0_0 => ?_) (fun c0_0 => ?_)
  · refine gs_c n_a0 ?_
    refine gs_b (gX98_isLess _ _ _ ⟨T.1, T.2⟩  ) (fun K1 => ?_)
    refine gs_fi (fun c2_0 => ?_) (fun c2_0 => ?_)
    · have f3 := (ext_is K1.2.1 (Nat.zero_lt_succ _) n_a0)
      exact gs_t (pX98_divide_t (ext_dL (ext_dL K1.2.1))) (gX98_divide_82 k14 _ _ _ _ _ ⟨K1.1.1, K1.1.2⟩ f3 )
    · exact gs_t (pX98_divide_t (ext_dL (ext_dL K1.2.1))) (gX98_divide_102 k14 _ _ _ _ _ ⟨K1.1.1, K1.1.2⟩  )
  · exact gs_t (pX98_divide_t (ext_dL (ext_dL (ext_r _)))) (gX98_divide_82 k14 _ _ _ _ _ ⟨T.1, T.2⟩ n_a0 )
noncomputable def GX98_divide_0 (a0 : Nat) (a1 : Int64) (a3 : Int64) (M : FM) : (Nat × Int64 × Int64 × Int32 × FM) ⊕ (FM) :=
  let M1 : FM := fm_sL M 356 a0 0 (Int64.ofInt 0)
  let M2 : FM := fm_sL M1 357 a0 0 (Int64.ofInt 0)
  (.inl (a0, a1, a3, (Int32.ofInt 63), M2))
theorem gX98_divide_0 (k14 : Nat → Int64 → Int64 → Int32 → FM → Option (FM)) (a0 : Nat) (a1 : Int64) (a3 : Int64) (M : FM) (T : Ty M) (n_a0 : fm_is M 94 94 a0 = true) : gs (FX98_divide_0 fN k14 a0 a1 a3 M) (GX98_divide_0 a0 a1 a3 M) (kX98_divide k14) (pX98_divide M) := by
  delta FX98_divide_0 BX98_divide_0
  refine gs_c n_a0 ?_
  refine gs_c n_a0 ?_
  exact And.intro rfl (And.intro (And.intro T.1 T.2) ((ext_dL (ext_dL (ext_r _)))))
noncomputable def GX98_divide_14 (a0 : Nat) (a1 : Int64) (a3 : Int64) (a5 : Int32) (M : FM) : (Nat × Int64 × Int64 × Int32 × FM) ⊕ (FM) :=
  fi (a5 < 0) (
    (.inr M)) (
    fi (0 ≤ (lg_cmp (M.2.1 357 a0 0) (Int64.ofInt 0))) (
      GX98_divide_33 a0 a1 a3 a5 (Int32.ofInt 0) M) (
      GX98_divide_33 a0 a1 a3 a5 (Int32.ofInt 1) M))
theorem gX98_divide_14 (k14 : Nat → Int64 → Int64 → Int32 → FM → Option (FM)) (a0 : Nat) (a1 : Int64) (a3 : Int64) (a5 : Int32) (M : FM) (T : Ty M) (n_a0 : fm_is M 94 94 a0 = true) : gs (FX98_divide_14 fN k14 a0 a1 a3 a5 M) (GX98_divide_14 a0 a1 a3 a5 M) (kX98_divide k14) (pX98_divide M) := by
  delta FX98_divide_14 BX98_divide_14
  refine gs_fi (fun c0_0 => ?_) (fun c0_0 => ?_)
  · exact And.intro rfl (And.intro (And.intro T.1 T.2) ((ext_r _)))
  · refine gs_c n_a0 ?_
    refine gs_fi (fun c1_0 => ?_) (fun c1_0 => ?_)
    · exact gs_t (pX98_divide_t (ext_r _)) (gX98_divide_33 k14 _ _ _ _ _ _ ⟨T.1, T.2⟩ n_a0 )
    · exact gs_t (pX98_divide_t (ext_r _)) (gX98_divide_33 k14 _ _ _ _ _ _ ⟨T.1, T.2⟩ n_a0 )
noncomputable def GX98_divide (a0 : Nat) (a1 : Int64) (a2 : Int64) (M : FM) : FM := (FX98_divide fN a0 a1 a2 M).getD M
def HX98_divide (a0 : Nat) (a1 : Int64) (a2 : Int64) (M : FM) : Prop := ∃ r, FX98_divide fN a0 a1 a2 M = some r ∧ OkV M r
theorem gX98_divide (a0 : Nat) (a1 : Int64) (a2 : Int64) (M : FM) (h : HX98_divide a0 a1 a2 M) : gd (FX98_divide fN a0 a1 a2 M) (GX98_divide a0 a1 a2 M) (OkV M) := gd_op h
noncomputable def GX98_divideAll_122 (s0 : Nat) (s1 : Int64) (M : FM) : FM :=
  let M1 : FM := fm_sL M 357 s0 0 s1
  M1
theorem gX98_divideAll_122 (s0 : Nat) (s1 : Int64) (M : FM) (T : Ty M) (n_s0 : fm_is M 94 94 s0 = true) : gd (FX98_divideAll_122 fN s0 s1 M) (GX98_divideAll_122 s0 s1 M) (OkV M) := by
  delta FX98_divideAll_122 BX98_divideAll_122
  refine gd_c n_s0 ?_
  exact ⟨rfl, ⟨T.1, T.2⟩, (ext_dL (ext_r _))⟩
noncomputable def GX98_divideAll_101 (a0 : Nat) (a6 : Int32) (s0 : Nat) (s1 : Int64) (M : FM) : FM :=
  let M1 : FM := fm_sL M 356 s0 0 s1
  fi (a6 = 0) (
    GX98_divideAll_122 a0 (M1.2.1 357 a0 0) M1) (
    GX98_divideAll_122 a0 (-(M1.2.1 357 a0 0)) M1)
theorem gX98_divideAll_101 (a0 : Nat) (a6 : Int32) (s0 : Nat) (s1 : Int64) (M : FM) (T : Ty M) (n_s0 : fm_is M 94 94 s0 = true) (n_a0 : fm_is M 94 94 a0 = true) : gd (FX98_divideAll_101 fN a0 a6 s0 s1 M) (GX98_divideAll_101 a0 a6 s0 s1 M) (OkV M) := by
  delta FX98_divideAll_101 BX98_divideAll_101
  refine gd_c n_s0 ?_
  refine gd_fi (fun c0_0 => ?_) (fun c0_0 => ?_)
  · refine gd_c n_a0 ?_
    exact gd_tV (ext_dL (ext_r _)) (gX98_divideAll_122 _ _ _ ⟨T.1, T.2⟩ n_a0 )
  · refine gd_c n_a0 ?_
    exact gd_tV (ext_dL (ext_r _)) (gX98_divideAll_122 _ _ _ ⟨T.1, T.2⟩ n_a0 )
noncomputable def GX98_divideAll_78 (a0 : Nat) (a6 : Int32) (a7 : Int32) (s0 : Nat) (s1 : Int64) (s2 : Int64) (M : FM) : FM :=
  let M1 : FM := GX98_divide s0 s1 s2 M
  fi (a6 = a7) (
    GX98_divideAll_101 a0 a6 a0 (M1.2.1 356 a0 0) M1) (
    GX98_divideAll_101 a0 a6 a0 (-(M1.2.1 356 a0 0)) M1)
def HX98_divideAll_78 (a0 : Nat) (a6 : Int32) (a7 : Int32) (s0 : Nat) (s1 : Int64) (s2 : Int64) (M : FM) : Prop := (HX98_divide s0 s1 s2 M ∧ True)
theorem gX98_divideAll_78 (a0 : Nat) (a6 : Int32) (a7 : Int32) (s0 : Nat) (s1 : Int64) (s2 : Int64) (M : FM) (T : Ty M) (n_s0 : fm_is M 94 94 s0 = true) (n_a0 : fm_is M 94 94 a0 = true) (h : HX98_divideAll_78 a0 a6 a7 s0 s1 s2 M) : gd (FX98_divideAll_78 fN a0 a6 a7 s0 s1 s2 M) (GX98_divideAll_78 a0 a6 a7 s0 s1 s2 M) (OkV M) := by
  delta FX98_divideAll_78 BX98_divideAll_78
  refine gd_c n_s0 ?_
  refine gd_b (gX98_divide _ _ _ _ h.1) (fun K0 => ?_)
  refine gd_fi (fun c1_0 => ?_) (fun c1_0 => ?_)
  · have f2 := (ext_is K0.2 (Nat.zero_lt_succ _) n_a0)
    refine gd_c f2 ?_
    have f3 := (ext_is K0.2 (Nat.zero_lt_succ _) n_a0)
    have f4 := (ext_is K0.2 (Nat.zero_lt_succ _) n_a0)
    exact gd_tV K0.2 (gX98_divideAll_101 _ _ _ _ _ ⟨K0.1.1, K0.1.2⟩ f3 f4 )
  · have f5 := (ext_is K0.2 (Nat.zero_lt_succ _) n_a0)
    refine gd_c f5 ?_
    have f6 := (ext_is K0.2 (Nat.zero_lt_succ _) n_a0)
    have f7 := (ext_is K0.2 (Nat.zero_lt_succ _) n_a0)
    exact gd_tV K0.2 (gX98_divideAll_101 _ _ _ _ _ ⟨K0.1.1, K0.1.2⟩ f6 f7 )
noncomputable def GX98_divideAll_67 (a0 : Nat) (a3 : Int64) (a6 : Int32) (a7 : Int32) (s0 : Nat) (s1 : Int64) (M : FM) : FM :=
  fi (a7 = 0) (
    GX98_divideAll_78 a0 a6 a7 s0 s1 a3 M) (
    GX98_divideAll_78 a0 a6 a7 s0 s1 (-a3) M)
def HX98_divideAll_67 (a0 : Nat) (a3 : Int64) (a6 : Int32) (a7 : Int32) (s0 : Nat) (s1 : Int64) (M : FM) : Prop := ((a7 = 0 → HX98_divideAll_78 a0 a6 a7 s0 s1 a3 M) ∧ (¬ (a7 = 0) → HX98_divideAll_78 a0 a6 a7 s0 s1 (-a3) M))
theorem gX98_divideAll_67 (a0 : Nat) (a3 : Int64) (a6 : Int32) (a7 : Int32) (s0 : Nat) (s1 : Int64) (M : FM) (T : Ty M) (n_s0 : fm_is M 94 94 s0 = true) (n_a0 : fm_is M 94 94 a0 = true) (h : HX98_divideAll_67 a0 a3 a6 a7 s0 s1 M) : gd (FX98_divideAll_67 fN a0 a3 a6 a7 s0 s1 M) (GX98_divideAll_67 a0 a3 a6 a7 s0 s1 M) (OkV M) := by
  delta FX98_divideAll_67 BX98_divideAll_67
  refine gd_fi (fun c0_0 => ?_) (fun c0_0 => ?_)
  · exact gd_tV (ext_r _) (gX98_divideAll_78 _ _ _ _ _ _ _ ⟨T.1, T.2⟩ n_s0 n_a0 (h.1 c0_0))
  · exact gd_tV (ext_r _) (gX98_divideAll_78 _ _ _ _ _ _ _ ⟨T.1, T.2⟩ n_s0 n_a0 (h.2 c0_0))
noncomputable def GX98_divideAll_53 (a0 : Nat) (a1 : Int64) (a3 : Int64) (a6 : Int32) (s0 : Int32) (M : FM) : FM :=
  fi (a6 = 0) (
    GX98_divideAll_67 a0 a3 a6 s0 a0 a1 M) (
    GX98_divideAll_67 a0 a3 a6 s0 a0 (-a1) M)
def HX98_divideAll_53 (a0 : Nat) (a1 : Int64) (a3 : Int64) (a6 : Int32) (s0 : Int32) (M : FM) : Prop := ((a6 = 0 → HX98_divideAll_67 a0 a3 a6 s0 a0 a1 M) ∧ (¬ (a6 = 0) → HX98_divideAll_67 a0 a3 a6 s0 a0 (-a1) M))
theorem gX98_divideAll_53 (a0 : Nat) (a1 : Int64) (a3 : Int64) (a6 : Int32) (s0 : Int32) (M : FM) (T : Ty M) (n_a0 : fm_is M 94 94 a0 = true) (h : HX98_divideAll_53 a0 a1 a3 a6 s0 M) : gd (FX98_divideAll_53 fN a0 a1 a3 a6 s0 M) (GX98_divideAll_53 a0 a1 a3 a6 s0 M) (OkV M) := by
  delta FX98_divideAll_53 BX98_divideAll_53
  refine gd_fi (fun c0_0 => ?_) (fun c0_0 => ?_)
  · exact gd_tV (ext_r _) (gX98_divideAll_67 _ _ _ _ _ _ _ ⟨T.1, T.2⟩ n_a0 n_a0 (h.1 c0_0))
  · exact gd_tV (ext_r _) (gX98_divideAll_67 _ _ _ _ _ _ _ ⟨T.1, T.2⟩ n_a0 n_a0 (h.2 c0_0))
noncomputable def GX98_divideAll_52 (a0 : Nat) (a1 : Int64) (a3 : Int64) (a6 : Int32) (M : FM) : FM :=
  GX98_divideAll_53 a0 a1 a3 a6 (Int32.ofInt 0) M
def HX98_divideAll_52 (a0 : Nat) (a1 : Int64) (a3 : Int64) (a6 : Int32) (M : FM) : Prop := HX98_divideAll_53 a0 a1 a3 a6 (Int32.ofInt 0) M
theorem gX98_divideAll_52 (a0 : Nat) (a1 : Int64) (a3 : Int64) (a6 : Int32) (M : FM) (T : Ty M) (n_a0 : fm_is M 94 94 a0 = true) (h : HX98_divideAll_52 a0 a1 a3 a6 M) : gd (FX98_divideAll_52 fN a0 a1 a3 a6 M) (GX98_divideAll_52 a0 a1 a3 a6 M) (OkV M) := by
  delta FX98_divideAll_52 BX98_divideAll_52
  exact gd_tV (ext_r _) (gX98_divideAll_53 _ _ _ _ _ _ ⟨T.1, T.2⟩ n_a0 h)
noncomputable def GX98_divideAll_35 (a0 : Nat) (a1 : Int64) (a3 : Int64) (a5 : Int32) (s0 : Int32) (M : FM) : FM :=
  fi (a5 = 0) (
    GX98_divideAll_52 a0 a1 a3 s0 M) (
    fi (0 ≤ (lg_cmp a3 (Int64.ofInt 0))) (
      GX98_divideAll_52 a0 a1 a3 s0 M) (
      GX98_divideAll_53 a0 a1 a3 s0 (Int32.ofInt 1) M))
def HX98_divideAll_35 (a0 : Nat) (a1 : Int64) (a3 : Int64) (a5 : Int32) (s0 : Int32) (M : FM) : Prop := ((a5 = 0 → HX98_divideAll_52 a0 a1 a3 s0 M) ∧ (¬ (a5 = 0) → ((0 ≤ (lg_cmp a3 (Int64.ofInt 0)) → HX98_divideAll_52 a0 a1 a3 s0 M) ∧ (¬ (0 ≤ (lg_cmp a3 (Int64.ofInt 0))) → HX98_divideAll_53 a0 a1 a3 s0 (Int32.ofInt 1) M))))
theorem gX98_divideAll_35 (a0 : Nat) (a1 : Int64) (a3 : Int64) (a5 : Int32) (s0 : Int32) (M : FM) (T : Ty M) (n_a0 : fm_is M 94 94 a0 = true) (h : HX98_divideAll_35 a0 a1 a3 a5 s0 M) : gd (FX98_divideAll_35 fN a0 a1 a3 a5 s0 M) (GX98_divideAll_35 a0 a1 a3 a5 s0 M) (OkV M) := by
  delta FX98_divideAll_35 BX98_divideAll_35
  refine gd_fi (fun c0_0 => ?_) (fun c0_0 => ?_)
  · exact gd_tV (ext_r _) (gX98_divideAll_52 _ _ _ _ _ ⟨T.1, T.2⟩ n_a0 (h.1 c0_0))
  · refine gd_fi (fun c1_0 => ?_) (fun c1_0 => ?_)
    · exact gd_tV (ext_r _) (gX98_divideAll_52 _ _ _ _ _ ⟨T.1, T.2⟩ n_a0 ((h.2 c0_0).1 c1_0))
    · exact gd_tV (ext_r _) (gX98_divideAll_53 _ _ _ _ _ _ ⟨T.1, T.2⟩ n_a0 ((h.2 c0_0).2 c1_0))
noncomputable def GX98_divideAll_34 (a0 : Nat) (a1 : Int64) (a3 : Int64) (a5 : Int32) (M : FM) : FM :=
  GX98_divideAll_35 a0 a1 a3 a5 (Int32.ofInt 0) M
def HX98_divideAll_34 (a0 : Nat) (a1 : Int64) (a3 : Int64) (a5 : Int32) (M : FM) : Prop := HX98_divideAll_35 a0 a1 a3 a5 (Int32.ofInt 0) M
theorem gX98_divideAll_34 (a0 : Nat) (a1 : Int64) (a3 : Int64) (a5 : Int32) (M : FM) (T : Ty M) (n_a0 : fm_is M 94 94 a0 = true) (h : HX98_divideAll_34 a0 a1 a3 a5 M) : gd (FX98_divideAll_34 fN a0 a1 a3 a5 M) (GX98_divideAll_34 a0 a1 a3 a5 M) (OkV M) := by
  delta FX98_divideAll_34 BX98_divideAll_34
  exact gd_tV (ext_r _) (gX98_divideAll_35 _ _ _ _ _ _ ⟨T.1, T.2⟩ n_a0 h)
noncomputable def GX98_divideAll_0 (a0 : Nat) (a1 : Int64) (a3 : Int64) (a5 : Int32) (M : FM) : FM :=
  fi ((lg_cmp a3 (Int64.ofInt 0)) = 0) (
    let M1 : FM := fm_sL M 356 a0 0 (Int64.ofInt (-1))
    let M2 : FM := fm_sL M1 357 a0 0 a1
    M2) (
    fi (a5 = 0) (
      GX98_divideAll_34 a0 a1 a3 a5 M) (
      fi (0 ≤ (lg_cmp a1 (Int64.ofInt 0))) (
        GX98_divideAll_34 a0 a1 a3 a5 M) (
        GX98_divideAll_35 a0 a1 a3 a5 (Int32.ofInt 1) M)))
def HX98_divideAll_0 (a0 : Nat) (a1 : Int64) (a3 : Int64) (a5 : Int32) (M : FM) : Prop := (((lg_cmp a3 (Int64.ofInt 0)) = 0 → True) ∧ (¬ ((lg_cmp a3 (Int64.ofInt 0)) = 0) → ((a5 = 0 → HX98_divideAll_34 a0 a1 a3 a5 M) ∧ (¬ (a5 = 0) → ((0 ≤ (lg_cmp a1 (Int64.ofInt 0)) → HX98_divideAll_34 a0 a1 a3 a5 M) ∧ (¬ (0 ≤ (lg_cmp a1 (Int64.ofInt 0))) → HX98_divideAll_35 a0 a1 a3 a5 (Int32.ofInt 1) M))))))
theorem gX98_divideAll_0 (a0 : Nat) (a1 : Int64) (a3 : Int64) (a5 : Int32) (M : FM) (T : Ty M) (n_a0 : fm_is M 94 94 a0 = true) (h : HX98_divideAll_0 a0 a1 a3 a5 M) : gd (FX98_divideAll_0 fN a0 a1 a3 a5 M) (GX98_divideAll_0 a0 a1 a3 a5 M) (OkV M) := by
  delta FX98_divideAll_0 BX98_divideAll_0
  refine gd_fi (fun c0_0 => ?_) (fun c0_0 => ?_)
  · refine gd_c n_a0 ?_
    refine gd_c n_a0 ?_
    exact ⟨rfl, ⟨T.1, T.2⟩, (ext_dL (ext_dL (ext_r _)))⟩
  · refine gd_fi (fun c1_0 => ?_) (fun c1_0 => ?_)
    · exact gd_tV (ext_r _) (gX98_divideAll_34 _ _ _ _ _ ⟨T.1, T.2⟩ n_a0 ((h.2 c0_0).1 c1_0))
    · refine gd_fi (fun c2_0 => ?_) (fun c2_0 => ?_)
      · exact gd_tV (ext_r _) (gX98_divideAll_34 _ _ _ _ _ ⟨T.1, T.2⟩ n_a0 (((h.2 c0_0).2 c1_0).1 c2_0))
      · exact gd_tV (ext_r _) (gX98_divideAll_35 _ _ _ _ _ _ ⟨T.1, T.2⟩ n_a0 (((h.2 c0_0).2 c1_0).2 c2_0))
noncomputable def GX98_divideAll (a0 : Nat) (a1 : Int64) (a3 : Int64) (a5 : Int32) (M : FM) : FM := GX98_divideAll_0 a0 a1 a3 a5 M
def HX98_divideAll (a0 : Nat) (a1 : Int64) (a3 : Int64) (a5 : Int32) (M : FM) : Prop := HX98_divideAll_0 a0 a1 a3 a5 M
theorem gX98_divideAll (a0 : Nat) (a1 : Int64) (a3 : Int64) (a5 : Int32) (M : FM) (T : Ty M) (n_a0 : fm_is M 94 94 a0 = true) (h : HX98_divideAll a0 a1 a3 a5 M) : gd (FX98_divideAll fN a0 a1 a3 a5 M) (GX98_divideAll a0 a1 a3 a5 M) (OkV M) := gX98_divideAll_0 a0 a1 a3 a5 M T n_a0 h
noncomputable def GX98_product_177 (s0 : Int64) (M : FM) : Int64 × FM :=
  (s0, M)
theorem gX98_product_177 (s0 : Int64) (M : FM) (T : Ty M) : gd (FX98_product_177 fN s0 M) (GX98_product_177 s0 M) (OkR M) := by
  delta FX98_product_177 BX98_product_177
  exact ⟨rfl, ⟨T.1, T.2⟩, (ext_r _)⟩
noncomputable def GX98_product_157 (a0 : Nat) (a1 : Int32) (s0 : Nat) (s1 : Int64) (s2 : Int64) (s3 : Int32) (M : FM) : Int64 × FM :=
  let M1 : FM := GX98_divideAll s0 s1 s2 s3 M
  fi ((Int32.ofInt 6) ≤ a1) (
    GX98_product_177 (M1.2.1 357 a0 0) M1) (
    GX98_product_177 (M1.2.1 356 a0 0) M1)
def HX98_product_157 (a0 : Nat) (a1 : Int32) (s0 : Nat) (s1 : Int64) (s2 : Int64) (s3 : Int32) (M : FM) : Prop := (HX98_divideAll s0 s1 s2 s3 M ∧ True)
theorem gX98_product_157 (a0 : Nat) (a1 : Int32) (s0 : Nat) (s1 : Int64) (s2 : Int64) (s3 : Int32) (M : FM) (T : Ty M) (n_s0 : fm_is M 94 94 s0 = true) (n_a0 : fm_is M 94 94 a0 = true) (h : HX98_product_157 a0 a1 s0 s1 s2 s3 M) : gd (FX98_product_157 fN a0 a1 s0 s1 s2 s3 M) (GX98_product_157 a0 a1 s0 s1 s2 s3 M) (OkR M) := by
  delta FX98_product_157 BX98_product_157
  refine gd_c n_s0 ?_
  refine gd_b (gX98_divideAll _ _ _ _ _ ⟨T.1, T.2⟩ n_s0 h.1) (fun K0 => ?_)
  refine gd_fi (fun c1_0 => ?_) (fun c1_0 => ?_)
  · have f2 := (ext_is K0.2 (Nat.zero_lt_succ _) n_a0)
    refine gd_c f2 ?_
    exact gd_tR K0.2 (gX98_product_177 _ _ ⟨K0.1.1, K0.1.2⟩  )
  · have f3 := (ext_is K0.2 (Nat.zero_lt_succ _) n_a0)
    refine gd_c f3 ?_
    exact gd_tR K0.2 (gX98_product_177 _ _ ⟨K0.1.1, K0.1.2⟩  )
noncomputable def GX98_product_152 (a0 : Nat) (a1 : Int32) (s0 : Nat) (s1 : Int64) (s2 : Int64) (M : FM) : Int64 × FM :=
  GX98_product_157 a0 a1 s0 s1 s2 (Int32.ofInt 1) M
def HX98_product_152 (a0 : Nat) (a1 : Int32) (s0 : Nat) (s1 : Int64) (s2 : Int64) (M : FM) : Prop := HX98_product_157 a0 a1 s0 s1 s2 (Int32.ofInt 1) M
theorem gX98_product_152 (a0 : Nat) (a1 : Int32) (s0 : Nat) (s1 : Int64) (s2 : Int64) (M : FM) (T : Ty M) (n_s0 : fm_is M 94 94 s0 = true) (n_a0 : fm_is M 94 94 a0 = true) (h : HX98_product_152 a0 a1 s0 s1 s2 M) : gd (FX98_product_152 fN a0 a1 s0 s1 s2 M) (GX98_product_152 a0 a1 s0 s1 s2 M) (OkR M) := by
  delta FX98_product_152 BX98_product_152
  exact gd_tR (ext_r _) (gX98_product_157 _ _ _ _ _ _ _ ⟨T.1, T.2⟩ n_s0 n_a0 h)
noncomputable def GX98_product_118 (s0 : Int64) (s1 : Int64) (M : FM) : Int64 × FM :=
  ((s0 - s1), M)
theorem gX98_product_118 (s0 : Int64) (s1 : Int64) (M : FM) (T : Ty M) : gd (FX98_product_118 fN s0 s1 M) (GX98_product_118 s0 s1 M) (OkR M) := by
  delta FX98_product_118 BX98_product_118
  exact ⟨rfl, ⟨T.1, T.2⟩, (ext_r _)⟩
noncomputable def GX98_product_88 (s0 : Int64) (s1 : Int64) (M : FM) : Int64 × FM :=
  ((s0 - s1), M)
theorem gX98_product_88 (s0 : Int64) (s1 : Int64) (M : FM) (T : Ty M) : gd (FX98_product_88 fN s0 s1 M) (GX98_product_88 s0 s1 M) (OkR M) := by
  delta FX98_product_88 BX98_product_88
  exact ⟨rfl, ⟨T.1, T.2⟩, (ext_r _)⟩
noncomputable def GX98_product_70 (a0 : Nat) (s0 : Int64) (s1 : Int64) (M : FM) : Int64 × FM :=
  fi (0 ≤ (lg_cmp (M.2.1 352 a0 0) (Int64.ofInt 0))) (
    GX98_product_88 (s0 - s1) (Int64.ofInt 0) M) (
    GX98_product_88 (s0 - s1) (M.2.1 351 a0 0) M)
theorem gX98_product_70 (a0 : Nat) (s0 : Int64) (s1 : Int64) (M : FM) (T : Ty M) (n_a0 : fm_is M 94 94 a0 = true) : gd (FX98_product_70 fN a0 s0 s1 M) (GX98_product_70 a0 s0 s1 M) (OkR M) := by
  delta FX98_product_70 BX98_product_70
  refine gd_c n_a0 ?_
  refine gd_fi (fun c0_0 => ?_) (fun c0_0 => ?_)
  · exact gd_tR (ext_r _) (gX98_product_88 _ _ _ ⟨T.1, T.2⟩  )
  · refine gd_c n_a0 ?_
    exact gd_tR (ext_r _) (gX98_product_88 _ _ _ ⟨T.1, T.2⟩  )
noncomputable def GX98_product_0 (a0 : Nat) (a1 : Int32) (M : FM) : Int64 × FM :=
  fi (a1 = (Int32.ofInt 0)) (
    (((M.2.1 351 a0 0) * (M.2.1 352 a0 0)), M)) (
    fi (a1 = (Int32.ofInt 1)) (
      let r1 : Int64 × FM := GX98_upper (M.2.1 351 a0 0) (M.2.1 352 a0 0) M
      fi (0 ≤ (lg_cmp (r1.2.2.1 351 a0 0) (Int64.ofInt 0))) (
        GX98_product_70 a0 r1.1 (Int64.ofInt 0) r1.2) (
        GX98_product_70 a0 r1.1 (r1.2.2.1 352 a0 0) r1.2)) (
      fi (a1 = (Int32.ofInt 2)) (
        let r2 : Int64 × FM := GX98_upper (M.2.1 351 a0 0) (M.2.1 352 a0 0) M
        fi (0 ≤ (lg_cmp (r2.2.2.1 351 a0 0) (Int64.ofInt 0))) (
          GX98_product_118 r2.1 (Int64.ofInt 0) r2.2) (
          GX98_product_118 r2.1 (r2.2.2.1 352 a0 0) r2.2)) (
        fi (a1 = (Int32.ofInt 3)) (
          let r3 : Int64 × FM := GX98_upper (M.2.1 351 a0 0) (M.2.1 352 a0 0) M
          (r3.1, r3.2)) (
          fi (a1 = (Int32.ofInt 4)) (
            GX98_product_152 a0 a1 a0 (M.2.1 351 a0 0) (M.2.1 352 a0 0) M) (
            fi (a1 = (Int32.ofInt 6)) (
              GX98_product_152 a0 a1 a0 (M.2.1 351 a0 0) (M.2.1 352 a0 0) M) (
              GX98_product_157 a0 a1 a0 (M.2.1 351 a0 0) (M.2.1 352 a0 0) (Int32.ofInt 0) M))))))
def HX98_product_0 (a0 : Nat) (a1 : Int32) (M : FM) : Prop := ((a1 = (Int32.ofInt 0) → True) ∧ (¬ (a1 = (Int32.ofInt 0)) → ((a1 = (Int32.ofInt 1) → (HX98_upper (M.2.1 351 a0 0) (M.2.1 352 a0 0) M ∧ True)) ∧ (¬ (a1 = (Int32.ofInt 1)) → ((a1 = (Int32.ofInt 2) → (HX98_upper (M.2.1 351 a0 0) (M.2.1 352 a0 0) M ∧ True)) ∧ (¬ (a1 = (Int32.ofInt 2)) → ((a1 = (Int32.ofInt 3) → (HX98_upper (M.2.1 351 a0 0) (M.2.1 352 a0 0) M ∧ True)) ∧ (¬ (a1 = (Int32.ofInt 3)) → ((a1 = (Int32.ofInt 4) → HX98_product_152 a0 a1 a0 (M.2.1 351 a0 0) (M.2.1 352 a0 0) M) ∧ (¬ (a1 = (Int32.ofInt 4)) → ((a1 = (Int32.ofInt 6) → HX98_product_152 a0 a1 a0 (M.2.1 351 a0 0) (M.2.1 352 a0 0) M) ∧ (¬ (a1 = (Int32.ofInt 6)) → HX98_product_157 a0 a1 a0 (M.2.1 351 a0 0) (M.2.1 352 a0 0) (Int32.ofInt 0) M))))))))))))
theorem gX98_product_0 (a0 : Nat) (a1 : Int32) (M : FM) (T : Ty M) (n_a0 : fm_is M 94 94 a0 = true) (h : HX98_product_0 a0 a1 M) : gd (FX98_product_0 fN a0 a1 M) (GX98_product_0 a0 a1 M) (OkR M) := by
  delta FX98_product_0 BX98_product_0
  refine gd_fi (fun c0_0 => ?_) (fun c0_0 => ?_)
  · refine gd_c n_a0 ?_
    refine gd_c n_a0 ?_
    exact ⟨rfl, ⟨T.1, T.2⟩, (ext_r _)⟩
  · refine gd_fi (fun c1_1 => ?_) (fun c1_1 => ?_)
    · refine gd_c n_a0 ?_
      refine gd_c n_a0 ?_
      refine gd_b (gX98_upper _ _ _ ((h.2 c0_0).1 c1_1).1) (fun K2 => ?_)
      have f3 := (ext_is K2.2 (Nat.zero_lt_succ _) n_a0)
      refine gd_c f3 ?_
      refine gd_fi (fun c4_0 => ?_) (fun c4_0 => ?_)
      · have f5 := (ext_is K2.2 (Nat.zero_lt_succ _) n_a0)
        exact gd_tR K2.2 (gX98_product_70 _ _ _ _ ⟨K2.1.1, K2.1.2⟩ f5 )
      · have f6 := (ext_is K2.2 (Nat.zero_lt_succ _) n_a0)
        refine gd_c f6 ?_
        have f7 := (ext_is K2.2 (Nat.zero_lt_succ _) n_a0)
        exact gd_tR K2.2 (gX98_product_70 _ _ _ _ ⟨K2.1.1, K2.1.2⟩ f7 )
    · refine gd_fi (fun c8_2 => ?_) (fun c8_2 => ?_)
      · refine gd_c n_a0 ?_
        refine gd_c n_a0 ?_
        refine gd_b (gX98_upper _ _ _ (((h.2 c0_0).2 c1_1).1 c8_2).1) (fun K9 => ?_)
        have f10 := (ext_is K9.2 (Nat.zero_lt_succ _) n_a0)
        refine gd_c f10 ?_
        refine gd_fi (fun c11_0 => ?_) (fun c11_0 => ?_)
        · exact gd_tR K9.2 (gX98_product_118 _ _ _ ⟨K9.1.1, K9.1.2⟩  )
        · have f12 := (ext_is K9.2 (Nat.zero_lt_succ _) n_a0)
          refine gd_c f12 ?_
          exact gd_tR K9.2 (gX98_product_118 _ _ _ ⟨K9.1.1, K9.1.2⟩  )
      · refine gd_fi (fun c13_3 => ?_) (fun c13_3 => ?_)
        · refine gd_c n_a0 ?_
          refine gd_c n_a0 ?_
          refine gd_b (gX98_upper _ _ _ ((((h.2 c0_0).2 c1_1).2 c8_2).1 c13_3).1) (fun K14 => ?_)
          exact ⟨rfl, ⟨K14.1.1, K14.1.2⟩, K14.2⟩
        · refine gd_c n_a0 ?_
          refine gd_c n_a0 ?_
          refine gd_fi (fun c15_0 => ?_) (fun c15_0 => ?_)
          · exact gd_tR (ext_r _) (gX98_product_152 _ _ _ _ _ _ ⟨T.1, T.2⟩ n_a0 n_a0 (((((h.2 c0_0).2 c1_1).2 c8_2).2 c13_3).1 c15_0))
          · refine gd_fi (fun c16_0 => ?_) (fun c16_0 => ?_)
            · exact gd_tR (ext_r _) (gX98_product_152 _ _ _ _ _ _ ⟨T.1, T.2⟩ n_a0 n_a0 ((((((h.2 c0_0).2 c1_1).2 c8_2).2 c13_3).2 c15_0).1 c16_0))
            · exact gd_tR (ext_r _) (gX98_product_157 _ _ _ _ _ _ _ ⟨T.1, T.2⟩ n_a0 n_a0 ((((((h.2 c0_0).2 c1_1).2 c8_2).2 c13_3).2 c15_0).2 c16_0))
noncomputable def GX98_product (a0 : Nat) (a1 : Int32) (M : FM) : Int64 × FM := GX98_product_0 a0 a1 M
def HX98_product (a0 : Nat) (a1 : Int32) (M : FM) : Prop := HX98_product_0 a0 a1 M
theorem gX98_product (a0 : Nat) (a1 : Int32) (M : FM) (T : Ty M) (n_a0 : fm_is M 94 94 a0 = true) (h : HX98_product a0 a1 M) : gd (FX98_product fN a0 a1 M) (GX98_product a0 a1 M) (OkR M) := gX98_product_0 a0 a1 M T n_a0 h
noncomputable def GX98_withRegister_98 (s0 : Int32) (M : FM) : Int32 × FM :=
  (s0, M)
theorem gX98_withRegister_98 (s0 : Int32) (M : FM) (T : Ty M) : gd (FX98_withRegister_98 fN s0 M) (GX98_withRegister_98 s0 M) (OkR M) := by
  delta FX98_withRegister_98 BX98_withRegister_98
  exact ⟨rfl, ⟨T.1, T.2⟩, (ext_r _)⟩
noncomputable def GX98_withRegister_79 (a0 : Nat) (a1 : Int32) (a2 : Int32) (a3 : Int32) (M : FM) : Int32 × FM :=
  fi (a3 = (Int32.ofInt 1)) (
    let r1 : Int64 × FM := GX98_product a0 a2 M
    let r2 : Int32 × FM := GX98_done a0 a1 r1.1 r1.2
    GX98_withRegister_98 r2.1 r2.2) (
    GX98_withRegister_98 (Int32.ofInt (-1)) M)
def HX98_withRegister_79 (a0 : Nat) (a1 : Int32) (a2 : Int32) (a3 : Int32) (M : FM) : Prop := ((a3 = (Int32.ofInt 1) → (HX98_product a0 a2 M ∧ let r1 : Int64 × FM := GX98_product a0 a2 M; (HX98_done a0 a1 r1.1 r1.2 ∧ True))) ∧ (¬ (a3 = (Int32.ofInt 1)) → True))
theorem gX98_withRegister_79 (a0 : Nat) (a1 : Int32) (a2 : Int32) (a3 : Int32) (M : FM) (T : Ty M) (n_a0 : fm_is M 94 94 a0 = true) (h : HX98_withRegister_79 a0 a1 a2 a3 M) : gd (FX98_withRegister_79 fN a0 a1 a2 a3 M) (GX98_withRegister_79 a0 a1 a2 a3 M) (OkR M) := by
  delta FX98_withRegister_79 BX98_withRegister_79
  refine gd_fi (fun c0_0 => ?_) (fun c0_0 => ?_)
  · refine gd_c n_a0 ?_
    refine gd_b (gX98_product _ _ _ ⟨T.1, T.2⟩ n_a0 (h.1 c0_0).1) (fun K1 => ?_)
    have f2 := (ext_is K1.2 (Nat.zero_lt_succ _) n_a0)
    refine gd_c f2 ?_
    have f4 := (ext_is K1.2 (Nat.zero_lt_succ _) n_a0)
    refine gd_b (gX98_done _ _ _ _ ⟨K1.1.1, K1.1.2⟩ f4 (h.1 c0_0).2.1) (fun K3 => ?_)
    exact gd_tR (ext_tr K1.2 K3.2) (gX98_withRegister_98 _ _ ⟨K3.1.1, K3.1.2⟩  )
  · exact gd_tR (ext_r _) (gX98_withRegister_98 _ _ ⟨T.1, T.2⟩  )
noncomputable def GX98_withRegister_75 (s0 : Nat) (s1 : Int32) (s2 : Int64) (M : FM) : Int32 × FM :=
  let r1 : Int32 × FM := GX98_done s0 s1 s2 M
  (r1.1, r1.2)
def HX98_withRegister_75 (s0 : Nat) (s1 : Int32) (s2 : Int64) (M : FM) : Prop := (HX98_done s0 s1 s2 M ∧ True)
theorem gX98_withRegister_75 (s0 : Nat) (s1 : Int32) (s2 : Int64) (M : FM) (T : Ty M) (n_s0 : fm_is M 94 94 s0 = true) (h : HX98_withRegister_75 s0 s1 s2 M) : gd (FX98_withRegister_75 fN s0 s1 s2 M) (GX98_withRegister_75 s0 s1 s2 M) (OkR M) := by
  delta FX98_withRegister_75 BX98_withRegister_75
  refine gd_c n_s0 ?_
  refine gd_b (gX98_done _ _ _ _ ⟨T.1, T.2⟩ n_s0 h.1) (fun K0 => ?_)
  exact ⟨rfl, ⟨K0.1.1, K0.1.2⟩, K0.2⟩
noncomputable def GX98_withRegister_50 (a0 : Nat) (a1 : Int32) (a2 : Int32) (a4 : Int32) (M : FM) : Int32 × FM :=
  fi (a2 = 0) (
    GX98_withRegister_75 a0 a1 ((M.2.1 351 a0 0) - (M.2.1 352 a0 0)) M) (
    GX98_withRegister_75 a0 a1 ((M.2.1 351 a0 0) >>> (a4.toInt64 &&& 63)) M)
def HX98_withRegister_50 (a0 : Nat) (a1 : Int32) (a2 : Int32) (a4 : Int32) (M : FM) : Prop := ((a2 = 0 → HX98_withRegister_75 a0 a1 ((M.2.1 351 a0 0) - (M.2.1 352 a0 0)) M) ∧ (¬ (a2 = 0) → HX98_withRegister_75 a0 a1 ((M.2.1 351 a0 0) >>> (a4.toInt64 &&& 63)) M))
theorem gX98_withRegister_50 (a0 : Nat) (a1 : Int32) (a2 : Int32) (a4 : Int32) (M : FM) (T : Ty M) (n_a0 : fm_is M 94 94 a0 = true) (h : HX98_withRegister_50 a0 a1 a2 a4 M) : gd (FX98_withRegister_50 fN a0 a1 a2 a4 M) (GX98_withRegister_50 a0 a1 a2 a4 M) (OkR M) := by
  delta FX98_withRegister_50 BX98_withRegister_50
  refine gd_fi (fun c0_0 => ?_) (fun c0_0 => ?_)
  · refine gd_c n_a0 ?_
    refine gd_c n_a0 ?_
    exact gd_tR (ext_r _) (gX98_withRegister_75 _ _ _ _ ⟨T.1, T.2⟩ n_a0 (h.1 c0_0))
  · refine gd_c n_a0 ?_
    exact gd_tR (ext_r _) (gX98_withRegister_75 _ _ _ _ ⟨T.1, T.2⟩ n_a0 (h.2 c0_0))
noncomputable def GX98_withRegister_0 (a0 : Nat) (a1 : Int32) (a2 : Int32) (a3 : Int32) (M : FM) : Int32 × FM :=
  let x1 : Int32 := ((M.2.1 352 a0 0) &&& (Int64.ofInt 63)).toInt32
  fi (a3 = 0) (
    let r2 : Int64 × FM := GX98_plain a2 (M.2.1 351 a0 0) (M.2.1 352 a0 0) x1 M
    let r3 : Int32 × FM := GX98_done a0 a1 r2.1 r2.2
    (r3.1, r3.2)) (
    fi (a3 = (Int32.ofInt 32)) (
      fi (a2 = 0) (
        GX98_withRegister_50 a0 a1 a2 x1 M) (
        fi (a2 = (Int32.ofInt 5)) (
          GX98_withRegister_50 a0 a1 a2 x1 M) (
          GX98_withRegister_79 a0 a1 a2 a3 M))) (
      GX98_withRegister_79 a0 a1 a2 a3 M))
def HX98_withRegister_0 (a0 : Nat) (a1 : Int32) (a2 : Int32) (a3 : Int32) (M : FM) : Prop := let x1 : Int32 := ((M.2.1 352 a0 0) &&& (Int64.ofInt 63)).toInt32; ((a3 = 0 → let r2 : Int64 × FM := GX98_plain a2 (M.2.1 351 a0 0) (M.2.1 352 a0 0) x1 M; (HX98_done a0 a1 r2.1 r2.2 ∧ True)) ∧ (¬ (a3 = 0) → ((a3 = (Int32.ofInt 32) → ((a2 = 0 → HX98_withRegister_50 a0 a1 a2 x1 M) ∧ (¬ (a2 = 0) → ((a2 = (Int32.ofInt 5) → HX98_withRegister_50 a0 a1 a2 x1 M) ∧ (¬ (a2 = (Int32.ofInt 5)) → HX98_withRegister_79 a0 a1 a2 a3 M))))) ∧ (¬ (a3 = (Int32.ofInt 32)) → HX98_withRegister_79 a0 a1 a2 a3 M))))
theorem gX98_withRegister_0 (a0 : Nat) (a1 : Int32) (a2 : Int32) (a3 : Int32) (M : FM) (T : Ty M) (n_a0 : fm_is M 94 94 a0 = true) (h : HX98_withRegister_0 a0 a1 a2 a3 M) : gd (FX98_withRegister_0 fN a0 a1 a2 a3 M) (GX98_withRegister_0 a0 a1 a2 a3 M) (OkR M) := by
  delta FX98_withRegister_0 BX98_withRegister_0
  refine gd_c n_a0 ?_
  refine gd_fi (fun c0_0 => ?_) (fun c0_0 => ?_)
  · refine gd_c n_a0 ?_
    refine gd_c n_a0 ?_
    refine gd_b (gX98_plain _ _ _ _ _ ⟨T.1, T.2⟩  ) (fun K1 => ?_)
    have f2 := (ext_is K1.2 (Nat.zero_lt_succ _) n_a0)
    refine gd_c f2 ?_
    have f4 := (ext_is K1.2 (Nat.zero_lt_succ _) n_a0)
    refine gd_b (gX98_done _ _ _ _ ⟨K1.1.1, K1.1.2⟩ f4 (h.1 c0_0).1) (fun K3 => ?_)
    exact ⟨rfl, ⟨K3.1.1, K3.1.2⟩, (ext_tr K1.2 K3.2)⟩
  · refine gd_fi (fun c5_0 => ?_) (fun c5_0 => ?_)
    · refine gd_fi (fun c6_0 => ?_) (fun c6_0 => ?_)
      · exact gd_tR (ext_r _) (gX98_withRegister_50 _ _ _ _ _ ⟨T.1, T.2⟩ n_a0 (((h.2 c0_0).1 c5_0).1 c6_0))
      · refine gd_fi (fun c7_0 => ?_) (fun c7_0 => ?_)
        · exact gd_tR (ext_r _) (gX98_withRegister_50 _ _ _ _ _ ⟨T.1, T.2⟩ n_a0 ((((h.2 c0_0).1 c5_0).2 c6_0).1 c7_0))
        · exact gd_tR (ext_r _) (gX98_withRegister_79 _ _ _ _ _ ⟨T.1, T.2⟩ n_a0 ((((h.2 c0_0).1 c5_0).2 c6_0).2 c7_0))
    · exact gd_tR (ext_r _) (gX98_withRegister_79 _ _ _ _ _ ⟨T.1, T.2⟩ n_a0 ((h.2 c0_0).2 c5_0))
noncomputable def GX98_withRegister (a0 : Nat) (a1 : Int32) (a2 : Int32) (a3 : Int32) (M : FM) : Int32 × FM := GX98_withRegister_0 a0 a1 a2 a3 M
def HX98_withRegister (a0 : Nat) (a1 : Int32) (a2 : Int32) (a3 : Int32) (M : FM) : Prop := HX98_withRegister_0 a0 a1 a2 a3 M
theorem gX98_withRegister (a0 : Nat) (a1 : Int32) (a2 : Int32) (a3 : Int32) (M : FM) (T : Ty M) (n_a0 : fm_is M 94 94 a0 = true) (h : HX98_withRegister a0 a1 a2 a3 M) : gd (FX98_withRegister fN a0 a1 a2 a3 M) (GX98_withRegister a0 a1 a2 a3 M) (OkR M) := gX98_withRegister_0 a0 a1 a2 a3 M T n_a0 h
noncomputable def GX98_intProduct_111 (s0 : Nat) (s1 : Int32) (s2 : Int64) (M : FM) : Int32 × FM :=
  let r1 : Int32 × FM := GX98_done s0 s1 s2.toInt32.toInt64 M
  (r1.1, r1.2)
def HX98_intProduct_111 (s0 : Nat) (s1 : Int32) (s2 : Int64) (M : FM) : Prop := (HX98_done s0 s1 s2.toInt32.toInt64 M ∧ True)
theorem gX98_intProduct_111 (s0 : Nat) (s1 : Int32) (s2 : Int64) (M : FM) (T : Ty M) (n_s0 : fm_is M 94 94 s0 = true) (h : HX98_intProduct_111 s0 s1 s2 M) : gd (FX98_intProduct_111 fN s0 s1 s2 M) (GX98_intProduct_111 s0 s1 s2 M) (OkR M) := by
  delta FX98_intProduct_111 BX98_intProduct_111
  refine gd_c n_s0 ?_
  refine gd_b (gX98_done _ _ _ _ ⟨T.1, T.2⟩ n_s0 h.1) (fun K0 => ?_)
  exact ⟨rfl, ⟨K0.1.1, K0.1.2⟩, K0.2⟩
noncomputable def GX98_intProduct_88 (a0 : Nat) (a1 : Int32) (a2 : Int32) (a3 : Int32) (s0 : Nat) (s1 : Int64) (s2 : Int64) (M : FM) : Int32 × FM :=
  let M1 : FM := GX98_divideAll s0 s1 s2 a3 M
  fi ((Int32.ofInt 6) ≤ a2) (
    GX98_intProduct_111 a0 a1 (M1.2.1 357 a0 0) M1) (
    GX98_intProduct_111 a0 a1 (M1.2.1 356 a0 0) M1)
def HX98_intProduct_88 (a0 : Nat) (a1 : Int32) (a2 : Int32) (a3 : Int32) (s0 : Nat) (s1 : Int64) (s2 : Int64) (M : FM) : Prop := (HX98_divideAll s0 s1 s2 a3 M ∧ let M1 : FM := GX98_divideAll s0 s1 s2 a3 M; (((Int32.ofInt 6) ≤ a2 → HX98_intProduct_111 a0 a1 (M1.2.1 357 a0 0) M1) ∧ (¬ ((Int32.ofInt 6) ≤ a2) → HX98_intProduct_111 a0 a1 (M1.2.1 356 a0 0) M1)))
theorem gX98_intProduct_88 (a0 : Nat) (a1 : Int32) (a2 : Int32) (a3 : Int32) (s0 : Nat) (s1 : Int64) (s2 : Int64) (M : FM) (T : Ty M) (n_s0 : fm_is M 94 94 s0 = true) (n_a0 : fm_is M 94 94 a0 = true) (h : HX98_intProduct_88 a0 a1 a2 a3 s0 s1 s2 M) : gd (FX98_intProduct_88 fN a0 a1 a2 a3 s0 s1 s2 M) (GX98_intProduct_88 a0 a1 a2 a3 s0 s1 s2 M) (OkR M) := by
  delta FX98_intProduct_88 BX98_intProduct_88
  refine gd_c n_s0 ?_
  refine gd_b (gX98_divideAll _ _ _ _ _ ⟨T.1, T.2⟩ n_s0 h.1) (fun K0 => ?_)
  refine gd_fi (fun c1_0 => ?_) (fun c1_0 => ?_)
  · have f2 := (ext_is K0.2 (Nat.zero_lt_succ _) n_a0)
    refine gd_c f2 ?_
    have f3 := (ext_is K0.2 (Nat.zero_lt_succ _) n_a0)
    exact gd_tR K0.2 (gX98_intProduct_111 _ _ _ _ ⟨K0.1.1, K0.1.2⟩ f3 (h.2.1 c1_0))
  · have f4 := (ext_is K0.2 (Nat.zero_lt_succ _) n_a0)
    refine gd_c f4 ?_
    have f5 := (ext_is K0.2 (Nat.zero_lt_succ _) n_a0)
    exact gd_tR K0.2 (gX98_intProduct_111 _ _ _ _ ⟨K0.1.1, K0.1.2⟩ f5 (h.2.2 c1_0))
noncomputable def GX98_intProduct_67 (a0 : Nat) (a1 : Int32) (a2 : Int32) (a3 : Int32) (s0 : Nat) (s1 : Int64) (M : FM) : Int32 × FM :=
  fi (a3 = 0) (
    GX98_intProduct_88 a0 a1 a2 a3 s0 s1 ((M.2.1 352 a0 0) &&& (Int64.ofInt 4294967295)) M) (
    GX98_intProduct_88 a0 a1 a2 a3 s0 s1 (((M.2.1 352 a0 0).toInt32).toInt64) M)
def HX98_intProduct_67 (a0 : Nat) (a1 : Int32) (a2 : Int32) (a3 : Int32) (s0 : Nat) (s1 : Int64) (M : FM) : Prop := ((a3 = 0 → HX98_intProduct_88 a0 a1 a2 a3 s0 s1 ((M.2.1 352 a0 0) &&& (Int64.ofInt 4294967295)) M) ∧ (¬ (a3 = 0) → HX98_intProduct_88 a0 a1 a2 a3 s0 s1 (((M.2.1 352 a0 0).toInt32).toInt64) M))
theorem gX98_intProduct_67 (a0 : Nat) (a1 : Int32) (a2 : Int32) (a3 : Int32) (s0 : Nat) (s1 : Int64) (M : FM) (T : Ty M) (n_a0 : fm_is M 94 94 a0 = true) (n_s0 : fm_is M 94 94 s0 = true) (h : HX98_intProduct_67 a0 a1 a2 a3 s0 s1 M) : gd (FX98_intProduct_67 fN a0 a1 a2 a3 s0 s1 M) (GX98_intProduct_67 a0 a1 a2 a3 s0 s1 M) (OkR M) := by
  delta FX98_intProduct_67 BX98_intProduct_67
  refine gd_fi (fun c0_0 => ?_) (fun c0_0 => ?_)
  · refine gd_c n_a0 ?_
    exact gd_tR (ext_r _) (gX98_intProduct_88 _ _ _ _ _ _ _ _ ⟨T.1, T.2⟩ n_s0 n_a0 (h.1 c0_0))
  · refine gd_c n_a0 ?_
    exact gd_tR (ext_r _) (gX98_intProduct_88 _ _ _ _ _ _ _ _ ⟨T.1, T.2⟩ n_s0 n_a0 (h.2 c0_0))
noncomputable def GX98_intProduct_44 (a0 : Nat) (a1 : Int32) (a2 : Int32) (s0 : Int32) (M : FM) : Int32 × FM :=
  fi (s0 = 0) (
    GX98_intProduct_67 a0 a1 a2 s0 a0 ((M.2.1 351 a0 0) &&& (Int64.ofInt 4294967295)) M) (
    GX98_intProduct_67 a0 a1 a2 s0 a0 (((M.2.1 351 a0 0).toInt32).toInt64) M)
def HX98_intProduct_44 (a0 : Nat) (a1 : Int32) (a2 : Int32) (s0 : Int32) (M : FM) : Prop := ((s0 = 0 → HX98_intProduct_67 a0 a1 a2 s0 a0 ((M.2.1 351 a0 0) &&& (Int64.ofInt 4294967295)) M) ∧ (¬ (s0 = 0) → HX98_intProduct_67 a0 a1 a2 s0 a0 (((M.2.1 351 a0 0).toInt32).toInt64) M))
theorem gX98_intProduct_44 (a0 : Nat) (a1 : Int32) (a2 : Int32) (s0 : Int32) (M : FM) (T : Ty M) (n_a0 : fm_is M 94 94 a0 = true) (h : HX98_intProduct_44 a0 a1 a2 s0 M) : gd (FX98_intProduct_44 fN a0 a1 a2 s0 M) (GX98_intProduct_44 a0 a1 a2 s0 M) (OkR M) := by
  delta FX98_intProduct_44 BX98_intProduct_44
  refine gd_fi (fun c0_0 => ?_) (fun c0_0 => ?_)
  · refine gd_c n_a0 ?_
    exact gd_tR (ext_r _) (gX98_intProduct_67 _ _ _ _ _ _ _ ⟨T.1, T.2⟩ n_a0 n_a0 (h.1 c0_0))
  · refine gd_c n_a0 ?_
    exact gd_tR (ext_r _) (gX98_intProduct_67 _ _ _ _ _ _ _ ⟨T.1, T.2⟩ n_a0 n_a0 (h.2 c0_0))
noncomputable def GX98_intProduct_39 (a0 : Nat) (a1 : Int32) (a2 : Int32) (M : FM) : Int32 × FM :=
  GX98_intProduct_44 a0 a1 a2 (Int32.ofInt 1) M
def HX98_intProduct_39 (a0 : Nat) (a1 : Int32) (a2 : Int32) (M : FM) : Prop := HX98_intProduct_44 a0 a1 a2 (Int32.ofInt 1) M
theorem gX98_intProduct_39 (a0 : Nat) (a1 : Int32) (a2 : Int32) (M : FM) (T : Ty M) (n_a0 : fm_is M 94 94 a0 = true) (h : HX98_intProduct_39 a0 a1 a2 M) : gd (FX98_intProduct_39 fN a0 a1 a2 M) (GX98_intProduct_39 a0 a1 a2 M) (OkR M) := by
  delta FX98_intProduct_39 BX98_intProduct_39
  exact gd_tR (ext_r _) (gX98_intProduct_44 _ _ _ _ _ ⟨T.1, T.2⟩ n_a0 h)
noncomputable def GX98_intProduct_0 (a0 : Nat) (a1 : Int32) (a2 : Int32) (M : FM) : Int32 × FM :=
  fi (a2 = 0) (
    let r1 : Int32 × FM := GX98_done a0 a1 ((((M.2.1 351 a0 0) * (M.2.1 352 a0 0)).toInt32).toInt64) M
    (r1.1, r1.2)) (
    fi ((Int32.ofInt 4) ≤ a2) (
      fi (a2 = (Int32.ofInt 4)) (
        GX98_intProduct_39 a0 a1 a2 M) (
        fi (a2 = (Int32.ofInt 6)) (
          GX98_intProduct_39 a0 a1 a2 M) (
          GX98_intProduct_44 a0 a1 a2 (Int32.ofInt 0) M))) (
      ((Int32.ofInt (-1)), M)))
def HX98_intProduct_0 (a0 : Nat) (a1 : Int32) (a2 : Int32) (M : FM) : Prop := ((a2 = 0 → (HX98_done a0 a1 ((((M.2.1 351 a0 0) * (M.2.1 352 a0 0)).toInt32).toInt64) M ∧ True)) ∧ (¬ (a2 = 0) → (((Int32.ofInt 4) ≤ a2 → ((a2 = (Int32.ofInt 4) → HX98_intProduct_39 a0 a1 a2 M) ∧ (¬ (a2 = (Int32.ofInt 4)) → ((a2 = (Int32.ofInt 6) → HX98_intProduct_39 a0 a1 a2 M) ∧ (¬ (a2 = (Int32.ofInt 6)) → HX98_intProduct_44 a0 a1 a2 (Int32.ofInt 0) M))))) ∧ (¬ ((Int32.ofInt 4) ≤ a2) → True))))
theorem gX98_intProduct_0 (a0 : Nat) (a1 : Int32) (a2 : Int32) (M : FM) (T : Ty M) (n_a0 : fm_is M 94 94 a0 = true) (h : HX98_intProduct_0 a0 a1 a2 M) : gd (FX98_intProduct_0 fN a0 a1 a2 M) (GX98_intProduct_0 a0 a1 a2 M) (OkR M) := by
  delta FX98_intProduct_0 BX98_intProduct_0
  refine gd_fi (fun c0_0 => ?_) (fun c0_0 => ?_)
  · refine gd_c n_a0 ?_
    refine gd_c n_a0 ?_
    refine gd_c n_a0 ?_
    refine gd_b (gX98_done _ _ _ _ ⟨T.1, T.2⟩ n_a0 (h.1 c0_0).1) (fun K1 => ?_)
    exact ⟨rfl, ⟨K1.1.1, K1.1.2⟩, K1.2⟩
  · refine gd_fi (fun c2_0 => ?_) (fun c2_0 => ?_)
    · refine gd_fi (fun c3_0 => ?_) (fun c3_0 => ?_)
      · exact gd_tR (ext_r _) (gX98_intProduct_39 _ _ _ _ ⟨T.1, T.2⟩ n_a0 (((h.2 c0_0).1 c2_0).1 c3_0))
      · refine gd_fi (fun c4_0 => ?_) (fun c4_0 => ?_)
        · exact gd_tR (ext_r _) (gX98_intProduct_39 _ _ _ _ ⟨T.1, T.2⟩ n_a0 ((((h.2 c0_0).1 c2_0).2 c3_0).1 c4_0))
        · exact gd_tR (ext_r _) (gX98_intProduct_44 _ _ _ _ _ ⟨T.1, T.2⟩ n_a0 ((((h.2 c0_0).1 c2_0).2 c3_0).2 c4_0))
    · exact ⟨rfl, ⟨T.1, T.2⟩, (ext_r _)⟩
noncomputable def GX98_intProduct (a0 : Nat) (a1 : Int32) (a2 : Int32) (M : FM) : Int32 × FM := GX98_intProduct_0 a0 a1 a2 M
def HX98_intProduct (a0 : Nat) (a1 : Int32) (a2 : Int32) (M : FM) : Prop := HX98_intProduct_0 a0 a1 a2 M
theorem gX98_intProduct (a0 : Nat) (a1 : Int32) (a2 : Int32) (M : FM) (T : Ty M) (n_a0 : fm_is M 94 94 a0 = true) (h : HX98_intProduct a0 a1 a2 M) : gd (FX98_intProduct fN a0 a1 a2 M) (GX98_intProduct a0 a1 a2 M) (OkR M) := gX98_intProduct_0 a0 a1 a2 M T n_a0 h
noncomputable def GX98_intRegister_142 (s0 : Int32) (M : FM) : Int32 × FM :=
  (s0, M)
theorem gX98_intRegister_142 (s0 : Int32) (M : FM) (T : Ty M) : gd (FX98_intRegister_142 fN s0 M) (GX98_intRegister_142 s0 M) (OkR M) := by
  delta FX98_intRegister_142 BX98_intRegister_142
  exact ⟨rfl, ⟨T.1, T.2⟩, (ext_r _)⟩
noncomputable def GX98_intRegister_141 (M : FM) : Int32 × FM :=
  GX98_intRegister_142 (Int32.ofInt (-1)) M
theorem gX98_intRegister_141 (M : FM) (T : Ty M) : gd (FX98_intRegister_141 fN M) (GX98_intRegister_141 M) (OkR M) := by
  delta FX98_intRegister_141 BX98_intRegister_141
  exact gd_tR (ext_r _) (gX98_intRegister_142 _ _ ⟨T.1, T.2⟩  )
noncomputable def GX98_intRegister_135 (s0 : Nat) (s1 : Int32) (s2 : Int64) (M : FM) : Int32 × FM :=
  let r1 : Int32 × FM := GX98_done s0 s1 s2 M
  GX98_intRegister_142 r1.1 r1.2
def HX98_intRegister_135 (s0 : Nat) (s1 : Int32) (s2 : Int64) (M : FM) : Prop := (HX98_done s0 s1 s2 M ∧ True)
theorem gX98_intRegister_135 (s0 : Nat) (s1 : Int32) (s2 : Int64) (M : FM) (T : Ty M) (n_s0 : fm_is M 94 94 s0 = true) (h : HX98_intRegister_135 s0 s1 s2 M) : gd (FX98_intRegister_135 fN s0 s1 s2 M) (GX98_intRegister_135 s0 s1 s2 M) (OkR M) := by
  delta FX98_intRegister_135 BX98_intRegister_135
  refine gd_c n_s0 ?_
  refine gd_b (gX98_done _ _ _ _ ⟨T.1, T.2⟩ n_s0 h.1) (fun K0 => ?_)
  exact gd_tR K0.2 (gX98_intRegister_142 _ _ ⟨K0.1.1, K0.1.2⟩  )
noncomputable def GX98_intRegister_106 (a0 : Nat) (a1 : Int32) (a2 : Int32) (a4 : Int32) (M : FM) : Int32 × FM :=
  fi (a2 = 0) (
    GX98_intRegister_135 a0 a1 ((((M.2.1 351 a0 0) - (M.2.1 352 a0 0)).toInt32).toInt64) M) (
    GX98_intRegister_135 a0 a1 (((M.2.1 351 a0 0).toInt32 >>> (a4 &&& 31)).toInt64) M)
def HX98_intRegister_106 (a0 : Nat) (a1 : Int32) (a2 : Int32) (a4 : Int32) (M : FM) : Prop := ((a2 = 0 → HX98_intRegister_135 a0 a1 ((((M.2.1 351 a0 0) - (M.2.1 352 a0 0)).toInt32).toInt64) M) ∧ (¬ (a2 = 0) → HX98_intRegister_135 a0 a1 (((M.2.1 351 a0 0).toInt32 >>> (a4 &&& 31)).toInt64) M))
theorem gX98_intRegister_106 (a0 : Nat) (a1 : Int32) (a2 : Int32) (a4 : Int32) (M : FM) (T : Ty M) (n_a0 : fm_is M 94 94 a0 = true) (h : HX98_intRegister_106 a0 a1 a2 a4 M) : gd (FX98_intRegister_106 fN a0 a1 a2 a4 M) (GX98_intRegister_106 a0 a1 a2 a4 M) (OkR M) := by
  delta FX98_intRegister_106 BX98_intRegister_106
  refine gd_fi (fun c0_0 => ?_) (fun c0_0 => ?_)
  · refine gd_c n_a0 ?_
    refine gd_c n_a0 ?_
    exact gd_tR (ext_r _) (gX98_intRegister_135 _ _ _ _ ⟨T.1, T.2⟩ n_a0 (h.1 c0_0))
  · refine gd_c n_a0 ?_
    exact gd_tR (ext_r _) (gX98_intRegister_135 _ _ _ _ ⟨T.1, T.2⟩ n_a0 (h.2 c0_0))
noncomputable def GX98_intRegister_91 (a0 : Nat) (a1 : Int32) (a2 : Int32) (a3 : Int32) (a4 : Int32) (M : FM) : Int32 × FM :=
  fi (a3 = (Int32.ofInt 32)) (
    fi (a2 = 0) (
      GX98_intRegister_106 a0 a1 a2 a4 M) (
      fi (a2 = (Int32.ofInt 5)) (
        GX98_intRegister_106 a0 a1 a2 a4 M) (
        GX98_intRegister_141 M))) (
    GX98_intRegister_141 M)
def HX98_intRegister_91 (a0 : Nat) (a1 : Int32) (a2 : Int32) (a3 : Int32) (a4 : Int32) (M : FM) : Prop := ((a3 = (Int32.ofInt 32) → ((a2 = 0 → HX98_intRegister_106 a0 a1 a2 a4 M) ∧ (¬ (a2 = 0) → ((a2 = (Int32.ofInt 5) → HX98_intRegister_106 a0 a1 a2 a4 M) ∧ (¬ (a2 = (Int32.ofInt 5)) → True))))) ∧ (¬ (a3 = (Int32.ofInt 32)) → True))
theorem gX98_intRegister_91 (a0 : Nat) (a1 : Int32) (a2 : Int32) (a3 : Int32) (a4 : Int32) (M : FM) (T : Ty M) (n_a0 : fm_is M 94 94 a0 = true) (h : HX98_intRegister_91 a0 a1 a2 a3 a4 M) : gd (FX98_intRegister_91 fN a0 a1 a2 a3 a4 M) (GX98_intRegister_91 a0 a1 a2 a3 a4 M) (OkR M) := by
  delta FX98_intRegister_91 BX98_intRegister_91
  refine gd_fi (fun c0_0 => ?_) (fun c0_0 => ?_)
  · refine gd_fi (fun c1_0 => ?_) (fun c1_0 => ?_)
    · exact gd_tR (ext_r _) (gX98_intRegister_106 _ _ _ _ _ ⟨T.1, T.2⟩ n_a0 ((h.1 c0_0).1 c1_0))
    · refine gd_fi (fun c2_0 => ?_) (fun c2_0 => ?_)
      · exact gd_tR (ext_r _) (gX98_intRegister_106 _ _ _ _ _ ⟨T.1, T.2⟩ n_a0 (((h.1 c0_0).2 c1_0).1 c2_0))
      · exact gd_tR (ext_r _) (gX98_intRegister_141  _ ⟨T.1, T.2⟩  )
  · exact gd_tR (ext_r _) (gX98_intRegister_141  _ ⟨T.1, T.2⟩  )
noncomputable def GX98_intRegister_87 (s0 : Nat) (s1 : Int32) (s2 : Int64) (M : FM) : Int32 × FM :=
  let r1 : Int32 × FM := GX98_done s0 s1 s2 M
  (r1.1, r1.2)
def HX98_intRegister_87 (s0 : Nat) (s1 : Int32) (s2 : Int64) (M : FM) : Prop := (HX98_done s0 s1 s2 M ∧ True)
theorem gX98_intRegister_87 (s0 : Nat) (s1 : Int32) (s2 : Int64) (M : FM) (T : Ty M) (n_s0 : fm_is M 94 94 s0 = true) (h : HX98_intRegister_87 s0 s1 s2 M) : gd (FX98_intRegister_87 fN s0 s1 s2 M) (GX98_intRegister_87 s0 s1 s2 M) (OkR M) := by
  delta FX98_intRegister_87 BX98_intRegister_87
  refine gd_c n_s0 ?_
  refine gd_b (gX98_done _ _ _ _ ⟨T.1, T.2⟩ n_s0 h.1) (fun K0 => ?_)
  exact ⟨rfl, ⟨K0.1.1, K0.1.2⟩, K0.2⟩
noncomputable def GX98_intRegister_41 (a0 : Nat) (a1 : Int32) (a2 : Int32) (a4 : Int32) (M : FM) : Int32 × FM :=
  fi (a2 = 0) (
    GX98_intRegister_87 a0 a1 ((((M.2.1 351 a0 0) + (M.2.1 352 a0 0)).toInt32).toInt64) M) (
    fi (a2 = (Int32.ofInt 1)) (
      GX98_intRegister_87 a0 a1 (((M.2.1 351 a0 0).toInt32 <<< (a4 &&& 31)).toInt64) M) (
      GX98_intRegister_87 a0 a1 (((((M.2.1 351 a0 0).toInt32).toUInt32 >>> (a4.toUInt32 &&& Int32.toUInt32 31)).toInt32).toInt64) M))
def HX98_intRegister_41 (a0 : Nat) (a1 : Int32) (a2 : Int32) (a4 : Int32) (M : FM) : Prop := ((a2 = 0 → HX98_intRegister_87 a0 a1 ((((M.2.1 351 a0 0) + (M.2.1 352 a0 0)).toInt32).toInt64) M) ∧ (¬ (a2 = 0) → ((a2 = (Int32.ofInt 1) → HX98_intRegister_87 a0 a1 (((M.2.1 351 a0 0).toInt32 <<< (a4 &&& 31)).toInt64) M) ∧ (¬ (a2 = (Int32.ofInt 1)) → HX98_intRegister_87 a0 a1 (((((M.2.1 351 a0 0).toInt32).toUInt32 >>> (a4.toUInt32 &&& Int32.toUInt32 31)).toInt32).toInt64) M))))
theorem gX98_intRegister_41 (a0 : Nat) (a1 : Int32) (a2 : Int32) (a4 : Int32) (M : FM) (T : Ty M) (n_a0 : fm_is M 94 94 a0 = true) (h : HX98_intRegister_41 a0 a1 a2 a4 M) : gd (FX98_intRegister_41 fN a0 a1 a2 a4 M) (GX98_intRegister_41 a0 a1 a2 a4 M) (OkR M) := by
  delta FX98_intRegister_41 BX98_intRegister_41
  refine gd_fi (fun c0_0 => ?_) (fun c0_0 => ?_)
  · refine gd_c n_a0 ?_
    refine gd_c n_a0 ?_
    exact gd_tR (ext_r _) (gX98_intRegister_87 _ _ _ _ ⟨T.1, T.2⟩ n_a0 (h.1 c0_0))
  · refine gd_fi (fun c1_0 => ?_) (fun c1_0 => ?_)
    · refine gd_c n_a0 ?_
      exact gd_tR (ext_r _) (gX98_intRegister_87 _ _ _ _ ⟨T.1, T.2⟩ n_a0 ((h.2 c0_0).1 c1_0))
    · refine gd_c n_a0 ?_
      exact gd_tR (ext_r _) (gX98_intRegister_87 _ _ _ _ ⟨T.1, T.2⟩ n_a0 ((h.2 c0_0).2 c1_0))
noncomputable def GX98_intRegister_0 (a0 : Nat) (a1 : Int32) (a2 : Int32) (a3 : Int32) (M : FM) : Int32 × FM :=
  let x1 : Int32 := ((M.2.1 352 a0 0) &&& (Int64.ofInt 31)).toInt32
  fi (a3 = (Int32.ofInt 1)) (
    let r2 : Int32 × FM := GX98_intProduct a0 a1 a2 M
    (r2.1, r2.2)) (
    fi (a3 = 0) (
      fi (a2 = 0) (
        GX98_intRegister_41 a0 a1 a2 x1 M) (
        fi (a2 = (Int32.ofInt 1)) (
          GX98_intRegister_41 a0 a1 a2 x1 M) (
          fi (a2 = (Int32.ofInt 5)) (
            GX98_intRegister_41 a0 a1 a2 x1 M) (
            GX98_intRegister_91 a0 a1 a2 a3 x1 M)))) (
      GX98_intRegister_91 a0 a1 a2 a3 x1 M))
def HX98_intRegister_0 (a0 : Nat) (a1 : Int32) (a2 : Int32) (a3 : Int32) (M : FM) : Prop := let x1 : Int32 := ((M.2.1 352 a0 0) &&& (Int64.ofInt 31)).toInt32; ((a3 = (Int32.ofInt 1) → (HX98_intProduct a0 a1 a2 M ∧ True)) ∧ (¬ (a3 = (Int32.ofInt 1)) → ((a3 = 0 → ((a2 = 0 → HX98_intRegister_41 a0 a1 a2 x1 M) ∧ (¬ (a2 = 0) → ((a2 = (Int32.ofInt 1) → HX98_intRegister_41 a0 a1 a2 x1 M) ∧ (¬ (a2 = (Int32.ofInt 1)) → ((a2 = (Int32.ofInt 5) → HX98_intRegister_41 a0 a1 a2 x1 M) ∧ (¬ (a2 = (Int32.ofInt 5)) → HX98_intRegister_91 a0 a1 a2 a3 x1 M))))))) ∧ (¬ (a3 = 0) → HX98_intRegister_91 a0 a1 a2 a3 x1 M))))
theorem gX98_intRegister_0 (a0 : Nat) (a1 : Int32) (a2 : Int32) (a3 : Int32) (M : FM) (T : Ty M) (n_a0 : fm_is M 94 94 a0 = true) (h : HX98_intRegister_0 a0 a1 a2 a3 M) : gd (FX98_intRegister_0 fN a0 a1 a2 a3 M) (GX98_intRegister_0 a0 a1 a2 a3 M) (OkR M) := by
  delta FX98_intRegister_0 BX98_intRegister_0
  refine gd_c n_a0 ?_
  refine gd_fi (fun c0_0 => ?_) (fun c0_0 => ?_)
  · refine gd_c n_a0 ?_
    refine gd_b (gX98_intProduct _ _ _ _ ⟨T.1, T.2⟩ n_a0 (h.1 c0_0).1) (fun K1 => ?_)
    exact ⟨rfl, ⟨K1.1.1, K1.1.2⟩, K1.2⟩
  · refine gd_fi (fun c2_0 => ?_) (fun c2_0 => ?_)
    · refine gd_fi (fun c3_0 => ?_) (fun c3_0 => ?_)
      · exact gd_tR (ext_r _) (gX98_intRegister_41 _ _ _ _ _ ⟨T.1, T.2⟩ n_a0 (((h.2 c0_0).1 c2_0).1 c3_0))
      · refine gd_fi (fun c4_0 => ?_) (fun c4_0 => ?_)
        · exact gd_tR (ext_r _) (gX98_intRegister_41 _ _ _ _ _ ⟨T.1, T.2⟩ n_a0 ((((h.2 c0_0).1 c2_0).2 c3_0).1 c4_0))
        · refine gd_fi (fun c5_0 => ?_) (fun c5_0 => ?_)
          · exact gd_tR (ext_r _) (gX98_intRegister_41 _ _ _ _ _ ⟨T.1, T.2⟩ n_a0 (((((h.2 c0_0).1 c2_0).2 c3_0).2 c4_0).1 c5_0))
          · exact gd_tR (ext_r _) (gX98_intRegister_91 _ _ _ _ _ _ ⟨T.1, T.2⟩ n_a0 (((((h.2 c0_0).1 c2_0).2 c3_0).2 c4_0).2 c5_0))
    · exact gd_tR (ext_r _) (gX98_intRegister_91 _ _ _ _ _ _ ⟨T.1, T.2⟩ n_a0 ((h.2 c0_0).2 c2_0))
noncomputable def GX98_intRegister (a0 : Nat) (a1 : Int32) (a2 : Int32) (a3 : Int32) (M : FM) : Int32 × FM := GX98_intRegister_0 a0 a1 a2 a3 M
def HX98_intRegister (a0 : Nat) (a1 : Int32) (a2 : Int32) (a3 : Int32) (M : FM) : Prop := HX98_intRegister_0 a0 a1 a2 a3 M
theorem gX98_intRegister (a0 : Nat) (a1 : Int32) (a2 : Int32) (a3 : Int32) (M : FM) (T : Ty M) (n_a0 : fm_is M 94 94 a0 = true) (h : HX98_intRegister a0 a1 a2 a3 M) : gd (FX98_intRegister fN a0 a1 a2 a3 M) (GX98_intRegister a0 a1 a2 a3 M) (OkR M) := gX98_intRegister_0 a0 a1 a2 a3 M T n_a0 h
noncomputable def GX98_immediateJ_0 (a0 : Nat) (M : FM) : Int64 × FM :=
  let r1 : Int64 × FM := GX98_sign a0 (Int64.ofInt 1048576) M
  let r2 : Int32 × FM := GX98_bits a0 (Int32.ofInt 19) (Int32.ofInt 12) r1.2
  let r3 : Int32 × FM := GX98_bits a0 (Int32.ofInt 20) (Int32.ofInt 20) r2.2
  let r4 : Int32 × FM := GX98_bits a0 (Int32.ofInt 30) (Int32.ofInt 21) r3.2
  ((((r1.1 + ((Int32.ofInt 4096) * r2.1).toInt64) + ((Int32.ofInt 2048) * r3.1).toInt64) + ((Int32.ofInt 2) * r4.1).toInt64), r4.2)
def HX98_immediateJ_0 (a0 : Nat) (M : FM) : Prop := let r1 : Int64 × FM := GX98_sign a0 (Int64.ofInt 1048576) M; (HX98_bits a0 (Int32.ofInt 19) (Int32.ofInt 12) r1.2 ∧ let r2 : Int32 × FM := GX98_bits a0 (Int32.ofInt 19) (Int32.ofInt 12) r1.2; (HX98_bits a0 (Int32.ofInt 20) (Int32.ofInt 20) r2.2 ∧ let r3 : Int32 × FM := GX98_bits a0 (Int32.ofInt 20) (Int32.ofInt 20) r2.2; (HX98_bits a0 (Int32.ofInt 30) (Int32.ofInt 21) r3.2 ∧ True)))
theorem gX98_immediateJ_0 (a0 : Nat) (M : FM) (T : Ty M) (n_a0 : fm_is M 94 94 a0 = true) (h : HX98_immediateJ_0 a0 M) : gd (FX98_immediateJ_0 fN a0 M) (GX98_immediateJ_0 a0 M) (OkR M) := by
  delta FX98_immediateJ_0 BX98_immediateJ_0
  refine gd_c n_a0 ?_
  refine gd_b (gX98_sign _ _ _ ⟨T.1, T.2⟩ n_a0 ) (fun K0 => ?_)
  have f1 := (ext_is K0.2 (Nat.zero_lt_succ _) n_a0)
  refine gd_c f1 ?_
  refine gd_b (gX98_bits _ _ _ _ h.1) (fun K2 => ?_)
  have f3 := (ext_is K2.2 (Nat.zero_lt_succ _) (ext_is K0.2 (Nat.zero_lt_succ _) n_a0))
  refine gd_c f3 ?_
  refine gd_b (gX98_bits _ _ _ _ h.2.1) (fun K4 => ?_)
  have f5 := (ext_is K4.2 (Nat.zero_lt_succ _) (ext_is K2.2 (Nat.zero_lt_succ _) (ext_is K0.2 (Nat.zero_lt_succ _) n_a0)))
  refine gd_c f5 ?_
  refine gd_b (gX98_bits _ _ _ _ h.2.2.1) (fun K6 => ?_)
  exact ⟨rfl, ⟨K6.1.1, K6.1.2⟩, (ext_tr K0.2 (ext_tr K2.2 (ext_tr K4.2 K6.2)))⟩
noncomputable def GX98_immediateJ (a0 : Nat) (M : FM) : Int64 × FM := GX98_immediateJ_0 a0 M
def HX98_immediateJ (a0 : Nat) (M : FM) : Prop := HX98_immediateJ_0 a0 M
theorem gX98_immediateJ (a0 : Nat) (M : FM) (T : Ty M) (n_a0 : fm_is M 94 94 a0 = true) (h : HX98_immediateJ a0 M) : gd (FX98_immediateJ fN a0 M) (GX98_immediateJ a0 M) (OkR M) := gX98_immediateJ_0 a0 M T n_a0 h
noncomputable def GX98_run_16 (a0 : Nat) (a1 : Int32) (a2 : Int32) (s0 : Nat) (s1 : Int32) (M : FM) : Int32 × FM :=
  let M1 : FM := fm_sI M 345 s0 0 s1
  fi ((M1.1 345 a0 0) ≤ 0) (
    let M2 : FM := fm_sI M1 349 a0 0 a1
    let M3 : FM := fm_sI M2 350 a0 0 a2
    let M4 : FM := fm_sI M3 353 a0 0 (Int32.ofInt (-1))
    let r5 : Int32 × FM := GX98_bits a0 (Int32.ofInt 6) (Int32.ofInt 0) M4
    let r6 : Int32 × FM := GX98_bits a0 (Int32.ofInt 11) (Int32.ofInt 7) r5.2
    let r7 : Int32 × FM := GX98_bits a0 (Int32.ofInt 14) (Int32.ofInt 12) r6.2
    let r8 : Int32 × FM := GX98_bits a0 (Int32.ofInt 31) (Int32.ofInt 25) r7.2
    let r9 : Int32 × FM := GX98_bits a0 (Int32.ofInt 19) (Int32.ofInt 15) r8.2
    let x10 : Nat := (r8.2.2.2 346 a0 0)
    let M11 : FM := fm_sL r9.2 351 a0 0 (r9.2.2.1 3 x10 r9.1.toNatClampNeg)
    let r12 : Int32 × FM := GX98_bits a0 (Int32.ofInt 24) (Int32.ofInt 20) M11
    let x13 : Nat := (M11.2.2 346 a0 0)
    let M14 : FM := fm_sL r12.2 352 a0 0 (r12.2.2.1 3 x13 r12.1.toNatClampNeg)
    let x15 : Int64 := ((M14.2.1 347 a0 0) + (M14.1 350 a0 0).toInt64)
    fi (r5.1 = (Int32.ofInt 19)) (
      let r16 : Int32 × FM := GX98_withImmediate a0 r6.1 r7.1 M14
      (r16.1, r16.2)) (
      fi (r5.1 = (Int32.ofInt 23)) (
        let r17 : Int64 × FM := GX98_immediateU a0 M14
        let r18 : Int32 × FM := GX98_done a0 r6.1 ((M14.2.1 347 a0 0) + r17.1) r17.2
        (r18.1, r18.2)) (
        fi (r5.1 = (Int32.ofInt 27)) (
          let r19 : Int32 × FM := GX98_intImmediate a0 r6.1 r7.1 r8.1 M14
          (r19.1, r19.2)) (
          fi (r5.1 = (Int32.ofInt 51)) (
            let r20 : Int32 × FM := GX98_withRegister a0 r6.1 r7.1 r8.1 M14
            (r20.1, r20.2)) (
            fi (r5.1 = (Int32.ofInt 55)) (
              let r21 : Int64 × FM := GX98_immediateU a0 M14
              let r22 : Int32 × FM := GX98_done a0 r6.1 r21.1 r21.2
              (r22.1, r22.2)) (
              fi (r5.1 = (Int32.ofInt 59)) (
                let r23 : Int32 × FM := GX98_intRegister a0 r6.1 r7.1 r8.1 M14
                (r23.1, r23.2)) (
                fi (r5.1 = (Int32.ofInt 99)) (
                  let r24 : Int32 × FM := GX98_branch a0 r7.1 M14
                  (r24.1, r24.2)) (
                  fi (r5.1 = (Int32.ofInt 103)) (
                    fi (r7.1 = 0) (
                      let M25 : FM := GX98_put a0 r6.1 x15 M14
                      let r26 : Int64 × FM := GX98_immediateI a0 M25
                      let r27 : Int64 × FM := GX98_immediateI a0 r26.2
                      let r28 : Int32 × FM := GX98_go a0 (((M25.2.1 351 a0 0) + r26.1) - (((r26.2.2.1 351 a0 0) + r27.1) &&& (Int64.ofInt 1))) r27.2
                      (r28.1, r28.2)) (
                      ((Int32.ofInt (-1)), M14))) (
                    fi (r5.1 = (Int32.ofInt 111)) (
                      let M29 : FM := GX98_put a0 r6.1 x15 M14
                      let r30 : Int64 × FM := GX98_immediateJ a0 M29
                      let r31 : Int32 × FM := GX98_go a0 ((M29.2.1 347 a0 0) + r30.1) r30.2
                      (r31.1, r31.2)) (
                      let r32 : Int32 × FM := GX98_others a0 r5.1 r6.1 r7.1 M14
                      (r32.1, r32.2))))))))))) (
    ((Int32.ofInt 0), M1))
def HX98_run_16 (a0 : Nat) (a1 : Int32) (a2 : Int32) (s0 : Nat) (s1 : Int32) (M : FM) : Prop := let M1 : FM := fm_sI M 345 s0 0 s1; (((M1.1 345 a0 0) ≤ 0 → let M2 : FM := fm_sI M1 349 a0 0 a1; let M3 : FM := fm_sI M2 350 a0 0 a2; let M4 : FM := fm_sI M3 353 a0 0 (Int32.ofInt (-1)); (HX98_bits a0 (Int32.ofInt 6) (Int32.ofInt 0) M4 ∧ let r5 : Int32 × FM := GX98_bits a0 (Int32.ofInt 6) (Int32.ofInt 0) M4; (HX98_bits a0 (Int32.ofInt 11) (Int32.ofInt 7) r5.2 ∧ let r6 : Int32 × FM := GX98_bits a0 (Int32.ofInt 11) (Int32.ofInt 7) r5.2; (HX98_bits a0 (Int32.ofInt 14) (Int32.ofInt 12) r6.2 ∧ let r7 : Int32 × FM := GX98_bits a0 (Int32.ofInt 14) (Int32.ofInt 12) r6.2; (HX98_bits a0 (Int32.ofInt 31) (Int32.ofInt 25) r7.2 ∧ let r8 : Int32 × FM := GX98_bits a0 (Int32.ofInt 31) (Int32.ofInt 25) r7.2; (HX98_bits a0 (Int32.ofInt 19) (Int32.ofInt 15) r8.2 ∧ let r9 : Int32 × FM := GX98_bits a0 (Int32.ofInt 19) (Int32.ofInt 15) r8.2; let x10 : Nat := (r8.2.2.2 346 a0 0); (fm_in r9.2 x10 r9.1 = true ∧ let M11 : FM := fm_sL r9.2 351 a0 0 (r9.2.2.1 3 x10 r9.1.toNatClampNeg); (HX98_bits a0 (Int32.ofInt 24) (Int32.ofInt 20) M11 ∧ let r12 : Int32 × FM := GX98_bits a0 (Int32.ofInt 24) (Int32.ofInt 20) M11; let x13 : Nat := (M11.2.2 346 a0 0); (fm_in r12.2 x13 r12.1 = true ∧ let M14 : FM := fm_sL r12.2 352 a0 0 (r12.2.2.1 3 x13 r12.1.toNatClampNeg); let x15 : Int64 := ((M14.2.1 347 a0 0) + (M14.1 350 a0 0).toInt64); ((r5.1 = (Int32.ofInt 19) → (HX98_withImmediate a0 r6.1 r7.1 M14 ∧ True)) ∧ (¬ (r5.1 = (Int32.ofInt 19)) → ((r5.1 = (Int32.ofInt 23) → (HX98_immediateU a0 M14 ∧ let r17 : Int64 × FM := GX98_immediateU a0 M14; (HX98_done a0 r6.1 ((M14.2.1 347 a0 0) + r17.1) r17.2 ∧ True))) ∧ (¬ (r5.1 = (Int32.ofInt 23)) → ((r5.1 = (Int32.ofInt 27) → (HX98_intImmediate a0 r6.1 r7.1 r8.1 M14 ∧ True)) ∧ (¬ (r5.1 = (Int32.ofInt 27)) → ((r5.1 = (Int32.ofInt 51) → (HX98_withRegister a0 r6.1 r7.1 r8.1 M14 ∧ True)) ∧ (¬ (r5.1 = (Int32.ofInt 51)) → ((r5.1 = (Int32.ofInt 55) → (HX98_immediateU a0 M14 ∧ let r21 : Int64 × FM := GX98_immediateU a0 M14; (HX98_done a0 r6.1 r21.1 r21.2 ∧ True))) ∧ (¬ (r5.1 = (Int32.ofInt 55)) → ((r5.1 = (Int32.ofInt 59) → (HX98_intRegister a0 r6.1 r7.1 r8.1 M14 ∧ True)) ∧ (¬ (r5.1 = (Int32.ofInt 59)) → ((r5.1 = (Int32.ofInt 99) → (HX98_branch a0 r7.1 M14 ∧ True)) ∧ (¬ (r5.1 = (Int32.ofInt 99)) → ((r5.1 = (Int32.ofInt 103) → ((r7.1 = 0 → (HX98_put a0 r6.1 x15 M14 ∧ let M25 : FM := GX98_put a0 r6.1 x15 M14; (HX98_immediateI a0 M25 ∧ let r26 : Int64 × FM := GX98_immediateI a0 M25; (HX98_immediateI a0 r26.2 ∧ True)))) ∧ (¬ (r7.1 = 0) → True))) ∧ (¬ (r5.1 = (Int32.ofInt 103)) → ((r5.1 = (Int32.ofInt 111) → (HX98_put a0 r6.1 x15 M14 ∧ let M29 : FM := GX98_put a0 r6.1 x15 M14; (HX98_immediateJ a0 M29 ∧ True))) ∧ (¬ (r5.1 = (Int32.ofInt 111)) → (HX98_others a0 r5.1 r6.1 r7.1 M14 ∧ True)))))))))))))))))))))))))))) ∧ (¬ ((M1.1 345 a0 0) ≤ 0) → True))
theorem gX98_run_16 (a0 : Nat) (a1 : Int32) (a2 : Int32) (s0 : Nat) (s1 : Int32) (M : FM) (T : Ty M) (n_s0 : fm_is M 94 94 s0 = true) (n_a0 : fm_is M 94 94 a0 = true) (h : HX98_run_16 a0 a1 a2 s0 s1 M) : gd (FX98_run_16 fN a0 a1 a2 s0 s1 M) (GX98_run_16 a0 a1 a2 s0 s1 M) (OkR M) := by
  delta FX98_run_16 BX98_run_16
  refine gd_c n_s0 ?_
  refine gd_c n_a0 ?_
  refine gd_fi (fun c0_0 => ?_) (fun c0_0 => ?_)
  · refine gd_c n_a0 ?_
    refine gd_c n_a0 ?_
    refine gd_c n_a0 ?_
    refine gd_c n_a0 ?_
    refine gd_b (gX98_bits _ _ _ _ (h.1 c0_0).1) (fun K1 => ?_)
    have f2 := (ext_is K1.2 (Nat.zero_lt_succ _) n_a0)
    refine gd_c f2 ?_
    refine gd_b (gX98_bits _ _ _ _ (h.1 c0_0).2.1) (fun K3 => ?_)
    have f4 := (ext_is K3.2 (Nat.zero_lt_succ _) (ext_is K1.2 (Nat.zero_lt_succ _) n_a0))
    refine gd_c f4 ?_
    refine gd_b (gX98_bits _ _ _ _ (h.1 c0_0).2.2.1) (fun K5 => ?_)
    have f6 := (ext_is K5.2 (Nat.zero_lt_succ _) (ext_is K3.2 (Nat.zero_lt_succ _) (ext_is K1.2 (Nat.zero_lt_succ _) n_a0)))
    refine gd_c f6 ?_
    refine gd_b (gX98_bits _ _ _ _ (h.1 c0_0).2.2.2.1) (fun K7 => ?_)
    have f8 := (ext_is K7.2 (Nat.zero_lt_succ _) (ext_is K5.2 (Nat.zero_lt_succ _) (ext_is K3.2 (Nat.zero_lt_succ _) (ext_is K1.2 (Nat.zero_lt_succ _) n_a0))))
    refine gd_c f8 ?_
    have f9 := (ext_is K7.2 (Nat.zero_lt_succ _) (ext_is K5.2 (Nat.zero_lt_succ _) (ext_is K3.2 (Nat.zero_lt_succ _) (ext_is K1.2 (Nat.zero_lt_succ _) n_a0))))
    refine gd_c f9 ?_
    refine gd_b (gX98_bits _ _ _ _ (h.1 c0_0).2.2.2.2.1) (fun K10 => ?_)
    have f84 := (ext_is K10.2 (Nat.zero_lt_succ _) (tN_346 K7.1.1 (ext_is K7.2 (Nat.zero_lt_succ _) (ext_is K5.2 (Nat.zero_lt_succ _) (ext_is K3.2 (Nat.zero_lt_succ _) (ext_is K1.2 (Nat.zero_lt_succ _) n_a0))))))
    refine gd_c ⟨f84, (h.1 c0_0).2.2.2.2.2.1⟩ ?_
    have f11 := (ext_is K10.2 (Nat.zero_lt_succ _) (ext_is K7.2 (Nat.zero_lt_succ _) (ext_is K5.2 (Nat.zero_lt_succ _) (ext_is K3.2 (Nat.zero_lt_succ _) (ext_is K1.2 (Nat.zero_lt_succ _) n_a0)))))
    refine gd_c f11 ?_
    have f12 := (ext_is K10.2 (Nat.zero_lt_succ _) (ext_is K7.2 (Nat.zero_lt_succ _) (ext_is K5.2 (Nat.zero_lt_succ _) (ext_is K3.2 (Nat.zero_lt_succ _) (ext_is K1.2 (Nat.zero_lt_succ _) n_a0)))))
    refine gd_c f12 ?_
    have f13 := (ext_is K10.2 (Nat.zero_lt_succ _) (ext_is K7.2 (Nat.zero_lt_succ _) (ext_is K5.2 (Nat.zero_lt_succ _) (ext_is K3.2 (Nat.zero_lt_succ _) (ext_is K1.2 (Nat.zero_lt_succ _) n_a0)))))
    refine gd_c f13 ?_
    refine gd_b (gX98_bits _ _ _ _ (h.1 c0_0).2.2.2.2.2.2.1) (fun K14 => ?_)
    have f83 := (ext_is K14.2 (Nat.zero_lt_succ _) (tN_346 K10.1.1 (ext_is K10.2 (Nat.zero_lt_succ _) (ext_is K7.2 (Nat.zero_lt_succ _) (ext_is K5.2 (Nat.zero_lt_succ _) (ext_is K3.2 (Nat.zero_lt_succ _) (ext_is K1.2 (Nat.zero_lt_succ _) n_a0)))))))
    refine gd_c ⟨f83, (h.1 c0_0).2.2.2.2.2.2.2.1⟩ ?_
    have f15 := (ext_is K14.2 (Nat.zero_lt_succ _) (ext_is K10.2 (Nat.zero_lt_succ _) (ext_is K7.2 (Nat.zero_lt_succ _) (ext_is K5.2 (Nat.zero_lt_succ _) (ext_is K3.2 (Nat.zero_lt_succ _) (ext_is K1.2 (Nat.zero_lt_succ _) n_a0))))))
    refine gd_c f15 ?_
    have f16 := (ext_is K14.2 (Nat.zero_lt_succ _) (ext_is K10.2 (Nat.zero_lt_succ _) (ext_is K7.2 (Nat.zero_lt_succ _) (ext_is K5.2 (Nat.zero_lt_succ _) (ext_is K3.2 (Nat.zero_lt_succ _) (ext_is K1.2 (Nat.zero_lt_succ _) n_a0))))))
    refine gd_c f16 ?_
    have f17 := (ext_is K14.2 (Nat.zero_lt_succ _) (ext_is K10.2 (Nat.zero_lt_succ _) (ext_is K7.2 (Nat.zero_lt_succ _) (ext_is K5.2 (Nat.zero_lt_succ _) (ext_is K3.2 (Nat.zero_lt_succ _) (ext_is K1.2 (Nat.zero_lt_succ _) n_a0))))))
    refine gd_c f17 ?_
    refine gd_fi (fun c18_0 => ?_) (fun c18_0 => ?_)
    · have f19 := (ext_is K14.2 (Nat.zero_lt_succ _) (ext_is K10.2 (Nat.zero_lt_succ _) (ext_is K7.2 (Nat.zero_lt_succ _) (ext_is K5.2 (Nat.zero_lt_succ _) (ext_is K3.2 (Nat.zero_lt_succ _) (ext_is K1.2 (Nat.zero_lt_succ _) n_a0))))))
      refine gd_c f19 ?_
      have f21 := (ext_is K14.2 (Nat.zero_lt_succ _) (ext_is K10.2 (Nat.zero_lt_succ _) (ext_is K7.2 (Nat.zero_lt_succ _) (ext_is K5.2 (Nat.zero_lt_succ _) (ext_is K3.2 (Nat.zero_lt_succ _) (ext_is K1.2 (Nat.zero_lt_succ _) n_a0))))))
      refine gd_b (gX98_withImmediate _ _ _ _ ⟨K14.1.1, K14.1.2⟩ f21 ((h.1 c0_0).2.2.2.2.2.2.2.2.1 c18_0).1) (fun K20 => ?_)
      exact ⟨rfl, ⟨K20.1.1, K20.1.2⟩, (ext_dI (ext_dI (ext_dI (ext_dI (ext_tr K1.2 (ext_tr K3.2 (ext_tr K5.2 (ext_tr K7.2 (ext_tr K10.2 (ext_dL (ext_tr K14.2 (ext_dL K20.2))))))))))))⟩
    · refine gd_fi (fun c22_1 => ?_) (fun c22_1 => ?_)
      · have f23 := (ext_is K14.2 (Nat.zero_lt_succ _) (ext_is K10.2 (Nat.zero_lt_succ _) (ext_is K7.2 (Nat.zero_lt_succ _) (ext_is K5.2 (Nat.zero_lt_succ _) (ext_is K3.2 (Nat.zero_lt_succ _) (ext_is K1.2 (Nat.zero_lt_succ _) n_a0))))))
        refine gd_c f23 ?_
        have f24 := (ext_is K14.2 (Nat.zero_lt_succ _) (ext_is K10.2 (Nat.zero_lt_succ _) (ext_is K7.2 (Nat.zero_lt_succ _) (ext_is K5.2 (Nat.zero_lt_succ _) (ext_is K3.2 (Nat.zero_lt_succ _) (ext_is K1.2 (Nat.zero_lt_succ _) n_a0))))))
        refine gd_c f24 ?_
        have f29 := (ext_is K14.2 (Nat.zero_lt_succ _) (ext_is K10.2 (Nat.zero_lt_succ _) (ext_is K7.2 (Nat.zero_lt_succ _) (ext_is K5.2 (Nat.zero_lt_succ _) (ext_is K3.2 (Nat.zero_lt_succ _) (ext_is K1.2 (Nat.zero_lt_succ _) n_a0))))))
        refine gd_b (gX98_immediateU _ _ ⟨K14.1.1, K14.1.2⟩ f29 (((h.1 c0_0).2.2.2.2.2.2.2.2.2 c18_0).1 c22_1).1) (fun K25 => ?_)
        have f26 := (ext_is K25.2 (Nat.zero_lt_succ _) (ext_is K14.2 (Nat.zero_lt_succ _) (ext_is K10.2 (Nat.zero_lt_succ _) (ext_is K7.2 (Nat.zero_lt_succ _) (ext_is K5.2 (Nat.zero_lt_succ _) (ext_is K3.2 (Nat.zero_lt_succ _) (ext_is K1.2 (Nat.zero_lt_succ _) n_a0)))))))
        refine gd_c f26 ?_
        have f28 := (ext_is K25.2 (Nat.zero_lt_succ _) (ext_is K14.2 (Nat.zero_lt_succ _) (ext_is K10.2 (Nat.zero_lt_succ _) (ext_is K7.2 (Nat.zero_lt_succ _) (ext_is K5.2 (Nat.zero_lt_succ _) (ext_is K3.2 (Nat.zero_lt_succ _) (ext_is K1.2 (Nat.zero_lt_succ _) n_a0)))))))
        refine gd_b (gX98_done _ _ _ _ ⟨K25.1.1, K25.1.2⟩ f28 (((h.1 c0_0).2.2.2.2.2.2.2.2.2 c18_0).1 c22_1).2.1) (fun K27 => ?_)
        exact ⟨rfl, ⟨K27.1.1, K27.1.2⟩, (ext_dI (ext_dI (ext_dI (ext_dI (ext_tr K1.2 (ext_tr K3.2 (ext_tr K5.2 (ext_tr K7.2 (ext_tr K10.2 (ext_dL (ext_tr K14.2 (ext_dL (ext_tr K25.2 K27.2)))))))))))))⟩
      · refine gd_fi (fun c30_2 => ?_) (fun c30_2 => ?_)
        · have f31 := (ext_is K14.2 (Nat.zero_lt_succ _) (ext_is K10.2 (Nat.zero_lt_succ _) (ext_is K7.2 (Nat.zero_lt_succ _) (ext_is K5.2 (Nat.zero_lt_succ _) (ext_is K3.2 (Nat.zero_lt_succ _) (ext_is K1.2 (Nat.zero_lt_succ _) n_a0))))))
          refine gd_c f31 ?_
          have f33 := (ext_is K14.2 (Nat.zero_lt_succ _) (ext_is K10.2 (Nat.zero_lt_succ _) (ext_is K7.2 (Nat.zero_lt_succ _) (ext_is K5.2 (Nat.zero_lt_succ _) (ext_is K3.2 (Nat.zero_lt_succ _) (ext_is K1.2 (Nat.zero_lt_succ _) n_a0))))))
          refine gd_b (gX98_intImmediate _ _ _ _ _ ⟨K14.1.1, K14.1.2⟩ f33 ((((h.1 c0_0).2.2.2.2.2.2.2.2.2 c18_0).2 c22_1).1 c30_2).1) (fun K32 => ?_)
          exact ⟨rfl, ⟨K32.1.1, K32.1.2⟩, (ext_dI (ext_dI (ext_dI (ext_dI (ext_tr K1.2 (ext_tr K3.2 (ext_tr K5.2 (ext_tr K7.2 (ext_tr K10.2 (ext_dL (ext_tr K14.2 (ext_dL K32.2))))))))))))⟩
        · refine gd_fi (fun c34_3 => ?_) (fun c34_3 => ?_)
          · have f35 := (ext_is K14.2 (Nat.zero_lt_succ _) (ext_is K10.2 (Nat.zero_lt_succ _) (ext_is K7.2 (Nat.zero_lt_succ _) (ext_is K5.2 (Nat.zero_lt_succ _) (ext_is K3.2 (Nat.zero_lt_succ _) (ext_is K1.2 (Nat.zero_lt_succ _) n_a0))))))
            refine gd_c f35 ?_
            have f37 := (ext_is K14.2 (Nat.zero_lt_succ _) (ext_is K10.2 (Nat.zero_lt_succ _) (ext_is K7.2 (Nat.zero_lt_succ _) (ext_is K5.2 (Nat.zero_lt_succ _) (ext_is K3.2 (Nat.zero_lt_succ _) (ext_is K1.2 (Nat.zero_lt_succ _) n_a0))))))
            refine gd_b (gX98_withRegister _ _ _ _ _ ⟨K14.1.1, K14.1.2⟩ f37 (((((h.1 c0_0).2.2.2.2.2.2.2.2.2 c18_0).2 c22_1).2 c30_2).1 c34_3).1) (fun K36 => ?_)
            exact ⟨rfl, ⟨K36.1.1, K36.1.2⟩, (ext_dI (ext_dI (ext_dI (ext_dI (ext_tr K1.2 (ext_tr K3.2 (ext_tr K5.2 (ext_tr K7.2 (ext_tr K10.2 (ext_dL (ext_tr K14.2 (ext_dL K36.2))))))))))))⟩
          · refine gd_fi (fun c38_4 => ?_) (fun c38_4 => ?_)
            · have f39 := (ext_is K14.2 (Nat.zero_lt_succ _) (ext_is K10.2 (Nat.zero_lt_succ _) (ext_is K7.2 (Nat.zero_lt_succ _) (ext_is K5.2 (Nat.zero_lt_succ _) (ext_is K3.2 (Nat.zero_lt_succ _) (ext_is K1.2 (Nat.zero_lt_succ _) n_a0))))))
              refine gd_c f39 ?_
              have f44 := (ext_is K14.2 (Nat.zero_lt_succ _) (ext_is K10.2 (Nat.zero_lt_succ _) (ext_is K7.2 (Nat.zero_lt_succ _) (ext_is K5.2 (Nat.zero_lt_succ _) (ext_is K3.2 (Nat.zero_lt_succ _) (ext_is K1.2 (Nat.zero_lt_succ _) n_a0))))))
              refine gd_b (gX98_immediateU _ _ ⟨K14.1.1, K14.1.2⟩ f44 ((((((h.1 c0_0).2.2.2.2.2.2.2.2.2 c18_0).2 c22_1).2 c30_2).2 c34_3).1 c38_4).1) (fun K40 => ?_)
              have f41 := (ext_is K40.2 (Nat.zero_lt_succ _) (ext_is K14.2 (Nat.zero_lt_succ _) (ext_is K10.2 (Nat.zero_lt_succ _) (ext_is K7.2 (Nat.zero_lt_succ _) (ext_is K5.2 (Nat.zero_lt_succ _) (ext_is K3.2 (Nat.zero_lt_succ _) (ext_is K1.2 (Nat.zero_lt_succ _) n_a0)))))))
              refine gd_c f41 ?_
              have f43 := (ext_is K40.2 (Nat.zero_lt_succ _) (ext_is K14.2 (Nat.zero_lt_succ _) (ext_is K10.2 (Nat.zero_lt_succ _) (ext_is K7.2 (Nat.zero_lt_succ _) (ext_is K5.2 (Nat.zero_lt_succ _) (ext_is K3.2 (Nat.zero_lt_succ _) (ext_is K1.2 (Nat.zero_lt_succ _) n_a0)))))))
              refine gd_b (gX98_done _ _ _ _ ⟨K40.1.1, K40.1.2⟩ f43 ((((((h.1 c0_0).2.2.2.2.2.2.2.2.2 c18_0).2 c22_1).2 c30_2).2 c34_3).1 c38_4).2.1) (fun K42 => ?_)
              exact ⟨rfl, ⟨K42.1.1, K42.1.2⟩, (ext_dI (ext_dI (ext_dI (ext_dI (ext_tr K1.2 (ext_tr K3.2 (ext_tr K5.2 (ext_tr K7.2 (ext_tr K10.2 (ext_dL (ext_tr K14.2 (ext_dL (ext_tr K40.2 K42.2)))))))))))))⟩
            · refine gd_fi (fun c45_5 => ?_) (fun c45_5 => ?_)
              · have f46 := (ext_is K14.2 (Nat.zero_lt_succ _) (ext_is K10.2 (Nat.zero_lt_succ _) (ext_is K7.2 (Nat.zero_lt_succ _) (ext_is K5.2 (Nat.zero_lt_succ _) (ext_is K3.2 (Nat.zero_lt_succ _) (ext_is K1.2 (Nat.zero_lt_succ _) n_a0))))))
                refine gd_c f46 ?_
                have f48 := (ext_is K14.2 (Nat.zero_lt_succ _) (ext_is K10.2 (Nat.zero_lt_succ _) (ext_is K7.2 (Nat.zero_lt_succ _) (ext_is K5.2 (Nat.zero_lt_succ _) (ext_is K3.2 (Nat.zero_lt_succ _) (ext_is K1.2 (Nat.zero_lt_succ _) n_a0))))))
                refine gd_b (gX98_intRegister _ _ _ _ _ ⟨K14.1.1, K14.1.2⟩ f48 (((((((h.1 c0_0).2.2.2.2.2.2.2.2.2 c18_0).2 c22_1).2 c30_2).2 c34_3).2 c38_4).1 c45_5).1) (fun K47 => ?_)
                exact ⟨rfl, ⟨K47.1.1, K47.1.2⟩, (ext_dI (ext_dI (ext_dI (ext_dI (ext_tr K1.2 (ext_tr K3.2 (ext_tr K5.2 (ext_tr K7.2 (ext_tr K10.2 (ext_dL (ext_tr K14.2 (ext_dL K47.2))))))))))))⟩
              · refine gd_fi (fun c49_6 => ?_) (fun c49_6 => ?_)
                · have f50 := (ext_is K14.2 (Nat.zero_lt_succ _) (ext_is K10.2 (Nat.zero_lt_succ _) (ext_is K7.2 (Nat.zero_lt_succ _) (ext_is K5.2 (Nat.zero_lt_succ _) (ext_is K3.2 (Nat.zero_lt_succ _) (ext_is K1.2 (Nat.zero_lt_succ _) n_a0))))))
                  refine gd_c f50 ?_
                  have f52 := (ext_is K14.2 (Nat.zero_lt_succ _) (ext_is K10.2 (Nat.zero_lt_succ _) (ext_is K7.2 (Nat.zero_lt_succ _) (ext_is K5.2 (Nat.zero_lt_succ _) (ext_is K3.2 (Nat.zero_lt_succ _) (ext_is K1.2 (Nat.zero_lt_succ _) n_a0))))))
                  refine gd_b (gX98_branch _ _ _ ⟨K14.1.1, K14.1.2⟩ f52 ((((((((h.1 c0_0).2.2.2.2.2.2.2.2.2 c18_0).2 c22_1).2 c30_2).2 c34_3).2 c38_4).2 c45_5).1 c49_6).1) (fun K51 => ?_)
                  exact ⟨rfl, ⟨K51.1.1, K51.1.2⟩, (ext_dI (ext_dI (ext_dI (ext_dI (ext_tr K1.2 (ext_tr K3.2 (ext_tr K5.2 (ext_tr K7.2 (ext_tr K10.2 (ext_dL (ext_tr K14.2 (ext_dL K51.2))))))))))))⟩
                · refine gd_fi (fun c53_7 => ?_) (fun c53_7 => ?_)
                  · refine gd_fi (fun c54_0 => ?_) (fun c54_0 => ?_)
                    · have f55 := (ext_is K14.2 (Nat.zero_lt_succ _) (ext_is K10.2 (Nat.zero_lt_succ _) (ext_is K7.2 (Nat.zero_lt_succ _) (ext_is K5.2 (Nat.zero_lt_succ _) (ext_is K3.2 (Nat.zero_lt_succ _) (ext_is K1.2 (Nat.zero_lt_succ _) n_a0))))))
                      refine gd_c f55 ?_
                      have f68 := (ext_is K14.2 (Nat.zero_lt_succ _) (ext_is K10.2 (Nat.zero_lt_succ _) (ext_is K7.2 (Nat.zero_lt_succ _) (ext_is K5.2 (Nat.zero_lt_succ _) (ext_is K3.2 (Nat.zero_lt_succ _) (ext_is K1.2 (Nat.zero_lt_succ _) n_a0))))))
                      refine gd_b (gX98_put _ _ _ _ ⟨K14.1.1, K14.1.2⟩ f68 ((((((((((h.1 c0_0).2.2.2.2.2.2.2.2.2 c18_0).2 c22_1).2 c30_2).2 c34_3).2 c38_4).2 c45_5).2 c49_6).1 c53_7).1 c54_0).1) (fun K56 => ?_)
                      have f57 := (ext_is K56.2 (Nat.zero_lt_succ _) (ext_is K14.2 (Nat.zero_lt_succ _) (ext_is K10.2 (Nat.zero_lt_succ _) (ext_is K7.2 (Nat.zero_lt_succ _) (ext_is K5.2 (Nat.zero_lt_succ _) (ext_is K3.2 (Nat.zero_lt_succ _) (ext_is K1.2 (Nat.zero_lt_succ _) n_a0)))))))
                      refine gd_c f57 ?_
                      have f58 := (ext_is K56.2 (Nat.zero_lt_succ _) (ext_is K14.2 (Nat.zero_lt_succ _) (ext_is K10.2 (Nat.zero_lt_succ _) (ext_is K7.2 (Nat.zero_lt_succ _) (ext_is K5.2 (Nat.zero_lt_succ _) (ext_is K3.2 (Nat.zero_lt_succ _) (ext_is K1.2 (Nat.zero_lt_succ _) n_a0)))))))
                      refine gd_c f58 ?_
                      have f67 := (ext_is K56.2 (Nat.zero_lt_succ _) (ext_is K14.2 (Nat.zero_lt_succ _) (ext_is K10.2 (Nat.zero_lt_succ _) (ext_is K7.2 (Nat.zero_lt_succ _) (ext_is K5.2 (Nat.zero_lt_succ _) (ext_is K3.2 (Nat.zero_lt_succ _) (ext_is K1.2 (Nat.zero_lt_succ _) n_a0)))))))
                      refine gd_b (gX98_immediateI _ _ ⟨K56.1.1, K56.1.2⟩ f67 ((((((((((h.1 c0_0).2.2.2.2.2.2.2.2.2 c18_0).2 c22_1).2 c30_2).2 c34_3).2 c38_4).2 c45_5).2 c49_6).1 c53_7).1 c54_0).2.1) (fun K59 => ?_)
                      have f60 := (ext_is K59.2 (Nat.zero_lt_succ _) (ext_is K56.2 (Nat.zero_lt_succ _) (ext_is K14.2 (Nat.zero_lt_succ _) (ext_is K10.2 (Nat.zero_lt_succ _) (ext_is K7.2 (Nat.zero_lt_succ _) (ext_is K5.2 (Nat.zero_lt_succ _) (ext_is K3.2 (Nat.zero_lt_succ _) (ext_is K1.2 (Nat.zero_lt_succ _) n_a0))))))))
                      refine gd_c f60 ?_
                      have f61 := (ext_is K59.2 (Nat.zero_lt_succ _) (ext_is K56.2 (Nat.zero_lt_succ _) (ext_is K14.2 (Nat.zero_lt_succ _) (ext_is K10.2 (Nat.zero_lt_succ _) (ext_is K7.2 (Nat.zero_lt_succ _) (ext_is K5.2 (Nat.zero_lt_succ _) (ext_is K3.2 (Nat.zero_lt_succ _) (ext_is K1.2 (Nat.zero_lt_succ _) n_a0))))))))
                      refine gd_c f61 ?_
                      have f66 := (ext_is K59.2 (Nat.zero_lt_succ _) (ext_is K56.2 (Nat.zero_lt_succ _) (ext_is K14.2 (Nat.zero_lt_succ _) (ext_is K10.2 (Nat.zero_lt_succ _) (ext_is K7.2 (Nat.zero_lt_succ _) (ext_is K5.2 (Nat.zero_lt_succ _) (ext_is K3.2 (Nat.zero_lt_succ _) (ext_is K1.2 (Nat.zero_lt_succ _) n_a0))))))))
                      refine gd_b (gX98_immediateI _ _ ⟨K59.1.1, K59.1.2⟩ f66 ((((((((((h.1 c0_0).2.2.2.2.2.2.2.2.2 c18_0).2 c22_1).2 c30_2).2 c34_3).2 c38_4).2 c45_5).2 c49_6).1 c53_7).1 c54_0).2.2.1) (fun K62 => ?_)
                      have f63 := (ext_is K62.2 (Nat.zero_lt_succ _) (ext_is K59.2 (Nat.zero_lt_succ _) (ext_is K56.2 (Nat.zero_lt_succ _) (ext_is K14.2 (Nat.zero_lt_succ _) (ext_is K10.2 (Nat.zero_lt_succ _) (ext_is K7.2 (Nat.zero_lt_succ _) (ext_is K5.2 (Nat.zero_lt_succ _) (ext_is K3.2 (Nat.zero_lt_succ _) (ext_is K1.2 (Nat.zero_lt_succ _) n_a0)))))))))
                      refine gd_c f63 ?_
                      have f65 := (ext_is K62.2 (Nat.zero_lt_succ _) (ext_is K59.2 (Nat.zero_lt_succ _) (ext_is K56.2 (Nat.zero_lt_succ _) (ext_is K14.2 (Nat.zero_lt_succ _) (ext_is K10.2 (Nat.zero_lt_succ _) (ext_is K7.2 (Nat.zero_lt_succ _) (ext_is K5.2 (Nat.zero_lt_succ _) (ext_is K3.2 (Nat.zero_lt_succ _) (ext_is K1.2 (Nat.zero_lt_succ _) n_a0)))))))))
                      refine gd_b (gX98_go _ _ _ ⟨K62.1.1, K62.1.2⟩ f65 ) (fun K64 => ?_)
                      exact ⟨rfl, ⟨K64.1.1, K64.1.2⟩, (ext_dI (ext_dI (ext_dI (ext_dI (ext_tr K1.2 (ext_tr K3.2 (ext_tr K5.2 (ext_tr K7.2 (ext_tr K10.2 (ext_dL (ext_tr K14.2 (ext_dL (ext_tr K56.2 (ext_tr K59.2 (ext_tr K62.2 K64.2)))))))))))))))⟩
                    · exact ⟨rfl, ⟨K14.1.1, K14.1.2⟩, (ext_dI (ext_dI (ext_dI (ext_dI (ext_tr K1.2 (ext_tr K3.2 (ext_tr K5.2 (ext_tr K7.2 (ext_tr K10.2 (ext_dL (ext_tr K14.2 (ext_dL (ext_r _)))))))))))))⟩
                  · refine gd_fi (fun c69_8 => ?_) (fun c69_8 => ?_)
                    · have f70 := (ext_is K14.2 (Nat.zero_lt_succ _) (ext_is K10.2 (Nat.zero_lt_succ _) (ext_is K7.2 (Nat.zero_lt_succ _) (ext_is K5.2 (Nat.zero_lt_succ _) (ext_is K3.2 (Nat.zero_lt_succ _) (ext_is K1.2 (Nat.zero_lt_succ _) n_a0))))))
                      refine gd_c f70 ?_
                      have f79 := (ext_is K14.2 (Nat.zero_lt_succ _) (ext_is K10.2 (Nat.zero_lt_succ _) (ext_is K7.2 (Nat.zero_lt_succ _) (ext_is K5.2 (Nat.zero_lt_succ _) (ext_is K3.2 (Nat.zero_lt_succ _) (ext_is K1.2 (Nat.zero_lt_succ _) n_a0))))))
                      refine gd_b (gX98_put _ _ _ _ ⟨K14.1.1, K14.1.2⟩ f79 ((((((((((h.1 c0_0).2.2.2.2.2.2.2.2.2 c18_0).2 c22_1).2 c30_2).2 c34_3).2 c38_4).2 c45_5).2 c49_6).2 c53_7).1 c69_8).1) (fun K71 => ?_)
                      have f72 := (ext_is K71.2 (Nat.zero_lt_succ _) (ext_is K14.2 (Nat.zero_lt_succ _) (ext_is K10.2 (Nat.zero_lt_succ _) (ext_is K7.2 (Nat.zero_lt_succ _) (ext_is K5.2 (Nat.zero_lt_succ _) (ext_is K3.2 (Nat.zero_lt_succ _) (ext_is K1.2 (Nat.zero_lt_succ _) n_a0)))))))
                      refine gd_c f72 ?_
                      have f73 := (ext_is K71.2 (Nat.zero_lt_succ _) (ext_is K14.2 (Nat.zero_lt_succ _) (ext_is K10.2 (Nat.zero_lt_succ _) (ext_is K7.2 (Nat.zero_lt_succ _) (ext_is K5.2 (Nat.zero_lt_succ _) (ext_is K3.2 (Nat.zero_lt_succ _) (ext_is K1.2 (Nat.zero_lt_succ _) n_a0)))))))
                      refine gd_c f73 ?_
                      have f78 := (ext_is K71.2 (Nat.zero_lt_succ _) (ext_is K14.2 (Nat.zero_lt_succ _) (ext_is K10.2 (Nat.zero_lt_succ _) (ext_is K7.2 (Nat.zero_lt_succ _) (ext_is K5.2 (Nat.zero_lt_succ _) (ext_is K3.2 (Nat.zero_lt_succ _) (ext_is K1.2 (Nat.zero_lt_succ _) n_a0)))))))
                      refine gd_b (gX98_immediateJ _ _ ⟨K71.1.1, K71.1.2⟩ f78 ((((((((((h.1 c0_0).2.2.2.2.2.2.2.2.2 c18_0).2 c22_1).2 c30_2).2 c34_3).2 c38_4).2 c45_5).2 c49_6).2 c53_7).1 c69_8).2.1) (fun K74 => ?_)
                      have f75 := (ext_is K74.2 (Nat.zero_lt_succ _) (ext_is K71.2 (Nat.zero_lt_succ _) (ext_is K14.2 (Nat.zero_lt_succ _) (ext_is K10.2 (Nat.zero_lt_succ _) (ext_is K7.2 (Nat.zero_lt_succ _) (ext_is K5.2 (Nat.zero_lt_succ _) (ext_is K3.2 (Nat.zero_lt_succ _) (ext_is K1.2 (Nat.zero_lt_succ _) n_a0))))))))
                      refine gd_c f75 ?_
                      have f77 := (ext_is K74.2 (Nat.zero_lt_succ _) (ext_is K71.2 (Nat.zero_lt_succ _) (ext_is K14.2 (Nat.zero_lt_succ _) (ext_is K10.2 (Nat.zero_lt_succ _) (ext_is K7.2 (Nat.zero_lt_succ _) (ext_is K5.2 (Nat.zero_lt_succ _) (ext_is K3.2 (Nat.zero_lt_succ _) (ext_is K1.2 (Nat.zero_lt_succ _) n_a0))))))))
                      refine gd_b (gX98_go _ _ _ ⟨K74.1.1, K74.1.2⟩ f77 ) (fun K76 => ?_)
                      exact ⟨rfl, ⟨K76.1.1, K76.1.2⟩, (ext_dI (ext_dI (ext_dI (ext_dI (ext_tr K1.2 (ext_tr K3.2 (ext_tr K5.2 (ext_tr K7.2 (ext_tr K10.2 (ext_dL (ext_tr K14.2 (ext_dL (ext_tr K71.2 (ext_tr K74.2 K76.2))))))))))))))⟩
                    · have f80 := (ext_is K14.2 (Nat.zero_lt_succ _) (ext_is K10.2 (Nat.zero_lt_succ _) (ext_is K7.2 (Nat.zero_lt_succ _) (ext_is K5.2 (Nat.zero_lt_succ _) (ext_is K3.2 (Nat.zero_lt_succ _) (ext_is K1.2 (Nat.zero_lt_succ _) n_a0))))))
                      refine gd_c f80 ?_
                      have f82 := (ext_is K14.2 (Nat.zero_lt_succ _) (ext_is K10.2 (Nat.zero_lt_succ _) (ext_is K7.2 (Nat.zero_lt_succ _) (ext_is K5.2 (Nat.zero_lt_succ _) (ext_is K3.2 (Nat.zero_lt_succ _) (ext_is K1.2 (Nat.zero_lt_succ _) n_a0))))))
                      refine gd_b (gX98_others _ _ _ _ _ ⟨K14.1.1, K14.1.2⟩ f82 ((((((((((h.1 c0_0).2.2.2.2.2.2.2.2.2 c18_0).2 c22_1).2 c30_2).2 c34_3).2 c38_4).2 c45_5).2 c49_6).2 c53_7).2 c69_8).1) (fun K81 => ?_)
                      exact ⟨rfl, ⟨K81.1.1, K81.1.2⟩, (ext_dI (ext_dI (ext_dI (ext_dI (ext_tr K1.2 (ext_tr K3.2 (ext_tr K5.2 (ext_tr K7.2 (ext_tr K10.2 (ext_dL (ext_tr K14.2 (ext_dL K81.2))))))))))))⟩
  · exact ⟨rfl, ⟨T.1, (tyb_sI (f := 345) rfl T.2)⟩, (ext_dI (ext_r _))⟩
noncomputable def GX98_run_11 (a0 : Nat) (a1 : Int32) (a2 : Int32) (s0 : Nat) (M : FM) : Int32 × FM :=
  GX98_run_16 a0 a1 a2 s0 (Int32.ofInt 0) M
def HX98_run_11 (a0 : Nat) (a1 : Int32) (a2 : Int32) (s0 : Nat) (M : FM) : Prop := HX98_run_16 a0 a1 a2 s0 (Int32.ofInt 0) M
theorem gX98_run_11 (a0 : Nat) (a1 : Int32) (a2 : Int32) (s0 : Nat) (M : FM) (T : Ty M) (n_s0 : fm_is M 94 94 s0 = true) (n_a0 : fm_is M 94 94 a0 = true) (h : HX98_run_11 a0 a1 a2 s0 M) : gd (FX98_run_11 fN a0 a1 a2 s0 M) (GX98_run_11 a0 a1 a2 s0 M) (OkR M) := by
  delta FX98_run_11 BX98_run_11
  exact gd_tR (ext_r _) (gX98_run_16 _ _ _ _ _ _ ⟨T.1, T.2⟩ n_s0 n_a0 h)
noncomputable def GX98_run_0 (a0 : Nat) (a1 : Int32) (a2 : Int32) (M : FM) : Int32 × FM :=
  fi (a2 = (Int32.ofInt 2)) (
    GX98_run_11 a0 a1 a2 a0 M) (
    fi (a2 = (Int32.ofInt 4)) (
      GX98_run_11 a0 a1 a2 a0 M) (
      GX98_run_16 a0 a1 a2 a0 (Int32.ofInt 1) M))
def HX98_run_0 (a0 : Nat) (a1 : Int32) (a2 : Int32) (M : FM) : Prop := ((a2 = (Int32.ofInt 2) → HX98_run_11 a0 a1 a2 a0 M) ∧ (¬ (a2 = (Int32.ofInt 2)) → ((a2 = (Int32.ofInt 4) → HX98_run_11 a0 a1 a2 a0 M) ∧ (¬ (a2 = (Int32.ofInt 4)) → HX98_run_16 a0 a1 a2 a0 (Int32.ofInt 1) M))))
theorem gX98_run_0 (a0 : Nat) (a1 : Int32) (a2 : Int32) (M : FM) (T : Ty M) (n_a0 : fm_is M 94 94 a0 = true) (h : HX98_run_0 a0 a1 a2 M) : gd (FX98_run_0 fN a0 a1 a2 M) (GX98_run_0 a0 a1 a2 M) (OkR M) := by
  delta FX98_run_0 BX98_run_0
  refine gd_fi (fun c0_0 => ?_) (fun c0_0 => ?_)
  · exact gd_tR (ext_r _) (gX98_run_11 _ _ _ _ _ ⟨T.1, T.2⟩ n_a0 n_a0 (h.1 c0_0))
  · refine gd_fi (fun c1_0 => ?_) (fun c1_0 => ?_)
    · exact gd_tR (ext_r _) (gX98_run_11 _ _ _ _ _ ⟨T.1, T.2⟩ n_a0 n_a0 ((h.2 c0_0).1 c1_0))
    · exact gd_tR (ext_r _) (gX98_run_16 _ _ _ _ _ _ ⟨T.1, T.2⟩ n_a0 n_a0 ((h.2 c0_0).2 c1_0))
noncomputable def GX98_run (a0 : Nat) (a1 : Int32) (a2 : Int32) (M : FM) : Int32 × FM := GX98_run_0 a0 a1 a2 M
def HX98_run (a0 : Nat) (a1 : Int32) (a2 : Int32) (M : FM) : Prop := HX98_run_0 a0 a1 a2 M
theorem gX98_run (a0 : Nat) (a1 : Int32) (a2 : Int32) (M : FM) (T : Ty M) (n_a0 : fm_is M 94 94 a0 = true) (h : HX98_run a0 a1 a2 M) : gd (FX98_run fN a0 a1 a2 M) (GX98_run a0 a1 a2 M) (OkR M) := gX98_run_0 a0 a1 a2 M T n_a0 h
