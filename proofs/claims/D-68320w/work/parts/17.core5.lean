/-! the twin's core: a step by its code (the chain is that of the printed function) -/
noncomputable def csw (c : Nat) (cd d f g : Int32) (M : FM) : Int32 × FM :=
    fi (cd = (Int32.ofInt 19)) (
      let r16 : Int32 × FM := GX98_withImmediate c d f M
      (r16.1, r16.2)) (
      fi (cd = (Int32.ofInt 23)) (
        let r17 : Int64 × FM := GX98_immediateU c M
        let r18 : Int32 × FM := GX98_done c d ((M.2.1 347 c 0) + r17.1) r17.2
        (r18.1, r18.2)) (
        fi (cd = (Int32.ofInt 27)) (
          let r19 : Int32 × FM := GX98_intImmediate c d f g M
          (r19.1, r19.2)) (
          fi (cd = (Int32.ofInt 51)) (
            let r20 : Int32 × FM := GX98_withRegister c d f g M
            (r20.1, r20.2)) (
            fi (cd = (Int32.ofInt 55)) (
              let r21 : Int64 × FM := GX98_immediateU c M
              let r22 : Int32 × FM := GX98_done c d r21.1 r21.2
              (r22.1, r22.2)) (
              fi (cd = (Int32.ofInt 59)) (
                let r23 : Int32 × FM := GX98_intRegister c d f g M
                (r23.1, r23.2)) (
                fi (cd = (Int32.ofInt 99)) (
                  let r24 : Int32 × FM := GX98_branch c f M
                  (r24.1, r24.2)) (
                  fi (cd = (Int32.ofInt 103)) (
                    fi (f = 0) (
                      let M25 : FM := GX98_put c d (M.2.1 347 c 0 + (M.1 350 c 0).toInt64) M
                      let r26 : Int64 × FM := GX98_immediateI c M25
                      let r27 : Int64 × FM := GX98_immediateI c r26.2
                      let r28 : Int32 × FM := GX98_go c (((M25.2.1 351 c 0) + r26.1) - (((r26.2.2.1 351 c 0) + r27.1) &&& (Int64.ofInt 1))) r27.2
                      (r28.1, r28.2)) (
                      ((Int32.ofInt (-1)), M))) (
                    fi (cd = (Int32.ofInt 111)) (
                      let M29 : FM := GX98_put c d (M.2.1 347 c 0 + (M.1 350 c 0).toInt64) M
                      let r30 : Int64 × FM := GX98_immediateJ c M29
                      let r31 : Int32 × FM := GX98_go c ((M29.2.1 347 c 0) + r30.1) r30.2
                      (r31.1, r31.2)) (
                      let r32 : Int32 × FM := GX98_others c cd d f M
                      (r32.1, r32.2))))))))))
def csH (c : Nat) (cd d f g : Int32) (M : FM) : Prop := ((cd = (Int32.ofInt 19) → (HX98_withImmediate c d f M ∧ True)) ∧ (¬ (cd = (Int32.ofInt 19)) → ((cd = (Int32.ofInt 23) → (HX98_immediateU c M ∧ let r17 : Int64 × FM := GX98_immediateU c M; (HX98_done c d ((M.2.1 347 c 0) + r17.1) r17.2 ∧ True))) ∧ (¬ (cd = (Int32.ofInt 23)) → ((cd = (Int32.ofInt 27) → (HX98_intImmediate c d f g M ∧ True)) ∧ (¬ (cd = (Int32.ofInt 27)) → ((cd = (Int32.ofInt 51) → (HX98_withRegister c d f g M ∧ True)) ∧ (¬ (cd = (Int32.ofInt 51)) → ((cd = (Int32.ofInt 55) → (HX98_immediateU c M ∧ let r21 : Int64 × FM := GX98_immediateU c M; (HX98_done c d r21.1 r21.2 ∧ True))) ∧ (¬ (cd = (Int32.ofInt 55)) → ((cd = (Int32.ofInt 59) → (HX98_intRegister c d f g M ∧ True)) ∧ (¬ (cd = (Int32.ofInt 59)) → ((cd = (Int32.ofInt 99) → (HX98_branch c f M ∧ True)) ∧ (¬ (cd = (Int32.ofInt 99)) → ((cd = (Int32.ofInt 103) → ((f = 0 → (HX98_put c d (M.2.1 347 c 0 + (M.1 350 c 0).toInt64) M ∧ let M25 : FM := GX98_put c d (M.2.1 347 c 0 + (M.1 350 c 0).toInt64) M; (HX98_immediateI c M25 ∧ let r26 : Int64 × FM := GX98_immediateI c M25; (HX98_immediateI c r26.2 ∧ True)))) ∧ (¬ (f = 0) → True))) ∧ (¬ (cd = (Int32.ofInt 103)) → ((cd = (Int32.ofInt 111) → (HX98_put c d (M.2.1 347 c 0 + (M.1 350 c 0).toInt64) M ∧ let M29 : FM := GX98_put c d (M.2.1 347 c 0 + (M.1 350 c 0).toInt64) M; (HX98_immediateJ c M29 ∧ True))) ∧ (¬ (cd = (Int32.ofInt 111)) → (HX98_others c cd d f M ∧ True)))))))))))))))))))
/-- the memory where the chain begins -/
def e4 (c : Nat) (w len : Int32) (M : FM) : FM := fm_sI (fm_sI (fm_sI (fm_sI M 345 c 0 (Int32.ofInt 0)) 349 c 0 w) 350 c 0 len) 353 c 0 (Int32.ofInt (-1))
def e14 (c : Nat) (w len : Int32) (M : FM) : FM := fm_sL (fm_sL (e4 c w len M) 351 c 0 (M.2.1 3 (M.2.2 346 c 0) (fd w 19 15))) 352 c 0 (M.2.1 3 (M.2.2 346 c 0) (fd w 24 20))
theorem e4_ty {c : Nat} {w len : Int32} {M : FM} (T : Ty M) : Ty (e4 c w len M) := ⟨T.1, tyb_sI rfl (tyb_sI rfl (tyb_sI rfl (tyb_sI rfl T.2)))⟩
theorem e14_ty {c : Nat} {w len : Int32} {M : FM} (T : Ty M) : Ty (e14 c w len M) := by
  have h : Ty (e4 c w len M) := e4_ty T
  exact ⟨h.1, h.2⟩
theorem e4_w (c : Nat) (w len : Int32) (M : FM) : (e4 c w len M).1 349 c 0 = w := by simp [e4, rI]
theorem fd_cl (w : Int32) {hi lo : Nat} (h : lo ≤ hi) (h2 : hi + 1 - lo ≤ 5) : (nI (fd w hi lo)).toNatClampNeg = fd w hi lo := nI_clamp (by have := Nat.lt_of_lt_of_le (fd_lt w h) (Nat.pow_le_pow_right (n := 2) (by decide) h2); omega)
theorem X98_run_e {c : Nat} {M : FM} (T : Ty M) (n : fm_is M 94 94 c = true) (hc : M.2.2 346 c 0 ≠ c) (w : Int32) {len : Int32} (hl : len = Int32.ofInt 2 ∨ len = Int32.ofInt 4) :
    (HX98_run c w len M ↔ csH c (nI (fd w 6 0)) (nI (fd w 11 7)) (nI (fd w 14 12)) (nI (fd w 31 25)) (e14 c w len M)) ∧
    GX98_run c w len M = csw c (nI (fd w 6 0)) (nI (fd w 11 7)) (nI (fd w 14 12)) (nI (fd w 31 25)) (e14 c w len M) := by
  have T4 : Ty (e4 c w len M) := e4_ty T
  have n4 : fm_is (e4 c w len M) 94 94 c = true := n
  have T11 : Ty (fm_sL (e4 c w len M) 351 c 0 (M.2.1 3 (M.2.2 346 c 0) (fd w 19 15))) := ⟨T4.1, T4.2⟩
  have n11 : fm_is (fm_sL (e4 c w len M) 351 c 0 (M.2.1 3 (M.2.2 346 c 0) (fd w 19 15))) 94 94 c = true := n
  have z : ((fm_sI M 345 c 0 (Int32.ofInt 0)).1 345 c 0 ≤ 0) = True := eq_true (by rw [rI, if_pos ⟨rfl, rfl, rfl⟩]; decide)
  have l1 : (e4 c w len M).2.1 3 ((e4 c w len M).2.2 346 c 0) (fd w 19 15) = M.2.1 3 (M.2.2 346 c 0) (fd w 19 15) := rfl
  have l2 : (fm_sL (e4 c w len M) 351 c 0 (M.2.1 3 (M.2.2 346 c 0) (fd w 19 15))).2.1 3 ((fm_sL (e4 c w len M) 351 c 0 (M.2.1 3 (M.2.2 346 c 0) (fd w 19 15))).2.2 346 c 0) (fd w 24 20) = M.2.1 3 (M.2.2 346 c 0) (fd w 24 20) := by
    rw [rL, if_neg (by simp)]
    rfl
  have i1 : fm_in (e4 c w len M) ((e4 c w len M).2.2 346 c 0) (nI (fd w 19 15)) = true := in32 (tL_346 T.1 n) (d5_fd w 19 15 (by decide) (by decide))
  have i2 : fm_in (fm_sL (e4 c w len M) 351 c 0 (M.2.1 3 (M.2.2 346 c 0) (fd w 19 15))) ((fm_sL (e4 c w len M) 351 c 0 (M.2.1 3 (M.2.2 346 c 0) (fd w 19 15))).2.2 346 c 0) (nI (fd w 24 20)) = true := in32 (tL_346 T.1 n) (d5_fd w 24 20 (by decide) (by decide))
  have w11 : (fm_sL (e4 c w len M) 351 c 0 (M.2.1 3 (M.2.2 346 c 0) (fd w 19 15))).1 349 c 0 = w := e4_w c w len M
  have eG : GX98_run c w len M = GX98_run_16 c w len c (Int32.ofInt 0) M := by
    unfold GX98_run GX98_run_0 GX98_run_11
    rcases hl with h | h
    · rw [fi_pos h]
    · by_cases q : len = Int32.ofInt 2
      · rw [fi_pos q]
      · rw [fi_neg q, fi_pos h]
  have eH : HX98_run c w len M ↔ HX98_run_16 c w len c (Int32.ofInt 0) M := by
    unfold HX98_run HX98_run_0 HX98_run_11
    rcases hl with h | h
    · subst h
      exact ⟨fun k => k.1 rfl, fun k => ⟨fun _ => k, fun q => absurd rfl q⟩⟩
    · subst h
      exact ⟨fun k => (k.2 (by decide)).1 rfl, fun k => ⟨fun _ => k, fun _ => ⟨fun _ => k, fun q => absurd rfl q⟩⟩⟩
  constructor
  · rw [eH]
    unfold HX98_run_16
    dsimp only
    rw [show fm_sI (fm_sI (fm_sI (fm_sI M 345 c 0 (Int32.ofInt 0)) 349 c 0 w) 350 c 0 len) 353 c 0 (Int32.ofInt (-1)) = e4 c w len M from rfl]
    simp only [z, (X98_bits _ _ _ _ T4 n4 (hi := 6) (lo := 0) (by decide) (by decide) (show ui (Int32.ofInt 6) = 6 from rfl) (show ui (Int32.ofInt 0) = 0 from rfl)).1, (X98_bits _ _ _ _ T4 n4 (hi := 6) (lo := 0) (by decide) (by decide) (show ui (Int32.ofInt 6) = 6 from rfl) (show ui (Int32.ofInt 0) = 0 from rfl)).2, (X98_bits _ _ _ _ T4 n4 (hi := 11) (lo := 7) (by decide) (by decide) (show ui (Int32.ofInt 11) = 11 from rfl) (show ui (Int32.ofInt 7) = 7 from rfl)).1, (X98_bits _ _ _ _ T4 n4 (hi := 11) (lo := 7) (by decide) (by decide) (show ui (Int32.ofInt 11) = 11 from rfl) (show ui (Int32.ofInt 7) = 7 from rfl)).2, (X98_bits _ _ _ _ T4 n4 (hi := 14) (lo := 12) (by decide) (by decide) (show ui (Int32.ofInt 14) = 14 from rfl) (show ui (Int32.ofInt 12) = 12 from rfl)).1, (X98_bits _ _ _ _ T4 n4 (hi := 14) (lo := 12) (by decide) (by decide) (show ui (Int32.ofInt 14) = 14 from rfl) (show ui (Int32.ofInt 12) = 12 from rfl)).2, (X98_bits _ _ _ _ T4 n4 (hi := 31) (lo := 25) (by decide) (by decide) (show ui (Int32.ofInt 31) = 31 from rfl) (show ui (Int32.ofInt 25) = 25 from rfl)).1, (X98_bits _ _ _ _ T4 n4 (hi := 31) (lo := 25) (by decide) (by decide) (show ui (Int32.ofInt 31) = 31 from rfl) (show ui (Int32.ofInt 25) = 25 from rfl)).2, (X98_bits _ _ _ _ T4 n4 (hi := 19) (lo := 15) (by decide) (by decide) (show ui (Int32.ofInt 19) = 19 from rfl) (show ui (Int32.ofInt 15) = 15 from rfl)).1, (X98_bits _ _ _ _ T4 n4 (hi := 19) (lo := 15) (by decide) (by decide) (show ui (Int32.ofInt 19) = 19 from rfl) (show ui (Int32.ofInt 15) = 15 from rfl)).2, e4_w, fd_cl w (show 15 ≤ 19 by decide) (by decide), l1, i1, (X98_bits _ _ _ _ T11 n11 (hi := 24) (lo := 20) (by decide) (by decide) (show ui (Int32.ofInt 24) = 24 from rfl) (show ui (Int32.ofInt 20) = 20 from rfl)).1, (X98_bits _ _ _ _ T11 n11 (hi := 24) (lo := 20) (by decide) (by decide) (show ui (Int32.ofInt 24) = 24 from rfl) (show ui (Int32.ofInt 20) = 20 from rfl)).2, w11, fd_cl w (show 20 ≤ 24 by decide) (by decide), l2, i2, true_and, true_imp_iff, not_true, false_imp_iff, and_true, csH, e14]
  · rw [eG]
    unfold GX98_run_16
    dsimp only
    rw [show fm_sI (fm_sI (fm_sI (fm_sI M 345 c 0 (Int32.ofInt 0)) 349 c 0 w) 350 c 0 len) 353 c 0 (Int32.ofInt (-1)) = e4 c w len M from rfl]
    rw [fi_pos (of_eq_true z)]
    simp only [(X98_bits _ _ _ _ T4 n4 (hi := 6) (lo := 0) (by decide) (by decide) (show ui (Int32.ofInt 6) = 6 from rfl) (show ui (Int32.ofInt 0) = 0 from rfl)).1, (X98_bits _ _ _ _ T4 n4 (hi := 6) (lo := 0) (by decide) (by decide) (show ui (Int32.ofInt 6) = 6 from rfl) (show ui (Int32.ofInt 0) = 0 from rfl)).2, (X98_bits _ _ _ _ T4 n4 (hi := 11) (lo := 7) (by decide) (by decide) (show ui (Int32.ofInt 11) = 11 from rfl) (show ui (Int32.ofInt 7) = 7 from rfl)).1, (X98_bits _ _ _ _ T4 n4 (hi := 11) (lo := 7) (by decide) (by decide) (show ui (Int32.ofInt 11) = 11 from rfl) (show ui (Int32.ofInt 7) = 7 from rfl)).2, (X98_bits _ _ _ _ T4 n4 (hi := 14) (lo := 12) (by decide) (by decide) (show ui (Int32.ofInt 14) = 14 from rfl) (show ui (Int32.ofInt 12) = 12 from rfl)).1, (X98_bits _ _ _ _ T4 n4 (hi := 14) (lo := 12) (by decide) (by decide) (show ui (Int32.ofInt 14) = 14 from rfl) (show ui (Int32.ofInt 12) = 12 from rfl)).2, (X98_bits _ _ _ _ T4 n4 (hi := 31) (lo := 25) (by decide) (by decide) (show ui (Int32.ofInt 31) = 31 from rfl) (show ui (Int32.ofInt 25) = 25 from rfl)).1, (X98_bits _ _ _ _ T4 n4 (hi := 31) (lo := 25) (by decide) (by decide) (show ui (Int32.ofInt 31) = 31 from rfl) (show ui (Int32.ofInt 25) = 25 from rfl)).2, (X98_bits _ _ _ _ T4 n4 (hi := 19) (lo := 15) (by decide) (by decide) (show ui (Int32.ofInt 19) = 19 from rfl) (show ui (Int32.ofInt 15) = 15 from rfl)).1, (X98_bits _ _ _ _ T4 n4 (hi := 19) (lo := 15) (by decide) (by decide) (show ui (Int32.ofInt 19) = 19 from rfl) (show ui (Int32.ofInt 15) = 15 from rfl)).2, e4_w, fd_cl w (show 15 ≤ 19 by decide) (by decide), l1, (X98_bits _ _ _ _ T11 n11 (hi := 24) (lo := 20) (by decide) (by decide) (show ui (Int32.ofInt 24) = 24 from rfl) (show ui (Int32.ofInt 20) = 20 from rfl)).1, (X98_bits _ _ _ _ T11 n11 (hi := 24) (lo := 20) (by decide) (by decide) (show ui (Int32.ofInt 24) = 24 from rfl) (show ui (Int32.ofInt 20) = 20 from rfl)).2, w11, fd_cl w (show 20 ≤ 24 by decide) (by decide), l2]
    rfl
