/-! control registers: what the twin sees of the status, its lines -/
set_option maxRecDepth 100000
def ssB (k : Nat) : Bool := fe_mem [1, 5, 8, 13, 14, 18, 19] k
def ssO (k : Nat) : Bool := fe_mem [3, 7, 11, 12, 17, 20, 21, 22] k
noncomputable def ssv (a : Int32) : Nat → Int64
  | 0 => Int64.ofInt 0
  | k + 1 => fi (ssB k = true ∨ (¬ a = 0 ∧ ssO k = true)) (ssv a k ||| ((Int64.ofInt 1) <<< ((nI k).toInt64 &&& 63))) (ssv a k)
theorem ss_step (a : Int32) (acc : Int64) (M : FM) (k : Nat) (hk : k < 23) : GX100_statusSeen_4 a acc (nI k) M = .inl (a, fi (ssB k = true ∨ (¬ a = 0 ∧ ssO k = true)) (acc ||| ((Int64.ofInt 1) <<< ((nI k).toInt64 &&& 63))) acc, nI (k + 1), M) := by
  have h : k = 0 ∨ k = 1 ∨ k = 2 ∨ k = 3 ∨ k = 4 ∨ k = 5 ∨ k = 6 ∨ k = 7 ∨ k = 8 ∨ k = 9 ∨ k = 10 ∨ k = 11 ∨ k = 12 ∨ k = 13 ∨ k = 14 ∨ k = 15 ∨ k = 16 ∨ k = 17 ∨ k = 18 ∨ k = 19 ∨ k = 20 ∨ k = 21 ∨ k = 22 := by omega
  by_cases ha : a = 0
  · rcases h with rfl | rfl | rfl | rfl | rfl | rfl | rfl | rfl | rfl | rfl | rfl | rfl | rfl | rfl | rfl | rfl | rfl | rfl | rfl | rfl | rfl | rfl | rfl <;>
      (simp (decide := true) only [GX100_statusSeen_134, GX100_statusSeen_133, GX100_statusSeen_125, GX100_statusSeen_109, GX100_statusSeen_104, GX100_statusSeen_55, GX100_statusSeen_50, GX100_statusSeen_0, GX100_statusSeen_4, GX100_statusSeen, fi_if, ha, if_true, if_false, not_true, false_and, or_false, true_or, or_true] <;> rfl)
  · rcases h with rfl | rfl | rfl | rfl | rfl | rfl | rfl | rfl | rfl | rfl | rfl | rfl | rfl | rfl | rfl | rfl | rfl | rfl | rfl | rfl | rfl | rfl | rfl <;>
      (simp (decide := true) only [GX100_statusSeen_134, GX100_statusSeen_133, GX100_statusSeen_125, GX100_statusSeen_109, GX100_statusSeen_104, GX100_statusSeen_55, GX100_statusSeen_50, GX100_statusSeen_0, GX100_statusSeen_4, GX100_statusSeen, fi_if, ha, if_true, if_false, not_false_iff, true_and, or_false, true_or, or_true] <;> rfl)
theorem ss_L (a : Int32) (M : FM) (T : Ty M) : ∀ m j, m < j → m ≤ 23 → FX100_statusSeen_L4 fN j a (ssv a (23 - m)) (nI (23 - m)) M = some (ssv a 23, M) := by
  intro m
  induction m with
  | zero =>
    intro j hj hm
    obtain ⟨j, rfl⟩ : ∃ i, j = i + 1 := ⟨j - 1, by omega⟩
    show FX100_statusSeen_4 fN (FX100_statusSeen_L4 fN j) _ _ _ _ = _
    rw [(gX100_statusSeen_4 _ _ _ _ M T).1]
    have h : Int32.ofInt 23 ≤ nI (23 - 0) := by decide
    unfold GX100_statusSeen_4
    rw [fi_pos h]
    rfl
  | succ m ih =>
    intro j hj hm
    obtain ⟨j, rfl⟩ : ∃ i, j = i + 1 := ⟨j - 1, by omega⟩
    show FX100_statusSeen_4 fN (FX100_statusSeen_L4 fN j) _ _ _ _ = _
    rw [(gX100_statusSeen_4 _ _ _ _ M T).1, ss_step _ _ _ _ (by omega)]
    have e := ih j (by omega) (by omega)
    rw [show 23 - m = 23 - (m + 1) + 1 from by omega] at e
    exact e
theorem X100_statusSeen (a : Int32) (M : FM) (T : Ty M) : HX100_statusSeen a M ∧ GX100_statusSeen a M = (ssv a 23, M) := by
  refine op_of (P := OkR M) (d := (0, M)) ?_ ⟨T, ext_r _⟩
  show FX100_statusSeen_0 fN (FX100_statusSeen_L4 fN fN) a M = _
  rw [(gX100_statusSeen_0 _ _ M T).1]
  have h := ss_L a M T 23 fN (by unfold fN; omega) (Nat.le_refl _)
  exact h
theorem ssv_1 : ssv (Int32.ofInt 1) 23 = Int64.ofInt 8288682 := by
  simp (decide := true) only [ssv, fi_if, if_true, if_false]
theorem ssv_0 : ssv (Int32.ofInt 0) 23 = Int64.ofInt 811298 := by
  simp (decide := true) only [ssv, fi_if, if_true, if_false]
/-- the twin's lines as bits -/
theorem lnb_step {d : Nat} {M : FM} (T : Ty M) (n : fm_is M 95 95 d = true) : ∀ m j, m < j → m ≤ 9 → ∀ acc : Int64, (∀ i, i < 64 → lb acc i = (decide (3 ≤ i) && decide (i < 12 - m) && decide (M.1 3 (M.2.2 362 d 0) i ≠ 0))) →
    ∃ v, FX100_lineBits_L4 fN j d acc (nI (12 - m)) M = some (v, M) ∧ ∀ i, i < 64 → lb v i = (decide (3 ≤ i) && decide (i < 12) && decide (M.1 3 (M.2.2 362 d 0) i ≠ 0)) := by
  intro m
  induction m with
  | zero =>
    intro j hj hm acc ha
    obtain ⟨j, rfl⟩ : ∃ i, j = i + 1 := ⟨j - 1, by omega⟩
    refine ⟨acc, ?_, ha⟩
    show FX100_lineBits_4 fN (FX100_lineBits_L4 fN j) _ _ _ _ = _
    have h : Int32.ofInt 12 ≤ nI (12 - 0) := by decide
    rw [(gX100_lineBits_4 _ _ _ _ M T n ⟨fun _ => trivial, fun q => absurd h q⟩).1]
    unfold GX100_lineBits_4
    rw [fi_pos h]
    rfl
  | succ m ih =>
    intro j hj hm acc ha
    obtain ⟨j, rfl⟩ : ∃ i, j = i + 1 := ⟨j - 1, by omega⟩
    have hle : ¬ Int32.ofInt 12 ≤ nI (12 - (m + 1)) := by
      rw [i_le (by decide) (by rw [ui_nI]; omega), ui_nI]
      show ¬ 12 ≤ _
      omega
    have ik : fm_in M (M.2.2 362 d 0) (nI (12 - (m + 1))) = true := in_nI (tL_362 T.1 n) (by omega) (by decide)
    have ck : (nI (12 - (m + 1))).toNatClampNeg = 12 - (m + 1) := nI_clamp (by omega)
    have up : nI (12 - (m + 1)) + Int32.ofInt 1 = nI (12 - m) := by
      apply ui_inj
      rw [ui_add, ui_nI, ui_nI, show ui (Int32.ofInt 1) = 1 from rfl]
      omega
    show ∃ v, FX100_lineBits_4 fN (FX100_lineBits_L4 fN j) _ _ _ _ = _ ∧ _
    rw [(gX100_lineBits_4 _ _ _ _ M T n ⟨fun q => absurd q hle, fun _ => ⟨ik, trivial⟩⟩).1]
    unfold GX100_lineBits_4 GX100_lineBits_28
    rw [fi_neg hle]
    dsimp only
    rw [ck, up]
    have es : ui (nI (12 - (m + 1))) % 64 = 12 - (m + 1) := by rw [ui_nI]; omega
    by_cases h : M.1 3 (M.2.2 362 d 0) (12 - (m + 1)) = 0
    · rw [fi_pos h]
      refine ih j (by omega) (by omega) acc (fun i hi => ?_)
      rw [ha i hi]
      by_cases c : i = 12 - (m + 1)
      · rw [c, decide_eq_false (show ¬ M.1 3 (M.2.2 362 d 0) (12 - (m + 1)) ≠ 0 from fun q => q h)]
        simp
      · congr 2
        exact decide_eq_decide.mpr (by omega)
    · rw [fi_neg h]
      refine ih j (by omega) (by omega) _ (fun i hi => ?_)
      rw [lb_or, ha i hi, lb_shl _ _ es, lb_one, decide_eq_true hi, Bool.true_and]
      by_cases c : i = 12 - (m + 1)
      · rw [c, decide_eq_true (Nat.le_refl _), decide_eq_true (show 12 - (m + 1) - (12 - (m + 1)) = 0 by omega), decide_eq_true (show M.1 3 (M.2.2 362 d 0) (12 - (m + 1)) ≠ 0 from h), decide_eq_true (show 3 ≤ 12 - (m + 1) by omega), decide_eq_true (show 12 - (m + 1) < 12 - m by omega)]
        simp
      · have e1 : (decide (12 - (m + 1) ≤ i) && decide (i - (12 - (m + 1)) = 0)) = false := by
          by_cases z : 12 - (m + 1) ≤ i
          · rw [decide_eq_false (show ¬ i - (12 - (m + 1)) = 0 by omega), Bool.and_false]
          · rw [decide_eq_false z, Bool.false_and]
        rw [e1, Bool.or_false]
        congr 2
        exact decide_eq_decide.mpr (by omega)
theorem X100_lineBits {d : Nat} {M : FM} (T : Ty M) (n : fm_is M 95 95 d = true) : HX100_lineBits d M ∧ ∃ v, GX100_lineBits d M = (v, M) ∧ ∀ i, i < 64 → lb v i = (decide (3 ≤ i) && decide (i < 12) && decide (M.1 3 (M.2.2 362 d 0) i ≠ 0)) := by
  obtain ⟨v, h, hv⟩ := lnb_step T n 9 fN (by unfold fN; omega) (Nat.le_refl _) (Int64.ofInt 0) (fun i hi => by
    rw [lb_0]
    by_cases c : 3 ≤ i
    · rw [decide_eq_false (show ¬ i < 12 - 9 by omega)]
      simp
    · rw [decide_eq_false c]
      simp)
  have k : FX100_lineBits fN d M = some (v, M) := by
    show FX100_lineBits_0 fN (FX100_lineBits_L4 fN fN) d M = _
    rw [(gX100_lineBits_0 _ _ M T).1]
    exact h
  obtain ⟨h1, h2⟩ := op_of (P := OkR M) (d := (0, M)) k ⟨T, ext_r _⟩
  exact ⟨h1, v, h2, hv⟩
section Lb
variable {u d : Nat} {k : Int32} {Mc Mt : FM}
/-- lines of both sides -/
theorem rel_lineBits (R : RelC u d k Mc Mt) : HX100_lineBits d Mt ∧ GX100_lineBits d Mt = (Mc.2.1 43 (tbl Mc u 836) 0, Mt) := by
  obtain ⟨⟨Tc, nu, S, K⟩, ⟨Tt, nd, Z, I⟩, v1, ⟨vl, vz⟩, -⟩ := R
  obtain ⟨h1, v, h2, h3⟩ := X100_lineBits Tt nd
  refine ⟨h1, ?_⟩
  rw [h2]
  refine Prod.ext (lb_ext fun i hi => ?_) rfl
  rw [h3 i hi, vl i hi]
  by_cases c : i < 12
  · have hc : i = 0 ∨ i = 1 ∨ i = 2 ∨ i = 3 ∨ i = 4 ∨ i = 5 ∨ i = 6 ∨ i = 7 ∨ i = 8 ∨ i = 9 ∨ i = 10 ∨ i = 11 := by omega
    by_cases m : fe_mem lns i = true
    · rw [m, decide_eq_true c, Bool.and_true, Bool.true_and]
      rcases hc with rfl | rfl | rfl | rfl | rfl | rfl | rfl | rfl | rfl | rfl | rfl | rfl <;> first | rfl | exact absurd m (by decide)
    · rw [vz i c (by simpa using m)]
      have := eq_false_of_ne_true m
      rw [this]
      simp
  · have m : fe_mem lns i = false := by
      cases e : fe_mem lns i with
      | false => rfl
      | true =>
        unfold lns at e
        simp only [fe_mem, Bool.or_eq_true, Bool.or_false] at e
        rcases e with e | e | e | e <;> (have := Nat.eq_of_beq_eq_true e; omega)
    rw [m, decide_eq_false c]
    simp
end Lb
