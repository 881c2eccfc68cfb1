/-! the twin's memory is written -/
def hit (a x : Int64) : Prop := Int64.ofInt 0 < x ∧ x / Int64.ofInt 8 = a / Int64.ofInt 8
noncomputable def clr (P : Nat) (a : Int64) (k : Nat) (M : FM) : FM := (M.1, fun f b i => fi (f = 3 ∧ b = P ∧ i < k ∧ hit a (M.2.1 3 P i)) (Int64.ofInt 0) (M.2.1 f b i), M.2.2)
theorem clr_0 (P : Nat) (a : Int64) (M : FM) : clr P a 0 M = M := by
  refine Prod.ext rfl (Prod.ext ?_ rfl)
  funext f b i
  exact fi_neg (fun q => absurd q.2.2.1 (Nat.not_lt_zero _))
theorem clr_s (P : Nat) (a : Int64) (k : Nat) (M : FM) : clr P a (k + 1) M = fm_sL (clr P a k M) 3 P k (fi (hit a (M.2.1 3 P k)) (Int64.ofInt 0) (M.2.1 3 P k)) := by
  refine Prod.ext rfl (Prod.ext ?_ rfl)
  funext f b i
  show fi _ _ _ = if f = 3 ∧ b = P ∧ i = k then _ else fi _ _ _
  by_cases h : f = 3 ∧ b = P ∧ i = k
  · rw [if_pos h]
    obtain ⟨rfl, rfl, rfl⟩ := h
    by_cases q : hit a (M.2.1 3 b i)
    · rw [fi_pos q, fi_pos ⟨rfl, rfl, by omega, q⟩]
    · rw [fi_neg q, fi_neg (fun z => q z.2.2.2)]
  · rw [if_neg h]
    refine fi_c ⟨fun q => ⟨q.1, q.2.1, ?_, q.2.2.2⟩, fun q => ⟨q.1, q.2.1, by omega, q.2.2.2⟩⟩
    have : i ≠ k := fun e => h ⟨q.1, q.2.1, e⟩
    omega
theorem clr_r (P : Nat) (a : Int64) (k i : Nat) (M : FM) (h : k ≤ i) : (clr P a k M).2.1 3 P i = M.2.1 3 P i := fi_neg (fun q => by omega)
section Tw
variable {c : Nat} {M : FM} {a : Int64} {o : Nat}
theorem clr_ty {P k : Nat} (T : Ty M) : Ty (clr P a k M) := ⟨T.1, T.2⟩
theorem X93_put_L (T : Ty M) (n : fm_is M 98 98 c = true) : ∀ m j, m < j → m ≤ 4 →
    FX93_put_L76 fN j c a (nI (4 - m)) (clr (M.2.2 389 c 0) a (4 - m) M) = some (clr (M.2.2 389 c 0) a 4 M) := by
  intro m
  induction m with
  | zero =>
    intro j hj hm
    obtain ⟨j, rfl⟩ : ∃ i, j = i + 1 := ⟨j - 1, by omega⟩
    show FX93_put_76 fN (FX93_put_L76 fN j) _ _ _ _ = _
    rw [(gX93_put_76 _ _ _ _ _ (clr_ty T) n ⟨fun _ => trivial, fun q => absurd (show Int32.ofInt 4 ≤ nI (4 - 0) from by decide) q⟩).1]
    unfold GX93_put_76
    rw [fi_pos (show Int32.ofInt 4 ≤ nI (4 - 0) from by decide)]
    rfl
  | succ m ih =>
    intro j hj hm
    obtain ⟨j, rfl⟩ : ∃ i, j = i + 1 := ⟨j - 1, by omega⟩
    show FX93_put_76 fN (FX93_put_L76 fN j) _ _ _ _ = _
    have hk : 4 - (m + 1) < 4 := by omega
    have hle : ¬ Int32.ofInt 4 ≤ nI (4 - (m + 1)) := by
      rw [i_le (by decide) (by rw [ui_nI]; omega), ui_nI]
      show ¬ 4 ≤ _
      omega
    have ik : fm_in M (M.2.2 389 c 0) (nI (4 - (m + 1))) = true := in_nI (tL_389 T.1 n) hk (by decide)
    have ck : (nI (4 - (m + 1))).toNatClampNeg = 4 - (m + 1) := nI_clamp (by omega)
    have up : nI (4 - (m + 1)) + Int32.ofInt 1 = nI (4 - m) := by
      apply ui_inj
      rw [ui_add, ui_nI, ui_nI, show ui (Int32.ofInt 1) = 1 from rfl]
      omega
    have ih' := ih j (by omega) (by omega)
    have hcl : clr (M.2.2 389 c 0) a (4 - m) M = fm_sL (clr (M.2.2 389 c 0) a (4 - (m + 1)) M) 3 (M.2.2 389 c 0) (4 - (m + 1)) (fi (hit a (M.2.1 3 (M.2.2 389 c 0) (4 - (m + 1)))) (Int64.ofInt 0) (M.2.1 3 (M.2.2 389 c 0) (4 - (m + 1)))) := by
      rw [← clr_s, show 4 - (m + 1) + 1 = 4 - m from by omega]
    have hr := clr_r (M.2.2 389 c 0) a (4 - (m + 1)) (4 - (m + 1)) M (Nat.le_refl _)
    rw [(gX93_put_76 _ _ _ _ _ (clr_ty T) n ⟨fun q => absurd q hle, fun _ => ⟨ik, fun _ => ⟨ik, ik, trivial⟩, fun _ => ⟨ik, fun _ => ⟨ik, trivial⟩, fun _ => ⟨ik, ik, trivial⟩⟩⟩⟩).1]
    have h131 : ∀ v, v = fi (hit a (M.2.1 3 (M.2.2 389 c 0) (4 - (m + 1)))) (Int64.ofInt 0) (M.2.1 3 (M.2.2 389 c 0) (4 - (m + 1))) → kX93_put (FX93_put_L76 fN j) (GX93_put_131 c a (nI (4 - (m + 1))) (M.2.2 389 c 0) (nI (4 - (m + 1))) v (clr (M.2.2 389 c 0) a (4 - (m + 1)) M)) = some (clr (M.2.2 389 c 0) a 4 M) := by
      intro v hv
      rw [← ih', hcl, hv]
      unfold GX93_put_131
      rw [ck, up]
      rfl
    unfold GX93_put_76 GX93_put_124
    dsimp only
    rw [fi_neg hle, ck]
    show kX93_put _ (fi (lg_cmp ((clr (M.2.2 389 c 0) a (4 - (m + 1)) M).2.1 3 (M.2.2 389 c 0) (4 - (m + 1))) (Int64.ofInt 0) ≤ 0) _ (fi (lg_cmp (((clr (M.2.2 389 c 0) a (4 - (m + 1)) M).2.1 3 (M.2.2 389 c 0) (4 - (m + 1))) / (Int64.ofInt 8)) _ = 0) _ _)) = _
    have hle0 : ∀ x : Int64, ¬ x ≤ Int64.ofInt 0 ↔ Int64.ofInt 0 < x := fun x => by rw [le_tl, lt_tl]; omega
    by_cases h1 : lg_cmp ((clr (M.2.2 389 c 0) a (4 - (m + 1)) M).2.1 3 (M.2.2 389 c 0) (4 - (m + 1))) (Int64.ofInt 0) ≤ 0
    · rw [fi_pos h1]
      refine h131 _ ?_
      rw [hr] at h1
      rw [fi_neg (fun q => (hle0 _).mpr q.1 ((lg_cmp_le _ _).mp h1))]
      exact hr
    · rw [fi_neg h1]
      rw [hr] at h1
      have h1' := (hle0 _).mp (fun q => h1 ((lg_cmp_le _ _).mpr q))
      by_cases h2 : lg_cmp (((clr (M.2.2 389 c 0) a (4 - (m + 1)) M).2.1 3 (M.2.2 389 c 0) (4 - (m + 1))) / (Int64.ofInt 8)) (a / (Int64.ofInt 8)) = 0
      · rw [fi_pos h2]
        rw [hr] at h2
        exact h131 _ (fi_pos ⟨h1', (lg_cmp_eq _ _).mp h2⟩).symm
      · rw [fi_neg h2]
        rw [hr] at h2
        refine h131 _ ?_
        rw [fi_neg (fun q => h2 ((lg_cmp_eq _ _).mpr q.2))]
        exact hr
/-- the word behind a put of a byte -/
noncomputable def pbw (w : Int64) (o : Nat) (v : Int32) : Int64 := (w &&& (((Int64.ofInt 255) <<< ((nI (8 * (o % 8))).toInt64 &&& 63)) ^^^ (Int64.ofInt (-1)))) ||| ((v.toInt64 &&& (Int64.ofInt 255)) <<< ((nI (8 * (o % 8))).toInt64 &&& 63))
theorem pbw_b (w : Int64) (o : Nat) (v : Int32) (i : Nat) (hi : i < 64) : lb (pbw w o v) i = if 8 * (o % 8) ≤ i ∧ i < 8 * (o % 8) + 8 then ib v (i - 8 * (o % 8)) else lb w i := by
  have e : ui (nI (8 * (o % 8))) % 64 = 8 * (o % 8) := by rw [ui_nI]; omega
  unfold pbw
  rw [lb_or, lb_and, lb_xor, lb_m1 i hi, lb_shl _ _ e, lb_shl _ _ e, lb_and, decide_eq_true hi, Bool.true_and]
  rw [lb_mask (Int64.ofInt 255) (k := 8) rfl]
  by_cases hq : 8 * (o % 8) ≤ i
  · rw [decide_eq_true hq, Bool.true_and, Bool.true_and]
    by_cases hz : i - 8 * (o % 8) < 8
    · rw [decide_eq_true hz, if_pos (by omega), lb_sext _ _ (by omega), if_pos (by omega)]
      simp
    · rw [decide_eq_false hz, if_neg (by omega)]
      simp
  · rw [decide_eq_false hq, if_neg (by omega)]
    simp
/-- a byte is put -/
noncomputable def pbM (c : Nat) (a : Int64) (o : Nat) (v : Int32) (M : FM) : FM :=
  clr (M.2.2 389 c 0) a 4 (fm_sI (fm_sL M 3 (M.2.2 388 c 0) (o / 8) (pbw (M.2.1 3 (M.2.2 388 c 0) (o / 8)) o v)) 3 (M.2.2 391 c 0) (o / 8) (M.1 3 (M.2.2 391 c 0) (o / 8) + Int32.ofInt 1))
theorem pbM_R (v : Int32) : (pbM c a o v M).2.2 = M.2.2 := rfl
theorem X93_put (T : Ty M) (n : fm_is M 98 98 c = true) (ho : ul a = 2147483648 + o) (hb : o < 4194304) (v : Int32) : HX93_put c a v M ∧ GX93_put c a v M = pbM c a o v M := by
  have e := tr_o ho hb
  obtain ⟨e1, e2, e3⟩ := tr_8 e hb
  have e4 : Int32.ofInt 8 * ((a - Int64.ofInt 2147483648).toInt32 - (a - Int64.ofInt 2147483648).toInt32 / Int32.ofInt 8 * Int32.ofInt 8) = nI (8 * (o % 8)) := by
    apply ui_inj
    rw [e3, ui_nI]
    omega
  have i1 := in_u (i := (a - Int64.ofInt 2147483648).toInt32 / Int32.ofInt 8) (tL_388 T.1 n) (by rw [e1]; omega) (by decide)
  have i2 := in_u (i := (a - Int64.ofInt 2147483648).toInt32 / Int32.ofInt 8) (tL_391 T.1 n) (by rw [e1]; omega) (by decide)
  have T1 : Ty (fm_sI (fm_sL M 3 (M.2.2 388 c 0) (o / 8) (pbw (M.2.1 3 (M.2.2 388 c 0) (o / 8)) o v)) 3 (M.2.2 391 c 0) (o / 8) (M.1 3 (M.2.2 391 c 0) (o / 8) + Int32.ofInt 1)) := ⟨T.1, tyb_s3 (t := 901) rfl (M := fm_sL M 3 (M.2.2 388 c 0) (o / 8) (pbw (M.2.1 3 (M.2.2 388 c 0) (o / 8)) o v)) T.2 (tN_391 T.1 n)⟩
  have k : FX93_put fN c a v M = some (pbM c a o v M) := by
    show FX93_put_0 fN (FX93_put_L76 fN fN) c a v M = _
    rw [(gX93_put_0 _ _ _ _ M T n ⟨i1, i1, i2, i2, trivial⟩).1]
    unfold GX93_put_0
    dsimp only
    rw [e4, e2]
    have h := X93_put_L (a := a) T1 n 4 fN (by unfold fN; omega) (Nat.le_refl _)
    rw [show 4 - 4 = 0 from rfl, clr_0] at h
    exact h
  exact op_of (P := OkV M) (d := M) k ⟨T1, ext_r _⟩
theorem pbM_ty (T : Ty M) (n : fm_is M 98 98 c = true) (v : Int32) : Ty (pbM c a o v M) := ⟨T.1, tyb_s3 (t := 901) rfl (M := fm_sL M 3 (M.2.2 388 c 0) (o / 8) (pbw (M.2.1 3 (M.2.2 388 c 0) (o / 8)) o v)) T.2 (tN_391 T.1 n)⟩
theorem pbM_b (hne : M.2.2 388 c 0 ≠ M.2.2 389 c 0) (v : Int32) (k : Nat) : tmb (pbM c a o v M) c k = if 8 * o ≤ k ∧ k < 8 * o + 8 then ib v (k - 8 * o) else tmb M c k := by
  have e : tmb (pbM c a o v M) c k = lb (if k / 64 = o / 8 then pbw (M.2.1 3 (M.2.2 388 c 0) (o / 8)) o v else M.2.1 3 (M.2.2 388 c 0) (k / 64)) (k % 64) := by
    unfold tmb
    congr 1
    have e2 : ∀ i, (pbM c a o v M).2.1 3 (M.2.2 388 c 0) i = (fm_sL M 3 (M.2.2 388 c 0) (o / 8) (pbw (M.2.1 3 (M.2.2 388 c 0) (o / 8)) o v)).2.1 3 (M.2.2 388 c 0) i := fun i => fi_neg (fun q => hne q.2.1)
    rw [pbM_R, e2, rL]
    by_cases h : k / 64 = o / 8
    · rw [if_pos h, if_pos ⟨rfl, rfl, h⟩]
    · rw [if_neg h, if_neg (fun q => h q.2.2)]
  rw [e]
  by_cases h : k / 64 = o / 8
  · rw [if_pos h, pbw_b _ _ _ _ (by omega)]
    by_cases q : 8 * o ≤ k ∧ k < 8 * o + 8
    · rw [if_pos q, if_pos (by omega), show k % 64 - 8 * (o % 8) = k - 8 * o from by omega]
    · rw [if_neg q, if_neg (by omega)]
      unfold tmb
      rw [h]
  · rw [if_neg h, if_neg (by omega)]
    rfl
theorem pbM_p (hne : M.2.2 388 c 0 ≠ M.2.2 389 c 0) (v : Int32) (p : Nat) (hp : p < 4) : (pbM c a o v M).2.1 3 (M.2.2 389 c 0) p = fi (hit a (M.2.1 3 (M.2.2 389 c 0) p)) (Int64.ofInt 0) (M.2.1 3 (M.2.2 389 c 0) p) := by
  have e : ∀ i, (fm_sI (fm_sL M 3 (M.2.2 388 c 0) (o / 8) (pbw (M.2.1 3 (M.2.2 388 c 0) (o / 8)) o v)) 3 (M.2.2 391 c 0) (o / 8) (M.1 3 (M.2.2 391 c 0) (o / 8) + Int32.ofInt 1)).2.1 3 (M.2.2 389 c 0) i = M.2.1 3 (M.2.2 389 c 0) i := fun i => if_neg (fun q => hne q.2.1.symm)
  show fi _ _ ((fm_sI (fm_sL M 3 (M.2.2 388 c 0) (o / 8) (pbw (M.2.1 3 (M.2.2 388 c 0) (o / 8)) o v)) 3 (M.2.2 391 c 0) (o / 8) (M.1 3 (M.2.2 391 c 0) (o / 8) + Int32.ofInt 1)).2.1 3 (M.2.2 389 c 0) p) = _
  rw [e]
  refine fi_c ⟨fun q => ?_, fun q => ⟨rfl, rfl, hp, ?_⟩⟩
  · exact q.2.2.2
  · exact q
end Tw
