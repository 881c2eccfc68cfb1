/-! several bytes are put, one after the other: the twin -/
def vb (v : Int64) (k : Nat) : Int32 := (v.toUInt64 >>> (((Int32.ofInt 8) * nI k).toInt64.toUInt64 &&& Int64.toUInt64 63)).toInt64.toInt32
theorem vb_b (v : Int64) {k : Nat} (hk : k < 8) (i : Nat) : ib (vb v k) i = (decide (i < 32) && lb v (i + 8 * k)) := by
  unfold vb
  rw [ib_low, lb_ushr _ _ (k := 8 * k) (by rw [ui_mul, ui_nI, show ui (Int32.ofInt 8) = 8 from rfl]; omega)]
noncomputable def kpM (c : Nat) (a : Int64) (o : Nat) (v : Int64) : Nat → FM → FM
  | 0, M => M
  | k + 1, M => pbM c (a + (nI k).toInt64) (o + k) (vb v k) (kpM c a o v k M)
section Kp
variable {c : Nat} {M : FM} {a : Int64} {o : Nat} {v : Int64}
theorem kpM_R : ∀ k, (kpM c a o v k M).2.2 = M.2.2
  | 0 => rfl
  | k + 1 => by
    show (pbM _ _ _ _ (kpM c a o v k M)).2.2 = _
    rw [pbM_R, kpM_R k]
theorem kpM_is (lo hi b : Nat) (k : Nat) : fm_is (kpM c a o v k M) lo hi b = fm_is M lo hi b := by
  unfold fm_is
  rw [kpM_R]
theorem kpM_ty (T : Ty M) (n : fm_is M 98 98 c = true) : ∀ k, Ty (kpM c a o v k M)
  | 0 => T
  | k + 1 => pbM_ty (kpM_ty T n k) (by rw [kpM_is]; exact n) _
theorem kpM_b (hne : M.2.2 388 c 0 ≠ M.2.2 389 c 0) : ∀ k, k ≤ 8 → ∀ i, tmb (kpM c a o v k M) c i = if 8 * o ≤ i ∧ i < 8 * (o + k) then lb v (i - 8 * o) else tmb M c i
  | 0, _, i => by
    rw [if_neg (by omega)]
    rfl
  | k + 1, hk, i => by
    show tmb (pbM _ _ _ _ (kpM c a o v k M)) c i = _
    rw [pbM_b (by rw [kpM_R]; exact hne), kpM_b hne k (by omega)]
    by_cases h : 8 * (o + k) ≤ i ∧ i < 8 * (o + k) + 8
    · rw [if_pos h, if_pos (by omega), vb_b v (by omega), decide_eq_true (by omega), Bool.true_and, show i - 8 * (o + k) + 8 * k = i - 8 * o from by omega]
    · rw [if_neg h]
      by_cases h2 : 8 * o ≤ i ∧ i < 8 * (o + k)
      · rw [if_pos h2, if_pos (by omega)]
      · rw [if_neg h2, if_neg (by omega)]
theorem not_hit0 (a : Int64) : ¬ hit a (Int64.ofInt 0) := fun q => by
  have := q.1
  rw [lt_tl] at this
  omega
theorem kpM_p (hne : M.2.2 388 c 0 ≠ M.2.2 389 c 0) {p : Nat} (hp : p < 4) : ∀ k, (kpM c a o v k M).2.1 3 (M.2.2 389 c 0) p = fi (∃ j, j < k ∧ hit (a + (nI j).toInt64) (M.2.1 3 (M.2.2 389 c 0) p)) (Int64.ofInt 0) (M.2.1 3 (M.2.2 389 c 0) p)
  | 0 => by
    rw [fi_neg (fun ⟨j, hj, _⟩ => absurd hj (Nat.not_lt_zero _))]
    rfl
  | k + 1 => by
    have h := pbM_p (c := c) (M := kpM c a o v k M) (a := a + (nI k).toInt64) (o := o + k) (by rw [kpM_R]; exact hne) (vb v k) p hp
    rw [kpM_R, kpM_p hne hp k] at h
    show (pbM _ _ _ _ (kpM c a o v k M)).2.1 3 (M.2.2 389 c 0) p = _
    rw [h]
    by_cases q : ∃ j, j < k ∧ hit (a + (nI j).toInt64) (M.2.1 3 (M.2.2 389 c 0) p)
    · rw [fi_pos q, fi_neg (not_hit0 _), fi_pos (by obtain ⟨j, h1, h2⟩ := q; exact ⟨j, by omega, h2⟩)]
    · rw [fi_neg q]
      refine fi_c ⟨fun z => ⟨k, by omega, z⟩, fun ⟨j, h1, h2⟩ => ?_⟩
      by_cases e : j = k
      · rw [← e]
        exact h2
      · exact absurd ⟨j, by omega, h2⟩ q
theorem ul_addn (ho : ul a = 2147483648 + o) {k : Nat} (h : o + k ≤ 4194304) : ul (a + (nI k).toInt64) = 2147483648 + (o + k) := by
  rw [ul_add, ho, ul_sext, ui_nI, if_pos (by omega)]
  omega
theorem X93_keep_L (T : Ty M) (n : fm_is M 98 98 c = true) {s : Nat} {sz : Int32} (hs : ui sz = s) (ho : ul a = 2147483648 + o) (h8 : s ≤ 8) (hb : o + s ≤ 4194304) : ∀ m j, m < j → m ≤ s →
    FX93_keep_L3 fN j c a sz v (nI (s - m)) (kpM c a o v (s - m) M) = some (kpM c a o v s M) := by
  intro m
  induction m with
  | zero =>
    intro j hj hm
    obtain ⟨j, rfl⟩ : ∃ i, j = i + 1 := ⟨j - 1, by omega⟩
    have hle : sz ≤ nI (s - 0) := by
      rw [i_le (by omega) (by rw [ui_nI]; omega), ui_nI]
      omega
    show FX93_keep_3 fN (FX93_keep_L3 fN j) _ _ _ _ _ _ = _
    rw [(gX93_keep_3 _ _ _ _ _ _ _ (kpM_ty T n _) (by rw [kpM_is]; exact n) ⟨fun _ => trivial, fun q => absurd hle q⟩).1]
    unfold GX93_keep_3
    rw [fi_pos hle]
    rfl
  | succ m ih =>
    intro j hj hm
    obtain ⟨j, rfl⟩ : ∃ i, j = i + 1 := ⟨j - 1, by omega⟩
    have hle : ¬ sz ≤ nI (s - (m + 1)) := by
      rw [i_le (by omega) (by rw [ui_nI]; omega), ui_nI]
      omega
    obtain ⟨p1, p2⟩ := X93_put (c := c) (M := kpM c a o v (s - (m + 1)) M) (kpM_ty T n _) (by rw [kpM_is]; exact n) (ul_addn ho (k := s - (m + 1)) (by omega)) (by omega) (vb v (s - (m + 1)))
    have up : nI (s - (m + 1)) + Int32.ofInt 1 = nI (s - m) := by
      apply ui_inj
      rw [ui_add, ui_nI, ui_nI, show ui (Int32.ofInt 1) = 1 from rfl]
      omega
    show FX93_keep_3 fN (FX93_keep_L3 fN j) _ _ _ _ _ _ = _
    rw [(gX93_keep_3 _ _ _ _ _ _ _ (kpM_ty T n _) (by rw [kpM_is]; exact n) ⟨fun q => absurd q hle, fun _ => ⟨p1, trivial⟩⟩).1]
    unfold GX93_keep_3
    rw [fi_neg hle]
    show FX93_keep_L3 fN j c a sz v (nI (s - (m + 1)) + Int32.ofInt 1) (GX93_put c (a + (nI (s - (m + 1))).toInt64) (vb v (s - (m + 1))) (kpM c a o v (s - (m + 1)) M)) = _
    rw [p2, up, ← ih j (by omega) (by omega), show s - m = s - (m + 1) + 1 from by omega]
    rfl
theorem X93_keep (T : Ty M) (n : fm_is M 98 98 c = true) {s : Nat} {sz : Int32} (hs : ui sz = s) (ho : ul a = 2147483648 + o) (h8 : s ≤ 8) (hb : o + s ≤ 4194304) : HX93_keep c a sz v M ∧ GX93_keep c a sz v M = kpM c a o v s M := by
  have k : FX93_keep fN c a sz v M = some (kpM c a o v s M) := by
    show FX93_keep_0 fN (FX93_keep_L3 fN fN) c a sz v M = _
    rw [(gX93_keep_0 _ _ _ _ _ M T).1]
    have h := X93_keep_L (v := v) T n hs ho h8 hb s fN (by unfold fN; omega) (Nat.le_refl _)
    rw [show s - s = 0 from Nat.sub_self s] at h
    exact h
  refine op_of (P := OkV M) (d := M) k ⟨kpM_ty T n _, ?_⟩
  intro b _
  rw [kpM_R]
  exact ⟨rfl, rfl⟩
end Kp
