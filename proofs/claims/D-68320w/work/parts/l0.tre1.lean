/-! trees: the twin's rows: numbers, texts -/
set_option maxRecDepth 100000
/-- byte j of a number -/
def b8 (n j : Nat) : Nat := n / 2 ^ (8 * j) % 256
def be4 (n : Nat) : List Nat := [b8 n 3, b8 n 2, b8 n 1, b8 n 0]
theorem b8_lt (n j : Nat) : b8 n j < 256 := Nat.mod_lt _ (by decide)
/-- the rows of the twin's tree: structure and names, as lists -/
def RwS (f fn : Nat) (t : Nat) (M : FM) (S : List Nat) : Prop := M.1 fn t 0 = nI S.length ∧ ∀ k, k < S.length → M.1 3 (M.2.2 f t 0) k = nI (S.getD k 0)
def PTr (t : Nat) (M : FM) (f y : Nat) : Prop := (y = t ∧ (f = 416 ∨ f = 418 ∨ f = 420 ∨ f = 421)) ∨ (f = 3 ∧ (y = M.2.2 415 t 0 ∨ y = M.2.2 417 t 0 ∨ y = M.2.2 419 t 0))
theorem ptr_w {t : Nat} {M N : FM} (h : N.2.2 = M.2.2) (f y : Nat) (k : PTr t N f y) : PTr t M f y := by
  unfold PTr at *
  rw [h] at k
  exact k
theorem ptr_t {t : Nat} {M N X : FM} (h : Frm (PTr t M) M N) (k : Frm (PTr t N) N X) : Frm (PTr t M) M X := frm_t h (frm_w k (ptr_w h.1))
theorem ptr_y {t : Nat} {M N : FM} (h : Frm (PTr t M) M N) (n : fm_is M 100 100 t = true) (T : Ty M) : Ty N := by
  refine frm_ty h (fun f b q => ?_) T
  rcases q with ⟨_, q⟩ | ⟨q1, q⟩
  · left
    rcases q with q | q | q | q <;> rw [q] <;> rfl
  · right
    refine ⟨q1, fun z => ?_⟩
    have z1 := fm_isd z
    rcases q with q | q | q
    · have := fm_isd (tN_415 T.1 n)
      rw [← q] at this
      omega
    · have := fm_isd (tN_417 T.1 n)
      rw [← q] at this
      omega
    · have := fm_isd (tN_419 T.1 n)
      rw [← q] at this
      omega
theorem gD_a {S X : List Nat} {k : Nat} (h : k < S.length) : (S ++ X).getD k 0 = S.getD k 0 := by
  rw [List.getD_eq_getElem?_getD, List.getElem?_append_left h, ← List.getD_eq_getElem?_getD]
theorem gD_e {S : List Nat} {x : Nat} {X : List Nat} : (S ++ x :: X).getD S.length 0 = x := by
  rw [List.getD_eq_getElem?_getD, List.getElem?_append_right (Nat.le_refl _), Nat.sub_self]
  rfl
theorem len_a {S : List Nat} {x : Nat} : (S ++ [x]).length = S.length + 1 := by rw [List.length_append]; rfl
/-- one more stands at the end of a row -/
theorem rwS_1 {f fn t : Nat} {M : FM} {S : List Nat} {x : Nat} (h : RwS f fn t M S) (hl : S.length < 65536) (hf : fn ≠ 3) (v : Int32) (hv : v = nI x) :
    RwS f fn t (fm_sI (fm_sI M 3 (M.2.2 f t 0) S.length v) fn t 0 (nI (S.length + 1))) (S ++ [x]) := by
  refine ⟨?_, fun k hk => ?_⟩
  · rw [rI, if_pos ⟨rfl, rfl, rfl⟩, len_a]
  · rw [len_a] at hk
    rw [rI, if_neg (fun q => hf q.1.symm)]
    show (fm_sI M 3 (M.2.2 f t 0) S.length v).1 3 (M.2.2 f t 0) k = _
    rw [rI]
    by_cases e : k = S.length
    · rw [if_pos ⟨rfl, rfl, e⟩, e, gD_e, hv]
    · rw [if_neg (fun q => e q.2.2), gD_a (by omega)]
      exact h.2 k (by omega)
section Fo
variable {t : Nat} {M : FM} {n : Nat} {v : Int64}
theorem by_v {j : Nat} (hv : ul v < 9223372036854775808) (hj : j < 4) : (v >>> (((Int32.ofInt 8) * nI j).toInt64 &&& 63)).toInt32 &&& (Int32.ofInt 255) = nI (b8 (ul v) j) := by
  have e8 : ui ((Int32.ofInt 8) * nI j) = 8 * j := by
    rw [ui_mul, ui_nI, show ui (Int32.ofInt 8) = 8 from rfl]
    omega
  apply ui_inj
  rw [ui_and, ui_low, ul_sar0 _ _ hv, e8, show ui (Int32.ofInt 255) = 2 ^ 8 - 1 from rfl, Nat.and_two_pow_sub_one_eq_mod, Nat.mod_eq_of_lt (show 8 * j < 64 by omega), ui_nI]
  unfold b8
  generalize ul v / 2 ^ (8 * j) = y
  omega
/-- four bytes are written where the row stands -/
def f4M (t n : Nat) (v : Int64) : Nat → FM → FM
  | 0, M => M
  | i + 1, M => fm_sI (fm_sI (f4M t n v i M) 3 (M.2.2 417 t 0) (n + i) (nI (b8 (ul v) (3 - i)))) 418 t 0 (nI (n + i + 1))
theorem f4M_R (i : Nat) : (f4M t n v i M).2.2 = M.2.2 := by
  induction i with
  | zero => rfl
  | succ i ih => exact ih
theorem f4M_y (T : Ty M) (h : fm_is M 100 100 t = true) (i : Nat) : Ty (f4M t n v i M) := by
  induction i with
  | zero => exact T
  | succ i ih =>
    have n7 : fm_is (f4M t n v i M) 901 901 (M.2.2 417 t 0) = true := by unfold fm_is; rw [f4M_R]; exact tN_417 T.1 h
    exact ⟨ih.1, tyb_sI rfl (tyb_s3 (t := 901) rfl ih.2 n7)⟩
theorem X97_four_L (T : Ty M) (h : fm_is M 100 100 t = true) (hv : ul v < 9223372036854775808) (hn : n + 4 ≤ 6144) (e : M.1 418 t 0 = nI n) : ∀ m j i, m + i = 4 → m < j → FX97_four_L2 fN j t v (nI m + Int32.ofInt (-1)) (f4M t n v i M) = some (f4M t n v 4 M) := by
  intro m
  induction m with
  | zero =>
    intro j i hi hj
    obtain ⟨j, rfl⟩ : ∃ y, j = y + 1 := ⟨j - 1, by omega⟩
    have hi4 : i = 4 := by omega
    subst hi4
    have h' : fm_is (f4M t n v 4 M) 100 100 t = true := by unfold fm_is; rw [f4M_R]; exact h
    show FX97_four_2 fN (FX97_four_L2 fN j) t v (nI 0 + Int32.ofInt (-1)) (f4M t n v 4 M) = _
    rw [(gX97_four_2 (FX97_four_L2 fN j) t v (nI 0 + Int32.ofInt (-1)) (f4M t n v 4 M) (f4M_y T h 4) h' ⟨fun _ => trivial, fun q => absurd dn_0 q⟩).1]
    unfold GX97_four_2
    rw [fi_pos dn_0]
    rfl
  | succ m ih =>
    intro j i hi hj
    obtain ⟨j, rfl⟩ : ∃ y, j = y + 1 := ⟨j - 1, by omega⟩
    have h' : fm_is (f4M t n v i M) 100 100 t = true := by unfold fm_is; rw [f4M_R]; exact h
    have e' : (f4M t n v i M).1 418 t 0 = nI (n + i) := by
      cases i with
      | zero => exact e
      | succ i => exact if_pos ⟨rfl, rfl, rfl⟩
    have r' : (f4M t n v i M).2.2 417 t 0 = M.2.2 417 t 0 := by rw [f4M_R]
    have ec : (nI (n + i)).toNatClampNeg = n + i := o_cl (by omega)
    have i1 : fm_in (f4M t n v i M) (M.2.2 417 t 0) (nI (n + i)) = true := in_nI (N := 6144) (by rw [f4M_R]; exact tL_417 T.1 h) (by omega) (by decide)
    have bv : (v >>> (((Int32.ofInt 8) * nI m).toInt64 &&& 63)).toInt32 &&& (Int32.ofInt 255) = nI (b8 (ul v) (3 - i)) := by
      rw [by_v hv (by omega)]
      congr 2
      omega
    have H : HX97_four_2 t v (nI m) (f4M t n v i M) := by
      unfold HX97_four_2
      dsimp only
      rw [e', r']
      exact ⟨fun _ => trivial, fun _ => ⟨i1, trivial⟩⟩
    have G : GX97_four_2 t v (nI m) (f4M t n v i M) = .inl (t, v, nI m + Int32.ofInt (-1), f4M t n v (i + 1) M) := by
      unfold GX97_four_2
      dsimp only
      rw [fi_neg (dn_n (by omega)), e', r', ec, bv]
      have e2 : (fm_sI (f4M t n v i M) 3 (M.2.2 417 t 0) (n + i) (nI (b8 (ul v) (3 - i)))).1 418 t 0 = nI (n + i) := (oI (fun z => absurd z.1 (by decide))).trans e'
      rw [e2, up_b (by omega)]
      rfl
    rw [dn_k m (by omega)]
    show FX97_four_2 fN (FX97_four_L2 fN j) t v (nI m) (f4M t n v i M) = _
    rw [(gX97_four_2 (FX97_four_L2 fN j) t v (nI m) (f4M t n v i M) (f4M_y T h i) h' H).1, G]
    exact ih j (i + 1) (by omega) (by omega)
theorem f4_fr (i : Nat) : Frm (PTr t M) M (f4M t n v i M) := by
  induction i with
  | zero => exact frm_r
  | succ i ih => exact frm_I (frm_I ih (Or.inr ⟨rfl, Or.inr (Or.inl rfl)⟩)) (Or.inl ⟨rfl, Or.inr (Or.inl rfl)⟩)
theorem X97_four0 (T : Ty M) (h : fm_is M 100 100 t = true) (hv : ul v < 9223372036854775808) (hn : n + 4 ≤ 6144) (e : M.1 418 t 0 = nI n) : HX97_four t v M ∧ GX97_four t v M = f4M t n v 4 M := by
  have A : FX97_four fN t v M = some (f4M t n v 4 M) := by
    show FX97_four_0 fN (FX97_four_L2 fN fN) t v M = _
    rw [(gX97_four_0 (FX97_four_L2 fN fN) t v M T).1]
    exact X97_four_L T h hv hn e 4 fN 0 rfl (by unfold fN; decide)
  exact op_of (d := M) A (P := OkV M) ⟨f4M_y T h 4, frm_ext (f4_fr 4)⟩
theorem X97_four (T : Ty M) (h : fm_is M 100 100 t = true) (hv : ul v < 9223372036854775808) {S : List Nat} (V : RwS 417 418 t M S) (hn : S.length + 4 ≤ 6144) :
    HX97_four t v M ∧ ∃ N, GX97_four t v M = N ∧ Frm (PTr t M) M N ∧ RwS 417 418 t N (S ++ be4 (ul v)) ∧ N.1 421 t 0 = M.1 421 t 0 ∧ N.1 420 t 0 = M.1 420 t 0 ∧ ∀ k, M.2.2 419 t 0 ≠ M.2.2 417 t 0 → N.1 3 (M.2.2 419 t 0) k = M.1 3 (M.2.2 419 t 0) k := by
  obtain ⟨a1, a2⟩ := X97_four0 T h hv hn V.1
  refine ⟨a1, _, a2, f4_fr 4, ?_, ?_, ?_, fun k hne => ?_⟩
  · have s1 := rwS_1 V (by omega) (by decide) (nI (b8 (ul v) 3)) rfl
    have s2 := rwS_1 s1 (by rw [len_a]; omega) (by decide) (nI (b8 (ul v) 2)) rfl
    have s3 := rwS_1 s2 (by rw [len_a, len_a]; omega) (by decide) (nI (b8 (ul v) 1)) rfl
    have s4 := rwS_1 s3 (by rw [len_a, len_a, len_a]; omega) (by decide) (nI (b8 (ul v) 0)) rfl
    simp only [len_a] at s4
    have el : S ++ [b8 (ul v) 3] ++ [b8 (ul v) 2] ++ [b8 (ul v) 1] ++ [b8 (ul v) 0] = S ++ be4 (ul v) := by
      simp [be4]
    rw [el] at s4
    exact s4
  · unfold f4M f4M f4M f4M f4M
    simp only [rI, Nat.reduceEqDiff, false_and, if_false]
  · unfold f4M f4M f4M f4M f4M
    simp only [rI, Nat.reduceEqDiff, false_and, if_false]
  · unfold f4M f4M f4M f4M f4M
    simp only [rI, Nat.reduceEqDiff, false_and, if_false, hne, and_false]
end Fo
