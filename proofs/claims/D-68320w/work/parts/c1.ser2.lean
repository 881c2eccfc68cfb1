/-! the serial line: the component's reads -/
set_option maxRecDepth 100000
theorem n_rest {n k : Nat} (h : n < 2147483648) (hk : k < 2147483648) : nI n - nI n / nI k * nI k = nI (n % k) := by
  have d : n / k * k ≤ n := Nat.div_mul_le_self n k
  have m : n % k ≤ n := Nat.mod_le n k
  have e : n / k * k + n % k = n := by rw [Nat.mul_comm]; exact Nat.div_add_mod n k
  have un : ui (nI n) = n := by rw [ui_nI]; omega
  have uk : ui (nI k) = k := by rw [ui_nI]; omega
  apply ui_inj
  rw [ui_sub, ui_mul, i_div (by rw [un]; omega) (by rw [uk]; omega), un, uk, ui_nI]
  rw [Nat.mod_eq_of_lt (show n / k * k < 4294967296 by omega)]
  omega
theorem n_add {a b : Nat} (ha : a < 4096) (hb : b < 4096) : nI a + nI b = nI (a + b) := by
  apply ui_inj
  rw [ui_add, ui_nI, ui_nI, ui_nI]
  omega
noncomputable def md (x : Int32) : Int32 := fi (ib x 4 = true) (fi (ib x 1 = true) (Int32.ofInt 16) (Int32.ofInt 0) + fi (ib x 0 = true) (Int32.ofInt 32) (Int32.ofInt 0) + fi (ib x 2 = true) (Int32.ofInt 64) (Int32.ofInt 0) + fi (ib x 3 = true) (Int32.ofInt 128) (Int32.ofInt 0)) (Int32.ofInt 176)
def sTk : Sr → Int32 × Sr
  | (h, [], r) => (Int32.ofInt 0, h, [], r)
  | (h, b :: q, r) => (b, h, q, r)
noncomputable def sCa (S : Sr) : Int32 × Sr := (fi (S.2.2.1 = 0) (cs S) (cs S + Int32.ofInt 192), S.1, S.2.1, S.2.2.1, S.2.2.2.1, fi (cs S = Int32.ofInt 2) (Int32.ofInt 0) S.2.2.2.2.1, S.2.2.2.2.2)
noncomputable def sSt (S : Sr) : Int32 × Sr := (Int32.ofInt 96 + fi (0 < S.2.1.length) (Int32.ofInt 1) (Int32.ofInt 0) + fi (S.2.2.2.1 = 0) (Int32.ofInt 0) (Int32.ofInt 2), S.1, S.2.1, S.2.2.1, Int32.ofInt 0, S.2.2.2.2)
/-- what is read at register k -/
noncomputable def sRd (k : Nat) (S : Sr) : Int64 × Sr :=
  fi (k < 2 ∧ ib (S.1 3) 7 = true) ((S.1 (8 + k)).toInt64, S)
  (fi (k = 0) ((sTk S).1.toInt64, (sTk S).2) (fi (k = 2) ((sCa S).1.toInt64, (sCa S).2) (fi (k = 5) ((sSt S).1.toInt64, (sSt S).2) (fi (k = 6) ((md (S.1 4)).toInt64, S) ((S.1 k).toInt64, S)))))
def FrS (L : Nat) (M M' : FM) : Prop := M'.2.2 = M.2.2 ∧ (∀ f b i, ¬ ((b = L ∧ 231 ≤ f ∧ f ≤ 238) ∨ (f = 3 ∧ (b = M.2.2 230 L 0 ∨ b = M.2.2 233 L 0 ∨ b = M.2.2 235 L 0))) → M'.1 f b i = M.1 f b i ∧ M'.2.1 f b i = M.2.1 f b i)
theorem frS_r (L : Nat) (M : FM) : FrS L M M := ⟨rfl, fun _ _ _ _ => ⟨rfl, rfl⟩⟩
theorem frS_I {L f : Nat} {v : Int32} {M N : FM} (h : FrS L M N) (hf : 231 ≤ f ∧ f ≤ 238) : FrS L M (fm_sI N f L 0 v) :=
  ⟨h.1, fun g b i z => ⟨by rw [rI, if_neg (fun q => z (Or.inl ⟨q.2.1, by rw [q.1]; exact hf⟩))]; exact (h.2 g b i z).1, (h.2 g b i z).2⟩⟩
theorem frS_L {L f : Nat} {v : Int64} {M N : FM} (h : FrS L M N) (hf : 231 ≤ f ∧ f ≤ 238) : FrS L M (fm_sL N f L 0 v) :=
  ⟨h.1, fun g b i z => ⟨(h.2 g b i z).1, by rw [rL, if_neg (fun q => z (Or.inl ⟨q.2.1, by rw [q.1]; exact hf⟩))]; exact (h.2 g b i z).2⟩⟩
theorem frS_A {L a k : Nat} {v : Int32} {M N : FM} (h : FrS L M N) (ha : a = M.2.2 230 L 0 ∨ a = M.2.2 233 L 0 ∨ a = M.2.2 235 L 0) : FrS L M (fm_sI N 3 a k v) :=
  ⟨h.1, fun g b i z => ⟨by rw [rI, if_neg (fun q => z (Or.inr ⟨q.1, by rw [q.2.1]; exact ha⟩))]; exact (h.2 g b i z).1, (h.2 g b i z).2⟩⟩
section Sc
variable {L B : Nat} {M : FM} {S : Sr}
theorem X31_take (T : Ty M) (n : fm_is M 78 78 L = true) (V : VSc L M S) (I : VSi B S) : ∃ M', (HX31_take L M ∧ GX31_take L M = ((sTk S).1, M')) ∧ VSc L M' (sTk S).2 ∧ FrS L M M' := by
  obtain ⟨h, q, qd, ov, em, out, sent⟩ := S
  obtain ⟨v1, v2, ⟨hd, b1, b2, b3⟩, v4, v5, v6, v7, v8⟩ := V
  have hl := I.1
  dsimp only at v1 v2 b3 v4 v5 v6 v7 v8 hl
  have h16 := rm_le qd
  unfold HX31_take HX31_take_0 GX31_take GX31_take_0
  dsimp only
  cases q with
  | nil =>
    have z : M.1 232 L 0 = 0 := v2
    rw [fi_pos z]
    exact ⟨M, ⟨⟨fun _ => trivial, fun y => absurd z y⟩, rfl⟩, ⟨v1, v2, ⟨hd, b1, b2, b3⟩, v4, v5, v6, v7, v8⟩, frS_r L M⟩
  | cons b q =>
    have lq : q.length + 1 ≤ 16 := Nat.le_trans hl h16
    have c : M.1 232 L 0 = nI (q.length + 1) := v2
    have z : ¬ M.1 232 L 0 = 0 := fun y => by
      rw [c] at y
      have := nI_j (b := 0) (by omega) (by decide) y
      omega
    rw [fi_neg z, b2, o_cl (by omega), up_1 (by omega), show Int32.ofInt 16 = nI 16 from rfl, n_rest (by omega) (by decide)]
    have e0 : M.1 3 (M.2.2 230 L 0) hd = b := by
      have := b3 0 (Nat.zero_lt_succ _)
      rw [Nat.add_zero, Nat.mod_eq_of_lt b1] at this
      exact this
    refine ⟨_, ⟨⟨fun y => absurd y z, fun _ => ⟨in_nI (tL_230 T.1 n) b1 (by decide), trivial⟩⟩, Prod.ext e0 rfl⟩, ⟨v1, ?_, ⟨(hd + 1) % 16, by omega, by rw [rIf (by decide), rI, if_pos ⟨rfl, rfl, rfl⟩], fun i hi => ?_⟩, v4, v5, v6, v7, v8⟩, frS_I (frS_I (frS_r L M) (by decide)) (by decide)⟩
    · rw [rI, if_pos ⟨rfl, rfl, rfl⟩, rIf (by decide), c, n_dn (by omega)]
      rfl
    · have := b3 (i + 1) (Nat.succ_lt_succ hi)
      show M.1 3 (M.2.2 230 L 0) (((hd + 1) % 16 + i) % 16) = q.getD i 0
      rw [show ((hd + 1) % 16 + i) % 16 = (hd + (i + 1)) % 16 by omega, this]
      rfl
end Sc
