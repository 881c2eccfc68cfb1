/-! the signals: related -/
set_option maxRecDepth 100000
theorem kSe_eq {z : Prop} {K : Kr} (h : ib K.1 10 = true ↔ z) : kSe z K = kLk K := by
  have e : fi z (K.1 ||| b1 10) (off1 K.1 10) = K.1 := by
    apply ib_ext
    intro i hi
    have := ib_sg z K.1 hi
    by_cases q : i = 10
    · rw [if_pos q] at this
      rw [q] at this ⊢
      cases h1 : ib (fi z (K.1 ||| b1 10) (off1 K.1 10)) 10 with
      | true => exact (h.mpr (this.mp h1)).symm
      | false =>
        cases h2 : ib K.1 10 with
        | false => rfl
        | true =>
          rw [this.mpr (h.mp h2)] at h1
          cases h1
    · rw [if_neg q] at this
      cases h1 : ib (fi z (K.1 ||| b1 10) (off1 K.1 10)) i with
      | true => exact (this.mp h1).symm
      | false =>
        cases h2 : ib K.1 i with
        | false => rfl
        | true =>
          rw [this.mpr h2] at h1
          cases h1
  unfold kSe
  rw [e]
theorem xor_tl (x : Int64) : (x ^^^ Int64.ofInt (-9223372036854775808)).toInt = (ul x : Int) - 9223372036854775808 := by
  have h := ul_lt x
  rw [tl, ul_xor, show ul (Int64.ofInt (-9223372036854775808)) = 9223372036854775808 from rfl, xor_top _ h]
  split <;> split <;> omega
theorem X96_isLess (x y : Int64) (M : FM) : GX96_isLess x y M = (bz (ul x < ul y), M) := by
  have hx := ul_lt x
  have hy := ul_lt y
  have k : (0 ≤ lg_cmp x y) ↔ y.toInt ≤ x.toInt := by rw [lg_cmp_ge, le_tl]
  simp only [GX96_isLess_50, GX96_isLess_22, GX96_isLess_11, GX96_isLess_0, GX96_isLess, fi_if, nneg_l, k, bz, tl]
  by_cases a : ul x < 9223372036854775808 <;> by_cases b : ul y < 9223372036854775808 <;> by_cases q : ul x < ul y <;> simp [a, b, q] <;> omega
section Rg
variable {s m p B : Nat} {M Mc Mt : FM} {K : Kr} {S : Sr} {soft : Nat → Int32} {num : Nat → Int64}
theorem rel_gread {w n : Nat} {z : Int32} (T : Ty Mc) (W : Wf Mc) (Tt : Ty Mt) (Wt : Wf Mt) (h : RelG s m p B Mc Mt) (hw : w < 3) (hn : n < 2147483648) (hz : z4 z) :
    ∃ v X Y, (HX30_read s (nI w) (lN n) z Mc ∧ GX30_read s (nI w) (lN n) z Mc = (v, X)) ∧ (HX96_read m (nI w) (lN n) z Mt ∧ GX96_read m (nI w) (lN n) z Mt = (v, Y)) ∧ RelG s m p B X Y := by
  obtain ⟨soft, num, K, S, ns, nm, Vc, Vt, I⟩ := h
  obtain ⟨X, ⟨x1, x2⟩, x3⟩ := X30_read (z := z) T W ns Vc I hw hn
  obtain ⟨Y, ⟨y1, y2⟩, y3⟩ := X96_read Tt Wt nm Vt I hw hn hz
  have nX : fm_is X 79 79 s = true := by
    have e := (gX30_read s (nI w) (lN n) z Mc T ns x1).2.2
    rw [x2] at e
    exact ext_is e (by decide) ns
  have nY : fm_is Y 99 99 m = true := by
    have e := (gX96_read m (nI w) (lN n) z Mt Tt nm y1).2.2
    rw [y2] at e
    exact ext_is e (by decide) nm
  obtain ⟨i1, i4, i0, iK, iS, i10⟩ := I
  refine ⟨_, X, Y, ⟨x1, x2⟩, ⟨y1, y2⟩, soft, num, _, _, nX, nY, x3, y3, vui_se i1 i4 i0 ?_ ?_⟩
  · unfold gRd
    split
    · exact iK
    · split
      · split
        · obtain ⟨_, _, _, _, _, q⟩ := X96_readController (n := n) (m := m) (p := p) (ty_94 (m := m) Tt 0) (wf_sI (f := 394) (i := 0) (v := 0) (lo := 99) (hi := 99) Wt rfl nm) nm (vut_94 Vt 0).1.1 i4 hn (vut_94 Vt 0).2.1 iK
          exact q
        · exact iK
      · split
        · exact iK
        · exact iK
  · unfold gRd
    split
    · exact iS
    · split
      · split
        · exact iS
        · exact iS
      · split
        · exact vsi_rd iS n
        · exact iS
theorem rel_gwrite {w n : Nat} {z : Int32} (T : Ty Mc) (W : Wf Mc) (Tt : Ty Mt) (Wt : Wf Mt) (h : RelG s m p B Mc Mt) (hB : B < 2147483000) (hw : w < 3) (hn : n < 2147483648) (hz : z4 z) (v : Int64) :
    ∃ X Y, (HX30_write s (nI w) (lN n) z v Mc ∧ GX30_write s (nI w) (lN n) z v Mc = X) ∧ (HX96_write m (nI w) (lN n) z v Mt ∧ GX96_write m (nI w) (lN n) z v Mt = Y) ∧ RelG s m p (B + 1) X Y := by
  obtain ⟨soft, num, K, S, ns, nm, Vc, Vt, I⟩ := h
  obtain ⟨X, ⟨x1, x2⟩, x3⟩ := X30_write (z := z) T W ns Vc I hB hw hn v
  obtain ⟨Y, ⟨y1, y2⟩, y3⟩ := X96_write Tt Wt nm Vt I hB hw hn hz v
  have nX : fm_is X 79 79 s = true := by
    have e := (gX30_write s (nI w) (lN n) z v Mc T ns x1).2.2
    rw [x2] at e
    exact ext_is e (by decide) ns
  have nY : fm_is Y 99 99 m = true := by
    have e := (gX96_write m (nI w) (lN n) z v Mt Tt nm y1).2.2
    rw [y2] at e
    exact ext_is e (by decide) nm
  obtain ⟨i1, i4, i0, iK, iS, i10⟩ := I
  have eK : kSe (¬ cs (gWS w n z v S) = Int32.ofInt 1) (gWk kCmC p w n z v K) = kSe (¬ cs (gWS w n z v S) = Int32.ofInt 1) (gWk kCm p w n z v K) := by
    unfold gWk
    by_cases q : w = 1 ∧ z = Int32.ofInt 4
    · rw [if_pos q, if_pos q]
      have : gWS w n z v S = S := by
        unfold gWS
        rw [if_neg (by omega)]
      rw [this]
      exact kWr_C i10
    · rw [if_neg q, if_neg q]
  rw [eK] at x3
  refine ⟨X, Y, ⟨x1, x2⟩, ⟨y1, y2⟩, _, _, _, _, nX, nY, x3, y3, vui_se i1 i4 ?_ ?_ ?_⟩
  · unfold gWs
    split
    · exact tWs_01 i0
    · exact i0
  · unfold gWk
    split
    · exact (vki_wr iK).1
    · exact iK
  · unfold gWS
    split
    · exact vsi_wr iS n _
    · exact vsi_up iS (Nat.le_succ B)
end Rg
