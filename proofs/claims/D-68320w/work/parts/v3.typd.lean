/-! the machine: what is typed waits in the ring, both sides -/
set_option maxRecDepth 100000
def RgC (mc : Nat) (M : FM) (Y : Nat → Nat) (z f : Nat) : Prop := M.1 195 mc 0 = nI f ∧ M.1 196 mc 0 = nI z ∧ ∀ k, k < 65536 → M.1 3 (M.2.2 194 mc 0) k = sb8 (Y k)
def RgT (m : Nat) (M : FM) (Y : Nat → Nat) (z f : Nat) : Prop := M.1 311 m 0 = nI f ∧ M.1 312 m 0 = nI z ∧ ∀ k, k < 65536 → M.1 3 (M.2.2 310 m 0) k = nI (Y k)
theorem sb8_8 {b : Nat} (h : b < 256) : (sb8 b).toInt8.toInt32 = sb8 b := by
  have e := (sb8_d (nI b)).1
  rw [show ui (nI b) % 256 = b by rw [ui_nI]; omega] at e
  exact e
section Ty_
variable {mc m n z f c k : Nat} {M : FM} {X Y : Nat → Nat}
theorem typ_c (T : Ty M) (n67 : fm_is M 67 67 mc = true) (h : TpR (M.2.2 191 mc 0) M X n) (hX : ∀ k, X k < 256) (hn : n ≤ 65536) (g : RgC mc M Y z f) (hf : f < 65536) (hz : z < 65536) (hc : c < n) (hk : c < k) (hkk : k ≤ 65536) (hne : M.2.2 194 mc 0 ≠ M.2.2 261 (M.2.2 191 mc 0) 0) :
    HX2_typed_20 mc (nI k) (nI c) M ∧ ∃ N, GX2_typed_20 mc (nI k) (nI c) M = .inl (mc, nI k, nI (c + 1), N) ∧ N.2 = M.2 ∧ Ty N ∧ TpR (M.2.2 191 mc 0) N X n ∧ RgC mc N (updX Y ((f + z) % 65536) (X c)) (z + 1) f ∧ N.1 197 mc 0 = M.1 197 mc 0 := by
  obtain ⟨a1, a2, a3, a4⟩ := h
  obtain ⟨g1, g2, g3⟩ := g
  have c1 : ¬ nI k ≤ nI c := fun q => by have := (n_le (by omega) (by omega)).mp q; omega
  have es : M.1 195 mc 0 + M.1 196 mc 0 = nI (f + z) := by rw [g1, g2, nI_a]
  have md : nI (f + z) - nI (f + z) / Int32.ofInt 65536 * Int32.ofInt 65536 = nI ((f + z) % 65536) := n_rest (by omega) (by decide)
  have hm : (f + z) % 65536 < 65536 := Nat.mod_lt _ (by decide)
  have H : HX2_typed_20 mc (nI k) (nI c) M := by
    refine ⟨fun q => absurd q c1, fun _ => ?_⟩
    try dsimp only
    rw [es, md]
    exact ⟨in_nI a2 (by omega) (by decide), in_nI (tL_194 T.1 n67) hm (by decide), trivial⟩
  have e : GX2_typed_20 mc (nI k) (nI c) M = .inl (mc, nI k, nI (c + 1), fm_sI (fm_sI M 3 (M.2.2 194 mc 0) ((f + z) % 65536) (sb8 (X c))) 196 mc 0 (nI (z + 1))) := by
    unfold GX2_typed_20
    try dsimp only
    rw [fi_neg c1, es, md, o_cl (n := (f + z) % 65536) (by omega), o_cl (n := c) (by omega), a4 c (by omega), sb8_8 (hX c), rIf (by decide), g2, nI_s (by omega), nI_s (by omega)]
  have P := (gX2_typed_20 (fun _ _ _ _ => none) mc (nI k) (nI c) M T n67 H).2
  rw [e] at P
  refine ⟨H, _, e, rfl, P.1, ⟨a1, a2, ?_, fun j hj => ?_⟩, ⟨?_, rIe _, fun j hj => ?_⟩, ?_⟩
  · rw [rIf (by decide), rIf (by decide)]
    exact a3
  · rw [rIf (by decide), rI, if_neg (fun q => hne q.2.1.symm)]
    exact a4 j hj
  · rw [rIf (by decide), rIf (by decide)]
    exact g1
  · show (fm_sI (fm_sI M 3 (M.2.2 194 mc 0) ((f + z) % 65536) (sb8 (X c))) 196 mc 0 (nI (z + 1))).1 3 (M.2.2 194 mc 0) j = sb8 (updX Y ((f + z) % 65536) (X c) j)
    unfold updX
    rw [rIf (by decide)]
    by_cases d : j = (f + z) % 65536
    · rw [if_pos d, d, rIe]
    · rw [if_neg d, rI, if_neg (fun q => d q.2.2)]
      exact g3 j hj
  · rw [rIf (by decide), rIf (by decide)]
theorem typ_t (T : Ty M) (h : TpT m M X n) (hn : n ≤ 65536) (g : RgT m M Y z f) (hf : f < 65536) (hz : z < 65536) (hc : c < n) (hne : M.2.2 310 m 0 ≠ M.2.2 308 m 0) :
    HX92_loadInput_2 m (nI c) M ∧ ∃ N, GX92_loadInput_2 m (nI c) M = .inl (m, nI (c + 1), N) ∧ N.2 = M.2 ∧ Ty N ∧ TpT m N X n ∧ RgT m N (updX Y ((f + z) % 65536) (X c)) (z + 1) f ∧ N.1 296 m 0 = M.1 296 m 0 := by
  obtain ⟨a1, a3, a4⟩ := h
  obtain ⟨g1, g2, g3⟩ := g
  have c1 : ¬ M.1 309 m 0 ≤ nI c := by rw [a3]; exact fun q => by have := (n_le (by omega) (by omega)).mp q; omega
  have c2 : ¬ Int32.ofInt 65536 ≤ M.1 312 m 0 := by
    rw [g2]
    exact fun q => by have := (n_le (a := 65536) (by decide) (by omega)).mp q; omega
  have es : M.1 311 m 0 + M.1 312 m 0 = nI (f + z) := by rw [g1, g2, nI_a]
  have md : nI (f + z) - nI (f + z) / Int32.ofInt 65536 * Int32.ofInt 65536 = nI ((f + z) % 65536) := n_rest (by omega) (by decide)
  have hm : (f + z) % 65536 < 65536 := Nat.mod_lt _ (by decide)
  have H : HX92_loadInput_2 m (nI c) M := by
    refine ⟨fun q => absurd q c1, fun _ => ⟨fun q => absurd q c2, fun _ => ?_⟩⟩
    try dsimp only
    rw [es, md]
    exact ⟨in_nI (tL_308 T.1 a1) (by omega) (by decide), in_nI (tL_310 T.1 a1) hm (by decide), trivial⟩
  have e : GX92_loadInput_2 m (nI c) M = .inl (m, nI (c + 1), fm_sI (fm_sI M 3 (M.2.2 310 m 0) ((f + z) % 65536) (nI (X c))) 312 m 0 (nI (z + 1))) := by
    unfold GX92_loadInput_2
    try dsimp only
    rw [fi_neg c1, fi_neg c2, es, md, o_cl (n := (f + z) % 65536) (by omega), o_cl (n := c) (by omega), a4 c (by omega), rIf (by decide), g2, nI_s (by omega), nI_s (by omega)]
  have P := (gX92_loadInput_2 (fun _ _ _ => none) m (nI c) M T a1 H).2
  rw [e] at P
  refine ⟨H, _, e, rfl, P.1, ⟨a1, ?_, fun j hj => ?_⟩, ⟨?_, rIe _, fun j hj => ?_⟩, ?_⟩
  · rw [rIf (by decide), rIf (by decide)]
    exact a3
  · rw [rIf (by decide), rI, if_neg (fun q => hne q.2.1.symm)]
    exact a4 j hj
  · rw [rIf (by decide), rIf (by decide)]
    exact g1
  · show (fm_sI (fm_sI M 3 (M.2.2 310 m 0) ((f + z) % 65536) (nI (X c))) 312 m 0 (nI (z + 1))).1 3 (M.2.2 310 m 0) j = nI (updX Y ((f + z) % 65536) (X c) j)
    unfold updX
    rw [rIf (by decide)]
    by_cases d : j = (f + z) % 65536
    · rw [if_pos d, d, rIe]
    · rw [if_neg d, rI, if_neg (fun q => d q.2.2)]
      exact g3 j hj
  · rw [rIf (by decide), rIf (by decide)]
/-- both loops -/
theorem typ_L {z0 : Nat} (hX : ∀ k, X k < 256) (hn : n ≤ 65536) (hf : f < 65536) (hk : k ≤ n) (hz : z0 + k ≤ 65536) (hend : k = n ∨ z0 + k = 65536) : ∀ (i c : Nat) (Mc Mt : FM) (Y : Nat → Nat), c + i = k → Ty Mc → Ty Mt → fm_is Mc 67 67 mc = true → TpR (Mc.2.2 191 mc 0) Mc X n → TpT m Mt X n →
    RgC mc Mc Y (z0 + c) f → RgT m Mt Y (z0 + c) f → (∀ k, Y k < 256) → Mc.2.2 194 mc 0 ≠ Mc.2.2 261 (Mc.2.2 191 mc 0) 0 → Mt.2.2 310 m 0 ≠ Mt.2.2 308 m 0 → ∀ j j', i < j → i < j' →
    ∃ Nc Nt Y', FX2_typed_L20 fN j mc (nI k) (nI c) Mc = some (nI k, fm_sI Nc 262 (Mc.2.2 191 mc 0) 0 (Int32.ofInt 0)) ∧ FX92_loadInput_L2 fN j' m (nI c) Mt = some (nI k, Nt) ∧ Nc.2 = Mc.2 ∧ Nt.2 = Mt.2 ∧ Ty Nc ∧ Ty Nt ∧ TpR (Mc.2.2 191 mc 0) Nc X n ∧ TpT m Nt X n ∧
      RgC mc Nc Y' (z0 + k) f ∧ RgT m Nt Y' (z0 + k) f ∧ (∀ k, Y' k < 256) ∧ Nc.1 197 mc 0 = Mc.1 197 mc 0 ∧ Nt.1 296 m 0 = Mt.1 296 m 0
  | 0, c, Mc, Mt, Y, hc, T, T', n67, h, h', g, g', hY, ne, ne', j, j', hj, hj' => by
    obtain ⟨j, rfl⟩ : ∃ y, j = y + 1 := ⟨j - 1, by omega⟩
    obtain ⟨j', rfl⟩ : ∃ y, j' = y + 1 := ⟨j' - 1, by omega⟩
    have e : c = k := by omega
    subst e
    have l1 : nI c ≤ nI c := (n_le (by omega) (by omega)).mpr (Nat.le_refl _)
    refine ⟨Mc, Mt, Y, ?_, ?_, rfl, rfl, T, T', h, h', g, g', hY, rfl, rfl⟩
    · have G := (gX2_typed_20 (FX2_typed_L20 fN j) mc (nI c) (nI c) Mc T n67 ⟨fun _ => trivial, fun q => absurd l1 q⟩).1
      show FX2_typed_20 fN (FX2_typed_L20 fN j) mc (nI c) (nI c) Mc = _
      rw [G]
      unfold GX2_typed_20
      try dsimp only
      rw [fi_pos l1]
      rfl
    · by_cases d : Mt.1 309 m 0 ≤ nI c
      · have G := (gX92_loadInput_2 (FX92_loadInput_L2 fN j') m (nI c) Mt T' h'.1 ⟨fun _ => trivial, fun q => absurd d q⟩).1
        show FX92_loadInput_2 fN (FX92_loadInput_L2 fN j') m (nI c) Mt = _
        rw [G]
        unfold GX92_loadInput_2 GX92_loadInput_58
        try dsimp only
        rw [fi_pos d]
        rfl
      · have d2 : Int32.ofInt 65536 ≤ Mt.1 312 m 0 := by
          have : z0 + c = 65536 := by
            rcases hend with q | q
            · exact absurd (show Mt.1 309 m 0 ≤ nI c by rw [h'.2.1, ← q]; exact l1) d
            · exact q
          rw [g'.2.1, this]
          decide
        have G := (gX92_loadInput_2 (FX92_loadInput_L2 fN j') m (nI c) Mt T' h'.1 ⟨fun q => absurd q d, fun _ => ⟨fun _ => trivial, fun q => absurd d2 q⟩⟩).1
        show FX92_loadInput_2 fN (FX92_loadInput_L2 fN j') m (nI c) Mt = _
        rw [G]
        unfold GX92_loadInput_2 GX92_loadInput_58
        try dsimp only
        rw [fi_neg d, fi_pos d2]
        rfl
  | i + 1, c, Mc, Mt, Y, hc, T, T', n67, h, h', g, g', hY, ne, ne', j, j', hj, hj' => by
    obtain ⟨j, rfl⟩ : ∃ y, j = y + 1 := ⟨j - 1, by omega⟩
    obtain ⟨j', rfl⟩ : ∃ y, j' = y + 1 := ⟨j' - 1, by omega⟩
    obtain ⟨a1, N, a2, a3, a4, a5, a6, a7⟩ := typ_c (k := k) (c := c) T n67 h hX hn g hf (by omega) (by omega) (by omega) (by omega) ne
    obtain ⟨b1, N', b2, b3, b4, b5, b6, b7⟩ := typ_t (c := c) T' h' hn g' hf (by omega) (by omega) ne'
    have r1 : N.2.2 = Mc.2.2 := by rw [a3]
    have r2 : N'.2.2 = Mt.2.2 := by rw [b3]
    have n67' : fm_is N 67 67 mc = true := by unfold fm_is at n67 ⊢; rw [r1]; exact n67
    obtain ⟨Nc, Nt, Y', c1, c2, c3, c4, c5, c6, c7, c8, c9, d1, d2, d3, d4⟩ := typ_L hX hn hf hk hz hend i (c + 1) N N' _ (by omega) a4 b4 n67' (by rw [r1]; exact a5) b5 a6 b6 (fun y => by
      unfold updX
      split
      · exact hX c
      · exact hY y) (by rw [r1]; exact ne) (by rw [r2]; exact ne') j j' (by omega) (by omega)
    rw [r1] at c1 c7
    refine ⟨Nc, Nt, Y', ?_, ?_, c3.trans a3, c4.trans b3, c5, c6, c7, c8, c9, d1, d2, d3.trans a7, d4.trans b7⟩
    · have G := (gX2_typed_20 (FX2_typed_L20 fN j) mc (nI k) (nI c) Mc T n67 a1).1
      show FX2_typed_20 fN (FX2_typed_L20 fN j) mc (nI k) (nI c) Mc = _
      rw [G, a2]
      exact c1
    · have G := (gX92_loadInput_2 (FX92_loadInput_L2 fN j') m (nI c) Mt T' h'.1 b1).1
      show FX92_loadInput_2 fN (FX92_loadInput_L2 fN j') m (nI c) Mt = _
      rw [G, b2]
      exact c2
end Ty_
