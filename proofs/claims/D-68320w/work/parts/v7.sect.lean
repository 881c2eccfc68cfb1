/-! the machine: the tape's bytes are laid onto the disk, both sides -/
set_option maxRecDepth 100000
section Se
variable {mc bd ld t r d dk m bl n sv : Nat} {Mc Mt : FM} {X : Nat → Nat} {a : Int64}
theorem sec_L (hX : ∀ k, X k < 256) (hn : n ≤ 65536) (hs : n = 0 ∨ (a = lN sv ∧ 512 * sv + n ≤ 1048576)) (n67 : fm_is Mc 67 67 mc = true) (v189 : Mc.2.2 189 mc 0 = bd) (v20 : Mc.2.2 20 bd 0 = d) (v191 : Mc.2.2 191 mc 0 = t) (v59 : Mc.2.2 59 d 0 = dk) (n23 : fm_is Mc 23 23 dk = true)
    (tp : TpR t Mc X n) (tt : TpT m Mt X n) (v300 : Mt.2.2 300 m 0 = bl) (n93 : fm_is Mt 93 93 bl = true) (e325 : Mt.1 325 bl 0 = Int32.ofInt 2048) :
    ∀ (i c : Nat) (N N' : FM), c + i = n → N.1 = Mc.1 → N.2.2 = Mc.2.2 → Ty N → N'.2.2 = Mt.2.2 → (∀ f, f ≠ 324 → N'.1 f = Mt.1 f) → Ty N' → RelDk dk bl N N' → WK [1069] Mc N → WK [324, 1327] Mt N' → ∀ j j', i < j → i < j' →
    ∃ Nc Nt, FX2_sectors_L11 fN j mc a (nI n) (nI c) N = some (nI n, fm_sI Nc 262 t 0 (Int32.ofInt 0)) ∧ FX92_load_L156 fN j' m (Int32.ofInt 2) a (nI n) (nI c) N' = some (nI n, fm_sI Nt 309 m 0 (Int32.ofInt 0)) ∧
      Nc.1 = Mc.1 ∧ Nc.2.2 = Mc.2.2 ∧ Ty Nc ∧ Nt.2.2 = Mt.2.2 ∧ (∀ f, f ≠ 324 → Nt.1 f = Mt.1 f) ∧ Ty Nt ∧ RelDk dk bl Nc Nt ∧ WK [1069] Mc Nc ∧ WK [324, 1327] Mt Nt
  | 0, c, N, N', hc, q1, q2, T, q3, q4, T', K, kM, kN, j, j', hj, hj' => by
    obtain ⟨j, rfl⟩ : ∃ y, j = y + 1 := ⟨j - 1, by omega⟩
    obtain ⟨j', rfl⟩ : ∃ y, j' = y + 1 := ⟨j' - 1, by omega⟩
    have e : c = n := by omega
    subst e
    have l1 : nI c ≤ nI c := (n_le (by omega) (by omega)).mpr (Nat.le_refl _)
    have n92 : fm_is N' 92 92 m = true := by have := tt.1; unfold fm_is at this ⊢; rw [q3]; exact this
    have m67 : fm_is N 67 67 mc = true := by unfold fm_is at n67 ⊢; rw [q2]; exact n67
    have l2 : N'.1 309 m 0 ≤ nI c := by rw [q4 309 (by decide), tt.2.1]; exact l1
    refine ⟨N, N', ?_, ?_, q1, q2, T, q3, q4, T', K, kM, kN⟩
    · have G := (gX2_sectors_11 (FX2_sectors_L11 fN j) mc a (nI c) (nI c) N T m67 ⟨fun _ => trivial, fun q => absurd l1 q⟩).1
      show FX2_sectors_11 fN (FX2_sectors_L11 fN j) mc a (nI c) (nI c) N = _
      rw [G]
      unfold GX2_sectors_11
      try dsimp only
      rw [fi_pos l1, q2, v191]
      rfl
    · have G := (gX92_load_156 (FX92_load_L156 fN j') m (Int32.ofInt 2) a (nI c) (nI c) N' T' n92 ⟨fun _ => trivial, fun q => absurd l2 q⟩).1
      show FX92_load_156 fN (FX92_load_L156 fN j') m (Int32.ofInt 2) a (nI c) (nI c) N' = _
      rw [G]
      unfold GX92_load_156 GX92_load_220
      try dsimp only
      rw [fi_pos l2]
      rfl
  | i + 1, c, N, N', hc, q1, q2, T, q3, q4, T', K, kM, kN, j, j', hj, hj' => by
    obtain ⟨j, rfl⟩ : ∃ y, j = y + 1 := ⟨j - 1, by omega⟩
    obtain ⟨j', rfl⟩ : ∃ y, j' = y + 1 := ⟨j' - 1, by omega⟩
    obtain ⟨ha, hsv⟩ : a = lN sv ∧ 512 * sv + n ≤ 1048576 := by
      rcases hs with q | q
      · omega
      · exact q
    have n92 : fm_is N' 92 92 m = true := by have := tt.1; unfold fm_is at this ⊢; rw [q3]; exact this
    have m67 : fm_is N 67 67 mc = true := by unfold fm_is at n67 ⊢; rw [q2]; exact n67
    have m23 : fm_is N 23 23 dk = true := by unfold fm_is at n23 ⊢; rw [q2]; exact n23
    have m93 : fm_is N' 93 93 bl = true := by unfold fm_is at n93 ⊢; rw [q3]; exact n93
    have l1 : ¬ nI n ≤ nI c := fun q => by have := (n_le (by omega) (by omega)).mp q; omega
    have t309 : N'.1 309 m 0 = nI n := by rw [q4 309 (by decide)]; exact tt.2.1
    have l2 : ¬ N'.1 309 m 0 ≤ nI c := by rw [t309]; exact l1
    have ccl : (nI c).toNatClampNeg = c := o_cl (by omega)
    have t308 : N'.1 3 (N'.2.2 308 m 0) c = nI (X c) := by rw [q3, q4 3 (by decide)]; exact tt.2.2 c (by omega)
    have gt : GX3_get t (nI c) N = (nI (X c), N) := by
      unfold GX3_get GX3_get_0
      try dsimp only
      rw [ccl, q1, q2, tp.2.2.2 c (by omega), sb8_and (hX c)]
    have l261 : N.2.2 1 (N.2.2 261 t 0) 0 = 65536 := by rw [q2]; exact tp.2.1
    have ht : HX3_get t (nI c) N := ⟨in_nI l261 (by omega) (by decide), trivial⟩
    have hk : 512 * sv + c < 1048576 := by omega
    have p1 : ((Int64.ofInt 512) * a).toInt32 + nI c = nI (512 * sv + c) := by
      rw [ha]
      refine ui_inj ?_
      rw [ui_add, ui_low, ul_mul, show ul (Int64.ofInt 512) = 512 from rfl, ul_lN, ui_nI, ui_nI]
      omega
    have p2 : (a.toInt32 * (Int32.ofInt 512)) + nI c = nI (512 * sv + c) := by
      rw [ha]
      refine ui_inj ?_
      rw [ui_add, ui_mul, ui_low, ul_lN, show ui (Int32.ofInt 512) = 512 from rfl, ui_nI, ui_nI]
      omega
    obtain ⟨x1, x2⟩ := X23_put (v := nI (X c)) T m23 hk
    have k0 : ¬ nI (512 * sv + c) < 0 := fun q => by
      have := (n_lt (a := 512 * sv + c) (b := 0) (by omega) (by decide)).mp q
      omega
    have em : Int32.ofInt 512 * Int32.ofInt 2048 = nI 1048576 := by decide
    have k2 : nI (512 * sv + c) < nI 1048576 := (n_lt (by omega) (by decide)).mpr hk
    have e325' : N'.1 325 bl 0 = Int32.ofInt 2048 := by rw [q4 325 (by decide)]; exact e325
    have np_ : GX95_noPlace bl (nI (512 * sv + c)) N' = (Int32.ofInt 0, fm_sI N' 324 bl 0 (Int32.ofInt 0)) := by
      unfold GX95_noPlace GX95_noPlace_0 GX95_noPlace_22 GX95_noPlace_37
      try dsimp only
      rw [e325', em, fi_neg k0, fi_pos k2, fi_pos (show (fm_sI N' 324 bl 0 (Int32.ofInt 0)).1 324 bl 0 ≤ 0 by rw [rIe]; decide)]
    have T1 : Ty (fm_sI N' 324 bl 0 (Int32.ofInt 0)) := ⟨T'.1, tyb_sI rfl T'.2⟩
    obtain ⟨y1, y2⟩ := X95_putByte (b := N'.2.2 327 bl 0) (M := fm_sI N' 324 bl 0 (Int32.ofInt 0)) (v := nI (X c)) (tL_327 T'.1 m93) hk
    have sH : HX95_setDisk bl (nI (512 * sv + c)) (nI (X c)) N' := by
      unfold HX95_setDisk HX95_setDisk_0
      try dsimp only
      rw [np_]
      exact ⟨fun _ => ⟨y1, trivial⟩, fun q => absurd rfl q⟩
    have sG : GX95_setDisk bl (nI (512 * sv + c)) (nI (X c)) N' = fm_sL (fm_sI N' 324 bl 0 (Int32.ofInt 0)) 3 (N'.2.2 327 bl 0) ((512 * sv + c) / 8) (pbw (N'.2.1 3 (N'.2.2 327 bl 0) ((512 * sv + c) / 8)) (512 * sv + c) (nI (X c))) := by
      unfold GX95_setDisk GX95_setDisk_0 GX95_setDisk_17
      try dsimp only
      rw [np_]
      try dsimp only
      rw [fi_pos (show (Int32.ofInt 0 : Int32) = 0 from rfl)]
      exact y2
    have K2 : RelDk dk bl (fm_sL N 3 (N.2.2 69 dk 0) ((512 * sv + c) / 8) (pbw (N.2.1 3 (N.2.2 69 dk 0) ((512 * sv + c) / 8)) (512 * sv + c) (nI (X c)))) (fm_sL (fm_sI N' 324 bl 0 (Int32.ofInt 0)) 3 (N'.2.2 327 bl 0) ((512 * sv + c) / 8) (pbw (N'.2.1 3 (N'.2.2 327 bl 0) ((512 * sv + c) / 8)) (512 * sv + c) (nI (X c)))) := fun y hy => by
      show (fm_sL N 3 (N.2.2 69 dk 0) _ _).2.1 3 (N.2.2 69 dk 0) y = (fm_sL (fm_sI N' 324 bl 0 (Int32.ofInt 0)) 3 (N'.2.2 327 bl 0) _ _).2.1 3 (N'.2.2 327 bl 0) y
      by_cases z : y = (512 * sv + c) / 8
      · rw [z, sL_at, sL_at, K _ (by omega)]
      · rw [rL, if_neg (fun q => z q.2.2), rL, if_neg (fun q => z q.2.2)]
        exact K y hy
    have kM2 : WK [1069] Mc (fm_sL N 3 (N.2.2 69 dk 0) ((512 * sv + c) / 8) (pbw (N.2.1 3 (N.2.2 69 dk 0) ((512 * sv + c) / 8)) (512 * sv + c) (nI (X c)))) :=
      WK_t kM (WK_aL kM.1.1 (tN_69 T.1 m23) (sS_69 kM.1.1 m23) _)
    have k324 := WK_I kN.1.1 m93 (f := 324) rfl rfl (Int32.ofInt 0)
    have kN2 : WK [324, 1327] Mt (fm_sL (fm_sI N' 324 bl 0 (Int32.ofInt 0)) 3 (N'.2.2 327 bl 0) ((512 * sv + c) / 8) (pbw (N'.2.1 3 (N'.2.2 327 bl 0) ((512 * sv + c) / 8)) (512 * sv + c) (nI (X c)))) :=
      WK_t (WK_t kN (WK_s (by decide) k324)) (WK_s (S := [1327]) (by decide) (WK_aL k324.1.1 (show fm_is (fm_sI N' 324 bl 0 (Int32.ofInt 0)) 902 902 (N'.2.2 327 bl 0) = true from tN_327 T'.1 m93) (sS_327 k324.1.1 (show fm_is (fm_sI N' 324 bl 0 (Int32.ofInt 0)) 93 93 bl = true from m93)) _))
    obtain ⟨Nc, Nt, c1, c2, c3⟩ := sec_L hX hn hs n67 v189 v20 v191 v59 n23 tp tt v300 n93 e325 i (c + 1) _ _ (by omega) (show (fm_sL N 3 (N.2.2 69 dk 0) ((512 * sv + c) / 8) (pbw (N.2.1 3 (N.2.2 69 dk 0) ((512 * sv + c) / 8)) (512 * sv + c) (nI (X c)))).1 = Mc.1 from q1) q2 ⟨T.1, T.2⟩
      (show (fm_sL (fm_sI N' 324 bl 0 (Int32.ofInt 0)) 3 (N'.2.2 327 bl 0) ((512 * sv + c) / 8) (pbw (N'.2.1 3 (N'.2.2 327 bl 0) ((512 * sv + c) / 8)) (512 * sv + c) (nI (X c)))).2.2 = Mt.2.2 from q3)
      (fun f hf => (show (fm_sI N' 324 bl 0 (Int32.ofInt 0)).1 f = N'.1 f from funext fun _ => funext fun _ => rIf hf).trans (q4 f hf)) ⟨T1.1, T1.2⟩ K2 kM2 kN2 j j' (by omega) (by omega)
    refine ⟨Nc, Nt, ?_, ?_, c3⟩
    · have H : HX2_sectors_11 mc a (nI n) (nI c) N := by
        refine ⟨fun q => absurd q l1, fun _ => ?_⟩
        try dsimp only
        rw [q2, v189, v20, v191, v59, gt, p1]
        exact ⟨ht, x1, trivial⟩
      have G := (gX2_sectors_11 (FX2_sectors_L11 fN j) mc a (nI n) (nI c) N T m67 H).1
      show FX2_sectors_11 fN (FX2_sectors_L11 fN j) mc a (nI n) (nI c) N = _
      rw [G]
      unfold GX2_sectors_11
      try dsimp only
      rw [fi_neg l1, q2, v189, v20, v191, v59, gt, p1, x2, nI_s (by omega)]
      exact c1
    · have H : HX92_load_156 m (Int32.ofInt 2) a (nI n) (nI c) N' := by
        refine ⟨fun q => absurd q l2, fun _ => ⟨fun q => absurd q (by decide), fun _ => ?_⟩⟩
        try dsimp only
        rw [ccl, t308, show N'.2.2 300 m 0 = bl by rw [q3]; exact v300, p2]
        exact ⟨in_nI (tL_308 T'.1 n92) (by omega) (by decide), sH, trivial⟩
      have G := (gX92_load_156 (FX92_load_L156 fN j') m (Int32.ofInt 2) a (nI n) (nI c) N' T' n92 H).1
      show FX92_load_156 fN (FX92_load_L156 fN j') m (Int32.ofInt 2) a (nI n) (nI c) N' = _
      rw [G]
      unfold GX92_load_156 GX92_load_214
      try dsimp only
      rw [fi_neg l2, fi_neg (show ¬ (Int32.ofInt 2 : Int32) = 0 by decide), ccl, t308, show N'.2.2 300 m 0 = bl by rw [q3]; exact v300, p2, sG, nI_s (by omega)]
      exact c2
end Se
