/-! the machine: the tape's bytes are laid into memory, both sides -/
set_option maxRecDepth 100000
/-- where the machine finds the memory and the tape -/
def PmM (mc bd ld t r : Nat) (M : FM) : Prop := fm_is M 67 67 mc = true ∧ fm_is M 11 11 bd = true ∧ fm_is M 66 66 ld = true ∧ M.2.2 189 mc 0 = bd ∧ M.2.2 191 mc 0 = t ∧ M.2.2 18 bd 0 = r ∧ M.2.2 186 ld 0 = t
section By
variable {mc bd ld t r cr m n c : Nat} {Mc Mt M N : FM} {X : Nat → Nat} {a : Int64} {S : List Nat}
theorem pmM_k (k : WK S M N) (hd : dj [18, 186, 189, 191] S = true) (W : Wf M) (h : PmM mc bd ld t r M) : PmM mc bd ld t r N := by
  obtain ⟨h1, h2, h3, h4, h5, h6, h7⟩ := h
  have l1 := wf_lt W (fm_ist rfl h1)
  have l2 := wf_lt W (fm_ist rfl h2)
  have l3 := wf_lt W (fm_ist rfl h3)
  exact ⟨kis k W rfl h1, kis k W rfl h2, kis k W rfl h3, (congrFun (kf (f := 189) k rfl (dj_n hd 189 rfl) l1).2.2 0).trans h4, (congrFun (kf (f := 191) k rfl (dj_n hd 191 rfl) l1).2.2 0).trans h5, (congrFun (kf (f := 18) k rfl (dj_n hd 18 rfl) l2).2.2 0).trans h6,
    (congrFun (kf (f := 186) k rfl (dj_n hd 186 rfl) l3).2.2 0).trans h7⟩
theorem byt_L (hr : inR a n ∨ n = 0) : ∀ (i c : Nat) (Mc Mt : FM), c + i = n → RelLd ld m r cr Mc Mt X n → PmM mc bd ld t r Mc → ∀ j j', i < j → i < j' →
    ∃ Nc Nt, FX2_bytes_L11 fN j mc a (nI n) (nI c) Mc = some (nI n, fm_sI Nc 262 t 0 (Int32.ofInt 0)) ∧ FX92_load_L156 fN j' m (Int32.ofInt 0) a (nI n) (nI c) Mt = some (nI n, fm_sI Nt 309 m 0 (Int32.ofInt 0)) ∧
      RelLd ld m r cr Nc Nt X n ∧ PmM mc bd ld t r Nc ∧ Evo r i Mc Nc ∧ WK lX11_store Mc Nc ∧ WK lX93_put Mt Nt
  | 0, c, Mc, Mt, hc, L, P, j, j', hj, hj' => by
    obtain ⟨j, rfl⟩ : ∃ y, j = y + 1 := ⟨j - 1, by omega⟩
    obtain ⟨j', rfl⟩ : ∃ y, j' = y + 1 := ⟨j' - 1, by omega⟩
    have e : c = n := by omega
    subst e
    have hn : c ≤ 65536 := L.2.1.2.2.2.1.2
    have l1 : nI c ≤ nI c := (n_le (by omega) (by omega)).mpr (Nat.le_refl _)
    have n92 := L.2.2.2.1.2.1.1
    have l2 : Mt.1 309 m 0 ≤ nI c := by rw [L.2.2.2.1.2.1.2.1]; exact l1
    refine ⟨Mc, Mt, ?_, ?_, L, P, evo_r r 0 Mc, WK_r L.1.1.2.1, WK_r L.1.2.1.2.1⟩
    · have G := (gX2_bytes_11 (FX2_bytes_L11 fN j) mc a (nI c) (nI c) Mc L.1.1.1 P.1 ⟨fun _ => trivial, fun q => absurd l1 q⟩).1
      show FX2_bytes_11 fN (FX2_bytes_L11 fN j) mc a (nI c) (nI c) Mc = _
      rw [G]
      unfold GX2_bytes_11
      try dsimp only
      rw [fi_pos l1, P.2.2.2.2.1]
      rfl
    · have G := (gX92_load_156 (FX92_load_L156 fN j') m (Int32.ofInt 0) a (nI c) (nI c) Mt L.1.2.1.1 n92 ⟨fun _ => trivial, fun q => absurd l2 q⟩).1
      show FX92_load_156 fN (FX92_load_L156 fN j') m (Int32.ofInt 0) a (nI c) (nI c) Mt = _
      rw [G]
      unfold GX92_load_156 GX92_load_220
      try dsimp only
      rw [fi_pos l2]
      rfl
  | i + 1, c, Mc, Mt, hc, L, P, j, j', hj, hj' => by
    obtain ⟨j, rfl⟩ : ∃ y, j = y + 1 := ⟨j - 1, by omega⟩
    obtain ⟨j', rfl⟩ : ∃ y, j' = y + 1 := ⟨j' - 1, by omega⟩
    have hr' : inR a n := by
      rcases hr with q | q
      · exact q
      · omega
    have tp := L.2.1.2.2.1
    rw [P.2.2.2.2.2.2] at tp
    obtain ⟨hX, hn⟩ := L.2.1.2.2.2.1
    obtain ⟨n92, t309, t308⟩ := L.2.2.2.1.2.1
    have v298 := L.2.2.2.2
    have l1 : ¬ nI n ≤ nI c := fun q => by have := (n_le (by omega) (by omega)).mp q; omega
    have l2 : ¬ Mt.1 309 m 0 ≤ nI c := by rw [t309]; exact l1
    have e64 : (nI c).toInt64 = lN c := o_64 (by omega)
    have hc1 := (a_i hr' (show c < n by omega)).1
    have ccl : (nI c).toNatClampNeg = c := o_cl (by omega)
    obtain ⟨p1, p2, L2, E, _, _⟩ := ld_put L hc1 (hX c)
    have W := L.1.1.2.1
    have g1 := gX11_store r (a + lN c) (Int32.ofInt 1) (nI (X c)).toInt64 Mc L.1.1.1 L.1.1.2.2.1 p1
    have k1 : WK lX11_store Mc (GX11_store r (a + lN c) (Int32.ofInt 1) (nI (X c)).toInt64 Mc) := wX11_store (SL lX11_store) (fun _ => True) (fun _ h => h) fN r _ _ _ Mc (wi_N W) trivial _ g1.1
    have P2 := pmM_k k1 (by decide) W P
    have g2 := gX93_put cr (a + lN c) (nI (X c)) Mt p2
    have k2 : WK lX93_put Mt (GX93_put cr (a + lN c) (nI (X c)) Mt) := wX93_put (SL lX93_put) (fun _ => True) (fun _ h => h) fN cr _ _ Mt (wi_N L.1.2.1.2.1) trivial _ g2.1
    have gt : GX3_get t (nI c) Mc = (nI (X c), Mc) := by
      unfold GX3_get GX3_get_0
      try dsimp only
      rw [ccl, tp.2.2.2 c (by omega), sb8_and (hX c)]
    have ht : HX3_get t (nI c) Mc := ⟨in_nI tp.2.1 (by omega) (by decide), trivial⟩
    obtain ⟨Nc, Nt, c1, c2, c3, c4, c5, c6, c7⟩ := byt_L hr i (c + 1) _ _ (by omega) L2 P2 j j' (by omega) (by omega)
    have ev := evo_t E c5
    rw [Nat.add_comm 1 i] at ev
    refine ⟨Nc, Nt, ?_, ?_, c3, c4, ev, WK_t k1 c6, WK_t k2 c7⟩
    · have H : HX2_bytes_11 mc a (nI n) (nI c) Mc := by
        refine ⟨fun q => absurd q l1, fun _ => ?_⟩
        try dsimp only
        rw [P.2.2.2.1, P.2.2.2.2.1, P.2.2.2.2.2.1, gt, e64]
        exact ⟨ht, p1, trivial⟩
      have G := (gX2_bytes_11 (FX2_bytes_L11 fN j) mc a (nI n) (nI c) Mc L.1.1.1 P.1 H).1
      show FX2_bytes_11 fN (FX2_bytes_L11 fN j) mc a (nI n) (nI c) Mc = _
      rw [G]
      unfold GX2_bytes_11
      try dsimp only
      rw [fi_neg l1, P.2.2.2.1, P.2.2.2.2.1, P.2.2.2.2.2.1, gt, e64]
      try dsimp only
      rw [nI_s (by omega)]
      exact c1
    · have H : HX92_load_156 m (Int32.ofInt 0) a (nI n) (nI c) Mt := by
        refine ⟨fun q => absurd q l2, fun _ => ⟨fun _ => ?_, fun q => absurd rfl q⟩⟩
        try dsimp only
        rw [v298, e64, ccl, t308 c (by omega)]
        exact ⟨in_nI (tL_308 L.1.2.1.1.1 n92) (by omega) (by decide), p2, trivial⟩
      have G := (gX92_load_156 (FX92_load_L156 fN j') m (Int32.ofInt 0) a (nI n) (nI c) Mt L.1.2.1.1 n92 H).1
      show FX92_load_156 fN (FX92_load_L156 fN j') m (Int32.ofInt 0) a (nI n) (nI c) Mt = _
      rw [G]
      unfold GX92_load_156 GX92_load_214
      try dsimp only
      rw [fi_neg l2, fi_pos (show (Int32.ofInt 0 : Int32) = 0 from rfl), v298, e64, ccl, t308 c (by omega), nI_s (by omega)]
      exact c2
end By
