/-! the machine: the board goes on; what is typed, both sides whole -/
set_option maxRecDepth 100000
section Bo
variable {bd hv m hq s dd x dk q rq r sg bl cr np mc : Nat} {B B' Bk Vv e ld : Nat} {Mc Mt Nc Nt : FM} {S S' : List Nat}
/-- the board goes on: memory, disk, signals -/
theorem M_b (R : RelM bd hv m hq s dd x dk q rq r sg bl cr np mc B Bk Vv Mc Mt) (kc : WK S Mc Nc) (kt : WK S' Mt Nt) (hc : dj (uMc ++ uCb) S = true) (ht' : dj (297 :: uTb) S' = true) (RB' : RelB bd s dd x dk q rq r m sg bl cr np B' Nc Nt) (E : Evo r e Mc Nc)
    (O1 : ∃ ow, Own ow Nc) (O2 : ∃ ow, Own ow Nt) : RelM bd hv m hq s dd x dk q rq r sg bl cr np mc B' (Bk + e) Vv Nc Nt := by
  have RR := relM_ram R
  obtain ⟨n92, _⟩ := relM_m R
  obtain ⟨i67, i189, ilen, inp, i297, _, _, H⟩ := R
  have T0 := RR.1.1
  have W := RR.1.2.1
  have W' := RR.2.1.2.1
  have n190 := tN_190 T0.1 i67
  have e190 : Nc.2.2 190 mc 0 = Mc.2.2 190 mc 0 := congrFun (kf (f := 190) kc rfl (dj_n hc 190 rfl) (wf_lt W (fm_ist rfl i67))).2.2 0
  have r190 : Nc.2.2 3 (Mc.2.2 190 mc 0) = Mc.2.2 3 (Mc.2.2 190 mc 0) := (ka kc (sS_190 W i67) (wf_n0 W (fm_ist rfl n190)) (dj_n hc 1190 rfl) (wf_lt W (fm_ist rfl n190))).2.2
  refine ⟨kis kc W rfl i67, ?_, ?_, inp, ?_, O1, O2, fun h hh => ?_⟩
  · exact (congrFun (kf (f := 189) kc rfl (dj_n hc 189 rfl) (wf_lt W (fm_ist rfl i67))).2.2 0).trans i189
  · rw [e190, (ktt kc W (fm_ist rfl n190)).2]
    exact ilen
  · exact (congrFun (kf (f := 297) kt rfl (dj_n ht' 297 rfl) (wf_lt W' (fm_ist rfl n92))).1 0).trans i297
  · obtain ⟨p, a, fu, cf, rg, u, t, kp, fd, c1, f1, d1, w1, g, kn, fs, K, F, T, rt, tb, hp, hw, Gd, RP⟩ := H h hh
    have R2 := relP_b (e := e) kc kt (dj_sub hc (by decide)) (dj_sub ht' (by decide)) RB' E RP
    have ng : fm_is Mc 90 90 g = true := by
      obtain ⟨⟨rt0, tb0, VC⟩, _⟩ := RP.2.2.2.2.2.2.1
      rw [← VC.2.2.2.2.1]
      exact tN_288 T0.1 VC.2.2.1
    exact ⟨p, a, fu, cf, rg, u, t, kp, fd, c1, f1, d1, w1, g, kn, fs, K, F, T, rt, tb, by rw [e190, r190]; exact hp, hw, gdC_k kc (dj_sub hc (by decide)) T0 W ng Gd, R2⟩
theorem row_ne {M : FM} {a b : Nat} (W : Wf M) (h : M.2.2 0 a 0 ≠ 0) {s1 s2 : Nat} (sa : Sf M a s1) (sb : Sf M b s2) (hs : s1 ≠ s2) : a ≠ b := fun z => by
  subst z
  rcases sa with q | q
  · exact absurd q (wf_n0 W h)
  · rcases sb with y | y
    · exact absurd y (wf_n0 W h)
    · exact hs (q.2.symm.trans y.2)
/-- what is typed -/
theorem O_typed (R : RelM bd hv m hq s dd x dk q rq r sg bl cr np mc B Bk Vv Mc Mt) (Q : RelR mc m B Mc Mt) (L : RelL mc ld m r cr Mc Mt) : ∃ v Nc Nt, (HX2_typed mc Mc ∧ GX2_typed mc Mc = (v, Nc)) ∧ (HX92_loadInput m Mt ∧ GX92_loadInput m Mt = (v, Nt)) ∧
    RelM bd hv m hq s dd x dk q rq r sg bl cr np mc B Bk Vv Nc (fm_sI Nt 309 m 0 (Int32.ofInt 0)) ∧ RelR mc m B Nc (fm_sI Nt 309 m 0 (Int32.ofInt 0)) ∧ RelL mc ld m r cr Nc (fm_sI Nt 309 m 0 (Int32.ofInt 0)) ∧
    Nt.1 296 m 0 = Mt.1 296 m 0 ∧ Nt.2 = Mt.2 ∧ WK lX2_typed Mc Nc ∧ WK [309, 312, 1310] Mt (fm_sI Nt 309 m 0 (Int32.ofInt 0)) := by
  have RR := relM_ram R
  have T0 := RR.1.1
  have W := RR.1.2.1
  have Tm := RR.2.1.1
  have W' := RR.2.1.2.1
  have n92 := (relM_m R).1
  have n67 := R.1
  obtain ⟨X, n, t1, t2, ⟨hX, hn⟩⟩ := relL_t L
  obtain ⟨Y, z, f, rn, h1, h2, h3, h4, ⟨h5, h6⟩, ⟨h7, h8⟩, h9, h10, h11⟩ := id Q
  obtain ⟨_, _, _, _, _, ⟨ow, Ow⟩, ⟨ow', Ow'⟩, _⟩ := id R
  have n194 := tN_194 T0.1 n67
  have n310 := tN_310 Tm.1 n92
  have ne1 : Mc.2.2 194 mc 0 ≠ Mc.2.2 261 (Mc.2.2 191 mc 0) 0 := row_ne W (fm_ist rfl n194) (sS_194 W n67) (sS_261 W t1.1) (by decide)
  have ne2 : Mt.2.2 310 m 0 ≠ Mt.2.2 308 m 0 := row_ne W' (fm_ist rfl n310) (sS_310 W' n92) (sS_308 W' n92) (by decide)
  obtain ⟨k, hk1, hk2, hk3, hk⟩ : ∃ k, k ≤ n ∧ z + k ≤ 65536 ∧ (k = n ∨ z + k = 65536) ∧ GJ5_min (Mc.1 262 (Mc.2.2 191 mc 0) 0) (Int32.ofInt 65536 - Mc.1 196 mc 0) Mc = (nI k, Mc) := by
    have e : Int32.ofInt 65536 - nI z = nI (65536 - z) := ui_inj (by
      rw [ui_sub, ui_nI, ui_nI, show ui (Int32.ofInt 65536) = 65536 from rfl]
      omega)
    unfold GJ5_min GJ5_min_0 GJ5_min_10
    rw [t1.2.2.1, h7, e]
    by_cases c : 65536 - z < n
    · rw [fi_pos ((n_lt (by omega) (by omega)).mpr c)]
      exact ⟨65536 - z, by omega, by omega, Or.inr (by omega), rfl⟩
    · rw [fi_neg (fun y => c ((n_lt (by omega) (by omega)).mp y))]
      exact ⟨n, Nat.le_refl _, by omega, Or.inl rfl, rfl⟩
  obtain ⟨Nc, Nt, Y', c1, c2, c3, c4, c5, c6, c7, c8, c9, d1, d2, d3, d4⟩ := typ_L (z0 := z) hX hn h2 hk1 hk2 hk3 k 0 Mc Mt Y (by omega) T0 Tm n67 t1 t2 ⟨h5, h7, fun j hj => (h9 j hj).1⟩ ⟨h6, h8, fun j hj => (h9 j hj).2⟩ h1 ne1 ne2 fN fN (by unfold fN; omega) (by unfold fN; omega)
  have r1 : Nc.2.2 = Mc.2.2 := by rw [c3]
  have n86 : fm_is Nc 86 86 (Mc.2.2 191 mc 0) = true := c7.1
  have w1_ : FX2_typed fN mc Mc = some (nI k, fm_sI Nc 262 (Mc.2.2 191 mc 0) 0 (Int32.ofInt 0)) := by
    have G := (gX2_typed_0 (FX2_typed_L20 fN fN) mc Mc T0 n67).1
    show FX2_typed_0 fN (FX2_typed_L20 fN fN) mc Mc = _
    rw [G]
    unfold GX2_typed_0
    try dsimp only
    rw [hk]
    exact c1
  have w2_ : FX92_loadInput fN m Mt = some (nI k, Nt) := by
    have G := (gX92_loadInput_0 (FX92_loadInput_L2 fN fN) m Mt Tm).1
    show FX92_loadInput_0 fN (FX92_loadInput_L2 fN fN) m Mt = _
    rw [G]
    exact c2
  have kc : WK lX2_typed Mc (fm_sI Nc 262 (Mc.2.2 191 mc 0) 0 (Int32.ofInt 0)) := wX2_typed (SL lX2_typed) (fun _ => True) (fun _ h => h) fN mc Mc (wi_N W) trivial _ w1_
  have kt : WK lX92_loadInput Mt Nt := wX92_loadInput (SL lX92_loadInput) (fun _ => True) (fun _ h => h) fN m Mt (wi_N W') trivial _ w2_
  have TN : Ty (fm_sI Nc 262 (Mc.2.2 191 mc 0) 0 (Int32.ofInt 0)) := ⟨c5.1, tyb_sI rfl c5.2⟩
  have k2 := WK_I kt.1.1 c8.1 (f := 309) rfl rfl (Int32.ofInt 0)
  have kt2 : WK [309, 312, 1310] Mt (fm_sI Nt 309 m 0 (Int32.ofInt 0)) := WK_t (WK_s (by decide) kt) (WK_s (by decide) k2)
  have TN' : Ty (fm_sI Nt 309 m 0 (Int32.ofInt 0)) := ⟨c6.1, tyb_sI rfl c6.2⟩
  have R2 := (M_k R kc kt2 (by decide) (by decide) TN TN' ⟨_, own_n r1 Ow⟩ ⟨_, own_n (show (fm_sI Nt 309 m 0 (Int32.ofInt 0)).2.2 = Mt.2.2 by show Nt.2.2 = _; rw [c4]) Ow'⟩).1
  obtain ⟨f1, f2⟩ := op_of (d := ((0 : Int32), Mc)) w1_ (P := OkR Mc) ⟨TN, wk_ext W kc⟩
  obtain ⟨g1, g2⟩ := op_of (d := ((0 : Int32), Mt)) w2_ (P := OkR Mt) ⟨c6, wk_ext W' kt⟩
  refine ⟨nI k, _, Nt, ⟨f1, f2⟩, ⟨g1, g2⟩, R2, ⟨Y', z + k, f, rn, d2, h2, hk2, h4, ⟨?_, ?_⟩, ⟨?_, ?_⟩, fun j hj => ⟨?_, ?_⟩, ?_, ?_⟩, ?_, d4, c4, kc, kt2⟩
  · rw [rIf (by decide)]; exact c9.1
  · rw [rIf (by decide)]; exact d1.1
  · rw [rIf (by decide)]; exact c9.2.1
  · rw [rIf (by decide)]; exact d1.2.1
  · rw [rIf (by decide)]; exact c9.2.2 j hj
  · rw [rIf (by decide)]; exact d1.2.2 j hj
  · rw [rIf (by decide), d3]; exact h10
  · show Nt.2.1 314 m 0 = _
    rw [c4]
    exact h11
  · refine relL_n L (relM_ram R2) r1 (by show Nc.2.1 = _; rw [c3]) c4 (X' := X) (n' := 0) ⟨n86, ?_, rIe _, fun j hj => ?_⟩ ⟨c8.1, rIe _, fun j hj => (rIf (by decide)).trans (c8.2.2 j hj)⟩ ⟨hX, by omega⟩
    · exact c7.2.1
    · exact (rIf (by decide)).trans (c7.2.2.2 j hj)
end Bo
