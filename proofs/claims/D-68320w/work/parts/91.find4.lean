/-! the component: an instruction is found where none was kept -/
set_option maxRecDepth 100000
section Fd
variable {a : Nat} {w : Int32} {M : FM}
theorem nd_old {P k g b j : Nat} (h1 : b ≠ fm_nx M) (h2 : b ≠ 0) (h3 : ¬ (g = 3 ∧ b = P ∧ j = k)) : (ndM P k M).2.2 g b j = M.2.2 g b j := by
  unfold ndM
  rw [rR, if_neg h3, nw_x, if_neg (fun q => h2 q.2.1), if_neg (fun q => h2 q.2.1), if_neg (fun q => h1 q.2.1)]
noncomputable def fnwM (a : Nat) (w : Int32) (M : FM) : FM := GX49_read (M.2.2 172 a 0) w (fm_nx M) (ndM (M.2.2 173 a 0) (ui (plc w)) M)
theorem find_new (T : Ty M) (W : Wf M) (n : fm_is M 63 63 a = true) (K : KpI a M) (h0 : M.2.2 3 (M.2.2 173 a 0) (ui (plc w)) = 0) :
    FX47_find a w M = some (fm_nx M, fnwM a w M) ∧ (∀ f b j, b ≠ fm_nx M → b ≠ 0 → ¬ (f = 3 ∧ b = M.2.2 173 a 0 ∧ j = ui (plc w)) → (fnwM a w M).1 f b j = M.1 f b j ∧ (fnwM a w M).2.1 f b j = M.2.1 f b j ∧ (fnwM a w M).2.2 f b j = M.2.2 f b j) ∧
    Dec (M.2.2 172 a 0) (fm_nx M) w (fnwM a w M) ∧ fm_is (fnwM a w M) 61 61 (fm_nx M) = true ∧ Ty (fnwM a w M) ∧ KpI a (fnwM a w M) ∧ (fnwM a w M).1 3 = M.1 3 ∧ (fnwM a w M).2.1 3 = M.2.1 3 := by
  have hp := plc_lt w
  have nP := tN_173 T.1 n
  have nc := tN_172 T.1 n
  have hN := W.2.2.2
  have T7 := nd_ty (k := ui (plc w)) T W nP
  have la : a < fm_nx M := wf_lt W (fm_ist (lo := 63) rfl n)
  have lP : M.2.2 173 a 0 < fm_nx M := wf_lt W (fm_ist (lo := 917) rfl nP)
  have lc : M.2.2 172 a 0 < fm_nx M := wf_lt W (fm_ist (lo := 62) rfl nc)
  have i61 : ∀ {b t : Nat}, 1 ≤ t → fm_is M t t b = true → b ≠ 0 := fun {b t} ht h e => by
    rw [e] at h
    have := fm_isd h
    have z := W.2.2.1
    omega
  have a0 : a ≠ 0 := i61 (by decide) n
  have P0 : M.2.2 173 a 0 ≠ 0 := i61 (by decide) nP
  have c0 : M.2.2 172 a 0 ≠ 0 := i61 (by decide) nc
  have aP : a ≠ M.2.2 173 a 0 := fun e => by
    have h1 := fm_isd n
    have h2 := fm_isd nP
    rw [← e] at h2
    omega
  have cP : M.2.2 172 a 0 ≠ M.2.2 173 a 0 := fun e => by
    have h1 := fm_isd nc
    have h2 := fm_isd nP
    rw [← e] at h2
    omega
  have e173 : (ndM (M.2.2 173 a 0) (ui (plc w)) M).2.2 173 a 0 = M.2.2 173 a 0 := nd_old (by omega) a0 (by omega)
  have e172 : (ndM (M.2.2 173 a 0) (ui (plc w)) M).2.2 172 a 0 = M.2.2 172 a 0 := nd_old (by omega) a0 (by omega)
  have is7 : ∀ {b lo hi : Nat}, b < fm_nx M → b ≠ 0 → fm_is M lo hi b = true → fm_is (ndM (M.2.2 173 a 0) (ui (plc w)) M) lo hi b = true := fun {b lo hi} hl h0 h => by
    have e : (ndM (M.2.2 173 a 0) (ui (plc w)) M).2.2 0 b 0 = M.2.2 0 b 0 := nd_old (by omega) h0 (by omega)
    unfold fm_is at h ⊢
    rw [e]
    exact h
  have n7 := is7 la a0 n
  have nc7 := is7 lc c0 nc
  have t7 : (ndM (M.2.2 173 a 0) (ui (plc w)) M).2.2 0 (fm_nx M) 0 = 61 := by
    unfold ndM
    rw [rR, if_neg (fun q => by omega)]
    exact nw_t W
  have nx7 : fm_is (ndM (M.2.2 173 a 0) (ui (plc w)) M) 61 61 (fm_nx M) = true := isT t7 (by decide) (by decide)
  obtain ⟨rH, rF, rD⟩ := X49_read (c := M.2.2 172 a 0) (i := fm_nx M) T7 w
  have rG := gX49_read (M.2.2 172 a 0) w (fm_nx M) _ T7 nx7 nc7 rH
  have fr : ∀ f b j, b ≠ fm_nx M → b ≠ 0 → ¬ (f = 3 ∧ b = M.2.2 173 a 0 ∧ j = ui (plc w)) → (fnwM a w M).1 f b j = M.1 f b j ∧ (fnwM a w M).2.1 f b j = M.2.1 f b j ∧ (fnwM a w M).2.2 f b j = M.2.2 f b j := fun f b j h1 h2 h3 => by
    obtain ⟨k1, k2, k3⟩ := rF f b j (fun e => absurd e h1)
    exact ⟨k1, k2, k3.trans (nd_old h1 h2 h3)⟩
  have nxP : (fnwM a w M).2.2 3 (M.2.2 173 a 0) (ui (plc w)) = fm_nx M := by
    refine ((rF 3 (M.2.2 173 a 0) (ui (plc w)) (fun _ => by omega)).2.2).trans ?_
    unfold ndM
    rw [rR, if_pos ⟨rfl, rfl, rfl⟩]
  have f173 : (fnwM a w M).2.2 173 a 0 = M.2.2 173 a 0 := (fr 173 a 0 (by omega) a0 (by omega)).2.2
  have f172 : (fnwM a w M).2.2 172 a 0 = M.2.2 172 a 0 := (fr 172 a 0 (by omega) a0 (by omega)).2.2
  have nN : fm_is (fnwM a w M) 63 63 a = true := by
    have e : (fnwM a w M).2.2 0 a 0 = M.2.2 0 a 0 := (fr 0 a 0 (by omega) a0 (by omega)).2.2
    unfold fm_is at n ⊢
    rw [e]
    exact n
  have tN : (fnwM a w M).2.2 0 (fm_nx M) 0 = 61 := ((rF 0 (fm_nx M) 0 (fun _ => by omega)).2.2).trans t7
  refine ⟨?_, fr, rD, isT tN (by decide) (by decide), rG.2.1, ⟨fun q hq => ?_, fun q q' hq hq' => ?_⟩, ?_, ?_⟩
  · have hin : fm_in M (M.2.2 173 a 0) (plc w) = true := in_u (tL_173 T.1 n) hp (by decide)
    have hA : fm_is M 910 990 (M.2.2 173 a 0) = true := fm_w (lo' := 910) (hi' := 990) rfl rfl nP
    have g1 : fm_is (fm_new M 61 12) 61 61 (fm_nx M) = true := isT (nw_t W) (by decide) (by decide)
    have g2 : fm_is (fm_new M 61 12) 917 917 (M.2.2 173 a 0) = true := by
      have e : (fm_new M 61 12).2.2 0 (M.2.2 173 a 0) 0 = M.2.2 0 (M.2.2 173 a 0) 0 := nw_o (by decide) (Or.inl (by omega))
      unfold fm_is at nP ⊢
      rw [e]
      exact nP
    have g3 : fm_in (fm_new M 61 12) (M.2.2 173 a 0) (plc w) = true := by
      have e : (fm_new M 61 12).2.2 1 (M.2.2 173 a 0) 0 = 64 := (nw_o (by decide) (Or.inr (by decide))).trans (tL_173 T.1 n)
      exact in_u e hp (by decide)
    have g4 : fm_in (ndM (M.2.2 173 a 0) (ui (plc w)) M) (M.2.2 173 a 0) (plc w) = true := by
      have e : (ndM (M.2.2 173 a 0) (ui (plc w)) M).2.2 1 (M.2.2 173 a 0) 0 = 64 := (nd_old (by omega) P0 (by omega)).trans (tL_173 T.1 n)
      exact in_u e hp (by decide)
    have g5 := is7 lP P0 hA
    have ini : FX104_init (fm_nx M) (fm_new M 61 12) = some (fm_new M 61 12) := by
      unfold FX104_init FX104_init_0 BX104_init_0
      rw [fi_neg (by omega)]
    unfold FX47_find FX47_find_0 BX47_find_0
    dsimp only
    rw [show ((((w ^^^ (w.toUInt32 >>> ((Int32.ofInt 7).toUInt32 &&& Int32.toUInt32 31)).toInt32) ^^^ (w.toUInt32 >>> ((Int32.ofInt 15).toUInt32 &&& Int32.toUInt32 31)).toInt32) ^^^ (w.toUInt32 >>> ((Int32.ofInt 23).toUInt32 &&& Int32.toUInt32 31)).toInt32) &&& (Int32.ofInt 63)) = plc w from rfl]
    rw [cl_ui (x := plc w) (by omega), fi_pos n, fi_pos ⟨hA, hin⟩, fi_pos h0, fi_pos n, fi_pos g1, ini]
    show fi (fm_is (fm_new M 61 12) 917 917 (M.2.2 173 a 0) = true ∧ fm_in (fm_new M 61 12) (M.2.2 173 a 0) (plc w) = true) _ none = _
    rw [fi_pos ⟨g2, g3⟩, fi_pos g1]
    rw [show fm_sR (fm_new M 61 12) 3 (M.2.2 173 a 0) (ui (plc w)) (fm_nx M) = ndM (M.2.2 173 a 0) (ui (plc w)) M from rfl]
    rw [fi_pos n7, fi_pos n7, e173, fi_pos ⟨g5, g4⟩, e172, fi_pos (fm_w (lo' := 62) (hi' := 62) rfl rfl nc7)]
    have e3 : (ndM (M.2.2 173 a 0) (ui (plc w)) M).2.2 3 (M.2.2 173 a 0) (ui (plc w)) = fm_nx M := by
      unfold ndM
      rw [rR, if_pos ⟨rfl, rfl, rfl⟩]
    rw [e3, rG.1]
    show FX47_find_86 a (plc w) (fnwM a w M) = _
    rw [find_86 (show Ty (fnwM a w M) from rG.2.1) nN, f173, nxP]
  · rw [f173, f172]
    by_cases e : q = ui (plc w)
    · rw [e, nxP]
      refine Or.inr ⟨isT tN (by decide) (by decide), ?_⟩
      rw [show (fnwM a w M).1 150 (fm_nx M) 0 = w from rD.1]
      exact rD
    · have eq : (fnwM a w M).2.2 3 (M.2.2 173 a 0) q = M.2.2 3 (M.2.2 173 a 0) q := (fr 3 _ q (by omega) P0 (fun z => e z.2.2)).2.2
      rw [eq]
      rcases K.1 q hq with h | ⟨h1, h2⟩
      · exact Or.inl h
      · have l1 : M.2.2 3 (M.2.2 173 a 0) q < fm_nx M := wf_lt W (fm_ist (lo := 61) rfl h1)
        have z1 : M.2.2 3 (M.2.2 173 a 0) q ≠ 0 := i61 (by decide) h1
        have bP : M.2.2 3 (M.2.2 173 a 0) q ≠ M.2.2 173 a 0 := fun y => by
          have k1 := fm_isd h1
          have k2 := fm_isd nP
          rw [y] at k1
          omega
        have g : ∀ f i, (fnwM a w M).1 f (M.2.2 3 (M.2.2 173 a 0) q) i = M.1 f (M.2.2 3 (M.2.2 173 a 0) q) i ∧ (fnwM a w M).2.1 f (M.2.2 3 (M.2.2 173 a 0) q) i = M.2.1 f (M.2.2 3 (M.2.2 173 a 0) q) i ∧ (fnwM a w M).2.2 f (M.2.2 3 (M.2.2 173 a 0) q) i = M.2.2 f (M.2.2 3 (M.2.2 173 a 0) q) i := fun f i => fr f _ i (by omega) z1 (fun y => bP y.2.1)
        refine Or.inr ⟨?_, ?_⟩
        · unfold fm_is at h1 ⊢
          rw [(g 0 0).2.2]
          exact h1
        · rw [(g 150 0).1]
          exact dec_tr (fun f i => (g f i).1) (fun f i => (g f i).2.1) (fun f i => (g f i).2.2) (fun f i => (fr f _ i (by omega) c0 (fun y => cP y.2.1)).2.2) h2
  · rw [f173]
    have eq : ∀ q, q ≠ ui (plc w) → (fnwM a w M).2.2 3 (M.2.2 173 a 0) q = M.2.2 3 (M.2.2 173 a 0) q := fun q e => (fr 3 _ q (by omega) P0 (fun z => e z.2.2)).2.2
    have ltq : ∀ q, q < 64 → M.2.2 3 (M.2.2 173 a 0) q < fm_nx M := fun q hq => by
      rcases K.1 q hq with h | ⟨h1, -⟩
      · omega
      · exact wf_lt W (fm_ist (lo := 61) rfl h1)
    by_cases e : q = ui (plc w)
    · by_cases e' : q' = ui (plc w)
      · exact fun _ _ => e.trans e'.symm
      · rw [e, nxP, eq q' e']
        intro _ y
        have := ltq q' hq'
        omega
    · by_cases e' : q' = ui (plc w)
      · rw [e', nxP, eq q e]
        intro _ y
        have := ltq q hq
        omega
      · rw [eq q e, eq q' e']
        exact K.2 q q' hq hq'
  · funext b j
    exact (rF 3 b j (fun _ => by omega)).1
  · funext b j
    exact (rF 3 b j (fun _ => by omega)).2.1
end Fd
