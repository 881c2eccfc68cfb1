/-! the component: a new one is made for an instruction -/
set_option maxRecDepth 100000
def ndM (P k : Nat) (M : FM) : FM := fm_sR (fm_new M 61 12) 3 P k (fm_nx M)
theorem nw_x (M : FM) (g b j : Nat) : (fm_new M 61 12).2.2 g b j = if g = 2 ∧ b = 0 ∧ j = 0 then fm_nx M + 1 else if g = 2 ∧ b = 0 ∧ j = 1 then fm_ns M + 12 else if g = 0 ∧ b = fm_nx M ∧ j = 0 then 61 else M.2.2 g b j := rfl
section Nd
variable {M : FM} {P k : Nat}
theorem nw_o {g b j : Nat} (hg : g ≠ 2) (hb : b ≠ fm_nx M ∨ g ≠ 0) : (fm_new M 61 12).2.2 g b j = M.2.2 g b j := by
  rw [nw_x, if_neg (fun q => hg q.1), if_neg (fun q => hg q.1), if_neg (fun q => hb.elim (fun h => h q.2.1) (fun h => h q.1))]
theorem nw_t (W : Wf M) : (fm_new M 61 12).2.2 0 (fm_nx M) 0 = 61 := by
  rw [nw_x, if_neg (fun q => by omega), if_neg (fun q => by omega), if_pos ⟨rfl, rfl, rfl⟩]
theorem nw_ty (T : TyR M.2.2) (W : Wf M) : TyR (fm_new M 61 12).2.2 := by
  have hN := W.2.2.2
  have fz : ∀ g b j, fm_nx M ≤ b → M.2.2 g b j = 0 := fun g b j hb => (W.1 b hb g j).2.2
  have new : ∀ lo hi b, 1 ≤ lo → fm_nx M ≤ b → fr (fm_new M 61 12).2.2 lo hi b = true → b = fm_nx M ∧ lo ≤ 61 ∧ 61 ≤ hi := by
    intro lo hi b hlo hb h
    have h := fr_i.mp h
    by_cases c0 : b = fm_nx M
    · rw [c0, nw_t W] at h
      exact ⟨c0, h.1, h.2⟩
    · rw [nw_o (by decide) (Or.inl c0), fz 0 b 0 hb] at h
      omega
  have s1 : ∀ q ∈ ty_N, 1 ≤ q.1 ∧ ¬ (q.1 ≤ 61 ∧ 61 ≤ q.2.1) := by decide
  have s2 : ∀ q ∈ ty_Z, 1 ≤ q.1 ∧ 4 ≤ q.2.2.1 := by decide
  have s3 : ∀ q ∈ ty_L, 1 ≤ q.1 ∧ ¬ (q.1 ≤ 61 ∧ 61 ≤ q.2.1) := by decide
  have s4 : ∀ q ∈ ty_EN, 1 ≤ q.1 ∧ q.1 ≠ 61 := by decide
  have s5 : ∀ q ∈ ty_EZ, 1 ≤ q.1 ∧ q.1 ≠ 61 := by decide
  refine tyR_grow T hN (fun f b j hb hf => nw_o hf (Or.inl (by omega))) (fun b hb => fz 0 b 0 hb) (fun q hq b hb h => ?_) (fun q hq b hb h hz => ?_) (fun q hq b hb h => ?_) (fun q hq b hb h => ?_) (fun q hq b hb h => ?_) (fun b hb h => ?_)
  · obtain ⟨z1, z2⟩ := s1 q hq
    exact absurd (new _ _ _ z1 hb h).2 z2
  · obtain ⟨z1, z2⟩ := s2 q hq
    rw [nw_o (by omega) (Or.inr (by omega)), fz _ b 0 hb] at hz
    exact absurd rfl hz
  · obtain ⟨z1, z2⟩ := s3 q hq
    exact absurd (new _ _ _ z1 hb h).2 z2
  · obtain ⟨z1, z2⟩ := s4 q hq
    have := new _ _ _ z1 hb h
    omega
  · obtain ⟨z1, z2⟩ := s5 q hq
    have := new _ _ _ z1 hb h
    omega
  · have := new _ _ _ (by decide) hb h
    omega
theorem nd_ty (T : Ty M) (W : Wf M) (hP : fm_is M 917 917 P = true) : Ty (ndM P k M) := by
  have hPl : P < fm_nx M := wf_lt W (fm_ist (lo := 917) rfl hP)
  have hP2 := fm_isd hP
  have hPt : (fm_new M 61 12).2.2 0 P 0 = 917 := by
    rw [nw_o (by decide) (Or.inl (by omega))]
    omega
  refine ⟨tyR_elem (a := P) (i := k) (v := fm_nx M) (nw_ty T.1 W) (fun f b j h => if_neg h) (if_pos ⟨rfl, rfl, rfl⟩) hPt (fun q hq e => absurd e ((show ∀ q ∈ ty_EN, q.1 ≠ 917 by decide) q hq)) (fun q hq e _ => ?_), T.2.1, fun b j hb => T.2.2 b j ?_⟩
  · have s5 : ∀ q ∈ ty_EZ, q.1 = 917 → q.2.1 = 61 ∧ q.2.2 = 61 := by decide
    obtain ⟨z1, z2⟩ := s5 q hq e
    rw [z1, z2]
    exact fr_i.mpr ⟨by rw [nw_t W]; decide, by rw [nw_t W]; decide⟩
  · have hb2 := fm_isd hb
    have e0 : (ndM P k M).2.2 0 b 0 = (fm_new M 61 12).2.2 0 b 0 := by
      unfold ndM
      rw [rR, if_neg (fun q => by omega)]
    rw [e0] at hb2
    by_cases c : b = fm_nx M
    · rw [c, nw_t W] at hb2
      omega
    · rw [nw_o (by decide) (Or.inl c)] at hb2
      exact fm_isi hb2.1 hb2.2
theorem nd_ext (W : Wf M) : Ext M (ndM P k M) := by
  intro b hb
  have hl := wf_lt W hb
  have e0 : ∀ g, g = 0 ∨ g = 1 → (ndM P k M).2.2 g b 0 = M.2.2 g b 0 := fun g hg => by
    unfold ndM
    rw [rR, if_neg (fun q => by omega)]
    exact nw_o (by omega) (Or.inl (by omega))
  exact ⟨e0 0 (Or.inl rfl), e0 1 (Or.inr rfl)⟩
end Nd
