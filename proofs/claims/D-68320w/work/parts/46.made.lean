/-! the component's memory: pages are made -/
set_option maxRecDepth 100000
theorem wi_T {M : FM} (W : Wf M) : WI (fun _ => True) 0 1000 M := ⟨W, fun _ _ _ _ _ _ => trivial, W.2.2.2, fun _ _ => trivial, fun _ _ => trivial⟩
/-- fresh memory: a new page with a row of nothing -/
def npM (P k : Nat) (M : FM) : FM := fm_sR (fm_sR (fm_newa (fm_new M 72 1) 902 201 512) 201 (fm_nx M) 0 (fm_nx M + 1)) 3 P k (fm_nx M)
theorem npM_x (P k : Nat) (M : FM) (g b j : Nat) : (npM P k M).2.2 g b j = if g = 3 ∧ b = P ∧ j = k then fm_nx M else if g = 201 ∧ b = fm_nx M ∧ j = 0 then fm_nx M + 1 else if g = 2 ∧ b = 0 ∧ j = 0 then fm_nx M + 2 else if g = 2 ∧ b = 0 ∧ j = 1 then fm_ns M + 1 + 512 else if g = 0 ∧ b = fm_nx M + 1 ∧ j = 0 then 902 else if g = 1 ∧ b = fm_nx M + 1 ∧ j = 0 then 512 else if g = 0 ∧ b = fm_nx M + 1 ∧ j = 1 then 201 else if g = 0 ∧ b = fm_nx M ∧ j = 0 then 72 else M.2.2 g b j := by
  have e1 : fm_nx (fm_new M 72 1) = fm_nx M + 1 := rfl
  have e2 : fm_ns (fm_new M 72 1) = fm_ns M + 1 := rfl
  show (if g = 3 ∧ b = P ∧ j = k then fm_nx M else if g = 201 ∧ b = fm_nx M ∧ j = 0 then fm_nx M + 1 else if g = 2 ∧ b = 0 ∧ j = 0 then fm_nx M + 1 + 1 else if g = 2 ∧ b = 0 ∧ j = 1 then fm_ns M + 1 + 512 else if g = 0 ∧ b = fm_nx M + 1 ∧ j = 0 then 902 else if g = 1 ∧ b = fm_nx M + 1 ∧ j = 0 then 512 else if g = 0 ∧ b = fm_nx M + 1 ∧ j = 1 then 201 else if g = 2 ∧ b = 0 ∧ j = 0 then fm_nx M + 1 else if g = 2 ∧ b = 0 ∧ j = 1 then fm_ns M + 1 else if g = 0 ∧ b = fm_nx M ∧ j = 0 then 72 else M.2.2 g b j) = _
  by_cases h1 : g = 2 ∧ b = 0 ∧ j = 0
  · obtain ⟨rfl, rfl, rfl⟩ := h1
    simp
  by_cases h2 : g = 2 ∧ b = 0 ∧ j = 1
  · obtain ⟨rfl, rfl, rfl⟩ := h2
    simp
  simp only [h1, h2, if_false]
section Md
variable {r : Nat} {M : FM} {p : Int32} {k : Nat}
theorem npM_old (W : Wf M) {P : Nat} (g b j : Nat) (hb : b < fm_nx M) (hg : g ≠ 2) (h3 : ¬ (g = 3 ∧ b = P ∧ j = k)) : (npM P k M).2.2 g b j = M.2.2 g b j := by
  rw [npM_x, if_neg h3, if_neg (fun q => by omega), if_neg (fun q => by omega), if_neg (fun q => by omega), if_neg (fun q => by omega), if_neg (fun q => by omega), if_neg (fun q => by omega), if_neg (fun q => by omega)]
theorem npM_nx {P : Nat} : fm_nx (npM P k M) = fm_nx M + 2 := by
  unfold fm_nx
  rw [npM_x]
  simp
  rfl
theorem npM_t0 (W : Wf M) {P : Nat} : (npM P k M).2.2 0 (fm_nx M) 0 = 72 := by
  rw [npM_x]
  have := W.2.2.2
  simp
theorem npM_t1 (W : Wf M) {P : Nat} : (npM P k M).2.2 0 (fm_nx M + 1) 0 = 902 := by
  rw [npM_x]
  simp
theorem npM_t2 (W : Wf M) {P : Nat} (b : Nat) (h : fm_nx M + 2 ≤ b) : (npM P k M).2.2 0 b 0 = 0 := by
  have := (W.1 b (by omega) 0 0).2.2
  rw [npM_x, if_neg (fun q => by omega), if_neg (fun q => by omega), if_neg (fun q => by omega), if_neg (fun q => by omega), if_neg (fun q => by omega), if_neg (fun q => by omega), if_neg (fun q => by omega), if_neg (fun q => by omega)]
  exact this
theorem npM_w (W : Wf M) {P : Nat} : (npM P k M).2.2 201 (fm_nx M) 0 = fm_nx M + 1 := by
  rw [npM_x]
  simp
theorem npM_ty (T : Ty M) (W : Wf M) {P : Nat} (hP : fm_is M 920 920 P = true) : Ty (npM P k M) := by
  have hPl : P < fm_nx M := wf_lt W (fm_ist (lo := 920) rfl hP)
  have hN := W.2.2.2
  have e2 : fm_nx (fm_new M 72 1) = fm_nx M + 1 := rfl
  -- before it is put into the row
  have T0 : TyR (fm_sR (fm_newa (fm_new M 72 1) 902 201 512) 201 (fm_nx M) 0 (fm_nx M + 1)).2.2 := by
    have ex : ∀ g b j, (fm_sR (fm_newa (fm_new M 72 1) 902 201 512) 201 (fm_nx M) 0 (fm_nx M + 1)).2.2 g b j = if g = 201 ∧ b = fm_nx M ∧ j = 0 then fm_nx M + 1 else if g = 2 ∧ b = 0 ∧ j = 0 then fm_nx M + 1 + 1 else if g = 2 ∧ b = 0 ∧ j = 1 then fm_ns M + 1 + 512 else if g = 0 ∧ b = fm_nx M + 1 ∧ j = 0 then 902 else if g = 1 ∧ b = fm_nx M + 1 ∧ j = 0 then 512 else if g = 0 ∧ b = fm_nx M + 1 ∧ j = 1 then 201 else if g = 2 ∧ b = 0 ∧ j = 0 then fm_nx M + 1 else if g = 2 ∧ b = 0 ∧ j = 1 then fm_ns M + 1 else if g = 0 ∧ b = fm_nx M ∧ j = 0 then 72 else M.2.2 g b j := fun _ _ _ => rfl
    have t0 : (fm_sR (fm_newa (fm_new M 72 1) 902 201 512) 201 (fm_nx M) 0 (fm_nx M + 1)).2.2 0 (fm_nx M) 0 = 72 := by rw [ex]; simp
    have t1 : (fm_sR (fm_newa (fm_new M 72 1) 902 201 512) 201 (fm_nx M) 0 (fm_nx M + 1)).2.2 0 (fm_nx M + 1) 0 = 902 := by rw [ex]; simp
    have t2 : ∀ b, fm_nx M + 2 ≤ b → (fm_sR (fm_newa (fm_new M 72 1) 902 201 512) 201 (fm_nx M) 0 (fm_nx M + 1)).2.2 0 b 0 = 0 := by
      intro b hb
      rw [ex, if_neg (fun q => by omega), if_neg (fun q => by omega), if_neg (fun q => by omega), if_neg (fun q => by omega), if_neg (fun q => by omega), if_neg (fun q => by omega), if_neg (fun q => by omega), if_neg (fun q => by omega), if_neg (fun q => by omega)]
      exact (W.1 b (by omega) 0 0).2.2
    have tw : (fm_sR (fm_newa (fm_new M 72 1) 902 201 512) 201 (fm_nx M) 0 (fm_nx M + 1)).2.2 201 (fm_nx M) 0 = fm_nx M + 1 := by rw [ex]; simp
    have tl : (fm_sR (fm_newa (fm_new M 72 1) 902 201 512) 201 (fm_nx M) 0 (fm_nx M + 1)).2.2 1 (fm_nx M + 1) 0 = 512 := by rw [ex]; simp
    have new : ∀ lo hi b, 1 ≤ lo → fm_nx M ≤ b → fr (fm_sR (fm_newa (fm_new M 72 1) 902 201 512) 201 (fm_nx M) 0 (fm_nx M + 1)).2.2 lo hi b = true → (b = fm_nx M ∧ lo ≤ 72 ∧ 72 ≤ hi) ∨ (b = fm_nx M + 1 ∧ lo ≤ 902 ∧ 902 ≤ hi) := by
      intro lo hi b hlo hb h
      have h := fr_i.mp h
      by_cases c0 : b = fm_nx M
      · left
        rw [c0, t0] at h
        exact ⟨c0, h.1, h.2⟩
      by_cases c1 : b = fm_nx M + 1
      · right
        rw [c1, t1] at h
        exact ⟨c1, h.1, h.2⟩
      have := t2 b (by omega)
      omega
    have s1 : ∀ q ∈ ty_N, 1 ≤ q.1 ∧ (q.1 ≤ 72 → 72 ≤ q.2.1 → q = (72, 72, 201, 902, 902)) ∧ ¬ (q.1 ≤ 902 ∧ 902 ≤ q.2.1) := by decide
    have s2 : ∀ q ∈ ty_Z, 1 ≤ q.1 ∧ ¬ (q.1 ≤ 72 ∧ 72 ≤ q.2.1) ∧ ¬ (q.1 ≤ 902 ∧ 902 ≤ q.2.1) := by decide
    have s3 : ∀ q ∈ ty_L, 1 ≤ q.1 ∧ (q.1 ≤ 72 → 72 ≤ q.2.1 → q = (72, 72, 201, 512)) ∧ ¬ (q.1 ≤ 902 ∧ 902 ≤ q.2.1) := by decide
    have s4 : ∀ q ∈ ty_EN, 1 ≤ q.1 ∧ q.1 ≠ 72 ∧ q.1 ≠ 902 := by decide
    have s5 : ∀ q ∈ ty_EZ, 1 ≤ q.1 ∧ q.1 ≠ 72 ∧ q.1 ≠ 902 := by decide
    refine tyR_grow T.1 hN (fun f b j hb hf => ?_) (fun b hb => (W.1 b hb 0 0).2.2) (fun q hq b hb h => ?_) (fun q hq b hb h _ => ?_) (fun q hq b hb h => ?_) (fun q hq b hb h => ?_) (fun q hq b hb h => ?_) (fun b hb h => ?_)
    · rw [ex, if_neg (fun q => by omega), if_neg (fun q => by omega), if_neg (fun q => by omega), if_neg (fun q => by omega), if_neg (fun q => by omega), if_neg (fun q => by omega), if_neg (fun q => by omega), if_neg (fun q => by omega), if_neg (fun q => by omega)]
    · obtain ⟨z1, z2, z3⟩ := s1 q hq
      rcases new _ _ _ z1 hb h with ⟨rfl, k1, k2⟩ | ⟨rfl, k1, k2⟩
      · rw [z2 k1 k2]
        show fr _ 902 902 _ = true
        rw [tw]
        exact fr_i.mpr ⟨by rw [t1]; decide, by rw [t1]; decide⟩
      · exact absurd ⟨k1, k2⟩ z3
    · obtain ⟨z1, z2, z3⟩ := s2 q hq
      rcases new _ _ _ z1 hb h with ⟨rfl, k1, k2⟩ | ⟨rfl, k1, k2⟩
      · exact absurd ⟨k1, k2⟩ z2
      · exact absurd ⟨k1, k2⟩ z3
    · obtain ⟨z1, z2, z3⟩ := s3 q hq
      rcases new _ _ _ z1 hb h with ⟨rfl, k1, k2⟩ | ⟨rfl, k1, k2⟩
      · rw [z2 k1 k2]
        show _ = 512
        rw [tw, tl]
      · exact absurd ⟨k1, k2⟩ z3
    · obtain ⟨z1, z2, z3⟩ := s4 q hq
      rcases new _ _ _ z1 hb h with ⟨rfl, k1, k2⟩ | ⟨rfl, k1, k2⟩
      · omega
      · omega
    · obtain ⟨z1, z2, z3⟩ := s5 q hq
      rcases new _ _ _ z1 hb h with ⟨rfl, k1, k2⟩ | ⟨rfl, k1, k2⟩
      · omega
      · omega
    · rcases new _ _ _ (by decide) hb h with ⟨rfl, k1, k2⟩ | ⟨rfl, k1, k2⟩
      · omega
      · omega
  have hP2 := fm_isd hP
  have hPt : (fm_sR (fm_newa (fm_new M 72 1) 902 201 512) 201 (fm_nx M) 0 (fm_nx M + 1)).2.2 0 P 0 = 920 := by
    have ex : (fm_sR (fm_newa (fm_new M 72 1) 902 201 512) 201 (fm_nx M) 0 (fm_nx M + 1)).2.2 0 P 0 = if 0 = 201 ∧ P = fm_nx M ∧ 0 = 0 then fm_nx M + 1 else if 0 = 2 ∧ P = 0 ∧ 0 = 0 then fm_nx M + 1 + 1 else if 0 = 2 ∧ P = 0 ∧ 0 = 1 then fm_ns M + 1 + 512 else if 0 = 0 ∧ P = fm_nx M + 1 ∧ 0 = 0 then 902 else if 0 = 1 ∧ P = fm_nx M + 1 ∧ 0 = 0 then 512 else if 0 = 0 ∧ P = fm_nx M + 1 ∧ 0 = 1 then 201 else if 0 = 2 ∧ P = 0 ∧ 0 = 0 then fm_nx M + 1 else if 0 = 2 ∧ P = 0 ∧ 0 = 1 then fm_ns M + 1 else if 0 = 0 ∧ P = fm_nx M ∧ 0 = 0 then 72 else M.2.2 0 P 0 := rfl
    rw [ex, if_neg (fun q => by omega), if_neg (fun q => by omega), if_neg (fun q => by omega), if_neg (fun q => by omega), if_neg (fun q => by omega), if_neg (fun q => by omega), if_neg (fun q => by omega), if_neg (fun q => by omega), if_neg (fun q => by omega)]
    omega
  refine ⟨tyR_elem (a := P) (i := k) (v := fm_nx M) T0 (fun f b j h => if_neg h) (if_pos ⟨rfl, rfl, rfl⟩) hPt (fun q hq e => absurd e ((show ∀ q ∈ ty_EN, q.1 ≠ 920 by decide) q hq)) (fun q hq e _ => ?_), ?_⟩
  · have s5 : ∀ q ∈ ty_EZ, q.1 = 920 → q.2.1 = 72 ∧ q.2.2 = 72 := by decide
    obtain ⟨z1, z2⟩ := s5 q hq e
    rw [z1, z2]
    have t0 : (fm_sR (fm_newa (fm_new M 72 1) 902 201 512) 201 (fm_nx M) 0 (fm_nx M + 1)).2.2 0 (fm_nx M) 0 = 72 := by
      show (if 0 = 201 ∧ fm_nx M = fm_nx M ∧ 0 = 0 then fm_nx M + 1 else if 0 = 2 ∧ fm_nx M = 0 ∧ 0 = 0 then fm_nx M + 1 + 1 else if 0 = 2 ∧ fm_nx M = 0 ∧ 0 = 1 then fm_ns M + 1 + 512 else if 0 = 0 ∧ fm_nx M = fm_nx M + 1 ∧ 0 = 0 then 902 else if 0 = 1 ∧ fm_nx M = fm_nx M + 1 ∧ 0 = 0 then 512 else if 0 = 0 ∧ fm_nx M = fm_nx M + 1 ∧ 0 = 1 then 201 else if 0 = 2 ∧ fm_nx M = 0 ∧ 0 = 0 then fm_nx M + 1 else if 0 = 2 ∧ fm_nx M = 0 ∧ 0 = 1 then fm_ns M + 1 else if 0 = 0 ∧ fm_nx M = fm_nx M ∧ 0 = 0 then 72 else M.2.2 0 (fm_nx M) 0) = 72
      simp
    exact fr_i.mpr ⟨by rw [t0]; decide, by rw [t0]; decide⟩
  · refine ⟨T.2.1, fun b j hb => T.2.2 b j ?_⟩
    have hb2 := fm_isd hb
    have e : (npM P k M).2.2 0 b 0 = M.2.2 0 b 0 := by
      by_cases c0 : b < fm_nx M
      · exact npM_old W _ _ _ c0 (by decide) (by omega)
      · by_cases c1 : b = fm_nx M
        · have := npM_t0 (k := k) W (P := P)
          rw [← c1] at this
          omega
        · by_cases c2 : b = fm_nx M + 1
          · have := npM_t1 (k := k) W (P := P)
            rw [← c2] at this
            omega
          · have := npM_t2 (k := k) W (P := P) b (by omega)
            omega
    exact fm_isi (by rw [← e]; exact hb2.1) (by rw [← e]; exact hb2.2)
theorem npM_ext (W : Wf M) {P : Nat} : Ext M (npM P k M) := by
  intro b hb
  have hl := wf_lt W hb
  exact ⟨npM_old W _ _ _ hl (by decide) (by omega), npM_old W _ _ _ hl (by decide) (by omega)⟩
/-- the page of a number, made where it was none -/
def mdM (r k : Nat) (M : FM) : FM := if M.2.2 3 (M.2.2 203 r 0) k = 0 then npM (M.2.2 203 r 0) k M else M
def mdg (r k : Nat) (M : FM) : Nat := if M.2.2 3 (M.2.2 203 r 0) k = 0 then fm_nx M else M.2.2 3 (M.2.2 203 r 0) k
theorem mdM_ty (T : Ty M) (W : Wf M) (n : fm_is M 73 73 r = true) : Ty (mdM r k M) := by
  unfold mdM
  split
  · exact npM_ty T W (tN_203 T.1 n)
  · exact T
theorem mdM_ext (W : Wf M) : Ext M (mdM r k M) := by
  unfold mdM
  split
  · exact npM_ext W
  · exact ext_r _
theorem X11_made (T : Ty M) (W : Wf M) (n : fm_is M 73 73 r = true) (hp : ui p = k) (hk : k < 1024) : HX11_made r p M ∧ GX11_made r p M = (mdg r k M, mdM r k M) := by
  have hP := tN_203 T.1 n
  have hPl : M.2.2 203 r 0 < fm_nx M := wf_lt W (fm_ist (lo := 920) rfl hP)
  have hrl : r < fm_nx M := wf_lt W (fm_ist (lo := 73) rfl n)
  have ip := in_u (i := p) (tL_203 T.1 n) (by omega) (by decide)
  have cp : p.toNatClampNeg = k := by rw [cl_ui (by omega), hp]
  have hN := W.2.2.2
  have key : FX11_made r p M = some (mdg r k M, mdM r k M) := by
    show FX11_made_0 r p M = _
    delta FX11_made_0 BX11_made_0
    rw [fi_pos n]
    dsimp only
    rw [fi_pos ⟨fm_w (lo' := 910) (hi' := 990) rfl rfl hP, ip⟩, cp]
    unfold mdg mdM
    by_cases h0 : M.2.2 3 (M.2.2 203 r 0) k = 0
    · rw [fi_pos h0, if_pos h0, if_pos h0, fi_pos n]
      have g1 : fm_is (fm_new M 72 1) 72 72 (fm_nx M) = true := by
        have : (fm_new M 72 1).2.2 0 (fm_nx M) 0 = 72 := by
          show (if 0 = 2 ∧ fm_nx M = 0 ∧ 0 = 0 then fm_nx M + 1 else if 0 = 2 ∧ fm_nx M = 0 ∧ 0 = 1 then fm_ns M + 1 else if 0 = 0 ∧ fm_nx M = fm_nx M ∧ 0 = 0 then 72 else _) = 72
          simp
        exact fm_isi (by rw [this]; decide) (by rw [this]; decide)
      rw [fi_pos g1]
      have e2 : fm_nx (fm_new M 72 1) = fm_nx M + 1 := rfl
      have g2 : fm_is (fm_newa (fm_new M 72 1) 902 201 512) 72 72 (fm_nx M) = true := by
        have : (fm_newa (fm_new M 72 1) 902 201 512).2.2 0 (fm_nx M) 0 = 72 := by
          show (if 0 = 2 ∧ fm_nx M = 0 ∧ 0 = 0 then fm_nx M + 1 + 1 else if 0 = 2 ∧ fm_nx M = 0 ∧ 0 = 1 then fm_ns M + 1 + 512 else if 0 = 0 ∧ fm_nx M = fm_nx M + 1 ∧ 0 = 0 then 902 else if 0 = 1 ∧ fm_nx M = fm_nx M + 1 ∧ 0 = 0 then 512 else if 0 = 0 ∧ fm_nx M = fm_nx M + 1 ∧ 0 = 1 then 201 else if 0 = 2 ∧ fm_nx M = 0 ∧ 0 = 0 then fm_nx M + 1 else if 0 = 2 ∧ fm_nx M = 0 ∧ 0 = 1 then fm_ns M + 1 else if 0 = 0 ∧ fm_nx M = fm_nx M ∧ 0 = 0 then 72 else _) = 72
          simp
        exact fm_isi (by rw [this]; decide) (by rw [this]; decide)
      have ini : FX91_init (fm_nx M) (fm_new M 72 1) = some (fm_sR (fm_newa (fm_new M 72 1) 902 201 512) 201 (fm_nx M) 0 (fm_nx M + 1)) := by
        show FX91_init_0 _ _ = _
        delta FX91_init_0 BX91_init_0
        rw [fi_neg (by omega), fi_pos (by decide)]
        show fi (fm_is (fm_newa (fm_new M 72 1) 902 201 512) 72 72 (fm_nx M) = true) _ none = _
        rw [fi_pos g2]
        rfl
      rw [ini]
      show fi _ _ none = _
      have hPo : ∀ g j, g ≠ 2 → (fm_sR (fm_newa (fm_new M 72 1) 902 201 512) 201 (fm_nx M) 0 (fm_nx M + 1)).2.2 g (M.2.2 203 r 0) j = M.2.2 g (M.2.2 203 r 0) j := by
        intro g j hg
        show (if g = 201 ∧ M.2.2 203 r 0 = fm_nx M ∧ j = 0 then fm_nx M + 1 else if g = 2 ∧ M.2.2 203 r 0 = 0 ∧ j = 0 then fm_nx M + 1 + 1 else if g = 2 ∧ M.2.2 203 r 0 = 0 ∧ j = 1 then fm_ns M + 1 + 512 else if g = 0 ∧ M.2.2 203 r 0 = fm_nx M + 1 ∧ j = 0 then 902 else if g = 1 ∧ M.2.2 203 r 0 = fm_nx M + 1 ∧ j = 0 then 512 else if g = 0 ∧ M.2.2 203 r 0 = fm_nx M + 1 ∧ j = 1 then 201 else if g = 2 ∧ M.2.2 203 r 0 = 0 ∧ j = 0 then fm_nx M + 1 else if g = 2 ∧ M.2.2 203 r 0 = 0 ∧ j = 1 then fm_ns M + 1 else if g = 0 ∧ M.2.2 203 r 0 = fm_nx M ∧ j = 0 then 72 else M.2.2 g (M.2.2 203 r 0) j) = _
        rw [if_neg (fun q => by omega), if_neg (fun q => by omega), if_neg (fun q => by omega), if_neg (fun q => by omega), if_neg (fun q => by omega), if_neg (fun q => by omega), if_neg (fun q => by omega), if_neg (fun q => by omega), if_neg (fun q => by omega)]
      rw [fi_pos]
      · rw [fi_pos]
        · show FX11_made_22 r p (npM (M.2.2 203 r 0) k M) = _
          delta FX11_made_22 BX11_made_22
          have q1 : fm_is (npM (M.2.2 203 r 0) k M) 73 73 r = true := ext_is (npM_ext W) (by decide) n
          have q2 : (npM (M.2.2 203 r 0) k M).2.2 203 r 0 = M.2.2 203 r 0 := npM_old W _ _ _ hrl (by decide) (by omega)
          rw [fi_pos q1]
          dsimp only
          rw [q2, fi_pos ⟨fm_w (lo' := 910) (hi' := 990) rfl rfl (ext_is (npM_ext W) (by decide) hP), in_u (i := p) (N := 1024) (by rw [npM_old W _ _ _ hPl (by decide) (by omega)]; exact tL_203 T.1 n) (by omega) (by decide)⟩, cp]
          have q3 : (npM (M.2.2 203 r 0) k M).2.2 3 (M.2.2 203 r 0) k = fm_nx M := by
            rw [npM_x]
            simp
          rw [q3]
        · have : (fm_sR (fm_newa (fm_new M 72 1) 902 201 512) 201 (fm_nx M) 0 (fm_nx M + 1)).2.2 0 (fm_nx M) 0 = 72 := by
            show (if 0 = 201 ∧ fm_nx M = fm_nx M ∧ 0 = 0 then fm_nx M + 1 else if 0 = 2 ∧ fm_nx M = 0 ∧ 0 = 0 then fm_nx M + 1 + 1 else if 0 = 2 ∧ fm_nx M = 0 ∧ 0 = 1 then fm_ns M + 1 + 512 else if 0 = 0 ∧ fm_nx M = fm_nx M + 1 ∧ 0 = 0 then 902 else if 0 = 1 ∧ fm_nx M = fm_nx M + 1 ∧ 0 = 0 then 512 else if 0 = 0 ∧ fm_nx M = fm_nx M + 1 ∧ 0 = 1 then 201 else if 0 = 2 ∧ fm_nx M = 0 ∧ 0 = 0 then fm_nx M + 1 else if 0 = 2 ∧ fm_nx M = 0 ∧ 0 = 1 then fm_ns M + 1 else if 0 = 0 ∧ fm_nx M = fm_nx M ∧ 0 = 0 then 72 else _) = 72
            simp
          exact fm_isi (by rw [this]; decide) (by rw [this]; decide)
      · have hPd := fm_isd hP
        refine ⟨fm_isi (by rw [hPo _ _ (by decide)]; exact hPd.1) (by rw [hPo _ _ (by decide)]; exact hPd.2), in_u (i := p) (N := 1024) ?_ (by omega) (by decide)⟩
        · rw [hPo _ _ (by decide)]
          exact tL_203 T.1 n
    · rw [fi_neg h0, if_neg h0, if_neg h0]
      show FX11_made_22 r p M = _
      delta FX11_made_22 BX11_made_22
      rw [fi_pos n]
      dsimp only
      rw [fi_pos ⟨fm_w (lo' := 910) (hi' := 990) rfl rfl hP, ip⟩, cp]
  refine op_of (P := OkN 72 72 M) (d := (0, M)) key ⟨mdM_ty T W n, mdM_ext W, ?_⟩
  unfold mdg mdM
  by_cases h0 : M.2.2 3 (M.2.2 203 r 0) k = 0
  · rw [if_pos h0, if_pos h0]
    exact fm_isi (by rw [npM_t0 W]; decide) (by rw [npM_t0 W]; decide)
  · rw [if_neg h0, if_neg h0]
    have := tF_920 T.1 hP ip
    rw [cp] at this
    exact this h0
end Md
