/-! the machine: the tape is cut, both sides -/
set_option maxRecDepth 100000
section En
variable {bd hv m hq s dd x dk q rq r sg bl cr np mc : Nat} {B Bk Vv x1 ld : Nat} {Mc Mt : FM} {z : Int32}
theorem O_end (R : RelM bd hv m hq s dd x dk q rq r sg bl cr np mc B Bk Vv Mc Mt) (Q : RelR mc m B Mc Mt) (L : RelL mc ld m r cr Mc Mt) (xm : XM x1 mc Mc) :
    (∃ Nc Nt, (HX1_end x1 z Mc ∧ GX1_end x1 z Mc = Nc) ∧ GX92_end m z Mt = Nt ∧ RelM bd hv m hq s dd x dk q rq r sg bl cr np mc B Bk Vv Nc Nt ∧ RelR mc m B Nc Nt ∧ RelL mc ld m r cr Nc Nt ∧ Nt.1 296 m 0 = 0 ∧ Sm m sg Nt Mt ∧ WK [262] Mc Nc ∧ WK [296, 309] Mt Nt ∧ RamQ r Mc Nc) ∨
    ((z < 0 ∨ Mc.1 262 (Mc.2.2 191 mc 0) 0 < z) ∧ ∃ Nt, GX92_end m z Mt = Nt ∧ RelM bd hv m hq s dd x dk q rq r sg bl cr np mc B Bk Vv Mc Nt ∧ RelR mc m B Mc Nt ∧ RelL mc ld m r cr Mc Nt ∧ Nt.1 296 m 0 = Int32.ofInt 1 ∧ Sm m sg Nt Mt ∧ WK [296, 309] Mt Nt) := by
  have RR := relM_ram R
  have n92 := (relM_m R).1
  obtain ⟨X, n, t1, t2, ⟨hX, hn⟩⟩ := relL_t L
  obtain ⟨_, _, _, _, _, ⟨ow, Ow⟩, ⟨ow', Ow'⟩, _⟩ := id R
  have kt : ∀ v w : Int32, WK [296, 309] Mt (fm_sI (fm_sI Mt 296 m 0 v) 309 m 0 w) := fun v w => by
    have a1 := WK_I RR.2.1.2.1 n92 (f := 296) rfl rfl v
    have a2 := WK_I a1.1.1 (show fm_is (fm_sI Mt 296 m 0 v) 92 92 m = true from n92) (f := 309) rfl rfl w
    exact WK_t (WK_s (by decide) a1) (WK_s (by decide) a2)
  have Tt : ∀ v w : Int32, Ty (fm_sI (fm_sI Mt 296 m 0 v) 309 m 0 w) := fun v w => ⟨RR.2.1.1.1, tyb_sI rfl (tyb_sI rfl RR.2.1.1.2)⟩
  have t309 := t2.2.1
  by_cases c : z < 0 ∨ nI n < z
  · right
    have e18 : GX92_end_13 m z m Mt = fm_sI (fm_sI Mt 296 m 0 (Int32.ofInt 1)) 309 m 0 (nI n) := by
      unfold GX92_end_13 GX92_end_18 GX92_end_37
      try dsimp only
      rw [fi_neg (show ¬ (fm_sI Mt 296 m 0 (Int32.ofInt 1)).1 296 m 0 ≤ 0 by rw [rIe]; decide), rIf (by decide), t309]
    have eG : GX92_end m z Mt = fm_sI (fm_sI Mt 296 m 0 (Int32.ofInt 1)) 309 m 0 (nI n) := by
      unfold GX92_end GX92_end_0
      try dsimp only
      by_cases d : z < 0
      · rw [fi_pos d, e18]
      · have d2 : ¬ z ≤ Mt.1 309 m 0 := by
          rw [t309]
          exact fun q => by
            have := c.resolve_left d
            rw [lt_ti] at this
            rw [le_ti] at q
            omega
        rw [fi_neg d, fi_neg d2, e18]
    have R2 := (M_k R (WK_r (S := []) RR.1.2.1) (kt (Int32.ofInt 1) (nI n)) (by decide) (by decide) RR.1.1 (Tt _ _) ⟨_, Ow⟩ ⟨_, own_n rfl Ow'⟩).1
    refine ⟨by rw [t1.2.2.1]; exact c, _, eG, R2, relR_k (WK_r (S := []) RR.1.2.1) (kt _ _) (by decide) (by decide) RR.1.1 RR.1.2.1 RR.2.1.1 RR.2.1.2.1 R.1 n92 (Nat.le_refl _) Q,
      relL_n L (relM_ram R2) rfl rfl rfl t1 ⟨n92, rIe _, fun j hj => (rIf (by decide)).trans ((rIf (by decide)).trans (t2.2.2 j hj))⟩ ⟨hX, hn⟩, (rIf (by decide)).trans (rIe _), ⟨rfl, rfl⟩, kt _ _⟩
  · left
    have c0 : ¬ z < 0 := fun q => c (Or.inl q)
    have c1 : ¬ nI n < z := fun q => c (Or.inr q)
    obtain ⟨k, hk, rfl⟩ : ∃ k, k ≤ n ∧ z = nI k := by
      have h1 := c0
      have h2 := c1
      rw [Int32.not_lt, show (0 : Int32) = Int32.ofInt 0 from rfl, le_ti, ti, ti] at h1
      rw [Int32.not_lt, le_ti, ti, ti, ui_nI] at h2
      have hz := ui_lt z
      have e0 : ui (Int32.ofInt 0) = 0 := rfl
      rw [e0] at h1
      have lt : ui z ≤ n := by split at h1 <;> split at h2 <;> omega
      exact ⟨ui z, lt, ui_inj (by rw [ui_nI]; omega)⟩
    have le1 : nI k ≤ Mt.1 309 m 0 := by
      rw [t309]
      exact (n_le (by omega) (by omega)).mpr hk
    have c1' : ¬ Mc.1 262 (Mc.2.2 191 mc 0) 0 < nI k := by rw [t1.2.2.1]; exact c1
    have i10 : ¬ Int32.ofInt 1 = (0 : Int32) := by decide
    have pr1 : GX1_proper (Int32.ofInt 1) Mc = Mc := by
      unfold GX1_proper GX1_proper_0
      try dsimp only
      rw [fi_neg i10]
    have eT : GX92_end m (nI k) Mt = fm_sI (fm_sI Mt 296 m 0 (Int32.ofInt 0)) 309 m 0 (nI k) := by
      unfold GX92_end GX92_end_0 GX92_end_18 GX92_end_37
      try dsimp only
      rw [fi_neg c0, fi_pos le1, fi_pos (show (fm_sI Mt 296 m 0 (Int32.ofInt 0)).1 296 m 0 ≤ 0 by rw [rIe]; decide)]
    have eC : GX1_end x1 (nI k) Mc = fm_sI Mc 262 (Mc.2.2 191 mc 0) 0 (nI k) := by
      unfold GX1_end GX1_end_0 GX1_end_23
      try dsimp only
      rw [fi_neg c0, xm.2, fi_neg c1', pr1, xm.2]
    have hC : HX1_end x1 (nI k) Mc := by
      refine ⟨fun q => absurd q c0, fun _ => ?_⟩
      try dsimp only
      rw [xm.2]
      exact ⟨fun q => absurd q c1', fun _ => ⟨⟨fun q => absurd q i10, fun _ => trivial⟩, trivial⟩⟩
    have kc : WK [262] Mc (fm_sI Mc 262 (Mc.2.2 191 mc 0) 0 (nI k)) := WK_I RR.1.2.1 t1.1 rfl rfl _
    have Tc : Ty (fm_sI Mc 262 (Mc.2.2 191 mc 0) 0 (nI k)) := ⟨RR.1.1.1, tyb_sI rfl RR.1.1.2⟩
    obtain ⟨R2, rq⟩ := M_k R kc (kt (Int32.ofInt 0) (nI k)) (by decide) (by decide) Tc (Tt _ _) ⟨_, own_n rfl Ow⟩ ⟨_, own_n rfl Ow'⟩
    refine ⟨_, _, ⟨hC, eC⟩, eT, R2, relR_k kc (kt _ _) (by decide) (by decide) RR.1.1 RR.1.2.1 RR.2.1.1 RR.2.1.2.1 R.1 n92 (Nat.le_refl _) Q,
      relL_n L (relM_ram R2) rfl rfl rfl (X' := X) (n' := k) ⟨t1.1, t1.2.1, rIe _, fun j hj => (rIf (by decide)).trans (t1.2.2.2 j hj)⟩ ⟨n92, rIe _, fun j hj => (rIf (by decide)).trans ((rIf (by decide)).trans (t2.2.2 j hj))⟩ ⟨hX, by omega⟩, (rIf (by decide)).trans (rIe _), ⟨rfl, rfl⟩, kc, kt _ _, rq⟩
end En
