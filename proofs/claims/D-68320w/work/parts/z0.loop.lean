/-! the law: its loop -/
set_option maxRecDepth 100000
theorem fiP {α : Type} {P : α → Prop} {p : Prop} {t e : α} (h : p → P t) (k : ¬ p → P e) : P (fi p t e) := by
  by_cases c : p
  · rw [fi_pos c]; exact h c
  · rw [fi_neg c]; exact k c
section Lp
variable {bd hv m hq s dd x dk q rq r sg bl cr np mc ld x1 o s0 ln : Nat} {sc : Nat → Int32}
theorem zi_le {c c' : Nat} {M : FM} (h : c ≤ c') (Z : ZI bd hv m hq s dd x dk q rq r sg bl cr np mc ld x1 o s0 ln sc c M) : ZI bd hv m hq s dd x dk q rq r sg bl cr np mc ld x1 o s0 ln sc c' M := by
  obtain ⟨⟨B, Bk, Vv, ⟨b1, b2, b3⟩, Z⟩, L⟩ := Z
  exact ⟨⟨B, Bk, Vv, by omega, Z⟩, L⟩
theorem ex_6 {ln i : Nat} (hl : ln ≤ 385) (hi : i < 2000) : (Int32.ofNat ln) - (Int32.ofInt 6) < nI i ↔ ln < i + 6 := by
  have e1 : ui (Int32.ofNat ln) = ln := by
    show ui (nI ln) = ln
    rw [ui_nI]; omega
  have u1 : ui ((Int32.ofNat ln) - (Int32.ofInt 6)) = (ln + 4294967296 - 6) % 4294967296 := by
    rw [ui_sub, e1, show ui (Int32.ofInt 6) = 6 from rfl]
    omega
  rw [lt_ti, ti, ti, u1, ui_nI]
  split <;> split <;> omega
theorem law_L (hl : ln ≤ 385) : ∀ (d i c J : Nat) (M : FM), ln < i + 6 + 6 * d → i < 1000 → c + d ≤ 1000 → d < J → ZI bd hv m hq s dd x dk q rq r sg bl cr np mc ld x1 o s0 ln sc c M → ∃ N c', FL_law_L33 fN J s0 x1 m o (nI i) M = some (Int32.ofInt 1, N) ∧ ZI bd hv m hq s dd x dk q rq r sg bl cr np mc ld x1 o s0 ln sc c' N
  | d, i, c, J, M, h1, hi, hc, hJ, Z => by
    obtain ⟨J, rfl⟩ : ∃ y, J = y + 1 := ⟨J - 1, by omega⟩
    obtain ⟨_, n6, _, l6, w6⟩ := Z.2
    have n9 : fm_is M 901 990 s0 = true := fm_w rfl rfl n6
    show ∃ N c', FL_law_33 fN (FL_law_L33 fN J) s0 x1 m o (nI i) M = some (Int32.ofInt 1, N) ∧ ZI bd hv m hq s dd x dk q rq r sg bl cr np mc ld x1 o s0 ln sc c' N
    rw [lw_33, fi_pos n9, l6]
    by_cases e : ln < i + 6
    · rw [fi_pos ((ex_6 hl (by omega)).mpr e), fi_pos (Or.inr (show Int32.ofInt 1 = 1 by decide))]
      exact ⟨M, c, rfl, Z⟩
    · rw [fi_neg (fun y => e ((ex_6 hl (by omega)).mp y)), fi_pos ⟨n6, in_nI l6 (by omega) (by omega)⟩]
      obtain ⟨d, rfl⟩ : ∃ y, d = y + 1 := ⟨d - 1, by omega⟩
      have go : ∀ {A : Option (Int32 × FM)}, (∃ N2, A = FL_law_L33 fN J s0 x1 m o (nI (i + 6)) N2 ∧ ZI bd hv m hq s dd x dk q rq r sg bl cr np mc ld x1 o s0 ln sc (c + 1) N2) → ∃ N c', A = some (Int32.ofInt 1, N) ∧ ZI bd hv m hq s dd x dk q rq r sg bl cr np mc ld x1 o s0 ln sc c' N := fun {A} ⟨N2, e2, Z2⟩ => by
        obtain ⟨N, c', f1, f2⟩ := law_L hl d (i + 6) (c + 1) J N2 (by omega) (by omega) (by omega) (by omega) Z2
        exact ⟨N, c', e2.trans f1, f2⟩
      have hc' : c ≤ 1000 := by omega
      have hi' : i + 5 < ln := by omega
      refine fiP (P := fun A => ∃ N c', A = some (Int32.ofInt 1, N) ∧ ZI bd hv m hq s dd x dk q rq r sg bl cr np mc ld x1 o s0 ln sc c' N) (fun _ => go (lc_0 hc' hi' hl Z)) (fun _ => ?_)
      refine fiP (P := fun A => ∃ N c', A = some (Int32.ofInt 1, N) ∧ ZI bd hv m hq s dd x dk q rq r sg bl cr np mc ld x1 o s0 ln sc c' N) (fun _ => go (lc_1 hc' hi' hl Z)) (fun _ => ?_)
      refine fiP (P := fun A => ∃ N c', A = some (Int32.ofInt 1, N) ∧ ZI bd hv m hq s dd x dk q rq r sg bl cr np mc ld x1 o s0 ln sc c' N) (fun _ => go (lc_2 hc' hi' hl Z)) (fun _ => ?_)
      refine fiP (P := fun A => ∃ N c', A = some (Int32.ofInt 1, N) ∧ ZI bd hv m hq s dd x dk q rq r sg bl cr np mc ld x1 o s0 ln sc c' N) (fun _ => go (lc_3 hc' hi' hl Z)) (fun _ => ?_)
      refine fiP (P := fun A => ∃ N c', A = some (Int32.ofInt 1, N) ∧ ZI bd hv m hq s dd x dk q rq r sg bl cr np mc ld x1 o s0 ln sc c' N) (fun _ => go (lc_4 hc' hi' hl Z)) (fun _ => ?_)
      refine fiP (P := fun A => ∃ N c', A = some (Int32.ofInt 1, N) ∧ ZI bd hv m hq s dd x dk q rq r sg bl cr np mc ld x1 o s0 ln sc c' N) (fun _ => go (lc_5 hc' hi' hl Z)) (fun _ => ?_)
      refine fiP (P := fun A => ∃ N c', A = some (Int32.ofInt 1, N) ∧ ZI bd hv m hq s dd x dk q rq r sg bl cr np mc ld x1 o s0 ln sc c' N) (fun _ => go (lc_6 hc' hi' hl Z)) (fun _ => ?_)
      refine fiP (P := fun A => ∃ N c', A = some (Int32.ofInt 1, N) ∧ ZI bd hv m hq s dd x dk q rq r sg bl cr np mc ld x1 o s0 ln sc c' N) (fun _ => go (lc_7 hc' hi' hl Z)) (fun _ => ?_)
      refine fiP (P := fun A => ∃ N c', A = some (Int32.ofInt 1, N) ∧ ZI bd hv m hq s dd x dk q rq r sg bl cr np mc ld x1 o s0 ln sc c' N) (fun _ => go (lc_8 hc' hi' hl Z)) (fun _ => ?_)
      refine fiP (P := fun A => ∃ N c', A = some (Int32.ofInt 1, N) ∧ ZI bd hv m hq s dd x dk q rq r sg bl cr np mc ld x1 o s0 ln sc c' N) (fun _ => go (lc_9 hc' hi' hl Z)) (fun _ => ?_)
      refine fiP (P := fun A => ∃ N c', A = some (Int32.ofInt 1, N) ∧ ZI bd hv m hq s dd x dk q rq r sg bl cr np mc ld x1 o s0 ln sc c' N) (fun _ => go (lc_10 hc' hi' hl Z)) (fun _ => ?_)
      refine fiP (P := fun A => ∃ N c', A = some (Int32.ofInt 1, N) ∧ ZI bd hv m hq s dd x dk q rq r sg bl cr np mc ld x1 o s0 ln sc c' N) (fun _ => go (lc_11 hc' hi' hl Z)) (fun _ => ?_)
      refine fiP (P := fun A => ∃ N c', A = some (Int32.ofInt 1, N) ∧ ZI bd hv m hq s dd x dk q rq r sg bl cr np mc ld x1 o s0 ln sc c' N) (fun _ => go (lc_12 hc' hi' hl Z)) (fun _ => ?_)
      refine fiP (P := fun A => ∃ N c', A = some (Int32.ofInt 1, N) ∧ ZI bd hv m hq s dd x dk q rq r sg bl cr np mc ld x1 o s0 ln sc c' N) (fun _ => go (lc_13 hc' hi' hl Z)) (fun _ => ?_)
      refine fiP (P := fun A => ∃ N c', A = some (Int32.ofInt 1, N) ∧ ZI bd hv m hq s dd x dk q rq r sg bl cr np mc ld x1 o s0 ln sc c' N) (fun _ => go (lc_14 hc' hi' hl Z)) (fun _ => ?_)
      refine fiP (P := fun A => ∃ N c', A = some (Int32.ofInt 1, N) ∧ ZI bd hv m hq s dd x dk q rq r sg bl cr np mc ld x1 o s0 ln sc c' N) (fun _ => go (lc_15 hc' hi' hl Z)) (fun _ => ?_)
      refine fiP (P := fun A => ∃ N c', A = some (Int32.ofInt 1, N) ∧ ZI bd hv m hq s dd x dk q rq r sg bl cr np mc ld x1 o s0 ln sc c' N) (fun _ => go (lc_16 hc' hi' hl Z)) (fun _ => ?_)
      refine fiP (P := fun A => ∃ N c', A = some (Int32.ofInt 1, N) ∧ ZI bd hv m hq s dd x dk q rq r sg bl cr np mc ld x1 o s0 ln sc c' N) (fun _ => go (lc_17 hc' hi' hl Z)) (fun _ => ?_)
      refine fiP (P := fun A => ∃ N c', A = some (Int32.ofInt 1, N) ∧ ZI bd hv m hq s dd x dk q rq r sg bl cr np mc ld x1 o s0 ln sc c' N) (fun _ => go (lc_18 hc' hi' hl Z)) (fun _ => ?_)
      refine fiP (P := fun A => ∃ N c', A = some (Int32.ofInt 1, N) ∧ ZI bd hv m hq s dd x dk q rq r sg bl cr np mc ld x1 o s0 ln sc c' N) (fun _ => go (lc_19 hc' hi' hl Z)) (fun _ => ?_)
      refine fiP (P := fun A => ∃ N c', A = some (Int32.ofInt 1, N) ∧ ZI bd hv m hq s dd x dk q rq r sg bl cr np mc ld x1 o s0 ln sc c' N) (fun _ => go (lc_20 hc' hi' hl Z)) (fun _ => ?_)
      exact go ⟨M, go_6 (by omega), zi_le (Nat.le_succ c) Z⟩
end Lp
