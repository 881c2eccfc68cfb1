/-! start: the component resets a processor: its loops -/
set_option maxRecDepth 100000
theorem rz_L {G I i j : Nat} {v : Int64} {M : FM} (ne : I ≠ G) : rz G (fm_sL M 3 I i v) j = fm_sL (rz G M j) 3 I i v := by
  refine Prod.ext rfl (Prod.ext ?_ rfl)
  funext f a k
  show (if f = 3 ∧ a = G ∧ k < j then Int64.ofInt 0 else (if f = 3 ∧ a = I ∧ k = i then v else M.2.1 f a k)) = (if f = 3 ∧ a = I ∧ k = i then v else if f = 3 ∧ a = G ∧ k < j then Int64.ofInt 0 else M.2.1 f a k)
  by_cases z : f = 3 ∧ a = G ∧ k < j
  · rw [if_pos z, if_neg (fun y : f = 3 ∧ a = I ∧ k = i => ne (y.2.1.symm.trans z.2.1)), if_pos z]
  · rw [if_neg z, if_neg z]
/-- so many registers of both kinds are zero -/
noncomputable def z2 (a rg : Nat) (M : FM) (k : Nat) : FM := rz rg (rz (rgI a M) M k) k
theorem z2_s {a rg k : Nat} {M : FM} (ne : rgI a M ≠ rg) : fm_sL (fm_sL (z2 a rg M k) 3 (rgI a M) k (Int64.ofInt 0)) 3 rg k (Int64.ofInt 0) = z2 a rg M (k + 1) := by
  unfold z2
  rw [← rz_L ne, rz_s, rz_s]
theorem jump_z {a rg : Nat} {e : Int64} {M : FM} : GX47_jump a e (z2 a rg M 32) = rz rg (rcI a e M) 32 := by
  unfold rcI GX47_jump GX47_jump_0 z2
  refine Prod.ext rfl (Prod.ext ?_ rfl)
  funext f b i
  show (if f = 179 ∧ b = M.2.2 171 a 0 ∧ i = 0 then e &&& Int64.ofInt (-2) else if f = 3 ∧ b = rg ∧ i < 32 then Int64.ofInt 0 else (rz (rgI a M) M 32).2.1 f b i) =
    (if f = 3 ∧ b = rg ∧ i < 32 then Int64.ofInt 0 else if f = 179 ∧ b = M.2.2 171 a 0 ∧ i = 0 then e &&& Int64.ofInt (-2) else (rz (rgI a M) M 32).2.1 f b i)
  by_cases z : f = 179 ∧ b = M.2.2 171 a 0 ∧ i = 0
  · rw [if_pos z, if_neg (fun y => absurd (y.1.symm.trans z.1) (by decide)), if_pos z]
  · rw [if_neg z, if_neg z]
section Cr
variable {p a fu rg g t u : Nat} {e : Int64} {M M9 : FM}
theorem cr_2 (T : Ty M) (n75 : fm_is M 75 75 p = true) (v2 : M.2.2 211 p 0 = a) (v3 : M.2.2 212 p 0 = fu) (lI_ : M.2.2 1 (rgI a M) 0 = 32) (eG : M.2.2 93 fu 0 = rg) (lG_ : M.2.2 1 rg 0 = 32) (ne : rgI a M ≠ rg) :
    ∀ k i j', i + k = 32 → (FX46_reset_L fN (k + j')).1 p e (nI i) (z2 a rg M i) = (FX46_reset_L fN j').1 p e (nI 32) (z2 a rg M 32)
  | 0, i, j', hi => by
    have ei : i = 32 := by omega
    subst ei
    rw [Nat.zero_add]
  | k + 1, i, j', hi => by
    have hle : ¬ Int32.ofInt 32 ≤ nI i := fun q => by have := (nge (n := i) (by omega) 32 (by decide)).mp q; omega
    have hcl : (nI i).toNatClampNeg = i := o_cl (by omega)
    have Ti : Ty (z2 a rg M i) := rz_ty (rz_ty T)
    rw [show k + 1 + j' = (k + j') + 1 by omega]
    show FX46_reset_2 fN (FX46_reset_L fN (k + j')).1 (FX46_reset_L fN (k + j')).2 p e (nI i) (z2 a rg M i) = _
    have w2_ : (z2 a rg M i).2.2 211 p 0 = a := v2
    have H : HX46_reset_2 p e (nI i) (z2 a rg M i) := by
      refine ⟨fun q => absurd q hle, fun _ => ?_⟩
      try dsimp only
      rw [w2_]
      refine ⟨in_nI (N := 32) lI_ (by omega) (by decide), ?_, trivial⟩
      show fm_in _ (M.2.2 93 (M.2.2 212 p 0) 0) (nI i) = true
      rw [v3, eG]
      exact in_nI (N := 32) lG_ (by omega) (by decide)
    rw [(gX46_reset_2 _ _ p e (nI i) (z2 a rg M i) Ti n75 H).1]
    unfold GX46_reset_2
    rw [fi_neg hle]
    try dsimp only
    rw [w2_, hcl, up_1 (by omega)]
    show (FX46_reset_L fN (k + j')).1 p e (nI (i + 1)) (fm_sL (fm_sL (z2 a rg M i) 3 (rgI a M) i (Int64.ofInt 0)) 3 (M.2.2 93 (M.2.2 212 p 0) 0) i (Int64.ofInt 0)) = _
    rw [v3, eG, z2_s ne]
    exact cr_2 T n75 v2 v3 lI_ eG lG_ ne k (i + 1) j' (by omega)
/-- the middle: the controls -/
theorem cr_m {j' : Nat} (T : Ty M) (n75 : fm_is M 75 75 p = true) (v2 : M.2.2 211 p 0 = a) (w3 : (rcI a e M).2.2 212 p 0 = fu) (hC : HX46_resetControls p (rcF fu rg (rcI a e M))) (D3 : FM) (h3 : GX46_resetControls p (rcF fu rg (rcI a e M)) = D3) (v5 : D3.2.2 214 p 0 = t) (e288 : D3.2.2 288 t 0 = g) :
    (FX46_reset_L fN (j' + 1)).1 p e (nI 32) (z2 a rg M 32) = (FX46_reset_L fN j').2 p (D3.2.2 284 g 0) (Int32.ofNat (D3.2.2 1 (D3.2.2 284 g 0) 0)) (nI 0) D3 := by
  have hle : Int32.ofInt 32 ≤ nI 32 := by decide
  have Ti : Ty (z2 a rg M 32) := rz_ty (rz_ty T)
  have w2_ : (z2 a rg M 32).2.2 211 p 0 = a := v2
  have x1 : (rz rg (rcI a e M) 32).2.2 212 p 0 = fu := w3
  have x2 : (GX59_putFlags fu (Int32.ofInt 0) (rz rg (rcI a e M) 32)).2.2 212 p 0 = fu := w3
  have x3 : (GX59_putMode fu (Int32.ofInt 0) (GX59_putFlags fu (Int32.ofInt 0) (rz rg (rcI a e M) 32))).2.2 212 p 0 = fu := w3
  have eF : GX59_calm fu (GX59_putMode fu (Int32.ofInt 0) (GX59_putFlags fu (Int32.ofInt 0) (rz rg (rcI a e M) 32))) = rcF fu rg (rcI a e M) := rfl
  show FX46_reset_2 fN (FX46_reset_L fN j').1 (FX46_reset_L fN j').2 p e (nI 32) (z2 a rg M 32) = _
  have H : HX46_reset_2 p e (nI 32) (z2 a rg M 32) := by
    refine ⟨fun _ => ?_, fun q => absurd hle q⟩
    try dsimp only
    rw [w2_, jump_z, x1, x2, x3, eF]
    exact ⟨hC, trivial⟩
  rw [(gX46_reset_2 _ _ p e (nI 32) (z2 a rg M 32) Ti n75 H).1]
  unfold GX46_reset_2
  rw [fi_pos hle]
  try dsimp only
  rw [w2_, jump_z, x1, x2, x3, eF, h3, v5, e288]
  rfl
theorem cr_90 (W9 : Wf M9) (n75 : fm_is M9 75 75 p = true) (ng : fm_is M9 90 90 g = true) (S : StG g M9) : ∀ d i j' M, i + d = 8 → Ty M → FrG g M9 M → WK [280, 281] M9 M →
    (∀ j, j < i → M.1 280 (rgn g j M9) 0 = Int32.ofInt 0 ∧ M.2.1 281 (rgn g j M9) 0 = lN 0) →
    ∃ X, (FX46_reset_L fN (d + j')).2 p (M9.2.2 284 g 0) (nI 8) (nI i) M = (FX46_reset_L fN j').2 p (M9.2.2 284 g 0) (nI 8) (nI 8) X ∧ Ty X ∧ FrG g M9 X ∧ WK [280, 281] M9 X ∧ VG0 g X rgZ
  | 0, i, j', M, hi, T, fr, k, hz => by
    have ei : i = 8 := by omega
    subst ei
    rw [Nat.zero_add]
    refine ⟨M, rfl, T, fr, k, fun i hi' => ?_⟩
    rw [rgn_e fr.1]
    exact hz i hi'
  | d + 1, i, j', M, hi, T, fr, k, hz => by
    have hle : ¬ nI 8 ≤ nI i := fun q => by have := (n_le (by omega) (by omega)).mp q; omega
    have hcl : (nI i).toNatClampNeg = i := o_cl (by omega)
    have eR : M.2.2 = M9.2.2 := fr.1
    have n75' : fm_is M 75 75 p = true := by unfold fm_is at *; rw [eR]; exact n75
    have ng' : fm_is M 90 90 g = true := by unfold fm_is at *; rw [eR]; exact ng
    have n927 : fm_is M 927 927 (M9.2.2 284 g 0) = true := by
      have := tN_284 T.1 ng'
      rw [eR] at this
      exact this
    have l8 : M.2.2 1 (M9.2.2 284 g 0) 0 = 8 := by
      have := tL_284 T.1 ng'
      rw [eR] at this ⊢
      exact this
    have hin : fm_in M (M9.2.2 284 g 0) (nI i) = true := in_nI l8 (by omega) (by decide)
    have e17 : M.2.2 3 (M9.2.2 284 g 0) i = rgn g i M9 := by rw [eR]; rfl
    have n89 : fm_is M 89 89 (rgn g i M9) = true := by
      have := tE_927 T.1 n927 hin
      rw [hcl, e17] at this
      exact this
    have k1 : WK [280] M (fm_sI M 280 (rgn g i M9) 0 (Int32.ofInt 0)) := WK_I k.1.1 n89 rfl rfl _
    have k2 : WK [281] (fm_sI M 280 (rgn g i M9) 0 (Int32.ofInt 0)) (fm_sL (fm_sI M 280 (rgn g i M9) 0 (Int32.ofInt 0)) 281 (rgn g i M9) 0 (Int64.ofInt 0)) := WK_L k1.1.1 n89 rfl rfl _
    have k' := WK_t (WK_t k (WK_s (S' := [280, 281]) (by decide) k1)) (WK_s (S' := [280, 281]) (by decide) k2)
    have T' : Ty (fm_sL (fm_sI M 280 (rgn g i M9) 0 (Int32.ofInt 0)) 281 (rgn g i M9) 0 (Int64.ofInt 0)) := ⟨T.1, tyb_sI rfl T.2⟩
    have fr' : FrG g M9 (fm_sL (fm_sI M 280 (rgn g i M9) 0 (Int32.ofInt 0)) 281 (rgn g i M9) 0 (Int64.ofInt 0)) := frG_L (frG_I fr (by omega)) (by decide) (by omega)
    obtain ⟨X, x1, x2, x3, x4, x5⟩ := cr_90 W9 n75 ng S d (i + 1) j' _ (by omega) T' fr' k' (fun j hj => by
      by_cases c : j = i
      · subst c
        exact ⟨rIe _, rLe _⟩
      · have hne : rgn g j M9 ≠ rgn g i M9 := fun q => c (S j i (by omega) (by omega) q)
        obtain ⟨y1, y2⟩ := hz j (by omega)
        refine ⟨?_, ?_⟩
        · show (fm_sI M 280 (rgn g i M9) 0 (Int32.ofInt 0)).1 280 (rgn g j M9) 0 = _
          rw [rI, if_neg (fun q => hne q.2.1)]
          exact y1
        · rw [rL, if_neg (fun q => hne q.2.1)]
          exact y2)
    refine ⟨X, ?_, x2, x3, x4, x5⟩
    rw [show d + 1 + j' = (d + j') + 1 by omega]
    show FX46_reset_90 fN (FX46_reset_L fN (d + j')).1 (FX46_reset_L fN (d + j')).2 p (M9.2.2 284 g 0) (nI 8) (nI i) M = _
    rw [(gX46_reset_90 _ _ p (M9.2.2 284 g 0) (nI 8) (nI i) M T n75' n927 ⟨fun q => absurd q hle, fun _ => ⟨hin, trivial⟩⟩).1]
    unfold GX46_reset_90
    rw [fi_neg hle]
    try dsimp only
    rw [hcl, e17, up_1 (by omega)]
    exact x1
theorem drop_e (q : Nat) (M : FM) : ∃ v, GX12_drop q M = (v, fm_sI M 208 q 0 (Int32.ofInt 0)) := by
  unfold GX12_drop GX12_drop_0 GX12_drop_12
  by_cases c : M.1 208 q 0 ≤ 0
  · rw [fi_pos c]
    exact ⟨_, rfl⟩
  · rw [fi_neg c]
    exact ⟨_, rfl⟩
theorem set_e {k : Nat} (hk : 0 < k ∧ k < 32) (v : Int64) (l : M.2.2 1 (rgI a M) 0 = 32) : HX48_set (M.2.2 171 a 0) (nI k) v M ∧ GX48_set (M.2.2 171 a 0) (nI k) v M = stC a k v M := by
  have kp : ¬ nI k ≤ 0 := fun q => by have := (nI_le0 (n := k) (by omega)).mp q; omega
  constructor
  · exact ⟨fun q => absurd q kp, fun _ => ⟨in_nI (N := 32) l hk.2 (by decide), trivial⟩⟩
  · unfold GX48_set GX48_set_0 GX48_set_11
    rw [fi_neg kp]
    try dsimp only
    rw [o_cl (by omega)]
    rfl
end Cr
