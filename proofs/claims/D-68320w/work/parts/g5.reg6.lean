/-! regions: read and written as control registers -/
set_option maxRecDepth 100000
/-- the twin's walk: only these places change -/
def FrWk (w : Nat) (M M' : FM) : Prop := M'.2.2 = M.2.2 ∧ (∀ f b i, ¬ ((b = w ∧ 422 ≤ f ∧ f ≤ 426) ∨ (f = 3 ∧ b = M.2.2 427 w 0)) → M'.1 f b i = M.1 f b i) ∧
  ∀ f b i, ¬ ((b = w ∧ 422 ≤ f ∧ f ≤ 430) ∨ (f = 3 ∧ b = M.2.2 428 w 0)) → M'.2.1 f b i = M.2.1 f b i
theorem frWk_r (w : Nat) (M : FM) : FrWk w M M := ⟨rfl, fun _ _ _ _ => rfl, fun _ _ _ _ => rfl⟩
theorem frWk_t {w : Nat} {M N X : FM} (h : FrWk w M N) (k : FrWk w N X) : FrWk w M X :=
  ⟨k.1.trans h.1, fun f b i z => (k.2.1 f b i (by rw [h.1]; exact z)).trans (h.2.1 f b i z), fun f b i z => (k.2.2 f b i (by rw [h.1]; exact z)).trans (h.2.2 f b i z)⟩
theorem frWk_W {w : Nat} {M N : FM} (h : FrW w M N) : FrWk w M N :=
  ⟨h.2.1, fun _ _ _ _ => by rw [h.1], fun f b i z => h.2.2 f b i (fun q => z (Or.inl ⟨q.1, by omega⟩))⟩
theorem frWk_I {w f : Nat} {v : Int32} {M N : FM} (h : FrWk w M N) (hf : 422 ≤ f ∧ f ≤ 426) : FrWk w M (fm_sI N f w 0 v) :=
  ⟨h.1, fun g b i z => by rw [rI, if_neg (fun q => z (Or.inl ⟨q.2.1, by rw [q.1]; exact hf⟩))]; exact h.2.1 g b i z, h.2.2⟩
theorem frWk_L {w f : Nat} {v : Int64} {M N : FM} (h : FrWk w M N) (hf : 422 ≤ f ∧ f ≤ 430) : FrWk w M (fm_sL N f w 0 v) :=
  ⟨h.1, h.2.1, fun g b i z => by rw [rL, if_neg (fun q => z (Or.inl ⟨q.2.1, by rw [q.1]; exact hf⟩))]; exact h.2.2 g b i z⟩
theorem frWk_A {w k : Nat} {v : Int32} {M N : FM} (h : FrWk w M N) : FrWk w M (fm_sI N 3 (M.2.2 427 w 0) k v) :=
  ⟨h.1, fun g b i z => by rw [rI, if_neg (fun q => z (Or.inr ⟨q.1, q.2.1⟩))]; exact h.2.1 g b i z, h.2.2⟩
theorem frWk_B {w k : Nat} {v : Int64} {M N : FM} (h : FrWk w M N) : FrWk w M (fm_sL N 3 (M.2.2 428 w 0) k v) :=
  ⟨h.1, h.2.1, fun g b i z => by rw [rL, if_neg (fun q => z (Or.inr ⟨q.1, q.2.1⟩))]; exact h.2.2 g b i z⟩
theorem frWk_ext {w : Nat} {M N : FM} (h : FrWk w M N) : Ext M N := by
  intro a _
  rw [h.1]
  exact ⟨rfl, rfl⟩
noncomputable def cgs (cf : Nat → Int32) : Nat → Int64 → Int64
  | 0, v => v
  | d + 1, v => cgs cf d (Int64.ofInt 256 * v + (cf d).toInt64)
theorem n_neg : nI 0 + Int32.ofInt (-1) < 0 := by decide
theorem dn_2 {d : Nat} (h : d < 4095) : nI (d + 1) + Int32.ofInt (-1) = nI d := by
  have := dn_1 (s := d + 1) (by omega) (by omega)
  exact this
theorem n_nn {d : Nat} (h : d < 4096) : ¬ nI d < 0 := fun q => by have := (nlt0 h).mp q; omega
section Cf
variable {g w : Nat} {K : Rg} {M : FM}
theorem X86_configs_L (Tm : Ty M) (n : fm_is M 90 90 g = true) (V : VG0 g M K) (I : VGi K) : ∀ (d J : Nat) (v : Int64), d ≤ 8 → d < J →
    FX86_configs_L5 fN J g v (nI d + Int32.ofInt (-1)) M = some (cgs K.1 d v, M) := by
  intro d
  induction d with
  | zero =>
    intro J v hd hJ
    obtain ⟨J, rfl⟩ : ∃ x, J = x + 1 := ⟨J - 1, by omega⟩
    show FX86_configs_5 fN (FX86_configs_L5 fN J) g v (nI 0 + Int32.ofInt (-1)) M = _
    rw [(gX86_configs_5 (FX86_configs_L5 fN J) g v (nI 0 + Int32.ofInt (-1)) M Tm n ⟨fun _ => trivial, fun q => absurd n_neg q⟩).1]
    unfold GX86_configs_5
    rw [fi_pos n_neg]
    rfl
  | succ d ih =>
    intro J v hd hJ
    obtain ⟨J, rfl⟩ : ∃ x, J = x + 1 := ⟨J - 1, by omega⟩
    rw [dn_2 (by omega)]
    show FX86_configs_5 fN (FX86_configs_L5 fN J) g v (nI d) M = _
    rw [(gX86_configs_5 (FX86_configs_L5 fN J) g v (nI d) M Tm n ⟨fun _ => trivial, fun _ => ⟨in_nI (tL_284 Tm.1 n) (by omega) (by decide), trivial⟩⟩).1]
    unfold GX86_configs_5
    dsimp only
    rw [fi_neg (n_nn (by omega)), o_cl (by omega), show M.1 280 (M.2.2 3 (M.2.2 284 g 0) d) 0 = K.1 d from (V d (by omega)).1, sh_8 v (I d (by omega)).2]
    exact ih J _ (by omega) (by omega)
theorem X86_configs (Tm : Ty M) (n : fm_is M 90 90 g = true) (V : VG0 g M K) (I : VGi K) : HX86_configs g M ∧ GX86_configs g M = (cgs K.1 8 (Int64.ofInt 0), M) := by
  have G0 := (gX86_configs_0 (FX86_configs_L5 fN fN) g M Tm).1
  exact op_of (o := FX86_configs fN g M) (G0.trans (X86_configs_L Tm n V I 8 fN _ (by decide) (by decide))) ⟨Tm, ext_r M⟩
theorem X101_configs_L (Tm : Ty M) (n : fm_is M 101 101 w = true) (V : VGt w M K) : ∀ (d J : Nat) (v : Int64), d ≤ 8 → d < J →
    FX101_configs_L10 fN J w v (nI d + Int32.ofInt (-1)) M = some (cgs K.1 d v, M) := by
  intro d
  induction d with
  | zero =>
    intro J v hd hJ
    obtain ⟨J, rfl⟩ : ∃ x, J = x + 1 := ⟨J - 1, by omega⟩
    show FX101_configs_10 fN (FX101_configs_L10 fN J) w v (nI 0 + Int32.ofInt (-1)) M = _
    rw [(gX101_configs_10 (FX101_configs_L10 fN J) w v (nI 0 + Int32.ofInt (-1)) M Tm n ⟨fun _ => trivial, fun q => absurd n_neg q⟩).1]
    unfold GX101_configs_10
    rw [fi_pos n_neg]
    rfl
  | succ d ih =>
    intro J v hd hJ
    obtain ⟨J, rfl⟩ : ∃ x, J = x + 1 := ⟨J - 1, by omega⟩
    rw [dn_2 (by omega)]
    show FX101_configs_10 fN (FX101_configs_L10 fN J) w v (nI d) M = _
    rw [(gX101_configs_10 (FX101_configs_L10 fN J) w v (nI d) M Tm n ⟨fun _ => trivial, fun _ => ⟨in_nI (tL_427 Tm.1 n) (by omega) (by decide), trivial⟩⟩).1]
    unfold GX101_configs_10
    dsimp only
    rw [fi_neg (n_nn (by omega)), o_cl (by omega), V.1 d (by omega)]
    exact ih J _ (by omega) (by omega)
theorem frWk_V {w : Nat} {M N : FM} {K : Rg} (h : FrWk w M N) (a : N.1 3 (M.2.2 427 w 0) = M.1 3 (M.2.2 427 w 0)) (b : N.2.1 3 (M.2.2 428 w 0) = M.2.1 3 (M.2.2 428 w 0)) (V : VGt w M K) : VGt w N K := by
  unfold VGt
  rw [h.1, a, b]
  exact V
theorem sI_3 {M : FM} {f a i b : Nat} {v : Int32} (hf : f ≠ 3) : (fm_sI M f a i v).1 3 b = M.1 3 b := by
  funext j
  rw [rIf (fun q => hf q.symm)]
theorem X101_configs (Tm : Ty M) (n : fm_is M 101 101 w = true) (V : VGt w M K) : ∃ M', (HX101_configs w M ∧ GX101_configs w M = (cgs K.1 8 (Int64.ofInt 0), M')) ∧ Ty M' ∧ FrWk w M M' ∧ VGt w M' K := by
  have G0 := (gX101_configs_0 (FX101_configs_L10 fN fN) w M Tm n).1
  have fr : FrWk w M (fm_sI M 422 w 0 (Int32.ofInt 0)) := frWk_I (frWk_r w M) (by decide)
  have T' : Ty (fm_sI M 422 w 0 (Int32.ofInt 0)) := ⟨Tm.1, tyb_sI rfl Tm.2⟩
  have V' : VGt w (fm_sI M 422 w 0 (Int32.ofInt 0)) K := frWk_V fr (sI_3 (by decide)) rfl V
  exact ⟨_, op_of (o := FX101_configs fN w M) (G0.trans (X101_configs_L T' (by exact n) V' 8 fN _ (by decide) (by decide))) ⟨T', frWk_ext fr⟩, T', fr, V'⟩
theorem X101_number (Tm : Ty M) (n : fm_is M 101 101 w = true) (V : VGt w M K) {i : Nat} (hi : i < 8) : ∃ M', (HX101_number w (nI i) M ∧ GX101_number w (nI i) M = (lN (K.2 i), M')) ∧ Ty M' ∧ FrWk w M M' ∧ VGt w M' K := by
  have fr : FrWk w M (fm_sI M 422 w 0 (Int32.ofInt 0)) := frWk_I (frWk_r w M) (by decide)
  have T' : Ty (fm_sI M 422 w 0 (Int32.ofInt 0)) := ⟨Tm.1, tyb_sI rfl Tm.2⟩
  have V' : VGt w (fm_sI M 422 w 0 (Int32.ofInt 0)) K := frWk_V fr (sI_3 (by decide)) rfl V
  have e0 : (fm_sI M 422 w 0 (Int32.ofInt 0)).1 422 w 0 ≤ 0 := by rw [rI, if_pos ⟨rfl, rfl, rfl⟩]; decide
  have n0 : ¬ nI i < 0 := n_nn (by omega)
  have n7 : nI i ≤ Int32.ofInt 7 := (nle (by omega) 7 (by decide)).mpr (by omega)
  refine ⟨_, ⟨⟨fun q => absurd q n0, fun _ => ⟨fun _ => ⟨fun _ => ⟨in_nI (tL_428 Tm.1 n) (by omega) (by decide), trivial⟩, fun _ => trivial⟩, fun q => absurd n7 q⟩⟩, ?_⟩, T', fr, V'⟩
  unfold GX101_number GX101_number_0 GX101_number_16 GX101_number_36
  dsimp only
  rw [fi_neg n0, fi_pos n7, fi_pos e0, o_cl (by omega)]
  exact congrArg (fun z => (z, fm_sI M 422 w 0 (Int32.ofInt 0))) (V.2 i hi)
end Cf
/-- what is kept of a byte of configuration -/
noncomputable def cfW (x : Int32) : Int32 := fi ((x &&& Int32.ofInt 159) &&& Int32.ofInt 3 = Int32.ofInt 2) ((x &&& Int32.ofInt 159) - Int32.ofInt 2) (x &&& Int32.ofInt 159)
theorem and159 (x : Int32) : ∃ k, k < 160 ∧ x &&& Int32.ofInt 159 = nI k := by
  have h : ui (x &&& Int32.ofInt 159) ≤ 159 := by rw [ui_and]; exact Nat.and_le_right
  exact ⟨ui (x &&& Int32.ofInt 159), by omega, ui_inj (by rw [ui_nI, Nat.mod_eq_of_lt (by omega)])⟩
theorem m2_m3 : ∀ k, k < 160 → nI k &&& Int32.ofInt 3 = Int32.ofInt 2 → nI k &&& Int32.ofInt (-3) = nI k - Int32.ofInt 2 ∧ ui (nI k - Int32.ofInt 2) < 256 := by decide
theorem cfW_lt (x : Int32) : ui (cfW x) < 256 := by
  obtain ⟨k, k1, k2⟩ := and159 x
  unfold cfW
  rw [k2]
  by_cases h : nI k &&& Int32.ofInt 3 = Int32.ofInt 2
  · rw [fi_pos h]
    exact (m2_m3 k k1 h).2
  · rw [fi_neg h, ui_nI]
    omega
theorem cfW_c (x : Int32) : fi ((x &&& Int32.ofInt 159) &&& Int32.ofInt 3 = Int32.ofInt 2) ((x &&& Int32.ofInt 159) &&& Int32.ofInt (-3)) (x &&& Int32.ofInt 159) = cfW x := by
  obtain ⟨k, k1, k2⟩ := and159 x
  unfold cfW
  rw [k2]
  by_cases h : nI k &&& Int32.ofInt 3 = Int32.ofInt 2
  · rw [fi_pos h, fi_pos h, (m2_m3 k k1 h).1]
  · rw [fi_neg h, fi_neg h]
theorem low159 (y : Int64) : (y &&& ((Int64.ofInt 1 <<< ((Int32.ofInt 8).toInt64 &&& 63)) - Int64.ofInt 1)).toInt32 &&& Int32.ofInt 159 = y.toInt32 &&& Int32.ofInt 159 := by
  apply ib_ext
  intro i hi
  rw [ib_and, ib_and, ib_low, ib_low, lb_and, lb_mask ((Int64.ofInt 1 <<< ((Int32.ofInt 8).toInt64 &&& 63)) - Int64.ofInt 1) (k := 8) rfl]
  by_cases h : i < 8
  · rw [decide_eq_true h, Bool.and_true]
  · rw [show ib (Int32.ofInt 159) i = false from tb_big (n := 159) (k := 8) (by decide) (by omega), Bool.and_false, Bool.and_false]
noncomputable def byt (c : Int64) (i : Nat) : Int32 := (c.toUInt64 >>> ((Int32.ofInt 8 * nI i).toInt64.toUInt64 &&& Int64.toUInt64 63)).toInt64.toInt32
noncomputable def cfN (c : Int64) (cf : Nat → Int32) (i : Nat) : Int32 := fi (ib (cf i) 7 = true) (cf i) (cfW (byt c i))
def mix (cf cg : Nat → Int32) (i : Nat) : Nat → Int32 := fun j => if j < i then cg j else cf j
noncomputable def cfK (c : Int64) (K : Rg) : Rg := (mix K.1 (cfN c K.1) 8, K.2)
theorem cfN_lt {K : Rg} (I : VGi K) (c : Int64) {i : Nat} (hi : i < 8) : ui (cfN c K.1 i) < 256 := by
  unfold cfN
  by_cases h : ib (K.1 i) 7 = true
  · rw [fi_pos h]; exact (I i hi).2
  · rw [fi_neg h]; exact cfW_lt _
theorem cfK_i {K : Rg} (I : VGi K) (c : Int64) : VGi (cfK c K) := fun i hi => ⟨(I i hi).1, by
  show ui (mix K.1 (cfN c K.1) 8 i) < 256
  unfold mix
  rw [if_pos hi]
  exact cfN_lt I c hi⟩
section Cg
variable {g w : Nat} {K : Rg}
theorem X87_configure {r : Nat} {M : FM} (c : Int64) (i : Nat) : GX87_configure r (GX102_bits c (Int32.ofInt 8 * nI i) (Int32.ofInt 8) M).1.toInt32 M = fm_sI M 280 r 0 (cfW (byt c i)) := by
  unfold GX87_configure GX87_configure_0 GX87_configure_22 GX102_bits GX102_bits_0
  dsimp only
  rw [low159, ← fi_ap (fun z => fm_sI M 280 r 0 z), cfW_c]
  rfl
theorem X86_configure_L (I : VGi K) (c : Int64) : ∀ (d i J : Nat) (M : FM), Ty M → fm_is M 90 90 g = true → StG g M → OdS M → VG0 g M (mix K.1 (cfN c K.1) i, K.2) → i + d = 8 → d < J →
    ∃ M', FX86_configure_L2 fN J g c (nI i) M = some M' ∧ Ty M' ∧ FrG g M M' ∧ VGc g M' (cfK c K) ∧ M'.1 285 g 0 = M.1 285 g 0 + Int32.ofInt 1 := by
  intro d
  induction d with
  | zero =>
    intro i J M Tm n S O V hi hJ
    obtain ⟨J, rfl⟩ : ∃ x, J = x + 1 := ⟨J - 1, by omega⟩
    have e : i = 8 := by omega
    subst e
    have h8 : Int32.ofInt 8 ≤ nI 8 := Int32.le_refl _
    obtain ⟨M', ⟨a1, a2⟩, a3, a4, a5, a6⟩ := X86_lay (cfK_i I c) Tm n S O V
    refine ⟨M', ?_, a3, a4, a5, a6⟩
    show FX86_configure_2 fN (FX86_configure_L2 fN J) g c (nI 8) M = _
    rw [(gX86_configure_2 (FX86_configure_L2 fN J) g c (nI 8) M Tm n ⟨fun _ => ⟨a1, trivial⟩, fun q => absurd h8 q⟩).1]
    unfold GX86_configure_2
    rw [fi_pos h8, a2]
    rfl
  | succ d ih =>
    intro i J M Tm n S O V hi hJ
    obtain ⟨J, rfl⟩ : ∃ x, J = x + 1 := ⟨J - 1, by omega⟩
    have h8 : ¬ Int32.ofInt 8 ≤ nI i := fun q => by have := (nge (by omega) 8 (by decide)).mp q; omega
    have inn : fm_in M (M.2.2 284 g 0) (nI i) = true := in_nI (tL_284 Tm.1 n) (by omega) (by decide)
    have ci : M.1 280 (rgn g i M) 0 = K.1 i := by
      rw [(V i (by omega)).1]
      show mix K.1 (cfN c K.1) i i = K.1 i
      unfold mix
      rw [if_neg (Nat.lt_irrefl i)]
    have G0 := (gX86_configure_2 (FX86_configure_L2 fN J) g c (nI i) M Tm n ⟨fun q => absurd q h8, fun _ => by
      dsimp only
      rw [o_cl (by omega), show M.2.2 3 (M.2.2 284 g 0) i = rgn g i M from rfl, X87_isLocked ci]
      exact ⟨inn, fun _ => ⟨inn, trivial⟩, fun _ => trivial⟩⟩).1
    unfold GX86_configure_2 GX86_configure_40 at G0
    dsimp only at G0
    rw [o_cl (by omega), show M.2.2 3 (M.2.2 284 g 0) i = rgn g i M from rfl, fi_neg h8, X87_isLocked ci] at G0
    dsimp only at G0
    rw [fi_bz, show M.2.2 3 (M.2.2 284 g 0) i = rgn g i M from rfl, show (GX102_bits c (Int32.ofInt 8 * nI i) (Int32.ofInt 8) M).2 = M from rfl, X87_configure, up_1 (by omega)] at G0
    have mx : ∀ {v}, v = cfN c K.1 i → mix (mix K.1 (cfN c K.1) i) (fun _ => v) 0 = mix K.1 (cfN c K.1) i := fun _ => by
      funext j
      unfold mix
      rw [if_neg (Nat.not_lt_zero j)]
    show ∃ M', FX86_configure_2 fN (FX86_configure_L2 fN J) g c (nI i) M = some M' ∧ _
    by_cases h : ib (K.1 i) 7 = true
    · rw [fi_pos h] at G0
      obtain ⟨X, x1, x2, x3, x4, x5⟩ := ih (i + 1) J M Tm n S O (fun j hj => ⟨by
        rw [(V j hj).1]
        show mix K.1 (cfN c K.1) i j = mix K.1 (cfN c K.1) (i + 1) j
        unfold mix
        by_cases e : j = i
        · subst e
          rw [if_neg (Nat.lt_irrefl j), if_pos (by omega)]
          unfold cfN
          rw [fi_pos h]
        · by_cases q : j < i
          · rw [if_pos q, if_pos (by omega)]
          · rw [if_neg q, if_neg (by omega)], (V j hj).2⟩) (by omega) (by omega)
      exact ⟨X, G0.trans x1, x2, x3, x4, x5⟩
    · rw [fi_neg h] at G0
      have fr : FrG g M (fm_sI M 280 (rgn g i M) 0 (cfW (byt c i))) := frG_I (frG_r g M) (by omega)
      obtain ⟨X, x1, x2, x3, x4, x5⟩ := ih (i + 1) J (fm_sI M 280 (rgn g i M) 0 (cfW (byt c i))) ⟨Tm.1, tyb_sI rfl Tm.2⟩ (by exact n) S (fun k hk => by rw [rIf (by decide)]; exact O k hk) (fun j hj => ⟨by
        show (fm_sI M 280 (rgn g i M) 0 (cfW (byt c i))).1 280 (rgn g j M) 0 = mix K.1 (cfN c K.1) (i + 1) j
        by_cases e : j = i
        · subst e
          rw [rI, if_pos ⟨rfl, rfl, rfl⟩]
          unfold mix cfN
          rw [if_pos (by omega), fi_neg h]
        · rw [rI, if_neg (fun q => e (S _ _ hj (by omega) q.2.1)), (V j hj).1]
          show mix K.1 (cfN c K.1) i j = mix K.1 (cfN c K.1) (i + 1) j
          unfold mix
          by_cases q : j < i
          · rw [if_pos q, if_pos (by omega)]
          · rw [if_neg q, if_neg (by omega)], (V j hj).2⟩) (by omega) (by omega)
      exact ⟨X, G0.trans x1, x2, frG_t fr x3, x4, by rw [x5, rIf (by decide)]⟩
theorem X86_configure (I : VGi K) (c : Int64) {M : FM} (Tm : Ty M) (n : fm_is M 90 90 g = true) (S : StG g M) (O : OdS M) (V : VG0 g M K) :
    ∃ M', (HX86_configure g c M ∧ GX86_configure g c M = M') ∧ Ty M' ∧ FrG g M M' ∧ VGc g M' (cfK c K) ∧ M'.1 285 g 0 = M.1 285 g 0 + Int32.ofInt 1 := by
  obtain ⟨M', e, T', fr, v, x⟩ := X86_configure_L I c 8 0 fN M Tm n S O V rfl (by decide)
  have G0 := (gX86_configure_0 (FX86_configure_L2 fN fN) g c M Tm).1
  exact ⟨M', op_of (o := FX86_configure fN g c M) (G0.trans e) ⟨T', frG_ext fr⟩, T', fr, v, x⟩
theorem X101_setConfigs_L (I : VGi K) (c : Int64) : ∀ (d i J : Nat) (M : FM), Ty M → fm_is M 101 101 w = true → VGt w M (mix K.1 (cfN c K.1) i, K.2) → i + d = 8 → d < J →
    ∃ M', FX101_setConfigs_L7 fN J w c (nI i) M = some M' ∧ Ty M' ∧ FrWk w M M' ∧ VGt w M' (cfK c K) := by
  intro d
  induction d with
  | zero =>
    intro i J M Tm n V hi hJ
    obtain ⟨J, rfl⟩ : ∃ x, J = x + 1 := ⟨J - 1, by omega⟩
    have e : i = 8 := by omega
    subst e
    have h8 : Int32.ofInt 8 ≤ nI 8 := Int32.le_refl _
    refine ⟨M, ?_, Tm, frWk_r w M, V⟩
    show FX101_setConfigs_7 fN (FX101_setConfigs_L7 fN J) w c (nI 8) M = _
    rw [(gX101_setConfigs_7 (FX101_setConfigs_L7 fN J) w c (nI 8) M Tm n ⟨fun _ => trivial, fun q => absurd h8 q⟩).1]
    unfold GX101_setConfigs_7
    rw [fi_pos h8]
    rfl
  | succ d ih =>
    intro i J M Tm n V hi hJ
    obtain ⟨J, rfl⟩ : ∃ x, J = x + 1 := ⟨J - 1, by omega⟩
    have h8 : ¬ Int32.ofInt 8 ≤ nI i := fun q => by have := (nge (by omega) 8 (by decide)).mp q; omega
    have inn : fm_in M (M.2.2 427 w 0) (nI i) = true := in_nI (tL_427 Tm.1 n) (by omega) (by decide)
    have h7 := X101_has n Tm V (i := i) (by omega) (nI 7)
    have mi : mix K.1 (cfN c K.1) i i = K.1 i := by
      unfold mix
      rw [if_neg (Nat.lt_irrefl i)]
    rw [bit_1 (by decide), show (mix K.1 (cfN c K.1) i, K.2).1 i = K.1 i from mi, show (bz (ib (K.1 i) 7 = true) = Int32.ofInt 1) = (ib (K.1 i) 7 = true) from propext bz_i1] at h7
    obtain ⟨a1, a2⟩ := h7
    have st : ∀ x, x = cfW (byt c i) → HX101_setConfigs_43 w c (nI i) x M ∧ GX101_setConfigs_43 w c (nI i) x M = .inl (w, c, nI (i + 1), fm_sI M 3 (M.2.2 427 w 0) i (cfN c K.1 i)) := fun x hx => by
      have hv : M.1 3 (M.2.2 427 w 0) i = K.1 i := by rw [V.1 i (by omega)]; exact mi
      constructor
      · unfold HX101_setConfigs_43 HX101_setConfigs_71
        rw [show Int32.ofInt 7 = nI 7 from rfl]
        dsimp only
        rw [a2]
        exact ⟨a1, fun _ => ⟨inn, trivial⟩, fun _ => ⟨inn, inn, trivial⟩⟩
      · unfold GX101_setConfigs_43 GX101_setConfigs_71
        rw [show Int32.ofInt 7 = nI 7 from rfl]
        dsimp only
        rw [a2]
        dsimp only
        rw [fi_bz, o_cl (by omega), up_1 (by omega), hv]
        unfold cfN
        by_cases h : ib (K.1 i) 7 = true
        · rw [fi_pos h, fi_pos h]
        · rw [fi_neg h, fi_neg h, hx]
    have cw : cfW (byt c i) = fi ((byt c i &&& Int32.ofInt 159) &&& Int32.ofInt 3 = Int32.ofInt 2) ((byt c i &&& Int32.ofInt 159) - Int32.ofInt 2) (byt c i &&& Int32.ofInt 159) := rfl
    have G0 : FX101_setConfigs_7 fN (FX101_setConfigs_L7 fN J) w c (nI i) M = FX101_setConfigs_L7 fN J w c (nI (i + 1)) (fm_sI M 3 (M.2.2 427 w 0) i (cfN c K.1 i)) := by
      by_cases h : (byt c i &&& Int32.ofInt 159) &&& Int32.ofInt 3 = Int32.ofInt 2
      · have hx := cw
        rw [fi_pos h] at hx
        obtain ⟨s1, s2⟩ := st _ hx.symm
        rw [(gX101_setConfigs_7 (FX101_setConfigs_L7 fN J) w c (nI i) M Tm n ⟨fun q => absurd q h8, fun _ => ⟨fun _ => s1, fun q => absurd h q⟩⟩).1]
        unfold GX101_setConfigs_7
        dsimp only
        rw [fi_neg h8, fi_pos (show (c.toUInt64 >>> ((Int32.ofInt 8 * nI i).toInt64.toUInt64 &&& Int64.toUInt64 63)).toInt64.toInt32 &&& Int32.ofInt 159 &&& Int32.ofInt 3 = Int32.ofInt 2 from h),
          show GX101_setConfigs_43 w c (nI i) (((c.toUInt64 >>> ((Int32.ofInt 8 * nI i).toInt64.toUInt64 &&& Int64.toUInt64 63)).toInt64.toInt32 &&& Int32.ofInt 159) - Int32.ofInt 2) M = _ from s2]
        rfl
      · have hx := cw
        rw [fi_neg h] at hx
        obtain ⟨s1, s2⟩ := st _ hx.symm
        rw [(gX101_setConfigs_7 (FX101_setConfigs_L7 fN J) w c (nI i) M Tm n ⟨fun q => absurd q h8, fun _ => ⟨fun q => absurd q h, fun _ => s1⟩⟩).1]
        unfold GX101_setConfigs_7
        dsimp only
        rw [fi_neg h8, fi_neg (show ¬ (c.toUInt64 >>> ((Int32.ofInt 8 * nI i).toInt64.toUInt64 &&& Int64.toUInt64 63)).toInt64.toInt32 &&& Int32.ofInt 159 &&& Int32.ofInt 3 = Int32.ofInt 2 from h),
          show GX101_setConfigs_43 w c (nI i) ((c.toUInt64 >>> ((Int32.ofInt 8 * nI i).toInt64.toUInt64 &&& Int64.toUInt64 63)).toInt64.toInt32 &&& Int32.ofInt 159) M = _ from s2]
        rfl
    have n1 : fm_is M 901 901 (M.2.2 427 w 0) = true := tN_427 Tm.1 n
    have T' : Ty (fm_sI M 3 (M.2.2 427 w 0) i (cfN c K.1 i)) := ⟨Tm.1, tyb_s3 (t := 901) rfl Tm.2 n1⟩
    obtain ⟨X, x1, x2, x3, x4⟩ := ih (i + 1) J (fm_sI M 3 (M.2.2 427 w 0) i (cfN c K.1 i)) T' (by exact n) ⟨fun j hj => by
      show (fm_sI M 3 (M.2.2 427 w 0) i (cfN c K.1 i)).1 3 (M.2.2 427 w 0) j = mix K.1 (cfN c K.1) (i + 1) j
      by_cases e : j = i
      · rw [rI, if_pos ⟨rfl, rfl, e⟩, e]
        unfold mix
        rw [if_pos (by omega)]
      · rw [rI, if_neg (fun q => e q.2.2), V.1 j hj]
        show mix K.1 (cfN c K.1) i j = mix K.1 (cfN c K.1) (i + 1) j
        unfold mix
        by_cases q : j < i
        · rw [if_pos q, if_pos (by omega)]
        · rw [if_neg q, if_neg (by omega)], V.2⟩ (by omega) (by omega)
    exact ⟨X, G0.trans x1, x2, frWk_t (frWk_A (frWk_r w M)) x3, x4⟩
theorem X101_setConfigs (I : VGi K) (c : Int64) {M : FM} (Tm : Ty M) (n : fm_is M 101 101 w = true) (V : VGt w M K) :
    ∃ M', (HX101_setConfigs w c M ∧ GX101_setConfigs w c M = M') ∧ Ty M' ∧ FrWk w M M' ∧ VGt w M' (cfK c K) := by
  have fr : FrWk w M (fm_sI M 422 w 0 (Int32.ofInt 0)) := frWk_I (frWk_r w M) (by decide)
  have T' : Ty (fm_sI M 422 w 0 (Int32.ofInt 0)) := ⟨Tm.1, tyb_sI rfl Tm.2⟩
  have V' : VGt w (fm_sI M 422 w 0 (Int32.ofInt 0)) K := frWk_V fr (sI_3 (by decide)) rfl V
  have G0 := (gX101_setConfigs_0 (FX101_setConfigs_L7 fN fN) w c M Tm n).1
  obtain ⟨M', e, t', f', v'⟩ := X101_setConfigs_L I c 8 0 fN _ T' (by exact n) V' rfl (by decide)
  exact ⟨M', op_of (o := FX101_setConfigs fN w c M) (G0.trans e) ⟨t', frWk_ext (frWk_t fr f')⟩, t', frWk_t fr f', v'⟩
end Cg
