/-! halves: the twin's bits; words put together on both sides -/
set_option maxRecDepth 100000
theorem X94_bits_L (c : Nat) (M : FM) (T : Ty M) (n_c : fm_is M 97 97 c = true) {hi lo : Nat} (h2 : hi < 32) : ∀ (m j : Nat), m < j → lo + m ≤ hi + 1 → lo ≤ hi →
    FX94_bits_L5 fN j c (nI lo) (nI (ui (M.1 387 c 0) % 2 ^ (hi + 1) / 2 ^ (lo + m))) (nI (lo + m) + Int32.ofInt (-1)) M = some (nI (fd (M.1 387 c 0) hi lo), M) := by
  intro m
  induction m with
  | zero =>
    intro j hj hm hlo
    obtain ⟨j, rfl⟩ : ∃ i, j = i + 1 := ⟨j - 1, by omega⟩
    show FX94_bits_5 fN (FX94_bits_L5 fN j) _ _ _ _ _ = _
    rw [(gX94_bits_5 _ _ _ _ _ M T n_c).1]
    unfold GX94_bits_5
    rw [fi_pos (show nI (lo + 0) + Int32.ofInt (-1) < nI lo from bits_lt (by omega))]
    rfl
  | succ m ih =>
    intro j hj hm hlo
    obtain ⟨j, rfl⟩ : ∃ i, j = i + 1 := ⟨j - 1, by omega⟩
    show FX94_bits_5 fN (FX94_bits_L5 fN j) _ _ _ _ _ = _
    rw [(gX94_bits_5 _ _ _ _ _ M T n_c).1]
    unfold GX94_bits_5
    rw [bits_k (by omega), fi_neg (bits_nlt (by omega))]
    show FX94_bits_L5 fN j c (nI lo) ((Int32.ofInt 2) * nI (ui (M.1 387 c 0) % 2 ^ (hi + 1) / 2 ^ (lo + (m + 1))) + (((M.1 387 c 0) >>> (nI (lo + m) &&& 31)) &&& Int32.ofInt 1)) (nI (lo + m) + Int32.ofInt (-1)) M = _
    rw [bits_v _ (by omega) h2]
    exact ih j (by omega) (by omega) hlo
theorem X94_bits (c : Nat) (a1 a2 : Int32) (M : FM) (T : Ty M) (n_c : fm_is M 97 97 c = true) {hi lo : Nat} (h2 : hi < 32) (h : lo ≤ hi) (e1 : ui a1 = hi) (e2 : ui a2 = lo) :
    HX94_bits c a1 a2 M ∧ GX94_bits c a1 a2 M = (nI (fd (M.1 387 c 0) hi lo), M) := by
  refine op_of ?_ ⟨T, ext_r _⟩
  show FX94_bits_0 fN (FX94_bits_L5 fN fN) c a1 a2 M = _
  rw [(gX94_bits_0 _ _ _ _ M T).1]
  show FX94_bits_L5 fN fN c a2 (Int32.ofInt 0) a1 M = _
  have k := X94_bits_L c M T n_c h2 (hi + 1 - lo) fN (by unfold fN; omega) (by omega) h
  have z : ui (M.1 387 c 0) % 2 ^ (hi + 1) / 2 ^ (lo + (hi + 1 - lo)) = 0 := by
    rw [show lo + (hi + 1 - lo) = hi + 1 by omega]
    exact Nat.div_eq_of_lt (Nat.mod_lt _ (pow_pos2 _))
  rw [z, show lo + (hi + 1 - lo) = hi + 1 by omega] at k
  have e3 : a1 = nI (hi + 1) + Int32.ofInt (-1) := by
    apply ui_inj
    rw [e1, ui_add, ui_nI]
    show hi = ((hi + 1) % 4294967296 + 4294967295) % 4294967296
    omega
  have e4 : a2 = nI lo := by
    apply ui_inj
    rw [e2, ui_nI]
    omega
  rw [e3, e4]
  exact k

section Wd
variable {c d f a b g : Nat} {i : Int32} {M : FM}
noncomputable def wI (c d f a : Nat) (i : Int32) : Int32 := nI (c + 128 * d + 4096 * f + 32768 * a + 1048576 * (ui i % 4096))
theorem and4095 (i : Int32) : i &&& Int32.ofInt 4095 = nI (ui i % 4096) := by
  apply ui_inj
  rw [ui_and, show ui (Int32.ofInt 4095) = 2 ^ 12 - 1 from rfl, Nat.and_two_pow_sub_one_eq_mod, ui_nI]
  omega
theorem X94_wordI : GX94_wordI (nI c) (nI d) (nI f) (nI a) i M = (wI c d f a i, M) := by
  unfold GX94_wordI GX94_wordI_0 wI
  rw [and4095, show Int32.ofInt 128 = nI 128 from rfl, show Int32.ofInt 4096 = nI 4096 from rfl, show Int32.ofInt 32768 = nI 32768 from rfl, show Int32.ofInt 1048576 = nI 1048576 from rfl, nI_m, nI_m, nI_m, nI_m, nI_a, nI_a, nI_a, nI_a]
theorem shl20 (i : Int32) : i <<< (Int32.ofInt 20 &&& 31) = nI (ui i % 4096) <<< (nI 20 &&& 31) := by
  apply ui_inj
  rw [ui_shl, ui_shl, ui_nI, ui_nI, show ui (Int32.ofInt 20) % 32 = 20 from rfl, show 20 % 4294967296 % 32 = 20 from rfl]
  omega
theorem X103_ofI (hc : c < 128) (hd : d < 32) (hf : f < 8) (ha : a < 32) : GX103_ofI (nI c) (nI d) (nI f) (nI a) i M = (wI c d f a i, M) := by
  have h4 : ui i % 4096 < 2 ^ 12 := Nat.mod_lt _ (by decide)
  unfold GX103_ofI GX103_ofI_0 wI
  rw [shl20, show Int32.ofInt 7 = nI 7 from rfl, show Int32.ofInt 12 = nI 12 from rfl, show Int32.ofInt 15 = nI 15 from rfl,
    or_s (m := 5) (by decide) hd (by decide) (by omega) (by omega), or_s (m := 3) (by decide) hf (by decide) (by omega) (by omega), or_s (m := 5) (by decide) ha (by decide) (by omega) (by omega), or_s (m := 12) (by decide) h4 (by decide) (by omega) (by omega)]
  refine Prod.ext ?_ rfl
  show nI _ = nI _
  congr 1
  omega
noncomputable def wS (c f a b : Nat) (i : Int32) : Int32 := nI (c + 128 * fd i 4 0 + 4096 * f + 32768 * a + 1048576 * b + 33554432 * fd i 11 5)
theorem X94_wordS : GX94_wordS (nI c) (nI f) (nI a) (nI b) i M = (wS c f a b i, M) := by
  have e1 : i &&& Int32.ofInt 31 = nI (fd i 4 0) := by
    apply ui_inj
    rw [ui_and, show ui (Int32.ofInt 31) = 2 ^ 5 - 1 from rfl, Nat.and_two_pow_sub_one_eq_mod, ui_nI]
    unfold fd
    omega
  have e2 : (i >>> (Int32.ofInt 5 &&& 31)) &&& Int32.ofInt 127 = nI (fd i 11 5) := by
    have h := ui_lt i
    apply ui_inj
    rw [ui_and, show ui (Int32.ofInt 127) = 2 ^ 7 - 1 from rfl, Nat.and_two_pow_sub_one_eq_mod, ui_nI]
    unfold fd
    by_cases q : ui i < 2147483648
    · rw [ui_sar0 _ _ q, show ui (Int32.ofInt 5) % 32 = 5 from rfl]
      omega
    · rw [ui_sar1 _ _ (by omega), show ui (Int32.ofInt 5) % 32 = 5 from rfl]
      omega
  unfold GX94_wordS GX94_wordS_0 wS
  rw [e1, e2, show Int32.ofInt 128 = nI 128 from rfl, show Int32.ofInt 4096 = nI 4096 from rfl, show Int32.ofInt 32768 = nI 32768 from rfl, show Int32.ofInt 1048576 = nI 1048576 from rfl, show Int32.ofInt 33554432 = nI 33554432 from rfl, nI_m, nI_m, nI_m, nI_m, nI_m, nI_a, nI_a, nI_a, nI_a, nI_a]
theorem X103_ofS (hc : c < 128) (hf : f < 8) (ha : a < 32) (hb : b < 32) : GX103_ofS (nI c) (nI f) (nI a) (nI b) i M = (wS c f a b i, M) := by
  have h5 : fd i 4 0 < 2 ^ 5 := fd_lt i (hi := 4) (lo := 0) (by decide)
  have h7 : fd i 11 5 < 2 ^ 7 := fd_lt i (hi := 11) (lo := 5) (by decide)
  unfold GX103_ofS GX103_ofS_0 wS
  rw [X103_bits i (Int32.ofInt 4) (Int32.ofInt 0) M (hi := 4) (lo := 0) (by decide) (by decide) rfl rfl]
  dsimp only
  rw [X103_bits i (Int32.ofInt 11) (Int32.ofInt 5) M (hi := 11) (lo := 5) (by decide) (by decide) rfl rfl]
  dsimp only
  generalize fd i 4 0 = u at *
  generalize fd i 11 5 = v at *
  rw [show Int32.ofInt 7 = nI 7 from rfl, show Int32.ofInt 12 = nI 12 from rfl, show Int32.ofInt 15 = nI 15 from rfl, show Int32.ofInt 20 = nI 20 from rfl, show Int32.ofInt 25 = nI 25 from rfl,
    or_s (m := 5) (by decide) h5 (by decide) (by omega) (by omega), or_s (m := 3) (by decide) hf (by decide) (by omega) (by omega), or_s (m := 5) (by decide) ha (by decide) (by omega) (by omega), or_s (m := 5) (by decide) hb (by decide) (by omega) (by omega), or_s (m := 7) (by decide) h7 (by decide) (by omega) (by omega)]
  refine Prod.ext ?_ rfl
  show nI _ = nI _
  congr 1
  omega
theorem X94_wordR (hb : b < 32) (hg : g < 128) : GX94_wordR (nI c) (nI d) (nI f) (nI a) (nI b) (nI g) M = (wI c d f a (nI (b + 32 * g)), M) := by
  unfold GX94_wordR GX94_wordR_0
  dsimp only
  rw [show Int32.ofInt 32 = nI 32 from rfl, nI_m, nI_a, X94_wordI]
theorem X103_ofR (hc : c < 128) (hd : d < 32) (hf : f < 8) (ha : a < 32) (hb : b < 32) (hg : g < 128) : GX103_ofR (nI c) (nI d) (nI f) (nI a) (nI b) (nI g) M = (wI c d f a (nI (b + 32 * g)), M) := by
  unfold GX103_ofR GX103_ofR_0 wI
  rw [show Int32.ofInt 7 = nI 7 from rfl, show Int32.ofInt 12 = nI 12 from rfl, show Int32.ofInt 15 = nI 15 from rfl, show Int32.ofInt 20 = nI 20 from rfl, show Int32.ofInt 25 = nI 25 from rfl,
    or_s (m := 5) (by decide) hd (by decide) (by omega) (by omega), or_s (m := 3) (by decide) hf (by decide) (by omega) (by omega), or_s (m := 5) (by decide) ha (by decide) (by omega) (by omega), or_s (m := 5) (by decide) hb (by decide) (by omega) (by omega), or_s (m := 7) (by decide) hg (by decide) (by omega) (by omega), ui_nI]
  refine Prod.ext ?_ rfl
  show nI _ = nI _
  congr 1
  omega
theorem X103_ofU (hd : d < 32) : GX103_ofU (Int32.ofInt 55) (nI d) (i <<< (Int32.ofInt 12 &&& 31)) M = (Int32.ofInt 55 + Int32.ofInt 128 * nI d + Int32.ofInt 4096 * i, M) := by
  have h20 : ui i % 1048576 < 2 ^ 20 := Nat.mod_lt _ (by decide)
  have e : (i <<< (Int32.ofInt 12 &&& 31)) &&& Int32.ofInt (-4096) = nI (ui i % 1048576) <<< (nI 12 &&& 31) := by
    have e2 : i <<< (Int32.ofInt 12 &&& 31) = nI (ui i % 1048576) <<< (nI 12 &&& 31) := by
      apply ui_inj
      rw [ui_shl, ui_shl, ui_nI, ui_nI, show ui (Int32.ofInt 12) % 32 = 12 from rfl, show 12 % 4294967296 % 32 = 12 from rfl]
      omega
    rw [e2]
    apply ib_ext
    intro j hj
    rw [ib_and, ib_shl (k := 12) _ _ rfl]
    by_cases q : 12 ≤ j
    · have : ib (Int32.ofInt (-4096)) j = true := by
        have key : ∀ j, j < 32 → 12 ≤ j → ib (Int32.ofInt (-4096)) j = true := by decide
        exact key j hj q
      rw [this]
      simp
    · rw [decide_eq_false q]
      simp
  unfold GX103_ofU GX103_ofU_0
  rw [e, show Int32.ofInt 55 = nI 55 from rfl, show Int32.ofInt 7 = nI 7 from rfl, or_s (m := 5) (by decide) hd (by decide) (by omega) (by omega), or_s (m := 20) (by decide) h20 (by decide) (by omega) (by omega)]
  refine Prod.ext ?_ rfl
  apply ui_inj
  rw [ui_nI, ui_add, ui_add, ui_mul, ui_mul, ui_nI, ui_nI, show ui (Int32.ofInt 128) = 128 from rfl, show ui (Int32.ofInt 4096) = 4096 from rfl]
  omega
end Wd
