/-! floats: the twin's object, what may change of it; packing; rounding -/
set_option maxRecDepth 100000
theorem sI_same (M : FM) (f a i : Nat) (v w : Int32) : fm_sI (fm_sI M f a i v) f a i w = fm_sI M f a i w := by
  unfold fm_sI
  congr 1
  funext f' a' i'
  show (if f' = f ∧ a' = a ∧ i' = i then w else if f' = f ∧ a' = a ∧ i' = i then v else M.1 f' a' i') = if f' = f ∧ a' = a ∧ i' = i then w else M.1 f' a' i'
  by_cases h : f' = f ∧ a' = a ∧ i' = i
  · rw [if_pos h, if_pos h]
  · rw [if_neg h, if_neg h, if_neg h]
theorem sI_at (M : FM) (f a i : Nat) (v : Int32) : (fm_sI M f a i v).1 f a i = v := if_pos ⟨rfl, rfl, rfl⟩
def flL : List Nat := [367, 372, 373, 374, 375, 376, 377, 378, 379, 380]
/-- the twin's floats: an object, its rows apart, its numbers -/
def FlO (f : Nat) (M : FM) : Prop := Ty M ∧ fm_is M 96 96 f = true ∧ (∀ g, g ∈ flL → ∀ g', g' ∈ flL → g ≠ g' → M.2.2 g f 0 ≠ M.2.2 g' f 0) ∧
  (M.1 3 (M.2.2 372 f 0) 0 = Int32.ofInt 23 ∧ M.1 3 (M.2.2 372 f 0) 1 = Int32.ofInt 52) ∧
  (M.1 3 (M.2.2 373 f 0) 0 = Int32.ofInt 127 ∧ M.1 3 (M.2.2 373 f 0) 1 = Int32.ofInt 1023) ∧
  (M.1 3 (M.2.2 374 f 0) 0 = Int32.ofInt 255 ∧ M.1 3 (M.2.2 374 f 0) 1 = Int32.ofInt 2047)
/-- places that are only worked with, flags and the mark of writing -/
def scI (f : Nat) (M : FM) (g b : Nat) : Prop := (b = f ∧ (g = 368 ∨ g = 371 ∨ g = 381 ∨ g = 382 ∨ g = 383 ∨ g = 385)) ∨ (g = 3 ∧ (b = M.2.2 375 f 0 ∨ b = M.2.2 376 f 0 ∨ b = M.2.2 378 f 0 ∨ b = M.2.2 379 f 0 ∨ b = M.2.2 380 f 0))
def scL (f : Nat) (M : FM) (g b : Nat) : Prop := (b = f ∧ g = 384) ∨ (g = 3 ∧ b = M.2.2 377 f 0)
def FrF (f : Nat) (M N : FM) : Prop := Ty N ∧ N.2.2 = M.2.2 ∧ (∀ g b i, ¬ scI f M g b → N.1 g b i = M.1 g b i) ∧ (∀ g b i, ¬ scL f M g b → N.2.1 g b i = M.2.1 g b i)
/-- besides, flags are raised -/
def Rs (f fl : Nat) (M N : FM) : Prop := FrF f M N ∧ N.1 368 f 0 = M.1 368 f 0 ||| nI fl ∧ N.1 371 f 0 = fi (fl = 0) (M.1 371 f 0) (Int32.ofInt 1)
section Fo
variable {f fl fl' t : Nat} {M N X : FM}
theorem scI_e (h : FrF f M N) {g b : Nat} : scI f N g b ↔ scI f M g b := by unfold scI; rw [h.2.1]
theorem scL_e (h : FrF f M N) {g b : Nat} : scL f N g b ↔ scL f M g b := by unfold scL; rw [h.2.1]
theorem frF_r (T : Ty M) : FrF f M M := ⟨T, rfl, fun _ _ _ _ => rfl, fun _ _ _ _ => rfl⟩
theorem frF_t (h : FrF f M N) (k : FrF f N X) : FrF f M X :=
  ⟨k.1, k.2.1.trans h.2.1, fun g b i q => (k.2.2.1 g b i (fun z => q ((scI_e h).mp z))).trans (h.2.2.1 g b i q), fun g b i q => (k.2.2.2 g b i (fun z => q ((scL_e h).mp z))).trans (h.2.2.2 g b i q)⟩
theorem frF_is (h : FrF f M N) {lo hi x : Nat} (n : fm_is M lo hi x = true) : fm_is N lo hi x = true := by
  unfold fm_is at *
  rw [h.2.1]
  exact n
theorem frF_ext (h : FrF f M N) : Ext M N := fun x _ => by
  rw [h.2.1]
  exact ⟨rfl, rfl⟩
theorem fl_c (o : FlO f M) {g : Nat} (hg : g ∈ [372, 373, 374, 367]) {c : Nat} (hc : c = 3) : ¬ scI f M c (M.2.2 g f 0) ∧ ¬ scL f M c (M.2.2 g f 0) := by
  subst hc
  have d := o.2.2.1
  have hg2 : g ∈ flL := by simp only [List.mem_cons, List.not_mem_nil, or_false] at hg; unfold flL; simp only [List.mem_cons, List.not_mem_nil, or_false]; omega
  have ne : ∀ k, k ∈ [375, 376, 377, 378, 379, 380] → M.2.2 g f 0 ≠ M.2.2 k f 0 := fun k hk => d g hg2 k (by simp only [List.mem_cons, List.not_mem_nil, or_false] at hk; unfold flL; simp only [List.mem_cons, List.not_mem_nil, or_false]; omega) (by simp only [List.mem_cons, List.not_mem_nil, or_false] at hg hk; omega)
  refine ⟨fun q => ?_, fun q => ?_⟩
  · rcases q with q | q
    · omega
    · rcases q.2 with z | z | z | z | z
      · exact ne 375 (by decide) z
      · exact ne 376 (by decide) z
      · exact ne 378 (by decide) z
      · exact ne 379 (by decide) z
      · exact ne 380 (by decide) z
  · rcases q with q | q
    · omega
    · exact ne 377 (by decide) q.2
theorem frF_o (o : FlO f M) (h : FrF f M N) : FlO f N := by
  have k : ∀ g, g ∈ [372, 373, 374, 367] → ∀ i, N.1 3 (M.2.2 g f 0) i = M.1 3 (M.2.2 g f 0) i := fun g hg i => h.2.2.1 3 _ i (fl_c o hg rfl).1
  obtain ⟨_, a2, a3, a4, a5, a6⟩ := o
  refine ⟨h.1, frF_is h a2, ?_, ?_, ?_, ?_⟩
  · rw [h.2.1]
    exact a3
  · rw [h.2.1, k 372 (by decide), k 372 (by decide)]
    exact a4
  · rw [h.2.1, k 373 (by decide), k 373 (by decide)]
    exact a5
  · rw [h.2.1, k 374 (by decide), k 374 (by decide)]
    exact a6
theorem fl_fr (o : FlO f M) (ht : t ≤ 1) : M.1 3 (M.2.2 372 f 0) t = Int32.ofInt (fF t) := by
  rcases (show t = 0 ∨ t = 1 by omega) with e | e <;> subst e
  · exact o.2.2.2.1.1
  · exact o.2.2.2.1.2
theorem fl_sh (o : FlO f M) (ht : t ≤ 1) : M.1 3 (M.2.2 373 f 0) t = Int32.ofInt (fG t) := by
  rcases (show t = 0 ∨ t = 1 by omega) with e | e <;> subst e
  · exact o.2.2.2.2.1.1
  · exact o.2.2.2.2.1.2
theorem fl_gr (o : FlO f M) (ht : t ≤ 1) : M.1 3 (M.2.2 374 f 0) t = Int32.ofInt ((2 * fG t + 1 : Nat) : Int) := by
  rcases (show t = 0 ∨ t = 1 by omega) with e | e <;> subst e
  · exact o.2.2.2.2.2.1
  · exact o.2.2.2.2.2.2
theorem or_n0 (x : Int32) : x ||| nI 0 = x := by
  apply ui_inj
  rw [ui_or, ui_nI]
  exact Nat.or_zero _
theorem or_nn {a b : Nat} (ha : a < 4294967296) (hb : b < 4294967296) : nI a ||| nI b = nI (a ||| b) := by
  apply ui_inj
  have h : a ||| b < 2 ^ 32 := Nat.or_lt_two_pow ha hb
  rw [ui_or, ni_u ha, ni_u hb, ni_u h]
theorem or_as (x y z : Int32) : x ||| y ||| z = x ||| (y ||| z) := by
  apply ui_inj
  rw [ui_or, ui_or, ui_or, ui_or, Nat.or_assoc]
theorem rs_r (T : Ty M) : Rs f 0 M M := ⟨frF_r T, (or_n0 _).symm, (fi_pos rfl).symm⟩
theorem rs_t (h : Rs f fl M N) (k : Rs f fl' N X) (a : fl < 4294967296) (b : fl' < 4294967296) : Rs f (fl ||| fl') M X := by
  refine ⟨frF_t h.1 k.1, ?_, ?_⟩
  · rw [k.2.1, h.2.1, or_as, or_nn a b]
  · rw [k.2.2, h.2.2]
    by_cases q : fl' = 0
    · rw [fi_pos q, q, Nat.or_zero]
    · rw [fi_neg q, fi_neg (fun z => q (Nat.or_eq_zero_iff.mp z).2)]
theorem rs_0t (h : Rs f 0 M N) (k : Rs f fl N X) : Rs f fl M X := by
  refine ⟨frF_t h.1 k.1, ?_, ?_⟩
  · rw [k.2.1, h.2.1, or_n0]
  · rw [k.2.2, h.2.2, fi_pos rfl]
theorem rs_t0 (h : Rs f fl M N) (k : Rs f 0 N X) : Rs f fl M X := by
  refine ⟨frF_t h.1 k.1, ?_, ?_⟩
  · rw [k.2.1, h.2.1, or_n0]
  · rw [k.2.2, h.2.2, fi_pos rfl]
/-- a row of digits is worked with -/
theorem rs_a {a : Nat} (ha : a = M.2.2 379 f 0 ∨ a = M.2.2 380 f 0) (h : AOk a M N) : Rs f 0 M N :=
  ⟨⟨h.1, by rw [h.2.1], fun g b i q => h.2.2 g b i (fun z => q (Or.inr ⟨z.1, by rw [z.2]; rcases ha with e | e <;> rw [e] <;> simp⟩)), fun g b i _ => by rw [h.2.1]⟩,
   by rw [h.2.2 368 f 0 (fun q => by omega), or_n0], by rw [h.2.2 371 f 0 (fun q => by omega), fi_pos rfl]⟩
/-- a number is kept: scale, minus -/
theorem rs_i {g : Nat} {v : Int32} (hg : g = 382 ∨ g = 383) (T : Ty M) : Rs f 0 M (fm_sI M g f 0 v) :=
  ⟨⟨⟨T.1, tyb_sI (by rcases hg with e | e <;> rw [e] <;> rfl) T.2⟩, rfl, fun g' b i q => if_neg (fun z => q (Or.inl ⟨z.2.1, by omega⟩)), fun _ _ _ _ => rfl⟩,
   by rw [or_n0]; exact oI (fun q => by omega), by rw [fi_pos rfl]; exact oI (fun q => by omega)⟩
theorem rs_m {c : Prop} (T : Ty M) : Rs f 0 M (fm_sI M 381 f 0 (bz c)) :=
  ⟨⟨⟨T.1, tyb_sIb (by rfl) T.2 (bz_z c)⟩, rfl, fun g' b i q => if_neg (fun z => q (Or.inl ⟨z.2.1, by omega⟩)), fun _ _ _ _ => rfl⟩,
   by rw [or_n0]; exact oI (fun q => by omega), by rw [fi_pos rfl]; exact oI (fun q => by omega)⟩
theorem rs_u {U : Int64} {c : Prop} (T : Ty M) : Rs f 0 M (uS f U (bz c) M) :=
  ⟨⟨uS_ty T, rfl, fun g' b i q => if_neg (fun z => q (Or.inl ⟨z.2.1, by omega⟩)), fun g' b i q => if_neg (fun z => q (Or.inl ⟨z.2.1, by omega⟩))⟩,
   by rw [or_n0]; exact uS_o (fun q => by omega), by rw [fi_pos rfl]; exact uS_o (fun q => by omega)⟩
theorem rs_l {U : Int64} (T : Ty M) : Rs f 0 M (fm_sL M 384 f 0 U) :=
  ⟨⟨ty_eq rfl rfl T, rfl, fun g' b i q => rfl, fun g' b i q => if_neg (fun z => q (Or.inl ⟨z.2.1, by omega⟩))⟩, (or_n0 _).symm, (fi_pos rfl).symm⟩
theorem X99_raiseFlags (T : Ty M) (h : fl ≠ 0) : Rs f fl M (GX99_raiseFlags f (nI fl) M) := by
  unfold GX99_raiseFlags GX99_raiseFlags_0
  dsimp only
  refine ⟨⟨⟨T.1, tyb_sIb (by rfl) (tyb_sI (by rfl) T.2) (Or.inr rfl)⟩, rfl, fun g' b i q => ?_, fun _ _ _ _ => rfl⟩, ?_, ?_⟩
  · rw [rI, if_neg (fun z => q (Or.inl ⟨z.2.1, by omega⟩)), rI, if_neg (fun z => q (Or.inl ⟨z.2.1, by omega⟩))]
  · rw [rI, if_neg (fun z => by omega), sI_at]
  · rw [sI_at, fi_neg h]
theorem bz_l (sg : Bool) : (bz (sg = true)).toInt64 = lN (if sg = true then 1 else 0) := by
  cases sg
  · rw [bz_f (by decide)]
    rfl
  · rw [bz_t rfl]
    rfl
theorem X99_pack (ht : t ≤ 1) {sg : Bool} {e F : Nat} (he : e < 2 ^ (fS t - fF t)) (hF : F < 2 ^ fF t ∨ (e = 0 ∧ F < 2 ^ fS t)) : GX99_pack (bz (sg = true)) (lN e) (lN F) (nI t) M = (lN (pk t sg e F), M) := by
  have hs : (if sg = true then 1 else 0) ≤ 1 := by split <;> omega
  rcases (show t = 0 ∨ t = 1 by omega) with q | q <;> subst q
  · have he : e < 256 := he
    have hF : F < 8388608 ∨ (e = 0 ∧ F < 2147483648) := hF
    unfold GX99_pack GX99_pack_0 GX99_pack_19 GX99_pack_37
    rw [fi_neg (show ¬ nI 0 = Int32.ofInt 1 by decide), fi_neg (show ¬ nI 0 = Int32.ofInt 1 by decide), bz_l]
    refine congrArg (fun x => (x, M)) (ul_inj ?_)
    unfold pk
    rw [show fS 0 = 31 from rfl, show fF 0 = 23 from rfl, show (if sg = true then 2 ^ 31 else 0) = (if sg = true then 1 else 0) * 2 ^ 31 by split <;> omega]
    generalize (if sg = true then 1 else 0) = s at *
    rw [ul_or, ul_or, ul_shl, ul_shl, l_big (by omega), l_big (by omega), l_big (n := F) (by omega), l_big (by omega), show ui (Int32.ofInt 31) % 64 = 31 from rfl, show ui (Int32.ofInt 23) % 64 = 23 from rfl, Nat.mod_eq_of_lt (by omega), Nat.mod_eq_of_lt (by omega)]
    have e1 : s * 2 ^ 31 ||| e * 2 ^ 23 = s * 2 ^ 31 + e * 2 ^ 23 := by
      rw [← Nat.shiftLeft_eq s 31]
      exact (Nat.shiftLeft_add_eq_or_of_lt (show e * 2 ^ 23 < 2 ^ 31 by omega) s).symm
    rw [e1]
    rcases hF with hF | hF
    · rw [show s * 2 ^ 31 + e * 2 ^ 23 = (s * 256 + e) <<< 23 by rw [Nat.shiftLeft_eq]; omega]
      exact (Nat.shiftLeft_add_eq_or_of_lt (show F < 2 ^ 23 by omega) _).symm
    · rw [hF.1, Nat.zero_mul, Nat.add_zero, ← Nat.shiftLeft_eq s 31]
      exact (Nat.shiftLeft_add_eq_or_of_lt (show F < 2 ^ 31 by omega) _).symm
  · have he : e < 2048 := he
    have hF : F < 4503599627370496 ∨ (e = 0 ∧ F < 9223372036854775808) := hF
    unfold GX99_pack GX99_pack_0 GX99_pack_19 GX99_pack_37
    rw [fi_pos (show nI 1 = Int32.ofInt 1 from rfl), fi_pos (show nI 1 = Int32.ofInt 1 from rfl), bz_l]
    refine congrArg (fun x => (x, M)) (ul_inj ?_)
    unfold pk
    rw [show fS 1 = 63 from rfl, show fF 1 = 52 from rfl, show (if sg = true then 2 ^ 63 else 0) = (if sg = true then 1 else 0) * 2 ^ 63 by split <;> omega]
    generalize (if sg = true then 1 else 0) = s at *
    rw [ul_or, ul_or, ul_shl, ul_shl, l_big (by omega), l_big (by omega), l_big (n := F) (by omega), l_big (by omega), show ui (Int32.ofInt 63) % 64 = 63 from rfl, show ui (Int32.ofInt 52) % 64 = 52 from rfl, Nat.mod_eq_of_lt (by omega), Nat.mod_eq_of_lt (by omega)]
    have e1 : s * 2 ^ 63 ||| e * 2 ^ 52 = s * 2 ^ 63 + e * 2 ^ 52 := by
      rw [← Nat.shiftLeft_eq s 63]
      exact (Nat.shiftLeft_add_eq_or_of_lt (show e * 2 ^ 52 < 2 ^ 63 by omega) s).symm
    rw [e1]
    rcases hF with hF | hF
    · rw [show s * 2 ^ 63 + e * 2 ^ 52 = (s * 2048 + e) <<< 52 by rw [Nat.shiftLeft_eq]; omega]
      exact (Nat.shiftLeft_add_eq_or_of_lt (show F < 2 ^ 52 by omega) _).symm
    · rw [hF.1, Nat.zero_mul, Nat.add_zero, ← Nat.shiftLeft_eq s 63]
      exact (Nat.shiftLeft_add_eq_or_of_lt (show F < 2 ^ 63 by omega) _).symm
end Fo
theorem cuU_lt {A k : Nat} {d : Int} (h : (bln A : Int) - d ≤ k) : cuU A d < 2 ^ k := by
  have hA := bln_lt A
  unfold cuU
  by_cases q : d ≤ 0
  · rw [if_pos q]
    refine Nat.lt_of_lt_of_le (Nat.mul_lt_mul_of_pos_right hA (Nat.two_pow_pos _)) ?_
    rw [← Nat.pow_add]
    exact Nat.pow_le_pow_right (by decide) (by omega)
  · rw [if_neg q, Nat.div_lt_iff_lt_mul (Nat.two_pow_pos _), ← Nat.pow_add]
    exact Nat.lt_of_lt_of_le hA (Nat.pow_le_pow_right (by decide) (by omega))
theorem rnU_le {md A k : Nat} {sg mo : Bool} {d : Int} (h : (bln A : Int) - d ≤ k) : rnU md sg A mo d ≤ 2 ^ k := by
  have := cuU_lt h
  unfold rnU
  split <;> omega
theorem fF_b {t : Nat} (ht : t ≤ 1) : fF t = 23 ∧ fG t = 127 ∧ fS t = 31 ∧ t = 0 ∨ fF t = 52 ∧ fG t = 1023 ∧ fS t = 63 ∧ t = 1 := by
  rcases (show t = 0 ∨ t = 1 by omega) with q | q <;> subst q
  · exact Or.inl ⟨rfl, rfl, rfl, rfl⟩
  · exact Or.inr ⟨rfl, rfl, rfl, rfl⟩
