/-! disks: registers are written on both sides -/
set_option maxRecDepth 100000
section Rw2
variable {d x dk q rq b r c : Nat} {Mc Mt M : FM}
theorem odd_v (v : Int32) : ((v &&& Int32.ofInt 1) = Int32.ofInt 1) = (ui v % 2 = 1) := propext (by
  have e : v &&& Int32.ofInt 1 = nI (ui v % 2) := ui_inj (by
    rw [ui_and, ui_nI, show ui (Int32.ofInt 1) = 2 ^ 1 - 1 from rfl, Nat.and_two_pow_sub_one_eq_mod]
    have := ui_lt v
    omega)
  rw [e, show Int32.ofInt 1 = nI 1 from rfl, nI_e (by omega) (by decide)])
theorem odd_w (v : Int32) : ((v - v / Int32.ofInt 2 * Int32.ofInt 2) = 0) = (¬ ui v % 2 = 1) := propext (by
  have d2 := Int32.toInt_div_of_ne_right v (Int32.ofInt 2) (by decide)
  rw [show (Int32.ofInt 2).toInt = 2 by decide, Int.tdiv_eq_ediv] at d2
  generalize v / Int32.ofInt 2 = w at *
  rw [ti, ti] at d2
  have l1 := ui_lt v
  have l2 := ui_lt w
  rw [eq_ui, ui_sub, ui_mul, show ui (Int32.ofInt 2) = 2 from rfl, show ui (0 : Int32) = 0 by decide]
  have s2 : Int.sign 2 = 1 := by decide
  rw [s2] at d2
  split at d2 <;> split at d2 <;> split at d2 <;> omega)
/-- the sizes that a queue may have -/
def szP (v : Int32) : Prop := v = nI 1 ∨ v = nI 2 ∨ v = nI 4 ∨ v = nI 8 ∨ v = nI 16
theorem sz_c {α : Type} {A B : α} (v : Int32) : fi (v ≤ 0) B (fi (Int32.ofInt 16 < v) B (fi ((v &&& (v - Int32.ofInt 1)) = 0) A B)) = fi (szP v) A B := by
  by_cases h0 : v ≤ 0
  · rw [fi_pos h0, fi_neg]
    intro z
    unfold szP at z
    rcases z with rfl | rfl | rfl | rfl | rfl <;> exact absurd h0 (by decide)
  rw [fi_neg h0]
  by_cases h1 : Int32.ofInt 16 < v
  · rw [fi_pos h1, fi_neg]
    intro z
    unfold szP at z
    rcases z with rfl | rfl | rfl | rfl | rfl <;> exact absurd h1 (by decide)
  rw [fi_neg h1]
  have hv : ∃ k, k ≤ 16 ∧ v = nI k := by
    refine ⟨ui v, ?_, (nI_ui v).symm⟩
    rw [le_ti, ti, show (0 : Int32).toInt = 0 by decide] at h0
    rw [lt_ti, show (Int32.ofInt 16).toInt = 16 by decide, ti] at h1
    have := ui_lt v
    split at h0 <;> split at h1 <;> omega
  obtain ⟨k, hk, rfl⟩ := hv
  have key : ∀ k : Nat, k ≤ 16 → ¬ (nI k ≤ 0) → (((nI k &&& (nI k - Int32.ofInt 1)) = 0) ↔ (k = 1 ∨ k = 2 ∨ k = 4 ∨ k = 8 ∨ k = 16)) := by decide
  refine fi_c ((key k hk h0).trans ?_)
  unfold szP
  rw [nI_e (by omega) (by decide), nI_e (by omega) (by decide), nI_e (by omega) (by decide), nI_e (by omega) (by decide), nI_e (by omega) (by decide)]
theorem sz_n {v : Int32} (h : szP v) : ∃ s, v = nI s ∧ 0 < s ∧ s ≤ 16 := by
  unfold szP at h
  rcases h with h | h | h | h | h
  · exact ⟨1, h, by decide, by decide⟩
  · exact ⟨2, h, by decide, by decide⟩
  · exact ⟨4, h, by decide, by decide⟩
  · exact ⟨8, h, by decide, by decide⟩
  · exact ⟨16, h, by decide, by decide⟩
/-- one half of an address -/
noncomputable def hfL (a : Int64) (up : Bool) (v : Int32) : Int64 := if up then (v.toInt64 <<< ((Int32.ofInt 32).toInt64 &&& 63)) ||| (a &&& Int64.ofInt 4294967295) else ((a.toUInt64 >>> ((Int32.ofInt 32).toInt64.toUInt64 &&& Int64.toUInt64 63)).toInt64 <<< ((Int32.ofInt 32).toInt64 &&& 63)) ||| (v.toInt64 &&& Int64.ofInt 4294967295)
theorem X20_half (a : Int64) (v : Int32) (M : FM) : GX20_half a (Int32.ofInt 0) v M = (hfL a false v, M) ∧ GX20_half a (Int32.ofInt 1) v M = (hfL a true v, M) := by
  constructor
  · unfold GX20_half GX20_half_0 GX20_half_36 hfL
    rw [fi_pos (show Int32.ofInt 0 = 0 from rfl)]
    rfl
  · have e : (a &&& Int64.ofInt 4294967295) ||| ((v.toInt64 &&& Int64.ofInt 4294967295) <<< ((Int32.ofInt 32).toInt64 &&& 63)) = (v.toInt64 <<< ((Int32.ofInt 32).toInt64 &&& 63)) ||| (a &&& Int64.ofInt 4294967295) := by
      apply ul_inj
      rw [ul_or, ul_or, Nat.or_comm]
      have e2 : ul ((v.toInt64 &&& Int64.ofInt 4294967295) <<< ((Int32.ofInt 32).toInt64 &&& 63)) = ul (v.toInt64 <<< ((Int32.ofInt 32).toInt64 &&& 63)) := by
        rw [ul_shl, ul_shl, ul_and, show ui (Int32.ofInt 32) % 64 = 32 from rfl, show ul (Int64.ofInt 4294967295) = 2 ^ 32 - 1 from rfl, Nat.and_two_pow_sub_one_eq_mod]
        have p : (2 : Nat) ^ 32 = 4294967296 := by decide
        rw [p]
        omega
      rw [e2]
    unfold GX20_half GX20_half_0 GX20_half_36 hfL
    rw [fi_neg (show ¬ Int32.ofInt 1 = 0 by decide), e, if_pos rfl]
/-- the queue's registers, the component's -/
theorem wq_c {o : Nat} (ho : o < 512) (v : Int32) (c4 : M.2.2 60 d 0 = q) : GX18_writeQueue d (nI o) v M =
    fi (o = 68) (fm_sI M 72 q 0 (bz (ui v % 2 = 1))) (fi (M.1 72 q 0 = 0) (fi (o = 56) (fm_sI M 71 q 0 (fi (szP v) v (M.1 71 q 0)))
      (fi (o < 128) M (fi (168 ≤ o) M (fi ((nI o &&& Int32.ofInt 8) = 0) (fi ((nI o &&& Int32.ofInt 4) = 0) (GX20_place q ((nI o - Int32.ofInt 128) >>> ((Int32.ofInt 4) &&& 31)) (Int32.ofInt 0) v M) (GX20_place q ((nI o - Int32.ofInt 128) >>> ((Int32.ofInt 4) &&& 31)) (Int32.ofInt 1) v M)) M)))) M) := by
  have E : ∀ k : Nat, k < 512 → (nI o = nI k) = (o = k) := fun k hk => nI_e (by omega) (by omega)
  have e68 : (nI o = Int32.ofInt 68) = (o = 68) := E 68 (by decide)
  have e56 : (nI o = Int32.ofInt 56) = (o = 56) := E 56 (by decide)
  have l1 : (nI o < Int32.ofInt 128) = (o < 128) := propext (by rw [show Int32.ofInt 128 = nI 128 from rfl, n_lt (by omega) (by decide)])
  have l2 : (Int32.ofInt 168 ≤ nI o) = (168 ≤ o) := propext (by rw [show Int32.ofInt 168 = nI 168 from rfl, n_le (by decide) (by omega)])
  unfold GX18_writeQueue GX18_writeQueue_0 GX18_writeQueue_22 GX18_writeQueue_71 GX18_writeQueue_78 GX18_writeQueue_127 GX18_writeQueue_131
  dsimp only
  rw [c4, e68, e56, l1, l2, odd_v, sz_c]
  by_cases h : o = 68
  · rw [fi_pos h, fi_pos h, fi_F (F := fun z => fm_sI M 72 q 0 z)]
  rw [fi_neg h, fi_neg h]
  by_cases h2 : M.1 72 q 0 = 0
  · rw [fi_pos h2, fi_pos h2]
    by_cases h3 : o = 56
    · rw [fi_pos h3, fi_pos h3]
      by_cases h4 : szP v
      · rw [fi_pos h4, fi_pos h4]
      · rw [fi_neg h4, fi_neg h4]
    · rw [fi_neg h3, fi_neg h3]
  · rw [fi_neg h2, fi_neg h2]
/-- the queue's registers, the twin's: those that it writes -/
theorem sq_t (n : fm_is M 93 93 b = true) (T : Ty M) (v : Int32) : (HX95_setQueue b (Int32.ofInt 68) v M ∧ GX95_setQueue b (Int32.ofInt 68) v M = fi (M.1 328 b 0 = 0) (fm_sI M 331 b 0 (bz (ui v % 2 = 1))) M) ∧
    (HX95_setQueue b (Int32.ofInt 56) v M ∧ GX95_setQueue b (Int32.ofInt 56) v M = fi (M.1 328 b 0 = 0) (fi (M.1 331 b 0 = 0) (fm_sI M 330 b 0 (fi (szP v) v (M.1 330 b 0))) M) M) := by
  have e1 : ¬ (Int32.ofInt 68 = Int32.ofInt 56) := by decide
  have e2 : ¬ (Int32.ofInt 56 = Int32.ofInt 68) := by decide
  have o : fi ((v - v / Int32.ofInt 2 * Int32.ofInt 2) = 0) (GX95_setQueue_87 b (Int32.ofInt 0) M) (GX95_setQueue_87 b (Int32.ofInt 1) M) = fm_sI M 331 b 0 (bz (ui v % 2 = 1)) := by
    rw [odd_w]
    unfold GX95_setQueue_87 GX95_setQueue_161
    by_cases h : ui v % 2 = 1
    · rw [fi_neg (fun z => z h), bz_t h]
    · rw [fi_pos h, bz_f h]
  constructor
  · unfold HX95_setQueue HX95_setQueue_0 HX95_setQueue_21 GX95_setQueue GX95_setQueue_0 GX95_setQueue_21 GX95_setQueue_20
    rw [fi_neg e1, fi_pos rfl, fi_pos rfl, o]
    refine ⟨⟨fun _ => ⟨fun _ => ⟨fun _ => trivial, fun _ => ⟨fun _ => trivial, fun z => absurd rfl z⟩⟩, fun _ => ⟨fun _ => ⟨fun _ => trivial, fun _ => ⟨fun _ => trivial, fun z => absurd rfl z⟩⟩, fun _ => trivial⟩⟩, fun _ => trivial⟩, ?_⟩
    rw [fi_self]
  · unfold HX95_setQueue HX95_setQueue_0 HX95_setQueue_21 GX95_setQueue GX95_setQueue_0 GX95_setQueue_21 GX95_setQueue_20
    rw [fi_pos rfl, fi_neg e2]
    refine ⟨⟨fun _ => ⟨fun _ => ⟨fun _ => trivial, fun z => absurd rfl z⟩, fun _ => ⟨fun z => absurd z e2, fun _ => trivial⟩⟩, fun _ => trivial⟩, ?_⟩
    have k : fi (v = Int32.ofInt 1) (GX95_setQueue_55 v b M) (fi (v = Int32.ofInt 2) (GX95_setQueue_55 v b M) (fi (v = Int32.ofInt 4) (GX95_setQueue_55 v b M) (fi (v = Int32.ofInt 8) (GX95_setQueue_55 v b M) (fi (v = Int32.ofInt 16) (GX95_setQueue_55 v b M) (GX95_setQueue_63 b (M.1 330 b 0) M))))) = fm_sI M 330 b 0 (fi (szP v) v (M.1 330 b 0)) := by
      rw [fi_or, fi_or, fi_or, fi_or]
      unfold GX95_setQueue_55 GX95_setQueue_63 GX95_setQueue_161
      have ep : ((((v = Int32.ofInt 1 ∨ v = Int32.ofInt 2) ∨ v = Int32.ofInt 4) ∨ v = Int32.ofInt 8) ∨ v = Int32.ofInt 16) = szP v := propext ⟨fun z => by
        unfold szP
        rcases z with (((z | z) | z) | z) | z
        · exact Or.inl z
        · exact Or.inr (Or.inl z)
        · exact Or.inr (Or.inr (Or.inl z))
        · exact Or.inr (Or.inr (Or.inr (Or.inl z)))
        · exact Or.inr (Or.inr (Or.inr (Or.inr z))), fun z => by
        unfold szP at z
        rcases z with z | z | z | z | z
        · exact Or.inl (Or.inl (Or.inl (Or.inl z)))
        · exact Or.inl (Or.inl (Or.inl (Or.inr z)))
        · exact Or.inl (Or.inl (Or.inr z))
        · exact Or.inl (Or.inr z)
        · exact Or.inr z⟩
      rw [ep]
      by_cases h : szP v
      · rw [fi_pos h, fi_pos h]
      · rw [fi_neg h, fi_neg h]
    rw [k]
/-- places of the queue, the twin's -/
theorem sq_p (n : fm_is M 93 93 b = true) (T : Ty M) (v : Int32) (o i : Nat) (up : Bool) (hi : i < 3) (ho : o = 128 + 16 * i + (if up then 4 else 0)) : HX95_setQueue b (nI o) v M ∧ GX95_setQueue b (nI o) v M = fi (M.1 328 b 0 = 0) (fi (M.1 331 b 0 = 0) (fm_sL M 3 (M.2.2 334 b 0) i (hfL (M.2.1 3 (M.2.2 334 b 0) i) up v)) M) M := by
  have h56 : ¬ nI o = Int32.ofInt 56 := by rw [show Int32.ofInt 56 = nI 56 from rfl, nI_e (by split at ho <;> omega) (by decide)]; split at ho <;> omega
  have h68 : ¬ nI o = Int32.ofInt 68 := by rw [show Int32.ofInt 68 = nI 68 from rfl, nI_e (by split at ho <;> omega) (by decide)]; split at ho <;> omega
  have ei : (nI o - Int32.ofInt 128) / Int32.ofInt 16 = nI i := by
    have : ∀ i : Nat, i < 3 → ∀ up : Bool, (nI (128 + 16 * i + (if up then 4 else 0)) - Int32.ofInt 128) / Int32.ofInt 16 = nI i := by decide
    rw [ho]
    exact this i hi up
  have eu : ((nI o - nI o / Int32.ofInt 8 * Int32.ofInt 8) = 0) = (up = false) := propext (by
    have : ∀ i : Nat, i < 3 → ∀ up : Bool, ((nI (128 + 16 * i + (if up then 4 else 0)) - nI (128 + 16 * i + (if up then 4 else 0)) / Int32.ofInt 8 * Int32.ofInt 8) = 0) ↔ (up = false) := by decide
    rw [ho]
    exact this i hi up)
  have ec : (nI i).toNatClampNeg = i := o_cl (by omega)
  have i1 : fm_in M (M.2.2 334 b 0) (nI i) = true := in_nI (N := 3) (tL_334 T.1 n) hi (by decide)
  have k : fi ((nI o - nI o / Int32.ofInt 8 * Int32.ofInt 8) = 0) (GX95_setQueue_160 (M.2.2 334 b 0) (nI i) (((M.2.1 3 (M.2.2 334 b 0) i).toUInt64 >>> ((Int32.ofInt 32).toInt64.toUInt64 &&& Int64.toUInt64 63)).toInt64 <<< ((Int32.ofInt 32).toInt64 &&& 63) ||| (v.toInt64 &&& (Int64.ofInt 4294967295))) M) (GX95_setQueue_160 (M.2.2 334 b 0) (nI i) ((v.toInt64 <<< ((Int32.ofInt 32).toInt64 &&& 63)) ||| ((M.2.1 3 (M.2.2 334 b 0) i) &&& (Int64.ofInt 4294967295))) M) = fm_sL M 3 (M.2.2 334 b 0) i (hfL (M.2.1 3 (M.2.2 334 b 0) i) up v) := by
    rw [eu]
    unfold GX95_setQueue_160 GX95_setQueue_161 hfL
    rw [ec]
    cases up with
    | false => rw [fi_pos rfl]; rfl
    | true => rw [fi_neg (by decide)]; rfl
  unfold HX95_setQueue HX95_setQueue_0 HX95_setQueue_21 GX95_setQueue GX95_setQueue_0 GX95_setQueue_21 GX95_setQueue_20 HX95_setQueue_160
  dsimp only
  rw [fi_neg h56, fi_neg h68, fi_neg h68, ei, ec, k]
  refine ⟨⟨fun _ => ⟨fun _ => ⟨fun z => absurd z h56, fun _ => ⟨fun z => absurd z h68, fun _ => ⟨i1, i1, fun _ => ⟨i1, trivial⟩, fun _ => ⟨i1, trivial⟩⟩⟩⟩, fun _ => ⟨fun z => absurd z h68, fun _ => trivial⟩⟩, fun _ => trivial⟩, rfl⟩
/-- places of the queue, the component's -/
theorem sq_c (v : Int32) (o i : Nat) (up : Bool) (hi : i < 3) (ho : o = 128 + 16 * i + (if up then 4 else 0)) (c4 : M.2.2 60 d 0 = q) : GX18_writeQueue d (nI o) v M = fi (M.1 72 q 0 = 0) (fm_sL M (73 + i) q 0 (hfL (M.2.1 (73 + i) q 0) up v)) M := by
  have o512 : o < 512 := by split at ho <;> omega
  have e8 : (nI o &&& Int32.ofInt 8) = 0 := by
    have : ∀ i : Nat, i < 3 → ∀ up : Bool, (nI (128 + 16 * i + (if up then 4 else 0)) &&& Int32.ofInt 8) = 0 := by decide
    rw [ho]
    exact this i hi up
  have e4 : ((nI o &&& Int32.ofInt 4) = 0) = (up = false) := propext (by
    have : ∀ i : Nat, i < 3 → ∀ up : Bool, ((nI (128 + 16 * i + (if up then 4 else 0)) &&& Int32.ofInt 4) = 0) ↔ (up = false) := by decide
    rw [ho]
    exact this i hi up)
  have ei : (nI o - Int32.ofInt 128) >>> ((Int32.ofInt 4) &&& 31) = nI i := by
    have : ∀ i : Nat, i < 3 → ∀ up : Bool, (nI (128 + 16 * i + (if up then 4 else 0)) - Int32.ofInt 128) >>> ((Int32.ofInt 4) &&& 31) = nI i := by decide
    rw [ho]
    exact this i hi up
  rw [wq_c o512 v c4, fi_neg (show ¬ o = 68 by split at ho <;> omega), fi_neg (show ¬ o = 56 by split at ho <;> omega), fi_neg (show ¬ o < 128 by split at ho <;> omega), fi_neg (show ¬ 168 ≤ o by split at ho <;> omega), fi_pos e8, ei, e4]
  have P : ∀ (u : Int32) (w : Int64), (∀ a M, GX20_half a u v M = (hfL a up v, M)) → GX20_place q (nI i) u v M = fm_sL M (73 + i) q 0 (hfL (M.2.1 (73 + i) q 0) up v) := fun u w hh => by
    unfold GX20_place GX20_place_0 GX20_place_54
    dsimp only
    rw [hh, hh, hh]
    dsimp only
    have : i = 0 ∨ i = 1 ∨ i = 2 := by omega
    rcases this with rfl | rfl | rfl
    · rw [fi_pos (show nI 0 = 0 from rfl)]
    · rw [fi_neg (show ¬ nI 1 = 0 by decide), fi_pos (show nI 1 = Int32.ofInt 1 from rfl)]
    · rw [fi_neg (show ¬ nI 2 = 0 by decide), fi_neg (show ¬ nI 2 = Int32.ofInt 1 by decide)]
  congr 1
  cases up with
  | false =>
    rw [fi_pos rfl]
    exact P _ 0 (fun a M => (X20_half a v M).1)
  | true =>
    rw [fi_neg (by decide)]
    exact P _ 0 (fun a M => (X20_half a v M).2)
end Rw2
