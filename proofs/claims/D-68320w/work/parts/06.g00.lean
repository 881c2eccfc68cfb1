/-! types of memory, printed by gen/gg.py -/
set_option maxRecDepth 100000
/-- the fields that hold something always, and what; those that may hold nothing; lengths of arrays; what arrays hold -/
def ty_N : List (Nat × Nat × Nat × Nat × Nat) := [(7, 7, 15, 905, 905), (10, 10, 17, 67, 67), (11, 11, 18, 73, 73), (11, 11, 19, 79, 79), (11, 11, 20, 22, 22), (11, 11, 21, 928, 928), (12, 12, 24, 901, 901), (12, 12, 25, 910, 910), (12, 12, 26, 13, 19), (12, 12, 27, 16, 16), (12, 12, 28, 14, 17), (12, 12, 29, 14, 17), (12, 12, 30, 14, 17), (12, 12, 31, 15, 15), (12, 12, 32, 20, 20), (12, 12, 33, 20, 20), (12, 12, 34, 14, 17), (12, 12, 35, 14, 17), (12, 12, 36, 14, 17), (18, 18, 44, 13, 19), (19, 19, 45, 14, 17), (19, 19, 46, 13, 19), (20, 20, 49, 14, 17), (20, 20, 50, 14, 17), (20, 20, 51, 14, 17), (20, 20, 52, 14, 17), (20, 20, 53, 14, 17), (20, 20, 54, 14, 17), (21, 21, 55, 86, 86), (21, 21, 56, 87, 87), (21, 21, 57, 84, 84), (22, 22, 58, 76, 76), (22, 22, 59, 23, 23), (22, 22, 60, 28, 28), (22, 22, 61, 29, 29), (22, 22, 62, 911, 911), (23, 23, 69, 902, 902), (29, 29, 78, 30, 30), (29, 29, 79, 30, 30), (30, 30, 85, 902, 902), (30, 30, 86, 902, 902), (32, 32, 93, 902, 902), (32, 32, 94, 31, 31), (32, 32, 98, 912, 912), (32, 32, 99, 913, 913), (32, 32, 100, 915, 915), (32, 32, 101, 914, 914), (32, 32, 102, 34, 38), (32, 32, 103, 34, 38), (32, 32, 104, 34, 38), (32, 32, 105, 39, 39), (32, 32, 106, 39, 39), (32, 32, 107, 39, 39), (32, 32, 108, 39, 39), (33, 33, 112, 40, 40), (39, 39, 114, 2, 2), (39, 39, 117, 40, 40), (41, 41, 121, 902, 902), (42, 42, 125, 901, 901), (47, 47, 136, 901, 901), (47, 47, 137, 42, 42), (49, 49, 141, 42, 42), (52, 52, 142, 916, 916), (62, 62, 161, 53, 60), (62, 62, 162, 53, 60), (62, 62, 163, 53, 60), (62, 62, 164, 53, 60), (62, 62, 165, 53, 60), (62, 62, 166, 53, 60), (62, 62, 167, 53, 60), (62, 62, 168, 53, 60), (62, 62, 169, 53, 60), (62, 62, 170, 53, 60), (63, 63, 171, 64, 64), (63, 63, 172, 62, 62), (63, 63, 173, 917, 917), (63, 63, 175, 902, 902), (64, 64, 178, 902, 902), (66, 66, 186, 86, 86), (66, 66, 187, 73, 73), (67, 67, 189, 11, 11), (67, 67, 190, 922, 922), (67, 67, 191, 86, 86), (67, 67, 192, 66, 66), (67, 67, 193, 21, 21), (67, 67, 194, 903, 903), (72, 72, 201, 902, 902), (73, 73, 203, 920, 920), (73, 73, 204, 902, 902), (73, 73, 205, 921, 921), (73, 73, 206, 919, 919), (75, 75, 210, 11, 11), (75, 75, 211, 63, 63), (75, 75, 212, 32, 32), (75, 75, 213, 12, 12), (75, 75, 214, 91, 91), (75, 75, 215, 52, 52), (75, 75, 216, 918, 918), (75, 75, 217, 41, 41), (76, 76, 222, 73, 73), (77, 77, 224, 901, 901), (77, 77, 225, 901, 901), (77, 77, 226, 901, 901), (78, 78, 230, 901, 901), (78, 78, 233, 903, 903), (78, 78, 235, 901, 901), (79, 79, 240, 80, 80), (79, 79, 241, 77, 77), (79, 79, 242, 78, 78), (79, 79, 243, 923, 923), (80, 80, 245, 901, 901), (80, 80, 246, 902, 902), (81, 81, 247, 73, 73), (82, 82, 248, 83, 83), (84, 84, 256, 86, 86), (84, 84, 257, 86, 86), (85, 85, 258, 83, 83), (85, 85, 259, 83, 83), (86, 86, 261, 903, 903), (87, 87, 263, 86, 86), (87, 87, 264, 924, 924), (87, 87, 265, 925, 925), (88, 88, 278, 902, 902), (88, 88, 279, 902, 902), (90, 90, 284, 927, 927), (91, 91, 286, 933, 933), (91, 91, 287, 81, 81), (91, 91, 288, 90, 90), (91, 91, 291, 926, 926), (91, 91, 295, 902, 902), (92, 92, 298, 98, 98), (92, 92, 299, 97, 97), (92, 92, 300, 93, 93), (92, 92, 301, 99, 99), (92, 92, 302, 100, 100), (92, 92, 303, 929, 929), (92, 92, 304, 931, 931), (92, 92, 305, 930, 930), (92, 92, 306, 932, 932), (92, 92, 307, 904, 904), (92, 92, 308, 901, 901), (92, 92, 310, 901, 901), (92, 92, 323, 902, 902), (93, 93, 326, 98, 98), (93, 93, 327, 902, 902), (93, 93, 334, 902, 902), (93, 93, 340, 902, 902), (93, 93, 341, 902, 902), (93, 93, 342, 904, 904), (94, 94, 346, 902, 902), (94, 94, 355, 902, 902), (95, 95, 361, 902, 902), (95, 95, 362, 904, 904), (96, 96, 367, 902, 902), (96, 96, 372, 901, 901), (96, 96, 373, 901, 901), (96, 96, 374, 901, 901), (96, 96, 375, 901, 901), (96, 96, 376, 901, 901), (96, 96, 377, 902, 902), (96, 96, 378, 901, 901), (96, 96, 379, 901, 901), (96, 96, 380, 901, 901), (98, 98, 388, 902, 902), (98, 98, 389, 902, 902), (98, 98, 390, 901, 901), (98, 98, 391, 901, 901), (98, 98, 392, 901, 901), (99, 99, 396, 904, 904), (99, 99, 397, 902, 902), (99, 99, 399, 904, 904), (99, 99, 400, 904, 904), (99, 99, 401, 904, 904), (99, 99, 402, 901, 901), (99, 99, 403, 901, 901), (99, 99, 404, 901, 901), (99, 99, 405, 901, 901), (99, 99, 406, 901, 901), (99, 99, 410, 901, 901), (99, 99, 412, 901, 901), (100, 100, 415, 901, 901), (100, 100, 417, 901, 901), (100, 100, 419, 901, 901), (101, 101, 423, 98, 98), (101, 101, 427, 901, 901), (101, 101, 428, 902, 902), (43, 43, 129, 42, 42), (44, 44, 129, 42, 42), (45, 45, 129, 42, 42), (46, 46, 129, 42, 42), (47, 47, 129, 42, 42), (48, 48, 129, 42, 42), (49, 49, 129, 42, 42), (50, 50, 129, 42, 42)]
def ty_Z : List (Nat × Nat × Nat × Nat × Nat) := [(41, 41, 124, 6, 6), (43, 51, 129, 42, 42), (61, 61, 149, 53, 60), (61, 61, 155, 4, 4), (63, 63, 174, 61, 61)]
def ty_L : List (Nat × Nat × Nat × Nat) := [(11, 11, 21, 5), (12, 12, 24, 6), (12, 12, 25, 4096), (22, 22, 62, 9), (23, 23, 69, 131072), (30, 30, 85, 16), (30, 30, 86, 16), (32, 32, 93, 32), (32, 32, 98, 2), (32, 32, 99, 5), (32, 32, 100, 4), (32, 32, 101, 4), (41, 41, 121, 8), (47, 47, 136, 18), (52, 52, 142, 24), (63, 63, 173, 64), (63, 63, 175, 5), (64, 64, 178, 32), (67, 67, 194, 65536), (72, 72, 201, 512), (73, 73, 203, 1024), (73, 73, 204, 1024), (73, 73, 205, 4), (73, 73, 206, 29), (75, 75, 216, 512), (77, 77, 224, 32), (77, 77, 225, 8), (77, 77, 226, 8), (78, 78, 230, 16), (78, 78, 233, 4096), (78, 78, 235, 10), (79, 79, 243, 3), (80, 80, 245, 4), (80, 80, 246, 5), (87, 87, 264, 128), (87, 87, 265, 512), (88, 88, 278, 4), (88, 88, 279, 4), (90, 90, 284, 8), (91, 91, 286, 3), (91, 91, 291, 64), (91, 91, 295, 4), (92, 92, 303, 4), (92, 92, 304, 4), (92, 92, 305, 4), (92, 92, 306, 4), (92, 92, 307, 4), (92, 92, 308, 65536), (92, 92, 310, 65536), (92, 92, 323, 8), (93, 93, 327, 131072), (93, 93, 334, 3), (93, 93, 340, 16), (93, 93, 341, 16), (93, 93, 342, 16), (94, 94, 346, 32), (94, 94, 355, 5), (95, 95, 361, 4096), (95, 95, 362, 12), (96, 96, 367, 32), (96, 96, 372, 2), (96, 96, 373, 2), (96, 96, 374, 2), (96, 96, 375, 3), (96, 96, 376, 3), (96, 96, 377, 3), (96, 96, 378, 3), (96, 96, 379, 220), (96, 96, 380, 220), (98, 98, 388, 524288), (98, 98, 389, 4), (98, 98, 390, 4), (98, 98, 391, 524288), (98, 98, 392, 4), (99, 99, 396, 4), (99, 99, 397, 4), (99, 99, 399, 32), (99, 99, 400, 32), (99, 99, 401, 32), (99, 99, 402, 32), (99, 99, 403, 8), (99, 99, 404, 8), (99, 99, 405, 8), (99, 99, 406, 2), (99, 99, 410, 16), (99, 99, 412, 4096), (100, 100, 415, 8192), (100, 100, 417, 6144), (100, 100, 419, 1024), (101, 101, 427, 8), (101, 101, 428, 8)]
def ty_EN : List (Nat × Nat × Nat) := [(912, 33, 33), (913, 1, 1), (914, 34, 38), (915, 3, 3), (918, 65, 65), (921, 74, 74), (922, 75, 75), (923, 77, 80), (924, 82, 82), (925, 85, 85), (926, 88, 88), (927, 89, 89), (928, 6, 6), (933, 901, 901)]
def ty_EZ : List (Nat × Nat × Nat) := [(910, 13, 19), (911, 24, 27), (916, 43, 51), (917, 61, 61), (919, 68, 71), (920, 72, 72), (929, 94, 94), (930, 95, 95), (931, 96, 96), (932, 101, 101)]
def ty_C : List (Nat × Nat) := [(1, 1), (2, 1), (3, 1), (4, 1), (5, 1), (6, 2), (7, 2), (8, 2), (9, 2), (10, 2), (11, 3), (12, 3), (13, 3), (14, 3), (15, 4), (16, 4), (17, 4), (18, 4), (19, 4), (20, 4), (21, 4), (22, 4), (23, 4), (24, 4), (25, 4), (26, 4), (27, 4), (28, 4), (29, 4), (30, 4), (31, 4), (32, 4), (33, 5), (34, 5), (35, 5), (36, 5), (37, 6), (38, 6), (39, 6), (40, 6), (41, 6)]
def ty_B : List Nat := [12, 22, 72, 92, 96, 113, 115, 123, 132, 135, 140, 147, 148, 156, 157, 180, 199, 218, 236, 237, 238, 253, 269, 322, 331, 371, 381, 385, 407, 408, 409, 425, 426]
def ty_M : List Nat := [114, 124, 149, 155, 174]
/-- the fuel -/
def fN : Nat := 100000000
/-- memory is as its types say: references, then booleans -/
def fr (R : Nat → Nat → Nat → Nat) (lo hi a : Nat) : Bool := Nat.ble lo (R 0 a 0) && Nat.ble (R 0 a 0) hi
def TyR (R : Nat → Nat → Nat → Nat) : Prop :=
  (∀ q ∈ ty_N, ∀ a, fr R q.1 q.2.1 a = true → fr R q.2.2.2.1 q.2.2.2.2 (R q.2.2.1 a 0) = true) ∧
  (∀ q ∈ ty_Z, ∀ a, fr R q.1 q.2.1 a = true → R q.2.2.1 a 0 ≠ 0 → fr R q.2.2.2.1 q.2.2.2.2 (R q.2.2.1 a 0) = true) ∧
  (∀ q ∈ ty_L, ∀ a, fr R q.1 q.2.1 a = true → R 1 (R q.2.2.1 a 0) 0 = q.2.2.2) ∧
  (∀ q ∈ ty_EN, ∀ a i, fr R q.1 q.1 a = true → i < R 1 a 0 → fr R q.2.1 q.2.2 (R 3 a i) = true) ∧
  (∀ q ∈ ty_EZ, ∀ a i, fr R q.1 q.1 a = true → i < R 1 a 0 → R 3 a i ≠ 0 → fr R q.2.1 q.2.2 (R 3 a i) = true) ∧
  (∀ q ∈ ty_C, R 0 q.1 0 = q.2) ∧ (∀ a, fr R 1 6 a = true → a < 42) ∧ (∀ a, fr R 10 899 a = true → 1000 ≤ a)
def TyB (M : FM) : Prop := (∀ f ∈ ty_B, ∀ a i, M.1 f a i = 0 ∨ M.1 f a i = 1) ∧ (∀ a i, fm_is M 904 904 a = true → M.1 3 a i = 0 ∨ M.1 3 a i = 1)
def Ty (M : FM) : Prop := TyR M.2.2 ∧ TyB M
/-- what there is stays what it is -/
def Ext (M M' : FM) : Prop := ∀ a, M.2.2 0 a 0 ≠ 0 → M'.2.2 0 a 0 = M.2.2 0 a 0 ∧ M'.2.2 1 a 0 = M.2.2 1 a 0
theorem fm_isd {M : FM} {lo hi a : Nat} (h : fm_is M lo hi a = true) : lo ≤ M.2.2 0 a 0 ∧ M.2.2 0 a 0 ≤ hi := by
  unfold fm_is at h
  rw [Bool.and_eq_true] at h
  exact ⟨Nat.le_of_ble_eq_true h.1, Nat.le_of_ble_eq_true h.2⟩
theorem fm_isi {M : FM} {lo hi a : Nat} (h1 : lo ≤ M.2.2 0 a 0) (h2 : M.2.2 0 a 0 ≤ hi) : fm_is M lo hi a = true := by
  unfold fm_is
  rw [Nat.ble_eq.mpr h1, Nat.ble_eq.mpr h2]
  rfl
theorem fm_w {M : FM} {lo hi lo' hi' a : Nat} (h1 : Nat.ble lo' lo = true) (h2 : Nat.ble hi hi' = true) (h : fm_is M lo hi a = true) : fm_is M lo' hi' a = true := by
  obtain ⟨a1, a2⟩ := fm_isd h
  exact fm_isi (Nat.le_trans (Nat.le_of_ble_eq_true h1) a1) (Nat.le_trans a2 (Nat.le_of_ble_eq_true h2))
theorem fm_up {M : FM} {lo hi a : Nat} (h : fm_is M lo hi a = true) (n : ¬ fm_is M lo lo a = true) : fm_is M (lo + 1) hi a = true := by
  obtain ⟨a1, a2⟩ := fm_isd h
  refine fm_isi ?_ a2
  rcases Nat.lt_or_ge lo (M.2.2 0 a 0) with q | q
  · exact q
  · exact absurd (fm_isi a1 q) n
theorem fm_in_d {M : FM} {a : Nat} {i : Int32} (h : fm_in M a i = true) : i.toNatClampNeg < M.2.2 1 a 0 := by
  unfold fm_in at h
  rw [Bool.and_eq_true] at h
  exact of_decide_eq_true h.2
def fm_inq (n : Nat) (i : Int32) : Bool := !(decide (i < 0)) && decide (i.toNatClampNeg < n)
theorem fm_inl {M : FM} {a n : Nat} {i : Int32} (h : M.2.2 1 a 0 = n) (q : fm_inq n i = true) : fm_in M a i = true := by
  unfold fm_in
  rw [h]
  exact q
theorem ty_C_is {M : FM} {c t : Nat} (h : M.2.2 0 c 0 = t) : fm_is M t t c = true := fm_isi (Nat.le_of_eq h.symm) (Nat.le_of_eq h)
theorem ext_r (M : FM) : Ext M M := fun _ _ => ⟨rfl, rfl⟩
theorem ext_tr {M M1 M2 : FM} (e1 : Ext M M1) (e2 : Ext M1 M2) : Ext M M2 := fun a h => by
  obtain ⟨a1, a2⟩ := e1 a h
  obtain ⟨b1, b2⟩ := e2 a (by rw [a1]; exact h)
  exact ⟨b1.trans a1, b2.trans a2⟩
theorem ext_is {M M' : FM} (e : Ext M M') {lo hi a : Nat} (hlo : 0 < lo) (h : fm_is M lo hi a = true) : fm_is M' lo hi a = true := by
  obtain ⟨a1, a2⟩ := fm_isd h
  obtain ⟨b1, -⟩ := e a (by omega)
  exact fm_isi (by rw [b1]; exact a1) (by rw [b1]; exact a2)
theorem ext_ln {M M' : FM} (e : Ext M M') {lo hi a n : Nat} (h : fm_is M lo hi a = true) (hlo : 0 < lo) (hl : M.2.2 1 a 0 = n) : M'.2.2 1 a 0 = n := by
  obtain ⟨a1, a2⟩ := fm_isd h
  exact (e a (by omega)).2.trans hl
theorem ext_sR {M : FM} {f a i v : Nat} (hf : f ≠ 0 ∧ f ≠ 1) : Ext M (fm_sR M f a i v) := by
  intro b _
  constructor
  · show (if 0 = f ∧ b = a ∧ 0 = i then v else M.2.2 0 b 0) = _
    rw [if_neg (fun q => hf.1 q.1.symm)]
  · show (if 1 = f ∧ b = a ∧ 0 = i then v else M.2.2 1 b 0) = _
    rw [if_neg (fun q => hf.2 q.1.symm)]
theorem ext_dI {M X : FM} {f a i : Nat} {v : Int32} (h : Ext (fm_sI M f a i v) X) : Ext M X := h
theorem ext_dL {M X : FM} {f a i : Nat} {v : Int64} (h : Ext (fm_sL M f a i v) X) : Ext M X := h
theorem ext_dR {M X : FM} {f a i v : Nat} (hf : f ≠ 0 ∧ f ≠ 1) (h : Ext (fm_sR M f a i v) X) : Ext M X := ext_tr (ext_sR hf) h
theorem fm_is_sR {M : FM} {f a i v lo hi b : Nat} (hf : f ≠ 0) : fm_is (fm_sR M f a i v) lo hi b = fm_is M lo hi b := by
  have e : (fm_sR M f a i v).2.2 0 b 0 = M.2.2 0 b 0 := if_neg (fun q => hf q.1.symm)
  unfold fm_is
  rw [e]
theorem fz_0 : (Int32.ofInt 0) = 0 ∨ (Int32.ofInt 0) = 1 := Or.inl rfl
theorem fz_1 : (Int32.ofInt 1) = 0 ∨ (Int32.ofInt 1) = 1 := Or.inr rfl
theorem zz_and {x y : Int32} (h : x = 0 ∨ x = 1) (k : y = 0 ∨ y = 1) : x &&& y = 0 ∨ x &&& y = 1 := by
  rcases h with rfl | rfl <;> rcases k with rfl | rfl <;> decide
theorem zz_or {x y : Int32} (h : x = 0 ∨ x = 1) (k : y = 0 ∨ y = 1) : x ||| y = 0 ∨ x ||| y = 1 := by
  rcases h with rfl | rfl <;> rcases k with rfl | rfl <;> decide
theorem zz_xor {x y : Int32} (h : x = 0 ∨ x = 1) (k : y = 0 ∨ y = 1) : x ^^^ y = 0 ∨ x ^^^ y = 1 := by
  rcases h with rfl | rfl <;> rcases k with rfl | rfl <;> decide
theorem zz_1 (x : Int32) : x &&& 1 = 0 ∨ x &&& 1 = 1 := by
  have e : (x &&& 1).toBitVec.toNat = x.toBitVec.toNat % 2 := by
    rw [Int32.toBitVec_and, BitVec.toNat_and]
    exact Nat.and_one_is_mod _
  rcases Nat.mod_two_eq_zero_or_one x.toBitVec.toNat with q | q
  · left
    apply Int32.toBitVec_inj.mp
    apply BitVec.eq_of_toNat_eq
    rw [e, q]
    rfl
  · right
    apply Int32.toBitVec_inj.mp
    apply BitVec.eq_of_toNat_eq
    rw [e, q]
    rfl
theorem tA {M : FM} {a : Nat} (T : TyB M) (h : fm_is M 904 904 a = true) (i : Nat) : M.1 3 a i = 0 ∨ M.1 3 a i = 1 := T.2 a i h
theorem ty_enum {M : FM} {a : Nat} (T : TyR M.2.2) (h : fm_is M 1 6 a = true) : a < 42 := T.2.2.2.2.2.2.1 a h
theorem ty_obj {M : FM} {a : Nat} (T : TyR M.2.2) (h : fm_is M 10 899 a = true) : 1000 ≤ a := T.2.2.2.2.2.2.2 a h
def ty_nb (f : Nat) : Bool := !(fe_mem ty_B f) && !(Nat.beq f 3)
theorem fe_mem_of {l : List Nat} {f : Nat} (h : f ∈ l) : fe_mem l f = true := by
  induction l with
  | nil => cases h
  | cons a t ih =>
    unfold fe_mem
    rw [Bool.or_eq_true]
    rcases List.mem_cons.mp h with rfl | h
    · exact Or.inl (Nat.beq_refl f)
    · exact Or.inr (ih h)
theorem tyb_sI {M : FM} {f a i : Nat} {v : Int32} (hf : ty_nb f = true) (T : TyB M) : TyB (fm_sI M f a i v) := by
  obtain ⟨h7, h8⟩ := T
  unfold ty_nb at hf
  rw [Bool.and_eq_true, Bool.not_eq_true', Bool.not_eq_true'] at hf
  refine ⟨fun g hg b j => ?_, fun b j hb => ?_⟩
  · show (if g = f ∧ b = a ∧ j = i then v else M.1 g b j) = 0 ∨ (if g = f ∧ b = a ∧ j = i then v else M.1 g b j) = 1
    rw [if_neg (fun q => by rw [q.1] at hg; rw [fe_mem_of hg] at hf; cases hf.1)]
    exact h7 g hg b j
  · show (if 3 = f ∧ b = a ∧ j = i then v else M.1 3 b j) = 0 ∨ (if 3 = f ∧ b = a ∧ j = i then v else M.1 3 b j) = 1
    rw [if_neg (fun q => by rw [← q.1] at hf; cases hf.2)]
    exact h8 b j hb
theorem tyb_sIb {M : FM} {f a i : Nat} {v : Int32} (hf : Nat.beq 3 f = false) (T : TyB M) (z : v = 0 ∨ v = 1) : TyB (fm_sI M f a i v) := by
  obtain ⟨h7, h8⟩ := T
  refine ⟨fun g hg b j => ?_, fun b j hb => ?_⟩
  · show (if g = f ∧ b = a ∧ j = i then v else M.1 g b j) = 0 ∨ (if g = f ∧ b = a ∧ j = i then v else M.1 g b j) = 1
    split
    · exact z
    · exact h7 g hg b j
  · show (if 3 = f ∧ b = a ∧ j = i then v else M.1 3 b j) = 0 ∨ (if 3 = f ∧ b = a ∧ j = i then v else M.1 3 b j) = 1
    split
    · exact z
    · exact h8 b j hb
theorem tyb_s3' {M : FM} {a i : Nat} {v : Int32} (T : TyB M) (h : fm_is M 904 904 a = true → v = 0 ∨ v = 1) : TyB (fm_sI M 3 a i v) := by
  obtain ⟨h7, h8⟩ := T
  refine ⟨fun g hg b j => ?_, fun b j hb => ?_⟩
  · show (if g = 3 ∧ b = a ∧ j = i then v else M.1 g b j) = 0 ∨ (if g = 3 ∧ b = a ∧ j = i then v else M.1 g b j) = 1
    rw [if_neg (fun q => by rw [q.1] at hg; exact absurd hg (by decide))]
    exact h7 g hg b j
  · show (if 3 = 3 ∧ b = a ∧ j = i then v else M.1 3 b j) = 0 ∨ (if 3 = 3 ∧ b = a ∧ j = i then v else M.1 3 b j) = 1
    split
    · rename_i q
      rw [q.2.1] at hb
      exact h hb
    · exact h8 b j hb
theorem tyb_s3 {M : FM} {t a i : Nat} {v : Int32} (ht : Nat.beq t 904 = false) (T : TyB M) (h : fm_is M t t a = true) : TyB (fm_sI M 3 a i v) :=
  tyb_s3' T (fun q => by
    obtain ⟨a1, a2⟩ := fm_isd h
    obtain ⟨b1, b2⟩ := fm_isd q
    have e : t = 904 := by omega
    rw [e] at ht
    cases ht)
theorem tyb_s4 {M : FM} {a i : Nat} {v : Int32} (T : TyB M) : TyB (fm_sI M 3 a i (v &&& 1)) := tyb_s3' T (fun _ => zz_1 v)
theorem tyb_sR {M : FM} {f a i v : Nat} (hf : f ≠ 0) (T : TyB M) : TyB (fm_sR M f a i v) := ⟨T.1, fun b j hb => T.2 b j (by rw [fm_is_sR hf] at hb; exact hb)⟩
theorem ty_sR {M : FM} {f a i v : Nat} (hf : f ≠ 0 ∧ f ≠ 1 ∧ f ≠ 3) (hL : ∀ q ∈ ty_L, q.2.2.1 ≠ f) (hN : ∀ q ∈ ty_N, q.2.2.1 = f → fm_is M q.2.2.2.1 q.2.2.2.2 v = true)
    (hZ : ∀ q ∈ ty_Z, q.2.2.1 = f → v ≠ 0 → fm_is M q.2.2.2.1 q.2.2.2.2 v = true) (T : TyR M.2.2) : TyR (fm_sR M f a i v).2.2 := by
  obtain ⟨h1, h2, h3, h4, h5, h6, h9, h10⟩ := T
  have e0 : ∀ b, (fm_sR M f a i v).2.2 0 b 0 = M.2.2 0 b 0 := fun b => if_neg (fun q => hf.1 q.1.symm)
  have e1 : ∀ b, (fm_sR M f a i v).2.2 1 b 0 = M.2.2 1 b 0 := fun b => if_neg (fun q => hf.2.1 q.1.symm)
  have e3 : ∀ b j, (fm_sR M f a i v).2.2 3 b j = M.2.2 3 b j := fun b j => if_neg (fun q => hf.2.2 q.1.symm)
  have ei : ∀ lo hi b, fr (fm_sR M f a i v).2.2 lo hi b = fr M.2.2 lo hi b := fun lo hi b => fm_is_sR hf.1
  have eg : ∀ g b, (fm_sR M f a i v).2.2 g b 0 = if g = f ∧ b = a ∧ 0 = i then v else M.2.2 g b 0 := fun g b => rfl
  refine ⟨fun q hq b hb => ?_, fun q hq b hb hn => ?_, fun q hq b hb => ?_, fun q hq b j hb hj => ?_, fun q hq b j hb hj hn => ?_, fun q hq => ?_, fun b hb => ?_, fun b hb => ?_⟩
  · rw [ei] at hb
    rw [ei, eg]
    split
    · rename_i c
      exact hN q hq c.1
    · exact h1 q hq b hb
  · rw [ei] at hb
    rw [eg] at hn
    rw [ei, eg]
    split
    · rename_i c
      rw [if_pos c] at hn
      exact hZ q hq c.1 hn
    · rename_i c
      rw [if_neg c] at hn
      exact h2 q hq b hb hn
  · rw [ei] at hb
    rw [e1, eg, if_neg (fun c => hL q hq c.1)]
    exact h3 q hq b hb
  · rw [ei] at hb
    rw [e1] at hj
    rw [ei, e3]
    exact h4 q hq b j hb hj
  · rw [ei] at hb
    rw [e1] at hj
    rw [e3] at hn
    rw [ei, e3]
    exact h5 q hq b j hb hj hn
  · rw [e0]
    exact h6 q hq
  · rw [ei] at hb
    exact h9 b hb
  · rw [ei] at hb
    exact h10 b hb
theorem ty_sRZ {M : FM} {f a v lo hi : Nat} (hf : f ≠ 0 ∧ f ≠ 1 ∧ f ≠ 3) (hL : ∀ q ∈ ty_L, q.2.2.1 ≠ f) (hN : ∀ q ∈ ty_N, q.2.2.1 ≠ f) (hZ : ∀ q ∈ ty_Z, q.2.2.1 = f → q.2.2.2.1 = lo ∧ q.2.2.2.2 = hi) (T : TyR M.2.2) (h : v ≠ 0 → fm_is M lo hi v = true) : TyR (fm_sR M f a 0 v).2.2 :=
  ty_sR hf hL (fun q hq e => absurd e (hN q hq)) (fun q hq e hv => by rw [(hZ q hq e).1, (hZ q hq e).2]; exact h hv) T
theorem ty_sRN {M : FM} {f a v lo hi : Nat} (hf : f ≠ 0 ∧ f ≠ 1 ∧ f ≠ 3) (hL : ∀ q ∈ ty_L, q.2.2.1 ≠ f) (hZ : ∀ q ∈ ty_Z, q.2.2.1 ≠ f) (hN : ∀ q ∈ ty_N, q.2.2.1 = f → q.2.2.2.1 = lo ∧ q.2.2.2.2 = hi) (T : TyR M.2.2) (h : fm_is M lo hi v = true) : TyR (fm_sR M f a 0 v).2.2 :=
  ty_sR hf hL (fun q hq e => by rw [(hN q hq e).1, (hN q hq e).2]; exact h) (fun q hq e => absurd e (hZ q hq)) T
/-- the method gives y, and y is fit -/
abbrev gd {α : Type} (o : Option α) (y : α) (P : α → Prop) : Prop := o = some y ∧ P y
abbrev OkV (M : FM) (r : FM) : Prop := Ty r ∧ Ext M r
abbrev OkR {α : Type} (M : FM) (r : α × FM) : Prop := Ty r.2 ∧ Ext M r.2
abbrev OkZ (M : FM) (r : Int32 × FM) : Prop := Ty r.2 ∧ Ext M r.2 ∧ (r.1 = 0 ∨ r.1 = 1)
abbrev OkN (lo hi : Nat) (M : FM) (r : Nat × FM) : Prop := Ty r.2 ∧ Ext M r.2 ∧ fm_is r.2 lo hi r.1 = true
abbrev OkQ (lo hi : Nat) (M : FM) (r : Nat × FM) : Prop := Ty r.2 ∧ Ext M r.2 ∧ (r.1 ≠ 0 → fm_is r.2 lo hi r.1 = true)
/-- a block of a method with loops gives y: a state at a head, or a result; K goes on -/
abbrev gs {ρ Y : Type} (o : Option ρ) (y : Y) (K : Y → Option ρ) (P : Y → Prop) : Prop := o = K y ∧ P y
section Gs
variable {α ρ Y : Type} {K : Y → Option ρ}
theorem gs_c {c : Prop} {t e : Option ρ} {y : Y} {P : Y → Prop} (h : c) (k : gs t y K P) : gs (fi c t e) y K P := by rw [fi_pos h]; exact k
theorem gs_n {c : Prop} {t e : Option ρ} {y : Y} {P : Y → Prop} (h : ¬ c) (k : gs e y K P) : gs (fi c t e) y K P := by rw [fi_neg h]; exact k
theorem gs_fi {c : Prop} {t e : Option ρ} {y z : Y} {P : Y → Prop} (h : c → gs t y K P) (k : ¬ c → gs e z K P) : gs (fi c t e) (fi c y z) K P := by
  by_cases q : c
  · rw [fi_pos q, fi_pos q]
    exact h q
  · rw [fi_neg q, fi_neg q]
    exact k q
theorem gs_b {o : Option α} {y0 : α} {P0 : α → Prop} {g : α → Option ρ} {y : Y} {P : Y → Prop} (h : gd o y0 P0) (k : P0 y0 → gs (g y0) y K P) : gs (o.bind g) y K P := by
  rw [h.1]
  exact k h.2
theorem gs_rr {o : Option ρ} {y : Y} {P : Y → Prop} {A : Prop} (h : o = K y) (a : A) (f : A → P y) : gs o y K P := ⟨h, f a⟩
theorem gs_t {o : Option ρ} {y : Y} {P P1 : Y → Prop} (f : ∀ y, P1 y → P y) (h : gs o y K P1) : gs o y K P := ⟨h.1, f y h.2⟩
theorem gs_z {K : Y → Option (Int32 × FM)} {P : Y → Prop} {y : Y} {M Mk : FM} {v : Int32} (z : v = 0 ∨ v = 1) (T : Ty Mk) (e : Ext M Mk) (hy : some (v, Mk) = K y) (f : OkZ M (v, Mk) → P y) : gs (fi (v = 0 ∨ v = 1) (some (v, Mk)) none) y K P := by
  rw [fi_pos z]
  exact ⟨hy, f ⟨T, e, z⟩⟩
end Gs
section Gd
variable {α β : Type}
theorem gd_c {c : Prop} {t e : Option α} {y : α} {P : α → Prop} (h : c) (k : gd t y P) : gd (fi c t e) y P := by rw [fi_pos h]; exact k
theorem gd_n {c : Prop} {t e : Option α} {y : α} {P : α → Prop} (h : ¬ c) (k : gd e y P) : gd (fi c t e) y P := by rw [fi_neg h]; exact k
theorem gd_fi {c : Prop} {t e : Option α} {y z : α} {P : α → Prop} (h : c → gd t y P) (k : ¬ c → gd e z P) : gd (fi c t e) (fi c y z) P := by
  by_cases q : c
  · rw [fi_pos q, fi_pos q]
    exact h q
  · rw [fi_neg q, fi_neg q]
    exact k q
theorem gd_b {o : Option α} {y0 : α} {P0 : α → Prop} {g : α → Option β} {y : β} {P : β → Prop} (h : gd o y0 P0) (k : P0 y0 → gd (g y0) y P) : gd (o.bind g) y P := by
  rw [h.1]
  exact k h.2
/-- what goes on behind each of several calls goes on behind their choice -/
def gk (x : Option β) (k : α → Option β) (o : Option α) : Prop := x = o.bind k
theorem gk_b (o : Option α) (k : α → Option β) : gk (o.bind k) k o := rfl
theorem gk_0 {k : α → Option β} : gk none k none := rfl
theorem gk_fi {c : Prop} {x x' : Option β} {k : α → Option β} {o o' : Option α} (h : gk x k o) (h' : gk x' k o') : gk (fi c x x') k (fi c o o') := by
  unfold gk at *
  by_cases q : c
  · rw [fi_pos q, fi_pos q]
    exact h
  · rw [fi_neg q, fi_neg q]
    exact h'
theorem gd_kb {x : Option β} {k : α → Option β} {o : Option α} {y0 : α} {P0 : α → Prop} {y : β} {P : β → Prop} (hk : gk x k o) (h : gd o y0 P0) (q : P0 y0 → gd (k y0) y P) : gd x y P := by
  rw [hk, h.1]
  exact q h.2
theorem gd_op {o : Option α} {d : α} {P : α → Prop} (h : ∃ r, o = some r ∧ P r) : gd o (o.getD d) P := by
  obtain ⟨r, e, p⟩ := h
  rw [e]
  exact ⟨rfl, p⟩
theorem gd_z {M Mk : FM} {v : Int32} {y : Int32 × FM} (z : v = 0 ∨ v = 1) (T : Ty Mk) (e : Ext M Mk) (hy : y = (v, Mk)) : gd (fi (v = 0 ∨ v = 1) (some (v, Mk)) none) y (OkZ M) := by
  rw [fi_pos z, hy]
  exact ⟨rfl, T, e, z⟩
theorem gd_tV {M M1 : FM} {o : Option FM} {y : FM} (e : Ext M M1) (h : gd o y (OkV M1)) : gd o y (OkV M) := ⟨h.1, h.2.1, ext_tr e h.2.2⟩
theorem gd_tR {M M1 : FM} {o : Option (α × FM)} {y : α × FM} (e : Ext M M1) (h : gd o y (OkR M1)) : gd o y (OkR M) := ⟨h.1, h.2.1, ext_tr e h.2.2⟩
theorem gd_tZ {M M1 : FM} {o : Option (Int32 × FM)} {y : Int32 × FM} (e : Ext M M1) (h : gd o y (OkZ M1)) : gd o y (OkZ M) := ⟨h.1, h.2.1, ext_tr e h.2.2.1, h.2.2.2⟩
theorem gd_tN {M M1 : FM} {lo hi : Nat} {o : Option (Nat × FM)} {y : Nat × FM} (e : Ext M M1) (h : gd o y (OkN lo hi M1)) : gd o y (OkN lo hi M) := ⟨h.1, h.2.1, ext_tr e h.2.2.1, h.2.2.2⟩
theorem gd_tQ {M M1 : FM} {lo hi : Nat} {o : Option (Nat × FM)} {y : Nat × FM} (e : Ext M M1) (h : gd o y (OkQ lo hi M1)) : gd o y (OkQ lo hi M) := ⟨h.1, h.2.1, ext_tr e h.2.2.1, h.2.2.2⟩
end Gd
theorem gs_kb {α β Y : Type} {K : Y → Option β} {x : Option β} {k : α → Option β} {o : Option α} {y0 : α} {P0 : α → Prop} {y : Y} {P : Y → Prop} (hk : gk x k o) (h : gd o y0 P0) (q : P0 y0 → gs (k y0) y K P) : gs x y K P := by
  rw [hk, h.1]
  exact q h.2
theorem h_false {P : Prop} (h : False) : P := h.elim

theorem tN_15 {M : FM} {a : Nat} (T : TyR M.2.2) (h : fm_is M 7 7 a = true) : fm_is M 905 905 (M.2.2 15 a 0) = true := T.1 (7, 7, 15, 905, 905) (by decide) a h
theorem tN_17 {M : FM} {a : Nat} (T : TyR M.2.2) (h : fm_is M 10 10 a = true) : fm_is M 67 67 (M.2.2 17 a 0) = true := T.1 (10, 10, 17, 67, 67) (by decide) a h
theorem tN_18 {M : FM} {a : Nat} (T : TyR M.2.2) (h : fm_is M 11 11 a = true) : fm_is M 73 73 (M.2.2 18 a 0) = true := T.1 (11, 11, 18, 73, 73) (by decide) a h
theorem tN_19 {M : FM} {a : Nat} (T : TyR M.2.2) (h : fm_is M 11 11 a = true) : fm_is M 79 79 (M.2.2 19 a 0) = true := T.1 (11, 11, 19, 79, 79) (by decide) a h
theorem tN_20 {M : FM} {a : Nat} (T : TyR M.2.2) (h : fm_is M 11 11 a = true) : fm_is M 22 22 (M.2.2 20 a 0) = true := T.1 (11, 11, 20, 22, 22) (by decide) a h
theorem tN_21 {M : FM} {a : Nat} (T : TyR M.2.2) (h : fm_is M 11 11 a = true) : fm_is M 928 928 (M.2.2 21 a 0) = true := T.1 (11, 11, 21, 928, 928) (by decide) a h
theorem tN_24 {M : FM} {a : Nat} (T : TyR M.2.2) (h : fm_is M 12 12 a = true) : fm_is M 901 901 (M.2.2 24 a 0) = true := T.1 (12, 12, 24, 901, 901) (by decide) a h
theorem tN_25 {M : FM} {a : Nat} (T : TyR M.2.2) (h : fm_is M 12 12 a = true) : fm_is M 910 910 (M.2.2 25 a 0) = true := T.1 (12, 12, 25, 910, 910) (by decide) a h
theorem tN_26 {M : FM} {a : Nat} (T : TyR M.2.2) (h : fm_is M 12 12 a = true) : fm_is M 13 19 (M.2.2 26 a 0) = true := T.1 (12, 12, 26, 13, 19) (by decide) a h
theorem tN_27 {M : FM} {a : Nat} (T : TyR M.2.2) (h : fm_is M 12 12 a = true) : fm_is M 16 16 (M.2.2 27 a 0) = true := T.1 (12, 12, 27, 16, 16) (by decide) a h
theorem tN_28 {M : FM} {a : Nat} (T : TyR M.2.2) (h : fm_is M 12 12 a = true) : fm_is M 14 17 (M.2.2 28 a 0) = true := T.1 (12, 12, 28, 14, 17) (by decide) a h
theorem tN_29 {M : FM} {a : Nat} (T : TyR M.2.2) (h : fm_is M 12 12 a = true) : fm_is M 14 17 (M.2.2 29 a 0) = true := T.1 (12, 12, 29, 14, 17) (by decide) a h
theorem tN_30 {M : FM} {a : Nat} (T : TyR M.2.2) (h : fm_is M 12 12 a = true) : fm_is M 14 17 (M.2.2 30 a 0) = true := T.1 (12, 12, 30, 14, 17) (by decide) a h
theorem tN_31 {M : FM} {a : Nat} (T : TyR M.2.2) (h : fm_is M 12 12 a = true) : fm_is M 15 15 (M.2.2 31 a 0) = true := T.1 (12, 12, 31, 15, 15) (by decide) a h
theorem tN_32 {M : FM} {a : Nat} (T : TyR M.2.2) (h : fm_is M 12 12 a = true) : fm_is M 20 20 (M.2.2 32 a 0) = true := T.1 (12, 12, 32, 20, 20) (by decide) a h
theorem tN_33 {M : FM} {a : Nat} (T : TyR M.2.2) (h : fm_is M 12 12 a = true) : fm_is M 20 20 (M.2.2 33 a 0) = true := T.1 (12, 12, 33, 20, 20) (by decide) a h
theorem tN_34 {M : FM} {a : Nat} (T : TyR M.2.2) (h : fm_is M 12 12 a = true) : fm_is M 14 17 (M.2.2 34 a 0) = true := T.1 (12, 12, 34, 14, 17) (by decide) a h
theorem tN_35 {M : FM} {a : Nat} (T : TyR M.2.2) (h : fm_is M 12 12 a = true) : fm_is M 14 17 (M.2.2 35 a 0) = true := T.1 (12, 12, 35, 14, 17) (by decide) a h
theorem tN_36 {M : FM} {a : Nat} (T : TyR M.2.2) (h : fm_is M 12 12 a = true) : fm_is M 14 17 (M.2.2 36 a 0) = true := T.1 (12, 12, 36, 14, 17) (by decide) a h
theorem tN_44 {M : FM} {a : Nat} (T : TyR M.2.2) (h : fm_is M 18 18 a = true) : fm_is M 13 19 (M.2.2 44 a 0) = true := T.1 (18, 18, 44, 13, 19) (by decide) a h
theorem tN_45 {M : FM} {a : Nat} (T : TyR M.2.2) (h : fm_is M 19 19 a = true) : fm_is M 14 17 (M.2.2 45 a 0) = true := T.1 (19, 19, 45, 14, 17) (by decide) a h
theorem tN_46 {M : FM} {a : Nat} (T : TyR M.2.2) (h : fm_is M 19 19 a = true) : fm_is M 13 19 (M.2.2 46 a 0) = true := T.1 (19, 19, 46, 13, 19) (by decide) a h
theorem tN_49 {M : FM} {a : Nat} (T : TyR M.2.2) (h : fm_is M 20 20 a = true) : fm_is M 14 17 (M.2.2 49 a 0) = true := T.1 (20, 20, 49, 14, 17) (by decide) a h
theorem tN_50 {M : FM} {a : Nat} (T : TyR M.2.2) (h : fm_is M 20 20 a = true) : fm_is M 14 17 (M.2.2 50 a 0) = true := T.1 (20, 20, 50, 14, 17) (by decide) a h
theorem tN_51 {M : FM} {a : Nat} (T : TyR M.2.2) (h : fm_is M 20 20 a = true) : fm_is M 14 17 (M.2.2 51 a 0) = true := T.1 (20, 20, 51, 14, 17) (by decide) a h
theorem tN_52 {M : FM} {a : Nat} (T : TyR M.2.2) (h : fm_is M 20 20 a = true) : fm_is M 14 17 (M.2.2 52 a 0) = true := T.1 (20, 20, 52, 14, 17) (by decide) a h
theorem tN_53 {M : FM} {a : Nat} (T : TyR M.2.2) (h : fm_is M 20 20 a = true) : fm_is M 14 17 (M.2.2 53 a 0) = true := T.1 (20, 20, 53, 14, 17) (by decide) a h
theorem tN_54 {M : FM} {a : Nat} (T : TyR M.2.2) (h : fm_is M 20 20 a = true) : fm_is M 14 17 (M.2.2 54 a 0) = true := T.1 (20, 20, 54, 14, 17) (by decide) a h
theorem tN_55 {M : FM} {a : Nat} (T : TyR M.2.2) (h : fm_is M 21 21 a = true) : fm_is M 86 86 (M.2.2 55 a 0) = true := T.1 (21, 21, 55, 86, 86) (by decide) a h
theorem tN_56 {M : FM} {a : Nat} (T : TyR M.2.2) (h : fm_is M 21 21 a = true) : fm_is M 87 87 (M.2.2 56 a 0) = true := T.1 (21, 21, 56, 87, 87) (by decide) a h
theorem tN_57 {M : FM} {a : Nat} (T : TyR M.2.2) (h : fm_is M 21 21 a = true) : fm_is M 84 84 (M.2.2 57 a 0) = true := T.1 (21, 21, 57, 84, 84) (by decide) a h
theorem tN_58 {M : FM} {a : Nat} (T : TyR M.2.2) (h : fm_is M 22 22 a = true) : fm_is M 76 76 (M.2.2 58 a 0) = true := T.1 (22, 22, 58, 76, 76) (by decide) a h
theorem tN_59 {M : FM} {a : Nat} (T : TyR M.2.2) (h : fm_is M 22 22 a = true) : fm_is M 23 23 (M.2.2 59 a 0) = true := T.1 (22, 22, 59, 23, 23) (by decide) a h
theorem tN_60 {M : FM} {a : Nat} (T : TyR M.2.2) (h : fm_is M 22 22 a = true) : fm_is M 28 28 (M.2.2 60 a 0) = true := T.1 (22, 22, 60, 28, 28) (by decide) a h
theorem tN_61 {M : FM} {a : Nat} (T : TyR M.2.2) (h : fm_is M 22 22 a = true) : fm_is M 29 29 (M.2.2 61 a 0) = true := T.1 (22, 22, 61, 29, 29) (by decide) a h
theorem tN_62 {M : FM} {a : Nat} (T : TyR M.2.2) (h : fm_is M 22 22 a = true) : fm_is M 911 911 (M.2.2 62 a 0) = true := T.1 (22, 22, 62, 911, 911) (by decide) a h
theorem tN_69 {M : FM} {a : Nat} (T : TyR M.2.2) (h : fm_is M 23 23 a = true) : fm_is M 902 902 (M.2.2 69 a 0) = true := T.1 (23, 23, 69, 902, 902) (by decide) a h
theorem tN_78 {M : FM} {a : Nat} (T : TyR M.2.2) (h : fm_is M 29 29 a = true) : fm_is M 30 30 (M.2.2 78 a 0) = true := T.1 (29, 29, 78, 30, 30) (by decide) a h
theorem tN_79 {M : FM} {a : Nat} (T : TyR M.2.2) (h : fm_is M 29 29 a = true) : fm_is M 30 30 (M.2.2 79 a 0) = true := T.1 (29, 29, 79, 30, 30) (by decide) a h
theorem tN_85 {M : FM} {a : Nat} (T : TyR M.2.2) (h : fm_is M 30 30 a = true) : fm_is M 902 902 (M.2.2 85 a 0) = true := T.1 (30, 30, 85, 902, 902) (by decide) a h
theorem tN_86 {M : FM} {a : Nat} (T : TyR M.2.2) (h : fm_is M 30 30 a = true) : fm_is M 902 902 (M.2.2 86 a 0) = true := T.1 (30, 30, 86, 902, 902) (by decide) a h
theorem tN_93 {M : FM} {a : Nat} (T : TyR M.2.2) (h : fm_is M 32 32 a = true) : fm_is M 902 902 (M.2.2 93 a 0) = true := T.1 (32, 32, 93, 902, 902) (by decide) a h
theorem tN_94 {M : FM} {a : Nat} (T : TyR M.2.2) (h : fm_is M 32 32 a = true) : fm_is M 31 31 (M.2.2 94 a 0) = true := T.1 (32, 32, 94, 31, 31) (by decide) a h
theorem tN_98 {M : FM} {a : Nat} (T : TyR M.2.2) (h : fm_is M 32 32 a = true) : fm_is M 912 912 (M.2.2 98 a 0) = true := T.1 (32, 32, 98, 912, 912) (by decide) a h
theorem tN_99 {M : FM} {a : Nat} (T : TyR M.2.2) (h : fm_is M 32 32 a = true) : fm_is M 913 913 (M.2.2 99 a 0) = true := T.1 (32, 32, 99, 913, 913) (by decide) a h
theorem tN_100 {M : FM} {a : Nat} (T : TyR M.2.2) (h : fm_is M 32 32 a = true) : fm_is M 915 915 (M.2.2 100 a 0) = true := T.1 (32, 32, 100, 915, 915) (by decide) a h
theorem tN_101 {M : FM} {a : Nat} (T : TyR M.2.2) (h : fm_is M 32 32 a = true) : fm_is M 914 914 (M.2.2 101 a 0) = true := T.1 (32, 32, 101, 914, 914) (by decide) a h
theorem tN_102 {M : FM} {a : Nat} (T : TyR M.2.2) (h : fm_is M 32 32 a = true) : fm_is M 34 38 (M.2.2 102 a 0) = true := T.1 (32, 32, 102, 34, 38) (by decide) a h
theorem tN_103 {M : FM} {a : Nat} (T : TyR M.2.2) (h : fm_is M 32 32 a = true) : fm_is M 34 38 (M.2.2 103 a 0) = true := T.1 (32, 32, 103, 34, 38) (by decide) a h
theorem tN_104 {M : FM} {a : Nat} (T : TyR M.2.2) (h : fm_is M 32 32 a = true) : fm_is M 34 38 (M.2.2 104 a 0) = true := T.1 (32, 32, 104, 34, 38) (by decide) a h
theorem tN_105 {M : FM} {a : Nat} (T : TyR M.2.2) (h : fm_is M 32 32 a = true) : fm_is M 39 39 (M.2.2 105 a 0) = true := T.1 (32, 32, 105, 39, 39) (by decide) a h
theorem tN_106 {M : FM} {a : Nat} (T : TyR M.2.2) (h : fm_is M 32 32 a = true) : fm_is M 39 39 (M.2.2 106 a 0) = true := T.1 (32, 32, 106, 39, 39) (by decide) a h
theorem tN_107 {M : FM} {a : Nat} (T : TyR M.2.2) (h : fm_is M 32 32 a = true) : fm_is M 39 39 (M.2.2 107 a 0) = true := T.1 (32, 32, 107, 39, 39) (by decide) a h
theorem tN_108 {M : FM} {a : Nat} (T : TyR M.2.2) (h : fm_is M 32 32 a = true) : fm_is M 39 39 (M.2.2 108 a 0) = true := T.1 (32, 32, 108, 39, 39) (by decide) a h
theorem tN_112 {M : FM} {a : Nat} (T : TyR M.2.2) (h : fm_is M 33 33 a = true) : fm_is M 40 40 (M.2.2 112 a 0) = true := T.1 (33, 33, 112, 40, 40) (by decide) a h
theorem tN_114 {M : FM} {a : Nat} (T : TyR M.2.2) (h : fm_is M 39 39 a = true) : fm_is M 2 2 (M.2.2 114 a 0) = true := T.1 (39, 39, 114, 2, 2) (by decide) a h
theorem tN_117 {M : FM} {a : Nat} (T : TyR M.2.2) (h : fm_is M 39 39 a = true) : fm_is M 40 40 (M.2.2 117 a 0) = true := T.1 (39, 39, 117, 40, 40) (by decide) a h
theorem tN_121 {M : FM} {a : Nat} (T : TyR M.2.2) (h : fm_is M 41 41 a = true) : fm_is M 902 902 (M.2.2 121 a 0) = true := T.1 (41, 41, 121, 902, 902) (by decide) a h
theorem tN_125 {M : FM} {a : Nat} (T : TyR M.2.2) (h : fm_is M 42 42 a = true) : fm_is M 901 901 (M.2.2 125 a 0) = true := T.1 (42, 42, 125, 901, 901) (by decide) a h
theorem tN_136 {M : FM} {a : Nat} (T : TyR M.2.2) (h : fm_is M 47 47 a = true) : fm_is M 901 901 (M.2.2 136 a 0) = true := T.1 (47, 47, 136, 901, 901) (by decide) a h
theorem tN_137 {M : FM} {a : Nat} (T : TyR M.2.2) (h : fm_is M 47 47 a = true) : fm_is M 42 42 (M.2.2 137 a 0) = true := T.1 (47, 47, 137, 42, 42) (by decide) a h
theorem tN_141 {M : FM} {a : Nat} (T : TyR M.2.2) (h : fm_is M 49 49 a = true) : fm_is M 42 42 (M.2.2 141 a 0) = true := T.1 (49, 49, 141, 42, 42) (by decide) a h
theorem tN_142 {M : FM} {a : Nat} (T : TyR M.2.2) (h : fm_is M 52 52 a = true) : fm_is M 916 916 (M.2.2 142 a 0) = true := T.1 (52, 52, 142, 916, 916) (by decide) a h
theorem tN_161 {M : FM} {a : Nat} (T : TyR M.2.2) (h : fm_is M 62 62 a = true) : fm_is M 53 60 (M.2.2 161 a 0) = true := T.1 (62, 62, 161, 53, 60) (by decide) a h
theorem tN_162 {M : FM} {a : Nat} (T : TyR M.2.2) (h : fm_is M 62 62 a = true) : fm_is M 53 60 (M.2.2 162 a 0) = true := T.1 (62, 62, 162, 53, 60) (by decide) a h
theorem tN_163 {M : FM} {a : Nat} (T : TyR M.2.2) (h : fm_is M 62 62 a = true) : fm_is M 53 60 (M.2.2 163 a 0) = true := T.1 (62, 62, 163, 53, 60) (by decide) a h
theorem tN_164 {M : FM} {a : Nat} (T : TyR M.2.2) (h : fm_is M 62 62 a = true) : fm_is M 53 60 (M.2.2 164 a 0) = true := T.1 (62, 62, 164, 53, 60) (by decide) a h
theorem tN_165 {M : FM} {a : Nat} (T : TyR M.2.2) (h : fm_is M 62 62 a = true) : fm_is M 53 60 (M.2.2 165 a 0) = true := T.1 (62, 62, 165, 53, 60) (by decide) a h
theorem tN_166 {M : FM} {a : Nat} (T : TyR M.2.2) (h : fm_is M 62 62 a = true) : fm_is M 53 60 (M.2.2 166 a 0) = true := T.1 (62, 62, 166, 53, 60) (by decide) a h
theorem tN_167 {M : FM} {a : Nat} (T : TyR M.2.2) (h : fm_is M 62 62 a = true) : fm_is M 53 60 (M.2.2 167 a 0) = true := T.1 (62, 62, 167, 53, 60) (by decide) a h
theorem tN_168 {M : FM} {a : Nat} (T : TyR M.2.2) (h : fm_is M 62 62 a = true) : fm_is M 53 60 (M.2.2 168 a 0) = true := T.1 (62, 62, 168, 53, 60) (by decide) a h
theorem tN_169 {M : FM} {a : Nat} (T : TyR M.2.2) (h : fm_is M 62 62 a = true) : fm_is M 53 60 (M.2.2 169 a 0) = true := T.1 (62, 62, 169, 53, 60) (by decide) a h
theorem tN_170 {M : FM} {a : Nat} (T : TyR M.2.2) (h : fm_is M 62 62 a = true) : fm_is M 53 60 (M.2.2 170 a 0) = true := T.1 (62, 62, 170, 53, 60) (by decide) a h
theorem tN_171 {M : FM} {a : Nat} (T : TyR M.2.2) (h : fm_is M 63 63 a = true) : fm_is M 64 64 (M.2.2 171 a 0) = true := T.1 (63, 63, 171, 64, 64) (by decide) a h
theorem tN_172 {M : FM} {a : Nat} (T : TyR M.2.2) (h : fm_is M 63 63 a = true) : fm_is M 62 62 (M.2.2 172 a 0) = true := T.1 (63, 63, 172, 62, 62) (by decide) a h
theorem tN_173 {M : FM} {a : Nat} (T : TyR M.2.2) (h : fm_is M 63 63 a = true) : fm_is M 917 917 (M.2.2 173 a 0) = true := T.1 (63, 63, 173, 917, 917) (by decide) a h
theorem tN_175 {M : FM} {a : Nat} (T : TyR M.2.2) (h : fm_is M 63 63 a = true) : fm_is M 902 902 (M.2.2 175 a 0) = true := T.1 (63, 63, 175, 902, 902) (by decide) a h
theorem tN_178 {M : FM} {a : Nat} (T : TyR M.2.2) (h : fm_is M 64 64 a = true) : fm_is M 902 902 (M.2.2 178 a 0) = true := T.1 (64, 64, 178, 902, 902) (by decide) a h
theorem tN_186 {M : FM} {a : Nat} (T : TyR M.2.2) (h : fm_is M 66 66 a = true) : fm_is M 86 86 (M.2.2 186 a 0) = true := T.1 (66, 66, 186, 86, 86) (by decide) a h
theorem tN_187 {M : FM} {a : Nat} (T : TyR M.2.2) (h : fm_is M 66 66 a = true) : fm_is M 73 73 (M.2.2 187 a 0) = true := T.1 (66, 66, 187, 73, 73) (by decide) a h
theorem tN_189 {M : FM} {a : Nat} (T : TyR M.2.2) (h : fm_is M 67 67 a = true) : fm_is M 11 11 (M.2.2 189 a 0) = true := T.1 (67, 67, 189, 11, 11) (by decide) a h
theorem tN_190 {M : FM} {a : Nat} (T : TyR M.2.2) (h : fm_is M 67 67 a = true) : fm_is M 922 922 (M.2.2 190 a 0) = true := T.1 (67, 67, 190, 922, 922) (by decide) a h
theorem tN_191 {M : FM} {a : Nat} (T : TyR M.2.2) (h : fm_is M 67 67 a = true) : fm_is M 86 86 (M.2.2 191 a 0) = true := T.1 (67, 67, 191, 86, 86) (by decide) a h
theorem tN_192 {M : FM} {a : Nat} (T : TyR M.2.2) (h : fm_is M 67 67 a = true) : fm_is M 66 66 (M.2.2 192 a 0) = true := T.1 (67, 67, 192, 66, 66) (by decide) a h
theorem tN_193 {M : FM} {a : Nat} (T : TyR M.2.2) (h : fm_is M 67 67 a = true) : fm_is M 21 21 (M.2.2 193 a 0) = true := T.1 (67, 67, 193, 21, 21) (by decide) a h
theorem tN_194 {M : FM} {a : Nat} (T : TyR M.2.2) (h : fm_is M 67 67 a = true) : fm_is M 903 903 (M.2.2 194 a 0) = true := T.1 (67, 67, 194, 903, 903) (by decide) a h
theorem tN_201 {M : FM} {a : Nat} (T : TyR M.2.2) (h : fm_is M 72 72 a = true) : fm_is M 902 902 (M.2.2 201 a 0) = true := T.1 (72, 72, 201, 902, 902) (by decide) a h
theorem tN_203 {M : FM} {a : Nat} (T : TyR M.2.2) (h : fm_is M 73 73 a = true) : fm_is M 920 920 (M.2.2 203 a 0) = true := T.1 (73, 73, 203, 920, 920) (by decide) a h
theorem tN_204 {M : FM} {a : Nat} (T : TyR M.2.2) (h : fm_is M 73 73 a = true) : fm_is M 902 902 (M.2.2 204 a 0) = true := T.1 (73, 73, 204, 902, 902) (by decide) a h
theorem tN_205 {M : FM} {a : Nat} (T : TyR M.2.2) (h : fm_is M 73 73 a = true) : fm_is M 921 921 (M.2.2 205 a 0) = true := T.1 (73, 73, 205, 921, 921) (by decide) a h
theorem tN_206 {M : FM} {a : Nat} (T : TyR M.2.2) (h : fm_is M 73 73 a = true) : fm_is M 919 919 (M.2.2 206 a 0) = true := T.1 (73, 73, 206, 919, 919) (by decide) a h
theorem tN_210 {M : FM} {a : Nat} (T : TyR M.2.2) (h : fm_is M 75 75 a = true) : fm_is M 11 11 (M.2.2 210 a 0) = true := T.1 (75, 75, 210, 11, 11) (by decide) a h
theorem tN_211 {M : FM} {a : Nat} (T : TyR M.2.2) (h : fm_is M 75 75 a = true) : fm_is M 63 63 (M.2.2 211 a 0) = true := T.1 (75, 75, 211, 63, 63) (by decide) a h
theorem tN_212 {M : FM} {a : Nat} (T : TyR M.2.2) (h : fm_is M 75 75 a = true) : fm_is M 32 32 (M.2.2 212 a 0) = true := T.1 (75, 75, 212, 32, 32) (by decide) a h
theorem tN_213 {M : FM} {a : Nat} (T : TyR M.2.2) (h : fm_is M 75 75 a = true) : fm_is M 12 12 (M.2.2 213 a 0) = true := T.1 (75, 75, 213, 12, 12) (by decide) a h
theorem tN_214 {M : FM} {a : Nat} (T : TyR M.2.2) (h : fm_is M 75 75 a = true) : fm_is M 91 91 (M.2.2 214 a 0) = true := T.1 (75, 75, 214, 91, 91) (by decide) a h
theorem tN_215 {M : FM} {a : Nat} (T : TyR M.2.2) (h : fm_is M 75 75 a = true) : fm_is M 52 52 (M.2.2 215 a 0) = true := T.1 (75, 75, 215, 52, 52) (by decide) a h
theorem tN_216 {M : FM} {a : Nat} (T : TyR M.2.2) (h : fm_is M 75 75 a = true) : fm_is M 918 918 (M.2.2 216 a 0) = true := T.1 (75, 75, 216, 918, 918) (by decide) a h
theorem tN_217 {M : FM} {a : Nat} (T : TyR M.2.2) (h : fm_is M 75 75 a = true) : fm_is M 41 41 (M.2.2 217 a 0) = true := T.1 (75, 75, 217, 41, 41) (by decide) a h
theorem tN_222 {M : FM} {a : Nat} (T : TyR M.2.2) (h : fm_is M 76 76 a = true) : fm_is M 73 73 (M.2.2 222 a 0) = true := T.1 (76, 76, 222, 73, 73) (by decide) a h
theorem tN_224 {M : FM} {a : Nat} (T : TyR M.2.2) (h : fm_is M 77 77 a = true) : fm_is M 901 901 (M.2.2 224 a 0) = true := T.1 (77, 77, 224, 901, 901) (by decide) a h
theorem tN_225 {M : FM} {a : Nat} (T : TyR M.2.2) (h : fm_is M 77 77 a = true) : fm_is M 901 901 (M.2.2 225 a 0) = true := T.1 (77, 77, 225, 901, 901) (by decide) a h
theorem tN_226 {M : FM} {a : Nat} (T : TyR M.2.2) (h : fm_is M 77 77 a = true) : fm_is M 901 901 (M.2.2 226 a 0) = true := T.1 (77, 77, 226, 901, 901) (by decide) a h
theorem tN_230 {M : FM} {a : Nat} (T : TyR M.2.2) (h : fm_is M 78 78 a = true) : fm_is M 901 901 (M.2.2 230 a 0) = true := T.1 (78, 78, 230, 901, 901) (by decide) a h
theorem tN_233 {M : FM} {a : Nat} (T : TyR M.2.2) (h : fm_is M 78 78 a = true) : fm_is M 903 903 (M.2.2 233 a 0) = true := T.1 (78, 78, 233, 903, 903) (by decide) a h
theorem tN_235 {M : FM} {a : Nat} (T : TyR M.2.2) (h : fm_is M 78 78 a = true) : fm_is M 901 901 (M.2.2 235 a 0) = true := T.1 (78, 78, 235, 901, 901) (by decide) a h
theorem tN_240 {M : FM} {a : Nat} (T : TyR M.2.2) (h : fm_is M 79 79 a = true) : fm_is M 80 80 (M.2.2 240 a 0) = true := T.1 (79, 79, 240, 80, 80) (by decide) a h
theorem tN_241 {M : FM} {a : Nat} (T : TyR M.2.2) (h : fm_is M 79 79 a = true) : fm_is M 77 77 (M.2.2 241 a 0) = true := T.1 (79, 79, 241, 77, 77) (by decide) a h
theorem tN_242 {M : FM} {a : Nat} (T : TyR M.2.2) (h : fm_is M 79 79 a = true) : fm_is M 78 78 (M.2.2 242 a 0) = true := T.1 (79, 79, 242, 78, 78) (by decide) a h
theorem tN_243 {M : FM} {a : Nat} (T : TyR M.2.2) (h : fm_is M 79 79 a = true) : fm_is M 923 923 (M.2.2 243 a 0) = true := T.1 (79, 79, 243, 923, 923) (by decide) a h
theorem tN_245 {M : FM} {a : Nat} (T : TyR M.2.2) (h : fm_is M 80 80 a = true) : fm_is M 901 901 (M.2.2 245 a 0) = true := T.1 (80, 80, 245, 901, 901) (by decide) a h
theorem tN_246 {M : FM} {a : Nat} (T : TyR M.2.2) (h : fm_is M 80 80 a = true) : fm_is M 902 902 (M.2.2 246 a 0) = true := T.1 (80, 80, 246, 902, 902) (by decide) a h
theorem tN_247 {M : FM} {a : Nat} (T : TyR M.2.2) (h : fm_is M 81 81 a = true) : fm_is M 73 73 (M.2.2 247 a 0) = true := T.1 (81, 81, 247, 73, 73) (by decide) a h
theorem tN_248 {M : FM} {a : Nat} (T : TyR M.2.2) (h : fm_is M 82 82 a = true) : fm_is M 83 83 (M.2.2 248 a 0) = true := T.1 (82, 82, 248, 83, 83) (by decide) a h
theorem tN_256 {M : FM} {a : Nat} (T : TyR M.2.2) (h : fm_is M 84 84 a = true) : fm_is M 86 86 (M.2.2 256 a 0) = true := T.1 (84, 84, 256, 86, 86) (by decide) a h
theorem tN_257 {M : FM} {a : Nat} (T : TyR M.2.2) (h : fm_is M 84 84 a = true) : fm_is M 86 86 (M.2.2 257 a 0) = true := T.1 (84, 84, 257, 86, 86) (by decide) a h
theorem tN_258 {M : FM} {a : Nat} (T : TyR M.2.2) (h : fm_is M 85 85 a = true) : fm_is M 83 83 (M.2.2 258 a 0) = true := T.1 (85, 85, 258, 83, 83) (by decide) a h
theorem tN_259 {M : FM} {a : Nat} (T : TyR M.2.2) (h : fm_is M 85 85 a = true) : fm_is M 83 83 (M.2.2 259 a 0) = true := T.1 (85, 85, 259, 83, 83) (by decide) a h
theorem tN_261 {M : FM} {a : Nat} (T : TyR M.2.2) (h : fm_is M 86 86 a = true) : fm_is M 903 903 (M.2.2 261 a 0) = true := T.1 (86, 86, 261, 903, 903) (by decide) a h
theorem tN_263 {M : FM} {a : Nat} (T : TyR M.2.2) (h : fm_is M 87 87 a = true) : fm_is M 86 86 (M.2.2 263 a 0) = true := T.1 (87, 87, 263, 86, 86) (by decide) a h
theorem tN_264 {M : FM} {a : Nat} (T : TyR M.2.2) (h : fm_is M 87 87 a = true) : fm_is M 924 924 (M.2.2 264 a 0) = true := T.1 (87, 87, 264, 924, 924) (by decide) a h
theorem tN_265 {M : FM} {a : Nat} (T : TyR M.2.2) (h : fm_is M 87 87 a = true) : fm_is M 925 925 (M.2.2 265 a 0) = true := T.1 (87, 87, 265, 925, 925) (by decide) a h
theorem tN_278 {M : FM} {a : Nat} (T : TyR M.2.2) (h : fm_is M 88 88 a = true) : fm_is M 902 902 (M.2.2 278 a 0) = true := T.1 (88, 88, 278, 902, 902) (by decide) a h
theorem tN_279 {M : FM} {a : Nat} (T : TyR M.2.2) (h : fm_is M 88 88 a = true) : fm_is M 902 902 (M.2.2 279 a 0) = true := T.1 (88, 88, 279, 902, 902) (by decide) a h
theorem tN_284 {M : FM} {a : Nat} (T : TyR M.2.2) (h : fm_is M 90 90 a = true) : fm_is M 927 927 (M.2.2 284 a 0) = true := T.1 (90, 90, 284, 927, 927) (by decide) a h
theorem tN_286 {M : FM} {a : Nat} (T : TyR M.2.2) (h : fm_is M 91 91 a = true) : fm_is M 933 933 (M.2.2 286 a 0) = true := T.1 (91, 91, 286, 933, 933) (by decide) a h
theorem tN_287 {M : FM} {a : Nat} (T : TyR M.2.2) (h : fm_is M 91 91 a = true) : fm_is M 81 81 (M.2.2 287 a 0) = true := T.1 (91, 91, 287, 81, 81) (by decide) a h
theorem tN_288 {M : FM} {a : Nat} (T : TyR M.2.2) (h : fm_is M 91 91 a = true) : fm_is M 90 90 (M.2.2 288 a 0) = true := T.1 (91, 91, 288, 90, 90) (by decide) a h
theorem tN_291 {M : FM} {a : Nat} (T : TyR M.2.2) (h : fm_is M 91 91 a = true) : fm_is M 926 926 (M.2.2 291 a 0) = true := T.1 (91, 91, 291, 926, 926) (by decide) a h
theorem tN_295 {M : FM} {a : Nat} (T : TyR M.2.2) (h : fm_is M 91 91 a = true) : fm_is M 902 902 (M.2.2 295 a 0) = true := T.1 (91, 91, 295, 902, 902) (by decide) a h
theorem tN_298 {M : FM} {a : Nat} (T : TyR M.2.2) (h : fm_is M 92 92 a = true) : fm_is M 98 98 (M.2.2 298 a 0) = true := T.1 (92, 92, 298, 98, 98) (by decide) a h
theorem tN_299 {M : FM} {a : Nat} (T : TyR M.2.2) (h : fm_is M 92 92 a = true) : fm_is M 97 97 (M.2.2 299 a 0) = true := T.1 (92, 92, 299, 97, 97) (by decide) a h
theorem tN_300 {M : FM} {a : Nat} (T : TyR M.2.2) (h : fm_is M 92 92 a = true) : fm_is M 93 93 (M.2.2 300 a 0) = true := T.1 (92, 92, 300, 93, 93) (by decide) a h
theorem tN_301 {M : FM} {a : Nat} (T : TyR M.2.2) (h : fm_is M 92 92 a = true) : fm_is M 99 99 (M.2.2 301 a 0) = true := T.1 (92, 92, 301, 99, 99) (by decide) a h
theorem tN_302 {M : FM} {a : Nat} (T : TyR M.2.2) (h : fm_is M 92 92 a = true) : fm_is M 100 100 (M.2.2 302 a 0) = true := T.1 (92, 92, 302, 100, 100) (by decide) a h
theorem tN_303 {M : FM} {a : Nat} (T : TyR M.2.2) (h : fm_is M 92 92 a = true) : fm_is M 929 929 (M.2.2 303 a 0) = true := T.1 (92, 92, 303, 929, 929) (by decide) a h
theorem tN_304 {M : FM} {a : Nat} (T : TyR M.2.2) (h : fm_is M 92 92 a = true) : fm_is M 931 931 (M.2.2 304 a 0) = true := T.1 (92, 92, 304, 931, 931) (by decide) a h
theorem tN_305 {M : FM} {a : Nat} (T : TyR M.2.2) (h : fm_is M 92 92 a = true) : fm_is M 930 930 (M.2.2 305 a 0) = true := T.1 (92, 92, 305, 930, 930) (by decide) a h
theorem tN_306 {M : FM} {a : Nat} (T : TyR M.2.2) (h : fm_is M 92 92 a = true) : fm_is M 932 932 (M.2.2 306 a 0) = true := T.1 (92, 92, 306, 932, 932) (by decide) a h
theorem tN_307 {M : FM} {a : Nat} (T : TyR M.2.2) (h : fm_is M 92 92 a = true) : fm_is M 904 904 (M.2.2 307 a 0) = true := T.1 (92, 92, 307, 904, 904) (by decide) a h
theorem tN_308 {M : FM} {a : Nat} (T : TyR M.2.2) (h : fm_is M 92 92 a = true) : fm_is M 901 901 (M.2.2 308 a 0) = true := T.1 (92, 92, 308, 901, 901) (by decide) a h
theorem tN_310 {M : FM} {a : Nat} (T : TyR M.2.2) (h : fm_is M 92 92 a = true) : fm_is M 901 901 (M.2.2 310 a 0) = true := T.1 (92, 92, 310, 901, 901) (by decide) a h
theorem tN_323 {M : FM} {a : Nat} (T : TyR M.2.2) (h : fm_is M 92 92 a = true) : fm_is M 902 902 (M.2.2 323 a 0) = true := T.1 (92, 92, 323, 902, 902) (by decide) a h
theorem tN_326 {M : FM} {a : Nat} (T : TyR M.2.2) (h : fm_is M 93 93 a = true) : fm_is M 98 98 (M.2.2 326 a 0) = true := T.1 (93, 93, 326, 98, 98) (by decide) a h
theorem tN_327 {M : FM} {a : Nat} (T : TyR M.2.2) (h : fm_is M 93 93 a = true) : fm_is M 902 902 (M.2.2 327 a 0) = true := T.1 (93, 93, 327, 902, 902) (by decide) a h
theorem tN_334 {M : FM} {a : Nat} (T : TyR M.2.2) (h : fm_is M 93 93 a = true) : fm_is M 902 902 (M.2.2 334 a 0) = true := T.1 (93, 93, 334, 902, 902) (by decide) a h
theorem tN_340 {M : FM} {a : Nat} (T : TyR M.2.2) (h : fm_is M 93 93 a = true) : fm_is M 902 902 (M.2.2 340 a 0) = true := T.1 (93, 93, 340, 902, 902) (by decide) a h
theorem tN_341 {M : FM} {a : Nat} (T : TyR M.2.2) (h : fm_is M 93 93 a = true) : fm_is M 902 902 (M.2.2 341 a 0) = true := T.1 (93, 93, 341, 902, 902) (by decide) a h
theorem tN_342 {M : FM} {a : Nat} (T : TyR M.2.2) (h : fm_is M 93 93 a = true) : fm_is M 904 904 (M.2.2 342 a 0) = true := T.1 (93, 93, 342, 904, 904) (by decide) a h
theorem tN_346 {M : FM} {a : Nat} (T : TyR M.2.2) (h : fm_is M 94 94 a = true) : fm_is M 902 902 (M.2.2 346 a 0) = true := T.1 (94, 94, 346, 902, 902) (by decide) a h
theorem tN_355 {M : FM} {a : Nat} (T : TyR M.2.2) (h : fm_is M 94 94 a = true) : fm_is M 902 902 (M.2.2 355 a 0) = true := T.1 (94, 94, 355, 902, 902) (by decide) a h
theorem tN_361 {M : FM} {a : Nat} (T : TyR M.2.2) (h : fm_is M 95 95 a = true) : fm_is M 902 902 (M.2.2 361 a 0) = true := T.1 (95, 95, 361, 902, 902) (by decide) a h
theorem tN_362 {M : FM} {a : Nat} (T : TyR M.2.2) (h : fm_is M 95 95 a = true) : fm_is M 904 904 (M.2.2 362 a 0) = true := T.1 (95, 95, 362, 904, 904) (by decide) a h
theorem tN_367 {M : FM} {a : Nat} (T : TyR M.2.2) (h : fm_is M 96 96 a = true) : fm_is M 902 902 (M.2.2 367 a 0) = true := T.1 (96, 96, 367, 902, 902) (by decide) a h
theorem tN_372 {M : FM} {a : Nat} (T : TyR M.2.2) (h : fm_is M 96 96 a = true) : fm_is M 901 901 (M.2.2 372 a 0) = true := T.1 (96, 96, 372, 901, 901) (by decide) a h
theorem tN_373 {M : FM} {a : Nat} (T : TyR M.2.2) (h : fm_is M 96 96 a = true) : fm_is M 901 901 (M.2.2 373 a 0) = true := T.1 (96, 96, 373, 901, 901) (by decide) a h
theorem tN_374 {M : FM} {a : Nat} (T : TyR M.2.2) (h : fm_is M 96 96 a = true) : fm_is M 901 901 (M.2.2 374 a 0) = true := T.1 (96, 96, 374, 901, 901) (by decide) a h
theorem tN_375 {M : FM} {a : Nat} (T : TyR M.2.2) (h : fm_is M 96 96 a = true) : fm_is M 901 901 (M.2.2 375 a 0) = true := T.1 (96, 96, 375, 901, 901) (by decide) a h
theorem tN_376 {M : FM} {a : Nat} (T : TyR M.2.2) (h : fm_is M 96 96 a = true) : fm_is M 901 901 (M.2.2 376 a 0) = true := T.1 (96, 96, 376, 901, 901) (by decide) a h
theorem tN_377 {M : FM} {a : Nat} (T : TyR M.2.2) (h : fm_is M 96 96 a = true) : fm_is M 902 902 (M.2.2 377 a 0) = true := T.1 (96, 96, 377, 902, 902) (by decide) a h
theorem tN_378 {M : FM} {a : Nat} (T : TyR M.2.2) (h : fm_is M 96 96 a = true) : fm_is M 901 901 (M.2.2 378 a 0) = true := T.1 (96, 96, 378, 901, 901) (by decide) a h
theorem tN_379 {M : FM} {a : Nat} (T : TyR M.2.2) (h : fm_is M 96 96 a = true) : fm_is M 901 901 (M.2.2 379 a 0) = true := T.1 (96, 96, 379, 901, 901) (by decide) a h
theorem tN_380 {M : FM} {a : Nat} (T : TyR M.2.2) (h : fm_is M 96 96 a = true) : fm_is M 901 901 (M.2.2 380 a 0) = true := T.1 (96, 96, 380, 901, 901) (by decide) a h
theorem tN_388 {M : FM} {a : Nat} (T : TyR M.2.2) (h : fm_is M 98 98 a = true) : fm_is M 902 902 (M.2.2 388 a 0) = true := T.1 (98, 98, 388, 902, 902) (by decide) a h
theorem tN_389 {M : FM} {a : Nat} (T : TyR M.2.2) (h : fm_is M 98 98 a = true) : fm_is M 902 902 (M.2.2 389 a 0) = true := T.1 (98, 98, 389, 902, 902) (by decide) a h
theorem tN_390 {M : FM} {a : Nat} (T : TyR M.2.2) (h : fm_is M 98 98 a = true) : fm_is M 901 901 (M.2.2 390 a 0) = true := T.1 (98, 98, 390, 901, 901) (by decide) a h
theorem tN_391 {M : FM} {a : Nat} (T : TyR M.2.2) (h : fm_is M 98 98 a = true) : fm_is M 901 901 (M.2.2 391 a 0) = true := T.1 (98, 98, 391, 901, 901) (by decide) a h
theorem tN_392 {M : FM} {a : Nat} (T : TyR M.2.2) (h : fm_is M 98 98 a = true) : fm_is M 901 901 (M.2.2 392 a 0) = true := T.1 (98, 98, 392, 901, 901) (by decide) a h
theorem tN_396 {M : FM} {a : Nat} (T : TyR M.2.2) (h : fm_is M 99 99 a = true) : fm_is M 904 904 (M.2.2 396 a 0) = true := T.1 (99, 99, 396, 904, 904) (by decide) a h
theorem tN_397 {M : FM} {a : Nat} (T : TyR M.2.2) (h : fm_is M 99 99 a = true) : fm_is M 902 902 (M.2.2 397 a 0) = true := T.1 (99, 99, 397, 902, 902) (by decide) a h
theorem tN_399 {M : FM} {a : Nat} (T : TyR M.2.2) (h : fm_is M 99 99 a = true) : fm_is M 904 904 (M.2.2 399 a 0) = true := T.1 (99, 99, 399, 904, 904) (by decide) a h
theorem tN_400 {M : FM} {a : Nat} (T : TyR M.2.2) (h : fm_is M 99 99 a = true) : fm_is M 904 904 (M.2.2 400 a 0) = true := T.1 (99, 99, 400, 904, 904) (by decide) a h
theorem tN_401 {M : FM} {a : Nat} (T : TyR M.2.2) (h : fm_is M 99 99 a = true) : fm_is M 904 904 (M.2.2 401 a 0) = true := T.1 (99, 99, 401, 904, 904) (by decide) a h
theorem tN_402 {M : FM} {a : Nat} (T : TyR M.2.2) (h : fm_is M 99 99 a = true) : fm_is M 901 901 (M.2.2 402 a 0) = true := T.1 (99, 99, 402, 901, 901) (by decide) a h
theorem tN_403 {M : FM} {a : Nat} (T : TyR M.2.2) (h : fm_is M 99 99 a = true) : fm_is M 901 901 (M.2.2 403 a 0) = true := T.1 (99, 99, 403, 901, 901) (by decide) a h
theorem tN_404 {M : FM} {a : Nat} (T : TyR M.2.2) (h : fm_is M 99 99 a = true) : fm_is M 901 901 (M.2.2 404 a 0) = true := T.1 (99, 99, 404, 901, 901) (by decide) a h
theorem tN_405 {M : FM} {a : Nat} (T : TyR M.2.2) (h : fm_is M 99 99 a = true) : fm_is M 901 901 (M.2.2 405 a 0) = true := T.1 (99, 99, 405, 901, 901) (by decide) a h
theorem tN_406 {M : FM} {a : Nat} (T : TyR M.2.2) (h : fm_is M 99 99 a = true) : fm_is M 901 901 (M.2.2 406 a 0) = true := T.1 (99, 99, 406, 901, 901) (by decide) a h
theorem tN_410 {M : FM} {a : Nat} (T : TyR M.2.2) (h : fm_is M 99 99 a = true) : fm_is M 901 901 (M.2.2 410 a 0) = true := T.1 (99, 99, 410, 901, 901) (by decide) a h
theorem tN_412 {M : FM} {a : Nat} (T : TyR M.2.2) (h : fm_is M 99 99 a = true) : fm_is M 901 901 (M.2.2 412 a 0) = true := T.1 (99, 99, 412, 901, 901) (by decide) a h
theorem tN_415 {M : FM} {a : Nat} (T : TyR M.2.2) (h : fm_is M 100 100 a = true) : fm_is M 901 901 (M.2.2 415 a 0) = true := T.1 (100, 100, 415, 901, 901) (by decide) a h
theorem tN_417 {M : FM} {a : Nat} (T : TyR M.2.2) (h : fm_is M 100 100 a = true) : fm_is M 901 901 (M.2.2 417 a 0) = true := T.1 (100, 100, 417, 901, 901) (by decide) a h
theorem tN_419 {M : FM} {a : Nat} (T : TyR M.2.2) (h : fm_is M 100 100 a = true) : fm_is M 901 901 (M.2.2 419 a 0) = true := T.1 (100, 100, 419, 901, 901) (by decide) a h
theorem tN_423 {M : FM} {a : Nat} (T : TyR M.2.2) (h : fm_is M 101 101 a = true) : fm_is M 98 98 (M.2.2 423 a 0) = true := T.1 (101, 101, 423, 98, 98) (by decide) a h
theorem tN_427 {M : FM} {a : Nat} (T : TyR M.2.2) (h : fm_is M 101 101 a = true) : fm_is M 901 901 (M.2.2 427 a 0) = true := T.1 (101, 101, 427, 901, 901) (by decide) a h
theorem tN_428 {M : FM} {a : Nat} (T : TyR M.2.2) (h : fm_is M 101 101 a = true) : fm_is M 902 902 (M.2.2 428 a 0) = true := T.1 (101, 101, 428, 902, 902) (by decide) a h
theorem tN_129_43 {M : FM} {a : Nat} (T : TyR M.2.2) (h : fm_is M 43 43 a = true) : fm_is M 42 42 (M.2.2 129 a 0) = true := T.1 (43, 43, 129, 42, 42) (by decide) a h
theorem tN_129_44 {M : FM} {a : Nat} (T : TyR M.2.2) (h : fm_is M 44 44 a = true) : fm_is M 42 42 (M.2.2 129 a 0) = true := T.1 (44, 44, 129, 42, 42) (by decide) a h
theorem tN_129_45 {M : FM} {a : Nat} (T : TyR M.2.2) (h : fm_is M 45 45 a = true) : fm_is M 42 42 (M.2.2 129 a 0) = true := T.1 (45, 45, 129, 42, 42) (by decide) a h
theorem tN_129_46 {M : FM} {a : Nat} (T : TyR M.2.2) (h : fm_is M 46 46 a = true) : fm_is M 42 42 (M.2.2 129 a 0) = true := T.1 (46, 46, 129, 42, 42) (by decide) a h
theorem tN_129_47 {M : FM} {a : Nat} (T : TyR M.2.2) (h : fm_is M 47 47 a = true) : fm_is M 42 42 (M.2.2 129 a 0) = true := T.1 (47, 47, 129, 42, 42) (by decide) a h
theorem tN_129_48 {M : FM} {a : Nat} (T : TyR M.2.2) (h : fm_is M 48 48 a = true) : fm_is M 42 42 (M.2.2 129 a 0) = true := T.1 (48, 48, 129, 42, 42) (by decide) a h
theorem tN_129_49 {M : FM} {a : Nat} (T : TyR M.2.2) (h : fm_is M 49 49 a = true) : fm_is M 42 42 (M.2.2 129 a 0) = true := T.1 (49, 49, 129, 42, 42) (by decide) a h
theorem tN_129_50 {M : FM} {a : Nat} (T : TyR M.2.2) (h : fm_is M 50 50 a = true) : fm_is M 42 42 (M.2.2 129 a 0) = true := T.1 (50, 50, 129, 42, 42) (by decide) a h
theorem tZ_124 {M : FM} {a : Nat} (T : TyR M.2.2) (h : fm_is M 41 41 a = true) : M.2.2 124 a 0 ≠ 0 → fm_is M 6 6 (M.2.2 124 a 0) = true := T.2.1 (41, 41, 124, 6, 6) (by decide) a h
theorem tZ_129 {M : FM} {a : Nat} (T : TyR M.2.2) (h : fm_is M 43 51 a = true) : M.2.2 129 a 0 ≠ 0 → fm_is M 42 42 (M.2.2 129 a 0) = true := T.2.1 (43, 51, 129, 42, 42) (by decide) a h
theorem tZ_149 {M : FM} {a : Nat} (T : TyR M.2.2) (h : fm_is M 61 61 a = true) : M.2.2 149 a 0 ≠ 0 → fm_is M 53 60 (M.2.2 149 a 0) = true := T.2.1 (61, 61, 149, 53, 60) (by decide) a h
theorem tZ_155 {M : FM} {a : Nat} (T : TyR M.2.2) (h : fm_is M 61 61 a = true) : M.2.2 155 a 0 ≠ 0 → fm_is M 4 4 (M.2.2 155 a 0) = true := T.2.1 (61, 61, 155, 4, 4) (by decide) a h
theorem tZ_174 {M : FM} {a : Nat} (T : TyR M.2.2) (h : fm_is M 63 63 a = true) : M.2.2 174 a 0 ≠ 0 → fm_is M 61 61 (M.2.2 174 a 0) = true := T.2.1 (63, 63, 174, 61, 61) (by decide) a h
theorem tL_21 {M : FM} {a : Nat} (T : TyR M.2.2) (h : fm_is M 11 11 a = true) : M.2.2 1 (M.2.2 21 a 0) 0 = 5 := T.2.2.1 (11, 11, 21, 5) (by decide) a h
theorem tL_24 {M : FM} {a : Nat} (T : TyR M.2.2) (h : fm_is M 12 12 a = true) : M.2.2 1 (M.2.2 24 a 0) 0 = 6 := T.2.2.1 (12, 12, 24, 6) (by decide) a h
theorem tL_25 {M : FM} {a : Nat} (T : TyR M.2.2) (h : fm_is M 12 12 a = true) : M.2.2 1 (M.2.2 25 a 0) 0 = 4096 := T.2.2.1 (12, 12, 25, 4096) (by decide) a h
theorem tL_62 {M : FM} {a : Nat} (T : TyR M.2.2) (h : fm_is M 22 22 a = true) : M.2.2 1 (M.2.2 62 a 0) 0 = 9 := T.2.2.1 (22, 22, 62, 9) (by decide) a h
theorem tL_69 {M : FM} {a : Nat} (T : TyR M.2.2) (h : fm_is M 23 23 a = true) : M.2.2 1 (M.2.2 69 a 0) 0 = 131072 := T.2.2.1 (23, 23, 69, 131072) (by decide) a h
theorem tL_85 {M : FM} {a : Nat} (T : TyR M.2.2) (h : fm_is M 30 30 a = true) : M.2.2 1 (M.2.2 85 a 0) 0 = 16 := T.2.2.1 (30, 30, 85, 16) (by decide) a h
theorem tL_86 {M : FM} {a : Nat} (T : TyR M.2.2) (h : fm_is M 30 30 a = true) : M.2.2 1 (M.2.2 86 a 0) 0 = 16 := T.2.2.1 (30, 30, 86, 16) (by decide) a h
theorem tL_93 {M : FM} {a : Nat} (T : TyR M.2.2) (h : fm_is M 32 32 a = true) : M.2.2 1 (M.2.2 93 a 0) 0 = 32 := T.2.2.1 (32, 32, 93, 32) (by decide) a h
theorem tL_98 {M : FM} {a : Nat} (T : TyR M.2.2) (h : fm_is M 32 32 a = true) : M.2.2 1 (M.2.2 98 a 0) 0 = 2 := T.2.2.1 (32, 32, 98, 2) (by decide) a h
theorem tL_99 {M : FM} {a : Nat} (T : TyR M.2.2) (h : fm_is M 32 32 a = true) : M.2.2 1 (M.2.2 99 a 0) 0 = 5 := T.2.2.1 (32, 32, 99, 5) (by decide) a h
theorem tL_100 {M : FM} {a : Nat} (T : TyR M.2.2) (h : fm_is M 32 32 a = true) : M.2.2 1 (M.2.2 100 a 0) 0 = 4 := T.2.2.1 (32, 32, 100, 4) (by decide) a h
theorem tL_101 {M : FM} {a : Nat} (T : TyR M.2.2) (h : fm_is M 32 32 a = true) : M.2.2 1 (M.2.2 101 a 0) 0 = 4 := T.2.2.1 (32, 32, 101, 4) (by decide) a h
theorem tL_121 {M : FM} {a : Nat} (T : TyR M.2.2) (h : fm_is M 41 41 a = true) : M.2.2 1 (M.2.2 121 a 0) 0 = 8 := T.2.2.1 (41, 41, 121, 8) (by decide) a h
theorem tL_136 {M : FM} {a : Nat} (T : TyR M.2.2) (h : fm_is M 47 47 a = true) : M.2.2 1 (M.2.2 136 a 0) 0 = 18 := T.2.2.1 (47, 47, 136, 18) (by decide) a h
theorem tL_142 {M : FM} {a : Nat} (T : TyR M.2.2) (h : fm_is M 52 52 a = true) : M.2.2 1 (M.2.2 142 a 0) 0 = 24 := T.2.2.1 (52, 52, 142, 24) (by decide) a h
theorem tL_173 {M : FM} {a : Nat} (T : TyR M.2.2) (h : fm_is M 63 63 a = true) : M.2.2 1 (M.2.2 173 a 0) 0 = 64 := T.2.2.1 (63, 63, 173, 64) (by decide) a h
theorem tL_175 {M : FM} {a : Nat} (T : TyR M.2.2) (h : fm_is M 63 63 a = true) : M.2.2 1 (M.2.2 175 a 0) 0 = 5 := T.2.2.1 (63, 63, 175, 5) (by decide) a h
theorem tL_178 {M : FM} {a : Nat} (T : TyR M.2.2) (h : fm_is M 64 64 a = true) : M.2.2 1 (M.2.2 178 a 0) 0 = 32 := T.2.2.1 (64, 64, 178, 32) (by decide) a h
theorem tL_194 {M : FM} {a : Nat} (T : TyR M.2.2) (h : fm_is M 67 67 a = true) : M.2.2 1 (M.2.2 194 a 0) 0 = 65536 := T.2.2.1 (67, 67, 194, 65536) (by decide) a h
theorem tL_201 {M : FM} {a : Nat} (T : TyR M.2.2) (h : fm_is M 72 72 a = true) : M.2.2 1 (M.2.2 201 a 0) 0 = 512 := T.2.2.1 (72, 72, 201, 512) (by decide) a h
theorem tL_203 {M : FM} {a : Nat} (T : TyR M.2.2) (h : fm_is M 73 73 a = true) : M.2.2 1 (M.2.2 203 a 0) 0 = 1024 := T.2.2.1 (73, 73, 203, 1024) (by decide) a h
theorem tL_204 {M : FM} {a : Nat} (T : TyR M.2.2) (h : fm_is M 73 73 a = true) : M.2.2 1 (M.2.2 204 a 0) 0 = 1024 := T.2.2.1 (73, 73, 204, 1024) (by decide) a h
theorem tL_205 {M : FM} {a : Nat} (T : TyR M.2.2) (h : fm_is M 73 73 a = true) : M.2.2 1 (M.2.2 205 a 0) 0 = 4 := T.2.2.1 (73, 73, 205, 4) (by decide) a h
theorem tL_206 {M : FM} {a : Nat} (T : TyR M.2.2) (h : fm_is M 73 73 a = true) : M.2.2 1 (M.2.2 206 a 0) 0 = 29 := T.2.2.1 (73, 73, 206, 29) (by decide) a h
theorem tL_216 {M : FM} {a : Nat} (T : TyR M.2.2) (h : fm_is M 75 75 a = true) : M.2.2 1 (M.2.2 216 a 0) 0 = 512 := T.2.2.1 (75, 75, 216, 512) (by decide) a h
theorem tL_224 {M : FM} {a : Nat} (T : TyR M.2.2) (h : fm_is M 77 77 a = true) : M.2.2 1 (M.2.2 224 a 0) 0 = 32 := T.2.2.1 (77, 77, 224, 32) (by decide) a h
theorem tL_225 {M : FM} {a : Nat} (T : TyR M.2.2) (h : fm_is M 77 77 a = true) : M.2.2 1 (M.2.2 225 a 0) 0 = 8 := T.2.2.1 (77, 77, 225, 8) (by decide) a h
theorem tL_226 {M : FM} {a : Nat} (T : TyR M.2.2) (h : fm_is M 77 77 a = true) : M.2.2 1 (M.2.2 226 a 0) 0 = 8 := T.2.2.1 (77, 77, 226, 8) (by decide) a h
theorem tL_230 {M : FM} {a : Nat} (T : TyR M.2.2) (h : fm_is M 78 78 a = true) : M.2.2 1 (M.2.2 230 a 0) 0 = 16 := T.2.2.1 (78, 78, 230, 16) (by decide) a h
theorem tL_233 {M : FM} {a : Nat} (T : TyR M.2.2) (h : fm_is M 78 78 a = true) : M.2.2 1 (M.2.2 233 a 0) 0 = 4096 := T.2.2.1 (78, 78, 233, 4096) (by decide) a h
theorem tL_235 {M : FM} {a : Nat} (T : TyR M.2.2) (h : fm_is M 78 78 a = true) : M.2.2 1 (M.2.2 235 a 0) 0 = 10 := T.2.2.1 (78, 78, 235, 10) (by decide) a h
theorem tL_243 {M : FM} {a : Nat} (T : TyR M.2.2) (h : fm_is M 79 79 a = true) : M.2.2 1 (M.2.2 243 a 0) 0 = 3 := T.2.2.1 (79, 79, 243, 3) (by decide) a h
theorem tL_245 {M : FM} {a : Nat} (T : TyR M.2.2) (h : fm_is M 80 80 a = true) : M.2.2 1 (M.2.2 245 a 0) 0 = 4 := T.2.2.1 (80, 80, 245, 4) (by decide) a h
theorem tL_246 {M : FM} {a : Nat} (T : TyR M.2.2) (h : fm_is M 80 80 a = true) : M.2.2 1 (M.2.2 246 a 0) 0 = 5 := T.2.2.1 (80, 80, 246, 5) (by decide) a h
theorem tL_264 {M : FM} {a : Nat} (T : TyR M.2.2) (h : fm_is M 87 87 a = true) : M.2.2 1 (M.2.2 264 a 0) 0 = 128 := T.2.2.1 (87, 87, 264, 128) (by decide) a h
theorem tL_265 {M : FM} {a : Nat} (T : TyR M.2.2) (h : fm_is M 87 87 a = true) : M.2.2 1 (M.2.2 265 a 0) 0 = 512 := T.2.2.1 (87, 87, 265, 512) (by decide) a h
theorem tL_278 {M : FM} {a : Nat} (T : TyR M.2.2) (h : fm_is M 88 88 a = true) : M.2.2 1 (M.2.2 278 a 0) 0 = 4 := T.2.2.1 (88, 88, 278, 4) (by decide) a h
theorem tL_279 {M : FM} {a : Nat} (T : TyR M.2.2) (h : fm_is M 88 88 a = true) : M.2.2 1 (M.2.2 279 a 0) 0 = 4 := T.2.2.1 (88, 88, 279, 4) (by decide) a h
theorem tL_284 {M : FM} {a : Nat} (T : TyR M.2.2) (h : fm_is M 90 90 a = true) : M.2.2 1 (M.2.2 284 a 0) 0 = 8 := T.2.2.1 (90, 90, 284, 8) (by decide) a h
theorem tL_286 {M : FM} {a : Nat} (T : TyR M.2.2) (h : fm_is M 91 91 a = true) : M.2.2 1 (M.2.2 286 a 0) 0 = 3 := T.2.2.1 (91, 91, 286, 3) (by decide) a h
theorem tL_291 {M : FM} {a : Nat} (T : TyR M.2.2) (h : fm_is M 91 91 a = true) : M.2.2 1 (M.2.2 291 a 0) 0 = 64 := T.2.2.1 (91, 91, 291, 64) (by decide) a h
theorem tL_295 {M : FM} {a : Nat} (T : TyR M.2.2) (h : fm_is M 91 91 a = true) : M.2.2 1 (M.2.2 295 a 0) 0 = 4 := T.2.2.1 (91, 91, 295, 4) (by decide) a h
theorem tL_303 {M : FM} {a : Nat} (T : TyR M.2.2) (h : fm_is M 92 92 a = true) : M.2.2 1 (M.2.2 303 a 0) 0 = 4 := T.2.2.1 (92, 92, 303, 4) (by decide) a h
theorem tL_304 {M : FM} {a : Nat} (T : TyR M.2.2) (h : fm_is M 92 92 a = true) : M.2.2 1 (M.2.2 304 a 0) 0 = 4 := T.2.2.1 (92, 92, 304, 4) (by decide) a h
theorem tL_305 {M : FM} {a : Nat} (T : TyR M.2.2) (h : fm_is M 92 92 a = true) : M.2.2 1 (M.2.2 305 a 0) 0 = 4 := T.2.2.1 (92, 92, 305, 4) (by decide) a h
theorem tL_306 {M : FM} {a : Nat} (T : TyR M.2.2) (h : fm_is M 92 92 a = true) : M.2.2 1 (M.2.2 306 a 0) 0 = 4 := T.2.2.1 (92, 92, 306, 4) (by decide) a h
theorem tL_307 {M : FM} {a : Nat} (T : TyR M.2.2) (h : fm_is M 92 92 a = true) : M.2.2 1 (M.2.2 307 a 0) 0 = 4 := T.2.2.1 (92, 92, 307, 4) (by decide) a h
theorem tL_308 {M : FM} {a : Nat} (T : TyR M.2.2) (h : fm_is M 92 92 a = true) : M.2.2 1 (M.2.2 308 a 0) 0 = 65536 := T.2.2.1 (92, 92, 308, 65536) (by decide) a h
theorem tL_310 {M : FM} {a : Nat} (T : TyR M.2.2) (h : fm_is M 92 92 a = true) : M.2.2 1 (M.2.2 310 a 0) 0 = 65536 := T.2.2.1 (92, 92, 310, 65536) (by decide) a h
theorem tL_323 {M : FM} {a : Nat} (T : TyR M.2.2) (h : fm_is M 92 92 a = true) : M.2.2 1 (M.2.2 323 a 0) 0 = 8 := T.2.2.1 (92, 92, 323, 8) (by decide) a h
theorem tL_327 {M : FM} {a : Nat} (T : TyR M.2.2) (h : fm_is M 93 93 a = true) : M.2.2 1 (M.2.2 327 a 0) 0 = 131072 := T.2.2.1 (93, 93, 327, 131072) (by decide) a h
theorem tL_334 {M : FM} {a : Nat} (T : TyR M.2.2) (h : fm_is M 93 93 a = true) : M.2.2 1 (M.2.2 334 a 0) 0 = 3 := T.2.2.1 (93, 93, 334, 3) (by decide) a h
theorem tL_340 {M : FM} {a : Nat} (T : TyR M.2.2) (h : fm_is M 93 93 a = true) : M.2.2 1 (M.2.2 340 a 0) 0 = 16 := T.2.2.1 (93, 93, 340, 16) (by decide) a h
theorem tL_341 {M : FM} {a : Nat} (T : TyR M.2.2) (h : fm_is M 93 93 a = true) : M.2.2 1 (M.2.2 341 a 0) 0 = 16 := T.2.2.1 (93, 93, 341, 16) (by decide) a h
theorem tL_342 {M : FM} {a : Nat} (T : TyR M.2.2) (h : fm_is M 93 93 a = true) : M.2.2 1 (M.2.2 342 a 0) 0 = 16 := T.2.2.1 (93, 93, 342, 16) (by decide) a h
theorem tL_346 {M : FM} {a : Nat} (T : TyR M.2.2) (h : fm_is M 94 94 a = true) : M.2.2 1 (M.2.2 346 a 0) 0 = 32 := T.2.2.1 (94, 94, 346, 32) (by decide) a h
theorem tL_355 {M : FM} {a : Nat} (T : TyR M.2.2) (h : fm_is M 94 94 a = true) : M.2.2 1 (M.2.2 355 a 0) 0 = 5 := T.2.2.1 (94, 94, 355, 5) (by decide) a h
theorem tL_361 {M : FM} {a : Nat} (T : TyR M.2.2) (h : fm_is M 95 95 a = true) : M.2.2 1 (M.2.2 361 a 0) 0 = 4096 := T.2.2.1 (95, 95, 361, 4096) (by decide) a h
theorem tL_362 {M : FM} {a : Nat} (T : TyR M.2.2) (h : fm_is M 95 95 a = true) : M.2.2 1 (M.2.2 362 a 0) 0 = 12 := T.2.2.1 (95, 95, 362, 12) (by decide) a h
theorem tL_367 {M : FM} {a : Nat} (T : TyR M.2.2) (h : fm_is M 96 96 a = true) : M.2.2 1 (M.2.2 367 a 0) 0 = 32 := T.2.2.1 (96, 96, 367, 32) (by decide) a h
theorem tL_372 {M : FM} {a : Nat} (T : TyR M.2.2) (h : fm_is M 96 96 a = true) : M.2.2 1 (M.2.2 372 a 0) 0 = 2 := T.2.2.1 (96, 96, 372, 2) (by decide) a h
theorem tL_373 {M : FM} {a : Nat} (T : TyR M.2.2) (h : fm_is M 96 96 a = true) : M.2.2 1 (M.2.2 373 a 0) 0 = 2 := T.2.2.1 (96, 96, 373, 2) (by decide) a h
theorem tL_374 {M : FM} {a : Nat} (T : TyR M.2.2) (h : fm_is M 96 96 a = true) : M.2.2 1 (M.2.2 374 a 0) 0 = 2 := T.2.2.1 (96, 96, 374, 2) (by decide) a h
theorem tL_375 {M : FM} {a : Nat} (T : TyR M.2.2) (h : fm_is M 96 96 a = true) : M.2.2 1 (M.2.2 375 a 0) 0 = 3 := T.2.2.1 (96, 96, 375, 3) (by decide) a h
theorem tL_376 {M : FM} {a : Nat} (T : TyR M.2.2) (h : fm_is M 96 96 a = true) : M.2.2 1 (M.2.2 376 a 0) 0 = 3 := T.2.2.1 (96, 96, 376, 3) (by decide) a h
theorem tL_377 {M : FM} {a : Nat} (T : TyR M.2.2) (h : fm_is M 96 96 a = true) : M.2.2 1 (M.2.2 377 a 0) 0 = 3 := T.2.2.1 (96, 96, 377, 3) (by decide) a h
theorem tL_378 {M : FM} {a : Nat} (T : TyR M.2.2) (h : fm_is M 96 96 a = true) : M.2.2 1 (M.2.2 378 a 0) 0 = 3 := T.2.2.1 (96, 96, 378, 3) (by decide) a h
theorem tL_379 {M : FM} {a : Nat} (T : TyR M.2.2) (h : fm_is M 96 96 a = true) : M.2.2 1 (M.2.2 379 a 0) 0 = 220 := T.2.2.1 (96, 96, 379, 220) (by decide) a h
theorem tL_380 {M : FM} {a : Nat} (T : TyR M.2.2) (h : fm_is M 96 96 a = true) : M.2.2 1 (M.2.2 380 a 0) 0 = 220 := T.2.2.1 (96, 96, 380, 220) (by decide) a h
theorem tL_388 {M : FM} {a : Nat} (T : TyR M.2.2) (h : fm_is M 98 98 a = true) : M.2.2 1 (M.2.2 388 a 0) 0 = 524288 := T.2.2.1 (98, 98, 388, 524288) (by decide) a h
theorem tL_389 {M : FM} {a : Nat} (T : TyR M.2.2) (h : fm_is M 98 98 a = true) : M.2.2 1 (M.2.2 389 a 0) 0 = 4 := T.2.2.1 (98, 98, 389, 4) (by decide) a h
theorem tL_390 {M : FM} {a : Nat} (T : TyR M.2.2) (h : fm_is M 98 98 a = true) : M.2.2 1 (M.2.2 390 a 0) 0 = 4 := T.2.2.1 (98, 98, 390, 4) (by decide) a h
theorem tL_391 {M : FM} {a : Nat} (T : TyR M.2.2) (h : fm_is M 98 98 a = true) : M.2.2 1 (M.2.2 391 a 0) 0 = 524288 := T.2.2.1 (98, 98, 391, 524288) (by decide) a h
theorem tL_392 {M : FM} {a : Nat} (T : TyR M.2.2) (h : fm_is M 98 98 a = true) : M.2.2 1 (M.2.2 392 a 0) 0 = 4 := T.2.2.1 (98, 98, 392, 4) (by decide) a h
theorem tL_396 {M : FM} {a : Nat} (T : TyR M.2.2) (h : fm_is M 99 99 a = true) : M.2.2 1 (M.2.2 396 a 0) 0 = 4 := T.2.2.1 (99, 99, 396, 4) (by decide) a h
theorem tL_397 {M : FM} {a : Nat} (T : TyR M.2.2) (h : fm_is M 99 99 a = true) : M.2.2 1 (M.2.2 397 a 0) 0 = 4 := T.2.2.1 (99, 99, 397, 4) (by decide) a h
theorem tL_399 {M : FM} {a : Nat} (T : TyR M.2.2) (h : fm_is M 99 99 a = true) : M.2.2 1 (M.2.2 399 a 0) 0 = 32 := T.2.2.1 (99, 99, 399, 32) (by decide) a h
theorem tL_400 {M : FM} {a : Nat} (T : TyR M.2.2) (h : fm_is M 99 99 a = true) : M.2.2 1 (M.2.2 400 a 0) 0 = 32 := T.2.2.1 (99, 99, 400, 32) (by decide) a h
theorem tL_401 {M : FM} {a : Nat} (T : TyR M.2.2) (h : fm_is M 99 99 a = true) : M.2.2 1 (M.2.2 401 a 0) 0 = 32 := T.2.2.1 (99, 99, 401, 32) (by decide) a h
theorem tL_402 {M : FM} {a : Nat} (T : TyR M.2.2) (h : fm_is M 99 99 a = true) : M.2.2 1 (M.2.2 402 a 0) 0 = 32 := T.2.2.1 (99, 99, 402, 32) (by decide) a h
theorem tL_403 {M : FM} {a : Nat} (T : TyR M.2.2) (h : fm_is M 99 99 a = true) : M.2.2 1 (M.2.2 403 a 0) 0 = 8 := T.2.2.1 (99, 99, 403, 8) (by decide) a h
theorem tL_404 {M : FM} {a : Nat} (T : TyR M.2.2) (h : fm_is M 99 99 a = true) : M.2.2 1 (M.2.2 404 a 0) 0 = 8 := T.2.2.1 (99, 99, 404, 8) (by decide) a h
theorem tL_405 {M : FM} {a : Nat} (T : TyR M.2.2) (h : fm_is M 99 99 a = true) : M.2.2 1 (M.2.2 405 a 0) 0 = 8 := T.2.2.1 (99, 99, 405, 8) (by decide) a h
theorem tL_406 {M : FM} {a : Nat} (T : TyR M.2.2) (h : fm_is M 99 99 a = true) : M.2.2 1 (M.2.2 406 a 0) 0 = 2 := T.2.2.1 (99, 99, 406, 2) (by decide) a h
theorem tL_410 {M : FM} {a : Nat} (T : TyR M.2.2) (h : fm_is M 99 99 a = true) : M.2.2 1 (M.2.2 410 a 0) 0 = 16 := T.2.2.1 (99, 99, 410, 16) (by decide) a h
theorem tL_412 {M : FM} {a : Nat} (T : TyR M.2.2) (h : fm_is M 99 99 a = true) : M.2.2 1 (M.2.2 412 a 0) 0 = 4096 := T.2.2.1 (99, 99, 412, 4096) (by decide) a h
theorem tL_415 {M : FM} {a : Nat} (T : TyR M.2.2) (h : fm_is M 100 100 a = true) : M.2.2 1 (M.2.2 415 a 0) 0 = 8192 := T.2.2.1 (100, 100, 415, 8192) (by decide) a h
theorem tL_417 {M : FM} {a : Nat} (T : TyR M.2.2) (h : fm_is M 100 100 a = true) : M.2.2 1 (M.2.2 417 a 0) 0 = 6144 := T.2.2.1 (100, 100, 417, 6144) (by decide) a h
theorem tL_419 {M : FM} {a : Nat} (T : TyR M.2.2) (h : fm_is M 100 100 a = true) : M.2.2 1 (M.2.2 419 a 0) 0 = 1024 := T.2.2.1 (100, 100, 419, 1024) (by decide) a h
theorem tL_427 {M : FM} {a : Nat} (T : TyR M.2.2) (h : fm_is M 101 101 a = true) : M.2.2 1 (M.2.2 427 a 0) 0 = 8 := T.2.2.1 (101, 101, 427, 8) (by decide) a h
theorem tL_428 {M : FM} {a : Nat} (T : TyR M.2.2) (h : fm_is M 101 101 a = true) : M.2.2 1 (M.2.2 428 a 0) 0 = 8 := T.2.2.1 (101, 101, 428, 8) (by decide) a h
theorem tE_912 {M : FM} {a : Nat} {i : Int32} (T : TyR M.2.2) (h : fm_is M 912 912 a = true) (hi : fm_in M a i = true) : fm_is M 33 33 (M.2.2 3 a i.toNatClampNeg) = true := T.2.2.2.1 (912, 33, 33) (by decide) a _ h (fm_in_d hi)
theorem tE_913 {M : FM} {a : Nat} {i : Int32} (T : TyR M.2.2) (h : fm_is M 913 913 a = true) (hi : fm_in M a i = true) : fm_is M 1 1 (M.2.2 3 a i.toNatClampNeg) = true := T.2.2.2.1 (913, 1, 1) (by decide) a _ h (fm_in_d hi)
theorem tE_914 {M : FM} {a : Nat} {i : Int32} (T : TyR M.2.2) (h : fm_is M 914 914 a = true) (hi : fm_in M a i = true) : fm_is M 34 38 (M.2.2 3 a i.toNatClampNeg) = true := T.2.2.2.1 (914, 34, 38) (by decide) a _ h (fm_in_d hi)
theorem tE_915 {M : FM} {a : Nat} {i : Int32} (T : TyR M.2.2) (h : fm_is M 915 915 a = true) (hi : fm_in M a i = true) : fm_is M 3 3 (M.2.2 3 a i.toNatClampNeg) = true := T.2.2.2.1 (915, 3, 3) (by decide) a _ h (fm_in_d hi)
theorem tE_918 {M : FM} {a : Nat} {i : Int32} (T : TyR M.2.2) (h : fm_is M 918 918 a = true) (hi : fm_in M a i = true) : fm_is M 65 65 (M.2.2 3 a i.toNatClampNeg) = true := T.2.2.2.1 (918, 65, 65) (by decide) a _ h (fm_in_d hi)
theorem tE_921 {M : FM} {a : Nat} {i : Int32} (T : TyR M.2.2) (h : fm_is M 921 921 a = true) (hi : fm_in M a i = true) : fm_is M 74 74 (M.2.2 3 a i.toNatClampNeg) = true := T.2.2.2.1 (921, 74, 74) (by decide) a _ h (fm_in_d hi)
theorem tE_922 {M : FM} {a : Nat} {i : Int32} (T : TyR M.2.2) (h : fm_is M 922 922 a = true) (hi : fm_in M a i = true) : fm_is M 75 75 (M.2.2 3 a i.toNatClampNeg) = true := T.2.2.2.1 (922, 75, 75) (by decide) a _ h (fm_in_d hi)
theorem tE_923 {M : FM} {a : Nat} {i : Int32} (T : TyR M.2.2) (h : fm_is M 923 923 a = true) (hi : fm_in M a i = true) : fm_is M 77 80 (M.2.2 3 a i.toNatClampNeg) = true := T.2.2.2.1 (923, 77, 80) (by decide) a _ h (fm_in_d hi)
theorem tE_924 {M : FM} {a : Nat} {i : Int32} (T : TyR M.2.2) (h : fm_is M 924 924 a = true) (hi : fm_in M a i = true) : fm_is M 82 82 (M.2.2 3 a i.toNatClampNeg) = true := T.2.2.2.1 (924, 82, 82) (by decide) a _ h (fm_in_d hi)
theorem tE_925 {M : FM} {a : Nat} {i : Int32} (T : TyR M.2.2) (h : fm_is M 925 925 a = true) (hi : fm_in M a i = true) : fm_is M 85 85 (M.2.2 3 a i.toNatClampNeg) = true := T.2.2.2.1 (925, 85, 85) (by decide) a _ h (fm_in_d hi)
theorem tE_926 {M : FM} {a : Nat} {i : Int32} (T : TyR M.2.2) (h : fm_is M 926 926 a = true) (hi : fm_in M a i = true) : fm_is M 88 88 (M.2.2 3 a i.toNatClampNeg) = true := T.2.2.2.1 (926, 88, 88) (by decide) a _ h (fm_in_d hi)
theorem tE_927 {M : FM} {a : Nat} {i : Int32} (T : TyR M.2.2) (h : fm_is M 927 927 a = true) (hi : fm_in M a i = true) : fm_is M 89 89 (M.2.2 3 a i.toNatClampNeg) = true := T.2.2.2.1 (927, 89, 89) (by decide) a _ h (fm_in_d hi)
theorem tE_928 {M : FM} {a : Nat} {i : Int32} (T : TyR M.2.2) (h : fm_is M 928 928 a = true) (hi : fm_in M a i = true) : fm_is M 6 6 (M.2.2 3 a i.toNatClampNeg) = true := T.2.2.2.1 (928, 6, 6) (by decide) a _ h (fm_in_d hi)
theorem tE_933 {M : FM} {a : Nat} {i : Int32} (T : TyR M.2.2) (h : fm_is M 933 933 a = true) (hi : fm_in M a i = true) : fm_is M 901 901 (M.2.2 3 a i.toNatClampNeg) = true := T.2.2.2.1 (933, 901, 901) (by decide) a _ h (fm_in_d hi)
theorem tF_910 {M : FM} {a : Nat} {i : Int32} (T : TyR M.2.2) (h : fm_is M 910 910 a = true) (hi : fm_in M a i = true) : M.2.2 3 a i.toNatClampNeg ≠ 0 → fm_is M 13 19 (M.2.2 3 a i.toNatClampNeg) = true := T.2.2.2.2.1 (910, 13, 19) (by decide) a _ h (fm_in_d hi)
theorem tF_911 {M : FM} {a : Nat} {i : Int32} (T : TyR M.2.2) (h : fm_is M 911 911 a = true) (hi : fm_in M a i = true) : M.2.2 3 a i.toNatClampNeg ≠ 0 → fm_is M 24 27 (M.2.2 3 a i.toNatClampNeg) = true := T.2.2.2.2.1 (911, 24, 27) (by decide) a _ h (fm_in_d hi)
theorem tF_916 {M : FM} {a : Nat} {i : Int32} (T : TyR M.2.2) (h : fm_is M 916 916 a = true) (hi : fm_in M a i = true) : M.2.2 3 a i.toNatClampNeg ≠ 0 → fm_is M 43 51 (M.2.2 3 a i.toNatClampNeg) = true := T.2.2.2.2.1 (916, 43, 51) (by decide) a _ h (fm_in_d hi)
theorem tF_917 {M : FM} {a : Nat} {i : Int32} (T : TyR M.2.2) (h : fm_is M 917 917 a = true) (hi : fm_in M a i = true) : M.2.2 3 a i.toNatClampNeg ≠ 0 → fm_is M 61 61 (M.2.2 3 a i.toNatClampNeg) = true := T.2.2.2.2.1 (917, 61, 61) (by decide) a _ h (fm_in_d hi)
theorem tF_919 {M : FM} {a : Nat} {i : Int32} (T : TyR M.2.2) (h : fm_is M 919 919 a = true) (hi : fm_in M a i = true) : M.2.2 3 a i.toNatClampNeg ≠ 0 → fm_is M 68 71 (M.2.2 3 a i.toNatClampNeg) = true := T.2.2.2.2.1 (919, 68, 71) (by decide) a _ h (fm_in_d hi)
theorem tF_920 {M : FM} {a : Nat} {i : Int32} (T : TyR M.2.2) (h : fm_is M 920 920 a = true) (hi : fm_in M a i = true) : M.2.2 3 a i.toNatClampNeg ≠ 0 → fm_is M 72 72 (M.2.2 3 a i.toNatClampNeg) = true := T.2.2.2.2.1 (920, 72, 72) (by decide) a _ h (fm_in_d hi)
theorem tF_929 {M : FM} {a : Nat} {i : Int32} (T : TyR M.2.2) (h : fm_is M 929 929 a = true) (hi : fm_in M a i = true) : M.2.2 3 a i.toNatClampNeg ≠ 0 → fm_is M 94 94 (M.2.2 3 a i.toNatClampNeg) = true := T.2.2.2.2.1 (929, 94, 94) (by decide) a _ h (fm_in_d hi)
theorem tF_930 {M : FM} {a : Nat} {i : Int32} (T : TyR M.2.2) (h : fm_is M 930 930 a = true) (hi : fm_in M a i = true) : M.2.2 3 a i.toNatClampNeg ≠ 0 → fm_is M 95 95 (M.2.2 3 a i.toNatClampNeg) = true := T.2.2.2.2.1 (930, 95, 95) (by decide) a _ h (fm_in_d hi)
theorem tF_931 {M : FM} {a : Nat} {i : Int32} (T : TyR M.2.2) (h : fm_is M 931 931 a = true) (hi : fm_in M a i = true) : M.2.2 3 a i.toNatClampNeg ≠ 0 → fm_is M 96 96 (M.2.2 3 a i.toNatClampNeg) = true := T.2.2.2.2.1 (931, 96, 96) (by decide) a _ h (fm_in_d hi)
theorem tF_932 {M : FM} {a : Nat} {i : Int32} (T : TyR M.2.2) (h : fm_is M 932 932 a = true) (hi : fm_in M a i = true) : M.2.2 3 a i.toNatClampNeg ≠ 0 → fm_is M 101 101 (M.2.2 3 a i.toNatClampNeg) = true := T.2.2.2.2.1 (932, 101, 101) (by decide) a _ h (fm_in_d hi)
theorem tC_1 {M : FM} (T : TyR M.2.2) : fm_is M 1 1 1 = true := ty_C_is (T.2.2.2.2.2.1 (1, 1) (by decide))
theorem tC_2 {M : FM} (T : TyR M.2.2) : fm_is M 1 1 2 = true := ty_C_is (T.2.2.2.2.2.1 (2, 1) (by decide))
theorem tC_3 {M : FM} (T : TyR M.2.2) : fm_is M 1 1 3 = true := ty_C_is (T.2.2.2.2.2.1 (3, 1) (by decide))
theorem tC_4 {M : FM} (T : TyR M.2.2) : fm_is M 1 1 4 = true := ty_C_is (T.2.2.2.2.2.1 (4, 1) (by decide))
theorem tC_5 {M : FM} (T : TyR M.2.2) : fm_is M 1 1 5 = true := ty_C_is (T.2.2.2.2.2.1 (5, 1) (by decide))
theorem tC_6 {M : FM} (T : TyR M.2.2) : fm_is M 2 2 6 = true := ty_C_is (T.2.2.2.2.2.1 (6, 2) (by decide))
theorem tC_7 {M : FM} (T : TyR M.2.2) : fm_is M 2 2 7 = true := ty_C_is (T.2.2.2.2.2.1 (7, 2) (by decide))
theorem tC_8 {M : FM} (T : TyR M.2.2) : fm_is M 2 2 8 = true := ty_C_is (T.2.2.2.2.2.1 (8, 2) (by decide))
theorem tC_9 {M : FM} (T : TyR M.2.2) : fm_is M 2 2 9 = true := ty_C_is (T.2.2.2.2.2.1 (9, 2) (by decide))
theorem tC_10 {M : FM} (T : TyR M.2.2) : fm_is M 2 2 10 = true := ty_C_is (T.2.2.2.2.2.1 (10, 2) (by decide))
theorem tC_11 {M : FM} (T : TyR M.2.2) : fm_is M 3 3 11 = true := ty_C_is (T.2.2.2.2.2.1 (11, 3) (by decide))
theorem tC_12 {M : FM} (T : TyR M.2.2) : fm_is M 3 3 12 = true := ty_C_is (T.2.2.2.2.2.1 (12, 3) (by decide))
theorem tC_13 {M : FM} (T : TyR M.2.2) : fm_is M 3 3 13 = true := ty_C_is (T.2.2.2.2.2.1 (13, 3) (by decide))
theorem tC_14 {M : FM} (T : TyR M.2.2) : fm_is M 3 3 14 = true := ty_C_is (T.2.2.2.2.2.1 (14, 3) (by decide))
theorem tC_15 {M : FM} (T : TyR M.2.2) : fm_is M 4 4 15 = true := ty_C_is (T.2.2.2.2.2.1 (15, 4) (by decide))
theorem tC_16 {M : FM} (T : TyR M.2.2) : fm_is M 4 4 16 = true := ty_C_is (T.2.2.2.2.2.1 (16, 4) (by decide))
theorem tC_17 {M : FM} (T : TyR M.2.2) : fm_is M 4 4 17 = true := ty_C_is (T.2.2.2.2.2.1 (17, 4) (by decide))
theorem tC_18 {M : FM} (T : TyR M.2.2) : fm_is M 4 4 18 = true := ty_C_is (T.2.2.2.2.2.1 (18, 4) (by decide))
theorem tC_19 {M : FM} (T : TyR M.2.2) : fm_is M 4 4 19 = true := ty_C_is (T.2.2.2.2.2.1 (19, 4) (by decide))
theorem tC_20 {M : FM} (T : TyR M.2.2) : fm_is M 4 4 20 = true := ty_C_is (T.2.2.2.2.2.1 (20, 4) (by decide))
theorem tC_21 {M : FM} (T : TyR M.2.2) : fm_is M 4 4 21 = true := ty_C_is (T.2.2.2.2.2.1 (21, 4) (by decide))
theorem tC_22 {M : FM} (T : TyR M.2.2) : fm_is M 4 4 22 = true := ty_C_is (T.2.2.2.2.2.1 (22, 4) (by decide))
theorem tC_23 {M : FM} (T : TyR M.2.2) : fm_is M 4 4 23 = true := ty_C_is (T.2.2.2.2.2.1 (23, 4) (by decide))
theorem tC_24 {M : FM} (T : TyR M.2.2) : fm_is M 4 4 24 = true := ty_C_is (T.2.2.2.2.2.1 (24, 4) (by decide))
theorem tC_25 {M : FM} (T : TyR M.2.2) : fm_is M 4 4 25 = true := ty_C_is (T.2.2.2.2.2.1 (25, 4) (by decide))
theorem tC_26 {M : FM} (T : TyR M.2.2) : fm_is M 4 4 26 = true := ty_C_is (T.2.2.2.2.2.1 (26, 4) (by decide))
theorem tC_27 {M : FM} (T : TyR M.2.2) : fm_is M 4 4 27 = true := ty_C_is (T.2.2.2.2.2.1 (27, 4) (by decide))
theorem tC_28 {M : FM} (T : TyR M.2.2) : fm_is M 4 4 28 = true := ty_C_is (T.2.2.2.2.2.1 (28, 4) (by decide))
theorem tC_29 {M : FM} (T : TyR M.2.2) : fm_is M 4 4 29 = true := ty_C_is (T.2.2.2.2.2.1 (29, 4) (by decide))
theorem tC_30 {M : FM} (T : TyR M.2.2) : fm_is M 4 4 30 = true := ty_C_is (T.2.2.2.2.2.1 (30, 4) (by decide))
theorem tC_31 {M : FM} (T : TyR M.2.2) : fm_is M 4 4 31 = true := ty_C_is (T.2.2.2.2.2.1 (31, 4) (by decide))
theorem tC_32 {M : FM} (T : TyR M.2.2) : fm_is M 4 4 32 = true := ty_C_is (T.2.2.2.2.2.1 (32, 4) (by decide))
theorem tC_33 {M : FM} (T : TyR M.2.2) : fm_is M 5 5 33 = true := ty_C_is (T.2.2.2.2.2.1 (33, 5) (by decide))
theorem tC_34 {M : FM} (T : TyR M.2.2) : fm_is M 5 5 34 = true := ty_C_is (T.2.2.2.2.2.1 (34, 5) (by decide))
theorem tC_35 {M : FM} (T : TyR M.2.2) : fm_is M 5 5 35 = true := ty_C_is (T.2.2.2.2.2.1 (35, 5) (by decide))
theorem tC_36 {M : FM} (T : TyR M.2.2) : fm_is M 5 5 36 = true := ty_C_is (T.2.2.2.2.2.1 (36, 5) (by decide))
theorem tC_37 {M : FM} (T : TyR M.2.2) : fm_is M 6 6 37 = true := ty_C_is (T.2.2.2.2.2.1 (37, 6) (by decide))
theorem tC_38 {M : FM} (T : TyR M.2.2) : fm_is M 6 6 38 = true := ty_C_is (T.2.2.2.2.2.1 (38, 6) (by decide))
theorem tC_39 {M : FM} (T : TyR M.2.2) : fm_is M 6 6 39 = true := ty_C_is (T.2.2.2.2.2.1 (39, 6) (by decide))
theorem tC_40 {M : FM} (T : TyR M.2.2) : fm_is M 6 6 40 = true := ty_C_is (T.2.2.2.2.2.1 (40, 6) (by decide))
theorem tC_41 {M : FM} (T : TyR M.2.2) : fm_is M 6 6 41 = true := ty_C_is (T.2.2.2.2.2.1 (41, 6) (by decide))
theorem tB_12 {M : FM} (T : TyB M) (a : Nat) : M.1 12 a 0 = 0 ∨ M.1 12 a 0 = 1 := T.1 12 (by decide) a 0
theorem tB_22 {M : FM} (T : TyB M) (a : Nat) : M.1 22 a 0 = 0 ∨ M.1 22 a 0 = 1 := T.1 22 (by decide) a 0
theorem tB_72 {M : FM} (T : TyB M) (a : Nat) : M.1 72 a 0 = 0 ∨ M.1 72 a 0 = 1 := T.1 72 (by decide) a 0
theorem tB_92 {M : FM} (T : TyB M) (a : Nat) : M.1 92 a 0 = 0 ∨ M.1 92 a 0 = 1 := T.1 92 (by decide) a 0
theorem tB_96 {M : FM} (T : TyB M) (a : Nat) : M.1 96 a 0 = 0 ∨ M.1 96 a 0 = 1 := T.1 96 (by decide) a 0
theorem tB_113 {M : FM} (T : TyB M) (a : Nat) : M.1 113 a 0 = 0 ∨ M.1 113 a 0 = 1 := T.1 113 (by decide) a 0
theorem tB_115 {M : FM} (T : TyB M) (a : Nat) : M.1 115 a 0 = 0 ∨ M.1 115 a 0 = 1 := T.1 115 (by decide) a 0
theorem tB_123 {M : FM} (T : TyB M) (a : Nat) : M.1 123 a 0 = 0 ∨ M.1 123 a 0 = 1 := T.1 123 (by decide) a 0
theorem tB_132 {M : FM} (T : TyB M) (a : Nat) : M.1 132 a 0 = 0 ∨ M.1 132 a 0 = 1 := T.1 132 (by decide) a 0
theorem tB_135 {M : FM} (T : TyB M) (a : Nat) : M.1 135 a 0 = 0 ∨ M.1 135 a 0 = 1 := T.1 135 (by decide) a 0
theorem tB_140 {M : FM} (T : TyB M) (a : Nat) : M.1 140 a 0 = 0 ∨ M.1 140 a 0 = 1 := T.1 140 (by decide) a 0
theorem tB_147 {M : FM} (T : TyB M) (a : Nat) : M.1 147 a 0 = 0 ∨ M.1 147 a 0 = 1 := T.1 147 (by decide) a 0
theorem tB_148 {M : FM} (T : TyB M) (a : Nat) : M.1 148 a 0 = 0 ∨ M.1 148 a 0 = 1 := T.1 148 (by decide) a 0
theorem tB_156 {M : FM} (T : TyB M) (a : Nat) : M.1 156 a 0 = 0 ∨ M.1 156 a 0 = 1 := T.1 156 (by decide) a 0
theorem tB_157 {M : FM} (T : TyB M) (a : Nat) : M.1 157 a 0 = 0 ∨ M.1 157 a 0 = 1 := T.1 157 (by decide) a 0
theorem tB_180 {M : FM} (T : TyB M) (a : Nat) : M.1 180 a 0 = 0 ∨ M.1 180 a 0 = 1 := T.1 180 (by decide) a 0
theorem tB_199 {M : FM} (T : TyB M) (a : Nat) : M.1 199 a 0 = 0 ∨ M.1 199 a 0 = 1 := T.1 199 (by decide) a 0
theorem tB_218 {M : FM} (T : TyB M) (a : Nat) : M.1 218 a 0 = 0 ∨ M.1 218 a 0 = 1 := T.1 218 (by decide) a 0
theorem tB_236 {M : FM} (T : TyB M) (a : Nat) : M.1 236 a 0 = 0 ∨ M.1 236 a 0 = 1 := T.1 236 (by decide) a 0
theorem tB_237 {M : FM} (T : TyB M) (a : Nat) : M.1 237 a 0 = 0 ∨ M.1 237 a 0 = 1 := T.1 237 (by decide) a 0
theorem tB_238 {M : FM} (T : TyB M) (a : Nat) : M.1 238 a 0 = 0 ∨ M.1 238 a 0 = 1 := T.1 238 (by decide) a 0
theorem tB_253 {M : FM} (T : TyB M) (a : Nat) : M.1 253 a 0 = 0 ∨ M.1 253 a 0 = 1 := T.1 253 (by decide) a 0
theorem tB_269 {M : FM} (T : TyB M) (a : Nat) : M.1 269 a 0 = 0 ∨ M.1 269 a 0 = 1 := T.1 269 (by decide) a 0
theorem tB_322 {M : FM} (T : TyB M) (a : Nat) : M.1 322 a 0 = 0 ∨ M.1 322 a 0 = 1 := T.1 322 (by decide) a 0
theorem tB_331 {M : FM} (T : TyB M) (a : Nat) : M.1 331 a 0 = 0 ∨ M.1 331 a 0 = 1 := T.1 331 (by decide) a 0
theorem tB_371 {M : FM} (T : TyB M) (a : Nat) : M.1 371 a 0 = 0 ∨ M.1 371 a 0 = 1 := T.1 371 (by decide) a 0
theorem tB_381 {M : FM} (T : TyB M) (a : Nat) : M.1 381 a 0 = 0 ∨ M.1 381 a 0 = 1 := T.1 381 (by decide) a 0
theorem tB_385 {M : FM} (T : TyB M) (a : Nat) : M.1 385 a 0 = 0 ∨ M.1 385 a 0 = 1 := T.1 385 (by decide) a 0
theorem tB_407 {M : FM} (T : TyB M) (a : Nat) : M.1 407 a 0 = 0 ∨ M.1 407 a 0 = 1 := T.1 407 (by decide) a 0
theorem tB_408 {M : FM} (T : TyB M) (a : Nat) : M.1 408 a 0 = 0 ∨ M.1 408 a 0 = 1 := T.1 408 (by decide) a 0
theorem tB_409 {M : FM} (T : TyB M) (a : Nat) : M.1 409 a 0 = 0 ∨ M.1 409 a 0 = 1 := T.1 409 (by decide) a 0
theorem tB_425 {M : FM} (T : TyB M) (a : Nat) : M.1 425 a 0 = 0 ∨ M.1 425 a 0 = 1 := T.1 425 (by decide) a 0
theorem tB_426 {M : FM} (T : TyB M) (a : Nat) : M.1 426 a 0 = 0 ∨ M.1 426 a 0 = 1 := T.1 426 (by decide) a 0
theorem tS_114 {M : FM} {a v : Nat} (T : TyR M.2.2) (h : fm_is M 2 2 v = true) : TyR (fm_sR M 114 a 0 v).2.2 := ty_sRN (f := 114) (lo := 2) (hi := 2) (by decide) (by decide) (by decide) (by decide) T h
theorem tS_124 {M : FM} {a v : Nat} (T : TyR M.2.2) (h : v ≠ 0 → fm_is M 6 6 v = true) : TyR (fm_sR M 124 a 0 v).2.2 := ty_sRZ (f := 124) (lo := 6) (hi := 6) (by decide) (by decide) (by decide) (by decide) T h
theorem tS_149 {M : FM} {a v : Nat} (T : TyR M.2.2) (h : v ≠ 0 → fm_is M 53 60 v = true) : TyR (fm_sR M 149 a 0 v).2.2 := ty_sRZ (f := 149) (lo := 53) (hi := 60) (by decide) (by decide) (by decide) (by decide) T h
theorem tS_155 {M : FM} {a v : Nat} (T : TyR M.2.2) (h : v ≠ 0 → fm_is M 4 4 v = true) : TyR (fm_sR M 155 a 0 v).2.2 := ty_sRZ (f := 155) (lo := 4) (hi := 4) (by decide) (by decide) (by decide) (by decide) T h
theorem tS_174 {M : FM} {a v : Nat} (T : TyR M.2.2) (h : v ≠ 0 → fm_is M 61 61 v = true) : TyR (fm_sR M 174 a 0 v).2.2 := ty_sRZ (f := 174) (lo := 61) (hi := 61) (by decide) (by decide) (by decide) (by decide) T h
