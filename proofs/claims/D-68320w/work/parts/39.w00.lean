/-! frames: what is written; printed by gen/wr.py -/
set_option maxRecDepth 100000
def ty_S : List (Nat × Nat × Nat × Nat) := [(11, 11, 21, 21), (12, 12, 24, 24), (12, 12, 25, 25), (22, 22, 62, 62), (23, 23, 69, 69), (30, 30, 85, 85), (30, 30, 86, 86), (32, 32, 93, 93), (32, 32, 98, 98), (32, 32, 99, 99), (32, 32, 100, 100), (32, 32, 101, 101), (41, 41, 121, 121), (42, 42, 125, 125), (47, 47, 136, 136), (52, 52, 142, 142), (63, 63, 173, 173), (63, 63, 175, 175), (64, 64, 178, 178), (67, 67, 190, 190), (67, 67, 194, 194), (72, 72, 201, 201), (73, 73, 203, 203), (73, 73, 204, 204), (73, 73, 205, 205), (73, 73, 206, 206), (75, 75, 216, 216), (77, 77, 224, 224), (77, 77, 225, 225), (77, 77, 226, 226), (78, 78, 230, 230), (78, 78, 233, 233), (78, 78, 235, 235), (79, 79, 243, 243), (80, 80, 245, 245), (80, 80, 246, 246), (86, 86, 261, 261), (87, 87, 264, 264), (87, 87, 265, 265), (88, 88, 278, 278), (88, 88, 279, 279), (90, 90, 284, 284), (91, 91, 286, 286), (91, 91, 291, 291), (91, 91, 295, 295), (92, 92, 303, 303), (92, 92, 304, 304), (92, 92, 305, 305), (92, 92, 306, 306), (92, 92, 307, 307), (92, 92, 308, 308), (92, 92, 310, 310), (92, 92, 323, 323), (93, 93, 327, 327), (93, 93, 334, 334), (93, 93, 340, 340), (93, 93, 341, 341), (93, 93, 342, 342), (94, 94, 346, 346), (94, 94, 355, 355), (95, 95, 361, 361), (95, 95, 362, 362), (96, 96, 367, 367), (96, 96, 372, 372), (96, 96, 373, 373), (96, 96, 374, 374), (96, 96, 375, 375), (96, 96, 376, 376), (96, 96, 377, 377), (96, 96, 378, 378), (96, 96, 379, 379), (96, 96, 380, 380), (98, 98, 388, 388), (98, 98, 389, 389), (98, 98, 390, 390), (98, 98, 391, 391), (98, 98, 392, 392), (99, 99, 396, 396), (99, 99, 397, 397), (99, 99, 399, 399), (99, 99, 400, 400), (99, 99, 401, 401), (99, 99, 402, 402), (99, 99, 403, 403), (99, 99, 404, 404), (99, 99, 405, 405), (99, 99, 406, 406), (99, 99, 410, 410), (99, 99, 412, 412), (100, 100, 415, 415), (100, 100, 417, 417), (100, 100, 419, 419), (101, 101, 427, 427), (101, 101, 428, 428)]
def ty_O : List (Nat × Nat × Nat) := [(15, 7, 7), (17, 10, 10), (18, 11, 11), (19, 11, 11), (20, 11, 11), (21, 11, 11), (24, 12, 12), (25, 12, 12), (26, 12, 12), (27, 12, 12), (28, 12, 12), (29, 12, 12), (30, 12, 12), (31, 12, 12), (32, 12, 12), (33, 12, 12), (34, 12, 12), (35, 12, 12), (36, 12, 12), (44, 18, 18), (45, 19, 19), (46, 19, 19), (49, 20, 20), (50, 20, 20), (51, 20, 20), (52, 20, 20), (53, 20, 20), (54, 20, 20), (55, 21, 21), (56, 21, 21), (57, 21, 21), (58, 22, 22), (59, 22, 22), (60, 22, 22), (61, 22, 22), (62, 22, 22), (69, 23, 23), (78, 29, 29), (79, 29, 29), (85, 30, 30), (86, 30, 30), (93, 32, 32), (94, 32, 32), (98, 32, 32), (99, 32, 32), (100, 32, 32), (101, 32, 32), (102, 32, 32), (103, 32, 32), (104, 32, 32), (105, 32, 32), (106, 32, 32), (107, 32, 32), (108, 32, 32), (112, 33, 33), (114, 39, 39), (117, 39, 39), (121, 41, 41), (124, 41, 41), (125, 42, 42), (129, 43, 51), (136, 47, 47), (137, 47, 47), (141, 49, 49), (142, 52, 52), (149, 61, 61), (155, 61, 61), (161, 62, 62), (162, 62, 62), (163, 62, 62), (164, 62, 62), (165, 62, 62), (166, 62, 62), (167, 62, 62), (168, 62, 62), (169, 62, 62), (170, 62, 62), (171, 63, 63), (172, 63, 63), (173, 63, 63), (174, 63, 63), (175, 63, 63), (178, 64, 64), (186, 66, 66), (187, 66, 66), (189, 67, 67), (190, 67, 67), (191, 67, 67), (192, 67, 67), (193, 67, 67), (194, 67, 67), (201, 72, 72), (203, 73, 73), (204, 73, 73), (205, 73, 73), (206, 73, 73), (210, 75, 75), (211, 75, 75), (212, 75, 75), (213, 75, 75), (214, 75, 75), (215, 75, 75), (216, 75, 75), (217, 75, 75), (222, 76, 76), (224, 77, 77), (225, 77, 77), (226, 77, 77), (230, 78, 78), (233, 78, 78), (235, 78, 78), (240, 79, 79), (241, 79, 79), (242, 79, 79), (243, 79, 79), (245, 80, 80), (246, 80, 80), (247, 81, 81), (248, 82, 82), (256, 84, 84), (257, 84, 84), (258, 85, 85), (259, 85, 85), (261, 86, 86), (263, 87, 87), (264, 87, 87), (265, 87, 87), (278, 88, 88), (279, 88, 88), (284, 90, 90), (286, 91, 91), (287, 91, 91), (288, 91, 91), (291, 91, 91), (295, 91, 91), (298, 92, 92), (299, 92, 92), (300, 92, 92), (301, 92, 92), (302, 92, 92), (303, 92, 92), (304, 92, 92), (305, 92, 92), (306, 92, 92), (307, 92, 92), (308, 92, 92), (310, 92, 92), (323, 92, 92), (326, 93, 93), (327, 93, 93), (334, 93, 93), (340, 93, 93), (341, 93, 93), (342, 93, 93), (346, 94, 94), (355, 94, 94), (361, 95, 95), (362, 95, 95), (367, 96, 96), (372, 96, 96), (373, 96, 96), (374, 96, 96), (375, 96, 96), (376, 96, 96), (377, 96, 96), (378, 96, 96), (379, 96, 96), (380, 96, 96), (388, 98, 98), (389, 98, 98), (390, 98, 98), (391, 98, 98), (392, 98, 98), (396, 99, 99), (397, 99, 99), (399, 99, 99), (400, 99, 99), (401, 99, 99), (402, 99, 99), (403, 99, 99), (404, 99, 99), (405, 99, 99), (406, 99, 99), (410, 99, 99), (412, 99, 99), (415, 100, 100), (417, 100, 100), (419, 100, 100), (423, 101, 101), (427, 101, 101), (428, 101, 101)]
def xs_S : List Nat := [190, 303, 304, 305, 306]
/-- where something is written: a field, or (from 1000 on) what an array is for -/
def lcn (M : FM) (f a : Nat) : Nat := if f = 3 then 1000 + M.2.2 0 a 1 else f
/-- a is nothing, or an array for s -/
def Sf (M : FM) (a s : Nat) : Prop := a = 0 ∨ (M.2.2 0 a 0 ≠ 0 ∧ M.2.2 0 a 1 = s)
/-- objects with tags from lo to hi have the field f (that holds an object) -/
def rO (f lo hi : Nat) : Bool := ty_O.any fun q => Nat.beq q.1 f && (Nat.ble q.2.1 lo && Nat.ble hi q.2.2)
/-- a place that the program has: a field of an object, or a place of a row of objects -/
def rp (M : FM) (f a i : Nat) : Prop := (4 ≤ f ∧ i = 0 ∧ rO f (M.2.2 0 a 0) (M.2.2 0 a 0) = true) ∨ (f = 3 ∧ 910 ≤ M.2.2 0 a 0 ∧ M.2.2 0 a 0 ≤ 990 ∧ i < M.2.2 1 a 0)
def Jz (M : FM) : Prop := (∀ f a i, 3 ≤ f → M.2.2 f a i ≠ 0 → rp M f a i) ∧ ∀ a, M.2.2 0 a 0 ≤ 933
/-- nothing stands where nothing was made yet; fields hold the arrays that are for them; nothing stands at places that the program has not -/
def Wf (M : FM) : Prop :=
  (∀ a, fm_nx M ≤ a → ∀ f i, M.1 f a i = 0 ∧ M.2.1 f a i = 0 ∧ M.2.2 f a i = 0) ∧
  ((∀ q ∈ ty_S, ∀ a, fm_is M q.1 q.2.1 a = true → Sf M (M.2.2 q.2.2.1 a 0) q.2.2.2) ∧ Jz M) ∧
  M.2.2 0 0 0 = 0 ∧ 1000 ≤ fm_nx M
/-- what hangs on Z is in Z (of the rows of all processors only the place hx counts) -/
def Cl (Z : Nat → Prop) (hx : Nat) (M : FM) : Prop := ∀ f a i, 4 ≤ f + 1 → Z a → (f = 3 → fe_mem xs_S (M.2.2 0 a 1) = true → i = hx) → Z (M.2.2 f a i)
def WI (Z : Nat → Prop) (hx N : Nat) (M : FM) : Prop := Wf M ∧ Cl Z hx M ∧ N ≤ fm_nx M ∧ (∀ a, N ≤ a → Z a) ∧ (∀ a, a < 1000 → Z a)
/-- from M0 to M only places of S are written, of objects of Z, and what is new (from N on) -/
def Wk (S Z : Nat → Prop) (hx N : Nat) (M0 M : FM) : Prop :=
  WI Z hx N M ∧ fm_nx M0 ≤ fm_nx M ∧
  ((∀ a, a < fm_nx M0 → M.2.2 0 a = M0.2.2 0 a ∧ M.2.2 1 a = M0.2.2 1 a) ∧
    ∀ a, fm_nx M0 ≤ a → fe_mem xs_S (M.2.2 0 a 1) = true → S (1000 + M.2.2 0 a 1)) ∧
  (∀ f a, a < N → 3 ≤ f → (S (lcn M0 f a) → ¬ Z a) → M.1 f a = M0.1 f a ∧ M.2.1 f a = M0.2.1 f a ∧ M.2.2 f a = M0.2.2 f a)
/-- array a may be written -/
def Sy (S : Nat → Prop) (N : Nat) (M : FM) (a : Nat) : Prop := a = 0 ∨ N ≤ a ∨ (M.2.2 0 a 0 ≠ 0 ∧ S (1000 + M.2.2 0 a 1))
def pq {α : Type} (o : Option α) (P : α → Prop) : Prop := ∀ r, o = some r → P r
section Pq
variable {α β : Type} {P : α → Prop} {c : Prop} {t e : Option α}
theorem pq_0 : pq (none : Option α) P := fun r h => by cases h
theorem pq_s {x : α} (h : P x) : pq (some x) P := fun r q => by cases q; exact h
theorem pq_g (h : c → pq t P) : pq (fi c t none) P := by
  by_cases q : c
  · rw [fi_pos q]; exact h q
  · rw [fi_neg q]; exact pq_0
theorem pq_n (h : pq e P) : pq (fi c none e) P := by
  by_cases q : c
  · rw [fi_pos q]; exact pq_0
  · rw [fi_neg q]; exact h
theorem pq_fi (h : c → pq t P) (k : ¬ c → pq e P) : pq (fi c t e) P := by
  by_cases q : c
  · rw [fi_pos q]; exact h q
  · rw [fi_neg q]; exact k q
theorem pq_b {o : Option β} {g : β → Option α} {P0 : β → Prop} (h : pq o P0) (k : ∀ r, P0 r → pq (g r) P) : pq (o.bind g) P := by
  intro r q
  cases o with
  | none => cases q
  | some x => exact k x (h x rfl) r q
end Pq
def fe_sub : List Nat → List Nat → Bool
  | s, [] => match s with
    | [] => true
    | _ :: _ => false
  | s, b :: t => match s with
    | [] => true
    | a :: s' => bif Nat.beq a b then fe_sub s' t else fe_sub (a :: s') t
theorem fe_sub_s {S : Nat → Prop} : ∀ (t s : List Nat), fe_sub s t = true → (∀ x, fe_mem t x = true → S x) → ∀ x, fe_mem s x = true → S x
  | [], s, h, k, x, q => by
    cases s with
    | nil => cases q
    | cons a s => cases h
  | b :: t, s, h, k, x, q => by
    cases s with
    | nil => cases q
    | cons a s =>
      have k' : ∀ x, fe_mem t x = true → S x := fun y hy => k y (by unfold fe_mem; rw [hy, Bool.or_true])
      have h : (bif Nat.beq a b then fe_sub s t else fe_sub (a :: s) t) = true := h
      cases e : Nat.beq a b with
      | true =>
        rw [e] at h
        unfold fe_mem at q
        rw [Bool.or_eq_true] at q
        rcases q with q | q
        · rw [Nat.eq_of_beq_eq_true e] at q
          exact k x (by unfold fe_mem; rw [q, Bool.true_or])
        · exact fe_sub_s t s h k' x q
      | false =>
        rw [e] at h
        exact fe_sub_s t (a :: s) h k' x q
theorem sb {S : Nat → Prop} {s t : List Nat} (h : fe_sub s t = true) (k : ∀ x, fe_mem t x = true → S x) : ∀ x, fe_mem s x = true → S x := fe_sub_s t s h k
section Wk
variable {S Z : Nat → Prop} {hx N : Nat} {M0 M M' : FM} {f a i lo hi s t n v : Nat}
theorem fm_ist (hlo : Nat.ble 1 lo = true) (g : fm_is M lo hi a = true) : M.2.2 0 a 0 ≠ 0 := by
  have := (fm_isd g).1
  have h2 := Nat.le_of_ble_eq_true hlo
  omega
theorem rO_m {t : Nat} (h : rO f lo hi = true) (h1 : lo ≤ t) (h2 : t ≤ hi) : rO f t t = true := by
  unfold rO at h ⊢
  rw [List.any_eq_true] at h ⊢
  obtain ⟨q, hq, h⟩ := h
  refine ⟨q, hq, ?_⟩
  rw [Bool.and_eq_true, Bool.and_eq_true] at h ⊢
  obtain ⟨k1, k2, k3⟩ := h
  have k2 := Nat.le_of_ble_eq_true k2
  have k3 := Nat.le_of_ble_eq_true k3
  exact ⟨k1, Nat.ble_eq.mpr (by omega), Nat.ble_eq.mpr (by omega)⟩
theorem rp_f (hf : Nat.ble 4 f = true) (g : fm_is M lo hi a = true) (h : rO f lo hi = true) : rp M f a 0 :=
  Or.inl ⟨Nat.le_of_ble_eq_true hf, rfl, rO_m h (fm_isd g).1 (fm_isd g).2⟩
theorem rp_a {j : Int32} (h1 : Nat.ble 910 lo = true) (h2 : Nat.ble hi 990 = true) (g : fm_is M lo hi a = true) (h : fm_in M a j = true) : rp M 3 a j.toNatClampNeg := by
  have h1 := Nat.le_of_ble_eq_true h1
  have h2 := Nat.le_of_ble_eq_true h2
  have k := fm_isd g
  unfold fm_in at h
  rw [Bool.and_eq_true] at h
  exact Or.inr ⟨rfl, by omega, by omega, of_decide_eq_true h.2⟩
/-- the same tags and lengths: the same places -/
theorem rp_k (h0 : M'.2.2 0 a 0 = M.2.2 0 a 0) (h1 : M'.2.2 1 a 0 = M.2.2 1 a 0) (h : rp M f a i) : rp M' f a i := by
  unfold rp at h ⊢
  rw [h0, h1]
  exact h
theorem wf_lt (w : Wf M) (h : M.2.2 0 a 0 ≠ 0) : a < fm_nx M := by
  rcases Nat.lt_or_ge a (fm_nx M) with q | q
  · exact q
  · exact absurd (w.1 a q 0 0).2.2 h
theorem wf_n0 (w : Wf M) (h : M.2.2 0 a 0 ≠ 0) : a ≠ 0 := fun e => h (by rw [e]; exact w.2.2.1)
/-- nothing new: no new row of all processors -/
theorem nw0 {P : Prop} (w : Wf M) (e : M'.2.2 = M.2.2) (h : fm_nx M ≤ a) (k : fe_mem xs_S (M'.2.2 0 a 1) = true) : P := by
  rw [e, (w.1 a h 0 1).2.2] at k
  cases k
theorem wk_r (w : WI Z hx N M) : Wk S Z hx N M M := ⟨w, Nat.le_refl _, ⟨fun _ _ => ⟨rfl, rfl⟩, fun _ h k => nw0 w.1 rfl h k⟩, fun _ _ _ _ _ => ⟨rfl, rfl, rfl⟩⟩
theorem wk_t {M1 : FM} (w : Wk S Z hx N M0 M) (k : Wk S Z hx N M M1) (hN : N ≤ fm_nx M0) : Wk S Z hx N M0 M1 := by
  obtain ⟨a1, a2, ⟨a3, a3n⟩, a4⟩ := w
  obtain ⟨b1, b2, ⟨b3, b3n⟩, b4⟩ := k
  refine ⟨b1, Nat.le_trans a2 b2, ⟨fun a h => ?_, fun a h q => ?_⟩, fun f a h hf hs => ?_⟩
  · obtain ⟨c1, c2⟩ := a3 a h
    obtain ⟨d1, d2⟩ := b3 a (Nat.lt_of_lt_of_le h a2)
    exact ⟨d1.trans c1, d2.trans c2⟩
  · rcases Nat.lt_or_ge a (fm_nx M) with g | g
    · rw [(b3 a g).1] at q ⊢
      exact a3n a h q
    · exact b3n a g q
  · obtain ⟨c1, c2, c3⟩ := a4 f a h hf hs
    have e : lcn M f a = lcn M0 f a := by
      unfold lcn
      rw [(a3 a (Nat.lt_of_lt_of_le h hN)).1]
    obtain ⟨d1, d2, d3⟩ := b4 f a h hf (fun q => hs (by rw [← e]; exact q))
    exact ⟨d1.trans c1, d2.trans c2, d3.trans c3⟩
theorem wk_N (w : Wk S Z hx N M0 M) : N ≤ fm_nx M := w.1.2.2.1
/-- numbers are written: nothing hangs otherwise -/
theorem wi_n (h : M'.2.2 = M.2.2) (hz : ∀ a, fm_nx M ≤ a → ∀ f i, M'.1 f a i = M.1 f a i ∧ M'.2.1 f a i = M.2.1 f a i) (w : WI Z hx N M) : WI Z hx N M' := by
  have e : fm_nx M' = fm_nx M := by unfold fm_nx; rw [h]
  obtain ⟨⟨w1, ⟨w2, w2j⟩, w3, w4⟩, w5, w6, w7⟩ := w
  refine ⟨⟨fun a ha f i => ?_, ⟨fun q hq a ha => ?_, fun f a i hf hne => rp_k (M := M) (by rw [h]) (by rw [h]) (w2j.1 f a i hf (by rw [← h]; exact hne)), by rw [h]; exact w2j.2⟩, by rw [h]; exact w3, by rw [e]; exact w4⟩, fun f a i hf hz hi => ?_, by rw [e]; exact w6, w7⟩
  · rw [e] at ha
    obtain ⟨p1, p2⟩ := hz a ha f i
    rw [p1, p2, h]
    exact w1 a ha f i
  · unfold Sf fm_is at *
    rw [h] at *
    exact w2 q hq a ha
  · rw [h] at hi ⊢
    exact w5 f a i hf hz hi
theorem wk_I {v : Int32} (w : Wk S Z hx N M0 M) (hlo : Nat.ble 1 lo = true) (g : fm_is M lo hi a = true) (z : Z a) (hs : N ≤ a ∨ S (lcn M f a)) (hN : N ≤ fm_nx M0) : Wk S Z hx N M0 (fm_sI M f a i v) := by
  have hlt := wf_lt w.1.1 (fm_ist hlo g)
  obtain ⟨a1, a2, ⟨a3, a3n⟩, a4⟩ := w
  refine ⟨wi_n (M := M) rfl (fun b hb g j => ⟨if_neg (fun q => ?_), rfl⟩) a1, a2, ⟨a3, a3n⟩, fun g b hb hg hq => ?_⟩
  · omega
  · obtain ⟨b1, b2, b3⟩ := a4 g b hb hg hq
    refine ⟨?_, b2, b3⟩
    rw [← b1]
    funext j
    refine if_neg (fun q => ?_)
    obtain ⟨h1, h2, -⟩ := q
    rw [h2] at hb
    rw [h1, h2] at hq
    rcases hs with hs | hs
    · omega
    · refine hq ?_ z
      have e : lcn M0 f a = lcn M f a := by
        unfold lcn
        rw [(a3 a (Nat.lt_of_lt_of_le hb hN)).1]
      rw [e]
      exact hs
theorem wk_L {v : Int64} (w : Wk S Z hx N M0 M) (hlo : Nat.ble 1 lo = true) (g : fm_is M lo hi a = true) (z : Z a) (hs : N ≤ a ∨ S (lcn M f a)) (hN : N ≤ fm_nx M0) : Wk S Z hx N M0 (fm_sL M f a i v) := by
  have hlt := wf_lt w.1.1 (fm_ist hlo g)
  obtain ⟨a1, a2, ⟨a3, a3n⟩, a4⟩ := w
  refine ⟨wi_n (M := M) rfl (fun b hb g j => ⟨rfl, if_neg (fun q => ?_)⟩) a1, a2, ⟨a3, a3n⟩, fun g b hb hg hq => ?_⟩
  · omega
  · obtain ⟨b1, b2, b3⟩ := a4 g b hb hg hq
    refine ⟨b1, ?_, b3⟩
    rw [← b2]
    funext j
    refine if_neg (fun q => ?_)
    obtain ⟨h1, h2, -⟩ := q
    rw [h2] at hb
    rw [h1, h2] at hq
    rcases hs with hs | hs
    · omega
    · refine hq ?_ z
      have e : lcn M0 f a = lcn M f a := by
        unfold lcn
        rw [(a3 a (Nat.lt_of_lt_of_le hb hN)).1]
      rw [e]
      exact hs
theorem wk_R (w : Wk S Z hx N M0 M) (hf : Nat.ble 3 f = true) (hlo : Nat.ble 1 lo = true) (g : fm_is M lo hi a = true) (z : Z a) (hs : N ≤ a ∨ S (lcn M f a)) (hN : N ≤ fm_nx M0) (zv : Z v)
    (hq : ∀ q ∈ ty_S, q.2.2.1 = f → Sf M v q.2.2.2) (hj : rp M f a i) : Wk S Z hx N M0 (fm_sR M f a i v) := by
  have hlt := wf_lt w.1.1 (fm_ist hlo g)
  have hf3 := Nat.le_of_ble_eq_true hf
  obtain ⟨a1, a2, ⟨a3, a3n⟩, a4⟩ := w
  obtain ⟨⟨w1, ⟨w2, w2j⟩, w3, w4⟩, w5, w6, w7⟩ := a1
  have e0 : ∀ b, (fm_sR M f a i v).2.2 0 b = M.2.2 0 b := fun b => funext fun j => if_neg (fun q => by omega)
  have e1 : ∀ b, (fm_sR M f a i v).2.2 1 b = M.2.2 1 b := fun b => funext fun j => if_neg (fun q => by omega)
  have e2 : fm_nx (fm_sR M f a i v) = fm_nx M := if_neg (fun q => by omega)
  refine ⟨⟨⟨fun b hb g j => ?_, ⟨fun q hq' b hb => ?_, fun g b j hg hne => rp_k (M := M) (by rw [e0]) (by rw [e1]) ?_, fun b => by rw [e0]; exact w2j.2 b⟩, by rw [e0]; exact w3, by rw [e2]; exact w4⟩, fun g b j hg hzb hi => ?_, by rw [e2]; exact w6, w7⟩, by rw [e2]; exact a2, ⟨fun b hb => ?_, fun b hb q => by rw [e0] at q ⊢; exact a3n b hb q⟩, fun g b hb hg hq' => ?_⟩
  · rw [e2] at hb
    obtain ⟨p1, p2, p3⟩ := w1 b hb g j
    refine ⟨p1, p2, ?_⟩
    rw [← p3]
    exact if_neg (fun q => by omega)
  · have hb' : fm_is M q.1 q.2.1 b = true := by
      unfold fm_is at hb ⊢
      rw [e0] at hb
      exact hb
    have k := w2 q hq' b hb'
    unfold Sf at *
    rw [e0]
    show ((if q.2.2.1 = f ∧ b = a ∧ 0 = i then v else M.2.2 q.2.2.1 b 0) = 0 ∨ _)
    have ex : (fm_sR M f a i v).2.2 q.2.2.1 b 0 = if q.2.2.1 = f ∧ b = a ∧ 0 = i then v else M.2.2 q.2.2.1 b 0 := rfl
    rw [ex]
    split
    · rename_i c
      exact hq q hq' c.1
    · exact k
  · by_cases c : g = f ∧ b = a ∧ j = i
    · rw [c.1, c.2.1, c.2.2]; exact hj
    · refine w2j.1 g b j hg ?_
      have ex : (fm_sR M f a i v).2.2 g b j = M.2.2 g b j := if_neg c
      rw [← ex]
      exact hne
  · rw [e0] at hi
    have ex : (fm_sR M f a i v).2.2 g b j = if g = f ∧ b = a ∧ j = i then v else M.2.2 g b j := rfl
    rw [ex]
    split
    · exact zv
    · exact w5 g b j hg hzb hi
  · rw [e0, e1]
    exact a3 b hb
  · obtain ⟨b1, b2, b3⟩ := a4 g b hb hg hq'
    refine ⟨b1, b2, ?_⟩
    rw [← b3]
    funext j
    refine if_neg (fun q => ?_)
    obtain ⟨h1, h2, -⟩ := q
    rw [h2] at hb
    rw [h1, h2] at hq'
    rcases hs with hs | hs
    · omega
    · refine hq' ?_ z
      have e : lcn M0 f a = lcn M f a := by
        unfold lcn
        rw [(a3 a (Nat.lt_of_lt_of_le hb hN)).1]
      rw [e]
      exact hs
theorem lcf (hf : Nat.ble 4 f = true) (h : S f) : N ≤ a ∨ S (lcn M f a) := by
  right
  unfold lcn
  rw [if_neg (fun e => by have := Nat.le_of_ble_eq_true hf; omega)]
  exact h
theorem lca (w : Wk S Z hx N M0 M) (hlo : Nat.ble 1 lo = true) (g : fm_is M lo hi a = true) (y : Sy S N M a) : N ≤ a ∨ S (lcn M 3 a) := by
  rcases y with y | y | y
  · exact absurd y (wf_n0 w.1.1 (fm_ist hlo g))
  · exact Or.inl y
  · exact Or.inr (by unfold lcn; rw [if_pos rfl]; exact y.2)
theorem wk_fI {v : Int32} (hN : N ≤ fm_nx M0) (w : Wk S Z hx N M0 M) (hf : Nat.ble 4 f = true) (hlo : Nat.ble 1 lo = true) (g : fm_is M lo hi a = true) (z : Z a) (hs : N ≤ a ∨ S f) : Wk S Z hx N M0 (fm_sI M f a i v) :=
  wk_I w hlo g z (hs.elim Or.inl (lcf hf)) hN
theorem wk_fL {v : Int64} (hN : N ≤ fm_nx M0) (w : Wk S Z hx N M0 M) (hf : Nat.ble 4 f = true) (hlo : Nat.ble 1 lo = true) (g : fm_is M lo hi a = true) (z : Z a) (hs : N ≤ a ∨ S f) : Wk S Z hx N M0 (fm_sL M f a i v) :=
  wk_L w hlo g z (hs.elim Or.inl (lcf hf)) hN
theorem nts (h : (ty_S.all fun q => !(Nat.beq q.2.2.1 f)) = true) : ∀ q ∈ ty_S, q.2.2.1 = f → Sf M v q.2.2.2 := by
  intro q hq e
  have := List.all_eq_true.mp h q hq
  rw [e, Nat.beq_refl] at this
  cases this
theorem wk_fR (hN : N ≤ fm_nx M0) (w : Wk S Z hx N M0 M) (hf : Nat.ble 4 f = true) (hlo : Nat.ble 1 lo = true) (g : fm_is M lo hi a = true) (z : Z a) (hs : N ≤ a ∨ S f) (zv : Z v) (hq : (ty_S.all fun q => !(Nat.beq q.2.2.1 f)) = true) (hr : rO f lo hi = true) : Wk S Z hx N M0 (fm_sR M f a 0 v) :=
  wk_R w (Nat.ble_eq.mpr (by have := Nat.le_of_ble_eq_true hf; omega)) hlo g z (hs.elim Or.inl (lcf hf)) hN zv (nts hq) (rp_f hf g hr)
theorem wk_fRs (hN : N ≤ fm_nx M0) (w : Wk S Z hx N M0 M) (hf : Nat.ble 4 f = true) (hlo : Nat.ble 1 lo = true) (g : fm_is M lo hi a = true) (z : Z a) (hs : N ≤ a ∨ S f) (zv : Z v) (hq : (ty_S.all fun q => (!(Nat.beq q.2.2.1 f)) || Nat.beq q.2.2.2 s) = true) (sf : Sf M v s) (hr : rO f lo hi = true) : Wk S Z hx N M0 (fm_sR M f a 0 v) :=
  wk_R w (Nat.ble_eq.mpr (by have := Nat.le_of_ble_eq_true hf; omega)) hlo g z (hs.elim Or.inl (lcf hf)) hN zv (fun q hq' e => by
    have := List.all_eq_true.mp hq q hq'
    rw [e, Nat.beq_refl] at this
    have t : Nat.beq q.2.2.2 s = true := by simpa using this
    have e2 := Nat.eq_of_beq_eq_true t
    rw [e2]
    exact sf) (rp_f hf g hr)
theorem wk_aI {v : Int32} (hN : N ≤ fm_nx M0) (w : Wk S Z hx N M0 M) (hlo : Nat.ble 1 lo = true) (g : fm_is M lo hi a = true) (z : Z a) (y : Sy S N M a) : Wk S Z hx N M0 (fm_sI M 3 a i v) := wk_I w hlo g z (lca w hlo g y) hN
theorem wk_aL {v : Int64} (hN : N ≤ fm_nx M0) (w : Wk S Z hx N M0 M) (hlo : Nat.ble 1 lo = true) (g : fm_is M lo hi a = true) (z : Z a) (y : Sy S N M a) : Wk S Z hx N M0 (fm_sL M 3 a i v) := wk_L w hlo g z (lca w hlo g y) hN
theorem wk_aR {j : Int32} (hN : N ≤ fm_nx M0) (w : Wk S Z hx N M0 M) (hlo : Nat.ble 1 lo = true) (g : fm_is M lo hi a = true) (z : Z a) (y : Sy S N M a) (zv : Z v) (h1 : Nat.ble 910 lo = true) (h2 : Nat.ble hi 990 = true) (h : fm_in M a j = true) : Wk S Z hx N M0 (fm_sR M 3 a j.toNatClampNeg v) := wk_R w rfl hlo g z (lca w hlo g y) hN zv (nts rfl) (rp_a h1 h2 g h)
theorem sy_s (sf : Sf M a s) (h : S (1000 + s)) : Sy S N M a := sf.elim Or.inl (fun q => Or.inr (Or.inr ⟨q.1, by rw [q.2]; exact h⟩))
theorem sy_n (h : N ≤ a) : Sy S N M a := Or.inr (Or.inl h)
theorem sf_k (w0 : Wf M) (k : Wk S Z hx N M M') (y : Sf M a s) : Sf M' a s := by
  rcases y with y | y
  · exact Or.inl y
  · right
    rw [(k.2.2.1.1 a (wf_lt w0 y.1)).1]
    exact y
theorem sy_k (w0 : Wf M) (k : Wk S Z hx N M M') (y : Sy S N M a) : Sy S N M' a := by
  rcases y with y | y | y
  · exact Or.inl y
  · exact Or.inr (Or.inl y)
  · right
    right
    rw [(k.2.2.1.1 a (wf_lt w0 y.1)).1]
    exact y
theorem sf_R {b : Nat} (hf : Nat.ble 3 f = true) (y : Sf M b s) : Sf (fm_sR M f a i v) b s := by
  have hf3 := Nat.le_of_ble_eq_true hf
  have e0 : ∀ j, (fm_sR M f a i v).2.2 0 b j = M.2.2 0 b j := fun j => if_neg (fun q => by omega)
  unfold Sf
  rw [e0, e0]
  exact y
theorem sy_R {b : Nat} (hf : Nat.ble 3 f = true) (y : Sy S N M b) : Sy S N (fm_sR M f a i v) b := by
  have hf3 := Nat.le_of_ble_eq_true hf
  have e0 : ∀ j, (fm_sR M f a i v).2.2 0 b j = M.2.2 0 b j := fun j => if_neg (fun q => by omega)
  unfold Sy
  rw [e0, e0]
  exact y
theorem wk_z (w : Wk S Z hx N M0 M) (hf : Nat.ble 4 f = true) (z : Z a) : Z (M.2.2 f a i) :=
  w.1.2.1 f a i (by have := Nat.le_of_ble_eq_true hf; omega) z (fun e => by have := Nat.le_of_ble_eq_true hf; omega)
theorem wk_ze (w : Wk S Z hx N M0 M) (hlo : Nat.ble 1 lo = true) (g : fm_is M lo hi a = true) (sf : Sf M a s) (hs : fe_mem xs_S s = false) (z : Z a) : Z (M.2.2 3 a i) :=
  w.1.2.1 3 a i (by omega) z (fun _ q => by
    rcases sf with e | e
    · exact absurd e (wf_n0 w.1.1 (fm_ist hlo g))
    · rw [e.2, hs] at q
      cases q)
theorem wk_zx (w : Wk S Z hx N M0 M) (z : Z a) (hi : i = hx) : Z (M.2.2 3 a i) := w.1.2.1 3 a i (by omega) z (fun _ _ => hi)
theorem wk_zc (w : Wk S Z hx N M0 M) (h : Nat.blt a 1000 = true) : Z a := w.1.2.2.2.2 a (Nat.lt_of_succ_le (Nat.le_of_ble_eq_true h))
theorem wk_zn (w : Wk S Z hx N M0 M) : Z (fm_nx M) := w.1.2.2.2.1 _ w.1.2.2.1
theorem wk_new (hN : N ≤ fm_nx M0) (w : Wk S Z hx N M0 M) (ht : Nat.ble 1 t = true) (h9 : Nat.ble t 933 = true) (hb : ∀ q ∈ ty_S, Nat.ble 4 q.2.2.1 = true) : Wk S Z hx N M0 (fm_new M t n) := by
  have ht1 := Nat.le_of_ble_eq_true ht
  obtain ⟨a1, a2, ⟨a3, a3n⟩, a4⟩ := w
  obtain ⟨⟨w1, ⟨w2, w2j⟩, w3, w4⟩, w5, w6, w7⟩ := a1
  have ex : ∀ g b j, (fm_new M t n).2.2 g b j = if g = 2 ∧ b = 0 ∧ j = 0 then fm_nx M + 1 else if g = 2 ∧ b = 0 ∧ j = 1 then fm_ns M + n else if g = 0 ∧ b = fm_nx M ∧ j = 0 then t else M.2.2 g b j := fun _ _ _ => rfl
  have enx : fm_nx (fm_new M t n) = fm_nx M + 1 := rfl
  have e0 : ∀ b j, b ≠ fm_nx M → (fm_new M t n).2.2 0 b j = M.2.2 0 b j := fun b j hb => by rw [ex, if_neg (by omega), if_neg (by omega), if_neg (fun q => hb q.2.1)]
  have e3 : ∀ g b j, 3 ≤ g → (fm_new M t n).2.2 g b j = M.2.2 g b j := fun g b j hg => by rw [ex, if_neg (by omega), if_neg (by omega), if_neg (by omega)]
  have hsf : ∀ {b s : Nat}, Sf M b s → Sf (fm_new M t n) b s := by
    intro b s h
    rcases h with h | h
    · exact Or.inl h
    · have hne : b ≠ fm_nx M := fun e => by
        have := (w1 b (by omega) 0 0).2.2
        exact h.1 this
      right
      rw [e0 _ _ hne, e0 _ _ hne]
      exact h
  refine ⟨⟨⟨fun b hb' g j => ?_, ⟨fun q hq b hb' => ?_, fun g b j hg hne => ?_, fun b => ?_⟩, ?_, by rw [enx]; omega⟩, fun g b j hg hzb hi => ?_, by rw [enx]; omega, w7⟩, by rw [enx]; omega, ⟨fun b hb' => ?_, fun b hb' q => ?_⟩, fun g b hb' hg hq' => ?_⟩
  · rw [enx] at hb'
    obtain ⟨p1, p2, p3⟩ := w1 b (by omega) g j
    refine ⟨p1, p2, ?_⟩
    rw [ex, if_neg (by omega), if_neg (by omega), if_neg (by omega)]
    exact p3
  · rw [e3 _ _ _ (by have := Nat.le_of_ble_eq_true (hb q hq); omega)]
    by_cases hbn : b = fm_nx M
    · left
      rw [hbn]
      exact (w1 _ (Nat.le_refl _) _ _).2.2
    · refine hsf (w2 q hq b ?_)
      unfold fm_is at hb' ⊢
      rw [e0 _ _ hbn] at hb'
      exact hb'
  · rw [e3 _ _ _ hg] at hne
    have hbn : b ≠ fm_nx M := fun e => hne (w1 b (by omega) g j).2.2
    exact rp_k (M := M) (e0 _ _ hbn) (by rw [ex, if_neg (by omega), if_neg (by omega), if_neg (by omega)]) (w2j.1 g b j hg hne)
  · by_cases hbn : b = fm_nx M
    · rw [ex, if_neg (by omega), if_neg (by omega), if_pos ⟨rfl, hbn, rfl⟩]
      exact Nat.le_of_ble_eq_true h9
    · rw [e0 _ _ hbn]
      exact w2j.2 b
  · rw [e0 _ _ (by omega)]
    exact w3
  · rw [e3 _ _ _ (by omega)]
    by_cases hbn : b = fm_nx M
    · rw [hbn, (w1 _ (Nat.le_refl _) _ _).2.2]
      exact w7.2 0 (by omega)
    · refine w5 g b j hg hzb ?_
      intro e
      rw [e0 _ _ hbn] at hi
      exact hi e
  · obtain ⟨c1, c2⟩ := a3 b hb'
    refine ⟨?_, ?_⟩
    · rw [← c1]
      exact funext fun j => e0 _ _ (by omega)
    · rw [← c2]
      exact funext fun j => by rw [ex, if_neg (by omega), if_neg (by omega), if_neg (by omega)]
  · have ey : (fm_new M t n).2.2 0 b 1 = M.2.2 0 b 1 := by rw [ex, if_neg (by omega), if_neg (by omega), if_neg (by omega)]
    rw [ey] at q ⊢
    exact a3n b hb' q
  · obtain ⟨b1, b2, b3⟩ := a4 g b hb' hg hq'
    refine ⟨b1, b2, ?_⟩
    rw [← b3]
    exact funext fun j => e3 _ _ _ hg
theorem wk_newa (hN : N ≤ fm_nx M0) (w : Wk S Z hx N M0 M) (ht : Nat.ble 1 t = true) (h9 : Nat.ble t 933 = true) (hb : ∀ q ∈ ty_S, Nat.ble 4 q.2.2.1 = true) (hxs : fe_mem xs_S s = false ∨ S (1000 + s)) : Wk S Z hx N M0 (fm_newa M t s n) := by
  have ht1 := Nat.le_of_ble_eq_true ht
  obtain ⟨a1, a2, ⟨a3, a3n⟩, a4⟩ := w
  obtain ⟨⟨w1, ⟨w2, w2j⟩, w3, w4⟩, w5, w6, w7⟩ := a1
  have ex : ∀ g b j, (fm_newa M t s n).2.2 g b j = if g = 2 ∧ b = 0 ∧ j = 0 then fm_nx M + 1 else if g = 2 ∧ b = 0 ∧ j = 1 then fm_ns M + n else if g = 0 ∧ b = fm_nx M ∧ j = 0 then t else if g = 1 ∧ b = fm_nx M ∧ j = 0 then n else if g = 0 ∧ b = fm_nx M ∧ j = 1 then s else M.2.2 g b j := fun _ _ _ => rfl
  have enx : fm_nx (fm_newa M t s n) = fm_nx M + 1 := rfl
  have e0 : ∀ b j, b ≠ fm_nx M → (fm_newa M t s n).2.2 0 b j = M.2.2 0 b j := fun b j hb => by rw [ex, if_neg (by omega), if_neg (by omega), if_neg (fun q => hb q.2.1), if_neg (by omega), if_neg (fun q => hb q.2.1)]
  have e3 : ∀ g b j, 3 ≤ g → (fm_newa M t s n).2.2 g b j = M.2.2 g b j := fun g b j hg => by rw [ex, if_neg (by omega), if_neg (by omega), if_neg (by omega), if_neg (by omega), if_neg (by omega)]
  have hsf : ∀ {b s' : Nat}, Sf M b s' → Sf (fm_newa M t s n) b s' := by
    intro b s' h
    rcases h with h | h
    · exact Or.inl h
    · have hne : b ≠ fm_nx M := fun e => by
        have := (w1 b (by omega) 0 0).2.2
        exact h.1 this
      right
      rw [e0 _ _ hne, e0 _ _ hne]
      exact h
  refine ⟨⟨⟨fun b hb' g j => ?_, ⟨fun q hq b hb' => ?_, fun g b j hg hne => ?_, fun b => ?_⟩, ?_, by rw [enx]; omega⟩, fun g b j hg hzb hi => ?_, by rw [enx]; omega, w7⟩, by rw [enx]; omega, ⟨fun b hb' => ?_, fun b hb' q => ?_⟩, fun g b hb' hg hq' => ?_⟩
  · rw [enx] at hb'
    obtain ⟨p1, p2, p3⟩ := w1 b (by omega) g j
    refine ⟨p1, p2, ?_⟩
    rw [ex, if_neg (by omega), if_neg (by omega), if_neg (by omega), if_neg (by omega), if_neg (by omega)]
    exact p3
  · rw [e3 _ _ _ (by have := Nat.le_of_ble_eq_true (hb q hq); omega)]
    by_cases hbn : b = fm_nx M
    · left
      rw [hbn]
      exact (w1 _ (Nat.le_refl _) _ _).2.2
    · refine hsf (w2 q hq b ?_)
      unfold fm_is at hb' ⊢
      rw [e0 _ _ hbn] at hb'
      exact hb'
  · rw [e3 _ _ _ hg] at hne
    have hbn : b ≠ fm_nx M := fun e => hne (w1 b (by omega) g j).2.2
    exact rp_k (M := M) (e0 _ _ hbn) (by rw [ex, if_neg (by omega), if_neg (by omega), if_neg (by omega), if_neg (fun q => hbn q.2.1), if_neg (by omega)]) (w2j.1 g b j hg hne)
  · by_cases hbn : b = fm_nx M
    · rw [ex, if_neg (by omega), if_neg (by omega), if_pos ⟨rfl, hbn, rfl⟩]
      exact Nat.le_of_ble_eq_true h9
    · rw [e0 _ _ hbn]
      exact w2j.2 b
  · rw [e0 _ _ (by omega)]
    exact w3
  · rw [e3 _ _ _ (by omega)]
    by_cases hbn : b = fm_nx M
    · rw [hbn, (w1 _ (Nat.le_refl _) _ _).2.2]
      exact w7.2 0 (by omega)
    · refine w5 g b j hg hzb ?_
      intro e
      rw [e0 _ _ hbn] at hi
      exact hi e
  · obtain ⟨c1, c2⟩ := a3 b hb'
    refine ⟨?_, ?_⟩
    · rw [← c1]
      exact funext fun j => e0 _ _ (by omega)
    · rw [← c2]
      exact funext fun j => by rw [ex, if_neg (by omega), if_neg (by omega), if_neg (by omega), if_neg (by omega), if_neg (by omega)]
  · by_cases hbn : b = fm_nx M
    · have ey : (fm_newa M t s n).2.2 0 b 1 = s := by rw [ex, if_neg (by omega), if_neg (by omega), if_neg (by omega), if_neg (by omega), if_pos ⟨rfl, hbn, rfl⟩]
      rw [ey] at q ⊢
      rcases hxs with z | z
      · rw [z] at q; cases q
      · exact z
    · rw [e0 _ _ hbn] at q ⊢
      exact a3n b hb' q
  · obtain ⟨b1, b2, b3⟩ := a4 g b hb' hg hq'
    refine ⟨b1, b2, ?_⟩
    rw [← b3]
    exact funext fun j => e3 _ _ _ hg
theorem sf_new (w : Wf M) (ht : Nat.ble 1 t = true) : Sf (fm_newa M t s n) (fm_nx M) s := by
  have ht1 := Nat.le_of_ble_eq_true ht
  have ex : ∀ g b j, (fm_newa M t s n).2.2 g b j = if g = 2 ∧ b = 0 ∧ j = 0 then fm_nx M + 1 else if g = 2 ∧ b = 0 ∧ j = 1 then fm_ns M + n else if g = 0 ∧ b = fm_nx M ∧ j = 0 then t else if g = 1 ∧ b = fm_nx M ∧ j = 0 then n else if g = 0 ∧ b = fm_nx M ∧ j = 1 then s else M.2.2 g b j := fun _ _ _ => rfl
  right
  rw [ex, ex]
  simp
  omega
theorem wi_A {h2 : Nat} (hA : ∀ a, Z a) (w : WI Z hx N M) : WI Z h2 N M := ⟨w.1, fun _ _ _ _ _ _ => hA _, w.2.2⟩
theorem wk_A {h2 : Nat} (hA : ∀ a, Z a) (w : Wk S Z hx N M0 M) : Wk S Z h2 N M0 M := ⟨wi_A hA w.1, w.2⟩
end Wk
abbrev QV (S Z : Nat → Prop) (hx N : Nat) (M : FM) (r : FM) : Prop := Wk S Z hx N M r
abbrev QA {α : Type} (S Z : Nat → Prop) (hx N : Nat) (M : FM) (r : α × FM) : Prop := Wk S Z hx N M r.2
abbrev QR (S Z : Nat → Prop) (hx N : Nat) (M : FM) (r : Nat × FM) : Prop := Wk S Z hx N M r.2 ∧ Z r.1
section Qt
variable {S Z : Nat → Prop} {hx N : Nat} {M0 M : FM} {α : Type}
theorem q_tV {o : Option FM} (hN : N ≤ fm_nx M0) (w : Wk S Z hx N M0 M) (h : pq o (QV S Z hx N M)) : pq o (QV S Z hx N M0) := fun r q => wk_t w (h r q) hN
theorem q_tA {o : Option (α × FM)} (hN : N ≤ fm_nx M0) (w : Wk S Z hx N M0 M) (h : pq o (QA S Z hx N M)) : pq o (QA S Z hx N M0) := fun r q => wk_t w (h r q) hN
theorem q_tR {o : Option (Nat × FM)} (hN : N ≤ fm_nx M0) (w : Wk S Z hx N M0 M) (h : pq o (QR S Z hx N M)) : pq o (QR S Z hx N M0) := fun r q => ⟨wk_t w (h r q).1 hN, (h r q).2⟩
theorem q_AV {h2 : Nat} {o : Option FM} (hA : ∀ a, Z a) (h : pq o (QV S Z h2 N M)) : pq o (QV S Z hx N M) := fun r q => wk_A hA (h r q)
theorem q_AA {h2 : Nat} {o : Option (α × FM)} (hA : ∀ a, Z a) (h : pq o (QA S Z h2 N M)) : pq o (QA S Z hx N M) := fun r q => wk_A hA (h r q)
theorem q_AR {h2 : Nat} {o : Option (Nat × FM)} (hA : ∀ a, Z a) (h : pq o (QR S Z h2 N M)) : pq o (QR S Z hx N M) := fun r q => ⟨wk_A hA (h r q).1, (h r q).2⟩
end Qt

theorem ty_S4 : ∀ q ∈ ty_S, Nat.ble 4 q.2.2.1 = true := by decide
theorem sS_21 {M : FM} {a : Nat} (w : Wf M) (h : fm_is M 11 11 a = true) : Sf M (M.2.2 21 a 0) 21 := w.2.1.1 (11, 11, 21, 21) (by decide) a h
theorem sS_24 {M : FM} {a : Nat} (w : Wf M) (h : fm_is M 12 12 a = true) : Sf M (M.2.2 24 a 0) 24 := w.2.1.1 (12, 12, 24, 24) (by decide) a h
theorem sS_25 {M : FM} {a : Nat} (w : Wf M) (h : fm_is M 12 12 a = true) : Sf M (M.2.2 25 a 0) 25 := w.2.1.1 (12, 12, 25, 25) (by decide) a h
theorem sS_62 {M : FM} {a : Nat} (w : Wf M) (h : fm_is M 22 22 a = true) : Sf M (M.2.2 62 a 0) 62 := w.2.1.1 (22, 22, 62, 62) (by decide) a h
theorem sS_69 {M : FM} {a : Nat} (w : Wf M) (h : fm_is M 23 23 a = true) : Sf M (M.2.2 69 a 0) 69 := w.2.1.1 (23, 23, 69, 69) (by decide) a h
theorem sS_85 {M : FM} {a : Nat} (w : Wf M) (h : fm_is M 30 30 a = true) : Sf M (M.2.2 85 a 0) 85 := w.2.1.1 (30, 30, 85, 85) (by decide) a h
theorem sS_86 {M : FM} {a : Nat} (w : Wf M) (h : fm_is M 30 30 a = true) : Sf M (M.2.2 86 a 0) 86 := w.2.1.1 (30, 30, 86, 86) (by decide) a h
theorem sS_93 {M : FM} {a : Nat} (w : Wf M) (h : fm_is M 32 32 a = true) : Sf M (M.2.2 93 a 0) 93 := w.2.1.1 (32, 32, 93, 93) (by decide) a h
theorem sS_98 {M : FM} {a : Nat} (w : Wf M) (h : fm_is M 32 32 a = true) : Sf M (M.2.2 98 a 0) 98 := w.2.1.1 (32, 32, 98, 98) (by decide) a h
theorem sS_99 {M : FM} {a : Nat} (w : Wf M) (h : fm_is M 32 32 a = true) : Sf M (M.2.2 99 a 0) 99 := w.2.1.1 (32, 32, 99, 99) (by decide) a h
theorem sS_100 {M : FM} {a : Nat} (w : Wf M) (h : fm_is M 32 32 a = true) : Sf M (M.2.2 100 a 0) 100 := w.2.1.1 (32, 32, 100, 100) (by decide) a h
theorem sS_101 {M : FM} {a : Nat} (w : Wf M) (h : fm_is M 32 32 a = true) : Sf M (M.2.2 101 a 0) 101 := w.2.1.1 (32, 32, 101, 101) (by decide) a h
theorem sS_121 {M : FM} {a : Nat} (w : Wf M) (h : fm_is M 41 41 a = true) : Sf M (M.2.2 121 a 0) 121 := w.2.1.1 (41, 41, 121, 121) (by decide) a h
theorem sS_125 {M : FM} {a : Nat} (w : Wf M) (h : fm_is M 42 42 a = true) : Sf M (M.2.2 125 a 0) 125 := w.2.1.1 (42, 42, 125, 125) (by decide) a h
theorem sS_136 {M : FM} {a : Nat} (w : Wf M) (h : fm_is M 47 47 a = true) : Sf M (M.2.2 136 a 0) 136 := w.2.1.1 (47, 47, 136, 136) (by decide) a h
theorem sS_142 {M : FM} {a : Nat} (w : Wf M) (h : fm_is M 52 52 a = true) : Sf M (M.2.2 142 a 0) 142 := w.2.1.1 (52, 52, 142, 142) (by decide) a h
theorem sS_173 {M : FM} {a : Nat} (w : Wf M) (h : fm_is M 63 63 a = true) : Sf M (M.2.2 173 a 0) 173 := w.2.1.1 (63, 63, 173, 173) (by decide) a h
theorem sS_175 {M : FM} {a : Nat} (w : Wf M) (h : fm_is M 63 63 a = true) : Sf M (M.2.2 175 a 0) 175 := w.2.1.1 (63, 63, 175, 175) (by decide) a h
theorem sS_178 {M : FM} {a : Nat} (w : Wf M) (h : fm_is M 64 64 a = true) : Sf M (M.2.2 178 a 0) 178 := w.2.1.1 (64, 64, 178, 178) (by decide) a h
theorem sS_190 {M : FM} {a : Nat} (w : Wf M) (h : fm_is M 67 67 a = true) : Sf M (M.2.2 190 a 0) 190 := w.2.1.1 (67, 67, 190, 190) (by decide) a h
theorem sS_194 {M : FM} {a : Nat} (w : Wf M) (h : fm_is M 67 67 a = true) : Sf M (M.2.2 194 a 0) 194 := w.2.1.1 (67, 67, 194, 194) (by decide) a h
theorem sS_201 {M : FM} {a : Nat} (w : Wf M) (h : fm_is M 72 72 a = true) : Sf M (M.2.2 201 a 0) 201 := w.2.1.1 (72, 72, 201, 201) (by decide) a h
theorem sS_203 {M : FM} {a : Nat} (w : Wf M) (h : fm_is M 73 73 a = true) : Sf M (M.2.2 203 a 0) 203 := w.2.1.1 (73, 73, 203, 203) (by decide) a h
theorem sS_204 {M : FM} {a : Nat} (w : Wf M) (h : fm_is M 73 73 a = true) : Sf M (M.2.2 204 a 0) 204 := w.2.1.1 (73, 73, 204, 204) (by decide) a h
theorem sS_205 {M : FM} {a : Nat} (w : Wf M) (h : fm_is M 73 73 a = true) : Sf M (M.2.2 205 a 0) 205 := w.2.1.1 (73, 73, 205, 205) (by decide) a h
theorem sS_206 {M : FM} {a : Nat} (w : Wf M) (h : fm_is M 73 73 a = true) : Sf M (M.2.2 206 a 0) 206 := w.2.1.1 (73, 73, 206, 206) (by decide) a h
theorem sS_216 {M : FM} {a : Nat} (w : Wf M) (h : fm_is M 75 75 a = true) : Sf M (M.2.2 216 a 0) 216 := w.2.1.1 (75, 75, 216, 216) (by decide) a h
theorem sS_224 {M : FM} {a : Nat} (w : Wf M) (h : fm_is M 77 77 a = true) : Sf M (M.2.2 224 a 0) 224 := w.2.1.1 (77, 77, 224, 224) (by decide) a h
theorem sS_225 {M : FM} {a : Nat} (w : Wf M) (h : fm_is M 77 77 a = true) : Sf M (M.2.2 225 a 0) 225 := w.2.1.1 (77, 77, 225, 225) (by decide) a h
theorem sS_226 {M : FM} {a : Nat} (w : Wf M) (h : fm_is M 77 77 a = true) : Sf M (M.2.2 226 a 0) 226 := w.2.1.1 (77, 77, 226, 226) (by decide) a h
theorem sS_230 {M : FM} {a : Nat} (w : Wf M) (h : fm_is M 78 78 a = true) : Sf M (M.2.2 230 a 0) 230 := w.2.1.1 (78, 78, 230, 230) (by decide) a h
theorem sS_233 {M : FM} {a : Nat} (w : Wf M) (h : fm_is M 78 78 a = true) : Sf M (M.2.2 233 a 0) 233 := w.2.1.1 (78, 78, 233, 233) (by decide) a h
theorem sS_235 {M : FM} {a : Nat} (w : Wf M) (h : fm_is M 78 78 a = true) : Sf M (M.2.2 235 a 0) 235 := w.2.1.1 (78, 78, 235, 235) (by decide) a h
theorem sS_243 {M : FM} {a : Nat} (w : Wf M) (h : fm_is M 79 79 a = true) : Sf M (M.2.2 243 a 0) 243 := w.2.1.1 (79, 79, 243, 243) (by decide) a h
theorem sS_245 {M : FM} {a : Nat} (w : Wf M) (h : fm_is M 80 80 a = true) : Sf M (M.2.2 245 a 0) 245 := w.2.1.1 (80, 80, 245, 245) (by decide) a h
theorem sS_246 {M : FM} {a : Nat} (w : Wf M) (h : fm_is M 80 80 a = true) : Sf M (M.2.2 246 a 0) 246 := w.2.1.1 (80, 80, 246, 246) (by decide) a h
theorem sS_261 {M : FM} {a : Nat} (w : Wf M) (h : fm_is M 86 86 a = true) : Sf M (M.2.2 261 a 0) 261 := w.2.1.1 (86, 86, 261, 261) (by decide) a h
theorem sS_264 {M : FM} {a : Nat} (w : Wf M) (h : fm_is M 87 87 a = true) : Sf M (M.2.2 264 a 0) 264 := w.2.1.1 (87, 87, 264, 264) (by decide) a h
theorem sS_265 {M : FM} {a : Nat} (w : Wf M) (h : fm_is M 87 87 a = true) : Sf M (M.2.2 265 a 0) 265 := w.2.1.1 (87, 87, 265, 265) (by decide) a h
theorem sS_278 {M : FM} {a : Nat} (w : Wf M) (h : fm_is M 88 88 a = true) : Sf M (M.2.2 278 a 0) 278 := w.2.1.1 (88, 88, 278, 278) (by decide) a h
theorem sS_279 {M : FM} {a : Nat} (w : Wf M) (h : fm_is M 88 88 a = true) : Sf M (M.2.2 279 a 0) 279 := w.2.1.1 (88, 88, 279, 279) (by decide) a h
theorem sS_284 {M : FM} {a : Nat} (w : Wf M) (h : fm_is M 90 90 a = true) : Sf M (M.2.2 284 a 0) 284 := w.2.1.1 (90, 90, 284, 284) (by decide) a h
theorem sS_286 {M : FM} {a : Nat} (w : Wf M) (h : fm_is M 91 91 a = true) : Sf M (M.2.2 286 a 0) 286 := w.2.1.1 (91, 91, 286, 286) (by decide) a h
theorem sS_291 {M : FM} {a : Nat} (w : Wf M) (h : fm_is M 91 91 a = true) : Sf M (M.2.2 291 a 0) 291 := w.2.1.1 (91, 91, 291, 291) (by decide) a h
theorem sS_295 {M : FM} {a : Nat} (w : Wf M) (h : fm_is M 91 91 a = true) : Sf M (M.2.2 295 a 0) 295 := w.2.1.1 (91, 91, 295, 295) (by decide) a h
theorem sS_303 {M : FM} {a : Nat} (w : Wf M) (h : fm_is M 92 92 a = true) : Sf M (M.2.2 303 a 0) 303 := w.2.1.1 (92, 92, 303, 303) (by decide) a h
theorem sS_304 {M : FM} {a : Nat} (w : Wf M) (h : fm_is M 92 92 a = true) : Sf M (M.2.2 304 a 0) 304 := w.2.1.1 (92, 92, 304, 304) (by decide) a h
theorem sS_305 {M : FM} {a : Nat} (w : Wf M) (h : fm_is M 92 92 a = true) : Sf M (M.2.2 305 a 0) 305 := w.2.1.1 (92, 92, 305, 305) (by decide) a h
theorem sS_306 {M : FM} {a : Nat} (w : Wf M) (h : fm_is M 92 92 a = true) : Sf M (M.2.2 306 a 0) 306 := w.2.1.1 (92, 92, 306, 306) (by decide) a h
theorem sS_307 {M : FM} {a : Nat} (w : Wf M) (h : fm_is M 92 92 a = true) : Sf M (M.2.2 307 a 0) 307 := w.2.1.1 (92, 92, 307, 307) (by decide) a h
theorem sS_308 {M : FM} {a : Nat} (w : Wf M) (h : fm_is M 92 92 a = true) : Sf M (M.2.2 308 a 0) 308 := w.2.1.1 (92, 92, 308, 308) (by decide) a h
theorem sS_310 {M : FM} {a : Nat} (w : Wf M) (h : fm_is M 92 92 a = true) : Sf M (M.2.2 310 a 0) 310 := w.2.1.1 (92, 92, 310, 310) (by decide) a h
theorem sS_323 {M : FM} {a : Nat} (w : Wf M) (h : fm_is M 92 92 a = true) : Sf M (M.2.2 323 a 0) 323 := w.2.1.1 (92, 92, 323, 323) (by decide) a h
theorem sS_327 {M : FM} {a : Nat} (w : Wf M) (h : fm_is M 93 93 a = true) : Sf M (M.2.2 327 a 0) 327 := w.2.1.1 (93, 93, 327, 327) (by decide) a h
theorem sS_334 {M : FM} {a : Nat} (w : Wf M) (h : fm_is M 93 93 a = true) : Sf M (M.2.2 334 a 0) 334 := w.2.1.1 (93, 93, 334, 334) (by decide) a h
theorem sS_340 {M : FM} {a : Nat} (w : Wf M) (h : fm_is M 93 93 a = true) : Sf M (M.2.2 340 a 0) 340 := w.2.1.1 (93, 93, 340, 340) (by decide) a h
theorem sS_341 {M : FM} {a : Nat} (w : Wf M) (h : fm_is M 93 93 a = true) : Sf M (M.2.2 341 a 0) 341 := w.2.1.1 (93, 93, 341, 341) (by decide) a h
theorem sS_342 {M : FM} {a : Nat} (w : Wf M) (h : fm_is M 93 93 a = true) : Sf M (M.2.2 342 a 0) 342 := w.2.1.1 (93, 93, 342, 342) (by decide) a h
theorem sS_346 {M : FM} {a : Nat} (w : Wf M) (h : fm_is M 94 94 a = true) : Sf M (M.2.2 346 a 0) 346 := w.2.1.1 (94, 94, 346, 346) (by decide) a h
theorem sS_355 {M : FM} {a : Nat} (w : Wf M) (h : fm_is M 94 94 a = true) : Sf M (M.2.2 355 a 0) 355 := w.2.1.1 (94, 94, 355, 355) (by decide) a h
theorem sS_361 {M : FM} {a : Nat} (w : Wf M) (h : fm_is M 95 95 a = true) : Sf M (M.2.2 361 a 0) 361 := w.2.1.1 (95, 95, 361, 361) (by decide) a h
theorem sS_362 {M : FM} {a : Nat} (w : Wf M) (h : fm_is M 95 95 a = true) : Sf M (M.2.2 362 a 0) 362 := w.2.1.1 (95, 95, 362, 362) (by decide) a h
theorem sS_367 {M : FM} {a : Nat} (w : Wf M) (h : fm_is M 96 96 a = true) : Sf M (M.2.2 367 a 0) 367 := w.2.1.1 (96, 96, 367, 367) (by decide) a h
theorem sS_372 {M : FM} {a : Nat} (w : Wf M) (h : fm_is M 96 96 a = true) : Sf M (M.2.2 372 a 0) 372 := w.2.1.1 (96, 96, 372, 372) (by decide) a h
theorem sS_373 {M : FM} {a : Nat} (w : Wf M) (h : fm_is M 96 96 a = true) : Sf M (M.2.2 373 a 0) 373 := w.2.1.1 (96, 96, 373, 373) (by decide) a h
theorem sS_374 {M : FM} {a : Nat} (w : Wf M) (h : fm_is M 96 96 a = true) : Sf M (M.2.2 374 a 0) 374 := w.2.1.1 (96, 96, 374, 374) (by decide) a h
theorem sS_375 {M : FM} {a : Nat} (w : Wf M) (h : fm_is M 96 96 a = true) : Sf M (M.2.2 375 a 0) 375 := w.2.1.1 (96, 96, 375, 375) (by decide) a h
theorem sS_376 {M : FM} {a : Nat} (w : Wf M) (h : fm_is M 96 96 a = true) : Sf M (M.2.2 376 a 0) 376 := w.2.1.1 (96, 96, 376, 376) (by decide) a h
theorem sS_377 {M : FM} {a : Nat} (w : Wf M) (h : fm_is M 96 96 a = true) : Sf M (M.2.2 377 a 0) 377 := w.2.1.1 (96, 96, 377, 377) (by decide) a h
theorem sS_378 {M : FM} {a : Nat} (w : Wf M) (h : fm_is M 96 96 a = true) : Sf M (M.2.2 378 a 0) 378 := w.2.1.1 (96, 96, 378, 378) (by decide) a h
theorem sS_379 {M : FM} {a : Nat} (w : Wf M) (h : fm_is M 96 96 a = true) : Sf M (M.2.2 379 a 0) 379 := w.2.1.1 (96, 96, 379, 379) (by decide) a h
theorem sS_380 {M : FM} {a : Nat} (w : Wf M) (h : fm_is M 96 96 a = true) : Sf M (M.2.2 380 a 0) 380 := w.2.1.1 (96, 96, 380, 380) (by decide) a h
theorem sS_388 {M : FM} {a : Nat} (w : Wf M) (h : fm_is M 98 98 a = true) : Sf M (M.2.2 388 a 0) 388 := w.2.1.1 (98, 98, 388, 388) (by decide) a h
theorem sS_389 {M : FM} {a : Nat} (w : Wf M) (h : fm_is M 98 98 a = true) : Sf M (M.2.2 389 a 0) 389 := w.2.1.1 (98, 98, 389, 389) (by decide) a h
theorem sS_390 {M : FM} {a : Nat} (w : Wf M) (h : fm_is M 98 98 a = true) : Sf M (M.2.2 390 a 0) 390 := w.2.1.1 (98, 98, 390, 390) (by decide) a h
theorem sS_391 {M : FM} {a : Nat} (w : Wf M) (h : fm_is M 98 98 a = true) : Sf M (M.2.2 391 a 0) 391 := w.2.1.1 (98, 98, 391, 391) (by decide) a h
theorem sS_392 {M : FM} {a : Nat} (w : Wf M) (h : fm_is M 98 98 a = true) : Sf M (M.2.2 392 a 0) 392 := w.2.1.1 (98, 98, 392, 392) (by decide) a h
theorem sS_396 {M : FM} {a : Nat} (w : Wf M) (h : fm_is M 99 99 a = true) : Sf M (M.2.2 396 a 0) 396 := w.2.1.1 (99, 99, 396, 396) (by decide) a h
theorem sS_397 {M : FM} {a : Nat} (w : Wf M) (h : fm_is M 99 99 a = true) : Sf M (M.2.2 397 a 0) 397 := w.2.1.1 (99, 99, 397, 397) (by decide) a h
theorem sS_399 {M : FM} {a : Nat} (w : Wf M) (h : fm_is M 99 99 a = true) : Sf M (M.2.2 399 a 0) 399 := w.2.1.1 (99, 99, 399, 399) (by decide) a h
theorem sS_400 {M : FM} {a : Nat} (w : Wf M) (h : fm_is M 99 99 a = true) : Sf M (M.2.2 400 a 0) 400 := w.2.1.1 (99, 99, 400, 400) (by decide) a h
theorem sS_401 {M : FM} {a : Nat} (w : Wf M) (h : fm_is M 99 99 a = true) : Sf M (M.2.2 401 a 0) 401 := w.2.1.1 (99, 99, 401, 401) (by decide) a h
theorem sS_402 {M : FM} {a : Nat} (w : Wf M) (h : fm_is M 99 99 a = true) : Sf M (M.2.2 402 a 0) 402 := w.2.1.1 (99, 99, 402, 402) (by decide) a h
theorem sS_403 {M : FM} {a : Nat} (w : Wf M) (h : fm_is M 99 99 a = true) : Sf M (M.2.2 403 a 0) 403 := w.2.1.1 (99, 99, 403, 403) (by decide) a h
theorem sS_404 {M : FM} {a : Nat} (w : Wf M) (h : fm_is M 99 99 a = true) : Sf M (M.2.2 404 a 0) 404 := w.2.1.1 (99, 99, 404, 404) (by decide) a h
theorem sS_405 {M : FM} {a : Nat} (w : Wf M) (h : fm_is M 99 99 a = true) : Sf M (M.2.2 405 a 0) 405 := w.2.1.1 (99, 99, 405, 405) (by decide) a h
theorem sS_406 {M : FM} {a : Nat} (w : Wf M) (h : fm_is M 99 99 a = true) : Sf M (M.2.2 406 a 0) 406 := w.2.1.1 (99, 99, 406, 406) (by decide) a h
theorem sS_410 {M : FM} {a : Nat} (w : Wf M) (h : fm_is M 99 99 a = true) : Sf M (M.2.2 410 a 0) 410 := w.2.1.1 (99, 99, 410, 410) (by decide) a h
theorem sS_412 {M : FM} {a : Nat} (w : Wf M) (h : fm_is M 99 99 a = true) : Sf M (M.2.2 412 a 0) 412 := w.2.1.1 (99, 99, 412, 412) (by decide) a h
theorem sS_415 {M : FM} {a : Nat} (w : Wf M) (h : fm_is M 100 100 a = true) : Sf M (M.2.2 415 a 0) 415 := w.2.1.1 (100, 100, 415, 415) (by decide) a h
theorem sS_417 {M : FM} {a : Nat} (w : Wf M) (h : fm_is M 100 100 a = true) : Sf M (M.2.2 417 a 0) 417 := w.2.1.1 (100, 100, 417, 417) (by decide) a h
theorem sS_419 {M : FM} {a : Nat} (w : Wf M) (h : fm_is M 100 100 a = true) : Sf M (M.2.2 419 a 0) 419 := w.2.1.1 (100, 100, 419, 419) (by decide) a h
theorem sS_427 {M : FM} {a : Nat} (w : Wf M) (h : fm_is M 101 101 a = true) : Sf M (M.2.2 427 a 0) 427 := w.2.1.1 (101, 101, 427, 427) (by decide) a h
theorem sS_428 {M : FM} {a : Nat} (w : Wf M) (h : fm_is M 101 101 a = true) : Sf M (M.2.2 428 a 0) 428 := w.2.1.1 (101, 101, 428, 428) (by decide) a h
theorem wh_copy (S Z : Nat → Prop) {hx N : Nat} (hS : ∀ x, fe_mem [] x = true → S x) (a0 : Nat) (a1 : Int32) (a2 : Nat) (a3 a4 : Int32) (M : FM) (w : WI Z hx N M) (z_a0 : Z a0) (z_a2 : Z a2) (y_a2 : Sy S N M a2) : pq (Fh_copy a0 a1 a2 a3 a4 M) (QV S Z hx N M) := by
  have hN := w.2.2.1
  have w0 := wk_r (S := S) w
  delta Fh_copy
  refine pq_g (fun g => ?_)
  refine pq_g (fun _ => pq_s ?_)
  have hlt := wf_lt w.1 (fm_ist (lo := 903) rfl g.2)
  have hs := lca w0 (lo := 903) rfl g.2 y_a2
  refine ⟨wi_n (M := M) rfl (fun b hb f j => ⟨if_neg (fun q => by omega), rfl⟩) w, Nat.le_refl _, ⟨fun _ _ => ⟨rfl, rfl⟩, fun _ z q => nw0 (M' := M) w.1 rfl z q⟩, fun f b hb hf hq => ⟨funext fun j => if_neg (fun q => ?_), rfl, rfl⟩⟩
  obtain ⟨rfl, rfl, -⟩ := q
  rcases hs with hs | hs
  · omega
  · exact hq hs z_a2
def lX5_begin : List Nat := [249, 250, 251, 252, 253, 255, 266, 268]
theorem wX5_begin_0 (S Z : Nat → Prop) {hx N : Nat} (hS : ∀ x, fe_mem lX5_begin x = true → S x) (a0 : Nat) (a1 : Int32) (a2 : Int32) (M : FM) (w : WI Z hx N M) (z_a0 : Z a0) : pq (FX5_begin_0 a0 a1 a2 M) (QV S Z hx N M) := by
  have hN := w.2.2.1
  have w0 := wk_r (S := S) w
  delta FX5_begin_0 BX5_begin_0
  refine pq_g (fun g1 => ?_)
  have z2 := wk_z (i := 0) (f := 264) w0 rfl z_a0
  have f3 := sS_264 w0.1.1 g1
  refine pq_g (fun g4 => ?_)
  refine pq_g (fun g5 => ?_)
  have z6 := fun i => wk_ze (i := i) w0 rfl g5.1 f3 rfl z2
  refine pq_g (fun g7 => ?_)
  extract_lets +onlyGivenNames M9
  have w8 : Wk S Z hx N M M9 := wk_fI hN w0 rfl rfl g7 (z6 _) (Or.inr (hS 249 rfl))
  refine pq_g (fun g10 => ?_)
  extract_lets +onlyGivenNames M12
  have w11 : Wk S Z hx N M M12 := wk_fI hN w8 rfl rfl g10 (z6 _) (Or.inr (hS 250 rfl))
  refine pq_g (fun g13 => ?_)
  refine pq_g (fun g14 => ?_)
  extract_lets +onlyGivenNames M16
  have w15 : Wk S Z hx N M M16 := wk_fI hN w11 rfl rfl g14 (z6 _) (Or.inr (hS 251 rfl))
  refine pq_g (fun g17 => ?_)
  extract_lets +onlyGivenNames M19
  have w18 : Wk S Z hx N M M19 := wk_fI hN w15 rfl rfl g17 (z6 _) (Or.inr (hS 252 rfl))
  refine pq_g (fun g20 => ?_)
  refine pq_g (fun _ => ?_)
  extract_lets +onlyGivenNames M22
  have w21 : Wk S Z hx N M M22 := wk_fI hN w18 rfl rfl g20 (z6 _) (Or.inr (hS 253 rfl))
  refine pq_g (fun g23 => ?_)
  have z24 := fun j => wk_z (i := 0) (f := 248) w21 rfl (z6 j)
  refine pq_g (fun g25 => ?_)
  extract_lets +onlyGivenNames M27
  have w26 : Wk S Z hx N M M27 := wk_fI hN w21 rfl rfl g25 (z24 _) (Or.inr (hS 255 rfl))
  refine pq_g (fun g28 => ?_)
  refine pq_g (fun g29 => ?_)
  extract_lets +onlyGivenNames M31
  have w30 : Wk S Z hx N M M31 := wk_fI hN w26 rfl rfl g29 z_a0 (Or.inr (hS 266 rfl))
  refine pq_g (fun g32 => ?_)
  extract_lets +onlyGivenNames M34
  have w33 : Wk S Z hx N M M34 := wk_fI hN w30 rfl rfl g32 z_a0 (Or.inr (hS 268 rfl))
  exact pq_s w33
theorem wX5_begin (S Z : Nat → Prop) {hx N : Nat} (hS : ∀ x, fe_mem lX5_begin x = true → S x) (a0 : Nat) (a1 : Int32) (a2 : Int32) (M : FM) (w : WI Z hx N M) (z_a0 : Z a0) : pq (FX5_begin a0 a1 a2 M) (QV S Z hx N M) := wX5_begin_0 S Z hS a0 a1 a2 M w z_a0
def lX5_clear : List Nat := [249, 250, 251, 252, 253, 255, 262, 266, 267, 268]
theorem wX5_clear_0 (S Z : Nat → Prop) {hx N : Nat} (hS : ∀ x, fe_mem lX5_clear x = true → S x) (a0 : Nat) (M : FM) (w : WI Z hx N M) (z_a0 : Z a0) : pq (FX5_clear_0 a0 M) (QV S Z hx N M) := by
  have hN := w.2.2.1
  have w0 := wk_r (S := S) w
  delta FX5_clear_0 BX5_clear_0
  refine pq_g (fun g1 => ?_)
  have z2 := wk_z (i := 0) (f := 263) w0 rfl z_a0
  refine pq_g (fun g3 => ?_)
  extract_lets +onlyGivenNames M5
  have w4 : Wk S Z hx N M M5 := wk_fI hN w0 rfl rfl g3 z2 (Or.inr (hS 262 rfl))
  refine pq_g (fun g6 => ?_)
  extract_lets +onlyGivenNames M8
  have w7 : Wk S Z hx N M M8 := wk_fI hN w4 rfl rfl g6 z_a0 (Or.inr (hS 266 rfl))
  refine pq_g (fun g9 => ?_)
  extract_lets +onlyGivenNames M11
  have w10 : Wk S Z hx N M M11 := wk_fI hN w7 rfl rfl g9 z_a0 (Or.inr (hS 267 rfl))
  refine pq_g (fun g12 => ?_)
  refine pq_b (wX5_begin S Z (sb rfl hS) _ _ _ _ w10.1 z_a0) (fun r13 K14 => ?_)
  have w15 := wk_t w10 K14 hN
  exact pq_s w15
theorem wX5_clear (S Z : Nat → Prop) {hx N : Nat} (hS : ∀ x, fe_mem lX5_clear x = true → S x) (a0 : Nat) (M : FM) (w : WI Z hx N M) (z_a0 : Z a0) : pq (FX5_clear a0 M) (QV S Z hx N M) := wX5_clear_0 S Z hS a0 M w z_a0
def lJ1_coder : List Nat := []
theorem wJ1_coder_14 (S Z : Nat → Prop) {hx N : Nat} (hS : ∀ x, fe_mem lJ1_coder x = true → S x) (s0 : Int32) (M : FM) (w : WI Z hx N M) : pq (FJ1_coder_14 s0 M) (QA S Z hx N M) := by
  have hN := w.2.2.1
  have w0 := wk_r (S := S) w
  delta FJ1_coder_14 BJ1_coder_14
  exact pq_s w0
theorem wJ1_coder_0 (S Z : Nat → Prop) {hx N : Nat} (hS : ∀ x, fe_mem lJ1_coder x = true → S x) (a0 : Nat) (M : FM) (w : WI Z hx N M) (z_a0 : Z a0) : pq (FJ1_coder_0 a0 M) (QA S Z hx N M) := by
  have hN := w.2.2.1
  have w0 := wk_r (S := S) w
  delta FJ1_coder_0 BJ1_coder_0
  refine pq_fi (fun _ => ?_) (fun _ => ?_)
  · exact q_tA hN w0 (wJ1_coder_14 S Z hS _ _ w0.1 )
  · refine pq_g (fun g1 => ?_)
    exact q_tA hN w0 (wJ1_coder_14 S Z hS _ _ w0.1 )
theorem wJ1_coder (S Z : Nat → Prop) {hx N : Nat} (hS : ∀ x, fe_mem lJ1_coder x = true → S x) (a0 : Nat) (M : FM) (w : WI Z hx N M) (z_a0 : Z a0) : pq (FJ1_coder a0 M) (QA S Z hx N M) := wJ1_coder_0 S Z hS a0 M w z_a0
def lJ1_length : List Nat := []
theorem wJ1_length_0 (S Z : Nat → Prop) {hx N : Nat} (hS : ∀ x, fe_mem lJ1_length x = true → S x) (a0 : Nat) (M : FM) (w : WI Z hx N M) (z_a0 : Z a0) : pq (FJ1_length_0 a0 M) (QA S Z hx N M) := by
  have hN := w.2.2.1
  have w0 := wk_r (S := S) w
  delta FJ1_length_0 BJ1_length_0
  refine pq_g (fun g1 => ?_)
  have z2 := wk_z (i := 0) (f := 15) w0 rfl z_a0
  refine pq_g (fun g3 => ?_)
  refine pq_g (fun g4 => ?_)
  refine pq_b (wJ1_coder S Z (sb rfl hS) _ _ w0.1 z_a0) (fun r5 K6 => ?_)
  have w7 := wk_t w0 K6 hN
  exact pq_s w7
theorem wJ1_length (S Z : Nat → Prop) {hx N : Nat} (hS : ∀ x, fe_mem lJ1_length x = true → S x) (a0 : Nat) (M : FM) (w : WI Z hx N M) (z_a0 : Z a0) : pq (FJ1_length a0 M) (QA S Z hx N M) := wJ1_length_0 S Z hS a0 M w z_a0
def lJ1_isLatin1 : List Nat := []
theorem wJ1_isLatin1_18 (S Z : Nat → Prop) {hx N : Nat} (hS : ∀ x, fe_mem lJ1_isLatin1 x = true → S x) (s0 : Int32) (M : FM) (w : WI Z hx N M) : pq (FJ1_isLatin1_18 s0 M) (QA S Z hx N M) := by
  have hN := w.2.2.1
  have w0 := wk_r (S := S) w
  delta FJ1_isLatin1_18 BJ1_isLatin1_18
  refine pq_g (fun _ => ?_)
  exact pq_s w0
theorem wJ1_isLatin1_17 (S Z : Nat → Prop) {hx N : Nat} (hS : ∀ x, fe_mem lJ1_isLatin1 x = true → S x) (M : FM) (w : WI Z hx N M) : pq (FJ1_isLatin1_17 M) (QA S Z hx N M) := by
  have hN := w.2.2.1
  have w0 := wk_r (S := S) w
  delta FJ1_isLatin1_17 BJ1_isLatin1_17
  exact q_tA hN w0 (wJ1_isLatin1_18 S Z hS _ _ w0.1 )
theorem wJ1_isLatin1_0 (S Z : Nat → Prop) {hx N : Nat} (hS : ∀ x, fe_mem lJ1_isLatin1 x = true → S x) (a0 : Nat) (M : FM) (w : WI Z hx N M) (z_a0 : Z a0) : pq (FJ1_isLatin1_0 a0 M) (QA S Z hx N M) := by
  have hN := w.2.2.1
  have w0 := wk_r (S := S) w
  delta FJ1_isLatin1_0 BJ1_isLatin1_0
  refine pq_fi (fun _ => ?_) (fun _ => ?_)
  · exact q_tA hN w0 (wJ1_isLatin1_17 S Z hS _ w0.1 )
  · refine pq_g (fun g1 => ?_)
    refine pq_fi (fun _ => ?_) (fun _ => ?_)
    · exact q_tA hN w0 (wJ1_isLatin1_18 S Z hS _ _ w0.1 )
    · exact q_tA hN w0 (wJ1_isLatin1_17 S Z hS _ w0.1 )
theorem wJ1_isLatin1 (S Z : Nat → Prop) {hx N : Nat} (hS : ∀ x, fe_mem lJ1_isLatin1 x = true → S x) (a0 : Nat) (M : FM) (w : WI Z hx N M) (z_a0 : Z a0) : pq (FJ1_isLatin1 a0 M) (QA S Z hx N M) := wJ1_isLatin1_0 S Z hS a0 M w z_a0
def lJ3_checkIndex : List Nat := []
theorem wJ3_checkIndex_9 (S Z : Nat → Prop) {hx N : Nat} (hS : ∀ x, fe_mem lJ3_checkIndex x = true → S x) (a0 : Int32) (a1 : Int32) (a2 : Nat) (M : FM) (w : WI Z hx N M) (z_a2 : Z a2) : pq (FJ3_checkIndex_9 a0 a1 a2 M) (QA S Z hx N M) := by
  have hN := w.2.2.1
  have w0 := wk_r (S := S) w
  delta FJ3_checkIndex_9 BJ3_checkIndex_9
  exact pq_0
theorem wJ3_checkIndex_0 (S Z : Nat → Prop) {hx N : Nat} (hS : ∀ x, fe_mem lJ3_checkIndex x = true → S x) (a0 : Int32) (a1 : Int32) (a2 : Nat) (M : FM) (w : WI Z hx N M) (z_a2 : Z a2) : pq (FJ3_checkIndex_0 a0 a1 a2 M) (QA S Z hx N M) := by
  have hN := w.2.2.1
  have w0 := wk_r (S := S) w
  delta FJ3_checkIndex_0 BJ3_checkIndex_0
  refine pq_fi (fun _ => ?_) (fun _ => ?_)
  · exact q_tA hN w0 (wJ3_checkIndex_9 S Z hS _ _ _ _ w0.1 z_a2)
  · refine pq_fi (fun _ => ?_) (fun _ => ?_)
    · exact pq_s w0
    · exact q_tA hN w0 (wJ3_checkIndex_9 S Z hS _ _ _ _ w0.1 z_a2)
theorem wJ3_checkIndex (S Z : Nat → Prop) {hx N : Nat} (hS : ∀ x, fe_mem lJ3_checkIndex x = true → S x) (a0 : Int32) (a1 : Int32) (a2 : Nat) (M : FM) (w : WI Z hx N M) (z_a2 : Z a2) : pq (FJ3_checkIndex a0 a1 a2 M) (QA S Z hx N M) := wJ3_checkIndex_0 S Z hS a0 a1 a2 M w z_a2
def lJ1_checkIndex : List Nat := []
theorem wJ1_checkIndex_0 (S Z : Nat → Prop) {hx N : Nat} (hS : ∀ x, fe_mem lJ1_checkIndex x = true → S x) (a0 : Int32) (a1 : Int32) (M : FM) (w : WI Z hx N M) : pq (FJ1_checkIndex_0 a0 a1 M) (QV S Z hx N M) := by
  have hN := w.2.2.1
  have w0 := wk_r (S := S) w
  delta FJ1_checkIndex_0 BJ1_checkIndex_0
  refine pq_b (wJ3_checkIndex S Z (sb rfl hS) _ _ _ _ w0.1 (wk_zc w0 rfl)) (fun r1 K2 => ?_)
  have w3 := wk_t w0 K2 hN
  exact pq_s w3
theorem wJ1_checkIndex (S Z : Nat → Prop) {hx N : Nat} (hS : ∀ x, fe_mem lJ1_checkIndex x = true → S x) (a0 : Int32) (a1 : Int32) (M : FM) (w : WI Z hx N M) : pq (FJ1_checkIndex a0 a1 M) (QV S Z hx N M) := wJ1_checkIndex_0 S Z hS a0 a1 M w 
def lJ2_charAt : List Nat := []
theorem wJ2_charAt_0 (S Z : Nat → Prop) {hx N : Nat} (hS : ∀ x, fe_mem lJ2_charAt x = true → S x) (a0 : Nat) (a1 : Int32) (M : FM) (w : WI Z hx N M) (z_a0 : Z a0) : pq (FJ2_charAt_0 a0 a1 M) (QA S Z hx N M) := by
  have hN := w.2.2.1
  have w0 := wk_r (S := S) w
  delta FJ2_charAt_0 BJ2_charAt_0
  refine pq_g (fun g1 => ?_)
  refine pq_b (wJ1_checkIndex S Z (sb rfl hS) _ _ _ w0.1 ) (fun r2 K3 => ?_)
  have w4 := wk_t w0 K3 hN
  refine pq_g (fun g5 => ?_)
  exact pq_s w4
theorem wJ2_charAt (S Z : Nat → Prop) {hx N : Nat} (hS : ∀ x, fe_mem lJ2_charAt x = true → S x) (a0 : Nat) (a1 : Int32) (M : FM) (w : WI Z hx N M) (z_a0 : Z a0) : pq (FJ2_charAt a0 a1 M) (QA S Z hx N M) := wJ2_charAt_0 S Z hS a0 a1 M w z_a0
def lJ1_charAt : List Nat := []
theorem wJ1_charAt_0 (S Z : Nat → Prop) {hx N : Nat} (hS : ∀ x, fe_mem lJ1_charAt x = true → S x) (a0 : Nat) (a1 : Int32) (M : FM) (w : WI Z hx N M) (z_a0 : Z a0) : pq (FJ1_charAt_0 a0 a1 M) (QA S Z hx N M) := by
  have hN := w.2.2.1
  have w0 := wk_r (S := S) w
  delta FJ1_charAt_0 BJ1_charAt_0
  refine pq_g (fun g1 => ?_)
  refine pq_b (wJ1_isLatin1 S Z (sb rfl hS) _ _ w0.1 z_a0) (fun r2 K3 => ?_)
  have w4 := wk_t w0 K3 hN
  refine pq_fi (fun _ => ?_) (fun _ => ?_)
  · refine pq_g (fun g5 => ?_)
    have z6 := wk_z (i := 0) (f := 15) w4 rfl z_a0
    exact pq_0
  · refine pq_g (fun g7 => ?_)
    have z8 := wk_z (i := 0) (f := 15) w4 rfl z_a0
    refine pq_b (wJ2_charAt S Z (sb rfl hS) _ _ _ w4.1 z8) (fun r9 K10 => ?_)
    have w11 := wk_t w4 K10 hN
    exact pq_s w11
theorem wJ1_charAt (S Z : Nat → Prop) {hx N : Nat} (hS : ∀ x, fe_mem lJ1_charAt x = true → S x) (a0 : Nat) (a1 : Int32) (M : FM) (w : WI Z hx N M) (z_a0 : Z a0) : pq (FJ1_charAt a0 a1 M) (QA S Z hx N M) := wJ1_charAt_0 S Z hS a0 a1 M w z_a0
def lX3_add : List Nat := [262, 1261]
theorem wX3_add_0 (S Z : Nat → Prop) {hx N : Nat} (hS : ∀ x, fe_mem lX3_add x = true → S x) (a0 : Nat) (a1 : Int32) (M : FM) (w : WI Z hx N M) (z_a0 : Z a0) : pq (FX3_add_0 a0 a1 M) (QV S Z hx N M) := by
  have hN := w.2.2.1
  have w0 := wk_r (S := S) w
  delta FX3_add_0 BX3_add_0
  refine pq_g (fun g1 => ?_)
  have z2 := wk_z (i := 0) (f := 261) w0 rfl z_a0
  have f3 := sS_261 w0.1.1 g1
  refine pq_g (fun g4 => ?_)
  refine pq_g (fun g5 => ?_)
  extract_lets +onlyGivenNames M7
  have w6 : Wk S Z hx N M M7 := wk_fI hN w0 rfl rfl g5 z_a0 (Or.inr (hS 262 rfl))
  refine pq_g (fun g8 => ?_)
  extract_lets +onlyGivenNames M10
  have w9 : Wk S Z hx N M M10 := wk_aI hN w6 rfl g8.1 z2 (sy_s f3 (hS 1261 rfl))
  exact pq_s w9
theorem wX3_add (S Z : Nat → Prop) {hx N : Nat} (hS : ∀ x, fe_mem lX3_add x = true → S x) (a0 : Nat) (a1 : Int32) (M : FM) (w : WI Z hx N M) (z_a0 : Z a0) : pq (FX3_add a0 a1 M) (QV S Z hx N M) := wX3_add_0 S Z hS a0 a1 M w z_a0
def lX4_text : List Nat := [262, 1261]
theorem wX4_text_2 (S Z : Nat → Prop) {hx N : Nat} (hS : ∀ x, fe_mem lX4_text x = true → S x) (n : Nat) (k2 : Nat → Nat → Int32 → FM → Option (FM)) (hk2 : ∀ (a0 : Nat) (a1 : Nat) (a2 : Int32) (M : FM), WI Z hx N M → Z a0 → Z a1 → pq (k2 a0 a1 a2 M) (QV S Z hx N M)) (a0 : Nat) (a1 : Nat) (a2 : Int32) (M : FM) (w : WI Z hx N M) (z_a0 : Z a0) (z_a1 : Z a1) : pq (FX4_text_2 n k2 a0 a1 a2 M) (QV S Z hx N M) := by
  have hN := w.2.2.1
  have w0 := wk_r (S := S) w
  delta FX4_text_2 BX4_text_2
  refine pq_g (fun g1 => ?_)
  refine pq_b (wJ1_length S Z (sb rfl hS) _ _ w0.1 z_a1) (fun r2 K3 => ?_)
  have w4 := wk_t w0 K3 hN
  refine pq_fi (fun _ => ?_) (fun _ => ?_)
  · exact pq_s w4
  · refine pq_g (fun g5 => ?_)
    have z6 := wk_z (i := 0) (f := 55) w4 rfl z_a0
    refine pq_g (fun g7 => ?_)
    refine pq_b (wJ1_charAt S Z (sb rfl hS) _ _ _ w4.1 z_a1) (fun r8 K9 => ?_)
    have w10 := wk_t w4 K9 hN
    refine pq_g (fun g11 => ?_)
    refine pq_b (wX3_add S Z (sb rfl hS) _ _ _ w10.1 z6) (fun r12 K13 => ?_)
    have w14 := wk_t w10 K13 hN
    exact q_tV hN w14 (hk2 _ _ _ _ w14.1 z_a0 z_a1)
theorem wX4_text_0 (S Z : Nat → Prop) {hx N : Nat} (hS : ∀ x, fe_mem lX4_text x = true → S x) (n : Nat) (k2 : Nat → Nat → Int32 → FM → Option (FM)) (hk2 : ∀ (a0 : Nat) (a1 : Nat) (a2 : Int32) (M : FM), WI Z hx N M → Z a0 → Z a1 → pq (k2 a0 a1 a2 M) (QV S Z hx N M)) (a0 : Nat) (a1 : Nat) (M : FM) (w : WI Z hx N M) (z_a0 : Z a0) (z_a1 : Z a1) : pq (FX4_text_0 n k2 a0 a1 M) (QV S Z hx N M) := by
  have hN := w.2.2.1
  have w0 := wk_r (S := S) w
  delta FX4_text_0 BX4_text_0
  exact q_tV hN w0 (hk2 _ _ _ _ w0.1 z_a0 z_a1)
theorem wX4_text_L (S Z : Nat → Prop) {hx N : Nat} (hS : ∀ x, fe_mem lX4_text x = true → S x) (n : Nat) : ∀ j : Nat, ∀ (a0 : Nat) (a1 : Nat) (a2 : Int32) (M : FM), WI Z hx N M → Z a0 → Z a1 → pq (FX4_text_L2 n j a0 a1 a2 M) (QV S Z hx N M)
  | 0 => by intros; exact pq_0
  | j + 1 => fun a0 a1 a2 M w => wX4_text_2 S Z hS n _ (wX4_text_L S Z hS n j) a0 a1 a2 M w
theorem wX4_text (S Z : Nat → Prop) {hx N : Nat} (hS : ∀ x, fe_mem lX4_text x = true → S x) (n : Nat) (a0 : Nat) (a1 : Nat) (M : FM) (w : WI Z hx N M) (z_a0 : Z a0) (z_a1 : Z a1) : pq (FX4_text n a0 a1 M) (QV S Z hx N M) := wX4_text_0 S Z hS n _ (wX4_text_L S Z hS n n) a0 a1 M w z_a0 z_a1
def lX4_begin : List Nat := [262, 1261]
theorem wX4_begin_0 (S Z : Nat → Prop) {hx N : Nat} (hS : ∀ x, fe_mem lX4_begin x = true → S x) (n : Nat) (a0 : Nat) (a1 : Nat) (M : FM) (w : WI Z hx N M) (z_a0 : Z a0) (z_a1 : Z a1) : pq (FX4_begin_0 n a0 a1 M) (QV S Z hx N M) := by
  have hN := w.2.2.1
  have w0 := wk_r (S := S) w
  delta FX4_begin_0 BX4_begin_0
  refine pq_g (fun g1 => ?_)
  have z2 := wk_z (i := 0) (f := 55) w0 rfl z_a0
  refine pq_g (fun g3 => ?_)
  extract_lets +onlyGivenNames M5
  have w4 : Wk S Z hx N M M5 := wk_fI hN w0 rfl rfl g3 z2 (Or.inr (hS 262 rfl))
  refine pq_g (fun g6 => ?_)
  refine pq_b (wX4_text S Z (sb rfl hS) n _ _ _ w4.1 z_a0 z_a1) (fun r7 K8 => ?_)
  have w9 := wk_t w4 K8 hN
  exact pq_s w9
theorem wX4_begin (S Z : Nat → Prop) {hx N : Nat} (hS : ∀ x, fe_mem lX4_begin x = true → S x) (n : Nat) (a0 : Nat) (a1 : Nat) (M : FM) (w : WI Z hx N M) (z_a0 : Z a0) (z_a1 : Z a1) : pq (FX4_begin n a0 a1 M) (QV S Z hx N M) := wX4_begin_0 S Z hS n a0 a1 M w z_a0 z_a1
def lX3_addNumber : List Nat := [262, 1261]
theorem wX3_addNumber_3 (S Z : Nat → Prop) {hx N : Nat} (hS : ∀ x, fe_mem lX3_addNumber x = true → S x) (n : Nat) (k3 : Nat → Int32 → Int32 → FM → Option (FM)) (hk3 : ∀ (a0 : Nat) (a1 : Int32) (a2 : Int32) (M : FM), WI Z hx N M → Z a0 → pq (k3 a0 a1 a2 M) (QV S Z hx N M)) (a0 : Nat) (a1 : Int32) (a2 : Int32) (M : FM) (w : WI Z hx N M) (z_a0 : Z a0) : pq (FX3_addNumber_3 n k3 a0 a1 a2 M) (QV S Z hx N M) := by
  have hN := w.2.2.1
  have w0 := wk_r (S := S) w
  delta FX3_addNumber_3 BX3_addNumber_3
  refine pq_fi (fun _ => ?_) (fun _ => ?_)
  · exact pq_s w0
  · refine pq_g (fun g1 => ?_)
    refine pq_b (wX3_add S Z (sb rfl hS) _ _ _ w0.1 z_a0) (fun r2 K3 => ?_)
    have w4 := wk_t w0 K3 hN
    exact q_tV hN w4 (hk3 _ _ _ _ w4.1 z_a0)
theorem wX3_addNumber_0 (S Z : Nat → Prop) {hx N : Nat} (hS : ∀ x, fe_mem lX3_addNumber x = true → S x) (n : Nat) (k3 : Nat → Int32 → Int32 → FM → Option (FM)) (hk3 : ∀ (a0 : Nat) (a1 : Int32) (a2 : Int32) (M : FM), WI Z hx N M → Z a0 → pq (k3 a0 a1 a2 M) (QV S Z hx N M)) (a0 : Nat) (a1 : Int32) (M : FM) (w : WI Z hx N M) (z_a0 : Z a0) : pq (FX3_addNumber_0 n k3 a0 a1 M) (QV S Z hx N M) := by
  have hN := w.2.2.1
  have w0 := wk_r (S := S) w
  delta FX3_addNumber_0 BX3_addNumber_0
  exact q_tV hN w0 (hk3 _ _ _ _ w0.1 z_a0)
theorem wX3_addNumber_L (S Z : Nat → Prop) {hx N : Nat} (hS : ∀ x, fe_mem lX3_addNumber x = true → S x) (n : Nat) : ∀ j : Nat, ∀ (a0 : Nat) (a1 : Int32) (a2 : Int32) (M : FM), WI Z hx N M → Z a0 → pq (FX3_addNumber_L3 n j a0 a1 a2 M) (QV S Z hx N M)
  | 0 => by intros; exact pq_0
  | j + 1 => fun a0 a1 a2 M w => wX3_addNumber_3 S Z hS n _ (wX3_addNumber_L S Z hS n j) a0 a1 a2 M w
theorem wX3_addNumber (S Z : Nat → Prop) {hx N : Nat} (hS : ∀ x, fe_mem lX3_addNumber x = true → S x) (n : Nat) (a0 : Nat) (a1 : Int32) (M : FM) (w : WI Z hx N M) (z_a0 : Z a0) : pq (FX3_addNumber n a0 a1 M) (QV S Z hx N M) := wX3_addNumber_0 S Z hS n _ (wX3_addNumber_L S Z hS n n) a0 a1 M w z_a0
def lX3_addAll : List Nat := [262, 1261]
theorem wX3_addAll_0 (S Z : Nat → Prop) {hx N : Nat} (hS : ∀ x, fe_mem lX3_addAll x = true → S x) (a0 : Nat) (a1 : Nat) (a2 : Int32) (a3 : Int32) (M : FM) (w : WI Z hx N M) (z_a0 : Z a0) (z_a1 : Z a1) : pq (FX3_addAll_0 a0 a1 a2 a3 M) (QV S Z hx N M) := by
  have hN := w.2.2.1
  have w0 := wk_r (S := S) w
  delta FX3_addAll_0 BX3_addAll_0
  refine pq_g (fun g1 => ?_)
  have z2 := wk_z (i := 0) (f := 261) w0 rfl z_a1
  have f3 := sS_261 w0.1.1 g1
  refine pq_g (fun g4 => ?_)
  have z5 := wk_z (i := 0) (f := 261) w0 rfl z_a0
  have f6 := sS_261 w0.1.1 g4
  refine pq_g (fun g7 => ?_)
  refine pq_b (wh_copy S Z (sb rfl hS) _ _ _ _ _ _ w0.1 z2 z5 (sy_s f6 (hS 1261 rfl))) (fun r8 K9 => ?_)
  have w10 := wk_t w0 K9 hN
  refine pq_g (fun g11 => ?_)
  refine pq_g (fun g12 => ?_)
  extract_lets +onlyGivenNames M14
  have w13 : Wk S Z hx N M M14 := wk_fI hN w10 rfl rfl g12 z_a0 (Or.inr (hS 262 rfl))
  exact pq_s w13
theorem wX3_addAll (S Z : Nat → Prop) {hx N : Nat} (hS : ∀ x, fe_mem lX3_addAll x = true → S x) (a0 : Nat) (a1 : Nat) (a2 : Int32) (a3 : Int32) (M : FM) (w : WI Z hx N M) (z_a0 : Z a0) (z_a1 : Z a1) : pq (FX3_addAll a0 a1 a2 a3 M) (QV S Z hx N M) := wX3_addAll_0 S Z hS a0 a1 a2 a3 M w z_a0 z_a1
def lX7_set : List Nat := [254, 255, 262, 1261]
theorem wX7_set_0 (S Z : Nat → Prop) {hx N : Nat} (hS : ∀ x, fe_mem lX7_set x = true → S x) (a0 : Nat) (a1 : Nat) (a2 : Nat) (a3 : Int32) (a4 : Int32) (M : FM) (w : WI Z hx N M) (z_a0 : Z a0) (z_a1 : Z a1) (z_a2 : Z a2) : pq (FX7_set_0 a0 a1 a2 a3 a4 M) (QV S Z hx N M) := by
  have hN := w.2.2.1
  have w0 := wk_r (S := S) w
  delta FX7_set_0 BX7_set_0
  refine pq_g (fun g1 => ?_)
  refine pq_g (fun g2 => ?_)
  extract_lets +onlyGivenNames M4
  have w3 : Wk S Z hx N M M4 := wk_fI hN w0 rfl rfl g2 z_a0 (Or.inr (hS 254 rfl))
  refine pq_g (fun g5 => ?_)
  extract_lets +onlyGivenNames M7
  have w6 : Wk S Z hx N M M7 := wk_fI hN w3 rfl rfl g5 z_a0 (Or.inr (hS 255 rfl))
  refine pq_g (fun g8 => ?_)
  refine pq_b (wX3_addAll S Z (sb rfl hS) _ _ _ _ _ w6.1 z_a1 z_a2) (fun r9 K10 => ?_)
  have w11 := wk_t w6 K10 hN
  exact pq_s w11
theorem wX7_set (S Z : Nat → Prop) {hx N : Nat} (hS : ∀ x, fe_mem lX7_set x = true → S x) (a0 : Nat) (a1 : Nat) (a2 : Nat) (a3 : Int32) (a4 : Int32) (M : FM) (w : WI Z hx N M) (z_a0 : Z a0) (z_a1 : Z a1) (z_a2 : Z a2) : pq (FX7_set a0 a1 a2 a3 a4 M) (QV S Z hx N M) := wX7_set_0 S Z hS a0 a1 a2 a3 a4 M w z_a0 z_a1 z_a2
def lX5_property : List Nat := [252, 254, 255, 260, 262, 267, 1261]
theorem wX5_property_0 (S Z : Nat → Prop) {hx N : Nat} (hS : ∀ x, fe_mem lX5_property x = true → S x) (a0 : Nat) (a1 : Nat) (a2 : Int32) (a3 : Int32) (M : FM) (w : WI Z hx N M) (z_a0 : Z a0) (z_a1 : Z a1) : pq (FX5_property_0 a0 a1 a2 a3 M) (QR S Z hx N M) := by
  have hN := w.2.2.1
  have w0 := wk_r (S := S) w
  delta FX5_property_0 BX5_property_0
  refine pq_g (fun g1 => ?_)
  have z2 := wk_z (i := 0) (f := 265) w0 rfl z_a0
  have f3 := sS_265 w0.1.1 g1
  refine pq_g (fun g4 => ?_)
  refine pq_g (fun g5 => ?_)
  extract_lets +onlyGivenNames M7
  have w6 : Wk S Z hx N M M7 := wk_fI hN w0 rfl rfl g5 z_a0 (Or.inr (hS 267 rfl))
  refine pq_g (fun g8 => ?_)
  have z9 := fun i => wk_ze (i := i) w6 rfl g8.1 f3 rfl z2
  refine pq_g (fun g10 => ?_)
  refine pq_g (fun g11 => ?_)
  extract_lets +onlyGivenNames M13
  have w12 : Wk S Z hx N M M13 := wk_fI hN w6 rfl rfl g11 (z9 _) (Or.inr (hS 260 rfl))
  refine pq_g (fun g14 => ?_)
  have z15 := fun j => wk_z (i := 0) (f := 258) w12 rfl (z9 j)
  refine pq_g (fun g16 => ?_)
  have z17 := wk_z (i := 0) (f := 263) w12 rfl z_a0
  refine pq_g (fun g18 => ?_)
  refine pq_b (wX7_set S Z (sb rfl hS) _ _ _ _ _ _ w12.1 (z15 _) z17 z_a1) (fun r19 K20 => ?_)
  have w21 := wk_t w12 K20 hN
  refine pq_g (fun g22 => ?_)
  have z23 := wk_z (i := 0) (f := 264) w21 rfl z_a0
  have f24 := sS_264 w21.1.1 g22
  refine pq_g (fun g25 => ?_)
  refine pq_g (fun g26 => ?_)
  have z27 := fun i => wk_ze (i := i) w21 rfl g26.1 f24 rfl z23
  refine pq_g (fun g28 => ?_)
  refine pq_g (fun g29 => ?_)
  extract_lets +onlyGivenNames M31
  have w30 : Wk S Z hx N M M31 := wk_fI hN w21 rfl rfl g29 (z27 _) (Or.inr (hS 252 rfl))
  exact pq_s ⟨w30, (z9 _)⟩
theorem wX5_property (S Z : Nat → Prop) {hx N : Nat} (hS : ∀ x, fe_mem lX5_property x = true → S x) (a0 : Nat) (a1 : Nat) (a2 : Int32) (a3 : Int32) (M : FM) (w : WI Z hx N M) (z_a0 : Z a0) (z_a1 : Z a1) : pq (FX5_property a0 a1 a2 a3 M) (QR S Z hx N M) := wX5_property_0 S Z hS a0 a1 a2 a3 M w z_a0 z_a1
def lX4_finish : List Nat := [252, 254, 255, 260, 262, 267, 1261]
theorem wX4_finish_0 (S Z : Nat → Prop) {hx N : Nat} (hS : ∀ x, fe_mem lX4_finish x = true → S x) (a0 : Nat) (a1 : Nat) (M : FM) (w : WI Z hx N M) (z_a0 : Z a0) (z_a1 : Z a1) : pq (FX4_finish_0 a0 a1 M) (QV S Z hx N M) := by
  have hN := w.2.2.1
  have w0 := wk_r (S := S) w
  delta FX4_finish_0 BX4_finish_0
  refine pq_g (fun g1 => ?_)
  refine pq_b (wJ1_length S Z (sb rfl hS) _ _ w0.1 z_a1) (fun r2 K3 => ?_)
  have w4 := wk_t w0 K3 hN
  refine pq_g (fun g5 => ?_)
  have z6 := wk_z (i := 0) (f := 56) w4 rfl z_a0
  refine pq_g (fun g7 => ?_)
  have z8 := wk_z (i := 0) (f := 55) w4 rfl z_a0
  refine pq_g (fun g9 => ?_)
  refine pq_b (wX5_property S Z (sb rfl hS) _ _ _ _ _ w4.1 z6 z8) (fun r10 K11 => ?_)
  have w12 := wk_t w4 K11.1 hN
  refine pq_g (fun g13 => ?_)
  have z14 := wk_z (i := 0) (f := 259) w12 rfl K11.2
  refine pq_g (fun g15 => ?_)
  have z16 := wk_z (i := 0) (f := 56) w12 rfl z_a0
  refine pq_g (fun g17 => ?_)
  have z18 := wk_z (i := 0) (f := 263) w12 rfl z16
  refine pq_g (fun g19 => ?_)
  have z20 := wk_z (i := 0) (f := 55) w12 rfl z_a0
  refine pq_g (fun g21 => ?_)
  have z22 := wk_z (i := 0) (f := 55) w12 rfl z_a0
  refine pq_g (fun g23 => ?_)
  refine pq_g (fun g24 => ?_)
  refine pq_b (wX7_set S Z (sb rfl hS) _ _ _ _ _ _ w12.1 z14 z18 z20) (fun r25 K26 => ?_)
  have w27 := wk_t w12 K26 hN
  exact pq_s w27
theorem wX4_finish (S Z : Nat → Prop) {hx N : Nat} (hS : ∀ x, fe_mem lX4_finish x = true → S x) (a0 : Nat) (a1 : Nat) (M : FM) (w : WI Z hx N M) (z_a0 : Z a0) (z_a1 : Z a1) : pq (FX4_finish a0 a1 M) (QV S Z hx N M) := wX4_finish_0 S Z hS a0 a1 M w z_a0 z_a1
def lX4_number : List Nat := [252, 254, 255, 260, 262, 267, 1261]
theorem wX4_number_0 (S Z : Nat → Prop) {hx N : Nat} (hS : ∀ x, fe_mem lX4_number x = true → S x) (n : Nat) (a0 : Nat) (a1 : Nat) (a2 : Int32) (M : FM) (w : WI Z hx N M) (z_a0 : Z a0) (z_a1 : Z a1) : pq (FX4_number_0 n a0 a1 a2 M) (QV S Z hx N M) := by
  have hN := w.2.2.1
  have w0 := wk_r (S := S) w
  delta FX4_number_0 BX4_number_0
  refine pq_g (fun g1 => ?_)
  refine pq_b (wX4_begin S Z (sb rfl hS) n _ _ _ w0.1 z_a0 z_a1) (fun r2 K3 => ?_)
  have w4 := wk_t w0 K3 hN
  refine pq_g (fun g5 => ?_)
  have z6 := wk_z (i := 0) (f := 55) w4 rfl z_a0
  refine pq_g (fun g7 => ?_)
  refine pq_b (wX3_addNumber S Z (sb rfl hS) n _ _ _ w4.1 z6) (fun r8 K9 => ?_)
  have w10 := wk_t w4 K9 hN
  refine pq_g (fun g11 => ?_)
  refine pq_b (wX4_finish S Z (sb rfl hS) _ _ _ w10.1 z_a0 z_a1) (fun r12 K13 => ?_)
  have w14 := wk_t w10 K13 hN
  exact pq_s w14
theorem wX4_number (S Z : Nat → Prop) {hx N : Nat} (hS : ∀ x, fe_mem lX4_number x = true → S x) (n : Nat) (a0 : Nat) (a1 : Nat) (a2 : Int32) (M : FM) (w : WI Z hx N M) (z_a0 : Z a0) (z_a1 : Z a1) : pq (FX4_number n a0 a1 a2 M) (QV S Z hx N M) := wX4_number_0 S Z hS n a0 a1 a2 M w z_a0 z_a1
def lX4_cells : List Nat := [252, 254, 255, 260, 262, 267, 1261]
theorem wX4_cells_0 (S Z : Nat → Prop) {hx N : Nat} (hS : ∀ x, fe_mem lX4_cells x = true → S x) (n : Nat) (a0 : Nat) (a1 : Int32) (a2 : Int32) (M : FM) (w : WI Z hx N M) (z_a0 : Z a0) : pq (FX4_cells_0 n a0 a1 a2 M) (QV S Z hx N M) := by
  have hN := w.2.2.1
  have w0 := wk_r (S := S) w
  delta FX4_cells_0 BX4_cells_0
  refine pq_g (fun g1 => ?_)
  refine pq_b (wX4_number S Z (sb rfl hS) n _ _ _ _ w0.1 z_a0 (wk_zc w0 rfl)) (fun r2 K3 => ?_)
  have w4 := wk_t w0 K3 hN
  refine pq_g (fun g5 => ?_)
  refine pq_b (wX4_number S Z (sb rfl hS) n _ _ _ _ w4.1 z_a0 (wk_zc w4 rfl)) (fun r6 K7 => ?_)
  have w8 := wk_t w4 K7 hN
  exact pq_s w8
theorem wX4_cells (S Z : Nat → Prop) {hx N : Nat} (hS : ∀ x, fe_mem lX4_cells x = true → S x) (n : Nat) (a0 : Nat) (a1 : Int32) (a2 : Int32) (M : FM) (w : WI Z hx N M) (z_a0 : Z a0) : pq (FX4_cells n a0 a1 a2 M) (QV S Z hx N M) := wX4_cells_0 S Z hS n a0 a1 a2 M w z_a0
def lX4_string : List Nat := [252, 254, 255, 260, 262, 267, 1261]
theorem wX4_string_0 (S Z : Nat → Prop) {hx N : Nat} (hS : ∀ x, fe_mem lX4_string x = true → S x) (n : Nat) (a0 : Nat) (a1 : Nat) (a2 : Nat) (M : FM) (w : WI Z hx N M) (z_a0 : Z a0) (z_a1 : Z a1) (z_a2 : Z a2) : pq (FX4_string_0 n a0 a1 a2 M) (QV S Z hx N M) := by
  have hN := w.2.2.1
  have w0 := wk_r (S := S) w
  delta FX4_string_0 BX4_string_0
  refine pq_g (fun g1 => ?_)
  refine pq_b (wX4_begin S Z (sb rfl hS) n _ _ _ w0.1 z_a0 z_a1) (fun r2 K3 => ?_)
  have w4 := wk_t w0 K3 hN
  refine pq_g (fun g5 => ?_)
  refine pq_b (wX4_text S Z (sb rfl hS) n _ _ _ w4.1 z_a0 z_a2) (fun r6 K7 => ?_)
  have w8 := wk_t w4 K7 hN
  refine pq_g (fun g9 => ?_)
  have z10 := wk_z (i := 0) (f := 55) w8 rfl z_a0
  refine pq_g (fun g11 => ?_)
  refine pq_b (wX3_add S Z (sb rfl hS) _ _ _ w8.1 z10) (fun r12 K13 => ?_)
  have w14 := wk_t w8 K13 hN
  refine pq_g (fun g15 => ?_)
  refine pq_b (wX4_finish S Z (sb rfl hS) _ _ _ w14.1 z_a0 z_a1) (fun r16 K17 => ?_)
  have w18 := wk_t w14 K17 hN
  exact pq_s w18
theorem wX4_string (S Z : Nat → Prop) {hx N : Nat} (hS : ∀ x, fe_mem lX4_string x = true → S x) (n : Nat) (a0 : Nat) (a1 : Nat) (a2 : Nat) (M : FM) (w : WI Z hx N M) (z_a0 : Z a0) (z_a1 : Z a1) (z_a2 : Z a2) : pq (FX4_string n a0 a1 a2 M) (QV S Z hx N M) := wX4_string_0 S Z hS n a0 a1 a2 M w z_a0 z_a1 z_a2
def lX5_open : List Nat := [249, 250, 251, 252, 253, 254, 255, 262, 266, 268, 1261]
theorem wX5_open_0 (S Z : Nat → Prop) {hx N : Nat} (hS : ∀ x, fe_mem lX5_open x = true → S x) (a0 : Nat) (a1 : Nat) (a2 : Int32) (a3 : Int32) (M : FM) (w : WI Z hx N M) (z_a0 : Z a0) (z_a1 : Z a1) : pq (FX5_open_0 a0 a1 a2 a3 M) (QA S Z hx N M) := by
  have hN := w.2.2.1
  have w0 := wk_r (S := S) w
  delta FX5_open_0 BX5_open_0
  refine pq_g (fun g1 => ?_)
  refine pq_g (fun g2 => ?_)
  have z3 := wk_z (i := 0) (f := 264) w0 rfl z_a0
  have f4 := sS_264 w0.1.1 g2
  refine pq_g (fun g5 => ?_)
  have z6 := fun i => wk_ze (i := i) w0 rfl g5.1 f4 rfl z3
  refine pq_g (fun g7 => ?_)
  refine pq_g (fun _ => ?_)
  extract_lets +onlyGivenNames M9
  have w8 : Wk S Z hx N M M9 := wk_fI hN w0 rfl rfl g7 (z6 _) (Or.inr (hS 253 rfl))
  refine pq_g (fun g10 => ?_)
  have z11 := wk_z (i := 0) (f := 264) w8 rfl z_a0
  have f12 := sS_264 w8.1.1 g10
  refine pq_g (fun g13 => ?_)
  have z14 := fun i => wk_ze (i := i) w8 rfl g13.1 f12 rfl z11
  refine pq_g (fun g15 => ?_)
  refine pq_g (fun g16 => ?_)
  refine pq_b (wX5_begin S Z (sb rfl hS) _ _ _ _ w8.1 z_a0) (fun r17 K18 => ?_)
  have w19 := wk_t w8 K18 hN
  refine pq_g (fun g20 => ?_)
  have z21 := wk_z (i := 0) (f := 264) w19 rfl z_a0
  have f22 := sS_264 w19.1.1 g20
  refine pq_g (fun g23 => ?_)
  refine pq_g (fun g24 => ?_)
  have z25 := fun i => wk_ze (i := i) w19 rfl g24.1 f22 rfl z21
  refine pq_g (fun g26 => ?_)
  have z27 := fun j => wk_z (i := 0) (f := 248) w19 rfl (z25 j)
  refine pq_g (fun g28 => ?_)
  have z29 := wk_z (i := 0) (f := 263) w19 rfl z_a0
  refine pq_g (fun g30 => ?_)
  refine pq_b (wX7_set S Z (sb rfl hS) _ _ _ _ _ _ w19.1 (z27 _) z29 z_a1) (fun r31 K32 => ?_)
  have w33 := wk_t w19 K32 hN
  refine pq_g (fun g34 => ?_)
  exact pq_s w33
theorem wX5_open (S Z : Nat → Prop) {hx N : Nat} (hS : ∀ x, fe_mem lX5_open x = true → S x) (a0 : Nat) (a1 : Nat) (a2 : Int32) (a3 : Int32) (M : FM) (w : WI Z hx N M) (z_a0 : Z a0) (z_a1 : Z a1) : pq (FX5_open a0 a1 a2 a3 M) (QA S Z hx N M) := wX5_open_0 S Z hS a0 a1 a2 a3 M w z_a0 z_a1
def lX4_open : List Nat := [249, 250, 251, 252, 253, 254, 255, 262, 266, 268, 1261]
theorem wX4_open_0 (S Z : Nat → Prop) {hx N : Nat} (hS : ∀ x, fe_mem lX4_open x = true → S x) (n : Nat) (a0 : Nat) (a1 : Nat) (M : FM) (w : WI Z hx N M) (z_a0 : Z a0) (z_a1 : Z a1) : pq (FX4_open_0 n a0 a1 M) (QV S Z hx N M) := by
  have hN := w.2.2.1
  have w0 := wk_r (S := S) w
  delta FX4_open_0 BX4_open_0
  refine pq_g (fun g1 => ?_)
  have z2 := wk_z (i := 0) (f := 55) w0 rfl z_a0
  refine pq_g (fun g3 => ?_)
  extract_lets +onlyGivenNames M5
  have w4 : Wk S Z hx N M M5 := wk_fI hN w0 rfl rfl g3 z2 (Or.inr (hS 262 rfl))
  refine pq_g (fun g6 => ?_)
  refine pq_b (wX4_text S Z (sb rfl hS) n _ _ _ w4.1 z_a0 z_a1) (fun r7 K8 => ?_)
  have w9 := wk_t w4 K8 hN
  refine pq_g (fun g10 => ?_)
  have z11 := wk_z (i := 0) (f := 56) w9 rfl z_a0
  refine pq_g (fun g12 => ?_)
  have z13 := wk_z (i := 0) (f := 55) w9 rfl z_a0
  refine pq_g (fun g14 => ?_)
  have z15 := wk_z (i := 0) (f := 55) w9 rfl z_a0
  refine pq_g (fun g16 => ?_)
  refine pq_g (fun g17 => ?_)
  refine pq_b (wX5_open S Z (sb rfl hS) _ _ _ _ _ w9.1 z11 z13) (fun r18 K19 => ?_)
  have w20 := wk_t w9 K19 hN
  exact pq_s w20
theorem wX4_open (S Z : Nat → Prop) {hx N : Nat} (hS : ∀ x, fe_mem lX4_open x = true → S x) (n : Nat) (a0 : Nat) (a1 : Nat) (M : FM) (w : WI Z hx N M) (z_a0 : Z a0) (z_a1 : Z a1) : pq (FX4_open n a0 a1 M) (QV S Z hx N M) := wX4_open_0 S Z hS n a0 a1 M w z_a0 z_a1
def lX5_close : List Nat := [268]
theorem wX5_close_0 (S Z : Nat → Prop) {hx N : Nat} (hS : ∀ x, fe_mem lX5_close x = true → S x) (a0 : Nat) (M : FM) (w : WI Z hx N M) (z_a0 : Z a0) : pq (FX5_close_0 a0 M) (QA S Z hx N M) := by
  have hN := w.2.2.1
  have w0 := wk_r (S := S) w
  delta FX5_close_0 BX5_close_0
  refine pq_g (fun g1 => ?_)
  have z2 := wk_z (i := 0) (f := 264) w0 rfl z_a0
  have f3 := sS_264 w0.1.1 g1
  refine pq_g (fun g4 => ?_)
  refine pq_g (fun g5 => ?_)
  have z6 := fun i => wk_ze (i := i) w0 rfl g5.1 f3 rfl z2
  refine pq_g (fun g7 => ?_)
  refine pq_g (fun g8 => ?_)
  extract_lets +onlyGivenNames M10
  have w9 : Wk S Z hx N M M10 := wk_fI hN w0 rfl rfl g8 z_a0 (Or.inr (hS 268 rfl))
  refine pq_g (fun g11 => ?_)
  exact pq_s w9
theorem wX5_close (S Z : Nat → Prop) {hx N : Nat} (hS : ∀ x, fe_mem lX5_close x = true → S x) (a0 : Nat) (M : FM) (w : WI Z hx N M) (z_a0 : Z a0) : pq (FX5_close a0 M) (QA S Z hx N M) := wX5_close_0 S Z hS a0 M w z_a0
def lX4_openNumbered : List Nat := [249, 250, 251, 252, 253, 254, 255, 262, 266, 268, 1261]
theorem wX4_openNumbered_0 (S Z : Nat → Prop) {hx N : Nat} (hS : ∀ x, fe_mem lX4_openNumbered x = true → S x) (n : Nat) (a0 : Nat) (a1 : Nat) (a2 : Int32) (M : FM) (w : WI Z hx N M) (z_a0 : Z a0) (z_a1 : Z a1) : pq (FX4_openNumbered_0 n a0 a1 a2 M) (QV S Z hx N M) := by
  have hN := w.2.2.1
  have w0 := wk_r (S := S) w
  delta FX4_openNumbered_0 BX4_openNumbered_0
  refine pq_g (fun g1 => ?_)
  have z2 := wk_z (i := 0) (f := 55) w0 rfl z_a0
  refine pq_g (fun g3 => ?_)
  extract_lets +onlyGivenNames M5
  have w4 : Wk S Z hx N M M5 := wk_fI hN w0 rfl rfl g3 z2 (Or.inr (hS 262 rfl))
  refine pq_g (fun g6 => ?_)
  refine pq_b (wX4_text S Z (sb rfl hS) n _ _ _ w4.1 z_a0 z_a1) (fun r7 K8 => ?_)
  have w9 := wk_t w4 K8 hN
  refine pq_g (fun g10 => ?_)
  have z11 := wk_z (i := 0) (f := 55) w9 rfl z_a0
  refine pq_g (fun g12 => ?_)
  refine pq_b (wX3_add S Z (sb rfl hS) _ _ _ w9.1 z11) (fun r13 K14 => ?_)
  have w15 := wk_t w9 K14 hN
  refine pq_g (fun g16 => ?_)
  have z17 := wk_z (i := 0) (f := 56) w15 rfl z_a0
  refine pq_g (fun g18 => ?_)
  have z19 := wk_z (i := 0) (f := 55) w15 rfl z_a0
  refine pq_g (fun g20 => ?_)
  have z21 := wk_z (i := 0) (f := 55) w15 rfl z_a0
  refine pq_g (fun g22 => ?_)
  refine pq_g (fun g23 => ?_)
  refine pq_b (wX5_open S Z (sb rfl hS) _ _ _ _ _ w15.1 z17 z19) (fun r24 K25 => ?_)
  have w26 := wk_t w15 K25 hN
  exact pq_s w26
theorem wX4_openNumbered (S Z : Nat → Prop) {hx N : Nat} (hS : ∀ x, fe_mem lX4_openNumbered x = true → S x) (n : Nat) (a0 : Nat) (a1 : Nat) (a2 : Int32) (M : FM) (w : WI Z hx N M) (z_a0 : Z a0) (z_a1 : Z a1) : pq (FX4_openNumbered n a0 a1 a2 M) (QV S Z hx N M) := wX4_openNumbered_0 S Z hS n a0 a1 a2 M w z_a0 z_a1
def lX4_nothing : List Nat := [252, 254, 255, 260, 262, 267, 1261]
theorem wX4_nothing_0 (S Z : Nat → Prop) {hx N : Nat} (hS : ∀ x, fe_mem lX4_nothing x = true → S x) (n : Nat) (a0 : Nat) (a1 : Nat) (M : FM) (w : WI Z hx N M) (z_a0 : Z a0) (z_a1 : Z a1) : pq (FX4_nothing_0 n a0 a1 M) (QV S Z hx N M) := by
  have hN := w.2.2.1
  have w0 := wk_r (S := S) w
  delta FX4_nothing_0 BX4_nothing_0
  refine pq_g (fun g1 => ?_)
  refine pq_b (wX4_begin S Z (sb rfl hS) n _ _ _ w0.1 z_a0 z_a1) (fun r2 K3 => ?_)
  have w4 := wk_t w0 K3 hN
  refine pq_g (fun g5 => ?_)
  refine pq_b (wX4_finish S Z (sb rfl hS) _ _ _ w4.1 z_a0 z_a1) (fun r6 K7 => ?_)
  have w8 := wk_t w4 K7 hN
  exact pq_s w8
theorem wX4_nothing (S Z : Nat → Prop) {hx N : Nat} (hS : ∀ x, fe_mem lX4_nothing x = true → S x) (n : Nat) (a0 : Nat) (a1 : Nat) (M : FM) (w : WI Z hx N M) (z_a0 : Z a0) (z_a1 : Z a1) : pq (FX4_nothing n a0 a1 M) (QV S Z hx N M) := wX4_nothing_0 S Z hS n a0 a1 M w z_a0 z_a1
def lX4_processor : List Nat := [249, 250, 251, 252, 253, 254, 255, 260, 262, 266, 267, 268, 1261]
theorem wX4_processor_0 (S Z : Nat → Prop) {hx N : Nat} (hS : ∀ x, fe_mem lX4_processor x = true → S x) (n : Nat) (a0 : Nat) (a1 : Int32) (M : FM) (w : WI Z hx N M) (z_a0 : Z a0) : pq (FX4_processor_0 n a0 a1 M) (QV S Z hx N M) := by
  have hN := w.2.2.1
  have w0 := wk_r (S := S) w
  delta FX4_processor_0 BX4_processor_0
  refine pq_g (fun g1 => ?_)
  refine pq_b (wX4_openNumbered S Z (sb rfl hS) n _ _ _ _ w0.1 z_a0 (wk_zc w0 rfl)) (fun r2 K3 => ?_)
  have w4 := wk_t w0 K3 hN
  refine pq_g (fun g5 => ?_)
  refine pq_b (wX4_string S Z (sb rfl hS) n _ _ _ _ w4.1 z_a0 (wk_zc w4 rfl) (wk_zc w4 rfl)) (fun r6 K7 => ?_)
  have w8 := wk_t w4 K7 hN
  refine pq_g (fun g9 => ?_)
  refine pq_b (wX4_number S Z (sb rfl hS) n _ _ _ _ w8.1 z_a0 (wk_zc w8 rfl)) (fun r10 K11 => ?_)
  have w12 := wk_t w8 K11 hN
  refine pq_g (fun g13 => ?_)
  refine pq_b (wX4_string S Z (sb rfl hS) n _ _ _ _ w12.1 z_a0 (wk_zc w12 rfl) (wk_zc w12 rfl)) (fun r14 K15 => ?_)
  have w16 := wk_t w12 K15 hN
  refine pq_g (fun g17 => ?_)
  refine pq_b (wX4_string S Z (sb rfl hS) n _ _ _ _ w16.1 z_a0 (wk_zc w16 rfl) (wk_zc w16 rfl)) (fun r18 K19 => ?_)
  have w20 := wk_t w16 K19 hN
  refine pq_g (fun g21 => ?_)
  refine pq_b (wX4_string S Z (sb rfl hS) n _ _ _ _ w20.1 z_a0 (wk_zc w20 rfl) (wk_zc w20 rfl)) (fun r22 K23 => ?_)
  have w24 := wk_t w20 K23 hN
  refine pq_g (fun g25 => ?_)
  refine pq_b (wX4_string S Z (sb rfl hS) n _ _ _ _ w24.1 z_a0 (wk_zc w24 rfl) (wk_zc w24 rfl)) (fun r26 K27 => ?_)
  have w28 := wk_t w24 K27 hN
  refine pq_g (fun g29 => ?_)
  refine pq_b (wX4_open S Z (sb rfl hS) n _ _ _ w28.1 z_a0 (wk_zc w28 rfl)) (fun r30 K31 => ?_)
  have w32 := wk_t w28 K31 hN
  refine pq_g (fun g33 => ?_)
  refine pq_b (wX4_number S Z (sb rfl hS) n _ _ _ _ w32.1 z_a0 (wk_zc w32 rfl)) (fun r34 K35 => ?_)
  have w36 := wk_t w32 K35 hN
  refine pq_g (fun g37 => ?_)
  refine pq_b (wX4_nothing S Z (sb rfl hS) n _ _ _ w36.1 z_a0 (wk_zc w36 rfl)) (fun r38 K39 => ?_)
  have w40 := wk_t w36 K39 hN
  refine pq_g (fun g41 => ?_)
  refine pq_b (wX4_string S Z (sb rfl hS) n _ _ _ _ w40.1 z_a0 (wk_zc w40 rfl) (wk_zc w40 rfl)) (fun r42 K43 => ?_)
  have w44 := wk_t w40 K43 hN
  refine pq_g (fun g45 => ?_)
  refine pq_b (wX4_number S Z (sb rfl hS) n _ _ _ _ w44.1 z_a0 (wk_zc w44 rfl)) (fun r46 K47 => ?_)
  have w48 := wk_t w44 K47 hN
  refine pq_g (fun g49 => ?_)
  have z50 := wk_z (i := 0) (f := 56) w48 rfl z_a0
  refine pq_g (fun g51 => ?_)
  refine pq_b (wX5_close S Z (sb rfl hS) _ _ w48.1 z50) (fun r52 K53 => ?_)
  have w54 := wk_t w48 K53 hN
  refine pq_g (fun g55 => ?_)
  have z56 := wk_z (i := 0) (f := 56) w54 rfl z_a0
  refine pq_g (fun g57 => ?_)
  refine pq_b (wX5_close S Z (sb rfl hS) _ _ w54.1 z56) (fun r58 K59 => ?_)
  have w60 := wk_t w54 K59 hN
  exact pq_s w60
theorem wX4_processor (S Z : Nat → Prop) {hx N : Nat} (hS : ∀ x, fe_mem lX4_processor x = true → S x) (n : Nat) (a0 : Nat) (a1 : Int32) (M : FM) (w : WI Z hx N M) (z_a0 : Z a0) : pq (FX4_processor n a0 a1 M) (QV S Z hx N M) := wX4_processor_0 S Z hS n a0 a1 M w z_a0
def lX4_wide : List Nat := [262, 1261]
theorem wX4_wide_0 (S Z : Nat → Prop) {hx N : Nat} (hS : ∀ x, fe_mem lX4_wide x = true → S x) (n : Nat) (a0 : Nat) (a1 : Int64) (M : FM) (w : WI Z hx N M) (z_a0 : Z a0) : pq (FX4_wide_0 n a0 a1 M) (QV S Z hx N M) := by
  have hN := w.2.2.1
  have w0 := wk_r (S := S) w
  delta FX4_wide_0 BX4_wide_0
  refine pq_g (fun g1 => ?_)
  have z2 := wk_z (i := 0) (f := 55) w0 rfl z_a0
  refine pq_g (fun g3 => ?_)
  refine pq_b (wX3_addNumber S Z (sb rfl hS) n _ _ _ w0.1 z2) (fun r4 K5 => ?_)
  have w6 := wk_t w0 K5 hN
  refine pq_g (fun g7 => ?_)
  have z8 := wk_z (i := 0) (f := 55) w6 rfl z_a0
  refine pq_g (fun g9 => ?_)
  refine pq_b (wX3_addNumber S Z (sb rfl hS) n _ _ _ w6.1 z8) (fun r10 K11 => ?_)
  have w12 := wk_t w6 K11 hN
  exact pq_s w12
theorem wX4_wide (S Z : Nat → Prop) {hx N : Nat} (hS : ∀ x, fe_mem lX4_wide x = true → S x) (n : Nat) (a0 : Nat) (a1 : Int64) (M : FM) (w : WI Z hx N M) (z_a0 : Z a0) : pq (FX4_wide n a0 a1 M) (QV S Z hx N M) := wX4_wide_0 S Z hS n a0 a1 M w z_a0
def lX4_window : List Nat := [252, 254, 255, 260, 262, 267, 1261]
theorem wX4_window_0 (S Z : Nat → Prop) {hx N : Nat} (hS : ∀ x, fe_mem lX4_window x = true → S x) (n : Nat) (a0 : Nat) (a1 : Int64) (a3 : Int64) (M : FM) (w : WI Z hx N M) (z_a0 : Z a0) : pq (FX4_window_0 n a0 a1 a3 M) (QV S Z hx N M) := by
  have hN := w.2.2.1
  have w0 := wk_r (S := S) w
  delta FX4_window_0 BX4_window_0
  refine pq_g (fun g1 => ?_)
  refine pq_b (wX4_begin S Z (sb rfl hS) n _ _ _ w0.1 z_a0 (wk_zc w0 rfl)) (fun r2 K3 => ?_)
  have w4 := wk_t w0 K3 hN
  refine pq_g (fun g5 => ?_)
  refine pq_b (wX4_wide S Z (sb rfl hS) n _ _ _ w4.1 z_a0) (fun r6 K7 => ?_)
  have w8 := wk_t w4 K7 hN
  refine pq_g (fun g9 => ?_)
  refine pq_b (wX4_wide S Z (sb rfl hS) n _ _ _ w8.1 z_a0) (fun r10 K11 => ?_)
  have w12 := wk_t w8 K11 hN
  refine pq_g (fun g13 => ?_)
  refine pq_b (wX4_finish S Z (sb rfl hS) _ _ _ w12.1 z_a0 (wk_zc w12 rfl)) (fun r14 K15 => ?_)
  have w16 := wk_t w12 K15 hN
  exact pq_s w16
theorem wX4_window (S Z : Nat → Prop) {hx N : Nat} (hS : ∀ x, fe_mem lX4_window x = true → S x) (n : Nat) (a0 : Nat) (a1 : Int64) (a3 : Int64) (M : FM) (w : WI Z hx N M) (z_a0 : Z a0) : pq (FX4_window n a0 a1 a3 M) (QV S Z hx N M) := wX4_window_0 S Z hS n a0 a1 a3 M w z_a0
def lX4_device : List Nat := [249, 250, 251, 252, 253, 254, 255, 260, 262, 266, 267, 268, 1261]
theorem wX4_device_47 (S Z : Nat → Prop) {hx N : Nat} (hS : ∀ x, fe_mem lX4_device x = true → S x) (n : Nat) (a0 : Nat) (M : FM) (w : WI Z hx N M) (z_a0 : Z a0) : pq (FX4_device_47 n a0 M) (QV S Z hx N M) := by
  have hN := w.2.2.1
  have w0 := wk_r (S := S) w
  delta FX4_device_47 BX4_device_47
  refine pq_g (fun g1 => ?_)
  have z2 := wk_z (i := 0) (f := 56) w0 rfl z_a0
  refine pq_g (fun g3 => ?_)
  refine pq_b (wX5_close S Z (sb rfl hS) _ _ w0.1 z2) (fun r4 K5 => ?_)
  have w6 := wk_t w0 K5 hN
  exact pq_s w6
theorem wX4_device_0 (S Z : Nat → Prop) {hx N : Nat} (hS : ∀ x, fe_mem lX4_device x = true → S x) (n : Nat) (a0 : Nat) (a1 : Nat) (a2 : Nat) (a3 : Nat) (a4 : Int32) (a5 : Int32) (M : FM) (w : WI Z hx N M) (z_a0 : Z a0) (z_a1 : Z a1) (z_a2 : Z a2) (z_a3 : Z a3) : pq (FX4_device_0 n a0 a1 a2 a3 a4 a5 M) (QV S Z hx N M) := by
  have hN := w.2.2.1
  have w0 := wk_r (S := S) w
  delta FX4_device_0 BX4_device_0
  refine pq_g (fun g1 => ?_)
  refine pq_b (wX4_open S Z (sb rfl hS) n _ _ _ w0.1 z_a0 z_a1) (fun r2 K3 => ?_)
  have w4 := wk_t w0 K3 hN
  refine pq_g (fun g5 => ?_)
  refine pq_b (wX4_string S Z (sb rfl hS) n _ _ _ _ w4.1 z_a0 (wk_zc w4 rfl) z_a2) (fun r6 K7 => ?_)
  have w8 := wk_t w4 K7 hN
  refine pq_g (fun g9 => ?_)
  refine pq_g (fun g10 => ?_)
  refine pq_g (fun g11 => ?_)
  refine pq_b (wX4_window S Z (sb rfl hS) n _ _ _ _ w8.1 z_a0) (fun r12 K13 => ?_)
  have w14 := wk_t w8 K13 hN
  refine pq_fi (fun _ => ?_) (fun _ => ?_)
  · exact q_tV hN w14 (wX4_device_47 S Z hS n _ _ w14.1 z_a0)
  · refine pq_g (fun g15 => ?_)
    refine pq_b (wX4_number S Z (sb rfl hS) n _ _ _ _ w14.1 z_a0 (wk_zc w14 rfl)) (fun r16 K17 => ?_)
    have w18 := wk_t w14 K17 hN
    refine pq_g (fun g19 => ?_)
    refine pq_b (wX4_number S Z (sb rfl hS) n _ _ _ _ w18.1 z_a0 (wk_zc w18 rfl)) (fun r20 K21 => ?_)
    have w22 := wk_t w18 K21 hN
    exact q_tV hN w22 (wX4_device_47 S Z hS n _ _ w22.1 z_a0)
theorem wX4_device (S Z : Nat → Prop) {hx N : Nat} (hS : ∀ x, fe_mem lX4_device x = true → S x) (n : Nat) (a0 : Nat) (a1 : Nat) (a2 : Nat) (a3 : Nat) (a4 : Int32) (a5 : Int32) (M : FM) (w : WI Z hx N M) (z_a0 : Z a0) (z_a1 : Z a1) (z_a2 : Z a2) (z_a3 : Z a3) : pq (FX4_device n a0 a1 a2 a3 a4 a5 M) (QV S Z hx N M) := wX4_device_0 S Z hS n a0 a1 a2 a3 a4 a5 M w z_a0 z_a1 z_a2 z_a3
def lX4_lines : List Nat := [252, 254, 255, 260, 262, 267, 1261]
theorem wX4_lines_9 (S Z : Nat → Prop) {hx N : Nat} (hS : ∀ x, fe_mem lX4_lines x = true → S x) (n : Nat) (k9 : Nat → Int32 → Int32 → Int32 → Int32 → FM → Option (FM)) (hk9 : ∀ (a0 : Nat) (a1 : Int32) (a2 : Int32) (a3 : Int32) (a4 : Int32) (M : FM), WI Z hx N M → Z a0 → pq (k9 a0 a1 a2 a3 a4 M) (QV S Z hx N M)) (a0 : Nat) (a1 : Int32) (a2 : Int32) (a3 : Int32) (a4 : Int32) (M : FM) (w : WI Z hx N M) (z_a0 : Z a0) : pq (FX4_lines_9 n k9 a0 a1 a2 a3 a4 M) (QV S Z hx N M) := by
  have hN := w.2.2.1
  have w0 := wk_r (S := S) w
  delta FX4_lines_9 BX4_lines_9
  refine pq_fi (fun _ => ?_) (fun _ => ?_)
  · refine pq_g (fun g1 => ?_)
    refine pq_b (wX4_finish S Z (sb rfl hS) _ _ _ w0.1 z_a0 (wk_zc w0 rfl)) (fun r2 K3 => ?_)
    have w4 := wk_t w0 K3 hN
    exact pq_s w4
  · refine pq_g (fun g5 => ?_)
    have z6 := wk_z (i := 0) (f := 55) w0 rfl z_a0
    refine pq_g (fun g7 => ?_)
    refine pq_b (wX3_addNumber S Z (sb rfl hS) n _ _ _ w0.1 z6) (fun r8 K9 => ?_)
    have w10 := wk_t w0 K9 hN
    refine pq_g (fun g11 => ?_)
    have z12 := wk_z (i := 0) (f := 55) w10 rfl z_a0
    refine pq_g (fun g13 => ?_)
    refine pq_b (wX3_addNumber S Z (sb rfl hS) n _ _ _ w10.1 z12) (fun r14 K15 => ?_)
    have w16 := wk_t w10 K15 hN
    refine pq_g (fun g17 => ?_)
    have z18 := wk_z (i := 0) (f := 55) w16 rfl z_a0
    refine pq_g (fun g19 => ?_)
    refine pq_b (wX3_addNumber S Z (sb rfl hS) n _ _ _ w16.1 z18) (fun r20 K21 => ?_)
    have w22 := wk_t w16 K21 hN
    refine pq_g (fun g23 => ?_)
    have z24 := wk_z (i := 0) (f := 55) w22 rfl z_a0
    refine pq_g (fun g25 => ?_)
    refine pq_b (wX3_addNumber S Z (sb rfl hS) n _ _ _ w22.1 z24) (fun r26 K27 => ?_)
    have w28 := wk_t w22 K27 hN
    exact q_tV hN w28 (hk9 _ _ _ _ _ _ w28.1 z_a0)
theorem wX4_lines_0 (S Z : Nat → Prop) {hx N : Nat} (hS : ∀ x, fe_mem lX4_lines x = true → S x) (n : Nat) (k9 : Nat → Int32 → Int32 → Int32 → Int32 → FM → Option (FM)) (hk9 : ∀ (a0 : Nat) (a1 : Int32) (a2 : Int32) (a3 : Int32) (a4 : Int32) (M : FM), WI Z hx N M → Z a0 → pq (k9 a0 a1 a2 a3 a4 M) (QV S Z hx N M)) (a0 : Nat) (a1 : Int32) (a2 : Int32) (a3 : Int32) (M : FM) (w : WI Z hx N M) (z_a0 : Z a0) : pq (FX4_lines_0 n k9 a0 a1 a2 a3 M) (QV S Z hx N M) := by
  have hN := w.2.2.1
  have w0 := wk_r (S := S) w
  delta FX4_lines_0 BX4_lines_0
  refine pq_g (fun g1 => ?_)
  refine pq_b (wX4_begin S Z (sb rfl hS) n _ _ _ w0.1 z_a0 (wk_zc w0 rfl)) (fun r2 K3 => ?_)
  have w4 := wk_t w0 K3 hN
  exact q_tV hN w4 (hk9 _ _ _ _ _ _ w4.1 z_a0)
theorem wX4_lines_L (S Z : Nat → Prop) {hx N : Nat} (hS : ∀ x, fe_mem lX4_lines x = true → S x) (n : Nat) : ∀ j : Nat, ∀ (a0 : Nat) (a1 : Int32) (a2 : Int32) (a3 : Int32) (a4 : Int32) (M : FM), WI Z hx N M → Z a0 → pq (FX4_lines_L9 n j a0 a1 a2 a3 a4 M) (QV S Z hx N M)
  | 0 => by intros; exact pq_0
  | j + 1 => fun a0 a1 a2 a3 a4 M w => wX4_lines_9 S Z hS n _ (wX4_lines_L S Z hS n j) a0 a1 a2 a3 a4 M w
theorem wX4_lines (S Z : Nat → Prop) {hx N : Nat} (hS : ∀ x, fe_mem lX4_lines x = true → S x) (n : Nat) (a0 : Nat) (a1 : Int32) (a2 : Int32) (a3 : Int32) (M : FM) (w : WI Z hx N M) (z_a0 : Z a0) : pq (FX4_lines n a0 a1 a2 a3 M) (QV S Z hx N M) := wX4_lines_0 S Z hS n _ (wX4_lines_L S Z hS n n) a0 a1 a2 a3 M w z_a0
def lX4_devices : List Nat := [249, 250, 251, 252, 253, 254, 255, 260, 262, 266, 267, 268, 1261]
theorem wX4_devices_0 (S Z : Nat → Prop) {hx N : Nat} (hS : ∀ x, fe_mem lX4_devices x = true → S x) (n : Nat) (a0 : Nat) (a1 : Int32) (M : FM) (w : WI Z hx N M) (z_a0 : Z a0) : pq (FX4_devices_0 n a0 a1 M) (QV S Z hx N M) := by
  have hN := w.2.2.1
  have w0 := wk_r (S := S) w
  delta FX4_devices_0 BX4_devices_0
  refine pq_g (fun g1 => ?_)
  refine pq_b (wX4_open S Z (sb rfl hS) n _ _ _ w0.1 z_a0 (wk_zc w0 rfl)) (fun r2 K3 => ?_)
  have w4 := wk_t w0 K3 hN
  refine pq_g (fun g5 => ?_)
  refine pq_b (wX4_cells S Z (sb rfl hS) n _ _ _ _ w4.1 z_a0) (fun r6 K7 => ?_)
  have w8 := wk_t w4 K7 hN
  refine pq_g (fun g9 => ?_)
  refine pq_b (wX4_string S Z (sb rfl hS) n _ _ _ _ w8.1 z_a0 (wk_zc w8 rfl) (wk_zc w8 rfl)) (fun r10 K11 => ?_)
  have w12 := wk_t w8 K11 hN
  refine pq_g (fun g13 => ?_)
  refine pq_b (wX4_nothing S Z (sb rfl hS) n _ _ _ w12.1 z_a0 (wk_zc w12 rfl)) (fun r14 K15 => ?_)
  have w16 := wk_t w12 K15 hN
  refine pq_g (fun g17 => ?_)
  refine pq_b (wX4_device S Z (sb rfl hS) n _ _ _ _ _ _ _ w16.1 z_a0 (wk_zc w16 rfl) (wk_zc w16 rfl) (wk_zc w16 rfl)) (fun r18 K19 => ?_)
  have w20 := wk_t w16 K19 hN
  refine pq_g (fun g21 => ?_)
  refine pq_b (wX4_open S Z (sb rfl hS) n _ _ _ w20.1 z_a0 (wk_zc w20 rfl)) (fun r22 K23 => ?_)
  have w24 := wk_t w20 K23 hN
  refine pq_g (fun g25 => ?_)
  refine pq_b (wX4_string S Z (sb rfl hS) n _ _ _ _ w24.1 z_a0 (wk_zc w24 rfl) (wk_zc w24 rfl)) (fun r26 K27 => ?_)
  have w28 := wk_t w24 K27 hN
  refine pq_g (fun g29 => ?_)
  refine pq_b (wX4_lines S Z (sb rfl hS) n _ _ _ _ _ w28.1 z_a0) (fun r30 K31 => ?_)
  have w32 := wk_t w28 K31 hN
  refine pq_g (fun g33 => ?_)
  refine pq_g (fun g34 => ?_)
  refine pq_g (fun g35 => ?_)
  refine pq_b (wX4_window S Z (sb rfl hS) n _ _ _ _ w32.1 z_a0) (fun r36 K37 => ?_)
  have w38 := wk_t w32 K37 hN
  refine pq_g (fun g39 => ?_)
  have z40 := wk_z (i := 0) (f := 56) w38 rfl z_a0
  refine pq_g (fun g41 => ?_)
  refine pq_b (wX5_close S Z (sb rfl hS) _ _ w38.1 z40) (fun r42 K43 => ?_)
  have w44 := wk_t w38 K43 hN
  refine pq_g (fun g45 => ?_)
  refine pq_b (wX4_open S Z (sb rfl hS) n _ _ _ w44.1 z_a0 (wk_zc w44 rfl)) (fun r46 K47 => ?_)
  have w48 := wk_t w44 K47 hN
  refine pq_g (fun g49 => ?_)
  refine pq_b (wX4_number S Z (sb rfl hS) n _ _ _ _ w48.1 z_a0 (wk_zc w48 rfl)) (fun r50 K51 => ?_)
  have w52 := wk_t w48 K51 hN
  refine pq_g (fun g53 => ?_)
  refine pq_b (wX4_nothing S Z (sb rfl hS) n _ _ _ w52.1 z_a0 (wk_zc w52 rfl)) (fun r54 K55 => ?_)
  have w56 := wk_t w52 K55 hN
  refine pq_g (fun g57 => ?_)
  refine pq_b (wX4_string S Z (sb rfl hS) n _ _ _ _ w56.1 z_a0 (wk_zc w56 rfl) (wk_zc w56 rfl)) (fun r58 K59 => ?_)
  have w60 := wk_t w56 K59 hN
  refine pq_g (fun g61 => ?_)
  refine pq_b (wX4_lines S Z (sb rfl hS) n _ _ _ _ _ w60.1 z_a0) (fun r62 K63 => ?_)
  have w64 := wk_t w60 K63 hN
  refine pq_g (fun g65 => ?_)
  refine pq_g (fun g66 => ?_)
  refine pq_g (fun g67 => ?_)
  refine pq_b (wX4_window S Z (sb rfl hS) n _ _ _ _ w64.1 z_a0) (fun r68 K69 => ?_)
  have w70 := wk_t w64 K69 hN
  refine pq_g (fun g71 => ?_)
  refine pq_b (wX4_number S Z (sb rfl hS) n _ _ _ _ w70.1 z_a0 (wk_zc w70 rfl)) (fun r72 K73 => ?_)
  have w74 := wk_t w70 K73 hN
  refine pq_g (fun g75 => ?_)
  refine pq_b (wX4_number S Z (sb rfl hS) n _ _ _ _ w74.1 z_a0 (wk_zc w74 rfl)) (fun r76 K77 => ?_)
  have w78 := wk_t w74 K77 hN
  refine pq_g (fun g79 => ?_)
  have z80 := wk_z (i := 0) (f := 56) w78 rfl z_a0
  refine pq_g (fun g81 => ?_)
  refine pq_b (wX5_close S Z (sb rfl hS) _ _ w78.1 z80) (fun r82 K83 => ?_)
  have w84 := wk_t w78 K83 hN
  refine pq_g (fun g85 => ?_)
  refine pq_b (wX4_device S Z (sb rfl hS) n _ _ _ _ _ _ _ w84.1 z_a0 (wk_zc w84 rfl) (wk_zc w84 rfl) (wk_zc w84 rfl)) (fun r86 K87 => ?_)
  have w88 := wk_t w84 K87 hN
  refine pq_g (fun g89 => ?_)
  refine pq_b (wX4_device S Z (sb rfl hS) n _ _ _ _ _ _ _ w88.1 z_a0 (wk_zc w88 rfl) (wk_zc w88 rfl) (wk_zc w88 rfl)) (fun r90 K91 => ?_)
  have w92 := wk_t w88 K91 hN
  refine pq_g (fun g93 => ?_)
  have z94 := wk_z (i := 0) (f := 56) w92 rfl z_a0
  refine pq_g (fun g95 => ?_)
  refine pq_b (wX5_close S Z (sb rfl hS) _ _ w92.1 z94) (fun r96 K97 => ?_)
  have w98 := wk_t w92 K97 hN
  exact pq_s w98
theorem wX4_devices (S Z : Nat → Prop) {hx N : Nat} (hS : ∀ x, fe_mem lX4_devices x = true → S x) (n : Nat) (a0 : Nat) (a1 : Int32) (M : FM) (w : WI Z hx N M) (z_a0 : Z a0) : pq (FX4_devices n a0 a1 M) (QV S Z hx N M) := wX4_devices_0 S Z hS n a0 a1 M w z_a0
def lX3_fillUp : List Nat := [262, 1261]
theorem wX3_fillUp_0 (S Z : Nat → Prop) {hx N : Nat} (hS : ∀ x, fe_mem lX3_fillUp x = true → S x) (n : Nat) (k0 : Nat → FM → Option (FM)) (hk0 : ∀ (a0 : Nat) (M : FM), WI Z hx N M → Z a0 → pq (k0 a0 M) (QV S Z hx N M)) (a0 : Nat) (M : FM) (w : WI Z hx N M) (z_a0 : Z a0) : pq (FX3_fillUp_0 n k0 a0 M) (QV S Z hx N M) := by
  have hN := w.2.2.1
  have w0 := wk_r (S := S) w
  delta FX3_fillUp_0 BX3_fillUp_0
  refine pq_g (fun g1 => ?_)
  refine pq_fi (fun _ => ?_) (fun _ => ?_)
  · exact pq_s w0
  · refine pq_g (fun g2 => ?_)
    refine pq_b (wX3_add S Z (sb rfl hS) _ _ _ w0.1 z_a0) (fun r3 K4 => ?_)
    have w5 := wk_t w0 K4 hN
    exact q_tV hN w5 (hk0 _ _ w5.1 z_a0)
theorem wX3_fillUp_L (S Z : Nat → Prop) {hx N : Nat} (hS : ∀ x, fe_mem lX3_fillUp x = true → S x) (n : Nat) : ∀ j : Nat, ∀ (a0 : Nat) (M : FM), WI Z hx N M → Z a0 → pq (FX3_fillUp_L0 n j a0 M) (QV S Z hx N M)
  | 0 => by intros; exact pq_0
  | j + 1 => fun a0 M w => wX3_fillUp_0 S Z hS n _ (wX3_fillUp_L S Z hS n j) a0 M w
theorem wX3_fillUp (S Z : Nat → Prop) {hx N : Nat} (hS : ∀ x, fe_mem lX3_fillUp x = true → S x) (n : Nat) (a0 : Nat) (M : FM) (w : WI Z hx N M) (z_a0 : Z a0) : pq (FX3_fillUp n a0 M) (QV S Z hx N M) := (wX3_fillUp_L S Z hS n n) a0 M w z_a0
def lX3_get : List Nat := []
theorem wX3_get_0 (S Z : Nat → Prop) {hx N : Nat} (hS : ∀ x, fe_mem lX3_get x = true → S x) (a0 : Nat) (a1 : Int32) (M : FM) (w : WI Z hx N M) (z_a0 : Z a0) : pq (FX3_get_0 a0 a1 M) (QA S Z hx N M) := by
  have hN := w.2.2.1
  have w0 := wk_r (S := S) w
  delta FX3_get_0 BX3_get_0
  refine pq_g (fun g1 => ?_)
  have z2 := wk_z (i := 0) (f := 261) w0 rfl z_a0
  have f3 := sS_261 w0.1.1 g1
  refine pq_g (fun g4 => ?_)
  exact pq_s w0
theorem wX3_get (S Z : Nat → Prop) {hx N : Nat} (hS : ∀ x, fe_mem lX3_get x = true → S x) (a0 : Nat) (a1 : Int32) (M : FM) (w : WI Z hx N M) (z_a0 : Z a0) : pq (FX3_get a0 a1 M) (QA S Z hx N M) := wX3_get_0 S Z hS a0 a1 M w z_a0
def lX3_isSame : List Nat := []
theorem wX3_isSame_3 (S Z : Nat → Prop) {hx N : Nat} (hS : ∀ x, fe_mem lX3_isSame x = true → S x) (n : Nat) (k3 : Nat → Int32 → Nat → Int32 → Int32 → Int32 → FM → Option (Int32 × FM)) (hk3 : ∀ (a0 : Nat) (a1 : Int32) (a2 : Nat) (a3 : Int32) (a4 : Int32) (a5 : Int32) (M : FM), WI Z hx N M → Z a0 → Z a2 → pq (k3 a0 a1 a2 a3 a4 a5 M) (QA S Z hx N M)) (a0 : Nat) (a1 : Int32) (a2 : Nat) (a3 : Int32) (a4 : Int32) (a5 : Int32) (M : FM) (w : WI Z hx N M) (z_a0 : Z a0) (z_a2 : Z a2) : pq (FX3_isSame_3 n k3 a0 a1 a2 a3 a4 a5 M) (QA S Z hx N M) := by
  have hN := w.2.2.1
  have w0 := wk_r (S := S) w
  delta FX3_isSame_3 BX3_isSame_3
  refine pq_fi (fun _ => ?_) (fun _ => ?_)
  · refine pq_g (fun _ => ?_)
    exact pq_s w0
  · refine pq_g (fun g1 => ?_)
    have z2 := wk_z (i := 0) (f := 261) w0 rfl z_a0
    have f3 := sS_261 w0.1.1 g1
    refine pq_g (fun g4 => ?_)
    refine pq_g (fun g5 => ?_)
    have z6 := wk_z (i := 0) (f := 261) w0 rfl z_a2
    have f7 := sS_261 w0.1.1 g5
    refine pq_g (fun g8 => ?_)
    refine pq_fi (fun _ => ?_) (fun _ => ?_)
    · exact q_tA hN w0 (hk3 _ _ _ _ _ _ _ w0.1 z_a0 z_a2)
    · refine pq_g (fun _ => ?_)
      exact pq_s w0
theorem wX3_isSame_0 (S Z : Nat → Prop) {hx N : Nat} (hS : ∀ x, fe_mem lX3_isSame x = true → S x) (n : Nat) (k3 : Nat → Int32 → Nat → Int32 → Int32 → Int32 → FM → Option (Int32 × FM)) (hk3 : ∀ (a0 : Nat) (a1 : Int32) (a2 : Nat) (a3 : Int32) (a4 : Int32) (a5 : Int32) (M : FM), WI Z hx N M → Z a0 → Z a2 → pq (k3 a0 a1 a2 a3 a4 a5 M) (QA S Z hx N M)) (a0 : Nat) (a1 : Int32) (a2 : Nat) (a3 : Int32) (a4 : Int32) (M : FM) (w : WI Z hx N M) (z_a0 : Z a0) (z_a2 : Z a2) : pq (FX3_isSame_0 n k3 a0 a1 a2 a3 a4 M) (QA S Z hx N M) := by
  have hN := w.2.2.1
  have w0 := wk_r (S := S) w
  delta FX3_isSame_0 BX3_isSame_0
  exact q_tA hN w0 (hk3 _ _ _ _ _ _ _ w0.1 z_a0 z_a2)
theorem wX3_isSame_L (S Z : Nat → Prop) {hx N : Nat} (hS : ∀ x, fe_mem lX3_isSame x = true → S x) (n : Nat) : ∀ j : Nat, ∀ (a0 : Nat) (a1 : Int32) (a2 : Nat) (a3 : Int32) (a4 : Int32) (a5 : Int32) (M : FM), WI Z hx N M → Z a0 → Z a2 → pq (FX3_isSame_L3 n j a0 a1 a2 a3 a4 a5 M) (QA S Z hx N M)
  | 0 => by intros; exact pq_0
  | j + 1 => fun a0 a1 a2 a3 a4 a5 M w => wX3_isSame_3 S Z hS n _ (wX3_isSame_L S Z hS n j) a0 a1 a2 a3 a4 a5 M w
theorem wX3_isSame (S Z : Nat → Prop) {hx N : Nat} (hS : ∀ x, fe_mem lX3_isSame x = true → S x) (n : Nat) (a0 : Nat) (a1 : Int32) (a2 : Nat) (a3 : Int32) (a4 : Int32) (M : FM) (w : WI Z hx N M) (z_a0 : Z a0) (z_a2 : Z a2) : pq (FX3_isSame n a0 a1 a2 a3 a4 M) (QA S Z hx N M) := wX3_isSame_0 S Z hS n _ (wX3_isSame_L S Z hS n n) a0 a1 a2 a3 a4 M w z_a0 z_a2
def lX9_nameAt : List Nat := [262, 1261]
theorem wX9_nameAt_68 (S Z : Nat → Prop) {hx N : Nat} (hS : ∀ x, fe_mem lX9_nameAt x = true → S x) (n : Nat) (k2 : Nat → Nat → Nat → Int32 → FM → Option (Int32 × FM)) (hk2 : ∀ (a0 : Nat) (a1 : Nat) (a2 : Nat) (a3 : Int32) (M : FM), WI Z hx N M → Z a0 → Z a1 → Z a2 → pq (k2 a0 a1 a2 a3 M) (QA S Z hx N M)) (k16 : Nat → Nat → Nat → Int32 → Int32 → FM → Option (Int32 × FM)) (hk16 : ∀ (a0 : Nat) (a1 : Nat) (a2 : Nat) (a3 : Int32) (a4 : Int32) (M : FM), WI Z hx N M → Z a0 → Z a1 → Z a2 → pq (k16 a0 a1 a2 a3 a4 M) (QA S Z hx N M)) (a0 : Nat) (a1 : Nat) (a2 : Nat) (a3 : Int32) (a4 : Int32) (M : FM) (w : WI Z hx N M) (z_a0 : Z a0) (z_a1 : Z a1) (z_a2 : Z a2) : pq (FX9_nameAt_68 n k2 k16 a0 a1 a2 a3 a4 M) (QA S Z hx N M) := by
  have hN := w.2.2.1
  have w0 := wk_r (S := S) w
  delta FX9_nameAt_68 BX9_nameAt_68
  exact q_tA hN w0 (hk2 _ _ _ _ _ w0.1 z_a0 z_a1 z_a2)
theorem wX9_nameAt_16 (S Z : Nat → Prop) {hx N : Nat} (hS : ∀ x, fe_mem lX9_nameAt x = true → S x) (n : Nat) (k2 : Nat → Nat → Nat → Int32 → FM → Option (Int32 × FM)) (hk2 : ∀ (a0 : Nat) (a1 : Nat) (a2 : Nat) (a3 : Int32) (M : FM), WI Z hx N M → Z a0 → Z a1 → Z a2 → pq (k2 a0 a1 a2 a3 M) (QA S Z hx N M)) (k16 : Nat → Nat → Nat → Int32 → Int32 → FM → Option (Int32 × FM)) (hk16 : ∀ (a0 : Nat) (a1 : Nat) (a2 : Nat) (a3 : Int32) (a4 : Int32) (M : FM), WI Z hx N M → Z a0 → Z a1 → Z a2 → pq (k16 a0 a1 a2 a3 a4 M) (QA S Z hx N M)) (a0 : Nat) (a1 : Nat) (a2 : Nat) (a3 : Int32) (a4 : Int32) (M : FM) (w : WI Z hx N M) (z_a0 : Z a0) (z_a1 : Z a1) (z_a2 : Z a2) : pq (FX9_nameAt_16 n k2 k16 a0 a1 a2 a3 a4 M) (QA S Z hx N M) := by
  have hN := w.2.2.1
  have w0 := wk_r (S := S) w
  delta FX9_nameAt_16 BX9_nameAt_16
  refine pq_g (fun g1 => ?_)
  have z2 := wk_z (i := 0) (f := 257) w0 rfl z_a0
  refine pq_g (fun g3 => ?_)
  refine pq_b (wX3_get S Z (sb rfl hS) _ _ _ w0.1 z2) (fun r4 K5 => ?_)
  have w6 := wk_t w0 K5 hN
  refine pq_fi (fun _ => ?_) (fun _ => ?_)
  · refine pq_g (fun g7 => ?_)
    refine pq_fi (fun _ => ?_) (fun _ => ?_)
    · refine pq_g (fun g8 => ?_)
      have z9 := wk_z (i := 0) (f := 257) w6 rfl z_a0
      refine pq_g (fun g10 => ?_)
      have z11 := wk_z (i := 0) (f := 263) w6 rfl z_a1
      refine pq_g (fun g12 => ?_)
      refine pq_g (fun g13 => ?_)
      refine pq_b (wX3_isSame S Z (sb rfl hS) n _ _ _ _ _ _ w6.1 z9 z11) (fun r14 K15 => ?_)
      have w16 := wk_t w6 K15 hN
      refine pq_fi (fun _ => ?_) (fun _ => ?_)
      · exact q_tA hN w16 (wX9_nameAt_68 S Z hS n _ hk2 _ hk16 _ _ _ _ _ _ w16.1 z_a0 z_a1 z_a2)
      · exact pq_s w16
    · exact q_tA hN w6 (wX9_nameAt_68 S Z hS n _ hk2 _ hk16 _ _ _ _ _ _ w6.1 z_a0 z_a1 z_a2)
  · exact q_tA hN w6 (hk16 _ _ _ _ _ _ w6.1 z_a0 z_a1 z_a2)
theorem wX9_nameAt_2 (S Z : Nat → Prop) {hx N : Nat} (hS : ∀ x, fe_mem lX9_nameAt x = true → S x) (n : Nat) (k2 : Nat → Nat → Nat → Int32 → FM → Option (Int32 × FM)) (hk2 : ∀ (a0 : Nat) (a1 : Nat) (a2 : Nat) (a3 : Int32) (M : FM), WI Z hx N M → Z a0 → Z a1 → Z a2 → pq (k2 a0 a1 a2 a3 M) (QA S Z hx N M)) (k16 : Nat → Nat → Nat → Int32 → Int32 → FM → Option (Int32 × FM)) (hk16 : ∀ (a0 : Nat) (a1 : Nat) (a2 : Nat) (a3 : Int32) (a4 : Int32) (M : FM), WI Z hx N M → Z a0 → Z a1 → Z a2 → pq (k16 a0 a1 a2 a3 a4 M) (QA S Z hx N M)) (a0 : Nat) (a1 : Nat) (a2 : Nat) (a3 : Int32) (M : FM) (w : WI Z hx N M) (z_a0 : Z a0) (z_a1 : Z a1) (z_a2 : Z a2) : pq (FX9_nameAt_2 n k2 k16 a0 a1 a2 a3 M) (QA S Z hx N M) := by
  have hN := w.2.2.1
  have w0 := wk_r (S := S) w
  delta FX9_nameAt_2 BX9_nameAt_2
  refine pq_g (fun g1 => ?_)
  have z2 := wk_z (i := 0) (f := 257) w0 rfl z_a0
  refine pq_g (fun g3 => ?_)
  refine pq_fi (fun _ => ?_) (fun _ => ?_)
  · refine pq_g (fun g4 => ?_)
    have z5 := wk_z (i := 0) (f := 257) w0 rfl z_a0
    refine pq_g (fun g6 => ?_)
    have z7 := wk_z (i := 0) (f := 263) w0 rfl z_a1
    refine pq_g (fun g8 => ?_)
    refine pq_g (fun g9 => ?_)
    refine pq_g (fun g10 => ?_)
    refine pq_b (wX3_addAll S Z (sb rfl hS) _ _ _ _ _ w0.1 z5 z7) (fun r11 K12 => ?_)
    have w13 := wk_t w0 K12 hN
    refine pq_g (fun g14 => ?_)
    have z15 := wk_z (i := 0) (f := 257) w13 rfl z_a0
    refine pq_g (fun g16 => ?_)
    refine pq_b (wX3_add S Z (sb rfl hS) _ _ _ w13.1 z15) (fun r17 K18 => ?_)
    have w19 := wk_t w13 K18 hN
    exact pq_s w19
  · exact q_tA hN w0 (hk16 _ _ _ _ _ _ w0.1 z_a0 z_a1 z_a2)
theorem wX9_nameAt_0 (S Z : Nat → Prop) {hx N : Nat} (hS : ∀ x, fe_mem lX9_nameAt x = true → S x) (n : Nat) (k2 : Nat → Nat → Nat → Int32 → FM → Option (Int32 × FM)) (hk2 : ∀ (a0 : Nat) (a1 : Nat) (a2 : Nat) (a3 : Int32) (M : FM), WI Z hx N M → Z a0 → Z a1 → Z a2 → pq (k2 a0 a1 a2 a3 M) (QA S Z hx N M)) (k16 : Nat → Nat → Nat → Int32 → Int32 → FM → Option (Int32 × FM)) (hk16 : ∀ (a0 : Nat) (a1 : Nat) (a2 : Nat) (a3 : Int32) (a4 : Int32) (M : FM), WI Z hx N M → Z a0 → Z a1 → Z a2 → pq (k16 a0 a1 a2 a3 a4 M) (QA S Z hx N M)) (a0 : Nat) (a1 : Nat) (a2 : Nat) (M : FM) (w : WI Z hx N M) (z_a0 : Z a0) (z_a1 : Z a1) (z_a2 : Z a2) : pq (FX9_nameAt_0 n k2 k16 a0 a1 a2 M) (QA S Z hx N M) := by
  have hN := w.2.2.1
  have w0 := wk_r (S := S) w
  delta FX9_nameAt_0 BX9_nameAt_0
  exact q_tA hN w0 (hk2 _ _ _ _ _ w0.1 z_a0 z_a1 z_a2)
theorem wX9_nameAt_L (S Z : Nat → Prop) {hx N : Nat} (hS : ∀ x, fe_mem lX9_nameAt x = true → S x) (n : Nat) : ∀ j : Nat, (∀ (a0 : Nat) (a1 : Nat) (a2 : Nat) (a3 : Int32) (M : FM), WI Z hx N M → Z a0 → Z a1 → Z a2 → pq ((FX9_nameAt_L n j).1 a0 a1 a2 a3 M) (QA S Z hx N M)) ∧ (∀ (a0 : Nat) (a1 : Nat) (a2 : Nat) (a3 : Int32) (a4 : Int32) (M : FM), WI Z hx N M → Z a0 → Z a1 → Z a2 → pq ((FX9_nameAt_L n j).2 a0 a1 a2 a3 a4 M) (QA S Z hx N M))
  | 0 => ⟨by intros; exact pq_0, by intros; exact pq_0⟩
  | j + 1 => ⟨fun a0 a1 a2 a3 M w => wX9_nameAt_2 S Z hS n _ (wX9_nameAt_L S Z hS n j).1 _ (wX9_nameAt_L S Z hS n j).2 a0 a1 a2 a3 M w, fun a0 a1 a2 a3 a4 M w => wX9_nameAt_16 S Z hS n _ (wX9_nameAt_L S Z hS n j).1 _ (wX9_nameAt_L S Z hS n j).2 a0 a1 a2 a3 a4 M w⟩
theorem wX9_nameAt (S Z : Nat → Prop) {hx N : Nat} (hS : ∀ x, fe_mem lX9_nameAt x = true → S x) (n : Nat) (a0 : Nat) (a1 : Nat) (a2 : Nat) (M : FM) (w : WI Z hx N M) (z_a0 : Z a0) (z_a1 : Z a1) (z_a2 : Z a2) : pq (FX9_nameAt n a0 a1 a2 M) (QA S Z hx N M) := wX9_nameAt_0 S Z hS n _ (wX9_nameAt_L S Z hS n n).1 _ (wX9_nameAt_L S Z hS n n).2 a0 a1 a2 M w z_a0 z_a1 z_a2
def lX9_node : List Nat := [262, 1261]
theorem wX9_node_53 (S Z : Nat → Prop) {hx N : Nat} (hS : ∀ x, fe_mem lX9_node x = true → S x) (n : Nat) (k53 : Nat → Nat → Nat → Int32 → FM → Option (FM)) (hk53 : ∀ (a0 : Nat) (a1 : Nat) (a2 : Nat) (a3 : Int32) (M : FM), WI Z hx N M → Z a0 → Z a1 → Z a2 → pq (k53 a0 a1 a2 a3 M) (QV S Z hx N M)) (a0 : Nat) (a1 : Nat) (a2 : Nat) (a3 : Int32) (M : FM) (w : WI Z hx N M) (z_a0 : Z a0) (z_a1 : Z a1) (z_a2 : Z a2) : pq (FX9_node_53 n k53 a0 a1 a2 a3 M) (QV S Z hx N M) := by
  have hN := w.2.2.1
  have w0 := wk_r (S := S) w
  delta FX9_node_53 BX9_node_53
  refine pq_g (fun g1 => ?_)
  refine pq_g (fun g2 => ?_)
  refine pq_fi (fun _ => ?_) (fun _ => ?_)
  · exact pq_s w0
  · refine pq_g (fun g3 => ?_)
    have z4 := wk_z (i := 0) (f := 265) w0 rfl z_a1
    have f5 := sS_265 w0.1.1 g3
    refine pq_g (fun g6 => ?_)
    have z7 := fun i => wk_ze (i := i) w0 rfl g6.1 f5 rfl z4
    refine pq_g (fun g8 => ?_)
    have z9 := wk_z (i := 0) (f := 256) w0 rfl z_a0
    refine pq_g (fun g10 => ?_)
    refine pq_b (wX3_addNumber S Z (sb rfl hS) n _ _ _ w0.1 z9) (fun r11 K12 => ?_)
    have w13 := wk_t w0 K12 hN
    refine pq_g (fun g14 => ?_)
    have z15 := wk_z (i := 0) (f := 256) w13 rfl z_a0
    refine pq_g (fun g16 => ?_)
    have z17 := fun j => wk_z (i := 0) (f := 259) w13 rfl (z7 j)
    refine pq_g (fun g18 => ?_)
    refine pq_g (fun g19 => ?_)
    refine pq_b (wX3_addNumber S Z (sb rfl hS) n _ _ _ w13.1 z15) (fun r20 K21 => ?_)
    have w22 := wk_t w13 K21 hN
    refine pq_g (fun g23 => ?_)
    have z24 := wk_z (i := 0) (f := 256) w22 rfl z_a0
    refine pq_g (fun g25 => ?_)
    have z26 := fun j => wk_z (i := 0) (f := 258) w22 rfl (z7 j)
    refine pq_g (fun g27 => ?_)
    refine pq_b (wX9_nameAt S Z (sb rfl hS) n _ _ _ _ w22.1 z_a0 z_a1 (z26 _)) (fun r28 K29 => ?_)
    have w30 := wk_t w22 K29 hN
    refine pq_g (fun g31 => ?_)
    refine pq_b (wX3_addNumber S Z (sb rfl hS) n _ _ _ w30.1 z24) (fun r32 K33 => ?_)
    have w34 := wk_t w30 K33 hN
    refine pq_g (fun g35 => ?_)
    have z36 := wk_z (i := 0) (f := 256) w34 rfl z_a0
    refine pq_g (fun g37 => ?_)
    have z38 := wk_z (i := 0) (f := 263) w34 rfl z_a1
    refine pq_g (fun g39 => ?_)
    have z40 := fun j => wk_z (i := 0) (f := 259) w34 rfl (z7 j)
    refine pq_g (fun g41 => ?_)
    refine pq_g (fun g42 => ?_)
    have z43 := fun j => wk_z (i := 0) (f := 259) w34 rfl (z7 j)
    refine pq_g (fun g44 => ?_)
    refine pq_g (fun g45 => ?_)
    refine pq_b (wX3_addAll S Z (sb rfl hS) _ _ _ _ _ w34.1 z36 z38) (fun r46 K47 => ?_)
    have w48 := wk_t w34 K47 hN
    refine pq_g (fun g49 => ?_)
    have z50 := wk_z (i := 0) (f := 256) w48 rfl z_a0
    refine pq_g (fun g51 => ?_)
    refine pq_b (wX3_fillUp S Z (sb rfl hS) n _ _ w48.1 z50) (fun r52 K53 => ?_)
    have w54 := wk_t w48 K53 hN
    exact q_tV hN w54 (hk53 _ _ _ _ _ w54.1 z_a0 z_a1 z_a2)
theorem wX9_node_0 (S Z : Nat → Prop) {hx N : Nat} (hS : ∀ x, fe_mem lX9_node x = true → S x) (n : Nat) (k53 : Nat → Nat → Nat → Int32 → FM → Option (FM)) (hk53 : ∀ (a0 : Nat) (a1 : Nat) (a2 : Nat) (a3 : Int32) (M : FM), WI Z hx N M → Z a0 → Z a1 → Z a2 → pq (k53 a0 a1 a2 a3 M) (QV S Z hx N M)) (a0 : Nat) (a1 : Nat) (a2 : Nat) (M : FM) (w : WI Z hx N M) (z_a0 : Z a0) (z_a1 : Z a1) (z_a2 : Z a2) : pq (FX9_node_0 n k53 a0 a1 a2 M) (QV S Z hx N M) := by
  have hN := w.2.2.1
  have w0 := wk_r (S := S) w
  delta FX9_node_0 BX9_node_0
  refine pq_g (fun g1 => ?_)
  have z2 := wk_z (i := 0) (f := 256) w0 rfl z_a0
  refine pq_g (fun g3 => ?_)
  refine pq_b (wX3_addNumber S Z (sb rfl hS) n _ _ _ w0.1 z2) (fun r4 K5 => ?_)
  have w6 := wk_t w0 K5 hN
  refine pq_g (fun g7 => ?_)
  have z8 := wk_z (i := 0) (f := 256) w6 rfl z_a0
  refine pq_g (fun g9 => ?_)
  have z10 := wk_z (i := 0) (f := 263) w6 rfl z_a1
  refine pq_g (fun g11 => ?_)
  have z12 := wk_z (i := 0) (f := 248) w6 rfl z_a2
  refine pq_g (fun g13 => ?_)
  refine pq_g (fun g14 => ?_)
  have z15 := wk_z (i := 0) (f := 248) w6 rfl z_a2
  refine pq_g (fun g16 => ?_)
  refine pq_g (fun g17 => ?_)
  refine pq_b (wX3_addAll S Z (sb rfl hS) _ _ _ _ _ w6.1 z8 z10) (fun r18 K19 => ?_)
  have w20 := wk_t w6 K19 hN
  refine pq_g (fun g21 => ?_)
  have z22 := wk_z (i := 0) (f := 256) w20 rfl z_a0
  refine pq_g (fun g23 => ?_)
  refine pq_b (wX3_add S Z (sb rfl hS) _ _ _ w20.1 z22) (fun r24 K25 => ?_)
  have w26 := wk_t w20 K25 hN
  refine pq_g (fun g27 => ?_)
  have z28 := wk_z (i := 0) (f := 256) w26 rfl z_a0
  refine pq_g (fun g29 => ?_)
  refine pq_b (wX3_fillUp S Z (sb rfl hS) n _ _ w26.1 z28) (fun r30 K31 => ?_)
  have w32 := wk_t w26 K31 hN
  refine pq_g (fun g33 => ?_)
  exact q_tV hN w32 (hk53 _ _ _ _ _ w32.1 z_a0 z_a1 z_a2)
theorem wX9_node_L (S Z : Nat → Prop) {hx N : Nat} (hS : ∀ x, fe_mem lX9_node x = true → S x) (n : Nat) : ∀ j : Nat, ∀ (a0 : Nat) (a1 : Nat) (a2 : Nat) (a3 : Int32) (M : FM), WI Z hx N M → Z a0 → Z a1 → Z a2 → pq (FX9_node_L53 n j a0 a1 a2 a3 M) (QV S Z hx N M)
  | 0 => by intros; exact pq_0
  | j + 1 => fun a0 a1 a2 a3 M w => wX9_node_53 S Z hS n _ (wX9_node_L S Z hS n j) a0 a1 a2 a3 M w
theorem wX9_node (S Z : Nat → Prop) {hx N : Nat} (hS : ∀ x, fe_mem lX9_node x = true → S x) (n : Nat) (a0 : Nat) (a1 : Nat) (a2 : Nat) (M : FM) (w : WI Z hx N M) (z_a0 : Z a0) (z_a1 : Z a1) (z_a2 : Z a2) : pq (FX9_node n a0 a1 a2 M) (QV S Z hx N M) := wX9_node_0 S Z hS n _ (wX9_node_L S Z hS n n) a0 a1 a2 M w z_a0 z_a1 z_a2
def lX3_putNumber : List Nat := [1261]
theorem wX3_putNumber_2 (S Z : Nat → Prop) {hx N : Nat} (hS : ∀ x, fe_mem lX3_putNumber x = true → S x) (n : Nat) (k2 : Nat → Int32 → Int32 → Int32 → FM → Option (FM)) (hk2 : ∀ (a0 : Nat) (a1 : Int32) (a2 : Int32) (a3 : Int32) (M : FM), WI Z hx N M → Z a0 → pq (k2 a0 a1 a2 a3 M) (QV S Z hx N M)) (a0 : Nat) (a1 : Int32) (a2 : Int32) (a3 : Int32) (M : FM) (w : WI Z hx N M) (z_a0 : Z a0) : pq (FX3_putNumber_2 n k2 a0 a1 a2 a3 M) (QV S Z hx N M) := by
  have hN := w.2.2.1
  have w0 := wk_r (S := S) w
  delta FX3_putNumber_2 BX3_putNumber_2
  refine pq_fi (fun _ => ?_) (fun _ => ?_)
  · exact pq_s w0
  · refine pq_g (fun g1 => ?_)
    have z2 := wk_z (i := 0) (f := 261) w0 rfl z_a0
    have f3 := sS_261 w0.1.1 g1
    refine pq_g (fun g4 => ?_)
    extract_lets +onlyGivenNames M6
    have w5 : Wk S Z hx N M M6 := wk_aI hN w0 rfl g4.1 z2 (sy_s f3 (hS 1261 rfl))
    exact q_tV hN w5 (hk2 _ _ _ _ _ w5.1 z_a0)
theorem wX3_putNumber_0 (S Z : Nat → Prop) {hx N : Nat} (hS : ∀ x, fe_mem lX3_putNumber x = true → S x) (n : Nat) (k2 : Nat → Int32 → Int32 → Int32 → FM → Option (FM)) (hk2 : ∀ (a0 : Nat) (a1 : Int32) (a2 : Int32) (a3 : Int32) (M : FM), WI Z hx N M → Z a0 → pq (k2 a0 a1 a2 a3 M) (QV S Z hx N M)) (a0 : Nat) (a1 : Int32) (a2 : Int32) (M : FM) (w : WI Z hx N M) (z_a0 : Z a0) : pq (FX3_putNumber_0 n k2 a0 a1 a2 M) (QV S Z hx N M) := by
  have hN := w.2.2.1
  have w0 := wk_r (S := S) w
  delta FX3_putNumber_0 BX3_putNumber_0
  exact q_tV hN w0 (hk2 _ _ _ _ _ w0.1 z_a0)
theorem wX3_putNumber_L (S Z : Nat → Prop) {hx N : Nat} (hS : ∀ x, fe_mem lX3_putNumber x = true → S x) (n : Nat) : ∀ j : Nat, ∀ (a0 : Nat) (a1 : Int32) (a2 : Int32) (a3 : Int32) (M : FM), WI Z hx N M → Z a0 → pq (FX3_putNumber_L2 n j a0 a1 a2 a3 M) (QV S Z hx N M)
  | 0 => by intros; exact pq_0
  | j + 1 => fun a0 a1 a2 a3 M w => wX3_putNumber_2 S Z hS n _ (wX3_putNumber_L S Z hS n j) a0 a1 a2 a3 M w
theorem wX3_putNumber (S Z : Nat → Prop) {hx N : Nat} (hS : ∀ x, fe_mem lX3_putNumber x = true → S x) (n : Nat) (a0 : Nat) (a1 : Int32) (a2 : Int32) (M : FM) (w : WI Z hx N M) (z_a0 : Z a0) : pq (FX3_putNumber n a0 a1 a2 M) (QV S Z hx N M) := wX3_putNumber_0 S Z hS n _ (wX3_putNumber_L S Z hS n n) a0 a1 a2 M w z_a0
def lX9_head : List Nat := [1261]
theorem wX9_head_0 (S Z : Nat → Prop) {hx N : Nat} (hS : ∀ x, fe_mem lX9_head x = true → S x) (n : Nat) (a0 : Nat) (a1 : Int32) (a2 : Int32) (M : FM) (w : WI Z hx N M) (z_a0 : Z a0) : pq (FX9_head_0 n a0 a1 a2 M) (QV S Z hx N M) := by
  have hN := w.2.2.1
  have w0 := wk_r (S := S) w
  delta FX9_head_0 BX9_head_0
  refine pq_g (fun g1 => ?_)
  have z2 := wk_z (i := 0) (f := 256) w0 rfl z_a0
  refine pq_g (fun g3 => ?_)
  refine pq_b (wX3_putNumber S Z (sb rfl hS) n _ _ _ _ w0.1 z2) (fun r4 K5 => ?_)
  have w6 := wk_t w0 K5 hN
  refine pq_g (fun g7 => ?_)
  have z8 := wk_z (i := 0) (f := 256) w6 rfl z_a0
  refine pq_g (fun g9 => ?_)
  have z10 := wk_z (i := 0) (f := 256) w6 rfl z_a0
  refine pq_g (fun g11 => ?_)
  refine pq_g (fun g12 => ?_)
  refine pq_b (wX3_putNumber S Z (sb rfl hS) n _ _ _ _ w6.1 z8) (fun r13 K14 => ?_)
  have w15 := wk_t w6 K14 hN
  refine pq_g (fun g16 => ?_)
  have z17 := wk_z (i := 0) (f := 256) w15 rfl z_a0
  refine pq_g (fun g18 => ?_)
  refine pq_b (wX3_putNumber S Z (sb rfl hS) n _ _ _ _ w15.1 z17) (fun r19 K20 => ?_)
  have w21 := wk_t w15 K20 hN
  refine pq_g (fun g22 => ?_)
  have z23 := wk_z (i := 0) (f := 256) w21 rfl z_a0
  refine pq_g (fun g24 => ?_)
  refine pq_b (wX3_putNumber S Z (sb rfl hS) n _ _ _ _ w21.1 z23) (fun r25 K26 => ?_)
  have w27 := wk_t w21 K26 hN
  refine pq_g (fun g28 => ?_)
  have z29 := wk_z (i := 0) (f := 256) w27 rfl z_a0
  refine pq_g (fun g30 => ?_)
  refine pq_b (wX3_putNumber S Z (sb rfl hS) n _ _ _ _ w27.1 z29) (fun r31 K32 => ?_)
  have w33 := wk_t w27 K32 hN
  refine pq_g (fun g34 => ?_)
  have z35 := wk_z (i := 0) (f := 256) w33 rfl z_a0
  refine pq_g (fun g36 => ?_)
  refine pq_b (wX3_putNumber S Z (sb rfl hS) n _ _ _ _ w33.1 z35) (fun r37 K38 => ?_)
  have w39 := wk_t w33 K38 hN
  refine pq_g (fun g40 => ?_)
  have z41 := wk_z (i := 0) (f := 256) w39 rfl z_a0
  refine pq_g (fun g42 => ?_)
  refine pq_b (wX3_putNumber S Z (sb rfl hS) n _ _ _ _ w39.1 z41) (fun r43 K44 => ?_)
  have w45 := wk_t w39 K44 hN
  refine pq_g (fun g46 => ?_)
  have z47 := wk_z (i := 0) (f := 256) w45 rfl z_a0
  refine pq_g (fun g48 => ?_)
  have z49 := wk_z (i := 0) (f := 257) w45 rfl z_a0
  refine pq_g (fun g50 => ?_)
  refine pq_g (fun g51 => ?_)
  refine pq_b (wX3_putNumber S Z (sb rfl hS) n _ _ _ _ w45.1 z47) (fun r52 K53 => ?_)
  have w54 := wk_t w45 K53 hN
  refine pq_g (fun g55 => ?_)
  have z56 := wk_z (i := 0) (f := 256) w54 rfl z_a0
  refine pq_g (fun g57 => ?_)
  refine pq_b (wX3_putNumber S Z (sb rfl hS) n _ _ _ _ w54.1 z56) (fun r58 K59 => ?_)
  have w60 := wk_t w54 K59 hN
  exact pq_s w60
theorem wX9_head (S Z : Nat → Prop) {hx N : Nat} (hS : ∀ x, fe_mem lX9_head x = true → S x) (n : Nat) (a0 : Nat) (a1 : Int32) (a2 : Int32) (M : FM) (w : WI Z hx N M) (z_a0 : Z a0) : pq (FX9_head n a0 a1 a2 M) (QV S Z hx N M) := wX9_head_0 S Z hS n a0 a1 a2 M w z_a0
def lX9_lay : List Nat := [262, 1261]
theorem wX9_lay_98 (S Z : Nat → Prop) {hx N : Nat} (hS : ∀ x, fe_mem lX9_lay x = true → S x) (n : Nat) (k16 : Nat → Nat → FM → Option (Int32 × FM)) (hk16 : ∀ (a0 : Nat) (a1 : Nat) (M : FM), WI Z hx N M → Z a0 → Z a1 → pq (k16 a0 a1 M) (QA S Z hx N M)) (k43 : Nat → Nat → Int32 → Int32 → FM → Option (Int32 × FM)) (hk43 : ∀ (a0 : Nat) (a1 : Nat) (a2 : Int32) (a3 : Int32) (M : FM), WI Z hx N M → Z a0 → Z a1 → pq (k43 a0 a1 a2 a3 M) (QA S Z hx N M)) (k51 : Nat → Nat → Int32 → Int32 → FM → Option (Int32 × FM)) (hk51 : ∀ (a0 : Nat) (a1 : Nat) (a2 : Int32) (a3 : Int32) (M : FM), WI Z hx N M → Z a0 → Z a1 → pq (k51 a0 a1 a2 a3 M) (QA S Z hx N M)) (k98 : Nat → Int32 → FM → Option (Int32 × FM)) (hk98 : ∀ (a0 : Nat) (a2 : Int32) (M : FM), WI Z hx N M → Z a0 → pq (k98 a0 a2 M) (QA S Z hx N M)) (a0 : Nat) (a2 : Int32) (M : FM) (w : WI Z hx N M) (z_a0 : Z a0) : pq (FX9_lay_98 n k16 k43 k51 k98 a0 a2 M) (QA S Z hx N M) := by
  have hN := w.2.2.1
  have w0 := wk_r (S := S) w
  delta FX9_lay_98 BX9_lay_98
  refine pq_fi (fun _ => ?_) (fun _ => ?_)
  · refine pq_g (fun g1 => ?_)
    have z2 := wk_z (i := 0) (f := 256) w0 rfl z_a0
    refine pq_g (fun g3 => ?_)
    refine pq_b (wX3_addNumber S Z (sb rfl hS) n _ _ _ w0.1 z2) (fun r4 K5 => ?_)
    have w6 := wk_t w0 K5 hN
    refine pq_g (fun g7 => ?_)
    have z8 := wk_z (i := 0) (f := 256) w6 rfl z_a0
    refine pq_g (fun g9 => ?_)
    refine pq_g (fun g10 => ?_)
    have z11 := wk_z (i := 0) (f := 256) w6 rfl z_a0
    refine pq_g (fun g12 => ?_)
    refine pq_g (fun g13 => ?_)
    have z14 := wk_z (i := 0) (f := 256) w6 rfl z_a0
    refine pq_g (fun g15 => ?_)
    have z16 := wk_z (i := 0) (f := 257) w6 rfl z_a0
    refine pq_g (fun g17 => ?_)
    have z18 := wk_z (i := 0) (f := 257) w6 rfl z_a0
    refine pq_g (fun g19 => ?_)
    refine pq_g (fun g20 => ?_)
    refine pq_b (wX3_addAll S Z (sb rfl hS) _ _ _ _ _ w6.1 z14 z16) (fun r21 K22 => ?_)
    have w23 := wk_t w6 K22 hN
    refine pq_g (fun g24 => ?_)
    refine pq_b (wX9_head S Z (sb rfl hS) n _ _ _ _ w23.1 z_a0) (fun r25 K26 => ?_)
    have w27 := wk_t w23 K26 hN
    refine pq_g (fun g28 => ?_)
    have z29 := wk_z (i := 0) (f := 256) w27 rfl z_a0
    refine pq_g (fun g30 => ?_)
    exact pq_s w27
  · refine pq_g (fun g31 => ?_)
    have z32 := wk_z (i := 0) (f := 256) w0 rfl z_a0
    refine pq_g (fun g33 => ?_)
    refine pq_b (wX3_addNumber S Z (sb rfl hS) n _ _ _ w0.1 z32) (fun r34 K35 => ?_)
    have w36 := wk_t w0 K35 hN
    exact q_tA hN w36 (hk98 _ _ _ w36.1 z_a0)
theorem wX9_lay_51 (S Z : Nat → Prop) {hx N : Nat} (hS : ∀ x, fe_mem lX9_lay x = true → S x) (n : Nat) (k16 : Nat → Nat → FM → Option (Int32 × FM)) (hk16 : ∀ (a0 : Nat) (a1 : Nat) (M : FM), WI Z hx N M → Z a0 → Z a1 → pq (k16 a0 a1 M) (QA S Z hx N M)) (k43 : Nat → Nat → Int32 → Int32 → FM → Option (Int32 × FM)) (hk43 : ∀ (a0 : Nat) (a1 : Nat) (a2 : Int32) (a3 : Int32) (M : FM), WI Z hx N M → Z a0 → Z a1 → pq (k43 a0 a1 a2 a3 M) (QA S Z hx N M)) (k51 : Nat → Nat → Int32 → Int32 → FM → Option (Int32 × FM)) (hk51 : ∀ (a0 : Nat) (a1 : Nat) (a2 : Int32) (a3 : Int32) (M : FM), WI Z hx N M → Z a0 → Z a1 → pq (k51 a0 a1 a2 a3 M) (QA S Z hx N M)) (k98 : Nat → Int32 → FM → Option (Int32 × FM)) (hk98 : ∀ (a0 : Nat) (a2 : Int32) (M : FM), WI Z hx N M → Z a0 → pq (k98 a0 a2 M) (QA S Z hx N M)) (a0 : Nat) (a1 : Nat) (a2 : Int32) (a3 : Int32) (M : FM) (w : WI Z hx N M) (z_a0 : Z a0) (z_a1 : Z a1) : pq (FX9_lay_51 n k16 k43 k51 k98 a0 a1 a2 a3 M) (QA S Z hx N M) := by
  have hN := w.2.2.1
  have w0 := wk_r (S := S) w
  delta FX9_lay_51 BX9_lay_51
  refine pq_g (fun g1 => ?_)
  have z2 := wk_z (i := 0) (f := 264) w0 rfl z_a1
  have f3 := sS_264 w0.1.1 g1
  refine pq_g (fun g4 => ?_)
  have z5 := fun i => wk_ze (i := i) w0 rfl g4.1 f3 rfl z2
  refine pq_g (fun g6 => ?_)
  refine pq_fi (fun _ => ?_) (fun _ => ?_)
  · refine pq_g (fun g7 => ?_)
    have z8 := wk_z (i := 0) (f := 264) w0 rfl z_a1
    have f9 := sS_264 w0.1.1 g7
    refine pq_g (fun g10 => ?_)
    have z11 := fun i => wk_ze (i := i) w0 rfl g10.1 f9 rfl z8
    refine pq_g (fun g12 => ?_)
    refine pq_b (wX9_node S Z (sb rfl hS) n _ _ _ _ w0.1 z_a0 z_a1 (z11 _)) (fun r13 K14 => ?_)
    have w15 := wk_t w0 K14 hN
    exact q_tA hN w15 (hk43 _ _ _ _ _ w15.1 z_a0 z_a1)
  · refine pq_g (fun g16 => ?_)
    have z17 := wk_z (i := 0) (f := 256) w0 rfl z_a0
    refine pq_g (fun g18 => ?_)
    refine pq_b (wX3_addNumber S Z (sb rfl hS) n _ _ _ w0.1 z17) (fun r19 K20 => ?_)
    have w21 := wk_t w0 K20 hN
    exact q_tA hN w21 (hk51 _ _ _ _ _ w21.1 z_a0 z_a1)
theorem wX9_lay_43 (S Z : Nat → Prop) {hx N : Nat} (hS : ∀ x, fe_mem lX9_lay x = true → S x) (n : Nat) (k16 : Nat → Nat → FM → Option (Int32 × FM)) (hk16 : ∀ (a0 : Nat) (a1 : Nat) (M : FM), WI Z hx N M → Z a0 → Z a1 → pq (k16 a0 a1 M) (QA S Z hx N M)) (k43 : Nat → Nat → Int32 → Int32 → FM → Option (Int32 × FM)) (hk43 : ∀ (a0 : Nat) (a1 : Nat) (a2 : Int32) (a3 : Int32) (M : FM), WI Z hx N M → Z a0 → Z a1 → pq (k43 a0 a1 a2 a3 M) (QA S Z hx N M)) (k51 : Nat → Nat → Int32 → Int32 → FM → Option (Int32 × FM)) (hk51 : ∀ (a0 : Nat) (a1 : Nat) (a2 : Int32) (a3 : Int32) (M : FM), WI Z hx N M → Z a0 → Z a1 → pq (k51 a0 a1 a2 a3 M) (QA S Z hx N M)) (k98 : Nat → Int32 → FM → Option (Int32 × FM)) (hk98 : ∀ (a0 : Nat) (a2 : Int32) (M : FM), WI Z hx N M → Z a0 → pq (k98 a0 a2 M) (QA S Z hx N M)) (a0 : Nat) (a1 : Nat) (a2 : Int32) (a3 : Int32) (M : FM) (w : WI Z hx N M) (z_a0 : Z a0) (z_a1 : Z a1) : pq (FX9_lay_43 n k16 k43 k51 k98 a0 a1 a2 a3 M) (QA S Z hx N M) := by
  have hN := w.2.2.1
  have w0 := wk_r (S := S) w
  delta FX9_lay_43 BX9_lay_43
  refine pq_g (fun g1 => ?_)
  refine pq_fi (fun _ => ?_) (fun _ => ?_)
  · exact q_tA hN w0 (hk98 _ _ _ w0.1 z_a0)
  · exact q_tA hN w0 (hk51 _ _ _ _ _ w0.1 z_a0 z_a1)
theorem wX9_lay_16 (S Z : Nat → Prop) {hx N : Nat} (hS : ∀ x, fe_mem lX9_lay x = true → S x) (n : Nat) (k16 : Nat → Nat → FM → Option (Int32 × FM)) (hk16 : ∀ (a0 : Nat) (a1 : Nat) (M : FM), WI Z hx N M → Z a0 → Z a1 → pq (k16 a0 a1 M) (QA S Z hx N M)) (k43 : Nat → Nat → Int32 → Int32 → FM → Option (Int32 × FM)) (hk43 : ∀ (a0 : Nat) (a1 : Nat) (a2 : Int32) (a3 : Int32) (M : FM), WI Z hx N M → Z a0 → Z a1 → pq (k43 a0 a1 a2 a3 M) (QA S Z hx N M)) (k51 : Nat → Nat → Int32 → Int32 → FM → Option (Int32 × FM)) (hk51 : ∀ (a0 : Nat) (a1 : Nat) (a2 : Int32) (a3 : Int32) (M : FM), WI Z hx N M → Z a0 → Z a1 → pq (k51 a0 a1 a2 a3 M) (QA S Z hx N M)) (k98 : Nat → Int32 → FM → Option (Int32 × FM)) (hk98 : ∀ (a0 : Nat) (a2 : Int32) (M : FM), WI Z hx N M → Z a0 → pq (k98 a0 a2 M) (QA S Z hx N M)) (a0 : Nat) (a1 : Nat) (M : FM) (w : WI Z hx N M) (z_a0 : Z a0) (z_a1 : Z a1) : pq (FX9_lay_16 n k16 k43 k51 k98 a0 a1 M) (QA S Z hx N M) := by
  have hN := w.2.2.1
  have w0 := wk_r (S := S) w
  delta FX9_lay_16 BX9_lay_16
  refine pq_g (fun g1 => ?_)
  have z2 := wk_z (i := 0) (f := 256) w0 rfl z_a0
  refine pq_g (fun g3 => ?_)
  refine pq_fi (fun _ => ?_) (fun _ => ?_)
  · exact q_tA hN w0 (hk43 _ _ _ _ _ w0.1 z_a0 z_a1)
  · refine pq_g (fun g4 => ?_)
    have z5 := wk_z (i := 0) (f := 256) w0 rfl z_a0
    refine pq_g (fun g6 => ?_)
    refine pq_b (wX3_addNumber S Z (sb rfl hS) n _ _ _ w0.1 z5) (fun r7 K8 => ?_)
    have w9 := wk_t w0 K8 hN
    exact q_tA hN w9 (hk16 _ _ _ w9.1 z_a0 z_a1)
theorem wX9_lay_0 (S Z : Nat → Prop) {hx N : Nat} (hS : ∀ x, fe_mem lX9_lay x = true → S x) (n : Nat) (k16 : Nat → Nat → FM → Option (Int32 × FM)) (hk16 : ∀ (a0 : Nat) (a1 : Nat) (M : FM), WI Z hx N M → Z a0 → Z a1 → pq (k16 a0 a1 M) (QA S Z hx N M)) (k43 : Nat → Nat → Int32 → Int32 → FM → Option (Int32 × FM)) (hk43 : ∀ (a0 : Nat) (a1 : Nat) (a2 : Int32) (a3 : Int32) (M : FM), WI Z hx N M → Z a0 → Z a1 → pq (k43 a0 a1 a2 a3 M) (QA S Z hx N M)) (k51 : Nat → Nat → Int32 → Int32 → FM → Option (Int32 × FM)) (hk51 : ∀ (a0 : Nat) (a1 : Nat) (a2 : Int32) (a3 : Int32) (M : FM), WI Z hx N M → Z a0 → Z a1 → pq (k51 a0 a1 a2 a3 M) (QA S Z hx N M)) (k98 : Nat → Int32 → FM → Option (Int32 × FM)) (hk98 : ∀ (a0 : Nat) (a2 : Int32) (M : FM), WI Z hx N M → Z a0 → pq (k98 a0 a2 M) (QA S Z hx N M)) (a0 : Nat) (a1 : Nat) (M : FM) (w : WI Z hx N M) (z_a0 : Z a0) (z_a1 : Z a1) : pq (FX9_lay_0 n k16 k43 k51 k98 a0 a1 M) (QA S Z hx N M) := by
  have hN := w.2.2.1
  have w0 := wk_r (S := S) w
  delta FX9_lay_0 BX9_lay_0
  refine pq_g (fun g1 => ?_)
  have z2 := wk_z (i := 0) (f := 257) w0 rfl z_a0
  refine pq_g (fun g3 => ?_)
  extract_lets +onlyGivenNames M5
  have w4 : Wk S Z hx N M M5 := wk_fI hN w0 rfl rfl g3 z2 (Or.inr (hS 262 rfl))
  refine pq_g (fun g6 => ?_)
  have z7 := wk_z (i := 0) (f := 256) w4 rfl z_a0
  refine pq_g (fun g8 => ?_)
  extract_lets +onlyGivenNames M10
  have w9 : Wk S Z hx N M M10 := wk_fI hN w4 rfl rfl g8 z7 (Or.inr (hS 262 rfl))
  exact q_tA hN w9 (hk16 _ _ _ w9.1 z_a0 z_a1)
theorem wX9_lay_L (S Z : Nat → Prop) {hx N : Nat} (hS : ∀ x, fe_mem lX9_lay x = true → S x) (n : Nat) : ∀ j : Nat, (∀ (a0 : Nat) (a1 : Nat) (M : FM), WI Z hx N M → Z a0 → Z a1 → pq ((FX9_lay_L n j).1 a0 a1 M) (QA S Z hx N M)) ∧ (∀ (a0 : Nat) (a1 : Nat) (a2 : Int32) (a3 : Int32) (M : FM), WI Z hx N M → Z a0 → Z a1 → pq ((FX9_lay_L n j).2.1 a0 a1 a2 a3 M) (QA S Z hx N M)) ∧ (∀ (a0 : Nat) (a1 : Nat) (a2 : Int32) (a3 : Int32) (M : FM), WI Z hx N M → Z a0 → Z a1 → pq ((FX9_lay_L n j).2.2.1 a0 a1 a2 a3 M) (QA S Z hx N M)) ∧ (∀ (a0 : Nat) (a2 : Int32) (M : FM), WI Z hx N M → Z a0 → pq ((FX9_lay_L n j).2.2.2 a0 a2 M) (QA S Z hx N M))
  | 0 => ⟨by intros; exact pq_0, by intros; exact pq_0, by intros; exact pq_0, by intros; exact pq_0⟩
  | j + 1 => ⟨fun a0 a1 M w => wX9_lay_16 S Z hS n _ (wX9_lay_L S Z hS n j).1 _ (wX9_lay_L S Z hS n j).2.1 _ (wX9_lay_L S Z hS n j).2.2.1 _ (wX9_lay_L S Z hS n j).2.2.2 a0 a1 M w, fun a0 a1 a2 a3 M w => wX9_lay_43 S Z hS n _ (wX9_lay_L S Z hS n j).1 _ (wX9_lay_L S Z hS n j).2.1 _ (wX9_lay_L S Z hS n j).2.2.1 _ (wX9_lay_L S Z hS n j).2.2.2 a0 a1 a2 a3 M w, fun a0 a1 a2 a3 M w => wX9_lay_51 S Z hS n _ (wX9_lay_L S Z hS n j).1 _ (wX9_lay_L S Z hS n j).2.1 _ (wX9_lay_L S Z hS n j).2.2.1 _ (wX9_lay_L S Z hS n j).2.2.2 a0 a1 a2 a3 M w, fun a0 a2 M w => wX9_lay_98 S Z hS n _ (wX9_lay_L S Z hS n j).1 _ (wX9_lay_L S Z hS n j).2.1 _ (wX9_lay_L S Z hS n j).2.2.1 _ (wX9_lay_L S Z hS n j).2.2.2 a0 a2 M w⟩
theorem wX9_lay (S Z : Nat → Prop) {hx N : Nat} (hS : ∀ x, fe_mem lX9_lay x = true → S x) (n : Nat) (a0 : Nat) (a1 : Nat) (M : FM) (w : WI Z hx N M) (z_a0 : Z a0) (z_a1 : Z a1) : pq (FX9_lay n a0 a1 M) (QA S Z hx N M) := wX9_lay_0 S Z hS n _ (wX9_lay_L S Z hS n n).1 _ (wX9_lay_L S Z hS n n).2.1 _ (wX9_lay_L S Z hS n n).2.2.1 _ (wX9_lay_L S Z hS n n).2.2.2 a0 a1 M w z_a0 z_a1
def lX4_describe : List Nat := [249, 250, 251, 252, 253, 254, 255, 260, 262, 266, 267, 268, 1261]
theorem wX4_describe_73 (S Z : Nat → Prop) {hx N : Nat} (hS : ∀ x, fe_mem lX4_describe x = true → S x) (n : Nat) (k73 : Nat → Int32 → Int32 → FM → Option (Int32 × FM)) (hk73 : ∀ (a0 : Nat) (a1 : Int32) (a2 : Int32) (M : FM), WI Z hx N M → Z a0 → pq (k73 a0 a1 a2 M) (QA S Z hx N M)) (a0 : Nat) (a1 : Int32) (a2 : Int32) (M : FM) (w : WI Z hx N M) (z_a0 : Z a0) : pq (FX4_describe_73 n k73 a0 a1 a2 M) (QA S Z hx N M) := by
  have hN := w.2.2.1
  have w0 := wk_r (S := S) w
  delta FX4_describe_73 BX4_describe_73
  refine pq_fi (fun _ => ?_) (fun _ => ?_)
  · refine pq_g (fun g1 => ?_)
    have z2 := wk_z (i := 0) (f := 56) w0 rfl z_a0
    refine pq_g (fun g3 => ?_)
    refine pq_b (wX5_close S Z (sb rfl hS) _ _ w0.1 z2) (fun r4 K5 => ?_)
    have w6 := wk_t w0 K5 hN
    refine pq_g (fun g7 => ?_)
    refine pq_b (wX4_open S Z (sb rfl hS) n _ _ _ w6.1 z_a0 (wk_zc w6 rfl)) (fun r8 K9 => ?_)
    have w10 := wk_t w6 K9 hN
    refine pq_g (fun g11 => ?_)
    refine pq_b (wX4_string S Z (sb rfl hS) n _ _ _ _ w10.1 z_a0 (wk_zc w10 rfl) (wk_zc w10 rfl)) (fun r12 K13 => ?_)
    have w14 := wk_t w10 K13 hN
    refine pq_g (fun g15 => ?_)
    refine pq_b (wX4_window S Z (sb rfl hS) n _ _ _ _ w14.1 z_a0) (fun r16 K17 => ?_)
    have w18 := wk_t w14 K17 hN
    refine pq_g (fun g19 => ?_)
    have z20 := wk_z (i := 0) (f := 56) w18 rfl z_a0
    refine pq_g (fun g21 => ?_)
    refine pq_b (wX5_close S Z (sb rfl hS) _ _ w18.1 z20) (fun r22 K23 => ?_)
    have w24 := wk_t w18 K23 hN
    refine pq_g (fun g25 => ?_)
    refine pq_b (wX4_devices S Z (sb rfl hS) n _ _ _ w24.1 z_a0) (fun r26 K27 => ?_)
    have w28 := wk_t w24 K27 hN
    refine pq_g (fun g29 => ?_)
    have z30 := wk_z (i := 0) (f := 57) w28 rfl z_a0
    refine pq_g (fun g31 => ?_)
    have z32 := wk_z (i := 0) (f := 56) w28 rfl z_a0
    refine pq_g (fun g33 => ?_)
    refine pq_b (wX9_lay S Z (sb rfl hS) n _ _ _ w28.1 z30 z32) (fun r34 K35 => ?_)
    have w36 := wk_t w28 K35 hN
    exact pq_s w36
  · refine pq_g (fun g37 => ?_)
    refine pq_b (wX4_processor S Z (sb rfl hS) n _ _ _ w0.1 z_a0) (fun r38 K39 => ?_)
    have w40 := wk_t w0 K39 hN
    exact q_tA hN w40 (hk73 _ _ _ _ w40.1 z_a0)
theorem wX4_describe_0 (S Z : Nat → Prop) {hx N : Nat} (hS : ∀ x, fe_mem lX4_describe x = true → S x) (n : Nat) (k73 : Nat → Int32 → Int32 → FM → Option (Int32 × FM)) (hk73 : ∀ (a0 : Nat) (a1 : Int32) (a2 : Int32) (M : FM), WI Z hx N M → Z a0 → pq (k73 a0 a1 a2 M) (QA S Z hx N M)) (a0 : Nat) (a1 : Int32) (M : FM) (w : WI Z hx N M) (z_a0 : Z a0) : pq (FX4_describe_0 n k73 a0 a1 M) (QA S Z hx N M) := by
  have hN := w.2.2.1
  have w0 := wk_r (S := S) w
  delta FX4_describe_0 BX4_describe_0
  refine pq_g (fun g1 => ?_)
  have z2 := wk_z (i := 0) (f := 56) w0 rfl z_a0
  refine pq_g (fun g3 => ?_)
  refine pq_b (wX5_clear S Z (sb rfl hS) _ _ w0.1 z2) (fun r4 K5 => ?_)
  have w6 := wk_t w0 K5 hN
  refine pq_g (fun g7 => ?_)
  refine pq_b (wX4_cells S Z (sb rfl hS) n _ _ _ _ w6.1 z_a0) (fun r8 K9 => ?_)
  have w10 := wk_t w6 K9 hN
  refine pq_g (fun g11 => ?_)
  refine pq_b (wX4_string S Z (sb rfl hS) n _ _ _ _ w10.1 z_a0 (wk_zc w10 rfl) (wk_zc w10 rfl)) (fun r12 K13 => ?_)
  have w14 := wk_t w10 K13 hN
  refine pq_g (fun g15 => ?_)
  refine pq_b (wX4_string S Z (sb rfl hS) n _ _ _ _ w14.1 z_a0 (wk_zc w14 rfl) (wk_zc w14 rfl)) (fun r16 K17 => ?_)
  have w18 := wk_t w14 K17 hN
  refine pq_g (fun g19 => ?_)
  refine pq_b (wX4_open S Z (sb rfl hS) n _ _ _ w18.1 z_a0 (wk_zc w18 rfl)) (fun r20 K21 => ?_)
  have w22 := wk_t w18 K21 hN
  refine pq_g (fun g23 => ?_)
  refine pq_b (wX4_string S Z (sb rfl hS) n _ _ _ _ w22.1 z_a0 (wk_zc w22 rfl) (wk_zc w22 rfl)) (fun r24 K25 => ?_)
  have w26 := wk_t w22 K25 hN
  refine pq_g (fun g27 => ?_)
  have z28 := wk_z (i := 0) (f := 56) w26 rfl z_a0
  refine pq_g (fun g29 => ?_)
  refine pq_b (wX5_close S Z (sb rfl hS) _ _ w26.1 z28) (fun r30 K31 => ?_)
  have w32 := wk_t w26 K31 hN
  refine pq_g (fun g33 => ?_)
  refine pq_b (wX4_open S Z (sb rfl hS) n _ _ _ w32.1 z_a0 (wk_zc w32 rfl)) (fun r34 K35 => ?_)
  have w36 := wk_t w32 K35 hN
  refine pq_g (fun g37 => ?_)
  refine pq_b (wX4_cells S Z (sb rfl hS) n _ _ _ _ w36.1 z_a0) (fun r38 K39 => ?_)
  have w40 := wk_t w36 K39 hN
  refine pq_g (fun g41 => ?_)
  refine pq_b (wX4_number S Z (sb rfl hS) n _ _ _ _ w40.1 z_a0 (wk_zc w40 rfl)) (fun r42 K43 => ?_)
  have w44 := wk_t w40 K43 hN
  exact q_tA hN w44 (hk73 _ _ _ _ w44.1 z_a0)
theorem wX4_describe_L (S Z : Nat → Prop) {hx N : Nat} (hS : ∀ x, fe_mem lX4_describe x = true → S x) (n : Nat) : ∀ j : Nat, ∀ (a0 : Nat) (a1 : Int32) (a2 : Int32) (M : FM), WI Z hx N M → Z a0 → pq (FX4_describe_L73 n j a0 a1 a2 M) (QA S Z hx N M)
  | 0 => by intros; exact pq_0
  | j + 1 => fun a0 a1 a2 M w => wX4_describe_73 S Z hS n _ (wX4_describe_L S Z hS n j) a0 a1 a2 M w
theorem wX4_describe (S Z : Nat → Prop) {hx N : Nat} (hS : ∀ x, fe_mem lX4_describe x = true → S x) (n : Nat) (a0 : Nat) (a1 : Int32) (M : FM) (w : WI Z hx N M) (z_a0 : Z a0) : pq (FX4_describe n a0 a1 M) (QA S Z hx N M) := wX4_describe_0 S Z hS n _ (wX4_describe_L S Z hS n n) a0 a1 M w z_a0
def lX11_pageOf : List Nat := []
theorem wX11_pageOf_0 (S Z : Nat → Prop) {hx N : Nat} (hS : ∀ x, fe_mem lX11_pageOf x = true → S x) (a0 : Int64) (M : FM) (w : WI Z hx N M) : pq (FX11_pageOf_0 a0 M) (QA S Z hx N M) := by
  have hN := w.2.2.1
  have w0 := wk_r (S := S) w
  delta FX11_pageOf_0 BX11_pageOf_0
  exact pq_s w0
theorem wX11_pageOf (S Z : Nat → Prop) {hx N : Nat} (hS : ∀ x, fe_mem lX11_pageOf x = true → S x) (a0 : Int64) (M : FM) (w : WI Z hx N M) : pq (FX11_pageOf a0 M) (QA S Z hx N M) := wX11_pageOf_0 S Z hS a0 M w 
def lX11_placeOf : List Nat := []
theorem wX11_placeOf_0 (S Z : Nat → Prop) {hx N : Nat} (hS : ∀ x, fe_mem lX11_placeOf x = true → S x) (a0 : Int64) (M : FM) (w : WI Z hx N M) : pq (FX11_placeOf_0 a0 M) (QA S Z hx N M) := by
  have hN := w.2.2.1
  have w0 := wk_r (S := S) w
  delta FX11_placeOf_0 BX11_placeOf_0
  exact pq_s w0
theorem wX11_placeOf (S Z : Nat → Prop) {hx N : Nat} (hS : ∀ x, fe_mem lX11_placeOf x = true → S x) (a0 : Int64) (M : FM) (w : WI Z hx N M) : pq (FX11_placeOf a0 M) (QA S Z hx N M) := wX11_placeOf_0 S Z hS a0 M w 
def lJ5_min : List Nat := []
theorem wJ5_min_10 (S Z : Nat → Prop) {hx N : Nat} (hS : ∀ x, fe_mem lJ5_min x = true → S x) (s0 : Int32) (M : FM) (w : WI Z hx N M) : pq (FJ5_min_10 s0 M) (QA S Z hx N M) := by
  have hN := w.2.2.1
  have w0 := wk_r (S := S) w
  delta FJ5_min_10 BJ5_min_10
  exact pq_s w0
theorem wJ5_min_0 (S Z : Nat → Prop) {hx N : Nat} (hS : ∀ x, fe_mem lJ5_min x = true → S x) (a0 : Int32) (a1 : Int32) (M : FM) (w : WI Z hx N M) : pq (FJ5_min_0 a0 a1 M) (QA S Z hx N M) := by
  have hN := w.2.2.1
  have w0 := wk_r (S := S) w
  delta FJ5_min_0 BJ5_min_0
  refine pq_fi (fun _ => ?_) (fun _ => ?_)
  · exact q_tA hN w0 (wJ5_min_10 S Z hS _ _ w0.1 )
  · exact q_tA hN w0 (wJ5_min_10 S Z hS _ _ w0.1 )
theorem wJ5_min (S Z : Nat → Prop) {hx N : Nat} (hS : ∀ x, fe_mem lJ5_min x = true → S x) (a0 : Int32) (a1 : Int32) (M : FM) (w : WI Z hx N M) : pq (FJ5_min a0 a1 M) (QA S Z hx N M) := wJ5_min_0 S Z hS a0 a1 M w 
def lX91_init : List Nat := []
theorem wX91_init_0 (S Z : Nat → Prop) {hx N : Nat} (hS : ∀ x, fe_mem lX91_init x = true → S x) (a0 : Nat) (M : FM) (w : WI Z hx N M) (z_a0 : Z a0) (t_a0 : N ≤ a0) : pq (FX91_init_0 a0 M) (QV S Z hx N M) := by
  have hN := w.2.2.1
  have w0 := wk_r (S := S) w
  delta FX91_init_0 BX91_init_0
  refine pq_n ?_
  refine pq_g (fun _ => ?_)
  have z1 := wk_zn w0
  extract_lets +onlyGivenNames x4 M3
  have w2 : Wk S Z hx N M M3 := wk_newa hN w0 rfl rfl ty_S4 (Or.inl rfl)
  have f6 : Sf M3 _ 201 := sf_new (t := 902) w0.1.1 rfl
  refine pq_g (fun g7 => ?_)
  extract_lets +onlyGivenNames M9
  have w8 : Wk S Z hx N M M9 := wk_fRs (s := 201) hN w2 rfl rfl g7 z_a0 (Or.inl t_a0) z1 rfl f6 rfl
  exact pq_s w8
theorem wX91_init (S Z : Nat → Prop) {hx N : Nat} (hS : ∀ x, fe_mem lX91_init x = true → S x) (a0 : Nat) (M : FM) (w : WI Z hx N M) (z_a0 : Z a0) (t_a0 : N ≤ a0) : pq (FX91_init a0 M) (QV S Z hx N M) := wX91_init_0 S Z hS a0 M w z_a0 t_a0
def lX11_made : List Nat := [1203]
theorem wX11_made_22 (S Z : Nat → Prop) {hx N : Nat} (hS : ∀ x, fe_mem lX11_made x = true → S x) (a0 : Nat) (a1 : Int32) (M : FM) (w : WI Z hx N M) (z_a0 : Z a0) : pq (FX11_made_22 a0 a1 M) (QR S Z hx N M) := by
  have hN := w.2.2.1
  have w0 := wk_r (S := S) w
  delta FX11_made_22 BX11_made_22
  refine pq_g (fun g1 => ?_)
  have z2 := wk_z (i := 0) (f := 203) w0 rfl z_a0
  have f3 := sS_203 w0.1.1 g1
  refine pq_g (fun g4 => ?_)
  have z5 := fun i => wk_ze (i := i) w0 rfl g4.1 f3 rfl z2
  exact pq_s ⟨w0, (z5 _)⟩
theorem wX11_made_0 (S Z : Nat → Prop) {hx N : Nat} (hS : ∀ x, fe_mem lX11_made x = true → S x) (a0 : Nat) (a1 : Int32) (M : FM) (w : WI Z hx N M) (z_a0 : Z a0) : pq (FX11_made_0 a0 a1 M) (QR S Z hx N M) := by
  have hN := w.2.2.1
  have w0 := wk_r (S := S) w
  delta FX11_made_0 BX11_made_0
  refine pq_g (fun g1 => ?_)
  have z2 := wk_z (i := 0) (f := 203) w0 rfl z_a0
  have f3 := sS_203 w0.1.1 g1
  refine pq_g (fun g4 => ?_)
  have z5 := fun i => wk_ze (i := i) w0 rfl g4.1 f3 rfl z2
  refine pq_fi (fun _ => ?_) (fun _ => ?_)
  · refine pq_g (fun g6 => ?_)
    have z7 := wk_z (i := 0) (f := 203) w0 rfl z_a0
    have f8 := sS_203 w0.1.1 g6
    have n9 := wk_N w0
    have z10 := wk_zn w0
    extract_lets +onlyGivenNames x13 M12
    have w11 : Wk S Z hx N M M12 := wk_new hN w0 rfl rfl ty_S4
    have K14 : Wk S Z hx N M M12 := wk_new (wk_N w0) (wk_r w0.1) rfl rfl ty_S4
    have f15 := sf_k w0.1.1 K14 f8
    refine pq_g (fun g16 => ?_)
    refine pq_b (wX91_init S Z (sb rfl hS) _ _ w11.1 z10 n9) (fun r17 K18 => ?_)
    have w19 := wk_t w11 K18 hN
    have f20 := sf_k w11.1.1 K18 f15
    refine pq_g (fun g21 => ?_)
    refine pq_g (fun _ => ?_)
    extract_lets +onlyGivenNames M23
    have w22 : Wk S Z hx N M M23 := wk_aR hN w19 rfl g21.1 z7 (sy_s f20 (hS 1203 rfl)) z10 rfl rfl g21.2
    exact q_tR hN w22 (wX11_made_22 S Z hS _ _ _ w22.1 z_a0)
  · exact q_tR hN w0 (wX11_made_22 S Z hS _ _ _ w0.1 z_a0)
theorem wX11_made (S Z : Nat → Prop) {hx N : Nat} (hS : ∀ x, fe_mem lX11_made x = true → S x) (a0 : Nat) (a1 : Int32) (M : FM) (w : WI Z hx N M) (z_a0 : Z a0) : pq (FX11_made a0 a1 M) (QR S Z hx N M) := wX11_made_0 S Z hS a0 a1 M w z_a0
def lX91_mask : List Nat := []
theorem wX91_mask_20 (S Z : Nat → Prop) {hx N : Nat} (hS : ∀ x, fe_mem lX91_mask x = true → S x) (s0 : Int64) (M : FM) (w : WI Z hx N M) : pq (FX91_mask_20 s0 M) (QA S Z hx N M) := by
  have hN := w.2.2.1
  have w0 := wk_r (S := S) w
  delta FX91_mask_20 BX91_mask_20
  exact pq_s w0
theorem wX91_mask_0 (S Z : Nat → Prop) {hx N : Nat} (hS : ∀ x, fe_mem lX91_mask x = true → S x) (a0 : Int32) (M : FM) (w : WI Z hx N M) : pq (FX91_mask_0 a0 M) (QA S Z hx N M) := by
  have hN := w.2.2.1
  have w0 := wk_r (S := S) w
  delta FX91_mask_0 BX91_mask_0
  refine pq_fi (fun _ => ?_) (fun _ => ?_)
  · exact q_tA hN w0 (wX91_mask_20 S Z hS _ _ w0.1 )
  · exact q_tA hN w0 (wX91_mask_20 S Z hS _ _ w0.1 )
theorem wX91_mask (S Z : Nat → Prop) {hx N : Nat} (hS : ∀ x, fe_mem lX91_mask x = true → S x) (a0 : Int32) (M : FM) (w : WI Z hx N M) : pq (FX91_mask a0 M) (QA S Z hx N M) := wX91_mask_0 S Z hS a0 M w 
def lX91_put : List Nat := [1201]
theorem wX91_put_106 (S Z : Nat → Prop) {hx N : Nat} (hS : ∀ x, fe_mem lX91_put x = true → S x) (M : FM) (w : WI Z hx N M) : pq (FX91_put_106 M) (QV S Z hx N M) := by
  have hN := w.2.2.1
  have w0 := wk_r (S := S) w
  delta FX91_put_106 BX91_put_106
  exact pq_s w0
theorem wX91_put_0 (S Z : Nat → Prop) {hx N : Nat} (hS : ∀ x, fe_mem lX91_put x = true → S x) (a0 : Nat) (a1 : Int32) (a2 : Int32) (a3 : Int64) (M : FM) (w : WI Z hx N M) (z_a0 : Z a0) : pq (FX91_put_0 a0 a1 a2 a3 M) (QV S Z hx N M) := by
  have hN := w.2.2.1
  have w0 := wk_r (S := S) w
  delta FX91_put_0 BX91_put_0
  refine pq_b (wX91_mask S Z (sb rfl hS) _ _ w0.1 ) (fun r1 K2 => ?_)
  have w3 := wk_t w0 K2 hN
  refine pq_g (fun g4 => ?_)
  have z5 := wk_z (i := 0) (f := 201) w3 rfl z_a0
  have f6 := sS_201 w3.1.1 g4
  refine pq_g (fun g7 => ?_)
  have z8 := wk_z (i := 0) (f := 201) w3 rfl z_a0
  have f9 := sS_201 w3.1.1 g7
  refine pq_g (fun g10 => ?_)
  refine pq_g (fun g11 => ?_)
  extract_lets +onlyGivenNames M13
  have w12 : Wk S Z hx N M M13 := wk_aL hN w3 rfl g11.1 z5 (sy_s f6 (hS 1201 rfl))
  refine pq_fi (fun _ => ?_) (fun _ => ?_)
  · exact q_tV hN w12 (wX91_put_106 S Z hS _ w12.1 )
  · refine pq_g (fun g14 => ?_)
    have z15 := wk_z (i := 0) (f := 201) w12 rfl z_a0
    have f16 := sS_201 w12.1.1 g14
    refine pq_g (fun g17 => ?_)
    have z18 := wk_z (i := 0) (f := 201) w12 rfl z_a0
    have f19 := sS_201 w12.1.1 g17
    refine pq_g (fun g20 => ?_)
    refine pq_g (fun g21 => ?_)
    extract_lets +onlyGivenNames M23
    have w22 : Wk S Z hx N M M23 := wk_aL hN w12 rfl g21.1 z15 (sy_s f16 (hS 1201 rfl))
    exact q_tV hN w22 (wX91_put_106 S Z hS _ w22.1 )
theorem wX91_put (S Z : Nat → Prop) {hx N : Nat} (hS : ∀ x, fe_mem lX91_put x = true → S x) (a0 : Nat) (a1 : Int32) (a2 : Int32) (a3 : Int64) (M : FM) (w : WI Z hx N M) (z_a0 : Z a0) : pq (FX91_put a0 a1 a2 a3 M) (QV S Z hx N M) := wX91_put_0 S Z hS a0 a1 a2 a3 M w z_a0
def lX12_touch : List Nat := [208]
theorem wX12_touch_33 (S Z : Nat → Prop) {hx N : Nat} (hS : ∀ x, fe_mem lX12_touch x = true → S x) (M : FM) (w : WI Z hx N M) : pq (FX12_touch_33 M) (QV S Z hx N M) := by
  have hN := w.2.2.1
  have w0 := wk_r (S := S) w
  delta FX12_touch_33 BX12_touch_33
  exact pq_s w0
theorem wX12_touch_0 (S Z : Nat → Prop) {hx N : Nat} (hS : ∀ x, fe_mem lX12_touch x = true → S x) (a0 : Nat) (a1 : Int64) (a3 : Int64) (M : FM) (w : WI Z hx N M) (z_a0 : Z a0) : pq (FX12_touch_0 a0 a1 a3 M) (QV S Z hx N M) := by
  have hN := w.2.2.1
  have w0 := wk_r (S := S) w
  delta FX12_touch_0 BX12_touch_0
  refine pq_g (fun g1 => ?_)
  refine pq_fi (fun _ => ?_) (fun _ => ?_)
  · exact q_tV hN w0 (wX12_touch_33 S Z hS _ w0.1 )
  · refine pq_fi (fun _ => ?_) (fun _ => ?_)
    · exact q_tV hN w0 (wX12_touch_33 S Z hS _ w0.1 )
    · refine pq_g (fun g2 => ?_)
      extract_lets +onlyGivenNames M4
      have w3 : Wk S Z hx N M M4 := wk_fI hN w0 rfl rfl g2 z_a0 (Or.inr (hS 208 rfl))
      exact q_tV hN w3 (wX12_touch_33 S Z hS _ w3.1 )
theorem wX12_touch (S Z : Nat → Prop) {hx N : Nat} (hS : ∀ x, fe_mem lX12_touch x = true → S x) (a0 : Nat) (a1 : Int64) (a3 : Int64) (M : FM) (w : WI Z hx N M) (z_a0 : Z a0) : pq (FX12_touch a0 a1 a3 M) (QV S Z hx N M) := wX12_touch_0 S Z hS a0 a1 a3 M w z_a0
def lX11_touch : List Nat := [208]
theorem wX11_touch_14 (S Z : Nat → Prop) {hx N : Nat} (hS : ∀ x, fe_mem lX11_touch x = true → S x) (n : Nat) (k14 : Int64 → Int64 → Nat → Int32 → Int32 → FM → Option (FM)) (hk14 : ∀ (a1 : Int64) (a3 : Int64) (a5 : Nat) (a6 : Int32) (a7 : Int32) (M : FM), WI Z hx N M → Z a5 → Sf M a5 205 → pq (k14 a1 a3 a5 a6 a7 M) (QV S Z hx N M)) (a1 : Int64) (a3 : Int64) (a5 : Nat) (a6 : Int32) (a7 : Int32) (M : FM) (w : WI Z hx N M) (z_a5 : Z a5) (s_a5 : Sf M a5 205) : pq (FX11_touch_14 n k14 a1 a3 a5 a6 a7 M) (QV S Z hx N M) := by
  have hN := w.2.2.1
  have w0 := wk_r (S := S) w
  delta FX11_touch_14 BX11_touch_14
  refine pq_fi (fun _ => ?_) (fun _ => ?_)
  · exact pq_s w0
  · refine pq_g (fun g1 => ?_)
    have z2 := fun i => wk_ze (i := i) w0 rfl g1.1 s_a5 rfl z_a5
    refine pq_g (fun g3 => ?_)
    refine pq_b (wX12_touch S Z (sb rfl hS) _ _ _ _ w0.1 (z2 _)) (fun r4 K5 => ?_)
    have w6 := wk_t w0 K5 hN
    have f7 := sf_k w0.1.1 K5 s_a5
    exact q_tV hN w6 (hk14 _ _ _ _ _ _ w6.1 z_a5 f7)
theorem wX11_touch_0 (S Z : Nat → Prop) {hx N : Nat} (hS : ∀ x, fe_mem lX11_touch x = true → S x) (n : Nat) (k14 : Int64 → Int64 → Nat → Int32 → Int32 → FM → Option (FM)) (hk14 : ∀ (a1 : Int64) (a3 : Int64) (a5 : Nat) (a6 : Int32) (a7 : Int32) (M : FM), WI Z hx N M → Z a5 → Sf M a5 205 → pq (k14 a1 a3 a5 a6 a7 M) (QV S Z hx N M)) (a0 : Nat) (a1 : Int64) (a3 : Int64) (M : FM) (w : WI Z hx N M) (z_a0 : Z a0) : pq (FX11_touch_0 n k14 a0 a1 a3 M) (QV S Z hx N M) := by
  have hN := w.2.2.1
  have w0 := wk_r (S := S) w
  delta FX11_touch_0 BX11_touch_0
  refine pq_g (fun g1 => ?_)
  have z2 := wk_z (i := 0) (f := 205) w0 rfl z_a0
  have f3 := sS_205 w0.1.1 g1
  refine pq_g (fun g4 => ?_)
  exact q_tV hN w0 (hk14 _ _ _ _ _ _ w0.1 z2 f3)
theorem wX11_touch_L (S Z : Nat → Prop) {hx N : Nat} (hS : ∀ x, fe_mem lX11_touch x = true → S x) (n : Nat) : ∀ j : Nat, ∀ (a1 : Int64) (a3 : Int64) (a5 : Nat) (a6 : Int32) (a7 : Int32) (M : FM), WI Z hx N M → Z a5 → Sf M a5 205 → pq (FX11_touch_L14 n j a1 a3 a5 a6 a7 M) (QV S Z hx N M)
  | 0 => by intros; exact pq_0
  | j + 1 => fun a1 a3 a5 a6 a7 M w => wX11_touch_14 S Z hS n _ (wX11_touch_L S Z hS n j) a1 a3 a5 a6 a7 M w
theorem wX11_touch (S Z : Nat → Prop) {hx N : Nat} (hS : ∀ x, fe_mem lX11_touch x = true → S x) (n : Nat) (a0 : Nat) (a1 : Int64) (a3 : Int64) (M : FM) (w : WI Z hx N M) (z_a0 : Z a0) : pq (FX11_touch n a0 a1 a3 M) (QV S Z hx N M) := wX11_touch_0 S Z hS n _ (wX11_touch_L S Z hS n n) a0 a1 a3 M w z_a0
def lX11_store : List Nat := [208, 1201, 1203, 1204]
theorem wX11_store_93 (S Z : Nat → Prop) {hx N : Nat} (hS : ∀ x, fe_mem lX11_store x = true → S x) (n : Nat) (a0 : Nat) (a1 : Int64) (a3 : Int32) (M : FM) (w : WI Z hx N M) (z_a0 : Z a0) : pq (FX11_store_93 n a0 a1 a3 M) (QV S Z hx N M) := by
  have hN := w.2.2.1
  have w0 := wk_r (S := S) w
  delta FX11_store_93 BX11_store_93
  refine pq_g (fun g1 => ?_)
  refine pq_b (wX11_touch S Z (sb rfl hS) n _ _ _ _ w0.1 z_a0) (fun r2 K3 => ?_)
  have w4 := wk_t w0 K3 hN
  exact pq_s w4
theorem wX11_store_0 (S Z : Nat → Prop) {hx N : Nat} (hS : ∀ x, fe_mem lX11_store x = true → S x) (n : Nat) (a0 : Nat) (a1 : Int64) (a3 : Int32) (a4 : Int64) (M : FM) (w : WI Z hx N M) (z_a0 : Z a0) : pq (FX11_store_0 n a0 a1 a3 a4 M) (QV S Z hx N M) := by
  have hN := w.2.2.1
  have w0 := wk_r (S := S) w
  delta FX11_store_0 BX11_store_0
  refine pq_b (wX11_pageOf S Z (sb rfl hS) _ _ w0.1 ) (fun r1 K2 => ?_)
  have w3 := wk_t w0 K2 hN
  refine pq_b (wX11_placeOf S Z (sb rfl hS) _ _ w3.1 ) (fun r4 K5 => ?_)
  have w6 := wk_t w3 K5 hN
  refine pq_b (wJ5_min S Z (sb rfl hS) _ _ _ w6.1 ) (fun r7 K8 => ?_)
  have w9 := wk_t w6 K8 hN
  refine pq_g (fun g10 => ?_)
  refine pq_b (wX11_made S Z (sb rfl hS) _ _ _ w9.1 z_a0) (fun r11 K12 => ?_)
  have w13 := wk_t w9 K12.1 hN
  refine pq_g (fun g14 => ?_)
  refine pq_b (wX91_put S Z (sb rfl hS) _ _ _ _ _ w13.1 K12.2) (fun r15 K16 => ?_)
  have w17 := wk_t w13 K16 hN
  refine pq_g (fun g18 => ?_)
  have z19 := wk_z (i := 0) (f := 204) w17 rfl z_a0
  have f20 := sS_204 w17.1.1 g18
  refine pq_g (fun g21 => ?_)
  refine pq_g (fun g22 => ?_)
  extract_lets +onlyGivenNames M24
  have w23 : Wk S Z hx N M M24 := wk_aL hN w17 rfl g22.1 z19 (sy_s f20 (hS 1204 rfl))
  refine pq_fi (fun _ => ?_) (fun _ => ?_)
  · exact q_tV hN w23 (wX11_store_93 S Z hS n _ _ _ _ w23.1 z_a0)
  · refine pq_g (fun g25 => ?_)
    refine pq_b (wX11_made S Z (sb rfl hS) _ _ _ w23.1 z_a0) (fun r26 K27 => ?_)
    have w28 := wk_t w23 K27.1 hN
    refine pq_g (fun g29 => ?_)
    refine pq_b (wX91_put S Z (sb rfl hS) _ _ _ _ _ w28.1 K27.2) (fun r30 K31 => ?_)
    have w32 := wk_t w28 K31 hN
    refine pq_g (fun g33 => ?_)
    have z34 := wk_z (i := 0) (f := 204) w32 rfl z_a0
    have f35 := sS_204 w32.1.1 g33
    refine pq_g (fun g36 => ?_)
    refine pq_g (fun g37 => ?_)
    extract_lets +onlyGivenNames M39
    have w38 : Wk S Z hx N M M39 := wk_aL hN w32 rfl g37.1 z34 (sy_s f35 (hS 1204 rfl))
    exact q_tV hN w38 (wX11_store_93 S Z hS n _ _ _ _ w38.1 z_a0)
theorem wX11_store (S Z : Nat → Prop) {hx N : Nat} (hS : ∀ x, fe_mem lX11_store x = true → S x) (n : Nat) (a0 : Nat) (a1 : Int64) (a3 : Int32) (a4 : Int64) (M : FM) (w : WI Z hx N M) (z_a0 : Z a0) : pq (FX11_store n a0 a1 a3 a4 M) (QV S Z hx N M) := wX11_store_0 S Z hS n a0 a1 a3 a4 M w z_a0
def lX47_jump : List Nat := [174, 179]
theorem wX47_jump_0 (S Z : Nat → Prop) {hx N : Nat} (hS : ∀ x, fe_mem lX47_jump x = true → S x) (a0 : Nat) (a1 : Int64) (M : FM) (w : WI Z hx N M) (z_a0 : Z a0) : pq (FX47_jump_0 a0 a1 M) (QV S Z hx N M) := by
  have hN := w.2.2.1
  have w0 := wk_r (S := S) w
  delta FX47_jump_0 BX47_jump_0
  refine pq_g (fun g1 => ?_)
  have z2 := wk_z (i := 0) (f := 171) w0 rfl z_a0
  refine pq_g (fun g3 => ?_)
  extract_lets +onlyGivenNames M5
  have w4 : Wk S Z hx N M M5 := wk_fL hN w0 rfl rfl g3 z2 (Or.inr (hS 179 rfl))
  refine pq_g (fun g6 => ?_)
  extract_lets +onlyGivenNames M8
  have w7 : Wk S Z hx N M M8 := wk_fR hN w4 rfl rfl g6 z_a0 (Or.inr (hS 174 rfl)) (wk_zc w4 rfl) rfl rfl
  exact pq_s w7
theorem wX47_jump (S Z : Nat → Prop) {hx N : Nat} (hS : ∀ x, fe_mem lX47_jump x = true → S x) (a0 : Nat) (a1 : Int64) (M : FM) (w : WI Z hx N M) (z_a0 : Z a0) : pq (FX47_jump a0 a1 M) (QV S Z hx N M) := wX47_jump_0 S Z hS a0 a1 M w z_a0
def lX59_putFlags : List Nat := [91, 96]
theorem wX59_putFlags_0 (S Z : Nat → Prop) {hx N : Nat} (hS : ∀ x, fe_mem lX59_putFlags x = true → S x) (a0 : Nat) (a1 : Int32) (M : FM) (w : WI Z hx N M) (z_a0 : Z a0) : pq (FX59_putFlags_0 a0 a1 M) (QV S Z hx N M) := by
  have hN := w.2.2.1
  have w0 := wk_r (S := S) w
  delta FX59_putFlags_0 BX59_putFlags_0
  refine pq_g (fun g1 => ?_)
  have z2 := wk_z (i := 0) (f := 94) w0 rfl z_a0
  refine pq_g (fun g3 => ?_)
  extract_lets +onlyGivenNames M5
  have w4 : Wk S Z hx N M M5 := wk_fI hN w0 rfl rfl g3 z2 (Or.inr (hS 91 rfl))
  refine pq_g (fun g6 => ?_)
  refine pq_g (fun _ => ?_)
  extract_lets +onlyGivenNames M8
  have w7 : Wk S Z hx N M M8 := wk_fI hN w4 rfl rfl g6 z_a0 (Or.inr (hS 96 rfl))
  exact pq_s w7
theorem wX59_putFlags (S Z : Nat → Prop) {hx N : Nat} (hS : ∀ x, fe_mem lX59_putFlags x = true → S x) (a0 : Nat) (a1 : Int32) (M : FM) (w : WI Z hx N M) (z_a0 : Z a0) : pq (FX59_putFlags a0 a1 M) (QV S Z hx N M) := wX59_putFlags_0 S Z hS a0 a1 M w z_a0
def lX59_putMode : List Nat := [95, 96]
theorem wX59_putMode_0 (S Z : Nat → Prop) {hx N : Nat} (hS : ∀ x, fe_mem lX59_putMode x = true → S x) (a0 : Nat) (a1 : Int32) (M : FM) (w : WI Z hx N M) (z_a0 : Z a0) : pq (FX59_putMode_0 a0 a1 M) (QV S Z hx N M) := by
  have hN := w.2.2.1
  have w0 := wk_r (S := S) w
  delta FX59_putMode_0 BX59_putMode_0
  refine pq_g (fun g1 => ?_)
  extract_lets +onlyGivenNames M3
  have w2 : Wk S Z hx N M M3 := wk_fI hN w0 rfl rfl g1 z_a0 (Or.inr (hS 95 rfl))
  refine pq_g (fun g4 => ?_)
  refine pq_g (fun _ => ?_)
  extract_lets +onlyGivenNames M6
  have w5 : Wk S Z hx N M M6 := wk_fI hN w2 rfl rfl g4 z_a0 (Or.inr (hS 96 rfl))
  exact pq_s w5
theorem wX59_putMode (S Z : Nat → Prop) {hx N : Nat} (hS : ∀ x, fe_mem lX59_putMode x = true → S x) (a0 : Nat) (a1 : Int32) (M : FM) (w : WI Z hx N M) (z_a0 : Z a0) : pq (FX59_putMode a0 a1 M) (QV S Z hx N M) := wX59_putMode_0 S Z hS a0 a1 M w z_a0
def lX59_calm : List Nat := [92, 96]
theorem wX59_calm_0 (S Z : Nat → Prop) {hx N : Nat} (hS : ∀ x, fe_mem lX59_calm x = true → S x) (a0 : Nat) (M : FM) (w : WI Z hx N M) (z_a0 : Z a0) : pq (FX59_calm_0 a0 M) (QV S Z hx N M) := by
  have hN := w.2.2.1
  have w0 := wk_r (S := S) w
  delta FX59_calm_0 BX59_calm_0
  refine pq_g (fun g1 => ?_)
  refine pq_g (fun _ => ?_)
  extract_lets +onlyGivenNames M3
  have w2 : Wk S Z hx N M M3 := wk_fI hN w0 rfl rfl g1 z_a0 (Or.inr (hS 96 rfl))
  refine pq_g (fun g4 => ?_)
  have z5 := wk_z (i := 0) (f := 94) w2 rfl z_a0
  refine pq_g (fun g6 => ?_)
  refine pq_g (fun _ => ?_)
  extract_lets +onlyGivenNames M8
  have w7 : Wk S Z hx N M M8 := wk_fI hN w2 rfl rfl g6 z5 (Or.inr (hS 92 rfl))
  exact pq_s w7
theorem wX59_calm (S Z : Nat → Prop) {hx N : Nat} (hS : ∀ x, fe_mem lX59_calm x = true → S x) (a0 : Nat) (M : FM) (w : WI Z hx N M) (z_a0 : Z a0) : pq (FX59_calm a0 M) (QV S Z hx N M) := wX59_calm_0 S Z hS a0 M w z_a0
def lX46_table : List Nat := []
theorem wX46_table_0 (S Z : Nat → Prop) {hx N : Nat} (hS : ∀ x, fe_mem lX46_table x = true → S x) (a0 : Nat) (M : FM) (w : WI Z hx N M) (z_a0 : Z a0) : pq (FX46_table_0 a0 M) (QR S Z hx N M) := by
  have hN := w.2.2.1
  have w0 := wk_r (S := S) w
  delta FX46_table_0 BX46_table_0
  refine pq_g (fun g1 => ?_)
  have z2 := wk_z (i := 0) (f := 213) w0 rfl z_a0
  refine pq_g (fun g3 => ?_)
  have z4 := wk_z (i := 0) (f := 25) w0 rfl z2
  have f5 := sS_25 w0.1.1 g3
  refine pq_g (fun g6 => ?_)
  have z7 := fun i => wk_ze (i := i) w0 rfl g6.1 f5 rfl z4
  refine pq_g (fun g8 => ?_)
  exact pq_s ⟨w0, (z7 _)⟩
theorem wX46_table (S Z : Nat → Prop) {hx N : Nat} (hS : ∀ x, fe_mem lX46_table x = true → S x) (a0 : Nat) (M : FM) (w : WI Z hx N M) (z_a0 : Z a0) : pq (FX46_table a0 M) (QR S Z hx N M) := wX46_table_0 S Z hS a0 M w z_a0
def lX46_resetBank : List Nat := [41]
theorem wX46_resetBank_0 (S Z : Nat → Prop) {hx N : Nat} (hS : ∀ x, fe_mem lX46_resetBank x = true → S x) (a0 : Nat) (M : FM) (w : WI Z hx N M) (z_a0 : Z a0) : pq (FX46_resetBank_0 a0 M) (QV S Z hx N M) := by
  have hN := w.2.2.1
  have w0 := wk_r (S := S) w
  delta FX46_resetBank_0 BX46_resetBank_0
  refine pq_g (fun g1 => ?_)
  have z2 := wk_z (i := 0) (f := 49) w0 rfl z_a0
  refine pq_g (fun g3 => ?_)
  extract_lets +onlyGivenNames M5
  have w4 : Wk S Z hx N M M5 := wk_fL hN w0 rfl rfl g3 z2 (Or.inr (hS 41 rfl))
  refine pq_g (fun g6 => ?_)
  have z7 := wk_z (i := 0) (f := 50) w4 rfl z_a0
  refine pq_g (fun g8 => ?_)
  extract_lets +onlyGivenNames M10
  have w9 : Wk S Z hx N M M10 := wk_fL hN w4 rfl rfl g8 z7 (Or.inr (hS 41 rfl))
  refine pq_g (fun g11 => ?_)
  have z12 := wk_z (i := 0) (f := 51) w9 rfl z_a0
  refine pq_g (fun g13 => ?_)
  extract_lets +onlyGivenNames M15
  have w14 : Wk S Z hx N M M15 := wk_fL hN w9 rfl rfl g13 z12 (Or.inr (hS 41 rfl))
  refine pq_g (fun g16 => ?_)
  have z17 := wk_z (i := 0) (f := 52) w14 rfl z_a0
  refine pq_g (fun g18 => ?_)
  extract_lets +onlyGivenNames M20
  have w19 : Wk S Z hx N M M20 := wk_fL hN w14 rfl rfl g18 z17 (Or.inr (hS 41 rfl))
  refine pq_g (fun g21 => ?_)
  have z22 := wk_z (i := 0) (f := 53) w19 rfl z_a0
  refine pq_g (fun g23 => ?_)
  extract_lets +onlyGivenNames M25
  have w24 : Wk S Z hx N M M25 := wk_fL hN w19 rfl rfl g23 z22 (Or.inr (hS 41 rfl))
  refine pq_g (fun g26 => ?_)
  have z27 := wk_z (i := 0) (f := 54) w24 rfl z_a0
  refine pq_g (fun g28 => ?_)
  extract_lets +onlyGivenNames M30
  have w29 : Wk S Z hx N M M30 := wk_fL hN w24 rfl rfl g28 z27 (Or.inr (hS 41 rfl))
  exact pq_s w29
theorem wX46_resetBank (S Z : Nat → Prop) {hx N : Nat} (hS : ∀ x, fe_mem lX46_resetBank x = true → S x) (a0 : Nat) (M : FM) (w : WI Z hx N M) (z_a0 : Z a0) : pq (FX46_resetBank a0 M) (QV S Z hx N M) := wX46_resetBank_0 S Z hS a0 M w z_a0
def lX46_resetControls : List Nat := [37, 41]
theorem wX46_resetControls_0 (S Z : Nat → Prop) {hx N : Nat} (hS : ∀ x, fe_mem lX46_resetControls x = true → S x) (a0 : Nat) (M : FM) (w : WI Z hx N M) (z_a0 : Z a0) : pq (FX46_resetControls_0 a0 M) (QV S Z hx N M) := by
  have hN := w.2.2.1
  have w0 := wk_r (S := S) w
  delta FX46_resetControls_0 BX46_resetControls_0
  refine pq_g (fun g1 => ?_)
  have z2 := wk_z (i := 0) (f := 213) w0 rfl z_a0
  refine pq_g (fun g3 => ?_)
  have z4 := wk_z (i := 0) (f := 27) w0 rfl z2
  refine pq_g (fun g5 => ?_)
  extract_lets +onlyGivenNames M7
  have w6 : Wk S Z hx N M M7 := wk_fL hN w0 rfl rfl g5 z4 (Or.inr (hS 41 rfl))
  refine pq_g (fun g8 => ?_)
  have z9 := wk_z (i := 0) (f := 213) w6 rfl z_a0
  refine pq_g (fun g10 => ?_)
  have z11 := wk_z (i := 0) (f := 28) w6 rfl z9
  refine pq_g (fun g12 => ?_)
  extract_lets +onlyGivenNames M14
  have w13 : Wk S Z hx N M M14 := wk_fL hN w6 rfl rfl g12 z11 (Or.inr (hS 41 rfl))
  refine pq_g (fun g15 => ?_)
  have z16 := wk_z (i := 0) (f := 213) w13 rfl z_a0
  refine pq_g (fun g17 => ?_)
  have z18 := wk_z (i := 0) (f := 29) w13 rfl z16
  refine pq_g (fun g19 => ?_)
  extract_lets +onlyGivenNames M21
  have w20 : Wk S Z hx N M M21 := wk_fL hN w13 rfl rfl g19 z18 (Or.inr (hS 41 rfl))
  refine pq_g (fun g22 => ?_)
  have z23 := wk_z (i := 0) (f := 213) w20 rfl z_a0
  refine pq_g (fun g24 => ?_)
  have z25 := wk_z (i := 0) (f := 30) w20 rfl z23
  refine pq_g (fun g26 => ?_)
  extract_lets +onlyGivenNames M28
  have w27 : Wk S Z hx N M M28 := wk_fL hN w20 rfl rfl g26 z25 (Or.inr (hS 41 rfl))
  refine pq_g (fun g29 => ?_)
  have z30 := wk_z (i := 0) (f := 213) w27 rfl z_a0
  refine pq_g (fun g31 => ?_)
  have z32 := wk_z (i := 0) (f := 31) w27 rfl z30
  refine pq_g (fun g33 => ?_)
  extract_lets +onlyGivenNames M35
  have w34 : Wk S Z hx N M M35 := wk_fL hN w27 rfl rfl g33 z32 (Or.inr (hS 41 rfl))
  refine pq_g (fun g36 => ?_)
  have z37 := wk_z (i := 0) (f := 213) w34 rfl z_a0
  refine pq_g (fun g38 => ?_)
  have z39 := wk_z (i := 0) (f := 34) w34 rfl z37
  refine pq_g (fun g40 => ?_)
  extract_lets +onlyGivenNames M42
  have w41 : Wk S Z hx N M M42 := wk_fL hN w34 rfl rfl g40 z39 (Or.inr (hS 41 rfl))
  refine pq_g (fun g43 => ?_)
  have z44 := wk_z (i := 0) (f := 213) w41 rfl z_a0
  refine pq_g (fun g45 => ?_)
  have z46 := wk_z (i := 0) (f := 35) w41 rfl z44
  refine pq_g (fun g47 => ?_)
  extract_lets +onlyGivenNames M49
  have w48 : Wk S Z hx N M M49 := wk_fL hN w41 rfl rfl g47 z46 (Or.inr (hS 41 rfl))
  refine pq_g (fun g50 => ?_)
  refine pq_b (wX46_table S Z (sb rfl hS) _ _ w48.1 z_a0) (fun r51 K52 => ?_)
  have w53 := wk_t w48 K52.1 hN
  refine pq_g (fun g54 => ?_)
  extract_lets +onlyGivenNames M56
  have w55 : Wk S Z hx N M M56 := wk_fL hN w53 rfl rfl g54 K52.2 (Or.inr (hS 41 rfl))
  refine pq_g (fun g57 => ?_)
  have z58 := wk_z (i := 0) (f := 213) w55 rfl z_a0
  refine pq_g (fun g59 => ?_)
  have z60 := wk_z (i := 0) (f := 32) w55 rfl z58
  refine pq_b (wX46_resetBank S Z (sb rfl hS) _ _ w55.1 z60) (fun r61 K62 => ?_)
  have w63 := wk_t w55 K62 hN
  refine pq_g (fun g64 => ?_)
  have z65 := wk_z (i := 0) (f := 213) w63 rfl z_a0
  refine pq_g (fun g66 => ?_)
  have z67 := wk_z (i := 0) (f := 33) w63 rfl z65
  refine pq_b (wX46_resetBank S Z (sb rfl hS) _ _ w63.1 z67) (fun r68 K69 => ?_)
  have w70 := wk_t w63 K69 hN
  refine pq_g (fun g71 => ?_)
  have z72 := wk_z (i := 0) (f := 213) w70 rfl z_a0
  refine pq_g (fun g73 => ?_)
  extract_lets +onlyGivenNames M75
  have w74 : Wk S Z hx N M M75 := wk_fI hN w70 rfl rfl g73 z72 (Or.inr (hS 37 rfl))
  exact pq_s w74
theorem wX46_resetControls (S Z : Nat → Prop) {hx N : Nat} (hS : ∀ x, fe_mem lX46_resetControls x = true → S x) (a0 : Nat) (M : FM) (w : WI Z hx N M) (z_a0 : Z a0) : pq (FX46_resetControls a0 M) (QV S Z hx N M) := wX46_resetControls_0 S Z hS a0 M w z_a0
def lX87_span : List Nat := []
theorem wX87_span_44 (S Z : Nat → Prop) {hx N : Nat} (hS : ∀ x, fe_mem lX87_span x = true → S x) (s0 : Nat) (M : FM) (w : WI Z hx N M) (z_s0 : Z s0) : pq (FX87_span_44 s0 M) (QR S Z hx N M) := by
  have hN := w.2.2.1
  have w0 := wk_r (S := S) w
  delta FX87_span_44 BX87_span_44
  exact pq_s ⟨w0, z_s0⟩
theorem wX87_span_0 (S Z : Nat → Prop) {hx N : Nat} (hS : ∀ x, fe_mem lX87_span x = true → S x) (a0 : Nat) (M : FM) (w : WI Z hx N M) (z_a0 : Z a0) : pq (FX87_span_0 a0 M) (QR S Z hx N M) := by
  have hN := w.2.2.1
  have w0 := wk_r (S := S) w
  delta FX87_span_0 BX87_span_0
  refine pq_g (fun g1 => ?_)
  refine pq_fi (fun _ => ?_) (fun _ => ?_)
  · exact q_tR hN w0 (wX87_span_44 S Z hS _ _ w0.1 (wk_zc w0 rfl))
  · refine pq_fi (fun _ => ?_) (fun _ => ?_)
    · exact q_tR hN w0 (wX87_span_44 S Z hS _ _ w0.1 (wk_zc w0 rfl))
    · refine pq_fi (fun _ => ?_) (fun _ => ?_)
      · exact q_tR hN w0 (wX87_span_44 S Z hS _ _ w0.1 (wk_zc w0 rfl))
      · exact q_tR hN w0 (wX87_span_44 S Z hS _ _ w0.1 (wk_zc w0 rfl))
theorem wX87_span (S Z : Nat → Prop) {hx N : Nat} (hS : ∀ x, fe_mem lX87_span x = true → S x) (a0 : Nat) (M : FM) (w : WI Z hx N M) (z_a0 : Z a0) : pq (FX87_span a0 M) (QR S Z hx N M) := wX87_span_0 S Z hS a0 M w z_a0
def lJ0_ordinal : List Nat := []
theorem wJ0_ordinal_0 (S Z : Nat → Prop) {hx N : Nat} (hS : ∀ x, fe_mem lJ0_ordinal x = true → S x) (a0 : Nat) (M : FM) (w : WI Z hx N M) (z_a0 : Z a0) : pq (FJ0_ordinal_0 a0 M) (QA S Z hx N M) := by
  have hN := w.2.2.1
  have w0 := wk_r (S := S) w
  delta FJ0_ordinal_0 BJ0_ordinal_0
  refine pq_g (fun g1 => ?_)
  exact pq_s w0
theorem wJ0_ordinal (S Z : Nat → Prop) {hx N : Nat} (hS : ∀ x, fe_mem lJ0_ordinal x = true → S x) (a0 : Nat) (M : FM) (w : WI Z hx N M) (z_a0 : Z a0) : pq (FJ0_ordinal a0 M) (QA S Z hx N M) := wJ0_ordinal_0 S Z hS a0 M w z_a0
def lX87_lay : List Nat := [282, 283]
theorem wX87_lay_142 (S Z : Nat → Prop) {hx N : Nat} (hS : ∀ x, fe_mem lX87_lay x = true → S x) (M : FM) (w : WI Z hx N M) : pq (FX87_lay_142 M) (QV S Z hx N M) := by
  have hN := w.2.2.1
  have w0 := wk_r (S := S) w
  delta FX87_lay_142 BX87_lay_142
  exact pq_s w0
theorem wX87_lay_0 (S Z : Nat → Prop) {hx N : Nat} (hS : ∀ x, fe_mem lX87_lay x = true → S x) (a0 : Nat) (a1 : Int64) (M : FM) (w : WI Z hx N M) (z_a0 : Z a0) : pq (FX87_lay_0 a0 a1 M) (QV S Z hx N M) := by
  have hN := w.2.2.1
  have w0 := wk_r (S := S) w
  delta FX87_lay_0 BX87_lay_0
  refine pq_g (fun g1 => ?_)
  refine pq_b (wX87_span S Z (sb rfl hS) _ _ w0.1 z_a0) (fun r2 K3 => ?_)
  have w4 := wk_t w0 K3.1 hN
  refine pq_g (fun g5 => ?_)
  refine pq_b (wJ0_ordinal S Z (sb rfl hS) _ _ w4.1 K3.2) (fun r6 K7 => ?_)
  have w8 := wk_t w4 K7 hN
  refine pq_fi (fun _ => ?_) (fun _ => ?_)
  · refine pq_g (fun g9 => ?_)
    extract_lets +onlyGivenNames M11
    have w10 : Wk S Z hx N M M11 := wk_fL hN w8 rfl rfl g9 z_a0 (Or.inr (hS 282 rfl))
    refine pq_g (fun g12 => ?_)
    refine pq_g (fun g13 => ?_)
    extract_lets +onlyGivenNames M15
    have w14 : Wk S Z hx N M M15 := wk_fL hN w10 rfl rfl g13 z_a0 (Or.inr (hS 283 rfl))
    exact q_tV hN w14 (wX87_lay_142 S Z hS _ w14.1 )
  · refine pq_fi (fun _ => ?_) (fun _ => ?_)
    · refine pq_g (fun g16 => ?_)
      refine pq_g (fun g17 => ?_)
      extract_lets +onlyGivenNames M19
      have w18 : Wk S Z hx N M M19 := wk_fL hN w8 rfl rfl g17 z_a0 (Or.inr (hS 282 rfl))
      refine pq_g (fun g20 => ?_)
      refine pq_g (fun g21 => ?_)
      extract_lets +onlyGivenNames M23
      have w22 : Wk S Z hx N M M23 := wk_fL hN w18 rfl rfl g21 z_a0 (Or.inr (hS 283 rfl))
      exact q_tV hN w22 (wX87_lay_142 S Z hS _ w22.1 )
    · refine pq_fi (fun _ => ?_) (fun _ => ?_)
      · refine pq_g (fun g24 => ?_)
        refine pq_g (fun g25 => ?_)
        refine pq_g (fun g26 => ?_)
        refine pq_g (fun g27 => ?_)
        extract_lets +onlyGivenNames M29
        have w28 : Wk S Z hx N M M29 := wk_fL hN w8 rfl rfl g27 z_a0 (Or.inr (hS 282 rfl))
        refine pq_g (fun g30 => ?_)
        refine pq_g (fun g31 => ?_)
        extract_lets +onlyGivenNames M33
        have w32 : Wk S Z hx N M M33 := wk_fL hN w28 rfl rfl g31 z_a0 (Or.inr (hS 283 rfl))
        exact q_tV hN w32 (wX87_lay_142 S Z hS _ w32.1 )
      · refine pq_g (fun g34 => ?_)
        extract_lets +onlyGivenNames M36
        have w35 : Wk S Z hx N M M36 := wk_fL hN w8 rfl rfl g34 z_a0 (Or.inr (hS 282 rfl))
        refine pq_g (fun g37 => ?_)
        extract_lets +onlyGivenNames M39
        have w38 : Wk S Z hx N M M39 := wk_fL hN w35 rfl rfl g37 z_a0 (Or.inr (hS 283 rfl))
        exact q_tV hN w38 (wX87_lay_142 S Z hS _ w38.1 )
theorem wX87_lay (S Z : Nat → Prop) {hx N : Nat} (hS : ∀ x, fe_mem lX87_lay x = true → S x) (a0 : Nat) (a1 : Int64) (M : FM) (w : WI Z hx N M) (z_a0 : Z a0) : pq (FX87_lay a0 a1 M) (QV S Z hx N M) := wX87_lay_0 S Z hS a0 a1 M w z_a0
def lX86_lay : List Nat := [282, 283, 285]
theorem wX86_lay_33 (S Z : Nat → Prop) {hx N : Nat} (hS : ∀ x, fe_mem lX86_lay x = true → S x) (n : Nat) (k2 : Nat → Int32 → FM → Option (FM)) (hk2 : ∀ (a0 : Nat) (a1 : Int32) (M : FM), WI Z hx N M → Z a0 → pq (k2 a0 a1 M) (QV S Z hx N M)) (a0 : Nat) (a1 : Int32) (s0 : Nat) (s1 : Int64) (M : FM) (w : WI Z hx N M) (z_a0 : Z a0) (z_s0 : Z s0) : pq (FX86_lay_33 n k2 a0 a1 s0 s1 M) (QV S Z hx N M) := by
  have hN := w.2.2.1
  have w0 := wk_r (S := S) w
  delta FX86_lay_33 BX86_lay_33
  refine pq_g (fun g1 => ?_)
  refine pq_b (wX87_lay S Z (sb rfl hS) _ _ _ w0.1 z_s0) (fun r2 K3 => ?_)
  have w4 := wk_t w0 K3 hN
  exact q_tV hN w4 (hk2 _ _ _ w4.1 z_a0)
theorem wX86_lay_2 (S Z : Nat → Prop) {hx N : Nat} (hS : ∀ x, fe_mem lX86_lay x = true → S x) (n : Nat) (k2 : Nat → Int32 → FM → Option (FM)) (hk2 : ∀ (a0 : Nat) (a1 : Int32) (M : FM), WI Z hx N M → Z a0 → pq (k2 a0 a1 M) (QV S Z hx N M)) (a0 : Nat) (a1 : Int32) (M : FM) (w : WI Z hx N M) (z_a0 : Z a0) : pq (FX86_lay_2 n k2 a0 a1 M) (QV S Z hx N M) := by
  have hN := w.2.2.1
  have w0 := wk_r (S := S) w
  delta FX86_lay_2 BX86_lay_2
  refine pq_fi (fun _ => ?_) (fun _ => ?_)
  · refine pq_g (fun g1 => ?_)
    refine pq_g (fun g2 => ?_)
    extract_lets +onlyGivenNames M4
    have w3 : Wk S Z hx N M M4 := wk_fI hN w0 rfl rfl g2 z_a0 (Or.inr (hS 285 rfl))
    exact pq_s w3
  · refine pq_g (fun g5 => ?_)
    have z6 := wk_z (i := 0) (f := 284) w0 rfl z_a0
    have f7 := sS_284 w0.1.1 g5
    refine pq_g (fun g8 => ?_)
    have z9 := fun i => wk_ze (i := i) w0 rfl g8.1 f7 rfl z6
    refine pq_fi (fun _ => ?_) (fun _ => ?_)
    · exact q_tV hN w0 (wX86_lay_33 S Z hS n _ hk2 _ _ _ _ _ w0.1 z_a0 (z9 _))
    · refine pq_g (fun g10 => ?_)
      have z11 := wk_z (i := 0) (f := 284) w0 rfl z_a0
      have f12 := sS_284 w0.1.1 g10
      refine pq_g (fun g13 => ?_)
      have z14 := fun i => wk_ze (i := i) w0 rfl g13.1 f12 rfl z11
      refine pq_g (fun g15 => ?_)
      exact q_tV hN w0 (wX86_lay_33 S Z hS n _ hk2 _ _ _ _ _ w0.1 z_a0 (z9 _))
theorem wX86_lay_0 (S Z : Nat → Prop) {hx N : Nat} (hS : ∀ x, fe_mem lX86_lay x = true → S x) (n : Nat) (k2 : Nat → Int32 → FM → Option (FM)) (hk2 : ∀ (a0 : Nat) (a1 : Int32) (M : FM), WI Z hx N M → Z a0 → pq (k2 a0 a1 M) (QV S Z hx N M)) (a0 : Nat) (M : FM) (w : WI Z hx N M) (z_a0 : Z a0) : pq (FX86_lay_0 n k2 a0 M) (QV S Z hx N M) := by
  have hN := w.2.2.1
  have w0 := wk_r (S := S) w
  delta FX86_lay_0 BX86_lay_0
  exact q_tV hN w0 (hk2 _ _ _ w0.1 z_a0)
theorem wX86_lay_L (S Z : Nat → Prop) {hx N : Nat} (hS : ∀ x, fe_mem lX86_lay x = true → S x) (n : Nat) : ∀ j : Nat, ∀ (a0 : Nat) (a1 : Int32) (M : FM), WI Z hx N M → Z a0 → pq (FX86_lay_L2 n j a0 a1 M) (QV S Z hx N M)
  | 0 => by intros; exact pq_0
  | j + 1 => fun a0 a1 M w => wX86_lay_2 S Z hS n _ (wX86_lay_L S Z hS n j) a0 a1 M w
theorem wX86_lay (S Z : Nat → Prop) {hx N : Nat} (hS : ∀ x, fe_mem lX86_lay x = true → S x) (n : Nat) (a0 : Nat) (M : FM) (w : WI Z hx N M) (z_a0 : Z a0) : pq (FX86_lay n a0 M) (QV S Z hx N M) := wX86_lay_0 S Z hS n _ (wX86_lay_L S Z hS n n) a0 M w z_a0
def lX12_drop : List Nat := [208]
theorem wX12_drop_12 (S Z : Nat → Prop) {hx N : Nat} (hS : ∀ x, fe_mem lX12_drop x = true → S x) (a0 : Nat) (s0 : Int32) (M : FM) (w : WI Z hx N M) (z_a0 : Z a0) : pq (FX12_drop_12 a0 s0 M) (QA S Z hx N M) := by
  have hN := w.2.2.1
  have w0 := wk_r (S := S) w
  delta FX12_drop_12 BX12_drop_12
  refine pq_g (fun g1 => ?_)
  extract_lets +onlyGivenNames M3
  have w2 : Wk S Z hx N M M3 := wk_fI hN w0 rfl rfl g1 z_a0 (Or.inr (hS 208 rfl))
  refine pq_g (fun _ => ?_)
  exact pq_s w2
theorem wX12_drop_0 (S Z : Nat → Prop) {hx N : Nat} (hS : ∀ x, fe_mem lX12_drop x = true → S x) (a0 : Nat) (M : FM) (w : WI Z hx N M) (z_a0 : Z a0) : pq (FX12_drop_0 a0 M) (QA S Z hx N M) := by
  have hN := w.2.2.1
  have w0 := wk_r (S := S) w
  delta FX12_drop_0 BX12_drop_0
  refine pq_g (fun g1 => ?_)
  refine pq_fi (fun _ => ?_) (fun _ => ?_)
  · exact q_tA hN w0 (wX12_drop_12 S Z hS _ _ _ w0.1 z_a0)
  · exact q_tA hN w0 (wX12_drop_12 S Z hS _ _ _ w0.1 z_a0)
theorem wX12_drop (S Z : Nat → Prop) {hx N : Nat} (hS : ∀ x, fe_mem lX12_drop x = true → S x) (a0 : Nat) (M : FM) (w : WI Z hx N M) (z_a0 : Z a0) : pq (FX12_drop a0 M) (QA S Z hx N M) := wX12_drop_0 S Z hS a0 M w z_a0
def lX48_set : List Nat := [1178]
theorem wX48_set_11 (S Z : Nat → Prop) {hx N : Nat} (hS : ∀ x, fe_mem lX48_set x = true → S x) (M : FM) (w : WI Z hx N M) : pq (FX48_set_11 M) (QV S Z hx N M) := by
  have hN := w.2.2.1
  have w0 := wk_r (S := S) w
  delta FX48_set_11 BX48_set_11
  exact pq_s w0
theorem wX48_set_0 (S Z : Nat → Prop) {hx N : Nat} (hS : ∀ x, fe_mem lX48_set x = true → S x) (a0 : Nat) (a1 : Int32) (a2 : Int64) (M : FM) (w : WI Z hx N M) (z_a0 : Z a0) : pq (FX48_set_0 a0 a1 a2 M) (QV S Z hx N M) := by
  have hN := w.2.2.1
  have w0 := wk_r (S := S) w
  delta FX48_set_0 BX48_set_0
  refine pq_fi (fun _ => ?_) (fun _ => ?_)
  · exact q_tV hN w0 (wX48_set_11 S Z hS _ w0.1 )
  · refine pq_g (fun g1 => ?_)
    have z2 := wk_z (i := 0) (f := 178) w0 rfl z_a0
    have f3 := sS_178 w0.1.1 g1
    refine pq_g (fun g4 => ?_)
    extract_lets +onlyGivenNames M6
    have w5 : Wk S Z hx N M M6 := wk_aL hN w0 rfl g4.1 z2 (sy_s f3 (hS 1178 rfl))
    exact q_tV hN w5 (wX48_set_11 S Z hS _ w5.1 )
theorem wX48_set (S Z : Nat → Prop) {hx N : Nat} (hS : ∀ x, fe_mem lX48_set x = true → S x) (a0 : Nat) (a1 : Int32) (a2 : Int64) (M : FM) (w : WI Z hx N M) (z_a0 : Z a0) : pq (FX48_set a0 a1 a2 M) (QV S Z hx N M) := wX48_set_0 S Z hS a0 a1 a2 M w z_a0
def lX46_reset : List Nat := [37, 41, 91, 92, 95, 96, 174, 179, 208, 218, 280, 281, 282, 283, 285, 1093, 1178]
theorem wX46_reset_90 (S Z : Nat → Prop) {hx N : Nat} (hS : ∀ x, fe_mem lX46_reset x = true → S x) (n : Nat) (k2 : Nat → Int64 → Int32 → FM → Option (FM)) (hk2 : ∀ (a0 : Nat) (a1 : Int64) (a3 : Int32) (M : FM), WI Z hx N M → Z a0 → pq (k2 a0 a1 a3 M) (QV S Z hx N M)) (k90 : Nat → Nat → Int32 → Int32 → FM → Option (FM)) (hk90 : ∀ (a0 : Nat) (a3 : Nat) (a4 : Int32) (a5 : Int32) (M : FM), WI Z hx N M → Z a0 → Z a3 → Sf M a3 284 → pq (k90 a0 a3 a4 a5 M) (QV S Z hx N M)) (a0 : Nat) (a3 : Nat) (a4 : Int32) (a5 : Int32) (M : FM) (w : WI Z hx N M) (z_a0 : Z a0) (z_a3 : Z a3) (s_a3 : Sf M a3 284) : pq (FX46_reset_90 n k2 k90 a0 a3 a4 a5 M) (QV S Z hx N M) := by
  have hN := w.2.2.1
  have w0 := wk_r (S := S) w
  delta FX46_reset_90 BX46_reset_90
  refine pq_fi (fun _ => ?_) (fun _ => ?_)
  · refine pq_g (fun g1 => ?_)
    have z2 := wk_z (i := 0) (f := 214) w0 rfl z_a0
    refine pq_g (fun g3 => ?_)
    have z4 := wk_z (i := 0) (f := 288) w0 rfl z2
    refine pq_g (fun g5 => ?_)
    refine pq_b (wX86_lay S Z (sb rfl hS) n _ _ w0.1 z4) (fun r6 K7 => ?_)
    have w8 := wk_t w0 K7 hN
    have f9 := sf_k w0.1.1 K7 s_a3
    refine pq_g (fun g10 => ?_)
    refine pq_g (fun _ => ?_)
    extract_lets +onlyGivenNames M12
    have w11 : Wk S Z hx N M M12 := wk_fI hN w8 rfl rfl g10 z_a0 (Or.inr (hS 218 rfl))
    refine pq_g (fun g13 => ?_)
    have z14 := wk_z (i := 0) (f := 210) w11 rfl z_a0
    refine pq_g (fun g15 => ?_)
    have z16 := wk_z (i := 0) (f := 18) w11 rfl z14
    refine pq_g (fun g17 => ?_)
    have z18 := wk_z (i := 0) (f := 205) w11 rfl z16
    have f19 := sS_205 w11.1.1 g17
    refine pq_g (fun g20 => ?_)
    refine pq_g (fun g21 => ?_)
    have z22 := fun i => wk_ze (i := i) w11 rfl g21.1 f19 rfl z18
    refine pq_g (fun g23 => ?_)
    refine pq_b (wX12_drop S Z (sb rfl hS) _ _ w11.1 (z22 _)) (fun r24 K25 => ?_)
    have w26 := wk_t w11 K25 hN
    have f27 := sf_k w11.1.1 K25 f9
    refine pq_g (fun g28 => ?_)
    have z29 := wk_z (i := 0) (f := 211) w26 rfl z_a0
    refine pq_g (fun g30 => ?_)
    have z31 := wk_z (i := 0) (f := 171) w26 rfl z29
    refine pq_g (fun g32 => ?_)
    refine pq_g (fun g33 => ?_)
    refine pq_b (wX48_set S Z (sb rfl hS) _ _ _ _ w26.1 z31) (fun r34 K35 => ?_)
    have w36 := wk_t w26 K35 hN
    have f37 := sf_k w26.1.1 K35 f27
    refine pq_g (fun g38 => ?_)
    have z39 := wk_z (i := 0) (f := 211) w36 rfl z_a0
    refine pq_g (fun g40 => ?_)
    have z41 := wk_z (i := 0) (f := 171) w36 rfl z39
    refine pq_g (fun g42 => ?_)
    refine pq_b (wX48_set S Z (sb rfl hS) _ _ _ _ w36.1 z41) (fun r43 K44 => ?_)
    have w45 := wk_t w36 K44 hN
    have f46 := sf_k w36.1.1 K44 f37
    exact pq_s w45
  · refine pq_g (fun g47 => ?_)
    have z48 := fun i => wk_ze (i := i) w0 rfl g47.1 s_a3 rfl z_a3
    refine pq_g (fun g49 => ?_)
    extract_lets +onlyGivenNames M51
    have w50 : Wk S Z hx N M M51 := wk_fI hN w0 rfl rfl g49 (z48 _) (Or.inr (hS 280 rfl))
    refine pq_g (fun g52 => ?_)
    extract_lets +onlyGivenNames M54
    have w53 : Wk S Z hx N M M54 := wk_fL hN w50 rfl rfl g52 (z48 _) (Or.inr (hS 281 rfl))
    exact q_tV hN w53 (hk90 _ _ _ _ _ w53.1 z_a0 z_a3 s_a3)
theorem wX46_reset_2 (S Z : Nat → Prop) {hx N : Nat} (hS : ∀ x, fe_mem lX46_reset x = true → S x) (n : Nat) (k2 : Nat → Int64 → Int32 → FM → Option (FM)) (hk2 : ∀ (a0 : Nat) (a1 : Int64) (a3 : Int32) (M : FM), WI Z hx N M → Z a0 → pq (k2 a0 a1 a3 M) (QV S Z hx N M)) (k90 : Nat → Nat → Int32 → Int32 → FM → Option (FM)) (hk90 : ∀ (a0 : Nat) (a3 : Nat) (a4 : Int32) (a5 : Int32) (M : FM), WI Z hx N M → Z a0 → Z a3 → Sf M a3 284 → pq (k90 a0 a3 a4 a5 M) (QV S Z hx N M)) (a0 : Nat) (a1 : Int64) (a3 : Int32) (M : FM) (w : WI Z hx N M) (z_a0 : Z a0) : pq (FX46_reset_2 n k2 k90 a0 a1 a3 M) (QV S Z hx N M) := by
  have hN := w.2.2.1
  have w0 := wk_r (S := S) w
  delta FX46_reset_2 BX46_reset_2
  refine pq_fi (fun _ => ?_) (fun _ => ?_)
  · refine pq_g (fun g1 => ?_)
    have z2 := wk_z (i := 0) (f := 211) w0 rfl z_a0
    refine pq_g (fun g3 => ?_)
    refine pq_b (wX47_jump S Z (sb rfl hS) _ _ _ w0.1 z2) (fun r4 K5 => ?_)
    have w6 := wk_t w0 K5 hN
    refine pq_g (fun g7 => ?_)
    have z8 := wk_z (i := 0) (f := 212) w6 rfl z_a0
    refine pq_g (fun g9 => ?_)
    refine pq_b (wX59_putFlags S Z (sb rfl hS) _ _ _ w6.1 z8) (fun r10 K11 => ?_)
    have w12 := wk_t w6 K11 hN
    refine pq_g (fun g13 => ?_)
    have z14 := wk_z (i := 0) (f := 212) w12 rfl z_a0
    refine pq_g (fun g15 => ?_)
    refine pq_b (wX59_putMode S Z (sb rfl hS) _ _ _ w12.1 z14) (fun r16 K17 => ?_)
    have w18 := wk_t w12 K17 hN
    refine pq_g (fun g19 => ?_)
    have z20 := wk_z (i := 0) (f := 212) w18 rfl z_a0
    refine pq_g (fun g21 => ?_)
    refine pq_b (wX59_calm S Z (sb rfl hS) _ _ w18.1 z20) (fun r22 K23 => ?_)
    have w24 := wk_t w18 K23 hN
    refine pq_g (fun g25 => ?_)
    refine pq_b (wX46_resetControls S Z (sb rfl hS) _ _ w24.1 z_a0) (fun r26 K27 => ?_)
    have w28 := wk_t w24 K27 hN
    refine pq_g (fun g29 => ?_)
    have z30 := wk_z (i := 0) (f := 214) w28 rfl z_a0
    refine pq_g (fun g31 => ?_)
    have z32 := wk_z (i := 0) (f := 288) w28 rfl z30
    refine pq_g (fun g33 => ?_)
    have z34 := wk_z (i := 0) (f := 284) w28 rfl z32
    have f35 := sS_284 w28.1.1 g33
    refine pq_g (fun g36 => ?_)
    exact q_tV hN w28 (hk90 _ _ _ _ _ w28.1 z_a0 z34 f35)
  · refine pq_g (fun g37 => ?_)
    have z38 := wk_z (i := 0) (f := 211) w0 rfl z_a0
    refine pq_g (fun g39 => ?_)
    have z40 := wk_z (i := 0) (f := 171) w0 rfl z38
    refine pq_g (fun g41 => ?_)
    have z42 := wk_z (i := 0) (f := 178) w0 rfl z40
    have f43 := sS_178 w0.1.1 g41
    refine pq_g (fun g44 => ?_)
    extract_lets +onlyGivenNames M46
    have w45 : Wk S Z hx N M M46 := wk_aL hN w0 rfl g44.1 z42 (sy_s f43 (hS 1178 rfl))
    refine pq_g (fun g47 => ?_)
    have z48 := wk_z (i := 0) (f := 212) w45 rfl z_a0
    refine pq_g (fun g49 => ?_)
    have z50 := wk_z (i := 0) (f := 93) w45 rfl z48
    have f51 := sS_93 w45.1.1 g49
    refine pq_g (fun g52 => ?_)
    extract_lets +onlyGivenNames M54
    have w53 : Wk S Z hx N M M54 := wk_aL hN w45 rfl g52.1 z50 (sy_s f51 (hS 1093 rfl))
    exact q_tV hN w53 (hk2 _ _ _ _ w53.1 z_a0)
theorem wX46_reset_0 (S Z : Nat → Prop) {hx N : Nat} (hS : ∀ x, fe_mem lX46_reset x = true → S x) (n : Nat) (k2 : Nat → Int64 → Int32 → FM → Option (FM)) (hk2 : ∀ (a0 : Nat) (a1 : Int64) (a3 : Int32) (M : FM), WI Z hx N M → Z a0 → pq (k2 a0 a1 a3 M) (QV S Z hx N M)) (k90 : Nat → Nat → Int32 → Int32 → FM → Option (FM)) (hk90 : ∀ (a0 : Nat) (a3 : Nat) (a4 : Int32) (a5 : Int32) (M : FM), WI Z hx N M → Z a0 → Z a3 → Sf M a3 284 → pq (k90 a0 a3 a4 a5 M) (QV S Z hx N M)) (a0 : Nat) (a1 : Int64) (M : FM) (w : WI Z hx N M) (z_a0 : Z a0) : pq (FX46_reset_0 n k2 k90 a0 a1 M) (QV S Z hx N M) := by
  have hN := w.2.2.1
  have w0 := wk_r (S := S) w
  delta FX46_reset_0 BX46_reset_0
  exact q_tV hN w0 (hk2 _ _ _ _ w0.1 z_a0)
theorem wX46_reset_L (S Z : Nat → Prop) {hx N : Nat} (hS : ∀ x, fe_mem lX46_reset x = true → S x) (n : Nat) : ∀ j : Nat, (∀ (a0 : Nat) (a1 : Int64) (a3 : Int32) (M : FM), WI Z hx N M → Z a0 → pq ((FX46_reset_L n j).1 a0 a1 a3 M) (QV S Z hx N M)) ∧ (∀ (a0 : Nat) (a3 : Nat) (a4 : Int32) (a5 : Int32) (M : FM), WI Z hx N M → Z a0 → Z a3 → Sf M a3 284 → pq ((FX46_reset_L n j).2 a0 a3 a4 a5 M) (QV S Z hx N M))
  | 0 => ⟨by intros; exact pq_0, by intros; exact pq_0⟩
  | j + 1 => ⟨fun a0 a1 a3 M w => wX46_reset_2 S Z hS n _ (wX46_reset_L S Z hS n j).1 _ (wX46_reset_L S Z hS n j).2 a0 a1 a3 M w, fun a0 a3 a4 a5 M w => wX46_reset_90 S Z hS n _ (wX46_reset_L S Z hS n j).1 _ (wX46_reset_L S Z hS n j).2 a0 a3 a4 a5 M w⟩
theorem wX46_reset (S Z : Nat → Prop) {hx N : Nat} (hS : ∀ x, fe_mem lX46_reset x = true → S x) (n : Nat) (a0 : Nat) (a1 : Int64) (M : FM) (w : WI Z hx N M) (z_a0 : Z a0) : pq (FX46_reset n a0 a1 M) (QV S Z hx N M) := wX46_reset_0 S Z hS n _ (wX46_reset_L S Z hS n n).1 _ (wX46_reset_L S Z hS n n).2 a0 a1 M w z_a0
def lX2_start : List Nat := [22, 23, 37, 41, 91, 92, 95, 96, 174, 179, 208, 218, 249, 250, 251, 252, 253, 254, 255, 260, 262, 266, 267, 268, 280, 281, 282, 283, 285, 1093, 1178, 1201, 1203, 1204, 1261]
theorem wX2_start_69 (S Z : Nat → Prop) {hx N : Nat} (hS : ∀ x, fe_mem lX2_start x = true → S x) (n : Nat) (k15 : Nat → Int32 → Int32 → FM → Option (Int32 × FM)) (hk15 : ∀ (a0 : Nat) (a1 : Int32) (a2 : Int32) (M : FM), WI Z hx N M → Z a0 → (∀ a, Z a) → pq (k15 a0 a1 a2 M) (QA S Z hx N M)) (k69 : Nat → Int32 → Nat → Int32 → Int32 → FM → Option (Int32 × FM)) (hk69 : ∀ (a0 : Nat) (a1 : Int32) (a2 : Nat) (a3 : Int32) (a4 : Int32) (M : FM), WI Z hx N M → Z a0 → Z a2 → (∀ a, Z a) → pq (k69 a0 a1 a2 a3 a4 M) (QA S Z hx N M)) (a0 : Nat) (a1 : Int32) (a2 : Nat) (a3 : Int32) (a4 : Int32) (M : FM) (w : WI Z hx N M) (z_a0 : Z a0) (z_a2 : Z a2) (hA : (∀ a, Z a)) : pq (FX2_start_69 n k15 k69 a0 a1 a2 a3 a4 M) (QA S Z hx N M) := by
  have hN := w.2.2.1
  have w0 := wk_r (S := S) w
  delta FX2_start_69 BX2_start_69
  refine pq_fi (fun _ => ?_) (fun _ => ?_)
  · refine pq_g (fun g1 => ?_)
    have z2 := wk_z (i := 0) (f := 189) w0 rfl z_a0
    refine pq_g (fun g3 => ?_)
    refine pq_g (fun _ => ?_)
    extract_lets +onlyGivenNames M5
    have w4 : Wk S Z hx N M M5 := wk_fI hN w0 rfl rfl g3 z2 (Or.inr (hS 22 rfl))
    refine pq_g (fun g6 => ?_)
    have z7 := wk_z (i := 0) (f := 189) w4 rfl z_a0
    refine pq_g (fun g8 => ?_)
    extract_lets +onlyGivenNames M10
    have w9 : Wk S Z hx N M M10 := wk_fI hN w4 rfl rfl g8 z7 (Or.inr (hS 23 rfl))
    exact pq_s w9
  · refine pq_g (fun g11 => ?_)
    refine pq_g (fun g13 => ?_)
    have z14 := wk_z (i := 0) (f := 192) w0 rfl z_a0
    refine pq_g (fun g15 => ?_)
    refine pq_g (fun g16 => ?_)
    refine pq_b (wX46_reset S Z (sb rfl hS) n _ _ _ w0.1 (hA _)) (fun r17 K18 => ?_)
    have w19 := wk_t w0 K18 hN
    exact q_tA hN w19 (hk69 _ _ _ _ _ _ w19.1 z_a0 z_a2 hA)
theorem wX2_start_15 (S Z : Nat → Prop) {hx N : Nat} (hS : ∀ x, fe_mem lX2_start x = true → S x) (n : Nat) (k15 : Nat → Int32 → Int32 → FM → Option (Int32 × FM)) (hk15 : ∀ (a0 : Nat) (a1 : Int32) (a2 : Int32) (M : FM), WI Z hx N M → Z a0 → (∀ a, Z a) → pq (k15 a0 a1 a2 M) (QA S Z hx N M)) (k69 : Nat → Int32 → Nat → Int32 → Int32 → FM → Option (Int32 × FM)) (hk69 : ∀ (a0 : Nat) (a1 : Int32) (a2 : Nat) (a3 : Int32) (a4 : Int32) (M : FM), WI Z hx N M → Z a0 → Z a2 → (∀ a, Z a) → pq (k69 a0 a1 a2 a3 a4 M) (QA S Z hx N M)) (a0 : Nat) (a1 : Int32) (a2 : Int32) (M : FM) (w : WI Z hx N M) (z_a0 : Z a0) (hA : (∀ a, Z a)) : pq (FX2_start_15 n k15 k69 a0 a1 a2 M) (QA S Z hx N M) := by
  have hN := w.2.2.1
  have w0 := wk_r (S := S) w
  delta FX2_start_15 BX2_start_15
  refine pq_fi (fun _ => ?_) (fun _ => ?_)
  · refine pq_g (fun g1 => ?_)
    have z2 := wk_z (i := 0) (f := 190) w0 rfl z_a0
    have f3 := sS_190 w0.1.1 g1
    refine pq_g (fun g4 => ?_)
    exact q_tA hN w0 (hk69 _ _ _ _ _ _ w0.1 z_a0 z2 hA)
  · refine pq_g (fun g5 => ?_)
    have z6 := wk_z (i := 0) (f := 189) w0 rfl z_a0
    refine pq_g (fun g7 => ?_)
    have z8 := wk_z (i := 0) (f := 18) w0 rfl z6
    refine pq_g (fun g9 => ?_)
    have z10 := wk_z (i := 0) (f := 193) w0 rfl z_a0
    refine pq_g (fun g11 => ?_)
    have z12 := wk_z (i := 0) (f := 57) w0 rfl z10
    refine pq_g (fun g13 => ?_)
    have z14 := wk_z (i := 0) (f := 256) w0 rfl z12
    refine pq_g (fun g15 => ?_)
    refine pq_b (wX3_get S Z (sb rfl hS) _ _ _ w0.1 z14) (fun r16 K17 => ?_)
    have w18 := wk_t w0 K17 hN
    refine pq_g (fun g19 => ?_)
    refine pq_b (wX11_store S Z (sb rfl hS) n _ _ _ _ _ w18.1 z8) (fun r20 K21 => ?_)
    have w22 := wk_t w18 K21 hN
    exact q_tA hN w22 (hk15 _ _ _ _ w22.1 z_a0 hA)
theorem wX2_start_0 (S Z : Nat → Prop) {hx N : Nat} (hS : ∀ x, fe_mem lX2_start x = true → S x) (n : Nat) (k15 : Nat → Int32 → Int32 → FM → Option (Int32 × FM)) (hk15 : ∀ (a0 : Nat) (a1 : Int32) (a2 : Int32) (M : FM), WI Z hx N M → Z a0 → (∀ a, Z a) → pq (k15 a0 a1 a2 M) (QA S Z hx N M)) (k69 : Nat → Int32 → Nat → Int32 → Int32 → FM → Option (Int32 × FM)) (hk69 : ∀ (a0 : Nat) (a1 : Int32) (a2 : Nat) (a3 : Int32) (a4 : Int32) (M : FM), WI Z hx N M → Z a0 → Z a2 → (∀ a, Z a) → pq (k69 a0 a1 a2 a3 a4 M) (QA S Z hx N M)) (a0 : Nat) (M : FM) (w : WI Z hx N M) (z_a0 : Z a0) (hA : (∀ a, Z a)) : pq (FX2_start_0 n k15 k69 a0 M) (QA S Z hx N M) := by
  have hN := w.2.2.1
  have w0 := wk_r (S := S) w
  delta FX2_start_0 BX2_start_0
  refine pq_g (fun g1 => ?_)
  have z2 := wk_z (i := 0) (f := 193) w0 rfl z_a0
  refine pq_g (fun g3 => ?_)
  have z4 := wk_z (i := 0) (f := 190) w0 rfl z_a0
  have f5 := sS_190 w0.1.1 g3
  refine pq_g (fun g6 => ?_)
  refine pq_g (fun g7 => ?_)
  refine pq_b (wX4_describe S Z (sb rfl hS) n _ _ _ w0.1 z2) (fun r8 K9 => ?_)
  have w10 := wk_t w0 K9 hN
  exact q_tA hN w10 (hk15 _ _ _ _ w10.1 z_a0 hA)
theorem wX2_start_L (S Z : Nat → Prop) {hx N : Nat} (hS : ∀ x, fe_mem lX2_start x = true → S x) (n : Nat) : ∀ j : Nat, (∀ (a0 : Nat) (a1 : Int32) (a2 : Int32) (M : FM), WI Z hx N M → Z a0 → (∀ a, Z a) → pq ((FX2_start_L n j).1 a0 a1 a2 M) (QA S Z hx N M)) ∧ (∀ (a0 : Nat) (a1 : Int32) (a2 : Nat) (a3 : Int32) (a4 : Int32) (M : FM), WI Z hx N M → Z a0 → Z a2 → (∀ a, Z a) → pq ((FX2_start_L n j).2 a0 a1 a2 a3 a4 M) (QA S Z hx N M))
  | 0 => ⟨by intros; exact pq_0, by intros; exact pq_0⟩
  | j + 1 => ⟨fun a0 a1 a2 M w => wX2_start_15 S Z hS n _ (wX2_start_L S Z hS n j).1 _ (wX2_start_L S Z hS n j).2 a0 a1 a2 M w, fun a0 a1 a2 a3 a4 M w => wX2_start_69 S Z hS n _ (wX2_start_L S Z hS n j).1 _ (wX2_start_L S Z hS n j).2 a0 a1 a2 a3 a4 M w⟩
theorem wX2_start (S Z : Nat → Prop) {hx N : Nat} (hS : ∀ x, fe_mem lX2_start x = true → S x) (n : Nat) (a0 : Nat) (M : FM) (w : WI Z hx N M) (z_a0 : Z a0) (hA : (∀ a, Z a)) : pq (FX2_start n a0 M) (QA S Z hx N M) := wX2_start_0 S Z hS n _ (wX2_start_L S Z hS n n).1 _ (wX2_start_L S Z hS n n).2 a0 M w z_a0 hA
def lX1_start : List Nat := [22, 23, 37, 41, 91, 92, 95, 96, 174, 179, 208, 218, 249, 250, 251, 252, 253, 254, 255, 260, 262, 266, 267, 268, 280, 281, 282, 283, 285, 1093, 1178, 1201, 1203, 1204, 1261]
theorem wX1_start_0 (S Z : Nat → Prop) {hx N : Nat} (hS : ∀ x, fe_mem lX1_start x = true → S x) (n : Nat) (a0 : Nat) (M : FM) (w : WI Z hx N M) (z_a0 : Z a0) (hA : (∀ a, Z a)) : pq (FX1_start_0 n a0 M) (QA S Z hx N M) := by
  have hN := w.2.2.1
  have w0 := wk_r (S := S) w
  delta FX1_start_0 BX1_start_0
  refine pq_g (fun g1 => ?_)
  have z2 := wk_z (i := 0) (f := 17) w0 rfl z_a0
  refine pq_g (fun g3 => ?_)
  refine pq_b (wX2_start S Z (sb rfl hS) n _ _ w0.1 z2 hA) (fun r4 K5 => ?_)
  have w6 := wk_t w0 K5 hN
  exact pq_s w6
theorem wX1_start (S Z : Nat → Prop) {hx N : Nat} (hS : ∀ x, fe_mem lX1_start x = true → S x) (n : Nat) (a0 : Nat) (M : FM) (w : WI Z hx N M) (z_a0 : Z a0) (hA : (∀ a, Z a)) : pq (FX1_start n a0 M) (QA S Z hx N M) := wX1_start_0 S Z hS n a0 M w z_a0 hA
def lX1_code : List Nat := []
theorem wX1_code_0 (S Z : Nat → Prop) {hx N : Nat} (hS : ∀ x, fe_mem lX1_code x = true → S x) (a0 : Nat) (M : FM) (w : WI Z hx N M) (z_a0 : Z a0) : pq (FX1_code_0 a0 M) (QA S Z hx N M) := by
  have hN := w.2.2.1
  have w0 := wk_r (S := S) w
  delta FX1_code_0 BX1_code_0
  refine pq_g (fun g1 => ?_)
  have z2 := wk_z (i := 0) (f := 17) w0 rfl z_a0
  refine pq_g (fun g3 => ?_)
  have z4 := wk_z (i := 0) (f := 189) w0 rfl z2
  refine pq_g (fun g5 => ?_)
  exact pq_s w0
theorem wX1_code (S Z : Nat → Prop) {hx N : Nat} (hS : ∀ x, fe_mem lX1_code x = true → S x) (a0 : Nat) (M : FM) (w : WI Z hx N M) (z_a0 : Z a0) : pq (FX1_code a0 M) (QA S Z hx N M) := wX1_code_0 S Z hS a0 M w z_a0
def lX1_processors : List Nat := []
theorem wX1_processors_0 (S Z : Nat → Prop) {hx N : Nat} (hS : ∀ x, fe_mem lX1_processors x = true → S x) (a0 : Nat) (M : FM) (w : WI Z hx N M) (z_a0 : Z a0) : pq (FX1_processors_0 a0 M) (QA S Z hx N M) := by
  have hN := w.2.2.1
  have w0 := wk_r (S := S) w
  delta FX1_processors_0 BX1_processors_0
  refine pq_g (fun g1 => ?_)
  have z2 := wk_z (i := 0) (f := 17) w0 rfl z_a0
  refine pq_g (fun g3 => ?_)
  have z4 := wk_z (i := 0) (f := 190) w0 rfl z2
  have f5 := sS_190 w0.1.1 g3
  refine pq_g (fun g6 => ?_)
  exact pq_s w0
theorem wX1_processors (S Z : Nat → Prop) {hx N : Nat} (hS : ∀ x, fe_mem lX1_processors x = true → S x) (a0 : Nat) (M : FM) (w : WI Z hx N M) (z_a0 : Z a0) : pq (FX1_processors a0 M) (QA S Z hx N M) := wX1_processors_0 S Z hS a0 M w z_a0
def lX1_sent : List Nat := []
theorem wX1_sent_0 (S Z : Nat → Prop) {hx N : Nat} (hS : ∀ x, fe_mem lX1_sent x = true → S x) (a0 : Nat) (M : FM) (w : WI Z hx N M) (z_a0 : Z a0) : pq (FX1_sent_0 a0 M) (QA S Z hx N M) := by
  have hN := w.2.2.1
  have w0 := wk_r (S := S) w
  delta FX1_sent_0 BX1_sent_0
  refine pq_g (fun g1 => ?_)
  have z2 := wk_z (i := 0) (f := 17) w0 rfl z_a0
  refine pq_g (fun g3 => ?_)
  have z4 := wk_z (i := 0) (f := 189) w0 rfl z2
  refine pq_g (fun g5 => ?_)
  have z6 := wk_z (i := 0) (f := 19) w0 rfl z4
  refine pq_g (fun g7 => ?_)
  have z8 := wk_z (i := 0) (f := 242) w0 rfl z6
  refine pq_g (fun g9 => ?_)
  exact pq_s w0
theorem wX1_sent (S Z : Nat → Prop) {hx N : Nat} (hS : ∀ x, fe_mem lX1_sent x = true → S x) (a0 : Nat) (M : FM) (w : WI Z hx N M) (z_a0 : Z a0) : pq (FX1_sent a0 M) (QA S Z hx N M) := wX1_sent_0 S Z hS a0 M w z_a0
def lX31_outAt : List Nat := []
theorem wX31_outAt_47 (S Z : Nat → Prop) {hx N : Nat} (hS : ∀ x, fe_mem lX31_outAt x = true → S x) (s0 : Int32) (M : FM) (w : WI Z hx N M) : pq (FX31_outAt_47 s0 M) (QA S Z hx N M) := by
  have hN := w.2.2.1
  have w0 := wk_r (S := S) w
  delta FX31_outAt_47 BX31_outAt_47
  exact pq_s w0
theorem wX31_outAt_28 (S Z : Nat → Prop) {hx N : Nat} (hS : ∀ x, fe_mem lX31_outAt x = true → S x) (M : FM) (w : WI Z hx N M) : pq (FX31_outAt_28 M) (QA S Z hx N M) := by
  have hN := w.2.2.1
  have w0 := wk_r (S := S) w
  delta FX31_outAt_28 BX31_outAt_28
  exact q_tA hN w0 (wX31_outAt_47 S Z hS _ _ w0.1 )
theorem wX31_outAt_0 (S Z : Nat → Prop) {hx N : Nat} (hS : ∀ x, fe_mem lX31_outAt x = true → S x) (a0 : Nat) (a1 : Int64) (M : FM) (w : WI Z hx N M) (z_a0 : Z a0) : pq (FX31_outAt_0 a0 a1 M) (QA S Z hx N M) := by
  have hN := w.2.2.1
  have w0 := wk_r (S := S) w
  delta FX31_outAt_0 BX31_outAt_0
  refine pq_fi (fun _ => ?_) (fun _ => ?_)
  · exact q_tA hN w0 (wX31_outAt_28 S Z hS _ w0.1 )
  · refine pq_g (fun g1 => ?_)
    refine pq_fi (fun _ => ?_) (fun _ => ?_)
    · exact q_tA hN w0 (wX31_outAt_28 S Z hS _ w0.1 )
    · refine pq_g (fun g2 => ?_)
      refine pq_fi (fun _ => ?_) (fun _ => ?_)
      · refine pq_g (fun g3 => ?_)
        have z4 := wk_z (i := 0) (f := 233) w0 rfl z_a0
        have f5 := sS_233 w0.1.1 g3
        refine pq_n ?_
        refine pq_g (fun g6 => ?_)
        exact q_tA hN w0 (wX31_outAt_47 S Z hS _ _ w0.1 )
      · exact q_tA hN w0 (wX31_outAt_28 S Z hS _ w0.1 )
theorem wX31_outAt (S Z : Nat → Prop) {hx N : Nat} (hS : ∀ x, fe_mem lX31_outAt x = true → S x) (a0 : Nat) (a1 : Int64) (M : FM) (w : WI Z hx N M) (z_a0 : Z a0) : pq (FX31_outAt a0 a1 M) (QA S Z hx N M) := wX31_outAt_0 S Z hS a0 a1 M w z_a0
def lX1_out : List Nat := []
theorem wX1_out_0 (S Z : Nat → Prop) {hx N : Nat} (hS : ∀ x, fe_mem lX1_out x = true → S x) (a0 : Nat) (a1 : Int64) (M : FM) (w : WI Z hx N M) (z_a0 : Z a0) : pq (FX1_out_0 a0 a1 M) (QA S Z hx N M) := by
  have hN := w.2.2.1
  have w0 := wk_r (S := S) w
  delta FX1_out_0 BX1_out_0
  refine pq_g (fun g1 => ?_)
  have z2 := wk_z (i := 0) (f := 17) w0 rfl z_a0
  refine pq_g (fun g3 => ?_)
  have z4 := wk_z (i := 0) (f := 189) w0 rfl z2
  refine pq_g (fun g5 => ?_)
  have z6 := wk_z (i := 0) (f := 19) w0 rfl z4
  refine pq_g (fun g7 => ?_)
  have z8 := wk_z (i := 0) (f := 242) w0 rfl z6
  refine pq_g (fun g9 => ?_)
  refine pq_b (wX31_outAt S Z (sb rfl hS) _ _ _ w0.1 z8) (fun r10 K11 => ?_)
  have w12 := wk_t w0 K11 hN
  exact pq_s w12
theorem wX1_out (S Z : Nat → Prop) {hx N : Nat} (hS : ∀ x, fe_mem lX1_out x = true → S x) (a0 : Nat) (a1 : Int64) (M : FM) (w : WI Z hx N M) (z_a0 : Z a0) : pq (FX1_out a0 a1 M) (QA S Z hx N M) := wX1_out_0 S Z hS a0 a1 M w z_a0
def lX1_waiting : List Nat := []
theorem wX1_waiting_0 (S Z : Nat → Prop) {hx N : Nat} (hS : ∀ x, fe_mem lX1_waiting x = true → S x) (a0 : Nat) (M : FM) (w : WI Z hx N M) (z_a0 : Z a0) : pq (FX1_waiting_0 a0 M) (QA S Z hx N M) := by
  have hN := w.2.2.1
  have w0 := wk_r (S := S) w
  delta FX1_waiting_0 BX1_waiting_0
  refine pq_g (fun g1 => ?_)
  have z2 := wk_z (i := 0) (f := 17) w0 rfl z_a0
  refine pq_g (fun g3 => ?_)
  exact pq_s w0
theorem wX1_waiting (S Z : Nat → Prop) {hx N : Nat} (hS : ∀ x, fe_mem lX1_waiting x = true → S x) (a0 : Nat) (M : FM) (w : WI Z hx N M) (z_a0 : Z a0) : pq (FX1_waiting a0 M) (QA S Z hx N M) := wX1_waiting_0 S Z hS a0 M w z_a0
def lX1_changed : List Nat := []
theorem wX1_changed_0 (S Z : Nat → Prop) {hx N : Nat} (hS : ∀ x, fe_mem lX1_changed x = true → S x) (a0 : Nat) (M : FM) (w : WI Z hx N M) (z_a0 : Z a0) : pq (FX1_changed_0 a0 M) (QA S Z hx N M) := by
  have hN := w.2.2.1
  have w0 := wk_r (S := S) w
  delta FX1_changed_0 BX1_changed_0
  refine pq_g (fun g1 => ?_)
  have z2 := wk_z (i := 0) (f := 17) w0 rfl z_a0
  refine pq_g (fun g3 => ?_)
  have z4 := wk_z (i := 0) (f := 189) w0 rfl z2
  refine pq_g (fun g5 => ?_)
  have z6 := wk_z (i := 0) (f := 20) w0 rfl z4
  refine pq_g (fun g7 => ?_)
  have z8 := wk_z (i := 0) (f := 59) w0 rfl z6
  refine pq_g (fun g9 => ?_)
  exact pq_s w0
theorem wX1_changed (S Z : Nat → Prop) {hx N : Nat} (hS : ∀ x, fe_mem lX1_changed x = true → S x) (a0 : Nat) (M : FM) (w : WI Z hx N M) (z_a0 : Z a0) : pq (FX1_changed a0 M) (QA S Z hx N M) := wX1_changed_0 S Z hS a0 M w z_a0
def lX10_time : List Nat := []
theorem wX10_time_0 (S Z : Nat → Prop) {hx N : Nat} (hS : ∀ x, fe_mem lX10_time x = true → S x) (a0 : Nat) (M : FM) (w : WI Z hx N M) (z_a0 : Z a0) : pq (FX10_time_0 a0 M) (QA S Z hx N M) := by
  have hN := w.2.2.1
  have w0 := wk_r (S := S) w
  delta FX10_time_0 BX10_time_0
  refine pq_g (fun g1 => ?_)
  have z2 := wk_z (i := 0) (f := 19) w0 rfl z_a0
  refine pq_g (fun g3 => ?_)
  have z4 := wk_z (i := 0) (f := 240) w0 rfl z2
  refine pq_g (fun g5 => ?_)
  have z6 := wk_z (i := 0) (f := 246) w0 rfl z4
  have f7 := sS_246 w0.1.1 g5
  refine pq_g (fun g8 => ?_)
  exact pq_s w0
theorem wX10_time (S Z : Nat → Prop) {hx N : Nat} (hS : ∀ x, fe_mem lX10_time x = true → S x) (a0 : Nat) (M : FM) (w : WI Z hx N M) (z_a0 : Z a0) : pq (FX10_time a0 M) (QA S Z hx N M) := wX10_time_0 S Z hS a0 M w z_a0
def lX1_time : List Nat := []
theorem wX1_time_0 (S Z : Nat → Prop) {hx N : Nat} (hS : ∀ x, fe_mem lX1_time x = true → S x) (a0 : Nat) (M : FM) (w : WI Z hx N M) (z_a0 : Z a0) : pq (FX1_time_0 a0 M) (QA S Z hx N M) := by
  have hN := w.2.2.1
  have w0 := wk_r (S := S) w
  delta FX1_time_0 BX1_time_0
  refine pq_g (fun g1 => ?_)
  have z2 := wk_z (i := 0) (f := 17) w0 rfl z_a0
  refine pq_g (fun g3 => ?_)
  have z4 := wk_z (i := 0) (f := 189) w0 rfl z2
  refine pq_g (fun g5 => ?_)
  refine pq_b (wX10_time S Z (sb rfl hS) _ _ w0.1 z4) (fun r6 K7 => ?_)
  have w8 := wk_t w0 K7 hN
  exact pq_s w8
theorem wX1_time (S Z : Nat → Prop) {hx N : Nat} (hS : ∀ x, fe_mem lX1_time x = true → S x) (a0 : Nat) (M : FM) (w : WI Z hx N M) (z_a0 : Z a0) : pq (FX1_time a0 M) (QA S Z hx N M) := wX1_time_0 S Z hS a0 M w z_a0
def lX1_breaches : List Nat := []
theorem wX1_breaches_0 (S Z : Nat → Prop) {hx N : Nat} (hS : ∀ x, fe_mem lX1_breaches x = true → S x) (a0 : Nat) (M : FM) (w : WI Z hx N M) (z_a0 : Z a0) : pq (FX1_breaches_0 a0 M) (QA S Z hx N M) := by
  have hN := w.2.2.1
  have w0 := wk_r (S := S) w
  delta FX1_breaches_0 BX1_breaches_0
  exact pq_s w0
theorem wX1_breaches (S Z : Nat → Prop) {hx N : Nat} (hS : ∀ x, fe_mem lX1_breaches x = true → S x) (a0 : Nat) (M : FM) (w : WI Z hx N M) (z_a0 : Z a0) : pq (FX1_breaches a0 M) (QA S Z hx N M) := wX1_breaches_0 S Z hS a0 M w z_a0
def lX1_feed : List Nat := [262, 1261]
theorem wX1_feed_0 (S Z : Nat → Prop) {hx N : Nat} (hS : ∀ x, fe_mem lX1_feed x = true → S x) (n : Nat) (a0 : Nat) (a1 : Int32) (a2 : Int32) (a3 : Int32) (a4 : Int32) (a5 : Int32) (M : FM) (w : WI Z hx N M) (z_a0 : Z a0) : pq (FX1_feed_0 n a0 a1 a2 a3 a4 a5 M) (QA S Z hx N M) := by
  have hN := w.2.2.1
  have w0 := wk_r (S := S) w
  delta FX1_feed_0 BX1_feed_0
  refine pq_g (fun g1 => ?_)
  have z2 := wk_z (i := 0) (f := 17) w0 rfl z_a0
  refine pq_g (fun g3 => ?_)
  have z4 := wk_z (i := 0) (f := 191) w0 rfl z2
  refine pq_g (fun g5 => ?_)
  refine pq_fi (fun _ => ?_) (fun _ => ?_)
  · refine pq_g (fun g6 => ?_)
    have z7 := wk_z (i := 0) (f := 17) w0 rfl z_a0
    refine pq_g (fun g8 => ?_)
    have z9 := wk_z (i := 0) (f := 191) w0 rfl z7
    refine pq_g (fun g10 => ?_)
    refine pq_b (wX3_addNumber S Z (sb rfl hS) n _ _ _ w0.1 z9) (fun r11 K12 => ?_)
    have w13 := wk_t w0 K12 hN
    refine pq_g (fun g14 => ?_)
    have z15 := wk_z (i := 0) (f := 17) w13 rfl z_a0
    refine pq_g (fun g16 => ?_)
    have z17 := wk_z (i := 0) (f := 191) w13 rfl z15
    refine pq_g (fun g18 => ?_)
    refine pq_b (wX3_addNumber S Z (sb rfl hS) n _ _ _ w13.1 z17) (fun r19 K20 => ?_)
    have w21 := wk_t w13 K20 hN
    refine pq_g (fun g22 => ?_)
    have z23 := wk_z (i := 0) (f := 17) w21 rfl z_a0
    refine pq_g (fun g24 => ?_)
    have z25 := wk_z (i := 0) (f := 191) w21 rfl z23
    refine pq_g (fun g26 => ?_)
    refine pq_b (wX3_addNumber S Z (sb rfl hS) n _ _ _ w21.1 z25) (fun r27 K28 => ?_)
    have w29 := wk_t w21 K28 hN
    refine pq_g (fun g30 => ?_)
    have z31 := wk_z (i := 0) (f := 17) w29 rfl z_a0
    refine pq_g (fun g32 => ?_)
    have z33 := wk_z (i := 0) (f := 191) w29 rfl z31
    refine pq_g (fun g34 => ?_)
    refine pq_b (wX3_addNumber S Z (sb rfl hS) n _ _ _ w29.1 z33) (fun r35 K36 => ?_)
    have w37 := wk_t w29 K36 hN
    refine pq_g (fun g38 => ?_)
    have z39 := wk_z (i := 0) (f := 17) w37 rfl z_a0
    refine pq_g (fun g40 => ?_)
    have z41 := wk_z (i := 0) (f := 191) w37 rfl z39
    refine pq_g (fun g42 => ?_)
    refine pq_b (wX3_addNumber S Z (sb rfl hS) n _ _ _ w37.1 z41) (fun r43 K44 => ?_)
    have w45 := wk_t w37 K44 hN
    refine pq_g (fun g46 => ?_)
    have z47 := wk_z (i := 0) (f := 17) w45 rfl z_a0
    refine pq_g (fun g48 => ?_)
    have z49 := wk_z (i := 0) (f := 191) w45 rfl z47
    refine pq_g (fun g50 => ?_)
    exact pq_s w45
  · exact pq_0
theorem wX1_feed (S Z : Nat → Prop) {hx N : Nat} (hS : ∀ x, fe_mem lX1_feed x = true → S x) (n : Nat) (a0 : Nat) (a1 : Int32) (a2 : Int32) (a3 : Int32) (a4 : Int32) (a5 : Int32) (M : FM) (w : WI Z hx N M) (z_a0 : Z a0) : pq (FX1_feed n a0 a1 a2 a3 a4 a5 M) (QA S Z hx N M) := wX1_feed_0 S Z hS n a0 a1 a2 a3 a4 a5 M w z_a0
def lX1_proper : List Nat := []
theorem wX1_proper_0 (S Z : Nat → Prop) {hx N : Nat} (hS : ∀ x, fe_mem lX1_proper x = true → S x) (a0 : Int32) (M : FM) (w : WI Z hx N M) : pq (FX1_proper_0 a0 M) (QV S Z hx N M) := by
  have hN := w.2.2.1
  have w0 := wk_r (S := S) w
  delta FX1_proper_0 BX1_proper_0
  refine pq_fi (fun _ => ?_) (fun _ => ?_)
  · exact pq_0
  · exact pq_s w0
theorem wX1_proper (S Z : Nat → Prop) {hx N : Nat} (hS : ∀ x, fe_mem lX1_proper x = true → S x) (a0 : Int32) (M : FM) (w : WI Z hx N M) : pq (FX1_proper a0 M) (QV S Z hx N M) := wX1_proper_0 S Z hS a0 M w 
def lX1_end : List Nat := [262]
theorem wX1_end_23 (S Z : Nat → Prop) {hx N : Nat} (hS : ∀ x, fe_mem lX1_end x = true → S x) (a0 : Nat) (a1 : Int32) (s0 : Int32) (M : FM) (w : WI Z hx N M) (z_a0 : Z a0) : pq (FX1_end_23 a0 a1 s0 M) (QV S Z hx N M) := by
  have hN := w.2.2.1
  have w0 := wk_r (S := S) w
  delta FX1_end_23 BX1_end_23
  refine pq_b (wX1_proper S Z (sb rfl hS) _ _ w0.1 ) (fun r1 K2 => ?_)
  have w3 := wk_t w0 K2 hN
  refine pq_g (fun g4 => ?_)
  have z5 := wk_z (i := 0) (f := 17) w3 rfl z_a0
  refine pq_g (fun g6 => ?_)
  have z7 := wk_z (i := 0) (f := 191) w3 rfl z5
  refine pq_g (fun g8 => ?_)
  extract_lets +onlyGivenNames M10
  have w9 : Wk S Z hx N M M10 := wk_fI hN w3 rfl rfl g8 z7 (Or.inr (hS 262 rfl))
  exact pq_s w9
theorem wX1_end_22 (S Z : Nat → Prop) {hx N : Nat} (hS : ∀ x, fe_mem lX1_end x = true → S x) (a0 : Nat) (a1 : Int32) (M : FM) (w : WI Z hx N M) (z_a0 : Z a0) : pq (FX1_end_22 a0 a1 M) (QV S Z hx N M) := by
  have hN := w.2.2.1
  have w0 := wk_r (S := S) w
  delta FX1_end_22 BX1_end_22
  exact q_tV hN w0 (wX1_end_23 S Z hS _ _ _ _ w0.1 z_a0)
theorem wX1_end_0 (S Z : Nat → Prop) {hx N : Nat} (hS : ∀ x, fe_mem lX1_end x = true → S x) (a0 : Nat) (a1 : Int32) (M : FM) (w : WI Z hx N M) (z_a0 : Z a0) : pq (FX1_end_0 a0 a1 M) (QV S Z hx N M) := by
  have hN := w.2.2.1
  have w0 := wk_r (S := S) w
  delta FX1_end_0 BX1_end_0
  refine pq_fi (fun _ => ?_) (fun _ => ?_)
  · exact q_tV hN w0 (wX1_end_22 S Z hS _ _ _ w0.1 z_a0)
  · refine pq_g (fun g1 => ?_)
    have z2 := wk_z (i := 0) (f := 17) w0 rfl z_a0
    refine pq_g (fun g3 => ?_)
    have z4 := wk_z (i := 0) (f := 191) w0 rfl z2
    refine pq_g (fun g5 => ?_)
    refine pq_fi (fun _ => ?_) (fun _ => ?_)
    · exact q_tV hN w0 (wX1_end_22 S Z hS _ _ _ w0.1 z_a0)
    · exact q_tV hN w0 (wX1_end_23 S Z hS _ _ _ _ w0.1 z_a0)
theorem wX1_end (S Z : Nat → Prop) {hx N : Nat} (hS : ∀ x, fe_mem lX1_end x = true → S x) (a0 : Nat) (a1 : Int32) (M : FM) (w : WI Z hx N M) (z_a0 : Z a0) : pq (FX1_end a0 a1 M) (QV S Z hx N M) := wX1_end_0 S Z hS a0 a1 M w z_a0
def lX90_number : List Nat := []
theorem wX90_number_8 (S Z : Nat → Prop) {hx N : Nat} (hS : ∀ x, fe_mem lX90_number x = true → S x) (n : Nat) (k8 : Nat → Int64 → Int64 → Int32 → FM → Option (Int64 × FM)) (hk8 : ∀ (a0 : Nat) (a1 : Int64) (a4 : Int64) (a6 : Int32) (M : FM), WI Z hx N M → Z a0 → pq (k8 a0 a1 a4 a6 M) (QA S Z hx N M)) (a0 : Nat) (a1 : Int64) (a4 : Int64) (a6 : Int32) (M : FM) (w : WI Z hx N M) (z_a0 : Z a0) : pq (FX90_number_8 n k8 a0 a1 a4 a6 M) (QA S Z hx N M) := by
  have hN := w.2.2.1
  have w0 := wk_r (S := S) w
  delta FX90_number_8 BX90_number_8
  refine pq_fi (fun _ => ?_) (fun _ => ?_)
  · exact pq_s w0
  · refine pq_g (fun g1 => ?_)
    have z2 := wk_z (i := 0) (f := 186) w0 rfl z_a0
    refine pq_g (fun g3 => ?_)
    refine pq_b (wX3_get S Z (sb rfl hS) _ _ _ w0.1 z2) (fun r4 K5 => ?_)
    have w6 := wk_t w0 K5 hN
    exact q_tA hN w6 (hk8 _ _ _ _ _ w6.1 z_a0)
theorem wX90_number_0 (S Z : Nat → Prop) {hx N : Nat} (hS : ∀ x, fe_mem lX90_number x = true → S x) (n : Nat) (k8 : Nat → Int64 → Int64 → Int32 → FM → Option (Int64 × FM)) (hk8 : ∀ (a0 : Nat) (a1 : Int64) (a4 : Int64) (a6 : Int32) (M : FM), WI Z hx N M → Z a0 → pq (k8 a0 a1 a4 a6 M) (QA S Z hx N M)) (a0 : Nat) (a1 : Int64) (a3 : Int32) (M : FM) (w : WI Z hx N M) (z_a0 : Z a0) : pq (FX90_number_0 n k8 a0 a1 a3 M) (QA S Z hx N M) := by
  have hN := w.2.2.1
  have w0 := wk_r (S := S) w
  delta FX90_number_0 BX90_number_0
  exact q_tA hN w0 (hk8 _ _ _ _ _ w0.1 z_a0)
theorem wX90_number_L (S Z : Nat → Prop) {hx N : Nat} (hS : ∀ x, fe_mem lX90_number x = true → S x) (n : Nat) : ∀ j : Nat, ∀ (a0 : Nat) (a1 : Int64) (a4 : Int64) (a6 : Int32) (M : FM), WI Z hx N M → Z a0 → pq (FX90_number_L8 n j a0 a1 a4 a6 M) (QA S Z hx N M)
  | 0 => by intros; exact pq_0
  | j + 1 => fun a0 a1 a4 a6 M w => wX90_number_8 S Z hS n _ (wX90_number_L S Z hS n j) a0 a1 a4 a6 M w
theorem wX90_number (S Z : Nat → Prop) {hx N : Nat} (hS : ∀ x, fe_mem lX90_number x = true → S x) (n : Nat) (a0 : Nat) (a1 : Int64) (a3 : Int32) (M : FM) (w : WI Z hx N M) (z_a0 : Z a0) : pq (FX90_number n a0 a1 a3 M) (QA S Z hx N M) := wX90_number_0 S Z hS n _ (wX90_number_L S Z hS n n) a0 a1 a3 M w z_a0
def lX90_begins : List Nat := []
theorem wX90_begins_19 (S Z : Nat → Prop) {hx N : Nat} (hS : ∀ x, fe_mem lX90_begins x = true → S x) (n : Nat) (s0 : Int32) (M : FM) (w : WI Z hx N M) : pq (FX90_begins_19 n s0 M) (QA S Z hx N M) := by
  have hN := w.2.2.1
  have w0 := wk_r (S := S) w
  delta FX90_begins_19 BX90_begins_19
  refine pq_g (fun _ => ?_)
  exact pq_s w0
theorem wX90_begins_0 (S Z : Nat → Prop) {hx N : Nat} (hS : ∀ x, fe_mem lX90_begins x = true → S x) (n : Nat) (a0 : Nat) (M : FM) (w : WI Z hx N M) (z_a0 : Z a0) : pq (FX90_begins_0 n a0 M) (QA S Z hx N M) := by
  have hN := w.2.2.1
  have w0 := wk_r (S := S) w
  delta FX90_begins_0 BX90_begins_0
  refine pq_g (fun g1 => ?_)
  refine pq_b (wX90_number S Z (sb rfl hS) n _ _ _ _ w0.1 z_a0) (fun r2 K3 => ?_)
  have w4 := wk_t w0 K3 hN
  refine pq_fi (fun _ => ?_) (fun _ => ?_)
  · exact q_tA hN w4 (wX90_begins_19 S Z hS n _ _ w4.1 )
  · exact q_tA hN w4 (wX90_begins_19 S Z hS n _ _ w4.1 )
theorem wX90_begins (S Z : Nat → Prop) {hx N : Nat} (hS : ∀ x, fe_mem lX90_begins x = true → S x) (n : Nat) (a0 : Nat) (M : FM) (w : WI Z hx N M) (z_a0 : Z a0) : pq (FX90_begins n a0 M) (QA S Z hx N M) := wX90_begins_0 S Z hS n a0 M w z_a0
def lX90_fits : List Nat := []
theorem wX90_fits_33 (S Z : Nat → Prop) {hx N : Nat} (hS : ∀ x, fe_mem lX90_fits x = true → S x) (s0 : Int32) (M : FM) (w : WI Z hx N M) : pq (FX90_fits_33 s0 M) (QA S Z hx N M) := by
  have hN := w.2.2.1
  have w0 := wk_r (S := S) w
  delta FX90_fits_33 BX90_fits_33
  refine pq_g (fun _ => ?_)
  exact pq_s w0
theorem wX90_fits_32 (S Z : Nat → Prop) {hx N : Nat} (hS : ∀ x, fe_mem lX90_fits x = true → S x) (M : FM) (w : WI Z hx N M) : pq (FX90_fits_32 M) (QA S Z hx N M) := by
  have hN := w.2.2.1
  have w0 := wk_r (S := S) w
  delta FX90_fits_32 BX90_fits_32
  exact q_tA hN w0 (wX90_fits_33 S Z hS _ _ w0.1 )
theorem wX90_fits_0 (S Z : Nat → Prop) {hx N : Nat} (hS : ∀ x, fe_mem lX90_fits x = true → S x) (a0 : Int64) (a2 : Int64) (a4 : Int64) (M : FM) (w : WI Z hx N M) : pq (FX90_fits_0 a0 a2 a4 M) (QA S Z hx N M) := by
  have hN := w.2.2.1
  have w0 := wk_r (S := S) w
  delta FX90_fits_0 BX90_fits_0
  refine pq_fi (fun _ => ?_) (fun _ => ?_)
  · exact q_tA hN w0 (wX90_fits_32 S Z hS _ w0.1 )
  · refine pq_fi (fun _ => ?_) (fun _ => ?_)
    · exact q_tA hN w0 (wX90_fits_32 S Z hS _ w0.1 )
    · refine pq_fi (fun _ => ?_) (fun _ => ?_)
      · exact q_tA hN w0 (wX90_fits_32 S Z hS _ w0.1 )
      · refine pq_fi (fun _ => ?_) (fun _ => ?_)
        · exact q_tA hN w0 (wX90_fits_32 S Z hS _ w0.1 )
        · exact q_tA hN w0 (wX90_fits_33 S Z hS _ _ w0.1 )
theorem wX90_fits (S Z : Nat → Prop) {hx N : Nat} (hS : ∀ x, fe_mem lX90_fits x = true → S x) (a0 : Int64) (a2 : Int64) (a4 : Int64) (M : FM) (w : WI Z hx N M) : pq (FX90_fits a0 a2 a4 M) (QA S Z hx N M) := wX90_fits_0 S Z hS a0 a2 a4 M w 
def lX90_isSegment : List Nat := []
theorem wX90_isSegment_22 (S Z : Nat → Prop) {hx N : Nat} (hS : ∀ x, fe_mem lX90_isSegment x = true → S x) (n : Nat) (s0 : Int32) (M : FM) (w : WI Z hx N M) : pq (FX90_isSegment_22 n s0 M) (QA S Z hx N M) := by
  have hN := w.2.2.1
  have w0 := wk_r (S := S) w
  delta FX90_isSegment_22 BX90_isSegment_22
  refine pq_g (fun _ => ?_)
  exact pq_s w0
theorem wX90_isSegment_0 (S Z : Nat → Prop) {hx N : Nat} (hS : ∀ x, fe_mem lX90_isSegment x = true → S x) (n : Nat) (a0 : Nat) (a1 : Int64) (a3 : Int32) (M : FM) (w : WI Z hx N M) (z_a0 : Z a0) : pq (FX90_isSegment_0 n a0 a1 a3 M) (QA S Z hx N M) := by
  have hN := w.2.2.1
  have w0 := wk_r (S := S) w
  delta FX90_isSegment_0 BX90_isSegment_0
  refine pq_g (fun g1 => ?_)
  refine pq_b (wX90_number S Z (sb rfl hS) n _ _ _ _ w0.1 z_a0) (fun r2 K3 => ?_)
  have w4 := wk_t w0 K3 hN
  refine pq_fi (fun _ => ?_) (fun _ => ?_)
  · exact q_tA hN w4 (wX90_isSegment_22 S Z hS n _ _ w4.1 )
  · exact q_tA hN w4 (wX90_isSegment_22 S Z hS n _ _ w4.1 )
theorem wX90_isSegment (S Z : Nat → Prop) {hx N : Nat} (hS : ∀ x, fe_mem lX90_isSegment x = true → S x) (n : Nat) (a0 : Nat) (a1 : Int64) (a3 : Int32) (M : FM) (w : WI Z hx N M) (z_a0 : Z a0) : pq (FX90_isSegment n a0 a1 a3 M) (QA S Z hx N M) := wX90_isSegment_0 S Z hS n a0 a1 a3 M w z_a0
def lX90_meets : List Nat := []
theorem wX90_meets_129 (S Z : Nat → Prop) {hx N : Nat} (hS : ∀ x, fe_mem lX90_meets x = true → S x) (n : Nat) (s0 : Int32) (M : FM) (w : WI Z hx N M) : pq (FX90_meets_129 n s0 M) (QA S Z hx N M) := by
  have hN := w.2.2.1
  have w0 := wk_r (S := S) w
  delta FX90_meets_129 BX90_meets_129
  refine pq_g (fun _ => ?_)
  exact pq_s w0
theorem wX90_meets_128 (S Z : Nat → Prop) {hx N : Nat} (hS : ∀ x, fe_mem lX90_meets x = true → S x) (n : Nat) (M : FM) (w : WI Z hx N M) : pq (FX90_meets_128 n M) (QA S Z hx N M) := by
  have hN := w.2.2.1
  have w0 := wk_r (S := S) w
  delta FX90_meets_128 BX90_meets_128
  exact q_tA hN w0 (wX90_meets_129 S Z hS n _ _ w0.1 )
theorem wX90_meets_0 (S Z : Nat → Prop) {hx N : Nat} (hS : ∀ x, fe_mem lX90_meets x = true → S x) (n : Nat) (a0 : Nat) (a1 : Int64) (a3 : Int32) (a4 : Int32) (M : FM) (w : WI Z hx N M) (z_a0 : Z a0) : pq (FX90_meets_0 n a0 a1 a3 a4 M) (QA S Z hx N M) := by
  have hN := w.2.2.1
  have w0 := wk_r (S := S) w
  delta FX90_meets_0 BX90_meets_0
  refine pq_g (fun g1 => ?_)
  refine pq_b (wX90_number S Z (sb rfl hS) n _ _ _ _ w0.1 z_a0) (fun r2 K3 => ?_)
  have w4 := wk_t w0 K3 hN
  refine pq_g (fun g5 => ?_)
  refine pq_b (wX90_number S Z (sb rfl hS) n _ _ _ _ w4.1 z_a0) (fun r6 K7 => ?_)
  have w8 := wk_t w4 K7 hN
  refine pq_g (fun g9 => ?_)
  refine pq_b (wX90_number S Z (sb rfl hS) n _ _ _ _ w8.1 z_a0) (fun r10 K11 => ?_)
  have w12 := wk_t w8 K11 hN
  refine pq_g (fun g13 => ?_)
  refine pq_b (wX90_number S Z (sb rfl hS) n _ _ _ _ w12.1 z_a0) (fun r14 K15 => ?_)
  have w16 := wk_t w12 K15 hN
  refine pq_g (fun g17 => ?_)
  refine pq_b (wX90_isSegment S Z (sb rfl hS) n _ _ _ _ w16.1 z_a0) (fun r18 K19 => ?_)
  have w20 := wk_t w16 K19 hN
  refine pq_fi (fun _ => ?_) (fun _ => ?_)
  · exact q_tA hN w20 (wX90_meets_128 S Z hS n _ w20.1 )
  · refine pq_fi (fun _ => ?_) (fun _ => ?_)
    · exact q_tA hN w20 (wX90_meets_128 S Z hS n _ w20.1 )
    · refine pq_fi (fun _ => ?_) (fun _ => ?_)
      · exact q_tA hN w20 (wX90_meets_128 S Z hS n _ w20.1 )
      · refine pq_fi (fun _ => ?_) (fun _ => ?_)
        · exact q_tA hN w20 (wX90_meets_128 S Z hS n _ w20.1 )
        · refine pq_fi (fun _ => ?_) (fun _ => ?_)
          · exact q_tA hN w20 (wX90_meets_128 S Z hS n _ w20.1 )
          · exact q_tA hN w20 (wX90_meets_129 S Z hS n _ _ w20.1 )
theorem wX90_meets (S Z : Nat → Prop) {hx N : Nat} (hS : ∀ x, fe_mem lX90_meets x = true → S x) (n : Nat) (a0 : Nat) (a1 : Int64) (a3 : Int32) (a4 : Int32) (M : FM) (w : WI Z hx N M) (z_a0 : Z a0) : pq (FX90_meets n a0 a1 a3 a4 M) (QA S Z hx N M) := wX90_meets_0 S Z hS n a0 a1 a3 a4 M w z_a0
def lX11_has : List Nat := []
theorem wX11_has_36 (S Z : Nat → Prop) {hx N : Nat} (hS : ∀ x, fe_mem lX11_has x = true → S x) (s0 : Int32) (M : FM) (w : WI Z hx N M) : pq (FX11_has_36 s0 M) (QA S Z hx N M) := by
  have hN := w.2.2.1
  have w0 := wk_r (S := S) w
  delta FX11_has_36 BX11_has_36
  refine pq_g (fun _ => ?_)
  exact pq_s w0
theorem wX11_has_35 (S Z : Nat → Prop) {hx N : Nat} (hS : ∀ x, fe_mem lX11_has x = true → S x) (M : FM) (w : WI Z hx N M) : pq (FX11_has_35 M) (QA S Z hx N M) := by
  have hN := w.2.2.1
  have w0 := wk_r (S := S) w
  delta FX11_has_35 BX11_has_35
  exact q_tA hN w0 (wX11_has_36 S Z hS _ _ w0.1 )
theorem wX11_has_0 (S Z : Nat → Prop) {hx N : Nat} (hS : ∀ x, fe_mem lX11_has x = true → S x) (a0 : Nat) (a1 : Int64) (a3 : Int64) (M : FM) (w : WI Z hx N M) (z_a0 : Z a0) : pq (FX11_has_0 a0 a1 a3 M) (QA S Z hx N M) := by
  have hN := w.2.2.1
  have w0 := wk_r (S := S) w
  delta FX11_has_0 BX11_has_0
  refine pq_fi (fun _ => ?_) (fun _ => ?_)
  · exact q_tA hN w0 (wX11_has_35 S Z hS _ w0.1 )
  · refine pq_g (fun g1 => ?_)
    refine pq_fi (fun _ => ?_) (fun _ => ?_)
    · exact q_tA hN w0 (wX11_has_35 S Z hS _ w0.1 )
    · exact q_tA hN w0 (wX11_has_36 S Z hS _ _ w0.1 )
theorem wX11_has (S Z : Nat → Prop) {hx N : Nat} (hS : ∀ x, fe_mem lX11_has x = true → S x) (a0 : Nat) (a1 : Int64) (a3 : Int64) (M : FM) (w : WI Z hx N M) (z_a0 : Z a0) : pq (FX11_has a0 a1 a3 M) (QA S Z hx N M) := wX11_has_0 S Z hS a0 a1 a3 M w z_a0
def lX90_segmentFault : List Nat := []
theorem wX90_segmentFault_158 (S Z : Nat → Prop) {hx N : Nat} (hS : ∀ x, fe_mem lX90_segmentFault x = true → S x) (n : Nat) (k158 : Nat → Int64 → Int32 → Int32 → FM → Option (Int32 × FM)) (hk158 : ∀ (a0 : Nat) (a1 : Int64) (a3 : Int32) (a13 : Int32) (M : FM), WI Z hx N M → Z a0 → pq (k158 a0 a1 a3 a13 M) (QA S Z hx N M)) (a0 : Nat) (a1 : Int64) (a3 : Int32) (a13 : Int32) (M : FM) (w : WI Z hx N M) (z_a0 : Z a0) : pq (FX90_segmentFault_158 n k158 a0 a1 a3 a13 M) (QA S Z hx N M) := by
  have hN := w.2.2.1
  have w0 := wk_r (S := S) w
  delta FX90_segmentFault_158 BX90_segmentFault_158
  refine pq_fi (fun _ => ?_) (fun _ => ?_)
  · exact pq_s w0
  · refine pq_g (fun g1 => ?_)
    refine pq_b (wX90_meets S Z (sb rfl hS) n _ _ _ _ _ w0.1 z_a0) (fun r2 K3 => ?_)
    have w4 := wk_t w0 K3 hN
    refine pq_fi (fun _ => ?_) (fun _ => ?_)
    · exact q_tA hN w4 (hk158 _ _ _ _ _ w4.1 z_a0)
    · exact pq_s w4
theorem wX90_segmentFault_155 (S Z : Nat → Prop) {hx N : Nat} (hS : ∀ x, fe_mem lX90_segmentFault x = true → S x) (n : Nat) (k158 : Nat → Int64 → Int32 → Int32 → FM → Option (Int32 × FM)) (hk158 : ∀ (a0 : Nat) (a1 : Int64) (a3 : Int32) (a13 : Int32) (M : FM), WI Z hx N M → Z a0 → pq (k158 a0 a1 a3 a13 M) (QA S Z hx N M)) (a0 : Nat) (a1 : Int64) (a3 : Int32) (M : FM) (w : WI Z hx N M) (z_a0 : Z a0) : pq (FX90_segmentFault_155 n k158 a0 a1 a3 M) (QA S Z hx N M) := by
  have hN := w.2.2.1
  have w0 := wk_r (S := S) w
  delta FX90_segmentFault_155 BX90_segmentFault_155
  exact q_tA hN w0 (hk158 _ _ _ _ _ w0.1 z_a0)
theorem wX90_segmentFault_152 (S Z : Nat → Prop) {hx N : Nat} (hS : ∀ x, fe_mem lX90_segmentFault x = true → S x) (n : Nat) (k158 : Nat → Int64 → Int32 → Int32 → FM → Option (Int32 × FM)) (hk158 : ∀ (a0 : Nat) (a1 : Int64) (a3 : Int32) (a13 : Int32) (M : FM), WI Z hx N M → Z a0 → pq (k158 a0 a1 a3 a13 M) (QA S Z hx N M)) (M : FM) (w : WI Z hx N M) : pq (FX90_segmentFault_152 n k158 M) (QA S Z hx N M) := by
  have hN := w.2.2.1
  have w0 := wk_r (S := S) w
  delta FX90_segmentFault_152 BX90_segmentFault_152
  exact pq_s w0
theorem wX90_segmentFault_113 (S Z : Nat → Prop) {hx N : Nat} (hS : ∀ x, fe_mem lX90_segmentFault x = true → S x) (n : Nat) (k158 : Nat → Int64 → Int32 → Int32 → FM → Option (Int32 × FM)) (hk158 : ∀ (a0 : Nat) (a1 : Int64) (a3 : Int32) (a13 : Int32) (M : FM), WI Z hx N M → Z a0 → pq (k158 a0 a1 a3 a13 M) (QA S Z hx N M)) (M : FM) (w : WI Z hx N M) : pq (FX90_segmentFault_113 n k158 M) (QA S Z hx N M) := by
  have hN := w.2.2.1
  have w0 := wk_r (S := S) w
  delta FX90_segmentFault_113 BX90_segmentFault_113
  exact pq_s w0
theorem wX90_segmentFault_78 (S Z : Nat → Prop) {hx N : Nat} (hS : ∀ x, fe_mem lX90_segmentFault x = true → S x) (n : Nat) (k158 : Nat → Int64 → Int32 → Int32 → FM → Option (Int32 × FM)) (hk158 : ∀ (a0 : Nat) (a1 : Int64) (a3 : Int32) (a13 : Int32) (M : FM), WI Z hx N M → Z a0 → pq (k158 a0 a1 a3 a13 M) (QA S Z hx N M)) (a0 : Nat) (a1 : Int64) (a3 : Int32) (a4 : Int64) (a6 : Int64) (a8 : Int64) (a10 : Int64) (s0 : Int32) (M : FM) (w : WI Z hx N M) (z_a0 : Z a0) : pq (FX90_segmentFault_78 n k158 a0 a1 a3 a4 a6 a8 a10 s0 M) (QA S Z hx N M) := by
  have hN := w.2.2.1
  have w0 := wk_r (S := S) w
  delta FX90_segmentFault_78 BX90_segmentFault_78
  refine pq_g (fun g1 => ?_)
  refine pq_b (wX90_number S Z (sb rfl hS) n _ _ _ _ w0.1 z_a0) (fun r2 K3 => ?_)
  have w4 := wk_t w0 K3 hN
  refine pq_g (fun g5 => ?_)
  have z6 := wk_z (i := 0) (f := 186) w4 rfl z_a0
  refine pq_g (fun g7 => ?_)
  refine pq_b (wX90_fits S Z (sb rfl hS) _ _ _ _ w4.1 ) (fun r8 K9 => ?_)
  have w10 := wk_t w4 K9 hN
  refine pq_fi (fun _ => ?_) (fun _ => ?_)
  · exact q_tA hN w10 (wX90_segmentFault_113 S Z hS n _ hk158 _ w10.1 )
  · refine pq_fi (fun _ => ?_) (fun _ => ?_)
    · refine pq_fi (fun _ => ?_) (fun _ => ?_)
      · exact q_tA hN w10 (wX90_segmentFault_155 S Z hS n _ hk158 _ _ _ _ w10.1 z_a0)
      · refine pq_fi (fun _ => ?_) (fun _ => ?_)
        · exact q_tA hN w10 (wX90_segmentFault_152 S Z hS n _ hk158 _ w10.1 )
        · refine pq_fi (fun _ => ?_) (fun _ => ?_)
          · exact q_tA hN w10 (wX90_segmentFault_152 S Z hS n _ hk158 _ w10.1 )
          · refine pq_g (fun g11 => ?_)
            have z12 := wk_z (i := 0) (f := 187) w10 rfl z_a0
            refine pq_g (fun g13 => ?_)
            refine pq_b (wX11_has S Z (sb rfl hS) _ _ _ _ w10.1 z12) (fun r14 K15 => ?_)
            have w16 := wk_t w10 K15 hN
            refine pq_fi (fun _ => ?_) (fun _ => ?_)
            · exact q_tA hN w16 (wX90_segmentFault_152 S Z hS n _ hk158 _ w16.1 )
            · exact q_tA hN w16 (wX90_segmentFault_155 S Z hS n _ hk158 _ _ _ _ w16.1 z_a0)
    · exact q_tA hN w10 (wX90_segmentFault_113 S Z hS n _ hk158 _ w10.1 )
theorem wX90_segmentFault_77 (S Z : Nat → Prop) {hx N : Nat} (hS : ∀ x, fe_mem lX90_segmentFault x = true → S x) (n : Nat) (k158 : Nat → Int64 → Int32 → Int32 → FM → Option (Int32 × FM)) (hk158 : ∀ (a0 : Nat) (a1 : Int64) (a3 : Int32) (a13 : Int32) (M : FM), WI Z hx N M → Z a0 → pq (k158 a0 a1 a3 a13 M) (QA S Z hx N M)) (a0 : Nat) (a1 : Int64) (a3 : Int32) (a4 : Int64) (a6 : Int64) (a8 : Int64) (a10 : Int64) (M : FM) (w : WI Z hx N M) (z_a0 : Z a0) : pq (FX90_segmentFault_77 n k158 a0 a1 a3 a4 a6 a8 a10 M) (QA S Z hx N M) := by
  have hN := w.2.2.1
  have w0 := wk_r (S := S) w
  delta FX90_segmentFault_77 BX90_segmentFault_77
  exact q_tA hN w0 (wX90_segmentFault_78 S Z hS n _ hk158 _ _ _ _ _ _ _ _ _ w0.1 z_a0)
theorem wX90_segmentFault_73 (S Z : Nat → Prop) {hx N : Nat} (hS : ∀ x, fe_mem lX90_segmentFault x = true → S x) (n : Nat) (k158 : Nat → Int64 → Int32 → Int32 → FM → Option (Int32 × FM)) (hk158 : ∀ (a0 : Nat) (a1 : Int64) (a3 : Int32) (a13 : Int32) (M : FM), WI Z hx N M → Z a0 → pq (k158 a0 a1 a3 a13 M) (QA S Z hx N M)) (a0 : Nat) (a1 : Int64) (a3 : Int32) (a4 : Int64) (a6 : Int64) (a8 : Int64) (a10 : Int64) (M : FM) (w : WI Z hx N M) (z_a0 : Z a0) : pq (FX90_segmentFault_73 n k158 a0 a1 a3 a4 a6 a8 a10 M) (QA S Z hx N M) := by
  have hN := w.2.2.1
  have w0 := wk_r (S := S) w
  delta FX90_segmentFault_73 BX90_segmentFault_73
  exact q_tA hN w0 (wX90_segmentFault_78 S Z hS n _ hk158 _ _ _ _ _ _ _ _ _ w0.1 z_a0)
theorem wX90_segmentFault_0 (S Z : Nat → Prop) {hx N : Nat} (hS : ∀ x, fe_mem lX90_segmentFault x = true → S x) (n : Nat) (k158 : Nat → Int64 → Int32 → Int32 → FM → Option (Int32 × FM)) (hk158 : ∀ (a0 : Nat) (a1 : Int64) (a3 : Int32) (a13 : Int32) (M : FM), WI Z hx N M → Z a0 → pq (k158 a0 a1 a3 a13 M) (QA S Z hx N M)) (a0 : Nat) (a1 : Int64) (a3 : Int32) (M : FM) (w : WI Z hx N M) (z_a0 : Z a0) : pq (FX90_segmentFault_0 n k158 a0 a1 a3 M) (QA S Z hx N M) := by
  have hN := w.2.2.1
  have w0 := wk_r (S := S) w
  delta FX90_segmentFault_0 BX90_segmentFault_0
  refine pq_g (fun g1 => ?_)
  refine pq_b (wX90_number S Z (sb rfl hS) n _ _ _ _ w0.1 z_a0) (fun r2 K3 => ?_)
  have w4 := wk_t w0 K3 hN
  refine pq_g (fun g5 => ?_)
  refine pq_b (wX90_number S Z (sb rfl hS) n _ _ _ _ w4.1 z_a0) (fun r6 K7 => ?_)
  have w8 := wk_t w4 K7 hN
  refine pq_g (fun g9 => ?_)
  refine pq_b (wX90_number S Z (sb rfl hS) n _ _ _ _ w8.1 z_a0) (fun r10 K11 => ?_)
  have w12 := wk_t w8 K11 hN
  refine pq_fi (fun _ => ?_) (fun _ => ?_)
  · exact q_tA hN w12 (wX90_segmentFault_73 S Z hS n _ hk158 _ _ _ _ _ _ _ _ w12.1 z_a0)
  · refine pq_fi (fun _ => ?_) (fun _ => ?_)
    · exact q_tA hN w12 (wX90_segmentFault_77 S Z hS n _ hk158 _ _ _ _ _ _ _ _ w12.1 z_a0)
    · refine pq_fi (fun _ => ?_) (fun _ => ?_)
      · exact q_tA hN w12 (wX90_segmentFault_77 S Z hS n _ hk158 _ _ _ _ _ _ _ _ w12.1 z_a0)
      · exact q_tA hN w12 (wX90_segmentFault_73 S Z hS n _ hk158 _ _ _ _ _ _ _ _ w12.1 z_a0)
theorem wX90_segmentFault_L (S Z : Nat → Prop) {hx N : Nat} (hS : ∀ x, fe_mem lX90_segmentFault x = true → S x) (n : Nat) : ∀ j : Nat, ∀ (a0 : Nat) (a1 : Int64) (a3 : Int32) (a13 : Int32) (M : FM), WI Z hx N M → Z a0 → pq (FX90_segmentFault_L158 n j a0 a1 a3 a13 M) (QA S Z hx N M)
  | 0 => by intros; exact pq_0
  | j + 1 => fun a0 a1 a3 a13 M w => wX90_segmentFault_158 S Z hS n _ (wX90_segmentFault_L S Z hS n j) a0 a1 a3 a13 M w
theorem wX90_segmentFault (S Z : Nat → Prop) {hx N : Nat} (hS : ∀ x, fe_mem lX90_segmentFault x = true → S x) (n : Nat) (a0 : Nat) (a1 : Int64) (a3 : Int32) (M : FM) (w : WI Z hx N M) (z_a0 : Z a0) : pq (FX90_segmentFault n a0 a1 a3 M) (QA S Z hx N M) := wX90_segmentFault_0 S Z hS n _ (wX90_segmentFault_L S Z hS n n) a0 a1 a3 M w z_a0
def lX90_fault : List Nat := []
theorem wX90_fault_237 (S Z : Nat → Prop) {hx N : Nat} (hS : ∀ x, fe_mem lX90_fault x = true → S x) (n : Nat) (k155 : Nat → Int64 → Int32 → Int32 → FM → Option (Int32 × FM)) (hk155 : ∀ (a0 : Nat) (a1 : Int64) (a3 : Int32) (a4 : Int32) (M : FM), WI Z hx N M → Z a0 → pq (k155 a0 a1 a3 a4 M) (QA S Z hx N M)) (s0 : Int32) (M : FM) (w : WI Z hx N M) : pq (FX90_fault_237 n k155 s0 M) (QA S Z hx N M) := by
  have hN := w.2.2.1
  have w0 := wk_r (S := S) w
  delta FX90_fault_237 BX90_fault_237
  exact pq_s w0
theorem wX90_fault_231 (S Z : Nat → Prop) {hx N : Nat} (hS : ∀ x, fe_mem lX90_fault x = true → S x) (n : Nat) (k155 : Nat → Int64 → Int32 → Int32 → FM → Option (Int32 × FM)) (hk155 : ∀ (a0 : Nat) (a1 : Int64) (a3 : Int32) (a4 : Int32) (M : FM), WI Z hx N M → Z a0 → pq (k155 a0 a1 a3 a4 M) (QA S Z hx N M)) (M : FM) (w : WI Z hx N M) : pq (FX90_fault_231 n k155 M) (QA S Z hx N M) := by
  have hN := w.2.2.1
  have w0 := wk_r (S := S) w
  delta FX90_fault_231 BX90_fault_231
  exact q_tA hN w0 (wX90_fault_237 S Z hS n _ hk155 _ _ w0.1 )
theorem wX90_fault_182 (S Z : Nat → Prop) {hx N : Nat} (hS : ∀ x, fe_mem lX90_fault x = true → S x) (n : Nat) (k155 : Nat → Int64 → Int32 → Int32 → FM → Option (Int32 × FM)) (hk155 : ∀ (a0 : Nat) (a1 : Int64) (a3 : Int32) (a4 : Int32) (M : FM), WI Z hx N M → Z a0 → pq (k155 a0 a1 a3 a4 M) (QA S Z hx N M)) (a0 : Nat) (a1 : Int64) (a3 : Int32) (a4 : Int32) (s0 : Int32) (M : FM) (w : WI Z hx N M) (z_a0 : Z a0) : pq (FX90_fault_182 n k155 a0 a1 a3 a4 s0 M) (QA S Z hx N M) := by
  have hN := w.2.2.1
  have w0 := wk_r (S := S) w
  delta FX90_fault_182 BX90_fault_182
  refine pq_fi (fun _ => ?_) (fun _ => ?_)
  · exact q_tA hN w0 (hk155 _ _ _ _ _ w0.1 z_a0)
  · exact pq_s w0
theorem wX90_fault_155 (S Z : Nat → Prop) {hx N : Nat} (hS : ∀ x, fe_mem lX90_fault x = true → S x) (n : Nat) (k155 : Nat → Int64 → Int32 → Int32 → FM → Option (Int32 × FM)) (hk155 : ∀ (a0 : Nat) (a1 : Int64) (a3 : Int32) (a4 : Int32) (M : FM), WI Z hx N M → Z a0 → pq (k155 a0 a1 a3 a4 M) (QA S Z hx N M)) (a0 : Nat) (a1 : Int64) (a3 : Int32) (a4 : Int32) (M : FM) (w : WI Z hx N M) (z_a0 : Z a0) : pq (FX90_fault_155 n k155 a0 a1 a3 a4 M) (QA S Z hx N M) := by
  have hN := w.2.2.1
  have w0 := wk_r (S := S) w
  delta FX90_fault_155 BX90_fault_155
  refine pq_fi (fun _ => ?_) (fun _ => ?_)
  · refine pq_g (fun g1 => ?_)
    refine pq_b (wX90_number S Z (sb rfl hS) n _ _ _ _ w0.1 z_a0) (fun r2 K3 => ?_)
    have w4 := wk_t w0 K3 hN
    refine pq_fi (fun _ => ?_) (fun _ => ?_)
    · refine pq_g (fun g5 => ?_)
      have z6 := wk_z (i := 0) (f := 187) w4 rfl z_a0
      refine pq_g (fun g7 => ?_)
      refine pq_b (wX11_has S Z (sb rfl hS) _ _ _ _ w4.1 z6) (fun r8 K9 => ?_)
      have w10 := wk_t w4 K9 hN
      refine pq_fi (fun _ => ?_) (fun _ => ?_)
      · exact q_tA hN w10 (wX90_fault_231 S Z hS n _ hk155 _ w10.1 )
      · exact q_tA hN w10 (wX90_fault_237 S Z hS n _ hk155 _ _ w10.1 )
    · exact q_tA hN w4 (wX90_fault_231 S Z hS n _ hk155 _ w4.1 )
  · refine pq_g (fun g11 => ?_)
    refine pq_b (wX90_isSegment S Z (sb rfl hS) n _ _ _ _ w0.1 z_a0) (fun r12 K13 => ?_)
    have w14 := wk_t w0 K13 hN
    refine pq_fi (fun _ => ?_) (fun _ => ?_)
    · exact q_tA hN w14 (wX90_fault_182 S Z hS n _ hk155 _ _ _ _ _ _ w14.1 z_a0)
    · refine pq_g (fun g15 => ?_)
      refine pq_b (wX90_segmentFault S Z (sb rfl hS) n _ _ _ _ w14.1 z_a0) (fun r16 K17 => ?_)
      have w18 := wk_t w14 K17 hN
      exact q_tA hN w18 (wX90_fault_182 S Z hS n _ hk155 _ _ _ _ _ _ w18.1 z_a0)
theorem wX90_fault_150 (S Z : Nat → Prop) {hx N : Nat} (hS : ∀ x, fe_mem lX90_fault x = true → S x) (n : Nat) (k155 : Nat → Int64 → Int32 → Int32 → FM → Option (Int32 × FM)) (hk155 : ∀ (a0 : Nat) (a1 : Int64) (a3 : Int32) (a4 : Int32) (M : FM), WI Z hx N M → Z a0 → pq (k155 a0 a1 a3 a4 M) (QA S Z hx N M)) (M : FM) (w : WI Z hx N M) : pq (FX90_fault_150 n k155 M) (QA S Z hx N M) := by
  have hN := w.2.2.1
  have w0 := wk_r (S := S) w
  delta FX90_fault_150 BX90_fault_150
  exact pq_s w0
theorem wX90_fault_66 (S Z : Nat → Prop) {hx N : Nat} (hS : ∀ x, fe_mem lX90_fault x = true → S x) (n : Nat) (k155 : Nat → Int64 → Int32 → Int32 → FM → Option (Int32 × FM)) (hk155 : ∀ (a0 : Nat) (a1 : Int64) (a3 : Int32) (a4 : Int32) (M : FM), WI Z hx N M → Z a0 → pq (k155 a0 a1 a3 a4 M) (QA S Z hx N M)) (M : FM) (w : WI Z hx N M) : pq (FX90_fault_66 n k155 M) (QA S Z hx N M) := by
  have hN := w.2.2.1
  have w0 := wk_r (S := S) w
  delta FX90_fault_66 BX90_fault_66
  exact pq_s w0
theorem wX90_fault_0 (S Z : Nat → Prop) {hx N : Nat} (hS : ∀ x, fe_mem lX90_fault x = true → S x) (n : Nat) (k155 : Nat → Int64 → Int32 → Int32 → FM → Option (Int32 × FM)) (hk155 : ∀ (a0 : Nat) (a1 : Int64) (a3 : Int32) (a4 : Int32) (M : FM), WI Z hx N M → Z a0 → pq (k155 a0 a1 a3 a4 M) (QA S Z hx N M)) (a0 : Nat) (M : FM) (w : WI Z hx N M) (z_a0 : Z a0) : pq (FX90_fault_0 n k155 a0 M) (QA S Z hx N M) := by
  have hN := w.2.2.1
  have w0 := wk_r (S := S) w
  delta FX90_fault_0 BX90_fault_0
  refine pq_g (fun g1 => ?_)
  have z2 := wk_z (i := 0) (f := 186) w0 rfl z_a0
  refine pq_g (fun g3 => ?_)
  refine pq_fi (fun _ => ?_) (fun _ => ?_)
  · refine pq_g (fun g4 => ?_)
    refine pq_b (wX90_begins S Z (sb rfl hS) n _ _ w0.1 z_a0) (fun r5 K6 => ?_)
    have w7 := wk_t w0 K6 hN
    refine pq_fi (fun _ => ?_) (fun _ => ?_)
    · exact pq_s w7
    · refine pq_g (fun g8 => ?_)
      refine pq_b (wX90_number S Z (sb rfl hS) n _ _ _ _ w7.1 z_a0) (fun r9 K10 => ?_)
      have w11 := wk_t w7 K10 hN
      refine pq_fi (fun _ => ?_) (fun _ => ?_)
      · refine pq_g (fun g12 => ?_)
        refine pq_b (wX90_number S Z (sb rfl hS) n _ _ _ _ w11.1 z_a0) (fun r13 K14 => ?_)
        have w15 := wk_t w11 K14 hN
        refine pq_fi (fun _ => ?_) (fun _ => ?_)
        · refine pq_g (fun g16 => ?_)
          refine pq_b (wX90_number S Z (sb rfl hS) n _ _ _ _ w15.1 z_a0) (fun r17 K18 => ?_)
          have w19 := wk_t w15 K18 hN
          refine pq_fi (fun _ => ?_) (fun _ => ?_)
          · refine pq_g (fun g20 => ?_)
            refine pq_b (wX90_number S Z (sb rfl hS) n _ _ _ _ w19.1 z_a0) (fun r21 K22 => ?_)
            have w23 := wk_t w19 K22 hN
            refine pq_g (fun g24 => ?_)
            refine pq_b (wX90_number S Z (sb rfl hS) n _ _ _ _ w23.1 z_a0) (fun r25 K26 => ?_)
            have w27 := wk_t w23 K26 hN
            refine pq_g (fun g28 => ?_)
            refine pq_b (wX90_number S Z (sb rfl hS) n _ _ _ _ w27.1 z_a0) (fun r29 K30 => ?_)
            have w31 := wk_t w27 K30 hN
            refine pq_fi (fun _ => ?_) (fun _ => ?_)
            · refine pq_g (fun g32 => ?_)
              refine pq_b (wX90_number S Z (sb rfl hS) n _ _ _ _ w31.1 z_a0) (fun r33 K34 => ?_)
              have w35 := wk_t w31 K34 hN
              refine pq_fi (fun _ => ?_) (fun _ => ?_)
              · refine pq_fi (fun _ => ?_) (fun _ => ?_)
                · exact q_tA hN w35 (wX90_fault_150 S Z hS n _ hk155 _ w35.1 )
                · refine pq_fi (fun _ => ?_) (fun _ => ?_)
                  · exact q_tA hN w35 (wX90_fault_150 S Z hS n _ hk155 _ w35.1 )
                  · refine pq_g (fun g36 => ?_)
                    have z37 := wk_z (i := 0) (f := 186) w35 rfl z_a0
                    refine pq_g (fun g38 => ?_)
                    refine pq_b (wX90_fits S Z (sb rfl hS) _ _ _ _ w35.1 ) (fun r39 K40 => ?_)
                    have w41 := wk_t w35 K40 hN
                    refine pq_fi (fun _ => ?_) (fun _ => ?_)
                    · exact q_tA hN w41 (wX90_fault_150 S Z hS n _ hk155 _ w41.1 )
                    · exact q_tA hN w41 (hk155 _ _ _ _ _ w41.1 z_a0)
              · exact q_tA hN w35 (wX90_fault_150 S Z hS n _ hk155 _ w35.1 )
            · exact q_tA hN w31 (wX90_fault_150 S Z hS n _ hk155 _ w31.1 )
          · exact q_tA hN w19 (wX90_fault_66 S Z hS n _ hk155 _ w19.1 )
        · exact q_tA hN w15 (wX90_fault_66 S Z hS n _ hk155 _ w15.1 )
      · exact q_tA hN w11 (wX90_fault_66 S Z hS n _ hk155 _ w11.1 )
  · exact pq_s w0
theorem wX90_fault_L (S Z : Nat → Prop) {hx N : Nat} (hS : ∀ x, fe_mem lX90_fault x = true → S x) (n : Nat) : ∀ j : Nat, ∀ (a0 : Nat) (a1 : Int64) (a3 : Int32) (a4 : Int32) (M : FM), WI Z hx N M → Z a0 → pq (FX90_fault_L155 n j a0 a1 a3 a4 M) (QA S Z hx N M)
  | 0 => by intros; exact pq_0
  | j + 1 => fun a0 a1 a3 a4 M w => wX90_fault_155 S Z hS n _ (wX90_fault_L S Z hS n j) a0 a1 a3 a4 M w
theorem wX90_fault (S Z : Nat → Prop) {hx N : Nat} (hS : ∀ x, fe_mem lX90_fault x = true → S x) (n : Nat) (a0 : Nat) (M : FM) (w : WI Z hx N M) (z_a0 : Z a0) : pq (FX90_fault n a0 M) (QA S Z hx N M) := wX90_fault_0 S Z hS n _ (wX90_fault_L S Z hS n n) a0 M w z_a0
