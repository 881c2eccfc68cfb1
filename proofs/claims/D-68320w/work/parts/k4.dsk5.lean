/-! disks: the component's request, its stretches -/
set_option maxRecDepth 100000
abbrev Seg : Type := Int64 × Int64
def smL (L : List Seg) : Int64 := L.foldl (fun a x => a + x.2) 0
theorem smL_a (L : List Seg) (x : Seg) : smL (L ++ [x]) = smL L + x.2 := by
  unfold smL
  rw [List.foldl_append]
  rfl
def StrV (s : Nat) (M : FM) (L : List Seg) : Prop := M.1 87 s 0 = nI L.length ∧ M.2.1 88 s 0 = smL L ∧ M.1 89 s 0 = Int32.ofInt 0 ∧ M.2.1 90 s 0 = Int64.ofInt 0 ∧
  ∀ j, j < L.length → M.2.1 3 (M.2.2 85 s 0) j = (L.getD j (0, 0)).1 ∧ M.2.1 3 (M.2.2 86 s 0) j = (L.getD j (0, 0)).2
def clL (l : List Blk) : List Seg := (l.tail.filter (fun x => !x.2.2)).map (fun x => (x.1, x.2.1))
def opL (l : List Blk) : List Seg := (l.tail.filter (fun x => x.2.2)).map (fun x => (x.1, x.2.1))
theorem clL_1 (x : Blk) : clL ([] ++ [x]) = clL [] := rfl
theorem opL_1 (x : Blk) : opL ([] ++ [x]) = opL [] := rfl
theorem tl_a {l : List Blk} (h : l ≠ []) (x : Blk) : (l ++ [x]).tail = l.tail ++ [x] := by
  cases l with
  | nil => exact absurd rfl h
  | cons a t => rfl
theorem clL_a {l : List Blk} (h : l ≠ []) (x : Blk) : clL (l ++ [x]) = if x.2.2 = true then clL l else clL l ++ [(x.1, x.2.1)] := by
  unfold clL
  rw [tl_a h, List.filter_append, List.map_append]
  cases hx : x.2.2 with
  | true => simp [List.filter_cons, hx]
  | false => simp [List.filter_cons, hx]
theorem opL_a {l : List Blk} (h : l ≠ []) (x : Blk) : opL (l ++ [x]) = if x.2.2 = true then opL l ++ [(x.1, x.2.1)] else opL l := by
  unfold opL
  rw [tl_a h, List.filter_append, List.map_append]
  cases hx : x.2.2 with
  | true => simp [List.filter_cons, hx]
  | false => simp [List.filter_cons, hx]
theorem clL_n (l : List Blk) : (clL l).length ≤ l.length - 1 := by
  unfold clL
  rw [List.length_map]
  exact Nat.le_trans (List.length_filter_le _ _) (by rw [List.length_tail]; exact Nat.le_refl _)
theorem opL_n (l : List Blk) : (opL l).length ≤ l.length - 1 := by
  unfold opL
  rw [List.length_map]
  exact Nat.le_trans (List.length_filter_le _ _) (by rw [List.length_tail]; exact Nat.le_refl _)
theorem gs_l {L : List Seg} {x d : Seg} {j : Nat} (h : j < L.length) : (L ++ [x]).getD j d = L.getD j d := by
  rw [List.getD_eq_getElem?_getD, List.getD_eq_getElem?_getD, List.getElem?_append_left h]
theorem gs_r {L : List Seg} {x d : Seg} : (L ++ [x]).getD L.length d = x := by
  rw [List.getD_eq_getElem?_getD, List.getElem?_append_right (Nat.le_refl _), Nat.sub_self]
  rfl
def PSt (s : Nat) (M : FM) (f b : Nat) : Prop := (b = s ∧ 87 ≤ f ∧ f ≤ 90) ∨ (f = 3 ∧ (b = M.2.2 85 s 0 ∨ b = M.2.2 86 s 0))
section Sv
variable {s : Nat} {M N : FM} {L : List Seg}
theorem strV_o {P : Nat → Nat → Prop} (h : Frm P M N) (hP : ∀ f b, P f b → ¬ PSt s M f b) (V : StrV s M L) : StrV s N L := by
  obtain ⟨v1, v2, v3, v4, v5⟩ := V
  have q : ∀ f i, 87 ≤ f → f ≤ 90 → N.1 f s i = M.1 f s i ∧ N.2.1 f s i = M.2.1 f s i := fun f i h1 h2 => h.2 f s i (fun z => hP f s z (Or.inl ⟨rfl, h1, h2⟩))
  refine ⟨(q 87 0 (by decide) (by decide)).1.trans v1, (q 88 0 (by decide) (by decide)).2.trans v2, (q 89 0 (by decide) (by decide)).1.trans v3, (q 90 0 (by decide) (by decide)).2.trans v4, fun j hj => ?_⟩
  rw [h.1, (h.2 3 _ j (fun z => hP 3 _ z (Or.inr ⟨rfl, Or.inl rfl⟩))).2, (h.2 3 _ j (fun z => hP 3 _ z (Or.inr ⟨rfl, Or.inr rfl⟩))).2]
  exact v5 j hj
theorem X22_add (T : Ty M) (W : Wf M) (n : fm_is M 30 30 s = true) (V : StrV s M L) (hL : L.length < 16) (a l : Int64) :
    HX22_add s a l M ∧ ∃ N, GX22_add s a l M = N ∧ Frm (PSt s M) M N ∧ Ty N ∧ StrV s N (L ++ [(a, l)]) := by
  obtain ⟨v1, v2, v3, v4, v5⟩ := V
  have ec : (nI L.length).toNatClampNeg = L.length := o_cl (by omega)
  have ne := sf_ne W (sS_85 W n) (sS_86 W n) (lo := 902) rfl (tN_85 T.1 n) (by decide)
  unfold HX22_add HX22_add_0 GX22_add GX22_add_0
  dsimp only
  rw [v1, ec]
  have f3 : Frm (PSt s M) M (fm_sL M 3 (M.2.2 85 s 0) L.length a) := frm_L frm_r (Or.inr ⟨rfl, Or.inl rfl⟩)
  have i1 : fm_in M (M.2.2 85 s 0) (nI L.length) = true := in_nI (N := 16) (tL_85 T.1 n) hL (by decide)
  have s3 : ∀ j, (fm_sL M 3 (M.2.2 85 s 0) L.length a).2.1 3 (M.2.2 85 s 0) j = if j = L.length then a else M.2.1 3 (M.2.2 85 s 0) j := fun j => by
    rw [rL]
    by_cases q : j = L.length
    · rw [if_pos ⟨rfl, rfl, q⟩, if_pos q]
    · rw [if_neg (fun z => q z.2.2), if_neg q]
  have s3' : ∀ j, (fm_sL M 3 (M.2.2 85 s 0) L.length a).2.1 3 (M.2.2 86 s 0) j = M.2.1 3 (M.2.2 86 s 0) j := fun j => oL (fun q => ne q.2.1.symm)
  have k3 : ∀ f, f ≠ 3 → (fm_sL M 3 (M.2.2 85 s 0) L.length a).2.1 f s 0 = M.2.1 f s 0 := fun f hf => oL (fun q => hf q.1)
  have j3 : (fm_sL M 3 (M.2.2 85 s 0) L.length a).1 = M.1 := rfl
  generalize fm_sL M 3 (M.2.2 85 s 0) L.length a = M3 at *
  have e86 : M3.2.2 86 s 0 = M.2.2 86 s 0 := by rw [f3.1]
  have c3 : M3.1 87 s 0 = nI L.length := by rw [j3]; exact v1
  rw [c3, e86, ec]
  have i2 : fm_in M3 (M.2.2 86 s 0) (nI L.length) = true := in_nI (N := 16) (by rw [f3.1]; exact tL_86 T.1 n) hL (by decide)
  have f6 : Frm (PSt s M) M (fm_sL M3 3 (M.2.2 86 s 0) L.length l) := frm_L f3 (Or.inr ⟨rfl, Or.inr rfl⟩)
  have s6 : ∀ j, (fm_sL M3 3 (M.2.2 86 s 0) L.length l).2.1 3 (M.2.2 86 s 0) j = if j = L.length then l else M.2.1 3 (M.2.2 86 s 0) j := fun j => by
    rw [rL]
    by_cases q : j = L.length
    · rw [if_pos ⟨rfl, rfl, q⟩, if_pos q]
    · rw [if_neg (fun z => q z.2.2), if_neg q, s3']
  have s6' : ∀ j, (fm_sL M3 3 (M.2.2 86 s 0) L.length l).2.1 3 (M.2.2 85 s 0) j = if j = L.length then a else M.2.1 3 (M.2.2 85 s 0) j := fun j => (oL (fun q => ne q.2.1)).trans (s3 j)
  have k6 : ∀ f, f ≠ 3 → (fm_sL M3 3 (M.2.2 86 s 0) L.length l).2.1 f s 0 = M.2.1 f s 0 := fun f hf => (oL (fun q => hf q.1)).trans (k3 f hf)
  have j6 : (fm_sL M3 3 (M.2.2 86 s 0) L.length l).1 = M.1 := j3
  generalize fm_sL M3 3 (M.2.2 86 s 0) L.length l = M6 at *
  have c6 : M6.1 87 s 0 = nI L.length := by rw [j6]; exact v1
  rw [c6, up_1 (by omega)]
  have f7 : Frm (PSt s M) M (fm_sI M6 87 s 0 (nI (L.length + 1))) := frm_I f6 (Or.inl ⟨rfl, by decide, by decide⟩)
  have l7 : (fm_sI M6 87 s 0 (nI (L.length + 1))).2.1 88 s 0 = smL L := (k6 88 (by decide)).trans v2
  rw [l7]
  have f8 : Frm (PSt s M) M (fm_sL (fm_sI M6 87 s 0 (nI (L.length + 1))) 88 s 0 (smL L + l)) := frm_L f7 (Or.inl ⟨rfl, by decide, by decide⟩)
  refine ⟨⟨i1, i2, trivial⟩, _, rfl, f8, ?_, ?_, ?_, ?_, ?_, fun j hj => ?_⟩
  · refine frm_ty f8 (fun f b q => ?_) T
    rcases q with ⟨_, q1, q2⟩ | ⟨q1, q2⟩
    · left
      have : f = 87 ∨ f = 88 ∨ f = 89 ∨ f = 90 := by omega
      rcases this with z | z | z | z <;> rw [z] <;> rfl
    · right
      refine ⟨q1, fun z => ?_⟩
      have z1 := fm_isd z
      rcases q2 with y | y
      · have := fm_isd (tN_85 T.1 n)
        rw [← y] at this
        omega
      · have := fm_isd (tN_86 T.1 n)
        rw [← y] at this
        omega
  · show (fm_sI M6 87 s 0 (nI (L.length + 1))).1 87 s 0 = _
    rw [rI, if_pos ⟨rfl, rfl, rfl⟩, List.length_append]
    rfl
  · rw [rL, if_pos ⟨rfl, rfl, rfl⟩, smL_a]
  · show (fm_sI M6 87 s 0 (nI (L.length + 1))).1 89 s 0 = _
    rw [oI (fun q => absurd q.1 (by decide)), j6]
    exact v3
  · rw [oL (fun q => absurd q.1 (by decide))]
    exact (k6 90 (by decide)).trans v4
  · rw [List.length_append] at hj
    have hj' : j < L.length + 1 := hj
    rw [f8.1, oL (fun q => absurd q.1 (by decide)), oL (fun q => absurd q.1 (by decide))]
    show M6.2.1 3 (M.2.2 85 s 0) j = _ ∧ M6.2.1 3 (M.2.2 86 s 0) j = _
    rw [s6, s6']
    by_cases q : j = L.length
    · rw [if_pos q, if_pos q, q, gs_r]
      exact ⟨rfl, rfl⟩
    · rw [if_neg q, if_neg q, gs_l (by omega)]
      exact v5 j (by omega)
theorem X22_clear (s : Nat) (M : FM) : ∃ N, GX22_clear s M = N ∧ Frm (PSt s M) M N ∧ StrV s N [] := by
  unfold GX22_clear GX22_clear_0
  dsimp only
  refine ⟨_, rfl, frm_L (frm_I (frm_L (frm_I frm_r (Or.inl ⟨rfl, by decide, by decide⟩)) (Or.inl ⟨rfl, by decide, by decide⟩)) (Or.inl ⟨rfl, by decide, by decide⟩)) (Or.inl ⟨rfl, by decide, by decide⟩), ?_, ?_, ?_, ?_, fun j hj => absurd hj (Nat.not_lt_zero j)⟩
  · simp (decide := true) only [rI, rL, rI1, rL0, true_and, and_true, and_self, false_and, if_true, if_false]
  · simp (decide := true) only [rI, rL, rI1, rL0, true_and, and_true, and_self, false_and, if_true, if_false]
  · simp (decide := true) only [rI, rL, rI1, rL0, true_and, and_true, and_self, false_and, if_true, if_false]
  · simp (decide := true) only [rI, rL, rI1, rL0, true_and, and_true, and_self, false_and, if_true, if_false]
end Sv
/-- where a request may change -/
def PRq (rq : Nat) (M : FM) (f b : Nat) : Prop := (b = rq ∧ 80 ≤ f ∧ f ≤ 84) ∨ PSt (M.2.2 78 rq 0) M f b ∨ PSt (M.2.2 79 rq 0) M f b
/-- the two stretches are apart -/
def StRq (rq : Nat) (M : FM) : Prop := M.2.2 78 rq 0 ≠ M.2.2 79 rq 0 ∧ M.2.2 85 (M.2.2 78 rq 0) 0 ≠ M.2.2 85 (M.2.2 79 rq 0) 0 ∧ M.2.2 86 (M.2.2 78 rq 0) 0 ≠ M.2.2 86 (M.2.2 79 rq 0) 0
abbrev SRq : Nat → Prop := fun x => fe_mem [80, 81, 82, 83, 84, 87, 88, 89, 90, 1085, 1086] x = true
section Pq
variable {rq r : Nat} {M N : FM}
theorem pst_78 {f b : Nat} (h : PSt (M.2.2 78 rq 0) M f b) : PRq rq M f b := Or.inr (Or.inl h)
theorem pst_79 {f b : Nat} (h : PSt (M.2.2 79 rq 0) M f b) : PRq rq M f b := Or.inr (Or.inr h)
theorem pst_f {s f b : Nat} (h : PSt s M f b) : f = 3 ∨ (87 ≤ f ∧ f ≤ 90) := by
  rcases h with ⟨_, h1, h2⟩ | ⟨h1, _⟩
  · exact Or.inr ⟨h1, h2⟩
  · exact Or.inl h1
theorem prq_f {f b : Nat} (h : PRq rq M f b) : f = 3 ∨ (80 ≤ f ∧ f ≤ 90) := by
  rcases h with ⟨_, h1, h2⟩ | h | h
  · exact Or.inr ⟨h1, by omega⟩
  · rcases pst_f h with z | z
    · exact Or.inl z
    · exact Or.inr ⟨by omega, z.2⟩
  · rcases pst_f h with z | z
    · exact Or.inl z
    · exact Or.inr ⟨by omega, z.2⟩
theorem pst_h0 {s : Nat} (T : Ty M) (n : fm_is M 30 30 s = true) : ∀ f x, PSt s M f x → M.2.2 0 x 0 ≠ 0 := fun f x h => by
  rcases h with ⟨h, _⟩ | ⟨_, h | h⟩
  · rw [h]; exact fm_ist rfl n
  · rw [h]; exact fm_ist rfl (tN_85 T.1 n)
  · rw [h]; exact fm_ist rfl (tN_86 T.1 n)
theorem prq_h0 (T : Ty M) (n : fm_is M 29 29 rq = true) : ∀ f x, PRq rq M f x → M.2.2 0 x 0 ≠ 0 := fun f x h => by
  rcases h with ⟨h, _⟩ | h | h
  · rw [h]; exact fm_ist rfl n
  · exact pst_h0 T (tN_78 T.1 n) f x h
  · exact pst_h0 T (tN_79 T.1 n) f x h
theorem pst_9 {s : Nat} (T : Ty M) (n : fm_is M 30 30 s = true) {b : Nat} (h : PSt s M 3 b) : ¬ fm_is M 904 904 b = true := fun z => by
  have z1 := fm_isd z
  rcases h with ⟨_, h1, _⟩ | ⟨_, y | y⟩
  · omega
  · have := fm_isd (tN_85 T.1 n)
    rw [← y] at this
    omega
  · have := fm_isd (tN_86 T.1 n)
    rw [← y] at this
    omega
theorem prq_ty (h : Frm (PRq rq M) M N) (n : fm_is M 29 29 rq = true) (T : Ty M) : Ty N := by
  refine frm_ty h (fun f b q => ?_) T
  rcases prq_f q with z | z
  · right
    refine ⟨z, ?_⟩
    subst z
    rcases q with ⟨_, q1, _⟩ | q | q
    · omega
    · exact pst_9 T (tN_78 T.1 n) q
    · exact pst_9 T (tN_79 T.1 n) q
  · left
    have : f = 80 ∨ f = 81 ∨ f = 82 ∨ f = 83 ∨ f = 84 ∨ f = 85 ∨ f = 86 ∨ f = 87 ∨ f = 88 ∨ f = 89 ∨ f = 90 := by omega
    rcases this with z | z | z | z | z | z | z | z | z | z | z <;> rw [z] <;> rfl
theorem pst_S {s : Nat} (T : Ty M) (W : Wf M) (n : fm_is M 30 30 s = true) : ∀ f x, PSt s M f x → SRq (lcn M f x) := fun f x h => by
  rcases h with ⟨_, h1, h2⟩ | ⟨h3, h⟩
  · unfold lcn
    rw [if_neg (by omega)]
    have : f = 87 ∨ f = 88 ∨ f = 89 ∨ f = 90 := by omega
    rcases this with z | z | z | z <;> rw [z] <;> rfl
  · unfold lcn
    rw [if_pos h3]
    rcases h with h | h
    · rcases sS_85 W n with z | z
      · exact absurd z (wf_n0 W (fm_ist rfl (tN_85 T.1 n)))
      · rw [h, z.2]; rfl
    · rcases sS_86 W n with z | z
      · exact absurd z (wf_n0 W (fm_ist rfl (tN_86 T.1 n)))
      · rw [h, z.2]; rfl
theorem prq_S (T : Ty M) (W : Wf M) (n : fm_is M 29 29 rq = true) : ∀ f x, PRq rq M f x → SRq (lcn M f x) := fun f x h => by
  rcases h with ⟨_, h1, h2⟩ | h | h
  · unfold lcn
    rw [if_neg (by omega)]
    have : f = 80 ∨ f = 81 ∨ f = 82 ∨ f = 83 ∨ f = 84 := by omega
    rcases this with z | z | z | z | z <;> rw [z] <;> rfl
  · exact pst_S T W (tN_78 T.1 n) f x h
  · exact pst_S T W (tN_79 T.1 n) f x h
theorem prq_k (h : Frm (PRq rq M) M N) (n : fm_is M 29 29 rq = true) (T : Ty M) (W : Wf M) : Wk SRq (fun _ => True) 0 (fm_nx M) M N := frm_k h (prq_h0 T n) (prq_S T W n) W
theorem prq_q (h : Frm (PRq rq M) M N) (n : fm_is M 29 29 rq = true) (R : RamI r M) : RamQ r M N := ramQ_k (prq_k h n R.1 R.2.1) (by unfold RFr; decide) (prq_ty h n R.1) R
/-- the other stretch stays -/
theorem pst_x (T : Ty M) (W : Wf M) (n : fm_is M 29 29 rq = true) (S : StRq rq M) : (∀ f b, PSt (M.2.2 78 rq 0) M f b → ¬ PSt (M.2.2 79 rq 0) M f b) ∧ ∀ f b, PSt (M.2.2 79 rq 0) M f b → ¬ PSt (M.2.2 78 rq 0) M f b := by
  have n8 := tN_78 T.1 n
  have n9 := tN_79 T.1 n
  have ne1 := sf_ne W (sS_85 W n8) (sS_86 W n9) (lo := 902) rfl (tN_85 T.1 n8) (by decide)
  have ne2 := sf_ne W (sS_86 W n8) (sS_85 W n9) (lo := 902) rfl (tN_86 T.1 n8) (by decide)
  have key : ∀ f b, PSt (M.2.2 78 rq 0) M f b → ¬ PSt (M.2.2 79 rq 0) M f b := fun f b h k => by
    rcases h with ⟨h1, h2, h3⟩ | ⟨h1, h⟩
    · rcases k with ⟨k1, _⟩ | ⟨k1, _⟩
      · exact S.1 (h1.symm.trans k1)
      · omega
    · rcases k with ⟨k1, k2, _⟩ | ⟨_, k⟩
      · omega
      · rcases h with h | h <;> rcases k with k | k
        · exact S.2.1 (h.symm.trans k)
        · exact ne1 (h.symm.trans k)
        · exact ne2 (h.symm.trans k)
        · exact S.2.2 (h.symm.trans k)
  exact ⟨key, fun f b h k => key f b k h⟩
end Pq
