/-! trees: the table of texts, the twin's methods over it (printed by gen/l4.py) -/
set_option maxRecDepth 100000
/-- texts of the program, from 100 on -/
def txTab : List (List Nat) := [[], [35, 97, 100, 100, 114, 101, 115, 115, 45, 99, 101, 108, 108, 115], [35, 105, 110, 116, 101, 114, 114, 117, 112, 116, 45, 99, 101, 108, 108, 115], [35, 115, 105, 122, 101, 45, 99, 101, 108, 108, 115], [47, 115, 111, 99, 47, 115, 101, 114, 105, 97, 108, 64, 49, 48, 48, 48, 48, 48, 48, 48], [98, 108, 111, 99, 107], [98, 108, 111, 99, 107, 64, 49, 48, 48, 48, 49, 48, 48, 48], [98, 111, 97, 114, 100], [99, 104, 111, 115, 101, 110], [99, 111, 109, 112, 97, 116, 105, 98, 108, 101], [99, 112, 117], [99, 112, 117, 64], [99, 112, 117, 64, 48], [99, 112, 117, 64, 49], [99, 112, 117, 64, 50], [99, 112, 117, 64, 51], [99, 112, 117, 115], [100, 101, 118, 105, 99, 101, 95, 116, 121, 112, 101], [101, 110, 100, 64, 49, 48, 48, 48, 48, 48], [105, 110, 116, 101, 114, 114, 117, 112, 116, 45, 99, 111, 110, 116, 114, 111, 108, 108, 101, 114], [105, 110, 116, 101, 114, 114, 117, 112, 116, 45, 99, 111, 110, 116, 114, 111, 108, 108, 101, 114, 64, 99, 48, 48, 48, 48, 48, 48], [105, 110, 116, 101, 114, 114, 117, 112, 116, 45, 112, 97, 114, 101, 110, 116], [105, 110, 116, 101, 114, 114, 117, 112, 116, 115], [105, 110, 116, 101, 114, 114, 117, 112, 116, 115, 45, 101, 120, 116, 101, 110, 100, 101, 100], [105, 115, 97], [109, 101, 109, 111, 114, 121], [109, 101, 109, 111, 114, 121, 64, 56, 48, 48, 48, 48, 48, 48, 48], [109, 109, 117, 45, 116, 121, 112, 101], [109, 111, 100, 101, 108], [111, 107, 97, 121], [112, 104, 97, 110, 100, 108, 101], [114, 97, 110, 103, 101, 115], [114, 101, 103], [115, 101, 114, 105, 97, 108, 64, 49, 48, 48, 48, 48, 48, 48, 48], [115, 105, 109, 112, 108, 101, 45, 98, 117, 115], [115, 111, 99], [115, 111, 117, 114, 99, 101, 115], [115, 116, 97, 116, 117, 115], [115, 116, 100, 111, 117, 116, 45, 112, 97, 116, 104], [116, 104, 114, 101, 101, 44, 102, 111, 117, 114], [116, 105, 109, 101, 98, 97, 115, 101, 45, 102, 114, 101, 113, 117, 101, 110, 99, 121], [116, 105, 109, 101, 114, 64, 50, 48, 48, 48, 48, 48, 48], [119, 54, 52], [119, 104, 111, 108, 101, 44, 98, 108, 111, 99, 107], [119, 104, 111, 108, 101, 44, 98, 111, 97, 114, 100], [119, 104, 111, 108, 101, 44, 99, 111, 110, 116, 114, 111, 108, 108, 101, 114], [119, 104, 111, 108, 101, 44, 99, 111, 114, 101], [119, 104, 111, 108, 101, 44, 101, 110, 100], [119, 104, 111, 108, 101, 44, 108, 105, 110, 101, 115], [119, 104, 111, 108, 101, 44, 115, 101, 114, 105, 97, 108], [119, 104, 111, 108, 101, 44, 116, 105, 109, 101, 114]]
def tx (s : Nat) : List Nat := txTab.getD (s - 100) []
def nmC : List Nat := [101, 103, 109, 128, 138, 140, 117, 132, 137, 124, 127, 102, 119, 130, 131, 122, 121, 123, 136]
/-- names of properties -/
def nmS : List (List Nat) := nmC.map tx
theorem tx_31 : ∀ s, (tx s).length ≤ 31 := by
  intro s
  unfold tx
  by_cases h : s - 100 < txTab.length
  · have : ∀ k, k < txTab.length → (txTab.getD k []).length ≤ 31 := by decide
    exact this _ h
  · rw [List.getD_eq_getElem?_getD, List.getElem?_eq_none (by omega)]
    decide
theorem tx_b : ∀ s, ∀ x, x ∈ tx s → 0 < x ∧ x < 128 := by
  intro s
  unfold tx
  by_cases h : s - 100 < txTab.length
  · have : ∀ k, k < txTab.length → ∀ x, x ∈ txTab.getD k [] → 0 < x ∧ x < 128 := by decide
    exact this _ h
  · rw [List.getD_eq_getElem?_getD, List.getElem?_eq_none (by omega)]
    intro x hx
    cases hx
/-- all texts stand in memory -/
def AlT (M : FM) : Prop := ∀ s, 100 ≤ s → s ≤ 150 → Txt s (tx s) M
def NmI (L : List (List Nat)) : Prop := L.Nodup ∧ ∀ w, w ∈ L → w ∈ nmS
theorem flN_e : ∀ {N : List (List Nat)} {w : List Nat}, w ∈ N → (flN N).length = w.length + 1 + (flN (N.erase w)).length
  | [], w, h => by cases h
  | y :: t, w, h => by
    by_cases e : y = w
    · subst e
      rw [List.erase_cons_head]
      show (y ++ 0 :: flN t).length = _
      rw [List.length_append, List.length_cons]
      omega
    · rw [List.erase_cons_tail (by simpa using e)]
      have ih := flN_e (N := t) (w := w) ((List.mem_cons.mp h).resolve_left (fun z => e z.symm))
      show (y ++ 0 :: flN t).length = w.length + 1 + (y ++ 0 :: flN (t.erase w)).length
      rw [List.length_append, List.length_append, List.length_cons, List.length_cons, ih]
      omega
theorem flN_s : ∀ {L N : List (List Nat)}, L.Nodup → (∀ w, w ∈ L → w ∈ N) → (flN L).length ≤ (flN N).length
  | [], _, _, _ => Nat.zero_le _
  | y :: t, N, h, k => by
    have hy := k y (List.mem_cons.mpr (Or.inl rfl))
    have h2 := List.nodup_cons.mp h
    have ih := flN_s (L := t) (N := N.erase y) h2.2 (fun w hw => (List.mem_erase_of_ne (fun z => h2.1 (by rw [← z]; exact hw))).mpr (k w (List.mem_cons.mpr (Or.inr hw))))
    rw [flN_e hy]
    show (y ++ 0 :: flN t).length ≤ _
    rw [List.length_append, List.length_cons]
    omega
theorem nmI_l {L : List (List Nat)} (h : NmI L) : (flN L).length ≤ 300 := Nat.le_trans (flN_s h.1 h.2) (by decide)
theorem nmI_a {L : List (List Nat)} (h : NmI L) {w : List Nat} (hw : w ∈ nmS) : NmI (addN w L) := by
  unfold addN
  by_cases e : w ∈ L
  · rw [if_pos e]
    exact h
  · rw [if_neg e]
    refine ⟨List.nodup_append.mpr ⟨h.1, List.nodup_cons.mpr ⟨(fun z => by cases z), List.nodup_nil⟩, fun a ha b hb => ?_⟩, fun y hy => ?_⟩
    · rcases List.mem_cons.mp hb with rfl | hb
      · exact fun z => e (by rw [← z]; exact ha)
      · cases hb
    · rcases List.mem_append.mp hy with hy | hy
      · exact h.2 y hy
      · rcases List.mem_cons.mp hy with rfl | hy
        · exact hw
        · cases hy
/-- the twin's tree under way -/
def VTb (t : Nat) (M0 M : FM) (st : TSn) (a : Nat) : Prop := Frm (PTr t M0) M0 M ∧ VTn t M st ∧ AlT M ∧ st.1.length ≤ a ∧ NmI st.2.1
def tF (v : Nat) (st : TSn) : TSn := (st.1 ++ be4 v, st.2.1, st.2.2)
def tC (s : Nat) (st : TSn) : TSn := (st.1 ++ tx s ++ [0], st.2.1, st.2.2)
def tP (st : TSn) : TSn := (padL st.1, st.2.1, st.2.2)
def tO (s : Nat) (st : TSn) : TSn := tF (plN (tx s) st.2.1) ((st.1 ++ be4 3) ++ be4 0, addN (tx s) st.2.1, st.1.length + 4)
def ptL (S : List Nat) (la : Nat) (X : List Nat) : List Nat := S.take la ++ X ++ S.drop (la + 4)
def tQ (st : TSn) : TSn := tP (ptL st.1 st.2.2 (be4 (st.1.length - st.2.2 - 8)), st.2.1, st.2.2)
section Bs
variable {t s a : Nat} {M0 M : FM} {st : TSn} {v : Int64}
theorem vtb_mk {N : FM} {st' : TSn} {a' : Nat} (V : VTb t M0 M st a) (h : Tdn t M N st') (ha : st'.1.length ≤ a') (hn : NmI st'.2.1) : VTb t M0 N st' a' := by
  obtain ⟨v1, v2, v3, v4, v5⟩ := V
  obtain ⟨⟨⟨T, W, n⟩, _⟩, _⟩ := v2
  exact ⟨ptr_t v1 h.1, h.2, fun s h1 h2 => frt_txt h.1 T W n (v3 s h1 h2), ha, hn⟩
theorem tdn_r {N : FM} {st' : TSt} (V : VTn t M st) (h : Tdo t M N st') (e : st'.2.1 = flN st.2.1) : Tdn t M N (st'.1, st.2.1, st'.2.2) := by
  refine ⟨h.1, ?_, V.2⟩
  show VTr t N (st'.1, flN st.2.1, st'.2.2)
  rw [← e]
  exact h.2
theorem b_four (V : VTb t M0 M st a) (hv : ul v < 9223372036854775808) (ha : a + 4 ≤ 6144) : HX97_four t v M ∧ VTb t M0 (GX97_four t v M) (tF (ul v) st) (a + 4) := by
  have h4 := V.2.2.2.1
  obtain ⟨h1, h2⟩ := t_four V.2.1.1 hv (by show st.1.length + 4 ≤ 6144; omega)
  exact ⟨h1, vtb_mk V (tdn_r V.2.1 h2 rfl) (by show (st.1 ++ be4 (ul v)).length ≤ _; rw [List.length_append]; show st.1.length + 4 ≤ _; omega) V.2.2.2.2⟩
theorem b_chars (V : VTb t M0 M st a) (h1 : 100 ≤ s) (h2 : s ≤ 150) (ha : a + 32 ≤ 6144) : HX97_characters t s M ∧ VTb t M0 (GX97_characters t s M) (tC s st) (a + 32) := by
  have h4 := V.2.2.2.1
  have l := tx_31 s
  obtain ⟨h1, h2⟩ := t_chars V.2.1.1 (V.2.2.1 s h1 h2) (by show st.1.length + (tx s).length + 1 ≤ 6144; omega)
  exact ⟨h1, vtb_mk V (tdn_r V.2.1 h2 rfl) (by show (st.1 ++ tx s ++ [0]).length ≤ _; rw [len_a, List.length_append]; omega) V.2.2.2.2⟩
theorem pad_l (S : List Nat) : (padL S).length ≤ S.length + 3 := by
  unfold padL
  rw [List.length_append, List.length_replicate]
  omega
theorem b_fill (V : VTb t M0 M st a) (ha : a + 4 ≤ 6144) : HX97_fillUp t M ∧ VTb t M0 (GX97_fillUp t M) (tP st) (a + 3) := by
  have h4 := V.2.2.2.1
  obtain ⟨h1, h2⟩ := t_fill V.2.1.1 (by show st.1.length + 4 ≤ 6144; omega)
  exact ⟨h1, vtb_mk V (tdn_r V.2.1 h2 rfl) (by have := pad_l st.1; show (padL st.1).length ≤ _; omega) V.2.2.2.2⟩
theorem set421 (V : VTb t M0 M st a) : VTb t M0 (fm_sI M 421 t 0 (M.1 418 t 0)) (st.1, st.2.1, st.1.length) a := by
  obtain ⟨⟨T, W, n⟩, VS, VN, VL⟩ := V.2.1.1
  have f : Frm (PTr t M) M (fm_sI M 421 t 0 (M.1 418 t 0)) := frm_I frm_r (Or.inl ⟨rfl, Or.inr (Or.inr (Or.inr rfl))⟩)
  refine vtb_mk V ⟨f, ⟨⟨ptr_y f n T, frt_wf f T W n, n⟩, rwS_f VS (oI (fun z => absurd z.1 (by decide))) rfl (fun k => oI (fun z => absurd z.1 (by decide))), rwS_f VN (oI (fun z => absurd z.1 (by decide))) rfl (fun k => oI (fun z => absurd z.1 (by decide))), ?_⟩, V.2.1.2⟩ V.2.2.2.1 V.2.2.2.2
  rw [rI, if_pos ⟨rfl, rfl, rfl⟩]
  exact VS.1
theorem plN_lt {cs : List Nat} : ∀ {L : List (List Nat)}, plN cs L ≤ (flN L).length
  | [] => Nat.zero_le _
  | w :: t => by
    show (if w = cs then 0 else w.length + 1 + plN cs t) ≤ (w ++ 0 :: flN t).length
    have := plN_lt (cs := cs) (L := t)
    rw [List.length_append, List.length_cons]
    split <;> omega
theorem b_open (V : VTb t M0 M st a) (h1 : 100 ≤ s) (h2 : s ≤ 150) (hs : tx s ∈ nmS) (ha : a + 12 ≤ 6144) : HX97_open t s M ∧ VTb t M0 (GX97_open t s M) (tO s st) (a + 12) := by
  obtain ⟨p1, q1⟩ := b_four V (v := Int64.ofInt 3) (by decide) (by omega)
  have q2 := set421 q1
  obtain ⟨p3, q3⟩ := b_four q2 (v := Int64.ofInt 0) (by decide) (by omega)
  have l := tx_31 s
  have nl := nmI_l V.2.2.2.2
  obtain ⟨p4, N, e4, q4⟩ := t_place q3.2.1 (q3.2.2.1 s h1 h2) (fun x hx => (tx_b s x hx).1) (by show (flN st.2.1).length + (tx s).length + 1 ≤ 1024; omega)
  have hl3 : (tF (ul (Int64.ofInt 0)) ((tF (ul (Int64.ofInt 3)) st).1, (tF (ul (Int64.ofInt 3)) st).2.1, (tF (ul (Int64.ofInt 3)) st).1.length)).1.length ≤ a + 4 + 4 := q3.2.2.2.1
  have q5 := vtb_mk q3 q4 hl3 (nmI_a q3.2.2.2.2 hs)
  have pl : plN (tx s) st.2.1 ≤ 300 := Nat.le_trans plN_lt nl
  have eu : ul (nI (plN (tx s) st.2.1)).toInt64 = plN (tx s) st.2.1 := by rw [o_64 (by omega), l_big (by omega)]
  obtain ⟨p6, q6⟩ := b_four q5 (v := (nI (plN (tx s) st.2.1)).toInt64) (by rw [eu]; omega) (by omega)
  rw [eu] at q6
  have e4' : GX97_placeOf t s (GX97_four t (Int64.ofInt 0) (fm_sI (GX97_four t (Int64.ofInt 3) M) 421 t 0 ((GX97_four t (Int64.ofInt 3) M).1 418 t 0))) = (nI (plN (tx s) st.2.1), N) := e4
  unfold HX97_open HX97_open_0 GX97_open GX97_open_0
  dsimp only
  rw [e4']
  refine ⟨⟨p1, p3, p4, p6, trivial⟩, ?_⟩
  have ee : tF (plN (tx s) st.2.1) ((tF (ul (Int64.ofInt 0)) ((tF (ul (Int64.ofInt 3)) st).1, (tF (ul (Int64.ofInt 3)) st).2.1, (tF (ul (Int64.ofInt 3)) st).1.length)).1, addN (tx s) (tF (ul (Int64.ofInt 0)) ((tF (ul (Int64.ofInt 3)) st).1, (tF (ul (Int64.ofInt 3)) st).2.1, (tF (ul (Int64.ofInt 3)) st).1.length)).2.1, (tF (ul (Int64.ofInt 0)) ((tF (ul (Int64.ofInt 3)) st).1, (tF (ul (Int64.ofInt 3)) st).2.1, (tF (ul (Int64.ofInt 3)) st).1.length)).2.2) = tO s st := by
    unfold tO tF
    dsimp only
    rw [show ul (Int64.ofInt 3) = 3 from rfl, show ul (Int64.ofInt 0) = 0 from rfl, List.length_append]
    rfl
  rw [← ee]
  exact q6
theorem tO_l : (tO s st).1.length = st.1.length + 12 ∧ (tO s st).2.2 = st.1.length + 4 := by
  unfold tO tF
  refine ⟨?_, rfl⟩
  dsimp only
  rw [List.length_append, List.length_append, List.length_append]
  rfl
theorem f4_row {n k : Nat} : (f4M t n v 4 M).1 3 (M.2.2 417 t 0) k = if n ≤ k ∧ k < n + 4 then nI (b8 (ul v) (3 - (k - n))) else M.1 3 (M.2.2 417 t 0) k := by
  unfold f4M f4M f4M f4M f4M
  simp only [rI, Nat.reduceEqDiff, false_and, if_false, true_and]
  by_cases h : n ≤ k ∧ k < n + 4
  · rw [if_pos h]
    have : k = n + 0 ∨ k = n + 1 ∨ k = n + 2 ∨ k = n + 3 := by omega
    rcases this with rfl | rfl | rfl | rfl
    · rw [if_neg (by omega), if_neg (by omega), if_neg (by omega), if_pos (by omega), Nat.sub_self]
    · rw [if_neg (by omega), if_neg (by omega), if_pos rfl, Nat.add_sub_cancel_left]
    · rw [if_neg (by omega), if_pos rfl, Nat.add_sub_cancel_left]
    · rw [if_pos rfl, Nat.add_sub_cancel_left]
  · rw [if_neg h, if_neg (by omega), if_neg (by omega), if_neg (by omega), if_neg (by omega)]
theorem f4_o {n : Nat} {f : Nat} (h : f = 420 ∨ f = 421) : (f4M t n v 4 M).1 f t 0 = M.1 f t 0 := by
  unfold f4M f4M f4M f4M f4M
  rcases h with rfl | rfl <;> simp only [rI, Nat.reduceEqDiff, false_and, if_false]
theorem f4_n {n k : Nat} (hne : M.2.2 419 t 0 ≠ M.2.2 417 t 0) : (f4M t n v 4 M).1 3 (M.2.2 419 t 0) k = M.1 3 (M.2.2 419 t 0) k := by
  unfold f4M f4M f4M f4M f4M
  simp only [rI, Nat.reduceEqDiff, false_and, if_false, hne, and_false]
theorem be4_d {x i : Nat} (h : i < 4) : (be4 x).getD i 0 = b8 x (3 - i) := by
  have : i = 0 ∨ i = 1 ∨ i = 2 ∨ i = 3 := by omega
  rcases this with rfl | rfl | rfl | rfl <;> rfl
theorem ptL_l {S : List Nat} {la x : Nat} (h : la + 4 ≤ S.length) : (ptL S la (be4 x)).length = S.length := by
  unfold ptL
  rw [List.length_append, List.length_append, List.length_take, List.length_drop, Nat.min_eq_left (by omega)]
  show la + 4 + _ = _
  omega
theorem ptL_d {S : List Nat} {la x k : Nat} (h : la + 4 ≤ S.length) (hk : k < S.length) : (ptL S la (be4 x)).getD k 0 = if la ≤ k ∧ k < la + 4 then b8 x (3 - (k - la)) else S.getD k 0 := by
  unfold ptL
  have ht : (S.take la).length = la := by rw [List.length_take, Nat.min_eq_left (by omega)]
  by_cases h1 : k < la
  · rw [if_neg (by omega), List.append_assoc, gD_a (by omega), List.getD_eq_getElem?_getD, List.getElem?_take_of_lt h1, ← List.getD_eq_getElem?_getD]
  · by_cases h2 : k < la + 4
    · rw [if_pos ⟨by omega, h2⟩, gD_a (by rw [List.length_append, ht]; show k < la + 4; exact h2)]
      have e : k = (S.take la).length + (k - la) := by omega
      rw [e, gD_r, ht, be4_d (by omega)]
      congr 2
      omega
    · rw [if_neg (by omega)]
      have e : k = (S.take la ++ be4 x).length + (k - (la + 4)) := by rw [List.length_append, ht]; show k = la + 4 + _; omega
      rw [e, gD_r, List.getD_eq_getElem?_getD, List.getElem?_drop, ← List.getD_eq_getElem?_getD, List.length_append, ht]
      congr 1
theorem b_close (V : VTb t M0 M st a) (hl : st.2.2 + 8 ≤ st.1.length) (ha : a + 4 ≤ 6144) : HX97_close t M ∧ VTb t M0 (GX97_close t M) (tQ st) (a + 3) := by
  have h4 := V.2.2.2.1
  have ne := vtr_ne V.2.1.1
  obtain ⟨⟨T, W, n⟩, VS, VN, VL⟩ := V.2.1.1
  have V1 : M.1 418 t 0 = nI st.1.length := VS.1
  have VL : M.1 421 t 0 = nI st.2.2 := VL
  have f2 : Frm (PTr t M) M (fm_sI M 418 t 0 (M.1 421 t 0)) := frm_I frm_r (Or.inl ⟨rfl, Or.inr (Or.inl rfl)⟩)
  have T2 := ptr_y f2 n T
  have e21 : (fm_sI M 418 t 0 (M.1 421 t 0)).1 421 t 0 = nI st.2.2 := (oI (fun z => absurd z.1 (by decide))).trans VL
  have ev : ((M.1 418 t 0 - (fm_sI M 418 t 0 (M.1 421 t 0)).1 421 t 0) - Int32.ofInt 8).toInt64 = lN (st.1.length - st.2.2 - 8) := by
    rw [e21, V1, show nI st.1.length - nI st.2.2 - Int32.ofInt 8 = nI (st.1.length - st.2.2 - 8) from ui_inj (by rw [ui_sub, ui_sub, ui_nI, ui_nI, ui_nI, show ui (Int32.ofInt 8) = 8 from rfl]; omega), o_64 (by omega)]
  have eu : ul (lN (st.1.length - st.2.2 - 8)) = st.1.length - st.2.2 - 8 := l_big (by omega)
  obtain ⟨p3, q3⟩ := X97_four0 (M := fm_sI M 418 t 0 (M.1 421 t 0)) (v := lN (st.1.length - st.2.2 - 8)) (n := st.2.2) T2 n (by rw [eu]; omega) (by omega) ((if_pos ⟨rfl, rfl, rfl⟩).trans VL)
  have f3 := ptr_t f2 (f4_fr (t := t) (n := st.2.2) (v := lN (st.1.length - st.2.2 - 8)) 4)
  have ro : ∀ k, (fm_sI M 418 t 0 (M.1 421 t 0)).1 3 (M.2.2 417 t 0) k = M.1 3 (M.2.2 417 t 0) k := fun k => oI (fun z => absurd z.1 (by decide))
  have R3 : RwS 417 418 t (fm_sI (f4M t st.2.2 (lN (st.1.length - st.2.2 - 8)) 4 (fm_sI M 418 t 0 (M.1 421 t 0))) 418 t 0 (M.1 418 t 0)) (ptL st.1 st.2.2 (be4 (st.1.length - st.2.2 - 8))) := by
    refine ⟨?_, fun k hk => ?_⟩
    · rw [rI, if_pos ⟨rfl, rfl, rfl⟩, ptL_l (by omega)]
      exact V1
    · rw [ptL_l (by omega)] at hk
      rw [ptL_d (by omega) hk, rI, if_neg (fun z => absurd z.1 (by decide))]
      show (f4M t st.2.2 (lN (st.1.length - st.2.2 - 8)) 4 (fm_sI M 418 t 0 (M.1 421 t 0))).1 3 ((f4M t st.2.2 (lN (st.1.length - st.2.2 - 8)) 4 (fm_sI M 418 t 0 (M.1 421 t 0))).2.2 417 t 0) k = _
      rw [f4M_R]
      refine (f4_row (M := fm_sI M 418 t 0 (M.1 421 t 0))).trans ?_
      rw [eu]
      by_cases h : st.2.2 ≤ k ∧ k < st.2.2 + 4
      · rw [if_pos h, if_pos h]
      · rw [if_neg h, if_neg h]
        exact (ro k).trans (VS.2 k hk)
  have f4 : Frm (PTr t M) M (fm_sI (f4M t st.2.2 (lN (st.1.length - st.2.2 - 8)) 4 (fm_sI M 418 t 0 (M.1 421 t 0))) 418 t 0 (M.1 418 t 0)) := frm_I f3 (Or.inl ⟨rfl, Or.inr (Or.inl rfl)⟩)
  have V4 : VTb t M0 (fm_sI (f4M t st.2.2 (lN (st.1.length - st.2.2 - 8)) 4 (fm_sI M 418 t 0 (M.1 421 t 0))) 418 t 0 (M.1 418 t 0)) (ptL st.1 st.2.2 (be4 (st.1.length - st.2.2 - 8)), st.2.1, st.2.2) a := by
    refine vtb_mk V ⟨f4, ⟨⟨ptr_y f4 n T, frt_wf f4 T W n, frm_is f4 n⟩, R3, rwS_f VN ?_ f4.1 (fun k => ?_), ?_⟩, V.2.1.2⟩ (by show (ptL st.1 st.2.2 (be4 (st.1.length - st.2.2 - 8))).length ≤ a; rw [ptL_l (by omega)]; exact h4) V.2.2.2.2
    · exact (oI (fun z => absurd z.1 (by decide))).trans ((f4_o (Or.inl rfl)).trans (oI (fun z => absurd z.1 (by decide))))
    · refine (oI (fun z => absurd z.1 (by decide))).trans ((f4_n (M := fm_sI M 418 t 0 (M.1 421 t 0)) ne).trans (oI (fun z => absurd z.1 (by decide))))
    · exact (oI (fun z => absurd z.1 (by decide))).trans ((f4_o (Or.inr rfl)).trans e21)
  obtain ⟨p5, q5⟩ := b_fill V4 (by omega)
  unfold HX97_close HX97_close_0 GX97_close GX97_close_0
  dsimp only
  rw [ev, q3]
  exact ⟨⟨p3, p5, trivial⟩, q5⟩
end Bs
