/-! trees: the twin finds a name or puts it behind the others -/
set_option maxRecDepth 100000
section Po
variable {t s : Nat} {M : FM} {cs : List Nat}
/-- over a name that is another -/
theorem plc_in (T : Ty M) (n : fm_is M 100 100 t = true) {A w X : List Nat} (V : RwS 419 420 t M (A ++ (w ++ 0 :: X))) (hb : ∀ x, x ∈ A ++ (w ++ 0 :: X) → x < 128) (hw : ∀ x, x ∈ w → 0 < x) (hl : (A ++ (w ++ 0 :: X)).length ≤ 1024) : ∀ m i j, i + m = w.length →
    (FX97_placeOf_L fN (j + m + 1)).2.1 t s (nI (A.length + i)) M = (FX97_placeOf_L fN j).1 t s (nI (A.length + w.length + 1)) M := by
  have hln : (A ++ (w ++ 0 :: X)).length = A.length + (w.length + (X.length + 1)) := by rw [List.length_append, List.length_append, List.length_cons]
  intro m
  induction m with
  | zero =>
    intro i j hi
    have hi' : i = w.length := by omega
    subst hi'
    have er := V.2 (A.length + w.length) (by omega)
    rw [gD_z] at er
    have c1 : M.1 3 (M.2.2 419 t 0) (nI (A.length + w.length)).toNatClampNeg = 0 := by rw [o_cl (by omega), er]; rfl
    have H : HX97_placeOf_19 t s (nI (A.length + w.length)) M := ⟨in_nI (N := 1024) (tL_419 T.1 n) (by omega) (by decide), trivial⟩
    show FX97_placeOf_19 fN (FX97_placeOf_L fN j).1 (FX97_placeOf_L fN j).2.1 (FX97_placeOf_L fN j).2.2 t s (nI (A.length + w.length)) M = _
    rw [(gX97_placeOf_19 (FX97_placeOf_L fN j).1 (FX97_placeOf_L fN j).2.1 (FX97_placeOf_L fN j).2.2 t s (nI (A.length + w.length)) M T n H).1]
    unfold GX97_placeOf_19
    dsimp only
    rw [fi_pos c1, up_b (by omega)]
    rfl
  | succ m ih =>
    intro i j hi
    have hil : i < w.length := by omega
    have er := V.2 (A.length + i) (by omega)
    rw [gD_w hil] at er
    have b1 := hw _ (gD_m hil)
    have b2 := hb _ (List.mem_append.mpr (Or.inr (List.mem_append.mpr (Or.inl (gD_m hil)))))
    have c1 : ¬ M.1 3 (M.2.2 419 t 0) (nI (A.length + i)).toNatClampNeg = 0 := by
      rw [o_cl (by omega), er, show (0 : Int32) = nI 0 from rfl, nI_e (by omega) (by decide)]
      omega
    have H : HX97_placeOf_19 t s (nI (A.length + i)) M := ⟨in_nI (N := 1024) (tL_419 T.1 n) (by omega) (by decide), trivial⟩
    show FX97_placeOf_19 fN (FX97_placeOf_L fN (j + (m + 1))).1 (FX97_placeOf_L fN (j + (m + 1))).2.1 (FX97_placeOf_L fN (j + (m + 1))).2.2 t s (nI (A.length + i)) M = _
    rw [(gX97_placeOf_19 (FX97_placeOf_L fN (j + (m + 1))).1 (FX97_placeOf_L fN (j + (m + 1))).2.1 (FX97_placeOf_L fN (j + (m + 1))).2.2 t s (nI (A.length + i)) M T n H).1]
    unfold GX97_placeOf_19
    dsimp only
    rw [fi_neg c1, up_b (by omega)]
    exact ih (i + 1) j (by omega)
theorem plc_L (T : Ty M) (n : fm_is M 100 100 t = true) (tx : Txt s cs M) (hc : ∀ x, x ∈ cs → 0 < x) : ∀ (B A : List (List Nat)) (j : Nat), RwS 419 420 t M (flN (A ++ B)) → okN (A ++ B) → (flN (A ++ B)).length ≤ 1024 → (flN B).length + B.length + 1 ≤ j →
    ∃ j', j ≤ j' + (flN B).length + B.length + 1 ∧ (FX97_placeOf_L fN j).1 t s (nI (flN A).length) M = (if cs ∈ B then some (nI ((flN A).length + plN cs B), M) else (FX97_placeOf_L fN j').2.2 t s (nI (flN (A ++ B)).length) (Int32.ofInt 0) M) := by
  intro B
  induction B with
  | nil =>
    intro A j V ok hl hj
    obtain ⟨j, rfl⟩ : ∃ y, j = y + 1 := ⟨j - 1, by omega⟩
    rw [List.append_nil] at *
    have c1 : M.1 420 t 0 ≤ nI (flN A).length := by rw [V.1]; exact (n_le (by omega) (by omega)).mpr (Nat.le_refl _)
    have c2 : nI (flN A).length = M.1 420 t 0 := V.1.symm
    refine ⟨j, by omega, ?_⟩
    rw [if_neg (fun h => by cases h)]
    show FX97_placeOf_2 fN (FX97_placeOf_L fN j).1 (FX97_placeOf_L fN j).2.1 (FX97_placeOf_L fN j).2.2 t s (nI (flN A).length) M = _
    rw [(gX97_placeOf_2 (FX97_placeOf_L fN j).1 (FX97_placeOf_L fN j).2.1 (FX97_placeOf_L fN j).2.2 t s (nI (flN A).length) M T n ⟨fun _ => trivial, fun z => absurd c1 z⟩).1]
    unfold GX97_placeOf_2 GX97_placeOf_40
    rw [fi_pos c1, fi_pos c2]
    rfl
  | cons w B ih =>
    intro A j V ok hl hj
    have hj0 : (flN (w :: B)).length = w.length + ((flN B).length + 1) := by
      show (w ++ 0 :: flN B).length = _
      rw [List.length_append, List.length_cons]
    rw [hj0, List.length_cons] at hj
    obtain ⟨j, rfl⟩ : ∃ y, j = y + 1 := ⟨j - 1, by omega⟩
    have ef : flN (A ++ w :: B) = flN A ++ (w ++ 0 :: flN B) := flN_a A (w :: B)
    have V0 := V
    have hl0 := hl
    have hb := flN_lt ok
    rw [ef] at V hl hb
    have hln : (flN A ++ (w ++ 0 :: flN B)).length = (flN A).length + (w.length + ((flN B).length + 1)) := by rw [List.length_append, List.length_append, List.length_cons]
    have hw : ∀ x, x ∈ w → 0 < x := fun x hx => (ok w (List.mem_append.mpr (Or.inr (List.mem_cons.mpr (Or.inl rfl)))) x hx).1
    have c1 : ¬ M.1 420 t 0 ≤ nI (flN A).length := fun z => by
      rw [V.1] at z
      have := (n_le (by omega) (by omega)).mp z
      omega
    have c2 : ¬ nI (flN A).length = M.1 420 t 0 := fun z => by
      rw [V.1, nI_e (by omega) (by omega)] at z
      omega
    obtain ⟨i1, i2⟩ := X97_isAt (at_ := (flN A).length) T n tx V hb hl (by omega)
    rw [propext (isP_e (A := flN A) (X := flN B) hw hc)] at i2
    have E : (FX97_placeOf_L fN (j + 1)).1 t s (nI (flN A).length) M = if w = cs then some (nI (flN A).length, M) else (FX97_placeOf_L fN j).2.1 t s (nI (flN A).length) M := by
      show FX97_placeOf_2 fN (FX97_placeOf_L fN j).1 (FX97_placeOf_L fN j).2.1 (FX97_placeOf_L fN j).2.2 t s (nI (flN A).length) M = _
      rw [(gX97_placeOf_2 (FX97_placeOf_L fN j).1 (FX97_placeOf_L fN j).2.1 (FX97_placeOf_L fN j).2.2 t s (nI (flN A).length) M T n ⟨fun z => absurd z c1, fun _ => ⟨i1, trivial⟩⟩).1]
      unfold GX97_placeOf_2 GX97_placeOf_40 GX97_placeOf_108
      rw [fi_neg c1, i2]
      dsimp only
      by_cases h : w = cs
      · rw [fi_neg (b1_0 h), fi_neg c2, if_pos h]
        rfl
      · rw [fi_pos (b0_0 h), if_neg h]
        rfl
    rw [E]
    by_cases h : w = cs
    · refine ⟨j + 1, by omega, ?_⟩
      rw [if_pos h, if_pos (List.mem_cons.mpr (Or.inl h.symm))]
      show _ = some (nI ((flN A).length + (if w = cs then 0 else _)), M)
      rw [if_pos h, Nat.add_zero]
    · rw [if_neg h]
      obtain ⟨j2, rfl⟩ : ∃ y, j = y + w.length + 1 := ⟨j - w.length - 1, by omega⟩
      have e2 : (FX97_placeOf_L fN (j2 + w.length + 1)).2.1 t s (nI (flN A).length) M = (FX97_placeOf_L fN j2).1 t s (nI ((flN A).length + w.length + 1)) M := plc_in (s := s) (A := flN A) (w := w) (X := flN B) T n V hb hw hl w.length 0 j2 (by omega)
      rw [e2]
      have ea : A ++ w :: B = (A ++ [w]) ++ B := by rw [List.append_assoc]; rfl
      have el : (flN (A ++ [w])).length = (flN A).length + w.length + 1 := by
        rw [flN_a]
        show (flN A ++ (w ++ 0 :: [])).length = _
        rw [List.length_append, List.length_append]
        rfl
      rw [ea] at V0 ok hl0
      obtain ⟨j', g1, g2⟩ := ih (A ++ [w]) j2 V0 ok hl0 (by omega)
      refine ⟨j', by rw [hj0, List.length_cons]; omega, ?_⟩
      rw [← el, g2, ea]
      by_cases h2 : cs ∈ B
      · rw [if_pos h2, if_pos (List.mem_cons.mpr (Or.inr h2)), el]
        show some (nI ((flN A).length + w.length + 1 + plN cs B), M) = some (nI ((flN A).length + (if w = cs then 0 else w.length + 1 + plN cs B)), M)
        rw [if_neg h]
        congr 3
        omega
      · rw [if_neg h2, if_neg (fun z => (List.mem_cons.mp z).elim (fun z => h z.symm) h2)]
/-- a name is put behind the others -/
theorem plc_new (n : fm_is M 100 100 t = true) (W : Wf M) (T : Ty M) (tx : Txt s cs M) {at_ : Int32} {S : List Nat} : ∀ m j k N, k + m = cs.length → m < j → Frm (PTr t M) M N → Ty N → RwS 419 420 t N (S ++ cs.take k) → S.length + cs.length + 1 ≤ 1024 → N.1 418 t 0 = M.1 418 t 0 → N.1 421 t 0 = M.1 421 t 0 → (∀ i, M.2.2 417 t 0 ≠ M.2.2 419 t 0 → N.1 3 (M.2.2 417 t 0) i = M.1 3 (M.2.2 417 t 0) i) →
    ∃ N', (FX97_placeOf_L fN j).2.2 t s at_ (nI k) N = some (at_, N') ∧ Frm (PTr t M) M N' ∧ Ty N' ∧ RwS 419 420 t N' (S ++ cs ++ [0]) ∧ N'.1 418 t 0 = M.1 418 t 0 ∧ N'.1 421 t 0 = M.1 421 t 0 ∧ (∀ i, M.2.2 417 t 0 ≠ M.2.2 419 t 0 → N'.1 3 (M.2.2 417 t 0) i = M.1 3 (M.2.2 417 t 0) i) := by
  intro m
  induction m with
  | zero =>
    intro j k N hk hj f TN V hl h20 h21 h19
    obtain ⟨j, rfl⟩ : ∃ y, j = y + 1 := ⟨j - 1, by omega⟩
    have nN := frm_is f n
    have txN := frt_txt f T W n tx
    have hk' : k = cs.length := by omega
    subst hk'
    rw [List.take_length] at V
    have L := J1_length txN
    have c1 : nI cs.length ≤ nI cs.length := (n_le (by have := tx.2.2.2.1; omega) (by have := tx.2.2.2.1; omega)).mpr (Nat.le_refl _)
    have hn : (S ++ cs).length = S.length + cs.length := List.length_append
    have i1 : fm_in N (N.2.2 419 t 0) (N.1 420 t 0) = true := by rw [V.1]; exact in_nI (N := 1024) (tL_419 TN.1 nN) (by omega) (by decide)
    have H : HX97_placeOf_50 t s at_ (nI cs.length) N := by
      unfold HX97_placeOf_50
      dsimp only
      rw [L]
      exact ⟨fun _ => ⟨i1, trivial⟩, fun z => absurd c1 z⟩
    have s1 := rwS_1 V (by omega) (by decide) (Int32.ofInt 0) (x := 0) rfl
    refine ⟨_, ?_, frm_I (frm_I f (Or.inr ⟨rfl, Or.inr (Or.inr (by rw [f.1]))⟩)) (Or.inl ⟨rfl, Or.inr (Or.inr (Or.inl rfl))⟩), ⟨TN.1, tyb_sI rfl (tyb_s3 (t := 901) rfl TN.2 (tN_419 TN.1 nN))⟩, s1, ?_, ?_, fun i hne => ?_⟩
    · show FX97_placeOf_50 fN (FX97_placeOf_L fN j).1 (FX97_placeOf_L fN j).2.1 (FX97_placeOf_L fN j).2.2 t s at_ (nI cs.length) N = _
      rw [(gX97_placeOf_50 (FX97_placeOf_L fN j).1 (FX97_placeOf_L fN j).2.1 (FX97_placeOf_L fN j).2.2 t s at_ (nI cs.length) N TN txN.1 nN H).1]
      unfold GX97_placeOf_50 GX97_placeOf_108
      dsimp only
      rw [L]
      dsimp only
      rw [fi_pos c1, V.1, o_cl (by omega), oI (f := 3) (f' := 420) (fun z => absurd z.1 (by decide)), V.1, up_b (by omega)]
      rfl
    · exact ((oI (fun z => absurd z.1 (by decide))).trans (oI (fun z => absurd z.1 (by decide)))).trans h20
    · exact ((oI (fun z => absurd z.1 (by decide))).trans (oI (fun z => absurd z.1 (by decide)))).trans h21
    · rw [oI (fun z => absurd z.1 (by decide)), oI (fun z => hne (by rw [z.2.1, f.1]))]
      exact h19 i hne
  | succ m ih =>
    intro j k N hk hj f TN V hl h20 h21 h19
    obtain ⟨j, rfl⟩ : ∃ y, j = y + 1 := ⟨j - 1, by omega⟩
    have nN := frm_is f n
    have txN := frt_txt f T W n tx
    have l4 := tx.2.2.2.1
    have hkl : k < cs.length := by omega
    have L := J1_length txN
    obtain ⟨y1, y2⟩ := J1_charAt txN hkl
    have c1 : ¬ nI cs.length ≤ nI k := fun z => by
      have := (n_le (by omega) (by omega)).mp z
      omega
    have hn : (S ++ cs.take k).length = S.length + k := by rw [List.length_append, List.length_take, Nat.min_eq_left (by omega)]
    have i1 : fm_in N (N.2.2 419 t 0) (N.1 420 t 0) = true := by rw [V.1]; exact in_nI (N := 1024) (tL_419 TN.1 nN) (by omega) (by decide)
    have s1 := rwS_1 V (by omega) (by decide) (nI (cs.getD k 0)) rfl
    have et : S ++ cs.take k ++ [cs.getD k 0] = S ++ cs.take (k + 1) := by
      rw [List.append_assoc, List.take_succ, List.getD_eq_getElem?_getD, List.getElem?_eq_getElem hkl]
      rfl
    rw [et] at s1
    have H : HX97_placeOf_50 t s at_ (nI k) N := by
      unfold HX97_placeOf_50
      dsimp only
      rw [L]
      dsimp only
      rw [y2]
      exact ⟨fun z => absurd z c1, fun _ => ⟨y1, i1, trivial⟩⟩
    have G : GX97_placeOf_50 t s at_ (nI k) N = .inr (.inr (.inl (t, s, at_, nI (k + 1), fm_sI (fm_sI N 3 (N.2.2 419 t 0) (S ++ cs.take k).length (nI (cs.getD k 0))) 420 t 0 (nI ((S ++ cs.take k).length + 1))))) := by
      unfold GX97_placeOf_50
      dsimp only
      rw [L]
      dsimp only
      rw [fi_neg c1, y2]
      dsimp only
      rw [V.1, o_cl (by omega), oI (f := 3) (f' := 420) (fun z => absurd z.1 (by decide)), V.1, up_b (by omega), up_b (by omega)]
    show ∃ N', FX97_placeOf_50 fN (FX97_placeOf_L fN j).1 (FX97_placeOf_L fN j).2.1 (FX97_placeOf_L fN j).2.2 t s at_ (nI k) N = some (at_, N') ∧ _
    rw [(gX97_placeOf_50 (FX97_placeOf_L fN j).1 (FX97_placeOf_L fN j).2.1 (FX97_placeOf_L fN j).2.2 t s at_ (nI k) N TN txN.1 nN H).1, G]
    refine ih j (k + 1) _ (by omega) (by omega) (frm_I (frm_I f (Or.inr ⟨rfl, Or.inr (Or.inr (by rw [f.1]))⟩)) (Or.inl ⟨rfl, Or.inr (Or.inr (Or.inl rfl))⟩)) ⟨TN.1, tyb_sI rfl (tyb_s3 (t := 901) rfl TN.2 (tN_419 TN.1 nN))⟩ s1 hl ?_ ?_ (fun i hne => ?_)
    · exact ((oI (fun z => absurd z.1 (by decide))).trans (oI (fun z => absurd z.1 (by decide)))).trans h20
    · exact ((oI (fun z => absurd z.1 (by decide))).trans (oI (fun z => absurd z.1 (by decide)))).trans h21
    · rw [oI (fun z => absurd z.1 (by decide)), oI (fun z => hne (by rw [z.2.1, f.1]))]
      exact h19 i hne
end Po
/-- the names behind a name that was asked for -/
def addN (cs : List Nat) (L : List (List Nat)) : List (List Nat) := if cs ∈ L then L else L ++ [cs]
/-- the twin's tree: what was written, the names, where the length of the present value stands -/
abbrev TSn : Type := List Nat × List (List Nat) × Nat
def VTn (t : Nat) (M : FM) (s : TSn) : Prop := VTr t M (s.1, flN s.2.1, s.2.2) ∧ okN s.2.1
def Tdn (t : Nat) (M N : FM) (s : TSn) : Prop := Frm (PTr t M) M N ∧ VTn t N s
theorem plN_n {cs : List Nat} : ∀ {L : List (List Nat)}, ¬ cs ∈ L → plN cs L = (flN L).length
  | [], _ => rfl
  | w :: t, h => by
    show (if w = cs then 0 else w.length + 1 + plN cs t) = (w ++ 0 :: flN t).length
    rw [if_neg (fun z => h (List.mem_cons.mpr (Or.inl z.symm))), plN_n (fun z => h (List.mem_cons.mpr (Or.inr z))), List.length_append, List.length_cons]
    omega
section Pl
variable {t s : Nat} {M : FM} {cs : List Nat} {st : TSn}
theorem t_place (V : VTn t M st) (tx : Txt s cs M) (hc : ∀ x, x ∈ cs → 0 < x) (hn : (flN st.2.1).length + cs.length + 1 ≤ 1024) :
    HX97_placeOf t s M ∧ ∃ N, GX97_placeOf t s M = (nI (plN cs st.2.1), N) ∧ Tdn t M N (st.1, addN cs st.2.1, st.2.2) := by
  obtain ⟨V0, ok⟩ := V
  have V1 := V0
  have ne := vtr_ne V0
  obtain ⟨⟨T, W, n⟩, VS, VN, VL⟩ := V0
  have hB : st.2.1.length ≤ (flN st.2.1).length := by
    generalize st.2.1 = L
    induction L with
    | nil => exact Nat.zero_le _
    | cons w t ih =>
      show t.length + 1 ≤ (w ++ 0 :: flN t).length
      rw [List.length_append, List.length_cons]
      omega
  have VN : RwS 419 420 t M (flN st.2.1) := VN
  obtain ⟨j', j1, j2⟩ := plc_L T n tx hc st.2.1 [] fN VN ok (by show (flN st.2.1).length ≤ 1024; omega) (by unfold fN; omega)
  have j2 : (FX97_placeOf_L fN fN).1 t s (nI 0) M = _ := j2
  have X0 : FX97_placeOf fN t s M = (FX97_placeOf_L fN fN).1 t s (nI 0) M := by
    show FX97_placeOf_0 fN (FX97_placeOf_L fN fN).1 (FX97_placeOf_L fN fN).2.1 (FX97_placeOf_L fN fN).2.2 t s M = _
    rw [(gX97_placeOf_0 (FX97_placeOf_L fN fN).1 (FX97_placeOf_L fN fN).2.1 (FX97_placeOf_L fN fN).2.2 t s M T).1]
    rfl
  rw [j2] at X0
  have l0 : (flN ([] : List (List Nat))).length = 0 := rfl
  rw [l0, Nat.zero_add] at X0
  by_cases h : cs ∈ st.2.1
  · rw [if_pos h] at X0
    obtain ⟨h1, g1⟩ := op_of (d := ((0 : Int32), M)) X0 (P := OkR M) ⟨T, ext_r M⟩
    refine ⟨h1, M, g1, frm_r, ?_⟩
    unfold addN
    rw [if_pos h]
    exact ⟨V1, ok⟩
  · rw [if_neg h] at X0
    obtain ⟨N, q1, q2, q3, q4, q5, q6, q7⟩ := plc_new (at_ := nI (flN ([] ++ st.2.1)).length) (S := flN st.2.1) n W T tx cs.length j' 0 M (by omega) (by unfold fN at j1; omega) frm_r T (by rw [List.take_zero, List.append_nil]; exact VN) hn rfl rfl (fun _ _ => rfl)
    have q1 : (FX97_placeOf_L fN j').2.2 t s (nI (flN ([] ++ st.2.1)).length) (Int32.ofInt 0) M = some (nI (flN ([] ++ st.2.1)).length, N) := q1
    rw [q1] at X0
    obtain ⟨h1, g1⟩ := op_of (d := ((0 : Int32), M)) X0 (P := OkR M) ⟨q3, frm_ext q2⟩
    refine ⟨h1, N, ?_, q2, ?_⟩
    · rw [plN_n h]
      exact g1
    · unfold addN
      rw [if_neg h]
      refine ⟨⟨⟨q3, frt_wf q2 T W n, frm_is q2 n⟩, ?_, ?_, q6.trans VL⟩, ?_⟩
      · exact rwS_f VS q5 q2.1 (fun k => q7 k (fun z => ne z.symm))
      · show RwS 419 420 t N (flN (st.2.1 ++ [cs]))
        rw [flN_a, show flN [cs] = cs ++ [0] from rfl, ← List.append_assoc]
        exact q4
      · intro w hw x hx
        rcases List.mem_append.mp hw with hw | hw
        · exact ok w hw x hx
        · rcases List.mem_cons.mp hw with rfl | hw
          · exact ⟨hc x hx, tx.2.2.2.2.1 x hx⟩
          · cases hw
end Pl
