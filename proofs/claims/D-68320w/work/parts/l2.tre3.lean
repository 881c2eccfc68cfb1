/-! trees: the twin's names -/
set_option maxRecDepth 100000
def isP (NM cs : List Nat) (at_ : Nat) : Prop := at_ + cs.length < NM.length ∧ NM.getD (at_ + cs.length) 0 = 0 ∧ ∀ i, i < cs.length → NM.getD (at_ + i) 0 = cs.getD i 0
/-- names behind one another, each with a zero -/
def flN : List (List Nat) → List Nat
  | [] => []
  | w :: t => w ++ 0 :: flN t
theorem flN_a (A B : List (List Nat)) : flN (A ++ B) = flN A ++ flN B := by
  induction A with
  | nil => rfl
  | cons w t ih =>
    show w ++ 0 :: flN (t ++ B) = (w ++ 0 :: flN t) ++ flN B
    rw [ih, List.append_assoc]
    rfl
/-- where a name stands -/
def plN (cs : List Nat) : List (List Nat) → Nat
  | [] => 0
  | w :: t => if w = cs then 0 else w.length + 1 + plN cs t
/-- names are letters -/
def okN (L : List (List Nat)) : Prop := ∀ w, w ∈ L → ∀ x, x ∈ w → 0 < x ∧ x < 128
theorem flN_lt {L : List (List Nat)} (h : okN L) : ∀ x, x ∈ flN L → x < 128 := by
  induction L with
  | nil => exact fun x hx => by cases hx
  | cons w t ih =>
    intro x hx
    rcases List.mem_append.mp hx with hx | hx
    · exact (h w (List.mem_cons.mpr (Or.inl rfl)) x hx).2
    · rcases List.mem_cons.mp hx with rfl | hx
      · decide
      · exact ih (fun w hw => h w (List.mem_cons.mpr (Or.inr hw))) x hx
theorem gD_lt {S : List Nat} {b k : Nat} (h : ∀ x, x ∈ S → x < b) (hk : k < S.length) : S.getD k 0 < b := by
  rw [List.getD_eq_getElem?_getD, List.getElem?_eq_getElem hk]
  exact h _ (List.getElem_mem hk)
theorem gD_r {A B : List Nat} {k : Nat} : (A ++ B).getD (A.length + k) 0 = B.getD k 0 := by
  rw [List.getD_eq_getElem?_getD, List.getD_eq_getElem?_getD, List.getElem?_append_right (by omega)]
  congr 2
  omega
theorem gD_w {A w X : List Nat} {i : Nat} (hi : i < w.length) : (A ++ (w ++ X)).getD (A.length + i) 0 = w.getD i 0 := by rw [gD_r, gD_a hi]
theorem gD_z {A w X : List Nat} : (A ++ (w ++ 0 :: X)).getD (A.length + w.length) 0 = 0 := by rw [gD_r, gD_e]
theorem gD_m {w : List Nat} {i : Nat} (hi : i < w.length) : w.getD i 0 ∈ w := by
  rw [List.getD_eq_getElem?_getD, List.getElem?_eq_getElem hi]
  exact List.getElem_mem hi
/-- at the beginning of a name: whether it is the name -/
theorem isP_e {A w X cs : List Nat} (hw : ∀ x, x ∈ w → 0 < x) (hc : ∀ x, x ∈ cs → 0 < x) : isP (A ++ (w ++ 0 :: X)) cs A.length ↔ w = cs := by
  constructor
  · intro ⟨h1, h2, h3⟩
    have hl : w.length = cs.length := by
      rcases Nat.lt_trichotomy w.length cs.length with h | h | h
      · have e1 := h3 w.length h
        rw [gD_z] at e1
        have := hc _ (gD_m h)
        omega
      · exact h
      · rw [gD_w h] at h2
        have := hw _ (gD_m h)
        omega
    refine List.ext_getElem hl (fun i i1 i2 => ?_)
    have e1 := h3 i i2
    rw [gD_w i1, List.getD_eq_getElem?_getD, List.getD_eq_getElem?_getD, List.getElem?_eq_getElem i1, List.getElem?_eq_getElem i2] at e1
    exact e1
  · intro h
    subst h
    refine ⟨?_, gD_z, fun i hi => gD_w hi⟩
    rw [List.length_append, List.length_append, List.length_cons]
    omega
section Ia
variable {t s : Nat} {M : FM} {cs NM : List Nat}
theorem X97_isAt_L (T : Ty M) (n : fm_is M 100 100 t = true) (tx : Txt s cs M) (V : RwS 419 420 t M NM) (hb : ∀ x, x ∈ NM → x < 128) (hl : NM.length ≤ 1024) (at_ : Nat) (ha : at_ + cs.length < NM.length) : ∀ m j k, k + m = cs.length → m < j →
    FX97_isAt_L36 fN j t s (nI at_) (Int32.ofInt 1) (nI k) M = some (bz (∀ i, k ≤ i → i < cs.length → NM.getD (at_ + i) 0 = cs.getD i 0), M) := by
  intro m
  induction m with
  | zero =>
    intro j k hk hj
    obtain ⟨j, rfl⟩ : ∃ y, j = y + 1 := ⟨j - 1, by omega⟩
    have L := J1_length tx
    have c1 : nI cs.length ≤ nI k := (n_le (by omega) (by omega)).mpr (by omega)
    have H : HX97_isAt_36 t s (nI at_) (Int32.ofInt 1) (nI k) M := by
      unfold HX97_isAt_36
      dsimp only
      rw [L]
      exact ⟨fun _ => trivial, fun z => absurd c1 z⟩
    show FX97_isAt_36 fN (FX97_isAt_L36 fN j) t s (nI at_) (Int32.ofInt 1) (nI k) M = _
    rw [(gX97_isAt_36 (FX97_isAt_L36 fN j) t s (nI at_) (Int32.ofInt 1) (nI k) M T tx.1 fz_1 n H).1]
    unfold GX97_isAt_36 GX97_isAt_79
    dsimp only
    rw [L]
    dsimp only
    rw [fi_pos c1, bz_t (fun i h1 h2 => by omega)]
    rfl
  | succ m ih =>
    intro j k hk hj
    obtain ⟨j, rfl⟩ : ∃ y, j = y + 1 := ⟨j - 1, by omega⟩
    have hkl : k < cs.length := by omega
    have L := J1_length tx
    obtain ⟨y1, y2⟩ := J1_charAt tx hkl
    have c1 : ¬ nI cs.length ≤ nI k := fun z => by
      have := (n_le (by omega) (by omega)).mp z
      omega
    have ea : nI at_ + nI k = nI (at_ + k) := nI_a
    have i1 : fm_in M (M.2.2 419 t 0) (nI (at_ + k)) = true := in_nI (N := 1024) (tL_419 T.1 n) (by omega) (by decide)
    have er := V.2 (at_ + k) (by omega)
    have b1 := gD_lt hb (show at_ + k < NM.length by omega)
    have b2 := gD_lt tx.2.2.2.2.1 hkl
    have ec : (M.1 3 (M.2.2 419 t 0) (nI (at_ + k)).toNatClampNeg = nI (cs.getD k 0)) = (NM.getD (at_ + k) 0 = cs.getD k 0) := by
      rw [o_cl (by omega), er, nI_e (by omega) (by omega)]
    have n1 : ¬ Int32.ofInt 1 = 0 := by decide
    have H : HX97_isAt_36 t s (nI at_) (Int32.ofInt 1) (nI k) M := by
      unfold HX97_isAt_36
      dsimp only
      rw [L]
      dsimp only
      rw [ea]
      exact ⟨fun z => absurd z c1, fun _ => ⟨fun _ => trivial, fun _ => ⟨i1, y1, trivial⟩⟩⟩
    show FX97_isAt_36 fN (FX97_isAt_L36 fN j) t s (nI at_) (Int32.ofInt 1) (nI k) M = _
    rw [(gX97_isAt_36 (FX97_isAt_L36 fN j) t s (nI at_) (Int32.ofInt 1) (nI k) M T tx.1 fz_1 n H).1]
    unfold GX97_isAt_36 GX97_isAt_72
    dsimp only
    rw [L]
    dsimp only
    rw [fi_neg c1, fi_neg n1, ea, y2]
    dsimp only
    rw [ec, up_b (by omega)]
    by_cases h : NM.getD (at_ + k) 0 = cs.getD k 0
    · rw [fi_pos h]
      refine (ih j (k + 1) (by omega) (by omega)).trans ?_
      congr 3
      refine propext ⟨fun q i h1 h2 => ?_, fun q i h1 h2 => q i (by omega) h2⟩
      by_cases e : i = k
      · rw [e]; exact h
      · exact q i (by omega) h2
    · rw [fi_neg h]
      obtain ⟨j, rfl⟩ : ∃ y, j = y + 1 := ⟨j - 1, by omega⟩
      have H2 : HX97_isAt_36 t s (nI at_) (Int32.ofInt 0) (nI (k + 1)) M := by
        unfold HX97_isAt_36
        dsimp only
        exact ⟨fun _ => trivial, fun _ => ⟨fun _ => trivial, fun z => absurd rfl z⟩⟩
      show FX97_isAt_36 fN (FX97_isAt_L36 fN j) t s (nI at_) (Int32.ofInt 0) (nI (k + 1)) M = _
      rw [(gX97_isAt_36 (FX97_isAt_L36 fN j) t s (nI at_) (Int32.ofInt 0) (nI (k + 1)) M T tx.1 fz_0 n H2).1]
      unfold GX97_isAt_36 GX97_isAt_79
      dsimp only
      rw [L]
      dsimp only
      rw [fi_pos (show Int32.ofInt 0 = 0 from rfl), fi_self, bz_f (fun q => h (q k (Nat.le_refl _) hkl))]
      rfl
theorem X97_isAt (T : Ty M) (n : fm_is M 100 100 t = true) (tx : Txt s cs M) (V : RwS 419 420 t M NM) (hb : ∀ x, x ∈ NM → x < 128) (hl : NM.length ≤ 1024) {at_ : Nat} (ha : at_ ≤ 1024) :
    HX97_isAt t s (nI at_) M ∧ GX97_isAt t s (nI at_) M = (bz (isP NM cs at_), M) := by
  have L := J1_length tx
  have l4 := tx.2.2.2.1
  have ea : nI at_ + nI cs.length = nI (at_ + cs.length) := nI_a
  have A : FX97_isAt fN t s (nI at_) M = some (bz (isP NM cs at_), M) := by
    have z0 : (Int32.ofInt 0 : Int32) = 0 := rfl
    have stop : ∀ J, FX97_isAt_L36 fN (J + 1) t s (nI at_) (Int32.ofInt 0) (Int32.ofInt 0) M = some (Int32.ofInt 0, M) := fun J => by
      have H2 : HX97_isAt_36 t s (nI at_) (Int32.ofInt 0) (Int32.ofInt 0) M := by
        unfold HX97_isAt_36
        dsimp only
        exact ⟨fun _ => trivial, fun _ => ⟨fun _ => trivial, fun z => absurd rfl z⟩⟩
      show FX97_isAt_36 fN (FX97_isAt_L36 fN J) t s (nI at_) (Int32.ofInt 0) (Int32.ofInt 0) M = _
      rw [(gX97_isAt_36 (FX97_isAt_L36 fN J) t s (nI at_) (Int32.ofInt 0) (Int32.ofInt 0) M T tx.1 fz_0 n H2).1]
      unfold GX97_isAt_36 GX97_isAt_79
      dsimp only
      rw [L]
      dsimp only
      rw [fi_pos z0, fi_self]
      rfl
    have c1 : (M.1 420 t 0 ≤ nI (at_ + cs.length)) = (NM.length ≤ at_ + cs.length) := propext (by rw [V.1, n_le (by omega) (by omega)])
    show FX97_isAt_0 fN (FX97_isAt_L36 fN fN) t s (nI at_) M = _
    by_cases h1 : NM.length ≤ at_ + cs.length
    · have H : HX97_isAt_0 t s (nI at_) M := by
        unfold HX97_isAt_0
        dsimp only
        rw [L]
        dsimp only
        rw [ea, c1]
        exact ⟨fun _ => trivial, fun z => absurd h1 z⟩
      rw [(gX97_isAt_0 (FX97_isAt_L36 fN fN) t s (nI at_) M T tx.1 n H).1]
      unfold GX97_isAt_0 GX97_isAt_31 GX97_isAt_32
      dsimp only
      rw [L]
      dsimp only
      rw [ea, c1, fi_pos h1, bz_f (fun q => by have := q.1; omega)]
      exact stop 99999999
    · have i1 : fm_in M (M.2.2 419 t 0) (nI (at_ + cs.length)) = true := in_nI (N := 1024) (tL_419 T.1 n) (by omega) (by decide)
      have er := V.2 (at_ + cs.length) (by omega)
      have b1 := gD_lt hb (show at_ + cs.length < NM.length by omega)
      have c2 : (M.1 3 (M.2.2 419 t 0) (nI (at_ + cs.length)).toNatClampNeg = 0) = (NM.getD (at_ + cs.length) 0 = 0) := by
        rw [o_cl (by omega), er, show (0 : Int32) = nI 0 from rfl, nI_e (by omega) (by decide)]
      have H : HX97_isAt_0 t s (nI at_) M := by
        unfold HX97_isAt_0
        dsimp only
        rw [L]
        dsimp only
        rw [L]
        dsimp only
        rw [ea]
        exact ⟨fun _ => trivial, fun _ => ⟨i1, trivial⟩⟩
      rw [(gX97_isAt_0 (FX97_isAt_L36 fN fN) t s (nI at_) M T tx.1 n H).1]
      unfold GX97_isAt_0 GX97_isAt_31 GX97_isAt_32
      dsimp only
      rw [L]
      dsimp only
      rw [L]
      dsimp only
      rw [ea, c1, fi_neg h1, c2]
      by_cases h2 : NM.getD (at_ + cs.length) 0 = 0
      · rw [fi_pos h2]
        refine (X97_isAt_L T n tx V hb hl at_ (by omega) cs.length fN 0 (by omega) (by unfold fN; omega)).trans ?_
        congr 3
        exact propext ⟨fun q => ⟨by omega, h2, fun i hi => q i (Nat.zero_le _) hi⟩, fun q i _ hi => q.2.2 i hi⟩
      · rw [fi_neg h2, bz_f (fun q => h2 q.2.1)]
        exact stop 99999999
  exact op_of (d := ((0 : Int32), M)) A (P := OkZ M) ⟨T, ext_r M, bz_z _⟩
end Ia
